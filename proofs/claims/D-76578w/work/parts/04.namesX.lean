/-! NailedByWord -/
set_option maxRecDepth 100000
def RX0 : String := "NailedByWord"
def TX0 : u_T := fun k => match k with
  | 0 => ("NailedByWord", "changes", "[LNailedByWord$Change;", true)
  | 1 => ("NailedByWord", "changeMany", "I", false)
  | 2 => ("NailedByWord", "done", "I", false)
  | 3 => ("NailedByWord", "tape", "[I", true)
  | 4 => ("NailedByWord", "length", "I", false)
  | 5 => ("NailedByWord", "fault", "LNailedByWord$Fault;", true)
  | 6 => ("NailedByWord", "at", "I", false)
  | 7 => ("NailedByWord", "people", "[LNailedByWord$Person;", true)
  | 8 => ("NailedByWord", "personMany", "I", false)
  | 9 => ("NailedByWord", "promises", "[LNailedByWord$Promise;", true)
  | 10 => ("NailedByWord", "promiseMany", "I", false)
  | 11 => ("NailedByWord", "holds", "LNailedByWord$Held;", true)
  | 12 => ("NailedByWord", "today", "LNailedByWord$Held;", true)
  | 13 => ("NailedByWord", "torn", "LNailedByWord$Torn;", true)
  | 14 => ("NailedByWord", "names", "[I", true)
  | 15 => ("NailedByWord", "opened", "I", false)
  | 16 => ("NailedByWord", "holding", "LNailedByWord$Line;", false)
  | 17 => ("NailedByWord", "goneSet", "I", false)
  | 18 => ("NailedByWord", "forgotSet", "I", false)
  | 19 => ("NailedByWord", "bootsOf", "[I", true)
  | 20 => ("NailedByWord", "placeThen", "I", false)
  | 21 => ("NailedByWord", "dayThen", "I", false)
  | 22 => ("NailedByWord", "heldDays", "I", false)
  | 23 => ("NailedByWord", "keptSet", "I", false)
  | 24 => ("NailedByWord", "holdersOf", "[I", true)
  | 25 => ("NailedByWord", "walked", "[I", true)
  | 26 => ("NailedByWord", "bestWalk", "[I", true)
  | 27 => ("NailedByWord", "walkMany", "I", false)
  | 28 => ("NailedByWord", "leastWay", "I", false)
  | 29 => ("NailedByWord", "man", "I", false)
  | 30 => ("NailedByWord", "child", "I", false)
  | 31 => ("NailedByWord", "goal", "I", false)
  | 32 => ("NailedByWord", "ledNow", "[I", true)
  | 33 => ("NailedByWord", "isKept", "Z", false)
  | 34 => ("NailedByWord", "imagePeople", "I", false)
  | 35 => ("NailedByWord", "imagePromises", "I", false)
  | 36 => ("NailedByWord", "imageDay", "I", false)
  | 37 => ("NailedByWord", "imagePlace", "[I", true)
  | 38 => ("NailedByWord", "imageBoots", "[I", true)
  | 39 => ("NailedByWord", "imageForgot", "I", false)
  | 40 => ("NailedByWord", "imageGone", "I", false)
  | 41 => ("NailedByWord", "imageLed", "[I", true)
  | 42 => ("NailedByWord", "bodies", "[LNailedByWord$Body;", true)
  | 43 => ("NailedByWord", "bodyMany", "I", false)
  | 44 => ("NailedByWord", "trace", "[I", true)
  | 45 => ("NailedByWord", "ran", "I", false)
  | _ => ("NailedByWord", "shelves", "[Ljava/lang/Object;", true)
def tyX0 : Nat → FieldType := fun k => match k with
  | 0 => .array (.object "NailedByWord$Change")
  | 1 => .int
  | 2 => .int
  | 3 => .array .int
  | 4 => .int
  | 5 => .object "NailedByWord$Fault"
  | 6 => .int
  | 7 => .array (.object "NailedByWord$Person")
  | 8 => .int
  | 9 => .array (.object "NailedByWord$Promise")
  | 10 => .int
  | 11 => .object "NailedByWord$Held"
  | 12 => .object "NailedByWord$Held"
  | 13 => .object "NailedByWord$Torn"
  | 14 => .array .int
  | 15 => .int
  | 16 => .object "NailedByWord$Line"
  | 17 => .int
  | 18 => .int
  | 19 => .array .int
  | 20 => .int
  | 21 => .int
  | 22 => .int
  | 23 => .int
  | 24 => .array .int
  | 25 => .array .int
  | 26 => .array .int
  | 27 => .int
  | 28 => .int
  | 29 => .int
  | 30 => .int
  | 31 => .int
  | 32 => .array .int
  | 33 => .boolean
  | 34 => .int
  | 35 => .int
  | 36 => .int
  | 37 => .array .int
  | 38 => .array .int
  | 39 => .int
  | 40 => .int
  | 41 => .array .int
  | 42 => .array (.object "NailedByWord$Body")
  | 43 => .int
  | 44 => .array .int
  | 45 => .int
  | _ => .array (.object "java/lang/Object")
abbrev wsX00 : List Cond := u_ws RX0 TX0 47
set_option maxRecDepth 100000 in
theorem nmX0 : ∀ a, a < 47 → ∀ b, b < 47 → a ≠ b → (TX0 a).2.1 ≠ (TX0 b).2.1 := by decide +kernel
set_option maxRecDepth 100000 in
theorem tyX0_ok : ∀ k, k < 47 → parseFieldDescriptor (TX0 k).2.2.1 = some (tyX0 k) := by decide +kernel
abbrev cX0_undo : ByteArray := prog_1_method_6_code
def yX0_undo : MethodName := ⟨RX0, "undo", "()I"⟩
def dkwX0_undo_2 : List UInt8 := [180, 0, 9, 172]
abbrev dktX0_undo_2 : List UInt8 := dkwX0_undo_2 ++ []
def dkwX0_undo_1 : List UInt8 := [42, 180, 0, 9, 50, 180, 0, 16, 42, 180, 0, 12, 42, 180, 0, 9, 50, 180, 0, 22, 181, 0, 3, 42]
abbrev dktX0_undo_1 : List UInt8 := dkwX0_undo_1 ++ dktX0_undo_2
def dkwX0_undo_0 : List UInt8 := [42, 180, 0, 9, 154, 0, 6, 16, 251, 172, 42, 89, 180, 0, 9, 4, 100, 181, 0, 9, 42, 180, 0, 12]
abbrev dktX0_undo_0 : List UInt8 := dkwX0_undo_0 ++ dktX0_undo_1
theorem dksX0_undo_0 : cX0_undo.data.toList.drop 0 = dktX0_undo_0 := by decide +kernel
theorem dksX0_undo_1 : cX0_undo.data.toList.drop 24 = dktX0_undo_1 := dk_seg dksX0_undo_0 24 rfl rfl
theorem dksX0_undo_2 : cX0_undo.data.toList.drop 48 = dktX0_undo_2 := dk_seg dksX0_undo_1 24 rfl rfl
theorem dX0_undo_0 : decode cX0_undo 0 = .ok (.aload_n 0, 1) := dk_42 (dk_at dksX0_undo_0 0 rfl rfl)
theorem dX0_undo_1 : decode cX0_undo 1 = .ok (.getfield 9, 3) := dk_180 0 9 (dk_at dksX0_undo_0 1 rfl rfl)
theorem dX0_undo_4 : decode cX0_undo 4 = .ok (.ifCond .ne 6, 3) := dk_154 0 6 (dk_at dksX0_undo_0 4 rfl rfl)
theorem dX0_undo_7 : decode cX0_undo 7 = .ok (.bipush (-5), 2) := dk_16 251 (dk_at dksX0_undo_0 7 rfl rfl)
theorem dX0_undo_9 : decode cX0_undo 9 = .ok (.ireturn, 1) := dk_172 (dk_at dksX0_undo_0 9 rfl rfl)
theorem dX0_undo_10 : decode cX0_undo 10 = .ok (.aload_n 0, 1) := dk_42 (dk_at dksX0_undo_0 10 rfl rfl)
theorem dX0_undo_11 : decode cX0_undo 11 = .ok (.dup, 1) := dk_89 (dk_at dksX0_undo_0 11 rfl rfl)
theorem dX0_undo_12 : decode cX0_undo 12 = .ok (.getfield 9, 3) := dk_180 0 9 (dk_at dksX0_undo_0 12 rfl rfl)
theorem dX0_undo_15 : decode cX0_undo 15 = .ok (.iconst 1, 1) := dk_4 (dk_at dksX0_undo_0 15 rfl rfl)
theorem dX0_undo_16 : decode cX0_undo 16 = .ok (.isub, 1) := dk_100 (dk_at dksX0_undo_0 16 rfl rfl)
theorem dX0_undo_17 : decode cX0_undo 17 = .ok (.putfield 9, 3) := dk_181 0 9 (dk_at dksX0_undo_0 17 rfl rfl)
theorem dX0_undo_20 : decode cX0_undo 20 = .ok (.aload_n 0, 1) := dk_42 (dk_at dksX0_undo_0 20 rfl rfl)
theorem dX0_undo_21 : decode cX0_undo 21 = .ok (.getfield 12, 3) := dk_180 0 12 (dk_at dksX0_undo_0 21 rfl rfl)
theorem dX0_undo_24 : decode cX0_undo 24 = .ok (.aload_n 0, 1) := dk_42 (dk_at dksX0_undo_1 0 rfl rfl)
theorem dX0_undo_25 : decode cX0_undo 25 = .ok (.getfield 9, 3) := dk_180 0 9 (dk_at dksX0_undo_1 1 rfl rfl)
theorem dX0_undo_28 : decode cX0_undo 28 = .ok (.aaload, 1) := dk_50 (dk_at dksX0_undo_1 4 rfl rfl)
theorem dX0_undo_29 : decode cX0_undo 29 = .ok (.getfield 16, 3) := dk_180 0 16 (dk_at dksX0_undo_1 5 rfl rfl)
theorem dX0_undo_32 : decode cX0_undo 32 = .ok (.aload_n 0, 1) := dk_42 (dk_at dksX0_undo_1 8 rfl rfl)
theorem dX0_undo_33 : decode cX0_undo 33 = .ok (.getfield 12, 3) := dk_180 0 12 (dk_at dksX0_undo_1 9 rfl rfl)
theorem dX0_undo_36 : decode cX0_undo 36 = .ok (.aload_n 0, 1) := dk_42 (dk_at dksX0_undo_1 12 rfl rfl)
theorem dX0_undo_37 : decode cX0_undo 37 = .ok (.getfield 9, 3) := dk_180 0 9 (dk_at dksX0_undo_1 13 rfl rfl)
theorem dX0_undo_40 : decode cX0_undo 40 = .ok (.aaload, 1) := dk_50 (dk_at dksX0_undo_1 16 rfl rfl)
theorem dX0_undo_41 : decode cX0_undo 41 = .ok (.getfield 22, 3) := dk_180 0 22 (dk_at dksX0_undo_1 17 rfl rfl)
theorem dX0_undo_44 : decode cX0_undo 44 = .ok (.putfield 3, 3) := dk_181 0 3 (dk_at dksX0_undo_1 20 rfl rfl)
theorem dX0_undo_47 : decode cX0_undo 47 = .ok (.aload_n 0, 1) := dk_42 (dk_at dksX0_undo_1 23 rfl rfl)
theorem dX0_undo_48 : decode cX0_undo 48 = .ok (.getfield 9, 3) := dk_180 0 9 (dk_at dksX0_undo_2 0 rfl rfl)
theorem dX0_undo_51 : decode cX0_undo 51 = .ok (.ireturn, 1) := dk_172 (dk_at dksX0_undo_2 3 rfl rfl)
abbrev cX0_redo : ByteArray := prog_1_method_7_code
def yX0_redo : MethodName := ⟨RX0, "redo", "()I"⟩
def dkwX0_redo_2 : List UInt8 := [96, 181, 0, 9, 42, 180, 0, 28, 42, 180, 0, 9, 100, 172]
abbrev dktX0_redo_2 : List UInt8 := dkwX0_redo_2 ++ []
def dkwX0_redo_1 : List UInt8 := [180, 0, 16, 42, 180, 0, 12, 42, 180, 0, 9, 50, 180, 0, 25, 181, 0, 3, 42, 89, 180, 0, 9, 4]
abbrev dktX0_redo_1 : List UInt8 := dkwX0_redo_1 ++ dktX0_redo_2
def dkwX0_redo_0 : List UInt8 := [42, 180, 0, 9, 42, 180, 0, 28, 160, 0, 6, 16, 251, 172, 42, 180, 0, 12, 42, 180, 0, 9, 50]
abbrev dktX0_redo_0 : List UInt8 := dkwX0_redo_0 ++ dktX0_redo_1
theorem dksX0_redo_0 : cX0_redo.data.toList.drop 0 = dktX0_redo_0 := by decide +kernel
theorem dksX0_redo_1 : cX0_redo.data.toList.drop 23 = dktX0_redo_1 := dk_seg dksX0_redo_0 23 rfl rfl
theorem dksX0_redo_2 : cX0_redo.data.toList.drop 47 = dktX0_redo_2 := dk_seg dksX0_redo_1 24 rfl rfl
theorem dX0_redo_0 : decode cX0_redo 0 = .ok (.aload_n 0, 1) := dk_42 (dk_at dksX0_redo_0 0 rfl rfl)
theorem dX0_redo_1 : decode cX0_redo 1 = .ok (.getfield 9, 3) := dk_180 0 9 (dk_at dksX0_redo_0 1 rfl rfl)
theorem dX0_redo_4 : decode cX0_redo 4 = .ok (.aload_n 0, 1) := dk_42 (dk_at dksX0_redo_0 4 rfl rfl)
theorem dX0_redo_5 : decode cX0_redo 5 = .ok (.getfield 28, 3) := dk_180 0 28 (dk_at dksX0_redo_0 5 rfl rfl)
theorem dX0_redo_8 : decode cX0_redo 8 = .ok (.if_icmp .ne 6, 3) := dk_160 0 6 (dk_at dksX0_redo_0 8 rfl rfl)
theorem dX0_redo_11 : decode cX0_redo 11 = .ok (.bipush (-5), 2) := dk_16 251 (dk_at dksX0_redo_0 11 rfl rfl)
theorem dX0_redo_13 : decode cX0_redo 13 = .ok (.ireturn, 1) := dk_172 (dk_at dksX0_redo_0 13 rfl rfl)
theorem dX0_redo_14 : decode cX0_redo 14 = .ok (.aload_n 0, 1) := dk_42 (dk_at dksX0_redo_0 14 rfl rfl)
theorem dX0_redo_15 : decode cX0_redo 15 = .ok (.getfield 12, 3) := dk_180 0 12 (dk_at dksX0_redo_0 15 rfl rfl)
theorem dX0_redo_18 : decode cX0_redo 18 = .ok (.aload_n 0, 1) := dk_42 (dk_at dksX0_redo_0 18 rfl rfl)
theorem dX0_redo_19 : decode cX0_redo 19 = .ok (.getfield 9, 3) := dk_180 0 9 (dk_at dksX0_redo_0 19 rfl rfl)
theorem dX0_redo_22 : decode cX0_redo 22 = .ok (.aaload, 1) := dk_50 (dk_at dksX0_redo_0 22 rfl rfl)
theorem dX0_redo_23 : decode cX0_redo 23 = .ok (.getfield 16, 3) := dk_180 0 16 (dk_at dksX0_redo_1 0 rfl rfl)
theorem dX0_redo_26 : decode cX0_redo 26 = .ok (.aload_n 0, 1) := dk_42 (dk_at dksX0_redo_1 3 rfl rfl)
theorem dX0_redo_27 : decode cX0_redo 27 = .ok (.getfield 12, 3) := dk_180 0 12 (dk_at dksX0_redo_1 4 rfl rfl)
theorem dX0_redo_30 : decode cX0_redo 30 = .ok (.aload_n 0, 1) := dk_42 (dk_at dksX0_redo_1 7 rfl rfl)
theorem dX0_redo_31 : decode cX0_redo 31 = .ok (.getfield 9, 3) := dk_180 0 9 (dk_at dksX0_redo_1 8 rfl rfl)
theorem dX0_redo_34 : decode cX0_redo 34 = .ok (.aaload, 1) := dk_50 (dk_at dksX0_redo_1 11 rfl rfl)
theorem dX0_redo_35 : decode cX0_redo 35 = .ok (.getfield 25, 3) := dk_180 0 25 (dk_at dksX0_redo_1 12 rfl rfl)
theorem dX0_redo_38 : decode cX0_redo 38 = .ok (.putfield 3, 3) := dk_181 0 3 (dk_at dksX0_redo_1 15 rfl rfl)
theorem dX0_redo_41 : decode cX0_redo 41 = .ok (.aload_n 0, 1) := dk_42 (dk_at dksX0_redo_1 18 rfl rfl)
theorem dX0_redo_42 : decode cX0_redo 42 = .ok (.dup, 1) := dk_89 (dk_at dksX0_redo_1 19 rfl rfl)
theorem dX0_redo_43 : decode cX0_redo 43 = .ok (.getfield 9, 3) := dk_180 0 9 (dk_at dksX0_redo_1 20 rfl rfl)
theorem dX0_redo_46 : decode cX0_redo 46 = .ok (.iconst 1, 1) := dk_4 (dk_at dksX0_redo_1 23 rfl rfl)
theorem dX0_redo_47 : decode cX0_redo 47 = .ok (.iadd, 1) := dk_96 (dk_at dksX0_redo_2 0 rfl rfl)
theorem dX0_redo_48 : decode cX0_redo 48 = .ok (.putfield 9, 3) := dk_181 0 9 (dk_at dksX0_redo_2 1 rfl rfl)
theorem dX0_redo_51 : decode cX0_redo 51 = .ok (.aload_n 0, 1) := dk_42 (dk_at dksX0_redo_2 4 rfl rfl)
theorem dX0_redo_52 : decode cX0_redo 52 = .ok (.getfield 28, 3) := dk_180 0 28 (dk_at dksX0_redo_2 5 rfl rfl)
theorem dX0_redo_55 : decode cX0_redo 55 = .ok (.aload_n 0, 1) := dk_42 (dk_at dksX0_redo_2 8 rfl rfl)
theorem dX0_redo_56 : decode cX0_redo 56 = .ok (.getfield 9, 3) := dk_180 0 9 (dk_at dksX0_redo_2 9 rfl rfl)
theorem dX0_redo_59 : decode cX0_redo 59 = .ok (.isub, 1) := dk_100 (dk_at dksX0_redo_2 12 rfl rfl)
theorem dX0_redo_60 : decode cX0_redo 60 = .ok (.ireturn, 1) := dk_172 (dk_at dksX0_redo_2 13 rfl rfl)
abbrev cX0_init : ByteArray := prog_1_method_8_code
def yX0_init : MethodName := ⟨RX0, "<init>", "()V"⟩
def dkwX0_init_8 : List UInt8 := [180, 0, 12, 27, 187, 0, 17, 89, 183, 0, 117, 83, 132, 1, 1, 167, 255, 234, 177]
abbrev dktX0_init_8 : List UInt8 := dkwX0_init_8 ++ []
def dkwX0_init_7 : List UInt8 := [188, 10, 181, 0, 110, 42, 16, 6, 189, 0, 32, 181, 0, 113, 3, 60, 27, 16, 40, 162, 0, 22, 42]
abbrev dktX0_init_7 : List UInt8 := dkwX0_init_7 ++ dktX0_init_8
def dkwX0_init_6 : List UInt8 := [181, 0, 98, 42, 16, 6, 188, 10, 181, 0, 101, 42, 16, 50, 189, 0, 104, 181, 0, 106, 42, 16, 24]
abbrev dktX0_init_6 : List UInt8 := dkwX0_init_6 ++ dktX0_init_7
def dkwX0_init_5 : List UInt8 := [181, 0, 89, 42, 16, 6, 188, 10, 181, 0, 92, 42, 16, 6, 188, 10, 181, 0, 95, 42, 16, 6, 188, 10]
abbrev dktX0_init_5 : List UInt8 := dkwX0_init_5 ++ dktX0_init_6
def dkwX0_init_4 : List UInt8 := [181, 0, 80, 42, 16, 6, 188, 10, 181, 0, 83, 42, 16, 6, 188, 10, 181, 0, 86, 42, 16, 6, 188, 10]
abbrev dktX0_init_4 : List UInt8 := dkwX0_init_4 ++ dktX0_init_5
def dkwX0_init_3 : List UInt8 := [187, 0, 70, 89, 183, 0, 72, 181, 0, 73, 42, 16, 6, 188, 10, 181, 0, 77, 42, 16, 6, 188, 10]
abbrev dktX0_init_3 : List UInt8 := dkwX0_init_3 ++ dktX0_init_4
def dkwX0_init_2 : List UInt8 := [189, 0, 54, 181, 0, 56, 42, 6, 184, 0, 60, 181, 0, 64, 42, 3, 184, 0, 60, 181, 0, 67, 42]
abbrev dktX0_init_2 : List UInt8 := dkwX0_init_2 ++ dktX0_init_3
def dkwX0_init_1 : List UInt8 := [187, 0, 41, 89, 183, 0, 43, 181, 0, 44, 42, 16, 6, 189, 0, 48, 181, 0, 50, 42, 16, 12]
abbrev dktX0_init_1 : List UInt8 := dkwX0_init_1 ++ dktX0_init_2
def dkwX0_init_0 : List UInt8 := [42, 183, 0, 31, 42, 16, 40, 189, 0, 17, 181, 0, 12, 42, 16, 120, 188, 10, 181, 0, 37, 42]
abbrev dktX0_init_0 : List UInt8 := dkwX0_init_0 ++ dktX0_init_1
theorem dksX0_init_0 : cX0_init.data.toList.drop 0 = dktX0_init_0 := by decide +kernel
theorem dksX0_init_1 : cX0_init.data.toList.drop 22 = dktX0_init_1 := dk_seg dksX0_init_0 22 rfl rfl
theorem dksX0_init_2 : cX0_init.data.toList.drop 44 = dktX0_init_2 := dk_seg dksX0_init_1 22 rfl rfl
theorem dksX0_init_3 : cX0_init.data.toList.drop 67 = dktX0_init_3 := dk_seg dksX0_init_2 23 rfl rfl
theorem dksX0_init_4 : cX0_init.data.toList.drop 90 = dktX0_init_4 := dk_seg dksX0_init_3 23 rfl rfl
theorem dksX0_init_5 : cX0_init.data.toList.drop 114 = dktX0_init_5 := dk_seg dksX0_init_4 24 rfl rfl
theorem dksX0_init_6 : cX0_init.data.toList.drop 138 = dktX0_init_6 := dk_seg dksX0_init_5 24 rfl rfl
theorem dksX0_init_7 : cX0_init.data.toList.drop 161 = dktX0_init_7 := dk_seg dksX0_init_6 23 rfl rfl
theorem dksX0_init_8 : cX0_init.data.toList.drop 184 = dktX0_init_8 := dk_seg dksX0_init_7 23 rfl rfl
theorem dX0_init_0 : decode cX0_init 0 = .ok (.aload_n 0, 1) := dk_42 (dk_at dksX0_init_0 0 rfl rfl)
theorem dX0_init_1 : decode cX0_init 1 = .ok (.invokespecial 31, 3) := dk_183 0 31 (dk_at dksX0_init_0 1 rfl rfl)
theorem dX0_init_4 : decode cX0_init 4 = .ok (.aload_n 0, 1) := dk_42 (dk_at dksX0_init_0 4 rfl rfl)
theorem dX0_init_5 : decode cX0_init 5 = .ok (.bipush 40, 2) := dk_16 40 (dk_at dksX0_init_0 5 rfl rfl)
theorem dX0_init_7 : decode cX0_init 7 = .ok (.anewarray 17, 3) := dk_189 0 17 (dk_at dksX0_init_0 7 rfl rfl)
theorem dX0_init_10 : decode cX0_init 10 = .ok (.putfield 12, 3) := dk_181 0 12 (dk_at dksX0_init_0 10 rfl rfl)
theorem dX0_init_13 : decode cX0_init 13 = .ok (.aload_n 0, 1) := dk_42 (dk_at dksX0_init_0 13 rfl rfl)
theorem dX0_init_14 : decode cX0_init 14 = .ok (.bipush 120, 2) := dk_16 120 (dk_at dksX0_init_0 14 rfl rfl)
theorem dX0_init_16 : decode cX0_init 16 = .ok (.newarray .int, 2) := dk_188_10 (dk_at dksX0_init_0 16 rfl rfl)
theorem dX0_init_18 : decode cX0_init 18 = .ok (.putfield 37, 3) := dk_181 0 37 (dk_at dksX0_init_0 18 rfl rfl)
theorem dX0_init_21 : decode cX0_init 21 = .ok (.aload_n 0, 1) := dk_42 (dk_at dksX0_init_0 21 rfl rfl)
theorem dX0_init_22 : decode cX0_init 22 = .ok (.new 41, 3) := dk_187 0 41 (dk_at dksX0_init_1 0 rfl rfl)
theorem dX0_init_25 : decode cX0_init 25 = .ok (.dup, 1) := dk_89 (dk_at dksX0_init_1 3 rfl rfl)
theorem dX0_init_26 : decode cX0_init 26 = .ok (.invokespecial 43, 3) := dk_183 0 43 (dk_at dksX0_init_1 4 rfl rfl)
theorem dX0_init_29 : decode cX0_init 29 = .ok (.putfield 44, 3) := dk_181 0 44 (dk_at dksX0_init_1 7 rfl rfl)
theorem dX0_init_32 : decode cX0_init 32 = .ok (.aload_n 0, 1) := dk_42 (dk_at dksX0_init_1 10 rfl rfl)
theorem dX0_init_33 : decode cX0_init 33 = .ok (.bipush 6, 2) := dk_16 6 (dk_at dksX0_init_1 11 rfl rfl)
theorem dX0_init_35 : decode cX0_init 35 = .ok (.anewarray 48, 3) := dk_189 0 48 (dk_at dksX0_init_1 13 rfl rfl)
theorem dX0_init_38 : decode cX0_init 38 = .ok (.putfield 50, 3) := dk_181 0 50 (dk_at dksX0_init_1 16 rfl rfl)
theorem dX0_init_41 : decode cX0_init 41 = .ok (.aload_n 0, 1) := dk_42 (dk_at dksX0_init_1 19 rfl rfl)
theorem dX0_init_42 : decode cX0_init 42 = .ok (.bipush 12, 2) := dk_16 12 (dk_at dksX0_init_1 20 rfl rfl)
theorem dX0_init_44 : decode cX0_init 44 = .ok (.anewarray 54, 3) := dk_189 0 54 (dk_at dksX0_init_2 0 rfl rfl)
theorem dX0_init_47 : decode cX0_init 47 = .ok (.putfield 56, 3) := dk_181 0 56 (dk_at dksX0_init_2 3 rfl rfl)
theorem dX0_init_50 : decode cX0_init 50 = .ok (.aload_n 0, 1) := dk_42 (dk_at dksX0_init_2 6 rfl rfl)
theorem dX0_init_51 : decode cX0_init 51 = .ok (.iconst 3, 1) := dk_6 (dk_at dksX0_init_2 7 rfl rfl)
theorem dX0_init_52 : decode cX0_init 52 = .ok (.invokestatic 60, 3) := dk_184 0 60 (dk_at dksX0_init_2 8 rfl rfl)
theorem dX0_init_55 : decode cX0_init 55 = .ok (.putfield 64, 3) := dk_181 0 64 (dk_at dksX0_init_2 11 rfl rfl)
theorem dX0_init_58 : decode cX0_init 58 = .ok (.aload_n 0, 1) := dk_42 (dk_at dksX0_init_2 14 rfl rfl)
theorem dX0_init_59 : decode cX0_init 59 = .ok (.iconst 0, 1) := dk_3 (dk_at dksX0_init_2 15 rfl rfl)
theorem dX0_init_60 : decode cX0_init 60 = .ok (.invokestatic 60, 3) := dk_184 0 60 (dk_at dksX0_init_2 16 rfl rfl)
theorem dX0_init_63 : decode cX0_init 63 = .ok (.putfield 67, 3) := dk_181 0 67 (dk_at dksX0_init_2 19 rfl rfl)
theorem dX0_init_66 : decode cX0_init 66 = .ok (.aload_n 0, 1) := dk_42 (dk_at dksX0_init_2 22 rfl rfl)
theorem dX0_init_67 : decode cX0_init 67 = .ok (.new 70, 3) := dk_187 0 70 (dk_at dksX0_init_3 0 rfl rfl)
theorem dX0_init_70 : decode cX0_init 70 = .ok (.dup, 1) := dk_89 (dk_at dksX0_init_3 3 rfl rfl)
theorem dX0_init_71 : decode cX0_init 71 = .ok (.invokespecial 72, 3) := dk_183 0 72 (dk_at dksX0_init_3 4 rfl rfl)
theorem dX0_init_74 : decode cX0_init 74 = .ok (.putfield 73, 3) := dk_181 0 73 (dk_at dksX0_init_3 7 rfl rfl)
theorem dX0_init_77 : decode cX0_init 77 = .ok (.aload_n 0, 1) := dk_42 (dk_at dksX0_init_3 10 rfl rfl)
theorem dX0_init_78 : decode cX0_init 78 = .ok (.bipush 6, 2) := dk_16 6 (dk_at dksX0_init_3 11 rfl rfl)
theorem dX0_init_80 : decode cX0_init 80 = .ok (.newarray .int, 2) := dk_188_10 (dk_at dksX0_init_3 13 rfl rfl)
theorem dX0_init_82 : decode cX0_init 82 = .ok (.putfield 77, 3) := dk_181 0 77 (dk_at dksX0_init_3 15 rfl rfl)
theorem dX0_init_85 : decode cX0_init 85 = .ok (.aload_n 0, 1) := dk_42 (dk_at dksX0_init_3 18 rfl rfl)
theorem dX0_init_86 : decode cX0_init 86 = .ok (.bipush 6, 2) := dk_16 6 (dk_at dksX0_init_3 19 rfl rfl)
theorem dX0_init_88 : decode cX0_init 88 = .ok (.newarray .int, 2) := dk_188_10 (dk_at dksX0_init_3 21 rfl rfl)
theorem dX0_init_90 : decode cX0_init 90 = .ok (.putfield 80, 3) := dk_181 0 80 (dk_at dksX0_init_4 0 rfl rfl)
theorem dX0_init_93 : decode cX0_init 93 = .ok (.aload_n 0, 1) := dk_42 (dk_at dksX0_init_4 3 rfl rfl)
theorem dX0_init_94 : decode cX0_init 94 = .ok (.bipush 6, 2) := dk_16 6 (dk_at dksX0_init_4 4 rfl rfl)
theorem dX0_init_96 : decode cX0_init 96 = .ok (.newarray .int, 2) := dk_188_10 (dk_at dksX0_init_4 6 rfl rfl)
theorem dX0_init_98 : decode cX0_init 98 = .ok (.putfield 83, 3) := dk_181 0 83 (dk_at dksX0_init_4 8 rfl rfl)
theorem dX0_init_101 : decode cX0_init 101 = .ok (.aload_n 0, 1) := dk_42 (dk_at dksX0_init_4 11 rfl rfl)
theorem dX0_init_102 : decode cX0_init 102 = .ok (.bipush 6, 2) := dk_16 6 (dk_at dksX0_init_4 12 rfl rfl)
theorem dX0_init_104 : decode cX0_init 104 = .ok (.newarray .int, 2) := dk_188_10 (dk_at dksX0_init_4 14 rfl rfl)
theorem dX0_init_106 : decode cX0_init 106 = .ok (.putfield 86, 3) := dk_181 0 86 (dk_at dksX0_init_4 16 rfl rfl)
theorem dX0_init_109 : decode cX0_init 109 = .ok (.aload_n 0, 1) := dk_42 (dk_at dksX0_init_4 19 rfl rfl)
theorem dX0_init_110 : decode cX0_init 110 = .ok (.bipush 6, 2) := dk_16 6 (dk_at dksX0_init_4 20 rfl rfl)
theorem dX0_init_112 : decode cX0_init 112 = .ok (.newarray .int, 2) := dk_188_10 (dk_at dksX0_init_4 22 rfl rfl)
theorem dX0_init_114 : decode cX0_init 114 = .ok (.putfield 89, 3) := dk_181 0 89 (dk_at dksX0_init_5 0 rfl rfl)
theorem dX0_init_117 : decode cX0_init 117 = .ok (.aload_n 0, 1) := dk_42 (dk_at dksX0_init_5 3 rfl rfl)
theorem dX0_init_118 : decode cX0_init 118 = .ok (.bipush 6, 2) := dk_16 6 (dk_at dksX0_init_5 4 rfl rfl)
theorem dX0_init_120 : decode cX0_init 120 = .ok (.newarray .int, 2) := dk_188_10 (dk_at dksX0_init_5 6 rfl rfl)
theorem dX0_init_122 : decode cX0_init 122 = .ok (.putfield 92, 3) := dk_181 0 92 (dk_at dksX0_init_5 8 rfl rfl)
theorem dX0_init_125 : decode cX0_init 125 = .ok (.aload_n 0, 1) := dk_42 (dk_at dksX0_init_5 11 rfl rfl)
theorem dX0_init_126 : decode cX0_init 126 = .ok (.bipush 6, 2) := dk_16 6 (dk_at dksX0_init_5 12 rfl rfl)
theorem dX0_init_128 : decode cX0_init 128 = .ok (.newarray .int, 2) := dk_188_10 (dk_at dksX0_init_5 14 rfl rfl)
theorem dX0_init_130 : decode cX0_init 130 = .ok (.putfield 95, 3) := dk_181 0 95 (dk_at dksX0_init_5 16 rfl rfl)
theorem dX0_init_133 : decode cX0_init 133 = .ok (.aload_n 0, 1) := dk_42 (dk_at dksX0_init_5 19 rfl rfl)
theorem dX0_init_134 : decode cX0_init 134 = .ok (.bipush 6, 2) := dk_16 6 (dk_at dksX0_init_5 20 rfl rfl)
theorem dX0_init_136 : decode cX0_init 136 = .ok (.newarray .int, 2) := dk_188_10 (dk_at dksX0_init_5 22 rfl rfl)
theorem dX0_init_138 : decode cX0_init 138 = .ok (.putfield 98, 3) := dk_181 0 98 (dk_at dksX0_init_6 0 rfl rfl)
theorem dX0_init_141 : decode cX0_init 141 = .ok (.aload_n 0, 1) := dk_42 (dk_at dksX0_init_6 3 rfl rfl)
theorem dX0_init_142 : decode cX0_init 142 = .ok (.bipush 6, 2) := dk_16 6 (dk_at dksX0_init_6 4 rfl rfl)
theorem dX0_init_144 : decode cX0_init 144 = .ok (.newarray .int, 2) := dk_188_10 (dk_at dksX0_init_6 6 rfl rfl)
theorem dX0_init_146 : decode cX0_init 146 = .ok (.putfield 101, 3) := dk_181 0 101 (dk_at dksX0_init_6 8 rfl rfl)
theorem dX0_init_149 : decode cX0_init 149 = .ok (.aload_n 0, 1) := dk_42 (dk_at dksX0_init_6 11 rfl rfl)
theorem dX0_init_150 : decode cX0_init 150 = .ok (.bipush 50, 2) := dk_16 50 (dk_at dksX0_init_6 12 rfl rfl)
theorem dX0_init_152 : decode cX0_init 152 = .ok (.anewarray 104, 3) := dk_189 0 104 (dk_at dksX0_init_6 14 rfl rfl)
theorem dX0_init_155 : decode cX0_init 155 = .ok (.putfield 106, 3) := dk_181 0 106 (dk_at dksX0_init_6 17 rfl rfl)
theorem dX0_init_158 : decode cX0_init 158 = .ok (.aload_n 0, 1) := dk_42 (dk_at dksX0_init_6 20 rfl rfl)
theorem dX0_init_159 : decode cX0_init 159 = .ok (.bipush 24, 2) := dk_16 24 (dk_at dksX0_init_6 21 rfl rfl)
theorem dX0_init_161 : decode cX0_init 161 = .ok (.newarray .int, 2) := dk_188_10 (dk_at dksX0_init_7 0 rfl rfl)
theorem dX0_init_163 : decode cX0_init 163 = .ok (.putfield 110, 3) := dk_181 0 110 (dk_at dksX0_init_7 2 rfl rfl)
theorem dX0_init_166 : decode cX0_init 166 = .ok (.aload_n 0, 1) := dk_42 (dk_at dksX0_init_7 5 rfl rfl)
theorem dX0_init_167 : decode cX0_init 167 = .ok (.bipush 6, 2) := dk_16 6 (dk_at dksX0_init_7 6 rfl rfl)
theorem dX0_init_169 : decode cX0_init 169 = .ok (.anewarray 32, 3) := dk_189 0 32 (dk_at dksX0_init_7 8 rfl rfl)
theorem dX0_init_172 : decode cX0_init 172 = .ok (.putfield 113, 3) := dk_181 0 113 (dk_at dksX0_init_7 11 rfl rfl)
theorem dX0_init_175 : decode cX0_init 175 = .ok (.iconst 0, 1) := dk_3 (dk_at dksX0_init_7 14 rfl rfl)
theorem dX0_init_176 : decode cX0_init 176 = .ok (.istore_n 1, 1) := dk_60 (dk_at dksX0_init_7 15 rfl rfl)
theorem dX0_init_177 : decode cX0_init 177 = .ok (.iload_n 1, 1) := dk_27 (dk_at dksX0_init_7 16 rfl rfl)
theorem dX0_init_178 : decode cX0_init 178 = .ok (.bipush 40, 2) := dk_16 40 (dk_at dksX0_init_7 17 rfl rfl)
theorem dX0_init_180 : decode cX0_init 180 = .ok (.if_icmp .ge 22, 3) := dk_162 0 22 (dk_at dksX0_init_7 19 rfl rfl)
theorem dX0_init_183 : decode cX0_init 183 = .ok (.aload_n 0, 1) := dk_42 (dk_at dksX0_init_7 22 rfl rfl)
theorem dX0_init_184 : decode cX0_init 184 = .ok (.getfield 12, 3) := dk_180 0 12 (dk_at dksX0_init_8 0 rfl rfl)
theorem dX0_init_187 : decode cX0_init 187 = .ok (.iload_n 1, 1) := dk_27 (dk_at dksX0_init_8 3 rfl rfl)
theorem dX0_init_188 : decode cX0_init 188 = .ok (.new 17, 3) := dk_187 0 17 (dk_at dksX0_init_8 4 rfl rfl)
theorem dX0_init_191 : decode cX0_init 191 = .ok (.dup, 1) := dk_89 (dk_at dksX0_init_8 7 rfl rfl)
theorem dX0_init_192 : decode cX0_init 192 = .ok (.invokespecial 117, 3) := dk_183 0 117 (dk_at dksX0_init_8 8 rfl rfl)
theorem dX0_init_195 : decode cX0_init 195 = .ok (.aastore, 1) := dk_83 (dk_at dksX0_init_8 11 rfl rfl)
theorem dX0_init_196 : decode cX0_init 196 = .ok (.iinc 1 1, 3) := dk_132 1 1 (dk_at dksX0_init_8 12 rfl rfl)
theorem dX0_init_199 : decode cX0_init 199 = .ok (.goto (-22), 3) := dk_167 255 234 (dk_at dksX0_init_8 15 rfl rfl)
theorem dX0_init_202 : decode cX0_init 202 = .ok (.return_, 1) := dk_177 (dk_at dksX0_init_8 18 rfl rfl)
abbrev cX0_heldAt : ByteArray := prog_1_method_9_code
def yX0_heldAt : MethodName := ⟨RX0, "heldAt", "(I)LNailedByWord$Held;"⟩
def dkwX0_heldAt_0 : List UInt8 := [187, 0, 4, 89, 183, 0, 118, 76, 43, 26, 181, 0, 3, 43, 176]
abbrev dktX0_heldAt_0 : List UInt8 := dkwX0_heldAt_0 ++ []
theorem dksX0_heldAt_0 : cX0_heldAt.data.toList.drop 0 = dktX0_heldAt_0 := by decide +kernel
theorem dX0_heldAt_0 : decode cX0_heldAt 0 = .ok (.new 4, 3) := dk_187 0 4 (dk_at dksX0_heldAt_0 0 rfl rfl)
theorem dX0_heldAt_3 : decode cX0_heldAt 3 = .ok (.dup, 1) := dk_89 (dk_at dksX0_heldAt_0 3 rfl rfl)
theorem dX0_heldAt_4 : decode cX0_heldAt 4 = .ok (.invokespecial 118, 3) := dk_183 0 118 (dk_at dksX0_heldAt_0 4 rfl rfl)
theorem dX0_heldAt_7 : decode cX0_heldAt 7 = .ok (.astore_n 1, 1) := dk_76 (dk_at dksX0_heldAt_0 7 rfl rfl)
theorem dX0_heldAt_8 : decode cX0_heldAt 8 = .ok (.aload_n 1, 1) := dk_43 (dk_at dksX0_heldAt_0 8 rfl rfl)
theorem dX0_heldAt_9 : decode cX0_heldAt 9 = .ok (.iload_n 0, 1) := dk_26 (dk_at dksX0_heldAt_0 9 rfl rfl)
theorem dX0_heldAt_10 : decode cX0_heldAt 10 = .ok (.putfield 3, 3) := dk_181 0 3 (dk_at dksX0_heldAt_0 10 rfl rfl)
theorem dX0_heldAt_13 : decode cX0_heldAt 13 = .ok (.aload_n 1, 1) := dk_43 (dk_at dksX0_heldAt_0 13 rfl rfl)
theorem dX0_heldAt_14 : decode cX0_heldAt 14 = .ok (.areturn, 1) := dk_176 (dk_at dksX0_heldAt_0 14 rfl rfl)
abbrev cX0_feed : ByteArray := prog_1_method_10_code
def yX0_feed : MethodName := ⟨RX0, "feed", "(I)I"⟩
def dkwX0_feed_2 : List UInt8 := [172]
abbrev dktX0_feed_2 : List UInt8 := dkwX0_feed_2 ++ []
def dkwX0_feed_1 : List UInt8 := [16, 253, 172, 42, 180, 0, 37, 42, 89, 180, 0, 125, 90, 4, 96, 181, 0, 125, 27, 79, 42, 180, 0, 125]
abbrev dktX0_feed_1 : List UInt8 := dkwX0_feed_1 ++ dktX0_feed_2
def dkwX0_feed_0 : List UInt8 := [27, 133, 9, 20, 0, 119, 184, 0, 121, 154, 0, 5, 2, 172, 42, 180, 0, 125, 16, 120, 160, 0, 6]
abbrev dktX0_feed_0 : List UInt8 := dkwX0_feed_0 ++ dktX0_feed_1
theorem dksX0_feed_0 : cX0_feed.data.toList.drop 0 = dktX0_feed_0 := by decide +kernel
theorem dksX0_feed_1 : cX0_feed.data.toList.drop 23 = dktX0_feed_1 := dk_seg dksX0_feed_0 23 rfl rfl
theorem dksX0_feed_2 : cX0_feed.data.toList.drop 47 = dktX0_feed_2 := dk_seg dksX0_feed_1 24 rfl rfl
theorem dX0_feed_0 : decode cX0_feed 0 = .ok (.iload_n 1, 1) := dk_27 (dk_at dksX0_feed_0 0 rfl rfl)
theorem dX0_feed_1 : decode cX0_feed 1 = .ok (.i2l, 1) := dk_133 (dk_at dksX0_feed_0 1 rfl rfl)
theorem dX0_feed_2 : decode cX0_feed 2 = .ok (.lconst 0, 1) := dk_9 (dk_at dksX0_feed_0 2 rfl rfl)
theorem dX0_feed_3 : decode cX0_feed 3 = .ok (.ldc2_w 119, 3) := dk_20 0 119 (dk_at dksX0_feed_0 3 rfl rfl)
theorem dX0_feed_6 : decode cX0_feed 6 = .ok (.invokestatic 121, 3) := dk_184 0 121 (dk_at dksX0_feed_0 6 rfl rfl)
theorem dX0_feed_9 : decode cX0_feed 9 = .ok (.ifCond .ne 5, 3) := dk_154 0 5 (dk_at dksX0_feed_0 9 rfl rfl)
theorem dX0_feed_12 : decode cX0_feed 12 = .ok (.iconst (-1), 1) := dk_2 (dk_at dksX0_feed_0 12 rfl rfl)
theorem dX0_feed_13 : decode cX0_feed 13 = .ok (.ireturn, 1) := dk_172 (dk_at dksX0_feed_0 13 rfl rfl)
theorem dX0_feed_14 : decode cX0_feed 14 = .ok (.aload_n 0, 1) := dk_42 (dk_at dksX0_feed_0 14 rfl rfl)
theorem dX0_feed_15 : decode cX0_feed 15 = .ok (.getfield 125, 3) := dk_180 0 125 (dk_at dksX0_feed_0 15 rfl rfl)
theorem dX0_feed_18 : decode cX0_feed 18 = .ok (.bipush 120, 2) := dk_16 120 (dk_at dksX0_feed_0 18 rfl rfl)
theorem dX0_feed_20 : decode cX0_feed 20 = .ok (.if_icmp .ne 6, 3) := dk_160 0 6 (dk_at dksX0_feed_0 20 rfl rfl)
theorem dX0_feed_23 : decode cX0_feed 23 = .ok (.bipush (-3), 2) := dk_16 253 (dk_at dksX0_feed_1 0 rfl rfl)
theorem dX0_feed_25 : decode cX0_feed 25 = .ok (.ireturn, 1) := dk_172 (dk_at dksX0_feed_1 2 rfl rfl)
theorem dX0_feed_26 : decode cX0_feed 26 = .ok (.aload_n 0, 1) := dk_42 (dk_at dksX0_feed_1 3 rfl rfl)
theorem dX0_feed_27 : decode cX0_feed 27 = .ok (.getfield 37, 3) := dk_180 0 37 (dk_at dksX0_feed_1 4 rfl rfl)
theorem dX0_feed_30 : decode cX0_feed 30 = .ok (.aload_n 0, 1) := dk_42 (dk_at dksX0_feed_1 7 rfl rfl)
theorem dX0_feed_31 : decode cX0_feed 31 = .ok (.dup, 1) := dk_89 (dk_at dksX0_feed_1 8 rfl rfl)
theorem dX0_feed_32 : decode cX0_feed 32 = .ok (.getfield 125, 3) := dk_180 0 125 (dk_at dksX0_feed_1 9 rfl rfl)
theorem dX0_feed_35 : decode cX0_feed 35 = .ok (.dup_x1, 1) := dk_90 (dk_at dksX0_feed_1 12 rfl rfl)
theorem dX0_feed_36 : decode cX0_feed 36 = .ok (.iconst 1, 1) := dk_4 (dk_at dksX0_feed_1 13 rfl rfl)
theorem dX0_feed_37 : decode cX0_feed 37 = .ok (.iadd, 1) := dk_96 (dk_at dksX0_feed_1 14 rfl rfl)
theorem dX0_feed_38 : decode cX0_feed 38 = .ok (.putfield 125, 3) := dk_181 0 125 (dk_at dksX0_feed_1 15 rfl rfl)
theorem dX0_feed_41 : decode cX0_feed 41 = .ok (.iload_n 1, 1) := dk_27 (dk_at dksX0_feed_1 18 rfl rfl)
theorem dX0_feed_42 : decode cX0_feed 42 = .ok (.iastore, 1) := dk_79 (dk_at dksX0_feed_1 19 rfl rfl)
theorem dX0_feed_43 : decode cX0_feed 43 = .ok (.aload_n 0, 1) := dk_42 (dk_at dksX0_feed_1 20 rfl rfl)
theorem dX0_feed_44 : decode cX0_feed 44 = .ok (.getfield 125, 3) := dk_180 0 125 (dk_at dksX0_feed_1 21 rfl rfl)
theorem dX0_feed_47 : decode cX0_feed 47 = .ok (.ireturn, 1) := dk_172 (dk_at dksX0_feed_2 0 rfl rfl)
abbrev cX0_within : ByteArray := prog_1_method_1_code
def yX0_within : MethodName := ⟨RX0, "within", "(JJJ)Z"⟩
def dkwX0_within_0 : List UInt8 := [30, 32, 148, 155, 0, 14, 30, 22, 4, 148, 157, 0, 7, 4, 167, 0, 4, 3, 172]
abbrev dktX0_within_0 : List UInt8 := dkwX0_within_0 ++ []
theorem dksX0_within_0 : cX0_within.data.toList.drop 0 = dktX0_within_0 := by decide +kernel
theorem dX0_within_0 : decode cX0_within 0 = .ok (.lload_n 0, 1) := dk_30 (dk_at dksX0_within_0 0 rfl rfl)
theorem dX0_within_1 : decode cX0_within 1 = .ok (.lload_n 2, 1) := dk_32 (dk_at dksX0_within_0 1 rfl rfl)
theorem dX0_within_2 : decode cX0_within 2 = .ok (.lcmp, 1) := dk_148 (dk_at dksX0_within_0 2 rfl rfl)
theorem dX0_within_3 : decode cX0_within 3 = .ok (.ifCond .lt 14, 3) := dk_155 0 14 (dk_at dksX0_within_0 3 rfl rfl)
theorem dX0_within_6 : decode cX0_within 6 = .ok (.lload_n 0, 1) := dk_30 (dk_at dksX0_within_0 6 rfl rfl)
theorem dX0_within_7 : decode cX0_within 7 = .ok (.lload 4, 2) := dk_22 4 (dk_at dksX0_within_0 7 rfl rfl)
theorem dX0_within_9 : decode cX0_within 9 = .ok (.lcmp, 1) := dk_148 (dk_at dksX0_within_0 9 rfl rfl)
theorem dX0_within_10 : decode cX0_within 10 = .ok (.ifCond .gt 7, 3) := dk_157 0 7 (dk_at dksX0_within_0 10 rfl rfl)
theorem dX0_within_13 : decode cX0_within 13 = .ok (.iconst 1, 1) := dk_4 (dk_at dksX0_within_0 13 rfl rfl)
theorem dX0_within_14 : decode cX0_within 14 = .ok (.goto 4, 3) := dk_167 0 4 (dk_at dksX0_within_0 14 rfl rfl)
theorem dX0_within_17 : decode cX0_within 17 = .ok (.iconst 0, 1) := dk_3 (dk_at dksX0_within_0 17 rfl rfl)
theorem dX0_within_18 : decode cX0_within 18 = .ok (.ireturn, 1) := dk_172 (dk_at dksX0_within_0 18 rfl rfl)
abbrev cX0_person : ByteArray := prog_1_method_19_code
def yX0_person : MethodName := ⟨RX0, "person", "(I)I"⟩
def dkwX0_person_2 : List UInt8 := [181, 0, 143, 172]
abbrev dktX0_person_2 : List UInt8 := dkwX0_person_2 ++ []
def dkwX0_person_1 : List UInt8 := [180, 0, 50, 42, 180, 0, 143, 187, 0, 48, 89, 27, 183, 0, 157, 83, 42, 89, 180, 0, 143, 90, 4, 96]
abbrev dktX0_person_1 : List UInt8 := dkwX0_person_1 ++ dktX0_person_2
def dkwX0_person_0 : List UInt8 := [27, 133, 184, 0, 153, 154, 0, 5, 2, 172, 42, 180, 0, 143, 16, 6, 160, 0, 6, 16, 253, 172, 42]
abbrev dktX0_person_0 : List UInt8 := dkwX0_person_0 ++ dktX0_person_1
theorem dksX0_person_0 : cX0_person.data.toList.drop 0 = dktX0_person_0 := by decide +kernel
theorem dksX0_person_1 : cX0_person.data.toList.drop 23 = dktX0_person_1 := dk_seg dksX0_person_0 23 rfl rfl
theorem dksX0_person_2 : cX0_person.data.toList.drop 47 = dktX0_person_2 := dk_seg dksX0_person_1 24 rfl rfl
theorem dX0_person_0 : decode cX0_person 0 = .ok (.iload_n 1, 1) := dk_27 (dk_at dksX0_person_0 0 rfl rfl)
theorem dX0_person_1 : decode cX0_person 1 = .ok (.i2l, 1) := dk_133 (dk_at dksX0_person_0 1 rfl rfl)
theorem dX0_person_2 : decode cX0_person 2 = .ok (.invokestatic 153, 3) := dk_184 0 153 (dk_at dksX0_person_0 2 rfl rfl)
theorem dX0_person_5 : decode cX0_person 5 = .ok (.ifCond .ne 5, 3) := dk_154 0 5 (dk_at dksX0_person_0 5 rfl rfl)
theorem dX0_person_8 : decode cX0_person 8 = .ok (.iconst (-1), 1) := dk_2 (dk_at dksX0_person_0 8 rfl rfl)
theorem dX0_person_9 : decode cX0_person 9 = .ok (.ireturn, 1) := dk_172 (dk_at dksX0_person_0 9 rfl rfl)
theorem dX0_person_10 : decode cX0_person 10 = .ok (.aload_n 0, 1) := dk_42 (dk_at dksX0_person_0 10 rfl rfl)
theorem dX0_person_11 : decode cX0_person 11 = .ok (.getfield 143, 3) := dk_180 0 143 (dk_at dksX0_person_0 11 rfl rfl)
theorem dX0_person_14 : decode cX0_person 14 = .ok (.bipush 6, 2) := dk_16 6 (dk_at dksX0_person_0 14 rfl rfl)
theorem dX0_person_16 : decode cX0_person 16 = .ok (.if_icmp .ne 6, 3) := dk_160 0 6 (dk_at dksX0_person_0 16 rfl rfl)
theorem dX0_person_19 : decode cX0_person 19 = .ok (.bipush (-3), 2) := dk_16 253 (dk_at dksX0_person_0 19 rfl rfl)
theorem dX0_person_21 : decode cX0_person 21 = .ok (.ireturn, 1) := dk_172 (dk_at dksX0_person_0 21 rfl rfl)
theorem dX0_person_22 : decode cX0_person 22 = .ok (.aload_n 0, 1) := dk_42 (dk_at dksX0_person_0 22 rfl rfl)
theorem dX0_person_23 : decode cX0_person 23 = .ok (.getfield 50, 3) := dk_180 0 50 (dk_at dksX0_person_1 0 rfl rfl)
theorem dX0_person_26 : decode cX0_person 26 = .ok (.aload_n 0, 1) := dk_42 (dk_at dksX0_person_1 3 rfl rfl)
theorem dX0_person_27 : decode cX0_person 27 = .ok (.getfield 143, 3) := dk_180 0 143 (dk_at dksX0_person_1 4 rfl rfl)
theorem dX0_person_30 : decode cX0_person 30 = .ok (.new 48, 3) := dk_187 0 48 (dk_at dksX0_person_1 7 rfl rfl)
theorem dX0_person_33 : decode cX0_person 33 = .ok (.dup, 1) := dk_89 (dk_at dksX0_person_1 10 rfl rfl)
theorem dX0_person_34 : decode cX0_person 34 = .ok (.iload_n 1, 1) := dk_27 (dk_at dksX0_person_1 11 rfl rfl)
theorem dX0_person_35 : decode cX0_person 35 = .ok (.invokespecial 157, 3) := dk_183 0 157 (dk_at dksX0_person_1 12 rfl rfl)
theorem dX0_person_38 : decode cX0_person 38 = .ok (.aastore, 1) := dk_83 (dk_at dksX0_person_1 15 rfl rfl)
theorem dX0_person_39 : decode cX0_person 39 = .ok (.aload_n 0, 1) := dk_42 (dk_at dksX0_person_1 16 rfl rfl)
theorem dX0_person_40 : decode cX0_person 40 = .ok (.dup, 1) := dk_89 (dk_at dksX0_person_1 17 rfl rfl)
theorem dX0_person_41 : decode cX0_person 41 = .ok (.getfield 143, 3) := dk_180 0 143 (dk_at dksX0_person_1 18 rfl rfl)
theorem dX0_person_44 : decode cX0_person 44 = .ok (.dup_x1, 1) := dk_90 (dk_at dksX0_person_1 21 rfl rfl)
theorem dX0_person_45 : decode cX0_person 45 = .ok (.iconst 1, 1) := dk_4 (dk_at dksX0_person_1 22 rfl rfl)
theorem dX0_person_46 : decode cX0_person 46 = .ok (.iadd, 1) := dk_96 (dk_at dksX0_person_1 23 rfl rfl)
theorem dX0_person_47 : decode cX0_person 47 = .ok (.putfield 143, 3) := dk_181 0 143 (dk_at dksX0_person_2 0 rfl rfl)
theorem dX0_person_50 : decode cX0_person 50 = .ok (.ireturn, 1) := dk_172 (dk_at dksX0_person_2 3 rfl rfl)
abbrev cX0_isPlace : ByteArray := prog_1_method_17_code
def yX0_isPlace : MethodName := ⟨RX0, "isPlace", "(J)Z"⟩
def dkwX0_isPlace_0 : List UInt8 := [30, 9, 20, 0, 149, 184, 0, 121, 172]
abbrev dktX0_isPlace_0 : List UInt8 := dkwX0_isPlace_0 ++ []
theorem dksX0_isPlace_0 : cX0_isPlace.data.toList.drop 0 = dktX0_isPlace_0 := by decide +kernel
theorem dX0_isPlace_0 : decode cX0_isPlace 0 = .ok (.lload_n 0, 1) := dk_30 (dk_at dksX0_isPlace_0 0 rfl rfl)
theorem dX0_isPlace_1 : decode cX0_isPlace 1 = .ok (.lconst 0, 1) := dk_9 (dk_at dksX0_isPlace_0 1 rfl rfl)
theorem dX0_isPlace_2 : decode cX0_isPlace 2 = .ok (.ldc2_w 149, 3) := dk_20 0 149 (dk_at dksX0_isPlace_0 2 rfl rfl)
theorem dX0_isPlace_5 : decode cX0_isPlace 5 = .ok (.invokestatic 121, 3) := dk_184 0 121 (dk_at dksX0_isPlace_0 5 rfl rfl)
theorem dX0_isPlace_8 : decode cX0_isPlace 8 = .ok (.ireturn, 1) := dk_172 (dk_at dksX0_isPlace_0 8 rfl rfl)
abbrev cX0_promise : ByteArray := prog_1_method_22_code
def yX0_promise : MethodName := ⟨RX0, "promise", "(II)I"⟩
def dkwX0_promise_4 : List UInt8 := [16, 10, 108, 50, 180, 0, 171, 180, 0, 3, 28, 16, 100, 108, 28, 16, 100, 112, 182, 0, 178, 172]
abbrev dktX0_promise_4 : List UInt8 := dkwX0_promise_4 ++ []
def dkwX0_promise_3 : List UInt8 := [42, 180, 0, 92, 3, 92, 46, 4, 96, 79, 42, 27, 16, 10, 108, 27, 16, 10, 112, 42, 180, 0, 50, 27]
abbrev dktX0_promise_3 : List UInt8 := dkwX0_promise_3 ++ dktX0_promise_4
def dkwX0_promise_2 : List UInt8 := [28, 16, 100, 112, 182, 0, 174, 154, 0, 5, 2, 172, 42, 180, 0, 146, 16, 12, 160, 0, 6, 16, 253, 172]
abbrev dktX0_promise_2 : List UInt8 := dkwX0_promise_2 ++ dktX0_promise_3
def dkwX0_promise_1 : List UInt8 := [108, 27, 16, 10, 112, 42, 180, 0, 50, 27, 16, 10, 108, 50, 180, 0, 171, 180, 0, 3, 28, 16, 100, 108]
abbrev dktX0_promise_1 : List UInt8 := dkwX0_promise_1 ++ dktX0_promise_2
def dkwX0_promise_0 : List UInt8 := [27, 155, 0, 57, 28, 155, 0, 53, 42, 27, 16, 10, 108, 133, 182, 0, 160, 153, 0, 41, 42, 27, 16, 10]
abbrev dktX0_promise_0 : List UInt8 := dkwX0_promise_0 ++ dktX0_promise_1
theorem dksX0_promise_0 : cX0_promise.data.toList.drop 0 = dktX0_promise_0 := by decide +kernel
theorem dksX0_promise_1 : cX0_promise.data.toList.drop 24 = dktX0_promise_1 := dk_seg dksX0_promise_0 24 rfl rfl
theorem dksX0_promise_2 : cX0_promise.data.toList.drop 48 = dktX0_promise_2 := dk_seg dksX0_promise_1 24 rfl rfl
theorem dksX0_promise_3 : cX0_promise.data.toList.drop 72 = dktX0_promise_3 := dk_seg dksX0_promise_2 24 rfl rfl
theorem dksX0_promise_4 : cX0_promise.data.toList.drop 96 = dktX0_promise_4 := dk_seg dksX0_promise_3 24 rfl rfl
theorem dX0_promise_0 : decode cX0_promise 0 = .ok (.iload_n 1, 1) := dk_27 (dk_at dksX0_promise_0 0 rfl rfl)
theorem dX0_promise_1 : decode cX0_promise 1 = .ok (.ifCond .lt 57, 3) := dk_155 0 57 (dk_at dksX0_promise_0 1 rfl rfl)
theorem dX0_promise_4 : decode cX0_promise 4 = .ok (.iload_n 2, 1) := dk_28 (dk_at dksX0_promise_0 4 rfl rfl)
theorem dX0_promise_5 : decode cX0_promise 5 = .ok (.ifCond .lt 53, 3) := dk_155 0 53 (dk_at dksX0_promise_0 5 rfl rfl)
theorem dX0_promise_8 : decode cX0_promise 8 = .ok (.aload_n 0, 1) := dk_42 (dk_at dksX0_promise_0 8 rfl rfl)
theorem dX0_promise_9 : decode cX0_promise 9 = .ok (.iload_n 1, 1) := dk_27 (dk_at dksX0_promise_0 9 rfl rfl)
theorem dX0_promise_10 : decode cX0_promise 10 = .ok (.bipush 10, 2) := dk_16 10 (dk_at dksX0_promise_0 10 rfl rfl)
theorem dX0_promise_12 : decode cX0_promise 12 = .ok (.idiv, 1) := dk_108 (dk_at dksX0_promise_0 12 rfl rfl)
theorem dX0_promise_13 : decode cX0_promise 13 = .ok (.i2l, 1) := dk_133 (dk_at dksX0_promise_0 13 rfl rfl)
theorem dX0_promise_14 : decode cX0_promise 14 = .ok (.invokevirtual 160, 3) := dk_182 0 160 (dk_at dksX0_promise_0 14 rfl rfl)
theorem dX0_promise_17 : decode cX0_promise 17 = .ok (.ifCond .eq 41, 3) := dk_153 0 41 (dk_at dksX0_promise_0 17 rfl rfl)
theorem dX0_promise_20 : decode cX0_promise 20 = .ok (.aload_n 0, 1) := dk_42 (dk_at dksX0_promise_0 20 rfl rfl)
theorem dX0_promise_21 : decode cX0_promise 21 = .ok (.iload_n 1, 1) := dk_27 (dk_at dksX0_promise_0 21 rfl rfl)
theorem dX0_promise_22 : decode cX0_promise 22 = .ok (.bipush 10, 2) := dk_16 10 (dk_at dksX0_promise_0 22 rfl rfl)
theorem dX0_promise_24 : decode cX0_promise 24 = .ok (.idiv, 1) := dk_108 (dk_at dksX0_promise_1 0 rfl rfl)
theorem dX0_promise_25 : decode cX0_promise 25 = .ok (.iload_n 1, 1) := dk_27 (dk_at dksX0_promise_1 1 rfl rfl)
theorem dX0_promise_26 : decode cX0_promise 26 = .ok (.bipush 10, 2) := dk_16 10 (dk_at dksX0_promise_1 2 rfl rfl)
theorem dX0_promise_28 : decode cX0_promise 28 = .ok (.irem, 1) := dk_112 (dk_at dksX0_promise_1 4 rfl rfl)
theorem dX0_promise_29 : decode cX0_promise 29 = .ok (.aload_n 0, 1) := dk_42 (dk_at dksX0_promise_1 5 rfl rfl)
theorem dX0_promise_30 : decode cX0_promise 30 = .ok (.getfield 50, 3) := dk_180 0 50 (dk_at dksX0_promise_1 6 rfl rfl)
theorem dX0_promise_33 : decode cX0_promise 33 = .ok (.iload_n 1, 1) := dk_27 (dk_at dksX0_promise_1 9 rfl rfl)
theorem dX0_promise_34 : decode cX0_promise 34 = .ok (.bipush 10, 2) := dk_16 10 (dk_at dksX0_promise_1 10 rfl rfl)
theorem dX0_promise_36 : decode cX0_promise 36 = .ok (.idiv, 1) := dk_108 (dk_at dksX0_promise_1 12 rfl rfl)
theorem dX0_promise_37 : decode cX0_promise 37 = .ok (.aaload, 1) := dk_50 (dk_at dksX0_promise_1 13 rfl rfl)
theorem dX0_promise_38 : decode cX0_promise 38 = .ok (.getfield 171, 3) := dk_180 0 171 (dk_at dksX0_promise_1 14 rfl rfl)
theorem dX0_promise_41 : decode cX0_promise 41 = .ok (.getfield 3, 3) := dk_180 0 3 (dk_at dksX0_promise_1 17 rfl rfl)
theorem dX0_promise_44 : decode cX0_promise 44 = .ok (.iload_n 2, 1) := dk_28 (dk_at dksX0_promise_1 20 rfl rfl)
theorem dX0_promise_45 : decode cX0_promise 45 = .ok (.bipush 100, 2) := dk_16 100 (dk_at dksX0_promise_1 21 rfl rfl)
theorem dX0_promise_47 : decode cX0_promise 47 = .ok (.idiv, 1) := dk_108 (dk_at dksX0_promise_1 23 rfl rfl)
theorem dX0_promise_48 : decode cX0_promise 48 = .ok (.iload_n 2, 1) := dk_28 (dk_at dksX0_promise_2 0 rfl rfl)
theorem dX0_promise_49 : decode cX0_promise 49 = .ok (.bipush 100, 2) := dk_16 100 (dk_at dksX0_promise_2 1 rfl rfl)
theorem dX0_promise_51 : decode cX0_promise 51 = .ok (.irem, 1) := dk_112 (dk_at dksX0_promise_2 3 rfl rfl)
theorem dX0_promise_52 : decode cX0_promise 52 = .ok (.invokevirtual 174, 3) := dk_182 0 174 (dk_at dksX0_promise_2 4 rfl rfl)
theorem dX0_promise_55 : decode cX0_promise 55 = .ok (.ifCond .ne 5, 3) := dk_154 0 5 (dk_at dksX0_promise_2 7 rfl rfl)
theorem dX0_promise_58 : decode cX0_promise 58 = .ok (.iconst (-1), 1) := dk_2 (dk_at dksX0_promise_2 10 rfl rfl)
theorem dX0_promise_59 : decode cX0_promise 59 = .ok (.ireturn, 1) := dk_172 (dk_at dksX0_promise_2 11 rfl rfl)
theorem dX0_promise_60 : decode cX0_promise 60 = .ok (.aload_n 0, 1) := dk_42 (dk_at dksX0_promise_2 12 rfl rfl)
theorem dX0_promise_61 : decode cX0_promise 61 = .ok (.getfield 146, 3) := dk_180 0 146 (dk_at dksX0_promise_2 13 rfl rfl)
theorem dX0_promise_64 : decode cX0_promise 64 = .ok (.bipush 12, 2) := dk_16 12 (dk_at dksX0_promise_2 16 rfl rfl)
theorem dX0_promise_66 : decode cX0_promise 66 = .ok (.if_icmp .ne 6, 3) := dk_160 0 6 (dk_at dksX0_promise_2 18 rfl rfl)
theorem dX0_promise_69 : decode cX0_promise 69 = .ok (.bipush (-3), 2) := dk_16 253 (dk_at dksX0_promise_2 21 rfl rfl)
theorem dX0_promise_71 : decode cX0_promise 71 = .ok (.ireturn, 1) := dk_172 (dk_at dksX0_promise_2 23 rfl rfl)
theorem dX0_promise_72 : decode cX0_promise 72 = .ok (.aload_n 0, 1) := dk_42 (dk_at dksX0_promise_3 0 rfl rfl)
theorem dX0_promise_73 : decode cX0_promise 73 = .ok (.getfield 92, 3) := dk_180 0 92 (dk_at dksX0_promise_3 1 rfl rfl)
theorem dX0_promise_76 : decode cX0_promise 76 = .ok (.iconst 0, 1) := dk_3 (dk_at dksX0_promise_3 4 rfl rfl)
theorem dX0_promise_77 : decode cX0_promise 77 = .ok (.dup2, 1) := dk_92 (dk_at dksX0_promise_3 5 rfl rfl)
theorem dX0_promise_78 : decode cX0_promise 78 = .ok (.iaload, 1) := dk_46 (dk_at dksX0_promise_3 6 rfl rfl)
theorem dX0_promise_79 : decode cX0_promise 79 = .ok (.iconst 1, 1) := dk_4 (dk_at dksX0_promise_3 7 rfl rfl)
theorem dX0_promise_80 : decode cX0_promise 80 = .ok (.iadd, 1) := dk_96 (dk_at dksX0_promise_3 8 rfl rfl)
theorem dX0_promise_81 : decode cX0_promise 81 = .ok (.iastore, 1) := dk_79 (dk_at dksX0_promise_3 9 rfl rfl)
theorem dX0_promise_82 : decode cX0_promise 82 = .ok (.aload_n 0, 1) := dk_42 (dk_at dksX0_promise_3 10 rfl rfl)
theorem dX0_promise_83 : decode cX0_promise 83 = .ok (.iload_n 1, 1) := dk_27 (dk_at dksX0_promise_3 11 rfl rfl)
theorem dX0_promise_84 : decode cX0_promise 84 = .ok (.bipush 10, 2) := dk_16 10 (dk_at dksX0_promise_3 12 rfl rfl)
theorem dX0_promise_86 : decode cX0_promise 86 = .ok (.idiv, 1) := dk_108 (dk_at dksX0_promise_3 14 rfl rfl)
theorem dX0_promise_87 : decode cX0_promise 87 = .ok (.iload_n 1, 1) := dk_27 (dk_at dksX0_promise_3 15 rfl rfl)
theorem dX0_promise_88 : decode cX0_promise 88 = .ok (.bipush 10, 2) := dk_16 10 (dk_at dksX0_promise_3 16 rfl rfl)
theorem dX0_promise_90 : decode cX0_promise 90 = .ok (.irem, 1) := dk_112 (dk_at dksX0_promise_3 18 rfl rfl)
theorem dX0_promise_91 : decode cX0_promise 91 = .ok (.aload_n 0, 1) := dk_42 (dk_at dksX0_promise_3 19 rfl rfl)
theorem dX0_promise_92 : decode cX0_promise 92 = .ok (.getfield 50, 3) := dk_180 0 50 (dk_at dksX0_promise_3 20 rfl rfl)
theorem dX0_promise_95 : decode cX0_promise 95 = .ok (.iload_n 1, 1) := dk_27 (dk_at dksX0_promise_3 23 rfl rfl)
theorem dX0_promise_96 : decode cX0_promise 96 = .ok (.bipush 10, 2) := dk_16 10 (dk_at dksX0_promise_4 0 rfl rfl)
theorem dX0_promise_98 : decode cX0_promise 98 = .ok (.idiv, 1) := dk_108 (dk_at dksX0_promise_4 2 rfl rfl)
theorem dX0_promise_99 : decode cX0_promise 99 = .ok (.aaload, 1) := dk_50 (dk_at dksX0_promise_4 3 rfl rfl)
theorem dX0_promise_100 : decode cX0_promise 100 = .ok (.getfield 171, 3) := dk_180 0 171 (dk_at dksX0_promise_4 4 rfl rfl)
theorem dX0_promise_103 : decode cX0_promise 103 = .ok (.getfield 3, 3) := dk_180 0 3 (dk_at dksX0_promise_4 7 rfl rfl)
theorem dX0_promise_106 : decode cX0_promise 106 = .ok (.iload_n 2, 1) := dk_28 (dk_at dksX0_promise_4 10 rfl rfl)
theorem dX0_promise_107 : decode cX0_promise 107 = .ok (.bipush 100, 2) := dk_16 100 (dk_at dksX0_promise_4 11 rfl rfl)
theorem dX0_promise_109 : decode cX0_promise 109 = .ok (.idiv, 1) := dk_108 (dk_at dksX0_promise_4 13 rfl rfl)
theorem dX0_promise_110 : decode cX0_promise 110 = .ok (.iload_n 2, 1) := dk_28 (dk_at dksX0_promise_4 14 rfl rfl)
theorem dX0_promise_111 : decode cX0_promise 111 = .ok (.bipush 100, 2) := dk_16 100 (dk_at dksX0_promise_4 15 rfl rfl)
theorem dX0_promise_113 : decode cX0_promise 113 = .ok (.irem, 1) := dk_112 (dk_at dksX0_promise_4 17 rfl rfl)
theorem dX0_promise_114 : decode cX0_promise 114 = .ok (.invokevirtual 178, 3) := dk_182 0 178 (dk_at dksX0_promise_4 18 rfl rfl)
theorem dX0_promise_117 : decode cX0_promise 117 = .ok (.ireturn, 1) := dk_172 (dk_at dksX0_promise_4 21 rfl rfl)
abbrev cX0_isOne : ByteArray := prog_1_method_15_code
def yX0_isOne : MethodName := ⟨RX0, "isOne", "(J)Z"⟩
def dkwX0_isOne_0 : List UInt8 := [31, 9, 42, 180, 0, 143, 4, 100, 133, 184, 0, 121, 172]
abbrev dktX0_isOne_0 : List UInt8 := dkwX0_isOne_0 ++ []
theorem dksX0_isOne_0 : cX0_isOne.data.toList.drop 0 = dktX0_isOne_0 := by decide +kernel
theorem dX0_isOne_0 : decode cX0_isOne 0 = .ok (.lload_n 1, 1) := dk_31 (dk_at dksX0_isOne_0 0 rfl rfl)
theorem dX0_isOne_1 : decode cX0_isOne 1 = .ok (.lconst 0, 1) := dk_9 (dk_at dksX0_isOne_0 1 rfl rfl)
theorem dX0_isOne_2 : decode cX0_isOne 2 = .ok (.aload_n 0, 1) := dk_42 (dk_at dksX0_isOne_0 2 rfl rfl)
theorem dX0_isOne_3 : decode cX0_isOne 3 = .ok (.getfield 143, 3) := dk_180 0 143 (dk_at dksX0_isOne_0 3 rfl rfl)
theorem dX0_isOne_6 : decode cX0_isOne 6 = .ok (.iconst 1, 1) := dk_4 (dk_at dksX0_isOne_0 6 rfl rfl)
theorem dX0_isOne_7 : decode cX0_isOne 7 = .ok (.isub, 1) := dk_100 (dk_at dksX0_isOne_0 7 rfl rfl)
theorem dX0_isOne_8 : decode cX0_isOne 8 = .ok (.i2l, 1) := dk_133 (dk_at dksX0_isOne_0 8 rfl rfl)
theorem dX0_isOne_9 : decode cX0_isOne 9 = .ok (.invokestatic 121, 3) := dk_184 0 121 (dk_at dksX0_isOne_0 9 rfl rfl)
theorem dX0_isOne_12 : decode cX0_isOne 12 = .ok (.ireturn, 1) := dk_172 (dk_at dksX0_isOne_0 12 rfl rfl)
abbrev cX0_mayBe : ByteArray := prog_1_method_20_code
def yX0_mayBe : MethodName := ⟨RX0, "mayBe", "(IIIII)Z"⟩
def dkwX0_mayBe_2 : List UInt8 := [184, 0, 165, 153, 0, 7, 4, 167, 0, 4, 3, 172]
abbrev dktX0_mayBe_2 : List UInt8 := dkwX0_mayBe_2 ++ []
def dkwX0_mayBe_1 : List UInt8 := [133, 184, 0, 153, 153, 0, 29, 21, 4, 133, 9, 20, 0, 163, 184, 0, 121, 153, 0, 16, 21, 5, 133]
abbrev dktX0_mayBe_1 : List UInt8 := dkwX0_mayBe_1 ++ dktX0_mayBe_2
def dkwX0_mayBe_0 : List UInt8 := [42, 27, 133, 182, 0, 160, 153, 0, 51, 42, 28, 133, 182, 0, 160, 153, 0, 42, 27, 28, 159, 0, 37, 29]
abbrev dktX0_mayBe_0 : List UInt8 := dkwX0_mayBe_0 ++ dktX0_mayBe_1
theorem dksX0_mayBe_0 : cX0_mayBe.data.toList.drop 0 = dktX0_mayBe_0 := by decide +kernel
theorem dksX0_mayBe_1 : cX0_mayBe.data.toList.drop 24 = dktX0_mayBe_1 := dk_seg dksX0_mayBe_0 24 rfl rfl
theorem dksX0_mayBe_2 : cX0_mayBe.data.toList.drop 47 = dktX0_mayBe_2 := dk_seg dksX0_mayBe_1 23 rfl rfl
theorem dX0_mayBe_0 : decode cX0_mayBe 0 = .ok (.aload_n 0, 1) := dk_42 (dk_at dksX0_mayBe_0 0 rfl rfl)
theorem dX0_mayBe_1 : decode cX0_mayBe 1 = .ok (.iload_n 1, 1) := dk_27 (dk_at dksX0_mayBe_0 1 rfl rfl)
theorem dX0_mayBe_2 : decode cX0_mayBe 2 = .ok (.i2l, 1) := dk_133 (dk_at dksX0_mayBe_0 2 rfl rfl)
theorem dX0_mayBe_3 : decode cX0_mayBe 3 = .ok (.invokevirtual 160, 3) := dk_182 0 160 (dk_at dksX0_mayBe_0 3 rfl rfl)
theorem dX0_mayBe_6 : decode cX0_mayBe 6 = .ok (.ifCond .eq 51, 3) := dk_153 0 51 (dk_at dksX0_mayBe_0 6 rfl rfl)
theorem dX0_mayBe_9 : decode cX0_mayBe 9 = .ok (.aload_n 0, 1) := dk_42 (dk_at dksX0_mayBe_0 9 rfl rfl)
theorem dX0_mayBe_10 : decode cX0_mayBe 10 = .ok (.iload_n 2, 1) := dk_28 (dk_at dksX0_mayBe_0 10 rfl rfl)
theorem dX0_mayBe_11 : decode cX0_mayBe 11 = .ok (.i2l, 1) := dk_133 (dk_at dksX0_mayBe_0 11 rfl rfl)
theorem dX0_mayBe_12 : decode cX0_mayBe 12 = .ok (.invokevirtual 160, 3) := dk_182 0 160 (dk_at dksX0_mayBe_0 12 rfl rfl)
theorem dX0_mayBe_15 : decode cX0_mayBe 15 = .ok (.ifCond .eq 42, 3) := dk_153 0 42 (dk_at dksX0_mayBe_0 15 rfl rfl)
theorem dX0_mayBe_18 : decode cX0_mayBe 18 = .ok (.iload_n 1, 1) := dk_27 (dk_at dksX0_mayBe_0 18 rfl rfl)
theorem dX0_mayBe_19 : decode cX0_mayBe 19 = .ok (.iload_n 2, 1) := dk_28 (dk_at dksX0_mayBe_0 19 rfl rfl)
theorem dX0_mayBe_20 : decode cX0_mayBe 20 = .ok (.if_icmp .eq 37, 3) := dk_159 0 37 (dk_at dksX0_mayBe_0 20 rfl rfl)
theorem dX0_mayBe_23 : decode cX0_mayBe 23 = .ok (.iload_n 3, 1) := dk_29 (dk_at dksX0_mayBe_0 23 rfl rfl)
theorem dX0_mayBe_24 : decode cX0_mayBe 24 = .ok (.i2l, 1) := dk_133 (dk_at dksX0_mayBe_1 0 rfl rfl)
theorem dX0_mayBe_25 : decode cX0_mayBe 25 = .ok (.invokestatic 153, 3) := dk_184 0 153 (dk_at dksX0_mayBe_1 1 rfl rfl)
theorem dX0_mayBe_28 : decode cX0_mayBe 28 = .ok (.ifCond .eq 29, 3) := dk_153 0 29 (dk_at dksX0_mayBe_1 4 rfl rfl)
theorem dX0_mayBe_31 : decode cX0_mayBe 31 = .ok (.iload 4, 2) := dk_21 4 (dk_at dksX0_mayBe_1 7 rfl rfl)
theorem dX0_mayBe_33 : decode cX0_mayBe 33 = .ok (.i2l, 1) := dk_133 (dk_at dksX0_mayBe_1 9 rfl rfl)
theorem dX0_mayBe_34 : decode cX0_mayBe 34 = .ok (.lconst 0, 1) := dk_9 (dk_at dksX0_mayBe_1 10 rfl rfl)
theorem dX0_mayBe_35 : decode cX0_mayBe 35 = .ok (.ldc2_w 163, 3) := dk_20 0 163 (dk_at dksX0_mayBe_1 11 rfl rfl)
theorem dX0_mayBe_38 : decode cX0_mayBe 38 = .ok (.invokestatic 121, 3) := dk_184 0 121 (dk_at dksX0_mayBe_1 14 rfl rfl)
theorem dX0_mayBe_41 : decode cX0_mayBe 41 = .ok (.ifCond .eq 16, 3) := dk_153 0 16 (dk_at dksX0_mayBe_1 17 rfl rfl)
theorem dX0_mayBe_44 : decode cX0_mayBe 44 = .ok (.iload 5, 2) := dk_21 5 (dk_at dksX0_mayBe_1 20 rfl rfl)
theorem dX0_mayBe_46 : decode cX0_mayBe 46 = .ok (.i2l, 1) := dk_133 (dk_at dksX0_mayBe_1 22 rfl rfl)
theorem dX0_mayBe_47 : decode cX0_mayBe 47 = .ok (.invokestatic 165, 3) := dk_184 0 165 (dk_at dksX0_mayBe_2 0 rfl rfl)
theorem dX0_mayBe_50 : decode cX0_mayBe 50 = .ok (.ifCond .eq 7, 3) := dk_153 0 7 (dk_at dksX0_mayBe_2 3 rfl rfl)
theorem dX0_mayBe_53 : decode cX0_mayBe 53 = .ok (.iconst 1, 1) := dk_4 (dk_at dksX0_mayBe_2 6 rfl rfl)
theorem dX0_mayBe_54 : decode cX0_mayBe 54 = .ok (.goto 4, 3) := dk_167 0 4 (dk_at dksX0_mayBe_2 7 rfl rfl)
theorem dX0_mayBe_57 : decode cX0_mayBe 57 = .ok (.iconst 0, 1) := dk_3 (dk_at dksX0_mayBe_2 10 rfl rfl)
theorem dX0_mayBe_58 : decode cX0_mayBe 58 = .ok (.ireturn, 1) := dk_172 (dk_at dksX0_mayBe_2 11 rfl rfl)
abbrev cX0_isDay : ByteArray := prog_1_method_18_code
def yX0_isDay : MethodName := ⟨RX0, "isDay", "(J)Z"⟩
def dkwX0_isDay_0 : List UInt8 := [30, 9, 20, 0, 151, 184, 0, 121, 172]
abbrev dktX0_isDay_0 : List UInt8 := dkwX0_isDay_0 ++ []
theorem dksX0_isDay_0 : cX0_isDay.data.toList.drop 0 = dktX0_isDay_0 := by decide +kernel
theorem dX0_isDay_0 : decode cX0_isDay 0 = .ok (.lload_n 0, 1) := dk_30 (dk_at dksX0_isDay_0 0 rfl rfl)
theorem dX0_isDay_1 : decode cX0_isDay 1 = .ok (.lconst 0, 1) := dk_9 (dk_at dksX0_isDay_0 1 rfl rfl)
theorem dX0_isDay_2 : decode cX0_isDay 2 = .ok (.ldc2_w 151, 3) := dk_20 0 151 (dk_at dksX0_isDay_0 2 rfl rfl)
theorem dX0_isDay_5 : decode cX0_isDay 5 = .ok (.invokestatic 121, 3) := dk_184 0 121 (dk_at dksX0_isDay_0 5 rfl rfl)
theorem dX0_isDay_8 : decode cX0_isDay 8 = .ok (.ireturn, 1) := dk_172 (dk_at dksX0_isDay_0 8 rfl rfl)
abbrev cX0_add : ByteArray := prog_1_method_21_code
def yX0_add : MethodName := ⟨RX0, "add", "(IIIII)I"⟩
def dkwX0_add_1 : List UInt8 := [21, 5, 183, 0, 168, 83, 42, 89, 180, 0, 146, 90, 4, 96, 181, 0, 146, 172]
abbrev dktX0_add_1 : List UInt8 := dkwX0_add_1 ++ []
def dkwX0_add_0 : List UInt8 := [42, 180, 0, 56, 42, 180, 0, 146, 187, 0, 54, 89, 27, 28, 29, 21, 4, 42, 180, 0, 67, 180, 0, 3]
abbrev dktX0_add_0 : List UInt8 := dkwX0_add_0 ++ dktX0_add_1
theorem dksX0_add_0 : cX0_add.data.toList.drop 0 = dktX0_add_0 := by decide +kernel
theorem dksX0_add_1 : cX0_add.data.toList.drop 24 = dktX0_add_1 := dk_seg dksX0_add_0 24 rfl rfl
theorem dX0_add_0 : decode cX0_add 0 = .ok (.aload_n 0, 1) := dk_42 (dk_at dksX0_add_0 0 rfl rfl)
theorem dX0_add_1 : decode cX0_add 1 = .ok (.getfield 56, 3) := dk_180 0 56 (dk_at dksX0_add_0 1 rfl rfl)
theorem dX0_add_4 : decode cX0_add 4 = .ok (.aload_n 0, 1) := dk_42 (dk_at dksX0_add_0 4 rfl rfl)
theorem dX0_add_5 : decode cX0_add 5 = .ok (.getfield 146, 3) := dk_180 0 146 (dk_at dksX0_add_0 5 rfl rfl)
theorem dX0_add_8 : decode cX0_add 8 = .ok (.new 54, 3) := dk_187 0 54 (dk_at dksX0_add_0 8 rfl rfl)
theorem dX0_add_11 : decode cX0_add 11 = .ok (.dup, 1) := dk_89 (dk_at dksX0_add_0 11 rfl rfl)
theorem dX0_add_12 : decode cX0_add 12 = .ok (.iload_n 1, 1) := dk_27 (dk_at dksX0_add_0 12 rfl rfl)
theorem dX0_add_13 : decode cX0_add 13 = .ok (.iload_n 2, 1) := dk_28 (dk_at dksX0_add_0 13 rfl rfl)
theorem dX0_add_14 : decode cX0_add 14 = .ok (.iload_n 3, 1) := dk_29 (dk_at dksX0_add_0 14 rfl rfl)
theorem dX0_add_15 : decode cX0_add 15 = .ok (.iload 4, 2) := dk_21 4 (dk_at dksX0_add_0 15 rfl rfl)
theorem dX0_add_17 : decode cX0_add 17 = .ok (.aload_n 0, 1) := dk_42 (dk_at dksX0_add_0 17 rfl rfl)
theorem dX0_add_18 : decode cX0_add 18 = .ok (.getfield 67, 3) := dk_180 0 67 (dk_at dksX0_add_0 18 rfl rfl)
theorem dX0_add_21 : decode cX0_add 21 = .ok (.getfield 3, 3) := dk_180 0 3 (dk_at dksX0_add_0 21 rfl rfl)
theorem dX0_add_24 : decode cX0_add 24 = .ok (.iload 5, 2) := dk_21 5 (dk_at dksX0_add_1 0 rfl rfl)
theorem dX0_add_26 : decode cX0_add 26 = .ok (.invokespecial 168, 3) := dk_183 0 168 (dk_at dksX0_add_1 2 rfl rfl)
theorem dX0_add_29 : decode cX0_add 29 = .ok (.aastore, 1) := dk_83 (dk_at dksX0_add_1 5 rfl rfl)
theorem dX0_add_30 : decode cX0_add 30 = .ok (.aload_n 0, 1) := dk_42 (dk_at dksX0_add_1 6 rfl rfl)
theorem dX0_add_31 : decode cX0_add 31 = .ok (.dup, 1) := dk_89 (dk_at dksX0_add_1 7 rfl rfl)
theorem dX0_add_32 : decode cX0_add 32 = .ok (.getfield 146, 3) := dk_180 0 146 (dk_at dksX0_add_1 8 rfl rfl)
theorem dX0_add_35 : decode cX0_add 35 = .ok (.dup_x1, 1) := dk_90 (dk_at dksX0_add_1 11 rfl rfl)
theorem dX0_add_36 : decode cX0_add 36 = .ok (.iconst 1, 1) := dk_4 (dk_at dksX0_add_1 12 rfl rfl)
theorem dX0_add_37 : decode cX0_add 37 = .ok (.iadd, 1) := dk_96 (dk_at dksX0_add_1 13 rfl rfl)
theorem dX0_add_38 : decode cX0_add 38 = .ok (.putfield 146, 3) := dk_181 0 146 (dk_at dksX0_add_1 14 rfl rfl)
theorem dX0_add_41 : decode cX0_add 41 = .ok (.ireturn, 1) := dk_172 (dk_at dksX0_add_1 17 rfl rfl)
abbrev cX0_promises : ByteArray := prog_1_method_24_code
def yX0_promises : MethodName := ⟨RX0, "promises", "(III)I"⟩
def dkwX0_promises_8 : List UInt8 := [167, 255, 125, 167, 0, 14, 58, 7, 42, 180, 0, 146, 21, 5, 100, 54, 6, 21, 6, 172]
abbrev dktX0_promises_8 : List UInt8 := dkwX0_promises_8 ++ []
def dkwX0_promises_7 : List UInt8 := [180, 0, 73, 191, 42, 21, 9, 21, 10, 21, 11, 21, 12, 21, 13, 182, 0, 178, 87, 132, 6, 1]
abbrev dktX0_promises_7 : List UInt8 := dkwX0_promises_7 ++ dktX0_promises_8
def dkwX0_promises_6 : List UInt8 := [16, 12, 159, 0, 20, 42, 21, 9, 21, 10, 21, 11, 21, 12, 21, 13, 182, 0, 174, 154, 0, 8, 42]
abbrev dktX0_promises_6 : List UInt8 := dkwX0_promises_6 ++ dktX0_promises_7
def dkwX0_promises_5 : List UInt8 := [182, 0, 195, 54, 12, 42, 25, 4, 22, 7, 20, 0, 203, 97, 182, 0, 195, 54, 13, 42, 180, 0, 146]
abbrev dktX0_promises_5 : List UInt8 := dkwX0_promises_5 ++ dktX0_promises_6
def dkwX0_promises_4 : List UInt8 := [42, 25, 4, 22, 7, 20, 0, 199, 97, 182, 0, 195, 54, 11, 42, 25, 4, 22, 7, 20, 0, 201, 97]
abbrev dktX0_promises_4 : List UInt8 := dkwX0_promises_4 ++ dktX0_promises_5
def dkwX0_promises_3 : List UInt8 := [55, 7, 42, 25, 4, 22, 7, 182, 0, 195, 54, 9, 42, 25, 4, 22, 7, 10, 97, 182, 0, 195, 54, 10]
abbrev dktX0_promises_3 : List UInt8 := dkwX0_promises_3 ++ dktX0_promises_4
def dkwX0_promises_2 : List UInt8 := [180, 0, 146, 54, 5, 3, 54, 6, 21, 6, 29, 162, 0, 131, 28, 133, 20, 0, 193, 21, 6, 133, 105, 97]
abbrev dktX0_promises_2 : List UInt8 := dkwX0_promises_2 ++ dktX0_promises_3
def dkwX0_promises_1 : List UInt8 := [180, 0, 113, 27, 50, 58, 4, 25, 4, 198, 0, 14, 25, 4, 184, 0, 189, 153, 0, 6, 16, 244, 172, 42]
abbrev dktX0_promises_1 : List UInt8 := dkwX0_promises_1 ++ dktX0_promises_2
def dkwX0_promises_0 : List UInt8 := [27, 184, 0, 184, 153, 0, 15, 29, 133, 10, 20, 0, 187, 184, 0, 121, 154, 0, 5, 2, 172, 42]
abbrev dktX0_promises_0 : List UInt8 := dkwX0_promises_0 ++ dktX0_promises_1
theorem dksX0_promises_0 : cX0_promises.data.toList.drop 0 = dktX0_promises_0 := by decide +kernel
theorem dksX0_promises_1 : cX0_promises.data.toList.drop 22 = dktX0_promises_1 := dk_seg dksX0_promises_0 22 rfl rfl
theorem dksX0_promises_2 : cX0_promises.data.toList.drop 46 = dktX0_promises_2 := dk_seg dksX0_promises_1 24 rfl rfl
theorem dksX0_promises_3 : cX0_promises.data.toList.drop 70 = dktX0_promises_3 := dk_seg dksX0_promises_2 24 rfl rfl
theorem dksX0_promises_4 : cX0_promises.data.toList.drop 94 = dktX0_promises_4 := dk_seg dksX0_promises_3 24 rfl rfl
theorem dksX0_promises_5 : cX0_promises.data.toList.drop 117 = dktX0_promises_5 := dk_seg dksX0_promises_4 23 rfl rfl
theorem dksX0_promises_6 : cX0_promises.data.toList.drop 140 = dktX0_promises_6 := dk_seg dksX0_promises_5 23 rfl rfl
theorem dksX0_promises_7 : cX0_promises.data.toList.drop 163 = dktX0_promises_7 := dk_seg dksX0_promises_6 23 rfl rfl
theorem dksX0_promises_8 : cX0_promises.data.toList.drop 185 = dktX0_promises_8 := dk_seg dksX0_promises_7 22 rfl rfl
theorem dX0_promises_0 : decode cX0_promises 0 = .ok (.iload_n 1, 1) := dk_27 (dk_at dksX0_promises_0 0 rfl rfl)
theorem dX0_promises_1 : decode cX0_promises 1 = .ok (.invokestatic 184, 3) := dk_184 0 184 (dk_at dksX0_promises_0 1 rfl rfl)
theorem dX0_promises_4 : decode cX0_promises 4 = .ok (.ifCond .eq 15, 3) := dk_153 0 15 (dk_at dksX0_promises_0 4 rfl rfl)
theorem dX0_promises_7 : decode cX0_promises 7 = .ok (.iload_n 3, 1) := dk_29 (dk_at dksX0_promises_0 7 rfl rfl)
theorem dX0_promises_8 : decode cX0_promises 8 = .ok (.i2l, 1) := dk_133 (dk_at dksX0_promises_0 8 rfl rfl)
theorem dX0_promises_9 : decode cX0_promises 9 = .ok (.lconst 1, 1) := dk_10 (dk_at dksX0_promises_0 9 rfl rfl)
theorem dX0_promises_10 : decode cX0_promises 10 = .ok (.ldc2_w 187, 3) := dk_20 0 187 (dk_at dksX0_promises_0 10 rfl rfl)
theorem dX0_promises_13 : decode cX0_promises 13 = .ok (.invokestatic 121, 3) := dk_184 0 121 (dk_at dksX0_promises_0 13 rfl rfl)
theorem dX0_promises_16 : decode cX0_promises 16 = .ok (.ifCond .ne 5, 3) := dk_154 0 5 (dk_at dksX0_promises_0 16 rfl rfl)
theorem dX0_promises_19 : decode cX0_promises 19 = .ok (.iconst (-1), 1) := dk_2 (dk_at dksX0_promises_0 19 rfl rfl)
theorem dX0_promises_20 : decode cX0_promises 20 = .ok (.ireturn, 1) := dk_172 (dk_at dksX0_promises_0 20 rfl rfl)
theorem dX0_promises_21 : decode cX0_promises 21 = .ok (.aload_n 0, 1) := dk_42 (dk_at dksX0_promises_0 21 rfl rfl)
theorem dX0_promises_22 : decode cX0_promises 22 = .ok (.getfield 113, 3) := dk_180 0 113 (dk_at dksX0_promises_1 0 rfl rfl)
theorem dX0_promises_25 : decode cX0_promises 25 = .ok (.iload_n 1, 1) := dk_27 (dk_at dksX0_promises_1 3 rfl rfl)
theorem dX0_promises_26 : decode cX0_promises 26 = .ok (.aaload, 1) := dk_50 (dk_at dksX0_promises_1 4 rfl rfl)
theorem dX0_promises_27 : decode cX0_promises 27 = .ok (.astore 4, 2) := dk_58 4 (dk_at dksX0_promises_1 5 rfl rfl)
theorem dX0_promises_29 : decode cX0_promises 29 = .ok (.aload 4, 2) := dk_25 4 (dk_at dksX0_promises_1 7 rfl rfl)
theorem dX0_promises_31 : decode cX0_promises 31 = .ok (.ifnull 14, 3) := dk_198 0 14 (dk_at dksX0_promises_1 9 rfl rfl)
theorem dX0_promises_34 : decode cX0_promises 34 = .ok (.aload 4, 2) := dk_25 4 (dk_at dksX0_promises_1 12 rfl rfl)
theorem dX0_promises_36 : decode cX0_promises 36 = .ok (.invokestatic 189, 3) := dk_184 0 189 (dk_at dksX0_promises_1 14 rfl rfl)
theorem dX0_promises_39 : decode cX0_promises 39 = .ok (.ifCond .eq 6, 3) := dk_153 0 6 (dk_at dksX0_promises_1 17 rfl rfl)
theorem dX0_promises_42 : decode cX0_promises 42 = .ok (.bipush (-12), 2) := dk_16 244 (dk_at dksX0_promises_1 20 rfl rfl)
theorem dX0_promises_44 : decode cX0_promises 44 = .ok (.ireturn, 1) := dk_172 (dk_at dksX0_promises_1 22 rfl rfl)
theorem dX0_promises_45 : decode cX0_promises 45 = .ok (.aload_n 0, 1) := dk_42 (dk_at dksX0_promises_1 23 rfl rfl)
theorem dX0_promises_46 : decode cX0_promises 46 = .ok (.getfield 146, 3) := dk_180 0 146 (dk_at dksX0_promises_2 0 rfl rfl)
theorem dX0_promises_49 : decode cX0_promises 49 = .ok (.istore 5, 2) := dk_54 5 (dk_at dksX0_promises_2 3 rfl rfl)
theorem dX0_promises_51 : decode cX0_promises 51 = .ok (.iconst 0, 1) := dk_3 (dk_at dksX0_promises_2 5 rfl rfl)
theorem dX0_promises_52 : decode cX0_promises 52 = .ok (.istore 6, 2) := dk_54 6 (dk_at dksX0_promises_2 6 rfl rfl)
theorem dX0_promises_54 : decode cX0_promises 54 = .ok (.iload 6, 2) := dk_21 6 (dk_at dksX0_promises_2 8 rfl rfl)
theorem dX0_promises_56 : decode cX0_promises 56 = .ok (.iload_n 3, 1) := dk_29 (dk_at dksX0_promises_2 10 rfl rfl)
theorem dX0_promises_57 : decode cX0_promises 57 = .ok (.if_icmp .ge 131, 3) := dk_162 0 131 (dk_at dksX0_promises_2 11 rfl rfl)
theorem dX0_promises_60 : decode cX0_promises 60 = .ok (.iload_n 2, 1) := dk_28 (dk_at dksX0_promises_2 14 rfl rfl)
theorem dX0_promises_61 : decode cX0_promises 61 = .ok (.i2l, 1) := dk_133 (dk_at dksX0_promises_2 15 rfl rfl)
theorem dX0_promises_62 : decode cX0_promises 62 = .ok (.ldc2_w 193, 3) := dk_20 0 193 (dk_at dksX0_promises_2 16 rfl rfl)
theorem dX0_promises_65 : decode cX0_promises 65 = .ok (.iload 6, 2) := dk_21 6 (dk_at dksX0_promises_2 19 rfl rfl)
theorem dX0_promises_67 : decode cX0_promises 67 = .ok (.i2l, 1) := dk_133 (dk_at dksX0_promises_2 21 rfl rfl)
theorem dX0_promises_68 : decode cX0_promises 68 = .ok (.lmul, 1) := dk_105 (dk_at dksX0_promises_2 22 rfl rfl)
theorem dX0_promises_69 : decode cX0_promises 69 = .ok (.ladd, 1) := dk_97 (dk_at dksX0_promises_2 23 rfl rfl)
theorem dX0_promises_70 : decode cX0_promises 70 = .ok (.lstore 7, 2) := dk_55 7 (dk_at dksX0_promises_3 0 rfl rfl)
theorem dX0_promises_72 : decode cX0_promises 72 = .ok (.aload_n 0, 1) := dk_42 (dk_at dksX0_promises_3 2 rfl rfl)
theorem dX0_promises_73 : decode cX0_promises 73 = .ok (.aload 4, 2) := dk_25 4 (dk_at dksX0_promises_3 3 rfl rfl)
theorem dX0_promises_75 : decode cX0_promises 75 = .ok (.lload 7, 2) := dk_22 7 (dk_at dksX0_promises_3 5 rfl rfl)
theorem dX0_promises_77 : decode cX0_promises 77 = .ok (.invokevirtual 195, 3) := dk_182 0 195 (dk_at dksX0_promises_3 7 rfl rfl)
theorem dX0_promises_80 : decode cX0_promises 80 = .ok (.istore 9, 2) := dk_54 9 (dk_at dksX0_promises_3 10 rfl rfl)
theorem dX0_promises_82 : decode cX0_promises 82 = .ok (.aload_n 0, 1) := dk_42 (dk_at dksX0_promises_3 12 rfl rfl)
theorem dX0_promises_83 : decode cX0_promises 83 = .ok (.aload 4, 2) := dk_25 4 (dk_at dksX0_promises_3 13 rfl rfl)
theorem dX0_promises_85 : decode cX0_promises 85 = .ok (.lload 7, 2) := dk_22 7 (dk_at dksX0_promises_3 15 rfl rfl)
theorem dX0_promises_87 : decode cX0_promises 87 = .ok (.lconst 1, 1) := dk_10 (dk_at dksX0_promises_3 17 rfl rfl)
theorem dX0_promises_88 : decode cX0_promises 88 = .ok (.ladd, 1) := dk_97 (dk_at dksX0_promises_3 18 rfl rfl)
theorem dX0_promises_89 : decode cX0_promises 89 = .ok (.invokevirtual 195, 3) := dk_182 0 195 (dk_at dksX0_promises_3 19 rfl rfl)
theorem dX0_promises_92 : decode cX0_promises 92 = .ok (.istore 10, 2) := dk_54 10 (dk_at dksX0_promises_3 22 rfl rfl)
theorem dX0_promises_94 : decode cX0_promises 94 = .ok (.aload_n 0, 1) := dk_42 (dk_at dksX0_promises_4 0 rfl rfl)
theorem dX0_promises_95 : decode cX0_promises 95 = .ok (.aload 4, 2) := dk_25 4 (dk_at dksX0_promises_4 1 rfl rfl)
theorem dX0_promises_97 : decode cX0_promises 97 = .ok (.lload 7, 2) := dk_22 7 (dk_at dksX0_promises_4 3 rfl rfl)
theorem dX0_promises_99 : decode cX0_promises 99 = .ok (.ldc2_w 199, 3) := dk_20 0 199 (dk_at dksX0_promises_4 5 rfl rfl)
theorem dX0_promises_102 : decode cX0_promises 102 = .ok (.ladd, 1) := dk_97 (dk_at dksX0_promises_4 8 rfl rfl)
theorem dX0_promises_103 : decode cX0_promises 103 = .ok (.invokevirtual 195, 3) := dk_182 0 195 (dk_at dksX0_promises_4 9 rfl rfl)
theorem dX0_promises_106 : decode cX0_promises 106 = .ok (.istore 11, 2) := dk_54 11 (dk_at dksX0_promises_4 12 rfl rfl)
theorem dX0_promises_108 : decode cX0_promises 108 = .ok (.aload_n 0, 1) := dk_42 (dk_at dksX0_promises_4 14 rfl rfl)
theorem dX0_promises_109 : decode cX0_promises 109 = .ok (.aload 4, 2) := dk_25 4 (dk_at dksX0_promises_4 15 rfl rfl)
theorem dX0_promises_111 : decode cX0_promises 111 = .ok (.lload 7, 2) := dk_22 7 (dk_at dksX0_promises_4 17 rfl rfl)
theorem dX0_promises_113 : decode cX0_promises 113 = .ok (.ldc2_w 201, 3) := dk_20 0 201 (dk_at dksX0_promises_4 19 rfl rfl)
theorem dX0_promises_116 : decode cX0_promises 116 = .ok (.ladd, 1) := dk_97 (dk_at dksX0_promises_4 22 rfl rfl)
theorem dX0_promises_117 : decode cX0_promises 117 = .ok (.invokevirtual 195, 3) := dk_182 0 195 (dk_at dksX0_promises_5 0 rfl rfl)
theorem dX0_promises_120 : decode cX0_promises 120 = .ok (.istore 12, 2) := dk_54 12 (dk_at dksX0_promises_5 3 rfl rfl)
theorem dX0_promises_122 : decode cX0_promises 122 = .ok (.aload_n 0, 1) := dk_42 (dk_at dksX0_promises_5 5 rfl rfl)
theorem dX0_promises_123 : decode cX0_promises 123 = .ok (.aload 4, 2) := dk_25 4 (dk_at dksX0_promises_5 6 rfl rfl)
theorem dX0_promises_125 : decode cX0_promises 125 = .ok (.lload 7, 2) := dk_22 7 (dk_at dksX0_promises_5 8 rfl rfl)
theorem dX0_promises_127 : decode cX0_promises 127 = .ok (.ldc2_w 203, 3) := dk_20 0 203 (dk_at dksX0_promises_5 10 rfl rfl)
theorem dX0_promises_130 : decode cX0_promises 130 = .ok (.ladd, 1) := dk_97 (dk_at dksX0_promises_5 13 rfl rfl)
theorem dX0_promises_131 : decode cX0_promises 131 = .ok (.invokevirtual 195, 3) := dk_182 0 195 (dk_at dksX0_promises_5 14 rfl rfl)
theorem dX0_promises_134 : decode cX0_promises 134 = .ok (.istore 13, 2) := dk_54 13 (dk_at dksX0_promises_5 17 rfl rfl)
theorem dX0_promises_136 : decode cX0_promises 136 = .ok (.aload_n 0, 1) := dk_42 (dk_at dksX0_promises_5 19 rfl rfl)
theorem dX0_promises_137 : decode cX0_promises 137 = .ok (.getfield 146, 3) := dk_180 0 146 (dk_at dksX0_promises_5 20 rfl rfl)
theorem dX0_promises_140 : decode cX0_promises 140 = .ok (.bipush 12, 2) := dk_16 12 (dk_at dksX0_promises_6 0 rfl rfl)
theorem dX0_promises_142 : decode cX0_promises 142 = .ok (.if_icmp .eq 20, 3) := dk_159 0 20 (dk_at dksX0_promises_6 2 rfl rfl)
theorem dX0_promises_145 : decode cX0_promises 145 = .ok (.aload_n 0, 1) := dk_42 (dk_at dksX0_promises_6 5 rfl rfl)
theorem dX0_promises_146 : decode cX0_promises 146 = .ok (.iload 9, 2) := dk_21 9 (dk_at dksX0_promises_6 6 rfl rfl)
theorem dX0_promises_148 : decode cX0_promises 148 = .ok (.iload 10, 2) := dk_21 10 (dk_at dksX0_promises_6 8 rfl rfl)
theorem dX0_promises_150 : decode cX0_promises 150 = .ok (.iload 11, 2) := dk_21 11 (dk_at dksX0_promises_6 10 rfl rfl)
theorem dX0_promises_152 : decode cX0_promises 152 = .ok (.iload 12, 2) := dk_21 12 (dk_at dksX0_promises_6 12 rfl rfl)
theorem dX0_promises_154 : decode cX0_promises 154 = .ok (.iload 13, 2) := dk_21 13 (dk_at dksX0_promises_6 14 rfl rfl)
theorem dX0_promises_156 : decode cX0_promises 156 = .ok (.invokevirtual 174, 3) := dk_182 0 174 (dk_at dksX0_promises_6 16 rfl rfl)
theorem dX0_promises_159 : decode cX0_promises 159 = .ok (.ifCond .ne 8, 3) := dk_154 0 8 (dk_at dksX0_promises_6 19 rfl rfl)
theorem dX0_promises_162 : decode cX0_promises 162 = .ok (.aload_n 0, 1) := dk_42 (dk_at dksX0_promises_6 22 rfl rfl)
theorem dX0_promises_163 : decode cX0_promises 163 = .ok (.getfield 73, 3) := dk_180 0 73 (dk_at dksX0_promises_7 0 rfl rfl)
theorem dX0_promises_166 : decode cX0_promises 166 = .ok (.athrow, 1) := dk_191 (dk_at dksX0_promises_7 3 rfl rfl)
theorem dX0_promises_167 : decode cX0_promises 167 = .ok (.aload_n 0, 1) := dk_42 (dk_at dksX0_promises_7 4 rfl rfl)
theorem dX0_promises_168 : decode cX0_promises 168 = .ok (.iload 9, 2) := dk_21 9 (dk_at dksX0_promises_7 5 rfl rfl)
theorem dX0_promises_170 : decode cX0_promises 170 = .ok (.iload 10, 2) := dk_21 10 (dk_at dksX0_promises_7 7 rfl rfl)
theorem dX0_promises_172 : decode cX0_promises 172 = .ok (.iload 11, 2) := dk_21 11 (dk_at dksX0_promises_7 9 rfl rfl)
theorem dX0_promises_174 : decode cX0_promises 174 = .ok (.iload 12, 2) := dk_21 12 (dk_at dksX0_promises_7 11 rfl rfl)
theorem dX0_promises_176 : decode cX0_promises 176 = .ok (.iload 13, 2) := dk_21 13 (dk_at dksX0_promises_7 13 rfl rfl)
theorem dX0_promises_178 : decode cX0_promises 178 = .ok (.invokevirtual 178, 3) := dk_182 0 178 (dk_at dksX0_promises_7 15 rfl rfl)
theorem dX0_promises_181 : decode cX0_promises 181 = .ok (.pop, 1) := dk_87 (dk_at dksX0_promises_7 18 rfl rfl)
theorem dX0_promises_182 : decode cX0_promises 182 = .ok (.iinc 6 1, 3) := dk_132 6 1 (dk_at dksX0_promises_7 19 rfl rfl)
theorem dX0_promises_185 : decode cX0_promises 185 = .ok (.goto (-131), 3) := dk_167 255 125 (dk_at dksX0_promises_8 0 rfl rfl)
theorem dX0_promises_188 : decode cX0_promises 188 = .ok (.goto 14, 3) := dk_167 0 14 (dk_at dksX0_promises_8 3 rfl rfl)
theorem dX0_promises_191 : decode cX0_promises 191 = .ok (.astore 7, 2) := dk_58 7 (dk_at dksX0_promises_8 6 rfl rfl)
theorem dX0_promises_193 : decode cX0_promises 193 = .ok (.aload_n 0, 1) := dk_42 (dk_at dksX0_promises_8 8 rfl rfl)
theorem dX0_promises_194 : decode cX0_promises 194 = .ok (.getfield 146, 3) := dk_180 0 146 (dk_at dksX0_promises_8 9 rfl rfl)
theorem dX0_promises_197 : decode cX0_promises 197 = .ok (.iload 5, 2) := dk_21 5 (dk_at dksX0_promises_8 12 rfl rfl)
theorem dX0_promises_199 : decode cX0_promises 199 = .ok (.isub, 1) := dk_100 (dk_at dksX0_promises_8 14 rfl rfl)
theorem dX0_promises_200 : decode cX0_promises 200 = .ok (.istore 6, 2) := dk_54 6 (dk_at dksX0_promises_8 15 rfl rfl)
theorem dX0_promises_202 : decode cX0_promises 202 = .ok (.iload 6, 2) := dk_21 6 (dk_at dksX0_promises_8 17 rfl rfl)
theorem dX0_promises_204 : decode cX0_promises 204 = .ok (.ireturn, 1) := dk_172 (dk_at dksX0_promises_8 19 rfl rfl)
abbrev cX0_isShelf : ByteArray := prog_1_method_98_code
def yX0_isShelf : MethodName := ⟨RX0, "isShelf", "(I)Z"⟩
def dkwX0_isShelf_0 : List UInt8 := [26, 133, 9, 20, 0, 193, 184, 0, 121, 172]
abbrev dktX0_isShelf_0 : List UInt8 := dkwX0_isShelf_0 ++ []
theorem dksX0_isShelf_0 : cX0_isShelf.data.toList.drop 0 = dktX0_isShelf_0 := by decide +kernel
theorem dX0_isShelf_0 : decode cX0_isShelf 0 = .ok (.iload_n 0, 1) := dk_26 (dk_at dksX0_isShelf_0 0 rfl rfl)
theorem dX0_isShelf_1 : decode cX0_isShelf 1 = .ok (.i2l, 1) := dk_133 (dk_at dksX0_isShelf_0 1 rfl rfl)
theorem dX0_isShelf_2 : decode cX0_isShelf 2 = .ok (.lconst 0, 1) := dk_9 (dk_at dksX0_isShelf_0 2 rfl rfl)
theorem dX0_isShelf_3 : decode cX0_isShelf 3 = .ok (.ldc2_w 193, 3) := dk_20 0 193 (dk_at dksX0_isShelf_0 3 rfl rfl)
theorem dX0_isShelf_6 : decode cX0_isShelf 6 = .ok (.invokestatic 121, 3) := dk_184 0 121 (dk_at dksX0_isShelf_0 6 rfl rfl)
theorem dX0_isShelf_9 : decode cX0_isShelf 9 = .ok (.ireturn, 1) := dk_172 (dk_at dksX0_isShelf_0 9 rfl rfl)
abbrev cX0_sortOf : ByteArray := prog_1_method_101_code
def yX0_sortOf : MethodName := ⟨RX0, "sortOf", "(Ljava/lang/Object;)I"⟩
def dkwX0_sortOf_2 : List UInt8 := [193, 2, 43, 153, 0, 7, 7, 167, 0, 4, 2, 172]
abbrev dktX0_sortOf_2 : List UInt8 := dkwX0_sortOf_2 ++ []
def dkwX0_sortOf_1 : List UInt8 := [193, 2, 40, 153, 0, 7, 5, 167, 0, 26, 42, 193, 2, 41, 153, 0, 7, 6, 167, 0, 15, 42]
abbrev dktX0_sortOf_1 : List UInt8 := dkwX0_sortOf_1 ++ dktX0_sortOf_2
def dkwX0_sortOf_0 : List UInt8 := [42, 193, 0, 182, 153, 0, 7, 3, 167, 0, 48, 42, 193, 2, 38, 153, 0, 7, 4, 167, 0, 37, 42]
abbrev dktX0_sortOf_0 : List UInt8 := dkwX0_sortOf_0 ++ dktX0_sortOf_1
theorem dksX0_sortOf_0 : cX0_sortOf.data.toList.drop 0 = dktX0_sortOf_0 := by decide +kernel
theorem dksX0_sortOf_1 : cX0_sortOf.data.toList.drop 23 = dktX0_sortOf_1 := dk_seg dksX0_sortOf_0 23 rfl rfl
theorem dksX0_sortOf_2 : cX0_sortOf.data.toList.drop 45 = dktX0_sortOf_2 := dk_seg dksX0_sortOf_1 22 rfl rfl
theorem dX0_sortOf_0 : decode cX0_sortOf 0 = .ok (.aload_n 0, 1) := dk_42 (dk_at dksX0_sortOf_0 0 rfl rfl)
theorem dX0_sortOf_1 : decode cX0_sortOf 1 = .ok (.instanceof 182, 3) := dk_193 0 182 (dk_at dksX0_sortOf_0 1 rfl rfl)
theorem dX0_sortOf_4 : decode cX0_sortOf 4 = .ok (.ifCond .eq 7, 3) := dk_153 0 7 (dk_at dksX0_sortOf_0 4 rfl rfl)
theorem dX0_sortOf_7 : decode cX0_sortOf 7 = .ok (.iconst 0, 1) := dk_3 (dk_at dksX0_sortOf_0 7 rfl rfl)
theorem dX0_sortOf_8 : decode cX0_sortOf 8 = .ok (.goto 48, 3) := dk_167 0 48 (dk_at dksX0_sortOf_0 8 rfl rfl)
theorem dX0_sortOf_11 : decode cX0_sortOf 11 = .ok (.aload_n 0, 1) := dk_42 (dk_at dksX0_sortOf_0 11 rfl rfl)
theorem dX0_sortOf_12 : decode cX0_sortOf 12 = .ok (.instanceof 550, 3) := dk_193 2 38 (dk_at dksX0_sortOf_0 12 rfl rfl)
theorem dX0_sortOf_15 : decode cX0_sortOf 15 = .ok (.ifCond .eq 7, 3) := dk_153 0 7 (dk_at dksX0_sortOf_0 15 rfl rfl)
theorem dX0_sortOf_18 : decode cX0_sortOf 18 = .ok (.iconst 1, 1) := dk_4 (dk_at dksX0_sortOf_0 18 rfl rfl)
theorem dX0_sortOf_19 : decode cX0_sortOf 19 = .ok (.goto 37, 3) := dk_167 0 37 (dk_at dksX0_sortOf_0 19 rfl rfl)
theorem dX0_sortOf_22 : decode cX0_sortOf 22 = .ok (.aload_n 0, 1) := dk_42 (dk_at dksX0_sortOf_0 22 rfl rfl)
theorem dX0_sortOf_23 : decode cX0_sortOf 23 = .ok (.instanceof 552, 3) := dk_193 2 40 (dk_at dksX0_sortOf_1 0 rfl rfl)
theorem dX0_sortOf_26 : decode cX0_sortOf 26 = .ok (.ifCond .eq 7, 3) := dk_153 0 7 (dk_at dksX0_sortOf_1 3 rfl rfl)
theorem dX0_sortOf_29 : decode cX0_sortOf 29 = .ok (.iconst 2, 1) := dk_5 (dk_at dksX0_sortOf_1 6 rfl rfl)
theorem dX0_sortOf_30 : decode cX0_sortOf 30 = .ok (.goto 26, 3) := dk_167 0 26 (dk_at dksX0_sortOf_1 7 rfl rfl)
theorem dX0_sortOf_33 : decode cX0_sortOf 33 = .ok (.aload_n 0, 1) := dk_42 (dk_at dksX0_sortOf_1 10 rfl rfl)
theorem dX0_sortOf_34 : decode cX0_sortOf 34 = .ok (.instanceof 553, 3) := dk_193 2 41 (dk_at dksX0_sortOf_1 11 rfl rfl)
theorem dX0_sortOf_37 : decode cX0_sortOf 37 = .ok (.ifCond .eq 7, 3) := dk_153 0 7 (dk_at dksX0_sortOf_1 14 rfl rfl)
theorem dX0_sortOf_40 : decode cX0_sortOf 40 = .ok (.iconst 3, 1) := dk_6 (dk_at dksX0_sortOf_1 17 rfl rfl)
theorem dX0_sortOf_41 : decode cX0_sortOf 41 = .ok (.goto 15, 3) := dk_167 0 15 (dk_at dksX0_sortOf_1 18 rfl rfl)
theorem dX0_sortOf_44 : decode cX0_sortOf 44 = .ok (.aload_n 0, 1) := dk_42 (dk_at dksX0_sortOf_1 21 rfl rfl)
theorem dX0_sortOf_45 : decode cX0_sortOf 45 = .ok (.instanceof 555, 3) := dk_193 2 43 (dk_at dksX0_sortOf_2 0 rfl rfl)
theorem dX0_sortOf_48 : decode cX0_sortOf 48 = .ok (.ifCond .eq 7, 3) := dk_153 0 7 (dk_at dksX0_sortOf_2 3 rfl rfl)
theorem dX0_sortOf_51 : decode cX0_sortOf 51 = .ok (.iconst 4, 1) := dk_7 (dk_at dksX0_sortOf_2 6 rfl rfl)
theorem dX0_sortOf_52 : decode cX0_sortOf 52 = .ok (.goto 4, 3) := dk_167 0 4 (dk_at dksX0_sortOf_2 7 rfl rfl)
theorem dX0_sortOf_55 : decode cX0_sortOf 55 = .ok (.iconst (-1), 1) := dk_2 (dk_at dksX0_sortOf_2 10 rfl rfl)
theorem dX0_sortOf_56 : decode cX0_sortOf 56 = .ok (.ireturn, 1) := dk_172 (dk_at dksX0_sortOf_2 11 rfl rfl)
abbrev cX0_toldIn : ByteArray := prog_1_method_23_code
def yX0_toldIn : MethodName := ⟨RX0, "toldIn", "(Ljava/lang/Object;J)I"⟩
def dkwX0_toldIn_1 : List UInt8 := [180, 0, 73, 191, 43, 192, 0, 182, 32, 136, 51, 172]
abbrev dktX0_toldIn_1 : List UInt8 := dkwX0_toldIn_1 ++ []
def dkwX0_toldIn_0 : List UInt8 := [43, 198, 0, 20, 32, 9, 148, 155, 0, 14, 32, 43, 192, 0, 182, 190, 133, 148, 155, 0, 8, 42]
abbrev dktX0_toldIn_0 : List UInt8 := dkwX0_toldIn_0 ++ dktX0_toldIn_1
theorem dksX0_toldIn_0 : cX0_toldIn.data.toList.drop 0 = dktX0_toldIn_0 := by decide +kernel
theorem dksX0_toldIn_1 : cX0_toldIn.data.toList.drop 22 = dktX0_toldIn_1 := dk_seg dksX0_toldIn_0 22 rfl rfl
theorem dX0_toldIn_0 : decode cX0_toldIn 0 = .ok (.aload_n 1, 1) := dk_43 (dk_at dksX0_toldIn_0 0 rfl rfl)
theorem dX0_toldIn_1 : decode cX0_toldIn 1 = .ok (.ifnull 20, 3) := dk_198 0 20 (dk_at dksX0_toldIn_0 1 rfl rfl)
theorem dX0_toldIn_4 : decode cX0_toldIn 4 = .ok (.lload_n 2, 1) := dk_32 (dk_at dksX0_toldIn_0 4 rfl rfl)
theorem dX0_toldIn_5 : decode cX0_toldIn 5 = .ok (.lconst 0, 1) := dk_9 (dk_at dksX0_toldIn_0 5 rfl rfl)
theorem dX0_toldIn_6 : decode cX0_toldIn 6 = .ok (.lcmp, 1) := dk_148 (dk_at dksX0_toldIn_0 6 rfl rfl)
theorem dX0_toldIn_7 : decode cX0_toldIn 7 = .ok (.ifCond .lt 14, 3) := dk_155 0 14 (dk_at dksX0_toldIn_0 7 rfl rfl)
theorem dX0_toldIn_10 : decode cX0_toldIn 10 = .ok (.lload_n 2, 1) := dk_32 (dk_at dksX0_toldIn_0 10 rfl rfl)
theorem dX0_toldIn_11 : decode cX0_toldIn 11 = .ok (.aload_n 1, 1) := dk_43 (dk_at dksX0_toldIn_0 11 rfl rfl)
theorem dX0_toldIn_12 : decode cX0_toldIn 12 = .ok (.checkcast 182, 3) := dk_192 0 182 (dk_at dksX0_toldIn_0 12 rfl rfl)
theorem dX0_toldIn_15 : decode cX0_toldIn 15 = .ok (.arraylength, 1) := dk_190 (dk_at dksX0_toldIn_0 15 rfl rfl)
theorem dX0_toldIn_16 : decode cX0_toldIn 16 = .ok (.i2l, 1) := dk_133 (dk_at dksX0_toldIn_0 16 rfl rfl)
theorem dX0_toldIn_17 : decode cX0_toldIn 17 = .ok (.lcmp, 1) := dk_148 (dk_at dksX0_toldIn_0 17 rfl rfl)
theorem dX0_toldIn_18 : decode cX0_toldIn 18 = .ok (.ifCond .lt 8, 3) := dk_155 0 8 (dk_at dksX0_toldIn_0 18 rfl rfl)
theorem dX0_toldIn_21 : decode cX0_toldIn 21 = .ok (.aload_n 0, 1) := dk_42 (dk_at dksX0_toldIn_0 21 rfl rfl)
theorem dX0_toldIn_22 : decode cX0_toldIn 22 = .ok (.getfield 73, 3) := dk_180 0 73 (dk_at dksX0_toldIn_1 0 rfl rfl)
theorem dX0_toldIn_25 : decode cX0_toldIn 25 = .ok (.athrow, 1) := dk_191 (dk_at dksX0_toldIn_1 3 rfl rfl)
theorem dX0_toldIn_26 : decode cX0_toldIn 26 = .ok (.aload_n 1, 1) := dk_43 (dk_at dksX0_toldIn_1 4 rfl rfl)
theorem dX0_toldIn_27 : decode cX0_toldIn 27 = .ok (.checkcast 182, 3) := dk_192 0 182 (dk_at dksX0_toldIn_1 5 rfl rfl)
theorem dX0_toldIn_30 : decode cX0_toldIn 30 = .ok (.lload_n 2, 1) := dk_32 (dk_at dksX0_toldIn_1 8 rfl rfl)
theorem dX0_toldIn_31 : decode cX0_toldIn 31 = .ok (.l2i, 1) := dk_136 (dk_at dksX0_toldIn_1 9 rfl rfl)
theorem dX0_toldIn_32 : decode cX0_toldIn 32 = .ok (.baload, 1) := dk_51 (dk_at dksX0_toldIn_1 10 rfl rfl)
theorem dX0_toldIn_33 : decode cX0_toldIn 33 = .ok (.ireturn, 1) := dk_172 (dk_at dksX0_toldIn_1 11 rfl rfl)
abbrev cX0_mend : ByteArray := prog_1_method_27_code
def yX0_mend : MethodName := ⟨RX0, "mend", "(III)I"⟩
def dkwX0_mend_1 : List UInt8 := [29, 182, 0, 225, 167, 0, 4, 2, 172]
abbrev dktX0_mend_1 : List UInt8 := dkwX0_mend_1 ++ []
def dkwX0_mend_0 : List UInt8 := [42, 27, 28, 182, 0, 217, 58, 4, 25, 4, 198, 0, 21, 28, 29, 184, 0, 221, 153, 0, 13, 42, 25, 4]
abbrev dktX0_mend_0 : List UInt8 := dkwX0_mend_0 ++ dktX0_mend_1
theorem dksX0_mend_0 : cX0_mend.data.toList.drop 0 = dktX0_mend_0 := by decide +kernel
theorem dksX0_mend_1 : cX0_mend.data.toList.drop 24 = dktX0_mend_1 := dk_seg dksX0_mend_0 24 rfl rfl
theorem dX0_mend_0 : decode cX0_mend 0 = .ok (.aload_n 0, 1) := dk_42 (dk_at dksX0_mend_0 0 rfl rfl)
theorem dX0_mend_1 : decode cX0_mend 1 = .ok (.iload_n 1, 1) := dk_27 (dk_at dksX0_mend_0 1 rfl rfl)
theorem dX0_mend_2 : decode cX0_mend 2 = .ok (.iload_n 2, 1) := dk_28 (dk_at dksX0_mend_0 2 rfl rfl)
theorem dX0_mend_3 : decode cX0_mend 3 = .ok (.invokevirtual 217, 3) := dk_182 0 217 (dk_at dksX0_mend_0 3 rfl rfl)
theorem dX0_mend_6 : decode cX0_mend 6 = .ok (.astore 4, 2) := dk_58 4 (dk_at dksX0_mend_0 6 rfl rfl)
theorem dX0_mend_8 : decode cX0_mend 8 = .ok (.aload 4, 2) := dk_25 4 (dk_at dksX0_mend_0 8 rfl rfl)
theorem dX0_mend_10 : decode cX0_mend 10 = .ok (.ifnull 21, 3) := dk_198 0 21 (dk_at dksX0_mend_0 10 rfl rfl)
theorem dX0_mend_13 : decode cX0_mend 13 = .ok (.iload_n 2, 1) := dk_28 (dk_at dksX0_mend_0 13 rfl rfl)
theorem dX0_mend_14 : decode cX0_mend 14 = .ok (.iload_n 3, 1) := dk_29 (dk_at dksX0_mend_0 14 rfl rfl)
theorem dX0_mend_15 : decode cX0_mend 15 = .ok (.invokestatic 221, 3) := dk_184 0 221 (dk_at dksX0_mend_0 15 rfl rfl)
theorem dX0_mend_18 : decode cX0_mend 18 = .ok (.ifCond .eq 13, 3) := dk_153 0 13 (dk_at dksX0_mend_0 18 rfl rfl)
theorem dX0_mend_21 : decode cX0_mend 21 = .ok (.aload_n 0, 1) := dk_42 (dk_at dksX0_mend_0 21 rfl rfl)
theorem dX0_mend_22 : decode cX0_mend 22 = .ok (.aload 4, 2) := dk_25 4 (dk_at dksX0_mend_0 22 rfl rfl)
theorem dX0_mend_24 : decode cX0_mend 24 = .ok (.iload_n 3, 1) := dk_29 (dk_at dksX0_mend_1 0 rfl rfl)
theorem dX0_mend_25 : decode cX0_mend 25 = .ok (.invokevirtual 225, 3) := dk_182 0 225 (dk_at dksX0_mend_1 1 rfl rfl)
theorem dX0_mend_28 : decode cX0_mend 28 = .ok (.goto 4, 3) := dk_167 0 4 (dk_at dksX0_mend_1 4 rfl rfl)
theorem dX0_mend_31 : decode cX0_mend 31 = .ok (.iconst (-1), 1) := dk_2 (dk_at dksX0_mend_1 7 rfl rfl)
theorem dX0_mend_32 : decode cX0_mend 32 = .ok (.ireturn, 1) := dk_172 (dk_at dksX0_mend_1 8 rfl rfl)
abbrev cX0_numberOf : ByteArray := prog_1_method_25_code
def yX0_numberOf : MethodName := ⟨RX0, "numberOf", "(II)LNailedByWord$Held;"⟩
def dkwX0_numberOf_6 : List UInt8 := [176, 1, 176]
abbrev dktX0_numberOf_6 : List UInt8 := dkwX0_numberOf_6 ++ []
def dkwX0_numberOf_5 : List UInt8 := [154, 0, 10, 42, 180, 0, 64, 167, 0, 4, 1, 176, 27, 154, 0, 10, 42, 180, 0, 67, 167, 0, 4, 1]
abbrev dktX0_numberOf_5 : List UInt8 := dkwX0_numberOf_5 ++ dktX0_numberOf_6
def dkwX0_numberOf_4 : List UInt8 := [27, 133, 182, 0, 160, 153, 0, 15, 42, 180, 0, 50, 27, 50, 180, 0, 214, 167, 0, 4, 1, 176, 27]
abbrev dktX0_numberOf_4 : List UInt8 := dkwX0_numberOf_4 ++ dktX0_numberOf_5
def dkwX0_numberOf_3 : List UInt8 := [42, 27, 133, 182, 0, 160, 153, 0, 15, 42, 180, 0, 50, 27, 50, 180, 0, 171, 167, 0, 4, 1, 176, 42]
abbrev dktX0_numberOf_3 : List UInt8 := dkwX0_numberOf_3 ++ dktX0_numberOf_4
def dkwX0_numberOf_2 : List UInt8 := [170, 0, 0, 0, 0, 126, 0, 0, 0, 0, 0, 0, 0, 9, 0, 0, 0, 54, 0, 0, 0, 77, 0, 0, 0, 126, 0, 0, 0, 126, 0, 0, 0, 126, 0, 0, 0, 126, 0, 0, 0, 126, 0, 0, 0, 126, 0, 0, 0, 100, 0, 0, 0, 113]
abbrev dktX0_numberOf_2 : List UInt8 := dkwX0_numberOf_2 ++ dktX0_numberOf_3
def dkwX0_numberOf_1 : List UInt8 := [180, 0, 56, 27, 50, 180, 0, 210, 28, 5, 100, 50, 167, 0, 4, 1, 176, 28]
abbrev dktX0_numberOf_1 : List UInt8 := dkwX0_numberOf_1 ++ dktX0_numberOf_2
def dkwX0_numberOf_0 : List UInt8 := [28, 133, 20, 0, 199, 20, 0, 205, 184, 0, 121, 153, 0, 30, 42, 27, 133, 182, 0, 207, 153, 0, 19, 42]
abbrev dktX0_numberOf_0 : List UInt8 := dkwX0_numberOf_0 ++ dktX0_numberOf_1
theorem dksX0_numberOf_0 : cX0_numberOf.data.toList.drop 0 = dktX0_numberOf_0 := by decide +kernel
theorem dksX0_numberOf_1 : cX0_numberOf.data.toList.drop 24 = dktX0_numberOf_1 := dk_seg dksX0_numberOf_0 24 rfl rfl
theorem dksX0_numberOf_2 : cX0_numberOf.data.toList.drop 42 = dktX0_numberOf_2 := dk_seg dksX0_numberOf_1 18 rfl rfl
theorem dksX0_numberOf_3 : cX0_numberOf.data.toList.drop 96 = dktX0_numberOf_3 := dk_seg dksX0_numberOf_2 54 rfl rfl
theorem dksX0_numberOf_4 : cX0_numberOf.data.toList.drop 120 = dktX0_numberOf_4 := dk_seg dksX0_numberOf_3 24 rfl rfl
theorem dksX0_numberOf_5 : cX0_numberOf.data.toList.drop 143 = dktX0_numberOf_5 := dk_seg dksX0_numberOf_4 23 rfl rfl
theorem dksX0_numberOf_6 : cX0_numberOf.data.toList.drop 167 = dktX0_numberOf_6 := dk_seg dksX0_numberOf_5 24 rfl rfl
theorem dX0_numberOf_0 : decode cX0_numberOf 0 = .ok (.iload_n 2, 1) := dk_28 (dk_at dksX0_numberOf_0 0 rfl rfl)
theorem dX0_numberOf_1 : decode cX0_numberOf 1 = .ok (.i2l, 1) := dk_133 (dk_at dksX0_numberOf_0 1 rfl rfl)
theorem dX0_numberOf_2 : decode cX0_numberOf 2 = .ok (.ldc2_w 199, 3) := dk_20 0 199 (dk_at dksX0_numberOf_0 2 rfl rfl)
theorem dX0_numberOf_5 : decode cX0_numberOf 5 = .ok (.ldc2_w 205, 3) := dk_20 0 205 (dk_at dksX0_numberOf_0 5 rfl rfl)
theorem dX0_numberOf_8 : decode cX0_numberOf 8 = .ok (.invokestatic 121, 3) := dk_184 0 121 (dk_at dksX0_numberOf_0 8 rfl rfl)
theorem dX0_numberOf_11 : decode cX0_numberOf 11 = .ok (.ifCond .eq 30, 3) := dk_153 0 30 (dk_at dksX0_numberOf_0 11 rfl rfl)
theorem dX0_numberOf_14 : decode cX0_numberOf 14 = .ok (.aload_n 0, 1) := dk_42 (dk_at dksX0_numberOf_0 14 rfl rfl)
theorem dX0_numberOf_15 : decode cX0_numberOf 15 = .ok (.iload_n 1, 1) := dk_27 (dk_at dksX0_numberOf_0 15 rfl rfl)
theorem dX0_numberOf_16 : decode cX0_numberOf 16 = .ok (.i2l, 1) := dk_133 (dk_at dksX0_numberOf_0 16 rfl rfl)
theorem dX0_numberOf_17 : decode cX0_numberOf 17 = .ok (.invokevirtual 207, 3) := dk_182 0 207 (dk_at dksX0_numberOf_0 17 rfl rfl)
theorem dX0_numberOf_20 : decode cX0_numberOf 20 = .ok (.ifCond .eq 19, 3) := dk_153 0 19 (dk_at dksX0_numberOf_0 20 rfl rfl)
theorem dX0_numberOf_23 : decode cX0_numberOf 23 = .ok (.aload_n 0, 1) := dk_42 (dk_at dksX0_numberOf_0 23 rfl rfl)
theorem dX0_numberOf_24 : decode cX0_numberOf 24 = .ok (.getfield 56, 3) := dk_180 0 56 (dk_at dksX0_numberOf_1 0 rfl rfl)
theorem dX0_numberOf_27 : decode cX0_numberOf 27 = .ok (.iload_n 1, 1) := dk_27 (dk_at dksX0_numberOf_1 3 rfl rfl)
theorem dX0_numberOf_28 : decode cX0_numberOf 28 = .ok (.aaload, 1) := dk_50 (dk_at dksX0_numberOf_1 4 rfl rfl)
theorem dX0_numberOf_29 : decode cX0_numberOf 29 = .ok (.getfield 210, 3) := dk_180 0 210 (dk_at dksX0_numberOf_1 5 rfl rfl)
theorem dX0_numberOf_32 : decode cX0_numberOf 32 = .ok (.iload_n 2, 1) := dk_28 (dk_at dksX0_numberOf_1 8 rfl rfl)
theorem dX0_numberOf_33 : decode cX0_numberOf 33 = .ok (.iconst 2, 1) := dk_5 (dk_at dksX0_numberOf_1 9 rfl rfl)
theorem dX0_numberOf_34 : decode cX0_numberOf 34 = .ok (.isub, 1) := dk_100 (dk_at dksX0_numberOf_1 10 rfl rfl)
theorem dX0_numberOf_35 : decode cX0_numberOf 35 = .ok (.aaload, 1) := dk_50 (dk_at dksX0_numberOf_1 11 rfl rfl)
theorem dX0_numberOf_36 : decode cX0_numberOf 36 = .ok (.goto 4, 3) := dk_167 0 4 (dk_at dksX0_numberOf_1 12 rfl rfl)
theorem dX0_numberOf_39 : decode cX0_numberOf 39 = .ok (.aconst_null, 1) := dk_1 (dk_at dksX0_numberOf_1 15 rfl rfl)
theorem dX0_numberOf_40 : decode cX0_numberOf 40 = .ok (.areturn, 1) := dk_176 (dk_at dksX0_numberOf_1 16 rfl rfl)
theorem dX0_numberOf_41 : decode cX0_numberOf 41 = .ok (.iload_n 2, 1) := dk_28 (dk_at dksX0_numberOf_1 17 rfl rfl)
theorem dX0_numberOf_42 : decode cX0_numberOf 42 = .ok (.tableswitch 126 0 9 #[54, 77, 126, 126, 126, 126, 126, 126, 100, 113], 54) := by decide +kernel
theorem dX0_numberOf_96 : decode cX0_numberOf 96 = .ok (.aload_n 0, 1) := dk_42 (dk_at dksX0_numberOf_3 0 rfl rfl)
theorem dX0_numberOf_97 : decode cX0_numberOf 97 = .ok (.iload_n 1, 1) := dk_27 (dk_at dksX0_numberOf_3 1 rfl rfl)
theorem dX0_numberOf_98 : decode cX0_numberOf 98 = .ok (.i2l, 1) := dk_133 (dk_at dksX0_numberOf_3 2 rfl rfl)
theorem dX0_numberOf_99 : decode cX0_numberOf 99 = .ok (.invokevirtual 160, 3) := dk_182 0 160 (dk_at dksX0_numberOf_3 3 rfl rfl)
theorem dX0_numberOf_102 : decode cX0_numberOf 102 = .ok (.ifCond .eq 15, 3) := dk_153 0 15 (dk_at dksX0_numberOf_3 6 rfl rfl)
theorem dX0_numberOf_105 : decode cX0_numberOf 105 = .ok (.aload_n 0, 1) := dk_42 (dk_at dksX0_numberOf_3 9 rfl rfl)
theorem dX0_numberOf_106 : decode cX0_numberOf 106 = .ok (.getfield 50, 3) := dk_180 0 50 (dk_at dksX0_numberOf_3 10 rfl rfl)
theorem dX0_numberOf_109 : decode cX0_numberOf 109 = .ok (.iload_n 1, 1) := dk_27 (dk_at dksX0_numberOf_3 13 rfl rfl)
theorem dX0_numberOf_110 : decode cX0_numberOf 110 = .ok (.aaload, 1) := dk_50 (dk_at dksX0_numberOf_3 14 rfl rfl)
theorem dX0_numberOf_111 : decode cX0_numberOf 111 = .ok (.getfield 171, 3) := dk_180 0 171 (dk_at dksX0_numberOf_3 15 rfl rfl)
theorem dX0_numberOf_114 : decode cX0_numberOf 114 = .ok (.goto 4, 3) := dk_167 0 4 (dk_at dksX0_numberOf_3 18 rfl rfl)
theorem dX0_numberOf_117 : decode cX0_numberOf 117 = .ok (.aconst_null, 1) := dk_1 (dk_at dksX0_numberOf_3 21 rfl rfl)
theorem dX0_numberOf_118 : decode cX0_numberOf 118 = .ok (.areturn, 1) := dk_176 (dk_at dksX0_numberOf_3 22 rfl rfl)
theorem dX0_numberOf_119 : decode cX0_numberOf 119 = .ok (.aload_n 0, 1) := dk_42 (dk_at dksX0_numberOf_3 23 rfl rfl)
theorem dX0_numberOf_120 : decode cX0_numberOf 120 = .ok (.iload_n 1, 1) := dk_27 (dk_at dksX0_numberOf_4 0 rfl rfl)
theorem dX0_numberOf_121 : decode cX0_numberOf 121 = .ok (.i2l, 1) := dk_133 (dk_at dksX0_numberOf_4 1 rfl rfl)
theorem dX0_numberOf_122 : decode cX0_numberOf 122 = .ok (.invokevirtual 160, 3) := dk_182 0 160 (dk_at dksX0_numberOf_4 2 rfl rfl)
theorem dX0_numberOf_125 : decode cX0_numberOf 125 = .ok (.ifCond .eq 15, 3) := dk_153 0 15 (dk_at dksX0_numberOf_4 5 rfl rfl)
theorem dX0_numberOf_128 : decode cX0_numberOf 128 = .ok (.aload_n 0, 1) := dk_42 (dk_at dksX0_numberOf_4 8 rfl rfl)
theorem dX0_numberOf_129 : decode cX0_numberOf 129 = .ok (.getfield 50, 3) := dk_180 0 50 (dk_at dksX0_numberOf_4 9 rfl rfl)
theorem dX0_numberOf_132 : decode cX0_numberOf 132 = .ok (.iload_n 1, 1) := dk_27 (dk_at dksX0_numberOf_4 12 rfl rfl)
theorem dX0_numberOf_133 : decode cX0_numberOf 133 = .ok (.aaload, 1) := dk_50 (dk_at dksX0_numberOf_4 13 rfl rfl)
theorem dX0_numberOf_134 : decode cX0_numberOf 134 = .ok (.getfield 214, 3) := dk_180 0 214 (dk_at dksX0_numberOf_4 14 rfl rfl)
theorem dX0_numberOf_137 : decode cX0_numberOf 137 = .ok (.goto 4, 3) := dk_167 0 4 (dk_at dksX0_numberOf_4 17 rfl rfl)
theorem dX0_numberOf_140 : decode cX0_numberOf 140 = .ok (.aconst_null, 1) := dk_1 (dk_at dksX0_numberOf_4 20 rfl rfl)
theorem dX0_numberOf_141 : decode cX0_numberOf 141 = .ok (.areturn, 1) := dk_176 (dk_at dksX0_numberOf_4 21 rfl rfl)
theorem dX0_numberOf_142 : decode cX0_numberOf 142 = .ok (.iload_n 1, 1) := dk_27 (dk_at dksX0_numberOf_4 22 rfl rfl)
theorem dX0_numberOf_143 : decode cX0_numberOf 143 = .ok (.ifCond .ne 10, 3) := dk_154 0 10 (dk_at dksX0_numberOf_5 0 rfl rfl)
theorem dX0_numberOf_146 : decode cX0_numberOf 146 = .ok (.aload_n 0, 1) := dk_42 (dk_at dksX0_numberOf_5 3 rfl rfl)
theorem dX0_numberOf_147 : decode cX0_numberOf 147 = .ok (.getfield 64, 3) := dk_180 0 64 (dk_at dksX0_numberOf_5 4 rfl rfl)
theorem dX0_numberOf_150 : decode cX0_numberOf 150 = .ok (.goto 4, 3) := dk_167 0 4 (dk_at dksX0_numberOf_5 7 rfl rfl)
theorem dX0_numberOf_153 : decode cX0_numberOf 153 = .ok (.aconst_null, 1) := dk_1 (dk_at dksX0_numberOf_5 10 rfl rfl)
theorem dX0_numberOf_154 : decode cX0_numberOf 154 = .ok (.areturn, 1) := dk_176 (dk_at dksX0_numberOf_5 11 rfl rfl)
theorem dX0_numberOf_155 : decode cX0_numberOf 155 = .ok (.iload_n 1, 1) := dk_27 (dk_at dksX0_numberOf_5 12 rfl rfl)
theorem dX0_numberOf_156 : decode cX0_numberOf 156 = .ok (.ifCond .ne 10, 3) := dk_154 0 10 (dk_at dksX0_numberOf_5 13 rfl rfl)
theorem dX0_numberOf_159 : decode cX0_numberOf 159 = .ok (.aload_n 0, 1) := dk_42 (dk_at dksX0_numberOf_5 16 rfl rfl)
theorem dX0_numberOf_160 : decode cX0_numberOf 160 = .ok (.getfield 67, 3) := dk_180 0 67 (dk_at dksX0_numberOf_5 17 rfl rfl)
theorem dX0_numberOf_163 : decode cX0_numberOf 163 = .ok (.goto 4, 3) := dk_167 0 4 (dk_at dksX0_numberOf_5 20 rfl rfl)
theorem dX0_numberOf_166 : decode cX0_numberOf 166 = .ok (.aconst_null, 1) := dk_1 (dk_at dksX0_numberOf_5 23 rfl rfl)
theorem dX0_numberOf_167 : decode cX0_numberOf 167 = .ok (.areturn, 1) := dk_176 (dk_at dksX0_numberOf_6 0 rfl rfl)
theorem dX0_numberOf_168 : decode cX0_numberOf 168 = .ok (.aconst_null, 1) := dk_1 (dk_at dksX0_numberOf_6 1 rfl rfl)
theorem dX0_numberOf_169 : decode cX0_numberOf 169 = .ok (.areturn, 1) := dk_176 (dk_at dksX0_numberOf_6 2 rfl rfl)
abbrev cX0_isPromise : ByteArray := prog_1_method_16_code
def yX0_isPromise : MethodName := ⟨RX0, "isPromise", "(J)Z"⟩
def dkwX0_isPromise_0 : List UInt8 := [31, 9, 42, 180, 0, 146, 4, 100, 133, 184, 0, 121, 172]
abbrev dktX0_isPromise_0 : List UInt8 := dkwX0_isPromise_0 ++ []
theorem dksX0_isPromise_0 : cX0_isPromise.data.toList.drop 0 = dktX0_isPromise_0 := by decide +kernel
theorem dX0_isPromise_0 : decode cX0_isPromise 0 = .ok (.lload_n 1, 1) := dk_31 (dk_at dksX0_isPromise_0 0 rfl rfl)
theorem dX0_isPromise_1 : decode cX0_isPromise 1 = .ok (.lconst 0, 1) := dk_9 (dk_at dksX0_isPromise_0 1 rfl rfl)
theorem dX0_isPromise_2 : decode cX0_isPromise 2 = .ok (.aload_n 0, 1) := dk_42 (dk_at dksX0_isPromise_0 2 rfl rfl)
theorem dX0_isPromise_3 : decode cX0_isPromise 3 = .ok (.getfield 146, 3) := dk_180 0 146 (dk_at dksX0_isPromise_0 3 rfl rfl)
theorem dX0_isPromise_6 : decode cX0_isPromise 6 = .ok (.iconst 1, 1) := dk_4 (dk_at dksX0_isPromise_0 6 rfl rfl)
theorem dX0_isPromise_7 : decode cX0_isPromise 7 = .ok (.isub, 1) := dk_100 (dk_at dksX0_isPromise_0 7 rfl rfl)
theorem dX0_isPromise_8 : decode cX0_isPromise 8 = .ok (.i2l, 1) := dk_133 (dk_at dksX0_isPromise_0 8 rfl rfl)
theorem dX0_isPromise_9 : decode cX0_isPromise 9 = .ok (.invokestatic 121, 3) := dk_184 0 121 (dk_at dksX0_isPromise_0 9 rfl rfl)
theorem dX0_isPromise_12 : decode cX0_isPromise 12 = .ok (.ireturn, 1) := dk_172 (dk_at dksX0_isPromise_0 12 rfl rfl)
abbrev cX0_mayBecome : ByteArray := prog_1_method_26_code
def yX0_mayBecome : MethodName := ⟨RX0, "mayBecome", "(II)Z"⟩
def dkwX0_mayBecome_3 : List UInt8 := [27, 133, 9, 20, 0, 163, 184, 0, 121, 172, 27, 133, 184, 0, 165, 172]
abbrev dktX0_mayBecome_3 : List UInt8 := dkwX0_mayBecome_3 ++ []
def dkwX0_mayBecome_2 : List UInt8 := [27, 133, 184, 0, 153, 172, 27, 133, 9, 10, 184, 0, 121, 172, 27, 133, 10, 20, 0, 163, 184, 0, 121, 172]
abbrev dktX0_mayBecome_2 : List UInt8 := dkwX0_mayBecome_2 ++ dktX0_mayBecome_3
def dkwX0_mayBecome_1 : List UInt8 := [170, 0, 0, 0, 0, 0, 85, 0, 0, 0, 0, 0, 0, 0, 8, 0, 0, 0, 51, 0, 0, 0, 75, 0, 0, 0, 51, 0, 0, 0, 75, 0, 0, 0, 85, 0, 0, 0, 85, 0, 0, 0, 57, 0, 0, 0, 57, 0, 0, 0, 65]
abbrev dktX0_mayBecome_1 : List UInt8 := dkwX0_mayBecome_1 ++ dktX0_mayBecome_2
def dkwX0_mayBecome_0 : List UInt8 := [26]
abbrev dktX0_mayBecome_0 : List UInt8 := dkwX0_mayBecome_0 ++ dktX0_mayBecome_1
theorem dksX0_mayBecome_0 : cX0_mayBecome.data.toList.drop 0 = dktX0_mayBecome_0 := by decide +kernel
theorem dksX0_mayBecome_1 : cX0_mayBecome.data.toList.drop 1 = dktX0_mayBecome_1 := dk_seg dksX0_mayBecome_0 1 rfl rfl
theorem dksX0_mayBecome_2 : cX0_mayBecome.data.toList.drop 52 = dktX0_mayBecome_2 := dk_seg dksX0_mayBecome_1 51 rfl rfl
theorem dksX0_mayBecome_3 : cX0_mayBecome.data.toList.drop 76 = dktX0_mayBecome_3 := dk_seg dksX0_mayBecome_2 24 rfl rfl
theorem dX0_mayBecome_0 : decode cX0_mayBecome 0 = .ok (.iload_n 0, 1) := dk_26 (dk_at dksX0_mayBecome_0 0 rfl rfl)
theorem dX0_mayBecome_1 : decode cX0_mayBecome 1 = .ok (.tableswitch 85 0 8 #[51, 75, 51, 75, 85, 85, 57, 57, 65], 51) := by decide +kernel
theorem dX0_mayBecome_52 : decode cX0_mayBecome 52 = .ok (.iload_n 1, 1) := dk_27 (dk_at dksX0_mayBecome_2 0 rfl rfl)
theorem dX0_mayBecome_53 : decode cX0_mayBecome 53 = .ok (.i2l, 1) := dk_133 (dk_at dksX0_mayBecome_2 1 rfl rfl)
theorem dX0_mayBecome_54 : decode cX0_mayBecome 54 = .ok (.invokestatic 153, 3) := dk_184 0 153 (dk_at dksX0_mayBecome_2 2 rfl rfl)
theorem dX0_mayBecome_57 : decode cX0_mayBecome 57 = .ok (.ireturn, 1) := dk_172 (dk_at dksX0_mayBecome_2 5 rfl rfl)
theorem dX0_mayBecome_58 : decode cX0_mayBecome 58 = .ok (.iload_n 1, 1) := dk_27 (dk_at dksX0_mayBecome_2 6 rfl rfl)
theorem dX0_mayBecome_59 : decode cX0_mayBecome 59 = .ok (.i2l, 1) := dk_133 (dk_at dksX0_mayBecome_2 7 rfl rfl)
theorem dX0_mayBecome_60 : decode cX0_mayBecome 60 = .ok (.lconst 0, 1) := dk_9 (dk_at dksX0_mayBecome_2 8 rfl rfl)
theorem dX0_mayBecome_61 : decode cX0_mayBecome 61 = .ok (.lconst 1, 1) := dk_10 (dk_at dksX0_mayBecome_2 9 rfl rfl)
theorem dX0_mayBecome_62 : decode cX0_mayBecome 62 = .ok (.invokestatic 121, 3) := dk_184 0 121 (dk_at dksX0_mayBecome_2 10 rfl rfl)
theorem dX0_mayBecome_65 : decode cX0_mayBecome 65 = .ok (.ireturn, 1) := dk_172 (dk_at dksX0_mayBecome_2 13 rfl rfl)
theorem dX0_mayBecome_66 : decode cX0_mayBecome 66 = .ok (.iload_n 1, 1) := dk_27 (dk_at dksX0_mayBecome_2 14 rfl rfl)
theorem dX0_mayBecome_67 : decode cX0_mayBecome 67 = .ok (.i2l, 1) := dk_133 (dk_at dksX0_mayBecome_2 15 rfl rfl)
theorem dX0_mayBecome_68 : decode cX0_mayBecome 68 = .ok (.lconst 1, 1) := dk_10 (dk_at dksX0_mayBecome_2 16 rfl rfl)
theorem dX0_mayBecome_69 : decode cX0_mayBecome 69 = .ok (.ldc2_w 163, 3) := dk_20 0 163 (dk_at dksX0_mayBecome_2 17 rfl rfl)
theorem dX0_mayBecome_72 : decode cX0_mayBecome 72 = .ok (.invokestatic 121, 3) := dk_184 0 121 (dk_at dksX0_mayBecome_2 20 rfl rfl)
theorem dX0_mayBecome_75 : decode cX0_mayBecome 75 = .ok (.ireturn, 1) := dk_172 (dk_at dksX0_mayBecome_2 23 rfl rfl)
theorem dX0_mayBecome_76 : decode cX0_mayBecome 76 = .ok (.iload_n 1, 1) := dk_27 (dk_at dksX0_mayBecome_3 0 rfl rfl)
theorem dX0_mayBecome_77 : decode cX0_mayBecome 77 = .ok (.i2l, 1) := dk_133 (dk_at dksX0_mayBecome_3 1 rfl rfl)
theorem dX0_mayBecome_78 : decode cX0_mayBecome 78 = .ok (.lconst 0, 1) := dk_9 (dk_at dksX0_mayBecome_3 2 rfl rfl)
theorem dX0_mayBecome_79 : decode cX0_mayBecome 79 = .ok (.ldc2_w 163, 3) := dk_20 0 163 (dk_at dksX0_mayBecome_3 3 rfl rfl)
theorem dX0_mayBecome_82 : decode cX0_mayBecome 82 = .ok (.invokestatic 121, 3) := dk_184 0 121 (dk_at dksX0_mayBecome_3 6 rfl rfl)
theorem dX0_mayBecome_85 : decode cX0_mayBecome 85 = .ok (.ireturn, 1) := dk_172 (dk_at dksX0_mayBecome_3 9 rfl rfl)
theorem dX0_mayBecome_86 : decode cX0_mayBecome 86 = .ok (.iload_n 1, 1) := dk_27 (dk_at dksX0_mayBecome_3 10 rfl rfl)
theorem dX0_mayBecome_87 : decode cX0_mayBecome 87 = .ok (.i2l, 1) := dk_133 (dk_at dksX0_mayBecome_3 11 rfl rfl)
theorem dX0_mayBecome_88 : decode cX0_mayBecome 88 = .ok (.invokestatic 165, 3) := dk_184 0 165 (dk_at dksX0_mayBecome_3 12 rfl rfl)
theorem dX0_mayBecome_91 : decode cX0_mayBecome 91 = .ok (.ireturn, 1) := dk_172 (dk_at dksX0_mayBecome_3 15 rfl rfl)
abbrev cX0_become : ByteArray := prog_1_method_5_code
def yX0_become : MethodName := ⟨RX0, "become", "(LNailedByWord$Held;I)I"⟩
def dkwX0_become_5 : List UInt8 := [180, 0, 9, 4, 96, 90, 181, 0, 9, 181, 0, 28, 29, 172]
abbrev dktX0_become_5 : List UInt8 := dkwX0_become_5 ++ []
def dkwX0_become_4 : List UInt8 := [181, 0, 16, 25, 4, 29, 181, 0, 22, 25, 4, 28, 181, 0, 25, 43, 28, 181, 0, 3, 42, 42, 89]
abbrev dktX0_become_4 : List UInt8 := dkwX0_become_4 ++ dktX0_become_5
def dkwX0_become_3 : List UInt8 := [42, 89, 180, 0, 9, 4, 100, 181, 0, 9, 42, 180, 0, 12, 42, 180, 0, 9, 50, 58, 4, 25, 4, 43]
abbrev dktX0_become_3 : List UInt8 := dkwX0_become_3 ++ dktX0_become_4
def dkwX0_become_2 : List UInt8 := [100, 42, 180, 0, 12, 21, 5, 50, 83, 132, 5, 1, 167, 255, 230, 42, 180, 0, 12, 16, 39, 25, 4, 83]
abbrev dktX0_become_2 : List UInt8 := dkwX0_become_2 ++ dktX0_become_3
def dkwX0_become_1 : List UInt8 := [180, 0, 12, 3, 50, 58, 4, 4, 54, 5, 21, 5, 16, 40, 162, 0, 25, 42, 180, 0, 12, 21, 5, 4]
abbrev dktX0_become_1 : List UInt8 := dkwX0_become_1 ++ dktX0_become_2
def dkwX0_become_0 : List UInt8 := [43, 180, 0, 3, 62, 29, 28, 160, 0, 5, 29, 172, 42, 180, 0, 9, 16, 40, 160, 0, 62, 42]
abbrev dktX0_become_0 : List UInt8 := dkwX0_become_0 ++ dktX0_become_1
theorem dksX0_become_0 : cX0_become.data.toList.drop 0 = dktX0_become_0 := by decide +kernel
theorem dksX0_become_1 : cX0_become.data.toList.drop 22 = dktX0_become_1 := dk_seg dksX0_become_0 22 rfl rfl
theorem dksX0_become_2 : cX0_become.data.toList.drop 46 = dktX0_become_2 := dk_seg dksX0_become_1 24 rfl rfl
theorem dksX0_become_3 : cX0_become.data.toList.drop 70 = dktX0_become_3 := dk_seg dksX0_become_2 24 rfl rfl
theorem dksX0_become_4 : cX0_become.data.toList.drop 94 = dktX0_become_4 := dk_seg dksX0_become_3 24 rfl rfl
theorem dksX0_become_5 : cX0_become.data.toList.drop 117 = dktX0_become_5 := dk_seg dksX0_become_4 23 rfl rfl
theorem dX0_become_0 : decode cX0_become 0 = .ok (.aload_n 1, 1) := dk_43 (dk_at dksX0_become_0 0 rfl rfl)
theorem dX0_become_1 : decode cX0_become 1 = .ok (.getfield 3, 3) := dk_180 0 3 (dk_at dksX0_become_0 1 rfl rfl)
theorem dX0_become_4 : decode cX0_become 4 = .ok (.istore_n 3, 1) := dk_62 (dk_at dksX0_become_0 4 rfl rfl)
theorem dX0_become_5 : decode cX0_become 5 = .ok (.iload_n 3, 1) := dk_29 (dk_at dksX0_become_0 5 rfl rfl)
theorem dX0_become_6 : decode cX0_become 6 = .ok (.iload_n 2, 1) := dk_28 (dk_at dksX0_become_0 6 rfl rfl)
theorem dX0_become_7 : decode cX0_become 7 = .ok (.if_icmp .ne 5, 3) := dk_160 0 5 (dk_at dksX0_become_0 7 rfl rfl)
theorem dX0_become_10 : decode cX0_become 10 = .ok (.iload_n 3, 1) := dk_29 (dk_at dksX0_become_0 10 rfl rfl)
theorem dX0_become_11 : decode cX0_become 11 = .ok (.ireturn, 1) := dk_172 (dk_at dksX0_become_0 11 rfl rfl)
theorem dX0_become_12 : decode cX0_become 12 = .ok (.aload_n 0, 1) := dk_42 (dk_at dksX0_become_0 12 rfl rfl)
theorem dX0_become_13 : decode cX0_become 13 = .ok (.getfield 9, 3) := dk_180 0 9 (dk_at dksX0_become_0 13 rfl rfl)
theorem dX0_become_16 : decode cX0_become 16 = .ok (.bipush 40, 2) := dk_16 40 (dk_at dksX0_become_0 16 rfl rfl)
theorem dX0_become_18 : decode cX0_become 18 = .ok (.if_icmp .ne 62, 3) := dk_160 0 62 (dk_at dksX0_become_0 18 rfl rfl)
theorem dX0_become_21 : decode cX0_become 21 = .ok (.aload_n 0, 1) := dk_42 (dk_at dksX0_become_0 21 rfl rfl)
theorem dX0_become_22 : decode cX0_become 22 = .ok (.getfield 12, 3) := dk_180 0 12 (dk_at dksX0_become_1 0 rfl rfl)
theorem dX0_become_25 : decode cX0_become 25 = .ok (.iconst 0, 1) := dk_3 (dk_at dksX0_become_1 3 rfl rfl)
theorem dX0_become_26 : decode cX0_become 26 = .ok (.aaload, 1) := dk_50 (dk_at dksX0_become_1 4 rfl rfl)
theorem dX0_become_27 : decode cX0_become 27 = .ok (.astore 4, 2) := dk_58 4 (dk_at dksX0_become_1 5 rfl rfl)
theorem dX0_become_29 : decode cX0_become 29 = .ok (.iconst 1, 1) := dk_4 (dk_at dksX0_become_1 7 rfl rfl)
theorem dX0_become_30 : decode cX0_become 30 = .ok (.istore 5, 2) := dk_54 5 (dk_at dksX0_become_1 8 rfl rfl)
theorem dX0_become_32 : decode cX0_become 32 = .ok (.iload 5, 2) := dk_21 5 (dk_at dksX0_become_1 10 rfl rfl)
theorem dX0_become_34 : decode cX0_become 34 = .ok (.bipush 40, 2) := dk_16 40 (dk_at dksX0_become_1 12 rfl rfl)
theorem dX0_become_36 : decode cX0_become 36 = .ok (.if_icmp .ge 25, 3) := dk_162 0 25 (dk_at dksX0_become_1 14 rfl rfl)
theorem dX0_become_39 : decode cX0_become 39 = .ok (.aload_n 0, 1) := dk_42 (dk_at dksX0_become_1 17 rfl rfl)
theorem dX0_become_40 : decode cX0_become 40 = .ok (.getfield 12, 3) := dk_180 0 12 (dk_at dksX0_become_1 18 rfl rfl)
theorem dX0_become_43 : decode cX0_become 43 = .ok (.iload 5, 2) := dk_21 5 (dk_at dksX0_become_1 21 rfl rfl)
theorem dX0_become_45 : decode cX0_become 45 = .ok (.iconst 1, 1) := dk_4 (dk_at dksX0_become_1 23 rfl rfl)
theorem dX0_become_46 : decode cX0_become 46 = .ok (.isub, 1) := dk_100 (dk_at dksX0_become_2 0 rfl rfl)
theorem dX0_become_47 : decode cX0_become 47 = .ok (.aload_n 0, 1) := dk_42 (dk_at dksX0_become_2 1 rfl rfl)
theorem dX0_become_48 : decode cX0_become 48 = .ok (.getfield 12, 3) := dk_180 0 12 (dk_at dksX0_become_2 2 rfl rfl)
theorem dX0_become_51 : decode cX0_become 51 = .ok (.iload 5, 2) := dk_21 5 (dk_at dksX0_become_2 5 rfl rfl)
theorem dX0_become_53 : decode cX0_become 53 = .ok (.aaload, 1) := dk_50 (dk_at dksX0_become_2 7 rfl rfl)
theorem dX0_become_54 : decode cX0_become 54 = .ok (.aastore, 1) := dk_83 (dk_at dksX0_become_2 8 rfl rfl)
theorem dX0_become_55 : decode cX0_become 55 = .ok (.iinc 5 1, 3) := dk_132 5 1 (dk_at dksX0_become_2 9 rfl rfl)
theorem dX0_become_58 : decode cX0_become 58 = .ok (.goto (-26), 3) := dk_167 255 230 (dk_at dksX0_become_2 12 rfl rfl)
theorem dX0_become_61 : decode cX0_become 61 = .ok (.aload_n 0, 1) := dk_42 (dk_at dksX0_become_2 15 rfl rfl)
theorem dX0_become_62 : decode cX0_become 62 = .ok (.getfield 12, 3) := dk_180 0 12 (dk_at dksX0_become_2 16 rfl rfl)
theorem dX0_become_65 : decode cX0_become 65 = .ok (.bipush 39, 2) := dk_16 39 (dk_at dksX0_become_2 19 rfl rfl)
theorem dX0_become_67 : decode cX0_become 67 = .ok (.aload 4, 2) := dk_25 4 (dk_at dksX0_become_2 21 rfl rfl)
theorem dX0_become_69 : decode cX0_become 69 = .ok (.aastore, 1) := dk_83 (dk_at dksX0_become_2 23 rfl rfl)
theorem dX0_become_70 : decode cX0_become 70 = .ok (.aload_n 0, 1) := dk_42 (dk_at dksX0_become_3 0 rfl rfl)
theorem dX0_become_71 : decode cX0_become 71 = .ok (.dup, 1) := dk_89 (dk_at dksX0_become_3 1 rfl rfl)
theorem dX0_become_72 : decode cX0_become 72 = .ok (.getfield 9, 3) := dk_180 0 9 (dk_at dksX0_become_3 2 rfl rfl)
theorem dX0_become_75 : decode cX0_become 75 = .ok (.iconst 1, 1) := dk_4 (dk_at dksX0_become_3 5 rfl rfl)
theorem dX0_become_76 : decode cX0_become 76 = .ok (.isub, 1) := dk_100 (dk_at dksX0_become_3 6 rfl rfl)
theorem dX0_become_77 : decode cX0_become 77 = .ok (.putfield 9, 3) := dk_181 0 9 (dk_at dksX0_become_3 7 rfl rfl)
theorem dX0_become_80 : decode cX0_become 80 = .ok (.aload_n 0, 1) := dk_42 (dk_at dksX0_become_3 10 rfl rfl)
theorem dX0_become_81 : decode cX0_become 81 = .ok (.getfield 12, 3) := dk_180 0 12 (dk_at dksX0_become_3 11 rfl rfl)
theorem dX0_become_84 : decode cX0_become 84 = .ok (.aload_n 0, 1) := dk_42 (dk_at dksX0_become_3 14 rfl rfl)
theorem dX0_become_85 : decode cX0_become 85 = .ok (.getfield 9, 3) := dk_180 0 9 (dk_at dksX0_become_3 15 rfl rfl)
theorem dX0_become_88 : decode cX0_become 88 = .ok (.aaload, 1) := dk_50 (dk_at dksX0_become_3 18 rfl rfl)
theorem dX0_become_89 : decode cX0_become 89 = .ok (.astore 4, 2) := dk_58 4 (dk_at dksX0_become_3 19 rfl rfl)
theorem dX0_become_91 : decode cX0_become 91 = .ok (.aload 4, 2) := dk_25 4 (dk_at dksX0_become_3 21 rfl rfl)
theorem dX0_become_93 : decode cX0_become 93 = .ok (.aload_n 1, 1) := dk_43 (dk_at dksX0_become_3 23 rfl rfl)
theorem dX0_become_94 : decode cX0_become 94 = .ok (.putfield 16, 3) := dk_181 0 16 (dk_at dksX0_become_4 0 rfl rfl)
theorem dX0_become_97 : decode cX0_become 97 = .ok (.aload 4, 2) := dk_25 4 (dk_at dksX0_become_4 3 rfl rfl)
theorem dX0_become_99 : decode cX0_become 99 = .ok (.iload_n 3, 1) := dk_29 (dk_at dksX0_become_4 5 rfl rfl)
theorem dX0_become_100 : decode cX0_become 100 = .ok (.putfield 22, 3) := dk_181 0 22 (dk_at dksX0_become_4 6 rfl rfl)
theorem dX0_become_103 : decode cX0_become 103 = .ok (.aload 4, 2) := dk_25 4 (dk_at dksX0_become_4 9 rfl rfl)
theorem dX0_become_105 : decode cX0_become 105 = .ok (.iload_n 2, 1) := dk_28 (dk_at dksX0_become_4 11 rfl rfl)
theorem dX0_become_106 : decode cX0_become 106 = .ok (.putfield 25, 3) := dk_181 0 25 (dk_at dksX0_become_4 12 rfl rfl)
theorem dX0_become_109 : decode cX0_become 109 = .ok (.aload_n 1, 1) := dk_43 (dk_at dksX0_become_4 15 rfl rfl)
theorem dX0_become_110 : decode cX0_become 110 = .ok (.iload_n 2, 1) := dk_28 (dk_at dksX0_become_4 16 rfl rfl)
theorem dX0_become_111 : decode cX0_become 111 = .ok (.putfield 3, 3) := dk_181 0 3 (dk_at dksX0_become_4 17 rfl rfl)
theorem dX0_become_114 : decode cX0_become 114 = .ok (.aload_n 0, 1) := dk_42 (dk_at dksX0_become_4 20 rfl rfl)
theorem dX0_become_115 : decode cX0_become 115 = .ok (.aload_n 0, 1) := dk_42 (dk_at dksX0_become_4 21 rfl rfl)
theorem dX0_become_116 : decode cX0_become 116 = .ok (.dup, 1) := dk_89 (dk_at dksX0_become_4 22 rfl rfl)
theorem dX0_become_117 : decode cX0_become 117 = .ok (.getfield 9, 3) := dk_180 0 9 (dk_at dksX0_become_5 0 rfl rfl)
theorem dX0_become_120 : decode cX0_become 120 = .ok (.iconst 1, 1) := dk_4 (dk_at dksX0_become_5 3 rfl rfl)
theorem dX0_become_121 : decode cX0_become 121 = .ok (.iadd, 1) := dk_96 (dk_at dksX0_become_5 4 rfl rfl)
theorem dX0_become_122 : decode cX0_become 122 = .ok (.dup_x1, 1) := dk_90 (dk_at dksX0_become_5 5 rfl rfl)
theorem dX0_become_123 : decode cX0_become 123 = .ok (.putfield 9, 3) := dk_181 0 9 (dk_at dksX0_become_5 6 rfl rfl)
theorem dX0_become_126 : decode cX0_become 126 = .ok (.putfield 28, 3) := dk_181 0 28 (dk_at dksX0_become_5 9 rfl rfl)
theorem dX0_become_129 : decode cX0_become 129 = .ok (.iload_n 3, 1) := dk_29 (dk_at dksX0_become_5 12 rfl rfl)
theorem dX0_become_130 : decode cX0_become 130 = .ok (.ireturn, 1) := dk_172 (dk_at dksX0_become_5 13 rfl rfl)
abbrev cX0_of : ByteArray := prog_1_method_28_code
def yX0_of : MethodName := ⟨RX0, "of", "(II)I"⟩
def dkwX0_of_2 : List UInt8 := [16, 11, 160, 0, 15, 42, 180, 0, 56, 27, 50, 180, 0, 232, 167, 0, 4, 2, 172]
abbrev dktX0_of_2 : List UInt8 := dkwX0_of_2 ++ []
def dkwX0_of_1 : List UInt8 := [154, 0, 5, 2, 172, 28, 16, 10, 160, 0, 15, 42, 180, 0, 56, 27, 50, 180, 0, 229, 167, 0, 22, 28]
abbrev dktX0_of_1 : List UInt8 := dkwX0_of_1 ++ dktX0_of_2
def dkwX0_of_0 : List UInt8 := [42, 27, 28, 182, 0, 217, 78, 45, 198, 0, 8, 45, 180, 0, 3, 172, 42, 27, 133, 182, 0, 207]
abbrev dktX0_of_0 : List UInt8 := dkwX0_of_0 ++ dktX0_of_1
theorem dksX0_of_0 : cX0_of.data.toList.drop 0 = dktX0_of_0 := by decide +kernel
theorem dksX0_of_1 : cX0_of.data.toList.drop 22 = dktX0_of_1 := dk_seg dksX0_of_0 22 rfl rfl
theorem dksX0_of_2 : cX0_of.data.toList.drop 46 = dktX0_of_2 := dk_seg dksX0_of_1 24 rfl rfl
theorem dX0_of_0 : decode cX0_of 0 = .ok (.aload_n 0, 1) := dk_42 (dk_at dksX0_of_0 0 rfl rfl)
theorem dX0_of_1 : decode cX0_of 1 = .ok (.iload_n 1, 1) := dk_27 (dk_at dksX0_of_0 1 rfl rfl)
theorem dX0_of_2 : decode cX0_of 2 = .ok (.iload_n 2, 1) := dk_28 (dk_at dksX0_of_0 2 rfl rfl)
theorem dX0_of_3 : decode cX0_of 3 = .ok (.invokevirtual 217, 3) := dk_182 0 217 (dk_at dksX0_of_0 3 rfl rfl)
theorem dX0_of_6 : decode cX0_of 6 = .ok (.astore_n 3, 1) := dk_78 (dk_at dksX0_of_0 6 rfl rfl)
theorem dX0_of_7 : decode cX0_of 7 = .ok (.aload_n 3, 1) := dk_45 (dk_at dksX0_of_0 7 rfl rfl)
theorem dX0_of_8 : decode cX0_of 8 = .ok (.ifnull 8, 3) := dk_198 0 8 (dk_at dksX0_of_0 8 rfl rfl)
theorem dX0_of_11 : decode cX0_of 11 = .ok (.aload_n 3, 1) := dk_45 (dk_at dksX0_of_0 11 rfl rfl)
theorem dX0_of_12 : decode cX0_of 12 = .ok (.getfield 3, 3) := dk_180 0 3 (dk_at dksX0_of_0 12 rfl rfl)
theorem dX0_of_15 : decode cX0_of 15 = .ok (.ireturn, 1) := dk_172 (dk_at dksX0_of_0 15 rfl rfl)
theorem dX0_of_16 : decode cX0_of 16 = .ok (.aload_n 0, 1) := dk_42 (dk_at dksX0_of_0 16 rfl rfl)
theorem dX0_of_17 : decode cX0_of 17 = .ok (.iload_n 1, 1) := dk_27 (dk_at dksX0_of_0 17 rfl rfl)
theorem dX0_of_18 : decode cX0_of 18 = .ok (.i2l, 1) := dk_133 (dk_at dksX0_of_0 18 rfl rfl)
theorem dX0_of_19 : decode cX0_of 19 = .ok (.invokevirtual 207, 3) := dk_182 0 207 (dk_at dksX0_of_0 19 rfl rfl)
theorem dX0_of_22 : decode cX0_of 22 = .ok (.ifCond .ne 5, 3) := dk_154 0 5 (dk_at dksX0_of_1 0 rfl rfl)
theorem dX0_of_25 : decode cX0_of 25 = .ok (.iconst (-1), 1) := dk_2 (dk_at dksX0_of_1 3 rfl rfl)
theorem dX0_of_26 : decode cX0_of 26 = .ok (.ireturn, 1) := dk_172 (dk_at dksX0_of_1 4 rfl rfl)
theorem dX0_of_27 : decode cX0_of 27 = .ok (.iload_n 2, 1) := dk_28 (dk_at dksX0_of_1 5 rfl rfl)
theorem dX0_of_28 : decode cX0_of 28 = .ok (.bipush 10, 2) := dk_16 10 (dk_at dksX0_of_1 6 rfl rfl)
theorem dX0_of_30 : decode cX0_of 30 = .ok (.if_icmp .ne 15, 3) := dk_160 0 15 (dk_at dksX0_of_1 8 rfl rfl)
theorem dX0_of_33 : decode cX0_of 33 = .ok (.aload_n 0, 1) := dk_42 (dk_at dksX0_of_1 11 rfl rfl)
theorem dX0_of_34 : decode cX0_of 34 = .ok (.getfield 56, 3) := dk_180 0 56 (dk_at dksX0_of_1 12 rfl rfl)
theorem dX0_of_37 : decode cX0_of 37 = .ok (.iload_n 1, 1) := dk_27 (dk_at dksX0_of_1 15 rfl rfl)
theorem dX0_of_38 : decode cX0_of 38 = .ok (.aaload, 1) := dk_50 (dk_at dksX0_of_1 16 rfl rfl)
theorem dX0_of_39 : decode cX0_of 39 = .ok (.getfield 229, 3) := dk_180 0 229 (dk_at dksX0_of_1 17 rfl rfl)
theorem dX0_of_42 : decode cX0_of 42 = .ok (.goto 22, 3) := dk_167 0 22 (dk_at dksX0_of_1 20 rfl rfl)
theorem dX0_of_45 : decode cX0_of 45 = .ok (.iload_n 2, 1) := dk_28 (dk_at dksX0_of_1 23 rfl rfl)
theorem dX0_of_46 : decode cX0_of 46 = .ok (.bipush 11, 2) := dk_16 11 (dk_at dksX0_of_2 0 rfl rfl)
theorem dX0_of_48 : decode cX0_of 48 = .ok (.if_icmp .ne 15, 3) := dk_160 0 15 (dk_at dksX0_of_2 2 rfl rfl)
theorem dX0_of_51 : decode cX0_of 51 = .ok (.aload_n 0, 1) := dk_42 (dk_at dksX0_of_2 5 rfl rfl)
theorem dX0_of_52 : decode cX0_of 52 = .ok (.getfield 56, 3) := dk_180 0 56 (dk_at dksX0_of_2 6 rfl rfl)
theorem dX0_of_55 : decode cX0_of 55 = .ok (.iload_n 1, 1) := dk_27 (dk_at dksX0_of_2 9 rfl rfl)
theorem dX0_of_56 : decode cX0_of 56 = .ok (.aaload, 1) := dk_50 (dk_at dksX0_of_2 10 rfl rfl)
theorem dX0_of_57 : decode cX0_of 57 = .ok (.getfield 232, 3) := dk_180 0 232 (dk_at dksX0_of_2 11 rfl rfl)
theorem dX0_of_60 : decode cX0_of 60 = .ok (.goto 4, 3) := dk_167 0 4 (dk_at dksX0_of_2 14 rfl rfl)
theorem dX0_of_63 : decode cX0_of 63 = .ok (.iconst (-1), 1) := dk_2 (dk_at dksX0_of_2 17 rfl rfl)
theorem dX0_of_64 : decode cX0_of 64 = .ok (.ireturn, 1) := dk_172 (dk_at dksX0_of_2 18 rfl rfl)
abbrev cX0_law : ByteArray := prog_1_method_38_code
def yX0_law : MethodName := ⟨RX0, "law", "()I"⟩
def dkwX0_law_1 : List UInt8 := [16, 156, 42, 180, 0, 128, 100, 61, 42, 3, 181, 0, 125, 28, 172, 78, 42, 3, 181, 0, 125, 45, 191]
abbrev dktX0_law_1 : List UInt8 := dkwX0_law_1 ++ []
def dkwX0_law_0 : List UInt8 := [42, 3, 181, 0, 128, 42, 42, 182, 1, 48, 181, 1, 51, 4, 60, 42, 3, 181, 0, 125, 27, 172, 76]
abbrev dktX0_law_0 : List UInt8 := dkwX0_law_0 ++ dktX0_law_1
theorem dksX0_law_0 : cX0_law.data.toList.drop 0 = dktX0_law_0 := by decide +kernel
theorem dksX0_law_1 : cX0_law.data.toList.drop 23 = dktX0_law_1 := dk_seg dksX0_law_0 23 rfl rfl
theorem dX0_law_0 : decode cX0_law 0 = .ok (.aload_n 0, 1) := dk_42 (dk_at dksX0_law_0 0 rfl rfl)
theorem dX0_law_1 : decode cX0_law 1 = .ok (.iconst 0, 1) := dk_3 (dk_at dksX0_law_0 1 rfl rfl)
theorem dX0_law_2 : decode cX0_law 2 = .ok (.putfield 128, 3) := dk_181 0 128 (dk_at dksX0_law_0 2 rfl rfl)
theorem dX0_law_5 : decode cX0_law 5 = .ok (.aload_n 0, 1) := dk_42 (dk_at dksX0_law_0 5 rfl rfl)
theorem dX0_law_6 : decode cX0_law 6 = .ok (.aload_n 0, 1) := dk_42 (dk_at dksX0_law_0 6 rfl rfl)
theorem dX0_law_7 : decode cX0_law 7 = .ok (.invokevirtual 304, 3) := dk_182 1 48 (dk_at dksX0_law_0 7 rfl rfl)
theorem dX0_law_10 : decode cX0_law 10 = .ok (.putfield 307, 3) := dk_181 1 51 (dk_at dksX0_law_0 10 rfl rfl)
theorem dX0_law_13 : decode cX0_law 13 = .ok (.iconst 1, 1) := dk_4 (dk_at dksX0_law_0 13 rfl rfl)
theorem dX0_law_14 : decode cX0_law 14 = .ok (.istore_n 1, 1) := dk_60 (dk_at dksX0_law_0 14 rfl rfl)
theorem dX0_law_15 : decode cX0_law 15 = .ok (.aload_n 0, 1) := dk_42 (dk_at dksX0_law_0 15 rfl rfl)
theorem dX0_law_16 : decode cX0_law 16 = .ok (.iconst 0, 1) := dk_3 (dk_at dksX0_law_0 16 rfl rfl)
theorem dX0_law_17 : decode cX0_law 17 = .ok (.putfield 125, 3) := dk_181 0 125 (dk_at dksX0_law_0 17 rfl rfl)
theorem dX0_law_20 : decode cX0_law 20 = .ok (.iload_n 1, 1) := dk_27 (dk_at dksX0_law_0 20 rfl rfl)
theorem dX0_law_21 : decode cX0_law 21 = .ok (.ireturn, 1) := dk_172 (dk_at dksX0_law_0 21 rfl rfl)
theorem dX0_law_22 : decode cX0_law 22 = .ok (.astore_n 1, 1) := dk_76 (dk_at dksX0_law_0 22 rfl rfl)
theorem dX0_law_23 : decode cX0_law 23 = .ok (.bipush (-100), 2) := dk_16 156 (dk_at dksX0_law_1 0 rfl rfl)
theorem dX0_law_25 : decode cX0_law 25 = .ok (.aload_n 0, 1) := dk_42 (dk_at dksX0_law_1 2 rfl rfl)
theorem dX0_law_26 : decode cX0_law 26 = .ok (.getfield 128, 3) := dk_180 0 128 (dk_at dksX0_law_1 3 rfl rfl)
theorem dX0_law_29 : decode cX0_law 29 = .ok (.isub, 1) := dk_100 (dk_at dksX0_law_1 6 rfl rfl)
theorem dX0_law_30 : decode cX0_law 30 = .ok (.istore_n 2, 1) := dk_61 (dk_at dksX0_law_1 7 rfl rfl)
theorem dX0_law_31 : decode cX0_law 31 = .ok (.aload_n 0, 1) := dk_42 (dk_at dksX0_law_1 8 rfl rfl)
theorem dX0_law_32 : decode cX0_law 32 = .ok (.iconst 0, 1) := dk_3 (dk_at dksX0_law_1 9 rfl rfl)
theorem dX0_law_33 : decode cX0_law 33 = .ok (.putfield 125, 3) := dk_181 0 125 (dk_at dksX0_law_1 10 rfl rfl)
theorem dX0_law_36 : decode cX0_law 36 = .ok (.iload_n 2, 1) := dk_28 (dk_at dksX0_law_1 13 rfl rfl)
theorem dX0_law_37 : decode cX0_law 37 = .ok (.ireturn, 1) := dk_172 (dk_at dksX0_law_1 14 rfl rfl)
theorem dX0_law_38 : decode cX0_law 38 = .ok (.astore_n 3, 1) := dk_78 (dk_at dksX0_law_1 15 rfl rfl)
theorem dX0_law_39 : decode cX0_law 39 = .ok (.aload_n 0, 1) := dk_42 (dk_at dksX0_law_1 16 rfl rfl)
theorem dX0_law_40 : decode cX0_law 40 = .ok (.iconst 0, 1) := dk_3 (dk_at dksX0_law_1 17 rfl rfl)
theorem dX0_law_41 : decode cX0_law 41 = .ok (.putfield 125, 3) := dk_181 0 125 (dk_at dksX0_law_1 18 rfl rfl)
theorem dX0_law_44 : decode cX0_law 44 = .ok (.aload_n 3, 1) := dk_45 (dk_at dksX0_law_1 21 rfl rfl)
theorem dX0_law_45 : decode cX0_law 45 = .ok (.athrow, 1) := dk_191 (dk_at dksX0_law_1 22 rfl rfl)
abbrev cX0_readLaw : ByteArray := prog_1_method_37_code
def yX0_readLaw : MethodName := ⟨RX0, "readLaw", "()LNailedByWord$Line;"⟩
def dkwX0_readLaw_2 : List UInt8 := [162, 0, 8, 42, 180, 0, 44, 191, 43, 176]
abbrev dktX0_readLaw_2 : List UInt8 := dkwX0_readLaw_2 ++ []
def dkwX0_readLaw_1 : List UInt8 := [182, 1, 40, 181, 1, 44, 44, 180, 1, 44, 77, 167, 255, 234, 42, 180, 0, 128, 42, 180, 0, 125]
abbrev dktX0_readLaw_1 : List UInt8 := dkwX0_readLaw_1 ++ dktX0_readLaw_2
def dkwX0_readLaw_0 : List UInt8 := [42, 3, 181, 0, 251, 42, 182, 1, 40, 76, 43, 77, 42, 16, 59, 182, 0, 135, 153, 0, 19, 44, 42]
abbrev dktX0_readLaw_0 : List UInt8 := dkwX0_readLaw_0 ++ dktX0_readLaw_1
theorem dksX0_readLaw_0 : cX0_readLaw.data.toList.drop 0 = dktX0_readLaw_0 := by decide +kernel
theorem dksX0_readLaw_1 : cX0_readLaw.data.toList.drop 23 = dktX0_readLaw_1 := dk_seg dksX0_readLaw_0 23 rfl rfl
theorem dksX0_readLaw_2 : cX0_readLaw.data.toList.drop 45 = dktX0_readLaw_2 := dk_seg dksX0_readLaw_1 22 rfl rfl
theorem dX0_readLaw_0 : decode cX0_readLaw 0 = .ok (.aload_n 0, 1) := dk_42 (dk_at dksX0_readLaw_0 0 rfl rfl)
theorem dX0_readLaw_1 : decode cX0_readLaw 1 = .ok (.iconst 0, 1) := dk_3 (dk_at dksX0_readLaw_0 1 rfl rfl)
theorem dX0_readLaw_2 : decode cX0_readLaw 2 = .ok (.putfield 251, 3) := dk_181 0 251 (dk_at dksX0_readLaw_0 2 rfl rfl)
theorem dX0_readLaw_5 : decode cX0_readLaw 5 = .ok (.aload_n 0, 1) := dk_42 (dk_at dksX0_readLaw_0 5 rfl rfl)
theorem dX0_readLaw_6 : decode cX0_readLaw 6 = .ok (.invokevirtual 296, 3) := dk_182 1 40 (dk_at dksX0_readLaw_0 6 rfl rfl)
theorem dX0_readLaw_9 : decode cX0_readLaw 9 = .ok (.astore_n 1, 1) := dk_76 (dk_at dksX0_readLaw_0 9 rfl rfl)
theorem dX0_readLaw_10 : decode cX0_readLaw 10 = .ok (.aload_n 1, 1) := dk_43 (dk_at dksX0_readLaw_0 10 rfl rfl)
theorem dX0_readLaw_11 : decode cX0_readLaw 11 = .ok (.astore_n 2, 1) := dk_77 (dk_at dksX0_readLaw_0 11 rfl rfl)
theorem dX0_readLaw_12 : decode cX0_readLaw 12 = .ok (.aload_n 0, 1) := dk_42 (dk_at dksX0_readLaw_0 12 rfl rfl)
theorem dX0_readLaw_13 : decode cX0_readLaw 13 = .ok (.bipush 59, 2) := dk_16 59 (dk_at dksX0_readLaw_0 13 rfl rfl)
theorem dX0_readLaw_15 : decode cX0_readLaw 15 = .ok (.invokevirtual 135, 3) := dk_182 0 135 (dk_at dksX0_readLaw_0 15 rfl rfl)
theorem dX0_readLaw_18 : decode cX0_readLaw 18 = .ok (.ifCond .eq 19, 3) := dk_153 0 19 (dk_at dksX0_readLaw_0 18 rfl rfl)
theorem dX0_readLaw_21 : decode cX0_readLaw 21 = .ok (.aload_n 2, 1) := dk_44 (dk_at dksX0_readLaw_0 21 rfl rfl)
theorem dX0_readLaw_22 : decode cX0_readLaw 22 = .ok (.aload_n 0, 1) := dk_42 (dk_at dksX0_readLaw_0 22 rfl rfl)
theorem dX0_readLaw_23 : decode cX0_readLaw 23 = .ok (.invokevirtual 296, 3) := dk_182 1 40 (dk_at dksX0_readLaw_1 0 rfl rfl)
theorem dX0_readLaw_26 : decode cX0_readLaw 26 = .ok (.putfield 300, 3) := dk_181 1 44 (dk_at dksX0_readLaw_1 3 rfl rfl)
theorem dX0_readLaw_29 : decode cX0_readLaw 29 = .ok (.aload_n 2, 1) := dk_44 (dk_at dksX0_readLaw_1 6 rfl rfl)
theorem dX0_readLaw_30 : decode cX0_readLaw 30 = .ok (.getfield 300, 3) := dk_180 1 44 (dk_at dksX0_readLaw_1 7 rfl rfl)
theorem dX0_readLaw_33 : decode cX0_readLaw 33 = .ok (.astore_n 2, 1) := dk_77 (dk_at dksX0_readLaw_1 10 rfl rfl)
theorem dX0_readLaw_34 : decode cX0_readLaw 34 = .ok (.goto (-22), 3) := dk_167 255 234 (dk_at dksX0_readLaw_1 11 rfl rfl)
theorem dX0_readLaw_37 : decode cX0_readLaw 37 = .ok (.aload_n 0, 1) := dk_42 (dk_at dksX0_readLaw_1 14 rfl rfl)
theorem dX0_readLaw_38 : decode cX0_readLaw 38 = .ok (.getfield 128, 3) := dk_180 0 128 (dk_at dksX0_readLaw_1 15 rfl rfl)
theorem dX0_readLaw_41 : decode cX0_readLaw 41 = .ok (.aload_n 0, 1) := dk_42 (dk_at dksX0_readLaw_1 18 rfl rfl)
theorem dX0_readLaw_42 : decode cX0_readLaw 42 = .ok (.getfield 125, 3) := dk_180 0 125 (dk_at dksX0_readLaw_1 19 rfl rfl)
theorem dX0_readLaw_45 : decode cX0_readLaw 45 = .ok (.if_icmp .ge 8, 3) := dk_162 0 8 (dk_at dksX0_readLaw_2 0 rfl rfl)
theorem dX0_readLaw_48 : decode cX0_readLaw 48 = .ok (.aload_n 0, 1) := dk_42 (dk_at dksX0_readLaw_2 3 rfl rfl)
theorem dX0_readLaw_49 : decode cX0_readLaw 49 = .ok (.getfield 44, 3) := dk_180 0 44 (dk_at dksX0_readLaw_2 4 rfl rfl)
theorem dX0_readLaw_52 : decode cX0_readLaw 52 = .ok (.athrow, 1) := dk_191 (dk_at dksX0_readLaw_2 7 rfl rfl)
theorem dX0_readLaw_53 : decode cX0_readLaw 53 = .ok (.aload_n 1, 1) := dk_43 (dk_at dksX0_readLaw_2 8 rfl rfl)
theorem dX0_readLaw_54 : decode cX0_readLaw 54 = .ok (.areturn, 1) := dk_176 (dk_at dksX0_readLaw_2 9 rfl rfl)
abbrev cX0_readLine : ByteArray := prog_1_method_36_code
def yX0_readLine : MethodName := ⟨RX0, "readLine", "()LNailedByWord$Line;"⟩
def dkwX0_readLine_1 : List UInt8 := [153, 0, 19, 43, 43, 180, 1, 33, 181, 1, 37, 43, 42, 182, 0, 254, 181, 1, 33, 43, 176]
abbrev dktX0_readLine_1 : List UInt8 := dkwX0_readLine_1 ++ []
def dkwX0_readLine_0 : List UInt8 := [187, 1, 30, 89, 183, 1, 32, 76, 43, 42, 182, 0, 254, 181, 1, 33, 42, 16, 63, 182, 0, 135]
abbrev dktX0_readLine_0 : List UInt8 := dkwX0_readLine_0 ++ dktX0_readLine_1
theorem dksX0_readLine_0 : cX0_readLine.data.toList.drop 0 = dktX0_readLine_0 := by decide +kernel
theorem dksX0_readLine_1 : cX0_readLine.data.toList.drop 22 = dktX0_readLine_1 := dk_seg dksX0_readLine_0 22 rfl rfl
theorem dX0_readLine_0 : decode cX0_readLine 0 = .ok (.new 286, 3) := dk_187 1 30 (dk_at dksX0_readLine_0 0 rfl rfl)
theorem dX0_readLine_3 : decode cX0_readLine 3 = .ok (.dup, 1) := dk_89 (dk_at dksX0_readLine_0 3 rfl rfl)
theorem dX0_readLine_4 : decode cX0_readLine 4 = .ok (.invokespecial 288, 3) := dk_183 1 32 (dk_at dksX0_readLine_0 4 rfl rfl)
theorem dX0_readLine_7 : decode cX0_readLine 7 = .ok (.astore_n 1, 1) := dk_76 (dk_at dksX0_readLine_0 7 rfl rfl)
theorem dX0_readLine_8 : decode cX0_readLine 8 = .ok (.aload_n 1, 1) := dk_43 (dk_at dksX0_readLine_0 8 rfl rfl)
theorem dX0_readLine_9 : decode cX0_readLine 9 = .ok (.aload_n 0, 1) := dk_42 (dk_at dksX0_readLine_0 9 rfl rfl)
theorem dX0_readLine_10 : decode cX0_readLine 10 = .ok (.invokevirtual 254, 3) := dk_182 0 254 (dk_at dksX0_readLine_0 10 rfl rfl)
theorem dX0_readLine_13 : decode cX0_readLine 13 = .ok (.putfield 289, 3) := dk_181 1 33 (dk_at dksX0_readLine_0 13 rfl rfl)
theorem dX0_readLine_16 : decode cX0_readLine 16 = .ok (.aload_n 0, 1) := dk_42 (dk_at dksX0_readLine_0 16 rfl rfl)
theorem dX0_readLine_17 : decode cX0_readLine 17 = .ok (.bipush 63, 2) := dk_16 63 (dk_at dksX0_readLine_0 17 rfl rfl)
theorem dX0_readLine_19 : decode cX0_readLine 19 = .ok (.invokevirtual 135, 3) := dk_182 0 135 (dk_at dksX0_readLine_0 19 rfl rfl)
theorem dX0_readLine_22 : decode cX0_readLine 22 = .ok (.ifCond .eq 19, 3) := dk_153 0 19 (dk_at dksX0_readLine_1 0 rfl rfl)
theorem dX0_readLine_25 : decode cX0_readLine 25 = .ok (.aload_n 1, 1) := dk_43 (dk_at dksX0_readLine_1 3 rfl rfl)
theorem dX0_readLine_26 : decode cX0_readLine 26 = .ok (.aload_n 1, 1) := dk_43 (dk_at dksX0_readLine_1 4 rfl rfl)
theorem dX0_readLine_27 : decode cX0_readLine 27 = .ok (.getfield 289, 3) := dk_180 1 33 (dk_at dksX0_readLine_1 5 rfl rfl)
theorem dX0_readLine_30 : decode cX0_readLine 30 = .ok (.putfield 293, 3) := dk_181 1 37 (dk_at dksX0_readLine_1 8 rfl rfl)
theorem dX0_readLine_33 : decode cX0_readLine 33 = .ok (.aload_n 1, 1) := dk_43 (dk_at dksX0_readLine_1 11 rfl rfl)
theorem dX0_readLine_34 : decode cX0_readLine 34 = .ok (.aload_n 0, 1) := dk_42 (dk_at dksX0_readLine_1 12 rfl rfl)
theorem dX0_readLine_35 : decode cX0_readLine 35 = .ok (.invokevirtual 254, 3) := dk_182 0 254 (dk_at dksX0_readLine_1 13 rfl rfl)
theorem dX0_readLine_38 : decode cX0_readLine 38 = .ok (.putfield 289, 3) := dk_181 1 33 (dk_at dksX0_readLine_1 16 rfl rfl)
theorem dX0_readLine_41 : decode cX0_readLine 41 = .ok (.aload_n 1, 1) := dk_43 (dk_at dksX0_readLine_1 19 rfl rfl)
theorem dX0_readLine_42 : decode cX0_readLine 42 = .ok (.areturn, 1) := dk_176 (dk_at dksX0_readLine_1 20 rfl rfl)
abbrev cX0_readEither : ByteArray := prog_1_method_35_code
def yX0_readEither : MethodName := ⟨RX0, "readEither", "()LNailedByWord$Term;"⟩
def dkwX0_readEither_1 : List UInt8 := [182, 1, 27, 183, 1, 15, 76, 167, 255, 232, 43, 176]
abbrev dktX0_readEither_1 : List UInt8 := dkwX0_readEither_1 ++ []
def dkwX0_readEither_0 : List UInt8 := [42, 182, 1, 27, 76, 42, 16, 124, 182, 0, 135, 153, 0, 21, 187, 1, 13, 89, 16, 124, 43, 42]
abbrev dktX0_readEither_0 : List UInt8 := dkwX0_readEither_0 ++ dktX0_readEither_1
theorem dksX0_readEither_0 : cX0_readEither.data.toList.drop 0 = dktX0_readEither_0 := by decide +kernel
theorem dksX0_readEither_1 : cX0_readEither.data.toList.drop 22 = dktX0_readEither_1 := dk_seg dksX0_readEither_0 22 rfl rfl
theorem dX0_readEither_0 : decode cX0_readEither 0 = .ok (.aload_n 0, 1) := dk_42 (dk_at dksX0_readEither_0 0 rfl rfl)
theorem dX0_readEither_1 : decode cX0_readEither 1 = .ok (.invokevirtual 283, 3) := dk_182 1 27 (dk_at dksX0_readEither_0 1 rfl rfl)
theorem dX0_readEither_4 : decode cX0_readEither 4 = .ok (.astore_n 1, 1) := dk_76 (dk_at dksX0_readEither_0 4 rfl rfl)
theorem dX0_readEither_5 : decode cX0_readEither 5 = .ok (.aload_n 0, 1) := dk_42 (dk_at dksX0_readEither_0 5 rfl rfl)
theorem dX0_readEither_6 : decode cX0_readEither 6 = .ok (.bipush 124, 2) := dk_16 124 (dk_at dksX0_readEither_0 6 rfl rfl)
theorem dX0_readEither_8 : decode cX0_readEither 8 = .ok (.invokevirtual 135, 3) := dk_182 0 135 (dk_at dksX0_readEither_0 8 rfl rfl)
theorem dX0_readEither_11 : decode cX0_readEither 11 = .ok (.ifCond .eq 21, 3) := dk_153 0 21 (dk_at dksX0_readEither_0 11 rfl rfl)
theorem dX0_readEither_14 : decode cX0_readEither 14 = .ok (.new 269, 3) := dk_187 1 13 (dk_at dksX0_readEither_0 14 rfl rfl)
theorem dX0_readEither_17 : decode cX0_readEither 17 = .ok (.dup, 1) := dk_89 (dk_at dksX0_readEither_0 17 rfl rfl)
theorem dX0_readEither_18 : decode cX0_readEither 18 = .ok (.bipush 124, 2) := dk_16 124 (dk_at dksX0_readEither_0 18 rfl rfl)
theorem dX0_readEither_20 : decode cX0_readEither 20 = .ok (.aload_n 1, 1) := dk_43 (dk_at dksX0_readEither_0 20 rfl rfl)
theorem dX0_readEither_21 : decode cX0_readEither 21 = .ok (.aload_n 0, 1) := dk_42 (dk_at dksX0_readEither_0 21 rfl rfl)
theorem dX0_readEither_22 : decode cX0_readEither 22 = .ok (.invokevirtual 283, 3) := dk_182 1 27 (dk_at dksX0_readEither_1 0 rfl rfl)
theorem dX0_readEither_25 : decode cX0_readEither 25 = .ok (.invokespecial 271, 3) := dk_183 1 15 (dk_at dksX0_readEither_1 3 rfl rfl)
theorem dX0_readEither_28 : decode cX0_readEither 28 = .ok (.astore_n 1, 1) := dk_76 (dk_at dksX0_readEither_1 6 rfl rfl)
theorem dX0_readEither_29 : decode cX0_readEither 29 = .ok (.goto (-24), 3) := dk_167 255 232 (dk_at dksX0_readEither_1 7 rfl rfl)
theorem dX0_readEither_32 : decode cX0_readEither 32 = .ok (.aload_n 1, 1) := dk_43 (dk_at dksX0_readEither_1 10 rfl rfl)
theorem dX0_readEither_33 : decode cX0_readEither 33 = .ok (.areturn, 1) := dk_176 (dk_at dksX0_readEither_1 11 rfl rfl)
abbrev cX0_readAll : ByteArray := prog_1_method_34_code
def yX0_readAll : MethodName := ⟨RX0, "readAll", "()LNailedByWord$Term;"⟩
def dkwX0_readAll_1 : List UInt8 := [182, 1, 24, 183, 1, 15, 76, 167, 255, 232, 43, 176]
abbrev dktX0_readAll_1 : List UInt8 := dkwX0_readAll_1 ++ []
def dkwX0_readAll_0 : List UInt8 := [42, 182, 1, 24, 76, 42, 16, 38, 182, 0, 135, 153, 0, 21, 187, 1, 13, 89, 16, 38, 43, 42]
abbrev dktX0_readAll_0 : List UInt8 := dkwX0_readAll_0 ++ dktX0_readAll_1
theorem dksX0_readAll_0 : cX0_readAll.data.toList.drop 0 = dktX0_readAll_0 := by decide +kernel
theorem dksX0_readAll_1 : cX0_readAll.data.toList.drop 22 = dktX0_readAll_1 := dk_seg dksX0_readAll_0 22 rfl rfl
theorem dX0_readAll_0 : decode cX0_readAll 0 = .ok (.aload_n 0, 1) := dk_42 (dk_at dksX0_readAll_0 0 rfl rfl)
theorem dX0_readAll_1 : decode cX0_readAll 1 = .ok (.invokevirtual 280, 3) := dk_182 1 24 (dk_at dksX0_readAll_0 1 rfl rfl)
theorem dX0_readAll_4 : decode cX0_readAll 4 = .ok (.astore_n 1, 1) := dk_76 (dk_at dksX0_readAll_0 4 rfl rfl)
theorem dX0_readAll_5 : decode cX0_readAll 5 = .ok (.aload_n 0, 1) := dk_42 (dk_at dksX0_readAll_0 5 rfl rfl)
theorem dX0_readAll_6 : decode cX0_readAll 6 = .ok (.bipush 38, 2) := dk_16 38 (dk_at dksX0_readAll_0 6 rfl rfl)
theorem dX0_readAll_8 : decode cX0_readAll 8 = .ok (.invokevirtual 135, 3) := dk_182 0 135 (dk_at dksX0_readAll_0 8 rfl rfl)
theorem dX0_readAll_11 : decode cX0_readAll 11 = .ok (.ifCond .eq 21, 3) := dk_153 0 21 (dk_at dksX0_readAll_0 11 rfl rfl)
theorem dX0_readAll_14 : decode cX0_readAll 14 = .ok (.new 269, 3) := dk_187 1 13 (dk_at dksX0_readAll_0 14 rfl rfl)
theorem dX0_readAll_17 : decode cX0_readAll 17 = .ok (.dup, 1) := dk_89 (dk_at dksX0_readAll_0 17 rfl rfl)
theorem dX0_readAll_18 : decode cX0_readAll 18 = .ok (.bipush 38, 2) := dk_16 38 (dk_at dksX0_readAll_0 18 rfl rfl)
theorem dX0_readAll_20 : decode cX0_readAll 20 = .ok (.aload_n 1, 1) := dk_43 (dk_at dksX0_readAll_0 20 rfl rfl)
theorem dX0_readAll_21 : decode cX0_readAll 21 = .ok (.aload_n 0, 1) := dk_42 (dk_at dksX0_readAll_0 21 rfl rfl)
theorem dX0_readAll_22 : decode cX0_readAll 22 = .ok (.invokevirtual 280, 3) := dk_182 1 24 (dk_at dksX0_readAll_1 0 rfl rfl)
theorem dX0_readAll_25 : decode cX0_readAll 25 = .ok (.invokespecial 271, 3) := dk_183 1 15 (dk_at dksX0_readAll_1 3 rfl rfl)
theorem dX0_readAll_28 : decode cX0_readAll 28 = .ok (.astore_n 1, 1) := dk_76 (dk_at dksX0_readAll_1 6 rfl rfl)
theorem dX0_readAll_29 : decode cX0_readAll 29 = .ok (.goto (-24), 3) := dk_167 255 232 (dk_at dksX0_readAll_1 7 rfl rfl)
theorem dX0_readAll_32 : decode cX0_readAll 32 = .ok (.aload_n 1, 1) := dk_43 (dk_at dksX0_readAll_1 10 rfl rfl)
theorem dX0_readAll_33 : decode cX0_readAll 33 = .ok (.areturn, 1) := dk_176 (dk_at dksX0_readAll_1 11 rfl rfl)
abbrev cX0_readLike : ByteArray := prog_1_method_33_code
def yX0_readLike : MethodName := ⟨RX0, "readLike", "()LNailedByWord$Term;"⟩
def dkwX0_readLike_2 : List UInt8 := [181, 0, 128, 46, 61, 187, 1, 13, 89, 28, 43, 42, 182, 1, 21, 183, 1, 15, 176]
abbrev dktX0_readLike_2 : List UInt8 := dkwX0_readLike_2 ++ []
def dkwX0_readLike_1 : List UInt8 := [182, 0, 131, 16, 62, 159, 0, 5, 43, 176, 42, 180, 0, 37, 42, 89, 180, 0, 128, 90, 4, 96]
abbrev dktX0_readLike_1 : List UInt8 := dkwX0_readLike_1 ++ dktX0_readLike_2
def dkwX0_readLike_0 : List UInt8 := [42, 182, 1, 21, 76, 42, 182, 0, 131, 16, 60, 159, 0, 23, 42, 182, 0, 131, 16, 61, 159, 0, 14, 42]
abbrev dktX0_readLike_0 : List UInt8 := dkwX0_readLike_0 ++ dktX0_readLike_1
theorem dksX0_readLike_0 : cX0_readLike.data.toList.drop 0 = dktX0_readLike_0 := by decide +kernel
theorem dksX0_readLike_1 : cX0_readLike.data.toList.drop 24 = dktX0_readLike_1 := dk_seg dksX0_readLike_0 24 rfl rfl
theorem dksX0_readLike_2 : cX0_readLike.data.toList.drop 46 = dktX0_readLike_2 := dk_seg dksX0_readLike_1 22 rfl rfl
theorem dX0_readLike_0 : decode cX0_readLike 0 = .ok (.aload_n 0, 1) := dk_42 (dk_at dksX0_readLike_0 0 rfl rfl)
theorem dX0_readLike_1 : decode cX0_readLike 1 = .ok (.invokevirtual 277, 3) := dk_182 1 21 (dk_at dksX0_readLike_0 1 rfl rfl)
theorem dX0_readLike_4 : decode cX0_readLike 4 = .ok (.astore_n 1, 1) := dk_76 (dk_at dksX0_readLike_0 4 rfl rfl)
theorem dX0_readLike_5 : decode cX0_readLike 5 = .ok (.aload_n 0, 1) := dk_42 (dk_at dksX0_readLike_0 5 rfl rfl)
theorem dX0_readLike_6 : decode cX0_readLike 6 = .ok (.invokevirtual 131, 3) := dk_182 0 131 (dk_at dksX0_readLike_0 6 rfl rfl)
theorem dX0_readLike_9 : decode cX0_readLike 9 = .ok (.bipush 60, 2) := dk_16 60 (dk_at dksX0_readLike_0 9 rfl rfl)
theorem dX0_readLike_11 : decode cX0_readLike 11 = .ok (.if_icmp .eq 23, 3) := dk_159 0 23 (dk_at dksX0_readLike_0 11 rfl rfl)
theorem dX0_readLike_14 : decode cX0_readLike 14 = .ok (.aload_n 0, 1) := dk_42 (dk_at dksX0_readLike_0 14 rfl rfl)
theorem dX0_readLike_15 : decode cX0_readLike 15 = .ok (.invokevirtual 131, 3) := dk_182 0 131 (dk_at dksX0_readLike_0 15 rfl rfl)
theorem dX0_readLike_18 : decode cX0_readLike 18 = .ok (.bipush 61, 2) := dk_16 61 (dk_at dksX0_readLike_0 18 rfl rfl)
theorem dX0_readLike_20 : decode cX0_readLike 20 = .ok (.if_icmp .eq 14, 3) := dk_159 0 14 (dk_at dksX0_readLike_0 20 rfl rfl)
theorem dX0_readLike_23 : decode cX0_readLike 23 = .ok (.aload_n 0, 1) := dk_42 (dk_at dksX0_readLike_0 23 rfl rfl)
theorem dX0_readLike_24 : decode cX0_readLike 24 = .ok (.invokevirtual 131, 3) := dk_182 0 131 (dk_at dksX0_readLike_1 0 rfl rfl)
theorem dX0_readLike_27 : decode cX0_readLike 27 = .ok (.bipush 62, 2) := dk_16 62 (dk_at dksX0_readLike_1 3 rfl rfl)
theorem dX0_readLike_29 : decode cX0_readLike 29 = .ok (.if_icmp .eq 5, 3) := dk_159 0 5 (dk_at dksX0_readLike_1 5 rfl rfl)
theorem dX0_readLike_32 : decode cX0_readLike 32 = .ok (.aload_n 1, 1) := dk_43 (dk_at dksX0_readLike_1 8 rfl rfl)
theorem dX0_readLike_33 : decode cX0_readLike 33 = .ok (.areturn, 1) := dk_176 (dk_at dksX0_readLike_1 9 rfl rfl)
theorem dX0_readLike_34 : decode cX0_readLike 34 = .ok (.aload_n 0, 1) := dk_42 (dk_at dksX0_readLike_1 10 rfl rfl)
theorem dX0_readLike_35 : decode cX0_readLike 35 = .ok (.getfield 37, 3) := dk_180 0 37 (dk_at dksX0_readLike_1 11 rfl rfl)
theorem dX0_readLike_38 : decode cX0_readLike 38 = .ok (.aload_n 0, 1) := dk_42 (dk_at dksX0_readLike_1 14 rfl rfl)
theorem dX0_readLike_39 : decode cX0_readLike 39 = .ok (.dup, 1) := dk_89 (dk_at dksX0_readLike_1 15 rfl rfl)
theorem dX0_readLike_40 : decode cX0_readLike 40 = .ok (.getfield 128, 3) := dk_180 0 128 (dk_at dksX0_readLike_1 16 rfl rfl)
theorem dX0_readLike_43 : decode cX0_readLike 43 = .ok (.dup_x1, 1) := dk_90 (dk_at dksX0_readLike_1 19 rfl rfl)
theorem dX0_readLike_44 : decode cX0_readLike 44 = .ok (.iconst 1, 1) := dk_4 (dk_at dksX0_readLike_1 20 rfl rfl)
theorem dX0_readLike_45 : decode cX0_readLike 45 = .ok (.iadd, 1) := dk_96 (dk_at dksX0_readLike_1 21 rfl rfl)
theorem dX0_readLike_46 : decode cX0_readLike 46 = .ok (.putfield 128, 3) := dk_181 0 128 (dk_at dksX0_readLike_2 0 rfl rfl)
theorem dX0_readLike_49 : decode cX0_readLike 49 = .ok (.iaload, 1) := dk_46 (dk_at dksX0_readLike_2 3 rfl rfl)
theorem dX0_readLike_50 : decode cX0_readLike 50 = .ok (.istore_n 2, 1) := dk_61 (dk_at dksX0_readLike_2 4 rfl rfl)
theorem dX0_readLike_51 : decode cX0_readLike 51 = .ok (.new 269, 3) := dk_187 1 13 (dk_at dksX0_readLike_2 5 rfl rfl)
theorem dX0_readLike_54 : decode cX0_readLike 54 = .ok (.dup, 1) := dk_89 (dk_at dksX0_readLike_2 8 rfl rfl)
theorem dX0_readLike_55 : decode cX0_readLike 55 = .ok (.iload_n 2, 1) := dk_28 (dk_at dksX0_readLike_2 9 rfl rfl)
theorem dX0_readLike_56 : decode cX0_readLike 56 = .ok (.aload_n 1, 1) := dk_43 (dk_at dksX0_readLike_2 10 rfl rfl)
theorem dX0_readLike_57 : decode cX0_readLike 57 = .ok (.aload_n 0, 1) := dk_42 (dk_at dksX0_readLike_2 11 rfl rfl)
theorem dX0_readLike_58 : decode cX0_readLike 58 = .ok (.invokevirtual 277, 3) := dk_182 1 21 (dk_at dksX0_readLike_2 12 rfl rfl)
theorem dX0_readLike_61 : decode cX0_readLike 61 = .ok (.invokespecial 271, 3) := dk_183 1 15 (dk_at dksX0_readLike_2 15 rfl rfl)
theorem dX0_readLike_64 : decode cX0_readLike 64 = .ok (.areturn, 1) := dk_176 (dk_at dksX0_readLike_2 18 rfl rfl)
abbrev cX0_readPlus : ByteArray := prog_1_method_32_code
def yX0_readPlus : MethodName := ⟨RX0, "readPlus", "()LNailedByWord$Term;"⟩
def dkwX0_readPlus_2 : List UInt8 := [182, 1, 18, 183, 1, 15, 76, 167, 255, 207, 43, 176]
abbrev dktX0_readPlus_2 : List UInt8 := dkwX0_readPlus_2 ++ []
def dkwX0_readPlus_1 : List UInt8 := [180, 0, 37, 42, 89, 180, 0, 128, 90, 4, 96, 181, 0, 128, 46, 61, 187, 1, 13, 89, 28, 43, 42]
abbrev dktX0_readPlus_1 : List UInt8 := dkwX0_readPlus_1 ++ dktX0_readPlus_2
def dkwX0_readPlus_0 : List UInt8 := [42, 182, 1, 18, 76, 42, 182, 0, 131, 16, 43, 159, 0, 12, 42, 182, 0, 131, 16, 45, 160, 0, 37, 42]
abbrev dktX0_readPlus_0 : List UInt8 := dkwX0_readPlus_0 ++ dktX0_readPlus_1
theorem dksX0_readPlus_0 : cX0_readPlus.data.toList.drop 0 = dktX0_readPlus_0 := by decide +kernel
theorem dksX0_readPlus_1 : cX0_readPlus.data.toList.drop 24 = dktX0_readPlus_1 := dk_seg dksX0_readPlus_0 24 rfl rfl
theorem dksX0_readPlus_2 : cX0_readPlus.data.toList.drop 47 = dktX0_readPlus_2 := dk_seg dksX0_readPlus_1 23 rfl rfl
theorem dX0_readPlus_0 : decode cX0_readPlus 0 = .ok (.aload_n 0, 1) := dk_42 (dk_at dksX0_readPlus_0 0 rfl rfl)
theorem dX0_readPlus_1 : decode cX0_readPlus 1 = .ok (.invokevirtual 274, 3) := dk_182 1 18 (dk_at dksX0_readPlus_0 1 rfl rfl)
theorem dX0_readPlus_4 : decode cX0_readPlus 4 = .ok (.astore_n 1, 1) := dk_76 (dk_at dksX0_readPlus_0 4 rfl rfl)
theorem dX0_readPlus_5 : decode cX0_readPlus 5 = .ok (.aload_n 0, 1) := dk_42 (dk_at dksX0_readPlus_0 5 rfl rfl)
theorem dX0_readPlus_6 : decode cX0_readPlus 6 = .ok (.invokevirtual 131, 3) := dk_182 0 131 (dk_at dksX0_readPlus_0 6 rfl rfl)
theorem dX0_readPlus_9 : decode cX0_readPlus 9 = .ok (.bipush 43, 2) := dk_16 43 (dk_at dksX0_readPlus_0 9 rfl rfl)
theorem dX0_readPlus_11 : decode cX0_readPlus 11 = .ok (.if_icmp .eq 12, 3) := dk_159 0 12 (dk_at dksX0_readPlus_0 11 rfl rfl)
theorem dX0_readPlus_14 : decode cX0_readPlus 14 = .ok (.aload_n 0, 1) := dk_42 (dk_at dksX0_readPlus_0 14 rfl rfl)
theorem dX0_readPlus_15 : decode cX0_readPlus 15 = .ok (.invokevirtual 131, 3) := dk_182 0 131 (dk_at dksX0_readPlus_0 15 rfl rfl)
theorem dX0_readPlus_18 : decode cX0_readPlus 18 = .ok (.bipush 45, 2) := dk_16 45 (dk_at dksX0_readPlus_0 18 rfl rfl)
theorem dX0_readPlus_20 : decode cX0_readPlus 20 = .ok (.if_icmp .ne 37, 3) := dk_160 0 37 (dk_at dksX0_readPlus_0 20 rfl rfl)
theorem dX0_readPlus_23 : decode cX0_readPlus 23 = .ok (.aload_n 0, 1) := dk_42 (dk_at dksX0_readPlus_0 23 rfl rfl)
theorem dX0_readPlus_24 : decode cX0_readPlus 24 = .ok (.getfield 37, 3) := dk_180 0 37 (dk_at dksX0_readPlus_1 0 rfl rfl)
theorem dX0_readPlus_27 : decode cX0_readPlus 27 = .ok (.aload_n 0, 1) := dk_42 (dk_at dksX0_readPlus_1 3 rfl rfl)
theorem dX0_readPlus_28 : decode cX0_readPlus 28 = .ok (.dup, 1) := dk_89 (dk_at dksX0_readPlus_1 4 rfl rfl)
theorem dX0_readPlus_29 : decode cX0_readPlus 29 = .ok (.getfield 128, 3) := dk_180 0 128 (dk_at dksX0_readPlus_1 5 rfl rfl)
theorem dX0_readPlus_32 : decode cX0_readPlus 32 = .ok (.dup_x1, 1) := dk_90 (dk_at dksX0_readPlus_1 8 rfl rfl)
theorem dX0_readPlus_33 : decode cX0_readPlus 33 = .ok (.iconst 1, 1) := dk_4 (dk_at dksX0_readPlus_1 9 rfl rfl)
theorem dX0_readPlus_34 : decode cX0_readPlus 34 = .ok (.iadd, 1) := dk_96 (dk_at dksX0_readPlus_1 10 rfl rfl)
theorem dX0_readPlus_35 : decode cX0_readPlus 35 = .ok (.putfield 128, 3) := dk_181 0 128 (dk_at dksX0_readPlus_1 11 rfl rfl)
theorem dX0_readPlus_38 : decode cX0_readPlus 38 = .ok (.iaload, 1) := dk_46 (dk_at dksX0_readPlus_1 14 rfl rfl)
theorem dX0_readPlus_39 : decode cX0_readPlus 39 = .ok (.istore_n 2, 1) := dk_61 (dk_at dksX0_readPlus_1 15 rfl rfl)
theorem dX0_readPlus_40 : decode cX0_readPlus 40 = .ok (.new 269, 3) := dk_187 1 13 (dk_at dksX0_readPlus_1 16 rfl rfl)
theorem dX0_readPlus_43 : decode cX0_readPlus 43 = .ok (.dup, 1) := dk_89 (dk_at dksX0_readPlus_1 19 rfl rfl)
theorem dX0_readPlus_44 : decode cX0_readPlus 44 = .ok (.iload_n 2, 1) := dk_28 (dk_at dksX0_readPlus_1 20 rfl rfl)
theorem dX0_readPlus_45 : decode cX0_readPlus 45 = .ok (.aload_n 1, 1) := dk_43 (dk_at dksX0_readPlus_1 21 rfl rfl)
theorem dX0_readPlus_46 : decode cX0_readPlus 46 = .ok (.aload_n 0, 1) := dk_42 (dk_at dksX0_readPlus_1 22 rfl rfl)
theorem dX0_readPlus_47 : decode cX0_readPlus 47 = .ok (.invokevirtual 274, 3) := dk_182 1 18 (dk_at dksX0_readPlus_2 0 rfl rfl)
theorem dX0_readPlus_50 : decode cX0_readPlus 50 = .ok (.invokespecial 271, 3) := dk_183 1 15 (dk_at dksX0_readPlus_2 3 rfl rfl)
theorem dX0_readPlus_53 : decode cX0_readPlus 53 = .ok (.astore_n 1, 1) := dk_76 (dk_at dksX0_readPlus_2 6 rfl rfl)
theorem dX0_readPlus_54 : decode cX0_readPlus 54 = .ok (.goto (-49), 3) := dk_167 255 207 (dk_at dksX0_readPlus_2 7 rfl rfl)
theorem dX0_readPlus_57 : decode cX0_readPlus 57 = .ok (.aload_n 1, 1) := dk_43 (dk_at dksX0_readPlus_2 10 rfl rfl)
theorem dX0_readPlus_58 : decode cX0_readPlus 58 = .ok (.areturn, 1) := dk_176 (dk_at dksX0_readPlus_2 11 rfl rfl)
abbrev cX0_readTimes : ByteArray := prog_1_method_31_code
def yX0_readTimes : MethodName := ⟨RX0, "readTimes", "()LNailedByWord$Term;"⟩
def dkwX0_readTimes_2 : List UInt8 := [61, 187, 1, 13, 89, 28, 43, 42, 182, 1, 4, 183, 1, 15, 76, 167, 255, 198, 43, 176]
abbrev dktX0_readTimes_2 : List UInt8 := dkwX0_readTimes_2 ++ []
def dkwX0_readTimes_1 : List UInt8 := [182, 0, 131, 16, 37, 160, 0, 37, 42, 180, 0, 37, 42, 89, 180, 0, 128, 90, 4, 96, 181, 0, 128, 46]
abbrev dktX0_readTimes_1 : List UInt8 := dkwX0_readTimes_1 ++ dktX0_readTimes_2
def dkwX0_readTimes_0 : List UInt8 := [42, 182, 1, 4, 76, 42, 182, 0, 131, 16, 42, 159, 0, 21, 42, 182, 0, 131, 16, 47, 159, 0, 12, 42]
abbrev dktX0_readTimes_0 : List UInt8 := dkwX0_readTimes_0 ++ dktX0_readTimes_1
theorem dksX0_readTimes_0 : cX0_readTimes.data.toList.drop 0 = dktX0_readTimes_0 := by decide +kernel
theorem dksX0_readTimes_1 : cX0_readTimes.data.toList.drop 24 = dktX0_readTimes_1 := dk_seg dksX0_readTimes_0 24 rfl rfl
theorem dksX0_readTimes_2 : cX0_readTimes.data.toList.drop 48 = dktX0_readTimes_2 := dk_seg dksX0_readTimes_1 24 rfl rfl
theorem dX0_readTimes_0 : decode cX0_readTimes 0 = .ok (.aload_n 0, 1) := dk_42 (dk_at dksX0_readTimes_0 0 rfl rfl)
theorem dX0_readTimes_1 : decode cX0_readTimes 1 = .ok (.invokevirtual 260, 3) := dk_182 1 4 (dk_at dksX0_readTimes_0 1 rfl rfl)
theorem dX0_readTimes_4 : decode cX0_readTimes 4 = .ok (.astore_n 1, 1) := dk_76 (dk_at dksX0_readTimes_0 4 rfl rfl)
theorem dX0_readTimes_5 : decode cX0_readTimes 5 = .ok (.aload_n 0, 1) := dk_42 (dk_at dksX0_readTimes_0 5 rfl rfl)
theorem dX0_readTimes_6 : decode cX0_readTimes 6 = .ok (.invokevirtual 131, 3) := dk_182 0 131 (dk_at dksX0_readTimes_0 6 rfl rfl)
theorem dX0_readTimes_9 : decode cX0_readTimes 9 = .ok (.bipush 42, 2) := dk_16 42 (dk_at dksX0_readTimes_0 9 rfl rfl)
theorem dX0_readTimes_11 : decode cX0_readTimes 11 = .ok (.if_icmp .eq 21, 3) := dk_159 0 21 (dk_at dksX0_readTimes_0 11 rfl rfl)
theorem dX0_readTimes_14 : decode cX0_readTimes 14 = .ok (.aload_n 0, 1) := dk_42 (dk_at dksX0_readTimes_0 14 rfl rfl)
theorem dX0_readTimes_15 : decode cX0_readTimes 15 = .ok (.invokevirtual 131, 3) := dk_182 0 131 (dk_at dksX0_readTimes_0 15 rfl rfl)
theorem dX0_readTimes_18 : decode cX0_readTimes 18 = .ok (.bipush 47, 2) := dk_16 47 (dk_at dksX0_readTimes_0 18 rfl rfl)
theorem dX0_readTimes_20 : decode cX0_readTimes 20 = .ok (.if_icmp .eq 12, 3) := dk_159 0 12 (dk_at dksX0_readTimes_0 20 rfl rfl)
theorem dX0_readTimes_23 : decode cX0_readTimes 23 = .ok (.aload_n 0, 1) := dk_42 (dk_at dksX0_readTimes_0 23 rfl rfl)
theorem dX0_readTimes_24 : decode cX0_readTimes 24 = .ok (.invokevirtual 131, 3) := dk_182 0 131 (dk_at dksX0_readTimes_1 0 rfl rfl)
theorem dX0_readTimes_27 : decode cX0_readTimes 27 = .ok (.bipush 37, 2) := dk_16 37 (dk_at dksX0_readTimes_1 3 rfl rfl)
theorem dX0_readTimes_29 : decode cX0_readTimes 29 = .ok (.if_icmp .ne 37, 3) := dk_160 0 37 (dk_at dksX0_readTimes_1 5 rfl rfl)
theorem dX0_readTimes_32 : decode cX0_readTimes 32 = .ok (.aload_n 0, 1) := dk_42 (dk_at dksX0_readTimes_1 8 rfl rfl)
theorem dX0_readTimes_33 : decode cX0_readTimes 33 = .ok (.getfield 37, 3) := dk_180 0 37 (dk_at dksX0_readTimes_1 9 rfl rfl)
theorem dX0_readTimes_36 : decode cX0_readTimes 36 = .ok (.aload_n 0, 1) := dk_42 (dk_at dksX0_readTimes_1 12 rfl rfl)
theorem dX0_readTimes_37 : decode cX0_readTimes 37 = .ok (.dup, 1) := dk_89 (dk_at dksX0_readTimes_1 13 rfl rfl)
theorem dX0_readTimes_38 : decode cX0_readTimes 38 = .ok (.getfield 128, 3) := dk_180 0 128 (dk_at dksX0_readTimes_1 14 rfl rfl)
theorem dX0_readTimes_41 : decode cX0_readTimes 41 = .ok (.dup_x1, 1) := dk_90 (dk_at dksX0_readTimes_1 17 rfl rfl)
theorem dX0_readTimes_42 : decode cX0_readTimes 42 = .ok (.iconst 1, 1) := dk_4 (dk_at dksX0_readTimes_1 18 rfl rfl)
theorem dX0_readTimes_43 : decode cX0_readTimes 43 = .ok (.iadd, 1) := dk_96 (dk_at dksX0_readTimes_1 19 rfl rfl)
theorem dX0_readTimes_44 : decode cX0_readTimes 44 = .ok (.putfield 128, 3) := dk_181 0 128 (dk_at dksX0_readTimes_1 20 rfl rfl)
theorem dX0_readTimes_47 : decode cX0_readTimes 47 = .ok (.iaload, 1) := dk_46 (dk_at dksX0_readTimes_1 23 rfl rfl)
theorem dX0_readTimes_48 : decode cX0_readTimes 48 = .ok (.istore_n 2, 1) := dk_61 (dk_at dksX0_readTimes_2 0 rfl rfl)
theorem dX0_readTimes_49 : decode cX0_readTimes 49 = .ok (.new 269, 3) := dk_187 1 13 (dk_at dksX0_readTimes_2 1 rfl rfl)
theorem dX0_readTimes_52 : decode cX0_readTimes 52 = .ok (.dup, 1) := dk_89 (dk_at dksX0_readTimes_2 4 rfl rfl)
theorem dX0_readTimes_53 : decode cX0_readTimes 53 = .ok (.iload_n 2, 1) := dk_28 (dk_at dksX0_readTimes_2 5 rfl rfl)
theorem dX0_readTimes_54 : decode cX0_readTimes 54 = .ok (.aload_n 1, 1) := dk_43 (dk_at dksX0_readTimes_2 6 rfl rfl)
theorem dX0_readTimes_55 : decode cX0_readTimes 55 = .ok (.aload_n 0, 1) := dk_42 (dk_at dksX0_readTimes_2 7 rfl rfl)
theorem dX0_readTimes_56 : decode cX0_readTimes 56 = .ok (.invokevirtual 260, 3) := dk_182 1 4 (dk_at dksX0_readTimes_2 8 rfl rfl)
theorem dX0_readTimes_59 : decode cX0_readTimes 59 = .ok (.invokespecial 271, 3) := dk_183 1 15 (dk_at dksX0_readTimes_2 11 rfl rfl)
theorem dX0_readTimes_62 : decode cX0_readTimes 62 = .ok (.astore_n 1, 1) := dk_76 (dk_at dksX0_readTimes_2 14 rfl rfl)
theorem dX0_readTimes_63 : decode cX0_readTimes 63 = .ok (.goto (-58), 3) := dk_167 255 198 (dk_at dksX0_readTimes_2 15 rfl rfl)
theorem dX0_readTimes_66 : decode cX0_readTimes 66 = .ok (.aload_n 1, 1) := dk_43 (dk_at dksX0_readTimes_2 18 rfl rfl)
theorem dX0_readTimes_67 : decode cX0_readTimes 67 = .ok (.areturn, 1) := dk_176 (dk_at dksX0_readTimes_2 19 rfl rfl)
abbrev cX0_readOne : ByteArray := prog_1_method_30_code
def yX0_readOne : MethodName := ⟨RX0, "readOne", "()LNailedByWord$Term;"⟩
def dkwX0_readOne_8 : List UInt8 := [16, 40, 160, 0, 9, 42, 16, 41, 182, 1, 10, 42, 89, 180, 0, 251, 4, 100, 181, 0, 251, 45, 176]
abbrev dktX0_readOne_8 : List UInt8 := dkwX0_readOne_8 ++ []
def dkwX0_readOne_7 : List UInt8 := [160, 0, 10, 42, 182, 0, 254, 167, 0, 15, 187, 1, 2, 89, 28, 42, 182, 1, 4, 183, 1, 7, 78, 28]
abbrev dktX0_readOne_7 : List UInt8 := dkwX0_readOne_7 ++ dktX0_readOne_8
def dkwX0_readOne_6 : List UInt8 := [89, 180, 0, 128, 4, 96, 181, 0, 128, 42, 89, 180, 0, 251, 4, 96, 181, 0, 251, 28, 16, 40]
abbrev dktX0_readOne_6 : List UInt8 := dkwX0_readOne_6 ++ dktX0_readOne_7
def dkwX0_readOne_5 : List UInt8 := [159, 0, 9, 28, 16, 40, 160, 0, 12, 42, 180, 0, 251, 16, 6, 160, 0, 8, 42, 180, 0, 44, 191, 42]
abbrev dktX0_readOne_5 : List UInt8 := dkwX0_readOne_5 ++ dktX0_readOne_6
def dkwX0_readOne_4 : List UInt8 := [187, 0, 246, 89, 42, 27, 183, 0, 248, 176, 42, 182, 0, 131, 61, 28, 16, 33, 159, 0, 15, 28, 16, 45]
abbrev dktX0_readOne_4 : List UInt8 := dkwX0_readOne_4 ++ dktX0_readOne_5
def dkwX0_readOne_3 : List UInt8 := [182, 0, 131, 184, 0, 242, 60, 27, 2, 159, 0, 23, 42, 89, 180, 0, 128, 4, 96, 181, 0, 128]
abbrev dktX0_readOne_3 : List UInt8 := dkwX0_readOne_3 ++ dktX0_readOne_4
def dkwX0_readOne_2 : List UInt8 := [181, 0, 128, 46, 96, 16, 48, 100, 60, 167, 255, 214, 187, 0, 239, 89, 27, 183, 0, 241, 176, 42]
abbrev dktX0_readOne_2 : List UInt8 := dkwX0_readOne_2 ++ dktX0_readOne_3
def dkwX0_readOne_1 : List UInt8 := [42, 182, 0, 235, 153, 0, 31, 16, 10, 27, 104, 42, 180, 0, 37, 42, 89, 180, 0, 128, 90, 4, 96]
abbrev dktX0_readOne_1 : List UInt8 := dkwX0_readOne_1 ++ dktX0_readOne_2
def dkwX0_readOne_0 : List UInt8 := [42, 182, 0, 235, 153, 0, 64, 3, 60, 42, 180, 0, 128, 61, 42, 180, 0, 128, 28, 7, 96, 162, 0, 38]
abbrev dktX0_readOne_0 : List UInt8 := dkwX0_readOne_0 ++ dktX0_readOne_1
theorem dksX0_readOne_0 : cX0_readOne.data.toList.drop 0 = dktX0_readOne_0 := by decide +kernel
theorem dksX0_readOne_1 : cX0_readOne.data.toList.drop 24 = dktX0_readOne_1 := dk_seg dksX0_readOne_0 24 rfl rfl
theorem dksX0_readOne_2 : cX0_readOne.data.toList.drop 47 = dktX0_readOne_2 := dk_seg dksX0_readOne_1 23 rfl rfl
theorem dksX0_readOne_3 : cX0_readOne.data.toList.drop 69 = dktX0_readOne_3 := dk_seg dksX0_readOne_2 22 rfl rfl
theorem dksX0_readOne_4 : cX0_readOne.data.toList.drop 91 = dktX0_readOne_4 := dk_seg dksX0_readOne_3 22 rfl rfl
theorem dksX0_readOne_5 : cX0_readOne.data.toList.drop 115 = dktX0_readOne_5 := dk_seg dksX0_readOne_4 24 rfl rfl
theorem dksX0_readOne_6 : cX0_readOne.data.toList.drop 139 = dktX0_readOne_6 := dk_seg dksX0_readOne_5 24 rfl rfl
theorem dksX0_readOne_7 : cX0_readOne.data.toList.drop 161 = dktX0_readOne_7 := dk_seg dksX0_readOne_6 22 rfl rfl
theorem dksX0_readOne_8 : cX0_readOne.data.toList.drop 185 = dktX0_readOne_8 := dk_seg dksX0_readOne_7 24 rfl rfl
theorem dX0_readOne_0 : decode cX0_readOne 0 = .ok (.aload_n 0, 1) := dk_42 (dk_at dksX0_readOne_0 0 rfl rfl)
theorem dX0_readOne_1 : decode cX0_readOne 1 = .ok (.invokevirtual 235, 3) := dk_182 0 235 (dk_at dksX0_readOne_0 1 rfl rfl)
theorem dX0_readOne_4 : decode cX0_readOne 4 = .ok (.ifCond .eq 64, 3) := dk_153 0 64 (dk_at dksX0_readOne_0 4 rfl rfl)
theorem dX0_readOne_7 : decode cX0_readOne 7 = .ok (.iconst 0, 1) := dk_3 (dk_at dksX0_readOne_0 7 rfl rfl)
theorem dX0_readOne_8 : decode cX0_readOne 8 = .ok (.istore_n 1, 1) := dk_60 (dk_at dksX0_readOne_0 8 rfl rfl)
theorem dX0_readOne_9 : decode cX0_readOne 9 = .ok (.aload_n 0, 1) := dk_42 (dk_at dksX0_readOne_0 9 rfl rfl)
theorem dX0_readOne_10 : decode cX0_readOne 10 = .ok (.getfield 128, 3) := dk_180 0 128 (dk_at dksX0_readOne_0 10 rfl rfl)
theorem dX0_readOne_13 : decode cX0_readOne 13 = .ok (.istore_n 2, 1) := dk_61 (dk_at dksX0_readOne_0 13 rfl rfl)
theorem dX0_readOne_14 : decode cX0_readOne 14 = .ok (.aload_n 0, 1) := dk_42 (dk_at dksX0_readOne_0 14 rfl rfl)
theorem dX0_readOne_15 : decode cX0_readOne 15 = .ok (.getfield 128, 3) := dk_180 0 128 (dk_at dksX0_readOne_0 15 rfl rfl)
theorem dX0_readOne_18 : decode cX0_readOne 18 = .ok (.iload_n 2, 1) := dk_28 (dk_at dksX0_readOne_0 18 rfl rfl)
theorem dX0_readOne_19 : decode cX0_readOne 19 = .ok (.iconst 4, 1) := dk_7 (dk_at dksX0_readOne_0 19 rfl rfl)
theorem dX0_readOne_20 : decode cX0_readOne 20 = .ok (.iadd, 1) := dk_96 (dk_at dksX0_readOne_0 20 rfl rfl)
theorem dX0_readOne_21 : decode cX0_readOne 21 = .ok (.if_icmp .ge 38, 3) := dk_162 0 38 (dk_at dksX0_readOne_0 21 rfl rfl)
theorem dX0_readOne_24 : decode cX0_readOne 24 = .ok (.aload_n 0, 1) := dk_42 (dk_at dksX0_readOne_1 0 rfl rfl)
theorem dX0_readOne_25 : decode cX0_readOne 25 = .ok (.invokevirtual 235, 3) := dk_182 0 235 (dk_at dksX0_readOne_1 1 rfl rfl)
theorem dX0_readOne_28 : decode cX0_readOne 28 = .ok (.ifCond .eq 31, 3) := dk_153 0 31 (dk_at dksX0_readOne_1 4 rfl rfl)
theorem dX0_readOne_31 : decode cX0_readOne 31 = .ok (.bipush 10, 2) := dk_16 10 (dk_at dksX0_readOne_1 7 rfl rfl)
theorem dX0_readOne_33 : decode cX0_readOne 33 = .ok (.iload_n 1, 1) := dk_27 (dk_at dksX0_readOne_1 9 rfl rfl)
theorem dX0_readOne_34 : decode cX0_readOne 34 = .ok (.imul, 1) := dk_104 (dk_at dksX0_readOne_1 10 rfl rfl)
theorem dX0_readOne_35 : decode cX0_readOne 35 = .ok (.aload_n 0, 1) := dk_42 (dk_at dksX0_readOne_1 11 rfl rfl)
theorem dX0_readOne_36 : decode cX0_readOne 36 = .ok (.getfield 37, 3) := dk_180 0 37 (dk_at dksX0_readOne_1 12 rfl rfl)
theorem dX0_readOne_39 : decode cX0_readOne 39 = .ok (.aload_n 0, 1) := dk_42 (dk_at dksX0_readOne_1 15 rfl rfl)
theorem dX0_readOne_40 : decode cX0_readOne 40 = .ok (.dup, 1) := dk_89 (dk_at dksX0_readOne_1 16 rfl rfl)
theorem dX0_readOne_41 : decode cX0_readOne 41 = .ok (.getfield 128, 3) := dk_180 0 128 (dk_at dksX0_readOne_1 17 rfl rfl)
theorem dX0_readOne_44 : decode cX0_readOne 44 = .ok (.dup_x1, 1) := dk_90 (dk_at dksX0_readOne_1 20 rfl rfl)
theorem dX0_readOne_45 : decode cX0_readOne 45 = .ok (.iconst 1, 1) := dk_4 (dk_at dksX0_readOne_1 21 rfl rfl)
theorem dX0_readOne_46 : decode cX0_readOne 46 = .ok (.iadd, 1) := dk_96 (dk_at dksX0_readOne_1 22 rfl rfl)
theorem dX0_readOne_47 : decode cX0_readOne 47 = .ok (.putfield 128, 3) := dk_181 0 128 (dk_at dksX0_readOne_2 0 rfl rfl)
theorem dX0_readOne_50 : decode cX0_readOne 50 = .ok (.iaload, 1) := dk_46 (dk_at dksX0_readOne_2 3 rfl rfl)
theorem dX0_readOne_51 : decode cX0_readOne 51 = .ok (.iadd, 1) := dk_96 (dk_at dksX0_readOne_2 4 rfl rfl)
theorem dX0_readOne_52 : decode cX0_readOne 52 = .ok (.bipush 48, 2) := dk_16 48 (dk_at dksX0_readOne_2 5 rfl rfl)
theorem dX0_readOne_54 : decode cX0_readOne 54 = .ok (.isub, 1) := dk_100 (dk_at dksX0_readOne_2 7 rfl rfl)
theorem dX0_readOne_55 : decode cX0_readOne 55 = .ok (.istore_n 1, 1) := dk_60 (dk_at dksX0_readOne_2 8 rfl rfl)
theorem dX0_readOne_56 : decode cX0_readOne 56 = .ok (.goto (-42), 3) := dk_167 255 214 (dk_at dksX0_readOne_2 9 rfl rfl)
theorem dX0_readOne_59 : decode cX0_readOne 59 = .ok (.new 239, 3) := dk_187 0 239 (dk_at dksX0_readOne_2 12 rfl rfl)
theorem dX0_readOne_62 : decode cX0_readOne 62 = .ok (.dup, 1) := dk_89 (dk_at dksX0_readOne_2 15 rfl rfl)
theorem dX0_readOne_63 : decode cX0_readOne 63 = .ok (.iload_n 1, 1) := dk_27 (dk_at dksX0_readOne_2 16 rfl rfl)
theorem dX0_readOne_64 : decode cX0_readOne 64 = .ok (.invokespecial 241, 3) := dk_183 0 241 (dk_at dksX0_readOne_2 17 rfl rfl)
theorem dX0_readOne_67 : decode cX0_readOne 67 = .ok (.areturn, 1) := dk_176 (dk_at dksX0_readOne_2 20 rfl rfl)
theorem dX0_readOne_68 : decode cX0_readOne 68 = .ok (.aload_n 0, 1) := dk_42 (dk_at dksX0_readOne_2 21 rfl rfl)
theorem dX0_readOne_69 : decode cX0_readOne 69 = .ok (.invokevirtual 131, 3) := dk_182 0 131 (dk_at dksX0_readOne_3 0 rfl rfl)
theorem dX0_readOne_72 : decode cX0_readOne 72 = .ok (.invokestatic 242, 3) := dk_184 0 242 (dk_at dksX0_readOne_3 3 rfl rfl)
theorem dX0_readOne_75 : decode cX0_readOne 75 = .ok (.istore_n 1, 1) := dk_60 (dk_at dksX0_readOne_3 6 rfl rfl)
theorem dX0_readOne_76 : decode cX0_readOne 76 = .ok (.iload_n 1, 1) := dk_27 (dk_at dksX0_readOne_3 7 rfl rfl)
theorem dX0_readOne_77 : decode cX0_readOne 77 = .ok (.iconst (-1), 1) := dk_2 (dk_at dksX0_readOne_3 8 rfl rfl)
theorem dX0_readOne_78 : decode cX0_readOne 78 = .ok (.if_icmp .eq 23, 3) := dk_159 0 23 (dk_at dksX0_readOne_3 9 rfl rfl)
theorem dX0_readOne_81 : decode cX0_readOne 81 = .ok (.aload_n 0, 1) := dk_42 (dk_at dksX0_readOne_3 12 rfl rfl)
theorem dX0_readOne_82 : decode cX0_readOne 82 = .ok (.dup, 1) := dk_89 (dk_at dksX0_readOne_3 13 rfl rfl)
theorem dX0_readOne_83 : decode cX0_readOne 83 = .ok (.getfield 128, 3) := dk_180 0 128 (dk_at dksX0_readOne_3 14 rfl rfl)
theorem dX0_readOne_86 : decode cX0_readOne 86 = .ok (.iconst 1, 1) := dk_4 (dk_at dksX0_readOne_3 17 rfl rfl)
theorem dX0_readOne_87 : decode cX0_readOne 87 = .ok (.iadd, 1) := dk_96 (dk_at dksX0_readOne_3 18 rfl rfl)
theorem dX0_readOne_88 : decode cX0_readOne 88 = .ok (.putfield 128, 3) := dk_181 0 128 (dk_at dksX0_readOne_3 19 rfl rfl)
theorem dX0_readOne_91 : decode cX0_readOne 91 = .ok (.new 246, 3) := dk_187 0 246 (dk_at dksX0_readOne_4 0 rfl rfl)
theorem dX0_readOne_94 : decode cX0_readOne 94 = .ok (.dup, 1) := dk_89 (dk_at dksX0_readOne_4 3 rfl rfl)
theorem dX0_readOne_95 : decode cX0_readOne 95 = .ok (.aload_n 0, 1) := dk_42 (dk_at dksX0_readOne_4 4 rfl rfl)
theorem dX0_readOne_96 : decode cX0_readOne 96 = .ok (.iload_n 1, 1) := dk_27 (dk_at dksX0_readOne_4 5 rfl rfl)
theorem dX0_readOne_97 : decode cX0_readOne 97 = .ok (.invokespecial 248, 3) := dk_183 0 248 (dk_at dksX0_readOne_4 6 rfl rfl)
theorem dX0_readOne_100 : decode cX0_readOne 100 = .ok (.areturn, 1) := dk_176 (dk_at dksX0_readOne_4 9 rfl rfl)
theorem dX0_readOne_101 : decode cX0_readOne 101 = .ok (.aload_n 0, 1) := dk_42 (dk_at dksX0_readOne_4 10 rfl rfl)
theorem dX0_readOne_102 : decode cX0_readOne 102 = .ok (.invokevirtual 131, 3) := dk_182 0 131 (dk_at dksX0_readOne_4 11 rfl rfl)
theorem dX0_readOne_105 : decode cX0_readOne 105 = .ok (.istore_n 2, 1) := dk_61 (dk_at dksX0_readOne_4 14 rfl rfl)
theorem dX0_readOne_106 : decode cX0_readOne 106 = .ok (.iload_n 2, 1) := dk_28 (dk_at dksX0_readOne_4 15 rfl rfl)
theorem dX0_readOne_107 : decode cX0_readOne 107 = .ok (.bipush 33, 2) := dk_16 33 (dk_at dksX0_readOne_4 16 rfl rfl)
theorem dX0_readOne_109 : decode cX0_readOne 109 = .ok (.if_icmp .eq 15, 3) := dk_159 0 15 (dk_at dksX0_readOne_4 18 rfl rfl)
theorem dX0_readOne_112 : decode cX0_readOne 112 = .ok (.iload_n 2, 1) := dk_28 (dk_at dksX0_readOne_4 21 rfl rfl)
theorem dX0_readOne_113 : decode cX0_readOne 113 = .ok (.bipush 45, 2) := dk_16 45 (dk_at dksX0_readOne_4 22 rfl rfl)
theorem dX0_readOne_115 : decode cX0_readOne 115 = .ok (.if_icmp .eq 9, 3) := dk_159 0 9 (dk_at dksX0_readOne_5 0 rfl rfl)
theorem dX0_readOne_118 : decode cX0_readOne 118 = .ok (.iload_n 2, 1) := dk_28 (dk_at dksX0_readOne_5 3 rfl rfl)
theorem dX0_readOne_119 : decode cX0_readOne 119 = .ok (.bipush 40, 2) := dk_16 40 (dk_at dksX0_readOne_5 4 rfl rfl)
theorem dX0_readOne_121 : decode cX0_readOne 121 = .ok (.if_icmp .ne 12, 3) := dk_160 0 12 (dk_at dksX0_readOne_5 6 rfl rfl)
theorem dX0_readOne_124 : decode cX0_readOne 124 = .ok (.aload_n 0, 1) := dk_42 (dk_at dksX0_readOne_5 9 rfl rfl)
theorem dX0_readOne_125 : decode cX0_readOne 125 = .ok (.getfield 251, 3) := dk_180 0 251 (dk_at dksX0_readOne_5 10 rfl rfl)
theorem dX0_readOne_128 : decode cX0_readOne 128 = .ok (.bipush 6, 2) := dk_16 6 (dk_at dksX0_readOne_5 13 rfl rfl)
theorem dX0_readOne_130 : decode cX0_readOne 130 = .ok (.if_icmp .ne 8, 3) := dk_160 0 8 (dk_at dksX0_readOne_5 15 rfl rfl)
theorem dX0_readOne_133 : decode cX0_readOne 133 = .ok (.aload_n 0, 1) := dk_42 (dk_at dksX0_readOne_5 18 rfl rfl)
theorem dX0_readOne_134 : decode cX0_readOne 134 = .ok (.getfield 44, 3) := dk_180 0 44 (dk_at dksX0_readOne_5 19 rfl rfl)
theorem dX0_readOne_137 : decode cX0_readOne 137 = .ok (.athrow, 1) := dk_191 (dk_at dksX0_readOne_5 22 rfl rfl)
theorem dX0_readOne_138 : decode cX0_readOne 138 = .ok (.aload_n 0, 1) := dk_42 (dk_at dksX0_readOne_5 23 rfl rfl)
theorem dX0_readOne_139 : decode cX0_readOne 139 = .ok (.dup, 1) := dk_89 (dk_at dksX0_readOne_6 0 rfl rfl)
theorem dX0_readOne_140 : decode cX0_readOne 140 = .ok (.getfield 128, 3) := dk_180 0 128 (dk_at dksX0_readOne_6 1 rfl rfl)
theorem dX0_readOne_143 : decode cX0_readOne 143 = .ok (.iconst 1, 1) := dk_4 (dk_at dksX0_readOne_6 4 rfl rfl)
theorem dX0_readOne_144 : decode cX0_readOne 144 = .ok (.iadd, 1) := dk_96 (dk_at dksX0_readOne_6 5 rfl rfl)
theorem dX0_readOne_145 : decode cX0_readOne 145 = .ok (.putfield 128, 3) := dk_181 0 128 (dk_at dksX0_readOne_6 6 rfl rfl)
theorem dX0_readOne_148 : decode cX0_readOne 148 = .ok (.aload_n 0, 1) := dk_42 (dk_at dksX0_readOne_6 9 rfl rfl)
theorem dX0_readOne_149 : decode cX0_readOne 149 = .ok (.dup, 1) := dk_89 (dk_at dksX0_readOne_6 10 rfl rfl)
theorem dX0_readOne_150 : decode cX0_readOne 150 = .ok (.getfield 251, 3) := dk_180 0 251 (dk_at dksX0_readOne_6 11 rfl rfl)
theorem dX0_readOne_153 : decode cX0_readOne 153 = .ok (.iconst 1, 1) := dk_4 (dk_at dksX0_readOne_6 14 rfl rfl)
theorem dX0_readOne_154 : decode cX0_readOne 154 = .ok (.iadd, 1) := dk_96 (dk_at dksX0_readOne_6 15 rfl rfl)
theorem dX0_readOne_155 : decode cX0_readOne 155 = .ok (.putfield 251, 3) := dk_181 0 251 (dk_at dksX0_readOne_6 16 rfl rfl)
theorem dX0_readOne_158 : decode cX0_readOne 158 = .ok (.iload_n 2, 1) := dk_28 (dk_at dksX0_readOne_6 19 rfl rfl)
theorem dX0_readOne_159 : decode cX0_readOne 159 = .ok (.bipush 40, 2) := dk_16 40 (dk_at dksX0_readOne_6 20 rfl rfl)
theorem dX0_readOne_161 : decode cX0_readOne 161 = .ok (.if_icmp .ne 10, 3) := dk_160 0 10 (dk_at dksX0_readOne_7 0 rfl rfl)
theorem dX0_readOne_164 : decode cX0_readOne 164 = .ok (.aload_n 0, 1) := dk_42 (dk_at dksX0_readOne_7 3 rfl rfl)
theorem dX0_readOne_165 : decode cX0_readOne 165 = .ok (.invokevirtual 254, 3) := dk_182 0 254 (dk_at dksX0_readOne_7 4 rfl rfl)
theorem dX0_readOne_168 : decode cX0_readOne 168 = .ok (.goto 15, 3) := dk_167 0 15 (dk_at dksX0_readOne_7 7 rfl rfl)
theorem dX0_readOne_171 : decode cX0_readOne 171 = .ok (.new 258, 3) := dk_187 1 2 (dk_at dksX0_readOne_7 10 rfl rfl)
theorem dX0_readOne_174 : decode cX0_readOne 174 = .ok (.dup, 1) := dk_89 (dk_at dksX0_readOne_7 13 rfl rfl)
theorem dX0_readOne_175 : decode cX0_readOne 175 = .ok (.iload_n 2, 1) := dk_28 (dk_at dksX0_readOne_7 14 rfl rfl)
theorem dX0_readOne_176 : decode cX0_readOne 176 = .ok (.aload_n 0, 1) := dk_42 (dk_at dksX0_readOne_7 15 rfl rfl)
theorem dX0_readOne_177 : decode cX0_readOne 177 = .ok (.invokevirtual 260, 3) := dk_182 1 4 (dk_at dksX0_readOne_7 16 rfl rfl)
theorem dX0_readOne_180 : decode cX0_readOne 180 = .ok (.invokespecial 263, 3) := dk_183 1 7 (dk_at dksX0_readOne_7 19 rfl rfl)
theorem dX0_readOne_183 : decode cX0_readOne 183 = .ok (.astore_n 3, 1) := dk_78 (dk_at dksX0_readOne_7 22 rfl rfl)
theorem dX0_readOne_184 : decode cX0_readOne 184 = .ok (.iload_n 2, 1) := dk_28 (dk_at dksX0_readOne_7 23 rfl rfl)
theorem dX0_readOne_185 : decode cX0_readOne 185 = .ok (.bipush 40, 2) := dk_16 40 (dk_at dksX0_readOne_8 0 rfl rfl)
theorem dX0_readOne_187 : decode cX0_readOne 187 = .ok (.if_icmp .ne 9, 3) := dk_160 0 9 (dk_at dksX0_readOne_8 2 rfl rfl)
theorem dX0_readOne_190 : decode cX0_readOne 190 = .ok (.aload_n 0, 1) := dk_42 (dk_at dksX0_readOne_8 5 rfl rfl)
theorem dX0_readOne_191 : decode cX0_readOne 191 = .ok (.bipush 41, 2) := dk_16 41 (dk_at dksX0_readOne_8 6 rfl rfl)
theorem dX0_readOne_193 : decode cX0_readOne 193 = .ok (.invokevirtual 266, 3) := dk_182 1 10 (dk_at dksX0_readOne_8 8 rfl rfl)
theorem dX0_readOne_196 : decode cX0_readOne 196 = .ok (.aload_n 0, 1) := dk_42 (dk_at dksX0_readOne_8 11 rfl rfl)
theorem dX0_readOne_197 : decode cX0_readOne 197 = .ok (.dup, 1) := dk_89 (dk_at dksX0_readOne_8 12 rfl rfl)
theorem dX0_readOne_198 : decode cX0_readOne 198 = .ok (.getfield 251, 3) := dk_180 0 251 (dk_at dksX0_readOne_8 13 rfl rfl)
theorem dX0_readOne_201 : decode cX0_readOne 201 = .ok (.iconst 1, 1) := dk_4 (dk_at dksX0_readOne_8 16 rfl rfl)
theorem dX0_readOne_202 : decode cX0_readOne 202 = .ok (.isub, 1) := dk_100 (dk_at dksX0_readOne_8 17 rfl rfl)
theorem dX0_readOne_203 : decode cX0_readOne 203 = .ok (.putfield 251, 3) := dk_181 0 251 (dk_at dksX0_readOne_8 18 rfl rfl)
theorem dX0_readOne_206 : decode cX0_readOne 206 = .ok (.aload_n 3, 1) := dk_45 (dk_at dksX0_readOne_8 21 rfl rfl)
theorem dX0_readOne_207 : decode cX0_readOne 207 = .ok (.areturn, 1) := dk_176 (dk_at dksX0_readOne_8 22 rfl rfl)
abbrev cX0_isDigit : ByteArray := prog_1_method_14_code
def yX0_isDigit : MethodName := ⟨RX0, "isDigit", "()Z"⟩
def dkwX0_isDigit_0 : List UInt8 := [42, 182, 0, 131, 133, 20, 0, 139, 20, 0, 141, 184, 0, 121, 172]
abbrev dktX0_isDigit_0 : List UInt8 := dkwX0_isDigit_0 ++ []
theorem dksX0_isDigit_0 : cX0_isDigit.data.toList.drop 0 = dktX0_isDigit_0 := by decide +kernel
theorem dX0_isDigit_0 : decode cX0_isDigit 0 = .ok (.aload_n 0, 1) := dk_42 (dk_at dksX0_isDigit_0 0 rfl rfl)
theorem dX0_isDigit_1 : decode cX0_isDigit 1 = .ok (.invokevirtual 131, 3) := dk_182 0 131 (dk_at dksX0_isDigit_0 1 rfl rfl)
theorem dX0_isDigit_4 : decode cX0_isDigit 4 = .ok (.i2l, 1) := dk_133 (dk_at dksX0_isDigit_0 4 rfl rfl)
theorem dX0_isDigit_5 : decode cX0_isDigit 5 = .ok (.ldc2_w 139, 3) := dk_20 0 139 (dk_at dksX0_isDigit_0 5 rfl rfl)
theorem dX0_isDigit_8 : decode cX0_isDigit 8 = .ok (.ldc2_w 141, 3) := dk_20 0 141 (dk_at dksX0_isDigit_0 8 rfl rfl)
theorem dX0_isDigit_11 : decode cX0_isDigit 11 = .ok (.invokestatic 121, 3) := dk_184 0 121 (dk_at dksX0_isDigit_0 11 rfl rfl)
theorem dX0_isDigit_14 : decode cX0_isDigit 14 = .ok (.ireturn, 1) := dk_172 (dk_at dksX0_isDigit_0 14 rfl rfl)
abbrev cX0_peek : ByteArray := prog_1_method_11_code
def yX0_peek : MethodName := ⟨RX0, "peek", "()I"⟩
def dkwX0_peek_1 : List UInt8 := [172]
abbrev dktX0_peek_1 : List UInt8 := dkwX0_peek_1 ++ []
def dkwX0_peek_0 : List UInt8 := [42, 180, 0, 128, 42, 180, 0, 125, 162, 0, 15, 42, 180, 0, 37, 42, 180, 0, 128, 46, 167, 0, 4, 2]
abbrev dktX0_peek_0 : List UInt8 := dkwX0_peek_0 ++ dktX0_peek_1
theorem dksX0_peek_0 : cX0_peek.data.toList.drop 0 = dktX0_peek_0 := by decide +kernel
theorem dksX0_peek_1 : cX0_peek.data.toList.drop 24 = dktX0_peek_1 := dk_seg dksX0_peek_0 24 rfl rfl
theorem dX0_peek_0 : decode cX0_peek 0 = .ok (.aload_n 0, 1) := dk_42 (dk_at dksX0_peek_0 0 rfl rfl)
theorem dX0_peek_1 : decode cX0_peek 1 = .ok (.getfield 128, 3) := dk_180 0 128 (dk_at dksX0_peek_0 1 rfl rfl)
theorem dX0_peek_4 : decode cX0_peek 4 = .ok (.aload_n 0, 1) := dk_42 (dk_at dksX0_peek_0 4 rfl rfl)
theorem dX0_peek_5 : decode cX0_peek 5 = .ok (.getfield 125, 3) := dk_180 0 125 (dk_at dksX0_peek_0 5 rfl rfl)
theorem dX0_peek_8 : decode cX0_peek 8 = .ok (.if_icmp .ge 15, 3) := dk_162 0 15 (dk_at dksX0_peek_0 8 rfl rfl)
theorem dX0_peek_11 : decode cX0_peek 11 = .ok (.aload_n 0, 1) := dk_42 (dk_at dksX0_peek_0 11 rfl rfl)
theorem dX0_peek_12 : decode cX0_peek 12 = .ok (.getfield 37, 3) := dk_180 0 37 (dk_at dksX0_peek_0 12 rfl rfl)
theorem dX0_peek_15 : decode cX0_peek 15 = .ok (.aload_n 0, 1) := dk_42 (dk_at dksX0_peek_0 15 rfl rfl)
theorem dX0_peek_16 : decode cX0_peek 16 = .ok (.getfield 128, 3) := dk_180 0 128 (dk_at dksX0_peek_0 16 rfl rfl)
theorem dX0_peek_19 : decode cX0_peek 19 = .ok (.iaload, 1) := dk_46 (dk_at dksX0_peek_0 19 rfl rfl)
theorem dX0_peek_20 : decode cX0_peek 20 = .ok (.goto 4, 3) := dk_167 0 4 (dk_at dksX0_peek_0 20 rfl rfl)
theorem dX0_peek_23 : decode cX0_peek 23 = .ok (.iconst (-1), 1) := dk_2 (dk_at dksX0_peek_0 23 rfl rfl)
theorem dX0_peek_24 : decode cX0_peek 24 = .ok (.ireturn, 1) := dk_172 (dk_at dksX0_peek_1 0 rfl rfl)
abbrev cX0_nameOf : ByteArray := prog_1_method_29_code
def yX0_nameOf : MethodName := ⟨RX0, "nameOf", "(I)I"⟩
def dkwX0_nameOf_2 : List UInt8 := [3, 172, 4, 172, 5, 172, 6, 172, 7, 172, 8, 172, 2, 172]
abbrev dktX0_nameOf_2 : List UInt8 := dkwX0_nameOf_2 ++ []
def dkwX0_nameOf_1 : List UInt8 := [171, 0, 0, 0, 0, 0, 71, 0, 0, 0, 6, 0, 0, 0, 98, 0, 0, 0, 63, 0, 0, 0, 100, 0, 0, 0, 61, 0, 0, 0, 102, 0, 0, 0, 67, 0, 0, 0, 111, 0, 0, 0, 65, 0, 0, 0, 119, 0, 0, 0, 59, 0, 0, 0, 121, 0, 0, 0, 69]
abbrev dktX0_nameOf_1 : List UInt8 := dkwX0_nameOf_1 ++ dktX0_nameOf_2
def dkwX0_nameOf_0 : List UInt8 := [26]
abbrev dktX0_nameOf_0 : List UInt8 := dkwX0_nameOf_0 ++ dktX0_nameOf_1
theorem dksX0_nameOf_0 : cX0_nameOf.data.toList.drop 0 = dktX0_nameOf_0 := by decide +kernel
theorem dksX0_nameOf_1 : cX0_nameOf.data.toList.drop 1 = dktX0_nameOf_1 := dk_seg dksX0_nameOf_0 1 rfl rfl
theorem dksX0_nameOf_2 : cX0_nameOf.data.toList.drop 60 = dktX0_nameOf_2 := dk_seg dksX0_nameOf_1 59 rfl rfl
theorem dX0_nameOf_0 : decode cX0_nameOf 0 = .ok (.iload_n 0, 1) := dk_26 (dk_at dksX0_nameOf_0 0 rfl rfl)
theorem dX0_nameOf_1 : decode cX0_nameOf 1 = .ok (.lookupswitch 71 #[(98, 63), (100, 61), (102, 67), (111, 65), (119, 59), (121, 69)], 59) := by decide +kernel
theorem dX0_nameOf_60 : decode cX0_nameOf 60 = .ok (.iconst 0, 1) := dk_3 (dk_at dksX0_nameOf_2 0 rfl rfl)
theorem dX0_nameOf_61 : decode cX0_nameOf 61 = .ok (.ireturn, 1) := dk_172 (dk_at dksX0_nameOf_2 1 rfl rfl)
theorem dX0_nameOf_62 : decode cX0_nameOf 62 = .ok (.iconst 1, 1) := dk_4 (dk_at dksX0_nameOf_2 2 rfl rfl)
theorem dX0_nameOf_63 : decode cX0_nameOf 63 = .ok (.ireturn, 1) := dk_172 (dk_at dksX0_nameOf_2 3 rfl rfl)
theorem dX0_nameOf_64 : decode cX0_nameOf 64 = .ok (.iconst 2, 1) := dk_5 (dk_at dksX0_nameOf_2 4 rfl rfl)
theorem dX0_nameOf_65 : decode cX0_nameOf 65 = .ok (.ireturn, 1) := dk_172 (dk_at dksX0_nameOf_2 5 rfl rfl)
theorem dX0_nameOf_66 : decode cX0_nameOf 66 = .ok (.iconst 3, 1) := dk_6 (dk_at dksX0_nameOf_2 6 rfl rfl)
theorem dX0_nameOf_67 : decode cX0_nameOf 67 = .ok (.ireturn, 1) := dk_172 (dk_at dksX0_nameOf_2 7 rfl rfl)
theorem dX0_nameOf_68 : decode cX0_nameOf 68 = .ok (.iconst 4, 1) := dk_7 (dk_at dksX0_nameOf_2 8 rfl rfl)
theorem dX0_nameOf_69 : decode cX0_nameOf 69 = .ok (.ireturn, 1) := dk_172 (dk_at dksX0_nameOf_2 9 rfl rfl)
theorem dX0_nameOf_70 : decode cX0_nameOf 70 = .ok (.iconst 5, 1) := dk_8 (dk_at dksX0_nameOf_2 10 rfl rfl)
theorem dX0_nameOf_71 : decode cX0_nameOf 71 = .ok (.ireturn, 1) := dk_172 (dk_at dksX0_nameOf_2 11 rfl rfl)
theorem dX0_nameOf_72 : decode cX0_nameOf 72 = .ok (.iconst (-1), 1) := dk_2 (dk_at dksX0_nameOf_2 12 rfl rfl)
theorem dX0_nameOf_73 : decode cX0_nameOf 73 = .ok (.ireturn, 1) := dk_172 (dk_at dksX0_nameOf_2 13 rfl rfl)
abbrev cX0_expect : ByteArray := prog_1_method_13_code
def yX0_expect : MethodName := ⟨RX0, "expect", "(I)V"⟩
def dkwX0_expect_0 : List UInt8 := [42, 27, 182, 0, 135, 154, 0, 8, 42, 180, 0, 44, 191, 177]
abbrev dktX0_expect_0 : List UInt8 := dkwX0_expect_0 ++ []
theorem dksX0_expect_0 : cX0_expect.data.toList.drop 0 = dktX0_expect_0 := by decide +kernel
theorem dX0_expect_0 : decode cX0_expect 0 = .ok (.aload_n 0, 1) := dk_42 (dk_at dksX0_expect_0 0 rfl rfl)
theorem dX0_expect_1 : decode cX0_expect 1 = .ok (.iload_n 1, 1) := dk_27 (dk_at dksX0_expect_0 1 rfl rfl)
theorem dX0_expect_2 : decode cX0_expect 2 = .ok (.invokevirtual 135, 3) := dk_182 0 135 (dk_at dksX0_expect_0 2 rfl rfl)
theorem dX0_expect_5 : decode cX0_expect 5 = .ok (.ifCond .ne 8, 3) := dk_154 0 8 (dk_at dksX0_expect_0 5 rfl rfl)
theorem dX0_expect_8 : decode cX0_expect 8 = .ok (.aload_n 0, 1) := dk_42 (dk_at dksX0_expect_0 8 rfl rfl)
theorem dX0_expect_9 : decode cX0_expect 9 = .ok (.getfield 44, 3) := dk_180 0 44 (dk_at dksX0_expect_0 9 rfl rfl)
theorem dX0_expect_12 : decode cX0_expect 12 = .ok (.athrow, 1) := dk_191 (dk_at dksX0_expect_0 12 rfl rfl)
theorem dX0_expect_13 : decode cX0_expect 13 = .ok (.return_, 1) := dk_177 (dk_at dksX0_expect_0 13 rfl rfl)
abbrev cX0_take : ByteArray := prog_1_method_12_code
def yX0_take : MethodName := ⟨RX0, "take", "(I)Z"⟩
def dkwX0_take_0 : List UInt8 := [42, 182, 0, 131, 27, 159, 0, 5, 3, 172, 42, 89, 180, 0, 128, 4, 96, 181, 0, 128, 4, 172]
abbrev dktX0_take_0 : List UInt8 := dkwX0_take_0 ++ []
theorem dksX0_take_0 : cX0_take.data.toList.drop 0 = dktX0_take_0 := by decide +kernel
theorem dX0_take_0 : decode cX0_take 0 = .ok (.aload_n 0, 1) := dk_42 (dk_at dksX0_take_0 0 rfl rfl)
theorem dX0_take_1 : decode cX0_take 1 = .ok (.invokevirtual 131, 3) := dk_182 0 131 (dk_at dksX0_take_0 1 rfl rfl)
theorem dX0_take_4 : decode cX0_take 4 = .ok (.iload_n 1, 1) := dk_27 (dk_at dksX0_take_0 4 rfl rfl)
theorem dX0_take_5 : decode cX0_take 5 = .ok (.if_icmp .eq 5, 3) := dk_159 0 5 (dk_at dksX0_take_0 5 rfl rfl)
theorem dX0_take_8 : decode cX0_take 8 = .ok (.iconst 0, 1) := dk_3 (dk_at dksX0_take_0 8 rfl rfl)
theorem dX0_take_9 : decode cX0_take 9 = .ok (.ireturn, 1) := dk_172 (dk_at dksX0_take_0 9 rfl rfl)
theorem dX0_take_10 : decode cX0_take 10 = .ok (.aload_n 0, 1) := dk_42 (dk_at dksX0_take_0 10 rfl rfl)
theorem dX0_take_11 : decode cX0_take 11 = .ok (.dup, 1) := dk_89 (dk_at dksX0_take_0 11 rfl rfl)
theorem dX0_take_12 : decode cX0_take 12 = .ok (.getfield 128, 3) := dk_180 0 128 (dk_at dksX0_take_0 12 rfl rfl)
theorem dX0_take_15 : decode cX0_take 15 = .ok (.iconst 1, 1) := dk_4 (dk_at dksX0_take_0 15 rfl rfl)
theorem dX0_take_16 : decode cX0_take 16 = .ok (.iadd, 1) := dk_96 (dk_at dksX0_take_0 16 rfl rfl)
theorem dX0_take_17 : decode cX0_take 17 = .ok (.putfield 128, 3) := dk_181 0 128 (dk_at dksX0_take_0 17 rfl rfl)
theorem dX0_take_20 : decode cX0_take 20 = .ok (.iconst 1, 1) := dk_4 (dk_at dksX0_take_0 20 rfl rfl)
theorem dX0_take_21 : decode cX0_take 21 = .ok (.ireturn, 1) := dk_172 (dk_at dksX0_take_0 21 rfl rfl)
abbrev cX0_hard : ByteArray := prog_1_method_47_code
def yX0_hard : MethodName := ⟨RX0, "hard", "(I)I"⟩
def dkwX0_hard_1 : List UInt8 := [182, 1, 93, 172]
abbrev dktX0_hard_1 : List UInt8 := dkwX0_hard_1 ++ []
def dkwX0_hard_0 : List UInt8 := [42, 27, 133, 182, 0, 207, 154, 0, 5, 2, 172, 42, 182, 1, 103, 42, 27, 42, 180, 0, 67, 180, 0, 3]
abbrev dktX0_hard_0 : List UInt8 := dkwX0_hard_0 ++ dktX0_hard_1
theorem dksX0_hard_0 : cX0_hard.data.toList.drop 0 = dktX0_hard_0 := by decide +kernel
theorem dksX0_hard_1 : cX0_hard.data.toList.drop 24 = dktX0_hard_1 := dk_seg dksX0_hard_0 24 rfl rfl
theorem dX0_hard_0 : decode cX0_hard 0 = .ok (.aload_n 0, 1) := dk_42 (dk_at dksX0_hard_0 0 rfl rfl)
theorem dX0_hard_1 : decode cX0_hard 1 = .ok (.iload_n 1, 1) := dk_27 (dk_at dksX0_hard_0 1 rfl rfl)
theorem dX0_hard_2 : decode cX0_hard 2 = .ok (.i2l, 1) := dk_133 (dk_at dksX0_hard_0 2 rfl rfl)
theorem dX0_hard_3 : decode cX0_hard 3 = .ok (.invokevirtual 207, 3) := dk_182 0 207 (dk_at dksX0_hard_0 3 rfl rfl)
theorem dX0_hard_6 : decode cX0_hard 6 = .ok (.ifCond .ne 5, 3) := dk_154 0 5 (dk_at dksX0_hard_0 6 rfl rfl)
theorem dX0_hard_9 : decode cX0_hard 9 = .ok (.iconst (-1), 1) := dk_2 (dk_at dksX0_hard_0 9 rfl rfl)
theorem dX0_hard_10 : decode cX0_hard 10 = .ok (.ireturn, 1) := dk_172 (dk_at dksX0_hard_0 10 rfl rfl)
theorem dX0_hard_11 : decode cX0_hard 11 = .ok (.aload_n 0, 1) := dk_42 (dk_at dksX0_hard_0 11 rfl rfl)
theorem dX0_hard_12 : decode cX0_hard 12 = .ok (.invokevirtual 359, 3) := dk_182 1 103 (dk_at dksX0_hard_0 12 rfl rfl)
theorem dX0_hard_15 : decode cX0_hard 15 = .ok (.aload_n 0, 1) := dk_42 (dk_at dksX0_hard_0 15 rfl rfl)
theorem dX0_hard_16 : decode cX0_hard 16 = .ok (.iload_n 1, 1) := dk_27 (dk_at dksX0_hard_0 16 rfl rfl)
theorem dX0_hard_17 : decode cX0_hard 17 = .ok (.aload_n 0, 1) := dk_42 (dk_at dksX0_hard_0 17 rfl rfl)
theorem dX0_hard_18 : decode cX0_hard 18 = .ok (.getfield 67, 3) := dk_180 0 67 (dk_at dksX0_hard_0 18 rfl rfl)
theorem dX0_hard_21 : decode cX0_hard 21 = .ok (.getfield 3, 3) := dk_180 0 3 (dk_at dksX0_hard_0 21 rfl rfl)
theorem dX0_hard_24 : decode cX0_hard 24 = .ok (.invokevirtual 349, 3) := dk_182 1 93 (dk_at dksX0_hard_1 0 rfl rfl)
theorem dX0_hard_27 : decode cX0_hard 27 = .ok (.ireturn, 1) := dk_172 (dk_at dksX0_hard_1 3 rfl rfl)
abbrev cX0_beginAll : ByteArray := prog_1_method_40_code
def yX0_beginAll : MethodName := ⟨RX0, "beginAll", "()V"⟩
def dkwX0_beginAll_4 : List UInt8 := [180, 0, 214, 180, 0, 3, 79, 132, 1, 1, 167, 255, 227, 177]
abbrev dktX0_beginAll_4 : List UInt8 := dkwX0_beginAll_4 ++ []
def dkwX0_beginAll_3 : List UInt8 := [167, 255, 201, 3, 60, 27, 42, 180, 0, 143, 162, 0, 27, 42, 180, 0, 80, 27, 42, 180, 0, 50, 27, 50]
abbrev dktX0_beginAll_3 : List UInt8 := dkwX0_beginAll_3 ++ dktX0_beginAll_4
def dkwX0_beginAll_2 : List UInt8 := [180, 1, 62, 42, 180, 0, 56, 27, 50, 16, 6, 182, 1, 65, 27, 120, 128, 181, 1, 62, 132, 1, 1]
abbrev dktX0_beginAll_2 : List UInt8 := dkwX0_beginAll_2 ++ dktX0_beginAll_3
def dkwX0_beginAll_1 : List UInt8 := [180, 1, 59, 42, 180, 0, 56, 27, 50, 16, 7, 182, 1, 65, 27, 120, 128, 181, 1, 59, 42, 89]
abbrev dktX0_beginAll_1 : List UInt8 := dkwX0_beginAll_1 ++ dktX0_beginAll_2
def dkwX0_beginAll_0 : List UInt8 := [42, 3, 181, 1, 59, 42, 3, 181, 1, 62, 3, 60, 27, 42, 180, 0, 146, 162, 0, 53, 42, 89]
abbrev dktX0_beginAll_0 : List UInt8 := dkwX0_beginAll_0 ++ dktX0_beginAll_1
theorem dksX0_beginAll_0 : cX0_beginAll.data.toList.drop 0 = dktX0_beginAll_0 := by decide +kernel
theorem dksX0_beginAll_1 : cX0_beginAll.data.toList.drop 22 = dktX0_beginAll_1 := dk_seg dksX0_beginAll_0 22 rfl rfl
theorem dksX0_beginAll_2 : cX0_beginAll.data.toList.drop 44 = dktX0_beginAll_2 := dk_seg dksX0_beginAll_1 22 rfl rfl
theorem dksX0_beginAll_3 : cX0_beginAll.data.toList.drop 67 = dktX0_beginAll_3 := dk_seg dksX0_beginAll_2 23 rfl rfl
theorem dksX0_beginAll_4 : cX0_beginAll.data.toList.drop 91 = dktX0_beginAll_4 := dk_seg dksX0_beginAll_3 24 rfl rfl
theorem dX0_beginAll_0 : decode cX0_beginAll 0 = .ok (.aload_n 0, 1) := dk_42 (dk_at dksX0_beginAll_0 0 rfl rfl)
theorem dX0_beginAll_1 : decode cX0_beginAll 1 = .ok (.iconst 0, 1) := dk_3 (dk_at dksX0_beginAll_0 1 rfl rfl)
theorem dX0_beginAll_2 : decode cX0_beginAll 2 = .ok (.putfield 315, 3) := dk_181 1 59 (dk_at dksX0_beginAll_0 2 rfl rfl)
theorem dX0_beginAll_5 : decode cX0_beginAll 5 = .ok (.aload_n 0, 1) := dk_42 (dk_at dksX0_beginAll_0 5 rfl rfl)
theorem dX0_beginAll_6 : decode cX0_beginAll 6 = .ok (.iconst 0, 1) := dk_3 (dk_at dksX0_beginAll_0 6 rfl rfl)
theorem dX0_beginAll_7 : decode cX0_beginAll 7 = .ok (.putfield 318, 3) := dk_181 1 62 (dk_at dksX0_beginAll_0 7 rfl rfl)
theorem dX0_beginAll_10 : decode cX0_beginAll 10 = .ok (.iconst 0, 1) := dk_3 (dk_at dksX0_beginAll_0 10 rfl rfl)
theorem dX0_beginAll_11 : decode cX0_beginAll 11 = .ok (.istore_n 1, 1) := dk_60 (dk_at dksX0_beginAll_0 11 rfl rfl)
theorem dX0_beginAll_12 : decode cX0_beginAll 12 = .ok (.iload_n 1, 1) := dk_27 (dk_at dksX0_beginAll_0 12 rfl rfl)
theorem dX0_beginAll_13 : decode cX0_beginAll 13 = .ok (.aload_n 0, 1) := dk_42 (dk_at dksX0_beginAll_0 13 rfl rfl)
theorem dX0_beginAll_14 : decode cX0_beginAll 14 = .ok (.getfield 146, 3) := dk_180 0 146 (dk_at dksX0_beginAll_0 14 rfl rfl)
theorem dX0_beginAll_17 : decode cX0_beginAll 17 = .ok (.if_icmp .ge 53, 3) := dk_162 0 53 (dk_at dksX0_beginAll_0 17 rfl rfl)
theorem dX0_beginAll_20 : decode cX0_beginAll 20 = .ok (.aload_n 0, 1) := dk_42 (dk_at dksX0_beginAll_0 20 rfl rfl)
theorem dX0_beginAll_21 : decode cX0_beginAll 21 = .ok (.dup, 1) := dk_89 (dk_at dksX0_beginAll_0 21 rfl rfl)
theorem dX0_beginAll_22 : decode cX0_beginAll 22 = .ok (.getfield 315, 3) := dk_180 1 59 (dk_at dksX0_beginAll_1 0 rfl rfl)
theorem dX0_beginAll_25 : decode cX0_beginAll 25 = .ok (.aload_n 0, 1) := dk_42 (dk_at dksX0_beginAll_1 3 rfl rfl)
theorem dX0_beginAll_26 : decode cX0_beginAll 26 = .ok (.getfield 56, 3) := dk_180 0 56 (dk_at dksX0_beginAll_1 4 rfl rfl)
theorem dX0_beginAll_29 : decode cX0_beginAll 29 = .ok (.iload_n 1, 1) := dk_27 (dk_at dksX0_beginAll_1 7 rfl rfl)
theorem dX0_beginAll_30 : decode cX0_beginAll 30 = .ok (.aaload, 1) := dk_50 (dk_at dksX0_beginAll_1 8 rfl rfl)
theorem dX0_beginAll_31 : decode cX0_beginAll 31 = .ok (.bipush 7, 2) := dk_16 7 (dk_at dksX0_beginAll_1 9 rfl rfl)
theorem dX0_beginAll_33 : decode cX0_beginAll 33 = .ok (.invokevirtual 321, 3) := dk_182 1 65 (dk_at dksX0_beginAll_1 11 rfl rfl)
theorem dX0_beginAll_36 : decode cX0_beginAll 36 = .ok (.iload_n 1, 1) := dk_27 (dk_at dksX0_beginAll_1 14 rfl rfl)
theorem dX0_beginAll_37 : decode cX0_beginAll 37 = .ok (.ishl, 1) := dk_120 (dk_at dksX0_beginAll_1 15 rfl rfl)
theorem dX0_beginAll_38 : decode cX0_beginAll 38 = .ok (.ior, 1) := dk_128 (dk_at dksX0_beginAll_1 16 rfl rfl)
theorem dX0_beginAll_39 : decode cX0_beginAll 39 = .ok (.putfield 315, 3) := dk_181 1 59 (dk_at dksX0_beginAll_1 17 rfl rfl)
theorem dX0_beginAll_42 : decode cX0_beginAll 42 = .ok (.aload_n 0, 1) := dk_42 (dk_at dksX0_beginAll_1 20 rfl rfl)
theorem dX0_beginAll_43 : decode cX0_beginAll 43 = .ok (.dup, 1) := dk_89 (dk_at dksX0_beginAll_1 21 rfl rfl)
theorem dX0_beginAll_44 : decode cX0_beginAll 44 = .ok (.getfield 318, 3) := dk_180 1 62 (dk_at dksX0_beginAll_2 0 rfl rfl)
theorem dX0_beginAll_47 : decode cX0_beginAll 47 = .ok (.aload_n 0, 1) := dk_42 (dk_at dksX0_beginAll_2 3 rfl rfl)
theorem dX0_beginAll_48 : decode cX0_beginAll 48 = .ok (.getfield 56, 3) := dk_180 0 56 (dk_at dksX0_beginAll_2 4 rfl rfl)
theorem dX0_beginAll_51 : decode cX0_beginAll 51 = .ok (.iload_n 1, 1) := dk_27 (dk_at dksX0_beginAll_2 7 rfl rfl)
theorem dX0_beginAll_52 : decode cX0_beginAll 52 = .ok (.aaload, 1) := dk_50 (dk_at dksX0_beginAll_2 8 rfl rfl)
theorem dX0_beginAll_53 : decode cX0_beginAll 53 = .ok (.bipush 6, 2) := dk_16 6 (dk_at dksX0_beginAll_2 9 rfl rfl)
theorem dX0_beginAll_55 : decode cX0_beginAll 55 = .ok (.invokevirtual 321, 3) := dk_182 1 65 (dk_at dksX0_beginAll_2 11 rfl rfl)
theorem dX0_beginAll_58 : decode cX0_beginAll 58 = .ok (.iload_n 1, 1) := dk_27 (dk_at dksX0_beginAll_2 14 rfl rfl)
theorem dX0_beginAll_59 : decode cX0_beginAll 59 = .ok (.ishl, 1) := dk_120 (dk_at dksX0_beginAll_2 15 rfl rfl)
theorem dX0_beginAll_60 : decode cX0_beginAll 60 = .ok (.ior, 1) := dk_128 (dk_at dksX0_beginAll_2 16 rfl rfl)
theorem dX0_beginAll_61 : decode cX0_beginAll 61 = .ok (.putfield 318, 3) := dk_181 1 62 (dk_at dksX0_beginAll_2 17 rfl rfl)
theorem dX0_beginAll_64 : decode cX0_beginAll 64 = .ok (.iinc 1 1, 3) := dk_132 1 1 (dk_at dksX0_beginAll_2 20 rfl rfl)
theorem dX0_beginAll_67 : decode cX0_beginAll 67 = .ok (.goto (-55), 3) := dk_167 255 201 (dk_at dksX0_beginAll_3 0 rfl rfl)
theorem dX0_beginAll_70 : decode cX0_beginAll 70 = .ok (.iconst 0, 1) := dk_3 (dk_at dksX0_beginAll_3 3 rfl rfl)
theorem dX0_beginAll_71 : decode cX0_beginAll 71 = .ok (.istore_n 1, 1) := dk_60 (dk_at dksX0_beginAll_3 4 rfl rfl)
theorem dX0_beginAll_72 : decode cX0_beginAll 72 = .ok (.iload_n 1, 1) := dk_27 (dk_at dksX0_beginAll_3 5 rfl rfl)
theorem dX0_beginAll_73 : decode cX0_beginAll 73 = .ok (.aload_n 0, 1) := dk_42 (dk_at dksX0_beginAll_3 6 rfl rfl)
theorem dX0_beginAll_74 : decode cX0_beginAll 74 = .ok (.getfield 143, 3) := dk_180 0 143 (dk_at dksX0_beginAll_3 7 rfl rfl)
theorem dX0_beginAll_77 : decode cX0_beginAll 77 = .ok (.if_icmp .ge 27, 3) := dk_162 0 27 (dk_at dksX0_beginAll_3 10 rfl rfl)
theorem dX0_beginAll_80 : decode cX0_beginAll 80 = .ok (.aload_n 0, 1) := dk_42 (dk_at dksX0_beginAll_3 13 rfl rfl)
theorem dX0_beginAll_81 : decode cX0_beginAll 81 = .ok (.getfield 80, 3) := dk_180 0 80 (dk_at dksX0_beginAll_3 14 rfl rfl)
theorem dX0_beginAll_84 : decode cX0_beginAll 84 = .ok (.iload_n 1, 1) := dk_27 (dk_at dksX0_beginAll_3 17 rfl rfl)
theorem dX0_beginAll_85 : decode cX0_beginAll 85 = .ok (.aload_n 0, 1) := dk_42 (dk_at dksX0_beginAll_3 18 rfl rfl)
theorem dX0_beginAll_86 : decode cX0_beginAll 86 = .ok (.getfield 50, 3) := dk_180 0 50 (dk_at dksX0_beginAll_3 19 rfl rfl)
theorem dX0_beginAll_89 : decode cX0_beginAll 89 = .ok (.iload_n 1, 1) := dk_27 (dk_at dksX0_beginAll_3 22 rfl rfl)
theorem dX0_beginAll_90 : decode cX0_beginAll 90 = .ok (.aaload, 1) := dk_50 (dk_at dksX0_beginAll_3 23 rfl rfl)
theorem dX0_beginAll_91 : decode cX0_beginAll 91 = .ok (.getfield 214, 3) := dk_180 0 214 (dk_at dksX0_beginAll_4 0 rfl rfl)
theorem dX0_beginAll_94 : decode cX0_beginAll 94 = .ok (.getfield 3, 3) := dk_180 0 3 (dk_at dksX0_beginAll_4 3 rfl rfl)
theorem dX0_beginAll_97 : decode cX0_beginAll 97 = .ok (.iastore, 1) := dk_79 (dk_at dksX0_beginAll_4 6 rfl rfl)
theorem dX0_beginAll_98 : decode cX0_beginAll 98 = .ok (.iinc 1 1, 3) := dk_132 1 1 (dk_at dksX0_beginAll_4 7 rfl rfl)
theorem dX0_beginAll_101 : decode cX0_beginAll 101 = .ok (.goto (-29), 3) := dk_167 255 227 (dk_at dksX0_beginAll_4 10 rfl rfl)
theorem dX0_beginAll_104 : decode cX0_beginAll 104 = .ok (.return_, 1) := dk_177 (dk_at dksX0_beginAll_4 13 rfl rfl)
abbrev cX0_hardBy : ByteArray := prog_1_method_43_code
def yX0_hardBy : MethodName := ⟨RX0, "hardBy", "(II)I"⟩
def dkwX0_hardBy_8 : List UInt8 := [182, 1, 87, 54, 6, 3, 16, 9, 21, 6, 184, 1, 90, 184, 1, 73, 172]
abbrev dktX0_hardBy_8 : List UInt8 := dkwX0_hardBy_8 ++ []
def dkwX0_hardBy_7 : List UInt8 := [21, 7, 79, 42, 180, 0, 77, 7, 21, 5, 184, 1, 79, 79, 42, 180, 0, 77, 8, 28, 79, 42]
abbrev dktX0_hardBy_7 : List UInt8 := dkwX0_hardBy_7 ++ dktX0_hardBy_8
def dkwX0_hardBy_6 : List UInt8 := [21, 4, 79, 42, 180, 0, 77, 5, 42, 180, 0, 80, 45, 180, 0, 229, 46, 79, 42, 180, 0, 77, 6]
abbrev dktX0_hardBy_6 : List UInt8 := dkwX0_hardBy_6 ++ dktX0_hardBy_7
def dkwX0_hardBy_5 : List UInt8 := [54, 7, 132, 8, 1, 167, 255, 206, 42, 180, 0, 77, 3, 45, 6, 182, 1, 65, 79, 42, 180, 0, 77, 4]
abbrev dktX0_hardBy_5 : List UInt8 := dkwX0_hardBy_5 ++ dktX0_hardBy_6
def dkwX0_hardBy_4 : List UInt8 := [180, 0, 229, 45, 5, 182, 1, 65, 28, 182, 1, 83, 153, 0, 7, 4, 167, 0, 4, 3, 184, 1, 79, 96]
abbrev dktX0_hardBy_4 : List UInt8 := dkwX0_hardBy_4 ++ dktX0_hardBy_5
def dkwX0_hardBy_3 : List UInt8 := [3, 54, 8, 21, 8, 42, 180, 0, 146, 162, 0, 47, 21, 7, 21, 8, 27, 159, 0, 26, 42, 21, 8, 45]
abbrev dktX0_hardBy_3 : List UInt8 := dkwX0_hardBy_3 ++ dktX0_hardBy_4
def dkwX0_hardBy_2 : List UInt8 := [184, 1, 79, 96, 6, 21, 5, 184, 1, 79, 104, 100, 54, 6, 42, 180, 1, 51, 198, 0, 128, 3, 54, 7]
abbrev dktX0_hardBy_2 : List UInt8 := dkwX0_hardBy_2 ++ dktX0_hardBy_3
def dkwX0_hardBy_1 : List UInt8 := [27, 184, 1, 67, 54, 5, 45, 6, 182, 1, 65, 5, 108, 21, 4, 6, 162, 0, 7, 4, 167, 0, 4, 3]
abbrev dktX0_hardBy_1 : List UInt8 := dkwX0_hardBy_1 ++ dktX0_hardBy_2
def dkwX0_hardBy_0 : List UInt8 := [42, 180, 0, 56, 27, 50, 78, 3, 45, 8, 182, 1, 65, 28, 100, 184, 1, 73, 54, 4, 42, 180, 1, 62]
abbrev dktX0_hardBy_0 : List UInt8 := dkwX0_hardBy_0 ++ dktX0_hardBy_1
theorem dksX0_hardBy_0 : cX0_hardBy.data.toList.drop 0 = dktX0_hardBy_0 := by decide +kernel
theorem dksX0_hardBy_1 : cX0_hardBy.data.toList.drop 24 = dktX0_hardBy_1 := dk_seg dksX0_hardBy_0 24 rfl rfl
theorem dksX0_hardBy_2 : cX0_hardBy.data.toList.drop 48 = dktX0_hardBy_2 := dk_seg dksX0_hardBy_1 24 rfl rfl
theorem dksX0_hardBy_3 : cX0_hardBy.data.toList.drop 72 = dktX0_hardBy_3 := dk_seg dksX0_hardBy_2 24 rfl rfl
theorem dksX0_hardBy_4 : cX0_hardBy.data.toList.drop 96 = dktX0_hardBy_4 := dk_seg dksX0_hardBy_3 24 rfl rfl
theorem dksX0_hardBy_5 : cX0_hardBy.data.toList.drop 120 = dktX0_hardBy_5 := dk_seg dksX0_hardBy_4 24 rfl rfl
theorem dksX0_hardBy_6 : cX0_hardBy.data.toList.drop 144 = dktX0_hardBy_6 := dk_seg dksX0_hardBy_5 24 rfl rfl
theorem dksX0_hardBy_7 : cX0_hardBy.data.toList.drop 167 = dktX0_hardBy_7 := dk_seg dksX0_hardBy_6 23 rfl rfl
theorem dksX0_hardBy_8 : cX0_hardBy.data.toList.drop 189 = dktX0_hardBy_8 := dk_seg dksX0_hardBy_7 22 rfl rfl
theorem dX0_hardBy_0 : decode cX0_hardBy 0 = .ok (.aload_n 0, 1) := dk_42 (dk_at dksX0_hardBy_0 0 rfl rfl)
theorem dX0_hardBy_1 : decode cX0_hardBy 1 = .ok (.getfield 56, 3) := dk_180 0 56 (dk_at dksX0_hardBy_0 1 rfl rfl)
theorem dX0_hardBy_4 : decode cX0_hardBy 4 = .ok (.iload_n 1, 1) := dk_27 (dk_at dksX0_hardBy_0 4 rfl rfl)
theorem dX0_hardBy_5 : decode cX0_hardBy 5 = .ok (.aaload, 1) := dk_50 (dk_at dksX0_hardBy_0 5 rfl rfl)
theorem dX0_hardBy_6 : decode cX0_hardBy 6 = .ok (.astore_n 3, 1) := dk_78 (dk_at dksX0_hardBy_0 6 rfl rfl)
theorem dX0_hardBy_7 : decode cX0_hardBy 7 = .ok (.iconst 0, 1) := dk_3 (dk_at dksX0_hardBy_0 7 rfl rfl)
theorem dX0_hardBy_8 : decode cX0_hardBy 8 = .ok (.aload_n 3, 1) := dk_45 (dk_at dksX0_hardBy_0 8 rfl rfl)
theorem dX0_hardBy_9 : decode cX0_hardBy 9 = .ok (.iconst 5, 1) := dk_8 (dk_at dksX0_hardBy_0 9 rfl rfl)
theorem dX0_hardBy_10 : decode cX0_hardBy 10 = .ok (.invokevirtual 321, 3) := dk_182 1 65 (dk_at dksX0_hardBy_0 10 rfl rfl)
theorem dX0_hardBy_13 : decode cX0_hardBy 13 = .ok (.iload_n 2, 1) := dk_28 (dk_at dksX0_hardBy_0 13 rfl rfl)
theorem dX0_hardBy_14 : decode cX0_hardBy 14 = .ok (.isub, 1) := dk_100 (dk_at dksX0_hardBy_0 14 rfl rfl)
theorem dX0_hardBy_15 : decode cX0_hardBy 15 = .ok (.invokestatic 329, 3) := dk_184 1 73 (dk_at dksX0_hardBy_0 15 rfl rfl)
theorem dX0_hardBy_18 : decode cX0_hardBy 18 = .ok (.istore 4, 2) := dk_54 4 (dk_at dksX0_hardBy_0 18 rfl rfl)
theorem dX0_hardBy_20 : decode cX0_hardBy 20 = .ok (.aload_n 0, 1) := dk_42 (dk_at dksX0_hardBy_0 20 rfl rfl)
theorem dX0_hardBy_21 : decode cX0_hardBy 21 = .ok (.getfield 318, 3) := dk_180 1 62 (dk_at dksX0_hardBy_0 21 rfl rfl)
theorem dX0_hardBy_24 : decode cX0_hardBy 24 = .ok (.iload_n 1, 1) := dk_27 (dk_at dksX0_hardBy_1 0 rfl rfl)
theorem dX0_hardBy_25 : decode cX0_hardBy 25 = .ok (.invokestatic 323, 3) := dk_184 1 67 (dk_at dksX0_hardBy_1 1 rfl rfl)
theorem dX0_hardBy_28 : decode cX0_hardBy 28 = .ok (.istore 5, 2) := dk_54 5 (dk_at dksX0_hardBy_1 4 rfl rfl)
theorem dX0_hardBy_30 : decode cX0_hardBy 30 = .ok (.aload_n 3, 1) := dk_45 (dk_at dksX0_hardBy_1 6 rfl rfl)
theorem dX0_hardBy_31 : decode cX0_hardBy 31 = .ok (.iconst 3, 1) := dk_6 (dk_at dksX0_hardBy_1 7 rfl rfl)
theorem dX0_hardBy_32 : decode cX0_hardBy 32 = .ok (.invokevirtual 321, 3) := dk_182 1 65 (dk_at dksX0_hardBy_1 8 rfl rfl)
theorem dX0_hardBy_35 : decode cX0_hardBy 35 = .ok (.iconst 2, 1) := dk_5 (dk_at dksX0_hardBy_1 11 rfl rfl)
theorem dX0_hardBy_36 : decode cX0_hardBy 36 = .ok (.idiv, 1) := dk_108 (dk_at dksX0_hardBy_1 12 rfl rfl)
theorem dX0_hardBy_37 : decode cX0_hardBy 37 = .ok (.iload 4, 2) := dk_21 4 (dk_at dksX0_hardBy_1 13 rfl rfl)
theorem dX0_hardBy_39 : decode cX0_hardBy 39 = .ok (.iconst 3, 1) := dk_6 (dk_at dksX0_hardBy_1 15 rfl rfl)
theorem dX0_hardBy_40 : decode cX0_hardBy 40 = .ok (.if_icmp .ge 7, 3) := dk_162 0 7 (dk_at dksX0_hardBy_1 16 rfl rfl)
theorem dX0_hardBy_43 : decode cX0_hardBy 43 = .ok (.iconst 1, 1) := dk_4 (dk_at dksX0_hardBy_1 19 rfl rfl)
theorem dX0_hardBy_44 : decode cX0_hardBy 44 = .ok (.goto 4, 3) := dk_167 0 4 (dk_at dksX0_hardBy_1 20 rfl rfl)
theorem dX0_hardBy_47 : decode cX0_hardBy 47 = .ok (.iconst 0, 1) := dk_3 (dk_at dksX0_hardBy_1 23 rfl rfl)
theorem dX0_hardBy_48 : decode cX0_hardBy 48 = .ok (.invokestatic 335, 3) := dk_184 1 79 (dk_at dksX0_hardBy_2 0 rfl rfl)
theorem dX0_hardBy_51 : decode cX0_hardBy 51 = .ok (.iadd, 1) := dk_96 (dk_at dksX0_hardBy_2 3 rfl rfl)
theorem dX0_hardBy_52 : decode cX0_hardBy 52 = .ok (.iconst 3, 1) := dk_6 (dk_at dksX0_hardBy_2 4 rfl rfl)
theorem dX0_hardBy_53 : decode cX0_hardBy 53 = .ok (.iload 5, 2) := dk_21 5 (dk_at dksX0_hardBy_2 5 rfl rfl)
theorem dX0_hardBy_55 : decode cX0_hardBy 55 = .ok (.invokestatic 335, 3) := dk_184 1 79 (dk_at dksX0_hardBy_2 7 rfl rfl)
theorem dX0_hardBy_58 : decode cX0_hardBy 58 = .ok (.imul, 1) := dk_104 (dk_at dksX0_hardBy_2 10 rfl rfl)
theorem dX0_hardBy_59 : decode cX0_hardBy 59 = .ok (.isub, 1) := dk_100 (dk_at dksX0_hardBy_2 11 rfl rfl)
theorem dX0_hardBy_60 : decode cX0_hardBy 60 = .ok (.istore 6, 2) := dk_54 6 (dk_at dksX0_hardBy_2 12 rfl rfl)
theorem dX0_hardBy_62 : decode cX0_hardBy 62 = .ok (.aload_n 0, 1) := dk_42 (dk_at dksX0_hardBy_2 14 rfl rfl)
theorem dX0_hardBy_63 : decode cX0_hardBy 63 = .ok (.getfield 307, 3) := dk_180 1 51 (dk_at dksX0_hardBy_2 15 rfl rfl)
theorem dX0_hardBy_66 : decode cX0_hardBy 66 = .ok (.ifnull 128, 3) := dk_198 0 128 (dk_at dksX0_hardBy_2 18 rfl rfl)
theorem dX0_hardBy_69 : decode cX0_hardBy 69 = .ok (.iconst 0, 1) := dk_3 (dk_at dksX0_hardBy_2 21 rfl rfl)
theorem dX0_hardBy_70 : decode cX0_hardBy 70 = .ok (.istore 7, 2) := dk_54 7 (dk_at dksX0_hardBy_2 22 rfl rfl)
theorem dX0_hardBy_72 : decode cX0_hardBy 72 = .ok (.iconst 0, 1) := dk_3 (dk_at dksX0_hardBy_3 0 rfl rfl)
theorem dX0_hardBy_73 : decode cX0_hardBy 73 = .ok (.istore 8, 2) := dk_54 8 (dk_at dksX0_hardBy_3 1 rfl rfl)
theorem dX0_hardBy_75 : decode cX0_hardBy 75 = .ok (.iload 8, 2) := dk_21 8 (dk_at dksX0_hardBy_3 3 rfl rfl)
theorem dX0_hardBy_77 : decode cX0_hardBy 77 = .ok (.aload_n 0, 1) := dk_42 (dk_at dksX0_hardBy_3 5 rfl rfl)
theorem dX0_hardBy_78 : decode cX0_hardBy 78 = .ok (.getfield 146, 3) := dk_180 0 146 (dk_at dksX0_hardBy_3 6 rfl rfl)
theorem dX0_hardBy_81 : decode cX0_hardBy 81 = .ok (.if_icmp .ge 47, 3) := dk_162 0 47 (dk_at dksX0_hardBy_3 9 rfl rfl)
theorem dX0_hardBy_84 : decode cX0_hardBy 84 = .ok (.iload 7, 2) := dk_21 7 (dk_at dksX0_hardBy_3 12 rfl rfl)
theorem dX0_hardBy_86 : decode cX0_hardBy 86 = .ok (.iload 8, 2) := dk_21 8 (dk_at dksX0_hardBy_3 14 rfl rfl)
theorem dX0_hardBy_88 : decode cX0_hardBy 88 = .ok (.iload_n 1, 1) := dk_27 (dk_at dksX0_hardBy_3 16 rfl rfl)
theorem dX0_hardBy_89 : decode cX0_hardBy 89 = .ok (.if_icmp .eq 26, 3) := dk_159 0 26 (dk_at dksX0_hardBy_3 17 rfl rfl)
theorem dX0_hardBy_92 : decode cX0_hardBy 92 = .ok (.aload_n 0, 1) := dk_42 (dk_at dksX0_hardBy_3 20 rfl rfl)
theorem dX0_hardBy_93 : decode cX0_hardBy 93 = .ok (.iload 8, 2) := dk_21 8 (dk_at dksX0_hardBy_3 21 rfl rfl)
theorem dX0_hardBy_95 : decode cX0_hardBy 95 = .ok (.aload_n 3, 1) := dk_45 (dk_at dksX0_hardBy_3 23 rfl rfl)
theorem dX0_hardBy_96 : decode cX0_hardBy 96 = .ok (.getfield 229, 3) := dk_180 0 229 (dk_at dksX0_hardBy_4 0 rfl rfl)
theorem dX0_hardBy_99 : decode cX0_hardBy 99 = .ok (.aload_n 3, 1) := dk_45 (dk_at dksX0_hardBy_4 3 rfl rfl)
theorem dX0_hardBy_100 : decode cX0_hardBy 100 = .ok (.iconst 2, 1) := dk_5 (dk_at dksX0_hardBy_4 4 rfl rfl)
theorem dX0_hardBy_101 : decode cX0_hardBy 101 = .ok (.invokevirtual 321, 3) := dk_182 1 65 (dk_at dksX0_hardBy_4 5 rfl rfl)
theorem dX0_hardBy_104 : decode cX0_hardBy 104 = .ok (.iload_n 2, 1) := dk_28 (dk_at dksX0_hardBy_4 8 rfl rfl)
theorem dX0_hardBy_105 : decode cX0_hardBy 105 = .ok (.invokevirtual 339, 3) := dk_182 1 83 (dk_at dksX0_hardBy_4 9 rfl rfl)
theorem dX0_hardBy_108 : decode cX0_hardBy 108 = .ok (.ifCond .eq 7, 3) := dk_153 0 7 (dk_at dksX0_hardBy_4 12 rfl rfl)
theorem dX0_hardBy_111 : decode cX0_hardBy 111 = .ok (.iconst 1, 1) := dk_4 (dk_at dksX0_hardBy_4 15 rfl rfl)
theorem dX0_hardBy_112 : decode cX0_hardBy 112 = .ok (.goto 4, 3) := dk_167 0 4 (dk_at dksX0_hardBy_4 16 rfl rfl)
theorem dX0_hardBy_115 : decode cX0_hardBy 115 = .ok (.iconst 0, 1) := dk_3 (dk_at dksX0_hardBy_4 19 rfl rfl)
theorem dX0_hardBy_116 : decode cX0_hardBy 116 = .ok (.invokestatic 335, 3) := dk_184 1 79 (dk_at dksX0_hardBy_4 20 rfl rfl)
theorem dX0_hardBy_119 : decode cX0_hardBy 119 = .ok (.iadd, 1) := dk_96 (dk_at dksX0_hardBy_4 23 rfl rfl)
theorem dX0_hardBy_120 : decode cX0_hardBy 120 = .ok (.istore 7, 2) := dk_54 7 (dk_at dksX0_hardBy_5 0 rfl rfl)
theorem dX0_hardBy_122 : decode cX0_hardBy 122 = .ok (.iinc 8 1, 3) := dk_132 8 1 (dk_at dksX0_hardBy_5 2 rfl rfl)
theorem dX0_hardBy_125 : decode cX0_hardBy 125 = .ok (.goto (-50), 3) := dk_167 255 206 (dk_at dksX0_hardBy_5 5 rfl rfl)
theorem dX0_hardBy_128 : decode cX0_hardBy 128 = .ok (.aload_n 0, 1) := dk_42 (dk_at dksX0_hardBy_5 8 rfl rfl)
theorem dX0_hardBy_129 : decode cX0_hardBy 129 = .ok (.getfield 77, 3) := dk_180 0 77 (dk_at dksX0_hardBy_5 9 rfl rfl)
theorem dX0_hardBy_132 : decode cX0_hardBy 132 = .ok (.iconst 0, 1) := dk_3 (dk_at dksX0_hardBy_5 12 rfl rfl)
theorem dX0_hardBy_133 : decode cX0_hardBy 133 = .ok (.aload_n 3, 1) := dk_45 (dk_at dksX0_hardBy_5 13 rfl rfl)
theorem dX0_hardBy_134 : decode cX0_hardBy 134 = .ok (.iconst 3, 1) := dk_6 (dk_at dksX0_hardBy_5 14 rfl rfl)
theorem dX0_hardBy_135 : decode cX0_hardBy 135 = .ok (.invokevirtual 321, 3) := dk_182 1 65 (dk_at dksX0_hardBy_5 15 rfl rfl)
theorem dX0_hardBy_138 : decode cX0_hardBy 138 = .ok (.iastore, 1) := dk_79 (dk_at dksX0_hardBy_5 18 rfl rfl)
theorem dX0_hardBy_139 : decode cX0_hardBy 139 = .ok (.aload_n 0, 1) := dk_42 (dk_at dksX0_hardBy_5 19 rfl rfl)
theorem dX0_hardBy_140 : decode cX0_hardBy 140 = .ok (.getfield 77, 3) := dk_180 0 77 (dk_at dksX0_hardBy_5 20 rfl rfl)
theorem dX0_hardBy_143 : decode cX0_hardBy 143 = .ok (.iconst 1, 1) := dk_4 (dk_at dksX0_hardBy_5 23 rfl rfl)
theorem dX0_hardBy_144 : decode cX0_hardBy 144 = .ok (.iload 4, 2) := dk_21 4 (dk_at dksX0_hardBy_6 0 rfl rfl)
theorem dX0_hardBy_146 : decode cX0_hardBy 146 = .ok (.iastore, 1) := dk_79 (dk_at dksX0_hardBy_6 2 rfl rfl)
theorem dX0_hardBy_147 : decode cX0_hardBy 147 = .ok (.aload_n 0, 1) := dk_42 (dk_at dksX0_hardBy_6 3 rfl rfl)
theorem dX0_hardBy_148 : decode cX0_hardBy 148 = .ok (.getfield 77, 3) := dk_180 0 77 (dk_at dksX0_hardBy_6 4 rfl rfl)
theorem dX0_hardBy_151 : decode cX0_hardBy 151 = .ok (.iconst 2, 1) := dk_5 (dk_at dksX0_hardBy_6 7 rfl rfl)
theorem dX0_hardBy_152 : decode cX0_hardBy 152 = .ok (.aload_n 0, 1) := dk_42 (dk_at dksX0_hardBy_6 8 rfl rfl)
theorem dX0_hardBy_153 : decode cX0_hardBy 153 = .ok (.getfield 80, 3) := dk_180 0 80 (dk_at dksX0_hardBy_6 9 rfl rfl)
theorem dX0_hardBy_156 : decode cX0_hardBy 156 = .ok (.aload_n 3, 1) := dk_45 (dk_at dksX0_hardBy_6 12 rfl rfl)
theorem dX0_hardBy_157 : decode cX0_hardBy 157 = .ok (.getfield 229, 3) := dk_180 0 229 (dk_at dksX0_hardBy_6 13 rfl rfl)
theorem dX0_hardBy_160 : decode cX0_hardBy 160 = .ok (.iaload, 1) := dk_46 (dk_at dksX0_hardBy_6 16 rfl rfl)
theorem dX0_hardBy_161 : decode cX0_hardBy 161 = .ok (.iastore, 1) := dk_79 (dk_at dksX0_hardBy_6 17 rfl rfl)
theorem dX0_hardBy_162 : decode cX0_hardBy 162 = .ok (.aload_n 0, 1) := dk_42 (dk_at dksX0_hardBy_6 18 rfl rfl)
theorem dX0_hardBy_163 : decode cX0_hardBy 163 = .ok (.getfield 77, 3) := dk_180 0 77 (dk_at dksX0_hardBy_6 19 rfl rfl)
theorem dX0_hardBy_166 : decode cX0_hardBy 166 = .ok (.iconst 3, 1) := dk_6 (dk_at dksX0_hardBy_6 22 rfl rfl)
theorem dX0_hardBy_167 : decode cX0_hardBy 167 = .ok (.iload 7, 2) := dk_21 7 (dk_at dksX0_hardBy_7 0 rfl rfl)
theorem dX0_hardBy_169 : decode cX0_hardBy 169 = .ok (.iastore, 1) := dk_79 (dk_at dksX0_hardBy_7 2 rfl rfl)
theorem dX0_hardBy_170 : decode cX0_hardBy 170 = .ok (.aload_n 0, 1) := dk_42 (dk_at dksX0_hardBy_7 3 rfl rfl)
theorem dX0_hardBy_171 : decode cX0_hardBy 171 = .ok (.getfield 77, 3) := dk_180 0 77 (dk_at dksX0_hardBy_7 4 rfl rfl)
theorem dX0_hardBy_174 : decode cX0_hardBy 174 = .ok (.iconst 4, 1) := dk_7 (dk_at dksX0_hardBy_7 7 rfl rfl)
theorem dX0_hardBy_175 : decode cX0_hardBy 175 = .ok (.iload 5, 2) := dk_21 5 (dk_at dksX0_hardBy_7 8 rfl rfl)
theorem dX0_hardBy_177 : decode cX0_hardBy 177 = .ok (.invokestatic 335, 3) := dk_184 1 79 (dk_at dksX0_hardBy_7 10 rfl rfl)
theorem dX0_hardBy_180 : decode cX0_hardBy 180 = .ok (.iastore, 1) := dk_79 (dk_at dksX0_hardBy_7 13 rfl rfl)
theorem dX0_hardBy_181 : decode cX0_hardBy 181 = .ok (.aload_n 0, 1) := dk_42 (dk_at dksX0_hardBy_7 14 rfl rfl)
theorem dX0_hardBy_182 : decode cX0_hardBy 182 = .ok (.getfield 77, 3) := dk_180 0 77 (dk_at dksX0_hardBy_7 15 rfl rfl)
theorem dX0_hardBy_185 : decode cX0_hardBy 185 = .ok (.iconst 5, 1) := dk_8 (dk_at dksX0_hardBy_7 18 rfl rfl)
theorem dX0_hardBy_186 : decode cX0_hardBy 186 = .ok (.iload_n 2, 1) := dk_28 (dk_at dksX0_hardBy_7 19 rfl rfl)
theorem dX0_hardBy_187 : decode cX0_hardBy 187 = .ok (.iastore, 1) := dk_79 (dk_at dksX0_hardBy_7 20 rfl rfl)
theorem dX0_hardBy_188 : decode cX0_hardBy 188 = .ok (.aload_n 0, 1) := dk_42 (dk_at dksX0_hardBy_7 21 rfl rfl)
theorem dX0_hardBy_189 : decode cX0_hardBy 189 = .ok (.invokevirtual 343, 3) := dk_182 1 87 (dk_at dksX0_hardBy_8 0 rfl rfl)
theorem dX0_hardBy_192 : decode cX0_hardBy 192 = .ok (.istore 6, 2) := dk_54 6 (dk_at dksX0_hardBy_8 3 rfl rfl)
theorem dX0_hardBy_194 : decode cX0_hardBy 194 = .ok (.iconst 0, 1) := dk_3 (dk_at dksX0_hardBy_8 5 rfl rfl)
theorem dX0_hardBy_195 : decode cX0_hardBy 195 = .ok (.bipush 9, 2) := dk_16 9 (dk_at dksX0_hardBy_8 6 rfl rfl)
theorem dX0_hardBy_197 : decode cX0_hardBy 197 = .ok (.iload 6, 2) := dk_21 6 (dk_at dksX0_hardBy_8 8 rfl rfl)
theorem dX0_hardBy_199 : decode cX0_hardBy 199 = .ok (.invokestatic 346, 3) := dk_184 1 90 (dk_at dksX0_hardBy_8 10 rfl rfl)
theorem dX0_hardBy_202 : decode cX0_hardBy 202 = .ok (.invokestatic 329, 3) := dk_184 1 73 (dk_at dksX0_hardBy_8 13 rfl rfl)
theorem dX0_hardBy_205 : decode cX0_hardBy 205 = .ok (.ireturn, 1) := dk_172 (dk_at dksX0_hardBy_8 16 rfl rfl)
abbrev cX0_isIn : ByteArray := prog_1_method_3_code
def yX0_isIn : MethodName := ⟨RX0, "isIn", "(II)Z"⟩
def dkwX0_isIn_0 : List UInt8 := [26, 27, 122, 4, 126, 4, 160, 0, 7, 4, 167, 0, 4, 3, 172]
abbrev dktX0_isIn_0 : List UInt8 := dkwX0_isIn_0 ++ []
theorem dksX0_isIn_0 : cX0_isIn.data.toList.drop 0 = dktX0_isIn_0 := by decide +kernel
theorem dX0_isIn_0 : decode cX0_isIn 0 = .ok (.iload_n 0, 1) := dk_26 (dk_at dksX0_isIn_0 0 rfl rfl)
theorem dX0_isIn_1 : decode cX0_isIn 1 = .ok (.iload_n 1, 1) := dk_27 (dk_at dksX0_isIn_0 1 rfl rfl)
theorem dX0_isIn_2 : decode cX0_isIn 2 = .ok (.ishr, 1) := dk_122 (dk_at dksX0_isIn_0 2 rfl rfl)
theorem dX0_isIn_3 : decode cX0_isIn 3 = .ok (.iconst 1, 1) := dk_4 (dk_at dksX0_isIn_0 3 rfl rfl)
theorem dX0_isIn_4 : decode cX0_isIn 4 = .ok (.iand, 1) := dk_126 (dk_at dksX0_isIn_0 4 rfl rfl)
theorem dX0_isIn_5 : decode cX0_isIn 5 = .ok (.iconst 1, 1) := dk_4 (dk_at dksX0_isIn_0 5 rfl rfl)
theorem dX0_isIn_6 : decode cX0_isIn 6 = .ok (.if_icmp .ne 7, 3) := dk_160 0 7 (dk_at dksX0_isIn_0 6 rfl rfl)
theorem dX0_isIn_9 : decode cX0_isIn 9 = .ok (.iconst 1, 1) := dk_4 (dk_at dksX0_isIn_0 9 rfl rfl)
theorem dX0_isIn_10 : decode cX0_isIn 10 = .ok (.goto 4, 3) := dk_167 0 4 (dk_at dksX0_isIn_0 10 rfl rfl)
theorem dX0_isIn_13 : decode cX0_isIn 13 = .ok (.iconst 0, 1) := dk_3 (dk_at dksX0_isIn_0 13 rfl rfl)
theorem dX0_isIn_14 : decode cX0_isIn 14 = .ok (.ireturn, 1) := dk_172 (dk_at dksX0_isIn_0 14 rfl rfl)
abbrev cX0_bit : ByteArray := prog_1_method_2_code
def yX0_bit : MethodName := ⟨RX0, "bit", "(Z)I"⟩
def dkwX0_bit_0 : List UInt8 := [26, 153, 0, 7, 4, 167, 0, 4, 3, 172]
abbrev dktX0_bit_0 : List UInt8 := dkwX0_bit_0 ++ []
theorem dksX0_bit_0 : cX0_bit.data.toList.drop 0 = dktX0_bit_0 := by decide +kernel
theorem dX0_bit_0 : decode cX0_bit 0 = .ok (.iload_n 0, 1) := dk_26 (dk_at dksX0_bit_0 0 rfl rfl)
theorem dX0_bit_1 : decode cX0_bit 1 = .ok (.ifCond .eq 7, 3) := dk_153 0 7 (dk_at dksX0_bit_0 1 rfl rfl)
theorem dX0_bit_4 : decode cX0_bit 4 = .ok (.iconst 1, 1) := dk_4 (dk_at dksX0_bit_0 4 rfl rfl)
theorem dX0_bit_5 : decode cX0_bit 5 = .ok (.goto 4, 3) := dk_167 0 4 (dk_at dksX0_bit_0 5 rfl rfl)
theorem dX0_bit_8 : decode cX0_bit 8 = .ok (.iconst 0, 1) := dk_3 (dk_at dksX0_bit_0 8 rfl rfl)
theorem dX0_bit_9 : decode cX0_bit 9 = .ok (.ireturn, 1) := dk_172 (dk_at dksX0_bit_0 9 rfl rfl)
abbrev cX0_isOnAt : ByteArray := prog_1_method_42_code
def yX0_isOnAt : MethodName := ⟨RX0, "isOnAt", "(IIII)Z"⟩
def dkwX0_isOnAt_1 : List UInt8 := [160, 0, 17, 42, 27, 21, 4, 182, 1, 70, 153, 0, 7, 4, 167, 0, 4, 3, 172]
abbrev dktX0_isOnAt_1 : List UInt8 := dkwX0_isOnAt_1 ++ []
def dkwX0_isOnAt_0 : List UInt8 := [42, 180, 0, 56, 27, 50, 180, 0, 229, 28, 160, 0, 31, 42, 180, 0, 56, 27, 50, 5, 182, 1, 65, 29]
abbrev dktX0_isOnAt_0 : List UInt8 := dkwX0_isOnAt_0 ++ dktX0_isOnAt_1
theorem dksX0_isOnAt_0 : cX0_isOnAt.data.toList.drop 0 = dktX0_isOnAt_0 := by decide +kernel
theorem dksX0_isOnAt_1 : cX0_isOnAt.data.toList.drop 24 = dktX0_isOnAt_1 := dk_seg dksX0_isOnAt_0 24 rfl rfl
theorem dX0_isOnAt_0 : decode cX0_isOnAt 0 = .ok (.aload_n 0, 1) := dk_42 (dk_at dksX0_isOnAt_0 0 rfl rfl)
theorem dX0_isOnAt_1 : decode cX0_isOnAt 1 = .ok (.getfield 56, 3) := dk_180 0 56 (dk_at dksX0_isOnAt_0 1 rfl rfl)
theorem dX0_isOnAt_4 : decode cX0_isOnAt 4 = .ok (.iload_n 1, 1) := dk_27 (dk_at dksX0_isOnAt_0 4 rfl rfl)
theorem dX0_isOnAt_5 : decode cX0_isOnAt 5 = .ok (.aaload, 1) := dk_50 (dk_at dksX0_isOnAt_0 5 rfl rfl)
theorem dX0_isOnAt_6 : decode cX0_isOnAt 6 = .ok (.getfield 229, 3) := dk_180 0 229 (dk_at dksX0_isOnAt_0 6 rfl rfl)
theorem dX0_isOnAt_9 : decode cX0_isOnAt 9 = .ok (.iload_n 2, 1) := dk_28 (dk_at dksX0_isOnAt_0 9 rfl rfl)
theorem dX0_isOnAt_10 : decode cX0_isOnAt 10 = .ok (.if_icmp .ne 31, 3) := dk_160 0 31 (dk_at dksX0_isOnAt_0 10 rfl rfl)
theorem dX0_isOnAt_13 : decode cX0_isOnAt 13 = .ok (.aload_n 0, 1) := dk_42 (dk_at dksX0_isOnAt_0 13 rfl rfl)
theorem dX0_isOnAt_14 : decode cX0_isOnAt 14 = .ok (.getfield 56, 3) := dk_180 0 56 (dk_at dksX0_isOnAt_0 14 rfl rfl)
theorem dX0_isOnAt_17 : decode cX0_isOnAt 17 = .ok (.iload_n 1, 1) := dk_27 (dk_at dksX0_isOnAt_0 17 rfl rfl)
theorem dX0_isOnAt_18 : decode cX0_isOnAt 18 = .ok (.aaload, 1) := dk_50 (dk_at dksX0_isOnAt_0 18 rfl rfl)
theorem dX0_isOnAt_19 : decode cX0_isOnAt 19 = .ok (.iconst 2, 1) := dk_5 (dk_at dksX0_isOnAt_0 19 rfl rfl)
theorem dX0_isOnAt_20 : decode cX0_isOnAt 20 = .ok (.invokevirtual 321, 3) := dk_182 1 65 (dk_at dksX0_isOnAt_0 20 rfl rfl)
theorem dX0_isOnAt_23 : decode cX0_isOnAt 23 = .ok (.iload_n 3, 1) := dk_29 (dk_at dksX0_isOnAt_0 23 rfl rfl)
theorem dX0_isOnAt_24 : decode cX0_isOnAt 24 = .ok (.if_icmp .ne 17, 3) := dk_160 0 17 (dk_at dksX0_isOnAt_1 0 rfl rfl)
theorem dX0_isOnAt_27 : decode cX0_isOnAt 27 = .ok (.aload_n 0, 1) := dk_42 (dk_at dksX0_isOnAt_1 3 rfl rfl)
theorem dX0_isOnAt_28 : decode cX0_isOnAt 28 = .ok (.iload_n 1, 1) := dk_27 (dk_at dksX0_isOnAt_1 4 rfl rfl)
theorem dX0_isOnAt_29 : decode cX0_isOnAt 29 = .ok (.iload 4, 2) := dk_21 4 (dk_at dksX0_isOnAt_1 5 rfl rfl)
theorem dX0_isOnAt_31 : decode cX0_isOnAt 31 = .ok (.invokevirtual 326, 3) := dk_182 1 70 (dk_at dksX0_isOnAt_1 7 rfl rfl)
theorem dX0_isOnAt_34 : decode cX0_isOnAt 34 = .ok (.ifCond .eq 7, 3) := dk_153 0 7 (dk_at dksX0_isOnAt_1 10 rfl rfl)
theorem dX0_isOnAt_37 : decode cX0_isOnAt 37 = .ok (.iconst 1, 1) := dk_4 (dk_at dksX0_isOnAt_1 13 rfl rfl)
theorem dX0_isOnAt_38 : decode cX0_isOnAt 38 = .ok (.goto 4, 3) := dk_167 0 4 (dk_at dksX0_isOnAt_1 14 rfl rfl)
theorem dX0_isOnAt_41 : decode cX0_isOnAt 41 = .ok (.iconst 0, 1) := dk_3 (dk_at dksX0_isOnAt_1 17 rfl rfl)
theorem dX0_isOnAt_42 : decode cX0_isOnAt 42 = .ok (.ireturn, 1) := dk_172 (dk_at dksX0_isOnAt_1 18 rfl rfl)
abbrev cX0_isOn : ByteArray := prog_1_method_41_code
def yX0_isOn : MethodName := ⟨RX0, "isOn", "(II)Z"⟩
def dkwX0_isOn_1 : List UInt8 := [42, 180, 0, 56, 27, 50, 8, 182, 1, 65, 133, 184, 0, 121, 153, 0, 7, 4, 167, 0, 4, 3, 172]
abbrev dktX0_isOn_1 : List UInt8 := dkwX0_isOn_1 ++ []
def dkwX0_isOn_0 : List UInt8 := [42, 180, 1, 59, 27, 184, 1, 67, 154, 0, 37, 28, 133, 42, 180, 0, 56, 27, 50, 7, 182, 1, 65, 133]
abbrev dktX0_isOn_0 : List UInt8 := dkwX0_isOn_0 ++ dktX0_isOn_1
theorem dksX0_isOn_0 : cX0_isOn.data.toList.drop 0 = dktX0_isOn_0 := by decide +kernel
theorem dksX0_isOn_1 : cX0_isOn.data.toList.drop 24 = dktX0_isOn_1 := dk_seg dksX0_isOn_0 24 rfl rfl
theorem dX0_isOn_0 : decode cX0_isOn 0 = .ok (.aload_n 0, 1) := dk_42 (dk_at dksX0_isOn_0 0 rfl rfl)
theorem dX0_isOn_1 : decode cX0_isOn 1 = .ok (.getfield 315, 3) := dk_180 1 59 (dk_at dksX0_isOn_0 1 rfl rfl)
theorem dX0_isOn_4 : decode cX0_isOn 4 = .ok (.iload_n 1, 1) := dk_27 (dk_at dksX0_isOn_0 4 rfl rfl)
theorem dX0_isOn_5 : decode cX0_isOn 5 = .ok (.invokestatic 323, 3) := dk_184 1 67 (dk_at dksX0_isOn_0 5 rfl rfl)
theorem dX0_isOn_8 : decode cX0_isOn 8 = .ok (.ifCond .ne 37, 3) := dk_154 0 37 (dk_at dksX0_isOn_0 8 rfl rfl)
theorem dX0_isOn_11 : decode cX0_isOn 11 = .ok (.iload_n 2, 1) := dk_28 (dk_at dksX0_isOn_0 11 rfl rfl)
theorem dX0_isOn_12 : decode cX0_isOn 12 = .ok (.i2l, 1) := dk_133 (dk_at dksX0_isOn_0 12 rfl rfl)
theorem dX0_isOn_13 : decode cX0_isOn 13 = .ok (.aload_n 0, 1) := dk_42 (dk_at dksX0_isOn_0 13 rfl rfl)
theorem dX0_isOn_14 : decode cX0_isOn 14 = .ok (.getfield 56, 3) := dk_180 0 56 (dk_at dksX0_isOn_0 14 rfl rfl)
theorem dX0_isOn_17 : decode cX0_isOn 17 = .ok (.iload_n 1, 1) := dk_27 (dk_at dksX0_isOn_0 17 rfl rfl)
theorem dX0_isOn_18 : decode cX0_isOn 18 = .ok (.aaload, 1) := dk_50 (dk_at dksX0_isOn_0 18 rfl rfl)
theorem dX0_isOn_19 : decode cX0_isOn 19 = .ok (.iconst 4, 1) := dk_7 (dk_at dksX0_isOn_0 19 rfl rfl)
theorem dX0_isOn_20 : decode cX0_isOn 20 = .ok (.invokevirtual 321, 3) := dk_182 1 65 (dk_at dksX0_isOn_0 20 rfl rfl)
theorem dX0_isOn_23 : decode cX0_isOn 23 = .ok (.i2l, 1) := dk_133 (dk_at dksX0_isOn_0 23 rfl rfl)
theorem dX0_isOn_24 : decode cX0_isOn 24 = .ok (.aload_n 0, 1) := dk_42 (dk_at dksX0_isOn_1 0 rfl rfl)
theorem dX0_isOn_25 : decode cX0_isOn 25 = .ok (.getfield 56, 3) := dk_180 0 56 (dk_at dksX0_isOn_1 1 rfl rfl)
theorem dX0_isOn_28 : decode cX0_isOn 28 = .ok (.iload_n 1, 1) := dk_27 (dk_at dksX0_isOn_1 4 rfl rfl)
theorem dX0_isOn_29 : decode cX0_isOn 29 = .ok (.aaload, 1) := dk_50 (dk_at dksX0_isOn_1 5 rfl rfl)
theorem dX0_isOn_30 : decode cX0_isOn 30 = .ok (.iconst 5, 1) := dk_8 (dk_at dksX0_isOn_1 6 rfl rfl)
theorem dX0_isOn_31 : decode cX0_isOn 31 = .ok (.invokevirtual 321, 3) := dk_182 1 65 (dk_at dksX0_isOn_1 7 rfl rfl)
theorem dX0_isOn_34 : decode cX0_isOn 34 = .ok (.i2l, 1) := dk_133 (dk_at dksX0_isOn_1 10 rfl rfl)
theorem dX0_isOn_35 : decode cX0_isOn 35 = .ok (.invokestatic 121, 3) := dk_184 0 121 (dk_at dksX0_isOn_1 11 rfl rfl)
theorem dX0_isOn_38 : decode cX0_isOn 38 = .ok (.ifCond .eq 7, 3) := dk_153 0 7 (dk_at dksX0_isOn_1 14 rfl rfl)
theorem dX0_isOn_41 : decode cX0_isOn 41 = .ok (.iconst 1, 1) := dk_4 (dk_at dksX0_isOn_1 17 rfl rfl)
theorem dX0_isOn_42 : decode cX0_isOn 42 = .ok (.goto 4, 3) := dk_167 0 4 (dk_at dksX0_isOn_1 18 rfl rfl)
theorem dX0_isOn_45 : decode cX0_isOn 45 = .ok (.iconst 0, 1) := dk_3 (dk_at dksX0_isOn_1 21 rfl rfl)
theorem dX0_isOn_46 : decode cX0_isOn 46 = .ok (.ireturn, 1) := dk_172 (dk_at dksX0_isOn_1 22 rfl rfl)
abbrev cX0_ruled : ByteArray := prog_1_method_39_code
def yX0_ruled : MethodName := ⟨RX0, "ruled", "()I"⟩
def dkwX0_ruled_1 : List UInt8 := [154, 0, 6, 167, 0, 11, 43, 180, 1, 33, 182, 1, 54, 172, 43, 180, 1, 44, 76, 167, 255, 219, 3, 172]
abbrev dktX0_ruled_1 : List UInt8 := dkwX0_ruled_1 ++ []
def dkwX0_ruled_0 : List UInt8 := [42, 180, 1, 51, 76, 43, 198, 0, 39, 43, 180, 1, 37, 198, 0, 16, 43, 180, 1, 37, 182, 1, 54]
abbrev dktX0_ruled_0 : List UInt8 := dkwX0_ruled_0 ++ dktX0_ruled_1
theorem dksX0_ruled_0 : cX0_ruled.data.toList.drop 0 = dktX0_ruled_0 := by decide +kernel
theorem dksX0_ruled_1 : cX0_ruled.data.toList.drop 23 = dktX0_ruled_1 := dk_seg dksX0_ruled_0 23 rfl rfl
theorem dX0_ruled_0 : decode cX0_ruled 0 = .ok (.aload_n 0, 1) := dk_42 (dk_at dksX0_ruled_0 0 rfl rfl)
theorem dX0_ruled_1 : decode cX0_ruled 1 = .ok (.getfield 307, 3) := dk_180 1 51 (dk_at dksX0_ruled_0 1 rfl rfl)
theorem dX0_ruled_4 : decode cX0_ruled 4 = .ok (.astore_n 1, 1) := dk_76 (dk_at dksX0_ruled_0 4 rfl rfl)
theorem dX0_ruled_5 : decode cX0_ruled 5 = .ok (.aload_n 1, 1) := dk_43 (dk_at dksX0_ruled_0 5 rfl rfl)
theorem dX0_ruled_6 : decode cX0_ruled 6 = .ok (.ifnull 39, 3) := dk_198 0 39 (dk_at dksX0_ruled_0 6 rfl rfl)
theorem dX0_ruled_9 : decode cX0_ruled 9 = .ok (.aload_n 1, 1) := dk_43 (dk_at dksX0_ruled_0 9 rfl rfl)
theorem dX0_ruled_10 : decode cX0_ruled 10 = .ok (.getfield 293, 3) := dk_180 1 37 (dk_at dksX0_ruled_0 10 rfl rfl)
theorem dX0_ruled_13 : decode cX0_ruled 13 = .ok (.ifnull 16, 3) := dk_198 0 16 (dk_at dksX0_ruled_0 13 rfl rfl)
theorem dX0_ruled_16 : decode cX0_ruled 16 = .ok (.aload_n 1, 1) := dk_43 (dk_at dksX0_ruled_0 16 rfl rfl)
theorem dX0_ruled_17 : decode cX0_ruled 17 = .ok (.getfield 293, 3) := dk_180 1 37 (dk_at dksX0_ruled_0 17 rfl rfl)
theorem dX0_ruled_20 : decode cX0_ruled 20 = .ok (.invokevirtual 310, 3) := dk_182 1 54 (dk_at dksX0_ruled_0 20 rfl rfl)
theorem dX0_ruled_23 : decode cX0_ruled 23 = .ok (.ifCond .ne 6, 3) := dk_154 0 6 (dk_at dksX0_ruled_1 0 rfl rfl)
theorem dX0_ruled_26 : decode cX0_ruled 26 = .ok (.goto 11, 3) := dk_167 0 11 (dk_at dksX0_ruled_1 3 rfl rfl)
theorem dX0_ruled_29 : decode cX0_ruled 29 = .ok (.aload_n 1, 1) := dk_43 (dk_at dksX0_ruled_1 6 rfl rfl)
theorem dX0_ruled_30 : decode cX0_ruled 30 = .ok (.getfield 289, 3) := dk_180 1 33 (dk_at dksX0_ruled_1 7 rfl rfl)
theorem dX0_ruled_33 : decode cX0_ruled 33 = .ok (.invokevirtual 310, 3) := dk_182 1 54 (dk_at dksX0_ruled_1 10 rfl rfl)
theorem dX0_ruled_36 : decode cX0_ruled 36 = .ok (.ireturn, 1) := dk_172 (dk_at dksX0_ruled_1 13 rfl rfl)
theorem dX0_ruled_37 : decode cX0_ruled 37 = .ok (.aload_n 1, 1) := dk_43 (dk_at dksX0_ruled_1 14 rfl rfl)
theorem dX0_ruled_38 : decode cX0_ruled 38 = .ok (.getfield 300, 3) := dk_180 1 44 (dk_at dksX0_ruled_1 15 rfl rfl)
theorem dX0_ruled_41 : decode cX0_ruled 41 = .ok (.astore_n 1, 1) := dk_76 (dk_at dksX0_ruled_1 18 rfl rfl)
theorem dX0_ruled_42 : decode cX0_ruled 42 = .ok (.goto (-37), 3) := dk_167 255 219 (dk_at dksX0_ruled_1 19 rfl rfl)
theorem dX0_ruled_45 : decode cX0_ruled 45 = .ok (.iconst 0, 1) := dk_3 (dk_at dksX0_ruled_1 22 rfl rfl)
theorem dX0_ruled_46 : decode cX0_ruled 46 = .ok (.ireturn, 1) := dk_172 (dk_at dksX0_ruled_1 23 rfl rfl)
abbrev cX0_held : ByteArray := prog_1_method_48_code
def yX0_held : MethodName := ⟨RX0, "held", "(II)I"⟩
def dkwX0_held_6 : List UInt8 := [167, 0, 5, 21, 4, 172]
abbrev dktX0_held_6 : List UInt8 := dkwX0_held_6 ++ []
def dkwX0_held_5 : List UInt8 := [180, 0, 3, 182, 1, 93, 184, 1, 73, 54, 4, 132, 5, 1, 167, 255, 160, 28, 154, 0, 7, 29]
abbrev dktX0_held_5 : List UInt8 := dkwX0_held_5 ++ dktX0_held_6
def dkwX0_held_4 : List UInt8 := [180, 0, 67, 180, 0, 3, 182, 1, 96, 184, 1, 79, 96, 62, 21, 4, 42, 21, 5, 42, 180, 0, 67]
abbrev dktX0_held_4 : List UInt8 := dkwX0_held_4 ++ dktX0_held_5
def dkwX0_held_3 : List UInt8 := [154, 0, 6, 167, 0, 55, 29, 42, 21, 5, 27, 42, 180, 0, 50, 27, 50, 180, 0, 171, 180, 0, 3, 42]
abbrev dktX0_held_3 : List UInt8 := dkwX0_held_3 ++ dktX0_held_4
def dkwX0_held_2 : List UInt8 := [42, 180, 0, 50, 27, 50, 180, 0, 171, 180, 0, 3, 42, 180, 0, 67, 180, 0, 3, 182, 1, 83]
abbrev dktX0_held_2 : List UInt8 := dkwX0_held_2 ++ dktX0_held_3
def dkwX0_held_1 : List UInt8 := [182, 1, 103, 3, 62, 3, 54, 4, 3, 54, 5, 21, 5, 42, 180, 0, 146, 162, 0, 93, 42, 21, 5, 27]
abbrev dktX0_held_1 : List UInt8 := dkwX0_held_1 ++ dktX0_held_2
def dkwX0_held_0 : List UInt8 := [42, 27, 133, 182, 0, 160, 153, 0, 13, 28, 133, 9, 10, 184, 0, 121, 154, 0, 5, 2, 172, 42]
abbrev dktX0_held_0 : List UInt8 := dkwX0_held_0 ++ dktX0_held_1
theorem dksX0_held_0 : cX0_held.data.toList.drop 0 = dktX0_held_0 := by decide +kernel
theorem dksX0_held_1 : cX0_held.data.toList.drop 22 = dktX0_held_1 := dk_seg dksX0_held_0 22 rfl rfl
theorem dksX0_held_2 : cX0_held.data.toList.drop 46 = dktX0_held_2 := dk_seg dksX0_held_1 24 rfl rfl
theorem dksX0_held_3 : cX0_held.data.toList.drop 68 = dktX0_held_3 := dk_seg dksX0_held_2 22 rfl rfl
theorem dksX0_held_4 : cX0_held.data.toList.drop 92 = dktX0_held_4 := dk_seg dksX0_held_3 24 rfl rfl
theorem dksX0_held_5 : cX0_held.data.toList.drop 115 = dktX0_held_5 := dk_seg dksX0_held_4 23 rfl rfl
theorem dksX0_held_6 : cX0_held.data.toList.drop 137 = dktX0_held_6 := dk_seg dksX0_held_5 22 rfl rfl
theorem dX0_held_0 : decode cX0_held 0 = .ok (.aload_n 0, 1) := dk_42 (dk_at dksX0_held_0 0 rfl rfl)
theorem dX0_held_1 : decode cX0_held 1 = .ok (.iload_n 1, 1) := dk_27 (dk_at dksX0_held_0 1 rfl rfl)
theorem dX0_held_2 : decode cX0_held 2 = .ok (.i2l, 1) := dk_133 (dk_at dksX0_held_0 2 rfl rfl)
theorem dX0_held_3 : decode cX0_held 3 = .ok (.invokevirtual 160, 3) := dk_182 0 160 (dk_at dksX0_held_0 3 rfl rfl)
theorem dX0_held_6 : decode cX0_held 6 = .ok (.ifCond .eq 13, 3) := dk_153 0 13 (dk_at dksX0_held_0 6 rfl rfl)
theorem dX0_held_9 : decode cX0_held 9 = .ok (.iload_n 2, 1) := dk_28 (dk_at dksX0_held_0 9 rfl rfl)
theorem dX0_held_10 : decode cX0_held 10 = .ok (.i2l, 1) := dk_133 (dk_at dksX0_held_0 10 rfl rfl)
theorem dX0_held_11 : decode cX0_held 11 = .ok (.lconst 0, 1) := dk_9 (dk_at dksX0_held_0 11 rfl rfl)
theorem dX0_held_12 : decode cX0_held 12 = .ok (.lconst 1, 1) := dk_10 (dk_at dksX0_held_0 12 rfl rfl)
theorem dX0_held_13 : decode cX0_held 13 = .ok (.invokestatic 121, 3) := dk_184 0 121 (dk_at dksX0_held_0 13 rfl rfl)
theorem dX0_held_16 : decode cX0_held 16 = .ok (.ifCond .ne 5, 3) := dk_154 0 5 (dk_at dksX0_held_0 16 rfl rfl)
theorem dX0_held_19 : decode cX0_held 19 = .ok (.iconst (-1), 1) := dk_2 (dk_at dksX0_held_0 19 rfl rfl)
theorem dX0_held_20 : decode cX0_held 20 = .ok (.ireturn, 1) := dk_172 (dk_at dksX0_held_0 20 rfl rfl)
theorem dX0_held_21 : decode cX0_held 21 = .ok (.aload_n 0, 1) := dk_42 (dk_at dksX0_held_0 21 rfl rfl)
theorem dX0_held_22 : decode cX0_held 22 = .ok (.invokevirtual 359, 3) := dk_182 1 103 (dk_at dksX0_held_1 0 rfl rfl)
theorem dX0_held_25 : decode cX0_held 25 = .ok (.iconst 0, 1) := dk_3 (dk_at dksX0_held_1 3 rfl rfl)
theorem dX0_held_26 : decode cX0_held 26 = .ok (.istore_n 3, 1) := dk_62 (dk_at dksX0_held_1 4 rfl rfl)
theorem dX0_held_27 : decode cX0_held 27 = .ok (.iconst 0, 1) := dk_3 (dk_at dksX0_held_1 5 rfl rfl)
theorem dX0_held_28 : decode cX0_held 28 = .ok (.istore 4, 2) := dk_54 4 (dk_at dksX0_held_1 6 rfl rfl)
theorem dX0_held_30 : decode cX0_held 30 = .ok (.iconst 0, 1) := dk_3 (dk_at dksX0_held_1 8 rfl rfl)
theorem dX0_held_31 : decode cX0_held 31 = .ok (.istore 5, 2) := dk_54 5 (dk_at dksX0_held_1 9 rfl rfl)
theorem dX0_held_33 : decode cX0_held 33 = .ok (.iload 5, 2) := dk_21 5 (dk_at dksX0_held_1 11 rfl rfl)
theorem dX0_held_35 : decode cX0_held 35 = .ok (.aload_n 0, 1) := dk_42 (dk_at dksX0_held_1 13 rfl rfl)
theorem dX0_held_36 : decode cX0_held 36 = .ok (.getfield 146, 3) := dk_180 0 146 (dk_at dksX0_held_1 14 rfl rfl)
theorem dX0_held_39 : decode cX0_held 39 = .ok (.if_icmp .ge 93, 3) := dk_162 0 93 (dk_at dksX0_held_1 17 rfl rfl)
theorem dX0_held_42 : decode cX0_held 42 = .ok (.aload_n 0, 1) := dk_42 (dk_at dksX0_held_1 20 rfl rfl)
theorem dX0_held_43 : decode cX0_held 43 = .ok (.iload 5, 2) := dk_21 5 (dk_at dksX0_held_1 21 rfl rfl)
theorem dX0_held_45 : decode cX0_held 45 = .ok (.iload_n 1, 1) := dk_27 (dk_at dksX0_held_1 23 rfl rfl)
theorem dX0_held_46 : decode cX0_held 46 = .ok (.aload_n 0, 1) := dk_42 (dk_at dksX0_held_2 0 rfl rfl)
theorem dX0_held_47 : decode cX0_held 47 = .ok (.getfield 50, 3) := dk_180 0 50 (dk_at dksX0_held_2 1 rfl rfl)
theorem dX0_held_50 : decode cX0_held 50 = .ok (.iload_n 1, 1) := dk_27 (dk_at dksX0_held_2 4 rfl rfl)
theorem dX0_held_51 : decode cX0_held 51 = .ok (.aaload, 1) := dk_50 (dk_at dksX0_held_2 5 rfl rfl)
theorem dX0_held_52 : decode cX0_held 52 = .ok (.getfield 171, 3) := dk_180 0 171 (dk_at dksX0_held_2 6 rfl rfl)
theorem dX0_held_55 : decode cX0_held 55 = .ok (.getfield 3, 3) := dk_180 0 3 (dk_at dksX0_held_2 9 rfl rfl)
theorem dX0_held_58 : decode cX0_held 58 = .ok (.aload_n 0, 1) := dk_42 (dk_at dksX0_held_2 12 rfl rfl)
theorem dX0_held_59 : decode cX0_held 59 = .ok (.getfield 67, 3) := dk_180 0 67 (dk_at dksX0_held_2 13 rfl rfl)
theorem dX0_held_62 : decode cX0_held 62 = .ok (.getfield 3, 3) := dk_180 0 3 (dk_at dksX0_held_2 16 rfl rfl)
theorem dX0_held_65 : decode cX0_held 65 = .ok (.invokevirtual 339, 3) := dk_182 1 83 (dk_at dksX0_held_2 19 rfl rfl)
theorem dX0_held_68 : decode cX0_held 68 = .ok (.ifCond .ne 6, 3) := dk_154 0 6 (dk_at dksX0_held_3 0 rfl rfl)
theorem dX0_held_71 : decode cX0_held 71 = .ok (.goto 55, 3) := dk_167 0 55 (dk_at dksX0_held_3 3 rfl rfl)
theorem dX0_held_74 : decode cX0_held 74 = .ok (.iload_n 3, 1) := dk_29 (dk_at dksX0_held_3 6 rfl rfl)
theorem dX0_held_75 : decode cX0_held 75 = .ok (.aload_n 0, 1) := dk_42 (dk_at dksX0_held_3 7 rfl rfl)
theorem dX0_held_76 : decode cX0_held 76 = .ok (.iload 5, 2) := dk_21 5 (dk_at dksX0_held_3 8 rfl rfl)
theorem dX0_held_78 : decode cX0_held 78 = .ok (.iload_n 1, 1) := dk_27 (dk_at dksX0_held_3 10 rfl rfl)
theorem dX0_held_79 : decode cX0_held 79 = .ok (.aload_n 0, 1) := dk_42 (dk_at dksX0_held_3 11 rfl rfl)
theorem dX0_held_80 : decode cX0_held 80 = .ok (.getfield 50, 3) := dk_180 0 50 (dk_at dksX0_held_3 12 rfl rfl)
theorem dX0_held_83 : decode cX0_held 83 = .ok (.iload_n 1, 1) := dk_27 (dk_at dksX0_held_3 15 rfl rfl)
theorem dX0_held_84 : decode cX0_held 84 = .ok (.aaload, 1) := dk_50 (dk_at dksX0_held_3 16 rfl rfl)
theorem dX0_held_85 : decode cX0_held 85 = .ok (.getfield 171, 3) := dk_180 0 171 (dk_at dksX0_held_3 17 rfl rfl)
theorem dX0_held_88 : decode cX0_held 88 = .ok (.getfield 3, 3) := dk_180 0 3 (dk_at dksX0_held_3 20 rfl rfl)
theorem dX0_held_91 : decode cX0_held 91 = .ok (.aload_n 0, 1) := dk_42 (dk_at dksX0_held_3 23 rfl rfl)
theorem dX0_held_92 : decode cX0_held 92 = .ok (.getfield 67, 3) := dk_180 0 67 (dk_at dksX0_held_4 0 rfl rfl)
theorem dX0_held_95 : decode cX0_held 95 = .ok (.getfield 3, 3) := dk_180 0 3 (dk_at dksX0_held_4 3 rfl rfl)
theorem dX0_held_98 : decode cX0_held 98 = .ok (.invokevirtual 352, 3) := dk_182 1 96 (dk_at dksX0_held_4 6 rfl rfl)
theorem dX0_held_101 : decode cX0_held 101 = .ok (.invokestatic 335, 3) := dk_184 1 79 (dk_at dksX0_held_4 9 rfl rfl)
theorem dX0_held_104 : decode cX0_held 104 = .ok (.iadd, 1) := dk_96 (dk_at dksX0_held_4 12 rfl rfl)
theorem dX0_held_105 : decode cX0_held 105 = .ok (.istore_n 3, 1) := dk_62 (dk_at dksX0_held_4 13 rfl rfl)
theorem dX0_held_106 : decode cX0_held 106 = .ok (.iload 4, 2) := dk_21 4 (dk_at dksX0_held_4 14 rfl rfl)
theorem dX0_held_108 : decode cX0_held 108 = .ok (.aload_n 0, 1) := dk_42 (dk_at dksX0_held_4 16 rfl rfl)
theorem dX0_held_109 : decode cX0_held 109 = .ok (.iload 5, 2) := dk_21 5 (dk_at dksX0_held_4 17 rfl rfl)
theorem dX0_held_111 : decode cX0_held 111 = .ok (.aload_n 0, 1) := dk_42 (dk_at dksX0_held_4 19 rfl rfl)
theorem dX0_held_112 : decode cX0_held 112 = .ok (.getfield 67, 3) := dk_180 0 67 (dk_at dksX0_held_4 20 rfl rfl)
theorem dX0_held_115 : decode cX0_held 115 = .ok (.getfield 3, 3) := dk_180 0 3 (dk_at dksX0_held_5 0 rfl rfl)
theorem dX0_held_118 : decode cX0_held 118 = .ok (.invokevirtual 349, 3) := dk_182 1 93 (dk_at dksX0_held_5 3 rfl rfl)
theorem dX0_held_121 : decode cX0_held 121 = .ok (.invokestatic 329, 3) := dk_184 1 73 (dk_at dksX0_held_5 6 rfl rfl)
theorem dX0_held_124 : decode cX0_held 124 = .ok (.istore 4, 2) := dk_54 4 (dk_at dksX0_held_5 9 rfl rfl)
theorem dX0_held_126 : decode cX0_held 126 = .ok (.iinc 5 1, 3) := dk_132 5 1 (dk_at dksX0_held_5 11 rfl rfl)
theorem dX0_held_129 : decode cX0_held 129 = .ok (.goto (-96), 3) := dk_167 255 160 (dk_at dksX0_held_5 14 rfl rfl)
theorem dX0_held_132 : decode cX0_held 132 = .ok (.iload_n 2, 1) := dk_28 (dk_at dksX0_held_5 17 rfl rfl)
theorem dX0_held_133 : decode cX0_held 133 = .ok (.ifCond .ne 7, 3) := dk_154 0 7 (dk_at dksX0_held_5 18 rfl rfl)
theorem dX0_held_136 : decode cX0_held 136 = .ok (.iload_n 3, 1) := dk_29 (dk_at dksX0_held_5 21 rfl rfl)
theorem dX0_held_137 : decode cX0_held 137 = .ok (.goto 5, 3) := dk_167 0 5 (dk_at dksX0_held_6 0 rfl rfl)
theorem dX0_held_140 : decode cX0_held 140 = .ok (.iload 4, 2) := dk_21 4 (dk_at dksX0_held_6 3 rfl rfl)
theorem dX0_held_142 : decode cX0_held 142 = .ok (.ireturn, 1) := dk_172 (dk_at dksX0_held_6 5 rfl rfl)
abbrev cX0_holdsAt : ByteArray := prog_1_method_44_code
def yX0_holdsAt : MethodName := ⟨RX0, "holdsAt", "(IIII)Z"⟩
def dkwX0_holdsAt_1 : List UInt8 := [180, 0, 3, 161, 0, 7, 4, 167, 0, 4, 3, 172]
abbrev dktX0_holdsAt_1 : List UInt8 := dkwX0_holdsAt_1 ++ []
def dkwX0_holdsAt_0 : List UInt8 := [42, 27, 28, 29, 21, 4, 182, 1, 83, 153, 0, 24, 42, 27, 21, 4, 182, 1, 93, 42, 180, 0, 64]
abbrev dktX0_holdsAt_0 : List UInt8 := dkwX0_holdsAt_0 ++ dktX0_holdsAt_1
theorem dksX0_holdsAt_0 : cX0_holdsAt.data.toList.drop 0 = dktX0_holdsAt_0 := by decide +kernel
theorem dksX0_holdsAt_1 : cX0_holdsAt.data.toList.drop 23 = dktX0_holdsAt_1 := dk_seg dksX0_holdsAt_0 23 rfl rfl
theorem dX0_holdsAt_0 : decode cX0_holdsAt 0 = .ok (.aload_n 0, 1) := dk_42 (dk_at dksX0_holdsAt_0 0 rfl rfl)
theorem dX0_holdsAt_1 : decode cX0_holdsAt 1 = .ok (.iload_n 1, 1) := dk_27 (dk_at dksX0_holdsAt_0 1 rfl rfl)
theorem dX0_holdsAt_2 : decode cX0_holdsAt 2 = .ok (.iload_n 2, 1) := dk_28 (dk_at dksX0_holdsAt_0 2 rfl rfl)
theorem dX0_holdsAt_3 : decode cX0_holdsAt 3 = .ok (.iload_n 3, 1) := dk_29 (dk_at dksX0_holdsAt_0 3 rfl rfl)
theorem dX0_holdsAt_4 : decode cX0_holdsAt 4 = .ok (.iload 4, 2) := dk_21 4 (dk_at dksX0_holdsAt_0 4 rfl rfl)
theorem dX0_holdsAt_6 : decode cX0_holdsAt 6 = .ok (.invokevirtual 339, 3) := dk_182 1 83 (dk_at dksX0_holdsAt_0 6 rfl rfl)
theorem dX0_holdsAt_9 : decode cX0_holdsAt 9 = .ok (.ifCond .eq 24, 3) := dk_153 0 24 (dk_at dksX0_holdsAt_0 9 rfl rfl)
theorem dX0_holdsAt_12 : decode cX0_holdsAt 12 = .ok (.aload_n 0, 1) := dk_42 (dk_at dksX0_holdsAt_0 12 rfl rfl)
theorem dX0_holdsAt_13 : decode cX0_holdsAt 13 = .ok (.iload_n 1, 1) := dk_27 (dk_at dksX0_holdsAt_0 13 rfl rfl)
theorem dX0_holdsAt_14 : decode cX0_holdsAt 14 = .ok (.iload 4, 2) := dk_21 4 (dk_at dksX0_holdsAt_0 14 rfl rfl)
theorem dX0_holdsAt_16 : decode cX0_holdsAt 16 = .ok (.invokevirtual 349, 3) := dk_182 1 93 (dk_at dksX0_holdsAt_0 16 rfl rfl)
theorem dX0_holdsAt_19 : decode cX0_holdsAt 19 = .ok (.aload_n 0, 1) := dk_42 (dk_at dksX0_holdsAt_0 19 rfl rfl)
theorem dX0_holdsAt_20 : decode cX0_holdsAt 20 = .ok (.getfield 64, 3) := dk_180 0 64 (dk_at dksX0_holdsAt_0 20 rfl rfl)
theorem dX0_holdsAt_23 : decode cX0_holdsAt 23 = .ok (.getfield 3, 3) := dk_180 0 3 (dk_at dksX0_holdsAt_1 0 rfl rfl)
theorem dX0_holdsAt_26 : decode cX0_holdsAt 26 = .ok (.if_icmp .lt 7, 3) := dk_161 0 7 (dk_at dksX0_holdsAt_1 3 rfl rfl)
theorem dX0_holdsAt_29 : decode cX0_holdsAt 29 = .ok (.iconst 1, 1) := dk_4 (dk_at dksX0_holdsAt_1 6 rfl rfl)
theorem dX0_holdsAt_30 : decode cX0_holdsAt 30 = .ok (.goto 4, 3) := dk_167 0 4 (dk_at dksX0_holdsAt_1 7 rfl rfl)
theorem dX0_holdsAt_33 : decode cX0_holdsAt 33 = .ok (.iconst 0, 1) := dk_3 (dk_at dksX0_holdsAt_1 10 rfl rfl)
theorem dX0_holdsAt_34 : decode cX0_holdsAt 34 = .ok (.ireturn, 1) := dk_172 (dk_at dksX0_holdsAt_1 11 rfl rfl)
abbrev cX0_route : ByteArray := prog_1_method_57_code
def yX0_route : MethodName := ⟨RX0, "route", "(IIII)I"⟩
def dkwX0_route_6 : List UInt8 := [42, 180, 1, 106, 172, 42, 180, 1, 112, 172, 42, 42, 180, 1, 115, 182, 1, 143, 172, 42, 180, 1, 115, 172]
abbrev dktX0_route_6 : List UInt8 := dkwX0_route_6 ++ []
def dkwX0_route_5 : List UInt8 := [170, 0, 0, 0, 0, 0, 46, 0, 0, 0, 0, 0, 0, 0, 2, 0, 0, 0, 27, 0, 0, 0, 32, 0, 0, 0, 37]
abbrev dktX0_route_5 : List UInt8 := dkwX0_route_5 ++ dktX0_route_6
def dkwX0_route_4 : List UInt8 := [162, 0, 19, 42, 29, 25, 5, 21, 7, 51, 182, 1, 139, 132, 7, 1, 167, 255, 236, 21, 4]
abbrev dktX0_route_4 : List UInt8 := dkwX0_route_4 ++ dktX0_route_5
def dkwX0_route_3 : List UInt8 := [42, 25, 5, 182, 1, 132, 184, 1, 90, 54, 6, 42, 29, 182, 1, 136, 3, 54, 7, 21, 7, 21, 6]
abbrev dktX0_route_3 : List UInt8 := dkwX0_route_3 ++ dktX0_route_4
def dkwX0_route_2 : List UInt8 := [182, 1, 129, 156, 0, 9, 42, 27, 182, 1, 129, 172, 42, 180, 0, 113, 27, 50, 192, 0, 182, 58, 5, 28]
abbrev dktX0_route_2 : List UInt8 := dkwX0_route_2 ++ dktX0_route_3
def dkwX0_route_1 : List UInt8 := [182, 0, 160, 153, 0, 16, 21, 4, 133, 9, 20, 0, 201, 184, 0, 121, 154, 0, 5, 2, 172, 42, 27]
abbrev dktX0_route_1 : List UInt8 := dkwX0_route_1 ++ dktX0_route_2
def dkwX0_route_0 : List UInt8 := [27, 184, 0, 184, 153, 0, 37, 28, 133, 9, 20, 1, 127, 184, 0, 121, 153, 0, 25, 42, 29, 133]
abbrev dktX0_route_0 : List UInt8 := dkwX0_route_0 ++ dktX0_route_1
theorem dksX0_route_0 : cX0_route.data.toList.drop 0 = dktX0_route_0 := by decide +kernel
theorem dksX0_route_1 : cX0_route.data.toList.drop 22 = dktX0_route_1 := dk_seg dksX0_route_0 22 rfl rfl
theorem dksX0_route_2 : cX0_route.data.toList.drop 45 = dktX0_route_2 := dk_seg dksX0_route_1 23 rfl rfl
theorem dksX0_route_3 : cX0_route.data.toList.drop 69 = dktX0_route_3 := dk_seg dksX0_route_2 24 rfl rfl
theorem dksX0_route_4 : cX0_route.data.toList.drop 92 = dktX0_route_4 := dk_seg dksX0_route_3 23 rfl rfl
theorem dksX0_route_5 : cX0_route.data.toList.drop 113 = dktX0_route_5 := dk_seg dksX0_route_4 21 rfl rfl
theorem dksX0_route_6 : cX0_route.data.toList.drop 140 = dktX0_route_6 := dk_seg dksX0_route_5 27 rfl rfl
theorem dX0_route_0 : decode cX0_route 0 = .ok (.iload_n 1, 1) := dk_27 (dk_at dksX0_route_0 0 rfl rfl)
theorem dX0_route_1 : decode cX0_route 1 = .ok (.invokestatic 184, 3) := dk_184 0 184 (dk_at dksX0_route_0 1 rfl rfl)
theorem dX0_route_4 : decode cX0_route 4 = .ok (.ifCond .eq 37, 3) := dk_153 0 37 (dk_at dksX0_route_0 4 rfl rfl)
theorem dX0_route_7 : decode cX0_route 7 = .ok (.iload_n 2, 1) := dk_28 (dk_at dksX0_route_0 7 rfl rfl)
theorem dX0_route_8 : decode cX0_route 8 = .ok (.i2l, 1) := dk_133 (dk_at dksX0_route_0 8 rfl rfl)
theorem dX0_route_9 : decode cX0_route 9 = .ok (.lconst 0, 1) := dk_9 (dk_at dksX0_route_0 9 rfl rfl)
theorem dX0_route_10 : decode cX0_route 10 = .ok (.ldc2_w 383, 3) := dk_20 1 127 (dk_at dksX0_route_0 10 rfl rfl)
theorem dX0_route_13 : decode cX0_route 13 = .ok (.invokestatic 121, 3) := dk_184 0 121 (dk_at dksX0_route_0 13 rfl rfl)
theorem dX0_route_16 : decode cX0_route 16 = .ok (.ifCond .eq 25, 3) := dk_153 0 25 (dk_at dksX0_route_0 16 rfl rfl)
theorem dX0_route_19 : decode cX0_route 19 = .ok (.aload_n 0, 1) := dk_42 (dk_at dksX0_route_0 19 rfl rfl)
theorem dX0_route_20 : decode cX0_route 20 = .ok (.iload_n 3, 1) := dk_29 (dk_at dksX0_route_0 20 rfl rfl)
theorem dX0_route_21 : decode cX0_route 21 = .ok (.i2l, 1) := dk_133 (dk_at dksX0_route_0 21 rfl rfl)
theorem dX0_route_22 : decode cX0_route 22 = .ok (.invokevirtual 160, 3) := dk_182 0 160 (dk_at dksX0_route_1 0 rfl rfl)
theorem dX0_route_25 : decode cX0_route 25 = .ok (.ifCond .eq 16, 3) := dk_153 0 16 (dk_at dksX0_route_1 3 rfl rfl)
theorem dX0_route_28 : decode cX0_route 28 = .ok (.iload 4, 2) := dk_21 4 (dk_at dksX0_route_1 6 rfl rfl)
theorem dX0_route_30 : decode cX0_route 30 = .ok (.i2l, 1) := dk_133 (dk_at dksX0_route_1 8 rfl rfl)
theorem dX0_route_31 : decode cX0_route 31 = .ok (.lconst 0, 1) := dk_9 (dk_at dksX0_route_1 9 rfl rfl)
theorem dX0_route_32 : decode cX0_route 32 = .ok (.ldc2_w 201, 3) := dk_20 0 201 (dk_at dksX0_route_1 10 rfl rfl)
theorem dX0_route_35 : decode cX0_route 35 = .ok (.invokestatic 121, 3) := dk_184 0 121 (dk_at dksX0_route_1 13 rfl rfl)
theorem dX0_route_38 : decode cX0_route 38 = .ok (.ifCond .ne 5, 3) := dk_154 0 5 (dk_at dksX0_route_1 16 rfl rfl)
theorem dX0_route_41 : decode cX0_route 41 = .ok (.iconst (-1), 1) := dk_2 (dk_at dksX0_route_1 19 rfl rfl)
theorem dX0_route_42 : decode cX0_route 42 = .ok (.ireturn, 1) := dk_172 (dk_at dksX0_route_1 20 rfl rfl)
theorem dX0_route_43 : decode cX0_route 43 = .ok (.aload_n 0, 1) := dk_42 (dk_at dksX0_route_1 21 rfl rfl)
theorem dX0_route_44 : decode cX0_route 44 = .ok (.iload_n 1, 1) := dk_27 (dk_at dksX0_route_1 22 rfl rfl)
theorem dX0_route_45 : decode cX0_route 45 = .ok (.invokevirtual 385, 3) := dk_182 1 129 (dk_at dksX0_route_2 0 rfl rfl)
theorem dX0_route_48 : decode cX0_route 48 = .ok (.ifCond .ge 9, 3) := dk_156 0 9 (dk_at dksX0_route_2 3 rfl rfl)
theorem dX0_route_51 : decode cX0_route 51 = .ok (.aload_n 0, 1) := dk_42 (dk_at dksX0_route_2 6 rfl rfl)
theorem dX0_route_52 : decode cX0_route 52 = .ok (.iload_n 1, 1) := dk_27 (dk_at dksX0_route_2 7 rfl rfl)
theorem dX0_route_53 : decode cX0_route 53 = .ok (.invokevirtual 385, 3) := dk_182 1 129 (dk_at dksX0_route_2 8 rfl rfl)
theorem dX0_route_56 : decode cX0_route 56 = .ok (.ireturn, 1) := dk_172 (dk_at dksX0_route_2 11 rfl rfl)
theorem dX0_route_57 : decode cX0_route 57 = .ok (.aload_n 0, 1) := dk_42 (dk_at dksX0_route_2 12 rfl rfl)
theorem dX0_route_58 : decode cX0_route 58 = .ok (.getfield 113, 3) := dk_180 0 113 (dk_at dksX0_route_2 13 rfl rfl)
theorem dX0_route_61 : decode cX0_route 61 = .ok (.iload_n 1, 1) := dk_27 (dk_at dksX0_route_2 16 rfl rfl)
theorem dX0_route_62 : decode cX0_route 62 = .ok (.aaload, 1) := dk_50 (dk_at dksX0_route_2 17 rfl rfl)
theorem dX0_route_63 : decode cX0_route 63 = .ok (.checkcast 182, 3) := dk_192 0 182 (dk_at dksX0_route_2 18 rfl rfl)
theorem dX0_route_66 : decode cX0_route 66 = .ok (.astore 5, 2) := dk_58 5 (dk_at dksX0_route_2 21 rfl rfl)
theorem dX0_route_68 : decode cX0_route 68 = .ok (.iload_n 2, 1) := dk_28 (dk_at dksX0_route_2 23 rfl rfl)
theorem dX0_route_69 : decode cX0_route 69 = .ok (.aload_n 0, 1) := dk_42 (dk_at dksX0_route_3 0 rfl rfl)
theorem dX0_route_70 : decode cX0_route 70 = .ok (.aload 5, 2) := dk_25 5 (dk_at dksX0_route_3 1 rfl rfl)
theorem dX0_route_72 : decode cX0_route 72 = .ok (.invokevirtual 388, 3) := dk_182 1 132 (dk_at dksX0_route_3 3 rfl rfl)
theorem dX0_route_75 : decode cX0_route 75 = .ok (.invokestatic 346, 3) := dk_184 1 90 (dk_at dksX0_route_3 6 rfl rfl)
theorem dX0_route_78 : decode cX0_route 78 = .ok (.istore 6, 2) := dk_54 6 (dk_at dksX0_route_3 9 rfl rfl)
theorem dX0_route_80 : decode cX0_route 80 = .ok (.aload_n 0, 1) := dk_42 (dk_at dksX0_route_3 11 rfl rfl)
theorem dX0_route_81 : decode cX0_route 81 = .ok (.iload_n 3, 1) := dk_29 (dk_at dksX0_route_3 12 rfl rfl)
theorem dX0_route_82 : decode cX0_route 82 = .ok (.invokevirtual 392, 3) := dk_182 1 136 (dk_at dksX0_route_3 13 rfl rfl)
theorem dX0_route_85 : decode cX0_route 85 = .ok (.iconst 0, 1) := dk_3 (dk_at dksX0_route_3 16 rfl rfl)
theorem dX0_route_86 : decode cX0_route 86 = .ok (.istore 7, 2) := dk_54 7 (dk_at dksX0_route_3 17 rfl rfl)
theorem dX0_route_88 : decode cX0_route 88 = .ok (.iload 7, 2) := dk_21 7 (dk_at dksX0_route_3 19 rfl rfl)
theorem dX0_route_90 : decode cX0_route 90 = .ok (.iload 6, 2) := dk_21 6 (dk_at dksX0_route_3 21 rfl rfl)
theorem dX0_route_92 : decode cX0_route 92 = .ok (.if_icmp .ge 19, 3) := dk_162 0 19 (dk_at dksX0_route_4 0 rfl rfl)
theorem dX0_route_95 : decode cX0_route 95 = .ok (.aload_n 0, 1) := dk_42 (dk_at dksX0_route_4 3 rfl rfl)
theorem dX0_route_96 : decode cX0_route 96 = .ok (.iload_n 3, 1) := dk_29 (dk_at dksX0_route_4 4 rfl rfl)
theorem dX0_route_97 : decode cX0_route 97 = .ok (.aload 5, 2) := dk_25 5 (dk_at dksX0_route_4 5 rfl rfl)
theorem dX0_route_99 : decode cX0_route 99 = .ok (.iload 7, 2) := dk_21 7 (dk_at dksX0_route_4 7 rfl rfl)
theorem dX0_route_101 : decode cX0_route 101 = .ok (.baload, 1) := dk_51 (dk_at dksX0_route_4 9 rfl rfl)
theorem dX0_route_102 : decode cX0_route 102 = .ok (.invokevirtual 395, 3) := dk_182 1 139 (dk_at dksX0_route_4 10 rfl rfl)
theorem dX0_route_105 : decode cX0_route 105 = .ok (.iinc 7 1, 3) := dk_132 7 1 (dk_at dksX0_route_4 13 rfl rfl)
theorem dX0_route_108 : decode cX0_route 108 = .ok (.goto (-20), 3) := dk_167 255 236 (dk_at dksX0_route_4 16 rfl rfl)
theorem dX0_route_111 : decode cX0_route 111 = .ok (.iload 4, 2) := dk_21 4 (dk_at dksX0_route_4 19 rfl rfl)
theorem dX0_route_113 : decode cX0_route 113 = .ok (.tableswitch 46 0 2 #[27, 32, 37], 27) := by decide +kernel
theorem dX0_route_140 : decode cX0_route 140 = .ok (.aload_n 0, 1) := dk_42 (dk_at dksX0_route_6 0 rfl rfl)
theorem dX0_route_141 : decode cX0_route 141 = .ok (.getfield 362, 3) := dk_180 1 106 (dk_at dksX0_route_6 1 rfl rfl)
theorem dX0_route_144 : decode cX0_route 144 = .ok (.ireturn, 1) := dk_172 (dk_at dksX0_route_6 4 rfl rfl)
theorem dX0_route_145 : decode cX0_route 145 = .ok (.aload_n 0, 1) := dk_42 (dk_at dksX0_route_6 5 rfl rfl)
theorem dX0_route_146 : decode cX0_route 146 = .ok (.getfield 368, 3) := dk_180 1 112 (dk_at dksX0_route_6 6 rfl rfl)
theorem dX0_route_149 : decode cX0_route 149 = .ok (.ireturn, 1) := dk_172 (dk_at dksX0_route_6 9 rfl rfl)
theorem dX0_route_150 : decode cX0_route 150 = .ok (.aload_n 0, 1) := dk_42 (dk_at dksX0_route_6 10 rfl rfl)
theorem dX0_route_151 : decode cX0_route 151 = .ok (.aload_n 0, 1) := dk_42 (dk_at dksX0_route_6 11 rfl rfl)
theorem dX0_route_152 : decode cX0_route 152 = .ok (.getfield 371, 3) := dk_180 1 115 (dk_at dksX0_route_6 12 rfl rfl)
theorem dX0_route_155 : decode cX0_route 155 = .ok (.invokevirtual 399, 3) := dk_182 1 143 (dk_at dksX0_route_6 15 rfl rfl)
theorem dX0_route_158 : decode cX0_route 158 = .ok (.ireturn, 1) := dk_172 (dk_at dksX0_route_6 18 rfl rfl)
theorem dX0_route_159 : decode cX0_route 159 = .ok (.aload_n 0, 1) := dk_42 (dk_at dksX0_route_6 19 rfl rfl)
theorem dX0_route_160 : decode cX0_route 160 = .ok (.getfield 371, 3) := dk_180 1 115 (dk_at dksX0_route_6 20 rfl rfl)
theorem dX0_route_163 : decode cX0_route 163 = .ok (.ireturn, 1) := dk_172 (dk_at dksX0_route_6 23 rfl rfl)
abbrev cX0_lookAt : ByteArray := prog_1_method_55_code
def yX0_lookAt : MethodName := ⟨RX0, "lookAt", "(I)I"⟩
def dkwX0_lookAt_1 : List UInt8 := [167, 0, 16, 44, 184, 0, 189, 154, 0, 7, 3, 167, 0, 5, 16, 244, 172]
abbrev dktX0_lookAt_1 : List UInt8 := dkwX0_lookAt_1 ++ []
def dkwX0_lookAt_0 : List UInt8 := [27, 184, 0, 184, 154, 0, 5, 2, 172, 42, 180, 0, 113, 27, 50, 77, 44, 199, 0, 8, 16, 245]
abbrev dktX0_lookAt_0 : List UInt8 := dkwX0_lookAt_0 ++ dktX0_lookAt_1
theorem dksX0_lookAt_0 : cX0_lookAt.data.toList.drop 0 = dktX0_lookAt_0 := by decide +kernel
theorem dksX0_lookAt_1 : cX0_lookAt.data.toList.drop 22 = dktX0_lookAt_1 := dk_seg dksX0_lookAt_0 22 rfl rfl
theorem dX0_lookAt_0 : decode cX0_lookAt 0 = .ok (.iload_n 1, 1) := dk_27 (dk_at dksX0_lookAt_0 0 rfl rfl)
theorem dX0_lookAt_1 : decode cX0_lookAt 1 = .ok (.invokestatic 184, 3) := dk_184 0 184 (dk_at dksX0_lookAt_0 1 rfl rfl)
theorem dX0_lookAt_4 : decode cX0_lookAt 4 = .ok (.ifCond .ne 5, 3) := dk_154 0 5 (dk_at dksX0_lookAt_0 4 rfl rfl)
theorem dX0_lookAt_7 : decode cX0_lookAt 7 = .ok (.iconst (-1), 1) := dk_2 (dk_at dksX0_lookAt_0 7 rfl rfl)
theorem dX0_lookAt_8 : decode cX0_lookAt 8 = .ok (.ireturn, 1) := dk_172 (dk_at dksX0_lookAt_0 8 rfl rfl)
theorem dX0_lookAt_9 : decode cX0_lookAt 9 = .ok (.aload_n 0, 1) := dk_42 (dk_at dksX0_lookAt_0 9 rfl rfl)
theorem dX0_lookAt_10 : decode cX0_lookAt 10 = .ok (.getfield 113, 3) := dk_180 0 113 (dk_at dksX0_lookAt_0 10 rfl rfl)
theorem dX0_lookAt_13 : decode cX0_lookAt 13 = .ok (.iload_n 1, 1) := dk_27 (dk_at dksX0_lookAt_0 13 rfl rfl)
theorem dX0_lookAt_14 : decode cX0_lookAt 14 = .ok (.aaload, 1) := dk_50 (dk_at dksX0_lookAt_0 14 rfl rfl)
theorem dX0_lookAt_15 : decode cX0_lookAt 15 = .ok (.astore_n 2, 1) := dk_77 (dk_at dksX0_lookAt_0 15 rfl rfl)
theorem dX0_lookAt_16 : decode cX0_lookAt 16 = .ok (.aload_n 2, 1) := dk_44 (dk_at dksX0_lookAt_0 16 rfl rfl)
theorem dX0_lookAt_17 : decode cX0_lookAt 17 = .ok (.ifnonnull 8, 3) := dk_199 0 8 (dk_at dksX0_lookAt_0 17 rfl rfl)
theorem dX0_lookAt_20 : decode cX0_lookAt 20 = .ok (.bipush (-11), 2) := dk_16 245 (dk_at dksX0_lookAt_0 20 rfl rfl)
theorem dX0_lookAt_22 : decode cX0_lookAt 22 = .ok (.goto 16, 3) := dk_167 0 16 (dk_at dksX0_lookAt_1 0 rfl rfl)
theorem dX0_lookAt_25 : decode cX0_lookAt 25 = .ok (.aload_n 2, 1) := dk_44 (dk_at dksX0_lookAt_1 3 rfl rfl)
theorem dX0_lookAt_26 : decode cX0_lookAt 26 = .ok (.invokestatic 189, 3) := dk_184 0 189 (dk_at dksX0_lookAt_1 4 rfl rfl)
theorem dX0_lookAt_29 : decode cX0_lookAt 29 = .ok (.ifCond .ne 7, 3) := dk_154 0 7 (dk_at dksX0_lookAt_1 7 rfl rfl)
theorem dX0_lookAt_32 : decode cX0_lookAt 32 = .ok (.iconst 0, 1) := dk_3 (dk_at dksX0_lookAt_1 10 rfl rfl)
theorem dX0_lookAt_33 : decode cX0_lookAt 33 = .ok (.goto 5, 3) := dk_167 0 5 (dk_at dksX0_lookAt_1 11 rfl rfl)
theorem dX0_lookAt_36 : decode cX0_lookAt 36 = .ok (.bipush (-12), 2) := dk_16 244 (dk_at dksX0_lookAt_1 14 rfl rfl)
theorem dX0_lookAt_38 : decode cX0_lookAt 38 = .ok (.ireturn, 1) := dk_172 (dk_at dksX0_lookAt_1 16 rfl rfl)
abbrev cX0_stepMany : ByteArray := prog_1_method_56_code
def yX0_stepMany : MethodName := ⟨RX0, "stepMany", "([B)I"⟩
def dkwX0_stepMany_1 : List UInt8 := [184, 0, 121, 153, 0, 9, 132, 2, 1, 167, 255, 227, 28, 172]
abbrev dktX0_stepMany_1 : List UInt8 := dkwX0_stepMany_1 ++ []
def dkwX0_stepMany_0 : List UInt8 := [3, 61, 28, 16, 30, 162, 0, 29, 28, 43, 190, 162, 0, 23, 43, 28, 51, 133, 9, 20, 0, 203]
abbrev dktX0_stepMany_0 : List UInt8 := dkwX0_stepMany_0 ++ dktX0_stepMany_1
theorem dksX0_stepMany_0 : cX0_stepMany.data.toList.drop 0 = dktX0_stepMany_0 := by decide +kernel
theorem dksX0_stepMany_1 : cX0_stepMany.data.toList.drop 22 = dktX0_stepMany_1 := dk_seg dksX0_stepMany_0 22 rfl rfl
theorem dX0_stepMany_0 : decode cX0_stepMany 0 = .ok (.iconst 0, 1) := dk_3 (dk_at dksX0_stepMany_0 0 rfl rfl)
theorem dX0_stepMany_1 : decode cX0_stepMany 1 = .ok (.istore_n 2, 1) := dk_61 (dk_at dksX0_stepMany_0 1 rfl rfl)
theorem dX0_stepMany_2 : decode cX0_stepMany 2 = .ok (.iload_n 2, 1) := dk_28 (dk_at dksX0_stepMany_0 2 rfl rfl)
theorem dX0_stepMany_3 : decode cX0_stepMany 3 = .ok (.bipush 30, 2) := dk_16 30 (dk_at dksX0_stepMany_0 3 rfl rfl)
theorem dX0_stepMany_5 : decode cX0_stepMany 5 = .ok (.if_icmp .ge 29, 3) := dk_162 0 29 (dk_at dksX0_stepMany_0 5 rfl rfl)
theorem dX0_stepMany_8 : decode cX0_stepMany 8 = .ok (.iload_n 2, 1) := dk_28 (dk_at dksX0_stepMany_0 8 rfl rfl)
theorem dX0_stepMany_9 : decode cX0_stepMany 9 = .ok (.aload_n 1, 1) := dk_43 (dk_at dksX0_stepMany_0 9 rfl rfl)
theorem dX0_stepMany_10 : decode cX0_stepMany 10 = .ok (.arraylength, 1) := dk_190 (dk_at dksX0_stepMany_0 10 rfl rfl)
theorem dX0_stepMany_11 : decode cX0_stepMany 11 = .ok (.if_icmp .ge 23, 3) := dk_162 0 23 (dk_at dksX0_stepMany_0 11 rfl rfl)
theorem dX0_stepMany_14 : decode cX0_stepMany 14 = .ok (.aload_n 1, 1) := dk_43 (dk_at dksX0_stepMany_0 14 rfl rfl)
theorem dX0_stepMany_15 : decode cX0_stepMany 15 = .ok (.iload_n 2, 1) := dk_28 (dk_at dksX0_stepMany_0 15 rfl rfl)
theorem dX0_stepMany_16 : decode cX0_stepMany 16 = .ok (.baload, 1) := dk_51 (dk_at dksX0_stepMany_0 16 rfl rfl)
theorem dX0_stepMany_17 : decode cX0_stepMany 17 = .ok (.i2l, 1) := dk_133 (dk_at dksX0_stepMany_0 17 rfl rfl)
theorem dX0_stepMany_18 : decode cX0_stepMany 18 = .ok (.lconst 0, 1) := dk_9 (dk_at dksX0_stepMany_0 18 rfl rfl)
theorem dX0_stepMany_19 : decode cX0_stepMany 19 = .ok (.ldc2_w 203, 3) := dk_20 0 203 (dk_at dksX0_stepMany_0 19 rfl rfl)
theorem dX0_stepMany_22 : decode cX0_stepMany 22 = .ok (.invokestatic 121, 3) := dk_184 0 121 (dk_at dksX0_stepMany_1 0 rfl rfl)
theorem dX0_stepMany_25 : decode cX0_stepMany 25 = .ok (.ifCond .eq 9, 3) := dk_153 0 9 (dk_at dksX0_stepMany_1 3 rfl rfl)
theorem dX0_stepMany_28 : decode cX0_stepMany 28 = .ok (.iinc 2 1, 3) := dk_132 2 1 (dk_at dksX0_stepMany_1 6 rfl rfl)
theorem dX0_stepMany_31 : decode cX0_stepMany 31 = .ok (.goto (-29), 3) := dk_167 255 227 (dk_at dksX0_stepMany_1 9 rfl rfl)
theorem dX0_stepMany_34 : decode cX0_stepMany 34 = .ok (.iload_n 2, 1) := dk_28 (dk_at dksX0_stepMany_1 12 rfl rfl)
theorem dX0_stepMany_35 : decode cX0_stepMany 35 = .ok (.ireturn, 1) := dk_172 (dk_at dksX0_stepMany_1 13 rfl rfl)
abbrev cX0_beginRoute : ByteArray := prog_1_method_51_code
def yX0_beginRoute : MethodName := ⟨RX0, "beginRoute", "(I)V"⟩
def dkwX0_beginRoute_2 : List UInt8 := [177]
abbrev dktX0_beginRoute_2 : List UInt8 := dkwX0_beginRoute_2 ++ []
def dkwX0_beginRoute_1 : List UInt8 := [180, 0, 67, 180, 0, 3, 181, 1, 109, 42, 3, 181, 1, 112, 42, 3, 181, 1, 115, 42, 27, 182, 1, 118]
abbrev dktX0_beginRoute_1 : List UInt8 := dkwX0_beginRoute_1 ++ dktX0_beginRoute_2
def dkwX0_beginRoute_0 : List UInt8 := [42, 182, 1, 103, 42, 42, 180, 0, 50, 27, 50, 180, 0, 171, 180, 0, 3, 181, 1, 106, 42, 42]
abbrev dktX0_beginRoute_0 : List UInt8 := dkwX0_beginRoute_0 ++ dktX0_beginRoute_1
theorem dksX0_beginRoute_0 : cX0_beginRoute.data.toList.drop 0 = dktX0_beginRoute_0 := by decide +kernel
theorem dksX0_beginRoute_1 : cX0_beginRoute.data.toList.drop 22 = dktX0_beginRoute_1 := dk_seg dksX0_beginRoute_0 22 rfl rfl
theorem dksX0_beginRoute_2 : cX0_beginRoute.data.toList.drop 46 = dktX0_beginRoute_2 := dk_seg dksX0_beginRoute_1 24 rfl rfl
theorem dX0_beginRoute_0 : decode cX0_beginRoute 0 = .ok (.aload_n 0, 1) := dk_42 (dk_at dksX0_beginRoute_0 0 rfl rfl)
theorem dX0_beginRoute_1 : decode cX0_beginRoute 1 = .ok (.invokevirtual 359, 3) := dk_182 1 103 (dk_at dksX0_beginRoute_0 1 rfl rfl)
theorem dX0_beginRoute_4 : decode cX0_beginRoute 4 = .ok (.aload_n 0, 1) := dk_42 (dk_at dksX0_beginRoute_0 4 rfl rfl)
theorem dX0_beginRoute_5 : decode cX0_beginRoute 5 = .ok (.aload_n 0, 1) := dk_42 (dk_at dksX0_beginRoute_0 5 rfl rfl)
theorem dX0_beginRoute_6 : decode cX0_beginRoute 6 = .ok (.getfield 50, 3) := dk_180 0 50 (dk_at dksX0_beginRoute_0 6 rfl rfl)
theorem dX0_beginRoute_9 : decode cX0_beginRoute 9 = .ok (.iload_n 1, 1) := dk_27 (dk_at dksX0_beginRoute_0 9 rfl rfl)
theorem dX0_beginRoute_10 : decode cX0_beginRoute 10 = .ok (.aaload, 1) := dk_50 (dk_at dksX0_beginRoute_0 10 rfl rfl)
theorem dX0_beginRoute_11 : decode cX0_beginRoute 11 = .ok (.getfield 171, 3) := dk_180 0 171 (dk_at dksX0_beginRoute_0 11 rfl rfl)
theorem dX0_beginRoute_14 : decode cX0_beginRoute 14 = .ok (.getfield 3, 3) := dk_180 0 3 (dk_at dksX0_beginRoute_0 14 rfl rfl)
theorem dX0_beginRoute_17 : decode cX0_beginRoute 17 = .ok (.putfield 362, 3) := dk_181 1 106 (dk_at dksX0_beginRoute_0 17 rfl rfl)
theorem dX0_beginRoute_20 : decode cX0_beginRoute 20 = .ok (.aload_n 0, 1) := dk_42 (dk_at dksX0_beginRoute_0 20 rfl rfl)
theorem dX0_beginRoute_21 : decode cX0_beginRoute 21 = .ok (.aload_n 0, 1) := dk_42 (dk_at dksX0_beginRoute_0 21 rfl rfl)
theorem dX0_beginRoute_22 : decode cX0_beginRoute 22 = .ok (.getfield 67, 3) := dk_180 0 67 (dk_at dksX0_beginRoute_1 0 rfl rfl)
theorem dX0_beginRoute_25 : decode cX0_beginRoute 25 = .ok (.getfield 3, 3) := dk_180 0 3 (dk_at dksX0_beginRoute_1 3 rfl rfl)
theorem dX0_beginRoute_28 : decode cX0_beginRoute 28 = .ok (.putfield 365, 3) := dk_181 1 109 (dk_at dksX0_beginRoute_1 6 rfl rfl)
theorem dX0_beginRoute_31 : decode cX0_beginRoute 31 = .ok (.aload_n 0, 1) := dk_42 (dk_at dksX0_beginRoute_1 9 rfl rfl)
theorem dX0_beginRoute_32 : decode cX0_beginRoute 32 = .ok (.iconst 0, 1) := dk_3 (dk_at dksX0_beginRoute_1 10 rfl rfl)
theorem dX0_beginRoute_33 : decode cX0_beginRoute 33 = .ok (.putfield 368, 3) := dk_181 1 112 (dk_at dksX0_beginRoute_1 11 rfl rfl)
theorem dX0_beginRoute_36 : decode cX0_beginRoute 36 = .ok (.aload_n 0, 1) := dk_42 (dk_at dksX0_beginRoute_1 14 rfl rfl)
theorem dX0_beginRoute_37 : decode cX0_beginRoute 37 = .ok (.iconst 0, 1) := dk_3 (dk_at dksX0_beginRoute_1 15 rfl rfl)
theorem dX0_beginRoute_38 : decode cX0_beginRoute 38 = .ok (.putfield 371, 3) := dk_181 1 115 (dk_at dksX0_beginRoute_1 16 rfl rfl)
theorem dX0_beginRoute_41 : decode cX0_beginRoute 41 = .ok (.aload_n 0, 1) := dk_42 (dk_at dksX0_beginRoute_1 19 rfl rfl)
theorem dX0_beginRoute_42 : decode cX0_beginRoute 42 = .ok (.iload_n 1, 1) := dk_27 (dk_at dksX0_beginRoute_1 20 rfl rfl)
theorem dX0_beginRoute_43 : decode cX0_beginRoute 43 = .ok (.invokevirtual 374, 3) := dk_182 1 118 (dk_at dksX0_beginRoute_1 21 rfl rfl)
theorem dX0_beginRoute_46 : decode cX0_beginRoute 46 = .ok (.return_, 1) := dk_177 (dk_at dksX0_beginRoute_2 0 rfl rfl)
abbrev cX0_keepHere : ByteArray := prog_1_method_52_code
def yX0_keepHere : MethodName := ⟨RX0, "keepHere", "(I)V"⟩
def dkwX0_keepHere_1 : List UInt8 := [180, 1, 109, 182, 1, 83, 184, 1, 79, 28, 120, 128, 181, 1, 115, 132, 2, 1, 167, 255, 217, 177]
abbrev dktX0_keepHere_1 : List UInt8 := dkwX0_keepHere_1 ++ []
def dkwX0_keepHere_0 : List UInt8 := [3, 61, 28, 42, 180, 0, 146, 162, 0, 37, 42, 89, 180, 1, 115, 42, 28, 27, 42, 180, 1, 106, 42]
abbrev dktX0_keepHere_0 : List UInt8 := dkwX0_keepHere_0 ++ dktX0_keepHere_1
theorem dksX0_keepHere_0 : cX0_keepHere.data.toList.drop 0 = dktX0_keepHere_0 := by decide +kernel
theorem dksX0_keepHere_1 : cX0_keepHere.data.toList.drop 23 = dktX0_keepHere_1 := dk_seg dksX0_keepHere_0 23 rfl rfl
theorem dX0_keepHere_0 : decode cX0_keepHere 0 = .ok (.iconst 0, 1) := dk_3 (dk_at dksX0_keepHere_0 0 rfl rfl)
theorem dX0_keepHere_1 : decode cX0_keepHere 1 = .ok (.istore_n 2, 1) := dk_61 (dk_at dksX0_keepHere_0 1 rfl rfl)
theorem dX0_keepHere_2 : decode cX0_keepHere 2 = .ok (.iload_n 2, 1) := dk_28 (dk_at dksX0_keepHere_0 2 rfl rfl)
theorem dX0_keepHere_3 : decode cX0_keepHere 3 = .ok (.aload_n 0, 1) := dk_42 (dk_at dksX0_keepHere_0 3 rfl rfl)
theorem dX0_keepHere_4 : decode cX0_keepHere 4 = .ok (.getfield 146, 3) := dk_180 0 146 (dk_at dksX0_keepHere_0 4 rfl rfl)
theorem dX0_keepHere_7 : decode cX0_keepHere 7 = .ok (.if_icmp .ge 37, 3) := dk_162 0 37 (dk_at dksX0_keepHere_0 7 rfl rfl)
theorem dX0_keepHere_10 : decode cX0_keepHere 10 = .ok (.aload_n 0, 1) := dk_42 (dk_at dksX0_keepHere_0 10 rfl rfl)
theorem dX0_keepHere_11 : decode cX0_keepHere 11 = .ok (.dup, 1) := dk_89 (dk_at dksX0_keepHere_0 11 rfl rfl)
theorem dX0_keepHere_12 : decode cX0_keepHere 12 = .ok (.getfield 371, 3) := dk_180 1 115 (dk_at dksX0_keepHere_0 12 rfl rfl)
theorem dX0_keepHere_15 : decode cX0_keepHere 15 = .ok (.aload_n 0, 1) := dk_42 (dk_at dksX0_keepHere_0 15 rfl rfl)
theorem dX0_keepHere_16 : decode cX0_keepHere 16 = .ok (.iload_n 2, 1) := dk_28 (dk_at dksX0_keepHere_0 16 rfl rfl)
theorem dX0_keepHere_17 : decode cX0_keepHere 17 = .ok (.iload_n 1, 1) := dk_27 (dk_at dksX0_keepHere_0 17 rfl rfl)
theorem dX0_keepHere_18 : decode cX0_keepHere 18 = .ok (.aload_n 0, 1) := dk_42 (dk_at dksX0_keepHere_0 18 rfl rfl)
theorem dX0_keepHere_19 : decode cX0_keepHere 19 = .ok (.getfield 362, 3) := dk_180 1 106 (dk_at dksX0_keepHere_0 19 rfl rfl)
theorem dX0_keepHere_22 : decode cX0_keepHere 22 = .ok (.aload_n 0, 1) := dk_42 (dk_at dksX0_keepHere_0 22 rfl rfl)
theorem dX0_keepHere_23 : decode cX0_keepHere 23 = .ok (.getfield 365, 3) := dk_180 1 109 (dk_at dksX0_keepHere_1 0 rfl rfl)
theorem dX0_keepHere_26 : decode cX0_keepHere 26 = .ok (.invokevirtual 339, 3) := dk_182 1 83 (dk_at dksX0_keepHere_1 3 rfl rfl)
theorem dX0_keepHere_29 : decode cX0_keepHere 29 = .ok (.invokestatic 335, 3) := dk_184 1 79 (dk_at dksX0_keepHere_1 6 rfl rfl)
theorem dX0_keepHere_32 : decode cX0_keepHere 32 = .ok (.iload_n 2, 1) := dk_28 (dk_at dksX0_keepHere_1 9 rfl rfl)
theorem dX0_keepHere_33 : decode cX0_keepHere 33 = .ok (.ishl, 1) := dk_120 (dk_at dksX0_keepHere_1 10 rfl rfl)
theorem dX0_keepHere_34 : decode cX0_keepHere 34 = .ok (.ior, 1) := dk_128 (dk_at dksX0_keepHere_1 11 rfl rfl)
theorem dX0_keepHere_35 : decode cX0_keepHere 35 = .ok (.putfield 371, 3) := dk_181 1 115 (dk_at dksX0_keepHere_1 12 rfl rfl)
theorem dX0_keepHere_38 : decode cX0_keepHere 38 = .ok (.iinc 2 1, 3) := dk_132 2 1 (dk_at dksX0_keepHere_1 15 rfl rfl)
theorem dX0_keepHere_41 : decode cX0_keepHere 41 = .ok (.goto (-39), 3) := dk_167 255 217 (dk_at dksX0_keepHere_1 18 rfl rfl)
theorem dX0_keepHere_44 : decode cX0_keepHere 44 = .ok (.return_, 1) := dk_177 (dk_at dksX0_keepHere_1 21 rfl rfl)
abbrev cX0_goStep : ByteArray := prog_1_method_53_code
def yX0_goStep : MethodName := ⟨RX0, "goStep", "(II)V"⟩
def dkwX0_goStep_2 : List UInt8 := [96, 184, 1, 124, 181, 1, 109, 42, 27, 182, 1, 118, 177]
abbrev dktX0_goStep_2 : List UInt8 := dkwX0_goStep_2 ++ []
def dkwX0_goStep_1 : List UInt8 := [181, 1, 112, 167, 0, 15, 42, 42, 180, 1, 106, 28, 184, 1, 121, 181, 1, 106, 42, 42, 180, 1, 109, 4]
abbrev dktX0_goStep_1 : List UInt8 := dkwX0_goStep_1 ++ dktX0_goStep_2
def dkwX0_goStep_0 : List UInt8 := [42, 27, 42, 180, 1, 106, 42, 180, 1, 109, 182, 1, 99, 153, 0, 16, 42, 89, 180, 1, 112, 4, 96]
abbrev dktX0_goStep_0 : List UInt8 := dkwX0_goStep_0 ++ dktX0_goStep_1
theorem dksX0_goStep_0 : cX0_goStep.data.toList.drop 0 = dktX0_goStep_0 := by decide +kernel
theorem dksX0_goStep_1 : cX0_goStep.data.toList.drop 23 = dktX0_goStep_1 := dk_seg dksX0_goStep_0 23 rfl rfl
theorem dksX0_goStep_2 : cX0_goStep.data.toList.drop 47 = dktX0_goStep_2 := dk_seg dksX0_goStep_1 24 rfl rfl
theorem dX0_goStep_0 : decode cX0_goStep 0 = .ok (.aload_n 0, 1) := dk_42 (dk_at dksX0_goStep_0 0 rfl rfl)
theorem dX0_goStep_1 : decode cX0_goStep 1 = .ok (.iload_n 1, 1) := dk_27 (dk_at dksX0_goStep_0 1 rfl rfl)
theorem dX0_goStep_2 : decode cX0_goStep 2 = .ok (.aload_n 0, 1) := dk_42 (dk_at dksX0_goStep_0 2 rfl rfl)
theorem dX0_goStep_3 : decode cX0_goStep 3 = .ok (.getfield 362, 3) := dk_180 1 106 (dk_at dksX0_goStep_0 3 rfl rfl)
theorem dX0_goStep_6 : decode cX0_goStep 6 = .ok (.aload_n 0, 1) := dk_42 (dk_at dksX0_goStep_0 6 rfl rfl)
theorem dX0_goStep_7 : decode cX0_goStep 7 = .ok (.getfield 365, 3) := dk_180 1 109 (dk_at dksX0_goStep_0 7 rfl rfl)
theorem dX0_goStep_10 : decode cX0_goStep 10 = .ok (.invokevirtual 355, 3) := dk_182 1 99 (dk_at dksX0_goStep_0 10 rfl rfl)
theorem dX0_goStep_13 : decode cX0_goStep 13 = .ok (.ifCond .eq 16, 3) := dk_153 0 16 (dk_at dksX0_goStep_0 13 rfl rfl)
theorem dX0_goStep_16 : decode cX0_goStep 16 = .ok (.aload_n 0, 1) := dk_42 (dk_at dksX0_goStep_0 16 rfl rfl)
theorem dX0_goStep_17 : decode cX0_goStep 17 = .ok (.dup, 1) := dk_89 (dk_at dksX0_goStep_0 17 rfl rfl)
theorem dX0_goStep_18 : decode cX0_goStep 18 = .ok (.getfield 368, 3) := dk_180 1 112 (dk_at dksX0_goStep_0 18 rfl rfl)
theorem dX0_goStep_21 : decode cX0_goStep 21 = .ok (.iconst 1, 1) := dk_4 (dk_at dksX0_goStep_0 21 rfl rfl)
theorem dX0_goStep_22 : decode cX0_goStep 22 = .ok (.iadd, 1) := dk_96 (dk_at dksX0_goStep_0 22 rfl rfl)
theorem dX0_goStep_23 : decode cX0_goStep 23 = .ok (.putfield 368, 3) := dk_181 1 112 (dk_at dksX0_goStep_1 0 rfl rfl)
theorem dX0_goStep_26 : decode cX0_goStep 26 = .ok (.goto 15, 3) := dk_167 0 15 (dk_at dksX0_goStep_1 3 rfl rfl)
theorem dX0_goStep_29 : decode cX0_goStep 29 = .ok (.aload_n 0, 1) := dk_42 (dk_at dksX0_goStep_1 6 rfl rfl)
theorem dX0_goStep_30 : decode cX0_goStep 30 = .ok (.aload_n 0, 1) := dk_42 (dk_at dksX0_goStep_1 7 rfl rfl)
theorem dX0_goStep_31 : decode cX0_goStep 31 = .ok (.getfield 362, 3) := dk_180 1 106 (dk_at dksX0_goStep_1 8 rfl rfl)
theorem dX0_goStep_34 : decode cX0_goStep 34 = .ok (.iload_n 2, 1) := dk_28 (dk_at dksX0_goStep_1 11 rfl rfl)
theorem dX0_goStep_35 : decode cX0_goStep 35 = .ok (.invokestatic 377, 3) := dk_184 1 121 (dk_at dksX0_goStep_1 12 rfl rfl)
theorem dX0_goStep_38 : decode cX0_goStep 38 = .ok (.putfield 362, 3) := dk_181 1 106 (dk_at dksX0_goStep_1 15 rfl rfl)
theorem dX0_goStep_41 : decode cX0_goStep 41 = .ok (.aload_n 0, 1) := dk_42 (dk_at dksX0_goStep_1 18 rfl rfl)
theorem dX0_goStep_42 : decode cX0_goStep 42 = .ok (.aload_n 0, 1) := dk_42 (dk_at dksX0_goStep_1 19 rfl rfl)
theorem dX0_goStep_43 : decode cX0_goStep 43 = .ok (.getfield 365, 3) := dk_180 1 109 (dk_at dksX0_goStep_1 20 rfl rfl)
theorem dX0_goStep_46 : decode cX0_goStep 46 = .ok (.iconst 1, 1) := dk_4 (dk_at dksX0_goStep_1 23 rfl rfl)
theorem dX0_goStep_47 : decode cX0_goStep 47 = .ok (.iadd, 1) := dk_96 (dk_at dksX0_goStep_2 0 rfl rfl)
theorem dX0_goStep_48 : decode cX0_goStep 48 = .ok (.invokestatic 380, 3) := dk_184 1 124 (dk_at dksX0_goStep_2 1 rfl rfl)
theorem dX0_goStep_51 : decode cX0_goStep 51 = .ok (.putfield 365, 3) := dk_181 1 109 (dk_at dksX0_goStep_2 4 rfl rfl)
theorem dX0_goStep_54 : decode cX0_goStep 54 = .ok (.aload_n 0, 1) := dk_42 (dk_at dksX0_goStep_2 7 rfl rfl)
theorem dX0_goStep_55 : decode cX0_goStep 55 = .ok (.iload_n 1, 1) := dk_27 (dk_at dksX0_goStep_2 8 rfl rfl)
theorem dX0_goStep_56 : decode cX0_goStep 56 = .ok (.invokevirtual 374, 3) := dk_182 1 118 (dk_at dksX0_goStep_2 9 rfl rfl)
theorem dX0_goStep_59 : decode cX0_goStep 59 = .ok (.return_, 1) := dk_177 (dk_at dksX0_goStep_2 12 rfl rfl)
abbrev cX0_isHeld : ByteArray := prog_1_method_45_code
def yX0_isHeld : MethodName := ⟨RX0, "isHeld", "(III)Z"⟩
def dkwX0_isHeld_1 : List UInt8 := [4, 172, 132, 4, 1, 167, 255, 230, 3, 172]
abbrev dktX0_isHeld_1 : List UInt8 := dkwX0_isHeld_1 ++ []
def dkwX0_isHeld_0 : List UInt8 := [3, 54, 4, 21, 4, 42, 180, 0, 146, 162, 0, 23, 42, 21, 4, 27, 28, 29, 182, 1, 96, 153, 0, 5]
abbrev dktX0_isHeld_0 : List UInt8 := dkwX0_isHeld_0 ++ dktX0_isHeld_1
theorem dksX0_isHeld_0 : cX0_isHeld.data.toList.drop 0 = dktX0_isHeld_0 := by decide +kernel
theorem dksX0_isHeld_1 : cX0_isHeld.data.toList.drop 24 = dktX0_isHeld_1 := dk_seg dksX0_isHeld_0 24 rfl rfl
theorem dX0_isHeld_0 : decode cX0_isHeld 0 = .ok (.iconst 0, 1) := dk_3 (dk_at dksX0_isHeld_0 0 rfl rfl)
theorem dX0_isHeld_1 : decode cX0_isHeld 1 = .ok (.istore 4, 2) := dk_54 4 (dk_at dksX0_isHeld_0 1 rfl rfl)
theorem dX0_isHeld_3 : decode cX0_isHeld 3 = .ok (.iload 4, 2) := dk_21 4 (dk_at dksX0_isHeld_0 3 rfl rfl)
theorem dX0_isHeld_5 : decode cX0_isHeld 5 = .ok (.aload_n 0, 1) := dk_42 (dk_at dksX0_isHeld_0 5 rfl rfl)
theorem dX0_isHeld_6 : decode cX0_isHeld 6 = .ok (.getfield 146, 3) := dk_180 0 146 (dk_at dksX0_isHeld_0 6 rfl rfl)
theorem dX0_isHeld_9 : decode cX0_isHeld 9 = .ok (.if_icmp .ge 23, 3) := dk_162 0 23 (dk_at dksX0_isHeld_0 9 rfl rfl)
theorem dX0_isHeld_12 : decode cX0_isHeld 12 = .ok (.aload_n 0, 1) := dk_42 (dk_at dksX0_isHeld_0 12 rfl rfl)
theorem dX0_isHeld_13 : decode cX0_isHeld 13 = .ok (.iload 4, 2) := dk_21 4 (dk_at dksX0_isHeld_0 13 rfl rfl)
theorem dX0_isHeld_15 : decode cX0_isHeld 15 = .ok (.iload_n 1, 1) := dk_27 (dk_at dksX0_isHeld_0 15 rfl rfl)
theorem dX0_isHeld_16 : decode cX0_isHeld 16 = .ok (.iload_n 2, 1) := dk_28 (dk_at dksX0_isHeld_0 16 rfl rfl)
theorem dX0_isHeld_17 : decode cX0_isHeld 17 = .ok (.iload_n 3, 1) := dk_29 (dk_at dksX0_isHeld_0 17 rfl rfl)
theorem dX0_isHeld_18 : decode cX0_isHeld 18 = .ok (.invokevirtual 352, 3) := dk_182 1 96 (dk_at dksX0_isHeld_0 18 rfl rfl)
theorem dX0_isHeld_21 : decode cX0_isHeld 21 = .ok (.ifCond .eq 5, 3) := dk_153 0 5 (dk_at dksX0_isHeld_0 21 rfl rfl)
theorem dX0_isHeld_24 : decode cX0_isHeld 24 = .ok (.iconst 1, 1) := dk_4 (dk_at dksX0_isHeld_1 0 rfl rfl)
theorem dX0_isHeld_25 : decode cX0_isHeld 25 = .ok (.ireturn, 1) := dk_172 (dk_at dksX0_isHeld_1 1 rfl rfl)
theorem dX0_isHeld_26 : decode cX0_isHeld 26 = .ok (.iinc 4 1, 3) := dk_132 4 1 (dk_at dksX0_isHeld_1 2 rfl rfl)
theorem dX0_isHeld_29 : decode cX0_isHeld 29 = .ok (.goto (-26), 3) := dk_167 255 230 (dk_at dksX0_isHeld_1 5 rfl rfl)
theorem dX0_isHeld_32 : decode cX0_isHeld 32 = .ok (.iconst 0, 1) := dk_3 (dk_at dksX0_isHeld_1 8 rfl rfl)
theorem dX0_isHeld_33 : decode cX0_isHeld 33 = .ok (.ireturn, 1) := dk_172 (dk_at dksX0_isHeld_1 9 rfl rfl)
abbrev cX0_stepFrom : ByteArray := prog_1_method_49_code
def yX0_stepFrom : MethodName := ⟨RX0, "stepFrom", "(II)I"⟩
def dkwX0_stepFrom_4 : List UInt8 := [26, 167, 0, 6, 26, 4, 100, 172, 26, 172]
abbrev dktX0_stepFrom_4 : List UInt8 := dkwX0_stepFrom_4 ++ []
def dkwX0_stepFrom_3 : List UInt8 := [26, 4, 96, 172, 26, 16, 20, 161, 0, 7, 26, 167, 0, 6, 26, 8, 96, 172, 26, 8, 112, 154, 0, 7]
abbrev dktX0_stepFrom_3 : List UInt8 := dkwX0_stepFrom_3 ++ dktX0_stepFrom_4
def dkwX0_stepFrom_2 : List UInt8 := [26, 8, 162, 0, 7, 26, 167, 0, 6, 26, 8, 100, 172, 26, 8, 112, 7, 160, 0, 7, 26, 167, 0, 6]
abbrev dktX0_stepFrom_2 : List UInt8 := dkwX0_stepFrom_2 ++ dktX0_stepFrom_3
def dkwX0_stepFrom_1 : List UInt8 := [170, 0, 0, 0, 0, 0, 87, 0, 0, 0, 0, 0, 0, 0, 3, 0, 0, 0, 31, 0, 0, 0, 44, 0, 0, 0, 59, 0, 0, 0, 73]
abbrev dktX0_stepFrom_1 : List UInt8 := dkwX0_stepFrom_1 ++ dktX0_stepFrom_2
def dkwX0_stepFrom_0 : List UInt8 := [27]
abbrev dktX0_stepFrom_0 : List UInt8 := dkwX0_stepFrom_0 ++ dktX0_stepFrom_1
theorem dksX0_stepFrom_0 : cX0_stepFrom.data.toList.drop 0 = dktX0_stepFrom_0 := by decide +kernel
theorem dksX0_stepFrom_1 : cX0_stepFrom.data.toList.drop 1 = dktX0_stepFrom_1 := dk_seg dksX0_stepFrom_0 1 rfl rfl
theorem dksX0_stepFrom_2 : cX0_stepFrom.data.toList.drop 32 = dktX0_stepFrom_2 := dk_seg dksX0_stepFrom_1 31 rfl rfl
theorem dksX0_stepFrom_3 : cX0_stepFrom.data.toList.drop 56 = dktX0_stepFrom_3 := dk_seg dksX0_stepFrom_2 24 rfl rfl
theorem dksX0_stepFrom_4 : cX0_stepFrom.data.toList.drop 80 = dktX0_stepFrom_4 := dk_seg dksX0_stepFrom_3 24 rfl rfl
theorem dX0_stepFrom_0 : decode cX0_stepFrom 0 = .ok (.iload_n 1, 1) := dk_27 (dk_at dksX0_stepFrom_0 0 rfl rfl)
theorem dX0_stepFrom_1 : decode cX0_stepFrom 1 = .ok (.tableswitch 87 0 3 #[31, 44, 59, 73], 31) := by decide +kernel
theorem dX0_stepFrom_32 : decode cX0_stepFrom 32 = .ok (.iload_n 0, 1) := dk_26 (dk_at dksX0_stepFrom_2 0 rfl rfl)
theorem dX0_stepFrom_33 : decode cX0_stepFrom 33 = .ok (.iconst 5, 1) := dk_8 (dk_at dksX0_stepFrom_2 1 rfl rfl)
theorem dX0_stepFrom_34 : decode cX0_stepFrom 34 = .ok (.if_icmp .ge 7, 3) := dk_162 0 7 (dk_at dksX0_stepFrom_2 2 rfl rfl)
theorem dX0_stepFrom_37 : decode cX0_stepFrom 37 = .ok (.iload_n 0, 1) := dk_26 (dk_at dksX0_stepFrom_2 5 rfl rfl)
theorem dX0_stepFrom_38 : decode cX0_stepFrom 38 = .ok (.goto 6, 3) := dk_167 0 6 (dk_at dksX0_stepFrom_2 6 rfl rfl)
theorem dX0_stepFrom_41 : decode cX0_stepFrom 41 = .ok (.iload_n 0, 1) := dk_26 (dk_at dksX0_stepFrom_2 9 rfl rfl)
theorem dX0_stepFrom_42 : decode cX0_stepFrom 42 = .ok (.iconst 5, 1) := dk_8 (dk_at dksX0_stepFrom_2 10 rfl rfl)
theorem dX0_stepFrom_43 : decode cX0_stepFrom 43 = .ok (.isub, 1) := dk_100 (dk_at dksX0_stepFrom_2 11 rfl rfl)
theorem dX0_stepFrom_44 : decode cX0_stepFrom 44 = .ok (.ireturn, 1) := dk_172 (dk_at dksX0_stepFrom_2 12 rfl rfl)
theorem dX0_stepFrom_45 : decode cX0_stepFrom 45 = .ok (.iload_n 0, 1) := dk_26 (dk_at dksX0_stepFrom_2 13 rfl rfl)
theorem dX0_stepFrom_46 : decode cX0_stepFrom 46 = .ok (.iconst 5, 1) := dk_8 (dk_at dksX0_stepFrom_2 14 rfl rfl)
theorem dX0_stepFrom_47 : decode cX0_stepFrom 47 = .ok (.irem, 1) := dk_112 (dk_at dksX0_stepFrom_2 15 rfl rfl)
theorem dX0_stepFrom_48 : decode cX0_stepFrom 48 = .ok (.iconst 4, 1) := dk_7 (dk_at dksX0_stepFrom_2 16 rfl rfl)
theorem dX0_stepFrom_49 : decode cX0_stepFrom 49 = .ok (.if_icmp .ne 7, 3) := dk_160 0 7 (dk_at dksX0_stepFrom_2 17 rfl rfl)
theorem dX0_stepFrom_52 : decode cX0_stepFrom 52 = .ok (.iload_n 0, 1) := dk_26 (dk_at dksX0_stepFrom_2 20 rfl rfl)
theorem dX0_stepFrom_53 : decode cX0_stepFrom 53 = .ok (.goto 6, 3) := dk_167 0 6 (dk_at dksX0_stepFrom_2 21 rfl rfl)
theorem dX0_stepFrom_56 : decode cX0_stepFrom 56 = .ok (.iload_n 0, 1) := dk_26 (dk_at dksX0_stepFrom_3 0 rfl rfl)
theorem dX0_stepFrom_57 : decode cX0_stepFrom 57 = .ok (.iconst 1, 1) := dk_4 (dk_at dksX0_stepFrom_3 1 rfl rfl)
theorem dX0_stepFrom_58 : decode cX0_stepFrom 58 = .ok (.iadd, 1) := dk_96 (dk_at dksX0_stepFrom_3 2 rfl rfl)
theorem dX0_stepFrom_59 : decode cX0_stepFrom 59 = .ok (.ireturn, 1) := dk_172 (dk_at dksX0_stepFrom_3 3 rfl rfl)
theorem dX0_stepFrom_60 : decode cX0_stepFrom 60 = .ok (.iload_n 0, 1) := dk_26 (dk_at dksX0_stepFrom_3 4 rfl rfl)
theorem dX0_stepFrom_61 : decode cX0_stepFrom 61 = .ok (.bipush 20, 2) := dk_16 20 (dk_at dksX0_stepFrom_3 5 rfl rfl)
theorem dX0_stepFrom_63 : decode cX0_stepFrom 63 = .ok (.if_icmp .lt 7, 3) := dk_161 0 7 (dk_at dksX0_stepFrom_3 7 rfl rfl)
theorem dX0_stepFrom_66 : decode cX0_stepFrom 66 = .ok (.iload_n 0, 1) := dk_26 (dk_at dksX0_stepFrom_3 10 rfl rfl)
theorem dX0_stepFrom_67 : decode cX0_stepFrom 67 = .ok (.goto 6, 3) := dk_167 0 6 (dk_at dksX0_stepFrom_3 11 rfl rfl)
theorem dX0_stepFrom_70 : decode cX0_stepFrom 70 = .ok (.iload_n 0, 1) := dk_26 (dk_at dksX0_stepFrom_3 14 rfl rfl)
theorem dX0_stepFrom_71 : decode cX0_stepFrom 71 = .ok (.iconst 5, 1) := dk_8 (dk_at dksX0_stepFrom_3 15 rfl rfl)
theorem dX0_stepFrom_72 : decode cX0_stepFrom 72 = .ok (.iadd, 1) := dk_96 (dk_at dksX0_stepFrom_3 16 rfl rfl)
theorem dX0_stepFrom_73 : decode cX0_stepFrom 73 = .ok (.ireturn, 1) := dk_172 (dk_at dksX0_stepFrom_3 17 rfl rfl)
theorem dX0_stepFrom_74 : decode cX0_stepFrom 74 = .ok (.iload_n 0, 1) := dk_26 (dk_at dksX0_stepFrom_3 18 rfl rfl)
theorem dX0_stepFrom_75 : decode cX0_stepFrom 75 = .ok (.iconst 5, 1) := dk_8 (dk_at dksX0_stepFrom_3 19 rfl rfl)
theorem dX0_stepFrom_76 : decode cX0_stepFrom 76 = .ok (.irem, 1) := dk_112 (dk_at dksX0_stepFrom_3 20 rfl rfl)
theorem dX0_stepFrom_77 : decode cX0_stepFrom 77 = .ok (.ifCond .ne 7, 3) := dk_154 0 7 (dk_at dksX0_stepFrom_3 21 rfl rfl)
theorem dX0_stepFrom_80 : decode cX0_stepFrom 80 = .ok (.iload_n 0, 1) := dk_26 (dk_at dksX0_stepFrom_4 0 rfl rfl)
theorem dX0_stepFrom_81 : decode cX0_stepFrom 81 = .ok (.goto 6, 3) := dk_167 0 6 (dk_at dksX0_stepFrom_4 1 rfl rfl)
theorem dX0_stepFrom_84 : decode cX0_stepFrom 84 = .ok (.iload_n 0, 1) := dk_26 (dk_at dksX0_stepFrom_4 4 rfl rfl)
theorem dX0_stepFrom_85 : decode cX0_stepFrom 85 = .ok (.iconst 1, 1) := dk_4 (dk_at dksX0_stepFrom_4 5 rfl rfl)
theorem dX0_stepFrom_86 : decode cX0_stepFrom 86 = .ok (.isub, 1) := dk_100 (dk_at dksX0_stepFrom_4 6 rfl rfl)
theorem dX0_stepFrom_87 : decode cX0_stepFrom 87 = .ok (.ireturn, 1) := dk_172 (dk_at dksX0_stepFrom_4 7 rfl rfl)
theorem dX0_stepFrom_88 : decode cX0_stepFrom 88 = .ok (.iload_n 0, 1) := dk_26 (dk_at dksX0_stepFrom_4 8 rfl rfl)
theorem dX0_stepFrom_89 : decode cX0_stepFrom 89 = .ok (.ireturn, 1) := dk_172 (dk_at dksX0_stepFrom_4 9 rfl rfl)
abbrev cX0_dayOf : ByteArray := prog_1_method_50_code
def yX0_dayOf : MethodName := ⟨RX0, "dayOf", "(I)I"⟩
def dkwX0_dayOf_0 : List UInt8 := [16, 99, 26, 184, 1, 90, 172]
abbrev dktX0_dayOf_0 : List UInt8 := dkwX0_dayOf_0 ++ []
theorem dksX0_dayOf_0 : cX0_dayOf.data.toList.drop 0 = dktX0_dayOf_0 := by decide +kernel
theorem dX0_dayOf_0 : decode cX0_dayOf 0 = .ok (.bipush 99, 2) := dk_16 99 (dk_at dksX0_dayOf_0 0 rfl rfl)
theorem dX0_dayOf_2 : decode cX0_dayOf 2 = .ok (.iload_n 0, 1) := dk_26 (dk_at dksX0_dayOf_0 2 rfl rfl)
theorem dX0_dayOf_3 : decode cX0_dayOf 3 = .ok (.invokestatic 346, 3) := dk_184 1 90 (dk_at dksX0_dayOf_0 3 rfl rfl)
theorem dX0_dayOf_6 : decode cX0_dayOf 6 = .ok (.ireturn, 1) := dk_172 (dk_at dksX0_dayOf_0 6 rfl rfl)
abbrev cX0_weightOf : ByteArray := prog_1_method_54_code
def yX0_weightOf : MethodName := ⟨RX0, "weightOf", "(I)I"⟩
def dkwX0_weightOf_1 : List UInt8 := [180, 0, 56, 29, 50, 6, 182, 1, 65, 96, 61, 132, 3, 1, 167, 255, 224, 28, 172]
abbrev dktX0_weightOf_1 : List UInt8 := dkwX0_weightOf_1 ++ []
def dkwX0_weightOf_0 : List UInt8 := [3, 61, 3, 62, 29, 42, 180, 0, 146, 162, 0, 30, 27, 29, 184, 1, 67, 153, 0, 16, 28, 42]
abbrev dktX0_weightOf_0 : List UInt8 := dkwX0_weightOf_0 ++ dktX0_weightOf_1
theorem dksX0_weightOf_0 : cX0_weightOf.data.toList.drop 0 = dktX0_weightOf_0 := by decide +kernel
theorem dksX0_weightOf_1 : cX0_weightOf.data.toList.drop 22 = dktX0_weightOf_1 := dk_seg dksX0_weightOf_0 22 rfl rfl
theorem dX0_weightOf_0 : decode cX0_weightOf 0 = .ok (.iconst 0, 1) := dk_3 (dk_at dksX0_weightOf_0 0 rfl rfl)
theorem dX0_weightOf_1 : decode cX0_weightOf 1 = .ok (.istore_n 2, 1) := dk_61 (dk_at dksX0_weightOf_0 1 rfl rfl)
theorem dX0_weightOf_2 : decode cX0_weightOf 2 = .ok (.iconst 0, 1) := dk_3 (dk_at dksX0_weightOf_0 2 rfl rfl)
theorem dX0_weightOf_3 : decode cX0_weightOf 3 = .ok (.istore_n 3, 1) := dk_62 (dk_at dksX0_weightOf_0 3 rfl rfl)
theorem dX0_weightOf_4 : decode cX0_weightOf 4 = .ok (.iload_n 3, 1) := dk_29 (dk_at dksX0_weightOf_0 4 rfl rfl)
theorem dX0_weightOf_5 : decode cX0_weightOf 5 = .ok (.aload_n 0, 1) := dk_42 (dk_at dksX0_weightOf_0 5 rfl rfl)
theorem dX0_weightOf_6 : decode cX0_weightOf 6 = .ok (.getfield 146, 3) := dk_180 0 146 (dk_at dksX0_weightOf_0 6 rfl rfl)
theorem dX0_weightOf_9 : decode cX0_weightOf 9 = .ok (.if_icmp .ge 30, 3) := dk_162 0 30 (dk_at dksX0_weightOf_0 9 rfl rfl)
theorem dX0_weightOf_12 : decode cX0_weightOf 12 = .ok (.iload_n 1, 1) := dk_27 (dk_at dksX0_weightOf_0 12 rfl rfl)
theorem dX0_weightOf_13 : decode cX0_weightOf 13 = .ok (.iload_n 3, 1) := dk_29 (dk_at dksX0_weightOf_0 13 rfl rfl)
theorem dX0_weightOf_14 : decode cX0_weightOf 14 = .ok (.invokestatic 323, 3) := dk_184 1 67 (dk_at dksX0_weightOf_0 14 rfl rfl)
theorem dX0_weightOf_17 : decode cX0_weightOf 17 = .ok (.ifCond .eq 16, 3) := dk_153 0 16 (dk_at dksX0_weightOf_0 17 rfl rfl)
theorem dX0_weightOf_20 : decode cX0_weightOf 20 = .ok (.iload_n 2, 1) := dk_28 (dk_at dksX0_weightOf_0 20 rfl rfl)
theorem dX0_weightOf_21 : decode cX0_weightOf 21 = .ok (.aload_n 0, 1) := dk_42 (dk_at dksX0_weightOf_0 21 rfl rfl)
theorem dX0_weightOf_22 : decode cX0_weightOf 22 = .ok (.getfield 56, 3) := dk_180 0 56 (dk_at dksX0_weightOf_1 0 rfl rfl)
theorem dX0_weightOf_25 : decode cX0_weightOf 25 = .ok (.iload_n 3, 1) := dk_29 (dk_at dksX0_weightOf_1 3 rfl rfl)
theorem dX0_weightOf_26 : decode cX0_weightOf 26 = .ok (.aaload, 1) := dk_50 (dk_at dksX0_weightOf_1 4 rfl rfl)
theorem dX0_weightOf_27 : decode cX0_weightOf 27 = .ok (.iconst 3, 1) := dk_6 (dk_at dksX0_weightOf_1 5 rfl rfl)
theorem dX0_weightOf_28 : decode cX0_weightOf 28 = .ok (.invokevirtual 321, 3) := dk_182 1 65 (dk_at dksX0_weightOf_1 6 rfl rfl)
theorem dX0_weightOf_31 : decode cX0_weightOf 31 = .ok (.iadd, 1) := dk_96 (dk_at dksX0_weightOf_1 9 rfl rfl)
theorem dX0_weightOf_32 : decode cX0_weightOf 32 = .ok (.istore_n 2, 1) := dk_61 (dk_at dksX0_weightOf_1 10 rfl rfl)
theorem dX0_weightOf_33 : decode cX0_weightOf 33 = .ok (.iinc 3 1, 3) := dk_132 3 1 (dk_at dksX0_weightOf_1 11 rfl rfl)
theorem dX0_weightOf_36 : decode cX0_weightOf 36 = .ok (.goto (-32), 3) := dk_167 255 224 (dk_at dksX0_weightOf_1 14 rfl rfl)
theorem dX0_weightOf_39 : decode cX0_weightOf 39 = .ok (.iload_n 2, 1) := dk_28 (dk_at dksX0_weightOf_1 17 rfl rfl)
theorem dX0_weightOf_40 : decode cX0_weightOf 40 = .ok (.ireturn, 1) := dk_172 (dk_at dksX0_weightOf_1 18 rfl rfl)
abbrev cX0_best : ByteArray := prog_1_method_58_code
def yX0_best : MethodName := ⟨RX0, "best", "(III)I"⟩
def dkwX0_best_8 : List UInt8 := [112, 172]
abbrev dktX0_best_8 : List UInt8 := dkwX0_best_8 ++ []
def dkwX0_best_7 : List UInt8 := [21, 8, 29, 163, 0, 15, 21, 7, 8, 108, 54, 7, 132, 8, 1, 167, 255, 241, 21, 5, 21, 7, 108, 8]
abbrev dktX0_best_7 : List UInt8 := dkwX0_best_7 ++ dktX0_best_8
def dkwX0_best_6 : List UInt8 := [54, 5, 132, 7, 1, 167, 255, 181, 29, 2, 160, 0, 6, 21, 6, 172, 21, 4, 54, 7, 3, 54, 8]
abbrev dktX0_best_6 : List UInt8 := dkwX0_best_6 ++ dktX0_best_7
def dkwX0_best_5 : List UInt8 := [180, 1, 115, 182, 1, 143, 54, 8, 21, 8, 21, 6, 163, 0, 6, 167, 0, 11, 21, 8, 54, 6, 21, 7]
abbrev dktX0_best_5 : List UInt8 := dkwX0_best_5 ++ dktX0_best_6
def dkwX0_best_4 : List UInt8 := [27, 21, 7, 21, 8, 108, 8, 112, 182, 1, 139, 21, 8, 8, 108, 54, 8, 167, 255, 233, 42, 42]
abbrev dktX0_best_4 : List UInt8 := dkwX0_best_4 ++ dktX0_best_5
def dkwX0_best_3 : List UInt8 := [21, 7, 21, 4, 162, 0, 74, 42, 27, 182, 1, 136, 21, 4, 8, 108, 54, 8, 21, 8, 158, 0, 24, 42]
abbrev dktX0_best_3 : List UInt8 := dkwX0_best_3 ++ dktX0_best_4
def dkwX0_best_2 : List UInt8 := [162, 0, 15, 21, 4, 8, 104, 54, 4, 132, 5, 1, 167, 255, 241, 3, 54, 5, 2, 54, 6, 3, 54, 7]
abbrev dktX0_best_2 : List UInt8 := dkwX0_best_2 ++ dktX0_best_3
def dkwX0_best_1 : List UInt8 := [20, 1, 146, 28, 4, 100, 133, 184, 0, 121, 154, 0, 5, 2, 172, 4, 54, 4, 3, 54, 5, 21, 5, 28]
abbrev dktX0_best_1 : List UInt8 := dkwX0_best_1 ++ dktX0_best_2
def dkwX0_best_0 : List UInt8 := [42, 27, 133, 182, 0, 160, 153, 0, 30, 28, 133, 9, 20, 0, 203, 184, 0, 121, 153, 0, 18, 29, 133]
abbrev dktX0_best_0 : List UInt8 := dkwX0_best_0 ++ dktX0_best_1
theorem dksX0_best_0 : cX0_best.data.toList.drop 0 = dktX0_best_0 := by decide +kernel
theorem dksX0_best_1 : cX0_best.data.toList.drop 23 = dktX0_best_1 := dk_seg dksX0_best_0 23 rfl rfl
theorem dksX0_best_2 : cX0_best.data.toList.drop 47 = dktX0_best_2 := dk_seg dksX0_best_1 24 rfl rfl
theorem dksX0_best_3 : cX0_best.data.toList.drop 71 = dktX0_best_3 := dk_seg dksX0_best_2 24 rfl rfl
theorem dksX0_best_4 : cX0_best.data.toList.drop 95 = dktX0_best_4 := dk_seg dksX0_best_3 24 rfl rfl
theorem dksX0_best_5 : cX0_best.data.toList.drop 117 = dktX0_best_5 := dk_seg dksX0_best_4 22 rfl rfl
theorem dksX0_best_6 : cX0_best.data.toList.drop 141 = dktX0_best_6 := dk_seg dksX0_best_5 24 rfl rfl
theorem dksX0_best_7 : cX0_best.data.toList.drop 164 = dktX0_best_7 := dk_seg dksX0_best_6 23 rfl rfl
theorem dksX0_best_8 : cX0_best.data.toList.drop 188 = dktX0_best_8 := dk_seg dksX0_best_7 24 rfl rfl
theorem dX0_best_0 : decode cX0_best 0 = .ok (.aload_n 0, 1) := dk_42 (dk_at dksX0_best_0 0 rfl rfl)
theorem dX0_best_1 : decode cX0_best 1 = .ok (.iload_n 1, 1) := dk_27 (dk_at dksX0_best_0 1 rfl rfl)
theorem dX0_best_2 : decode cX0_best 2 = .ok (.i2l, 1) := dk_133 (dk_at dksX0_best_0 2 rfl rfl)
theorem dX0_best_3 : decode cX0_best 3 = .ok (.invokevirtual 160, 3) := dk_182 0 160 (dk_at dksX0_best_0 3 rfl rfl)
theorem dX0_best_6 : decode cX0_best 6 = .ok (.ifCond .eq 30, 3) := dk_153 0 30 (dk_at dksX0_best_0 6 rfl rfl)
theorem dX0_best_9 : decode cX0_best 9 = .ok (.iload_n 2, 1) := dk_28 (dk_at dksX0_best_0 9 rfl rfl)
theorem dX0_best_10 : decode cX0_best 10 = .ok (.i2l, 1) := dk_133 (dk_at dksX0_best_0 10 rfl rfl)
theorem dX0_best_11 : decode cX0_best 11 = .ok (.lconst 0, 1) := dk_9 (dk_at dksX0_best_0 11 rfl rfl)
theorem dX0_best_12 : decode cX0_best 12 = .ok (.ldc2_w 203, 3) := dk_20 0 203 (dk_at dksX0_best_0 12 rfl rfl)
theorem dX0_best_15 : decode cX0_best 15 = .ok (.invokestatic 121, 3) := dk_184 0 121 (dk_at dksX0_best_0 15 rfl rfl)
theorem dX0_best_18 : decode cX0_best 18 = .ok (.ifCond .eq 18, 3) := dk_153 0 18 (dk_at dksX0_best_0 18 rfl rfl)
theorem dX0_best_21 : decode cX0_best 21 = .ok (.iload_n 3, 1) := dk_29 (dk_at dksX0_best_0 21 rfl rfl)
theorem dX0_best_22 : decode cX0_best 22 = .ok (.i2l, 1) := dk_133 (dk_at dksX0_best_0 22 rfl rfl)
theorem dX0_best_23 : decode cX0_best 23 = .ok (.ldc2_w 402, 3) := dk_20 1 146 (dk_at dksX0_best_1 0 rfl rfl)
theorem dX0_best_26 : decode cX0_best 26 = .ok (.iload_n 2, 1) := dk_28 (dk_at dksX0_best_1 3 rfl rfl)
theorem dX0_best_27 : decode cX0_best 27 = .ok (.iconst 1, 1) := dk_4 (dk_at dksX0_best_1 4 rfl rfl)
theorem dX0_best_28 : decode cX0_best 28 = .ok (.isub, 1) := dk_100 (dk_at dksX0_best_1 5 rfl rfl)
theorem dX0_best_29 : decode cX0_best 29 = .ok (.i2l, 1) := dk_133 (dk_at dksX0_best_1 6 rfl rfl)
theorem dX0_best_30 : decode cX0_best 30 = .ok (.invokestatic 121, 3) := dk_184 0 121 (dk_at dksX0_best_1 7 rfl rfl)
theorem dX0_best_33 : decode cX0_best 33 = .ok (.ifCond .ne 5, 3) := dk_154 0 5 (dk_at dksX0_best_1 10 rfl rfl)
theorem dX0_best_36 : decode cX0_best 36 = .ok (.iconst (-1), 1) := dk_2 (dk_at dksX0_best_1 13 rfl rfl)
theorem dX0_best_37 : decode cX0_best 37 = .ok (.ireturn, 1) := dk_172 (dk_at dksX0_best_1 14 rfl rfl)
theorem dX0_best_38 : decode cX0_best 38 = .ok (.iconst 1, 1) := dk_4 (dk_at dksX0_best_1 15 rfl rfl)
theorem dX0_best_39 : decode cX0_best 39 = .ok (.istore 4, 2) := dk_54 4 (dk_at dksX0_best_1 16 rfl rfl)
theorem dX0_best_41 : decode cX0_best 41 = .ok (.iconst 0, 1) := dk_3 (dk_at dksX0_best_1 18 rfl rfl)
theorem dX0_best_42 : decode cX0_best 42 = .ok (.istore 5, 2) := dk_54 5 (dk_at dksX0_best_1 19 rfl rfl)
theorem dX0_best_44 : decode cX0_best 44 = .ok (.iload 5, 2) := dk_21 5 (dk_at dksX0_best_1 21 rfl rfl)
theorem dX0_best_46 : decode cX0_best 46 = .ok (.iload_n 2, 1) := dk_28 (dk_at dksX0_best_1 23 rfl rfl)
theorem dX0_best_47 : decode cX0_best 47 = .ok (.if_icmp .ge 15, 3) := dk_162 0 15 (dk_at dksX0_best_2 0 rfl rfl)
theorem dX0_best_50 : decode cX0_best 50 = .ok (.iload 4, 2) := dk_21 4 (dk_at dksX0_best_2 3 rfl rfl)
theorem dX0_best_52 : decode cX0_best 52 = .ok (.iconst 5, 1) := dk_8 (dk_at dksX0_best_2 5 rfl rfl)
theorem dX0_best_53 : decode cX0_best 53 = .ok (.imul, 1) := dk_104 (dk_at dksX0_best_2 6 rfl rfl)
theorem dX0_best_54 : decode cX0_best 54 = .ok (.istore 4, 2) := dk_54 4 (dk_at dksX0_best_2 7 rfl rfl)
theorem dX0_best_56 : decode cX0_best 56 = .ok (.iinc 5 1, 3) := dk_132 5 1 (dk_at dksX0_best_2 9 rfl rfl)
theorem dX0_best_59 : decode cX0_best 59 = .ok (.goto (-15), 3) := dk_167 255 241 (dk_at dksX0_best_2 12 rfl rfl)
theorem dX0_best_62 : decode cX0_best 62 = .ok (.iconst 0, 1) := dk_3 (dk_at dksX0_best_2 15 rfl rfl)
theorem dX0_best_63 : decode cX0_best 63 = .ok (.istore 5, 2) := dk_54 5 (dk_at dksX0_best_2 16 rfl rfl)
theorem dX0_best_65 : decode cX0_best 65 = .ok (.iconst (-1), 1) := dk_2 (dk_at dksX0_best_2 18 rfl rfl)
theorem dX0_best_66 : decode cX0_best 66 = .ok (.istore 6, 2) := dk_54 6 (dk_at dksX0_best_2 19 rfl rfl)
theorem dX0_best_68 : decode cX0_best 68 = .ok (.iconst 0, 1) := dk_3 (dk_at dksX0_best_2 21 rfl rfl)
theorem dX0_best_69 : decode cX0_best 69 = .ok (.istore 7, 2) := dk_54 7 (dk_at dksX0_best_2 22 rfl rfl)
theorem dX0_best_71 : decode cX0_best 71 = .ok (.iload 7, 2) := dk_21 7 (dk_at dksX0_best_3 0 rfl rfl)
theorem dX0_best_73 : decode cX0_best 73 = .ok (.iload 4, 2) := dk_21 4 (dk_at dksX0_best_3 2 rfl rfl)
theorem dX0_best_75 : decode cX0_best 75 = .ok (.if_icmp .ge 74, 3) := dk_162 0 74 (dk_at dksX0_best_3 4 rfl rfl)
theorem dX0_best_78 : decode cX0_best 78 = .ok (.aload_n 0, 1) := dk_42 (dk_at dksX0_best_3 7 rfl rfl)
theorem dX0_best_79 : decode cX0_best 79 = .ok (.iload_n 1, 1) := dk_27 (dk_at dksX0_best_3 8 rfl rfl)
theorem dX0_best_80 : decode cX0_best 80 = .ok (.invokevirtual 392, 3) := dk_182 1 136 (dk_at dksX0_best_3 9 rfl rfl)
theorem dX0_best_83 : decode cX0_best 83 = .ok (.iload 4, 2) := dk_21 4 (dk_at dksX0_best_3 12 rfl rfl)
theorem dX0_best_85 : decode cX0_best 85 = .ok (.iconst 5, 1) := dk_8 (dk_at dksX0_best_3 14 rfl rfl)
theorem dX0_best_86 : decode cX0_best 86 = .ok (.idiv, 1) := dk_108 (dk_at dksX0_best_3 15 rfl rfl)
theorem dX0_best_87 : decode cX0_best 87 = .ok (.istore 8, 2) := dk_54 8 (dk_at dksX0_best_3 16 rfl rfl)
theorem dX0_best_89 : decode cX0_best 89 = .ok (.iload 8, 2) := dk_21 8 (dk_at dksX0_best_3 18 rfl rfl)
theorem dX0_best_91 : decode cX0_best 91 = .ok (.ifCond .le 24, 3) := dk_158 0 24 (dk_at dksX0_best_3 20 rfl rfl)
theorem dX0_best_94 : decode cX0_best 94 = .ok (.aload_n 0, 1) := dk_42 (dk_at dksX0_best_3 23 rfl rfl)
theorem dX0_best_95 : decode cX0_best 95 = .ok (.iload_n 1, 1) := dk_27 (dk_at dksX0_best_4 0 rfl rfl)
theorem dX0_best_96 : decode cX0_best 96 = .ok (.iload 7, 2) := dk_21 7 (dk_at dksX0_best_4 1 rfl rfl)
theorem dX0_best_98 : decode cX0_best 98 = .ok (.iload 8, 2) := dk_21 8 (dk_at dksX0_best_4 3 rfl rfl)
theorem dX0_best_100 : decode cX0_best 100 = .ok (.idiv, 1) := dk_108 (dk_at dksX0_best_4 5 rfl rfl)
theorem dX0_best_101 : decode cX0_best 101 = .ok (.iconst 5, 1) := dk_8 (dk_at dksX0_best_4 6 rfl rfl)
theorem dX0_best_102 : decode cX0_best 102 = .ok (.irem, 1) := dk_112 (dk_at dksX0_best_4 7 rfl rfl)
theorem dX0_best_103 : decode cX0_best 103 = .ok (.invokevirtual 395, 3) := dk_182 1 139 (dk_at dksX0_best_4 8 rfl rfl)
theorem dX0_best_106 : decode cX0_best 106 = .ok (.iload 8, 2) := dk_21 8 (dk_at dksX0_best_4 11 rfl rfl)
theorem dX0_best_108 : decode cX0_best 108 = .ok (.iconst 5, 1) := dk_8 (dk_at dksX0_best_4 13 rfl rfl)
theorem dX0_best_109 : decode cX0_best 109 = .ok (.idiv, 1) := dk_108 (dk_at dksX0_best_4 14 rfl rfl)
theorem dX0_best_110 : decode cX0_best 110 = .ok (.istore 8, 2) := dk_54 8 (dk_at dksX0_best_4 15 rfl rfl)
theorem dX0_best_112 : decode cX0_best 112 = .ok (.goto (-23), 3) := dk_167 255 233 (dk_at dksX0_best_4 17 rfl rfl)
theorem dX0_best_115 : decode cX0_best 115 = .ok (.aload_n 0, 1) := dk_42 (dk_at dksX0_best_4 20 rfl rfl)
theorem dX0_best_116 : decode cX0_best 116 = .ok (.aload_n 0, 1) := dk_42 (dk_at dksX0_best_4 21 rfl rfl)
theorem dX0_best_117 : decode cX0_best 117 = .ok (.getfield 371, 3) := dk_180 1 115 (dk_at dksX0_best_5 0 rfl rfl)
theorem dX0_best_120 : decode cX0_best 120 = .ok (.invokevirtual 399, 3) := dk_182 1 143 (dk_at dksX0_best_5 3 rfl rfl)
theorem dX0_best_123 : decode cX0_best 123 = .ok (.istore 8, 2) := dk_54 8 (dk_at dksX0_best_5 6 rfl rfl)
theorem dX0_best_125 : decode cX0_best 125 = .ok (.iload 8, 2) := dk_21 8 (dk_at dksX0_best_5 8 rfl rfl)
theorem dX0_best_127 : decode cX0_best 127 = .ok (.iload 6, 2) := dk_21 6 (dk_at dksX0_best_5 10 rfl rfl)
theorem dX0_best_129 : decode cX0_best 129 = .ok (.if_icmp .gt 6, 3) := dk_163 0 6 (dk_at dksX0_best_5 12 rfl rfl)
theorem dX0_best_132 : decode cX0_best 132 = .ok (.goto 11, 3) := dk_167 0 11 (dk_at dksX0_best_5 15 rfl rfl)
theorem dX0_best_135 : decode cX0_best 135 = .ok (.iload 8, 2) := dk_21 8 (dk_at dksX0_best_5 18 rfl rfl)
theorem dX0_best_137 : decode cX0_best 137 = .ok (.istore 6, 2) := dk_54 6 (dk_at dksX0_best_5 20 rfl rfl)
theorem dX0_best_139 : decode cX0_best 139 = .ok (.iload 7, 2) := dk_21 7 (dk_at dksX0_best_5 22 rfl rfl)
theorem dX0_best_141 : decode cX0_best 141 = .ok (.istore 5, 2) := dk_54 5 (dk_at dksX0_best_6 0 rfl rfl)
theorem dX0_best_143 : decode cX0_best 143 = .ok (.iinc 7 1, 3) := dk_132 7 1 (dk_at dksX0_best_6 2 rfl rfl)
theorem dX0_best_146 : decode cX0_best 146 = .ok (.goto (-75), 3) := dk_167 255 181 (dk_at dksX0_best_6 5 rfl rfl)
theorem dX0_best_149 : decode cX0_best 149 = .ok (.iload_n 3, 1) := dk_29 (dk_at dksX0_best_6 8 rfl rfl)
theorem dX0_best_150 : decode cX0_best 150 = .ok (.iconst (-1), 1) := dk_2 (dk_at dksX0_best_6 9 rfl rfl)
theorem dX0_best_151 : decode cX0_best 151 = .ok (.if_icmp .ne 6, 3) := dk_160 0 6 (dk_at dksX0_best_6 10 rfl rfl)
theorem dX0_best_154 : decode cX0_best 154 = .ok (.iload 6, 2) := dk_21 6 (dk_at dksX0_best_6 13 rfl rfl)
theorem dX0_best_156 : decode cX0_best 156 = .ok (.ireturn, 1) := dk_172 (dk_at dksX0_best_6 15 rfl rfl)
theorem dX0_best_157 : decode cX0_best 157 = .ok (.iload 4, 2) := dk_21 4 (dk_at dksX0_best_6 16 rfl rfl)
theorem dX0_best_159 : decode cX0_best 159 = .ok (.istore 7, 2) := dk_54 7 (dk_at dksX0_best_6 18 rfl rfl)
theorem dX0_best_161 : decode cX0_best 161 = .ok (.iconst 0, 1) := dk_3 (dk_at dksX0_best_6 20 rfl rfl)
theorem dX0_best_162 : decode cX0_best 162 = .ok (.istore 8, 2) := dk_54 8 (dk_at dksX0_best_6 21 rfl rfl)
theorem dX0_best_164 : decode cX0_best 164 = .ok (.iload 8, 2) := dk_21 8 (dk_at dksX0_best_7 0 rfl rfl)
theorem dX0_best_166 : decode cX0_best 166 = .ok (.iload_n 3, 1) := dk_29 (dk_at dksX0_best_7 2 rfl rfl)
theorem dX0_best_167 : decode cX0_best 167 = .ok (.if_icmp .gt 15, 3) := dk_163 0 15 (dk_at dksX0_best_7 3 rfl rfl)
theorem dX0_best_170 : decode cX0_best 170 = .ok (.iload 7, 2) := dk_21 7 (dk_at dksX0_best_7 6 rfl rfl)
theorem dX0_best_172 : decode cX0_best 172 = .ok (.iconst 5, 1) := dk_8 (dk_at dksX0_best_7 8 rfl rfl)
theorem dX0_best_173 : decode cX0_best 173 = .ok (.idiv, 1) := dk_108 (dk_at dksX0_best_7 9 rfl rfl)
theorem dX0_best_174 : decode cX0_best 174 = .ok (.istore 7, 2) := dk_54 7 (dk_at dksX0_best_7 10 rfl rfl)
theorem dX0_best_176 : decode cX0_best 176 = .ok (.iinc 8 1, 3) := dk_132 8 1 (dk_at dksX0_best_7 12 rfl rfl)
theorem dX0_best_179 : decode cX0_best 179 = .ok (.goto (-15), 3) := dk_167 255 241 (dk_at dksX0_best_7 15 rfl rfl)
theorem dX0_best_182 : decode cX0_best 182 = .ok (.iload 5, 2) := dk_21 5 (dk_at dksX0_best_7 18 rfl rfl)
theorem dX0_best_184 : decode cX0_best 184 = .ok (.iload 7, 2) := dk_21 7 (dk_at dksX0_best_7 20 rfl rfl)
theorem dX0_best_186 : decode cX0_best 186 = .ok (.idiv, 1) := dk_108 (dk_at dksX0_best_7 22 rfl rfl)
theorem dX0_best_187 : decode cX0_best 187 = .ok (.iconst 5, 1) := dk_8 (dk_at dksX0_best_7 23 rfl rfl)
theorem dX0_best_188 : decode cX0_best 188 = .ok (.irem, 1) := dk_112 (dk_at dksX0_best_8 0 rfl rfl)
theorem dX0_best_189 : decode cX0_best 189 = .ok (.ireturn, 1) := dk_172 (dk_at dksX0_best_8 1 rfl rfl)
abbrev cX0_soonest : ByteArray := prog_1_method_60_code
def yX0_soonest : MethodName := ⟨RX0, "soonest", "(II)I"⟩
def dkwX0_soonest_3 : List UInt8 := [184, 1, 124, 182, 1, 148, 62, 132, 4, 1, 167, 255, 215, 16, 254, 172]
abbrev dktX0_soonest_3 : List UInt8 := dkwX0_soonest_3 ++ []
def dkwX0_soonest_2 : List UInt8 := [29, 28, 184, 1, 67, 153, 0, 6, 21, 4, 172, 42, 27, 29, 42, 180, 0, 67, 180, 0, 3, 21, 4, 96]
abbrev dktX0_soonest_2 : List UInt8 := dkwX0_soonest_2 ++ dktX0_soonest_3
def dkwX0_soonest_1 : List UInt8 := [42, 180, 0, 50, 27, 50, 180, 0, 171, 180, 0, 3, 120, 62, 3, 54, 4, 21, 4, 16, 20, 163, 0, 40]
abbrev dktX0_soonest_1 : List UInt8 := dkwX0_soonest_1 ++ dktX0_soonest_2
def dkwX0_soonest_0 : List UInt8 := [42, 27, 133, 182, 0, 160, 153, 0, 11, 28, 133, 184, 0, 153, 154, 0, 5, 2, 172, 42, 182, 1, 103, 4]
abbrev dktX0_soonest_0 : List UInt8 := dkwX0_soonest_0 ++ dktX0_soonest_1
theorem dksX0_soonest_0 : cX0_soonest.data.toList.drop 0 = dktX0_soonest_0 := by decide +kernel
theorem dksX0_soonest_1 : cX0_soonest.data.toList.drop 24 = dktX0_soonest_1 := dk_seg dksX0_soonest_0 24 rfl rfl
theorem dksX0_soonest_2 : cX0_soonest.data.toList.drop 48 = dktX0_soonest_2 := dk_seg dksX0_soonest_1 24 rfl rfl
theorem dksX0_soonest_3 : cX0_soonest.data.toList.drop 72 = dktX0_soonest_3 := dk_seg dksX0_soonest_2 24 rfl rfl
theorem dX0_soonest_0 : decode cX0_soonest 0 = .ok (.aload_n 0, 1) := dk_42 (dk_at dksX0_soonest_0 0 rfl rfl)
theorem dX0_soonest_1 : decode cX0_soonest 1 = .ok (.iload_n 1, 1) := dk_27 (dk_at dksX0_soonest_0 1 rfl rfl)
theorem dX0_soonest_2 : decode cX0_soonest 2 = .ok (.i2l, 1) := dk_133 (dk_at dksX0_soonest_0 2 rfl rfl)
theorem dX0_soonest_3 : decode cX0_soonest 3 = .ok (.invokevirtual 160, 3) := dk_182 0 160 (dk_at dksX0_soonest_0 3 rfl rfl)
theorem dX0_soonest_6 : decode cX0_soonest 6 = .ok (.ifCond .eq 11, 3) := dk_153 0 11 (dk_at dksX0_soonest_0 6 rfl rfl)
theorem dX0_soonest_9 : decode cX0_soonest 9 = .ok (.iload_n 2, 1) := dk_28 (dk_at dksX0_soonest_0 9 rfl rfl)
theorem dX0_soonest_10 : decode cX0_soonest 10 = .ok (.i2l, 1) := dk_133 (dk_at dksX0_soonest_0 10 rfl rfl)
theorem dX0_soonest_11 : decode cX0_soonest 11 = .ok (.invokestatic 153, 3) := dk_184 0 153 (dk_at dksX0_soonest_0 11 rfl rfl)
theorem dX0_soonest_14 : decode cX0_soonest 14 = .ok (.ifCond .ne 5, 3) := dk_154 0 5 (dk_at dksX0_soonest_0 14 rfl rfl)
theorem dX0_soonest_17 : decode cX0_soonest 17 = .ok (.iconst (-1), 1) := dk_2 (dk_at dksX0_soonest_0 17 rfl rfl)
theorem dX0_soonest_18 : decode cX0_soonest 18 = .ok (.ireturn, 1) := dk_172 (dk_at dksX0_soonest_0 18 rfl rfl)
theorem dX0_soonest_19 : decode cX0_soonest 19 = .ok (.aload_n 0, 1) := dk_42 (dk_at dksX0_soonest_0 19 rfl rfl)
theorem dX0_soonest_20 : decode cX0_soonest 20 = .ok (.invokevirtual 359, 3) := dk_182 1 103 (dk_at dksX0_soonest_0 20 rfl rfl)
theorem dX0_soonest_23 : decode cX0_soonest 23 = .ok (.iconst 1, 1) := dk_4 (dk_at dksX0_soonest_0 23 rfl rfl)
theorem dX0_soonest_24 : decode cX0_soonest 24 = .ok (.aload_n 0, 1) := dk_42 (dk_at dksX0_soonest_1 0 rfl rfl)
theorem dX0_soonest_25 : decode cX0_soonest 25 = .ok (.getfield 50, 3) := dk_180 0 50 (dk_at dksX0_soonest_1 1 rfl rfl)
theorem dX0_soonest_28 : decode cX0_soonest 28 = .ok (.iload_n 1, 1) := dk_27 (dk_at dksX0_soonest_1 4 rfl rfl)
theorem dX0_soonest_29 : decode cX0_soonest 29 = .ok (.aaload, 1) := dk_50 (dk_at dksX0_soonest_1 5 rfl rfl)
theorem dX0_soonest_30 : decode cX0_soonest 30 = .ok (.getfield 171, 3) := dk_180 0 171 (dk_at dksX0_soonest_1 6 rfl rfl)
theorem dX0_soonest_33 : decode cX0_soonest 33 = .ok (.getfield 3, 3) := dk_180 0 3 (dk_at dksX0_soonest_1 9 rfl rfl)
theorem dX0_soonest_36 : decode cX0_soonest 36 = .ok (.ishl, 1) := dk_120 (dk_at dksX0_soonest_1 12 rfl rfl)
theorem dX0_soonest_37 : decode cX0_soonest 37 = .ok (.istore_n 3, 1) := dk_62 (dk_at dksX0_soonest_1 13 rfl rfl)
theorem dX0_soonest_38 : decode cX0_soonest 38 = .ok (.iconst 0, 1) := dk_3 (dk_at dksX0_soonest_1 14 rfl rfl)
theorem dX0_soonest_39 : decode cX0_soonest 39 = .ok (.istore 4, 2) := dk_54 4 (dk_at dksX0_soonest_1 15 rfl rfl)
theorem dX0_soonest_41 : decode cX0_soonest 41 = .ok (.iload 4, 2) := dk_21 4 (dk_at dksX0_soonest_1 17 rfl rfl)
theorem dX0_soonest_43 : decode cX0_soonest 43 = .ok (.bipush 20, 2) := dk_16 20 (dk_at dksX0_soonest_1 19 rfl rfl)
theorem dX0_soonest_45 : decode cX0_soonest 45 = .ok (.if_icmp .gt 40, 3) := dk_163 0 40 (dk_at dksX0_soonest_1 21 rfl rfl)
theorem dX0_soonest_48 : decode cX0_soonest 48 = .ok (.iload_n 3, 1) := dk_29 (dk_at dksX0_soonest_2 0 rfl rfl)
theorem dX0_soonest_49 : decode cX0_soonest 49 = .ok (.iload_n 2, 1) := dk_28 (dk_at dksX0_soonest_2 1 rfl rfl)
theorem dX0_soonest_50 : decode cX0_soonest 50 = .ok (.invokestatic 323, 3) := dk_184 1 67 (dk_at dksX0_soonest_2 2 rfl rfl)
theorem dX0_soonest_53 : decode cX0_soonest 53 = .ok (.ifCond .eq 6, 3) := dk_153 0 6 (dk_at dksX0_soonest_2 5 rfl rfl)
theorem dX0_soonest_56 : decode cX0_soonest 56 = .ok (.iload 4, 2) := dk_21 4 (dk_at dksX0_soonest_2 8 rfl rfl)
theorem dX0_soonest_58 : decode cX0_soonest 58 = .ok (.ireturn, 1) := dk_172 (dk_at dksX0_soonest_2 10 rfl rfl)
theorem dX0_soonest_59 : decode cX0_soonest 59 = .ok (.aload_n 0, 1) := dk_42 (dk_at dksX0_soonest_2 11 rfl rfl)
theorem dX0_soonest_60 : decode cX0_soonest 60 = .ok (.iload_n 1, 1) := dk_27 (dk_at dksX0_soonest_2 12 rfl rfl)
theorem dX0_soonest_61 : decode cX0_soonest 61 = .ok (.iload_n 3, 1) := dk_29 (dk_at dksX0_soonest_2 13 rfl rfl)
theorem dX0_soonest_62 : decode cX0_soonest 62 = .ok (.aload_n 0, 1) := dk_42 (dk_at dksX0_soonest_2 14 rfl rfl)
theorem dX0_soonest_63 : decode cX0_soonest 63 = .ok (.getfield 67, 3) := dk_180 0 67 (dk_at dksX0_soonest_2 15 rfl rfl)
theorem dX0_soonest_66 : decode cX0_soonest 66 = .ok (.getfield 3, 3) := dk_180 0 3 (dk_at dksX0_soonest_2 18 rfl rfl)
theorem dX0_soonest_69 : decode cX0_soonest 69 = .ok (.iload 4, 2) := dk_21 4 (dk_at dksX0_soonest_2 21 rfl rfl)
theorem dX0_soonest_71 : decode cX0_soonest 71 = .ok (.iadd, 1) := dk_96 (dk_at dksX0_soonest_2 23 rfl rfl)
theorem dX0_soonest_72 : decode cX0_soonest 72 = .ok (.invokestatic 380, 3) := dk_184 1 124 (dk_at dksX0_soonest_3 0 rfl rfl)
theorem dX0_soonest_75 : decode cX0_soonest 75 = .ok (.invokevirtual 404, 3) := dk_182 1 148 (dk_at dksX0_soonest_3 3 rfl rfl)
theorem dX0_soonest_78 : decode cX0_soonest 78 = .ok (.istore_n 3, 1) := dk_62 (dk_at dksX0_soonest_3 6 rfl rfl)
theorem dX0_soonest_79 : decode cX0_soonest 79 = .ok (.iinc 4 1, 3) := dk_132 4 1 (dk_at dksX0_soonest_3 7 rfl rfl)
theorem dX0_soonest_82 : decode cX0_soonest 82 = .ok (.goto (-41), 3) := dk_167 255 215 (dk_at dksX0_soonest_3 10 rfl rfl)
theorem dX0_soonest_85 : decode cX0_soonest 85 = .ok (.bipush (-2), 2) := dk_16 254 (dk_at dksX0_soonest_3 13 rfl rfl)
theorem dX0_soonest_87 : decode cX0_soonest 87 = .ok (.ireturn, 1) := dk_172 (dk_at dksX0_soonest_3 15 rfl rfl)
abbrev cX0_spread : ByteArray := prog_1_method_59_code
def yX0_spread : MethodName := ⟨RX0, "spread", "(III)I"⟩
def dkwX0_spread_3 : List UInt8 := [132, 6, 1, 167, 255, 222, 132, 5, 1, 167, 255, 185, 21, 4, 172]
abbrev dktX0_spread_3 : List UInt8 := dkwX0_spread_3 ++ []
def dkwX0_spread_2 : List UInt8 := [21, 5, 29, 182, 1, 99, 154, 0, 23, 21, 4, 4, 21, 5, 21, 6, 184, 1, 121, 120, 128, 54, 4]
abbrev dktX0_spread_2 : List UInt8 := dkwX0_spread_2 ++ dktX0_spread_3
def dkwX0_spread_1 : List UInt8 := [167, 0, 52, 21, 4, 4, 21, 5, 120, 128, 54, 4, 3, 54, 6, 21, 6, 7, 162, 0, 34, 42, 27]
abbrev dktX0_spread_1 : List UInt8 := dkwX0_spread_1 ++ dktX0_spread_2
def dkwX0_spread_0 : List UInt8 := [3, 54, 4, 3, 54, 5, 21, 5, 16, 25, 162, 0, 70, 28, 21, 5, 184, 1, 67, 154, 0, 6]
abbrev dktX0_spread_0 : List UInt8 := dkwX0_spread_0 ++ dktX0_spread_1
theorem dksX0_spread_0 : cX0_spread.data.toList.drop 0 = dktX0_spread_0 := by decide +kernel
theorem dksX0_spread_1 : cX0_spread.data.toList.drop 22 = dktX0_spread_1 := dk_seg dksX0_spread_0 22 rfl rfl
theorem dksX0_spread_2 : cX0_spread.data.toList.drop 45 = dktX0_spread_2 := dk_seg dksX0_spread_1 23 rfl rfl
theorem dksX0_spread_3 : cX0_spread.data.toList.drop 68 = dktX0_spread_3 := dk_seg dksX0_spread_2 23 rfl rfl
theorem dX0_spread_0 : decode cX0_spread 0 = .ok (.iconst 0, 1) := dk_3 (dk_at dksX0_spread_0 0 rfl rfl)
theorem dX0_spread_1 : decode cX0_spread 1 = .ok (.istore 4, 2) := dk_54 4 (dk_at dksX0_spread_0 1 rfl rfl)
theorem dX0_spread_3 : decode cX0_spread 3 = .ok (.iconst 0, 1) := dk_3 (dk_at dksX0_spread_0 3 rfl rfl)
theorem dX0_spread_4 : decode cX0_spread 4 = .ok (.istore 5, 2) := dk_54 5 (dk_at dksX0_spread_0 4 rfl rfl)
theorem dX0_spread_6 : decode cX0_spread 6 = .ok (.iload 5, 2) := dk_21 5 (dk_at dksX0_spread_0 6 rfl rfl)
theorem dX0_spread_8 : decode cX0_spread 8 = .ok (.bipush 25, 2) := dk_16 25 (dk_at dksX0_spread_0 8 rfl rfl)
theorem dX0_spread_10 : decode cX0_spread 10 = .ok (.if_icmp .ge 70, 3) := dk_162 0 70 (dk_at dksX0_spread_0 10 rfl rfl)
theorem dX0_spread_13 : decode cX0_spread 13 = .ok (.iload_n 2, 1) := dk_28 (dk_at dksX0_spread_0 13 rfl rfl)
theorem dX0_spread_14 : decode cX0_spread 14 = .ok (.iload 5, 2) := dk_21 5 (dk_at dksX0_spread_0 14 rfl rfl)
theorem dX0_spread_16 : decode cX0_spread 16 = .ok (.invokestatic 323, 3) := dk_184 1 67 (dk_at dksX0_spread_0 16 rfl rfl)
theorem dX0_spread_19 : decode cX0_spread 19 = .ok (.ifCond .ne 6, 3) := dk_154 0 6 (dk_at dksX0_spread_0 19 rfl rfl)
theorem dX0_spread_22 : decode cX0_spread 22 = .ok (.goto 52, 3) := dk_167 0 52 (dk_at dksX0_spread_1 0 rfl rfl)
theorem dX0_spread_25 : decode cX0_spread 25 = .ok (.iload 4, 2) := dk_21 4 (dk_at dksX0_spread_1 3 rfl rfl)
theorem dX0_spread_27 : decode cX0_spread 27 = .ok (.iconst 1, 1) := dk_4 (dk_at dksX0_spread_1 5 rfl rfl)
theorem dX0_spread_28 : decode cX0_spread 28 = .ok (.iload 5, 2) := dk_21 5 (dk_at dksX0_spread_1 6 rfl rfl)
theorem dX0_spread_30 : decode cX0_spread 30 = .ok (.ishl, 1) := dk_120 (dk_at dksX0_spread_1 8 rfl rfl)
theorem dX0_spread_31 : decode cX0_spread 31 = .ok (.ior, 1) := dk_128 (dk_at dksX0_spread_1 9 rfl rfl)
theorem dX0_spread_32 : decode cX0_spread 32 = .ok (.istore 4, 2) := dk_54 4 (dk_at dksX0_spread_1 10 rfl rfl)
theorem dX0_spread_34 : decode cX0_spread 34 = .ok (.iconst 0, 1) := dk_3 (dk_at dksX0_spread_1 12 rfl rfl)
theorem dX0_spread_35 : decode cX0_spread 35 = .ok (.istore 6, 2) := dk_54 6 (dk_at dksX0_spread_1 13 rfl rfl)
theorem dX0_spread_37 : decode cX0_spread 37 = .ok (.iload 6, 2) := dk_21 6 (dk_at dksX0_spread_1 15 rfl rfl)
theorem dX0_spread_39 : decode cX0_spread 39 = .ok (.iconst 4, 1) := dk_7 (dk_at dksX0_spread_1 17 rfl rfl)
theorem dX0_spread_40 : decode cX0_spread 40 = .ok (.if_icmp .ge 34, 3) := dk_162 0 34 (dk_at dksX0_spread_1 18 rfl rfl)
theorem dX0_spread_43 : decode cX0_spread 43 = .ok (.aload_n 0, 1) := dk_42 (dk_at dksX0_spread_1 21 rfl rfl)
theorem dX0_spread_44 : decode cX0_spread 44 = .ok (.iload_n 1, 1) := dk_27 (dk_at dksX0_spread_1 22 rfl rfl)
theorem dX0_spread_45 : decode cX0_spread 45 = .ok (.iload 5, 2) := dk_21 5 (dk_at dksX0_spread_2 0 rfl rfl)
theorem dX0_spread_47 : decode cX0_spread 47 = .ok (.iload_n 3, 1) := dk_29 (dk_at dksX0_spread_2 2 rfl rfl)
theorem dX0_spread_48 : decode cX0_spread 48 = .ok (.invokevirtual 355, 3) := dk_182 1 99 (dk_at dksX0_spread_2 3 rfl rfl)
theorem dX0_spread_51 : decode cX0_spread 51 = .ok (.ifCond .ne 23, 3) := dk_154 0 23 (dk_at dksX0_spread_2 6 rfl rfl)
theorem dX0_spread_54 : decode cX0_spread 54 = .ok (.iload 4, 2) := dk_21 4 (dk_at dksX0_spread_2 9 rfl rfl)
theorem dX0_spread_56 : decode cX0_spread 56 = .ok (.iconst 1, 1) := dk_4 (dk_at dksX0_spread_2 11 rfl rfl)
theorem dX0_spread_57 : decode cX0_spread 57 = .ok (.iload 5, 2) := dk_21 5 (dk_at dksX0_spread_2 12 rfl rfl)
theorem dX0_spread_59 : decode cX0_spread 59 = .ok (.iload 6, 2) := dk_21 6 (dk_at dksX0_spread_2 14 rfl rfl)
theorem dX0_spread_61 : decode cX0_spread 61 = .ok (.invokestatic 377, 3) := dk_184 1 121 (dk_at dksX0_spread_2 16 rfl rfl)
theorem dX0_spread_64 : decode cX0_spread 64 = .ok (.ishl, 1) := dk_120 (dk_at dksX0_spread_2 19 rfl rfl)
theorem dX0_spread_65 : decode cX0_spread 65 = .ok (.ior, 1) := dk_128 (dk_at dksX0_spread_2 20 rfl rfl)
theorem dX0_spread_66 : decode cX0_spread 66 = .ok (.istore 4, 2) := dk_54 4 (dk_at dksX0_spread_2 21 rfl rfl)
theorem dX0_spread_68 : decode cX0_spread 68 = .ok (.iinc 6 1, 3) := dk_132 6 1 (dk_at dksX0_spread_3 0 rfl rfl)
theorem dX0_spread_71 : decode cX0_spread 71 = .ok (.goto (-34), 3) := dk_167 255 222 (dk_at dksX0_spread_3 3 rfl rfl)
theorem dX0_spread_74 : decode cX0_spread 74 = .ok (.iinc 5 1, 3) := dk_132 5 1 (dk_at dksX0_spread_3 6 rfl rfl)
theorem dX0_spread_77 : decode cX0_spread 77 = .ok (.goto (-71), 3) := dk_167 255 185 (dk_at dksX0_spread_3 9 rfl rfl)
theorem dX0_spread_80 : decode cX0_spread 80 = .ok (.iload 4, 2) := dk_21 4 (dk_at dksX0_spread_3 12 rfl rfl)
theorem dX0_spread_82 : decode cX0_spread 82 = .ok (.ireturn, 1) := dk_172 (dk_at dksX0_spread_3 14 rfl rfl)
abbrev cX0_free : ByteArray := prog_1_method_61_code
def yX0_free : MethodName := ⟨RX0, "free", "(I)I"⟩
def dkwX0_free_2 : List UInt8 := [3, 184, 1, 79, 96, 61, 132, 3, 1, 167, 255, 220, 28, 172]
abbrev dktX0_free_2 : List UInt8 := dkwX0_free_2 ++ []
def dkwX0_free_1 : List UInt8 := [162, 0, 36, 28, 42, 27, 29, 42, 180, 0, 67, 180, 0, 3, 182, 1, 99, 154, 0, 7, 4, 167, 0, 4]
abbrev dktX0_free_1 : List UInt8 := dkwX0_free_1 ++ dktX0_free_2
def dkwX0_free_0 : List UInt8 := [42, 27, 133, 182, 0, 160, 154, 0, 5, 2, 172, 42, 182, 1, 103, 3, 61, 3, 62, 29, 16, 25]
abbrev dktX0_free_0 : List UInt8 := dkwX0_free_0 ++ dktX0_free_1
theorem dksX0_free_0 : cX0_free.data.toList.drop 0 = dktX0_free_0 := by decide +kernel
theorem dksX0_free_1 : cX0_free.data.toList.drop 22 = dktX0_free_1 := dk_seg dksX0_free_0 22 rfl rfl
theorem dksX0_free_2 : cX0_free.data.toList.drop 46 = dktX0_free_2 := dk_seg dksX0_free_1 24 rfl rfl
theorem dX0_free_0 : decode cX0_free 0 = .ok (.aload_n 0, 1) := dk_42 (dk_at dksX0_free_0 0 rfl rfl)
theorem dX0_free_1 : decode cX0_free 1 = .ok (.iload_n 1, 1) := dk_27 (dk_at dksX0_free_0 1 rfl rfl)
theorem dX0_free_2 : decode cX0_free 2 = .ok (.i2l, 1) := dk_133 (dk_at dksX0_free_0 2 rfl rfl)
theorem dX0_free_3 : decode cX0_free 3 = .ok (.invokevirtual 160, 3) := dk_182 0 160 (dk_at dksX0_free_0 3 rfl rfl)
theorem dX0_free_6 : decode cX0_free 6 = .ok (.ifCond .ne 5, 3) := dk_154 0 5 (dk_at dksX0_free_0 6 rfl rfl)
theorem dX0_free_9 : decode cX0_free 9 = .ok (.iconst (-1), 1) := dk_2 (dk_at dksX0_free_0 9 rfl rfl)
theorem dX0_free_10 : decode cX0_free 10 = .ok (.ireturn, 1) := dk_172 (dk_at dksX0_free_0 10 rfl rfl)
theorem dX0_free_11 : decode cX0_free 11 = .ok (.aload_n 0, 1) := dk_42 (dk_at dksX0_free_0 11 rfl rfl)
theorem dX0_free_12 : decode cX0_free 12 = .ok (.invokevirtual 359, 3) := dk_182 1 103 (dk_at dksX0_free_0 12 rfl rfl)
theorem dX0_free_15 : decode cX0_free 15 = .ok (.iconst 0, 1) := dk_3 (dk_at dksX0_free_0 15 rfl rfl)
theorem dX0_free_16 : decode cX0_free 16 = .ok (.istore_n 2, 1) := dk_61 (dk_at dksX0_free_0 16 rfl rfl)
theorem dX0_free_17 : decode cX0_free 17 = .ok (.iconst 0, 1) := dk_3 (dk_at dksX0_free_0 17 rfl rfl)
theorem dX0_free_18 : decode cX0_free 18 = .ok (.istore_n 3, 1) := dk_62 (dk_at dksX0_free_0 18 rfl rfl)
theorem dX0_free_19 : decode cX0_free 19 = .ok (.iload_n 3, 1) := dk_29 (dk_at dksX0_free_0 19 rfl rfl)
theorem dX0_free_20 : decode cX0_free 20 = .ok (.bipush 25, 2) := dk_16 25 (dk_at dksX0_free_0 20 rfl rfl)
theorem dX0_free_22 : decode cX0_free 22 = .ok (.if_icmp .ge 36, 3) := dk_162 0 36 (dk_at dksX0_free_1 0 rfl rfl)
theorem dX0_free_25 : decode cX0_free 25 = .ok (.iload_n 2, 1) := dk_28 (dk_at dksX0_free_1 3 rfl rfl)
theorem dX0_free_26 : decode cX0_free 26 = .ok (.aload_n 0, 1) := dk_42 (dk_at dksX0_free_1 4 rfl rfl)
theorem dX0_free_27 : decode cX0_free 27 = .ok (.iload_n 1, 1) := dk_27 (dk_at dksX0_free_1 5 rfl rfl)
theorem dX0_free_28 : decode cX0_free 28 = .ok (.iload_n 3, 1) := dk_29 (dk_at dksX0_free_1 6 rfl rfl)
theorem dX0_free_29 : decode cX0_free 29 = .ok (.aload_n 0, 1) := dk_42 (dk_at dksX0_free_1 7 rfl rfl)
theorem dX0_free_30 : decode cX0_free 30 = .ok (.getfield 67, 3) := dk_180 0 67 (dk_at dksX0_free_1 8 rfl rfl)
theorem dX0_free_33 : decode cX0_free 33 = .ok (.getfield 3, 3) := dk_180 0 3 (dk_at dksX0_free_1 11 rfl rfl)
theorem dX0_free_36 : decode cX0_free 36 = .ok (.invokevirtual 355, 3) := dk_182 1 99 (dk_at dksX0_free_1 14 rfl rfl)
theorem dX0_free_39 : decode cX0_free 39 = .ok (.ifCond .ne 7, 3) := dk_154 0 7 (dk_at dksX0_free_1 17 rfl rfl)
theorem dX0_free_42 : decode cX0_free 42 = .ok (.iconst 1, 1) := dk_4 (dk_at dksX0_free_1 20 rfl rfl)
theorem dX0_free_43 : decode cX0_free 43 = .ok (.goto 4, 3) := dk_167 0 4 (dk_at dksX0_free_1 21 rfl rfl)
theorem dX0_free_46 : decode cX0_free 46 = .ok (.iconst 0, 1) := dk_3 (dk_at dksX0_free_2 0 rfl rfl)
theorem dX0_free_47 : decode cX0_free 47 = .ok (.invokestatic 335, 3) := dk_184 1 79 (dk_at dksX0_free_2 1 rfl rfl)
theorem dX0_free_50 : decode cX0_free 50 = .ok (.iadd, 1) := dk_96 (dk_at dksX0_free_2 4 rfl rfl)
theorem dX0_free_51 : decode cX0_free 51 = .ok (.istore_n 2, 1) := dk_61 (dk_at dksX0_free_2 5 rfl rfl)
theorem dX0_free_52 : decode cX0_free 52 = .ok (.iinc 3 1, 3) := dk_132 3 1 (dk_at dksX0_free_2 6 rfl rfl)
theorem dX0_free_55 : decode cX0_free 55 = .ok (.goto (-36), 3) := dk_167 255 220 (dk_at dksX0_free_2 9 rfl rfl)
theorem dX0_free_58 : decode cX0_free 58 = .ok (.iload_n 2, 1) := dk_28 (dk_at dksX0_free_2 12 rfl rfl)
theorem dX0_free_59 : decode cX0_free 59 = .ok (.ireturn, 1) := dk_172 (dk_at dksX0_free_2 13 rfl rfl)
abbrev cX0_words : ByteArray := prog_1_method_63_code
def yX0_words : MethodName := ⟨RX0, "words", "(II)I"⟩
def dkwX0_words_5 : List UInt8 := [184, 1, 155, 167, 0, 5, 21, 5, 172]
abbrev dktX0_words_5 : List UInt8 := dkwX0_words_5 ++ []
def dkwX0_words_4 : List UInt8 := [42, 27, 182, 1, 158, 154, 0, 7, 21, 6, 54, 5, 132, 6, 1, 167, 255, 190, 28, 154, 0, 11, 21, 5]
abbrev dktX0_words_4 : List UInt8 := dkwX0_words_4 ++ dktX0_words_5
def dkwX0_words_3 : List UInt8 := [21, 6, 184, 1, 155, 21, 5, 184, 1, 155, 161, 0, 6, 167, 0, 23, 42, 29, 21, 6, 128, 181, 1, 59]
abbrev dktX0_words_3 : List UInt8 := dkwX0_words_3 ++ dktX0_words_4
def dkwX0_words_2 : List UInt8 := [42, 180, 0, 146, 120, 162, 0, 61, 21, 6, 21, 4, 2, 130, 126, 154, 0, 45, 21, 5, 2, 159, 0, 19]
abbrev dktX0_words_2 : List UInt8 := dkwX0_words_2 ++ dktX0_words_3
def dkwX0_words_1 : List UInt8 := [182, 1, 103, 42, 180, 1, 59, 62, 42, 27, 182, 1, 152, 54, 4, 2, 54, 5, 3, 54, 6, 21, 6, 4]
abbrev dktX0_words_1 : List UInt8 := dkwX0_words_1 ++ dktX0_words_2
def dkwX0_words_0 : List UInt8 := [42, 27, 133, 182, 0, 160, 153, 0, 13, 28, 133, 9, 10, 184, 0, 121, 154, 0, 5, 2, 172, 42]
abbrev dktX0_words_0 : List UInt8 := dkwX0_words_0 ++ dktX0_words_1
theorem dksX0_words_0 : cX0_words.data.toList.drop 0 = dktX0_words_0 := by decide +kernel
theorem dksX0_words_1 : cX0_words.data.toList.drop 22 = dktX0_words_1 := dk_seg dksX0_words_0 22 rfl rfl
theorem dksX0_words_2 : cX0_words.data.toList.drop 46 = dktX0_words_2 := dk_seg dksX0_words_1 24 rfl rfl
theorem dksX0_words_3 : cX0_words.data.toList.drop 70 = dktX0_words_3 := dk_seg dksX0_words_2 24 rfl rfl
theorem dksX0_words_4 : cX0_words.data.toList.drop 94 = dktX0_words_4 := dk_seg dksX0_words_3 24 rfl rfl
theorem dksX0_words_5 : cX0_words.data.toList.drop 118 = dktX0_words_5 := dk_seg dksX0_words_4 24 rfl rfl
theorem dX0_words_0 : decode cX0_words 0 = .ok (.aload_n 0, 1) := dk_42 (dk_at dksX0_words_0 0 rfl rfl)
theorem dX0_words_1 : decode cX0_words 1 = .ok (.iload_n 1, 1) := dk_27 (dk_at dksX0_words_0 1 rfl rfl)
theorem dX0_words_2 : decode cX0_words 2 = .ok (.i2l, 1) := dk_133 (dk_at dksX0_words_0 2 rfl rfl)
theorem dX0_words_3 : decode cX0_words 3 = .ok (.invokevirtual 160, 3) := dk_182 0 160 (dk_at dksX0_words_0 3 rfl rfl)
theorem dX0_words_6 : decode cX0_words 6 = .ok (.ifCond .eq 13, 3) := dk_153 0 13 (dk_at dksX0_words_0 6 rfl rfl)
theorem dX0_words_9 : decode cX0_words 9 = .ok (.iload_n 2, 1) := dk_28 (dk_at dksX0_words_0 9 rfl rfl)
theorem dX0_words_10 : decode cX0_words 10 = .ok (.i2l, 1) := dk_133 (dk_at dksX0_words_0 10 rfl rfl)
theorem dX0_words_11 : decode cX0_words 11 = .ok (.lconst 0, 1) := dk_9 (dk_at dksX0_words_0 11 rfl rfl)
theorem dX0_words_12 : decode cX0_words 12 = .ok (.lconst 1, 1) := dk_10 (dk_at dksX0_words_0 12 rfl rfl)
theorem dX0_words_13 : decode cX0_words 13 = .ok (.invokestatic 121, 3) := dk_184 0 121 (dk_at dksX0_words_0 13 rfl rfl)
theorem dX0_words_16 : decode cX0_words 16 = .ok (.ifCond .ne 5, 3) := dk_154 0 5 (dk_at dksX0_words_0 16 rfl rfl)
theorem dX0_words_19 : decode cX0_words 19 = .ok (.iconst (-1), 1) := dk_2 (dk_at dksX0_words_0 19 rfl rfl)
theorem dX0_words_20 : decode cX0_words 20 = .ok (.ireturn, 1) := dk_172 (dk_at dksX0_words_0 20 rfl rfl)
theorem dX0_words_21 : decode cX0_words 21 = .ok (.aload_n 0, 1) := dk_42 (dk_at dksX0_words_0 21 rfl rfl)
theorem dX0_words_22 : decode cX0_words 22 = .ok (.invokevirtual 359, 3) := dk_182 1 103 (dk_at dksX0_words_1 0 rfl rfl)
theorem dX0_words_25 : decode cX0_words 25 = .ok (.aload_n 0, 1) := dk_42 (dk_at dksX0_words_1 3 rfl rfl)
theorem dX0_words_26 : decode cX0_words 26 = .ok (.getfield 315, 3) := dk_180 1 59 (dk_at dksX0_words_1 4 rfl rfl)
theorem dX0_words_29 : decode cX0_words 29 = .ok (.istore_n 3, 1) := dk_62 (dk_at dksX0_words_1 7 rfl rfl)
theorem dX0_words_30 : decode cX0_words 30 = .ok (.aload_n 0, 1) := dk_42 (dk_at dksX0_words_1 8 rfl rfl)
theorem dX0_words_31 : decode cX0_words 31 = .ok (.iload_n 1, 1) := dk_27 (dk_at dksX0_words_1 9 rfl rfl)
theorem dX0_words_32 : decode cX0_words 32 = .ok (.invokevirtual 408, 3) := dk_182 1 152 (dk_at dksX0_words_1 10 rfl rfl)
theorem dX0_words_35 : decode cX0_words 35 = .ok (.istore 4, 2) := dk_54 4 (dk_at dksX0_words_1 13 rfl rfl)
theorem dX0_words_37 : decode cX0_words 37 = .ok (.iconst (-1), 1) := dk_2 (dk_at dksX0_words_1 15 rfl rfl)
theorem dX0_words_38 : decode cX0_words 38 = .ok (.istore 5, 2) := dk_54 5 (dk_at dksX0_words_1 16 rfl rfl)
theorem dX0_words_40 : decode cX0_words 40 = .ok (.iconst 0, 1) := dk_3 (dk_at dksX0_words_1 18 rfl rfl)
theorem dX0_words_41 : decode cX0_words 41 = .ok (.istore 6, 2) := dk_54 6 (dk_at dksX0_words_1 19 rfl rfl)
theorem dX0_words_43 : decode cX0_words 43 = .ok (.iload 6, 2) := dk_21 6 (dk_at dksX0_words_1 21 rfl rfl)
theorem dX0_words_45 : decode cX0_words 45 = .ok (.iconst 1, 1) := dk_4 (dk_at dksX0_words_1 23 rfl rfl)
theorem dX0_words_46 : decode cX0_words 46 = .ok (.aload_n 0, 1) := dk_42 (dk_at dksX0_words_2 0 rfl rfl)
theorem dX0_words_47 : decode cX0_words 47 = .ok (.getfield 146, 3) := dk_180 0 146 (dk_at dksX0_words_2 1 rfl rfl)
theorem dX0_words_50 : decode cX0_words 50 = .ok (.ishl, 1) := dk_120 (dk_at dksX0_words_2 4 rfl rfl)
theorem dX0_words_51 : decode cX0_words 51 = .ok (.if_icmp .ge 61, 3) := dk_162 0 61 (dk_at dksX0_words_2 5 rfl rfl)
theorem dX0_words_54 : decode cX0_words 54 = .ok (.iload 6, 2) := dk_21 6 (dk_at dksX0_words_2 8 rfl rfl)
theorem dX0_words_56 : decode cX0_words 56 = .ok (.iload 4, 2) := dk_21 4 (dk_at dksX0_words_2 10 rfl rfl)
theorem dX0_words_58 : decode cX0_words 58 = .ok (.iconst (-1), 1) := dk_2 (dk_at dksX0_words_2 12 rfl rfl)
theorem dX0_words_59 : decode cX0_words 59 = .ok (.ixor, 1) := dk_130 (dk_at dksX0_words_2 13 rfl rfl)
theorem dX0_words_60 : decode cX0_words 60 = .ok (.iand, 1) := dk_126 (dk_at dksX0_words_2 14 rfl rfl)
theorem dX0_words_61 : decode cX0_words 61 = .ok (.ifCond .ne 45, 3) := dk_154 0 45 (dk_at dksX0_words_2 15 rfl rfl)
theorem dX0_words_64 : decode cX0_words 64 = .ok (.iload 5, 2) := dk_21 5 (dk_at dksX0_words_2 18 rfl rfl)
theorem dX0_words_66 : decode cX0_words 66 = .ok (.iconst (-1), 1) := dk_2 (dk_at dksX0_words_2 20 rfl rfl)
theorem dX0_words_67 : decode cX0_words 67 = .ok (.if_icmp .eq 19, 3) := dk_159 0 19 (dk_at dksX0_words_2 21 rfl rfl)
theorem dX0_words_70 : decode cX0_words 70 = .ok (.iload 6, 2) := dk_21 6 (dk_at dksX0_words_3 0 rfl rfl)
theorem dX0_words_72 : decode cX0_words 72 = .ok (.invokestatic 411, 3) := dk_184 1 155 (dk_at dksX0_words_3 2 rfl rfl)
theorem dX0_words_75 : decode cX0_words 75 = .ok (.iload 5, 2) := dk_21 5 (dk_at dksX0_words_3 5 rfl rfl)
theorem dX0_words_77 : decode cX0_words 77 = .ok (.invokestatic 411, 3) := dk_184 1 155 (dk_at dksX0_words_3 7 rfl rfl)
theorem dX0_words_80 : decode cX0_words 80 = .ok (.if_icmp .lt 6, 3) := dk_161 0 6 (dk_at dksX0_words_3 10 rfl rfl)
theorem dX0_words_83 : decode cX0_words 83 = .ok (.goto 23, 3) := dk_167 0 23 (dk_at dksX0_words_3 13 rfl rfl)
theorem dX0_words_86 : decode cX0_words 86 = .ok (.aload_n 0, 1) := dk_42 (dk_at dksX0_words_3 16 rfl rfl)
theorem dX0_words_87 : decode cX0_words 87 = .ok (.iload_n 3, 1) := dk_29 (dk_at dksX0_words_3 17 rfl rfl)
theorem dX0_words_88 : decode cX0_words 88 = .ok (.iload 6, 2) := dk_21 6 (dk_at dksX0_words_3 18 rfl rfl)
theorem dX0_words_90 : decode cX0_words 90 = .ok (.ior, 1) := dk_128 (dk_at dksX0_words_3 20 rfl rfl)
theorem dX0_words_91 : decode cX0_words 91 = .ok (.putfield 315, 3) := dk_181 1 59 (dk_at dksX0_words_3 21 rfl rfl)
theorem dX0_words_94 : decode cX0_words 94 = .ok (.aload_n 0, 1) := dk_42 (dk_at dksX0_words_4 0 rfl rfl)
theorem dX0_words_95 : decode cX0_words 95 = .ok (.iload_n 1, 1) := dk_27 (dk_at dksX0_words_4 1 rfl rfl)
theorem dX0_words_96 : decode cX0_words 96 = .ok (.invokevirtual 414, 3) := dk_182 1 158 (dk_at dksX0_words_4 2 rfl rfl)
theorem dX0_words_99 : decode cX0_words 99 = .ok (.ifCond .ne 7, 3) := dk_154 0 7 (dk_at dksX0_words_4 5 rfl rfl)
theorem dX0_words_102 : decode cX0_words 102 = .ok (.iload 6, 2) := dk_21 6 (dk_at dksX0_words_4 8 rfl rfl)
theorem dX0_words_104 : decode cX0_words 104 = .ok (.istore 5, 2) := dk_54 5 (dk_at dksX0_words_4 10 rfl rfl)
theorem dX0_words_106 : decode cX0_words 106 = .ok (.iinc 6 1, 3) := dk_132 6 1 (dk_at dksX0_words_4 12 rfl rfl)
theorem dX0_words_109 : decode cX0_words 109 = .ok (.goto (-66), 3) := dk_167 255 190 (dk_at dksX0_words_4 15 rfl rfl)
theorem dX0_words_112 : decode cX0_words 112 = .ok (.iload_n 2, 1) := dk_28 (dk_at dksX0_words_4 18 rfl rfl)
theorem dX0_words_113 : decode cX0_words 113 = .ok (.ifCond .ne 11, 3) := dk_154 0 11 (dk_at dksX0_words_4 19 rfl rfl)
theorem dX0_words_116 : decode cX0_words 116 = .ok (.iload 5, 2) := dk_21 5 (dk_at dksX0_words_4 22 rfl rfl)
theorem dX0_words_118 : decode cX0_words 118 = .ok (.invokestatic 411, 3) := dk_184 1 155 (dk_at dksX0_words_5 0 rfl rfl)
theorem dX0_words_121 : decode cX0_words 121 = .ok (.goto 5, 3) := dk_167 0 5 (dk_at dksX0_words_5 3 rfl rfl)
theorem dX0_words_124 : decode cX0_words 124 = .ok (.iload 5, 2) := dk_21 5 (dk_at dksX0_words_5 6 rfl rfl)
theorem dX0_words_126 : decode cX0_words 126 = .ok (.ireturn, 1) := dk_172 (dk_at dksX0_words_5 8 rfl rfl)
abbrev cX0_onHere : ByteArray := prog_1_method_62_code
def yX0_onHere : MethodName := ⟨RX0, "onHere", "(I)I"⟩
def dkwX0_onHere_2 : List UInt8 := [132, 3, 1, 167, 255, 212, 28, 172]
abbrev dktX0_onHere_2 : List UInt8 := dkwX0_onHere_2 ++ []
def dkwX0_onHere_1 : List UInt8 := [180, 0, 171, 180, 0, 3, 42, 180, 0, 67, 180, 0, 3, 182, 1, 83, 184, 1, 79, 29, 120, 128, 61]
abbrev dktX0_onHere_1 : List UInt8 := dkwX0_onHere_1 ++ dktX0_onHere_2
def dkwX0_onHere_0 : List UInt8 := [3, 61, 3, 62, 29, 42, 180, 0, 146, 162, 0, 42, 28, 42, 29, 27, 42, 180, 0, 50, 27, 50]
abbrev dktX0_onHere_0 : List UInt8 := dkwX0_onHere_0 ++ dktX0_onHere_1
theorem dksX0_onHere_0 : cX0_onHere.data.toList.drop 0 = dktX0_onHere_0 := by decide +kernel
theorem dksX0_onHere_1 : cX0_onHere.data.toList.drop 22 = dktX0_onHere_1 := dk_seg dksX0_onHere_0 22 rfl rfl
theorem dksX0_onHere_2 : cX0_onHere.data.toList.drop 45 = dktX0_onHere_2 := dk_seg dksX0_onHere_1 23 rfl rfl
theorem dX0_onHere_0 : decode cX0_onHere 0 = .ok (.iconst 0, 1) := dk_3 (dk_at dksX0_onHere_0 0 rfl rfl)
theorem dX0_onHere_1 : decode cX0_onHere 1 = .ok (.istore_n 2, 1) := dk_61 (dk_at dksX0_onHere_0 1 rfl rfl)
theorem dX0_onHere_2 : decode cX0_onHere 2 = .ok (.iconst 0, 1) := dk_3 (dk_at dksX0_onHere_0 2 rfl rfl)
theorem dX0_onHere_3 : decode cX0_onHere 3 = .ok (.istore_n 3, 1) := dk_62 (dk_at dksX0_onHere_0 3 rfl rfl)
theorem dX0_onHere_4 : decode cX0_onHere 4 = .ok (.iload_n 3, 1) := dk_29 (dk_at dksX0_onHere_0 4 rfl rfl)
theorem dX0_onHere_5 : decode cX0_onHere 5 = .ok (.aload_n 0, 1) := dk_42 (dk_at dksX0_onHere_0 5 rfl rfl)
theorem dX0_onHere_6 : decode cX0_onHere 6 = .ok (.getfield 146, 3) := dk_180 0 146 (dk_at dksX0_onHere_0 6 rfl rfl)
theorem dX0_onHere_9 : decode cX0_onHere 9 = .ok (.if_icmp .ge 42, 3) := dk_162 0 42 (dk_at dksX0_onHere_0 9 rfl rfl)
theorem dX0_onHere_12 : decode cX0_onHere 12 = .ok (.iload_n 2, 1) := dk_28 (dk_at dksX0_onHere_0 12 rfl rfl)
theorem dX0_onHere_13 : decode cX0_onHere 13 = .ok (.aload_n 0, 1) := dk_42 (dk_at dksX0_onHere_0 13 rfl rfl)
theorem dX0_onHere_14 : decode cX0_onHere 14 = .ok (.iload_n 3, 1) := dk_29 (dk_at dksX0_onHere_0 14 rfl rfl)
theorem dX0_onHere_15 : decode cX0_onHere 15 = .ok (.iload_n 1, 1) := dk_27 (dk_at dksX0_onHere_0 15 rfl rfl)
theorem dX0_onHere_16 : decode cX0_onHere 16 = .ok (.aload_n 0, 1) := dk_42 (dk_at dksX0_onHere_0 16 rfl rfl)
theorem dX0_onHere_17 : decode cX0_onHere 17 = .ok (.getfield 50, 3) := dk_180 0 50 (dk_at dksX0_onHere_0 17 rfl rfl)
theorem dX0_onHere_20 : decode cX0_onHere 20 = .ok (.iload_n 1, 1) := dk_27 (dk_at dksX0_onHere_0 20 rfl rfl)
theorem dX0_onHere_21 : decode cX0_onHere 21 = .ok (.aaload, 1) := dk_50 (dk_at dksX0_onHere_0 21 rfl rfl)
theorem dX0_onHere_22 : decode cX0_onHere 22 = .ok (.getfield 171, 3) := dk_180 0 171 (dk_at dksX0_onHere_1 0 rfl rfl)
theorem dX0_onHere_25 : decode cX0_onHere 25 = .ok (.getfield 3, 3) := dk_180 0 3 (dk_at dksX0_onHere_1 3 rfl rfl)
theorem dX0_onHere_28 : decode cX0_onHere 28 = .ok (.aload_n 0, 1) := dk_42 (dk_at dksX0_onHere_1 6 rfl rfl)
theorem dX0_onHere_29 : decode cX0_onHere 29 = .ok (.getfield 67, 3) := dk_180 0 67 (dk_at dksX0_onHere_1 7 rfl rfl)
theorem dX0_onHere_32 : decode cX0_onHere 32 = .ok (.getfield 3, 3) := dk_180 0 3 (dk_at dksX0_onHere_1 10 rfl rfl)
theorem dX0_onHere_35 : decode cX0_onHere 35 = .ok (.invokevirtual 339, 3) := dk_182 1 83 (dk_at dksX0_onHere_1 13 rfl rfl)
theorem dX0_onHere_38 : decode cX0_onHere 38 = .ok (.invokestatic 335, 3) := dk_184 1 79 (dk_at dksX0_onHere_1 16 rfl rfl)
theorem dX0_onHere_41 : decode cX0_onHere 41 = .ok (.iload_n 3, 1) := dk_29 (dk_at dksX0_onHere_1 19 rfl rfl)
theorem dX0_onHere_42 : decode cX0_onHere 42 = .ok (.ishl, 1) := dk_120 (dk_at dksX0_onHere_1 20 rfl rfl)
theorem dX0_onHere_43 : decode cX0_onHere 43 = .ok (.ior, 1) := dk_128 (dk_at dksX0_onHere_1 21 rfl rfl)
theorem dX0_onHere_44 : decode cX0_onHere 44 = .ok (.istore_n 2, 1) := dk_61 (dk_at dksX0_onHere_1 22 rfl rfl)
theorem dX0_onHere_45 : decode cX0_onHere 45 = .ok (.iinc 3 1, 3) := dk_132 3 1 (dk_at dksX0_onHere_2 0 rfl rfl)
theorem dX0_onHere_48 : decode cX0_onHere 48 = .ok (.goto (-44), 3) := dk_167 255 212 (dk_at dksX0_onHere_2 3 rfl rfl)
theorem dX0_onHere_51 : decode cX0_onHere 51 = .ok (.iload_n 2, 1) := dk_28 (dk_at dksX0_onHere_2 6 rfl rfl)
theorem dX0_onHere_52 : decode cX0_onHere 52 = .ok (.ireturn, 1) := dk_172 (dk_at dksX0_onHere_2 7 rfl rfl)
abbrev cX0_ones : ByteArray := prog_1_method_4_code
def yX0_ones : MethodName := ⟨RX0, "ones", "(I)I"⟩
def dkwX0_ones_0 : List UInt8 := [3, 60, 26, 61, 28, 153, 0, 15, 132, 1, 1, 28, 28, 4, 100, 126, 61, 167, 255, 243, 27, 172]
abbrev dktX0_ones_0 : List UInt8 := dkwX0_ones_0 ++ []
theorem dksX0_ones_0 : cX0_ones.data.toList.drop 0 = dktX0_ones_0 := by decide +kernel
theorem dX0_ones_0 : decode cX0_ones 0 = .ok (.iconst 0, 1) := dk_3 (dk_at dksX0_ones_0 0 rfl rfl)
theorem dX0_ones_1 : decode cX0_ones 1 = .ok (.istore_n 1, 1) := dk_60 (dk_at dksX0_ones_0 1 rfl rfl)
theorem dX0_ones_2 : decode cX0_ones 2 = .ok (.iload_n 0, 1) := dk_26 (dk_at dksX0_ones_0 2 rfl rfl)
theorem dX0_ones_3 : decode cX0_ones 3 = .ok (.istore_n 2, 1) := dk_61 (dk_at dksX0_ones_0 3 rfl rfl)
theorem dX0_ones_4 : decode cX0_ones 4 = .ok (.iload_n 2, 1) := dk_28 (dk_at dksX0_ones_0 4 rfl rfl)
theorem dX0_ones_5 : decode cX0_ones 5 = .ok (.ifCond .eq 15, 3) := dk_153 0 15 (dk_at dksX0_ones_0 5 rfl rfl)
theorem dX0_ones_8 : decode cX0_ones 8 = .ok (.iinc 1 1, 3) := dk_132 1 1 (dk_at dksX0_ones_0 8 rfl rfl)
theorem dX0_ones_11 : decode cX0_ones 11 = .ok (.iload_n 2, 1) := dk_28 (dk_at dksX0_ones_0 11 rfl rfl)
theorem dX0_ones_12 : decode cX0_ones 12 = .ok (.iload_n 2, 1) := dk_28 (dk_at dksX0_ones_0 12 rfl rfl)
theorem dX0_ones_13 : decode cX0_ones 13 = .ok (.iconst 1, 1) := dk_4 (dk_at dksX0_ones_0 13 rfl rfl)
theorem dX0_ones_14 : decode cX0_ones 14 = .ok (.isub, 1) := dk_100 (dk_at dksX0_ones_0 14 rfl rfl)
theorem dX0_ones_15 : decode cX0_ones 15 = .ok (.iand, 1) := dk_126 (dk_at dksX0_ones_0 15 rfl rfl)
theorem dX0_ones_16 : decode cX0_ones 16 = .ok (.istore_n 2, 1) := dk_61 (dk_at dksX0_ones_0 16 rfl rfl)
theorem dX0_ones_17 : decode cX0_ones 17 = .ok (.goto (-13), 3) := dk_167 255 243 (dk_at dksX0_ones_0 17 rfl rfl)
theorem dX0_ones_20 : decode cX0_ones 20 = .ok (.iload_n 1, 1) := dk_27 (dk_at dksX0_ones_0 20 rfl rfl)
theorem dX0_ones_21 : decode cX0_ones 21 = .ok (.ireturn, 1) := dk_172 (dk_at dksX0_ones_0 21 rfl rfl)
abbrev cX0_isHeldNow : ByteArray := prog_1_method_46_code
def yX0_isHeldNow : MethodName := ⟨RX0, "isHeldNow", "(I)Z"⟩
def dkwX0_isHeldNow_1 : List UInt8 := [172]
abbrev dktX0_isHeldNow_1 : List UInt8 := dkwX0_isHeldNow_1 ++ []
def dkwX0_isHeldNow_0 : List UInt8 := [42, 27, 42, 180, 0, 50, 27, 50, 180, 0, 171, 180, 0, 3, 42, 180, 0, 67, 180, 0, 3, 182, 1, 99]
abbrev dktX0_isHeldNow_0 : List UInt8 := dkwX0_isHeldNow_0 ++ dktX0_isHeldNow_1
theorem dksX0_isHeldNow_0 : cX0_isHeldNow.data.toList.drop 0 = dktX0_isHeldNow_0 := by decide +kernel
theorem dksX0_isHeldNow_1 : cX0_isHeldNow.data.toList.drop 24 = dktX0_isHeldNow_1 := dk_seg dksX0_isHeldNow_0 24 rfl rfl
theorem dX0_isHeldNow_0 : decode cX0_isHeldNow 0 = .ok (.aload_n 0, 1) := dk_42 (dk_at dksX0_isHeldNow_0 0 rfl rfl)
theorem dX0_isHeldNow_1 : decode cX0_isHeldNow 1 = .ok (.iload_n 1, 1) := dk_27 (dk_at dksX0_isHeldNow_0 1 rfl rfl)
theorem dX0_isHeldNow_2 : decode cX0_isHeldNow 2 = .ok (.aload_n 0, 1) := dk_42 (dk_at dksX0_isHeldNow_0 2 rfl rfl)
theorem dX0_isHeldNow_3 : decode cX0_isHeldNow 3 = .ok (.getfield 50, 3) := dk_180 0 50 (dk_at dksX0_isHeldNow_0 3 rfl rfl)
theorem dX0_isHeldNow_6 : decode cX0_isHeldNow 6 = .ok (.iload_n 1, 1) := dk_27 (dk_at dksX0_isHeldNow_0 6 rfl rfl)
theorem dX0_isHeldNow_7 : decode cX0_isHeldNow 7 = .ok (.aaload, 1) := dk_50 (dk_at dksX0_isHeldNow_0 7 rfl rfl)
theorem dX0_isHeldNow_8 : decode cX0_isHeldNow 8 = .ok (.getfield 171, 3) := dk_180 0 171 (dk_at dksX0_isHeldNow_0 8 rfl rfl)
theorem dX0_isHeldNow_11 : decode cX0_isHeldNow 11 = .ok (.getfield 3, 3) := dk_180 0 3 (dk_at dksX0_isHeldNow_0 11 rfl rfl)
theorem dX0_isHeldNow_14 : decode cX0_isHeldNow 14 = .ok (.aload_n 0, 1) := dk_42 (dk_at dksX0_isHeldNow_0 14 rfl rfl)
theorem dX0_isHeldNow_15 : decode cX0_isHeldNow 15 = .ok (.getfield 67, 3) := dk_180 0 67 (dk_at dksX0_isHeldNow_0 15 rfl rfl)
theorem dX0_isHeldNow_18 : decode cX0_isHeldNow 18 = .ok (.getfield 3, 3) := dk_180 0 3 (dk_at dksX0_isHeldNow_0 18 rfl rfl)
theorem dX0_isHeldNow_21 : decode cX0_isHeldNow 21 = .ok (.invokevirtual 355, 3) := dk_182 1 99 (dk_at dksX0_isHeldNow_0 21 rfl rfl)
theorem dX0_isHeldNow_24 : decode cX0_isHeldNow 24 = .ok (.ireturn, 1) := dk_172 (dk_at dksX0_isHeldNow_1 0 rfl rfl)
abbrev cX0_all : ByteArray := prog_1_method_65_code
def yX0_all : MethodName := ⟨RX0, "all", "(I)I"⟩
def dkwX0_all_5 : List UInt8 := [21, 4, 62, 132, 4, 1, 167, 255, 158, 27, 154, 0, 10, 29, 184, 1, 155, 167, 0, 4, 29, 172]
abbrev dktX0_all_5 : List UInt8 := dkwX0_all_5 ++ []
def dkwX0_all_4 : List UInt8 := [180, 1, 59, 4, 21, 5, 120, 128, 181, 1, 59, 132, 5, 1, 167, 255, 213, 42, 182, 1, 161, 153, 0, 6]
abbrev dktX0_all_4 : List UInt8 := dkwX0_all_4 ++ dktX0_all_5
def dkwX0_all_3 : List UInt8 := [162, 0, 40, 21, 4, 42, 180, 0, 56, 21, 5, 50, 180, 0, 232, 184, 1, 67, 153, 0, 16, 42, 89]
abbrev dktX0_all_3 : List UInt8 := dkwX0_all_3 ++ dktX0_all_4
def dkwX0_all_2 : List UInt8 := [184, 1, 155, 161, 0, 6, 167, 0, 67, 42, 28, 181, 1, 59, 3, 54, 5, 21, 5, 42, 180, 0, 146]
abbrev dktX0_all_2 : List UInt8 := dkwX0_all_2 ++ dktX0_all_3
def dkwX0_all_1 : List UInt8 := [54, 4, 21, 4, 4, 42, 180, 0, 143, 120, 162, 0, 93, 29, 2, 159, 0, 18, 21, 4, 184, 1, 155, 29]
abbrev dktX0_all_1 : List UInt8 := dkwX0_all_1 ++ dktX0_all_2
def dkwX0_all_0 : List UInt8 := [27, 133, 9, 10, 184, 0, 121, 154, 0, 5, 2, 172, 42, 182, 1, 103, 42, 180, 1, 59, 61, 2, 62, 3]
abbrev dktX0_all_0 : List UInt8 := dkwX0_all_0 ++ dktX0_all_1
theorem dksX0_all_0 : cX0_all.data.toList.drop 0 = dktX0_all_0 := by decide +kernel
theorem dksX0_all_1 : cX0_all.data.toList.drop 24 = dktX0_all_1 := dk_seg dksX0_all_0 24 rfl rfl
theorem dksX0_all_2 : cX0_all.data.toList.drop 48 = dktX0_all_2 := dk_seg dksX0_all_1 24 rfl rfl
theorem dksX0_all_3 : cX0_all.data.toList.drop 71 = dktX0_all_3 := dk_seg dksX0_all_2 23 rfl rfl
theorem dksX0_all_4 : cX0_all.data.toList.drop 94 = dktX0_all_4 := dk_seg dksX0_all_3 23 rfl rfl
theorem dksX0_all_5 : cX0_all.data.toList.drop 118 = dktX0_all_5 := dk_seg dksX0_all_4 24 rfl rfl
theorem dX0_all_0 : decode cX0_all 0 = .ok (.iload_n 1, 1) := dk_27 (dk_at dksX0_all_0 0 rfl rfl)
theorem dX0_all_1 : decode cX0_all 1 = .ok (.i2l, 1) := dk_133 (dk_at dksX0_all_0 1 rfl rfl)
theorem dX0_all_2 : decode cX0_all 2 = .ok (.lconst 0, 1) := dk_9 (dk_at dksX0_all_0 2 rfl rfl)
theorem dX0_all_3 : decode cX0_all 3 = .ok (.lconst 1, 1) := dk_10 (dk_at dksX0_all_0 3 rfl rfl)
theorem dX0_all_4 : decode cX0_all 4 = .ok (.invokestatic 121, 3) := dk_184 0 121 (dk_at dksX0_all_0 4 rfl rfl)
theorem dX0_all_7 : decode cX0_all 7 = .ok (.ifCond .ne 5, 3) := dk_154 0 5 (dk_at dksX0_all_0 7 rfl rfl)
theorem dX0_all_10 : decode cX0_all 10 = .ok (.iconst (-1), 1) := dk_2 (dk_at dksX0_all_0 10 rfl rfl)
theorem dX0_all_11 : decode cX0_all 11 = .ok (.ireturn, 1) := dk_172 (dk_at dksX0_all_0 11 rfl rfl)
theorem dX0_all_12 : decode cX0_all 12 = .ok (.aload_n 0, 1) := dk_42 (dk_at dksX0_all_0 12 rfl rfl)
theorem dX0_all_13 : decode cX0_all 13 = .ok (.invokevirtual 359, 3) := dk_182 1 103 (dk_at dksX0_all_0 13 rfl rfl)
theorem dX0_all_16 : decode cX0_all 16 = .ok (.aload_n 0, 1) := dk_42 (dk_at dksX0_all_0 16 rfl rfl)
theorem dX0_all_17 : decode cX0_all 17 = .ok (.getfield 315, 3) := dk_180 1 59 (dk_at dksX0_all_0 17 rfl rfl)
theorem dX0_all_20 : decode cX0_all 20 = .ok (.istore_n 2, 1) := dk_61 (dk_at dksX0_all_0 20 rfl rfl)
theorem dX0_all_21 : decode cX0_all 21 = .ok (.iconst (-1), 1) := dk_2 (dk_at dksX0_all_0 21 rfl rfl)
theorem dX0_all_22 : decode cX0_all 22 = .ok (.istore_n 3, 1) := dk_62 (dk_at dksX0_all_0 22 rfl rfl)
theorem dX0_all_23 : decode cX0_all 23 = .ok (.iconst 0, 1) := dk_3 (dk_at dksX0_all_0 23 rfl rfl)
theorem dX0_all_24 : decode cX0_all 24 = .ok (.istore 4, 2) := dk_54 4 (dk_at dksX0_all_1 0 rfl rfl)
theorem dX0_all_26 : decode cX0_all 26 = .ok (.iload 4, 2) := dk_21 4 (dk_at dksX0_all_1 2 rfl rfl)
theorem dX0_all_28 : decode cX0_all 28 = .ok (.iconst 1, 1) := dk_4 (dk_at dksX0_all_1 4 rfl rfl)
theorem dX0_all_29 : decode cX0_all 29 = .ok (.aload_n 0, 1) := dk_42 (dk_at dksX0_all_1 5 rfl rfl)
theorem dX0_all_30 : decode cX0_all 30 = .ok (.getfield 143, 3) := dk_180 0 143 (dk_at dksX0_all_1 6 rfl rfl)
theorem dX0_all_33 : decode cX0_all 33 = .ok (.ishl, 1) := dk_120 (dk_at dksX0_all_1 9 rfl rfl)
theorem dX0_all_34 : decode cX0_all 34 = .ok (.if_icmp .ge 93, 3) := dk_162 0 93 (dk_at dksX0_all_1 10 rfl rfl)
theorem dX0_all_37 : decode cX0_all 37 = .ok (.iload_n 3, 1) := dk_29 (dk_at dksX0_all_1 13 rfl rfl)
theorem dX0_all_38 : decode cX0_all 38 = .ok (.iconst (-1), 1) := dk_2 (dk_at dksX0_all_1 14 rfl rfl)
theorem dX0_all_39 : decode cX0_all 39 = .ok (.if_icmp .eq 18, 3) := dk_159 0 18 (dk_at dksX0_all_1 15 rfl rfl)
theorem dX0_all_42 : decode cX0_all 42 = .ok (.iload 4, 2) := dk_21 4 (dk_at dksX0_all_1 18 rfl rfl)
theorem dX0_all_44 : decode cX0_all 44 = .ok (.invokestatic 411, 3) := dk_184 1 155 (dk_at dksX0_all_1 20 rfl rfl)
theorem dX0_all_47 : decode cX0_all 47 = .ok (.iload_n 3, 1) := dk_29 (dk_at dksX0_all_1 23 rfl rfl)
theorem dX0_all_48 : decode cX0_all 48 = .ok (.invokestatic 411, 3) := dk_184 1 155 (dk_at dksX0_all_2 0 rfl rfl)
theorem dX0_all_51 : decode cX0_all 51 = .ok (.if_icmp .lt 6, 3) := dk_161 0 6 (dk_at dksX0_all_2 3 rfl rfl)
theorem dX0_all_54 : decode cX0_all 54 = .ok (.goto 67, 3) := dk_167 0 67 (dk_at dksX0_all_2 6 rfl rfl)
theorem dX0_all_57 : decode cX0_all 57 = .ok (.aload_n 0, 1) := dk_42 (dk_at dksX0_all_2 9 rfl rfl)
theorem dX0_all_58 : decode cX0_all 58 = .ok (.iload_n 2, 1) := dk_28 (dk_at dksX0_all_2 10 rfl rfl)
theorem dX0_all_59 : decode cX0_all 59 = .ok (.putfield 315, 3) := dk_181 1 59 (dk_at dksX0_all_2 11 rfl rfl)
theorem dX0_all_62 : decode cX0_all 62 = .ok (.iconst 0, 1) := dk_3 (dk_at dksX0_all_2 14 rfl rfl)
theorem dX0_all_63 : decode cX0_all 63 = .ok (.istore 5, 2) := dk_54 5 (dk_at dksX0_all_2 15 rfl rfl)
theorem dX0_all_65 : decode cX0_all 65 = .ok (.iload 5, 2) := dk_21 5 (dk_at dksX0_all_2 17 rfl rfl)
theorem dX0_all_67 : decode cX0_all 67 = .ok (.aload_n 0, 1) := dk_42 (dk_at dksX0_all_2 19 rfl rfl)
theorem dX0_all_68 : decode cX0_all 68 = .ok (.getfield 146, 3) := dk_180 0 146 (dk_at dksX0_all_2 20 rfl rfl)
theorem dX0_all_71 : decode cX0_all 71 = .ok (.if_icmp .ge 40, 3) := dk_162 0 40 (dk_at dksX0_all_3 0 rfl rfl)
theorem dX0_all_74 : decode cX0_all 74 = .ok (.iload 4, 2) := dk_21 4 (dk_at dksX0_all_3 3 rfl rfl)
theorem dX0_all_76 : decode cX0_all 76 = .ok (.aload_n 0, 1) := dk_42 (dk_at dksX0_all_3 5 rfl rfl)
theorem dX0_all_77 : decode cX0_all 77 = .ok (.getfield 56, 3) := dk_180 0 56 (dk_at dksX0_all_3 6 rfl rfl)
theorem dX0_all_80 : decode cX0_all 80 = .ok (.iload 5, 2) := dk_21 5 (dk_at dksX0_all_3 9 rfl rfl)
theorem dX0_all_82 : decode cX0_all 82 = .ok (.aaload, 1) := dk_50 (dk_at dksX0_all_3 11 rfl rfl)
theorem dX0_all_83 : decode cX0_all 83 = .ok (.getfield 232, 3) := dk_180 0 232 (dk_at dksX0_all_3 12 rfl rfl)
theorem dX0_all_86 : decode cX0_all 86 = .ok (.invokestatic 323, 3) := dk_184 1 67 (dk_at dksX0_all_3 15 rfl rfl)
theorem dX0_all_89 : decode cX0_all 89 = .ok (.ifCond .eq 16, 3) := dk_153 0 16 (dk_at dksX0_all_3 18 rfl rfl)
theorem dX0_all_92 : decode cX0_all 92 = .ok (.aload_n 0, 1) := dk_42 (dk_at dksX0_all_3 21 rfl rfl)
theorem dX0_all_93 : decode cX0_all 93 = .ok (.dup, 1) := dk_89 (dk_at dksX0_all_3 22 rfl rfl)
theorem dX0_all_94 : decode cX0_all 94 = .ok (.getfield 315, 3) := dk_180 1 59 (dk_at dksX0_all_4 0 rfl rfl)
theorem dX0_all_97 : decode cX0_all 97 = .ok (.iconst 1, 1) := dk_4 (dk_at dksX0_all_4 3 rfl rfl)
theorem dX0_all_98 : decode cX0_all 98 = .ok (.iload 5, 2) := dk_21 5 (dk_at dksX0_all_4 4 rfl rfl)
theorem dX0_all_100 : decode cX0_all 100 = .ok (.ishl, 1) := dk_120 (dk_at dksX0_all_4 6 rfl rfl)
theorem dX0_all_101 : decode cX0_all 101 = .ok (.ior, 1) := dk_128 (dk_at dksX0_all_4 7 rfl rfl)
theorem dX0_all_102 : decode cX0_all 102 = .ok (.putfield 315, 3) := dk_181 1 59 (dk_at dksX0_all_4 8 rfl rfl)
theorem dX0_all_105 : decode cX0_all 105 = .ok (.iinc 5 1, 3) := dk_132 5 1 (dk_at dksX0_all_4 11 rfl rfl)
theorem dX0_all_108 : decode cX0_all 108 = .ok (.goto (-43), 3) := dk_167 255 213 (dk_at dksX0_all_4 14 rfl rfl)
theorem dX0_all_111 : decode cX0_all 111 = .ok (.aload_n 0, 1) := dk_42 (dk_at dksX0_all_4 17 rfl rfl)
theorem dX0_all_112 : decode cX0_all 112 = .ok (.invokevirtual 417, 3) := dk_182 1 161 (dk_at dksX0_all_4 18 rfl rfl)
theorem dX0_all_115 : decode cX0_all 115 = .ok (.ifCond .eq 6, 3) := dk_153 0 6 (dk_at dksX0_all_4 21 rfl rfl)
theorem dX0_all_118 : decode cX0_all 118 = .ok (.iload 4, 2) := dk_21 4 (dk_at dksX0_all_5 0 rfl rfl)
theorem dX0_all_120 : decode cX0_all 120 = .ok (.istore_n 3, 1) := dk_62 (dk_at dksX0_all_5 2 rfl rfl)
theorem dX0_all_121 : decode cX0_all 121 = .ok (.iinc 4 1, 3) := dk_132 4 1 (dk_at dksX0_all_5 3 rfl rfl)
theorem dX0_all_124 : decode cX0_all 124 = .ok (.goto (-98), 3) := dk_167 255 158 (dk_at dksX0_all_5 6 rfl rfl)
theorem dX0_all_127 : decode cX0_all 127 = .ok (.iload_n 1, 1) := dk_27 (dk_at dksX0_all_5 9 rfl rfl)
theorem dX0_all_128 : decode cX0_all 128 = .ok (.ifCond .ne 10, 3) := dk_154 0 10 (dk_at dksX0_all_5 10 rfl rfl)
theorem dX0_all_131 : decode cX0_all 131 = .ok (.iload_n 3, 1) := dk_29 (dk_at dksX0_all_5 13 rfl rfl)
theorem dX0_all_132 : decode cX0_all 132 = .ok (.invokestatic 411, 3) := dk_184 1 155 (dk_at dksX0_all_5 14 rfl rfl)
theorem dX0_all_135 : decode cX0_all 135 = .ok (.goto 4, 3) := dk_167 0 4 (dk_at dksX0_all_5 17 rfl rfl)
theorem dX0_all_138 : decode cX0_all 138 = .ok (.iload_n 3, 1) := dk_29 (dk_at dksX0_all_5 20 rfl rfl)
theorem dX0_all_139 : decode cX0_all 139 = .ok (.ireturn, 1) := dk_172 (dk_at dksX0_all_5 21 rfl rfl)
abbrev cX0_isNobodyHeld : ByteArray := prog_1_method_64_code
def yX0_isNobodyHeld : MethodName := ⟨RX0, "isNobodyHeld", "()Z"⟩
def dkwX0_isNobodyHeld_1 : List UInt8 := [167, 255, 235, 4, 172]
abbrev dktX0_isNobodyHeld_1 : List UInt8 := dkwX0_isNobodyHeld_1 ++ []
def dkwX0_isNobodyHeld_0 : List UInt8 := [3, 60, 27, 42, 180, 0, 143, 162, 0, 19, 42, 27, 182, 1, 158, 153, 0, 5, 3, 172, 132, 1, 1]
abbrev dktX0_isNobodyHeld_0 : List UInt8 := dkwX0_isNobodyHeld_0 ++ dktX0_isNobodyHeld_1
theorem dksX0_isNobodyHeld_0 : cX0_isNobodyHeld.data.toList.drop 0 = dktX0_isNobodyHeld_0 := by decide +kernel
theorem dksX0_isNobodyHeld_1 : cX0_isNobodyHeld.data.toList.drop 23 = dktX0_isNobodyHeld_1 := dk_seg dksX0_isNobodyHeld_0 23 rfl rfl
theorem dX0_isNobodyHeld_0 : decode cX0_isNobodyHeld 0 = .ok (.iconst 0, 1) := dk_3 (dk_at dksX0_isNobodyHeld_0 0 rfl rfl)
theorem dX0_isNobodyHeld_1 : decode cX0_isNobodyHeld 1 = .ok (.istore_n 1, 1) := dk_60 (dk_at dksX0_isNobodyHeld_0 1 rfl rfl)
theorem dX0_isNobodyHeld_2 : decode cX0_isNobodyHeld 2 = .ok (.iload_n 1, 1) := dk_27 (dk_at dksX0_isNobodyHeld_0 2 rfl rfl)
theorem dX0_isNobodyHeld_3 : decode cX0_isNobodyHeld 3 = .ok (.aload_n 0, 1) := dk_42 (dk_at dksX0_isNobodyHeld_0 3 rfl rfl)
theorem dX0_isNobodyHeld_4 : decode cX0_isNobodyHeld 4 = .ok (.getfield 143, 3) := dk_180 0 143 (dk_at dksX0_isNobodyHeld_0 4 rfl rfl)
theorem dX0_isNobodyHeld_7 : decode cX0_isNobodyHeld 7 = .ok (.if_icmp .ge 19, 3) := dk_162 0 19 (dk_at dksX0_isNobodyHeld_0 7 rfl rfl)
theorem dX0_isNobodyHeld_10 : decode cX0_isNobodyHeld 10 = .ok (.aload_n 0, 1) := dk_42 (dk_at dksX0_isNobodyHeld_0 10 rfl rfl)
theorem dX0_isNobodyHeld_11 : decode cX0_isNobodyHeld 11 = .ok (.iload_n 1, 1) := dk_27 (dk_at dksX0_isNobodyHeld_0 11 rfl rfl)
theorem dX0_isNobodyHeld_12 : decode cX0_isNobodyHeld 12 = .ok (.invokevirtual 414, 3) := dk_182 1 158 (dk_at dksX0_isNobodyHeld_0 12 rfl rfl)
theorem dX0_isNobodyHeld_15 : decode cX0_isNobodyHeld 15 = .ok (.ifCond .eq 5, 3) := dk_153 0 5 (dk_at dksX0_isNobodyHeld_0 15 rfl rfl)
theorem dX0_isNobodyHeld_18 : decode cX0_isNobodyHeld 18 = .ok (.iconst 0, 1) := dk_3 (dk_at dksX0_isNobodyHeld_0 18 rfl rfl)
theorem dX0_isNobodyHeld_19 : decode cX0_isNobodyHeld 19 = .ok (.ireturn, 1) := dk_172 (dk_at dksX0_isNobodyHeld_0 19 rfl rfl)
theorem dX0_isNobodyHeld_20 : decode cX0_isNobodyHeld 20 = .ok (.iinc 1 1, 3) := dk_132 1 1 (dk_at dksX0_isNobodyHeld_0 20 rfl rfl)
theorem dX0_isNobodyHeld_23 : decode cX0_isNobodyHeld 23 = .ok (.goto (-21), 3) := dk_167 255 235 (dk_at dksX0_isNobodyHeld_1 0 rfl rfl)
theorem dX0_isNobodyHeld_26 : decode cX0_isNobodyHeld 26 = .ok (.iconst 1, 1) := dk_4 (dk_at dksX0_isNobodyHeld_1 3 rfl rfl)
theorem dX0_isNobodyHeld_27 : decode cX0_isNobodyHeld 27 = .ok (.ireturn, 1) := dk_172 (dk_at dksX0_isNobodyHeld_1 4 rfl rfl)
abbrev cX0_ring : ByteArray := prog_1_method_66_code
def yX0_ring : MethodName := ⟨RX0, "ring", "()I"⟩
def dkwX0_ring_5 : List UInt8 := [184, 1, 67, 153, 0, 5, 28, 172, 132, 3, 1, 167, 255, 230, 132, 2, 1, 167, 255, 214, 16, 254, 172]
abbrev dktX0_ring_5 : List UInt8 := dkwX0_ring_5 ++ []
def dkwX0_ring_4 : List UInt8 := [180, 0, 143, 163, 0, 40, 3, 62, 29, 42, 180, 0, 143, 162, 0, 24, 42, 29, 28, 182, 1, 164, 29]
abbrev dktX0_ring_4 : List UInt8 := dkwX0_ring_4 ++ dktX0_ring_5
def dkwX0_ring_3 : List UInt8 := [180, 0, 232, 120, 128, 79, 132, 3, 1, 167, 255, 200, 132, 2, 1, 167, 255, 180, 4, 61, 28, 42]
abbrev dktX0_ring_3 : List UInt8 := dkwX0_ring_3 ++ dktX0_ring_4
def dkwX0_ring_2 : List UInt8 := [42, 180, 0, 67, 180, 0, 3, 182, 1, 96, 153, 0, 20, 43, 28, 92, 46, 4, 42, 180, 0, 56, 29, 50]
abbrev dktX0_ring_2 : List UInt8 := dkwX0_ring_2 ++ dktX0_ring_3
def dkwX0_ring_1 : List UInt8 := [62, 29, 42, 180, 0, 146, 162, 0, 54, 42, 29, 28, 42, 180, 0, 50, 28, 50, 180, 0, 171, 180, 0, 3]
abbrev dktX0_ring_1 : List UInt8 := dkwX0_ring_1 ++ dktX0_ring_2
def dkwX0_ring_0 : List UInt8 := [42, 182, 1, 103, 42, 180, 0, 83, 76, 3, 61, 28, 42, 180, 0, 143, 162, 0, 74, 43, 28, 3, 79, 3]
abbrev dktX0_ring_0 : List UInt8 := dkwX0_ring_0 ++ dktX0_ring_1
theorem dksX0_ring_0 : cX0_ring.data.toList.drop 0 = dktX0_ring_0 := by decide +kernel
theorem dksX0_ring_1 : cX0_ring.data.toList.drop 24 = dktX0_ring_1 := dk_seg dksX0_ring_0 24 rfl rfl
theorem dksX0_ring_2 : cX0_ring.data.toList.drop 48 = dktX0_ring_2 := dk_seg dksX0_ring_1 24 rfl rfl
theorem dksX0_ring_3 : cX0_ring.data.toList.drop 72 = dktX0_ring_3 := dk_seg dksX0_ring_2 24 rfl rfl
theorem dksX0_ring_4 : cX0_ring.data.toList.drop 94 = dktX0_ring_4 := dk_seg dksX0_ring_3 22 rfl rfl
theorem dksX0_ring_5 : cX0_ring.data.toList.drop 117 = dktX0_ring_5 := dk_seg dksX0_ring_4 23 rfl rfl
theorem dX0_ring_0 : decode cX0_ring 0 = .ok (.aload_n 0, 1) := dk_42 (dk_at dksX0_ring_0 0 rfl rfl)
theorem dX0_ring_1 : decode cX0_ring 1 = .ok (.invokevirtual 359, 3) := dk_182 1 103 (dk_at dksX0_ring_0 1 rfl rfl)
theorem dX0_ring_4 : decode cX0_ring 4 = .ok (.aload_n 0, 1) := dk_42 (dk_at dksX0_ring_0 4 rfl rfl)
theorem dX0_ring_5 : decode cX0_ring 5 = .ok (.getfield 83, 3) := dk_180 0 83 (dk_at dksX0_ring_0 5 rfl rfl)
theorem dX0_ring_8 : decode cX0_ring 8 = .ok (.astore_n 1, 1) := dk_76 (dk_at dksX0_ring_0 8 rfl rfl)
theorem dX0_ring_9 : decode cX0_ring 9 = .ok (.iconst 0, 1) := dk_3 (dk_at dksX0_ring_0 9 rfl rfl)
theorem dX0_ring_10 : decode cX0_ring 10 = .ok (.istore_n 2, 1) := dk_61 (dk_at dksX0_ring_0 10 rfl rfl)
theorem dX0_ring_11 : decode cX0_ring 11 = .ok (.iload_n 2, 1) := dk_28 (dk_at dksX0_ring_0 11 rfl rfl)
theorem dX0_ring_12 : decode cX0_ring 12 = .ok (.aload_n 0, 1) := dk_42 (dk_at dksX0_ring_0 12 rfl rfl)
theorem dX0_ring_13 : decode cX0_ring 13 = .ok (.getfield 143, 3) := dk_180 0 143 (dk_at dksX0_ring_0 13 rfl rfl)
theorem dX0_ring_16 : decode cX0_ring 16 = .ok (.if_icmp .ge 74, 3) := dk_162 0 74 (dk_at dksX0_ring_0 16 rfl rfl)
theorem dX0_ring_19 : decode cX0_ring 19 = .ok (.aload_n 1, 1) := dk_43 (dk_at dksX0_ring_0 19 rfl rfl)
theorem dX0_ring_20 : decode cX0_ring 20 = .ok (.iload_n 2, 1) := dk_28 (dk_at dksX0_ring_0 20 rfl rfl)
theorem dX0_ring_21 : decode cX0_ring 21 = .ok (.iconst 0, 1) := dk_3 (dk_at dksX0_ring_0 21 rfl rfl)
theorem dX0_ring_22 : decode cX0_ring 22 = .ok (.iastore, 1) := dk_79 (dk_at dksX0_ring_0 22 rfl rfl)
theorem dX0_ring_23 : decode cX0_ring 23 = .ok (.iconst 0, 1) := dk_3 (dk_at dksX0_ring_0 23 rfl rfl)
theorem dX0_ring_24 : decode cX0_ring 24 = .ok (.istore_n 3, 1) := dk_62 (dk_at dksX0_ring_1 0 rfl rfl)
theorem dX0_ring_25 : decode cX0_ring 25 = .ok (.iload_n 3, 1) := dk_29 (dk_at dksX0_ring_1 1 rfl rfl)
theorem dX0_ring_26 : decode cX0_ring 26 = .ok (.aload_n 0, 1) := dk_42 (dk_at dksX0_ring_1 2 rfl rfl)
theorem dX0_ring_27 : decode cX0_ring 27 = .ok (.getfield 146, 3) := dk_180 0 146 (dk_at dksX0_ring_1 3 rfl rfl)
theorem dX0_ring_30 : decode cX0_ring 30 = .ok (.if_icmp .ge 54, 3) := dk_162 0 54 (dk_at dksX0_ring_1 6 rfl rfl)
theorem dX0_ring_33 : decode cX0_ring 33 = .ok (.aload_n 0, 1) := dk_42 (dk_at dksX0_ring_1 9 rfl rfl)
theorem dX0_ring_34 : decode cX0_ring 34 = .ok (.iload_n 3, 1) := dk_29 (dk_at dksX0_ring_1 10 rfl rfl)
theorem dX0_ring_35 : decode cX0_ring 35 = .ok (.iload_n 2, 1) := dk_28 (dk_at dksX0_ring_1 11 rfl rfl)
theorem dX0_ring_36 : decode cX0_ring 36 = .ok (.aload_n 0, 1) := dk_42 (dk_at dksX0_ring_1 12 rfl rfl)
theorem dX0_ring_37 : decode cX0_ring 37 = .ok (.getfield 50, 3) := dk_180 0 50 (dk_at dksX0_ring_1 13 rfl rfl)
theorem dX0_ring_40 : decode cX0_ring 40 = .ok (.iload_n 2, 1) := dk_28 (dk_at dksX0_ring_1 16 rfl rfl)
theorem dX0_ring_41 : decode cX0_ring 41 = .ok (.aaload, 1) := dk_50 (dk_at dksX0_ring_1 17 rfl rfl)
theorem dX0_ring_42 : decode cX0_ring 42 = .ok (.getfield 171, 3) := dk_180 0 171 (dk_at dksX0_ring_1 18 rfl rfl)
theorem dX0_ring_45 : decode cX0_ring 45 = .ok (.getfield 3, 3) := dk_180 0 3 (dk_at dksX0_ring_1 21 rfl rfl)
theorem dX0_ring_48 : decode cX0_ring 48 = .ok (.aload_n 0, 1) := dk_42 (dk_at dksX0_ring_2 0 rfl rfl)
theorem dX0_ring_49 : decode cX0_ring 49 = .ok (.getfield 67, 3) := dk_180 0 67 (dk_at dksX0_ring_2 1 rfl rfl)
theorem dX0_ring_52 : decode cX0_ring 52 = .ok (.getfield 3, 3) := dk_180 0 3 (dk_at dksX0_ring_2 4 rfl rfl)
theorem dX0_ring_55 : decode cX0_ring 55 = .ok (.invokevirtual 352, 3) := dk_182 1 96 (dk_at dksX0_ring_2 7 rfl rfl)
theorem dX0_ring_58 : decode cX0_ring 58 = .ok (.ifCond .eq 20, 3) := dk_153 0 20 (dk_at dksX0_ring_2 10 rfl rfl)
theorem dX0_ring_61 : decode cX0_ring 61 = .ok (.aload_n 1, 1) := dk_43 (dk_at dksX0_ring_2 13 rfl rfl)
theorem dX0_ring_62 : decode cX0_ring 62 = .ok (.iload_n 2, 1) := dk_28 (dk_at dksX0_ring_2 14 rfl rfl)
theorem dX0_ring_63 : decode cX0_ring 63 = .ok (.dup2, 1) := dk_92 (dk_at dksX0_ring_2 15 rfl rfl)
theorem dX0_ring_64 : decode cX0_ring 64 = .ok (.iaload, 1) := dk_46 (dk_at dksX0_ring_2 16 rfl rfl)
theorem dX0_ring_65 : decode cX0_ring 65 = .ok (.iconst 1, 1) := dk_4 (dk_at dksX0_ring_2 17 rfl rfl)
theorem dX0_ring_66 : decode cX0_ring 66 = .ok (.aload_n 0, 1) := dk_42 (dk_at dksX0_ring_2 18 rfl rfl)
theorem dX0_ring_67 : decode cX0_ring 67 = .ok (.getfield 56, 3) := dk_180 0 56 (dk_at dksX0_ring_2 19 rfl rfl)
theorem dX0_ring_70 : decode cX0_ring 70 = .ok (.iload_n 3, 1) := dk_29 (dk_at dksX0_ring_2 22 rfl rfl)
theorem dX0_ring_71 : decode cX0_ring 71 = .ok (.aaload, 1) := dk_50 (dk_at dksX0_ring_2 23 rfl rfl)
theorem dX0_ring_72 : decode cX0_ring 72 = .ok (.getfield 232, 3) := dk_180 0 232 (dk_at dksX0_ring_3 0 rfl rfl)
theorem dX0_ring_75 : decode cX0_ring 75 = .ok (.ishl, 1) := dk_120 (dk_at dksX0_ring_3 3 rfl rfl)
theorem dX0_ring_76 : decode cX0_ring 76 = .ok (.ior, 1) := dk_128 (dk_at dksX0_ring_3 4 rfl rfl)
theorem dX0_ring_77 : decode cX0_ring 77 = .ok (.iastore, 1) := dk_79 (dk_at dksX0_ring_3 5 rfl rfl)
theorem dX0_ring_78 : decode cX0_ring 78 = .ok (.iinc 3 1, 3) := dk_132 3 1 (dk_at dksX0_ring_3 6 rfl rfl)
theorem dX0_ring_81 : decode cX0_ring 81 = .ok (.goto (-56), 3) := dk_167 255 200 (dk_at dksX0_ring_3 9 rfl rfl)
theorem dX0_ring_84 : decode cX0_ring 84 = .ok (.iinc 2 1, 3) := dk_132 2 1 (dk_at dksX0_ring_3 12 rfl rfl)
theorem dX0_ring_87 : decode cX0_ring 87 = .ok (.goto (-76), 3) := dk_167 255 180 (dk_at dksX0_ring_3 15 rfl rfl)
theorem dX0_ring_90 : decode cX0_ring 90 = .ok (.iconst 1, 1) := dk_4 (dk_at dksX0_ring_3 18 rfl rfl)
theorem dX0_ring_91 : decode cX0_ring 91 = .ok (.istore_n 2, 1) := dk_61 (dk_at dksX0_ring_3 19 rfl rfl)
theorem dX0_ring_92 : decode cX0_ring 92 = .ok (.iload_n 2, 1) := dk_28 (dk_at dksX0_ring_3 20 rfl rfl)
theorem dX0_ring_93 : decode cX0_ring 93 = .ok (.aload_n 0, 1) := dk_42 (dk_at dksX0_ring_3 21 rfl rfl)
theorem dX0_ring_94 : decode cX0_ring 94 = .ok (.getfield 143, 3) := dk_180 0 143 (dk_at dksX0_ring_4 0 rfl rfl)
theorem dX0_ring_97 : decode cX0_ring 97 = .ok (.if_icmp .gt 40, 3) := dk_163 0 40 (dk_at dksX0_ring_4 3 rfl rfl)
theorem dX0_ring_100 : decode cX0_ring 100 = .ok (.iconst 0, 1) := dk_3 (dk_at dksX0_ring_4 6 rfl rfl)
theorem dX0_ring_101 : decode cX0_ring 101 = .ok (.istore_n 3, 1) := dk_62 (dk_at dksX0_ring_4 7 rfl rfl)
theorem dX0_ring_102 : decode cX0_ring 102 = .ok (.iload_n 3, 1) := dk_29 (dk_at dksX0_ring_4 8 rfl rfl)
theorem dX0_ring_103 : decode cX0_ring 103 = .ok (.aload_n 0, 1) := dk_42 (dk_at dksX0_ring_4 9 rfl rfl)
theorem dX0_ring_104 : decode cX0_ring 104 = .ok (.getfield 143, 3) := dk_180 0 143 (dk_at dksX0_ring_4 10 rfl rfl)
theorem dX0_ring_107 : decode cX0_ring 107 = .ok (.if_icmp .ge 24, 3) := dk_162 0 24 (dk_at dksX0_ring_4 13 rfl rfl)
theorem dX0_ring_110 : decode cX0_ring 110 = .ok (.aload_n 0, 1) := dk_42 (dk_at dksX0_ring_4 16 rfl rfl)
theorem dX0_ring_111 : decode cX0_ring 111 = .ok (.iload_n 3, 1) := dk_29 (dk_at dksX0_ring_4 17 rfl rfl)
theorem dX0_ring_112 : decode cX0_ring 112 = .ok (.iload_n 2, 1) := dk_28 (dk_at dksX0_ring_4 18 rfl rfl)
theorem dX0_ring_113 : decode cX0_ring 113 = .ok (.invokevirtual 420, 3) := dk_182 1 164 (dk_at dksX0_ring_4 19 rfl rfl)
theorem dX0_ring_116 : decode cX0_ring 116 = .ok (.iload_n 3, 1) := dk_29 (dk_at dksX0_ring_4 22 rfl rfl)
theorem dX0_ring_117 : decode cX0_ring 117 = .ok (.invokestatic 323, 3) := dk_184 1 67 (dk_at dksX0_ring_5 0 rfl rfl)
theorem dX0_ring_120 : decode cX0_ring 120 = .ok (.ifCond .eq 5, 3) := dk_153 0 5 (dk_at dksX0_ring_5 3 rfl rfl)
theorem dX0_ring_123 : decode cX0_ring 123 = .ok (.iload_n 2, 1) := dk_28 (dk_at dksX0_ring_5 6 rfl rfl)
theorem dX0_ring_124 : decode cX0_ring 124 = .ok (.ireturn, 1) := dk_172 (dk_at dksX0_ring_5 7 rfl rfl)
theorem dX0_ring_125 : decode cX0_ring 125 = .ok (.iinc 3 1, 3) := dk_132 3 1 (dk_at dksX0_ring_5 8 rfl rfl)
theorem dX0_ring_128 : decode cX0_ring 128 = .ok (.goto (-26), 3) := dk_167 255 230 (dk_at dksX0_ring_5 11 rfl rfl)
theorem dX0_ring_131 : decode cX0_ring 131 = .ok (.iinc 2 1, 3) := dk_132 2 1 (dk_at dksX0_ring_5 14 rfl rfl)
theorem dX0_ring_134 : decode cX0_ring 134 = .ok (.goto (-42), 3) := dk_167 255 214 (dk_at dksX0_ring_5 17 rfl rfl)
theorem dX0_ring_137 : decode cX0_ring 137 = .ok (.bipush (-2), 2) := dk_16 254 (dk_at dksX0_ring_5 20 rfl rfl)
theorem dX0_ring_139 : decode cX0_ring 139 = .ok (.ireturn, 1) := dk_172 (dk_at dksX0_ring_5 22 rfl rfl)
abbrev cX0_followed : ByteArray := prog_1_method_67_code
def yX0_followed : MethodName := ⟨RX0, "followed", "(II)I"⟩
def dkwX0_followed_2 : List UInt8 := [128, 54, 5, 132, 6, 1, 167, 255, 223, 21, 5, 62, 132, 4, 1, 167, 255, 202, 29, 172]
abbrev dktX0_followed_2 : List UInt8 := dkwX0_followed_2 ++ []
def dkwX0_followed_1 : List UInt8 := [180, 0, 143, 162, 0, 30, 29, 21, 6, 184, 1, 67, 153, 0, 15, 21, 5, 42, 180, 0, 83, 21, 6, 46]
abbrev dktX0_followed_1 : List UInt8 := dkwX0_followed_1 ++ dktX0_followed_2
def dkwX0_followed_0 : List UInt8 := [4, 27, 120, 62, 3, 54, 4, 21, 4, 28, 162, 0, 54, 3, 54, 5, 3, 54, 6, 21, 6, 42]
abbrev dktX0_followed_0 : List UInt8 := dkwX0_followed_0 ++ dktX0_followed_1
theorem dksX0_followed_0 : cX0_followed.data.toList.drop 0 = dktX0_followed_0 := by decide +kernel
theorem dksX0_followed_1 : cX0_followed.data.toList.drop 22 = dktX0_followed_1 := dk_seg dksX0_followed_0 22 rfl rfl
theorem dksX0_followed_2 : cX0_followed.data.toList.drop 46 = dktX0_followed_2 := dk_seg dksX0_followed_1 24 rfl rfl
theorem dX0_followed_0 : decode cX0_followed 0 = .ok (.iconst 1, 1) := dk_4 (dk_at dksX0_followed_0 0 rfl rfl)
theorem dX0_followed_1 : decode cX0_followed 1 = .ok (.iload_n 1, 1) := dk_27 (dk_at dksX0_followed_0 1 rfl rfl)
theorem dX0_followed_2 : decode cX0_followed 2 = .ok (.ishl, 1) := dk_120 (dk_at dksX0_followed_0 2 rfl rfl)
theorem dX0_followed_3 : decode cX0_followed 3 = .ok (.istore_n 3, 1) := dk_62 (dk_at dksX0_followed_0 3 rfl rfl)
theorem dX0_followed_4 : decode cX0_followed 4 = .ok (.iconst 0, 1) := dk_3 (dk_at dksX0_followed_0 4 rfl rfl)
theorem dX0_followed_5 : decode cX0_followed 5 = .ok (.istore 4, 2) := dk_54 4 (dk_at dksX0_followed_0 5 rfl rfl)
theorem dX0_followed_7 : decode cX0_followed 7 = .ok (.iload 4, 2) := dk_21 4 (dk_at dksX0_followed_0 7 rfl rfl)
theorem dX0_followed_9 : decode cX0_followed 9 = .ok (.iload_n 2, 1) := dk_28 (dk_at dksX0_followed_0 9 rfl rfl)
theorem dX0_followed_10 : decode cX0_followed 10 = .ok (.if_icmp .ge 54, 3) := dk_162 0 54 (dk_at dksX0_followed_0 10 rfl rfl)
theorem dX0_followed_13 : decode cX0_followed 13 = .ok (.iconst 0, 1) := dk_3 (dk_at dksX0_followed_0 13 rfl rfl)
theorem dX0_followed_14 : decode cX0_followed 14 = .ok (.istore 5, 2) := dk_54 5 (dk_at dksX0_followed_0 14 rfl rfl)
theorem dX0_followed_16 : decode cX0_followed 16 = .ok (.iconst 0, 1) := dk_3 (dk_at dksX0_followed_0 16 rfl rfl)
theorem dX0_followed_17 : decode cX0_followed 17 = .ok (.istore 6, 2) := dk_54 6 (dk_at dksX0_followed_0 17 rfl rfl)
theorem dX0_followed_19 : decode cX0_followed 19 = .ok (.iload 6, 2) := dk_21 6 (dk_at dksX0_followed_0 19 rfl rfl)
theorem dX0_followed_21 : decode cX0_followed 21 = .ok (.aload_n 0, 1) := dk_42 (dk_at dksX0_followed_0 21 rfl rfl)
theorem dX0_followed_22 : decode cX0_followed 22 = .ok (.getfield 143, 3) := dk_180 0 143 (dk_at dksX0_followed_1 0 rfl rfl)
theorem dX0_followed_25 : decode cX0_followed 25 = .ok (.if_icmp .ge 30, 3) := dk_162 0 30 (dk_at dksX0_followed_1 3 rfl rfl)
theorem dX0_followed_28 : decode cX0_followed 28 = .ok (.iload_n 3, 1) := dk_29 (dk_at dksX0_followed_1 6 rfl rfl)
theorem dX0_followed_29 : decode cX0_followed 29 = .ok (.iload 6, 2) := dk_21 6 (dk_at dksX0_followed_1 7 rfl rfl)
theorem dX0_followed_31 : decode cX0_followed 31 = .ok (.invokestatic 323, 3) := dk_184 1 67 (dk_at dksX0_followed_1 9 rfl rfl)
theorem dX0_followed_34 : decode cX0_followed 34 = .ok (.ifCond .eq 15, 3) := dk_153 0 15 (dk_at dksX0_followed_1 12 rfl rfl)
theorem dX0_followed_37 : decode cX0_followed 37 = .ok (.iload 5, 2) := dk_21 5 (dk_at dksX0_followed_1 15 rfl rfl)
theorem dX0_followed_39 : decode cX0_followed 39 = .ok (.aload_n 0, 1) := dk_42 (dk_at dksX0_followed_1 17 rfl rfl)
theorem dX0_followed_40 : decode cX0_followed 40 = .ok (.getfield 83, 3) := dk_180 0 83 (dk_at dksX0_followed_1 18 rfl rfl)
theorem dX0_followed_43 : decode cX0_followed 43 = .ok (.iload 6, 2) := dk_21 6 (dk_at dksX0_followed_1 21 rfl rfl)
theorem dX0_followed_45 : decode cX0_followed 45 = .ok (.iaload, 1) := dk_46 (dk_at dksX0_followed_1 23 rfl rfl)
theorem dX0_followed_46 : decode cX0_followed 46 = .ok (.ior, 1) := dk_128 (dk_at dksX0_followed_2 0 rfl rfl)
theorem dX0_followed_47 : decode cX0_followed 47 = .ok (.istore 5, 2) := dk_54 5 (dk_at dksX0_followed_2 1 rfl rfl)
theorem dX0_followed_49 : decode cX0_followed 49 = .ok (.iinc 6 1, 3) := dk_132 6 1 (dk_at dksX0_followed_2 3 rfl rfl)
theorem dX0_followed_52 : decode cX0_followed 52 = .ok (.goto (-33), 3) := dk_167 255 223 (dk_at dksX0_followed_2 6 rfl rfl)
theorem dX0_followed_55 : decode cX0_followed 55 = .ok (.iload 5, 2) := dk_21 5 (dk_at dksX0_followed_2 9 rfl rfl)
theorem dX0_followed_57 : decode cX0_followed 57 = .ok (.istore_n 3, 1) := dk_62 (dk_at dksX0_followed_2 11 rfl rfl)
theorem dX0_followed_58 : decode cX0_followed 58 = .ok (.iinc 4 1, 3) := dk_132 4 1 (dk_at dksX0_followed_2 12 rfl rfl)
theorem dX0_followed_61 : decode cX0_followed 61 = .ok (.goto (-54), 3) := dk_167 255 202 (dk_at dksX0_followed_2 15 rfl rfl)
theorem dX0_followed_64 : decode cX0_followed 64 = .ok (.iload_n 3, 1) := dk_29 (dk_at dksX0_followed_2 18 rfl rfl)
theorem dX0_followed_65 : decode cX0_followed 65 = .ok (.ireturn, 1) := dk_172 (dk_at dksX0_followed_2 19 rfl rfl)
abbrev cX0_breaks : ByteArray := prog_1_method_68_code
def yX0_breaks : MethodName := ⟨RX0, "breaks", "(II)I"⟩
def dkwX0_breaks_7 : List UInt8 := [16, 254, 167, 0, 18, 28, 154, 0, 12, 42, 21, 5, 182, 1, 143, 167, 0, 5, 21, 5, 172]
abbrev dktX0_breaks_7 : List UInt8 := dkwX0_breaks_7 ++ []
def dkwX0_breaks_6 : List UInt8 := [27, 182, 1, 158, 154, 0, 7, 21, 6, 54, 5, 132, 6, 1, 167, 255, 144, 21, 5, 2, 160, 0, 8]
abbrev dktX0_breaks_6 : List UInt8 := dkwX0_breaks_6 ++ dktX0_breaks_7
def dkwX0_breaks_5 : List UInt8 := [180, 0, 80, 27, 42, 180, 0, 50, 27, 50, 180, 0, 214, 180, 0, 3, 21, 6, 184, 1, 155, 100, 79, 42]
abbrev dktX0_breaks_5 : List UInt8 := dkwX0_breaks_5 ++ dktX0_breaks_6
def dkwX0_breaks_4 : List UInt8 := [182, 1, 143, 42, 21, 5, 182, 1, 143, 161, 0, 6, 167, 0, 47, 42, 29, 21, 6, 128, 181, 1, 59, 42]
abbrev dktX0_breaks_4 : List UInt8 := dkwX0_breaks_4 ++ dktX0_breaks_5
def dkwX0_breaks_3 : List UInt8 := [180, 0, 50, 27, 50, 180, 0, 214, 180, 0, 3, 163, 0, 71, 21, 5, 2, 159, 0, 21, 42, 21, 6]
abbrev dktX0_breaks_3 : List UInt8 := dkwX0_breaks_3 ++ dktX0_breaks_4
def dkwX0_breaks_2 : List UInt8 := [42, 180, 0, 146, 120, 162, 0, 107, 21, 6, 21, 4, 2, 130, 126, 154, 0, 91, 21, 6, 184, 1, 155, 42]
abbrev dktX0_breaks_2 : List UInt8 := dkwX0_breaks_2 ++ dktX0_breaks_3
def dkwX0_breaks_1 : List UInt8 := [182, 1, 103, 42, 180, 1, 59, 62, 42, 27, 182, 1, 152, 54, 4, 2, 54, 5, 3, 54, 6, 21, 6, 4]
abbrev dktX0_breaks_1 : List UInt8 := dkwX0_breaks_1 ++ dktX0_breaks_2
def dkwX0_breaks_0 : List UInt8 := [42, 27, 133, 182, 0, 160, 153, 0, 13, 28, 133, 9, 10, 184, 0, 121, 154, 0, 5, 2, 172, 42]
abbrev dktX0_breaks_0 : List UInt8 := dkwX0_breaks_0 ++ dktX0_breaks_1
theorem dksX0_breaks_0 : cX0_breaks.data.toList.drop 0 = dktX0_breaks_0 := by decide +kernel
theorem dksX0_breaks_1 : cX0_breaks.data.toList.drop 22 = dktX0_breaks_1 := dk_seg dksX0_breaks_0 22 rfl rfl
theorem dksX0_breaks_2 : cX0_breaks.data.toList.drop 46 = dktX0_breaks_2 := dk_seg dksX0_breaks_1 24 rfl rfl
theorem dksX0_breaks_3 : cX0_breaks.data.toList.drop 70 = dktX0_breaks_3 := dk_seg dksX0_breaks_2 24 rfl rfl
theorem dksX0_breaks_4 : cX0_breaks.data.toList.drop 93 = dktX0_breaks_4 := dk_seg dksX0_breaks_3 23 rfl rfl
theorem dksX0_breaks_5 : cX0_breaks.data.toList.drop 117 = dktX0_breaks_5 := dk_seg dksX0_breaks_4 24 rfl rfl
theorem dksX0_breaks_6 : cX0_breaks.data.toList.drop 141 = dktX0_breaks_6 := dk_seg dksX0_breaks_5 24 rfl rfl
theorem dksX0_breaks_7 : cX0_breaks.data.toList.drop 164 = dktX0_breaks_7 := dk_seg dksX0_breaks_6 23 rfl rfl
theorem dX0_breaks_0 : decode cX0_breaks 0 = .ok (.aload_n 0, 1) := dk_42 (dk_at dksX0_breaks_0 0 rfl rfl)
theorem dX0_breaks_1 : decode cX0_breaks 1 = .ok (.iload_n 1, 1) := dk_27 (dk_at dksX0_breaks_0 1 rfl rfl)
theorem dX0_breaks_2 : decode cX0_breaks 2 = .ok (.i2l, 1) := dk_133 (dk_at dksX0_breaks_0 2 rfl rfl)
theorem dX0_breaks_3 : decode cX0_breaks 3 = .ok (.invokevirtual 160, 3) := dk_182 0 160 (dk_at dksX0_breaks_0 3 rfl rfl)
theorem dX0_breaks_6 : decode cX0_breaks 6 = .ok (.ifCond .eq 13, 3) := dk_153 0 13 (dk_at dksX0_breaks_0 6 rfl rfl)
theorem dX0_breaks_9 : decode cX0_breaks 9 = .ok (.iload_n 2, 1) := dk_28 (dk_at dksX0_breaks_0 9 rfl rfl)
theorem dX0_breaks_10 : decode cX0_breaks 10 = .ok (.i2l, 1) := dk_133 (dk_at dksX0_breaks_0 10 rfl rfl)
theorem dX0_breaks_11 : decode cX0_breaks 11 = .ok (.lconst 0, 1) := dk_9 (dk_at dksX0_breaks_0 11 rfl rfl)
theorem dX0_breaks_12 : decode cX0_breaks 12 = .ok (.lconst 1, 1) := dk_10 (dk_at dksX0_breaks_0 12 rfl rfl)
theorem dX0_breaks_13 : decode cX0_breaks 13 = .ok (.invokestatic 121, 3) := dk_184 0 121 (dk_at dksX0_breaks_0 13 rfl rfl)
theorem dX0_breaks_16 : decode cX0_breaks 16 = .ok (.ifCond .ne 5, 3) := dk_154 0 5 (dk_at dksX0_breaks_0 16 rfl rfl)
theorem dX0_breaks_19 : decode cX0_breaks 19 = .ok (.iconst (-1), 1) := dk_2 (dk_at dksX0_breaks_0 19 rfl rfl)
theorem dX0_breaks_20 : decode cX0_breaks 20 = .ok (.ireturn, 1) := dk_172 (dk_at dksX0_breaks_0 20 rfl rfl)
theorem dX0_breaks_21 : decode cX0_breaks 21 = .ok (.aload_n 0, 1) := dk_42 (dk_at dksX0_breaks_0 21 rfl rfl)
theorem dX0_breaks_22 : decode cX0_breaks 22 = .ok (.invokevirtual 359, 3) := dk_182 1 103 (dk_at dksX0_breaks_1 0 rfl rfl)
theorem dX0_breaks_25 : decode cX0_breaks 25 = .ok (.aload_n 0, 1) := dk_42 (dk_at dksX0_breaks_1 3 rfl rfl)
theorem dX0_breaks_26 : decode cX0_breaks 26 = .ok (.getfield 315, 3) := dk_180 1 59 (dk_at dksX0_breaks_1 4 rfl rfl)
theorem dX0_breaks_29 : decode cX0_breaks 29 = .ok (.istore_n 3, 1) := dk_62 (dk_at dksX0_breaks_1 7 rfl rfl)
theorem dX0_breaks_30 : decode cX0_breaks 30 = .ok (.aload_n 0, 1) := dk_42 (dk_at dksX0_breaks_1 8 rfl rfl)
theorem dX0_breaks_31 : decode cX0_breaks 31 = .ok (.iload_n 1, 1) := dk_27 (dk_at dksX0_breaks_1 9 rfl rfl)
theorem dX0_breaks_32 : decode cX0_breaks 32 = .ok (.invokevirtual 408, 3) := dk_182 1 152 (dk_at dksX0_breaks_1 10 rfl rfl)
theorem dX0_breaks_35 : decode cX0_breaks 35 = .ok (.istore 4, 2) := dk_54 4 (dk_at dksX0_breaks_1 13 rfl rfl)
theorem dX0_breaks_37 : decode cX0_breaks 37 = .ok (.iconst (-1), 1) := dk_2 (dk_at dksX0_breaks_1 15 rfl rfl)
theorem dX0_breaks_38 : decode cX0_breaks 38 = .ok (.istore 5, 2) := dk_54 5 (dk_at dksX0_breaks_1 16 rfl rfl)
theorem dX0_breaks_40 : decode cX0_breaks 40 = .ok (.iconst 0, 1) := dk_3 (dk_at dksX0_breaks_1 18 rfl rfl)
theorem dX0_breaks_41 : decode cX0_breaks 41 = .ok (.istore 6, 2) := dk_54 6 (dk_at dksX0_breaks_1 19 rfl rfl)
theorem dX0_breaks_43 : decode cX0_breaks 43 = .ok (.iload 6, 2) := dk_21 6 (dk_at dksX0_breaks_1 21 rfl rfl)
theorem dX0_breaks_45 : decode cX0_breaks 45 = .ok (.iconst 1, 1) := dk_4 (dk_at dksX0_breaks_1 23 rfl rfl)
theorem dX0_breaks_46 : decode cX0_breaks 46 = .ok (.aload_n 0, 1) := dk_42 (dk_at dksX0_breaks_2 0 rfl rfl)
theorem dX0_breaks_47 : decode cX0_breaks 47 = .ok (.getfield 146, 3) := dk_180 0 146 (dk_at dksX0_breaks_2 1 rfl rfl)
theorem dX0_breaks_50 : decode cX0_breaks 50 = .ok (.ishl, 1) := dk_120 (dk_at dksX0_breaks_2 4 rfl rfl)
theorem dX0_breaks_51 : decode cX0_breaks 51 = .ok (.if_icmp .ge 107, 3) := dk_162 0 107 (dk_at dksX0_breaks_2 5 rfl rfl)
theorem dX0_breaks_54 : decode cX0_breaks 54 = .ok (.iload 6, 2) := dk_21 6 (dk_at dksX0_breaks_2 8 rfl rfl)
theorem dX0_breaks_56 : decode cX0_breaks 56 = .ok (.iload 4, 2) := dk_21 4 (dk_at dksX0_breaks_2 10 rfl rfl)
theorem dX0_breaks_58 : decode cX0_breaks 58 = .ok (.iconst (-1), 1) := dk_2 (dk_at dksX0_breaks_2 12 rfl rfl)
theorem dX0_breaks_59 : decode cX0_breaks 59 = .ok (.ixor, 1) := dk_130 (dk_at dksX0_breaks_2 13 rfl rfl)
theorem dX0_breaks_60 : decode cX0_breaks 60 = .ok (.iand, 1) := dk_126 (dk_at dksX0_breaks_2 14 rfl rfl)
theorem dX0_breaks_61 : decode cX0_breaks 61 = .ok (.ifCond .ne 91, 3) := dk_154 0 91 (dk_at dksX0_breaks_2 15 rfl rfl)
theorem dX0_breaks_64 : decode cX0_breaks 64 = .ok (.iload 6, 2) := dk_21 6 (dk_at dksX0_breaks_2 18 rfl rfl)
theorem dX0_breaks_66 : decode cX0_breaks 66 = .ok (.invokestatic 411, 3) := dk_184 1 155 (dk_at dksX0_breaks_2 20 rfl rfl)
theorem dX0_breaks_69 : decode cX0_breaks 69 = .ok (.aload_n 0, 1) := dk_42 (dk_at dksX0_breaks_2 23 rfl rfl)
theorem dX0_breaks_70 : decode cX0_breaks 70 = .ok (.getfield 50, 3) := dk_180 0 50 (dk_at dksX0_breaks_3 0 rfl rfl)
theorem dX0_breaks_73 : decode cX0_breaks 73 = .ok (.iload_n 1, 1) := dk_27 (dk_at dksX0_breaks_3 3 rfl rfl)
theorem dX0_breaks_74 : decode cX0_breaks 74 = .ok (.aaload, 1) := dk_50 (dk_at dksX0_breaks_3 4 rfl rfl)
theorem dX0_breaks_75 : decode cX0_breaks 75 = .ok (.getfield 214, 3) := dk_180 0 214 (dk_at dksX0_breaks_3 5 rfl rfl)
theorem dX0_breaks_78 : decode cX0_breaks 78 = .ok (.getfield 3, 3) := dk_180 0 3 (dk_at dksX0_breaks_3 8 rfl rfl)
theorem dX0_breaks_81 : decode cX0_breaks 81 = .ok (.if_icmp .gt 71, 3) := dk_163 0 71 (dk_at dksX0_breaks_3 11 rfl rfl)
theorem dX0_breaks_84 : decode cX0_breaks 84 = .ok (.iload 5, 2) := dk_21 5 (dk_at dksX0_breaks_3 14 rfl rfl)
theorem dX0_breaks_86 : decode cX0_breaks 86 = .ok (.iconst (-1), 1) := dk_2 (dk_at dksX0_breaks_3 16 rfl rfl)
theorem dX0_breaks_87 : decode cX0_breaks 87 = .ok (.if_icmp .eq 21, 3) := dk_159 0 21 (dk_at dksX0_breaks_3 17 rfl rfl)
theorem dX0_breaks_90 : decode cX0_breaks 90 = .ok (.aload_n 0, 1) := dk_42 (dk_at dksX0_breaks_3 20 rfl rfl)
theorem dX0_breaks_91 : decode cX0_breaks 91 = .ok (.iload 6, 2) := dk_21 6 (dk_at dksX0_breaks_3 21 rfl rfl)
theorem dX0_breaks_93 : decode cX0_breaks 93 = .ok (.invokevirtual 399, 3) := dk_182 1 143 (dk_at dksX0_breaks_4 0 rfl rfl)
theorem dX0_breaks_96 : decode cX0_breaks 96 = .ok (.aload_n 0, 1) := dk_42 (dk_at dksX0_breaks_4 3 rfl rfl)
theorem dX0_breaks_97 : decode cX0_breaks 97 = .ok (.iload 5, 2) := dk_21 5 (dk_at dksX0_breaks_4 4 rfl rfl)
theorem dX0_breaks_99 : decode cX0_breaks 99 = .ok (.invokevirtual 399, 3) := dk_182 1 143 (dk_at dksX0_breaks_4 6 rfl rfl)
theorem dX0_breaks_102 : decode cX0_breaks 102 = .ok (.if_icmp .lt 6, 3) := dk_161 0 6 (dk_at dksX0_breaks_4 9 rfl rfl)
theorem dX0_breaks_105 : decode cX0_breaks 105 = .ok (.goto 47, 3) := dk_167 0 47 (dk_at dksX0_breaks_4 12 rfl rfl)
theorem dX0_breaks_108 : decode cX0_breaks 108 = .ok (.aload_n 0, 1) := dk_42 (dk_at dksX0_breaks_4 15 rfl rfl)
theorem dX0_breaks_109 : decode cX0_breaks 109 = .ok (.iload_n 3, 1) := dk_29 (dk_at dksX0_breaks_4 16 rfl rfl)
theorem dX0_breaks_110 : decode cX0_breaks 110 = .ok (.iload 6, 2) := dk_21 6 (dk_at dksX0_breaks_4 17 rfl rfl)
theorem dX0_breaks_112 : decode cX0_breaks 112 = .ok (.ior, 1) := dk_128 (dk_at dksX0_breaks_4 19 rfl rfl)
theorem dX0_breaks_113 : decode cX0_breaks 113 = .ok (.putfield 315, 3) := dk_181 1 59 (dk_at dksX0_breaks_4 20 rfl rfl)
theorem dX0_breaks_116 : decode cX0_breaks 116 = .ok (.aload_n 0, 1) := dk_42 (dk_at dksX0_breaks_4 23 rfl rfl)
theorem dX0_breaks_117 : decode cX0_breaks 117 = .ok (.getfield 80, 3) := dk_180 0 80 (dk_at dksX0_breaks_5 0 rfl rfl)
theorem dX0_breaks_120 : decode cX0_breaks 120 = .ok (.iload_n 1, 1) := dk_27 (dk_at dksX0_breaks_5 3 rfl rfl)
theorem dX0_breaks_121 : decode cX0_breaks 121 = .ok (.aload_n 0, 1) := dk_42 (dk_at dksX0_breaks_5 4 rfl rfl)
theorem dX0_breaks_122 : decode cX0_breaks 122 = .ok (.getfield 50, 3) := dk_180 0 50 (dk_at dksX0_breaks_5 5 rfl rfl)
theorem dX0_breaks_125 : decode cX0_breaks 125 = .ok (.iload_n 1, 1) := dk_27 (dk_at dksX0_breaks_5 8 rfl rfl)
theorem dX0_breaks_126 : decode cX0_breaks 126 = .ok (.aaload, 1) := dk_50 (dk_at dksX0_breaks_5 9 rfl rfl)
theorem dX0_breaks_127 : decode cX0_breaks 127 = .ok (.getfield 214, 3) := dk_180 0 214 (dk_at dksX0_breaks_5 10 rfl rfl)
theorem dX0_breaks_130 : decode cX0_breaks 130 = .ok (.getfield 3, 3) := dk_180 0 3 (dk_at dksX0_breaks_5 13 rfl rfl)
theorem dX0_breaks_133 : decode cX0_breaks 133 = .ok (.iload 6, 2) := dk_21 6 (dk_at dksX0_breaks_5 16 rfl rfl)
theorem dX0_breaks_135 : decode cX0_breaks 135 = .ok (.invokestatic 411, 3) := dk_184 1 155 (dk_at dksX0_breaks_5 18 rfl rfl)
theorem dX0_breaks_138 : decode cX0_breaks 138 = .ok (.isub, 1) := dk_100 (dk_at dksX0_breaks_5 21 rfl rfl)
theorem dX0_breaks_139 : decode cX0_breaks 139 = .ok (.iastore, 1) := dk_79 (dk_at dksX0_breaks_5 22 rfl rfl)
theorem dX0_breaks_140 : decode cX0_breaks 140 = .ok (.aload_n 0, 1) := dk_42 (dk_at dksX0_breaks_5 23 rfl rfl)
theorem dX0_breaks_141 : decode cX0_breaks 141 = .ok (.iload_n 1, 1) := dk_27 (dk_at dksX0_breaks_6 0 rfl rfl)
theorem dX0_breaks_142 : decode cX0_breaks 142 = .ok (.invokevirtual 414, 3) := dk_182 1 158 (dk_at dksX0_breaks_6 1 rfl rfl)
theorem dX0_breaks_145 : decode cX0_breaks 145 = .ok (.ifCond .ne 7, 3) := dk_154 0 7 (dk_at dksX0_breaks_6 4 rfl rfl)
theorem dX0_breaks_148 : decode cX0_breaks 148 = .ok (.iload 6, 2) := dk_21 6 (dk_at dksX0_breaks_6 7 rfl rfl)
theorem dX0_breaks_150 : decode cX0_breaks 150 = .ok (.istore 5, 2) := dk_54 5 (dk_at dksX0_breaks_6 9 rfl rfl)
theorem dX0_breaks_152 : decode cX0_breaks 152 = .ok (.iinc 6 1, 3) := dk_132 6 1 (dk_at dksX0_breaks_6 11 rfl rfl)
theorem dX0_breaks_155 : decode cX0_breaks 155 = .ok (.goto (-112), 3) := dk_167 255 144 (dk_at dksX0_breaks_6 14 rfl rfl)
theorem dX0_breaks_158 : decode cX0_breaks 158 = .ok (.iload 5, 2) := dk_21 5 (dk_at dksX0_breaks_6 17 rfl rfl)
theorem dX0_breaks_160 : decode cX0_breaks 160 = .ok (.iconst (-1), 1) := dk_2 (dk_at dksX0_breaks_6 19 rfl rfl)
theorem dX0_breaks_161 : decode cX0_breaks 161 = .ok (.if_icmp .ne 8, 3) := dk_160 0 8 (dk_at dksX0_breaks_6 20 rfl rfl)
theorem dX0_breaks_164 : decode cX0_breaks 164 = .ok (.bipush (-2), 2) := dk_16 254 (dk_at dksX0_breaks_7 0 rfl rfl)
theorem dX0_breaks_166 : decode cX0_breaks 166 = .ok (.goto 18, 3) := dk_167 0 18 (dk_at dksX0_breaks_7 2 rfl rfl)
theorem dX0_breaks_169 : decode cX0_breaks 169 = .ok (.iload_n 2, 1) := dk_28 (dk_at dksX0_breaks_7 5 rfl rfl)
theorem dX0_breaks_170 : decode cX0_breaks 170 = .ok (.ifCond .ne 12, 3) := dk_154 0 12 (dk_at dksX0_breaks_7 6 rfl rfl)
theorem dX0_breaks_173 : decode cX0_breaks 173 = .ok (.aload_n 0, 1) := dk_42 (dk_at dksX0_breaks_7 9 rfl rfl)
theorem dX0_breaks_174 : decode cX0_breaks 174 = .ok (.iload 5, 2) := dk_21 5 (dk_at dksX0_breaks_7 10 rfl rfl)
theorem dX0_breaks_176 : decode cX0_breaks 176 = .ok (.invokevirtual 399, 3) := dk_182 1 143 (dk_at dksX0_breaks_7 12 rfl rfl)
theorem dX0_breaks_179 : decode cX0_breaks 179 = .ok (.goto 5, 3) := dk_167 0 5 (dk_at dksX0_breaks_7 15 rfl rfl)
theorem dX0_breaks_182 : decode cX0_breaks 182 = .ok (.iload 5, 2) := dk_21 5 (dk_at dksX0_breaks_7 18 rfl rfl)
theorem dX0_breaks_184 : decode cX0_breaks 184 = .ok (.ireturn, 1) := dk_172 (dk_at dksX0_breaks_7 20 rfl rfl)
abbrev cX0_judge : ByteArray := prog_1_method_70_code
def yX0_judge : MethodName := ⟨RX0, "judge", "(II)I"⟩
def dkwX0_judge_6 : List UInt8 := [132, 6, 1, 167, 255, 190, 16, 254, 172]
abbrev dktX0_judge_6 : List UInt8 := dkwX0_judge_6 ++ []
def dkwX0_judge_5 : List UInt8 := [159, 0, 6, 21, 6, 172, 21, 6, 21, 5, 162, 0, 12, 42, 28, 45, 21, 6, 51, 182, 1, 139]
abbrev dktX0_judge_5 : List UInt8 := dkwX0_judge_5 ++ dktX0_judge_6
def dkwX0_judge_4 : List UInt8 := [21, 5, 163, 0, 25, 25, 4, 21, 6, 51, 16, 99, 159, 0, 18, 25, 4, 21, 6, 51, 42, 180, 1, 106]
abbrev dktX0_judge_4 : List UInt8 := dkwX0_judge_4 ++ dktX0_judge_5
def dkwX0_judge_3 : List UInt8 := [182, 1, 136, 3, 54, 6, 21, 6, 16, 30, 163, 0, 65, 21, 6, 25, 4, 190, 162, 0, 57, 21, 6]
abbrev dktX0_judge_3 : List UInt8 := dkwX0_judge_3 ++ dktX0_judge_4
def dkwX0_judge_2 : List UInt8 := [78, 42, 180, 0, 113, 27, 16, 10, 112, 50, 192, 0, 182, 58, 4, 42, 45, 182, 1, 132, 54, 5, 42, 28]
abbrev dktX0_judge_2 : List UInt8 := dkwX0_judge_2 ++ dktX0_judge_3
def dkwX0_judge_1 : List UInt8 := [182, 1, 167, 156, 0, 9, 42, 27, 182, 1, 167, 172, 42, 180, 0, 113, 27, 16, 10, 108, 50, 192, 0, 182]
abbrev dktX0_judge_1 : List UInt8 := dkwX0_judge_1 ++ dktX0_judge_2
def dkwX0_judge_0 : List UInt8 := [42, 27, 182, 1, 167, 2, 159, 0, 12, 42, 28, 133, 182, 0, 160, 154, 0, 5, 2, 172, 42, 27]
abbrev dktX0_judge_0 : List UInt8 := dkwX0_judge_0 ++ dktX0_judge_1
theorem dksX0_judge_0 : cX0_judge.data.toList.drop 0 = dktX0_judge_0 := by decide +kernel
theorem dksX0_judge_1 : cX0_judge.data.toList.drop 22 = dktX0_judge_1 := dk_seg dksX0_judge_0 22 rfl rfl
theorem dksX0_judge_2 : cX0_judge.data.toList.drop 46 = dktX0_judge_2 := dk_seg dksX0_judge_1 24 rfl rfl
theorem dksX0_judge_3 : cX0_judge.data.toList.drop 70 = dktX0_judge_3 := dk_seg dksX0_judge_2 24 rfl rfl
theorem dksX0_judge_4 : cX0_judge.data.toList.drop 93 = dktX0_judge_4 := dk_seg dksX0_judge_3 23 rfl rfl
theorem dksX0_judge_5 : cX0_judge.data.toList.drop 117 = dktX0_judge_5 := dk_seg dksX0_judge_4 24 rfl rfl
theorem dksX0_judge_6 : cX0_judge.data.toList.drop 139 = dktX0_judge_6 := dk_seg dksX0_judge_5 22 rfl rfl
theorem dX0_judge_0 : decode cX0_judge 0 = .ok (.aload_n 0, 1) := dk_42 (dk_at dksX0_judge_0 0 rfl rfl)
theorem dX0_judge_1 : decode cX0_judge 1 = .ok (.iload_n 1, 1) := dk_27 (dk_at dksX0_judge_0 1 rfl rfl)
theorem dX0_judge_2 : decode cX0_judge 2 = .ok (.invokevirtual 423, 3) := dk_182 1 167 (dk_at dksX0_judge_0 2 rfl rfl)
theorem dX0_judge_5 : decode cX0_judge 5 = .ok (.iconst (-1), 1) := dk_2 (dk_at dksX0_judge_0 5 rfl rfl)
theorem dX0_judge_6 : decode cX0_judge 6 = .ok (.if_icmp .eq 12, 3) := dk_159 0 12 (dk_at dksX0_judge_0 6 rfl rfl)
theorem dX0_judge_9 : decode cX0_judge 9 = .ok (.aload_n 0, 1) := dk_42 (dk_at dksX0_judge_0 9 rfl rfl)
theorem dX0_judge_10 : decode cX0_judge 10 = .ok (.iload_n 2, 1) := dk_28 (dk_at dksX0_judge_0 10 rfl rfl)
theorem dX0_judge_11 : decode cX0_judge 11 = .ok (.i2l, 1) := dk_133 (dk_at dksX0_judge_0 11 rfl rfl)
theorem dX0_judge_12 : decode cX0_judge 12 = .ok (.invokevirtual 160, 3) := dk_182 0 160 (dk_at dksX0_judge_0 12 rfl rfl)
theorem dX0_judge_15 : decode cX0_judge 15 = .ok (.ifCond .ne 5, 3) := dk_154 0 5 (dk_at dksX0_judge_0 15 rfl rfl)
theorem dX0_judge_18 : decode cX0_judge 18 = .ok (.iconst (-1), 1) := dk_2 (dk_at dksX0_judge_0 18 rfl rfl)
theorem dX0_judge_19 : decode cX0_judge 19 = .ok (.ireturn, 1) := dk_172 (dk_at dksX0_judge_0 19 rfl rfl)
theorem dX0_judge_20 : decode cX0_judge 20 = .ok (.aload_n 0, 1) := dk_42 (dk_at dksX0_judge_0 20 rfl rfl)
theorem dX0_judge_21 : decode cX0_judge 21 = .ok (.iload_n 1, 1) := dk_27 (dk_at dksX0_judge_0 21 rfl rfl)
theorem dX0_judge_22 : decode cX0_judge 22 = .ok (.invokevirtual 423, 3) := dk_182 1 167 (dk_at dksX0_judge_1 0 rfl rfl)
theorem dX0_judge_25 : decode cX0_judge 25 = .ok (.ifCond .ge 9, 3) := dk_156 0 9 (dk_at dksX0_judge_1 3 rfl rfl)
theorem dX0_judge_28 : decode cX0_judge 28 = .ok (.aload_n 0, 1) := dk_42 (dk_at dksX0_judge_1 6 rfl rfl)
theorem dX0_judge_29 : decode cX0_judge 29 = .ok (.iload_n 1, 1) := dk_27 (dk_at dksX0_judge_1 7 rfl rfl)
theorem dX0_judge_30 : decode cX0_judge 30 = .ok (.invokevirtual 423, 3) := dk_182 1 167 (dk_at dksX0_judge_1 8 rfl rfl)
theorem dX0_judge_33 : decode cX0_judge 33 = .ok (.ireturn, 1) := dk_172 (dk_at dksX0_judge_1 11 rfl rfl)
theorem dX0_judge_34 : decode cX0_judge 34 = .ok (.aload_n 0, 1) := dk_42 (dk_at dksX0_judge_1 12 rfl rfl)
theorem dX0_judge_35 : decode cX0_judge 35 = .ok (.getfield 113, 3) := dk_180 0 113 (dk_at dksX0_judge_1 13 rfl rfl)
theorem dX0_judge_38 : decode cX0_judge 38 = .ok (.iload_n 1, 1) := dk_27 (dk_at dksX0_judge_1 16 rfl rfl)
theorem dX0_judge_39 : decode cX0_judge 39 = .ok (.bipush 10, 2) := dk_16 10 (dk_at dksX0_judge_1 17 rfl rfl)
theorem dX0_judge_41 : decode cX0_judge 41 = .ok (.idiv, 1) := dk_108 (dk_at dksX0_judge_1 19 rfl rfl)
theorem dX0_judge_42 : decode cX0_judge 42 = .ok (.aaload, 1) := dk_50 (dk_at dksX0_judge_1 20 rfl rfl)
theorem dX0_judge_43 : decode cX0_judge 43 = .ok (.checkcast 182, 3) := dk_192 0 182 (dk_at dksX0_judge_1 21 rfl rfl)
theorem dX0_judge_46 : decode cX0_judge 46 = .ok (.astore_n 3, 1) := dk_78 (dk_at dksX0_judge_2 0 rfl rfl)
theorem dX0_judge_47 : decode cX0_judge 47 = .ok (.aload_n 0, 1) := dk_42 (dk_at dksX0_judge_2 1 rfl rfl)
theorem dX0_judge_48 : decode cX0_judge 48 = .ok (.getfield 113, 3) := dk_180 0 113 (dk_at dksX0_judge_2 2 rfl rfl)
theorem dX0_judge_51 : decode cX0_judge 51 = .ok (.iload_n 1, 1) := dk_27 (dk_at dksX0_judge_2 5 rfl rfl)
theorem dX0_judge_52 : decode cX0_judge 52 = .ok (.bipush 10, 2) := dk_16 10 (dk_at dksX0_judge_2 6 rfl rfl)
theorem dX0_judge_54 : decode cX0_judge 54 = .ok (.irem, 1) := dk_112 (dk_at dksX0_judge_2 8 rfl rfl)
theorem dX0_judge_55 : decode cX0_judge 55 = .ok (.aaload, 1) := dk_50 (dk_at dksX0_judge_2 9 rfl rfl)
theorem dX0_judge_56 : decode cX0_judge 56 = .ok (.checkcast 182, 3) := dk_192 0 182 (dk_at dksX0_judge_2 10 rfl rfl)
theorem dX0_judge_59 : decode cX0_judge 59 = .ok (.astore 4, 2) := dk_58 4 (dk_at dksX0_judge_2 13 rfl rfl)
theorem dX0_judge_61 : decode cX0_judge 61 = .ok (.aload_n 0, 1) := dk_42 (dk_at dksX0_judge_2 15 rfl rfl)
theorem dX0_judge_62 : decode cX0_judge 62 = .ok (.aload_n 3, 1) := dk_45 (dk_at dksX0_judge_2 16 rfl rfl)
theorem dX0_judge_63 : decode cX0_judge 63 = .ok (.invokevirtual 388, 3) := dk_182 1 132 (dk_at dksX0_judge_2 17 rfl rfl)
theorem dX0_judge_66 : decode cX0_judge 66 = .ok (.istore 5, 2) := dk_54 5 (dk_at dksX0_judge_2 20 rfl rfl)
theorem dX0_judge_68 : decode cX0_judge 68 = .ok (.aload_n 0, 1) := dk_42 (dk_at dksX0_judge_2 22 rfl rfl)
theorem dX0_judge_69 : decode cX0_judge 69 = .ok (.iload_n 2, 1) := dk_28 (dk_at dksX0_judge_2 23 rfl rfl)
theorem dX0_judge_70 : decode cX0_judge 70 = .ok (.invokevirtual 392, 3) := dk_182 1 136 (dk_at dksX0_judge_3 0 rfl rfl)
theorem dX0_judge_73 : decode cX0_judge 73 = .ok (.iconst 0, 1) := dk_3 (dk_at dksX0_judge_3 3 rfl rfl)
theorem dX0_judge_74 : decode cX0_judge 74 = .ok (.istore 6, 2) := dk_54 6 (dk_at dksX0_judge_3 4 rfl rfl)
theorem dX0_judge_76 : decode cX0_judge 76 = .ok (.iload 6, 2) := dk_21 6 (dk_at dksX0_judge_3 6 rfl rfl)
theorem dX0_judge_78 : decode cX0_judge 78 = .ok (.bipush 30, 2) := dk_16 30 (dk_at dksX0_judge_3 8 rfl rfl)
theorem dX0_judge_80 : decode cX0_judge 80 = .ok (.if_icmp .gt 65, 3) := dk_163 0 65 (dk_at dksX0_judge_3 10 rfl rfl)
theorem dX0_judge_83 : decode cX0_judge 83 = .ok (.iload 6, 2) := dk_21 6 (dk_at dksX0_judge_3 13 rfl rfl)
theorem dX0_judge_85 : decode cX0_judge 85 = .ok (.aload 4, 2) := dk_25 4 (dk_at dksX0_judge_3 15 rfl rfl)
theorem dX0_judge_87 : decode cX0_judge 87 = .ok (.arraylength, 1) := dk_190 (dk_at dksX0_judge_3 17 rfl rfl)
theorem dX0_judge_88 : decode cX0_judge 88 = .ok (.if_icmp .ge 57, 3) := dk_162 0 57 (dk_at dksX0_judge_3 18 rfl rfl)
theorem dX0_judge_91 : decode cX0_judge 91 = .ok (.iload 6, 2) := dk_21 6 (dk_at dksX0_judge_3 21 rfl rfl)
theorem dX0_judge_93 : decode cX0_judge 93 = .ok (.iload 5, 2) := dk_21 5 (dk_at dksX0_judge_4 0 rfl rfl)
theorem dX0_judge_95 : decode cX0_judge 95 = .ok (.if_icmp .gt 25, 3) := dk_163 0 25 (dk_at dksX0_judge_4 2 rfl rfl)
theorem dX0_judge_98 : decode cX0_judge 98 = .ok (.aload 4, 2) := dk_25 4 (dk_at dksX0_judge_4 5 rfl rfl)
theorem dX0_judge_100 : decode cX0_judge 100 = .ok (.iload 6, 2) := dk_21 6 (dk_at dksX0_judge_4 7 rfl rfl)
theorem dX0_judge_102 : decode cX0_judge 102 = .ok (.baload, 1) := dk_51 (dk_at dksX0_judge_4 9 rfl rfl)
theorem dX0_judge_103 : decode cX0_judge 103 = .ok (.bipush 99, 2) := dk_16 99 (dk_at dksX0_judge_4 10 rfl rfl)
theorem dX0_judge_105 : decode cX0_judge 105 = .ok (.if_icmp .eq 18, 3) := dk_159 0 18 (dk_at dksX0_judge_4 12 rfl rfl)
theorem dX0_judge_108 : decode cX0_judge 108 = .ok (.aload 4, 2) := dk_25 4 (dk_at dksX0_judge_4 15 rfl rfl)
theorem dX0_judge_110 : decode cX0_judge 110 = .ok (.iload 6, 2) := dk_21 6 (dk_at dksX0_judge_4 17 rfl rfl)
theorem dX0_judge_112 : decode cX0_judge 112 = .ok (.baload, 1) := dk_51 (dk_at dksX0_judge_4 19 rfl rfl)
theorem dX0_judge_113 : decode cX0_judge 113 = .ok (.aload_n 0, 1) := dk_42 (dk_at dksX0_judge_4 20 rfl rfl)
theorem dX0_judge_114 : decode cX0_judge 114 = .ok (.getfield 362, 3) := dk_180 1 106 (dk_at dksX0_judge_4 21 rfl rfl)
theorem dX0_judge_117 : decode cX0_judge 117 = .ok (.if_icmp .eq 6, 3) := dk_159 0 6 (dk_at dksX0_judge_5 0 rfl rfl)
theorem dX0_judge_120 : decode cX0_judge 120 = .ok (.iload 6, 2) := dk_21 6 (dk_at dksX0_judge_5 3 rfl rfl)
theorem dX0_judge_122 : decode cX0_judge 122 = .ok (.ireturn, 1) := dk_172 (dk_at dksX0_judge_5 5 rfl rfl)
theorem dX0_judge_123 : decode cX0_judge 123 = .ok (.iload 6, 2) := dk_21 6 (dk_at dksX0_judge_5 6 rfl rfl)
theorem dX0_judge_125 : decode cX0_judge 125 = .ok (.iload 5, 2) := dk_21 5 (dk_at dksX0_judge_5 8 rfl rfl)
theorem dX0_judge_127 : decode cX0_judge 127 = .ok (.if_icmp .ge 12, 3) := dk_162 0 12 (dk_at dksX0_judge_5 10 rfl rfl)
theorem dX0_judge_130 : decode cX0_judge 130 = .ok (.aload_n 0, 1) := dk_42 (dk_at dksX0_judge_5 13 rfl rfl)
theorem dX0_judge_131 : decode cX0_judge 131 = .ok (.iload_n 2, 1) := dk_28 (dk_at dksX0_judge_5 14 rfl rfl)
theorem dX0_judge_132 : decode cX0_judge 132 = .ok (.aload_n 3, 1) := dk_45 (dk_at dksX0_judge_5 15 rfl rfl)
theorem dX0_judge_133 : decode cX0_judge 133 = .ok (.iload 6, 2) := dk_21 6 (dk_at dksX0_judge_5 16 rfl rfl)
theorem dX0_judge_135 : decode cX0_judge 135 = .ok (.baload, 1) := dk_51 (dk_at dksX0_judge_5 18 rfl rfl)
theorem dX0_judge_136 : decode cX0_judge 136 = .ok (.invokevirtual 395, 3) := dk_182 1 139 (dk_at dksX0_judge_5 19 rfl rfl)
theorem dX0_judge_139 : decode cX0_judge 139 = .ok (.iinc 6 1, 3) := dk_132 6 1 (dk_at dksX0_judge_6 0 rfl rfl)
theorem dX0_judge_142 : decode cX0_judge 142 = .ok (.goto (-66), 3) := dk_167 255 190 (dk_at dksX0_judge_6 3 rfl rfl)
theorem dX0_judge_145 : decode cX0_judge 145 = .ok (.bipush (-2), 2) := dk_16 254 (dk_at dksX0_judge_6 6 rfl rfl)
theorem dX0_judge_147 : decode cX0_judge 147 = .ok (.ireturn, 1) := dk_172 (dk_at dksX0_judge_6 8 rfl rfl)
abbrev cX0_lookAtBoth : ByteArray := prog_1_method_69_code
def yX0_lookAtBoth : MethodName := ⟨RX0, "lookAtBoth", "(I)I"⟩
def dkwX0_lookAtBoth_2 : List UInt8 := [42, 27, 16, 10, 112, 182, 1, 129, 172]
abbrev dktX0_lookAtBoth_2 : List UInt8 := dkwX0_lookAtBoth_2 ++ []
def dkwX0_lookAtBoth_1 : List UInt8 := [2, 172, 42, 27, 16, 10, 108, 182, 1, 129, 156, 0, 14, 42, 27, 16, 10, 108, 182, 1, 129, 167, 0, 11]
abbrev dktX0_lookAtBoth_1 : List UInt8 := dkwX0_lookAtBoth_1 ++ dktX0_lookAtBoth_2
def dkwX0_lookAtBoth_0 : List UInt8 := [27, 155, 0, 23, 27, 16, 10, 108, 184, 0, 184, 153, 0, 13, 27, 16, 10, 112, 184, 0, 184, 154, 0, 5]
abbrev dktX0_lookAtBoth_0 : List UInt8 := dkwX0_lookAtBoth_0 ++ dktX0_lookAtBoth_1
theorem dksX0_lookAtBoth_0 : cX0_lookAtBoth.data.toList.drop 0 = dktX0_lookAtBoth_0 := by decide +kernel
theorem dksX0_lookAtBoth_1 : cX0_lookAtBoth.data.toList.drop 24 = dktX0_lookAtBoth_1 := dk_seg dksX0_lookAtBoth_0 24 rfl rfl
theorem dksX0_lookAtBoth_2 : cX0_lookAtBoth.data.toList.drop 48 = dktX0_lookAtBoth_2 := dk_seg dksX0_lookAtBoth_1 24 rfl rfl
theorem dX0_lookAtBoth_0 : decode cX0_lookAtBoth 0 = .ok (.iload_n 1, 1) := dk_27 (dk_at dksX0_lookAtBoth_0 0 rfl rfl)
theorem dX0_lookAtBoth_1 : decode cX0_lookAtBoth 1 = .ok (.ifCond .lt 23, 3) := dk_155 0 23 (dk_at dksX0_lookAtBoth_0 1 rfl rfl)
theorem dX0_lookAtBoth_4 : decode cX0_lookAtBoth 4 = .ok (.iload_n 1, 1) := dk_27 (dk_at dksX0_lookAtBoth_0 4 rfl rfl)
theorem dX0_lookAtBoth_5 : decode cX0_lookAtBoth 5 = .ok (.bipush 10, 2) := dk_16 10 (dk_at dksX0_lookAtBoth_0 5 rfl rfl)
theorem dX0_lookAtBoth_7 : decode cX0_lookAtBoth 7 = .ok (.idiv, 1) := dk_108 (dk_at dksX0_lookAtBoth_0 7 rfl rfl)
theorem dX0_lookAtBoth_8 : decode cX0_lookAtBoth 8 = .ok (.invokestatic 184, 3) := dk_184 0 184 (dk_at dksX0_lookAtBoth_0 8 rfl rfl)
theorem dX0_lookAtBoth_11 : decode cX0_lookAtBoth 11 = .ok (.ifCond .eq 13, 3) := dk_153 0 13 (dk_at dksX0_lookAtBoth_0 11 rfl rfl)
theorem dX0_lookAtBoth_14 : decode cX0_lookAtBoth 14 = .ok (.iload_n 1, 1) := dk_27 (dk_at dksX0_lookAtBoth_0 14 rfl rfl)
theorem dX0_lookAtBoth_15 : decode cX0_lookAtBoth 15 = .ok (.bipush 10, 2) := dk_16 10 (dk_at dksX0_lookAtBoth_0 15 rfl rfl)
theorem dX0_lookAtBoth_17 : decode cX0_lookAtBoth 17 = .ok (.irem, 1) := dk_112 (dk_at dksX0_lookAtBoth_0 17 rfl rfl)
theorem dX0_lookAtBoth_18 : decode cX0_lookAtBoth 18 = .ok (.invokestatic 184, 3) := dk_184 0 184 (dk_at dksX0_lookAtBoth_0 18 rfl rfl)
theorem dX0_lookAtBoth_21 : decode cX0_lookAtBoth 21 = .ok (.ifCond .ne 5, 3) := dk_154 0 5 (dk_at dksX0_lookAtBoth_0 21 rfl rfl)
theorem dX0_lookAtBoth_24 : decode cX0_lookAtBoth 24 = .ok (.iconst (-1), 1) := dk_2 (dk_at dksX0_lookAtBoth_1 0 rfl rfl)
theorem dX0_lookAtBoth_25 : decode cX0_lookAtBoth 25 = .ok (.ireturn, 1) := dk_172 (dk_at dksX0_lookAtBoth_1 1 rfl rfl)
theorem dX0_lookAtBoth_26 : decode cX0_lookAtBoth 26 = .ok (.aload_n 0, 1) := dk_42 (dk_at dksX0_lookAtBoth_1 2 rfl rfl)
theorem dX0_lookAtBoth_27 : decode cX0_lookAtBoth 27 = .ok (.iload_n 1, 1) := dk_27 (dk_at dksX0_lookAtBoth_1 3 rfl rfl)
theorem dX0_lookAtBoth_28 : decode cX0_lookAtBoth 28 = .ok (.bipush 10, 2) := dk_16 10 (dk_at dksX0_lookAtBoth_1 4 rfl rfl)
theorem dX0_lookAtBoth_30 : decode cX0_lookAtBoth 30 = .ok (.idiv, 1) := dk_108 (dk_at dksX0_lookAtBoth_1 6 rfl rfl)
theorem dX0_lookAtBoth_31 : decode cX0_lookAtBoth 31 = .ok (.invokevirtual 385, 3) := dk_182 1 129 (dk_at dksX0_lookAtBoth_1 7 rfl rfl)
theorem dX0_lookAtBoth_34 : decode cX0_lookAtBoth 34 = .ok (.ifCond .ge 14, 3) := dk_156 0 14 (dk_at dksX0_lookAtBoth_1 10 rfl rfl)
theorem dX0_lookAtBoth_37 : decode cX0_lookAtBoth 37 = .ok (.aload_n 0, 1) := dk_42 (dk_at dksX0_lookAtBoth_1 13 rfl rfl)
theorem dX0_lookAtBoth_38 : decode cX0_lookAtBoth 38 = .ok (.iload_n 1, 1) := dk_27 (dk_at dksX0_lookAtBoth_1 14 rfl rfl)
theorem dX0_lookAtBoth_39 : decode cX0_lookAtBoth 39 = .ok (.bipush 10, 2) := dk_16 10 (dk_at dksX0_lookAtBoth_1 15 rfl rfl)
theorem dX0_lookAtBoth_41 : decode cX0_lookAtBoth 41 = .ok (.idiv, 1) := dk_108 (dk_at dksX0_lookAtBoth_1 17 rfl rfl)
theorem dX0_lookAtBoth_42 : decode cX0_lookAtBoth 42 = .ok (.invokevirtual 385, 3) := dk_182 1 129 (dk_at dksX0_lookAtBoth_1 18 rfl rfl)
theorem dX0_lookAtBoth_45 : decode cX0_lookAtBoth 45 = .ok (.goto 11, 3) := dk_167 0 11 (dk_at dksX0_lookAtBoth_1 21 rfl rfl)
theorem dX0_lookAtBoth_48 : decode cX0_lookAtBoth 48 = .ok (.aload_n 0, 1) := dk_42 (dk_at dksX0_lookAtBoth_2 0 rfl rfl)
theorem dX0_lookAtBoth_49 : decode cX0_lookAtBoth 49 = .ok (.iload_n 1, 1) := dk_27 (dk_at dksX0_lookAtBoth_2 1 rfl rfl)
theorem dX0_lookAtBoth_50 : decode cX0_lookAtBoth 50 = .ok (.bipush 10, 2) := dk_16 10 (dk_at dksX0_lookAtBoth_2 2 rfl rfl)
theorem dX0_lookAtBoth_52 : decode cX0_lookAtBoth 52 = .ok (.irem, 1) := dk_112 (dk_at dksX0_lookAtBoth_2 4 rfl rfl)
theorem dX0_lookAtBoth_53 : decode cX0_lookAtBoth 53 = .ok (.invokevirtual 385, 3) := dk_182 1 129 (dk_at dksX0_lookAtBoth_2 5 rfl rfl)
theorem dX0_lookAtBoth_56 : decode cX0_lookAtBoth 56 = .ok (.ireturn, 1) := dk_172 (dk_at dksX0_lookAtBoth_2 8 rfl rfl)
abbrev cX0_can : ByteArray := prog_1_method_72_code
def yX0_can : MethodName := ⟨RX0, "can", "(II)I"⟩
def dkwX0_can_2 : List UInt8 := [182, 1, 170, 184, 1, 79, 172]
abbrev dktX0_can_2 : List UInt8 := dkwX0_can_2 ++ []
def dkwX0_can_1 : List UInt8 := [156, 0, 9, 42, 27, 182, 1, 129, 172, 42, 182, 1, 103, 42, 42, 180, 0, 113, 27, 50, 192, 0, 182, 28]
abbrev dktX0_can_1 : List UInt8 := dkwX0_can_1 ++ dktX0_can_2
def dkwX0_can_0 : List UInt8 := [27, 184, 0, 184, 153, 0, 12, 42, 28, 133, 182, 0, 160, 154, 0, 5, 2, 172, 42, 27, 182, 1, 129]
abbrev dktX0_can_0 : List UInt8 := dkwX0_can_0 ++ dktX0_can_1
theorem dksX0_can_0 : cX0_can.data.toList.drop 0 = dktX0_can_0 := by decide +kernel
theorem dksX0_can_1 : cX0_can.data.toList.drop 23 = dktX0_can_1 := dk_seg dksX0_can_0 23 rfl rfl
theorem dksX0_can_2 : cX0_can.data.toList.drop 47 = dktX0_can_2 := dk_seg dksX0_can_1 24 rfl rfl
theorem dX0_can_0 : decode cX0_can 0 = .ok (.iload_n 1, 1) := dk_27 (dk_at dksX0_can_0 0 rfl rfl)
theorem dX0_can_1 : decode cX0_can 1 = .ok (.invokestatic 184, 3) := dk_184 0 184 (dk_at dksX0_can_0 1 rfl rfl)
theorem dX0_can_4 : decode cX0_can 4 = .ok (.ifCond .eq 12, 3) := dk_153 0 12 (dk_at dksX0_can_0 4 rfl rfl)
theorem dX0_can_7 : decode cX0_can 7 = .ok (.aload_n 0, 1) := dk_42 (dk_at dksX0_can_0 7 rfl rfl)
theorem dX0_can_8 : decode cX0_can 8 = .ok (.iload_n 2, 1) := dk_28 (dk_at dksX0_can_0 8 rfl rfl)
theorem dX0_can_9 : decode cX0_can 9 = .ok (.i2l, 1) := dk_133 (dk_at dksX0_can_0 9 rfl rfl)
theorem dX0_can_10 : decode cX0_can 10 = .ok (.invokevirtual 160, 3) := dk_182 0 160 (dk_at dksX0_can_0 10 rfl rfl)
theorem dX0_can_13 : decode cX0_can 13 = .ok (.ifCond .ne 5, 3) := dk_154 0 5 (dk_at dksX0_can_0 13 rfl rfl)
theorem dX0_can_16 : decode cX0_can 16 = .ok (.iconst (-1), 1) := dk_2 (dk_at dksX0_can_0 16 rfl rfl)
theorem dX0_can_17 : decode cX0_can 17 = .ok (.ireturn, 1) := dk_172 (dk_at dksX0_can_0 17 rfl rfl)
theorem dX0_can_18 : decode cX0_can 18 = .ok (.aload_n 0, 1) := dk_42 (dk_at dksX0_can_0 18 rfl rfl)
theorem dX0_can_19 : decode cX0_can 19 = .ok (.iload_n 1, 1) := dk_27 (dk_at dksX0_can_0 19 rfl rfl)
theorem dX0_can_20 : decode cX0_can 20 = .ok (.invokevirtual 385, 3) := dk_182 1 129 (dk_at dksX0_can_0 20 rfl rfl)
theorem dX0_can_23 : decode cX0_can 23 = .ok (.ifCond .ge 9, 3) := dk_156 0 9 (dk_at dksX0_can_1 0 rfl rfl)
theorem dX0_can_26 : decode cX0_can 26 = .ok (.aload_n 0, 1) := dk_42 (dk_at dksX0_can_1 3 rfl rfl)
theorem dX0_can_27 : decode cX0_can 27 = .ok (.iload_n 1, 1) := dk_27 (dk_at dksX0_can_1 4 rfl rfl)
theorem dX0_can_28 : decode cX0_can 28 = .ok (.invokevirtual 385, 3) := dk_182 1 129 (dk_at dksX0_can_1 5 rfl rfl)
theorem dX0_can_31 : decode cX0_can 31 = .ok (.ireturn, 1) := dk_172 (dk_at dksX0_can_1 8 rfl rfl)
theorem dX0_can_32 : decode cX0_can 32 = .ok (.aload_n 0, 1) := dk_42 (dk_at dksX0_can_1 9 rfl rfl)
theorem dX0_can_33 : decode cX0_can 33 = .ok (.invokevirtual 359, 3) := dk_182 1 103 (dk_at dksX0_can_1 10 rfl rfl)
theorem dX0_can_36 : decode cX0_can 36 = .ok (.aload_n 0, 1) := dk_42 (dk_at dksX0_can_1 13 rfl rfl)
theorem dX0_can_37 : decode cX0_can 37 = .ok (.aload_n 0, 1) := dk_42 (dk_at dksX0_can_1 14 rfl rfl)
theorem dX0_can_38 : decode cX0_can 38 = .ok (.getfield 113, 3) := dk_180 0 113 (dk_at dksX0_can_1 15 rfl rfl)
theorem dX0_can_41 : decode cX0_can 41 = .ok (.iload_n 1, 1) := dk_27 (dk_at dksX0_can_1 18 rfl rfl)
theorem dX0_can_42 : decode cX0_can 42 = .ok (.aaload, 1) := dk_50 (dk_at dksX0_can_1 19 rfl rfl)
theorem dX0_can_43 : decode cX0_can 43 = .ok (.checkcast 182, 3) := dk_192 0 182 (dk_at dksX0_can_1 20 rfl rfl)
theorem dX0_can_46 : decode cX0_can 46 = .ok (.iload_n 2, 1) := dk_28 (dk_at dksX0_can_1 23 rfl rfl)
theorem dX0_can_47 : decode cX0_can 47 = .ok (.invokevirtual 426, 3) := dk_182 1 170 (dk_at dksX0_can_2 0 rfl rfl)
theorem dX0_can_50 : decode cX0_can 50 = .ok (.invokestatic 335, 3) := dk_184 1 79 (dk_at dksX0_can_2 3 rfl rfl)
theorem dX0_can_53 : decode cX0_can 53 = .ok (.ireturn, 1) := dk_172 (dk_at dksX0_can_2 6 rfl rfl)
abbrev cX0_canBe : ByteArray := prog_1_method_71_code
def yX0_canBe : MethodName := ⟨RX0, "canBe", "([BI)Z"⟩
def dkwX0_canBe_4 : List UInt8 := [29, 154, 0, 5, 3, 172, 132, 4, 1, 167, 255, 173, 4, 172]
abbrev dktX0_canBe_4 : List UInt8 := dkwX0_canBe_4 ++ []
def dkwX0_canBe_3 : List UInt8 := [29, 43, 21, 4, 51, 133, 184, 0, 153, 153, 0, 12, 4, 43, 21, 4, 51, 120, 167, 0, 4, 3, 126, 62]
abbrev dktX0_canBe_3 : List UInt8 := dkwX0_canBe_3 ++ dktX0_canBe_4
def dkwX0_canBe_2 : List UInt8 := [180, 0, 3, 21, 4, 96, 4, 100, 184, 1, 124, 182, 1, 148, 62, 43, 21, 4, 51, 16, 99, 159, 0, 27]
abbrev dktX0_canBe_2 : List UInt8 := dkwX0_canBe_2 ++ dktX0_canBe_3
def dkwX0_canBe_1 : List UInt8 := [163, 0, 82, 21, 4, 43, 190, 162, 0, 75, 21, 4, 158, 0, 25, 42, 28, 29, 42, 180, 0, 67]
abbrev dktX0_canBe_1 : List UInt8 := dkwX0_canBe_1 ++ dktX0_canBe_2
def dkwX0_canBe_0 : List UInt8 := [4, 42, 180, 0, 50, 28, 50, 180, 0, 171, 180, 0, 3, 120, 62, 3, 54, 4, 21, 4, 16, 30]
abbrev dktX0_canBe_0 : List UInt8 := dkwX0_canBe_0 ++ dktX0_canBe_1
theorem dksX0_canBe_0 : cX0_canBe.data.toList.drop 0 = dktX0_canBe_0 := by decide +kernel
theorem dksX0_canBe_1 : cX0_canBe.data.toList.drop 22 = dktX0_canBe_1 := dk_seg dksX0_canBe_0 22 rfl rfl
theorem dksX0_canBe_2 : cX0_canBe.data.toList.drop 44 = dktX0_canBe_2 := dk_seg dksX0_canBe_1 22 rfl rfl
theorem dksX0_canBe_3 : cX0_canBe.data.toList.drop 68 = dktX0_canBe_3 := dk_seg dksX0_canBe_2 24 rfl rfl
theorem dksX0_canBe_4 : cX0_canBe.data.toList.drop 92 = dktX0_canBe_4 := dk_seg dksX0_canBe_3 24 rfl rfl
theorem dX0_canBe_0 : decode cX0_canBe 0 = .ok (.iconst 1, 1) := dk_4 (dk_at dksX0_canBe_0 0 rfl rfl)
theorem dX0_canBe_1 : decode cX0_canBe 1 = .ok (.aload_n 0, 1) := dk_42 (dk_at dksX0_canBe_0 1 rfl rfl)
theorem dX0_canBe_2 : decode cX0_canBe 2 = .ok (.getfield 50, 3) := dk_180 0 50 (dk_at dksX0_canBe_0 2 rfl rfl)
theorem dX0_canBe_5 : decode cX0_canBe 5 = .ok (.iload_n 2, 1) := dk_28 (dk_at dksX0_canBe_0 5 rfl rfl)
theorem dX0_canBe_6 : decode cX0_canBe 6 = .ok (.aaload, 1) := dk_50 (dk_at dksX0_canBe_0 6 rfl rfl)
theorem dX0_canBe_7 : decode cX0_canBe 7 = .ok (.getfield 171, 3) := dk_180 0 171 (dk_at dksX0_canBe_0 7 rfl rfl)
theorem dX0_canBe_10 : decode cX0_canBe 10 = .ok (.getfield 3, 3) := dk_180 0 3 (dk_at dksX0_canBe_0 10 rfl rfl)
theorem dX0_canBe_13 : decode cX0_canBe 13 = .ok (.ishl, 1) := dk_120 (dk_at dksX0_canBe_0 13 rfl rfl)
theorem dX0_canBe_14 : decode cX0_canBe 14 = .ok (.istore_n 3, 1) := dk_62 (dk_at dksX0_canBe_0 14 rfl rfl)
theorem dX0_canBe_15 : decode cX0_canBe 15 = .ok (.iconst 0, 1) := dk_3 (dk_at dksX0_canBe_0 15 rfl rfl)
theorem dX0_canBe_16 : decode cX0_canBe 16 = .ok (.istore 4, 2) := dk_54 4 (dk_at dksX0_canBe_0 16 rfl rfl)
theorem dX0_canBe_18 : decode cX0_canBe 18 = .ok (.iload 4, 2) := dk_21 4 (dk_at dksX0_canBe_0 18 rfl rfl)
theorem dX0_canBe_20 : decode cX0_canBe 20 = .ok (.bipush 30, 2) := dk_16 30 (dk_at dksX0_canBe_0 20 rfl rfl)
theorem dX0_canBe_22 : decode cX0_canBe 22 = .ok (.if_icmp .gt 82, 3) := dk_163 0 82 (dk_at dksX0_canBe_1 0 rfl rfl)
theorem dX0_canBe_25 : decode cX0_canBe 25 = .ok (.iload 4, 2) := dk_21 4 (dk_at dksX0_canBe_1 3 rfl rfl)
theorem dX0_canBe_27 : decode cX0_canBe 27 = .ok (.aload_n 1, 1) := dk_43 (dk_at dksX0_canBe_1 5 rfl rfl)
theorem dX0_canBe_28 : decode cX0_canBe 28 = .ok (.arraylength, 1) := dk_190 (dk_at dksX0_canBe_1 6 rfl rfl)
theorem dX0_canBe_29 : decode cX0_canBe 29 = .ok (.if_icmp .ge 75, 3) := dk_162 0 75 (dk_at dksX0_canBe_1 7 rfl rfl)
theorem dX0_canBe_32 : decode cX0_canBe 32 = .ok (.iload 4, 2) := dk_21 4 (dk_at dksX0_canBe_1 10 rfl rfl)
theorem dX0_canBe_34 : decode cX0_canBe 34 = .ok (.ifCond .le 25, 3) := dk_158 0 25 (dk_at dksX0_canBe_1 12 rfl rfl)
theorem dX0_canBe_37 : decode cX0_canBe 37 = .ok (.aload_n 0, 1) := dk_42 (dk_at dksX0_canBe_1 15 rfl rfl)
theorem dX0_canBe_38 : decode cX0_canBe 38 = .ok (.iload_n 2, 1) := dk_28 (dk_at dksX0_canBe_1 16 rfl rfl)
theorem dX0_canBe_39 : decode cX0_canBe 39 = .ok (.iload_n 3, 1) := dk_29 (dk_at dksX0_canBe_1 17 rfl rfl)
theorem dX0_canBe_40 : decode cX0_canBe 40 = .ok (.aload_n 0, 1) := dk_42 (dk_at dksX0_canBe_1 18 rfl rfl)
theorem dX0_canBe_41 : decode cX0_canBe 41 = .ok (.getfield 67, 3) := dk_180 0 67 (dk_at dksX0_canBe_1 19 rfl rfl)
theorem dX0_canBe_44 : decode cX0_canBe 44 = .ok (.getfield 3, 3) := dk_180 0 3 (dk_at dksX0_canBe_2 0 rfl rfl)
theorem dX0_canBe_47 : decode cX0_canBe 47 = .ok (.iload 4, 2) := dk_21 4 (dk_at dksX0_canBe_2 3 rfl rfl)
theorem dX0_canBe_49 : decode cX0_canBe 49 = .ok (.iadd, 1) := dk_96 (dk_at dksX0_canBe_2 5 rfl rfl)
theorem dX0_canBe_50 : decode cX0_canBe 50 = .ok (.iconst 1, 1) := dk_4 (dk_at dksX0_canBe_2 6 rfl rfl)
theorem dX0_canBe_51 : decode cX0_canBe 51 = .ok (.isub, 1) := dk_100 (dk_at dksX0_canBe_2 7 rfl rfl)
theorem dX0_canBe_52 : decode cX0_canBe 52 = .ok (.invokestatic 380, 3) := dk_184 1 124 (dk_at dksX0_canBe_2 8 rfl rfl)
theorem dX0_canBe_55 : decode cX0_canBe 55 = .ok (.invokevirtual 404, 3) := dk_182 1 148 (dk_at dksX0_canBe_2 11 rfl rfl)
theorem dX0_canBe_58 : decode cX0_canBe 58 = .ok (.istore_n 3, 1) := dk_62 (dk_at dksX0_canBe_2 14 rfl rfl)
theorem dX0_canBe_59 : decode cX0_canBe 59 = .ok (.aload_n 1, 1) := dk_43 (dk_at dksX0_canBe_2 15 rfl rfl)
theorem dX0_canBe_60 : decode cX0_canBe 60 = .ok (.iload 4, 2) := dk_21 4 (dk_at dksX0_canBe_2 16 rfl rfl)
theorem dX0_canBe_62 : decode cX0_canBe 62 = .ok (.baload, 1) := dk_51 (dk_at dksX0_canBe_2 18 rfl rfl)
theorem dX0_canBe_63 : decode cX0_canBe 63 = .ok (.bipush 99, 2) := dk_16 99 (dk_at dksX0_canBe_2 19 rfl rfl)
theorem dX0_canBe_65 : decode cX0_canBe 65 = .ok (.if_icmp .eq 27, 3) := dk_159 0 27 (dk_at dksX0_canBe_2 21 rfl rfl)
theorem dX0_canBe_68 : decode cX0_canBe 68 = .ok (.iload_n 3, 1) := dk_29 (dk_at dksX0_canBe_3 0 rfl rfl)
theorem dX0_canBe_69 : decode cX0_canBe 69 = .ok (.aload_n 1, 1) := dk_43 (dk_at dksX0_canBe_3 1 rfl rfl)
theorem dX0_canBe_70 : decode cX0_canBe 70 = .ok (.iload 4, 2) := dk_21 4 (dk_at dksX0_canBe_3 2 rfl rfl)
theorem dX0_canBe_72 : decode cX0_canBe 72 = .ok (.baload, 1) := dk_51 (dk_at dksX0_canBe_3 4 rfl rfl)
theorem dX0_canBe_73 : decode cX0_canBe 73 = .ok (.i2l, 1) := dk_133 (dk_at dksX0_canBe_3 5 rfl rfl)
theorem dX0_canBe_74 : decode cX0_canBe 74 = .ok (.invokestatic 153, 3) := dk_184 0 153 (dk_at dksX0_canBe_3 6 rfl rfl)
theorem dX0_canBe_77 : decode cX0_canBe 77 = .ok (.ifCond .eq 12, 3) := dk_153 0 12 (dk_at dksX0_canBe_3 9 rfl rfl)
theorem dX0_canBe_80 : decode cX0_canBe 80 = .ok (.iconst 1, 1) := dk_4 (dk_at dksX0_canBe_3 12 rfl rfl)
theorem dX0_canBe_81 : decode cX0_canBe 81 = .ok (.aload_n 1, 1) := dk_43 (dk_at dksX0_canBe_3 13 rfl rfl)
theorem dX0_canBe_82 : decode cX0_canBe 82 = .ok (.iload 4, 2) := dk_21 4 (dk_at dksX0_canBe_3 14 rfl rfl)
theorem dX0_canBe_84 : decode cX0_canBe 84 = .ok (.baload, 1) := dk_51 (dk_at dksX0_canBe_3 16 rfl rfl)
theorem dX0_canBe_85 : decode cX0_canBe 85 = .ok (.ishl, 1) := dk_120 (dk_at dksX0_canBe_3 17 rfl rfl)
theorem dX0_canBe_86 : decode cX0_canBe 86 = .ok (.goto 4, 3) := dk_167 0 4 (dk_at dksX0_canBe_3 18 rfl rfl)
theorem dX0_canBe_89 : decode cX0_canBe 89 = .ok (.iconst 0, 1) := dk_3 (dk_at dksX0_canBe_3 21 rfl rfl)
theorem dX0_canBe_90 : decode cX0_canBe 90 = .ok (.iand, 1) := dk_126 (dk_at dksX0_canBe_3 22 rfl rfl)
theorem dX0_canBe_91 : decode cX0_canBe 91 = .ok (.istore_n 3, 1) := dk_62 (dk_at dksX0_canBe_3 23 rfl rfl)
theorem dX0_canBe_92 : decode cX0_canBe 92 = .ok (.iload_n 3, 1) := dk_29 (dk_at dksX0_canBe_4 0 rfl rfl)
theorem dX0_canBe_93 : decode cX0_canBe 93 = .ok (.ifCond .ne 5, 3) := dk_154 0 5 (dk_at dksX0_canBe_4 1 rfl rfl)
theorem dX0_canBe_96 : decode cX0_canBe 96 = .ok (.iconst 0, 1) := dk_3 (dk_at dksX0_canBe_4 4 rfl rfl)
theorem dX0_canBe_97 : decode cX0_canBe 97 = .ok (.ireturn, 1) := dk_172 (dk_at dksX0_canBe_4 5 rfl rfl)
theorem dX0_canBe_98 : decode cX0_canBe 98 = .ok (.iinc 4 1, 3) := dk_132 4 1 (dk_at dksX0_canBe_4 6 rfl rfl)
theorem dX0_canBe_101 : decode cX0_canBe 101 = .ok (.goto (-83), 3) := dk_167 255 173 (dk_at dksX0_canBe_4 9 rfl rfl)
theorem dX0_canBe_104 : decode cX0_canBe 104 = .ok (.iconst 1, 1) := dk_4 (dk_at dksX0_canBe_4 12 rfl rfl)
theorem dX0_canBe_105 : decode cX0_canBe 105 = .ok (.ireturn, 1) := dk_172 (dk_at dksX0_canBe_4 13 rfl rfl)
abbrev cX0_who : ByteArray := prog_1_method_73_code
def yX0_who : MethodName := ⟨RX0, "who", "(I)I"⟩
def dkwX0_who_2 : List UInt8 := [29, 120, 128, 61, 132, 3, 1, 167, 255, 223, 28, 172]
abbrev dktX0_who_2 : List UInt8 := dkwX0_who_2 ++ []
def dkwX0_who_1 : List UInt8 := [180, 0, 143, 162, 0, 31, 28, 42, 42, 180, 0, 113, 27, 50, 192, 0, 182, 29, 182, 1, 170, 184, 1, 79]
abbrev dktX0_who_1 : List UInt8 := dkwX0_who_1 ++ dktX0_who_2
def dkwX0_who_0 : List UInt8 := [42, 27, 182, 1, 129, 156, 0, 9, 42, 27, 182, 1, 129, 172, 42, 182, 1, 103, 3, 61, 3, 62, 29, 42]
abbrev dktX0_who_0 : List UInt8 := dkwX0_who_0 ++ dktX0_who_1
theorem dksX0_who_0 : cX0_who.data.toList.drop 0 = dktX0_who_0 := by decide +kernel
theorem dksX0_who_1 : cX0_who.data.toList.drop 24 = dktX0_who_1 := dk_seg dksX0_who_0 24 rfl rfl
theorem dksX0_who_2 : cX0_who.data.toList.drop 48 = dktX0_who_2 := dk_seg dksX0_who_1 24 rfl rfl
theorem dX0_who_0 : decode cX0_who 0 = .ok (.aload_n 0, 1) := dk_42 (dk_at dksX0_who_0 0 rfl rfl)
theorem dX0_who_1 : decode cX0_who 1 = .ok (.iload_n 1, 1) := dk_27 (dk_at dksX0_who_0 1 rfl rfl)
theorem dX0_who_2 : decode cX0_who 2 = .ok (.invokevirtual 385, 3) := dk_182 1 129 (dk_at dksX0_who_0 2 rfl rfl)
theorem dX0_who_5 : decode cX0_who 5 = .ok (.ifCond .ge 9, 3) := dk_156 0 9 (dk_at dksX0_who_0 5 rfl rfl)
theorem dX0_who_8 : decode cX0_who 8 = .ok (.aload_n 0, 1) := dk_42 (dk_at dksX0_who_0 8 rfl rfl)
theorem dX0_who_9 : decode cX0_who 9 = .ok (.iload_n 1, 1) := dk_27 (dk_at dksX0_who_0 9 rfl rfl)
theorem dX0_who_10 : decode cX0_who 10 = .ok (.invokevirtual 385, 3) := dk_182 1 129 (dk_at dksX0_who_0 10 rfl rfl)
theorem dX0_who_13 : decode cX0_who 13 = .ok (.ireturn, 1) := dk_172 (dk_at dksX0_who_0 13 rfl rfl)
theorem dX0_who_14 : decode cX0_who 14 = .ok (.aload_n 0, 1) := dk_42 (dk_at dksX0_who_0 14 rfl rfl)
theorem dX0_who_15 : decode cX0_who 15 = .ok (.invokevirtual 359, 3) := dk_182 1 103 (dk_at dksX0_who_0 15 rfl rfl)
theorem dX0_who_18 : decode cX0_who 18 = .ok (.iconst 0, 1) := dk_3 (dk_at dksX0_who_0 18 rfl rfl)
theorem dX0_who_19 : decode cX0_who 19 = .ok (.istore_n 2, 1) := dk_61 (dk_at dksX0_who_0 19 rfl rfl)
theorem dX0_who_20 : decode cX0_who 20 = .ok (.iconst 0, 1) := dk_3 (dk_at dksX0_who_0 20 rfl rfl)
theorem dX0_who_21 : decode cX0_who 21 = .ok (.istore_n 3, 1) := dk_62 (dk_at dksX0_who_0 21 rfl rfl)
theorem dX0_who_22 : decode cX0_who 22 = .ok (.iload_n 3, 1) := dk_29 (dk_at dksX0_who_0 22 rfl rfl)
theorem dX0_who_23 : decode cX0_who 23 = .ok (.aload_n 0, 1) := dk_42 (dk_at dksX0_who_0 23 rfl rfl)
theorem dX0_who_24 : decode cX0_who 24 = .ok (.getfield 143, 3) := dk_180 0 143 (dk_at dksX0_who_1 0 rfl rfl)
theorem dX0_who_27 : decode cX0_who 27 = .ok (.if_icmp .ge 31, 3) := dk_162 0 31 (dk_at dksX0_who_1 3 rfl rfl)
theorem dX0_who_30 : decode cX0_who 30 = .ok (.iload_n 2, 1) := dk_28 (dk_at dksX0_who_1 6 rfl rfl)
theorem dX0_who_31 : decode cX0_who 31 = .ok (.aload_n 0, 1) := dk_42 (dk_at dksX0_who_1 7 rfl rfl)
theorem dX0_who_32 : decode cX0_who 32 = .ok (.aload_n 0, 1) := dk_42 (dk_at dksX0_who_1 8 rfl rfl)
theorem dX0_who_33 : decode cX0_who 33 = .ok (.getfield 113, 3) := dk_180 0 113 (dk_at dksX0_who_1 9 rfl rfl)
theorem dX0_who_36 : decode cX0_who 36 = .ok (.iload_n 1, 1) := dk_27 (dk_at dksX0_who_1 12 rfl rfl)
theorem dX0_who_37 : decode cX0_who 37 = .ok (.aaload, 1) := dk_50 (dk_at dksX0_who_1 13 rfl rfl)
theorem dX0_who_38 : decode cX0_who 38 = .ok (.checkcast 182, 3) := dk_192 0 182 (dk_at dksX0_who_1 14 rfl rfl)
theorem dX0_who_41 : decode cX0_who 41 = .ok (.iload_n 3, 1) := dk_29 (dk_at dksX0_who_1 17 rfl rfl)
theorem dX0_who_42 : decode cX0_who 42 = .ok (.invokevirtual 426, 3) := dk_182 1 170 (dk_at dksX0_who_1 18 rfl rfl)
theorem dX0_who_45 : decode cX0_who 45 = .ok (.invokestatic 335, 3) := dk_184 1 79 (dk_at dksX0_who_1 21 rfl rfl)
theorem dX0_who_48 : decode cX0_who 48 = .ok (.iload_n 3, 1) := dk_29 (dk_at dksX0_who_2 0 rfl rfl)
theorem dX0_who_49 : decode cX0_who 49 = .ok (.ishl, 1) := dk_120 (dk_at dksX0_who_2 1 rfl rfl)
theorem dX0_who_50 : decode cX0_who 50 = .ok (.ior, 1) := dk_128 (dk_at dksX0_who_2 2 rfl rfl)
theorem dX0_who_51 : decode cX0_who 51 = .ok (.istore_n 2, 1) := dk_61 (dk_at dksX0_who_2 3 rfl rfl)
theorem dX0_who_52 : decode cX0_who 52 = .ok (.iinc 3 1, 3) := dk_132 3 1 (dk_at dksX0_who_2 4 rfl rfl)
theorem dX0_who_55 : decode cX0_who 55 = .ok (.goto (-33), 3) := dk_167 255 223 (dk_at dksX0_who_2 7 rfl rfl)
theorem dX0_who_58 : decode cX0_who 58 = .ok (.iload_n 2, 1) := dk_28 (dk_at dksX0_who_2 10 rfl rfl)
theorem dX0_who_59 : decode cX0_who 59 = .ok (.ireturn, 1) := dk_172 (dk_at dksX0_who_2 11 rfl rfl)
abbrev cX0_feeds : ByteArray := prog_1_method_76_code
def yX0_feeds : MethodName := ⟨RX0, "feeds", "(II)I"⟩
def dkwX0_feeds_4 : List UInt8 := [28, 42, 180, 1, 183, 162, 0, 12, 42, 180, 0, 89, 28, 46, 167, 0, 5, 16, 254, 172]
abbrev dktX0_feeds_4 : List UInt8 := dkwX0_feeds_4 ++ []
def dkwX0_feeds_3 : List UInt8 := [181, 1, 180, 42, 27, 27, 3, 29, 3, 182, 1, 192, 28, 2, 160, 0, 10, 42, 180, 1, 180, 167, 0, 22]
abbrev dktX0_feeds_3 : List UInt8 := dkwX0_feeds_3 ++ dktX0_feeds_4
def dkwX0_feeds_2 : List UInt8 := [21, 4, 50, 180, 0, 171, 180, 0, 3, 120, 128, 62, 132, 4, 1, 167, 255, 217, 42, 19, 1, 196]
abbrev dktX0_feeds_2 : List UInt8 := dkwX0_feeds_2 ++ dktX0_feeds_3
def dkwX0_feeds_1 : List UInt8 := [21, 4, 42, 180, 0, 143, 162, 0, 36, 42, 21, 4, 182, 1, 158, 153, 0, 21, 29, 4, 42, 180, 0, 50]
abbrev dktX0_feeds_1 : List UInt8 := dkwX0_feeds_1 ++ dktX0_feeds_2
def dkwX0_feeds_0 : List UInt8 := [27, 133, 184, 0, 153, 153, 0, 8, 28, 2, 162, 0, 5, 2, 172, 42, 182, 1, 103, 3, 62, 3, 54, 4]
abbrev dktX0_feeds_0 : List UInt8 := dkwX0_feeds_0 ++ dktX0_feeds_1
theorem dksX0_feeds_0 : cX0_feeds.data.toList.drop 0 = dktX0_feeds_0 := by decide +kernel
theorem dksX0_feeds_1 : cX0_feeds.data.toList.drop 24 = dktX0_feeds_1 := dk_seg dksX0_feeds_0 24 rfl rfl
theorem dksX0_feeds_2 : cX0_feeds.data.toList.drop 48 = dktX0_feeds_2 := dk_seg dksX0_feeds_1 24 rfl rfl
theorem dksX0_feeds_3 : cX0_feeds.data.toList.drop 70 = dktX0_feeds_3 := dk_seg dksX0_feeds_2 22 rfl rfl
theorem dksX0_feeds_4 : cX0_feeds.data.toList.drop 94 = dktX0_feeds_4 := dk_seg dksX0_feeds_3 24 rfl rfl
theorem dX0_feeds_0 : decode cX0_feeds 0 = .ok (.iload_n 1, 1) := dk_27 (dk_at dksX0_feeds_0 0 rfl rfl)
theorem dX0_feeds_1 : decode cX0_feeds 1 = .ok (.i2l, 1) := dk_133 (dk_at dksX0_feeds_0 1 rfl rfl)
theorem dX0_feeds_2 : decode cX0_feeds 2 = .ok (.invokestatic 153, 3) := dk_184 0 153 (dk_at dksX0_feeds_0 2 rfl rfl)
theorem dX0_feeds_5 : decode cX0_feeds 5 = .ok (.ifCond .eq 8, 3) := dk_153 0 8 (dk_at dksX0_feeds_0 5 rfl rfl)
theorem dX0_feeds_8 : decode cX0_feeds 8 = .ok (.iload_n 2, 1) := dk_28 (dk_at dksX0_feeds_0 8 rfl rfl)
theorem dX0_feeds_9 : decode cX0_feeds 9 = .ok (.iconst (-1), 1) := dk_2 (dk_at dksX0_feeds_0 9 rfl rfl)
theorem dX0_feeds_10 : decode cX0_feeds 10 = .ok (.if_icmp .ge 5, 3) := dk_162 0 5 (dk_at dksX0_feeds_0 10 rfl rfl)
theorem dX0_feeds_13 : decode cX0_feeds 13 = .ok (.iconst (-1), 1) := dk_2 (dk_at dksX0_feeds_0 13 rfl rfl)
theorem dX0_feeds_14 : decode cX0_feeds 14 = .ok (.ireturn, 1) := dk_172 (dk_at dksX0_feeds_0 14 rfl rfl)
theorem dX0_feeds_15 : decode cX0_feeds 15 = .ok (.aload_n 0, 1) := dk_42 (dk_at dksX0_feeds_0 15 rfl rfl)
theorem dX0_feeds_16 : decode cX0_feeds 16 = .ok (.invokevirtual 359, 3) := dk_182 1 103 (dk_at dksX0_feeds_0 16 rfl rfl)
theorem dX0_feeds_19 : decode cX0_feeds 19 = .ok (.iconst 0, 1) := dk_3 (dk_at dksX0_feeds_0 19 rfl rfl)
theorem dX0_feeds_20 : decode cX0_feeds 20 = .ok (.istore_n 3, 1) := dk_62 (dk_at dksX0_feeds_0 20 rfl rfl)
theorem dX0_feeds_21 : decode cX0_feeds 21 = .ok (.iconst 0, 1) := dk_3 (dk_at dksX0_feeds_0 21 rfl rfl)
theorem dX0_feeds_22 : decode cX0_feeds 22 = .ok (.istore 4, 2) := dk_54 4 (dk_at dksX0_feeds_0 22 rfl rfl)
theorem dX0_feeds_24 : decode cX0_feeds 24 = .ok (.iload 4, 2) := dk_21 4 (dk_at dksX0_feeds_1 0 rfl rfl)
theorem dX0_feeds_26 : decode cX0_feeds 26 = .ok (.aload_n 0, 1) := dk_42 (dk_at dksX0_feeds_1 2 rfl rfl)
theorem dX0_feeds_27 : decode cX0_feeds 27 = .ok (.getfield 143, 3) := dk_180 0 143 (dk_at dksX0_feeds_1 3 rfl rfl)
theorem dX0_feeds_30 : decode cX0_feeds 30 = .ok (.if_icmp .ge 36, 3) := dk_162 0 36 (dk_at dksX0_feeds_1 6 rfl rfl)
theorem dX0_feeds_33 : decode cX0_feeds 33 = .ok (.aload_n 0, 1) := dk_42 (dk_at dksX0_feeds_1 9 rfl rfl)
theorem dX0_feeds_34 : decode cX0_feeds 34 = .ok (.iload 4, 2) := dk_21 4 (dk_at dksX0_feeds_1 10 rfl rfl)
theorem dX0_feeds_36 : decode cX0_feeds 36 = .ok (.invokevirtual 414, 3) := dk_182 1 158 (dk_at dksX0_feeds_1 12 rfl rfl)
theorem dX0_feeds_39 : decode cX0_feeds 39 = .ok (.ifCond .eq 21, 3) := dk_153 0 21 (dk_at dksX0_feeds_1 15 rfl rfl)
theorem dX0_feeds_42 : decode cX0_feeds 42 = .ok (.iload_n 3, 1) := dk_29 (dk_at dksX0_feeds_1 18 rfl rfl)
theorem dX0_feeds_43 : decode cX0_feeds 43 = .ok (.iconst 1, 1) := dk_4 (dk_at dksX0_feeds_1 19 rfl rfl)
theorem dX0_feeds_44 : decode cX0_feeds 44 = .ok (.aload_n 0, 1) := dk_42 (dk_at dksX0_feeds_1 20 rfl rfl)
theorem dX0_feeds_45 : decode cX0_feeds 45 = .ok (.getfield 50, 3) := dk_180 0 50 (dk_at dksX0_feeds_1 21 rfl rfl)
theorem dX0_feeds_48 : decode cX0_feeds 48 = .ok (.iload 4, 2) := dk_21 4 (dk_at dksX0_feeds_2 0 rfl rfl)
theorem dX0_feeds_50 : decode cX0_feeds 50 = .ok (.aaload, 1) := dk_50 (dk_at dksX0_feeds_2 2 rfl rfl)
theorem dX0_feeds_51 : decode cX0_feeds 51 = .ok (.getfield 171, 3) := dk_180 0 171 (dk_at dksX0_feeds_2 3 rfl rfl)
theorem dX0_feeds_54 : decode cX0_feeds 54 = .ok (.getfield 3, 3) := dk_180 0 3 (dk_at dksX0_feeds_2 6 rfl rfl)
theorem dX0_feeds_57 : decode cX0_feeds 57 = .ok (.ishl, 1) := dk_120 (dk_at dksX0_feeds_2 9 rfl rfl)
theorem dX0_feeds_58 : decode cX0_feeds 58 = .ok (.ior, 1) := dk_128 (dk_at dksX0_feeds_2 10 rfl rfl)
theorem dX0_feeds_59 : decode cX0_feeds 59 = .ok (.istore_n 3, 1) := dk_62 (dk_at dksX0_feeds_2 11 rfl rfl)
theorem dX0_feeds_60 : decode cX0_feeds 60 = .ok (.iinc 4 1, 3) := dk_132 4 1 (dk_at dksX0_feeds_2 12 rfl rfl)
theorem dX0_feeds_63 : decode cX0_feeds 63 = .ok (.goto (-39), 3) := dk_167 255 217 (dk_at dksX0_feeds_2 15 rfl rfl)
theorem dX0_feeds_66 : decode cX0_feeds 66 = .ok (.aload_n 0, 1) := dk_42 (dk_at dksX0_feeds_2 18 rfl rfl)
theorem dX0_feeds_67 : decode cX0_feeds 67 = .ok (.ldc_w 452, 3) := dk_19 1 196 (dk_at dksX0_feeds_2 19 rfl rfl)
theorem dX0_feeds_70 : decode cX0_feeds 70 = .ok (.putfield 436, 3) := dk_181 1 180 (dk_at dksX0_feeds_3 0 rfl rfl)
theorem dX0_feeds_73 : decode cX0_feeds 73 = .ok (.aload_n 0, 1) := dk_42 (dk_at dksX0_feeds_3 3 rfl rfl)
theorem dX0_feeds_74 : decode cX0_feeds 74 = .ok (.iload_n 1, 1) := dk_27 (dk_at dksX0_feeds_3 4 rfl rfl)
theorem dX0_feeds_75 : decode cX0_feeds 75 = .ok (.iload_n 1, 1) := dk_27 (dk_at dksX0_feeds_3 5 rfl rfl)
theorem dX0_feeds_76 : decode cX0_feeds 76 = .ok (.iconst 0, 1) := dk_3 (dk_at dksX0_feeds_3 6 rfl rfl)
theorem dX0_feeds_77 : decode cX0_feeds 77 = .ok (.iload_n 3, 1) := dk_29 (dk_at dksX0_feeds_3 7 rfl rfl)
theorem dX0_feeds_78 : decode cX0_feeds 78 = .ok (.iconst 0, 1) := dk_3 (dk_at dksX0_feeds_3 8 rfl rfl)
theorem dX0_feeds_79 : decode cX0_feeds 79 = .ok (.invokevirtual 448, 3) := dk_182 1 192 (dk_at dksX0_feeds_3 9 rfl rfl)
theorem dX0_feeds_82 : decode cX0_feeds 82 = .ok (.iload_n 2, 1) := dk_28 (dk_at dksX0_feeds_3 12 rfl rfl)
theorem dX0_feeds_83 : decode cX0_feeds 83 = .ok (.iconst (-1), 1) := dk_2 (dk_at dksX0_feeds_3 13 rfl rfl)
theorem dX0_feeds_84 : decode cX0_feeds 84 = .ok (.if_icmp .ne 10, 3) := dk_160 0 10 (dk_at dksX0_feeds_3 14 rfl rfl)
theorem dX0_feeds_87 : decode cX0_feeds 87 = .ok (.aload_n 0, 1) := dk_42 (dk_at dksX0_feeds_3 17 rfl rfl)
theorem dX0_feeds_88 : decode cX0_feeds 88 = .ok (.getfield 436, 3) := dk_180 1 180 (dk_at dksX0_feeds_3 18 rfl rfl)
theorem dX0_feeds_91 : decode cX0_feeds 91 = .ok (.goto 22, 3) := dk_167 0 22 (dk_at dksX0_feeds_3 21 rfl rfl)
theorem dX0_feeds_94 : decode cX0_feeds 94 = .ok (.iload_n 2, 1) := dk_28 (dk_at dksX0_feeds_4 0 rfl rfl)
theorem dX0_feeds_95 : decode cX0_feeds 95 = .ok (.aload_n 0, 1) := dk_42 (dk_at dksX0_feeds_4 1 rfl rfl)
theorem dX0_feeds_96 : decode cX0_feeds 96 = .ok (.getfield 439, 3) := dk_180 1 183 (dk_at dksX0_feeds_4 2 rfl rfl)
theorem dX0_feeds_99 : decode cX0_feeds 99 = .ok (.if_icmp .ge 12, 3) := dk_162 0 12 (dk_at dksX0_feeds_4 5 rfl rfl)
theorem dX0_feeds_102 : decode cX0_feeds 102 = .ok (.aload_n 0, 1) := dk_42 (dk_at dksX0_feeds_4 8 rfl rfl)
theorem dX0_feeds_103 : decode cX0_feeds 103 = .ok (.getfield 89, 3) := dk_180 0 89 (dk_at dksX0_feeds_4 9 rfl rfl)
theorem dX0_feeds_106 : decode cX0_feeds 106 = .ok (.iload_n 2, 1) := dk_28 (dk_at dksX0_feeds_4 12 rfl rfl)
theorem dX0_feeds_107 : decode cX0_feeds 107 = .ok (.iaload, 1) := dk_46 (dk_at dksX0_feeds_4 13 rfl rfl)
theorem dX0_feeds_108 : decode cX0_feeds 108 = .ok (.goto 5, 3) := dk_167 0 5 (dk_at dksX0_feeds_4 14 rfl rfl)
theorem dX0_feeds_111 : decode cX0_feeds 111 = .ok (.bipush (-2), 2) := dk_16 254 (dk_at dksX0_feeds_4 17 rfl rfl)
theorem dX0_feeds_113 : decode cX0_feeds 113 = .ok (.ireturn, 1) := dk_172 (dk_at dksX0_feeds_4 19 rfl rfl)
abbrev cX0_goRound : ByteArray := prog_1_method_75_code
def yX0_goRound : MethodName := ⟨RX0, "goRound", "(IIIII)V"⟩
def dkwX0_goRound_5 : List UInt8 := [177]
abbrev dktX0_goRound_5 : List UInt8 := dkwX0_goRound_5 ++ []
def dkwX0_goRound_4 : List UInt8 := [21, 6, 120, 2, 130, 126, 21, 5, 28, 21, 6, 184, 1, 177, 96, 182, 1, 192, 132, 6, 1, 167, 255, 197]
abbrev dktX0_goRound_4 : List UInt8 := dkwX0_goRound_4 ++ dktX0_goRound_5
def dkwX0_goRound_3 : List UInt8 := [154, 0, 6, 167, 0, 39, 42, 180, 0, 86, 29, 21, 6, 79, 42, 27, 21, 6, 29, 4, 96, 21, 4, 4]
abbrev dktX0_goRound_3 : List UInt8 := dkwX0_goRound_3 ++ dktX0_goRound_4
def dkwX0_goRound_2 : List UInt8 := [29, 184, 1, 186, 177, 3, 54, 6, 21, 6, 16, 25, 162, 0, 58, 21, 4, 21, 6, 184, 1, 67]
abbrev dktX0_goRound_2 : List UInt8 := dkwX0_goRound_2 ++ dktX0_goRound_3
def dkwX0_goRound_1 : List UInt8 := [28, 27, 184, 1, 177, 96, 181, 1, 180, 42, 29, 181, 1, 183, 42, 180, 0, 86, 3, 42, 180, 0, 89, 3]
abbrev dktX0_goRound_1 : List UInt8 := dkwX0_goRound_1 ++ dktX0_goRound_2
def dkwX0_goRound_0 : List UInt8 := [21, 5, 28, 27, 184, 1, 177, 96, 42, 180, 1, 180, 161, 0, 4, 177, 21, 4, 154, 0, 35, 42, 21, 5]
abbrev dktX0_goRound_0 : List UInt8 := dkwX0_goRound_0 ++ dktX0_goRound_1
theorem dksX0_goRound_0 : cX0_goRound.data.toList.drop 0 = dktX0_goRound_0 := by decide +kernel
theorem dksX0_goRound_1 : cX0_goRound.data.toList.drop 24 = dktX0_goRound_1 := dk_seg dksX0_goRound_0 24 rfl rfl
theorem dksX0_goRound_2 : cX0_goRound.data.toList.drop 48 = dktX0_goRound_2 := dk_seg dksX0_goRound_1 24 rfl rfl
theorem dksX0_goRound_3 : cX0_goRound.data.toList.drop 70 = dktX0_goRound_3 := dk_seg dksX0_goRound_2 22 rfl rfl
theorem dksX0_goRound_4 : cX0_goRound.data.toList.drop 94 = dktX0_goRound_4 := dk_seg dksX0_goRound_3 24 rfl rfl
theorem dksX0_goRound_5 : cX0_goRound.data.toList.drop 118 = dktX0_goRound_5 := dk_seg dksX0_goRound_4 24 rfl rfl
theorem dX0_goRound_0 : decode cX0_goRound 0 = .ok (.iload 5, 2) := dk_21 5 (dk_at dksX0_goRound_0 0 rfl rfl)
theorem dX0_goRound_2 : decode cX0_goRound 2 = .ok (.iload_n 2, 1) := dk_28 (dk_at dksX0_goRound_0 2 rfl rfl)
theorem dX0_goRound_3 : decode cX0_goRound 3 = .ok (.iload_n 1, 1) := dk_27 (dk_at dksX0_goRound_0 3 rfl rfl)
theorem dX0_goRound_4 : decode cX0_goRound 4 = .ok (.invokestatic 433, 3) := dk_184 1 177 (dk_at dksX0_goRound_0 4 rfl rfl)
theorem dX0_goRound_7 : decode cX0_goRound 7 = .ok (.iadd, 1) := dk_96 (dk_at dksX0_goRound_0 7 rfl rfl)
theorem dX0_goRound_8 : decode cX0_goRound 8 = .ok (.aload_n 0, 1) := dk_42 (dk_at dksX0_goRound_0 8 rfl rfl)
theorem dX0_goRound_9 : decode cX0_goRound 9 = .ok (.getfield 436, 3) := dk_180 1 180 (dk_at dksX0_goRound_0 9 rfl rfl)
theorem dX0_goRound_12 : decode cX0_goRound 12 = .ok (.if_icmp .lt 4, 3) := dk_161 0 4 (dk_at dksX0_goRound_0 12 rfl rfl)
theorem dX0_goRound_15 : decode cX0_goRound 15 = .ok (.return_, 1) := dk_177 (dk_at dksX0_goRound_0 15 rfl rfl)
theorem dX0_goRound_16 : decode cX0_goRound 16 = .ok (.iload 4, 2) := dk_21 4 (dk_at dksX0_goRound_0 16 rfl rfl)
theorem dX0_goRound_18 : decode cX0_goRound 18 = .ok (.ifCond .ne 35, 3) := dk_154 0 35 (dk_at dksX0_goRound_0 18 rfl rfl)
theorem dX0_goRound_21 : decode cX0_goRound 21 = .ok (.aload_n 0, 1) := dk_42 (dk_at dksX0_goRound_0 21 rfl rfl)
theorem dX0_goRound_22 : decode cX0_goRound 22 = .ok (.iload 5, 2) := dk_21 5 (dk_at dksX0_goRound_0 22 rfl rfl)
theorem dX0_goRound_24 : decode cX0_goRound 24 = .ok (.iload_n 2, 1) := dk_28 (dk_at dksX0_goRound_1 0 rfl rfl)
theorem dX0_goRound_25 : decode cX0_goRound 25 = .ok (.iload_n 1, 1) := dk_27 (dk_at dksX0_goRound_1 1 rfl rfl)
theorem dX0_goRound_26 : decode cX0_goRound 26 = .ok (.invokestatic 433, 3) := dk_184 1 177 (dk_at dksX0_goRound_1 2 rfl rfl)
theorem dX0_goRound_29 : decode cX0_goRound 29 = .ok (.iadd, 1) := dk_96 (dk_at dksX0_goRound_1 5 rfl rfl)
theorem dX0_goRound_30 : decode cX0_goRound 30 = .ok (.putfield 436, 3) := dk_181 1 180 (dk_at dksX0_goRound_1 6 rfl rfl)
theorem dX0_goRound_33 : decode cX0_goRound 33 = .ok (.aload_n 0, 1) := dk_42 (dk_at dksX0_goRound_1 9 rfl rfl)
theorem dX0_goRound_34 : decode cX0_goRound 34 = .ok (.iload_n 3, 1) := dk_29 (dk_at dksX0_goRound_1 10 rfl rfl)
theorem dX0_goRound_35 : decode cX0_goRound 35 = .ok (.putfield 439, 3) := dk_181 1 183 (dk_at dksX0_goRound_1 11 rfl rfl)
theorem dX0_goRound_38 : decode cX0_goRound 38 = .ok (.aload_n 0, 1) := dk_42 (dk_at dksX0_goRound_1 14 rfl rfl)
theorem dX0_goRound_39 : decode cX0_goRound 39 = .ok (.getfield 86, 3) := dk_180 0 86 (dk_at dksX0_goRound_1 15 rfl rfl)
theorem dX0_goRound_42 : decode cX0_goRound 42 = .ok (.iconst 0, 1) := dk_3 (dk_at dksX0_goRound_1 18 rfl rfl)
theorem dX0_goRound_43 : decode cX0_goRound 43 = .ok (.aload_n 0, 1) := dk_42 (dk_at dksX0_goRound_1 19 rfl rfl)
theorem dX0_goRound_44 : decode cX0_goRound 44 = .ok (.getfield 89, 3) := dk_180 0 89 (dk_at dksX0_goRound_1 20 rfl rfl)
theorem dX0_goRound_47 : decode cX0_goRound 47 = .ok (.iconst 0, 1) := dk_3 (dk_at dksX0_goRound_1 23 rfl rfl)
theorem dX0_goRound_48 : decode cX0_goRound 48 = .ok (.iload_n 3, 1) := dk_29 (dk_at dksX0_goRound_2 0 rfl rfl)
theorem dX0_goRound_49 : decode cX0_goRound 49 = .ok (.invokestatic 442, 3) := dk_184 1 186 (dk_at dksX0_goRound_2 1 rfl rfl)
theorem dX0_goRound_52 : decode cX0_goRound 52 = .ok (.return_, 1) := dk_177 (dk_at dksX0_goRound_2 4 rfl rfl)
theorem dX0_goRound_53 : decode cX0_goRound 53 = .ok (.iconst 0, 1) := dk_3 (dk_at dksX0_goRound_2 5 rfl rfl)
theorem dX0_goRound_54 : decode cX0_goRound 54 = .ok (.istore 6, 2) := dk_54 6 (dk_at dksX0_goRound_2 6 rfl rfl)
theorem dX0_goRound_56 : decode cX0_goRound 56 = .ok (.iload 6, 2) := dk_21 6 (dk_at dksX0_goRound_2 8 rfl rfl)
theorem dX0_goRound_58 : decode cX0_goRound 58 = .ok (.bipush 25, 2) := dk_16 25 (dk_at dksX0_goRound_2 10 rfl rfl)
theorem dX0_goRound_60 : decode cX0_goRound 60 = .ok (.if_icmp .ge 58, 3) := dk_162 0 58 (dk_at dksX0_goRound_2 12 rfl rfl)
theorem dX0_goRound_63 : decode cX0_goRound 63 = .ok (.iload 4, 2) := dk_21 4 (dk_at dksX0_goRound_2 15 rfl rfl)
theorem dX0_goRound_65 : decode cX0_goRound 65 = .ok (.iload 6, 2) := dk_21 6 (dk_at dksX0_goRound_2 17 rfl rfl)
theorem dX0_goRound_67 : decode cX0_goRound 67 = .ok (.invokestatic 323, 3) := dk_184 1 67 (dk_at dksX0_goRound_2 19 rfl rfl)
theorem dX0_goRound_70 : decode cX0_goRound 70 = .ok (.ifCond .ne 6, 3) := dk_154 0 6 (dk_at dksX0_goRound_3 0 rfl rfl)
theorem dX0_goRound_73 : decode cX0_goRound 73 = .ok (.goto 39, 3) := dk_167 0 39 (dk_at dksX0_goRound_3 3 rfl rfl)
theorem dX0_goRound_76 : decode cX0_goRound 76 = .ok (.aload_n 0, 1) := dk_42 (dk_at dksX0_goRound_3 6 rfl rfl)
theorem dX0_goRound_77 : decode cX0_goRound 77 = .ok (.getfield 86, 3) := dk_180 0 86 (dk_at dksX0_goRound_3 7 rfl rfl)
theorem dX0_goRound_80 : decode cX0_goRound 80 = .ok (.iload_n 3, 1) := dk_29 (dk_at dksX0_goRound_3 10 rfl rfl)
theorem dX0_goRound_81 : decode cX0_goRound 81 = .ok (.iload 6, 2) := dk_21 6 (dk_at dksX0_goRound_3 11 rfl rfl)
theorem dX0_goRound_83 : decode cX0_goRound 83 = .ok (.iastore, 1) := dk_79 (dk_at dksX0_goRound_3 13 rfl rfl)
theorem dX0_goRound_84 : decode cX0_goRound 84 = .ok (.aload_n 0, 1) := dk_42 (dk_at dksX0_goRound_3 14 rfl rfl)
theorem dX0_goRound_85 : decode cX0_goRound 85 = .ok (.iload_n 1, 1) := dk_27 (dk_at dksX0_goRound_3 15 rfl rfl)
theorem dX0_goRound_86 : decode cX0_goRound 86 = .ok (.iload 6, 2) := dk_21 6 (dk_at dksX0_goRound_3 16 rfl rfl)
theorem dX0_goRound_88 : decode cX0_goRound 88 = .ok (.iload_n 3, 1) := dk_29 (dk_at dksX0_goRound_3 18 rfl rfl)
theorem dX0_goRound_89 : decode cX0_goRound 89 = .ok (.iconst 1, 1) := dk_4 (dk_at dksX0_goRound_3 19 rfl rfl)
theorem dX0_goRound_90 : decode cX0_goRound 90 = .ok (.iadd, 1) := dk_96 (dk_at dksX0_goRound_3 20 rfl rfl)
theorem dX0_goRound_91 : decode cX0_goRound 91 = .ok (.iload 4, 2) := dk_21 4 (dk_at dksX0_goRound_3 21 rfl rfl)
theorem dX0_goRound_93 : decode cX0_goRound 93 = .ok (.iconst 1, 1) := dk_4 (dk_at dksX0_goRound_3 23 rfl rfl)
theorem dX0_goRound_94 : decode cX0_goRound 94 = .ok (.iload 6, 2) := dk_21 6 (dk_at dksX0_goRound_4 0 rfl rfl)
theorem dX0_goRound_96 : decode cX0_goRound 96 = .ok (.ishl, 1) := dk_120 (dk_at dksX0_goRound_4 2 rfl rfl)
theorem dX0_goRound_97 : decode cX0_goRound 97 = .ok (.iconst (-1), 1) := dk_2 (dk_at dksX0_goRound_4 3 rfl rfl)
theorem dX0_goRound_98 : decode cX0_goRound 98 = .ok (.ixor, 1) := dk_130 (dk_at dksX0_goRound_4 4 rfl rfl)
theorem dX0_goRound_99 : decode cX0_goRound 99 = .ok (.iand, 1) := dk_126 (dk_at dksX0_goRound_4 5 rfl rfl)
theorem dX0_goRound_100 : decode cX0_goRound 100 = .ok (.iload 5, 2) := dk_21 5 (dk_at dksX0_goRound_4 6 rfl rfl)
theorem dX0_goRound_102 : decode cX0_goRound 102 = .ok (.iload_n 2, 1) := dk_28 (dk_at dksX0_goRound_4 8 rfl rfl)
theorem dX0_goRound_103 : decode cX0_goRound 103 = .ok (.iload 6, 2) := dk_21 6 (dk_at dksX0_goRound_4 9 rfl rfl)
theorem dX0_goRound_105 : decode cX0_goRound 105 = .ok (.invokestatic 433, 3) := dk_184 1 177 (dk_at dksX0_goRound_4 11 rfl rfl)
theorem dX0_goRound_108 : decode cX0_goRound 108 = .ok (.iadd, 1) := dk_96 (dk_at dksX0_goRound_4 14 rfl rfl)
theorem dX0_goRound_109 : decode cX0_goRound 109 = .ok (.invokevirtual 448, 3) := dk_182 1 192 (dk_at dksX0_goRound_4 15 rfl rfl)
theorem dX0_goRound_112 : decode cX0_goRound 112 = .ok (.iinc 6 1, 3) := dk_132 6 1 (dk_at dksX0_goRound_4 18 rfl rfl)
theorem dX0_goRound_115 : decode cX0_goRound 115 = .ok (.goto (-59), 3) := dk_167 255 197 (dk_at dksX0_goRound_4 21 rfl rfl)
theorem dX0_goRound_118 : decode cX0_goRound 118 = .ok (.return_, 1) := dk_177 (dk_at dksX0_goRound_5 0 rfl rfl)
abbrev cX0_farFrom : ByteArray := prog_1_method_74_code
def yX0_farFrom : MethodName := ⟨RX0, "farFrom", "(II)I"⟩
def dkwX0_farFrom_0 : List UInt8 := [26, 8, 112, 27, 8, 112, 100, 184, 1, 174, 26, 8, 108, 27, 8, 108, 100, 184, 1, 174, 96, 172]
abbrev dktX0_farFrom_0 : List UInt8 := dkwX0_farFrom_0 ++ []
theorem dksX0_farFrom_0 : cX0_farFrom.data.toList.drop 0 = dktX0_farFrom_0 := by decide +kernel
theorem dX0_farFrom_0 : decode cX0_farFrom 0 = .ok (.iload_n 0, 1) := dk_26 (dk_at dksX0_farFrom_0 0 rfl rfl)
theorem dX0_farFrom_1 : decode cX0_farFrom 1 = .ok (.iconst 5, 1) := dk_8 (dk_at dksX0_farFrom_0 1 rfl rfl)
theorem dX0_farFrom_2 : decode cX0_farFrom 2 = .ok (.irem, 1) := dk_112 (dk_at dksX0_farFrom_0 2 rfl rfl)
theorem dX0_farFrom_3 : decode cX0_farFrom 3 = .ok (.iload_n 1, 1) := dk_27 (dk_at dksX0_farFrom_0 3 rfl rfl)
theorem dX0_farFrom_4 : decode cX0_farFrom 4 = .ok (.iconst 5, 1) := dk_8 (dk_at dksX0_farFrom_0 4 rfl rfl)
theorem dX0_farFrom_5 : decode cX0_farFrom 5 = .ok (.irem, 1) := dk_112 (dk_at dksX0_farFrom_0 5 rfl rfl)
theorem dX0_farFrom_6 : decode cX0_farFrom 6 = .ok (.isub, 1) := dk_100 (dk_at dksX0_farFrom_0 6 rfl rfl)
theorem dX0_farFrom_7 : decode cX0_farFrom 7 = .ok (.invokestatic 430, 3) := dk_184 1 174 (dk_at dksX0_farFrom_0 7 rfl rfl)
theorem dX0_farFrom_10 : decode cX0_farFrom 10 = .ok (.iload_n 0, 1) := dk_26 (dk_at dksX0_farFrom_0 10 rfl rfl)
theorem dX0_farFrom_11 : decode cX0_farFrom 11 = .ok (.iconst 5, 1) := dk_8 (dk_at dksX0_farFrom_0 11 rfl rfl)
theorem dX0_farFrom_12 : decode cX0_farFrom 12 = .ok (.idiv, 1) := dk_108 (dk_at dksX0_farFrom_0 12 rfl rfl)
theorem dX0_farFrom_13 : decode cX0_farFrom 13 = .ok (.iload_n 1, 1) := dk_27 (dk_at dksX0_farFrom_0 13 rfl rfl)
theorem dX0_farFrom_14 : decode cX0_farFrom 14 = .ok (.iconst 5, 1) := dk_8 (dk_at dksX0_farFrom_0 14 rfl rfl)
theorem dX0_farFrom_15 : decode cX0_farFrom 15 = .ok (.idiv, 1) := dk_108 (dk_at dksX0_farFrom_0 15 rfl rfl)
theorem dX0_farFrom_16 : decode cX0_farFrom 16 = .ok (.isub, 1) := dk_100 (dk_at dksX0_farFrom_0 16 rfl rfl)
theorem dX0_farFrom_17 : decode cX0_farFrom 17 = .ok (.invokestatic 430, 3) := dk_184 1 174 (dk_at dksX0_farFrom_0 17 rfl rfl)
theorem dX0_farFrom_20 : decode cX0_farFrom 20 = .ok (.iadd, 1) := dk_96 (dk_at dksX0_farFrom_0 20 rfl rfl)
theorem dX0_farFrom_21 : decode cX0_farFrom 21 = .ok (.ireturn, 1) := dk_172 (dk_at dksX0_farFrom_0 21 rfl rfl)
abbrev cX0_odds : ByteArray := prog_1_method_78_code
def yX0_odds : MethodName := ⟨RX0, "odds", "(II)J"⟩
def dkwX0_odds_6 : List UInt8 := [22, 7, 22, 9, 109, 167, 0, 8, 22, 5, 22, 9, 109, 173]
abbrev dktX0_odds_6 : List UInt8 := dkwX0_odds_6 ++ []
def dkwX0_odds_5 : List UInt8 := [22, 7, 9, 148, 154, 0, 6, 28, 133, 173, 22, 7, 22, 5, 184, 1, 197, 55, 9, 28, 154, 0, 11]
abbrev dktX0_odds_5 : List UInt8 := dkwX0_odds_5 ++ dktX0_odds_6
def dkwX0_odds_4 : List UInt8 := [182, 1, 158, 154, 0, 7, 4, 167, 0, 4, 3, 184, 1, 79, 133, 97, 55, 7, 132, 9, 1, 167, 255, 188]
abbrev dktX0_odds_4 : List UInt8 := dkwX0_odds_4 ++ dktX0_odds_5
def dkwX0_odds_3 : List UInt8 := [42, 29, 21, 4, 2, 130, 126, 21, 9, 128, 181, 1, 62, 22, 5, 10, 97, 55, 5, 22, 7, 42, 27]
abbrev dktX0_odds_3 : List UInt8 := dkwX0_odds_3 ++ dktX0_odds_4
def dkwX0_odds_2 : List UInt8 := [21, 9, 4, 42, 180, 0, 146, 120, 162, 0, 63, 21, 9, 21, 4, 2, 130, 126, 153, 0, 6, 167, 0, 44]
abbrev dktX0_odds_2 : List UInt8 := dkwX0_odds_2 ++ dktX0_odds_3
def dkwX0_odds_1 : List UInt8 := [182, 1, 103, 42, 180, 1, 62, 62, 42, 27, 182, 1, 152, 54, 4, 9, 55, 5, 9, 55, 7, 3, 54, 9]
abbrev dktX0_odds_1 : List UInt8 := dkwX0_odds_1 ++ dktX0_odds_2
def dkwX0_odds_0 : List UInt8 := [42, 27, 133, 182, 0, 160, 153, 0, 13, 28, 133, 9, 10, 184, 0, 121, 154, 0, 7, 20, 1, 203, 173, 42]
abbrev dktX0_odds_0 : List UInt8 := dkwX0_odds_0 ++ dktX0_odds_1
theorem dksX0_odds_0 : cX0_odds.data.toList.drop 0 = dktX0_odds_0 := by decide +kernel
theorem dksX0_odds_1 : cX0_odds.data.toList.drop 24 = dktX0_odds_1 := dk_seg dksX0_odds_0 24 rfl rfl
theorem dksX0_odds_2 : cX0_odds.data.toList.drop 48 = dktX0_odds_2 := dk_seg dksX0_odds_1 24 rfl rfl
theorem dksX0_odds_3 : cX0_odds.data.toList.drop 72 = dktX0_odds_3 := dk_seg dksX0_odds_2 24 rfl rfl
theorem dksX0_odds_4 : cX0_odds.data.toList.drop 95 = dktX0_odds_4 := dk_seg dksX0_odds_3 23 rfl rfl
theorem dksX0_odds_5 : cX0_odds.data.toList.drop 119 = dktX0_odds_5 := dk_seg dksX0_odds_4 24 rfl rfl
theorem dksX0_odds_6 : cX0_odds.data.toList.drop 142 = dktX0_odds_6 := dk_seg dksX0_odds_5 23 rfl rfl
theorem dX0_odds_0 : decode cX0_odds 0 = .ok (.aload_n 0, 1) := dk_42 (dk_at dksX0_odds_0 0 rfl rfl)
theorem dX0_odds_1 : decode cX0_odds 1 = .ok (.iload_n 1, 1) := dk_27 (dk_at dksX0_odds_0 1 rfl rfl)
theorem dX0_odds_2 : decode cX0_odds 2 = .ok (.i2l, 1) := dk_133 (dk_at dksX0_odds_0 2 rfl rfl)
theorem dX0_odds_3 : decode cX0_odds 3 = .ok (.invokevirtual 160, 3) := dk_182 0 160 (dk_at dksX0_odds_0 3 rfl rfl)
theorem dX0_odds_6 : decode cX0_odds 6 = .ok (.ifCond .eq 13, 3) := dk_153 0 13 (dk_at dksX0_odds_0 6 rfl rfl)
theorem dX0_odds_9 : decode cX0_odds 9 = .ok (.iload_n 2, 1) := dk_28 (dk_at dksX0_odds_0 9 rfl rfl)
theorem dX0_odds_10 : decode cX0_odds 10 = .ok (.i2l, 1) := dk_133 (dk_at dksX0_odds_0 10 rfl rfl)
theorem dX0_odds_11 : decode cX0_odds 11 = .ok (.lconst 0, 1) := dk_9 (dk_at dksX0_odds_0 11 rfl rfl)
theorem dX0_odds_12 : decode cX0_odds 12 = .ok (.lconst 1, 1) := dk_10 (dk_at dksX0_odds_0 12 rfl rfl)
theorem dX0_odds_13 : decode cX0_odds 13 = .ok (.invokestatic 121, 3) := dk_184 0 121 (dk_at dksX0_odds_0 13 rfl rfl)
theorem dX0_odds_16 : decode cX0_odds 16 = .ok (.ifCond .ne 7, 3) := dk_154 0 7 (dk_at dksX0_odds_0 16 rfl rfl)
theorem dX0_odds_19 : decode cX0_odds 19 = .ok (.ldc2_w 459, 3) := dk_20 1 203 (dk_at dksX0_odds_0 19 rfl rfl)
theorem dX0_odds_22 : decode cX0_odds 22 = .ok (.lreturn, 1) := dk_173 (dk_at dksX0_odds_0 22 rfl rfl)
theorem dX0_odds_23 : decode cX0_odds 23 = .ok (.aload_n 0, 1) := dk_42 (dk_at dksX0_odds_0 23 rfl rfl)
theorem dX0_odds_24 : decode cX0_odds 24 = .ok (.invokevirtual 359, 3) := dk_182 1 103 (dk_at dksX0_odds_1 0 rfl rfl)
theorem dX0_odds_27 : decode cX0_odds 27 = .ok (.aload_n 0, 1) := dk_42 (dk_at dksX0_odds_1 3 rfl rfl)
theorem dX0_odds_28 : decode cX0_odds 28 = .ok (.getfield 318, 3) := dk_180 1 62 (dk_at dksX0_odds_1 4 rfl rfl)
theorem dX0_odds_31 : decode cX0_odds 31 = .ok (.istore_n 3, 1) := dk_62 (dk_at dksX0_odds_1 7 rfl rfl)
theorem dX0_odds_32 : decode cX0_odds 32 = .ok (.aload_n 0, 1) := dk_42 (dk_at dksX0_odds_1 8 rfl rfl)
theorem dX0_odds_33 : decode cX0_odds 33 = .ok (.iload_n 1, 1) := dk_27 (dk_at dksX0_odds_1 9 rfl rfl)
theorem dX0_odds_34 : decode cX0_odds 34 = .ok (.invokevirtual 408, 3) := dk_182 1 152 (dk_at dksX0_odds_1 10 rfl rfl)
theorem dX0_odds_37 : decode cX0_odds 37 = .ok (.istore 4, 2) := dk_54 4 (dk_at dksX0_odds_1 13 rfl rfl)
theorem dX0_odds_39 : decode cX0_odds 39 = .ok (.lconst 0, 1) := dk_9 (dk_at dksX0_odds_1 15 rfl rfl)
theorem dX0_odds_40 : decode cX0_odds 40 = .ok (.lstore 5, 2) := dk_55 5 (dk_at dksX0_odds_1 16 rfl rfl)
theorem dX0_odds_42 : decode cX0_odds 42 = .ok (.lconst 0, 1) := dk_9 (dk_at dksX0_odds_1 18 rfl rfl)
theorem dX0_odds_43 : decode cX0_odds 43 = .ok (.lstore 7, 2) := dk_55 7 (dk_at dksX0_odds_1 19 rfl rfl)
theorem dX0_odds_45 : decode cX0_odds 45 = .ok (.iconst 0, 1) := dk_3 (dk_at dksX0_odds_1 21 rfl rfl)
theorem dX0_odds_46 : decode cX0_odds 46 = .ok (.istore 9, 2) := dk_54 9 (dk_at dksX0_odds_1 22 rfl rfl)
theorem dX0_odds_48 : decode cX0_odds 48 = .ok (.iload 9, 2) := dk_21 9 (dk_at dksX0_odds_2 0 rfl rfl)
theorem dX0_odds_50 : decode cX0_odds 50 = .ok (.iconst 1, 1) := dk_4 (dk_at dksX0_odds_2 2 rfl rfl)
theorem dX0_odds_51 : decode cX0_odds 51 = .ok (.aload_n 0, 1) := dk_42 (dk_at dksX0_odds_2 3 rfl rfl)
theorem dX0_odds_52 : decode cX0_odds 52 = .ok (.getfield 146, 3) := dk_180 0 146 (dk_at dksX0_odds_2 4 rfl rfl)
theorem dX0_odds_55 : decode cX0_odds 55 = .ok (.ishl, 1) := dk_120 (dk_at dksX0_odds_2 7 rfl rfl)
theorem dX0_odds_56 : decode cX0_odds 56 = .ok (.if_icmp .ge 63, 3) := dk_162 0 63 (dk_at dksX0_odds_2 8 rfl rfl)
theorem dX0_odds_59 : decode cX0_odds 59 = .ok (.iload 9, 2) := dk_21 9 (dk_at dksX0_odds_2 11 rfl rfl)
theorem dX0_odds_61 : decode cX0_odds 61 = .ok (.iload 4, 2) := dk_21 4 (dk_at dksX0_odds_2 13 rfl rfl)
theorem dX0_odds_63 : decode cX0_odds 63 = .ok (.iconst (-1), 1) := dk_2 (dk_at dksX0_odds_2 15 rfl rfl)
theorem dX0_odds_64 : decode cX0_odds 64 = .ok (.ixor, 1) := dk_130 (dk_at dksX0_odds_2 16 rfl rfl)
theorem dX0_odds_65 : decode cX0_odds 65 = .ok (.iand, 1) := dk_126 (dk_at dksX0_odds_2 17 rfl rfl)
theorem dX0_odds_66 : decode cX0_odds 66 = .ok (.ifCond .eq 6, 3) := dk_153 0 6 (dk_at dksX0_odds_2 18 rfl rfl)
theorem dX0_odds_69 : decode cX0_odds 69 = .ok (.goto 44, 3) := dk_167 0 44 (dk_at dksX0_odds_2 21 rfl rfl)
theorem dX0_odds_72 : decode cX0_odds 72 = .ok (.aload_n 0, 1) := dk_42 (dk_at dksX0_odds_3 0 rfl rfl)
theorem dX0_odds_73 : decode cX0_odds 73 = .ok (.iload_n 3, 1) := dk_29 (dk_at dksX0_odds_3 1 rfl rfl)
theorem dX0_odds_74 : decode cX0_odds 74 = .ok (.iload 4, 2) := dk_21 4 (dk_at dksX0_odds_3 2 rfl rfl)
theorem dX0_odds_76 : decode cX0_odds 76 = .ok (.iconst (-1), 1) := dk_2 (dk_at dksX0_odds_3 4 rfl rfl)
theorem dX0_odds_77 : decode cX0_odds 77 = .ok (.ixor, 1) := dk_130 (dk_at dksX0_odds_3 5 rfl rfl)
theorem dX0_odds_78 : decode cX0_odds 78 = .ok (.iand, 1) := dk_126 (dk_at dksX0_odds_3 6 rfl rfl)
theorem dX0_odds_79 : decode cX0_odds 79 = .ok (.iload 9, 2) := dk_21 9 (dk_at dksX0_odds_3 7 rfl rfl)
theorem dX0_odds_81 : decode cX0_odds 81 = .ok (.ior, 1) := dk_128 (dk_at dksX0_odds_3 9 rfl rfl)
theorem dX0_odds_82 : decode cX0_odds 82 = .ok (.putfield 318, 3) := dk_181 1 62 (dk_at dksX0_odds_3 10 rfl rfl)
theorem dX0_odds_85 : decode cX0_odds 85 = .ok (.lload 5, 2) := dk_22 5 (dk_at dksX0_odds_3 13 rfl rfl)
theorem dX0_odds_87 : decode cX0_odds 87 = .ok (.lconst 1, 1) := dk_10 (dk_at dksX0_odds_3 15 rfl rfl)
theorem dX0_odds_88 : decode cX0_odds 88 = .ok (.ladd, 1) := dk_97 (dk_at dksX0_odds_3 16 rfl rfl)
theorem dX0_odds_89 : decode cX0_odds 89 = .ok (.lstore 5, 2) := dk_55 5 (dk_at dksX0_odds_3 17 rfl rfl)
theorem dX0_odds_91 : decode cX0_odds 91 = .ok (.lload 7, 2) := dk_22 7 (dk_at dksX0_odds_3 19 rfl rfl)
theorem dX0_odds_93 : decode cX0_odds 93 = .ok (.aload_n 0, 1) := dk_42 (dk_at dksX0_odds_3 21 rfl rfl)
theorem dX0_odds_94 : decode cX0_odds 94 = .ok (.iload_n 1, 1) := dk_27 (dk_at dksX0_odds_3 22 rfl rfl)
theorem dX0_odds_95 : decode cX0_odds 95 = .ok (.invokevirtual 414, 3) := dk_182 1 158 (dk_at dksX0_odds_4 0 rfl rfl)
theorem dX0_odds_98 : decode cX0_odds 98 = .ok (.ifCond .ne 7, 3) := dk_154 0 7 (dk_at dksX0_odds_4 3 rfl rfl)
theorem dX0_odds_101 : decode cX0_odds 101 = .ok (.iconst 1, 1) := dk_4 (dk_at dksX0_odds_4 6 rfl rfl)
theorem dX0_odds_102 : decode cX0_odds 102 = .ok (.goto 4, 3) := dk_167 0 4 (dk_at dksX0_odds_4 7 rfl rfl)
theorem dX0_odds_105 : decode cX0_odds 105 = .ok (.iconst 0, 1) := dk_3 (dk_at dksX0_odds_4 10 rfl rfl)
theorem dX0_odds_106 : decode cX0_odds 106 = .ok (.invokestatic 335, 3) := dk_184 1 79 (dk_at dksX0_odds_4 11 rfl rfl)
theorem dX0_odds_109 : decode cX0_odds 109 = .ok (.i2l, 1) := dk_133 (dk_at dksX0_odds_4 14 rfl rfl)
theorem dX0_odds_110 : decode cX0_odds 110 = .ok (.ladd, 1) := dk_97 (dk_at dksX0_odds_4 15 rfl rfl)
theorem dX0_odds_111 : decode cX0_odds 111 = .ok (.lstore 7, 2) := dk_55 7 (dk_at dksX0_odds_4 16 rfl rfl)
theorem dX0_odds_113 : decode cX0_odds 113 = .ok (.iinc 9 1, 3) := dk_132 9 1 (dk_at dksX0_odds_4 18 rfl rfl)
theorem dX0_odds_116 : decode cX0_odds 116 = .ok (.goto (-68), 3) := dk_167 255 188 (dk_at dksX0_odds_4 21 rfl rfl)
theorem dX0_odds_119 : decode cX0_odds 119 = .ok (.lload 7, 2) := dk_22 7 (dk_at dksX0_odds_5 0 rfl rfl)
theorem dX0_odds_121 : decode cX0_odds 121 = .ok (.lconst 0, 1) := dk_9 (dk_at dksX0_odds_5 2 rfl rfl)
theorem dX0_odds_122 : decode cX0_odds 122 = .ok (.lcmp, 1) := dk_148 (dk_at dksX0_odds_5 3 rfl rfl)
theorem dX0_odds_123 : decode cX0_odds 123 = .ok (.ifCond .ne 6, 3) := dk_154 0 6 (dk_at dksX0_odds_5 4 rfl rfl)
theorem dX0_odds_126 : decode cX0_odds 126 = .ok (.iload_n 2, 1) := dk_28 (dk_at dksX0_odds_5 7 rfl rfl)
theorem dX0_odds_127 : decode cX0_odds 127 = .ok (.i2l, 1) := dk_133 (dk_at dksX0_odds_5 8 rfl rfl)
theorem dX0_odds_128 : decode cX0_odds 128 = .ok (.lreturn, 1) := dk_173 (dk_at dksX0_odds_5 9 rfl rfl)
theorem dX0_odds_129 : decode cX0_odds 129 = .ok (.lload 7, 2) := dk_22 7 (dk_at dksX0_odds_5 10 rfl rfl)
theorem dX0_odds_131 : decode cX0_odds 131 = .ok (.lload 5, 2) := dk_22 5 (dk_at dksX0_odds_5 12 rfl rfl)
theorem dX0_odds_133 : decode cX0_odds 133 = .ok (.invokestatic 453, 3) := dk_184 1 197 (dk_at dksX0_odds_5 14 rfl rfl)
theorem dX0_odds_136 : decode cX0_odds 136 = .ok (.lstore 9, 2) := dk_55 9 (dk_at dksX0_odds_5 17 rfl rfl)
theorem dX0_odds_138 : decode cX0_odds 138 = .ok (.iload_n 2, 1) := dk_28 (dk_at dksX0_odds_5 19 rfl rfl)
theorem dX0_odds_139 : decode cX0_odds 139 = .ok (.ifCond .ne 11, 3) := dk_154 0 11 (dk_at dksX0_odds_5 20 rfl rfl)
theorem dX0_odds_142 : decode cX0_odds 142 = .ok (.lload 7, 2) := dk_22 7 (dk_at dksX0_odds_6 0 rfl rfl)
theorem dX0_odds_144 : decode cX0_odds 144 = .ok (.lload 9, 2) := dk_22 9 (dk_at dksX0_odds_6 2 rfl rfl)
theorem dX0_odds_146 : decode cX0_odds 146 = .ok (.ldiv, 1) := dk_109 (dk_at dksX0_odds_6 4 rfl rfl)
theorem dX0_odds_147 : decode cX0_odds 147 = .ok (.goto 8, 3) := dk_167 0 8 (dk_at dksX0_odds_6 5 rfl rfl)
theorem dX0_odds_150 : decode cX0_odds 150 = .ok (.lload 5, 2) := dk_22 5 (dk_at dksX0_odds_6 8 rfl rfl)
theorem dX0_odds_152 : decode cX0_odds 152 = .ok (.lload 9, 2) := dk_22 9 (dk_at dksX0_odds_6 10 rfl rfl)
theorem dX0_odds_154 : decode cX0_odds 154 = .ok (.ldiv, 1) := dk_109 (dk_at dksX0_odds_6 12 rfl rfl)
theorem dX0_odds_155 : decode cX0_odds 155 = .ok (.lreturn, 1) := dk_173 (dk_at dksX0_odds_6 13 rfl rfl)
abbrev cX0_common : ByteArray := prog_1_method_77_code
def yX0_common : MethodName := ⟨RX0, "common", "(JJ)J"⟩
def dkwX0_common_0 : List UInt8 := [32, 9, 148, 154, 0, 7, 30, 167, 0, 10, 32, 30, 32, 113, 184, 1, 197, 173]
abbrev dktX0_common_0 : List UInt8 := dkwX0_common_0 ++ []
theorem dksX0_common_0 : cX0_common.data.toList.drop 0 = dktX0_common_0 := by decide +kernel
theorem dX0_common_0 : decode cX0_common 0 = .ok (.lload_n 2, 1) := dk_32 (dk_at dksX0_common_0 0 rfl rfl)
theorem dX0_common_1 : decode cX0_common 1 = .ok (.lconst 0, 1) := dk_9 (dk_at dksX0_common_0 1 rfl rfl)
theorem dX0_common_2 : decode cX0_common 2 = .ok (.lcmp, 1) := dk_148 (dk_at dksX0_common_0 2 rfl rfl)
theorem dX0_common_3 : decode cX0_common 3 = .ok (.ifCond .ne 7, 3) := dk_154 0 7 (dk_at dksX0_common_0 3 rfl rfl)
theorem dX0_common_6 : decode cX0_common 6 = .ok (.lload_n 0, 1) := dk_30 (dk_at dksX0_common_0 6 rfl rfl)
theorem dX0_common_7 : decode cX0_common 7 = .ok (.goto 10, 3) := dk_167 0 10 (dk_at dksX0_common_0 7 rfl rfl)
theorem dX0_common_10 : decode cX0_common 10 = .ok (.lload_n 2, 1) := dk_32 (dk_at dksX0_common_0 10 rfl rfl)
theorem dX0_common_11 : decode cX0_common 11 = .ok (.lload_n 0, 1) := dk_30 (dk_at dksX0_common_0 11 rfl rfl)
theorem dX0_common_12 : decode cX0_common 12 = .ok (.lload_n 2, 1) := dk_32 (dk_at dksX0_common_0 12 rfl rfl)
theorem dX0_common_13 : decode cX0_common 13 = .ok (.lrem, 1) := dk_113 (dk_at dksX0_common_0 13 rfl rfl)
theorem dX0_common_14 : decode cX0_common 14 = .ok (.invokestatic 453, 3) := dk_184 1 197 (dk_at dksX0_common_0 14 rfl rfl)
theorem dX0_common_17 : decode cX0_common 17 = .ok (.lreturn, 1) := dk_173 (dk_at dksX0_common_0 17 rfl rfl)
abbrev cX0_rued : ByteArray := prog_1_method_79_code
def yX0_rued : MethodName := ⟨RX0, "rued", "(II)I"⟩
def dkwX0_rued_9 : List UInt8 := [29, 172]
abbrev dktX0_rued_9 : List UInt8 := dkwX0_rued_9 ++ []
def dkwX0_rued_8 : List UInt8 := [62, 132, 7, 1, 167, 255, 196, 42, 27, 21, 4, 21, 6, 182, 1, 148, 54, 4, 132, 5, 1, 167, 255, 155]
abbrev dktX0_rued_8 : List UInt8 := dkwX0_rued_8 ++ dktX0_rued_9
def dkwX0_rued_7 : List UInt8 := [180, 0, 56, 21, 7, 50, 5, 182, 1, 65, 184, 1, 67, 153, 0, 12, 29, 4, 21, 7, 120, 2, 130, 126]
abbrev dktX0_rued_7 : List UInt8 := dkwX0_rued_7 ++ dktX0_rued_8
def dkwX0_rued_6 : List UInt8 := [21, 7, 184, 1, 67, 153, 0, 42, 42, 21, 7, 21, 6, 182, 1, 70, 153, 0, 31, 21, 4, 42]
abbrev dktX0_rued_6 : List UInt8 := dkwX0_rued_6 ++ dktX0_rued_7
def dkwX0_rued_5 : List UInt8 := [180, 0, 3, 21, 5, 96, 184, 1, 124, 54, 6, 3, 54, 7, 21, 7, 42, 180, 0, 146, 162, 0, 57, 29]
abbrev dktX0_rued_5 : List UInt8 := dkwX0_rued_5 ++ dktX0_rued_6
def dkwX0_rued_4 : List UInt8 := [180, 0, 171, 180, 0, 3, 120, 54, 4, 3, 54, 5, 21, 5, 28, 163, 0, 101, 42, 180, 0, 67]
abbrev dktX0_rued_4 : List UInt8 := dkwX0_rued_4 ++ dktX0_rued_5
def dkwX0_rued_3 : List UInt8 := [3, 184, 1, 79, 21, 4, 120, 128, 62, 132, 4, 1, 167, 255, 204, 4, 42, 180, 0, 50, 27, 50]
abbrev dktX0_rued_3 : List UInt8 := dkwX0_rued_3 ++ dktX0_rued_4
def dkwX0_rued_2 : List UInt8 := [50, 180, 0, 229, 27, 160, 0, 19, 42, 180, 1, 59, 21, 4, 184, 1, 67, 154, 0, 7, 4, 167, 0, 4]
abbrev dktX0_rued_2 : List UInt8 := dkwX0_rued_2 ++ dktX0_rued_3
def dkwX0_rued_1 : List UInt8 := [182, 1, 103, 3, 62, 3, 54, 4, 21, 4, 42, 180, 0, 146, 162, 0, 49, 29, 42, 180, 0, 56, 21, 4]
abbrev dktX0_rued_1 : List UInt8 := dkwX0_rued_1 ++ dktX0_rued_2
def dkwX0_rued_0 : List UInt8 := [42, 27, 133, 182, 0, 160, 153, 0, 15, 28, 133, 9, 20, 1, 205, 184, 0, 121, 154, 0, 5, 2, 172, 42]
abbrev dktX0_rued_0 : List UInt8 := dkwX0_rued_0 ++ dktX0_rued_1
theorem dksX0_rued_0 : cX0_rued.data.toList.drop 0 = dktX0_rued_0 := by decide +kernel
theorem dksX0_rued_1 : cX0_rued.data.toList.drop 24 = dktX0_rued_1 := dk_seg dksX0_rued_0 24 rfl rfl
theorem dksX0_rued_2 : cX0_rued.data.toList.drop 48 = dktX0_rued_2 := dk_seg dksX0_rued_1 24 rfl rfl
theorem dksX0_rued_3 : cX0_rued.data.toList.drop 72 = dktX0_rued_3 := dk_seg dksX0_rued_2 24 rfl rfl
theorem dksX0_rued_4 : cX0_rued.data.toList.drop 94 = dktX0_rued_4 := dk_seg dksX0_rued_3 22 rfl rfl
theorem dksX0_rued_5 : cX0_rued.data.toList.drop 116 = dktX0_rued_5 := dk_seg dksX0_rued_4 22 rfl rfl
theorem dksX0_rued_6 : cX0_rued.data.toList.drop 140 = dktX0_rued_6 := dk_seg dksX0_rued_5 24 rfl rfl
theorem dksX0_rued_7 : cX0_rued.data.toList.drop 162 = dktX0_rued_7 := dk_seg dksX0_rued_6 22 rfl rfl
theorem dksX0_rued_8 : cX0_rued.data.toList.drop 186 = dktX0_rued_8 := dk_seg dksX0_rued_7 24 rfl rfl
theorem dksX0_rued_9 : cX0_rued.data.toList.drop 210 = dktX0_rued_9 := dk_seg dksX0_rued_8 24 rfl rfl
theorem dX0_rued_0 : decode cX0_rued 0 = .ok (.aload_n 0, 1) := dk_42 (dk_at dksX0_rued_0 0 rfl rfl)
theorem dX0_rued_1 : decode cX0_rued 1 = .ok (.iload_n 1, 1) := dk_27 (dk_at dksX0_rued_0 1 rfl rfl)
theorem dX0_rued_2 : decode cX0_rued 2 = .ok (.i2l, 1) := dk_133 (dk_at dksX0_rued_0 2 rfl rfl)
theorem dX0_rued_3 : decode cX0_rued 3 = .ok (.invokevirtual 160, 3) := dk_182 0 160 (dk_at dksX0_rued_0 3 rfl rfl)
theorem dX0_rued_6 : decode cX0_rued 6 = .ok (.ifCond .eq 15, 3) := dk_153 0 15 (dk_at dksX0_rued_0 6 rfl rfl)
theorem dX0_rued_9 : decode cX0_rued 9 = .ok (.iload_n 2, 1) := dk_28 (dk_at dksX0_rued_0 9 rfl rfl)
theorem dX0_rued_10 : decode cX0_rued 10 = .ok (.i2l, 1) := dk_133 (dk_at dksX0_rued_0 10 rfl rfl)
theorem dX0_rued_11 : decode cX0_rued 11 = .ok (.lconst 0, 1) := dk_9 (dk_at dksX0_rued_0 11 rfl rfl)
theorem dX0_rued_12 : decode cX0_rued 12 = .ok (.ldc2_w 461, 3) := dk_20 1 205 (dk_at dksX0_rued_0 12 rfl rfl)
theorem dX0_rued_15 : decode cX0_rued 15 = .ok (.invokestatic 121, 3) := dk_184 0 121 (dk_at dksX0_rued_0 15 rfl rfl)
theorem dX0_rued_18 : decode cX0_rued 18 = .ok (.ifCond .ne 5, 3) := dk_154 0 5 (dk_at dksX0_rued_0 18 rfl rfl)
theorem dX0_rued_21 : decode cX0_rued 21 = .ok (.iconst (-1), 1) := dk_2 (dk_at dksX0_rued_0 21 rfl rfl)
theorem dX0_rued_22 : decode cX0_rued 22 = .ok (.ireturn, 1) := dk_172 (dk_at dksX0_rued_0 22 rfl rfl)
theorem dX0_rued_23 : decode cX0_rued 23 = .ok (.aload_n 0, 1) := dk_42 (dk_at dksX0_rued_0 23 rfl rfl)
theorem dX0_rued_24 : decode cX0_rued 24 = .ok (.invokevirtual 359, 3) := dk_182 1 103 (dk_at dksX0_rued_1 0 rfl rfl)
theorem dX0_rued_27 : decode cX0_rued 27 = .ok (.iconst 0, 1) := dk_3 (dk_at dksX0_rued_1 3 rfl rfl)
theorem dX0_rued_28 : decode cX0_rued 28 = .ok (.istore_n 3, 1) := dk_62 (dk_at dksX0_rued_1 4 rfl rfl)
theorem dX0_rued_29 : decode cX0_rued 29 = .ok (.iconst 0, 1) := dk_3 (dk_at dksX0_rued_1 5 rfl rfl)
theorem dX0_rued_30 : decode cX0_rued 30 = .ok (.istore 4, 2) := dk_54 4 (dk_at dksX0_rued_1 6 rfl rfl)
theorem dX0_rued_32 : decode cX0_rued 32 = .ok (.iload 4, 2) := dk_21 4 (dk_at dksX0_rued_1 8 rfl rfl)
theorem dX0_rued_34 : decode cX0_rued 34 = .ok (.aload_n 0, 1) := dk_42 (dk_at dksX0_rued_1 10 rfl rfl)
theorem dX0_rued_35 : decode cX0_rued 35 = .ok (.getfield 146, 3) := dk_180 0 146 (dk_at dksX0_rued_1 11 rfl rfl)
theorem dX0_rued_38 : decode cX0_rued 38 = .ok (.if_icmp .ge 49, 3) := dk_162 0 49 (dk_at dksX0_rued_1 14 rfl rfl)
theorem dX0_rued_41 : decode cX0_rued 41 = .ok (.iload_n 3, 1) := dk_29 (dk_at dksX0_rued_1 17 rfl rfl)
theorem dX0_rued_42 : decode cX0_rued 42 = .ok (.aload_n 0, 1) := dk_42 (dk_at dksX0_rued_1 18 rfl rfl)
theorem dX0_rued_43 : decode cX0_rued 43 = .ok (.getfield 56, 3) := dk_180 0 56 (dk_at dksX0_rued_1 19 rfl rfl)
theorem dX0_rued_46 : decode cX0_rued 46 = .ok (.iload 4, 2) := dk_21 4 (dk_at dksX0_rued_1 22 rfl rfl)
theorem dX0_rued_48 : decode cX0_rued 48 = .ok (.aaload, 1) := dk_50 (dk_at dksX0_rued_2 0 rfl rfl)
theorem dX0_rued_49 : decode cX0_rued 49 = .ok (.getfield 229, 3) := dk_180 0 229 (dk_at dksX0_rued_2 1 rfl rfl)
theorem dX0_rued_52 : decode cX0_rued 52 = .ok (.iload_n 1, 1) := dk_27 (dk_at dksX0_rued_2 4 rfl rfl)
theorem dX0_rued_53 : decode cX0_rued 53 = .ok (.if_icmp .ne 19, 3) := dk_160 0 19 (dk_at dksX0_rued_2 5 rfl rfl)
theorem dX0_rued_56 : decode cX0_rued 56 = .ok (.aload_n 0, 1) := dk_42 (dk_at dksX0_rued_2 8 rfl rfl)
theorem dX0_rued_57 : decode cX0_rued 57 = .ok (.getfield 315, 3) := dk_180 1 59 (dk_at dksX0_rued_2 9 rfl rfl)
theorem dX0_rued_60 : decode cX0_rued 60 = .ok (.iload 4, 2) := dk_21 4 (dk_at dksX0_rued_2 12 rfl rfl)
theorem dX0_rued_62 : decode cX0_rued 62 = .ok (.invokestatic 323, 3) := dk_184 1 67 (dk_at dksX0_rued_2 14 rfl rfl)
theorem dX0_rued_65 : decode cX0_rued 65 = .ok (.ifCond .ne 7, 3) := dk_154 0 7 (dk_at dksX0_rued_2 17 rfl rfl)
theorem dX0_rued_68 : decode cX0_rued 68 = .ok (.iconst 1, 1) := dk_4 (dk_at dksX0_rued_2 20 rfl rfl)
theorem dX0_rued_69 : decode cX0_rued 69 = .ok (.goto 4, 3) := dk_167 0 4 (dk_at dksX0_rued_2 21 rfl rfl)
theorem dX0_rued_72 : decode cX0_rued 72 = .ok (.iconst 0, 1) := dk_3 (dk_at dksX0_rued_3 0 rfl rfl)
theorem dX0_rued_73 : decode cX0_rued 73 = .ok (.invokestatic 335, 3) := dk_184 1 79 (dk_at dksX0_rued_3 1 rfl rfl)
theorem dX0_rued_76 : decode cX0_rued 76 = .ok (.iload 4, 2) := dk_21 4 (dk_at dksX0_rued_3 4 rfl rfl)
theorem dX0_rued_78 : decode cX0_rued 78 = .ok (.ishl, 1) := dk_120 (dk_at dksX0_rued_3 6 rfl rfl)
theorem dX0_rued_79 : decode cX0_rued 79 = .ok (.ior, 1) := dk_128 (dk_at dksX0_rued_3 7 rfl rfl)
theorem dX0_rued_80 : decode cX0_rued 80 = .ok (.istore_n 3, 1) := dk_62 (dk_at dksX0_rued_3 8 rfl rfl)
theorem dX0_rued_81 : decode cX0_rued 81 = .ok (.iinc 4 1, 3) := dk_132 4 1 (dk_at dksX0_rued_3 9 rfl rfl)
theorem dX0_rued_84 : decode cX0_rued 84 = .ok (.goto (-52), 3) := dk_167 255 204 (dk_at dksX0_rued_3 12 rfl rfl)
theorem dX0_rued_87 : decode cX0_rued 87 = .ok (.iconst 1, 1) := dk_4 (dk_at dksX0_rued_3 15 rfl rfl)
theorem dX0_rued_88 : decode cX0_rued 88 = .ok (.aload_n 0, 1) := dk_42 (dk_at dksX0_rued_3 16 rfl rfl)
theorem dX0_rued_89 : decode cX0_rued 89 = .ok (.getfield 50, 3) := dk_180 0 50 (dk_at dksX0_rued_3 17 rfl rfl)
theorem dX0_rued_92 : decode cX0_rued 92 = .ok (.iload_n 1, 1) := dk_27 (dk_at dksX0_rued_3 20 rfl rfl)
theorem dX0_rued_93 : decode cX0_rued 93 = .ok (.aaload, 1) := dk_50 (dk_at dksX0_rued_3 21 rfl rfl)
theorem dX0_rued_94 : decode cX0_rued 94 = .ok (.getfield 171, 3) := dk_180 0 171 (dk_at dksX0_rued_4 0 rfl rfl)
theorem dX0_rued_97 : decode cX0_rued 97 = .ok (.getfield 3, 3) := dk_180 0 3 (dk_at dksX0_rued_4 3 rfl rfl)
theorem dX0_rued_100 : decode cX0_rued 100 = .ok (.ishl, 1) := dk_120 (dk_at dksX0_rued_4 6 rfl rfl)
theorem dX0_rued_101 : decode cX0_rued 101 = .ok (.istore 4, 2) := dk_54 4 (dk_at dksX0_rued_4 7 rfl rfl)
theorem dX0_rued_103 : decode cX0_rued 103 = .ok (.iconst 0, 1) := dk_3 (dk_at dksX0_rued_4 9 rfl rfl)
theorem dX0_rued_104 : decode cX0_rued 104 = .ok (.istore 5, 2) := dk_54 5 (dk_at dksX0_rued_4 10 rfl rfl)
theorem dX0_rued_106 : decode cX0_rued 106 = .ok (.iload 5, 2) := dk_21 5 (dk_at dksX0_rued_4 12 rfl rfl)
theorem dX0_rued_108 : decode cX0_rued 108 = .ok (.iload_n 2, 1) := dk_28 (dk_at dksX0_rued_4 14 rfl rfl)
theorem dX0_rued_109 : decode cX0_rued 109 = .ok (.if_icmp .gt 101, 3) := dk_163 0 101 (dk_at dksX0_rued_4 15 rfl rfl)
theorem dX0_rued_112 : decode cX0_rued 112 = .ok (.aload_n 0, 1) := dk_42 (dk_at dksX0_rued_4 18 rfl rfl)
theorem dX0_rued_113 : decode cX0_rued 113 = .ok (.getfield 67, 3) := dk_180 0 67 (dk_at dksX0_rued_4 19 rfl rfl)
theorem dX0_rued_116 : decode cX0_rued 116 = .ok (.getfield 3, 3) := dk_180 0 3 (dk_at dksX0_rued_5 0 rfl rfl)
theorem dX0_rued_119 : decode cX0_rued 119 = .ok (.iload 5, 2) := dk_21 5 (dk_at dksX0_rued_5 3 rfl rfl)
theorem dX0_rued_121 : decode cX0_rued 121 = .ok (.iadd, 1) := dk_96 (dk_at dksX0_rued_5 5 rfl rfl)
theorem dX0_rued_122 : decode cX0_rued 122 = .ok (.invokestatic 380, 3) := dk_184 1 124 (dk_at dksX0_rued_5 6 rfl rfl)
theorem dX0_rued_125 : decode cX0_rued 125 = .ok (.istore 6, 2) := dk_54 6 (dk_at dksX0_rued_5 9 rfl rfl)
theorem dX0_rued_127 : decode cX0_rued 127 = .ok (.iconst 0, 1) := dk_3 (dk_at dksX0_rued_5 11 rfl rfl)
theorem dX0_rued_128 : decode cX0_rued 128 = .ok (.istore 7, 2) := dk_54 7 (dk_at dksX0_rued_5 12 rfl rfl)
theorem dX0_rued_130 : decode cX0_rued 130 = .ok (.iload 7, 2) := dk_21 7 (dk_at dksX0_rued_5 14 rfl rfl)
theorem dX0_rued_132 : decode cX0_rued 132 = .ok (.aload_n 0, 1) := dk_42 (dk_at dksX0_rued_5 16 rfl rfl)
theorem dX0_rued_133 : decode cX0_rued 133 = .ok (.getfield 146, 3) := dk_180 0 146 (dk_at dksX0_rued_5 17 rfl rfl)
theorem dX0_rued_136 : decode cX0_rued 136 = .ok (.if_icmp .ge 57, 3) := dk_162 0 57 (dk_at dksX0_rued_5 20 rfl rfl)
theorem dX0_rued_139 : decode cX0_rued 139 = .ok (.iload_n 3, 1) := dk_29 (dk_at dksX0_rued_5 23 rfl rfl)
theorem dX0_rued_140 : decode cX0_rued 140 = .ok (.iload 7, 2) := dk_21 7 (dk_at dksX0_rued_6 0 rfl rfl)
theorem dX0_rued_142 : decode cX0_rued 142 = .ok (.invokestatic 323, 3) := dk_184 1 67 (dk_at dksX0_rued_6 2 rfl rfl)
theorem dX0_rued_145 : decode cX0_rued 145 = .ok (.ifCond .eq 42, 3) := dk_153 0 42 (dk_at dksX0_rued_6 5 rfl rfl)
theorem dX0_rued_148 : decode cX0_rued 148 = .ok (.aload_n 0, 1) := dk_42 (dk_at dksX0_rued_6 8 rfl rfl)
theorem dX0_rued_149 : decode cX0_rued 149 = .ok (.iload 7, 2) := dk_21 7 (dk_at dksX0_rued_6 9 rfl rfl)
theorem dX0_rued_151 : decode cX0_rued 151 = .ok (.iload 6, 2) := dk_21 6 (dk_at dksX0_rued_6 11 rfl rfl)
theorem dX0_rued_153 : decode cX0_rued 153 = .ok (.invokevirtual 326, 3) := dk_182 1 70 (dk_at dksX0_rued_6 13 rfl rfl)
theorem dX0_rued_156 : decode cX0_rued 156 = .ok (.ifCond .eq 31, 3) := dk_153 0 31 (dk_at dksX0_rued_6 16 rfl rfl)
theorem dX0_rued_159 : decode cX0_rued 159 = .ok (.iload 4, 2) := dk_21 4 (dk_at dksX0_rued_6 19 rfl rfl)
theorem dX0_rued_161 : decode cX0_rued 161 = .ok (.aload_n 0, 1) := dk_42 (dk_at dksX0_rued_6 21 rfl rfl)
theorem dX0_rued_162 : decode cX0_rued 162 = .ok (.getfield 56, 3) := dk_180 0 56 (dk_at dksX0_rued_7 0 rfl rfl)
theorem dX0_rued_165 : decode cX0_rued 165 = .ok (.iload 7, 2) := dk_21 7 (dk_at dksX0_rued_7 3 rfl rfl)
theorem dX0_rued_167 : decode cX0_rued 167 = .ok (.aaload, 1) := dk_50 (dk_at dksX0_rued_7 5 rfl rfl)
theorem dX0_rued_168 : decode cX0_rued 168 = .ok (.iconst 2, 1) := dk_5 (dk_at dksX0_rued_7 6 rfl rfl)
theorem dX0_rued_169 : decode cX0_rued 169 = .ok (.invokevirtual 321, 3) := dk_182 1 65 (dk_at dksX0_rued_7 7 rfl rfl)
theorem dX0_rued_172 : decode cX0_rued 172 = .ok (.invokestatic 323, 3) := dk_184 1 67 (dk_at dksX0_rued_7 10 rfl rfl)
theorem dX0_rued_175 : decode cX0_rued 175 = .ok (.ifCond .eq 12, 3) := dk_153 0 12 (dk_at dksX0_rued_7 13 rfl rfl)
theorem dX0_rued_178 : decode cX0_rued 178 = .ok (.iload_n 3, 1) := dk_29 (dk_at dksX0_rued_7 16 rfl rfl)
theorem dX0_rued_179 : decode cX0_rued 179 = .ok (.iconst 1, 1) := dk_4 (dk_at dksX0_rued_7 17 rfl rfl)
theorem dX0_rued_180 : decode cX0_rued 180 = .ok (.iload 7, 2) := dk_21 7 (dk_at dksX0_rued_7 18 rfl rfl)
theorem dX0_rued_182 : decode cX0_rued 182 = .ok (.ishl, 1) := dk_120 (dk_at dksX0_rued_7 20 rfl rfl)
theorem dX0_rued_183 : decode cX0_rued 183 = .ok (.iconst (-1), 1) := dk_2 (dk_at dksX0_rued_7 21 rfl rfl)
theorem dX0_rued_184 : decode cX0_rued 184 = .ok (.ixor, 1) := dk_130 (dk_at dksX0_rued_7 22 rfl rfl)
theorem dX0_rued_185 : decode cX0_rued 185 = .ok (.iand, 1) := dk_126 (dk_at dksX0_rued_7 23 rfl rfl)
theorem dX0_rued_186 : decode cX0_rued 186 = .ok (.istore_n 3, 1) := dk_62 (dk_at dksX0_rued_8 0 rfl rfl)
theorem dX0_rued_187 : decode cX0_rued 187 = .ok (.iinc 7 1, 3) := dk_132 7 1 (dk_at dksX0_rued_8 1 rfl rfl)
theorem dX0_rued_190 : decode cX0_rued 190 = .ok (.goto (-60), 3) := dk_167 255 196 (dk_at dksX0_rued_8 4 rfl rfl)
theorem dX0_rued_193 : decode cX0_rued 193 = .ok (.aload_n 0, 1) := dk_42 (dk_at dksX0_rued_8 7 rfl rfl)
theorem dX0_rued_194 : decode cX0_rued 194 = .ok (.iload_n 1, 1) := dk_27 (dk_at dksX0_rued_8 8 rfl rfl)
theorem dX0_rued_195 : decode cX0_rued 195 = .ok (.iload 4, 2) := dk_21 4 (dk_at dksX0_rued_8 9 rfl rfl)
theorem dX0_rued_197 : decode cX0_rued 197 = .ok (.iload 6, 2) := dk_21 6 (dk_at dksX0_rued_8 11 rfl rfl)
theorem dX0_rued_199 : decode cX0_rued 199 = .ok (.invokevirtual 404, 3) := dk_182 1 148 (dk_at dksX0_rued_8 13 rfl rfl)
theorem dX0_rued_202 : decode cX0_rued 202 = .ok (.istore 4, 2) := dk_54 4 (dk_at dksX0_rued_8 16 rfl rfl)
theorem dX0_rued_204 : decode cX0_rued 204 = .ok (.iinc 5 1, 3) := dk_132 5 1 (dk_at dksX0_rued_8 18 rfl rfl)
theorem dX0_rued_207 : decode cX0_rued 207 = .ok (.goto (-101), 3) := dk_167 255 155 (dk_at dksX0_rued_8 21 rfl rfl)
theorem dX0_rued_210 : decode cX0_rued 210 = .ok (.iload_n 3, 1) := dk_29 (dk_at dksX0_rued_9 0 rfl rfl)
theorem dX0_rued_211 : decode cX0_rued 211 = .ok (.ireturn, 1) := dk_172 (dk_at dksX0_rued_9 1 rfl rfl)
abbrev cX0_byTurns : ByteArray := prog_1_method_83_code
def yX0_byTurns : MethodName := ⟨RX0, "byTurns", "(IIII)I"⟩
def dkwX0_byTurns_8 : List UInt8 := [159, 0, 9, 132, 7, 1, 167, 255, 231, 21, 7, 172]
abbrev dktX0_byTurns_8 : List UInt8 := dkwX0_byTurns_8 ++ []
def dkwX0_byTurns_7 : List UInt8 := [7, 172, 3, 54, 7, 42, 3, 29, 21, 5, 42, 180, 0, 67, 180, 0, 3, 21, 7, 182, 1, 220, 21, 6]
abbrev dktX0_byTurns_7 : List UInt8 := dkwX0_byTurns_7 ++ dktX0_byTurns_8
def dkwX0_byTurns_6 : List UInt8 := [21, 6, 172, 42, 3, 29, 21, 5, 42, 180, 0, 67, 180, 0, 3, 7, 182, 1, 220, 21, 6, 160, 0, 5]
abbrev dktX0_byTurns_6 : List UInt8 := dkwX0_byTurns_6 ++ dktX0_byTurns_7
def dkwX0_byTurns_5 : List UInt8 := [54, 5, 42, 3, 29, 21, 5, 42, 180, 0, 67, 180, 0, 3, 182, 1, 213, 54, 6, 21, 4, 154, 0, 6]
abbrev dktX0_byTurns_5 : List UInt8 := dkwX0_byTurns_5 ++ dktX0_byTurns_6
def dkwX0_byTurns_4 : List UInt8 := [181, 1, 207, 42, 28, 181, 1, 217, 42, 180, 0, 50, 42, 180, 1, 210, 50, 180, 0, 171, 180, 0, 3]
abbrev dktX0_byTurns_4 : List UInt8 := dkwX0_byTurns_4 ++ dktX0_byTurns_5
def dkwX0_byTurns_3 : List UInt8 := [154, 0, 5, 2, 172, 42, 182, 1, 103, 42, 27, 16, 10, 108, 181, 1, 210, 42, 27, 16, 10, 112]
abbrev dktX0_byTurns_3 : List UInt8 := dkwX0_byTurns_3 ++ dktX0_byTurns_4
def dkwX0_byTurns_2 : List UInt8 := [153, 0, 26, 29, 133, 10, 20, 0, 193, 184, 0, 121, 153, 0, 14, 21, 4, 133, 9, 10, 184, 0, 121]
abbrev dktX0_byTurns_2 : List UInt8 := dkwX0_byTurns_2 ++ dktX0_byTurns_3
def dkwX0_byTurns_1 : List UInt8 := [182, 0, 160, 153, 0, 45, 27, 16, 10, 108, 27, 16, 10, 112, 159, 0, 34, 28, 133, 184, 0, 153]
abbrev dktX0_byTurns_1 : List UInt8 := dkwX0_byTurns_1 ++ dktX0_byTurns_2
def dkwX0_byTurns_0 : List UInt8 := [27, 155, 0, 69, 42, 27, 16, 10, 108, 133, 182, 0, 160, 153, 0, 57, 42, 27, 16, 10, 112, 133]
abbrev dktX0_byTurns_0 : List UInt8 := dkwX0_byTurns_0 ++ dktX0_byTurns_1
theorem dksX0_byTurns_0 : cX0_byTurns.data.toList.drop 0 = dktX0_byTurns_0 := by decide +kernel
theorem dksX0_byTurns_1 : cX0_byTurns.data.toList.drop 22 = dktX0_byTurns_1 := dk_seg dksX0_byTurns_0 22 rfl rfl
theorem dksX0_byTurns_2 : cX0_byTurns.data.toList.drop 44 = dktX0_byTurns_2 := dk_seg dksX0_byTurns_1 22 rfl rfl
theorem dksX0_byTurns_3 : cX0_byTurns.data.toList.drop 67 = dktX0_byTurns_3 := dk_seg dksX0_byTurns_2 23 rfl rfl
theorem dksX0_byTurns_4 : cX0_byTurns.data.toList.drop 89 = dktX0_byTurns_4 := dk_seg dksX0_byTurns_3 22 rfl rfl
theorem dksX0_byTurns_5 : cX0_byTurns.data.toList.drop 112 = dktX0_byTurns_5 := dk_seg dksX0_byTurns_4 23 rfl rfl
theorem dksX0_byTurns_6 : cX0_byTurns.data.toList.drop 136 = dktX0_byTurns_6 := dk_seg dksX0_byTurns_5 24 rfl rfl
theorem dksX0_byTurns_7 : cX0_byTurns.data.toList.drop 160 = dktX0_byTurns_7 := dk_seg dksX0_byTurns_6 24 rfl rfl
theorem dksX0_byTurns_8 : cX0_byTurns.data.toList.drop 184 = dktX0_byTurns_8 := dk_seg dksX0_byTurns_7 24 rfl rfl
theorem dX0_byTurns_0 : decode cX0_byTurns 0 = .ok (.iload_n 1, 1) := dk_27 (dk_at dksX0_byTurns_0 0 rfl rfl)
theorem dX0_byTurns_1 : decode cX0_byTurns 1 = .ok (.ifCond .lt 69, 3) := dk_155 0 69 (dk_at dksX0_byTurns_0 1 rfl rfl)
theorem dX0_byTurns_4 : decode cX0_byTurns 4 = .ok (.aload_n 0, 1) := dk_42 (dk_at dksX0_byTurns_0 4 rfl rfl)
theorem dX0_byTurns_5 : decode cX0_byTurns 5 = .ok (.iload_n 1, 1) := dk_27 (dk_at dksX0_byTurns_0 5 rfl rfl)
theorem dX0_byTurns_6 : decode cX0_byTurns 6 = .ok (.bipush 10, 2) := dk_16 10 (dk_at dksX0_byTurns_0 6 rfl rfl)
theorem dX0_byTurns_8 : decode cX0_byTurns 8 = .ok (.idiv, 1) := dk_108 (dk_at dksX0_byTurns_0 8 rfl rfl)
theorem dX0_byTurns_9 : decode cX0_byTurns 9 = .ok (.i2l, 1) := dk_133 (dk_at dksX0_byTurns_0 9 rfl rfl)
theorem dX0_byTurns_10 : decode cX0_byTurns 10 = .ok (.invokevirtual 160, 3) := dk_182 0 160 (dk_at dksX0_byTurns_0 10 rfl rfl)
theorem dX0_byTurns_13 : decode cX0_byTurns 13 = .ok (.ifCond .eq 57, 3) := dk_153 0 57 (dk_at dksX0_byTurns_0 13 rfl rfl)
theorem dX0_byTurns_16 : decode cX0_byTurns 16 = .ok (.aload_n 0, 1) := dk_42 (dk_at dksX0_byTurns_0 16 rfl rfl)
theorem dX0_byTurns_17 : decode cX0_byTurns 17 = .ok (.iload_n 1, 1) := dk_27 (dk_at dksX0_byTurns_0 17 rfl rfl)
theorem dX0_byTurns_18 : decode cX0_byTurns 18 = .ok (.bipush 10, 2) := dk_16 10 (dk_at dksX0_byTurns_0 18 rfl rfl)
theorem dX0_byTurns_20 : decode cX0_byTurns 20 = .ok (.irem, 1) := dk_112 (dk_at dksX0_byTurns_0 20 rfl rfl)
theorem dX0_byTurns_21 : decode cX0_byTurns 21 = .ok (.i2l, 1) := dk_133 (dk_at dksX0_byTurns_0 21 rfl rfl)
theorem dX0_byTurns_22 : decode cX0_byTurns 22 = .ok (.invokevirtual 160, 3) := dk_182 0 160 (dk_at dksX0_byTurns_1 0 rfl rfl)
theorem dX0_byTurns_25 : decode cX0_byTurns 25 = .ok (.ifCond .eq 45, 3) := dk_153 0 45 (dk_at dksX0_byTurns_1 3 rfl rfl)
theorem dX0_byTurns_28 : decode cX0_byTurns 28 = .ok (.iload_n 1, 1) := dk_27 (dk_at dksX0_byTurns_1 6 rfl rfl)
theorem dX0_byTurns_29 : decode cX0_byTurns 29 = .ok (.bipush 10, 2) := dk_16 10 (dk_at dksX0_byTurns_1 7 rfl rfl)
theorem dX0_byTurns_31 : decode cX0_byTurns 31 = .ok (.idiv, 1) := dk_108 (dk_at dksX0_byTurns_1 9 rfl rfl)
theorem dX0_byTurns_32 : decode cX0_byTurns 32 = .ok (.iload_n 1, 1) := dk_27 (dk_at dksX0_byTurns_1 10 rfl rfl)
theorem dX0_byTurns_33 : decode cX0_byTurns 33 = .ok (.bipush 10, 2) := dk_16 10 (dk_at dksX0_byTurns_1 11 rfl rfl)
theorem dX0_byTurns_35 : decode cX0_byTurns 35 = .ok (.irem, 1) := dk_112 (dk_at dksX0_byTurns_1 13 rfl rfl)
theorem dX0_byTurns_36 : decode cX0_byTurns 36 = .ok (.if_icmp .eq 34, 3) := dk_159 0 34 (dk_at dksX0_byTurns_1 14 rfl rfl)
theorem dX0_byTurns_39 : decode cX0_byTurns 39 = .ok (.iload_n 2, 1) := dk_28 (dk_at dksX0_byTurns_1 17 rfl rfl)
theorem dX0_byTurns_40 : decode cX0_byTurns 40 = .ok (.i2l, 1) := dk_133 (dk_at dksX0_byTurns_1 18 rfl rfl)
theorem dX0_byTurns_41 : decode cX0_byTurns 41 = .ok (.invokestatic 153, 3) := dk_184 0 153 (dk_at dksX0_byTurns_1 19 rfl rfl)
theorem dX0_byTurns_44 : decode cX0_byTurns 44 = .ok (.ifCond .eq 26, 3) := dk_153 0 26 (dk_at dksX0_byTurns_2 0 rfl rfl)
theorem dX0_byTurns_47 : decode cX0_byTurns 47 = .ok (.iload_n 3, 1) := dk_29 (dk_at dksX0_byTurns_2 3 rfl rfl)
theorem dX0_byTurns_48 : decode cX0_byTurns 48 = .ok (.i2l, 1) := dk_133 (dk_at dksX0_byTurns_2 4 rfl rfl)
theorem dX0_byTurns_49 : decode cX0_byTurns 49 = .ok (.lconst 1, 1) := dk_10 (dk_at dksX0_byTurns_2 5 rfl rfl)
theorem dX0_byTurns_50 : decode cX0_byTurns 50 = .ok (.ldc2_w 193, 3) := dk_20 0 193 (dk_at dksX0_byTurns_2 6 rfl rfl)
theorem dX0_byTurns_53 : decode cX0_byTurns 53 = .ok (.invokestatic 121, 3) := dk_184 0 121 (dk_at dksX0_byTurns_2 9 rfl rfl)
theorem dX0_byTurns_56 : decode cX0_byTurns 56 = .ok (.ifCond .eq 14, 3) := dk_153 0 14 (dk_at dksX0_byTurns_2 12 rfl rfl)
theorem dX0_byTurns_59 : decode cX0_byTurns 59 = .ok (.iload 4, 2) := dk_21 4 (dk_at dksX0_byTurns_2 15 rfl rfl)
theorem dX0_byTurns_61 : decode cX0_byTurns 61 = .ok (.i2l, 1) := dk_133 (dk_at dksX0_byTurns_2 17 rfl rfl)
theorem dX0_byTurns_62 : decode cX0_byTurns 62 = .ok (.lconst 0, 1) := dk_9 (dk_at dksX0_byTurns_2 18 rfl rfl)
theorem dX0_byTurns_63 : decode cX0_byTurns 63 = .ok (.lconst 1, 1) := dk_10 (dk_at dksX0_byTurns_2 19 rfl rfl)
theorem dX0_byTurns_64 : decode cX0_byTurns 64 = .ok (.invokestatic 121, 3) := dk_184 0 121 (dk_at dksX0_byTurns_2 20 rfl rfl)
theorem dX0_byTurns_67 : decode cX0_byTurns 67 = .ok (.ifCond .ne 5, 3) := dk_154 0 5 (dk_at dksX0_byTurns_3 0 rfl rfl)
theorem dX0_byTurns_70 : decode cX0_byTurns 70 = .ok (.iconst (-1), 1) := dk_2 (dk_at dksX0_byTurns_3 3 rfl rfl)
theorem dX0_byTurns_71 : decode cX0_byTurns 71 = .ok (.ireturn, 1) := dk_172 (dk_at dksX0_byTurns_3 4 rfl rfl)
theorem dX0_byTurns_72 : decode cX0_byTurns 72 = .ok (.aload_n 0, 1) := dk_42 (dk_at dksX0_byTurns_3 5 rfl rfl)
theorem dX0_byTurns_73 : decode cX0_byTurns 73 = .ok (.invokevirtual 359, 3) := dk_182 1 103 (dk_at dksX0_byTurns_3 6 rfl rfl)
theorem dX0_byTurns_76 : decode cX0_byTurns 76 = .ok (.aload_n 0, 1) := dk_42 (dk_at dksX0_byTurns_3 9 rfl rfl)
theorem dX0_byTurns_77 : decode cX0_byTurns 77 = .ok (.iload_n 1, 1) := dk_27 (dk_at dksX0_byTurns_3 10 rfl rfl)
theorem dX0_byTurns_78 : decode cX0_byTurns 78 = .ok (.bipush 10, 2) := dk_16 10 (dk_at dksX0_byTurns_3 11 rfl rfl)
theorem dX0_byTurns_80 : decode cX0_byTurns 80 = .ok (.idiv, 1) := dk_108 (dk_at dksX0_byTurns_3 13 rfl rfl)
theorem dX0_byTurns_81 : decode cX0_byTurns 81 = .ok (.putfield 466, 3) := dk_181 1 210 (dk_at dksX0_byTurns_3 14 rfl rfl)
theorem dX0_byTurns_84 : decode cX0_byTurns 84 = .ok (.aload_n 0, 1) := dk_42 (dk_at dksX0_byTurns_3 17 rfl rfl)
theorem dX0_byTurns_85 : decode cX0_byTurns 85 = .ok (.iload_n 1, 1) := dk_27 (dk_at dksX0_byTurns_3 18 rfl rfl)
theorem dX0_byTurns_86 : decode cX0_byTurns 86 = .ok (.bipush 10, 2) := dk_16 10 (dk_at dksX0_byTurns_3 19 rfl rfl)
theorem dX0_byTurns_88 : decode cX0_byTurns 88 = .ok (.irem, 1) := dk_112 (dk_at dksX0_byTurns_3 21 rfl rfl)
theorem dX0_byTurns_89 : decode cX0_byTurns 89 = .ok (.putfield 463, 3) := dk_181 1 207 (dk_at dksX0_byTurns_4 0 rfl rfl)
theorem dX0_byTurns_92 : decode cX0_byTurns 92 = .ok (.aload_n 0, 1) := dk_42 (dk_at dksX0_byTurns_4 3 rfl rfl)
theorem dX0_byTurns_93 : decode cX0_byTurns 93 = .ok (.iload_n 2, 1) := dk_28 (dk_at dksX0_byTurns_4 4 rfl rfl)
theorem dX0_byTurns_94 : decode cX0_byTurns 94 = .ok (.putfield 473, 3) := dk_181 1 217 (dk_at dksX0_byTurns_4 5 rfl rfl)
theorem dX0_byTurns_97 : decode cX0_byTurns 97 = .ok (.aload_n 0, 1) := dk_42 (dk_at dksX0_byTurns_4 8 rfl rfl)
theorem dX0_byTurns_98 : decode cX0_byTurns 98 = .ok (.getfield 50, 3) := dk_180 0 50 (dk_at dksX0_byTurns_4 9 rfl rfl)
theorem dX0_byTurns_101 : decode cX0_byTurns 101 = .ok (.aload_n 0, 1) := dk_42 (dk_at dksX0_byTurns_4 12 rfl rfl)
theorem dX0_byTurns_102 : decode cX0_byTurns 102 = .ok (.getfield 466, 3) := dk_180 1 210 (dk_at dksX0_byTurns_4 13 rfl rfl)
theorem dX0_byTurns_105 : decode cX0_byTurns 105 = .ok (.aaload, 1) := dk_50 (dk_at dksX0_byTurns_4 16 rfl rfl)
theorem dX0_byTurns_106 : decode cX0_byTurns 106 = .ok (.getfield 171, 3) := dk_180 0 171 (dk_at dksX0_byTurns_4 17 rfl rfl)
theorem dX0_byTurns_109 : decode cX0_byTurns 109 = .ok (.getfield 3, 3) := dk_180 0 3 (dk_at dksX0_byTurns_4 20 rfl rfl)
theorem dX0_byTurns_112 : decode cX0_byTurns 112 = .ok (.istore 5, 2) := dk_54 5 (dk_at dksX0_byTurns_5 0 rfl rfl)
theorem dX0_byTurns_114 : decode cX0_byTurns 114 = .ok (.aload_n 0, 1) := dk_42 (dk_at dksX0_byTurns_5 2 rfl rfl)
theorem dX0_byTurns_115 : decode cX0_byTurns 115 = .ok (.iconst 0, 1) := dk_3 (dk_at dksX0_byTurns_5 3 rfl rfl)
theorem dX0_byTurns_116 : decode cX0_byTurns 116 = .ok (.iload_n 3, 1) := dk_29 (dk_at dksX0_byTurns_5 4 rfl rfl)
theorem dX0_byTurns_117 : decode cX0_byTurns 117 = .ok (.iload 5, 2) := dk_21 5 (dk_at dksX0_byTurns_5 5 rfl rfl)
theorem dX0_byTurns_119 : decode cX0_byTurns 119 = .ok (.aload_n 0, 1) := dk_42 (dk_at dksX0_byTurns_5 7 rfl rfl)
theorem dX0_byTurns_120 : decode cX0_byTurns 120 = .ok (.getfield 67, 3) := dk_180 0 67 (dk_at dksX0_byTurns_5 8 rfl rfl)
theorem dX0_byTurns_123 : decode cX0_byTurns 123 = .ok (.getfield 3, 3) := dk_180 0 3 (dk_at dksX0_byTurns_5 11 rfl rfl)
theorem dX0_byTurns_126 : decode cX0_byTurns 126 = .ok (.invokevirtual 469, 3) := dk_182 1 213 (dk_at dksX0_byTurns_5 14 rfl rfl)
theorem dX0_byTurns_129 : decode cX0_byTurns 129 = .ok (.istore 6, 2) := dk_54 6 (dk_at dksX0_byTurns_5 17 rfl rfl)
theorem dX0_byTurns_131 : decode cX0_byTurns 131 = .ok (.iload 4, 2) := dk_21 4 (dk_at dksX0_byTurns_5 19 rfl rfl)
theorem dX0_byTurns_133 : decode cX0_byTurns 133 = .ok (.ifCond .ne 6, 3) := dk_154 0 6 (dk_at dksX0_byTurns_5 21 rfl rfl)
theorem dX0_byTurns_136 : decode cX0_byTurns 136 = .ok (.iload 6, 2) := dk_21 6 (dk_at dksX0_byTurns_6 0 rfl rfl)
theorem dX0_byTurns_138 : decode cX0_byTurns 138 = .ok (.ireturn, 1) := dk_172 (dk_at dksX0_byTurns_6 2 rfl rfl)
theorem dX0_byTurns_139 : decode cX0_byTurns 139 = .ok (.aload_n 0, 1) := dk_42 (dk_at dksX0_byTurns_6 3 rfl rfl)
theorem dX0_byTurns_140 : decode cX0_byTurns 140 = .ok (.iconst 0, 1) := dk_3 (dk_at dksX0_byTurns_6 4 rfl rfl)
theorem dX0_byTurns_141 : decode cX0_byTurns 141 = .ok (.iload_n 3, 1) := dk_29 (dk_at dksX0_byTurns_6 5 rfl rfl)
theorem dX0_byTurns_142 : decode cX0_byTurns 142 = .ok (.iload 5, 2) := dk_21 5 (dk_at dksX0_byTurns_6 6 rfl rfl)
theorem dX0_byTurns_144 : decode cX0_byTurns 144 = .ok (.aload_n 0, 1) := dk_42 (dk_at dksX0_byTurns_6 8 rfl rfl)
theorem dX0_byTurns_145 : decode cX0_byTurns 145 = .ok (.getfield 67, 3) := dk_180 0 67 (dk_at dksX0_byTurns_6 9 rfl rfl)
theorem dX0_byTurns_148 : decode cX0_byTurns 148 = .ok (.getfield 3, 3) := dk_180 0 3 (dk_at dksX0_byTurns_6 12 rfl rfl)
theorem dX0_byTurns_151 : decode cX0_byTurns 151 = .ok (.iconst 4, 1) := dk_7 (dk_at dksX0_byTurns_6 15 rfl rfl)
theorem dX0_byTurns_152 : decode cX0_byTurns 152 = .ok (.invokevirtual 476, 3) := dk_182 1 220 (dk_at dksX0_byTurns_6 16 rfl rfl)
theorem dX0_byTurns_155 : decode cX0_byTurns 155 = .ok (.iload 6, 2) := dk_21 6 (dk_at dksX0_byTurns_6 19 rfl rfl)
theorem dX0_byTurns_157 : decode cX0_byTurns 157 = .ok (.if_icmp .ne 5, 3) := dk_160 0 5 (dk_at dksX0_byTurns_6 21 rfl rfl)
theorem dX0_byTurns_160 : decode cX0_byTurns 160 = .ok (.iconst 4, 1) := dk_7 (dk_at dksX0_byTurns_7 0 rfl rfl)
theorem dX0_byTurns_161 : decode cX0_byTurns 161 = .ok (.ireturn, 1) := dk_172 (dk_at dksX0_byTurns_7 1 rfl rfl)
theorem dX0_byTurns_162 : decode cX0_byTurns 162 = .ok (.iconst 0, 1) := dk_3 (dk_at dksX0_byTurns_7 2 rfl rfl)
theorem dX0_byTurns_163 : decode cX0_byTurns 163 = .ok (.istore 7, 2) := dk_54 7 (dk_at dksX0_byTurns_7 3 rfl rfl)
theorem dX0_byTurns_165 : decode cX0_byTurns 165 = .ok (.aload_n 0, 1) := dk_42 (dk_at dksX0_byTurns_7 5 rfl rfl)
theorem dX0_byTurns_166 : decode cX0_byTurns 166 = .ok (.iconst 0, 1) := dk_3 (dk_at dksX0_byTurns_7 6 rfl rfl)
theorem dX0_byTurns_167 : decode cX0_byTurns 167 = .ok (.iload_n 3, 1) := dk_29 (dk_at dksX0_byTurns_7 7 rfl rfl)
theorem dX0_byTurns_168 : decode cX0_byTurns 168 = .ok (.iload 5, 2) := dk_21 5 (dk_at dksX0_byTurns_7 8 rfl rfl)
theorem dX0_byTurns_170 : decode cX0_byTurns 170 = .ok (.aload_n 0, 1) := dk_42 (dk_at dksX0_byTurns_7 10 rfl rfl)
theorem dX0_byTurns_171 : decode cX0_byTurns 171 = .ok (.getfield 67, 3) := dk_180 0 67 (dk_at dksX0_byTurns_7 11 rfl rfl)
theorem dX0_byTurns_174 : decode cX0_byTurns 174 = .ok (.getfield 3, 3) := dk_180 0 3 (dk_at dksX0_byTurns_7 14 rfl rfl)
theorem dX0_byTurns_177 : decode cX0_byTurns 177 = .ok (.iload 7, 2) := dk_21 7 (dk_at dksX0_byTurns_7 17 rfl rfl)
theorem dX0_byTurns_179 : decode cX0_byTurns 179 = .ok (.invokevirtual 476, 3) := dk_182 1 220 (dk_at dksX0_byTurns_7 19 rfl rfl)
theorem dX0_byTurns_182 : decode cX0_byTurns 182 = .ok (.iload 6, 2) := dk_21 6 (dk_at dksX0_byTurns_7 22 rfl rfl)
theorem dX0_byTurns_184 : decode cX0_byTurns 184 = .ok (.if_icmp .eq 9, 3) := dk_159 0 9 (dk_at dksX0_byTurns_8 0 rfl rfl)
theorem dX0_byTurns_187 : decode cX0_byTurns 187 = .ok (.iinc 7 1, 3) := dk_132 7 1 (dk_at dksX0_byTurns_8 3 rfl rfl)
theorem dX0_byTurns_190 : decode cX0_byTurns 190 = .ok (.goto (-25), 3) := dk_167 255 231 (dk_at dksX0_byTurns_8 6 rfl rfl)
theorem dX0_byTurns_193 : decode cX0_byTurns 193 = .ok (.iload 7, 2) := dk_21 7 (dk_at dksX0_byTurns_8 9 rfl rfl)
theorem dX0_byTurns_195 : decode cX0_byTurns 195 = .ok (.ireturn, 1) := dk_172 (dk_at dksX0_byTurns_8 11 rfl rfl)
abbrev cX0_playFrom : ByteArray := prog_1_method_82_code
def yX0_playFrom : MethodName := ⟨RX0, "playFrom", "(IIII)I"⟩
def dkwX0_playFrom_5 : List UInt8 := [42, 89, 180, 1, 62, 4, 21, 6, 120, 2, 130, 126, 181, 1, 62, 21, 5, 21, 7, 184, 1, 73, 172]
abbrev dktX0_playFrom_5 : List UInt8 := dkwX0_playFrom_5 ++ []
def dkwX0_playFrom_4 : List UInt8 := [180, 1, 62, 4, 21, 6, 120, 128, 181, 1, 62, 42, 27, 4, 96, 28, 29, 21, 4, 182, 1, 213, 54, 7]
abbrev dktX0_playFrom_4 : List UInt8 := dkwX0_playFrom_4 ++ dktX0_playFrom_5
def dkwX0_playFrom_3 : List UInt8 := [182, 1, 213, 54, 5, 42, 182, 1, 223, 54, 6, 21, 6, 2, 160, 0, 6, 21, 5, 172, 42, 89]
abbrev dktX0_playFrom_3 : List UInt8 := dkwX0_playFrom_3 ++ dktX0_playFrom_4
def dkwX0_playFrom_2 : List UInt8 := [184, 1, 90, 54, 5, 132, 6, 1, 167, 255, 229, 21, 5, 172, 42, 27, 4, 96, 28, 29, 21, 4]
abbrev dktX0_playFrom_2 : List UInt8 := dkwX0_playFrom_2 ++ dktX0_playFrom_3
def dkwX0_playFrom_1 : List UInt8 := [54, 5, 3, 54, 6, 21, 6, 7, 163, 0, 27, 21, 5, 42, 27, 28, 29, 21, 4, 21, 6, 182, 1, 220]
abbrev dktX0_playFrom_1 : List UInt8 := dkwX0_playFrom_1 ++ dktX0_playFrom_2
def dkwX0_playFrom_0 : List UInt8 := [27, 28, 160, 0, 12, 29, 42, 180, 1, 217, 184, 1, 177, 172, 27, 5, 112, 154, 0, 44, 19, 1, 196]
abbrev dktX0_playFrom_0 : List UInt8 := dkwX0_playFrom_0 ++ dktX0_playFrom_1
theorem dksX0_playFrom_0 : cX0_playFrom.data.toList.drop 0 = dktX0_playFrom_0 := by decide +kernel
theorem dksX0_playFrom_1 : cX0_playFrom.data.toList.drop 23 = dktX0_playFrom_1 := dk_seg dksX0_playFrom_0 23 rfl rfl
theorem dksX0_playFrom_2 : cX0_playFrom.data.toList.drop 47 = dktX0_playFrom_2 := dk_seg dksX0_playFrom_1 24 rfl rfl
theorem dksX0_playFrom_3 : cX0_playFrom.data.toList.drop 69 = dktX0_playFrom_3 := dk_seg dksX0_playFrom_2 22 rfl rfl
theorem dksX0_playFrom_4 : cX0_playFrom.data.toList.drop 91 = dktX0_playFrom_4 := dk_seg dksX0_playFrom_3 22 rfl rfl
theorem dksX0_playFrom_5 : cX0_playFrom.data.toList.drop 115 = dktX0_playFrom_5 := dk_seg dksX0_playFrom_4 24 rfl rfl
theorem dX0_playFrom_0 : decode cX0_playFrom 0 = .ok (.iload_n 1, 1) := dk_27 (dk_at dksX0_playFrom_0 0 rfl rfl)
theorem dX0_playFrom_1 : decode cX0_playFrom 1 = .ok (.iload_n 2, 1) := dk_28 (dk_at dksX0_playFrom_0 1 rfl rfl)
theorem dX0_playFrom_2 : decode cX0_playFrom 2 = .ok (.if_icmp .ne 12, 3) := dk_160 0 12 (dk_at dksX0_playFrom_0 2 rfl rfl)
theorem dX0_playFrom_5 : decode cX0_playFrom 5 = .ok (.iload_n 3, 1) := dk_29 (dk_at dksX0_playFrom_0 5 rfl rfl)
theorem dX0_playFrom_6 : decode cX0_playFrom 6 = .ok (.aload_n 0, 1) := dk_42 (dk_at dksX0_playFrom_0 6 rfl rfl)
theorem dX0_playFrom_7 : decode cX0_playFrom 7 = .ok (.getfield 473, 3) := dk_180 1 217 (dk_at dksX0_playFrom_0 7 rfl rfl)
theorem dX0_playFrom_10 : decode cX0_playFrom 10 = .ok (.invokestatic 433, 3) := dk_184 1 177 (dk_at dksX0_playFrom_0 10 rfl rfl)
theorem dX0_playFrom_13 : decode cX0_playFrom 13 = .ok (.ireturn, 1) := dk_172 (dk_at dksX0_playFrom_0 13 rfl rfl)
theorem dX0_playFrom_14 : decode cX0_playFrom 14 = .ok (.iload_n 1, 1) := dk_27 (dk_at dksX0_playFrom_0 14 rfl rfl)
theorem dX0_playFrom_15 : decode cX0_playFrom 15 = .ok (.iconst 2, 1) := dk_5 (dk_at dksX0_playFrom_0 15 rfl rfl)
theorem dX0_playFrom_16 : decode cX0_playFrom 16 = .ok (.irem, 1) := dk_112 (dk_at dksX0_playFrom_0 16 rfl rfl)
theorem dX0_playFrom_17 : decode cX0_playFrom 17 = .ok (.ifCond .ne 44, 3) := dk_154 0 44 (dk_at dksX0_playFrom_0 17 rfl rfl)
theorem dX0_playFrom_20 : decode cX0_playFrom 20 = .ok (.ldc_w 452, 3) := dk_19 1 196 (dk_at dksX0_playFrom_0 20 rfl rfl)
theorem dX0_playFrom_23 : decode cX0_playFrom 23 = .ok (.istore 5, 2) := dk_54 5 (dk_at dksX0_playFrom_1 0 rfl rfl)
theorem dX0_playFrom_25 : decode cX0_playFrom 25 = .ok (.iconst 0, 1) := dk_3 (dk_at dksX0_playFrom_1 2 rfl rfl)
theorem dX0_playFrom_26 : decode cX0_playFrom 26 = .ok (.istore 6, 2) := dk_54 6 (dk_at dksX0_playFrom_1 3 rfl rfl)
theorem dX0_playFrom_28 : decode cX0_playFrom 28 = .ok (.iload 6, 2) := dk_21 6 (dk_at dksX0_playFrom_1 5 rfl rfl)
theorem dX0_playFrom_30 : decode cX0_playFrom 30 = .ok (.iconst 4, 1) := dk_7 (dk_at dksX0_playFrom_1 7 rfl rfl)
theorem dX0_playFrom_31 : decode cX0_playFrom 31 = .ok (.if_icmp .gt 27, 3) := dk_163 0 27 (dk_at dksX0_playFrom_1 8 rfl rfl)
theorem dX0_playFrom_34 : decode cX0_playFrom 34 = .ok (.iload 5, 2) := dk_21 5 (dk_at dksX0_playFrom_1 11 rfl rfl)
theorem dX0_playFrom_36 : decode cX0_playFrom 36 = .ok (.aload_n 0, 1) := dk_42 (dk_at dksX0_playFrom_1 13 rfl rfl)
theorem dX0_playFrom_37 : decode cX0_playFrom 37 = .ok (.iload_n 1, 1) := dk_27 (dk_at dksX0_playFrom_1 14 rfl rfl)
theorem dX0_playFrom_38 : decode cX0_playFrom 38 = .ok (.iload_n 2, 1) := dk_28 (dk_at dksX0_playFrom_1 15 rfl rfl)
theorem dX0_playFrom_39 : decode cX0_playFrom 39 = .ok (.iload_n 3, 1) := dk_29 (dk_at dksX0_playFrom_1 16 rfl rfl)
theorem dX0_playFrom_40 : decode cX0_playFrom 40 = .ok (.iload 4, 2) := dk_21 4 (dk_at dksX0_playFrom_1 17 rfl rfl)
theorem dX0_playFrom_42 : decode cX0_playFrom 42 = .ok (.iload 6, 2) := dk_21 6 (dk_at dksX0_playFrom_1 19 rfl rfl)
theorem dX0_playFrom_44 : decode cX0_playFrom 44 = .ok (.invokevirtual 476, 3) := dk_182 1 220 (dk_at dksX0_playFrom_1 21 rfl rfl)
theorem dX0_playFrom_47 : decode cX0_playFrom 47 = .ok (.invokestatic 346, 3) := dk_184 1 90 (dk_at dksX0_playFrom_2 0 rfl rfl)
theorem dX0_playFrom_50 : decode cX0_playFrom 50 = .ok (.istore 5, 2) := dk_54 5 (dk_at dksX0_playFrom_2 3 rfl rfl)
theorem dX0_playFrom_52 : decode cX0_playFrom 52 = .ok (.iinc 6 1, 3) := dk_132 6 1 (dk_at dksX0_playFrom_2 5 rfl rfl)
theorem dX0_playFrom_55 : decode cX0_playFrom 55 = .ok (.goto (-27), 3) := dk_167 255 229 (dk_at dksX0_playFrom_2 8 rfl rfl)
theorem dX0_playFrom_58 : decode cX0_playFrom 58 = .ok (.iload 5, 2) := dk_21 5 (dk_at dksX0_playFrom_2 11 rfl rfl)
theorem dX0_playFrom_60 : decode cX0_playFrom 60 = .ok (.ireturn, 1) := dk_172 (dk_at dksX0_playFrom_2 13 rfl rfl)
theorem dX0_playFrom_61 : decode cX0_playFrom 61 = .ok (.aload_n 0, 1) := dk_42 (dk_at dksX0_playFrom_2 14 rfl rfl)
theorem dX0_playFrom_62 : decode cX0_playFrom 62 = .ok (.iload_n 1, 1) := dk_27 (dk_at dksX0_playFrom_2 15 rfl rfl)
theorem dX0_playFrom_63 : decode cX0_playFrom 63 = .ok (.iconst 1, 1) := dk_4 (dk_at dksX0_playFrom_2 16 rfl rfl)
theorem dX0_playFrom_64 : decode cX0_playFrom 64 = .ok (.iadd, 1) := dk_96 (dk_at dksX0_playFrom_2 17 rfl rfl)
theorem dX0_playFrom_65 : decode cX0_playFrom 65 = .ok (.iload_n 2, 1) := dk_28 (dk_at dksX0_playFrom_2 18 rfl rfl)
theorem dX0_playFrom_66 : decode cX0_playFrom 66 = .ok (.iload_n 3, 1) := dk_29 (dk_at dksX0_playFrom_2 19 rfl rfl)
theorem dX0_playFrom_67 : decode cX0_playFrom 67 = .ok (.iload 4, 2) := dk_21 4 (dk_at dksX0_playFrom_2 20 rfl rfl)
theorem dX0_playFrom_69 : decode cX0_playFrom 69 = .ok (.invokevirtual 469, 3) := dk_182 1 213 (dk_at dksX0_playFrom_3 0 rfl rfl)
theorem dX0_playFrom_72 : decode cX0_playFrom 72 = .ok (.istore 5, 2) := dk_54 5 (dk_at dksX0_playFrom_3 3 rfl rfl)
theorem dX0_playFrom_74 : decode cX0_playFrom 74 = .ok (.aload_n 0, 1) := dk_42 (dk_at dksX0_playFrom_3 5 rfl rfl)
theorem dX0_playFrom_75 : decode cX0_playFrom 75 = .ok (.invokevirtual 479, 3) := dk_182 1 223 (dk_at dksX0_playFrom_3 6 rfl rfl)
theorem dX0_playFrom_78 : decode cX0_playFrom 78 = .ok (.istore 6, 2) := dk_54 6 (dk_at dksX0_playFrom_3 9 rfl rfl)
theorem dX0_playFrom_80 : decode cX0_playFrom 80 = .ok (.iload 6, 2) := dk_21 6 (dk_at dksX0_playFrom_3 11 rfl rfl)
theorem dX0_playFrom_82 : decode cX0_playFrom 82 = .ok (.iconst (-1), 1) := dk_2 (dk_at dksX0_playFrom_3 13 rfl rfl)
theorem dX0_playFrom_83 : decode cX0_playFrom 83 = .ok (.if_icmp .ne 6, 3) := dk_160 0 6 (dk_at dksX0_playFrom_3 14 rfl rfl)
theorem dX0_playFrom_86 : decode cX0_playFrom 86 = .ok (.iload 5, 2) := dk_21 5 (dk_at dksX0_playFrom_3 17 rfl rfl)
theorem dX0_playFrom_88 : decode cX0_playFrom 88 = .ok (.ireturn, 1) := dk_172 (dk_at dksX0_playFrom_3 19 rfl rfl)
theorem dX0_playFrom_89 : decode cX0_playFrom 89 = .ok (.aload_n 0, 1) := dk_42 (dk_at dksX0_playFrom_3 20 rfl rfl)
theorem dX0_playFrom_90 : decode cX0_playFrom 90 = .ok (.dup, 1) := dk_89 (dk_at dksX0_playFrom_3 21 rfl rfl)
theorem dX0_playFrom_91 : decode cX0_playFrom 91 = .ok (.getfield 318, 3) := dk_180 1 62 (dk_at dksX0_playFrom_4 0 rfl rfl)
theorem dX0_playFrom_94 : decode cX0_playFrom 94 = .ok (.iconst 1, 1) := dk_4 (dk_at dksX0_playFrom_4 3 rfl rfl)
theorem dX0_playFrom_95 : decode cX0_playFrom 95 = .ok (.iload 6, 2) := dk_21 6 (dk_at dksX0_playFrom_4 4 rfl rfl)
theorem dX0_playFrom_97 : decode cX0_playFrom 97 = .ok (.ishl, 1) := dk_120 (dk_at dksX0_playFrom_4 6 rfl rfl)
theorem dX0_playFrom_98 : decode cX0_playFrom 98 = .ok (.ior, 1) := dk_128 (dk_at dksX0_playFrom_4 7 rfl rfl)
theorem dX0_playFrom_99 : decode cX0_playFrom 99 = .ok (.putfield 318, 3) := dk_181 1 62 (dk_at dksX0_playFrom_4 8 rfl rfl)
theorem dX0_playFrom_102 : decode cX0_playFrom 102 = .ok (.aload_n 0, 1) := dk_42 (dk_at dksX0_playFrom_4 11 rfl rfl)
theorem dX0_playFrom_103 : decode cX0_playFrom 103 = .ok (.iload_n 1, 1) := dk_27 (dk_at dksX0_playFrom_4 12 rfl rfl)
theorem dX0_playFrom_104 : decode cX0_playFrom 104 = .ok (.iconst 1, 1) := dk_4 (dk_at dksX0_playFrom_4 13 rfl rfl)
theorem dX0_playFrom_105 : decode cX0_playFrom 105 = .ok (.iadd, 1) := dk_96 (dk_at dksX0_playFrom_4 14 rfl rfl)
theorem dX0_playFrom_106 : decode cX0_playFrom 106 = .ok (.iload_n 2, 1) := dk_28 (dk_at dksX0_playFrom_4 15 rfl rfl)
theorem dX0_playFrom_107 : decode cX0_playFrom 107 = .ok (.iload_n 3, 1) := dk_29 (dk_at dksX0_playFrom_4 16 rfl rfl)
theorem dX0_playFrom_108 : decode cX0_playFrom 108 = .ok (.iload 4, 2) := dk_21 4 (dk_at dksX0_playFrom_4 17 rfl rfl)
theorem dX0_playFrom_110 : decode cX0_playFrom 110 = .ok (.invokevirtual 469, 3) := dk_182 1 213 (dk_at dksX0_playFrom_4 19 rfl rfl)
theorem dX0_playFrom_113 : decode cX0_playFrom 113 = .ok (.istore 7, 2) := dk_54 7 (dk_at dksX0_playFrom_4 22 rfl rfl)
theorem dX0_playFrom_115 : decode cX0_playFrom 115 = .ok (.aload_n 0, 1) := dk_42 (dk_at dksX0_playFrom_5 0 rfl rfl)
theorem dX0_playFrom_116 : decode cX0_playFrom 116 = .ok (.dup, 1) := dk_89 (dk_at dksX0_playFrom_5 1 rfl rfl)
theorem dX0_playFrom_117 : decode cX0_playFrom 117 = .ok (.getfield 318, 3) := dk_180 1 62 (dk_at dksX0_playFrom_5 2 rfl rfl)
theorem dX0_playFrom_120 : decode cX0_playFrom 120 = .ok (.iconst 1, 1) := dk_4 (dk_at dksX0_playFrom_5 5 rfl rfl)
theorem dX0_playFrom_121 : decode cX0_playFrom 121 = .ok (.iload 6, 2) := dk_21 6 (dk_at dksX0_playFrom_5 6 rfl rfl)
theorem dX0_playFrom_123 : decode cX0_playFrom 123 = .ok (.ishl, 1) := dk_120 (dk_at dksX0_playFrom_5 8 rfl rfl)
theorem dX0_playFrom_124 : decode cX0_playFrom 124 = .ok (.iconst (-1), 1) := dk_2 (dk_at dksX0_playFrom_5 9 rfl rfl)
theorem dX0_playFrom_125 : decode cX0_playFrom 125 = .ok (.ixor, 1) := dk_130 (dk_at dksX0_playFrom_5 10 rfl rfl)
theorem dX0_playFrom_126 : decode cX0_playFrom 126 = .ok (.iand, 1) := dk_126 (dk_at dksX0_playFrom_5 11 rfl rfl)
theorem dX0_playFrom_127 : decode cX0_playFrom 127 = .ok (.putfield 318, 3) := dk_181 1 62 (dk_at dksX0_playFrom_5 12 rfl rfl)
theorem dX0_playFrom_130 : decode cX0_playFrom 130 = .ok (.iload 5, 2) := dk_21 5 (dk_at dksX0_playFrom_5 15 rfl rfl)
theorem dX0_playFrom_132 : decode cX0_playFrom 132 = .ok (.iload 7, 2) := dk_21 7 (dk_at dksX0_playFrom_5 17 rfl rfl)
theorem dX0_playFrom_134 : decode cX0_playFrom 134 = .ok (.invokestatic 329, 3) := dk_184 1 73 (dk_at dksX0_playFrom_5 19 rfl rfl)
theorem dX0_playFrom_137 : decode cX0_playFrom 137 = .ok (.ireturn, 1) := dk_172 (dk_at dksX0_playFrom_5 22 rfl rfl)
abbrev cX0_stepTurn : ByteArray := prog_1_method_81_code
def yX0_stepTurn : MethodName := ⟨RX0, "stepTurn", "(IIIII)I"⟩
def dkwX0_stepTurn_1 : List UInt8 := [21, 5, 184, 1, 121, 21, 4, 4, 96, 184, 1, 124, 182, 1, 213, 172]
abbrev dktX0_stepTurn_1 : List UInt8 := dkwX0_stepTurn_1 ++ []
def dkwX0_stepTurn_0 : List UInt8 := [42, 27, 4, 96, 28, 42, 42, 180, 1, 210, 29, 21, 4, 182, 1, 99, 153, 0, 7, 29, 167, 0, 9, 29]
abbrev dktX0_stepTurn_0 : List UInt8 := dkwX0_stepTurn_0 ++ dktX0_stepTurn_1
theorem dksX0_stepTurn_0 : cX0_stepTurn.data.toList.drop 0 = dktX0_stepTurn_0 := by decide +kernel
theorem dksX0_stepTurn_1 : cX0_stepTurn.data.toList.drop 24 = dktX0_stepTurn_1 := dk_seg dksX0_stepTurn_0 24 rfl rfl
theorem dX0_stepTurn_0 : decode cX0_stepTurn 0 = .ok (.aload_n 0, 1) := dk_42 (dk_at dksX0_stepTurn_0 0 rfl rfl)
theorem dX0_stepTurn_1 : decode cX0_stepTurn 1 = .ok (.iload_n 1, 1) := dk_27 (dk_at dksX0_stepTurn_0 1 rfl rfl)
theorem dX0_stepTurn_2 : decode cX0_stepTurn 2 = .ok (.iconst 1, 1) := dk_4 (dk_at dksX0_stepTurn_0 2 rfl rfl)
theorem dX0_stepTurn_3 : decode cX0_stepTurn 3 = .ok (.iadd, 1) := dk_96 (dk_at dksX0_stepTurn_0 3 rfl rfl)
theorem dX0_stepTurn_4 : decode cX0_stepTurn 4 = .ok (.iload_n 2, 1) := dk_28 (dk_at dksX0_stepTurn_0 4 rfl rfl)
theorem dX0_stepTurn_5 : decode cX0_stepTurn 5 = .ok (.aload_n 0, 1) := dk_42 (dk_at dksX0_stepTurn_0 5 rfl rfl)
theorem dX0_stepTurn_6 : decode cX0_stepTurn 6 = .ok (.aload_n 0, 1) := dk_42 (dk_at dksX0_stepTurn_0 6 rfl rfl)
theorem dX0_stepTurn_7 : decode cX0_stepTurn 7 = .ok (.getfield 466, 3) := dk_180 1 210 (dk_at dksX0_stepTurn_0 7 rfl rfl)
theorem dX0_stepTurn_10 : decode cX0_stepTurn 10 = .ok (.iload_n 3, 1) := dk_29 (dk_at dksX0_stepTurn_0 10 rfl rfl)
theorem dX0_stepTurn_11 : decode cX0_stepTurn 11 = .ok (.iload 4, 2) := dk_21 4 (dk_at dksX0_stepTurn_0 11 rfl rfl)
theorem dX0_stepTurn_13 : decode cX0_stepTurn 13 = .ok (.invokevirtual 355, 3) := dk_182 1 99 (dk_at dksX0_stepTurn_0 13 rfl rfl)
theorem dX0_stepTurn_16 : decode cX0_stepTurn 16 = .ok (.ifCond .eq 7, 3) := dk_153 0 7 (dk_at dksX0_stepTurn_0 16 rfl rfl)
theorem dX0_stepTurn_19 : decode cX0_stepTurn 19 = .ok (.iload_n 3, 1) := dk_29 (dk_at dksX0_stepTurn_0 19 rfl rfl)
theorem dX0_stepTurn_20 : decode cX0_stepTurn 20 = .ok (.goto 9, 3) := dk_167 0 9 (dk_at dksX0_stepTurn_0 20 rfl rfl)
theorem dX0_stepTurn_23 : decode cX0_stepTurn 23 = .ok (.iload_n 3, 1) := dk_29 (dk_at dksX0_stepTurn_0 23 rfl rfl)
theorem dX0_stepTurn_24 : decode cX0_stepTurn 24 = .ok (.iload 5, 2) := dk_21 5 (dk_at dksX0_stepTurn_1 0 rfl rfl)
theorem dX0_stepTurn_26 : decode cX0_stepTurn 26 = .ok (.invokestatic 377, 3) := dk_184 1 121 (dk_at dksX0_stepTurn_1 2 rfl rfl)
theorem dX0_stepTurn_29 : decode cX0_stepTurn 29 = .ok (.iload 4, 2) := dk_21 4 (dk_at dksX0_stepTurn_1 5 rfl rfl)
theorem dX0_stepTurn_31 : decode cX0_stepTurn 31 = .ok (.iconst 1, 1) := dk_4 (dk_at dksX0_stepTurn_1 7 rfl rfl)
theorem dX0_stepTurn_32 : decode cX0_stepTurn 32 = .ok (.iadd, 1) := dk_96 (dk_at dksX0_stepTurn_1 8 rfl rfl)
theorem dX0_stepTurn_33 : decode cX0_stepTurn 33 = .ok (.invokestatic 380, 3) := dk_184 1 124 (dk_at dksX0_stepTurn_1 9 rfl rfl)
theorem dX0_stepTurn_36 : decode cX0_stepTurn 36 = .ok (.invokevirtual 469, 3) := dk_182 1 213 (dk_at dksX0_stepTurn_1 12 rfl rfl)
theorem dX0_stepTurn_39 : decode cX0_stepTurn 39 = .ok (.ireturn, 1) := dk_172 (dk_at dksX0_stepTurn_1 15 rfl rfl)
abbrev cX0_leastToForget : ByteArray := prog_1_method_80_code
def yX0_leastToForget : MethodName := ⟨RX0, "leastToForget", "()I"⟩
def dkwX0_leastToForget_1 : List UInt8 := [160, 0, 16, 42, 180, 1, 62, 27, 184, 1, 67, 154, 0, 5, 27, 172, 132, 1, 1, 167, 255, 216, 2, 172]
abbrev dktX0_leastToForget_1 : List UInt8 := dkwX0_leastToForget_1 ++ []
def dkwX0_leastToForget_0 : List UInt8 := [3, 60, 27, 42, 180, 0, 146, 162, 0, 38, 42, 180, 0, 56, 27, 50, 180, 0, 232, 42, 180, 1, 207]
abbrev dktX0_leastToForget_0 : List UInt8 := dkwX0_leastToForget_0 ++ dktX0_leastToForget_1
theorem dksX0_leastToForget_0 : cX0_leastToForget.data.toList.drop 0 = dktX0_leastToForget_0 := by decide +kernel
theorem dksX0_leastToForget_1 : cX0_leastToForget.data.toList.drop 23 = dktX0_leastToForget_1 := dk_seg dksX0_leastToForget_0 23 rfl rfl
theorem dX0_leastToForget_0 : decode cX0_leastToForget 0 = .ok (.iconst 0, 1) := dk_3 (dk_at dksX0_leastToForget_0 0 rfl rfl)
theorem dX0_leastToForget_1 : decode cX0_leastToForget 1 = .ok (.istore_n 1, 1) := dk_60 (dk_at dksX0_leastToForget_0 1 rfl rfl)
theorem dX0_leastToForget_2 : decode cX0_leastToForget 2 = .ok (.iload_n 1, 1) := dk_27 (dk_at dksX0_leastToForget_0 2 rfl rfl)
theorem dX0_leastToForget_3 : decode cX0_leastToForget 3 = .ok (.aload_n 0, 1) := dk_42 (dk_at dksX0_leastToForget_0 3 rfl rfl)
theorem dX0_leastToForget_4 : decode cX0_leastToForget 4 = .ok (.getfield 146, 3) := dk_180 0 146 (dk_at dksX0_leastToForget_0 4 rfl rfl)
theorem dX0_leastToForget_7 : decode cX0_leastToForget 7 = .ok (.if_icmp .ge 38, 3) := dk_162 0 38 (dk_at dksX0_leastToForget_0 7 rfl rfl)
theorem dX0_leastToForget_10 : decode cX0_leastToForget 10 = .ok (.aload_n 0, 1) := dk_42 (dk_at dksX0_leastToForget_0 10 rfl rfl)
theorem dX0_leastToForget_11 : decode cX0_leastToForget 11 = .ok (.getfield 56, 3) := dk_180 0 56 (dk_at dksX0_leastToForget_0 11 rfl rfl)
theorem dX0_leastToForget_14 : decode cX0_leastToForget 14 = .ok (.iload_n 1, 1) := dk_27 (dk_at dksX0_leastToForget_0 14 rfl rfl)
theorem dX0_leastToForget_15 : decode cX0_leastToForget 15 = .ok (.aaload, 1) := dk_50 (dk_at dksX0_leastToForget_0 15 rfl rfl)
theorem dX0_leastToForget_16 : decode cX0_leastToForget 16 = .ok (.getfield 232, 3) := dk_180 0 232 (dk_at dksX0_leastToForget_0 16 rfl rfl)
theorem dX0_leastToForget_19 : decode cX0_leastToForget 19 = .ok (.aload_n 0, 1) := dk_42 (dk_at dksX0_leastToForget_0 19 rfl rfl)
theorem dX0_leastToForget_20 : decode cX0_leastToForget 20 = .ok (.getfield 463, 3) := dk_180 1 207 (dk_at dksX0_leastToForget_0 20 rfl rfl)
theorem dX0_leastToForget_23 : decode cX0_leastToForget 23 = .ok (.if_icmp .ne 16, 3) := dk_160 0 16 (dk_at dksX0_leastToForget_1 0 rfl rfl)
theorem dX0_leastToForget_26 : decode cX0_leastToForget 26 = .ok (.aload_n 0, 1) := dk_42 (dk_at dksX0_leastToForget_1 3 rfl rfl)
theorem dX0_leastToForget_27 : decode cX0_leastToForget 27 = .ok (.getfield 318, 3) := dk_180 1 62 (dk_at dksX0_leastToForget_1 4 rfl rfl)
theorem dX0_leastToForget_30 : decode cX0_leastToForget 30 = .ok (.iload_n 1, 1) := dk_27 (dk_at dksX0_leastToForget_1 7 rfl rfl)
theorem dX0_leastToForget_31 : decode cX0_leastToForget 31 = .ok (.invokestatic 323, 3) := dk_184 1 67 (dk_at dksX0_leastToForget_1 8 rfl rfl)
theorem dX0_leastToForget_34 : decode cX0_leastToForget 34 = .ok (.ifCond .ne 5, 3) := dk_154 0 5 (dk_at dksX0_leastToForget_1 11 rfl rfl)
theorem dX0_leastToForget_37 : decode cX0_leastToForget 37 = .ok (.iload_n 1, 1) := dk_27 (dk_at dksX0_leastToForget_1 14 rfl rfl)
theorem dX0_leastToForget_38 : decode cX0_leastToForget 38 = .ok (.ireturn, 1) := dk_172 (dk_at dksX0_leastToForget_1 15 rfl rfl)
theorem dX0_leastToForget_39 : decode cX0_leastToForget 39 = .ok (.iinc 1 1, 3) := dk_132 1 1 (dk_at dksX0_leastToForget_1 16 rfl rfl)
theorem dX0_leastToForget_42 : decode cX0_leastToForget 42 = .ok (.goto (-40), 3) := dk_167 255 216 (dk_at dksX0_leastToForget_1 19 rfl rfl)
theorem dX0_leastToForget_45 : decode cX0_leastToForget 45 = .ok (.iconst (-1), 1) := dk_2 (dk_at dksX0_leastToForget_1 22 rfl rfl)
theorem dX0_leastToForget_46 : decode cX0_leastToForget 46 = .ok (.ireturn, 1) := dk_172 (dk_at dksX0_leastToForget_1 23 rfl rfl)
abbrev cX0_drawn : ByteArray := prog_1_method_84_code
def yX0_drawn : MethodName := ⟨RX0, "drawn", "(IIII)I"⟩
def dkwX0_drawn_7 : List UInt8 := [167, 255, 166, 21, 4, 2, 160, 0, 8, 21, 6, 167, 0, 5, 21, 7, 172]
abbrev dktX0_drawn_7 : List UInt8 := dkwX0_drawn_7 ++ []
def dkwX0_drawn_6 : List UInt8 := [180, 1, 106, 21, 4, 160, 0, 7, 4, 167, 0, 4, 3, 184, 1, 79, 96, 54, 7, 132, 8, 1]
abbrev dktX0_drawn_6 : List UInt8 := dkwX0_drawn_6 ++ dktX0_drawn_7
def dkwX0_drawn_5 : List UInt8 := [112, 182, 1, 139, 132, 9, 1, 167, 255, 220, 21, 6, 42, 180, 1, 112, 96, 54, 6, 21, 7, 42]
abbrev dktX0_drawn_5 : List UInt8 := dkwX0_drawn_5 ++ dktX0_drawn_6
def dkwX0_drawn_4 : List UInt8 := [112, 162, 0, 33, 21, 5, 19, 1, 228, 104, 17, 48, 57, 96, 54, 5, 42, 29, 21, 5, 16, 8, 124, 8]
abbrev dktX0_drawn_4 : List UInt8 := dkwX0_drawn_4 ++ dktX0_drawn_5
def dkwX0_drawn_3 : List UInt8 := [54, 8, 21, 8, 28, 16, 100, 108, 162, 0, 87, 42, 29, 182, 1, 136, 3, 54, 9, 21, 9, 28, 16, 100]
abbrev dktX0_drawn_3 : List UInt8 := dkwX0_drawn_3 ++ dktX0_drawn_4
def dkwX0_drawn_2 : List UInt8 := [159, 0, 14, 21, 4, 133, 184, 0, 153, 154, 0, 5, 2, 172, 27, 54, 5, 3, 54, 6, 3, 54, 7, 3]
abbrev dktX0_drawn_2 : List UInt8 := dkwX0_drawn_2 ++ dktX0_drawn_3
def dkwX0_drawn_1 : List UInt8 := [10, 20, 1, 226, 184, 0, 121, 153, 0, 27, 42, 29, 133, 182, 0, 160, 153, 0, 18, 21, 4, 2]
abbrev dktX0_drawn_1 : List UInt8 := dkwX0_drawn_1 ++ dktX0_drawn_2
def dkwX0_drawn_0 : List UInt8 := [28, 155, 0, 57, 28, 16, 100, 108, 133, 10, 20, 1, 127, 184, 0, 121, 153, 0, 42, 28, 16, 100, 112, 133]
abbrev dktX0_drawn_0 : List UInt8 := dkwX0_drawn_0 ++ dktX0_drawn_1
theorem dksX0_drawn_0 : cX0_drawn.data.toList.drop 0 = dktX0_drawn_0 := by decide +kernel
theorem dksX0_drawn_1 : cX0_drawn.data.toList.drop 24 = dktX0_drawn_1 := dk_seg dksX0_drawn_0 24 rfl rfl
theorem dksX0_drawn_2 : cX0_drawn.data.toList.drop 46 = dktX0_drawn_2 := dk_seg dksX0_drawn_1 22 rfl rfl
theorem dksX0_drawn_3 : cX0_drawn.data.toList.drop 70 = dktX0_drawn_3 := dk_seg dksX0_drawn_2 24 rfl rfl
theorem dksX0_drawn_4 : cX0_drawn.data.toList.drop 94 = dktX0_drawn_4 := dk_seg dksX0_drawn_3 24 rfl rfl
theorem dksX0_drawn_5 : cX0_drawn.data.toList.drop 118 = dktX0_drawn_5 := dk_seg dksX0_drawn_4 24 rfl rfl
theorem dksX0_drawn_6 : cX0_drawn.data.toList.drop 140 = dktX0_drawn_6 := dk_seg dksX0_drawn_5 22 rfl rfl
theorem dksX0_drawn_7 : cX0_drawn.data.toList.drop 162 = dktX0_drawn_7 := dk_seg dksX0_drawn_6 22 rfl rfl
theorem dX0_drawn_0 : decode cX0_drawn 0 = .ok (.iload_n 2, 1) := dk_28 (dk_at dksX0_drawn_0 0 rfl rfl)
theorem dX0_drawn_1 : decode cX0_drawn 1 = .ok (.ifCond .lt 57, 3) := dk_155 0 57 (dk_at dksX0_drawn_0 1 rfl rfl)
theorem dX0_drawn_4 : decode cX0_drawn 4 = .ok (.iload_n 2, 1) := dk_28 (dk_at dksX0_drawn_0 4 rfl rfl)
theorem dX0_drawn_5 : decode cX0_drawn 5 = .ok (.bipush 100, 2) := dk_16 100 (dk_at dksX0_drawn_0 5 rfl rfl)
theorem dX0_drawn_7 : decode cX0_drawn 7 = .ok (.idiv, 1) := dk_108 (dk_at dksX0_drawn_0 7 rfl rfl)
theorem dX0_drawn_8 : decode cX0_drawn 8 = .ok (.i2l, 1) := dk_133 (dk_at dksX0_drawn_0 8 rfl rfl)
theorem dX0_drawn_9 : decode cX0_drawn 9 = .ok (.lconst 1, 1) := dk_10 (dk_at dksX0_drawn_0 9 rfl rfl)
theorem dX0_drawn_10 : decode cX0_drawn 10 = .ok (.ldc2_w 383, 3) := dk_20 1 127 (dk_at dksX0_drawn_0 10 rfl rfl)
theorem dX0_drawn_13 : decode cX0_drawn 13 = .ok (.invokestatic 121, 3) := dk_184 0 121 (dk_at dksX0_drawn_0 13 rfl rfl)
theorem dX0_drawn_16 : decode cX0_drawn 16 = .ok (.ifCond .eq 42, 3) := dk_153 0 42 (dk_at dksX0_drawn_0 16 rfl rfl)
theorem dX0_drawn_19 : decode cX0_drawn 19 = .ok (.iload_n 2, 1) := dk_28 (dk_at dksX0_drawn_0 19 rfl rfl)
theorem dX0_drawn_20 : decode cX0_drawn 20 = .ok (.bipush 100, 2) := dk_16 100 (dk_at dksX0_drawn_0 20 rfl rfl)
theorem dX0_drawn_22 : decode cX0_drawn 22 = .ok (.irem, 1) := dk_112 (dk_at dksX0_drawn_0 22 rfl rfl)
theorem dX0_drawn_23 : decode cX0_drawn 23 = .ok (.i2l, 1) := dk_133 (dk_at dksX0_drawn_0 23 rfl rfl)
theorem dX0_drawn_24 : decode cX0_drawn 24 = .ok (.lconst 1, 1) := dk_10 (dk_at dksX0_drawn_1 0 rfl rfl)
theorem dX0_drawn_25 : decode cX0_drawn 25 = .ok (.ldc2_w 482, 3) := dk_20 1 226 (dk_at dksX0_drawn_1 1 rfl rfl)
theorem dX0_drawn_28 : decode cX0_drawn 28 = .ok (.invokestatic 121, 3) := dk_184 0 121 (dk_at dksX0_drawn_1 4 rfl rfl)
theorem dX0_drawn_31 : decode cX0_drawn 31 = .ok (.ifCond .eq 27, 3) := dk_153 0 27 (dk_at dksX0_drawn_1 7 rfl rfl)
theorem dX0_drawn_34 : decode cX0_drawn 34 = .ok (.aload_n 0, 1) := dk_42 (dk_at dksX0_drawn_1 10 rfl rfl)
theorem dX0_drawn_35 : decode cX0_drawn 35 = .ok (.iload_n 3, 1) := dk_29 (dk_at dksX0_drawn_1 11 rfl rfl)
theorem dX0_drawn_36 : decode cX0_drawn 36 = .ok (.i2l, 1) := dk_133 (dk_at dksX0_drawn_1 12 rfl rfl)
theorem dX0_drawn_37 : decode cX0_drawn 37 = .ok (.invokevirtual 160, 3) := dk_182 0 160 (dk_at dksX0_drawn_1 13 rfl rfl)
theorem dX0_drawn_40 : decode cX0_drawn 40 = .ok (.ifCond .eq 18, 3) := dk_153 0 18 (dk_at dksX0_drawn_1 16 rfl rfl)
theorem dX0_drawn_43 : decode cX0_drawn 43 = .ok (.iload 4, 2) := dk_21 4 (dk_at dksX0_drawn_1 19 rfl rfl)
theorem dX0_drawn_45 : decode cX0_drawn 45 = .ok (.iconst (-1), 1) := dk_2 (dk_at dksX0_drawn_1 21 rfl rfl)
theorem dX0_drawn_46 : decode cX0_drawn 46 = .ok (.if_icmp .eq 14, 3) := dk_159 0 14 (dk_at dksX0_drawn_2 0 rfl rfl)
theorem dX0_drawn_49 : decode cX0_drawn 49 = .ok (.iload 4, 2) := dk_21 4 (dk_at dksX0_drawn_2 3 rfl rfl)
theorem dX0_drawn_51 : decode cX0_drawn 51 = .ok (.i2l, 1) := dk_133 (dk_at dksX0_drawn_2 5 rfl rfl)
theorem dX0_drawn_52 : decode cX0_drawn 52 = .ok (.invokestatic 153, 3) := dk_184 0 153 (dk_at dksX0_drawn_2 6 rfl rfl)
theorem dX0_drawn_55 : decode cX0_drawn 55 = .ok (.ifCond .ne 5, 3) := dk_154 0 5 (dk_at dksX0_drawn_2 9 rfl rfl)
theorem dX0_drawn_58 : decode cX0_drawn 58 = .ok (.iconst (-1), 1) := dk_2 (dk_at dksX0_drawn_2 12 rfl rfl)
theorem dX0_drawn_59 : decode cX0_drawn 59 = .ok (.ireturn, 1) := dk_172 (dk_at dksX0_drawn_2 13 rfl rfl)
theorem dX0_drawn_60 : decode cX0_drawn 60 = .ok (.iload_n 1, 1) := dk_27 (dk_at dksX0_drawn_2 14 rfl rfl)
theorem dX0_drawn_61 : decode cX0_drawn 61 = .ok (.istore 5, 2) := dk_54 5 (dk_at dksX0_drawn_2 15 rfl rfl)
theorem dX0_drawn_63 : decode cX0_drawn 63 = .ok (.iconst 0, 1) := dk_3 (dk_at dksX0_drawn_2 17 rfl rfl)
theorem dX0_drawn_64 : decode cX0_drawn 64 = .ok (.istore 6, 2) := dk_54 6 (dk_at dksX0_drawn_2 18 rfl rfl)
theorem dX0_drawn_66 : decode cX0_drawn 66 = .ok (.iconst 0, 1) := dk_3 (dk_at dksX0_drawn_2 20 rfl rfl)
theorem dX0_drawn_67 : decode cX0_drawn 67 = .ok (.istore 7, 2) := dk_54 7 (dk_at dksX0_drawn_2 21 rfl rfl)
theorem dX0_drawn_69 : decode cX0_drawn 69 = .ok (.iconst 0, 1) := dk_3 (dk_at dksX0_drawn_2 23 rfl rfl)
theorem dX0_drawn_70 : decode cX0_drawn 70 = .ok (.istore 8, 2) := dk_54 8 (dk_at dksX0_drawn_3 0 rfl rfl)
theorem dX0_drawn_72 : decode cX0_drawn 72 = .ok (.iload 8, 2) := dk_21 8 (dk_at dksX0_drawn_3 2 rfl rfl)
theorem dX0_drawn_74 : decode cX0_drawn 74 = .ok (.iload_n 2, 1) := dk_28 (dk_at dksX0_drawn_3 4 rfl rfl)
theorem dX0_drawn_75 : decode cX0_drawn 75 = .ok (.bipush 100, 2) := dk_16 100 (dk_at dksX0_drawn_3 5 rfl rfl)
theorem dX0_drawn_77 : decode cX0_drawn 77 = .ok (.idiv, 1) := dk_108 (dk_at dksX0_drawn_3 7 rfl rfl)
theorem dX0_drawn_78 : decode cX0_drawn 78 = .ok (.if_icmp .ge 87, 3) := dk_162 0 87 (dk_at dksX0_drawn_3 8 rfl rfl)
theorem dX0_drawn_81 : decode cX0_drawn 81 = .ok (.aload_n 0, 1) := dk_42 (dk_at dksX0_drawn_3 11 rfl rfl)
theorem dX0_drawn_82 : decode cX0_drawn 82 = .ok (.iload_n 3, 1) := dk_29 (dk_at dksX0_drawn_3 12 rfl rfl)
theorem dX0_drawn_83 : decode cX0_drawn 83 = .ok (.invokevirtual 392, 3) := dk_182 1 136 (dk_at dksX0_drawn_3 13 rfl rfl)
theorem dX0_drawn_86 : decode cX0_drawn 86 = .ok (.iconst 0, 1) := dk_3 (dk_at dksX0_drawn_3 16 rfl rfl)
theorem dX0_drawn_87 : decode cX0_drawn 87 = .ok (.istore 9, 2) := dk_54 9 (dk_at dksX0_drawn_3 17 rfl rfl)
theorem dX0_drawn_89 : decode cX0_drawn 89 = .ok (.iload 9, 2) := dk_21 9 (dk_at dksX0_drawn_3 19 rfl rfl)
theorem dX0_drawn_91 : decode cX0_drawn 91 = .ok (.iload_n 2, 1) := dk_28 (dk_at dksX0_drawn_3 21 rfl rfl)
theorem dX0_drawn_92 : decode cX0_drawn 92 = .ok (.bipush 100, 2) := dk_16 100 (dk_at dksX0_drawn_3 22 rfl rfl)
theorem dX0_drawn_94 : decode cX0_drawn 94 = .ok (.irem, 1) := dk_112 (dk_at dksX0_drawn_4 0 rfl rfl)
theorem dX0_drawn_95 : decode cX0_drawn 95 = .ok (.if_icmp .ge 33, 3) := dk_162 0 33 (dk_at dksX0_drawn_4 1 rfl rfl)
theorem dX0_drawn_98 : decode cX0_drawn 98 = .ok (.iload 5, 2) := dk_21 5 (dk_at dksX0_drawn_4 4 rfl rfl)
theorem dX0_drawn_100 : decode cX0_drawn 100 = .ok (.ldc_w 484, 3) := dk_19 1 228 (dk_at dksX0_drawn_4 6 rfl rfl)
theorem dX0_drawn_103 : decode cX0_drawn 103 = .ok (.imul, 1) := dk_104 (dk_at dksX0_drawn_4 9 rfl rfl)
theorem dX0_drawn_104 : decode cX0_drawn 104 = .ok (.sipush 12345, 3) := dk_17 48 57 (dk_at dksX0_drawn_4 10 rfl rfl)
theorem dX0_drawn_107 : decode cX0_drawn 107 = .ok (.iadd, 1) := dk_96 (dk_at dksX0_drawn_4 13 rfl rfl)
theorem dX0_drawn_108 : decode cX0_drawn 108 = .ok (.istore 5, 2) := dk_54 5 (dk_at dksX0_drawn_4 14 rfl rfl)
theorem dX0_drawn_110 : decode cX0_drawn 110 = .ok (.aload_n 0, 1) := dk_42 (dk_at dksX0_drawn_4 16 rfl rfl)
theorem dX0_drawn_111 : decode cX0_drawn 111 = .ok (.iload_n 3, 1) := dk_29 (dk_at dksX0_drawn_4 17 rfl rfl)
theorem dX0_drawn_112 : decode cX0_drawn 112 = .ok (.iload 5, 2) := dk_21 5 (dk_at dksX0_drawn_4 18 rfl rfl)
theorem dX0_drawn_114 : decode cX0_drawn 114 = .ok (.bipush 8, 2) := dk_16 8 (dk_at dksX0_drawn_4 20 rfl rfl)
theorem dX0_drawn_116 : decode cX0_drawn 116 = .ok (.iushr, 1) := dk_124 (dk_at dksX0_drawn_4 22 rfl rfl)
theorem dX0_drawn_117 : decode cX0_drawn 117 = .ok (.iconst 5, 1) := dk_8 (dk_at dksX0_drawn_4 23 rfl rfl)
theorem dX0_drawn_118 : decode cX0_drawn 118 = .ok (.irem, 1) := dk_112 (dk_at dksX0_drawn_5 0 rfl rfl)
theorem dX0_drawn_119 : decode cX0_drawn 119 = .ok (.invokevirtual 395, 3) := dk_182 1 139 (dk_at dksX0_drawn_5 1 rfl rfl)
theorem dX0_drawn_122 : decode cX0_drawn 122 = .ok (.iinc 9 1, 3) := dk_132 9 1 (dk_at dksX0_drawn_5 4 rfl rfl)
theorem dX0_drawn_125 : decode cX0_drawn 125 = .ok (.goto (-36), 3) := dk_167 255 220 (dk_at dksX0_drawn_5 7 rfl rfl)
theorem dX0_drawn_128 : decode cX0_drawn 128 = .ok (.iload 6, 2) := dk_21 6 (dk_at dksX0_drawn_5 10 rfl rfl)
theorem dX0_drawn_130 : decode cX0_drawn 130 = .ok (.aload_n 0, 1) := dk_42 (dk_at dksX0_drawn_5 12 rfl rfl)
theorem dX0_drawn_131 : decode cX0_drawn 131 = .ok (.getfield 368, 3) := dk_180 1 112 (dk_at dksX0_drawn_5 13 rfl rfl)
theorem dX0_drawn_134 : decode cX0_drawn 134 = .ok (.iadd, 1) := dk_96 (dk_at dksX0_drawn_5 16 rfl rfl)
theorem dX0_drawn_135 : decode cX0_drawn 135 = .ok (.istore 6, 2) := dk_54 6 (dk_at dksX0_drawn_5 17 rfl rfl)
theorem dX0_drawn_137 : decode cX0_drawn 137 = .ok (.iload 7, 2) := dk_21 7 (dk_at dksX0_drawn_5 19 rfl rfl)
theorem dX0_drawn_139 : decode cX0_drawn 139 = .ok (.aload_n 0, 1) := dk_42 (dk_at dksX0_drawn_5 21 rfl rfl)
theorem dX0_drawn_140 : decode cX0_drawn 140 = .ok (.getfield 362, 3) := dk_180 1 106 (dk_at dksX0_drawn_6 0 rfl rfl)
theorem dX0_drawn_143 : decode cX0_drawn 143 = .ok (.iload 4, 2) := dk_21 4 (dk_at dksX0_drawn_6 3 rfl rfl)
theorem dX0_drawn_145 : decode cX0_drawn 145 = .ok (.if_icmp .ne 7, 3) := dk_160 0 7 (dk_at dksX0_drawn_6 5 rfl rfl)
theorem dX0_drawn_148 : decode cX0_drawn 148 = .ok (.iconst 1, 1) := dk_4 (dk_at dksX0_drawn_6 8 rfl rfl)
theorem dX0_drawn_149 : decode cX0_drawn 149 = .ok (.goto 4, 3) := dk_167 0 4 (dk_at dksX0_drawn_6 9 rfl rfl)
theorem dX0_drawn_152 : decode cX0_drawn 152 = .ok (.iconst 0, 1) := dk_3 (dk_at dksX0_drawn_6 12 rfl rfl)
theorem dX0_drawn_153 : decode cX0_drawn 153 = .ok (.invokestatic 335, 3) := dk_184 1 79 (dk_at dksX0_drawn_6 13 rfl rfl)
theorem dX0_drawn_156 : decode cX0_drawn 156 = .ok (.iadd, 1) := dk_96 (dk_at dksX0_drawn_6 16 rfl rfl)
theorem dX0_drawn_157 : decode cX0_drawn 157 = .ok (.istore 7, 2) := dk_54 7 (dk_at dksX0_drawn_6 17 rfl rfl)
theorem dX0_drawn_159 : decode cX0_drawn 159 = .ok (.iinc 8 1, 3) := dk_132 8 1 (dk_at dksX0_drawn_6 19 rfl rfl)
theorem dX0_drawn_162 : decode cX0_drawn 162 = .ok (.goto (-90), 3) := dk_167 255 166 (dk_at dksX0_drawn_7 0 rfl rfl)
theorem dX0_drawn_165 : decode cX0_drawn 165 = .ok (.iload 4, 2) := dk_21 4 (dk_at dksX0_drawn_7 3 rfl rfl)
theorem dX0_drawn_167 : decode cX0_drawn 167 = .ok (.iconst (-1), 1) := dk_2 (dk_at dksX0_drawn_7 5 rfl rfl)
theorem dX0_drawn_168 : decode cX0_drawn 168 = .ok (.if_icmp .ne 8, 3) := dk_160 0 8 (dk_at dksX0_drawn_7 6 rfl rfl)
theorem dX0_drawn_171 : decode cX0_drawn 171 = .ok (.iload 6, 2) := dk_21 6 (dk_at dksX0_drawn_7 9 rfl rfl)
theorem dX0_drawn_173 : decode cX0_drawn 173 = .ok (.goto 5, 3) := dk_167 0 5 (dk_at dksX0_drawn_7 11 rfl rfl)
theorem dX0_drawn_176 : decode cX0_drawn 176 = .ok (.iload 7, 2) := dk_21 7 (dk_at dksX0_drawn_7 14 rfl rfl)
theorem dX0_drawn_178 : decode cX0_drawn 178 = .ok (.ireturn, 1) := dk_172 (dk_at dksX0_drawn_7 16 rfl rfl)
abbrev cX0_step : ByteArray := prog_1_method_85_code
def yX0_step : MethodName := ⟨RX0, "step", "(II)I"⟩
def dkwX0_step_4 : List UInt8 := [180, 0, 171, 180, 0, 3, 172]
abbrev dktX0_step_4 : List UInt8 := dkwX0_step_4 ++ []
def dkwX0_step_3 : List UInt8 := [184, 1, 121, 181, 0, 3, 42, 180, 0, 92, 4, 92, 46, 4, 96, 79, 42, 180, 0, 50, 27, 50]
abbrev dktX0_step_3 : List UInt8 := dkwX0_step_3 ++ dktX0_step_4
def dkwX0_step_2 : List UInt8 := [42, 180, 0, 50, 27, 50, 180, 0, 171, 42, 180, 0, 50, 27, 50, 180, 0, 171, 180, 0, 3, 28]
abbrev dktX0_step_2 : List UInt8 := dkwX0_step_2 ++ dktX0_step_3
def dkwX0_step_1 : List UInt8 := [182, 1, 103, 42, 27, 182, 1, 158, 153, 0, 16, 42, 180, 0, 92, 5, 92, 46, 4, 96, 79, 167, 0, 41]
abbrev dktX0_step_1 : List UInt8 := dkwX0_step_1 ++ dktX0_step_2
def dkwX0_step_0 : List UInt8 := [42, 27, 133, 182, 0, 160, 153, 0, 15, 28, 133, 9, 20, 0, 203, 184, 0, 121, 154, 0, 5, 2, 172, 42]
abbrev dktX0_step_0 : List UInt8 := dkwX0_step_0 ++ dktX0_step_1
theorem dksX0_step_0 : cX0_step.data.toList.drop 0 = dktX0_step_0 := by decide +kernel
theorem dksX0_step_1 : cX0_step.data.toList.drop 24 = dktX0_step_1 := dk_seg dksX0_step_0 24 rfl rfl
theorem dksX0_step_2 : cX0_step.data.toList.drop 48 = dktX0_step_2 := dk_seg dksX0_step_1 24 rfl rfl
theorem dksX0_step_3 : cX0_step.data.toList.drop 70 = dktX0_step_3 := dk_seg dksX0_step_2 22 rfl rfl
theorem dksX0_step_4 : cX0_step.data.toList.drop 92 = dktX0_step_4 := dk_seg dksX0_step_3 22 rfl rfl
theorem dX0_step_0 : decode cX0_step 0 = .ok (.aload_n 0, 1) := dk_42 (dk_at dksX0_step_0 0 rfl rfl)
theorem dX0_step_1 : decode cX0_step 1 = .ok (.iload_n 1, 1) := dk_27 (dk_at dksX0_step_0 1 rfl rfl)
theorem dX0_step_2 : decode cX0_step 2 = .ok (.i2l, 1) := dk_133 (dk_at dksX0_step_0 2 rfl rfl)
theorem dX0_step_3 : decode cX0_step 3 = .ok (.invokevirtual 160, 3) := dk_182 0 160 (dk_at dksX0_step_0 3 rfl rfl)
theorem dX0_step_6 : decode cX0_step 6 = .ok (.ifCond .eq 15, 3) := dk_153 0 15 (dk_at dksX0_step_0 6 rfl rfl)
theorem dX0_step_9 : decode cX0_step 9 = .ok (.iload_n 2, 1) := dk_28 (dk_at dksX0_step_0 9 rfl rfl)
theorem dX0_step_10 : decode cX0_step 10 = .ok (.i2l, 1) := dk_133 (dk_at dksX0_step_0 10 rfl rfl)
theorem dX0_step_11 : decode cX0_step 11 = .ok (.lconst 0, 1) := dk_9 (dk_at dksX0_step_0 11 rfl rfl)
theorem dX0_step_12 : decode cX0_step 12 = .ok (.ldc2_w 203, 3) := dk_20 0 203 (dk_at dksX0_step_0 12 rfl rfl)
theorem dX0_step_15 : decode cX0_step 15 = .ok (.invokestatic 121, 3) := dk_184 0 121 (dk_at dksX0_step_0 15 rfl rfl)
theorem dX0_step_18 : decode cX0_step 18 = .ok (.ifCond .ne 5, 3) := dk_154 0 5 (dk_at dksX0_step_0 18 rfl rfl)
theorem dX0_step_21 : decode cX0_step 21 = .ok (.iconst (-1), 1) := dk_2 (dk_at dksX0_step_0 21 rfl rfl)
theorem dX0_step_22 : decode cX0_step 22 = .ok (.ireturn, 1) := dk_172 (dk_at dksX0_step_0 22 rfl rfl)
theorem dX0_step_23 : decode cX0_step 23 = .ok (.aload_n 0, 1) := dk_42 (dk_at dksX0_step_0 23 rfl rfl)
theorem dX0_step_24 : decode cX0_step 24 = .ok (.invokevirtual 359, 3) := dk_182 1 103 (dk_at dksX0_step_1 0 rfl rfl)
theorem dX0_step_27 : decode cX0_step 27 = .ok (.aload_n 0, 1) := dk_42 (dk_at dksX0_step_1 3 rfl rfl)
theorem dX0_step_28 : decode cX0_step 28 = .ok (.iload_n 1, 1) := dk_27 (dk_at dksX0_step_1 4 rfl rfl)
theorem dX0_step_29 : decode cX0_step 29 = .ok (.invokevirtual 414, 3) := dk_182 1 158 (dk_at dksX0_step_1 5 rfl rfl)
theorem dX0_step_32 : decode cX0_step 32 = .ok (.ifCond .eq 16, 3) := dk_153 0 16 (dk_at dksX0_step_1 8 rfl rfl)
theorem dX0_step_35 : decode cX0_step 35 = .ok (.aload_n 0, 1) := dk_42 (dk_at dksX0_step_1 11 rfl rfl)
theorem dX0_step_36 : decode cX0_step 36 = .ok (.getfield 92, 3) := dk_180 0 92 (dk_at dksX0_step_1 12 rfl rfl)
theorem dX0_step_39 : decode cX0_step 39 = .ok (.iconst 2, 1) := dk_5 (dk_at dksX0_step_1 15 rfl rfl)
theorem dX0_step_40 : decode cX0_step 40 = .ok (.dup2, 1) := dk_92 (dk_at dksX0_step_1 16 rfl rfl)
theorem dX0_step_41 : decode cX0_step 41 = .ok (.iaload, 1) := dk_46 (dk_at dksX0_step_1 17 rfl rfl)
theorem dX0_step_42 : decode cX0_step 42 = .ok (.iconst 1, 1) := dk_4 (dk_at dksX0_step_1 18 rfl rfl)
theorem dX0_step_43 : decode cX0_step 43 = .ok (.iadd, 1) := dk_96 (dk_at dksX0_step_1 19 rfl rfl)
theorem dX0_step_44 : decode cX0_step 44 = .ok (.iastore, 1) := dk_79 (dk_at dksX0_step_1 20 rfl rfl)
theorem dX0_step_45 : decode cX0_step 45 = .ok (.goto 41, 3) := dk_167 0 41 (dk_at dksX0_step_1 21 rfl rfl)
theorem dX0_step_48 : decode cX0_step 48 = .ok (.aload_n 0, 1) := dk_42 (dk_at dksX0_step_2 0 rfl rfl)
theorem dX0_step_49 : decode cX0_step 49 = .ok (.getfield 50, 3) := dk_180 0 50 (dk_at dksX0_step_2 1 rfl rfl)
theorem dX0_step_52 : decode cX0_step 52 = .ok (.iload_n 1, 1) := dk_27 (dk_at dksX0_step_2 4 rfl rfl)
theorem dX0_step_53 : decode cX0_step 53 = .ok (.aaload, 1) := dk_50 (dk_at dksX0_step_2 5 rfl rfl)
theorem dX0_step_54 : decode cX0_step 54 = .ok (.getfield 171, 3) := dk_180 0 171 (dk_at dksX0_step_2 6 rfl rfl)
theorem dX0_step_57 : decode cX0_step 57 = .ok (.aload_n 0, 1) := dk_42 (dk_at dksX0_step_2 9 rfl rfl)
theorem dX0_step_58 : decode cX0_step 58 = .ok (.getfield 50, 3) := dk_180 0 50 (dk_at dksX0_step_2 10 rfl rfl)
theorem dX0_step_61 : decode cX0_step 61 = .ok (.iload_n 1, 1) := dk_27 (dk_at dksX0_step_2 13 rfl rfl)
theorem dX0_step_62 : decode cX0_step 62 = .ok (.aaload, 1) := dk_50 (dk_at dksX0_step_2 14 rfl rfl)
theorem dX0_step_63 : decode cX0_step 63 = .ok (.getfield 171, 3) := dk_180 0 171 (dk_at dksX0_step_2 15 rfl rfl)
theorem dX0_step_66 : decode cX0_step 66 = .ok (.getfield 3, 3) := dk_180 0 3 (dk_at dksX0_step_2 18 rfl rfl)
theorem dX0_step_69 : decode cX0_step 69 = .ok (.iload_n 2, 1) := dk_28 (dk_at dksX0_step_2 21 rfl rfl)
theorem dX0_step_70 : decode cX0_step 70 = .ok (.invokestatic 377, 3) := dk_184 1 121 (dk_at dksX0_step_3 0 rfl rfl)
theorem dX0_step_73 : decode cX0_step 73 = .ok (.putfield 3, 3) := dk_181 0 3 (dk_at dksX0_step_3 3 rfl rfl)
theorem dX0_step_76 : decode cX0_step 76 = .ok (.aload_n 0, 1) := dk_42 (dk_at dksX0_step_3 6 rfl rfl)
theorem dX0_step_77 : decode cX0_step 77 = .ok (.getfield 92, 3) := dk_180 0 92 (dk_at dksX0_step_3 7 rfl rfl)
theorem dX0_step_80 : decode cX0_step 80 = .ok (.iconst 1, 1) := dk_4 (dk_at dksX0_step_3 10 rfl rfl)
theorem dX0_step_81 : decode cX0_step 81 = .ok (.dup2, 1) := dk_92 (dk_at dksX0_step_3 11 rfl rfl)
theorem dX0_step_82 : decode cX0_step 82 = .ok (.iaload, 1) := dk_46 (dk_at dksX0_step_3 12 rfl rfl)
theorem dX0_step_83 : decode cX0_step 83 = .ok (.iconst 1, 1) := dk_4 (dk_at dksX0_step_3 13 rfl rfl)
theorem dX0_step_84 : decode cX0_step 84 = .ok (.iadd, 1) := dk_96 (dk_at dksX0_step_3 14 rfl rfl)
theorem dX0_step_85 : decode cX0_step 85 = .ok (.iastore, 1) := dk_79 (dk_at dksX0_step_3 15 rfl rfl)
theorem dX0_step_86 : decode cX0_step 86 = .ok (.aload_n 0, 1) := dk_42 (dk_at dksX0_step_3 16 rfl rfl)
theorem dX0_step_87 : decode cX0_step 87 = .ok (.getfield 50, 3) := dk_180 0 50 (dk_at dksX0_step_3 17 rfl rfl)
theorem dX0_step_90 : decode cX0_step 90 = .ok (.iload_n 1, 1) := dk_27 (dk_at dksX0_step_3 20 rfl rfl)
theorem dX0_step_91 : decode cX0_step 91 = .ok (.aaload, 1) := dk_50 (dk_at dksX0_step_3 21 rfl rfl)
theorem dX0_step_92 : decode cX0_step 92 = .ok (.getfield 171, 3) := dk_180 0 171 (dk_at dksX0_step_4 0 rfl rfl)
theorem dX0_step_95 : decode cX0_step 95 = .ok (.getfield 3, 3) := dk_180 0 3 (dk_at dksX0_step_4 3 rfl rfl)
theorem dX0_step_98 : decode cX0_step 98 = .ok (.ireturn, 1) := dk_172 (dk_at dksX0_step_4 6 rfl rfl)
abbrev cX0_pull : ByteArray := prog_1_method_86_code
def yX0_pull : MethodName := ⟨RX0, "pull", "(I)I"⟩
def dkwX0_pull_5 : List UInt8 := [180, 0, 3, 172]
abbrev dktX0_pull_5 : List UInt8 := dkwX0_pull_5 ++ []
def dkwX0_pull_4 : List UInt8 := [180, 0, 210, 8, 50, 4, 181, 0, 3, 42, 180, 0, 92, 6, 92, 46, 4, 96, 79, 44, 180, 0, 214]
abbrev dktX0_pull_4 : List UInt8 := dkwX0_pull_4 ++ dktX0_pull_5
def dkwX0_pull_3 : List UInt8 := [16, 251, 172, 44, 180, 0, 214, 89, 180, 0, 3, 4, 100, 181, 0, 3, 42, 180, 0, 56, 27, 50]
abbrev dktX0_pull_3 : List UInt8 := dkwX0_pull_3 ++ dktX0_pull_4
def dkwX0_pull_2 : List UInt8 := [42, 180, 0, 67, 180, 0, 3, 182, 1, 96, 153, 0, 13, 44, 180, 0, 214, 180, 0, 3, 154, 0, 6]
abbrev dktX0_pull_2 : List UInt8 := dkwX0_pull_2 ++ dktX0_pull_3
def dkwX0_pull_1 : List UInt8 := [50, 180, 0, 229, 50, 77, 42, 27, 42, 180, 0, 56, 27, 50, 180, 0, 229, 44, 180, 0, 171, 180, 0, 3]
abbrev dktX0_pull_1 : List UInt8 := dkwX0_pull_1 ++ dktX0_pull_2
def dkwX0_pull_0 : List UInt8 := [42, 27, 133, 182, 0, 207, 154, 0, 5, 2, 172, 42, 182, 1, 103, 42, 180, 0, 50, 42, 180, 0, 56, 27]
abbrev dktX0_pull_0 : List UInt8 := dkwX0_pull_0 ++ dktX0_pull_1
theorem dksX0_pull_0 : cX0_pull.data.toList.drop 0 = dktX0_pull_0 := by decide +kernel
theorem dksX0_pull_1 : cX0_pull.data.toList.drop 24 = dktX0_pull_1 := dk_seg dksX0_pull_0 24 rfl rfl
theorem dksX0_pull_2 : cX0_pull.data.toList.drop 48 = dktX0_pull_2 := dk_seg dksX0_pull_1 24 rfl rfl
theorem dksX0_pull_3 : cX0_pull.data.toList.drop 71 = dktX0_pull_3 := dk_seg dksX0_pull_2 23 rfl rfl
theorem dksX0_pull_4 : cX0_pull.data.toList.drop 93 = dktX0_pull_4 := dk_seg dksX0_pull_3 22 rfl rfl
theorem dksX0_pull_5 : cX0_pull.data.toList.drop 116 = dktX0_pull_5 := dk_seg dksX0_pull_4 23 rfl rfl
theorem dX0_pull_0 : decode cX0_pull 0 = .ok (.aload_n 0, 1) := dk_42 (dk_at dksX0_pull_0 0 rfl rfl)
theorem dX0_pull_1 : decode cX0_pull 1 = .ok (.iload_n 1, 1) := dk_27 (dk_at dksX0_pull_0 1 rfl rfl)
theorem dX0_pull_2 : decode cX0_pull 2 = .ok (.i2l, 1) := dk_133 (dk_at dksX0_pull_0 2 rfl rfl)
theorem dX0_pull_3 : decode cX0_pull 3 = .ok (.invokevirtual 207, 3) := dk_182 0 207 (dk_at dksX0_pull_0 3 rfl rfl)
theorem dX0_pull_6 : decode cX0_pull 6 = .ok (.ifCond .ne 5, 3) := dk_154 0 5 (dk_at dksX0_pull_0 6 rfl rfl)
theorem dX0_pull_9 : decode cX0_pull 9 = .ok (.iconst (-1), 1) := dk_2 (dk_at dksX0_pull_0 9 rfl rfl)
theorem dX0_pull_10 : decode cX0_pull 10 = .ok (.ireturn, 1) := dk_172 (dk_at dksX0_pull_0 10 rfl rfl)
theorem dX0_pull_11 : decode cX0_pull 11 = .ok (.aload_n 0, 1) := dk_42 (dk_at dksX0_pull_0 11 rfl rfl)
theorem dX0_pull_12 : decode cX0_pull 12 = .ok (.invokevirtual 359, 3) := dk_182 1 103 (dk_at dksX0_pull_0 12 rfl rfl)
theorem dX0_pull_15 : decode cX0_pull 15 = .ok (.aload_n 0, 1) := dk_42 (dk_at dksX0_pull_0 15 rfl rfl)
theorem dX0_pull_16 : decode cX0_pull 16 = .ok (.getfield 50, 3) := dk_180 0 50 (dk_at dksX0_pull_0 16 rfl rfl)
theorem dX0_pull_19 : decode cX0_pull 19 = .ok (.aload_n 0, 1) := dk_42 (dk_at dksX0_pull_0 19 rfl rfl)
theorem dX0_pull_20 : decode cX0_pull 20 = .ok (.getfield 56, 3) := dk_180 0 56 (dk_at dksX0_pull_0 20 rfl rfl)
theorem dX0_pull_23 : decode cX0_pull 23 = .ok (.iload_n 1, 1) := dk_27 (dk_at dksX0_pull_0 23 rfl rfl)
theorem dX0_pull_24 : decode cX0_pull 24 = .ok (.aaload, 1) := dk_50 (dk_at dksX0_pull_1 0 rfl rfl)
theorem dX0_pull_25 : decode cX0_pull 25 = .ok (.getfield 229, 3) := dk_180 0 229 (dk_at dksX0_pull_1 1 rfl rfl)
theorem dX0_pull_28 : decode cX0_pull 28 = .ok (.aaload, 1) := dk_50 (dk_at dksX0_pull_1 4 rfl rfl)
theorem dX0_pull_29 : decode cX0_pull 29 = .ok (.astore_n 2, 1) := dk_77 (dk_at dksX0_pull_1 5 rfl rfl)
theorem dX0_pull_30 : decode cX0_pull 30 = .ok (.aload_n 0, 1) := dk_42 (dk_at dksX0_pull_1 6 rfl rfl)
theorem dX0_pull_31 : decode cX0_pull 31 = .ok (.iload_n 1, 1) := dk_27 (dk_at dksX0_pull_1 7 rfl rfl)
theorem dX0_pull_32 : decode cX0_pull 32 = .ok (.aload_n 0, 1) := dk_42 (dk_at dksX0_pull_1 8 rfl rfl)
theorem dX0_pull_33 : decode cX0_pull 33 = .ok (.getfield 56, 3) := dk_180 0 56 (dk_at dksX0_pull_1 9 rfl rfl)
theorem dX0_pull_36 : decode cX0_pull 36 = .ok (.iload_n 1, 1) := dk_27 (dk_at dksX0_pull_1 12 rfl rfl)
theorem dX0_pull_37 : decode cX0_pull 37 = .ok (.aaload, 1) := dk_50 (dk_at dksX0_pull_1 13 rfl rfl)
theorem dX0_pull_38 : decode cX0_pull 38 = .ok (.getfield 229, 3) := dk_180 0 229 (dk_at dksX0_pull_1 14 rfl rfl)
theorem dX0_pull_41 : decode cX0_pull 41 = .ok (.aload_n 2, 1) := dk_44 (dk_at dksX0_pull_1 17 rfl rfl)
theorem dX0_pull_42 : decode cX0_pull 42 = .ok (.getfield 171, 3) := dk_180 0 171 (dk_at dksX0_pull_1 18 rfl rfl)
theorem dX0_pull_45 : decode cX0_pull 45 = .ok (.getfield 3, 3) := dk_180 0 3 (dk_at dksX0_pull_1 21 rfl rfl)
theorem dX0_pull_48 : decode cX0_pull 48 = .ok (.aload_n 0, 1) := dk_42 (dk_at dksX0_pull_2 0 rfl rfl)
theorem dX0_pull_49 : decode cX0_pull 49 = .ok (.getfield 67, 3) := dk_180 0 67 (dk_at dksX0_pull_2 1 rfl rfl)
theorem dX0_pull_52 : decode cX0_pull 52 = .ok (.getfield 3, 3) := dk_180 0 3 (dk_at dksX0_pull_2 4 rfl rfl)
theorem dX0_pull_55 : decode cX0_pull 55 = .ok (.invokevirtual 352, 3) := dk_182 1 96 (dk_at dksX0_pull_2 7 rfl rfl)
theorem dX0_pull_58 : decode cX0_pull 58 = .ok (.ifCond .eq 13, 3) := dk_153 0 13 (dk_at dksX0_pull_2 10 rfl rfl)
theorem dX0_pull_61 : decode cX0_pull 61 = .ok (.aload_n 2, 1) := dk_44 (dk_at dksX0_pull_2 13 rfl rfl)
theorem dX0_pull_62 : decode cX0_pull 62 = .ok (.getfield 214, 3) := dk_180 0 214 (dk_at dksX0_pull_2 14 rfl rfl)
theorem dX0_pull_65 : decode cX0_pull 65 = .ok (.getfield 3, 3) := dk_180 0 3 (dk_at dksX0_pull_2 17 rfl rfl)
theorem dX0_pull_68 : decode cX0_pull 68 = .ok (.ifCond .ne 6, 3) := dk_154 0 6 (dk_at dksX0_pull_2 20 rfl rfl)
theorem dX0_pull_71 : decode cX0_pull 71 = .ok (.bipush (-5), 2) := dk_16 251 (dk_at dksX0_pull_3 0 rfl rfl)
theorem dX0_pull_73 : decode cX0_pull 73 = .ok (.ireturn, 1) := dk_172 (dk_at dksX0_pull_3 2 rfl rfl)
theorem dX0_pull_74 : decode cX0_pull 74 = .ok (.aload_n 2, 1) := dk_44 (dk_at dksX0_pull_3 3 rfl rfl)
theorem dX0_pull_75 : decode cX0_pull 75 = .ok (.getfield 214, 3) := dk_180 0 214 (dk_at dksX0_pull_3 4 rfl rfl)
theorem dX0_pull_78 : decode cX0_pull 78 = .ok (.dup, 1) := dk_89 (dk_at dksX0_pull_3 7 rfl rfl)
theorem dX0_pull_79 : decode cX0_pull 79 = .ok (.getfield 3, 3) := dk_180 0 3 (dk_at dksX0_pull_3 8 rfl rfl)
theorem dX0_pull_82 : decode cX0_pull 82 = .ok (.iconst 1, 1) := dk_4 (dk_at dksX0_pull_3 11 rfl rfl)
theorem dX0_pull_83 : decode cX0_pull 83 = .ok (.isub, 1) := dk_100 (dk_at dksX0_pull_3 12 rfl rfl)
theorem dX0_pull_84 : decode cX0_pull 84 = .ok (.putfield 3, 3) := dk_181 0 3 (dk_at dksX0_pull_3 13 rfl rfl)
theorem dX0_pull_87 : decode cX0_pull 87 = .ok (.aload_n 0, 1) := dk_42 (dk_at dksX0_pull_3 16 rfl rfl)
theorem dX0_pull_88 : decode cX0_pull 88 = .ok (.getfield 56, 3) := dk_180 0 56 (dk_at dksX0_pull_3 17 rfl rfl)
theorem dX0_pull_91 : decode cX0_pull 91 = .ok (.iload_n 1, 1) := dk_27 (dk_at dksX0_pull_3 20 rfl rfl)
theorem dX0_pull_92 : decode cX0_pull 92 = .ok (.aaload, 1) := dk_50 (dk_at dksX0_pull_3 21 rfl rfl)
theorem dX0_pull_93 : decode cX0_pull 93 = .ok (.getfield 210, 3) := dk_180 0 210 (dk_at dksX0_pull_4 0 rfl rfl)
theorem dX0_pull_96 : decode cX0_pull 96 = .ok (.iconst 5, 1) := dk_8 (dk_at dksX0_pull_4 3 rfl rfl)
theorem dX0_pull_97 : decode cX0_pull 97 = .ok (.aaload, 1) := dk_50 (dk_at dksX0_pull_4 4 rfl rfl)
theorem dX0_pull_98 : decode cX0_pull 98 = .ok (.iconst 1, 1) := dk_4 (dk_at dksX0_pull_4 5 rfl rfl)
theorem dX0_pull_99 : decode cX0_pull 99 = .ok (.putfield 3, 3) := dk_181 0 3 (dk_at dksX0_pull_4 6 rfl rfl)
theorem dX0_pull_102 : decode cX0_pull 102 = .ok (.aload_n 0, 1) := dk_42 (dk_at dksX0_pull_4 9 rfl rfl)
theorem dX0_pull_103 : decode cX0_pull 103 = .ok (.getfield 92, 3) := dk_180 0 92 (dk_at dksX0_pull_4 10 rfl rfl)
theorem dX0_pull_106 : decode cX0_pull 106 = .ok (.iconst 3, 1) := dk_6 (dk_at dksX0_pull_4 13 rfl rfl)
theorem dX0_pull_107 : decode cX0_pull 107 = .ok (.dup2, 1) := dk_92 (dk_at dksX0_pull_4 14 rfl rfl)
theorem dX0_pull_108 : decode cX0_pull 108 = .ok (.iaload, 1) := dk_46 (dk_at dksX0_pull_4 15 rfl rfl)
theorem dX0_pull_109 : decode cX0_pull 109 = .ok (.iconst 1, 1) := dk_4 (dk_at dksX0_pull_4 16 rfl rfl)
theorem dX0_pull_110 : decode cX0_pull 110 = .ok (.iadd, 1) := dk_96 (dk_at dksX0_pull_4 17 rfl rfl)
theorem dX0_pull_111 : decode cX0_pull 111 = .ok (.iastore, 1) := dk_79 (dk_at dksX0_pull_4 18 rfl rfl)
theorem dX0_pull_112 : decode cX0_pull 112 = .ok (.aload_n 2, 1) := dk_44 (dk_at dksX0_pull_4 19 rfl rfl)
theorem dX0_pull_113 : decode cX0_pull 113 = .ok (.getfield 214, 3) := dk_180 0 214 (dk_at dksX0_pull_4 20 rfl rfl)
theorem dX0_pull_116 : decode cX0_pull 116 = .ok (.getfield 3, 3) := dk_180 0 3 (dk_at dksX0_pull_5 0 rfl rfl)
theorem dX0_pull_119 : decode cX0_pull 119 = .ok (.ireturn, 1) := dk_172 (dk_at dksX0_pull_5 3 rfl rfl)
abbrev cX0_letOff : ByteArray := prog_1_method_87_code
def yX0_letOff : MethodName := ⟨RX0, "letOff", "(I)I"⟩
def dkwX0_letOff_2 : List UInt8 := [79, 4, 172]
abbrev dktX0_letOff_2 : List UInt8 := dkwX0_letOff_2 ++ []
def dkwX0_letOff_1 : List UInt8 := [180, 0, 3, 4, 160, 0, 6, 16, 251, 172, 44, 4, 181, 0, 3, 42, 180, 0, 92, 7, 92, 46, 4, 96]
abbrev dktX0_letOff_1 : List UInt8 := dkwX0_letOff_1 ++ dktX0_letOff_2
def dkwX0_letOff_0 : List UInt8 := [42, 27, 133, 182, 0, 207, 154, 0, 5, 2, 172, 42, 180, 0, 56, 27, 50, 180, 0, 210, 8, 50, 77, 44]
abbrev dktX0_letOff_0 : List UInt8 := dkwX0_letOff_0 ++ dktX0_letOff_1
theorem dksX0_letOff_0 : cX0_letOff.data.toList.drop 0 = dktX0_letOff_0 := by decide +kernel
theorem dksX0_letOff_1 : cX0_letOff.data.toList.drop 24 = dktX0_letOff_1 := dk_seg dksX0_letOff_0 24 rfl rfl
theorem dksX0_letOff_2 : cX0_letOff.data.toList.drop 48 = dktX0_letOff_2 := dk_seg dksX0_letOff_1 24 rfl rfl
theorem dX0_letOff_0 : decode cX0_letOff 0 = .ok (.aload_n 0, 1) := dk_42 (dk_at dksX0_letOff_0 0 rfl rfl)
theorem dX0_letOff_1 : decode cX0_letOff 1 = .ok (.iload_n 1, 1) := dk_27 (dk_at dksX0_letOff_0 1 rfl rfl)
theorem dX0_letOff_2 : decode cX0_letOff 2 = .ok (.i2l, 1) := dk_133 (dk_at dksX0_letOff_0 2 rfl rfl)
theorem dX0_letOff_3 : decode cX0_letOff 3 = .ok (.invokevirtual 207, 3) := dk_182 0 207 (dk_at dksX0_letOff_0 3 rfl rfl)
theorem dX0_letOff_6 : decode cX0_letOff 6 = .ok (.ifCond .ne 5, 3) := dk_154 0 5 (dk_at dksX0_letOff_0 6 rfl rfl)
theorem dX0_letOff_9 : decode cX0_letOff 9 = .ok (.iconst (-1), 1) := dk_2 (dk_at dksX0_letOff_0 9 rfl rfl)
theorem dX0_letOff_10 : decode cX0_letOff 10 = .ok (.ireturn, 1) := dk_172 (dk_at dksX0_letOff_0 10 rfl rfl)
theorem dX0_letOff_11 : decode cX0_letOff 11 = .ok (.aload_n 0, 1) := dk_42 (dk_at dksX0_letOff_0 11 rfl rfl)
theorem dX0_letOff_12 : decode cX0_letOff 12 = .ok (.getfield 56, 3) := dk_180 0 56 (dk_at dksX0_letOff_0 12 rfl rfl)
theorem dX0_letOff_15 : decode cX0_letOff 15 = .ok (.iload_n 1, 1) := dk_27 (dk_at dksX0_letOff_0 15 rfl rfl)
theorem dX0_letOff_16 : decode cX0_letOff 16 = .ok (.aaload, 1) := dk_50 (dk_at dksX0_letOff_0 16 rfl rfl)
theorem dX0_letOff_17 : decode cX0_letOff 17 = .ok (.getfield 210, 3) := dk_180 0 210 (dk_at dksX0_letOff_0 17 rfl rfl)
theorem dX0_letOff_20 : decode cX0_letOff 20 = .ok (.iconst 5, 1) := dk_8 (dk_at dksX0_letOff_0 20 rfl rfl)
theorem dX0_letOff_21 : decode cX0_letOff 21 = .ok (.aaload, 1) := dk_50 (dk_at dksX0_letOff_0 21 rfl rfl)
theorem dX0_letOff_22 : decode cX0_letOff 22 = .ok (.astore_n 2, 1) := dk_77 (dk_at dksX0_letOff_0 22 rfl rfl)
theorem dX0_letOff_23 : decode cX0_letOff 23 = .ok (.aload_n 2, 1) := dk_44 (dk_at dksX0_letOff_0 23 rfl rfl)
theorem dX0_letOff_24 : decode cX0_letOff 24 = .ok (.getfield 3, 3) := dk_180 0 3 (dk_at dksX0_letOff_1 0 rfl rfl)
theorem dX0_letOff_27 : decode cX0_letOff 27 = .ok (.iconst 1, 1) := dk_4 (dk_at dksX0_letOff_1 3 rfl rfl)
theorem dX0_letOff_28 : decode cX0_letOff 28 = .ok (.if_icmp .ne 6, 3) := dk_160 0 6 (dk_at dksX0_letOff_1 4 rfl rfl)
theorem dX0_letOff_31 : decode cX0_letOff 31 = .ok (.bipush (-5), 2) := dk_16 251 (dk_at dksX0_letOff_1 7 rfl rfl)
theorem dX0_letOff_33 : decode cX0_letOff 33 = .ok (.ireturn, 1) := dk_172 (dk_at dksX0_letOff_1 9 rfl rfl)
theorem dX0_letOff_34 : decode cX0_letOff 34 = .ok (.aload_n 2, 1) := dk_44 (dk_at dksX0_letOff_1 10 rfl rfl)
theorem dX0_letOff_35 : decode cX0_letOff 35 = .ok (.iconst 1, 1) := dk_4 (dk_at dksX0_letOff_1 11 rfl rfl)
theorem dX0_letOff_36 : decode cX0_letOff 36 = .ok (.putfield 3, 3) := dk_181 0 3 (dk_at dksX0_letOff_1 12 rfl rfl)
theorem dX0_letOff_39 : decode cX0_letOff 39 = .ok (.aload_n 0, 1) := dk_42 (dk_at dksX0_letOff_1 15 rfl rfl)
theorem dX0_letOff_40 : decode cX0_letOff 40 = .ok (.getfield 92, 3) := dk_180 0 92 (dk_at dksX0_letOff_1 16 rfl rfl)
theorem dX0_letOff_43 : decode cX0_letOff 43 = .ok (.iconst 4, 1) := dk_7 (dk_at dksX0_letOff_1 19 rfl rfl)
theorem dX0_letOff_44 : decode cX0_letOff 44 = .ok (.dup2, 1) := dk_92 (dk_at dksX0_letOff_1 20 rfl rfl)
theorem dX0_letOff_45 : decode cX0_letOff 45 = .ok (.iaload, 1) := dk_46 (dk_at dksX0_letOff_1 21 rfl rfl)
theorem dX0_letOff_46 : decode cX0_letOff 46 = .ok (.iconst 1, 1) := dk_4 (dk_at dksX0_letOff_1 22 rfl rfl)
theorem dX0_letOff_47 : decode cX0_letOff 47 = .ok (.iadd, 1) := dk_96 (dk_at dksX0_letOff_1 23 rfl rfl)
theorem dX0_letOff_48 : decode cX0_letOff 48 = .ok (.iastore, 1) := dk_79 (dk_at dksX0_letOff_2 0 rfl rfl)
theorem dX0_letOff_49 : decode cX0_letOff 49 = .ok (.iconst 1, 1) := dk_4 (dk_at dksX0_letOff_2 1 rfl rfl)
theorem dX0_letOff_50 : decode cX0_letOff 50 = .ok (.ireturn, 1) := dk_172 (dk_at dksX0_letOff_2 2 rfl rfl)
abbrev cX0_forget : ByteArray := prog_1_method_88_code
def yX0_forget : MethodName := ⟨RX0, "forget", "(I)I"⟩
def dkwX0_forget_1 : List UInt8 := [180, 0, 3, 4, 160, 0, 6, 16, 251, 172, 44, 4, 181, 0, 3, 4, 172]
abbrev dktX0_forget_1 : List UInt8 := dkwX0_forget_1 ++ []
def dkwX0_forget_0 : List UInt8 := [42, 27, 133, 182, 0, 207, 154, 0, 5, 2, 172, 42, 180, 0, 56, 27, 50, 180, 0, 210, 7, 50, 77, 44]
abbrev dktX0_forget_0 : List UInt8 := dkwX0_forget_0 ++ dktX0_forget_1
theorem dksX0_forget_0 : cX0_forget.data.toList.drop 0 = dktX0_forget_0 := by decide +kernel
theorem dksX0_forget_1 : cX0_forget.data.toList.drop 24 = dktX0_forget_1 := dk_seg dksX0_forget_0 24 rfl rfl
theorem dX0_forget_0 : decode cX0_forget 0 = .ok (.aload_n 0, 1) := dk_42 (dk_at dksX0_forget_0 0 rfl rfl)
theorem dX0_forget_1 : decode cX0_forget 1 = .ok (.iload_n 1, 1) := dk_27 (dk_at dksX0_forget_0 1 rfl rfl)
theorem dX0_forget_2 : decode cX0_forget 2 = .ok (.i2l, 1) := dk_133 (dk_at dksX0_forget_0 2 rfl rfl)
theorem dX0_forget_3 : decode cX0_forget 3 = .ok (.invokevirtual 207, 3) := dk_182 0 207 (dk_at dksX0_forget_0 3 rfl rfl)
theorem dX0_forget_6 : decode cX0_forget 6 = .ok (.ifCond .ne 5, 3) := dk_154 0 5 (dk_at dksX0_forget_0 6 rfl rfl)
theorem dX0_forget_9 : decode cX0_forget 9 = .ok (.iconst (-1), 1) := dk_2 (dk_at dksX0_forget_0 9 rfl rfl)
theorem dX0_forget_10 : decode cX0_forget 10 = .ok (.ireturn, 1) := dk_172 (dk_at dksX0_forget_0 10 rfl rfl)
theorem dX0_forget_11 : decode cX0_forget 11 = .ok (.aload_n 0, 1) := dk_42 (dk_at dksX0_forget_0 11 rfl rfl)
theorem dX0_forget_12 : decode cX0_forget 12 = .ok (.getfield 56, 3) := dk_180 0 56 (dk_at dksX0_forget_0 12 rfl rfl)
theorem dX0_forget_15 : decode cX0_forget 15 = .ok (.iload_n 1, 1) := dk_27 (dk_at dksX0_forget_0 15 rfl rfl)
theorem dX0_forget_16 : decode cX0_forget 16 = .ok (.aaload, 1) := dk_50 (dk_at dksX0_forget_0 16 rfl rfl)
theorem dX0_forget_17 : decode cX0_forget 17 = .ok (.getfield 210, 3) := dk_180 0 210 (dk_at dksX0_forget_0 17 rfl rfl)
theorem dX0_forget_20 : decode cX0_forget 20 = .ok (.iconst 4, 1) := dk_7 (dk_at dksX0_forget_0 20 rfl rfl)
theorem dX0_forget_21 : decode cX0_forget 21 = .ok (.aaload, 1) := dk_50 (dk_at dksX0_forget_0 21 rfl rfl)
theorem dX0_forget_22 : decode cX0_forget 22 = .ok (.astore_n 2, 1) := dk_77 (dk_at dksX0_forget_0 22 rfl rfl)
theorem dX0_forget_23 : decode cX0_forget 23 = .ok (.aload_n 2, 1) := dk_44 (dk_at dksX0_forget_0 23 rfl rfl)
theorem dX0_forget_24 : decode cX0_forget 24 = .ok (.getfield 3, 3) := dk_180 0 3 (dk_at dksX0_forget_1 0 rfl rfl)
theorem dX0_forget_27 : decode cX0_forget 27 = .ok (.iconst 1, 1) := dk_4 (dk_at dksX0_forget_1 3 rfl rfl)
theorem dX0_forget_28 : decode cX0_forget 28 = .ok (.if_icmp .ne 6, 3) := dk_160 0 6 (dk_at dksX0_forget_1 4 rfl rfl)
theorem dX0_forget_31 : decode cX0_forget 31 = .ok (.bipush (-5), 2) := dk_16 251 (dk_at dksX0_forget_1 7 rfl rfl)
theorem dX0_forget_33 : decode cX0_forget 33 = .ok (.ireturn, 1) := dk_172 (dk_at dksX0_forget_1 9 rfl rfl)
theorem dX0_forget_34 : decode cX0_forget 34 = .ok (.aload_n 2, 1) := dk_44 (dk_at dksX0_forget_1 10 rfl rfl)
theorem dX0_forget_35 : decode cX0_forget 35 = .ok (.iconst 1, 1) := dk_4 (dk_at dksX0_forget_1 11 rfl rfl)
theorem dX0_forget_36 : decode cX0_forget 36 = .ok (.putfield 3, 3) := dk_181 0 3 (dk_at dksX0_forget_1 12 rfl rfl)
theorem dX0_forget_39 : decode cX0_forget 39 = .ok (.iconst 1, 1) := dk_4 (dk_at dksX0_forget_1 15 rfl rfl)
theorem dX0_forget_40 : decode cX0_forget 40 = .ok (.ireturn, 1) := dk_172 (dk_at dksX0_forget_1 16 rfl rfl)
abbrev cX0_day : ByteArray := prog_1_method_89_code
def yX0_day : MethodName := ⟨RX0, "day", "()I"⟩
def dkwX0_day_1 : List UInt8 := [92, 46, 4, 96, 79, 42, 180, 0, 67, 180, 0, 3, 172]
abbrev dktX0_day_1 : List UInt8 := dkwX0_day_1 ++ []
def dkwX0_day_0 : List UInt8 := [42, 180, 0, 67, 42, 180, 0, 67, 180, 0, 3, 4, 96, 184, 1, 124, 181, 0, 3, 42, 180, 0, 92, 8]
abbrev dktX0_day_0 : List UInt8 := dkwX0_day_0 ++ dktX0_day_1
theorem dksX0_day_0 : cX0_day.data.toList.drop 0 = dktX0_day_0 := by decide +kernel
theorem dksX0_day_1 : cX0_day.data.toList.drop 24 = dktX0_day_1 := dk_seg dksX0_day_0 24 rfl rfl
theorem dX0_day_0 : decode cX0_day 0 = .ok (.aload_n 0, 1) := dk_42 (dk_at dksX0_day_0 0 rfl rfl)
theorem dX0_day_1 : decode cX0_day 1 = .ok (.getfield 67, 3) := dk_180 0 67 (dk_at dksX0_day_0 1 rfl rfl)
theorem dX0_day_4 : decode cX0_day 4 = .ok (.aload_n 0, 1) := dk_42 (dk_at dksX0_day_0 4 rfl rfl)
theorem dX0_day_5 : decode cX0_day 5 = .ok (.getfield 67, 3) := dk_180 0 67 (dk_at dksX0_day_0 5 rfl rfl)
theorem dX0_day_8 : decode cX0_day 8 = .ok (.getfield 3, 3) := dk_180 0 3 (dk_at dksX0_day_0 8 rfl rfl)
theorem dX0_day_11 : decode cX0_day 11 = .ok (.iconst 1, 1) := dk_4 (dk_at dksX0_day_0 11 rfl rfl)
theorem dX0_day_12 : decode cX0_day 12 = .ok (.iadd, 1) := dk_96 (dk_at dksX0_day_0 12 rfl rfl)
theorem dX0_day_13 : decode cX0_day 13 = .ok (.invokestatic 380, 3) := dk_184 1 124 (dk_at dksX0_day_0 13 rfl rfl)
theorem dX0_day_16 : decode cX0_day 16 = .ok (.putfield 3, 3) := dk_181 0 3 (dk_at dksX0_day_0 16 rfl rfl)
theorem dX0_day_19 : decode cX0_day 19 = .ok (.aload_n 0, 1) := dk_42 (dk_at dksX0_day_0 19 rfl rfl)
theorem dX0_day_20 : decode cX0_day 20 = .ok (.getfield 92, 3) := dk_180 0 92 (dk_at dksX0_day_0 20 rfl rfl)
theorem dX0_day_23 : decode cX0_day 23 = .ok (.iconst 5, 1) := dk_8 (dk_at dksX0_day_0 23 rfl rfl)
theorem dX0_day_24 : decode cX0_day 24 = .ok (.dup2, 1) := dk_92 (dk_at dksX0_day_1 0 rfl rfl)
theorem dX0_day_25 : decode cX0_day 25 = .ok (.iaload, 1) := dk_46 (dk_at dksX0_day_1 1 rfl rfl)
theorem dX0_day_26 : decode cX0_day 26 = .ok (.iconst 1, 1) := dk_4 (dk_at dksX0_day_1 2 rfl rfl)
theorem dX0_day_27 : decode cX0_day 27 = .ok (.iadd, 1) := dk_96 (dk_at dksX0_day_1 3 rfl rfl)
theorem dX0_day_28 : decode cX0_day 28 = .ok (.iastore, 1) := dk_79 (dk_at dksX0_day_1 4 rfl rfl)
theorem dX0_day_29 : decode cX0_day 29 = .ok (.aload_n 0, 1) := dk_42 (dk_at dksX0_day_1 5 rfl rfl)
theorem dX0_day_30 : decode cX0_day 30 = .ok (.getfield 67, 3) := dk_180 0 67 (dk_at dksX0_day_1 6 rfl rfl)
theorem dX0_day_33 : decode cX0_day 33 = .ok (.getfield 3, 3) := dk_180 0 3 (dk_at dksX0_day_1 9 rfl rfl)
theorem dX0_day_36 : decode cX0_day 36 = .ok (.ireturn, 1) := dk_172 (dk_at dksX0_day_1 12 rfl rfl)
abbrev cX0_led : ByteArray := prog_1_method_90_code
def yX0_led : MethodName := ⟨RX0, "led", "(I)I"⟩
def dkwX0_led_0 : List UInt8 := [27, 133, 9, 20, 0, 193, 184, 0, 121, 153, 0, 12, 42, 180, 0, 92, 27, 46, 167, 0, 4, 2, 172]
abbrev dktX0_led_0 : List UInt8 := dkwX0_led_0 ++ []
theorem dksX0_led_0 : cX0_led.data.toList.drop 0 = dktX0_led_0 := by decide +kernel
theorem dX0_led_0 : decode cX0_led 0 = .ok (.iload_n 1, 1) := dk_27 (dk_at dksX0_led_0 0 rfl rfl)
theorem dX0_led_1 : decode cX0_led 1 = .ok (.i2l, 1) := dk_133 (dk_at dksX0_led_0 1 rfl rfl)
theorem dX0_led_2 : decode cX0_led 2 = .ok (.lconst 0, 1) := dk_9 (dk_at dksX0_led_0 2 rfl rfl)
theorem dX0_led_3 : decode cX0_led 3 = .ok (.ldc2_w 193, 3) := dk_20 0 193 (dk_at dksX0_led_0 3 rfl rfl)
theorem dX0_led_6 : decode cX0_led 6 = .ok (.invokestatic 121, 3) := dk_184 0 121 (dk_at dksX0_led_0 6 rfl rfl)
theorem dX0_led_9 : decode cX0_led 9 = .ok (.ifCond .eq 12, 3) := dk_153 0 12 (dk_at dksX0_led_0 9 rfl rfl)
theorem dX0_led_12 : decode cX0_led 12 = .ok (.aload_n 0, 1) := dk_42 (dk_at dksX0_led_0 12 rfl rfl)
theorem dX0_led_13 : decode cX0_led 13 = .ok (.getfield 92, 3) := dk_180 0 92 (dk_at dksX0_led_0 13 rfl rfl)
theorem dX0_led_16 : decode cX0_led 16 = .ok (.iload_n 1, 1) := dk_27 (dk_at dksX0_led_0 16 rfl rfl)
theorem dX0_led_17 : decode cX0_led 17 = .ok (.iaload, 1) := dk_46 (dk_at dksX0_led_0 17 rfl rfl)
theorem dX0_led_18 : decode cX0_led 18 = .ok (.goto 4, 3) := dk_167 0 4 (dk_at dksX0_led_0 18 rfl rfl)
theorem dX0_led_21 : decode cX0_led 21 = .ok (.iconst (-1), 1) := dk_2 (dk_at dksX0_led_0 21 rfl rfl)
theorem dX0_led_22 : decode cX0_led 22 = .ok (.ireturn, 1) := dk_172 (dk_at dksX0_led_0 22 rfl rfl)
abbrev cX0_image : ByteArray := prog_1_method_91_code
def yX0_image : MethodName := ⟨RX0, "image", "()I"⟩
def dkwX0_image_5 : List UInt8 := [184, 1, 186, 42, 180, 0, 92, 8, 46, 172]
abbrev dktX0_image_5 : List UInt8 := dkwX0_image_5 ++ []
def dkwX0_image_4 : List UInt8 := [181, 1, 242, 42, 42, 180, 1, 59, 181, 1, 245, 42, 180, 0, 92, 3, 42, 180, 0, 101, 3, 16, 6]
abbrev dktX0_image_4 : List UInt8 := dkwX0_image_4 ++ dktX0_image_5
def dkwX0_image_3 : List UInt8 := [180, 0, 214, 180, 0, 3, 79, 132, 1, 1, 167, 255, 209, 42, 182, 1, 103, 42, 42, 180, 1, 62]
abbrev dktX0_image_3 : List UInt8 := dkwX0_image_3 ++ dktX0_image_4
def dkwX0_image_2 : List UInt8 := [42, 180, 0, 50, 27, 50, 180, 0, 171, 180, 0, 3, 79, 42, 180, 0, 98, 27, 42, 180, 0, 50, 27, 50]
abbrev dktX0_image_2 : List UInt8 := dkwX0_image_2 ++ dktX0_image_3
def dkwX0_image_1 : List UInt8 := [180, 0, 67, 180, 0, 3, 181, 1, 239, 3, 60, 27, 42, 180, 0, 143, 162, 0, 45, 42, 180, 0, 95, 27]
abbrev dktX0_image_1 : List UInt8 := dkwX0_image_1 ++ dktX0_image_2
def dkwX0_image_0 : List UInt8 := [42, 4, 181, 1, 229, 42, 42, 180, 0, 143, 181, 1, 233, 42, 42, 180, 0, 146, 181, 1, 236, 42, 42]
abbrev dktX0_image_0 : List UInt8 := dkwX0_image_0 ++ dktX0_image_1
theorem dksX0_image_0 : cX0_image.data.toList.drop 0 = dktX0_image_0 := by decide +kernel
theorem dksX0_image_1 : cX0_image.data.toList.drop 23 = dktX0_image_1 := dk_seg dksX0_image_0 23 rfl rfl
theorem dksX0_image_2 : cX0_image.data.toList.drop 47 = dktX0_image_2 := dk_seg dksX0_image_1 24 rfl rfl
theorem dksX0_image_3 : cX0_image.data.toList.drop 71 = dktX0_image_3 := dk_seg dksX0_image_2 24 rfl rfl
theorem dksX0_image_4 : cX0_image.data.toList.drop 93 = dktX0_image_4 := dk_seg dksX0_image_3 22 rfl rfl
theorem dksX0_image_5 : cX0_image.data.toList.drop 116 = dktX0_image_5 := dk_seg dksX0_image_4 23 rfl rfl
theorem dX0_image_0 : decode cX0_image 0 = .ok (.aload_n 0, 1) := dk_42 (dk_at dksX0_image_0 0 rfl rfl)
theorem dX0_image_1 : decode cX0_image 1 = .ok (.iconst 1, 1) := dk_4 (dk_at dksX0_image_0 1 rfl rfl)
theorem dX0_image_2 : decode cX0_image 2 = .ok (.putfield 485, 3) := dk_181 1 229 (dk_at dksX0_image_0 2 rfl rfl)
theorem dX0_image_5 : decode cX0_image 5 = .ok (.aload_n 0, 1) := dk_42 (dk_at dksX0_image_0 5 rfl rfl)
theorem dX0_image_6 : decode cX0_image 6 = .ok (.aload_n 0, 1) := dk_42 (dk_at dksX0_image_0 6 rfl rfl)
theorem dX0_image_7 : decode cX0_image 7 = .ok (.getfield 143, 3) := dk_180 0 143 (dk_at dksX0_image_0 7 rfl rfl)
theorem dX0_image_10 : decode cX0_image 10 = .ok (.putfield 489, 3) := dk_181 1 233 (dk_at dksX0_image_0 10 rfl rfl)
theorem dX0_image_13 : decode cX0_image 13 = .ok (.aload_n 0, 1) := dk_42 (dk_at dksX0_image_0 13 rfl rfl)
theorem dX0_image_14 : decode cX0_image 14 = .ok (.aload_n 0, 1) := dk_42 (dk_at dksX0_image_0 14 rfl rfl)
theorem dX0_image_15 : decode cX0_image 15 = .ok (.getfield 146, 3) := dk_180 0 146 (dk_at dksX0_image_0 15 rfl rfl)
theorem dX0_image_18 : decode cX0_image 18 = .ok (.putfield 492, 3) := dk_181 1 236 (dk_at dksX0_image_0 18 rfl rfl)
theorem dX0_image_21 : decode cX0_image 21 = .ok (.aload_n 0, 1) := dk_42 (dk_at dksX0_image_0 21 rfl rfl)
theorem dX0_image_22 : decode cX0_image 22 = .ok (.aload_n 0, 1) := dk_42 (dk_at dksX0_image_0 22 rfl rfl)
theorem dX0_image_23 : decode cX0_image 23 = .ok (.getfield 67, 3) := dk_180 0 67 (dk_at dksX0_image_1 0 rfl rfl)
theorem dX0_image_26 : decode cX0_image 26 = .ok (.getfield 3, 3) := dk_180 0 3 (dk_at dksX0_image_1 3 rfl rfl)
theorem dX0_image_29 : decode cX0_image 29 = .ok (.putfield 495, 3) := dk_181 1 239 (dk_at dksX0_image_1 6 rfl rfl)
theorem dX0_image_32 : decode cX0_image 32 = .ok (.iconst 0, 1) := dk_3 (dk_at dksX0_image_1 9 rfl rfl)
theorem dX0_image_33 : decode cX0_image 33 = .ok (.istore_n 1, 1) := dk_60 (dk_at dksX0_image_1 10 rfl rfl)
theorem dX0_image_34 : decode cX0_image 34 = .ok (.iload_n 1, 1) := dk_27 (dk_at dksX0_image_1 11 rfl rfl)
theorem dX0_image_35 : decode cX0_image 35 = .ok (.aload_n 0, 1) := dk_42 (dk_at dksX0_image_1 12 rfl rfl)
theorem dX0_image_36 : decode cX0_image 36 = .ok (.getfield 143, 3) := dk_180 0 143 (dk_at dksX0_image_1 13 rfl rfl)
theorem dX0_image_39 : decode cX0_image 39 = .ok (.if_icmp .ge 45, 3) := dk_162 0 45 (dk_at dksX0_image_1 16 rfl rfl)
theorem dX0_image_42 : decode cX0_image 42 = .ok (.aload_n 0, 1) := dk_42 (dk_at dksX0_image_1 19 rfl rfl)
theorem dX0_image_43 : decode cX0_image 43 = .ok (.getfield 95, 3) := dk_180 0 95 (dk_at dksX0_image_1 20 rfl rfl)
theorem dX0_image_46 : decode cX0_image 46 = .ok (.iload_n 1, 1) := dk_27 (dk_at dksX0_image_1 23 rfl rfl)
theorem dX0_image_47 : decode cX0_image 47 = .ok (.aload_n 0, 1) := dk_42 (dk_at dksX0_image_2 0 rfl rfl)
theorem dX0_image_48 : decode cX0_image 48 = .ok (.getfield 50, 3) := dk_180 0 50 (dk_at dksX0_image_2 1 rfl rfl)
theorem dX0_image_51 : decode cX0_image 51 = .ok (.iload_n 1, 1) := dk_27 (dk_at dksX0_image_2 4 rfl rfl)
theorem dX0_image_52 : decode cX0_image 52 = .ok (.aaload, 1) := dk_50 (dk_at dksX0_image_2 5 rfl rfl)
theorem dX0_image_53 : decode cX0_image 53 = .ok (.getfield 171, 3) := dk_180 0 171 (dk_at dksX0_image_2 6 rfl rfl)
theorem dX0_image_56 : decode cX0_image 56 = .ok (.getfield 3, 3) := dk_180 0 3 (dk_at dksX0_image_2 9 rfl rfl)
theorem dX0_image_59 : decode cX0_image 59 = .ok (.iastore, 1) := dk_79 (dk_at dksX0_image_2 12 rfl rfl)
theorem dX0_image_60 : decode cX0_image 60 = .ok (.aload_n 0, 1) := dk_42 (dk_at dksX0_image_2 13 rfl rfl)
theorem dX0_image_61 : decode cX0_image 61 = .ok (.getfield 98, 3) := dk_180 0 98 (dk_at dksX0_image_2 14 rfl rfl)
theorem dX0_image_64 : decode cX0_image 64 = .ok (.iload_n 1, 1) := dk_27 (dk_at dksX0_image_2 17 rfl rfl)
theorem dX0_image_65 : decode cX0_image 65 = .ok (.aload_n 0, 1) := dk_42 (dk_at dksX0_image_2 18 rfl rfl)
theorem dX0_image_66 : decode cX0_image 66 = .ok (.getfield 50, 3) := dk_180 0 50 (dk_at dksX0_image_2 19 rfl rfl)
theorem dX0_image_69 : decode cX0_image 69 = .ok (.iload_n 1, 1) := dk_27 (dk_at dksX0_image_2 22 rfl rfl)
theorem dX0_image_70 : decode cX0_image 70 = .ok (.aaload, 1) := dk_50 (dk_at dksX0_image_2 23 rfl rfl)
theorem dX0_image_71 : decode cX0_image 71 = .ok (.getfield 214, 3) := dk_180 0 214 (dk_at dksX0_image_3 0 rfl rfl)
theorem dX0_image_74 : decode cX0_image 74 = .ok (.getfield 3, 3) := dk_180 0 3 (dk_at dksX0_image_3 3 rfl rfl)
theorem dX0_image_77 : decode cX0_image 77 = .ok (.iastore, 1) := dk_79 (dk_at dksX0_image_3 6 rfl rfl)
theorem dX0_image_78 : decode cX0_image 78 = .ok (.iinc 1 1, 3) := dk_132 1 1 (dk_at dksX0_image_3 7 rfl rfl)
theorem dX0_image_81 : decode cX0_image 81 = .ok (.goto (-47), 3) := dk_167 255 209 (dk_at dksX0_image_3 10 rfl rfl)
theorem dX0_image_84 : decode cX0_image 84 = .ok (.aload_n 0, 1) := dk_42 (dk_at dksX0_image_3 13 rfl rfl)
theorem dX0_image_85 : decode cX0_image 85 = .ok (.invokevirtual 359, 3) := dk_182 1 103 (dk_at dksX0_image_3 14 rfl rfl)
theorem dX0_image_88 : decode cX0_image 88 = .ok (.aload_n 0, 1) := dk_42 (dk_at dksX0_image_3 17 rfl rfl)
theorem dX0_image_89 : decode cX0_image 89 = .ok (.aload_n 0, 1) := dk_42 (dk_at dksX0_image_3 18 rfl rfl)
theorem dX0_image_90 : decode cX0_image 90 = .ok (.getfield 318, 3) := dk_180 1 62 (dk_at dksX0_image_3 19 rfl rfl)
theorem dX0_image_93 : decode cX0_image 93 = .ok (.putfield 498, 3) := dk_181 1 242 (dk_at dksX0_image_4 0 rfl rfl)
theorem dX0_image_96 : decode cX0_image 96 = .ok (.aload_n 0, 1) := dk_42 (dk_at dksX0_image_4 3 rfl rfl)
theorem dX0_image_97 : decode cX0_image 97 = .ok (.aload_n 0, 1) := dk_42 (dk_at dksX0_image_4 4 rfl rfl)
theorem dX0_image_98 : decode cX0_image 98 = .ok (.getfield 315, 3) := dk_180 1 59 (dk_at dksX0_image_4 5 rfl rfl)
theorem dX0_image_101 : decode cX0_image 101 = .ok (.putfield 501, 3) := dk_181 1 245 (dk_at dksX0_image_4 8 rfl rfl)
theorem dX0_image_104 : decode cX0_image 104 = .ok (.aload_n 0, 1) := dk_42 (dk_at dksX0_image_4 11 rfl rfl)
theorem dX0_image_105 : decode cX0_image 105 = .ok (.getfield 92, 3) := dk_180 0 92 (dk_at dksX0_image_4 12 rfl rfl)
theorem dX0_image_108 : decode cX0_image 108 = .ok (.iconst 0, 1) := dk_3 (dk_at dksX0_image_4 15 rfl rfl)
theorem dX0_image_109 : decode cX0_image 109 = .ok (.aload_n 0, 1) := dk_42 (dk_at dksX0_image_4 16 rfl rfl)
theorem dX0_image_110 : decode cX0_image 110 = .ok (.getfield 101, 3) := dk_180 0 101 (dk_at dksX0_image_4 17 rfl rfl)
theorem dX0_image_113 : decode cX0_image 113 = .ok (.iconst 0, 1) := dk_3 (dk_at dksX0_image_4 20 rfl rfl)
theorem dX0_image_114 : decode cX0_image 114 = .ok (.bipush 6, 2) := dk_16 6 (dk_at dksX0_image_4 21 rfl rfl)
theorem dX0_image_116 : decode cX0_image 116 = .ok (.invokestatic 442, 3) := dk_184 1 186 (dk_at dksX0_image_5 0 rfl rfl)
theorem dX0_image_119 : decode cX0_image 119 = .ok (.aload_n 0, 1) := dk_42 (dk_at dksX0_image_5 3 rfl rfl)
theorem dX0_image_120 : decode cX0_image 120 = .ok (.getfield 92, 3) := dk_180 0 92 (dk_at dksX0_image_5 4 rfl rfl)
theorem dX0_image_123 : decode cX0_image 123 = .ok (.iconst 5, 1) := dk_8 (dk_at dksX0_image_5 7 rfl rfl)
theorem dX0_image_124 : decode cX0_image 124 = .ok (.iaload, 1) := dk_46 (dk_at dksX0_image_5 8 rfl rfl)
theorem dX0_image_125 : decode cX0_image 125 = .ok (.ireturn, 1) := dk_172 (dk_at dksX0_image_5 9 rfl rfl)
abbrev cX0_back : ByteArray := prog_1_method_92_code
def yX0_back : MethodName := ⟨RX0, "back", "()I"⟩
def dkwX0_back_6 : List UInt8 := [16, 6, 184, 1, 186, 42, 180, 0, 92, 8, 46, 172]
abbrev dktX0_back_6 : List UInt8 := dkwX0_back_6 ++ []
def dkwX0_back_5 : List UInt8 := [167, 255, 201, 42, 180, 0, 67, 42, 180, 1, 239, 181, 0, 3, 42, 180, 0, 101, 3, 42, 180, 0, 92, 3]
abbrev dktX0_back_5 : List UInt8 := dkwX0_back_5 ++ dktX0_back_6
def dkwX0_back_4 : List UInt8 := [180, 0, 56, 27, 50, 180, 0, 210, 8, 50, 42, 180, 1, 245, 27, 122, 4, 126, 181, 0, 3, 132, 1, 1]
abbrev dktX0_back_4 : List UInt8 := dkwX0_back_4 ++ dktX0_back_5
def dkwX0_back_3 : List UInt8 := [42, 180, 0, 56, 27, 50, 180, 0, 210, 7, 50, 42, 180, 1, 242, 27, 122, 4, 126, 181, 0, 3, 42]
abbrev dktX0_back_3 : List UInt8 := dkwX0_back_3 ++ dktX0_back_4
def dkwX0_back_2 : List UInt8 := [180, 0, 98, 27, 46, 181, 0, 3, 132, 1, 1, 167, 255, 209, 3, 60, 27, 42, 180, 1, 236, 162, 0, 53]
abbrev dktX0_back_2 : List UInt8 := dkwX0_back_2 ++ dktX0_back_3
def dkwX0_back_1 : List UInt8 := [27, 50, 180, 0, 171, 42, 180, 0, 95, 27, 46, 181, 0, 3, 42, 180, 0, 50, 27, 50, 180, 0, 214, 42]
abbrev dktX0_back_1 : List UInt8 := dkwX0_back_1 ++ dktX0_back_2
def dkwX0_back_0 : List UInt8 := [42, 180, 1, 229, 154, 0, 6, 16, 251, 172, 3, 60, 27, 42, 180, 1, 233, 162, 0, 45, 42, 180, 0, 50]
abbrev dktX0_back_0 : List UInt8 := dkwX0_back_0 ++ dktX0_back_1
theorem dksX0_back_0 : cX0_back.data.toList.drop 0 = dktX0_back_0 := by decide +kernel
theorem dksX0_back_1 : cX0_back.data.toList.drop 24 = dktX0_back_1 := dk_seg dksX0_back_0 24 rfl rfl
theorem dksX0_back_2 : cX0_back.data.toList.drop 48 = dktX0_back_2 := dk_seg dksX0_back_1 24 rfl rfl
theorem dksX0_back_3 : cX0_back.data.toList.drop 72 = dktX0_back_3 := dk_seg dksX0_back_2 24 rfl rfl
theorem dksX0_back_4 : cX0_back.data.toList.drop 95 = dktX0_back_4 := dk_seg dksX0_back_3 23 rfl rfl
theorem dksX0_back_5 : cX0_back.data.toList.drop 119 = dktX0_back_5 := dk_seg dksX0_back_4 24 rfl rfl
theorem dksX0_back_6 : cX0_back.data.toList.drop 143 = dktX0_back_6 := dk_seg dksX0_back_5 24 rfl rfl
theorem dX0_back_0 : decode cX0_back 0 = .ok (.aload_n 0, 1) := dk_42 (dk_at dksX0_back_0 0 rfl rfl)
theorem dX0_back_1 : decode cX0_back 1 = .ok (.getfield 485, 3) := dk_180 1 229 (dk_at dksX0_back_0 1 rfl rfl)
theorem dX0_back_4 : decode cX0_back 4 = .ok (.ifCond .ne 6, 3) := dk_154 0 6 (dk_at dksX0_back_0 4 rfl rfl)
theorem dX0_back_7 : decode cX0_back 7 = .ok (.bipush (-5), 2) := dk_16 251 (dk_at dksX0_back_0 7 rfl rfl)
theorem dX0_back_9 : decode cX0_back 9 = .ok (.ireturn, 1) := dk_172 (dk_at dksX0_back_0 9 rfl rfl)
theorem dX0_back_10 : decode cX0_back 10 = .ok (.iconst 0, 1) := dk_3 (dk_at dksX0_back_0 10 rfl rfl)
theorem dX0_back_11 : decode cX0_back 11 = .ok (.istore_n 1, 1) := dk_60 (dk_at dksX0_back_0 11 rfl rfl)
theorem dX0_back_12 : decode cX0_back 12 = .ok (.iload_n 1, 1) := dk_27 (dk_at dksX0_back_0 12 rfl rfl)
theorem dX0_back_13 : decode cX0_back 13 = .ok (.aload_n 0, 1) := dk_42 (dk_at dksX0_back_0 13 rfl rfl)
theorem dX0_back_14 : decode cX0_back 14 = .ok (.getfield 489, 3) := dk_180 1 233 (dk_at dksX0_back_0 14 rfl rfl)
theorem dX0_back_17 : decode cX0_back 17 = .ok (.if_icmp .ge 45, 3) := dk_162 0 45 (dk_at dksX0_back_0 17 rfl rfl)
theorem dX0_back_20 : decode cX0_back 20 = .ok (.aload_n 0, 1) := dk_42 (dk_at dksX0_back_0 20 rfl rfl)
theorem dX0_back_21 : decode cX0_back 21 = .ok (.getfield 50, 3) := dk_180 0 50 (dk_at dksX0_back_0 21 rfl rfl)
theorem dX0_back_24 : decode cX0_back 24 = .ok (.iload_n 1, 1) := dk_27 (dk_at dksX0_back_1 0 rfl rfl)
theorem dX0_back_25 : decode cX0_back 25 = .ok (.aaload, 1) := dk_50 (dk_at dksX0_back_1 1 rfl rfl)
theorem dX0_back_26 : decode cX0_back 26 = .ok (.getfield 171, 3) := dk_180 0 171 (dk_at dksX0_back_1 2 rfl rfl)
theorem dX0_back_29 : decode cX0_back 29 = .ok (.aload_n 0, 1) := dk_42 (dk_at dksX0_back_1 5 rfl rfl)
theorem dX0_back_30 : decode cX0_back 30 = .ok (.getfield 95, 3) := dk_180 0 95 (dk_at dksX0_back_1 6 rfl rfl)
theorem dX0_back_33 : decode cX0_back 33 = .ok (.iload_n 1, 1) := dk_27 (dk_at dksX0_back_1 9 rfl rfl)
theorem dX0_back_34 : decode cX0_back 34 = .ok (.iaload, 1) := dk_46 (dk_at dksX0_back_1 10 rfl rfl)
theorem dX0_back_35 : decode cX0_back 35 = .ok (.putfield 3, 3) := dk_181 0 3 (dk_at dksX0_back_1 11 rfl rfl)
theorem dX0_back_38 : decode cX0_back 38 = .ok (.aload_n 0, 1) := dk_42 (dk_at dksX0_back_1 14 rfl rfl)
theorem dX0_back_39 : decode cX0_back 39 = .ok (.getfield 50, 3) := dk_180 0 50 (dk_at dksX0_back_1 15 rfl rfl)
theorem dX0_back_42 : decode cX0_back 42 = .ok (.iload_n 1, 1) := dk_27 (dk_at dksX0_back_1 18 rfl rfl)
theorem dX0_back_43 : decode cX0_back 43 = .ok (.aaload, 1) := dk_50 (dk_at dksX0_back_1 19 rfl rfl)
theorem dX0_back_44 : decode cX0_back 44 = .ok (.getfield 214, 3) := dk_180 0 214 (dk_at dksX0_back_1 20 rfl rfl)
theorem dX0_back_47 : decode cX0_back 47 = .ok (.aload_n 0, 1) := dk_42 (dk_at dksX0_back_1 23 rfl rfl)
theorem dX0_back_48 : decode cX0_back 48 = .ok (.getfield 98, 3) := dk_180 0 98 (dk_at dksX0_back_2 0 rfl rfl)
theorem dX0_back_51 : decode cX0_back 51 = .ok (.iload_n 1, 1) := dk_27 (dk_at dksX0_back_2 3 rfl rfl)
theorem dX0_back_52 : decode cX0_back 52 = .ok (.iaload, 1) := dk_46 (dk_at dksX0_back_2 4 rfl rfl)
theorem dX0_back_53 : decode cX0_back 53 = .ok (.putfield 3, 3) := dk_181 0 3 (dk_at dksX0_back_2 5 rfl rfl)
theorem dX0_back_56 : decode cX0_back 56 = .ok (.iinc 1 1, 3) := dk_132 1 1 (dk_at dksX0_back_2 8 rfl rfl)
theorem dX0_back_59 : decode cX0_back 59 = .ok (.goto (-47), 3) := dk_167 255 209 (dk_at dksX0_back_2 11 rfl rfl)
theorem dX0_back_62 : decode cX0_back 62 = .ok (.iconst 0, 1) := dk_3 (dk_at dksX0_back_2 14 rfl rfl)
theorem dX0_back_63 : decode cX0_back 63 = .ok (.istore_n 1, 1) := dk_60 (dk_at dksX0_back_2 15 rfl rfl)
theorem dX0_back_64 : decode cX0_back 64 = .ok (.iload_n 1, 1) := dk_27 (dk_at dksX0_back_2 16 rfl rfl)
theorem dX0_back_65 : decode cX0_back 65 = .ok (.aload_n 0, 1) := dk_42 (dk_at dksX0_back_2 17 rfl rfl)
theorem dX0_back_66 : decode cX0_back 66 = .ok (.getfield 492, 3) := dk_180 1 236 (dk_at dksX0_back_2 18 rfl rfl)
theorem dX0_back_69 : decode cX0_back 69 = .ok (.if_icmp .ge 53, 3) := dk_162 0 53 (dk_at dksX0_back_2 21 rfl rfl)
theorem dX0_back_72 : decode cX0_back 72 = .ok (.aload_n 0, 1) := dk_42 (dk_at dksX0_back_3 0 rfl rfl)
theorem dX0_back_73 : decode cX0_back 73 = .ok (.getfield 56, 3) := dk_180 0 56 (dk_at dksX0_back_3 1 rfl rfl)
theorem dX0_back_76 : decode cX0_back 76 = .ok (.iload_n 1, 1) := dk_27 (dk_at dksX0_back_3 4 rfl rfl)
theorem dX0_back_77 : decode cX0_back 77 = .ok (.aaload, 1) := dk_50 (dk_at dksX0_back_3 5 rfl rfl)
theorem dX0_back_78 : decode cX0_back 78 = .ok (.getfield 210, 3) := dk_180 0 210 (dk_at dksX0_back_3 6 rfl rfl)
theorem dX0_back_81 : decode cX0_back 81 = .ok (.iconst 4, 1) := dk_7 (dk_at dksX0_back_3 9 rfl rfl)
theorem dX0_back_82 : decode cX0_back 82 = .ok (.aaload, 1) := dk_50 (dk_at dksX0_back_3 10 rfl rfl)
theorem dX0_back_83 : decode cX0_back 83 = .ok (.aload_n 0, 1) := dk_42 (dk_at dksX0_back_3 11 rfl rfl)
theorem dX0_back_84 : decode cX0_back 84 = .ok (.getfield 498, 3) := dk_180 1 242 (dk_at dksX0_back_3 12 rfl rfl)
theorem dX0_back_87 : decode cX0_back 87 = .ok (.iload_n 1, 1) := dk_27 (dk_at dksX0_back_3 15 rfl rfl)
theorem dX0_back_88 : decode cX0_back 88 = .ok (.ishr, 1) := dk_122 (dk_at dksX0_back_3 16 rfl rfl)
theorem dX0_back_89 : decode cX0_back 89 = .ok (.iconst 1, 1) := dk_4 (dk_at dksX0_back_3 17 rfl rfl)
theorem dX0_back_90 : decode cX0_back 90 = .ok (.iand, 1) := dk_126 (dk_at dksX0_back_3 18 rfl rfl)
theorem dX0_back_91 : decode cX0_back 91 = .ok (.putfield 3, 3) := dk_181 0 3 (dk_at dksX0_back_3 19 rfl rfl)
theorem dX0_back_94 : decode cX0_back 94 = .ok (.aload_n 0, 1) := dk_42 (dk_at dksX0_back_3 22 rfl rfl)
theorem dX0_back_95 : decode cX0_back 95 = .ok (.getfield 56, 3) := dk_180 0 56 (dk_at dksX0_back_4 0 rfl rfl)
theorem dX0_back_98 : decode cX0_back 98 = .ok (.iload_n 1, 1) := dk_27 (dk_at dksX0_back_4 3 rfl rfl)
theorem dX0_back_99 : decode cX0_back 99 = .ok (.aaload, 1) := dk_50 (dk_at dksX0_back_4 4 rfl rfl)
theorem dX0_back_100 : decode cX0_back 100 = .ok (.getfield 210, 3) := dk_180 0 210 (dk_at dksX0_back_4 5 rfl rfl)
theorem dX0_back_103 : decode cX0_back 103 = .ok (.iconst 5, 1) := dk_8 (dk_at dksX0_back_4 8 rfl rfl)
theorem dX0_back_104 : decode cX0_back 104 = .ok (.aaload, 1) := dk_50 (dk_at dksX0_back_4 9 rfl rfl)
theorem dX0_back_105 : decode cX0_back 105 = .ok (.aload_n 0, 1) := dk_42 (dk_at dksX0_back_4 10 rfl rfl)
theorem dX0_back_106 : decode cX0_back 106 = .ok (.getfield 501, 3) := dk_180 1 245 (dk_at dksX0_back_4 11 rfl rfl)
theorem dX0_back_109 : decode cX0_back 109 = .ok (.iload_n 1, 1) := dk_27 (dk_at dksX0_back_4 14 rfl rfl)
theorem dX0_back_110 : decode cX0_back 110 = .ok (.ishr, 1) := dk_122 (dk_at dksX0_back_4 15 rfl rfl)
theorem dX0_back_111 : decode cX0_back 111 = .ok (.iconst 1, 1) := dk_4 (dk_at dksX0_back_4 16 rfl rfl)
theorem dX0_back_112 : decode cX0_back 112 = .ok (.iand, 1) := dk_126 (dk_at dksX0_back_4 17 rfl rfl)
theorem dX0_back_113 : decode cX0_back 113 = .ok (.putfield 3, 3) := dk_181 0 3 (dk_at dksX0_back_4 18 rfl rfl)
theorem dX0_back_116 : decode cX0_back 116 = .ok (.iinc 1 1, 3) := dk_132 1 1 (dk_at dksX0_back_4 21 rfl rfl)
theorem dX0_back_119 : decode cX0_back 119 = .ok (.goto (-55), 3) := dk_167 255 201 (dk_at dksX0_back_5 0 rfl rfl)
theorem dX0_back_122 : decode cX0_back 122 = .ok (.aload_n 0, 1) := dk_42 (dk_at dksX0_back_5 3 rfl rfl)
theorem dX0_back_123 : decode cX0_back 123 = .ok (.getfield 67, 3) := dk_180 0 67 (dk_at dksX0_back_5 4 rfl rfl)
theorem dX0_back_126 : decode cX0_back 126 = .ok (.aload_n 0, 1) := dk_42 (dk_at dksX0_back_5 7 rfl rfl)
theorem dX0_back_127 : decode cX0_back 127 = .ok (.getfield 495, 3) := dk_180 1 239 (dk_at dksX0_back_5 8 rfl rfl)
theorem dX0_back_130 : decode cX0_back 130 = .ok (.putfield 3, 3) := dk_181 0 3 (dk_at dksX0_back_5 11 rfl rfl)
theorem dX0_back_133 : decode cX0_back 133 = .ok (.aload_n 0, 1) := dk_42 (dk_at dksX0_back_5 14 rfl rfl)
theorem dX0_back_134 : decode cX0_back 134 = .ok (.getfield 101, 3) := dk_180 0 101 (dk_at dksX0_back_5 15 rfl rfl)
theorem dX0_back_137 : decode cX0_back 137 = .ok (.iconst 0, 1) := dk_3 (dk_at dksX0_back_5 18 rfl rfl)
theorem dX0_back_138 : decode cX0_back 138 = .ok (.aload_n 0, 1) := dk_42 (dk_at dksX0_back_5 19 rfl rfl)
theorem dX0_back_139 : decode cX0_back 139 = .ok (.getfield 92, 3) := dk_180 0 92 (dk_at dksX0_back_5 20 rfl rfl)
theorem dX0_back_142 : decode cX0_back 142 = .ok (.iconst 0, 1) := dk_3 (dk_at dksX0_back_5 23 rfl rfl)
theorem dX0_back_143 : decode cX0_back 143 = .ok (.bipush 6, 2) := dk_16 6 (dk_at dksX0_back_6 0 rfl rfl)
theorem dX0_back_145 : decode cX0_back 145 = .ok (.invokestatic 442, 3) := dk_184 1 186 (dk_at dksX0_back_6 2 rfl rfl)
theorem dX0_back_148 : decode cX0_back 148 = .ok (.aload_n 0, 1) := dk_42 (dk_at dksX0_back_6 5 rfl rfl)
theorem dX0_back_149 : decode cX0_back 149 = .ok (.getfield 92, 3) := dk_180 0 92 (dk_at dksX0_back_6 6 rfl rfl)
theorem dX0_back_152 : decode cX0_back 152 = .ok (.iconst 5, 1) := dk_8 (dk_at dksX0_back_6 9 rfl rfl)
theorem dX0_back_153 : decode cX0_back 153 = .ok (.iaload, 1) := dk_46 (dk_at dksX0_back_6 10 rfl rfl)
theorem dX0_back_154 : decode cX0_back 154 = .ok (.ireturn, 1) := dk_172 (dk_at dksX0_back_6 11 rfl rfl)
abbrev cX0_body : ByteArray := prog_1_method_95_code
def yX0_body : MethodName := ⟨RX0, "body", "(I)I"⟩
def dkwX0_body_2 : List UInt8 := [96, 181, 1, 248, 172]
abbrev dktX0_body_2 : List UInt8 := dkwX0_body_2 ++ []
def dkwX0_body_1 : List UInt8 := [16, 253, 172, 42, 180, 0, 106, 42, 180, 1, 248, 42, 27, 182, 2, 17, 83, 42, 89, 180, 1, 248, 90, 4]
abbrev dktX0_body_1 : List UInt8 := dkwX0_body_1 ++ dktX0_body_2
def dkwX0_body_0 : List UInt8 := [27, 133, 9, 20, 0, 205, 184, 0, 121, 154, 0, 5, 2, 172, 42, 180, 1, 248, 16, 50, 160, 0, 6]
abbrev dktX0_body_0 : List UInt8 := dkwX0_body_0 ++ dktX0_body_1
theorem dksX0_body_0 : cX0_body.data.toList.drop 0 = dktX0_body_0 := by decide +kernel
theorem dksX0_body_1 : cX0_body.data.toList.drop 23 = dktX0_body_1 := dk_seg dksX0_body_0 23 rfl rfl
theorem dksX0_body_2 : cX0_body.data.toList.drop 47 = dktX0_body_2 := dk_seg dksX0_body_1 24 rfl rfl
theorem dX0_body_0 : decode cX0_body 0 = .ok (.iload_n 1, 1) := dk_27 (dk_at dksX0_body_0 0 rfl rfl)
theorem dX0_body_1 : decode cX0_body 1 = .ok (.i2l, 1) := dk_133 (dk_at dksX0_body_0 1 rfl rfl)
theorem dX0_body_2 : decode cX0_body 2 = .ok (.lconst 0, 1) := dk_9 (dk_at dksX0_body_0 2 rfl rfl)
theorem dX0_body_3 : decode cX0_body 3 = .ok (.ldc2_w 205, 3) := dk_20 0 205 (dk_at dksX0_body_0 3 rfl rfl)
theorem dX0_body_6 : decode cX0_body 6 = .ok (.invokestatic 121, 3) := dk_184 0 121 (dk_at dksX0_body_0 6 rfl rfl)
theorem dX0_body_9 : decode cX0_body 9 = .ok (.ifCond .ne 5, 3) := dk_154 0 5 (dk_at dksX0_body_0 9 rfl rfl)
theorem dX0_body_12 : decode cX0_body 12 = .ok (.iconst (-1), 1) := dk_2 (dk_at dksX0_body_0 12 rfl rfl)
theorem dX0_body_13 : decode cX0_body 13 = .ok (.ireturn, 1) := dk_172 (dk_at dksX0_body_0 13 rfl rfl)
theorem dX0_body_14 : decode cX0_body 14 = .ok (.aload_n 0, 1) := dk_42 (dk_at dksX0_body_0 14 rfl rfl)
theorem dX0_body_15 : decode cX0_body 15 = .ok (.getfield 504, 3) := dk_180 1 248 (dk_at dksX0_body_0 15 rfl rfl)
theorem dX0_body_18 : decode cX0_body 18 = .ok (.bipush 50, 2) := dk_16 50 (dk_at dksX0_body_0 18 rfl rfl)
theorem dX0_body_20 : decode cX0_body 20 = .ok (.if_icmp .ne 6, 3) := dk_160 0 6 (dk_at dksX0_body_0 20 rfl rfl)
theorem dX0_body_23 : decode cX0_body 23 = .ok (.bipush (-3), 2) := dk_16 253 (dk_at dksX0_body_1 0 rfl rfl)
theorem dX0_body_25 : decode cX0_body 25 = .ok (.ireturn, 1) := dk_172 (dk_at dksX0_body_1 2 rfl rfl)
theorem dX0_body_26 : decode cX0_body 26 = .ok (.aload_n 0, 1) := dk_42 (dk_at dksX0_body_1 3 rfl rfl)
theorem dX0_body_27 : decode cX0_body 27 = .ok (.getfield 106, 3) := dk_180 0 106 (dk_at dksX0_body_1 4 rfl rfl)
theorem dX0_body_30 : decode cX0_body 30 = .ok (.aload_n 0, 1) := dk_42 (dk_at dksX0_body_1 7 rfl rfl)
theorem dX0_body_31 : decode cX0_body 31 = .ok (.getfield 504, 3) := dk_180 1 248 (dk_at dksX0_body_1 8 rfl rfl)
theorem dX0_body_34 : decode cX0_body 34 = .ok (.aload_n 0, 1) := dk_42 (dk_at dksX0_body_1 11 rfl rfl)
theorem dX0_body_35 : decode cX0_body 35 = .ok (.iload_n 1, 1) := dk_27 (dk_at dksX0_body_1 12 rfl rfl)
theorem dX0_body_36 : decode cX0_body 36 = .ok (.invokevirtual 529, 3) := dk_182 2 17 (dk_at dksX0_body_1 13 rfl rfl)
theorem dX0_body_39 : decode cX0_body 39 = .ok (.aastore, 1) := dk_83 (dk_at dksX0_body_1 16 rfl rfl)
theorem dX0_body_40 : decode cX0_body 40 = .ok (.aload_n 0, 1) := dk_42 (dk_at dksX0_body_1 17 rfl rfl)
theorem dX0_body_41 : decode cX0_body 41 = .ok (.dup, 1) := dk_89 (dk_at dksX0_body_1 18 rfl rfl)
theorem dX0_body_42 : decode cX0_body 42 = .ok (.getfield 504, 3) := dk_180 1 248 (dk_at dksX0_body_1 19 rfl rfl)
theorem dX0_body_45 : decode cX0_body 45 = .ok (.dup_x1, 1) := dk_90 (dk_at dksX0_body_1 22 rfl rfl)
theorem dX0_body_46 : decode cX0_body 46 = .ok (.iconst 1, 1) := dk_4 (dk_at dksX0_body_1 23 rfl rfl)
theorem dX0_body_47 : decode cX0_body 47 = .ok (.iadd, 1) := dk_96 (dk_at dksX0_body_2 0 rfl rfl)
theorem dX0_body_48 : decode cX0_body 48 = .ok (.putfield 504, 3) := dk_181 1 248 (dk_at dksX0_body_2 1 rfl rfl)
theorem dX0_body_51 : decode cX0_body 51 = .ok (.ireturn, 1) := dk_172 (dk_at dksX0_body_2 4 rfl rfl)
abbrev cX0_made : ByteArray := prog_1_method_94_code
def yX0_made : MethodName := ⟨RX0, "made", "(I)LNailedByWord$Body;"⟩
def dkwX0_made_6 : List UInt8 := [187, 0, 104, 89, 42, 42, 180, 1, 248, 183, 2, 16, 176]
abbrev dktX0_made_6 : List UInt8 := dkwX0_made_6 ++ []
def dkwX0_made_5 : List UInt8 := [42, 42, 180, 1, 248, 183, 2, 12, 176, 187, 2, 13, 89, 42, 42, 180, 1, 248, 183, 2, 15, 176]
abbrev dktX0_made_5 : List UInt8 := dkwX0_made_5 ++ dktX0_made_6
def dkwX0_made_4 : List UInt8 := [180, 1, 248, 183, 2, 6, 176, 187, 2, 7, 89, 42, 42, 180, 1, 248, 183, 2, 9, 176, 187, 2, 10, 89]
abbrev dktX0_made_4 : List UInt8 := dkwX0_made_4 ++ dktX0_made_5
def dkwX0_made_3 : List UInt8 := [183, 2, 0, 176, 187, 2, 1, 89, 42, 42, 180, 1, 248, 183, 2, 3, 176, 187, 2, 4, 89, 42, 42]
abbrev dktX0_made_3 : List UInt8 := dkwX0_made_3 ++ dktX0_made_4
def dkwX0_made_2 : List UInt8 := [187, 1, 251, 89, 42, 42, 180, 1, 248, 183, 1, 253, 176, 187, 1, 254, 89, 42, 42, 180, 1, 248]
abbrev dktX0_made_2 : List UInt8 := dkwX0_made_2 ++ dktX0_made_3
def dkwX0_made_1 : List UInt8 := [170, 0, 0, 0, 0, 0, 134, 0, 0, 0, 1, 0, 0, 0, 7, 0, 0, 0, 43, 0, 0, 0, 56, 0, 0, 0, 69, 0, 0, 0, 82, 0, 0, 0, 95, 0, 0, 0, 108, 0, 0, 0, 121]
abbrev dktX0_made_1 : List UInt8 := dkwX0_made_1 ++ dktX0_made_2
def dkwX0_made_0 : List UInt8 := [27]
abbrev dktX0_made_0 : List UInt8 := dkwX0_made_0 ++ dktX0_made_1
theorem dksX0_made_0 : cX0_made.data.toList.drop 0 = dktX0_made_0 := by decide +kernel
theorem dksX0_made_1 : cX0_made.data.toList.drop 1 = dktX0_made_1 := dk_seg dksX0_made_0 1 rfl rfl
theorem dksX0_made_2 : cX0_made.data.toList.drop 44 = dktX0_made_2 := dk_seg dksX0_made_1 43 rfl rfl
theorem dksX0_made_3 : cX0_made.data.toList.drop 66 = dktX0_made_3 := dk_seg dksX0_made_2 22 rfl rfl
theorem dksX0_made_4 : cX0_made.data.toList.drop 89 = dktX0_made_4 := dk_seg dksX0_made_3 23 rfl rfl
theorem dksX0_made_5 : cX0_made.data.toList.drop 113 = dktX0_made_5 := dk_seg dksX0_made_4 24 rfl rfl
theorem dksX0_made_6 : cX0_made.data.toList.drop 135 = dktX0_made_6 := dk_seg dksX0_made_5 22 rfl rfl
theorem dX0_made_0 : decode cX0_made 0 = .ok (.iload_n 1, 1) := dk_27 (dk_at dksX0_made_0 0 rfl rfl)
theorem dX0_made_1 : decode cX0_made 1 = .ok (.tableswitch 134 1 7 #[43, 56, 69, 82, 95, 108, 121], 43) := by decide +kernel
theorem dX0_made_44 : decode cX0_made 44 = .ok (.new 507, 3) := dk_187 1 251 (dk_at dksX0_made_2 0 rfl rfl)
theorem dX0_made_47 : decode cX0_made 47 = .ok (.dup, 1) := dk_89 (dk_at dksX0_made_2 3 rfl rfl)
theorem dX0_made_48 : decode cX0_made 48 = .ok (.aload_n 0, 1) := dk_42 (dk_at dksX0_made_2 4 rfl rfl)
theorem dX0_made_49 : decode cX0_made 49 = .ok (.aload_n 0, 1) := dk_42 (dk_at dksX0_made_2 5 rfl rfl)
theorem dX0_made_50 : decode cX0_made 50 = .ok (.getfield 504, 3) := dk_180 1 248 (dk_at dksX0_made_2 6 rfl rfl)
theorem dX0_made_53 : decode cX0_made 53 = .ok (.invokespecial 509, 3) := dk_183 1 253 (dk_at dksX0_made_2 9 rfl rfl)
theorem dX0_made_56 : decode cX0_made 56 = .ok (.areturn, 1) := dk_176 (dk_at dksX0_made_2 12 rfl rfl)
theorem dX0_made_57 : decode cX0_made 57 = .ok (.new 510, 3) := dk_187 1 254 (dk_at dksX0_made_2 13 rfl rfl)
theorem dX0_made_60 : decode cX0_made 60 = .ok (.dup, 1) := dk_89 (dk_at dksX0_made_2 16 rfl rfl)
theorem dX0_made_61 : decode cX0_made 61 = .ok (.aload_n 0, 1) := dk_42 (dk_at dksX0_made_2 17 rfl rfl)
theorem dX0_made_62 : decode cX0_made 62 = .ok (.aload_n 0, 1) := dk_42 (dk_at dksX0_made_2 18 rfl rfl)
theorem dX0_made_63 : decode cX0_made 63 = .ok (.getfield 504, 3) := dk_180 1 248 (dk_at dksX0_made_2 19 rfl rfl)
theorem dX0_made_66 : decode cX0_made 66 = .ok (.invokespecial 512, 3) := dk_183 2 0 (dk_at dksX0_made_3 0 rfl rfl)
theorem dX0_made_69 : decode cX0_made 69 = .ok (.areturn, 1) := dk_176 (dk_at dksX0_made_3 3 rfl rfl)
theorem dX0_made_70 : decode cX0_made 70 = .ok (.new 513, 3) := dk_187 2 1 (dk_at dksX0_made_3 4 rfl rfl)
theorem dX0_made_73 : decode cX0_made 73 = .ok (.dup, 1) := dk_89 (dk_at dksX0_made_3 7 rfl rfl)
theorem dX0_made_74 : decode cX0_made 74 = .ok (.aload_n 0, 1) := dk_42 (dk_at dksX0_made_3 8 rfl rfl)
theorem dX0_made_75 : decode cX0_made 75 = .ok (.aload_n 0, 1) := dk_42 (dk_at dksX0_made_3 9 rfl rfl)
theorem dX0_made_76 : decode cX0_made 76 = .ok (.getfield 504, 3) := dk_180 1 248 (dk_at dksX0_made_3 10 rfl rfl)
theorem dX0_made_79 : decode cX0_made 79 = .ok (.invokespecial 515, 3) := dk_183 2 3 (dk_at dksX0_made_3 13 rfl rfl)
theorem dX0_made_82 : decode cX0_made 82 = .ok (.areturn, 1) := dk_176 (dk_at dksX0_made_3 16 rfl rfl)
theorem dX0_made_83 : decode cX0_made 83 = .ok (.new 516, 3) := dk_187 2 4 (dk_at dksX0_made_3 17 rfl rfl)
theorem dX0_made_86 : decode cX0_made 86 = .ok (.dup, 1) := dk_89 (dk_at dksX0_made_3 20 rfl rfl)
theorem dX0_made_87 : decode cX0_made 87 = .ok (.aload_n 0, 1) := dk_42 (dk_at dksX0_made_3 21 rfl rfl)
theorem dX0_made_88 : decode cX0_made 88 = .ok (.aload_n 0, 1) := dk_42 (dk_at dksX0_made_3 22 rfl rfl)
theorem dX0_made_89 : decode cX0_made 89 = .ok (.getfield 504, 3) := dk_180 1 248 (dk_at dksX0_made_4 0 rfl rfl)
theorem dX0_made_92 : decode cX0_made 92 = .ok (.invokespecial 518, 3) := dk_183 2 6 (dk_at dksX0_made_4 3 rfl rfl)
theorem dX0_made_95 : decode cX0_made 95 = .ok (.areturn, 1) := dk_176 (dk_at dksX0_made_4 6 rfl rfl)
theorem dX0_made_96 : decode cX0_made 96 = .ok (.new 519, 3) := dk_187 2 7 (dk_at dksX0_made_4 7 rfl rfl)
theorem dX0_made_99 : decode cX0_made 99 = .ok (.dup, 1) := dk_89 (dk_at dksX0_made_4 10 rfl rfl)
theorem dX0_made_100 : decode cX0_made 100 = .ok (.aload_n 0, 1) := dk_42 (dk_at dksX0_made_4 11 rfl rfl)
theorem dX0_made_101 : decode cX0_made 101 = .ok (.aload_n 0, 1) := dk_42 (dk_at dksX0_made_4 12 rfl rfl)
theorem dX0_made_102 : decode cX0_made 102 = .ok (.getfield 504, 3) := dk_180 1 248 (dk_at dksX0_made_4 13 rfl rfl)
theorem dX0_made_105 : decode cX0_made 105 = .ok (.invokespecial 521, 3) := dk_183 2 9 (dk_at dksX0_made_4 16 rfl rfl)
theorem dX0_made_108 : decode cX0_made 108 = .ok (.areturn, 1) := dk_176 (dk_at dksX0_made_4 19 rfl rfl)
theorem dX0_made_109 : decode cX0_made 109 = .ok (.new 522, 3) := dk_187 2 10 (dk_at dksX0_made_4 20 rfl rfl)
theorem dX0_made_112 : decode cX0_made 112 = .ok (.dup, 1) := dk_89 (dk_at dksX0_made_4 23 rfl rfl)
theorem dX0_made_113 : decode cX0_made 113 = .ok (.aload_n 0, 1) := dk_42 (dk_at dksX0_made_5 0 rfl rfl)
theorem dX0_made_114 : decode cX0_made 114 = .ok (.aload_n 0, 1) := dk_42 (dk_at dksX0_made_5 1 rfl rfl)
theorem dX0_made_115 : decode cX0_made 115 = .ok (.getfield 504, 3) := dk_180 1 248 (dk_at dksX0_made_5 2 rfl rfl)
theorem dX0_made_118 : decode cX0_made 118 = .ok (.invokespecial 524, 3) := dk_183 2 12 (dk_at dksX0_made_5 5 rfl rfl)
theorem dX0_made_121 : decode cX0_made 121 = .ok (.areturn, 1) := dk_176 (dk_at dksX0_made_5 8 rfl rfl)
theorem dX0_made_122 : decode cX0_made 122 = .ok (.new 525, 3) := dk_187 2 13 (dk_at dksX0_made_5 9 rfl rfl)
theorem dX0_made_125 : decode cX0_made 125 = .ok (.dup, 1) := dk_89 (dk_at dksX0_made_5 12 rfl rfl)
theorem dX0_made_126 : decode cX0_made 126 = .ok (.aload_n 0, 1) := dk_42 (dk_at dksX0_made_5 13 rfl rfl)
theorem dX0_made_127 : decode cX0_made 127 = .ok (.aload_n 0, 1) := dk_42 (dk_at dksX0_made_5 14 rfl rfl)
theorem dX0_made_128 : decode cX0_made 128 = .ok (.getfield 504, 3) := dk_180 1 248 (dk_at dksX0_made_5 15 rfl rfl)
theorem dX0_made_131 : decode cX0_made 131 = .ok (.invokespecial 527, 3) := dk_183 2 15 (dk_at dksX0_made_5 18 rfl rfl)
theorem dX0_made_134 : decode cX0_made 134 = .ok (.areturn, 1) := dk_176 (dk_at dksX0_made_5 21 rfl rfl)
theorem dX0_made_135 : decode cX0_made 135 = .ok (.new 104, 3) := dk_187 0 104 (dk_at dksX0_made_6 0 rfl rfl)
theorem dX0_made_138 : decode cX0_made 138 = .ok (.dup, 1) := dk_89 (dk_at dksX0_made_6 3 rfl rfl)
theorem dX0_made_139 : decode cX0_made 139 = .ok (.aload_n 0, 1) := dk_42 (dk_at dksX0_made_6 4 rfl rfl)
theorem dX0_made_140 : decode cX0_made 140 = .ok (.aload_n 0, 1) := dk_42 (dk_at dksX0_made_6 5 rfl rfl)
theorem dX0_made_141 : decode cX0_made 141 = .ok (.getfield 504, 3) := dk_180 1 248 (dk_at dksX0_made_6 6 rfl rfl)
theorem dX0_made_144 : decode cX0_made 144 = .ok (.invokespecial 528, 3) := dk_183 2 16 (dk_at dksX0_made_6 9 rfl rfl)
theorem dX0_made_147 : decode cX0_made 147 = .ok (.areturn, 1) := dk_176 (dk_at dksX0_made_6 12 rfl rfl)
abbrev cX0_act : ByteArray := prog_1_method_96_code
def yX0_act : MethodName := ⟨RX0, "act", "(III)I"⟩
def dkwX0_act_4 : List UInt8 := [182, 2, 35, 172]
abbrev dktX0_act_4 : List UInt8 := dkwX0_act_4 ++ []
def dkwX0_act_3 : List UInt8 := [25, 4, 29, 182, 2, 27, 172, 25, 4, 29, 182, 2, 29, 172, 25, 4, 29, 182, 2, 32, 172, 25, 4, 29]
abbrev dktX0_act_3 : List UInt8 := dkwX0_act_3 ++ dktX0_act_4
def dkwX0_act_2 : List UInt8 := [170, 0, 0, 0, 0, 0, 0, 49, 0, 0, 0, 0, 0, 0, 0, 2, 0, 0, 0, 28, 0, 0, 0, 35, 0, 0, 0, 42]
abbrev dktX0_act_2 : List UInt8 := dkwX0_act_2 ++ dktX0_act_3
def dkwX0_act_1 : List UInt8 := [154, 0, 5, 3, 172, 42, 180, 0, 106, 27, 50, 58, 4, 28]
abbrev dktX0_act_1 : List UInt8 := dkwX0_act_1 ++ dktX0_act_2
def dkwX0_act_0 : List UInt8 := [42, 3, 181, 2, 21, 42, 27, 182, 2, 24, 153, 0, 15, 28, 133, 9, 20, 0, 201, 184, 0, 121]
abbrev dktX0_act_0 : List UInt8 := dkwX0_act_0 ++ dktX0_act_1
theorem dksX0_act_0 : cX0_act.data.toList.drop 0 = dktX0_act_0 := by decide +kernel
theorem dksX0_act_1 : cX0_act.data.toList.drop 22 = dktX0_act_1 := dk_seg dksX0_act_0 22 rfl rfl
theorem dksX0_act_2 : cX0_act.data.toList.drop 36 = dktX0_act_2 := dk_seg dksX0_act_1 14 rfl rfl
theorem dksX0_act_3 : cX0_act.data.toList.drop 64 = dktX0_act_3 := dk_seg dksX0_act_2 28 rfl rfl
theorem dksX0_act_4 : cX0_act.data.toList.drop 88 = dktX0_act_4 := dk_seg dksX0_act_3 24 rfl rfl
theorem dX0_act_0 : decode cX0_act 0 = .ok (.aload_n 0, 1) := dk_42 (dk_at dksX0_act_0 0 rfl rfl)
theorem dX0_act_1 : decode cX0_act 1 = .ok (.iconst 0, 1) := dk_3 (dk_at dksX0_act_0 1 rfl rfl)
theorem dX0_act_2 : decode cX0_act 2 = .ok (.putfield 533, 3) := dk_181 2 21 (dk_at dksX0_act_0 2 rfl rfl)
theorem dX0_act_5 : decode cX0_act 5 = .ok (.aload_n 0, 1) := dk_42 (dk_at dksX0_act_0 5 rfl rfl)
theorem dX0_act_6 : decode cX0_act 6 = .ok (.iload_n 1, 1) := dk_27 (dk_at dksX0_act_0 6 rfl rfl)
theorem dX0_act_7 : decode cX0_act 7 = .ok (.invokevirtual 536, 3) := dk_182 2 24 (dk_at dksX0_act_0 7 rfl rfl)
theorem dX0_act_10 : decode cX0_act 10 = .ok (.ifCond .eq 15, 3) := dk_153 0 15 (dk_at dksX0_act_0 10 rfl rfl)
theorem dX0_act_13 : decode cX0_act 13 = .ok (.iload_n 2, 1) := dk_28 (dk_at dksX0_act_0 13 rfl rfl)
theorem dX0_act_14 : decode cX0_act 14 = .ok (.i2l, 1) := dk_133 (dk_at dksX0_act_0 14 rfl rfl)
theorem dX0_act_15 : decode cX0_act 15 = .ok (.lconst 0, 1) := dk_9 (dk_at dksX0_act_0 15 rfl rfl)
theorem dX0_act_16 : decode cX0_act 16 = .ok (.ldc2_w 201, 3) := dk_20 0 201 (dk_at dksX0_act_0 16 rfl rfl)
theorem dX0_act_19 : decode cX0_act 19 = .ok (.invokestatic 121, 3) := dk_184 0 121 (dk_at dksX0_act_0 19 rfl rfl)
theorem dX0_act_22 : decode cX0_act 22 = .ok (.ifCond .ne 5, 3) := dk_154 0 5 (dk_at dksX0_act_1 0 rfl rfl)
theorem dX0_act_25 : decode cX0_act 25 = .ok (.iconst 0, 1) := dk_3 (dk_at dksX0_act_1 3 rfl rfl)
theorem dX0_act_26 : decode cX0_act 26 = .ok (.ireturn, 1) := dk_172 (dk_at dksX0_act_1 4 rfl rfl)
theorem dX0_act_27 : decode cX0_act 27 = .ok (.aload_n 0, 1) := dk_42 (dk_at dksX0_act_1 5 rfl rfl)
theorem dX0_act_28 : decode cX0_act 28 = .ok (.getfield 106, 3) := dk_180 0 106 (dk_at dksX0_act_1 6 rfl rfl)
theorem dX0_act_31 : decode cX0_act 31 = .ok (.iload_n 1, 1) := dk_27 (dk_at dksX0_act_1 9 rfl rfl)
theorem dX0_act_32 : decode cX0_act 32 = .ok (.aaload, 1) := dk_50 (dk_at dksX0_act_1 10 rfl rfl)
theorem dX0_act_33 : decode cX0_act 33 = .ok (.astore 4, 2) := dk_58 4 (dk_at dksX0_act_1 11 rfl rfl)
theorem dX0_act_35 : decode cX0_act 35 = .ok (.iload_n 2, 1) := dk_28 (dk_at dksX0_act_1 13 rfl rfl)
theorem dX0_act_36 : decode cX0_act 36 = .ok (.tableswitch 49 0 2 #[28, 35, 42], 28) := by decide +kernel
theorem dX0_act_64 : decode cX0_act 64 = .ok (.aload 4, 2) := dk_25 4 (dk_at dksX0_act_3 0 rfl rfl)
theorem dX0_act_66 : decode cX0_act 66 = .ok (.iload_n 3, 1) := dk_29 (dk_at dksX0_act_3 2 rfl rfl)
theorem dX0_act_67 : decode cX0_act 67 = .ok (.invokevirtual 539, 3) := dk_182 2 27 (dk_at dksX0_act_3 3 rfl rfl)
theorem dX0_act_70 : decode cX0_act 70 = .ok (.ireturn, 1) := dk_172 (dk_at dksX0_act_3 6 rfl rfl)
theorem dX0_act_71 : decode cX0_act 71 = .ok (.aload 4, 2) := dk_25 4 (dk_at dksX0_act_3 7 rfl rfl)
theorem dX0_act_73 : decode cX0_act 73 = .ok (.iload_n 3, 1) := dk_29 (dk_at dksX0_act_3 9 rfl rfl)
theorem dX0_act_74 : decode cX0_act 74 = .ok (.invokevirtual 541, 3) := dk_182 2 29 (dk_at dksX0_act_3 10 rfl rfl)
theorem dX0_act_77 : decode cX0_act 77 = .ok (.ireturn, 1) := dk_172 (dk_at dksX0_act_3 13 rfl rfl)
theorem dX0_act_78 : decode cX0_act 78 = .ok (.aload 4, 2) := dk_25 4 (dk_at dksX0_act_3 14 rfl rfl)
theorem dX0_act_80 : decode cX0_act 80 = .ok (.iload_n 3, 1) := dk_29 (dk_at dksX0_act_3 16 rfl rfl)
theorem dX0_act_81 : decode cX0_act 81 = .ok (.invokevirtual 544, 3) := dk_182 2 32 (dk_at dksX0_act_3 17 rfl rfl)
theorem dX0_act_84 : decode cX0_act 84 = .ok (.ireturn, 1) := dk_172 (dk_at dksX0_act_3 20 rfl rfl)
theorem dX0_act_85 : decode cX0_act 85 = .ok (.aload 4, 2) := dk_25 4 (dk_at dksX0_act_3 21 rfl rfl)
theorem dX0_act_87 : decode cX0_act 87 = .ok (.iload_n 3, 1) := dk_29 (dk_at dksX0_act_3 23 rfl rfl)
theorem dX0_act_88 : decode cX0_act 88 = .ok (.invokevirtual 547, 3) := dk_182 2 35 (dk_at dksX0_act_4 0 rfl rfl)
theorem dX0_act_91 : decode cX0_act 91 = .ok (.ireturn, 1) := dk_172 (dk_at dksX0_act_4 3 rfl rfl)
abbrev cX0_isBody : ByteArray := prog_1_method_93_code
def yX0_isBody : MethodName := ⟨RX0, "isBody", "(I)Z"⟩
def dkwX0_isBody_0 : List UInt8 := [27, 133, 9, 42, 180, 1, 248, 4, 100, 133, 184, 0, 121, 172]
abbrev dktX0_isBody_0 : List UInt8 := dkwX0_isBody_0 ++ []
theorem dksX0_isBody_0 : cX0_isBody.data.toList.drop 0 = dktX0_isBody_0 := by decide +kernel
theorem dX0_isBody_0 : decode cX0_isBody 0 = .ok (.iload_n 1, 1) := dk_27 (dk_at dksX0_isBody_0 0 rfl rfl)
theorem dX0_isBody_1 : decode cX0_isBody 1 = .ok (.i2l, 1) := dk_133 (dk_at dksX0_isBody_0 1 rfl rfl)
theorem dX0_isBody_2 : decode cX0_isBody 2 = .ok (.lconst 0, 1) := dk_9 (dk_at dksX0_isBody_0 2 rfl rfl)
theorem dX0_isBody_3 : decode cX0_isBody 3 = .ok (.aload_n 0, 1) := dk_42 (dk_at dksX0_isBody_0 3 rfl rfl)
theorem dX0_isBody_4 : decode cX0_isBody 4 = .ok (.getfield 504, 3) := dk_180 1 248 (dk_at dksX0_isBody_0 4 rfl rfl)
theorem dX0_isBody_7 : decode cX0_isBody 7 = .ok (.iconst 1, 1) := dk_4 (dk_at dksX0_isBody_0 7 rfl rfl)
theorem dX0_isBody_8 : decode cX0_isBody 8 = .ok (.isub, 1) := dk_100 (dk_at dksX0_isBody_0 8 rfl rfl)
theorem dX0_isBody_9 : decode cX0_isBody 9 = .ok (.i2l, 1) := dk_133 (dk_at dksX0_isBody_0 9 rfl rfl)
theorem dX0_isBody_10 : decode cX0_isBody 10 = .ok (.invokestatic 121, 3) := dk_184 0 121 (dk_at dksX0_isBody_0 10 rfl rfl)
theorem dX0_isBody_13 : decode cX0_isBody 13 = .ok (.ireturn, 1) := dk_172 (dk_at dksX0_isBody_0 13 rfl rfl)
abbrev cX0_trace : ByteArray := prog_1_method_97_code
def yX0_trace : MethodName := ⟨RX0, "trace", "(I)I"⟩
def dkwX0_trace_1 : List UInt8 := [180, 0, 110, 27, 46, 167, 0, 4, 2, 172]
abbrev dktX0_trace_1 : List UInt8 := dkwX0_trace_1 ++ []
def dkwX0_trace_0 : List UInt8 := [27, 133, 9, 42, 180, 2, 21, 16, 24, 184, 1, 90, 4, 100, 133, 184, 0, 121, 153, 0, 12, 42]
abbrev dktX0_trace_0 : List UInt8 := dkwX0_trace_0 ++ dktX0_trace_1
theorem dksX0_trace_0 : cX0_trace.data.toList.drop 0 = dktX0_trace_0 := by decide +kernel
theorem dksX0_trace_1 : cX0_trace.data.toList.drop 22 = dktX0_trace_1 := dk_seg dksX0_trace_0 22 rfl rfl
theorem dX0_trace_0 : decode cX0_trace 0 = .ok (.iload_n 1, 1) := dk_27 (dk_at dksX0_trace_0 0 rfl rfl)
theorem dX0_trace_1 : decode cX0_trace 1 = .ok (.i2l, 1) := dk_133 (dk_at dksX0_trace_0 1 rfl rfl)
theorem dX0_trace_2 : decode cX0_trace 2 = .ok (.lconst 0, 1) := dk_9 (dk_at dksX0_trace_0 2 rfl rfl)
theorem dX0_trace_3 : decode cX0_trace 3 = .ok (.aload_n 0, 1) := dk_42 (dk_at dksX0_trace_0 3 rfl rfl)
theorem dX0_trace_4 : decode cX0_trace 4 = .ok (.getfield 533, 3) := dk_180 2 21 (dk_at dksX0_trace_0 4 rfl rfl)
theorem dX0_trace_7 : decode cX0_trace 7 = .ok (.bipush 24, 2) := dk_16 24 (dk_at dksX0_trace_0 7 rfl rfl)
theorem dX0_trace_9 : decode cX0_trace 9 = .ok (.invokestatic 346, 3) := dk_184 1 90 (dk_at dksX0_trace_0 9 rfl rfl)
theorem dX0_trace_12 : decode cX0_trace 12 = .ok (.iconst 1, 1) := dk_4 (dk_at dksX0_trace_0 12 rfl rfl)
theorem dX0_trace_13 : decode cX0_trace 13 = .ok (.isub, 1) := dk_100 (dk_at dksX0_trace_0 13 rfl rfl)
theorem dX0_trace_14 : decode cX0_trace 14 = .ok (.i2l, 1) := dk_133 (dk_at dksX0_trace_0 14 rfl rfl)
theorem dX0_trace_15 : decode cX0_trace 15 = .ok (.invokestatic 121, 3) := dk_184 0 121 (dk_at dksX0_trace_0 15 rfl rfl)
theorem dX0_trace_18 : decode cX0_trace 18 = .ok (.ifCond .eq 12, 3) := dk_153 0 12 (dk_at dksX0_trace_0 18 rfl rfl)
theorem dX0_trace_21 : decode cX0_trace 21 = .ok (.aload_n 0, 1) := dk_42 (dk_at dksX0_trace_0 21 rfl rfl)
theorem dX0_trace_22 : decode cX0_trace 22 = .ok (.getfield 110, 3) := dk_180 0 110 (dk_at dksX0_trace_1 0 rfl rfl)
theorem dX0_trace_25 : decode cX0_trace 25 = .ok (.iload_n 1, 1) := dk_27 (dk_at dksX0_trace_1 3 rfl rfl)
theorem dX0_trace_26 : decode cX0_trace 26 = .ok (.iaload, 1) := dk_46 (dk_at dksX0_trace_1 4 rfl rfl)
theorem dX0_trace_27 : decode cX0_trace 27 = .ok (.goto 4, 3) := dk_167 0 4 (dk_at dksX0_trace_1 5 rfl rfl)
theorem dX0_trace_30 : decode cX0_trace 30 = .ok (.iconst (-1), 1) := dk_2 (dk_at dksX0_trace_1 8 rfl rfl)
theorem dX0_trace_31 : decode cX0_trace 31 = .ok (.ireturn, 1) := dk_172 (dk_at dksX0_trace_1 9 rfl rfl)
abbrev cX0_keep : ByteArray := prog_1_method_99_code
def yX0_keep : MethodName := ⟨RX0, "keep", "(II)I"⟩
def dkwX0_keep_1 : List UInt8 := [180, 0, 113, 27, 28, 2, 160, 0, 7, 1, 167, 0, 9, 42, 180, 0, 106, 28, 50, 83, 4, 172]
abbrev dktX0_keep_1 : List UInt8 := dkwX0_keep_1 ++ []
def dkwX0_keep_0 : List UInt8 := [27, 184, 0, 184, 153, 0, 16, 28, 2, 159, 0, 13, 42, 28, 182, 2, 24, 154, 0, 5, 2, 172, 42]
abbrev dktX0_keep_0 : List UInt8 := dkwX0_keep_0 ++ dktX0_keep_1
theorem dksX0_keep_0 : cX0_keep.data.toList.drop 0 = dktX0_keep_0 := by decide +kernel
theorem dksX0_keep_1 : cX0_keep.data.toList.drop 23 = dktX0_keep_1 := dk_seg dksX0_keep_0 23 rfl rfl
theorem dX0_keep_0 : decode cX0_keep 0 = .ok (.iload_n 1, 1) := dk_27 (dk_at dksX0_keep_0 0 rfl rfl)
theorem dX0_keep_1 : decode cX0_keep 1 = .ok (.invokestatic 184, 3) := dk_184 0 184 (dk_at dksX0_keep_0 1 rfl rfl)
theorem dX0_keep_4 : decode cX0_keep 4 = .ok (.ifCond .eq 16, 3) := dk_153 0 16 (dk_at dksX0_keep_0 4 rfl rfl)
theorem dX0_keep_7 : decode cX0_keep 7 = .ok (.iload_n 2, 1) := dk_28 (dk_at dksX0_keep_0 7 rfl rfl)
theorem dX0_keep_8 : decode cX0_keep 8 = .ok (.iconst (-1), 1) := dk_2 (dk_at dksX0_keep_0 8 rfl rfl)
theorem dX0_keep_9 : decode cX0_keep 9 = .ok (.if_icmp .eq 13, 3) := dk_159 0 13 (dk_at dksX0_keep_0 9 rfl rfl)
theorem dX0_keep_12 : decode cX0_keep 12 = .ok (.aload_n 0, 1) := dk_42 (dk_at dksX0_keep_0 12 rfl rfl)
theorem dX0_keep_13 : decode cX0_keep 13 = .ok (.iload_n 2, 1) := dk_28 (dk_at dksX0_keep_0 13 rfl rfl)
theorem dX0_keep_14 : decode cX0_keep 14 = .ok (.invokevirtual 536, 3) := dk_182 2 24 (dk_at dksX0_keep_0 14 rfl rfl)
theorem dX0_keep_17 : decode cX0_keep 17 = .ok (.ifCond .ne 5, 3) := dk_154 0 5 (dk_at dksX0_keep_0 17 rfl rfl)
theorem dX0_keep_20 : decode cX0_keep 20 = .ok (.iconst (-1), 1) := dk_2 (dk_at dksX0_keep_0 20 rfl rfl)
theorem dX0_keep_21 : decode cX0_keep 21 = .ok (.ireturn, 1) := dk_172 (dk_at dksX0_keep_0 21 rfl rfl)
theorem dX0_keep_22 : decode cX0_keep 22 = .ok (.aload_n 0, 1) := dk_42 (dk_at dksX0_keep_0 22 rfl rfl)
theorem dX0_keep_23 : decode cX0_keep 23 = .ok (.getfield 113, 3) := dk_180 0 113 (dk_at dksX0_keep_1 0 rfl rfl)
theorem dX0_keep_26 : decode cX0_keep 26 = .ok (.iload_n 1, 1) := dk_27 (dk_at dksX0_keep_1 3 rfl rfl)
theorem dX0_keep_27 : decode cX0_keep 27 = .ok (.iload_n 2, 1) := dk_28 (dk_at dksX0_keep_1 4 rfl rfl)
theorem dX0_keep_28 : decode cX0_keep 28 = .ok (.iconst (-1), 1) := dk_2 (dk_at dksX0_keep_1 5 rfl rfl)
theorem dX0_keep_29 : decode cX0_keep 29 = .ok (.if_icmp .ne 7, 3) := dk_160 0 7 (dk_at dksX0_keep_1 6 rfl rfl)
theorem dX0_keep_32 : decode cX0_keep 32 = .ok (.aconst_null, 1) := dk_1 (dk_at dksX0_keep_1 9 rfl rfl)
theorem dX0_keep_33 : decode cX0_keep 33 = .ok (.goto 9, 3) := dk_167 0 9 (dk_at dksX0_keep_1 10 rfl rfl)
theorem dX0_keep_36 : decode cX0_keep 36 = .ok (.aload_n 0, 1) := dk_42 (dk_at dksX0_keep_1 13 rfl rfl)
theorem dX0_keep_37 : decode cX0_keep 37 = .ok (.getfield 106, 3) := dk_180 0 106 (dk_at dksX0_keep_1 14 rfl rfl)
theorem dX0_keep_40 : decode cX0_keep 40 = .ok (.iload_n 2, 1) := dk_28 (dk_at dksX0_keep_1 17 rfl rfl)
theorem dX0_keep_41 : decode cX0_keep 41 = .ok (.aaload, 1) := dk_50 (dk_at dksX0_keep_1 18 rfl rfl)
theorem dX0_keep_42 : decode cX0_keep 42 = .ok (.aastore, 1) := dk_83 (dk_at dksX0_keep_1 19 rfl rfl)
theorem dX0_keep_43 : decode cX0_keep 43 = .ok (.iconst 1, 1) := dk_4 (dk_at dksX0_keep_1 20 rfl rfl)
theorem dX0_keep_44 : decode cX0_keep 44 = .ok (.ireturn, 1) := dk_172 (dk_at dksX0_keep_1 21 rfl rfl)
abbrev cX0_row : ByteArray := prog_1_method_100_code
def yX0_row : MethodName := ⟨RX0, "row", "(III)I"⟩
def dkwX0_row_5 : List UInt8 := [42, 180, 0, 113, 27, 29, 188, 4, 83, 4, 172]
abbrev dktX0_row_5 : List UInt8 := dkwX0_row_5 ++ []
def dkwX0_row_4 : List UInt8 := [42, 180, 0, 113, 27, 29, 188, 10, 83, 167, 0, 24, 42, 180, 0, 113, 27, 29, 188, 11, 83, 167, 0, 12]
abbrev dktX0_row_4 : List UInt8 := dkwX0_row_4 ++ dktX0_row_5
def dkwX0_row_3 : List UInt8 := [42, 180, 0, 113, 27, 29, 188, 8, 83, 167, 0, 48, 42, 180, 0, 113, 27, 29, 188, 9, 83, 167, 0, 36]
abbrev dktX0_row_3 : List UInt8 := dkwX0_row_3 ++ dktX0_row_4
def dkwX0_row_2 : List UInt8 := [170, 0, 0, 0, 77, 0, 0, 0, 0, 0, 0, 0, 3, 0, 0, 0, 29, 0, 0, 0, 41, 0, 0, 0, 53, 0, 0, 0, 65]
abbrev dktX0_row_2 : List UInt8 := dkwX0_row_2 ++ dktX0_row_3
def dkwX0_row_1 : List UInt8 := [164, 0, 5, 2, 172, 29, 156, 0, 6, 16, 242, 172, 28]
abbrev dktX0_row_1 : List UInt8 := dkwX0_row_1 ++ dktX0_row_2
def dkwX0_row_0 : List UInt8 := [27, 184, 0, 184, 153, 0, 21, 28, 133, 9, 20, 0, 203, 184, 0, 121, 153, 0, 9, 29, 16, 60]
abbrev dktX0_row_0 : List UInt8 := dkwX0_row_0 ++ dktX0_row_1
theorem dksX0_row_0 : cX0_row.data.toList.drop 0 = dktX0_row_0 := by decide +kernel
theorem dksX0_row_1 : cX0_row.data.toList.drop 22 = dktX0_row_1 := dk_seg dksX0_row_0 22 rfl rfl
theorem dksX0_row_2 : cX0_row.data.toList.drop 35 = dktX0_row_2 := dk_seg dksX0_row_1 13 rfl rfl
theorem dksX0_row_3 : cX0_row.data.toList.drop 64 = dktX0_row_3 := dk_seg dksX0_row_2 29 rfl rfl
theorem dksX0_row_4 : cX0_row.data.toList.drop 88 = dktX0_row_4 := dk_seg dksX0_row_3 24 rfl rfl
theorem dksX0_row_5 : cX0_row.data.toList.drop 112 = dktX0_row_5 := dk_seg dksX0_row_4 24 rfl rfl
theorem dX0_row_0 : decode cX0_row 0 = .ok (.iload_n 1, 1) := dk_27 (dk_at dksX0_row_0 0 rfl rfl)
theorem dX0_row_1 : decode cX0_row 1 = .ok (.invokestatic 184, 3) := dk_184 0 184 (dk_at dksX0_row_0 1 rfl rfl)
theorem dX0_row_4 : decode cX0_row 4 = .ok (.ifCond .eq 21, 3) := dk_153 0 21 (dk_at dksX0_row_0 4 rfl rfl)
theorem dX0_row_7 : decode cX0_row 7 = .ok (.iload_n 2, 1) := dk_28 (dk_at dksX0_row_0 7 rfl rfl)
theorem dX0_row_8 : decode cX0_row 8 = .ok (.i2l, 1) := dk_133 (dk_at dksX0_row_0 8 rfl rfl)
theorem dX0_row_9 : decode cX0_row 9 = .ok (.lconst 0, 1) := dk_9 (dk_at dksX0_row_0 9 rfl rfl)
theorem dX0_row_10 : decode cX0_row 10 = .ok (.ldc2_w 203, 3) := dk_20 0 203 (dk_at dksX0_row_0 10 rfl rfl)
theorem dX0_row_13 : decode cX0_row 13 = .ok (.invokestatic 121, 3) := dk_184 0 121 (dk_at dksX0_row_0 13 rfl rfl)
theorem dX0_row_16 : decode cX0_row 16 = .ok (.ifCond .eq 9, 3) := dk_153 0 9 (dk_at dksX0_row_0 16 rfl rfl)
theorem dX0_row_19 : decode cX0_row 19 = .ok (.iload_n 3, 1) := dk_29 (dk_at dksX0_row_0 19 rfl rfl)
theorem dX0_row_20 : decode cX0_row 20 = .ok (.bipush 60, 2) := dk_16 60 (dk_at dksX0_row_0 20 rfl rfl)
theorem dX0_row_22 : decode cX0_row 22 = .ok (.if_icmp .le 5, 3) := dk_164 0 5 (dk_at dksX0_row_1 0 rfl rfl)
theorem dX0_row_25 : decode cX0_row 25 = .ok (.iconst (-1), 1) := dk_2 (dk_at dksX0_row_1 3 rfl rfl)
theorem dX0_row_26 : decode cX0_row 26 = .ok (.ireturn, 1) := dk_172 (dk_at dksX0_row_1 4 rfl rfl)
theorem dX0_row_27 : decode cX0_row 27 = .ok (.iload_n 3, 1) := dk_29 (dk_at dksX0_row_1 5 rfl rfl)
theorem dX0_row_28 : decode cX0_row 28 = .ok (.ifCond .ge 6, 3) := dk_156 0 6 (dk_at dksX0_row_1 6 rfl rfl)
theorem dX0_row_31 : decode cX0_row 31 = .ok (.bipush (-14), 2) := dk_16 242 (dk_at dksX0_row_1 9 rfl rfl)
theorem dX0_row_33 : decode cX0_row 33 = .ok (.ireturn, 1) := dk_172 (dk_at dksX0_row_1 11 rfl rfl)
theorem dX0_row_34 : decode cX0_row 34 = .ok (.iload_n 2, 1) := dk_28 (dk_at dksX0_row_1 12 rfl rfl)
theorem dX0_row_35 : decode cX0_row 35 = .ok (.tableswitch 77 0 3 #[29, 41, 53, 65], 29) := by decide +kernel
theorem dX0_row_64 : decode cX0_row 64 = .ok (.aload_n 0, 1) := dk_42 (dk_at dksX0_row_3 0 rfl rfl)
theorem dX0_row_65 : decode cX0_row 65 = .ok (.getfield 113, 3) := dk_180 0 113 (dk_at dksX0_row_3 1 rfl rfl)
theorem dX0_row_68 : decode cX0_row 68 = .ok (.iload_n 1, 1) := dk_27 (dk_at dksX0_row_3 4 rfl rfl)
theorem dX0_row_69 : decode cX0_row 69 = .ok (.iload_n 3, 1) := dk_29 (dk_at dksX0_row_3 5 rfl rfl)
theorem dX0_row_70 : decode cX0_row 70 = .ok (.newarray .byte, 2) := dk_188_8 (dk_at dksX0_row_3 6 rfl rfl)
theorem dX0_row_72 : decode cX0_row 72 = .ok (.aastore, 1) := dk_83 (dk_at dksX0_row_3 8 rfl rfl)
theorem dX0_row_73 : decode cX0_row 73 = .ok (.goto 48, 3) := dk_167 0 48 (dk_at dksX0_row_3 9 rfl rfl)
theorem dX0_row_76 : decode cX0_row 76 = .ok (.aload_n 0, 1) := dk_42 (dk_at dksX0_row_3 12 rfl rfl)
theorem dX0_row_77 : decode cX0_row 77 = .ok (.getfield 113, 3) := dk_180 0 113 (dk_at dksX0_row_3 13 rfl rfl)
theorem dX0_row_80 : decode cX0_row 80 = .ok (.iload_n 1, 1) := dk_27 (dk_at dksX0_row_3 16 rfl rfl)
theorem dX0_row_81 : decode cX0_row 81 = .ok (.iload_n 3, 1) := dk_29 (dk_at dksX0_row_3 17 rfl rfl)
theorem dX0_row_82 : decode cX0_row 82 = .ok (.newarray .short, 2) := dk_188_9 (dk_at dksX0_row_3 18 rfl rfl)
theorem dX0_row_84 : decode cX0_row 84 = .ok (.aastore, 1) := dk_83 (dk_at dksX0_row_3 20 rfl rfl)
theorem dX0_row_85 : decode cX0_row 85 = .ok (.goto 36, 3) := dk_167 0 36 (dk_at dksX0_row_3 21 rfl rfl)
theorem dX0_row_88 : decode cX0_row 88 = .ok (.aload_n 0, 1) := dk_42 (dk_at dksX0_row_4 0 rfl rfl)
theorem dX0_row_89 : decode cX0_row 89 = .ok (.getfield 113, 3) := dk_180 0 113 (dk_at dksX0_row_4 1 rfl rfl)
theorem dX0_row_92 : decode cX0_row 92 = .ok (.iload_n 1, 1) := dk_27 (dk_at dksX0_row_4 4 rfl rfl)
theorem dX0_row_93 : decode cX0_row 93 = .ok (.iload_n 3, 1) := dk_29 (dk_at dksX0_row_4 5 rfl rfl)
theorem dX0_row_94 : decode cX0_row 94 = .ok (.newarray .int, 2) := dk_188_10 (dk_at dksX0_row_4 6 rfl rfl)
theorem dX0_row_96 : decode cX0_row 96 = .ok (.aastore, 1) := dk_83 (dk_at dksX0_row_4 8 rfl rfl)
theorem dX0_row_97 : decode cX0_row 97 = .ok (.goto 24, 3) := dk_167 0 24 (dk_at dksX0_row_4 9 rfl rfl)
theorem dX0_row_100 : decode cX0_row 100 = .ok (.aload_n 0, 1) := dk_42 (dk_at dksX0_row_4 12 rfl rfl)
theorem dX0_row_101 : decode cX0_row 101 = .ok (.getfield 113, 3) := dk_180 0 113 (dk_at dksX0_row_4 13 rfl rfl)
theorem dX0_row_104 : decode cX0_row 104 = .ok (.iload_n 1, 1) := dk_27 (dk_at dksX0_row_4 16 rfl rfl)
theorem dX0_row_105 : decode cX0_row 105 = .ok (.iload_n 3, 1) := dk_29 (dk_at dksX0_row_4 17 rfl rfl)
theorem dX0_row_106 : decode cX0_row 106 = .ok (.newarray .long, 2) := dk_188_11 (dk_at dksX0_row_4 18 rfl rfl)
theorem dX0_row_108 : decode cX0_row 108 = .ok (.aastore, 1) := dk_83 (dk_at dksX0_row_4 20 rfl rfl)
theorem dX0_row_109 : decode cX0_row 109 = .ok (.goto 12, 3) := dk_167 0 12 (dk_at dksX0_row_4 21 rfl rfl)
theorem dX0_row_112 : decode cX0_row 112 = .ok (.aload_n 0, 1) := dk_42 (dk_at dksX0_row_5 0 rfl rfl)
theorem dX0_row_113 : decode cX0_row 113 = .ok (.getfield 113, 3) := dk_180 0 113 (dk_at dksX0_row_5 1 rfl rfl)
theorem dX0_row_116 : decode cX0_row 116 = .ok (.iload_n 1, 1) := dk_27 (dk_at dksX0_row_5 4 rfl rfl)
theorem dX0_row_117 : decode cX0_row 117 = .ok (.iload_n 3, 1) := dk_29 (dk_at dksX0_row_5 5 rfl rfl)
theorem dX0_row_118 : decode cX0_row 118 = .ok (.newarray .boolean, 2) := dk_188_4 (dk_at dksX0_row_5 6 rfl rfl)
theorem dX0_row_120 : decode cX0_row 120 = .ok (.aastore, 1) := dk_83 (dk_at dksX0_row_5 8 rfl rfl)
theorem dX0_row_121 : decode cX0_row 121 = .ok (.iconst 1, 1) := dk_4 (dk_at dksX0_row_5 9 rfl rfl)
theorem dX0_row_122 : decode cX0_row 122 = .ok (.ireturn, 1) := dk_172 (dk_at dksX0_row_5 10 rfl rfl)
abbrev cX0_put : ByteArray := prog_1_method_104_code
def yX0_put : MethodName := ⟨RX0, "put", "(IIJ)I"⟩
def dkwX0_put_5 : List UInt8 := [167, 0, 21, 25, 6, 192, 2, 43, 28, 33, 9, 148, 153, 0, 7, 4, 167, 0, 4, 3, 84, 4, 172]
abbrev dktX0_put_5 : List UInt8 := dkwX0_put_5 ++ []
def dkwX0_put_4 : List UInt8 := [167, 0, 44, 25, 6, 192, 2, 40, 28, 33, 136, 79, 167, 0, 32, 25, 6, 192, 2, 41, 28, 33, 80]
abbrev dktX0_put_4 : List UInt8 := dkwX0_put_4 ++ dktX0_put_5
def dkwX0_put_3 : List UInt8 := [25, 6, 192, 0, 182, 28, 33, 136, 145, 84, 167, 0, 57, 25, 6, 192, 2, 38, 28, 33, 136, 147, 86]
abbrev dktX0_put_3 : List UInt8 := dkwX0_put_3 ++ dktX0_put_4
def dkwX0_put_2 : List UInt8 := [170, 0, 0, 0, 0, 0, 80, 0, 0, 0, 0, 0, 0, 0, 3, 0, 0, 0, 31, 0, 0, 0, 44, 0, 0, 0, 57, 0, 0, 0, 69]
abbrev dktX0_put_2 : List UInt8 := dkwX0_put_2 ++ dktX0_put_3
def dkwX0_put_1 : List UInt8 := [25, 6, 184, 0, 189]
abbrev dktX0_put_1 : List UInt8 := dkwX0_put_1 ++ dktX0_put_2
def dkwX0_put_0 : List UInt8 := [42, 27, 28, 182, 2, 48, 54, 5, 21, 5, 153, 0, 6, 21, 5, 172, 42, 180, 0, 113, 27, 50, 58, 6]
abbrev dktX0_put_0 : List UInt8 := dkwX0_put_0 ++ dktX0_put_1
theorem dksX0_put_0 : cX0_put.data.toList.drop 0 = dktX0_put_0 := by decide +kernel
theorem dksX0_put_1 : cX0_put.data.toList.drop 24 = dktX0_put_1 := dk_seg dksX0_put_0 24 rfl rfl
theorem dksX0_put_2 : cX0_put.data.toList.drop 29 = dktX0_put_2 := dk_seg dksX0_put_1 5 rfl rfl
theorem dksX0_put_3 : cX0_put.data.toList.drop 60 = dktX0_put_3 := dk_seg dksX0_put_2 31 rfl rfl
theorem dksX0_put_4 : cX0_put.data.toList.drop 83 = dktX0_put_4 := dk_seg dksX0_put_3 23 rfl rfl
theorem dksX0_put_5 : cX0_put.data.toList.drop 106 = dktX0_put_5 := dk_seg dksX0_put_4 23 rfl rfl
theorem dX0_put_0 : decode cX0_put 0 = .ok (.aload_n 0, 1) := dk_42 (dk_at dksX0_put_0 0 rfl rfl)
theorem dX0_put_1 : decode cX0_put 1 = .ok (.iload_n 1, 1) := dk_27 (dk_at dksX0_put_0 1 rfl rfl)
theorem dX0_put_2 : decode cX0_put 2 = .ok (.iload_n 2, 1) := dk_28 (dk_at dksX0_put_0 2 rfl rfl)
theorem dX0_put_3 : decode cX0_put 3 = .ok (.invokevirtual 560, 3) := dk_182 2 48 (dk_at dksX0_put_0 3 rfl rfl)
theorem dX0_put_6 : decode cX0_put 6 = .ok (.istore 5, 2) := dk_54 5 (dk_at dksX0_put_0 6 rfl rfl)
theorem dX0_put_8 : decode cX0_put 8 = .ok (.iload 5, 2) := dk_21 5 (dk_at dksX0_put_0 8 rfl rfl)
theorem dX0_put_10 : decode cX0_put 10 = .ok (.ifCond .eq 6, 3) := dk_153 0 6 (dk_at dksX0_put_0 10 rfl rfl)
theorem dX0_put_13 : decode cX0_put 13 = .ok (.iload 5, 2) := dk_21 5 (dk_at dksX0_put_0 13 rfl rfl)
theorem dX0_put_15 : decode cX0_put 15 = .ok (.ireturn, 1) := dk_172 (dk_at dksX0_put_0 15 rfl rfl)
theorem dX0_put_16 : decode cX0_put 16 = .ok (.aload_n 0, 1) := dk_42 (dk_at dksX0_put_0 16 rfl rfl)
theorem dX0_put_17 : decode cX0_put 17 = .ok (.getfield 113, 3) := dk_180 0 113 (dk_at dksX0_put_0 17 rfl rfl)
theorem dX0_put_20 : decode cX0_put 20 = .ok (.iload_n 1, 1) := dk_27 (dk_at dksX0_put_0 20 rfl rfl)
theorem dX0_put_21 : decode cX0_put 21 = .ok (.aaload, 1) := dk_50 (dk_at dksX0_put_0 21 rfl rfl)
theorem dX0_put_22 : decode cX0_put 22 = .ok (.astore 6, 2) := dk_58 6 (dk_at dksX0_put_0 22 rfl rfl)
theorem dX0_put_24 : decode cX0_put 24 = .ok (.aload 6, 2) := dk_25 6 (dk_at dksX0_put_1 0 rfl rfl)
theorem dX0_put_26 : decode cX0_put 26 = .ok (.invokestatic 189, 3) := dk_184 0 189 (dk_at dksX0_put_1 2 rfl rfl)
theorem dX0_put_29 : decode cX0_put 29 = .ok (.tableswitch 80 0 3 #[31, 44, 57, 69], 31) := by decide +kernel
theorem dX0_put_60 : decode cX0_put 60 = .ok (.aload 6, 2) := dk_25 6 (dk_at dksX0_put_3 0 rfl rfl)
theorem dX0_put_62 : decode cX0_put 62 = .ok (.checkcast 182, 3) := dk_192 0 182 (dk_at dksX0_put_3 2 rfl rfl)
theorem dX0_put_65 : decode cX0_put 65 = .ok (.iload_n 2, 1) := dk_28 (dk_at dksX0_put_3 5 rfl rfl)
theorem dX0_put_66 : decode cX0_put 66 = .ok (.lload_n 3, 1) := dk_33 (dk_at dksX0_put_3 6 rfl rfl)
theorem dX0_put_67 : decode cX0_put 67 = .ok (.l2i, 1) := dk_136 (dk_at dksX0_put_3 7 rfl rfl)
theorem dX0_put_68 : decode cX0_put 68 = .ok (.i2b, 1) := dk_145 (dk_at dksX0_put_3 8 rfl rfl)
theorem dX0_put_69 : decode cX0_put 69 = .ok (.bastore, 1) := dk_84 (dk_at dksX0_put_3 9 rfl rfl)
theorem dX0_put_70 : decode cX0_put 70 = .ok (.goto 57, 3) := dk_167 0 57 (dk_at dksX0_put_3 10 rfl rfl)
theorem dX0_put_73 : decode cX0_put 73 = .ok (.aload 6, 2) := dk_25 6 (dk_at dksX0_put_3 13 rfl rfl)
theorem dX0_put_75 : decode cX0_put 75 = .ok (.checkcast 550, 3) := dk_192 2 38 (dk_at dksX0_put_3 15 rfl rfl)
theorem dX0_put_78 : decode cX0_put 78 = .ok (.iload_n 2, 1) := dk_28 (dk_at dksX0_put_3 18 rfl rfl)
theorem dX0_put_79 : decode cX0_put 79 = .ok (.lload_n 3, 1) := dk_33 (dk_at dksX0_put_3 19 rfl rfl)
theorem dX0_put_80 : decode cX0_put 80 = .ok (.l2i, 1) := dk_136 (dk_at dksX0_put_3 20 rfl rfl)
theorem dX0_put_81 : decode cX0_put 81 = .ok (.i2s, 1) := dk_147 (dk_at dksX0_put_3 21 rfl rfl)
theorem dX0_put_82 : decode cX0_put 82 = .ok (.sastore, 1) := dk_86 (dk_at dksX0_put_3 22 rfl rfl)
theorem dX0_put_83 : decode cX0_put 83 = .ok (.goto 44, 3) := dk_167 0 44 (dk_at dksX0_put_4 0 rfl rfl)
theorem dX0_put_86 : decode cX0_put 86 = .ok (.aload 6, 2) := dk_25 6 (dk_at dksX0_put_4 3 rfl rfl)
theorem dX0_put_88 : decode cX0_put 88 = .ok (.checkcast 552, 3) := dk_192 2 40 (dk_at dksX0_put_4 5 rfl rfl)
theorem dX0_put_91 : decode cX0_put 91 = .ok (.iload_n 2, 1) := dk_28 (dk_at dksX0_put_4 8 rfl rfl)
theorem dX0_put_92 : decode cX0_put 92 = .ok (.lload_n 3, 1) := dk_33 (dk_at dksX0_put_4 9 rfl rfl)
theorem dX0_put_93 : decode cX0_put 93 = .ok (.l2i, 1) := dk_136 (dk_at dksX0_put_4 10 rfl rfl)
theorem dX0_put_94 : decode cX0_put 94 = .ok (.iastore, 1) := dk_79 (dk_at dksX0_put_4 11 rfl rfl)
theorem dX0_put_95 : decode cX0_put 95 = .ok (.goto 32, 3) := dk_167 0 32 (dk_at dksX0_put_4 12 rfl rfl)
theorem dX0_put_98 : decode cX0_put 98 = .ok (.aload 6, 2) := dk_25 6 (dk_at dksX0_put_4 15 rfl rfl)
theorem dX0_put_100 : decode cX0_put 100 = .ok (.checkcast 553, 3) := dk_192 2 41 (dk_at dksX0_put_4 17 rfl rfl)
theorem dX0_put_103 : decode cX0_put 103 = .ok (.iload_n 2, 1) := dk_28 (dk_at dksX0_put_4 20 rfl rfl)
theorem dX0_put_104 : decode cX0_put 104 = .ok (.lload_n 3, 1) := dk_33 (dk_at dksX0_put_4 21 rfl rfl)
theorem dX0_put_105 : decode cX0_put 105 = .ok (.lastore, 1) := dk_80 (dk_at dksX0_put_4 22 rfl rfl)
theorem dX0_put_106 : decode cX0_put 106 = .ok (.goto 21, 3) := dk_167 0 21 (dk_at dksX0_put_5 0 rfl rfl)
theorem dX0_put_109 : decode cX0_put 109 = .ok (.aload 6, 2) := dk_25 6 (dk_at dksX0_put_5 3 rfl rfl)
theorem dX0_put_111 : decode cX0_put 111 = .ok (.checkcast 555, 3) := dk_192 2 43 (dk_at dksX0_put_5 5 rfl rfl)
theorem dX0_put_114 : decode cX0_put 114 = .ok (.iload_n 2, 1) := dk_28 (dk_at dksX0_put_5 8 rfl rfl)
theorem dX0_put_115 : decode cX0_put 115 = .ok (.lload_n 3, 1) := dk_33 (dk_at dksX0_put_5 9 rfl rfl)
theorem dX0_put_116 : decode cX0_put 116 = .ok (.lconst 0, 1) := dk_9 (dk_at dksX0_put_5 10 rfl rfl)
theorem dX0_put_117 : decode cX0_put 117 = .ok (.lcmp, 1) := dk_148 (dk_at dksX0_put_5 11 rfl rfl)
theorem dX0_put_118 : decode cX0_put 118 = .ok (.ifCond .eq 7, 3) := dk_153 0 7 (dk_at dksX0_put_5 12 rfl rfl)
theorem dX0_put_121 : decode cX0_put 121 = .ok (.iconst 1, 1) := dk_4 (dk_at dksX0_put_5 15 rfl rfl)
theorem dX0_put_122 : decode cX0_put 122 = .ok (.goto 4, 3) := dk_167 0 4 (dk_at dksX0_put_5 16 rfl rfl)
theorem dX0_put_125 : decode cX0_put 125 = .ok (.iconst 0, 1) := dk_3 (dk_at dksX0_put_5 19 rfl rfl)
theorem dX0_put_126 : decode cX0_put 126 = .ok (.bastore, 1) := dk_84 (dk_at dksX0_put_5 20 rfl rfl)
theorem dX0_put_127 : decode cX0_put 127 = .ok (.iconst 1, 1) := dk_4 (dk_at dksX0_put_5 21 rfl rfl)
theorem dX0_put_128 : decode cX0_put 128 = .ok (.ireturn, 1) := dk_172 (dk_at dksX0_put_5 22 rfl rfl)
abbrev cX0_refusal : ByteArray := prog_1_method_103_code
def yX0_refusal : MethodName := ⟨RX0, "refusal", "(II)I"⟩
def dkwX0_refusal_2 : List UInt8 := [153, 0, 7, 3, 167, 0, 5, 16, 243, 172]
abbrev dktX0_refusal_2 : List UInt8 := dkwX0_refusal_2 ++ []
def dkwX0_refusal_1 : List UInt8 := [184, 0, 189, 2, 160, 0, 6, 16, 244, 172, 28, 133, 9, 45, 184, 2, 45, 4, 100, 133, 184, 0, 121]
abbrev dktX0_refusal_1 : List UInt8 := dkwX0_refusal_1 ++ dktX0_refusal_2
def dkwX0_refusal_0 : List UInt8 := [27, 184, 0, 184, 154, 0, 5, 2, 172, 42, 180, 0, 113, 27, 50, 78, 45, 199, 0, 6, 16, 245, 172, 45]
abbrev dktX0_refusal_0 : List UInt8 := dkwX0_refusal_0 ++ dktX0_refusal_1
theorem dksX0_refusal_0 : cX0_refusal.data.toList.drop 0 = dktX0_refusal_0 := by decide +kernel
theorem dksX0_refusal_1 : cX0_refusal.data.toList.drop 24 = dktX0_refusal_1 := dk_seg dksX0_refusal_0 24 rfl rfl
theorem dksX0_refusal_2 : cX0_refusal.data.toList.drop 47 = dktX0_refusal_2 := dk_seg dksX0_refusal_1 23 rfl rfl
theorem dX0_refusal_0 : decode cX0_refusal 0 = .ok (.iload_n 1, 1) := dk_27 (dk_at dksX0_refusal_0 0 rfl rfl)
theorem dX0_refusal_1 : decode cX0_refusal 1 = .ok (.invokestatic 184, 3) := dk_184 0 184 (dk_at dksX0_refusal_0 1 rfl rfl)
theorem dX0_refusal_4 : decode cX0_refusal 4 = .ok (.ifCond .ne 5, 3) := dk_154 0 5 (dk_at dksX0_refusal_0 4 rfl rfl)
theorem dX0_refusal_7 : decode cX0_refusal 7 = .ok (.iconst (-1), 1) := dk_2 (dk_at dksX0_refusal_0 7 rfl rfl)
theorem dX0_refusal_8 : decode cX0_refusal 8 = .ok (.ireturn, 1) := dk_172 (dk_at dksX0_refusal_0 8 rfl rfl)
theorem dX0_refusal_9 : decode cX0_refusal 9 = .ok (.aload_n 0, 1) := dk_42 (dk_at dksX0_refusal_0 9 rfl rfl)
theorem dX0_refusal_10 : decode cX0_refusal 10 = .ok (.getfield 113, 3) := dk_180 0 113 (dk_at dksX0_refusal_0 10 rfl rfl)
theorem dX0_refusal_13 : decode cX0_refusal 13 = .ok (.iload_n 1, 1) := dk_27 (dk_at dksX0_refusal_0 13 rfl rfl)
theorem dX0_refusal_14 : decode cX0_refusal 14 = .ok (.aaload, 1) := dk_50 (dk_at dksX0_refusal_0 14 rfl rfl)
theorem dX0_refusal_15 : decode cX0_refusal 15 = .ok (.astore_n 3, 1) := dk_78 (dk_at dksX0_refusal_0 15 rfl rfl)
theorem dX0_refusal_16 : decode cX0_refusal 16 = .ok (.aload_n 3, 1) := dk_45 (dk_at dksX0_refusal_0 16 rfl rfl)
theorem dX0_refusal_17 : decode cX0_refusal 17 = .ok (.ifnonnull 6, 3) := dk_199 0 6 (dk_at dksX0_refusal_0 17 rfl rfl)
theorem dX0_refusal_20 : decode cX0_refusal 20 = .ok (.bipush (-11), 2) := dk_16 245 (dk_at dksX0_refusal_0 20 rfl rfl)
theorem dX0_refusal_22 : decode cX0_refusal 22 = .ok (.ireturn, 1) := dk_172 (dk_at dksX0_refusal_0 22 rfl rfl)
theorem dX0_refusal_23 : decode cX0_refusal 23 = .ok (.aload_n 3, 1) := dk_45 (dk_at dksX0_refusal_0 23 rfl rfl)
theorem dX0_refusal_24 : decode cX0_refusal 24 = .ok (.invokestatic 189, 3) := dk_184 0 189 (dk_at dksX0_refusal_1 0 rfl rfl)
theorem dX0_refusal_27 : decode cX0_refusal 27 = .ok (.iconst (-1), 1) := dk_2 (dk_at dksX0_refusal_1 3 rfl rfl)
theorem dX0_refusal_28 : decode cX0_refusal 28 = .ok (.if_icmp .ne 6, 3) := dk_160 0 6 (dk_at dksX0_refusal_1 4 rfl rfl)
theorem dX0_refusal_31 : decode cX0_refusal 31 = .ok (.bipush (-12), 2) := dk_16 244 (dk_at dksX0_refusal_1 7 rfl rfl)
theorem dX0_refusal_33 : decode cX0_refusal 33 = .ok (.ireturn, 1) := dk_172 (dk_at dksX0_refusal_1 9 rfl rfl)
theorem dX0_refusal_34 : decode cX0_refusal 34 = .ok (.iload_n 2, 1) := dk_28 (dk_at dksX0_refusal_1 10 rfl rfl)
theorem dX0_refusal_35 : decode cX0_refusal 35 = .ok (.i2l, 1) := dk_133 (dk_at dksX0_refusal_1 11 rfl rfl)
theorem dX0_refusal_36 : decode cX0_refusal 36 = .ok (.lconst 0, 1) := dk_9 (dk_at dksX0_refusal_1 12 rfl rfl)
theorem dX0_refusal_37 : decode cX0_refusal 37 = .ok (.aload_n 3, 1) := dk_45 (dk_at dksX0_refusal_1 13 rfl rfl)
theorem dX0_refusal_38 : decode cX0_refusal 38 = .ok (.invokestatic 557, 3) := dk_184 2 45 (dk_at dksX0_refusal_1 14 rfl rfl)
theorem dX0_refusal_41 : decode cX0_refusal 41 = .ok (.iconst 1, 1) := dk_4 (dk_at dksX0_refusal_1 17 rfl rfl)
theorem dX0_refusal_42 : decode cX0_refusal 42 = .ok (.isub, 1) := dk_100 (dk_at dksX0_refusal_1 18 rfl rfl)
theorem dX0_refusal_43 : decode cX0_refusal 43 = .ok (.i2l, 1) := dk_133 (dk_at dksX0_refusal_1 19 rfl rfl)
theorem dX0_refusal_44 : decode cX0_refusal 44 = .ok (.invokestatic 121, 3) := dk_184 0 121 (dk_at dksX0_refusal_1 20 rfl rfl)
theorem dX0_refusal_47 : decode cX0_refusal 47 = .ok (.ifCond .eq 7, 3) := dk_153 0 7 (dk_at dksX0_refusal_2 0 rfl rfl)
theorem dX0_refusal_50 : decode cX0_refusal 50 = .ok (.iconst 0, 1) := dk_3 (dk_at dksX0_refusal_2 3 rfl rfl)
theorem dX0_refusal_51 : decode cX0_refusal 51 = .ok (.goto 5, 3) := dk_167 0 5 (dk_at dksX0_refusal_2 4 rfl rfl)
theorem dX0_refusal_54 : decode cX0_refusal 54 = .ok (.bipush (-13), 2) := dk_16 243 (dk_at dksX0_refusal_2 7 rfl rfl)
theorem dX0_refusal_56 : decode cX0_refusal 56 = .ok (.ireturn, 1) := dk_172 (dk_at dksX0_refusal_2 9 rfl rfl)
abbrev cX0_sizeOf : ByteArray := prog_1_method_102_code
def yX0_sizeOf : MethodName := ⟨RX0, "sizeOf", "(Ljava/lang/Object;)I"⟩
def dkwX0_sizeOf_3 : List UInt8 := [42, 192, 2, 43, 190, 172]
abbrev dktX0_sizeOf_3 : List UInt8 := dkwX0_sizeOf_3 ++ []
def dkwX0_sizeOf_2 : List UInt8 := [42, 192, 0, 182, 190, 172, 42, 192, 2, 38, 190, 172, 42, 192, 2, 40, 190, 172, 42, 192, 2, 41, 190, 172]
abbrev dktX0_sizeOf_2 : List UInt8 := dkwX0_sizeOf_2 ++ dktX0_sizeOf_3
def dkwX0_sizeOf_1 : List UInt8 := [170, 0, 0, 0, 0, 0, 0, 56, 0, 0, 0, 0, 0, 0, 0, 3, 0, 0, 0, 32, 0, 0, 0, 38, 0, 0, 0, 44, 0, 0, 0, 50]
abbrev dktX0_sizeOf_1 : List UInt8 := dkwX0_sizeOf_1 ++ dktX0_sizeOf_2
def dkwX0_sizeOf_0 : List UInt8 := [42, 184, 0, 189]
abbrev dktX0_sizeOf_0 : List UInt8 := dkwX0_sizeOf_0 ++ dktX0_sizeOf_1
theorem dksX0_sizeOf_0 : cX0_sizeOf.data.toList.drop 0 = dktX0_sizeOf_0 := by decide +kernel
theorem dksX0_sizeOf_1 : cX0_sizeOf.data.toList.drop 4 = dktX0_sizeOf_1 := dk_seg dksX0_sizeOf_0 4 rfl rfl
theorem dksX0_sizeOf_2 : cX0_sizeOf.data.toList.drop 36 = dktX0_sizeOf_2 := dk_seg dksX0_sizeOf_1 32 rfl rfl
theorem dksX0_sizeOf_3 : cX0_sizeOf.data.toList.drop 60 = dktX0_sizeOf_3 := dk_seg dksX0_sizeOf_2 24 rfl rfl
theorem dX0_sizeOf_0 : decode cX0_sizeOf 0 = .ok (.aload_n 0, 1) := dk_42 (dk_at dksX0_sizeOf_0 0 rfl rfl)
theorem dX0_sizeOf_1 : decode cX0_sizeOf 1 = .ok (.invokestatic 189, 3) := dk_184 0 189 (dk_at dksX0_sizeOf_0 1 rfl rfl)
theorem dX0_sizeOf_4 : decode cX0_sizeOf 4 = .ok (.tableswitch 56 0 3 #[32, 38, 44, 50], 32) := by decide +kernel
theorem dX0_sizeOf_36 : decode cX0_sizeOf 36 = .ok (.aload_n 0, 1) := dk_42 (dk_at dksX0_sizeOf_2 0 rfl rfl)
theorem dX0_sizeOf_37 : decode cX0_sizeOf 37 = .ok (.checkcast 182, 3) := dk_192 0 182 (dk_at dksX0_sizeOf_2 1 rfl rfl)
theorem dX0_sizeOf_40 : decode cX0_sizeOf 40 = .ok (.arraylength, 1) := dk_190 (dk_at dksX0_sizeOf_2 4 rfl rfl)
theorem dX0_sizeOf_41 : decode cX0_sizeOf 41 = .ok (.ireturn, 1) := dk_172 (dk_at dksX0_sizeOf_2 5 rfl rfl)
theorem dX0_sizeOf_42 : decode cX0_sizeOf 42 = .ok (.aload_n 0, 1) := dk_42 (dk_at dksX0_sizeOf_2 6 rfl rfl)
theorem dX0_sizeOf_43 : decode cX0_sizeOf 43 = .ok (.checkcast 550, 3) := dk_192 2 38 (dk_at dksX0_sizeOf_2 7 rfl rfl)
theorem dX0_sizeOf_46 : decode cX0_sizeOf 46 = .ok (.arraylength, 1) := dk_190 (dk_at dksX0_sizeOf_2 10 rfl rfl)
theorem dX0_sizeOf_47 : decode cX0_sizeOf 47 = .ok (.ireturn, 1) := dk_172 (dk_at dksX0_sizeOf_2 11 rfl rfl)
theorem dX0_sizeOf_48 : decode cX0_sizeOf 48 = .ok (.aload_n 0, 1) := dk_42 (dk_at dksX0_sizeOf_2 12 rfl rfl)
theorem dX0_sizeOf_49 : decode cX0_sizeOf 49 = .ok (.checkcast 552, 3) := dk_192 2 40 (dk_at dksX0_sizeOf_2 13 rfl rfl)
theorem dX0_sizeOf_52 : decode cX0_sizeOf 52 = .ok (.arraylength, 1) := dk_190 (dk_at dksX0_sizeOf_2 16 rfl rfl)
theorem dX0_sizeOf_53 : decode cX0_sizeOf 53 = .ok (.ireturn, 1) := dk_172 (dk_at dksX0_sizeOf_2 17 rfl rfl)
theorem dX0_sizeOf_54 : decode cX0_sizeOf 54 = .ok (.aload_n 0, 1) := dk_42 (dk_at dksX0_sizeOf_2 18 rfl rfl)
theorem dX0_sizeOf_55 : decode cX0_sizeOf 55 = .ok (.checkcast 553, 3) := dk_192 2 41 (dk_at dksX0_sizeOf_2 19 rfl rfl)
theorem dX0_sizeOf_58 : decode cX0_sizeOf 58 = .ok (.arraylength, 1) := dk_190 (dk_at dksX0_sizeOf_2 22 rfl rfl)
theorem dX0_sizeOf_59 : decode cX0_sizeOf 59 = .ok (.ireturn, 1) := dk_172 (dk_at dksX0_sizeOf_2 23 rfl rfl)
theorem dX0_sizeOf_60 : decode cX0_sizeOf 60 = .ok (.aload_n 0, 1) := dk_42 (dk_at dksX0_sizeOf_3 0 rfl rfl)
theorem dX0_sizeOf_61 : decode cX0_sizeOf 61 = .ok (.checkcast 555, 3) := dk_192 2 43 (dk_at dksX0_sizeOf_3 1 rfl rfl)
theorem dX0_sizeOf_64 : decode cX0_sizeOf 64 = .ok (.arraylength, 1) := dk_190 (dk_at dksX0_sizeOf_3 4 rfl rfl)
theorem dX0_sizeOf_65 : decode cX0_sizeOf 65 = .ok (.ireturn, 1) := dk_172 (dk_at dksX0_sizeOf_3 5 rfl rfl)
abbrev cX0_element : ByteArray := prog_1_method_105_code
def yX0_element : MethodName := ⟨RX0, "element", "(II)J"⟩
def dkwX0_element_3 : List UInt8 := [45, 192, 2, 41, 28, 47, 173, 45, 192, 2, 43, 28, 51, 153, 0, 7, 10, 167, 0, 4, 9, 173]
abbrev dktX0_element_3 : List UInt8 := dkwX0_element_3 ++ []
def dkwX0_element_2 : List UInt8 := [45, 192, 0, 182, 28, 51, 133, 173, 45, 192, 2, 38, 28, 53, 133, 173, 45, 192, 2, 40, 28, 46, 133, 173]
abbrev dktX0_element_2 : List UInt8 := dkwX0_element_2 ++ dktX0_element_3
def dkwX0_element_1 : List UInt8 := [170, 0, 0, 0, 0, 0, 0, 63, 0, 0, 0, 0, 0, 0, 0, 3, 0, 0, 0, 32, 0, 0, 0, 40, 0, 0, 0, 48, 0, 0, 0, 56]
abbrev dktX0_element_1 : List UInt8 := dkwX0_element_1 ++ dktX0_element_2
def dkwX0_element_0 : List UInt8 := [42, 27, 28, 182, 2, 48, 153, 0, 7, 20, 1, 203, 173, 42, 180, 0, 113, 27, 50, 78, 45, 184, 0, 189]
abbrev dktX0_element_0 : List UInt8 := dkwX0_element_0 ++ dktX0_element_1
theorem dksX0_element_0 : cX0_element.data.toList.drop 0 = dktX0_element_0 := by decide +kernel
theorem dksX0_element_1 : cX0_element.data.toList.drop 24 = dktX0_element_1 := dk_seg dksX0_element_0 24 rfl rfl
theorem dksX0_element_2 : cX0_element.data.toList.drop 56 = dktX0_element_2 := dk_seg dksX0_element_1 32 rfl rfl
theorem dksX0_element_3 : cX0_element.data.toList.drop 80 = dktX0_element_3 := dk_seg dksX0_element_2 24 rfl rfl
theorem dX0_element_0 : decode cX0_element 0 = .ok (.aload_n 0, 1) := dk_42 (dk_at dksX0_element_0 0 rfl rfl)
theorem dX0_element_1 : decode cX0_element 1 = .ok (.iload_n 1, 1) := dk_27 (dk_at dksX0_element_0 1 rfl rfl)
theorem dX0_element_2 : decode cX0_element 2 = .ok (.iload_n 2, 1) := dk_28 (dk_at dksX0_element_0 2 rfl rfl)
theorem dX0_element_3 : decode cX0_element 3 = .ok (.invokevirtual 560, 3) := dk_182 2 48 (dk_at dksX0_element_0 3 rfl rfl)
theorem dX0_element_6 : decode cX0_element 6 = .ok (.ifCond .eq 7, 3) := dk_153 0 7 (dk_at dksX0_element_0 6 rfl rfl)
theorem dX0_element_9 : decode cX0_element 9 = .ok (.ldc2_w 459, 3) := dk_20 1 203 (dk_at dksX0_element_0 9 rfl rfl)
theorem dX0_element_12 : decode cX0_element 12 = .ok (.lreturn, 1) := dk_173 (dk_at dksX0_element_0 12 rfl rfl)
theorem dX0_element_13 : decode cX0_element 13 = .ok (.aload_n 0, 1) := dk_42 (dk_at dksX0_element_0 13 rfl rfl)
theorem dX0_element_14 : decode cX0_element 14 = .ok (.getfield 113, 3) := dk_180 0 113 (dk_at dksX0_element_0 14 rfl rfl)
theorem dX0_element_17 : decode cX0_element 17 = .ok (.iload_n 1, 1) := dk_27 (dk_at dksX0_element_0 17 rfl rfl)
theorem dX0_element_18 : decode cX0_element 18 = .ok (.aaload, 1) := dk_50 (dk_at dksX0_element_0 18 rfl rfl)
theorem dX0_element_19 : decode cX0_element 19 = .ok (.astore_n 3, 1) := dk_78 (dk_at dksX0_element_0 19 rfl rfl)
theorem dX0_element_20 : decode cX0_element 20 = .ok (.aload_n 3, 1) := dk_45 (dk_at dksX0_element_0 20 rfl rfl)
theorem dX0_element_21 : decode cX0_element 21 = .ok (.invokestatic 189, 3) := dk_184 0 189 (dk_at dksX0_element_0 21 rfl rfl)
theorem dX0_element_24 : decode cX0_element 24 = .ok (.tableswitch 63 0 3 #[32, 40, 48, 56], 32) := by decide +kernel
theorem dX0_element_56 : decode cX0_element 56 = .ok (.aload_n 3, 1) := dk_45 (dk_at dksX0_element_2 0 rfl rfl)
theorem dX0_element_57 : decode cX0_element 57 = .ok (.checkcast 182, 3) := dk_192 0 182 (dk_at dksX0_element_2 1 rfl rfl)
theorem dX0_element_60 : decode cX0_element 60 = .ok (.iload_n 2, 1) := dk_28 (dk_at dksX0_element_2 4 rfl rfl)
theorem dX0_element_61 : decode cX0_element 61 = .ok (.baload, 1) := dk_51 (dk_at dksX0_element_2 5 rfl rfl)
theorem dX0_element_62 : decode cX0_element 62 = .ok (.i2l, 1) := dk_133 (dk_at dksX0_element_2 6 rfl rfl)
theorem dX0_element_63 : decode cX0_element 63 = .ok (.lreturn, 1) := dk_173 (dk_at dksX0_element_2 7 rfl rfl)
theorem dX0_element_64 : decode cX0_element 64 = .ok (.aload_n 3, 1) := dk_45 (dk_at dksX0_element_2 8 rfl rfl)
theorem dX0_element_65 : decode cX0_element 65 = .ok (.checkcast 550, 3) := dk_192 2 38 (dk_at dksX0_element_2 9 rfl rfl)
theorem dX0_element_68 : decode cX0_element 68 = .ok (.iload_n 2, 1) := dk_28 (dk_at dksX0_element_2 12 rfl rfl)
theorem dX0_element_69 : decode cX0_element 69 = .ok (.saload, 1) := dk_53 (dk_at dksX0_element_2 13 rfl rfl)
theorem dX0_element_70 : decode cX0_element 70 = .ok (.i2l, 1) := dk_133 (dk_at dksX0_element_2 14 rfl rfl)
theorem dX0_element_71 : decode cX0_element 71 = .ok (.lreturn, 1) := dk_173 (dk_at dksX0_element_2 15 rfl rfl)
theorem dX0_element_72 : decode cX0_element 72 = .ok (.aload_n 3, 1) := dk_45 (dk_at dksX0_element_2 16 rfl rfl)
theorem dX0_element_73 : decode cX0_element 73 = .ok (.checkcast 552, 3) := dk_192 2 40 (dk_at dksX0_element_2 17 rfl rfl)
theorem dX0_element_76 : decode cX0_element 76 = .ok (.iload_n 2, 1) := dk_28 (dk_at dksX0_element_2 20 rfl rfl)
theorem dX0_element_77 : decode cX0_element 77 = .ok (.iaload, 1) := dk_46 (dk_at dksX0_element_2 21 rfl rfl)
theorem dX0_element_78 : decode cX0_element 78 = .ok (.i2l, 1) := dk_133 (dk_at dksX0_element_2 22 rfl rfl)
theorem dX0_element_79 : decode cX0_element 79 = .ok (.lreturn, 1) := dk_173 (dk_at dksX0_element_2 23 rfl rfl)
theorem dX0_element_80 : decode cX0_element 80 = .ok (.aload_n 3, 1) := dk_45 (dk_at dksX0_element_3 0 rfl rfl)
theorem dX0_element_81 : decode cX0_element 81 = .ok (.checkcast 553, 3) := dk_192 2 41 (dk_at dksX0_element_3 1 rfl rfl)
theorem dX0_element_84 : decode cX0_element 84 = .ok (.iload_n 2, 1) := dk_28 (dk_at dksX0_element_3 4 rfl rfl)
theorem dX0_element_85 : decode cX0_element 85 = .ok (.laload, 1) := dk_47 (dk_at dksX0_element_3 5 rfl rfl)
theorem dX0_element_86 : decode cX0_element 86 = .ok (.lreturn, 1) := dk_173 (dk_at dksX0_element_3 6 rfl rfl)
theorem dX0_element_87 : decode cX0_element 87 = .ok (.aload_n 3, 1) := dk_45 (dk_at dksX0_element_3 7 rfl rfl)
theorem dX0_element_88 : decode cX0_element 88 = .ok (.checkcast 555, 3) := dk_192 2 43 (dk_at dksX0_element_3 8 rfl rfl)
theorem dX0_element_91 : decode cX0_element 91 = .ok (.iload_n 2, 1) := dk_28 (dk_at dksX0_element_3 11 rfl rfl)
theorem dX0_element_92 : decode cX0_element 92 = .ok (.baload, 1) := dk_51 (dk_at dksX0_element_3 12 rfl rfl)
theorem dX0_element_93 : decode cX0_element 93 = .ok (.ifCond .eq 7, 3) := dk_153 0 7 (dk_at dksX0_element_3 13 rfl rfl)
theorem dX0_element_96 : decode cX0_element 96 = .ok (.lconst 1, 1) := dk_10 (dk_at dksX0_element_3 16 rfl rfl)
theorem dX0_element_97 : decode cX0_element 97 = .ok (.goto 4, 3) := dk_167 0 4 (dk_at dksX0_element_3 17 rfl rfl)
theorem dX0_element_100 : decode cX0_element 100 = .ok (.lconst 0, 1) := dk_9 (dk_at dksX0_element_3 20 rfl rfl)
theorem dX0_element_101 : decode cX0_element 101 = .ok (.lreturn, 1) := dk_173 (dk_at dksX0_element_3 21 rfl rfl)
abbrev cX0_shift : ByteArray := prog_1_method_106_code
def yX0_shift : MethodName := ⟨RX0, "shift", "(IIIII)I"⟩
def dkwX0_shift_5 : List UInt8 := [21, 4, 21, 5, 184, 1, 186, 21, 5, 172]
abbrev dktX0_shift_5 : List UInt8 := dkwX0_shift_5 ++ []
def dkwX0_shift_4 : List UInt8 := [163, 0, 16, 21, 4, 25, 7, 184, 2, 45, 21, 5, 100, 164, 0, 6, 16, 243, 172, 25, 6, 28, 25, 7]
abbrev dktX0_shift_4 : List UInt8 := dkwX0_shift_4 ++ dktX0_shift_5
def dkwX0_shift_3 : List UInt8 := [21, 5, 155, 0, 37, 28, 155, 0, 33, 21, 4, 155, 0, 28, 28, 25, 6, 184, 2, 45, 21, 5, 100]
abbrev dktX0_shift_3 : List UInt8 := dkwX0_shift_3 ++ dktX0_shift_4
def dkwX0_shift_2 : List UInt8 := [184, 0, 189, 2, 159, 0, 16, 25, 6, 184, 0, 189, 25, 7, 184, 0, 189, 159, 0, 6, 16, 244, 172]
abbrev dktX0_shift_2 : List UInt8 := dkwX0_shift_2 ++ dktX0_shift_3
def dkwX0_shift_1 : List UInt8 := [42, 180, 0, 113, 29, 50, 58, 7, 25, 6, 198, 0, 8, 25, 7, 199, 0, 6, 16, 245, 172, 25, 6]
abbrev dktX0_shift_1 : List UInt8 := dkwX0_shift_1 ++ dktX0_shift_2
def dkwX0_shift_0 : List UInt8 := [27, 184, 0, 184, 153, 0, 10, 29, 184, 0, 184, 154, 0, 5, 2, 172, 42, 180, 0, 113, 27, 50, 58, 6]
abbrev dktX0_shift_0 : List UInt8 := dkwX0_shift_0 ++ dktX0_shift_1
theorem dksX0_shift_0 : cX0_shift.data.toList.drop 0 = dktX0_shift_0 := by decide +kernel
theorem dksX0_shift_1 : cX0_shift.data.toList.drop 24 = dktX0_shift_1 := dk_seg dksX0_shift_0 24 rfl rfl
theorem dksX0_shift_2 : cX0_shift.data.toList.drop 47 = dktX0_shift_2 := dk_seg dksX0_shift_1 23 rfl rfl
theorem dksX0_shift_3 : cX0_shift.data.toList.drop 70 = dktX0_shift_3 := dk_seg dksX0_shift_2 23 rfl rfl
theorem dksX0_shift_4 : cX0_shift.data.toList.drop 93 = dktX0_shift_4 := dk_seg dksX0_shift_3 23 rfl rfl
theorem dksX0_shift_5 : cX0_shift.data.toList.drop 117 = dktX0_shift_5 := dk_seg dksX0_shift_4 24 rfl rfl
theorem dX0_shift_0 : decode cX0_shift 0 = .ok (.iload_n 1, 1) := dk_27 (dk_at dksX0_shift_0 0 rfl rfl)
theorem dX0_shift_1 : decode cX0_shift 1 = .ok (.invokestatic 184, 3) := dk_184 0 184 (dk_at dksX0_shift_0 1 rfl rfl)
theorem dX0_shift_4 : decode cX0_shift 4 = .ok (.ifCond .eq 10, 3) := dk_153 0 10 (dk_at dksX0_shift_0 4 rfl rfl)
theorem dX0_shift_7 : decode cX0_shift 7 = .ok (.iload_n 3, 1) := dk_29 (dk_at dksX0_shift_0 7 rfl rfl)
theorem dX0_shift_8 : decode cX0_shift 8 = .ok (.invokestatic 184, 3) := dk_184 0 184 (dk_at dksX0_shift_0 8 rfl rfl)
theorem dX0_shift_11 : decode cX0_shift 11 = .ok (.ifCond .ne 5, 3) := dk_154 0 5 (dk_at dksX0_shift_0 11 rfl rfl)
theorem dX0_shift_14 : decode cX0_shift 14 = .ok (.iconst (-1), 1) := dk_2 (dk_at dksX0_shift_0 14 rfl rfl)
theorem dX0_shift_15 : decode cX0_shift 15 = .ok (.ireturn, 1) := dk_172 (dk_at dksX0_shift_0 15 rfl rfl)
theorem dX0_shift_16 : decode cX0_shift 16 = .ok (.aload_n 0, 1) := dk_42 (dk_at dksX0_shift_0 16 rfl rfl)
theorem dX0_shift_17 : decode cX0_shift 17 = .ok (.getfield 113, 3) := dk_180 0 113 (dk_at dksX0_shift_0 17 rfl rfl)
theorem dX0_shift_20 : decode cX0_shift 20 = .ok (.iload_n 1, 1) := dk_27 (dk_at dksX0_shift_0 20 rfl rfl)
theorem dX0_shift_21 : decode cX0_shift 21 = .ok (.aaload, 1) := dk_50 (dk_at dksX0_shift_0 21 rfl rfl)
theorem dX0_shift_22 : decode cX0_shift 22 = .ok (.astore 6, 2) := dk_58 6 (dk_at dksX0_shift_0 22 rfl rfl)
theorem dX0_shift_24 : decode cX0_shift 24 = .ok (.aload_n 0, 1) := dk_42 (dk_at dksX0_shift_1 0 rfl rfl)
theorem dX0_shift_25 : decode cX0_shift 25 = .ok (.getfield 113, 3) := dk_180 0 113 (dk_at dksX0_shift_1 1 rfl rfl)
theorem dX0_shift_28 : decode cX0_shift 28 = .ok (.iload_n 3, 1) := dk_29 (dk_at dksX0_shift_1 4 rfl rfl)
theorem dX0_shift_29 : decode cX0_shift 29 = .ok (.aaload, 1) := dk_50 (dk_at dksX0_shift_1 5 rfl rfl)
theorem dX0_shift_30 : decode cX0_shift 30 = .ok (.astore 7, 2) := dk_58 7 (dk_at dksX0_shift_1 6 rfl rfl)
theorem dX0_shift_32 : decode cX0_shift 32 = .ok (.aload 6, 2) := dk_25 6 (dk_at dksX0_shift_1 8 rfl rfl)
theorem dX0_shift_34 : decode cX0_shift 34 = .ok (.ifnull 8, 3) := dk_198 0 8 (dk_at dksX0_shift_1 10 rfl rfl)
theorem dX0_shift_37 : decode cX0_shift 37 = .ok (.aload 7, 2) := dk_25 7 (dk_at dksX0_shift_1 13 rfl rfl)
theorem dX0_shift_39 : decode cX0_shift 39 = .ok (.ifnonnull 6, 3) := dk_199 0 6 (dk_at dksX0_shift_1 15 rfl rfl)
theorem dX0_shift_42 : decode cX0_shift 42 = .ok (.bipush (-11), 2) := dk_16 245 (dk_at dksX0_shift_1 18 rfl rfl)
theorem dX0_shift_44 : decode cX0_shift 44 = .ok (.ireturn, 1) := dk_172 (dk_at dksX0_shift_1 20 rfl rfl)
theorem dX0_shift_45 : decode cX0_shift 45 = .ok (.aload 6, 2) := dk_25 6 (dk_at dksX0_shift_1 21 rfl rfl)
theorem dX0_shift_47 : decode cX0_shift 47 = .ok (.invokestatic 189, 3) := dk_184 0 189 (dk_at dksX0_shift_2 0 rfl rfl)
theorem dX0_shift_50 : decode cX0_shift 50 = .ok (.iconst (-1), 1) := dk_2 (dk_at dksX0_shift_2 3 rfl rfl)
theorem dX0_shift_51 : decode cX0_shift 51 = .ok (.if_icmp .eq 16, 3) := dk_159 0 16 (dk_at dksX0_shift_2 4 rfl rfl)
theorem dX0_shift_54 : decode cX0_shift 54 = .ok (.aload 6, 2) := dk_25 6 (dk_at dksX0_shift_2 7 rfl rfl)
theorem dX0_shift_56 : decode cX0_shift 56 = .ok (.invokestatic 189, 3) := dk_184 0 189 (dk_at dksX0_shift_2 9 rfl rfl)
theorem dX0_shift_59 : decode cX0_shift 59 = .ok (.aload 7, 2) := dk_25 7 (dk_at dksX0_shift_2 12 rfl rfl)
theorem dX0_shift_61 : decode cX0_shift 61 = .ok (.invokestatic 189, 3) := dk_184 0 189 (dk_at dksX0_shift_2 14 rfl rfl)
theorem dX0_shift_64 : decode cX0_shift 64 = .ok (.if_icmp .eq 6, 3) := dk_159 0 6 (dk_at dksX0_shift_2 17 rfl rfl)
theorem dX0_shift_67 : decode cX0_shift 67 = .ok (.bipush (-12), 2) := dk_16 244 (dk_at dksX0_shift_2 20 rfl rfl)
theorem dX0_shift_69 : decode cX0_shift 69 = .ok (.ireturn, 1) := dk_172 (dk_at dksX0_shift_2 22 rfl rfl)
theorem dX0_shift_70 : decode cX0_shift 70 = .ok (.iload 5, 2) := dk_21 5 (dk_at dksX0_shift_3 0 rfl rfl)
theorem dX0_shift_72 : decode cX0_shift 72 = .ok (.ifCond .lt 37, 3) := dk_155 0 37 (dk_at dksX0_shift_3 2 rfl rfl)
theorem dX0_shift_75 : decode cX0_shift 75 = .ok (.iload_n 2, 1) := dk_28 (dk_at dksX0_shift_3 5 rfl rfl)
theorem dX0_shift_76 : decode cX0_shift 76 = .ok (.ifCond .lt 33, 3) := dk_155 0 33 (dk_at dksX0_shift_3 6 rfl rfl)
theorem dX0_shift_79 : decode cX0_shift 79 = .ok (.iload 4, 2) := dk_21 4 (dk_at dksX0_shift_3 9 rfl rfl)
theorem dX0_shift_81 : decode cX0_shift 81 = .ok (.ifCond .lt 28, 3) := dk_155 0 28 (dk_at dksX0_shift_3 11 rfl rfl)
theorem dX0_shift_84 : decode cX0_shift 84 = .ok (.iload_n 2, 1) := dk_28 (dk_at dksX0_shift_3 14 rfl rfl)
theorem dX0_shift_85 : decode cX0_shift 85 = .ok (.aload 6, 2) := dk_25 6 (dk_at dksX0_shift_3 15 rfl rfl)
theorem dX0_shift_87 : decode cX0_shift 87 = .ok (.invokestatic 557, 3) := dk_184 2 45 (dk_at dksX0_shift_3 17 rfl rfl)
theorem dX0_shift_90 : decode cX0_shift 90 = .ok (.iload 5, 2) := dk_21 5 (dk_at dksX0_shift_3 20 rfl rfl)
theorem dX0_shift_92 : decode cX0_shift 92 = .ok (.isub, 1) := dk_100 (dk_at dksX0_shift_3 22 rfl rfl)
theorem dX0_shift_93 : decode cX0_shift 93 = .ok (.if_icmp .gt 16, 3) := dk_163 0 16 (dk_at dksX0_shift_4 0 rfl rfl)
theorem dX0_shift_96 : decode cX0_shift 96 = .ok (.iload 4, 2) := dk_21 4 (dk_at dksX0_shift_4 3 rfl rfl)
theorem dX0_shift_98 : decode cX0_shift 98 = .ok (.aload 7, 2) := dk_25 7 (dk_at dksX0_shift_4 5 rfl rfl)
theorem dX0_shift_100 : decode cX0_shift 100 = .ok (.invokestatic 557, 3) := dk_184 2 45 (dk_at dksX0_shift_4 7 rfl rfl)
theorem dX0_shift_103 : decode cX0_shift 103 = .ok (.iload 5, 2) := dk_21 5 (dk_at dksX0_shift_4 10 rfl rfl)
theorem dX0_shift_105 : decode cX0_shift 105 = .ok (.isub, 1) := dk_100 (dk_at dksX0_shift_4 12 rfl rfl)
theorem dX0_shift_106 : decode cX0_shift 106 = .ok (.if_icmp .le 6, 3) := dk_164 0 6 (dk_at dksX0_shift_4 13 rfl rfl)
theorem dX0_shift_109 : decode cX0_shift 109 = .ok (.bipush (-13), 2) := dk_16 243 (dk_at dksX0_shift_4 16 rfl rfl)
theorem dX0_shift_111 : decode cX0_shift 111 = .ok (.ireturn, 1) := dk_172 (dk_at dksX0_shift_4 18 rfl rfl)
theorem dX0_shift_112 : decode cX0_shift 112 = .ok (.aload 6, 2) := dk_25 6 (dk_at dksX0_shift_4 19 rfl rfl)
theorem dX0_shift_114 : decode cX0_shift 114 = .ok (.iload_n 2, 1) := dk_28 (dk_at dksX0_shift_4 21 rfl rfl)
theorem dX0_shift_115 : decode cX0_shift 115 = .ok (.aload 7, 2) := dk_25 7 (dk_at dksX0_shift_4 22 rfl rfl)
theorem dX0_shift_117 : decode cX0_shift 117 = .ok (.iload 4, 2) := dk_21 4 (dk_at dksX0_shift_5 0 rfl rfl)
theorem dX0_shift_119 : decode cX0_shift 119 = .ok (.iload 5, 2) := dk_21 5 (dk_at dksX0_shift_5 2 rfl rfl)
theorem dX0_shift_121 : decode cX0_shift 121 = .ok (.invokestatic 442, 3) := dk_184 1 186 (dk_at dksX0_shift_5 4 rfl rfl)
theorem dX0_shift_124 : decode cX0_shift 124 = .ok (.iload 5, 2) := dk_21 5 (dk_at dksX0_shift_5 7 rfl rfl)
theorem dX0_shift_126 : decode cX0_shift 126 = .ok (.ireturn, 1) := dk_172 (dk_at dksX0_shift_5 9 rfl rfl)
abbrev cX0_taken : ByteArray := prog_1_method_107_code
def yX0_taken : MethodName := ⟨RX0, "taken", "(II)I"⟩
def dkwX0_taken_3 : List UInt8 := [172]
abbrev dktX0_taken_3 : List UInt8 := dkwX0_taken_3 ++ []
def dkwX0_taken_2 : List UInt8 := [192, 0, 104, 58, 4, 25, 4, 28, 182, 2, 51, 153, 0, 11, 25, 4, 182, 2, 54, 167, 0, 5, 16, 244]
abbrev dktX0_taken_2 : List UInt8 := dkwX0_taken_2 ++ dktX0_taken_3
def dkwX0_taken_1 : List UInt8 := [180, 0, 113, 27, 50, 78, 45, 199, 0, 6, 16, 245, 172, 45, 193, 0, 104, 154, 0, 6, 16, 244, 172, 45]
abbrev dktX0_taken_1 : List UInt8 := dkwX0_taken_1 ++ dktX0_taken_2
def dkwX0_taken_0 : List UInt8 := [27, 184, 0, 184, 153, 0, 15, 28, 133, 9, 20, 0, 205, 184, 0, 121, 154, 0, 5, 2, 172, 42]
abbrev dktX0_taken_0 : List UInt8 := dkwX0_taken_0 ++ dktX0_taken_1
theorem dksX0_taken_0 : cX0_taken.data.toList.drop 0 = dktX0_taken_0 := by decide +kernel
theorem dksX0_taken_1 : cX0_taken.data.toList.drop 22 = dktX0_taken_1 := dk_seg dksX0_taken_0 22 rfl rfl
theorem dksX0_taken_2 : cX0_taken.data.toList.drop 46 = dktX0_taken_2 := dk_seg dksX0_taken_1 24 rfl rfl
theorem dksX0_taken_3 : cX0_taken.data.toList.drop 70 = dktX0_taken_3 := dk_seg dksX0_taken_2 24 rfl rfl
theorem dX0_taken_0 : decode cX0_taken 0 = .ok (.iload_n 1, 1) := dk_27 (dk_at dksX0_taken_0 0 rfl rfl)
theorem dX0_taken_1 : decode cX0_taken 1 = .ok (.invokestatic 184, 3) := dk_184 0 184 (dk_at dksX0_taken_0 1 rfl rfl)
theorem dX0_taken_4 : decode cX0_taken 4 = .ok (.ifCond .eq 15, 3) := dk_153 0 15 (dk_at dksX0_taken_0 4 rfl rfl)
theorem dX0_taken_7 : decode cX0_taken 7 = .ok (.iload_n 2, 1) := dk_28 (dk_at dksX0_taken_0 7 rfl rfl)
theorem dX0_taken_8 : decode cX0_taken 8 = .ok (.i2l, 1) := dk_133 (dk_at dksX0_taken_0 8 rfl rfl)
theorem dX0_taken_9 : decode cX0_taken 9 = .ok (.lconst 0, 1) := dk_9 (dk_at dksX0_taken_0 9 rfl rfl)
theorem dX0_taken_10 : decode cX0_taken 10 = .ok (.ldc2_w 205, 3) := dk_20 0 205 (dk_at dksX0_taken_0 10 rfl rfl)
theorem dX0_taken_13 : decode cX0_taken 13 = .ok (.invokestatic 121, 3) := dk_184 0 121 (dk_at dksX0_taken_0 13 rfl rfl)
theorem dX0_taken_16 : decode cX0_taken 16 = .ok (.ifCond .ne 5, 3) := dk_154 0 5 (dk_at dksX0_taken_0 16 rfl rfl)
theorem dX0_taken_19 : decode cX0_taken 19 = .ok (.iconst (-1), 1) := dk_2 (dk_at dksX0_taken_0 19 rfl rfl)
theorem dX0_taken_20 : decode cX0_taken 20 = .ok (.ireturn, 1) := dk_172 (dk_at dksX0_taken_0 20 rfl rfl)
theorem dX0_taken_21 : decode cX0_taken 21 = .ok (.aload_n 0, 1) := dk_42 (dk_at dksX0_taken_0 21 rfl rfl)
theorem dX0_taken_22 : decode cX0_taken 22 = .ok (.getfield 113, 3) := dk_180 0 113 (dk_at dksX0_taken_1 0 rfl rfl)
theorem dX0_taken_25 : decode cX0_taken 25 = .ok (.iload_n 1, 1) := dk_27 (dk_at dksX0_taken_1 3 rfl rfl)
theorem dX0_taken_26 : decode cX0_taken 26 = .ok (.aaload, 1) := dk_50 (dk_at dksX0_taken_1 4 rfl rfl)
theorem dX0_taken_27 : decode cX0_taken 27 = .ok (.astore_n 3, 1) := dk_78 (dk_at dksX0_taken_1 5 rfl rfl)
theorem dX0_taken_28 : decode cX0_taken 28 = .ok (.aload_n 3, 1) := dk_45 (dk_at dksX0_taken_1 6 rfl rfl)
theorem dX0_taken_29 : decode cX0_taken 29 = .ok (.ifnonnull 6, 3) := dk_199 0 6 (dk_at dksX0_taken_1 7 rfl rfl)
theorem dX0_taken_32 : decode cX0_taken 32 = .ok (.bipush (-11), 2) := dk_16 245 (dk_at dksX0_taken_1 10 rfl rfl)
theorem dX0_taken_34 : decode cX0_taken 34 = .ok (.ireturn, 1) := dk_172 (dk_at dksX0_taken_1 12 rfl rfl)
theorem dX0_taken_35 : decode cX0_taken 35 = .ok (.aload_n 3, 1) := dk_45 (dk_at dksX0_taken_1 13 rfl rfl)
theorem dX0_taken_36 : decode cX0_taken 36 = .ok (.instanceof 104, 3) := dk_193 0 104 (dk_at dksX0_taken_1 14 rfl rfl)
theorem dX0_taken_39 : decode cX0_taken 39 = .ok (.ifCond .ne 6, 3) := dk_154 0 6 (dk_at dksX0_taken_1 17 rfl rfl)
theorem dX0_taken_42 : decode cX0_taken 42 = .ok (.bipush (-12), 2) := dk_16 244 (dk_at dksX0_taken_1 20 rfl rfl)
theorem dX0_taken_44 : decode cX0_taken 44 = .ok (.ireturn, 1) := dk_172 (dk_at dksX0_taken_1 22 rfl rfl)
theorem dX0_taken_45 : decode cX0_taken 45 = .ok (.aload_n 3, 1) := dk_45 (dk_at dksX0_taken_1 23 rfl rfl)
theorem dX0_taken_46 : decode cX0_taken 46 = .ok (.checkcast 104, 3) := dk_192 0 104 (dk_at dksX0_taken_2 0 rfl rfl)
theorem dX0_taken_49 : decode cX0_taken 49 = .ok (.astore 4, 2) := dk_58 4 (dk_at dksX0_taken_2 3 rfl rfl)
theorem dX0_taken_51 : decode cX0_taken 51 = .ok (.aload 4, 2) := dk_25 4 (dk_at dksX0_taken_2 5 rfl rfl)
theorem dX0_taken_53 : decode cX0_taken 53 = .ok (.iload_n 2, 1) := dk_28 (dk_at dksX0_taken_2 7 rfl rfl)
theorem dX0_taken_54 : decode cX0_taken 54 = .ok (.invokevirtual 563, 3) := dk_182 2 51 (dk_at dksX0_taken_2 8 rfl rfl)
theorem dX0_taken_57 : decode cX0_taken 57 = .ok (.ifCond .eq 11, 3) := dk_153 0 11 (dk_at dksX0_taken_2 11 rfl rfl)
theorem dX0_taken_60 : decode cX0_taken 60 = .ok (.aload 4, 2) := dk_25 4 (dk_at dksX0_taken_2 14 rfl rfl)
theorem dX0_taken_62 : decode cX0_taken 62 = .ok (.invokevirtual 566, 3) := dk_182 2 54 (dk_at dksX0_taken_2 16 rfl rfl)
theorem dX0_taken_65 : decode cX0_taken 65 = .ok (.goto 5, 3) := dk_167 0 5 (dk_at dksX0_taken_2 19 rfl rfl)
theorem dX0_taken_68 : decode cX0_taken 68 = .ok (.bipush (-12), 2) := dk_16 244 (dk_at dksX0_taken_2 22 rfl rfl)
theorem dX0_taken_70 : decode cX0_taken 70 = .ok (.ireturn, 1) := dk_172 (dk_at dksX0_taken_3 0 rfl rfl)
abbrev cX0_count : ByteArray := prog_1_method_108_code
def yX0_count : MethodName := ⟨RX0, "count", "(I)I"⟩
def dkwX0_count_3 : List UInt8 := [172, 42, 180, 2, 21, 172, 2, 172]
abbrev dktX0_count_3 : List UInt8 := dkwX0_count_3 ++ []
def dkwX0_count_2 : List UInt8 := [42, 180, 0, 143, 172, 42, 180, 0, 146, 172, 42, 180, 0, 125, 172, 42, 180, 0, 9, 172, 42, 180, 1, 248]
abbrev dktX0_count_2 : List UInt8 := dkwX0_count_2 ++ dktX0_count_3
def dkwX0_count_1 : List UInt8 := [170, 0, 0, 0, 0, 0, 69, 0, 0, 0, 0, 0, 0, 0, 5, 0, 0, 0, 39, 0, 0, 0, 44, 0, 0, 0, 49, 0, 0, 0, 54, 0, 0, 0, 59, 0, 0, 0, 64]
abbrev dktX0_count_1 : List UInt8 := dkwX0_count_1 ++ dktX0_count_2
def dkwX0_count_0 : List UInt8 := [27]
abbrev dktX0_count_0 : List UInt8 := dkwX0_count_0 ++ dktX0_count_1
theorem dksX0_count_0 : cX0_count.data.toList.drop 0 = dktX0_count_0 := by decide +kernel
theorem dksX0_count_1 : cX0_count.data.toList.drop 1 = dktX0_count_1 := dk_seg dksX0_count_0 1 rfl rfl
theorem dksX0_count_2 : cX0_count.data.toList.drop 40 = dktX0_count_2 := dk_seg dksX0_count_1 39 rfl rfl
theorem dksX0_count_3 : cX0_count.data.toList.drop 64 = dktX0_count_3 := dk_seg dksX0_count_2 24 rfl rfl
theorem dX0_count_0 : decode cX0_count 0 = .ok (.iload_n 1, 1) := dk_27 (dk_at dksX0_count_0 0 rfl rfl)
theorem dX0_count_1 : decode cX0_count 1 = .ok (.tableswitch 69 0 5 #[39, 44, 49, 54, 59, 64], 39) := by decide +kernel
theorem dX0_count_40 : decode cX0_count 40 = .ok (.aload_n 0, 1) := dk_42 (dk_at dksX0_count_2 0 rfl rfl)
theorem dX0_count_41 : decode cX0_count 41 = .ok (.getfield 143, 3) := dk_180 0 143 (dk_at dksX0_count_2 1 rfl rfl)
theorem dX0_count_44 : decode cX0_count 44 = .ok (.ireturn, 1) := dk_172 (dk_at dksX0_count_2 4 rfl rfl)
theorem dX0_count_45 : decode cX0_count 45 = .ok (.aload_n 0, 1) := dk_42 (dk_at dksX0_count_2 5 rfl rfl)
theorem dX0_count_46 : decode cX0_count 46 = .ok (.getfield 146, 3) := dk_180 0 146 (dk_at dksX0_count_2 6 rfl rfl)
theorem dX0_count_49 : decode cX0_count 49 = .ok (.ireturn, 1) := dk_172 (dk_at dksX0_count_2 9 rfl rfl)
theorem dX0_count_50 : decode cX0_count 50 = .ok (.aload_n 0, 1) := dk_42 (dk_at dksX0_count_2 10 rfl rfl)
theorem dX0_count_51 : decode cX0_count 51 = .ok (.getfield 125, 3) := dk_180 0 125 (dk_at dksX0_count_2 11 rfl rfl)
theorem dX0_count_54 : decode cX0_count 54 = .ok (.ireturn, 1) := dk_172 (dk_at dksX0_count_2 14 rfl rfl)
theorem dX0_count_55 : decode cX0_count 55 = .ok (.aload_n 0, 1) := dk_42 (dk_at dksX0_count_2 15 rfl rfl)
theorem dX0_count_56 : decode cX0_count 56 = .ok (.getfield 9, 3) := dk_180 0 9 (dk_at dksX0_count_2 16 rfl rfl)
theorem dX0_count_59 : decode cX0_count 59 = .ok (.ireturn, 1) := dk_172 (dk_at dksX0_count_2 19 rfl rfl)
theorem dX0_count_60 : decode cX0_count 60 = .ok (.aload_n 0, 1) := dk_42 (dk_at dksX0_count_2 20 rfl rfl)
theorem dX0_count_61 : decode cX0_count 61 = .ok (.getfield 504, 3) := dk_180 1 248 (dk_at dksX0_count_2 21 rfl rfl)
theorem dX0_count_64 : decode cX0_count 64 = .ok (.ireturn, 1) := dk_172 (dk_at dksX0_count_3 0 rfl rfl)
theorem dX0_count_65 : decode cX0_count 65 = .ok (.aload_n 0, 1) := dk_42 (dk_at dksX0_count_3 1 rfl rfl)
theorem dX0_count_66 : decode cX0_count 66 = .ok (.getfield 533, 3) := dk_180 2 21 (dk_at dksX0_count_3 2 rfl rfl)
theorem dX0_count_69 : decode cX0_count 69 = .ok (.ireturn, 1) := dk_172 (dk_at dksX0_count_3 5 rfl rfl)
theorem dX0_count_70 : decode cX0_count 70 = .ok (.iconst (-1), 1) := dk_2 (dk_at dksX0_count_3 6 rfl rfl)
theorem dX0_count_71 : decode cX0_count 71 = .ok (.ireturn, 1) := dk_172 (dk_at dksX0_count_3 7 rfl rfl)
theorem q113 : (Jvm.Cond.initialized "NailedByWord") ∈ lw_all := lw_g (lw_at lw_m1 1 rfl) rfl
theorem q141 : (Jvm.Cond.instanceMethod ({ cls := "NailedByWord", name := "undo", desc := "()I" } : Jvm.MethodName)) ∈ lw_all := lw_g (lw_at lw_m1 29 rfl) rfl
theorem q142 : (Jvm.Cond.selects "NailedByWord" ({ cls := "NailedByWord", name := "undo", desc := "()I" } : Jvm.MethodName) ({ cls := "NailedByWord", name := "undo", desc := "()I" } : Jvm.MethodName)) ∈ lw_all := lw_g (lw_at lw_m1 30 rfl) rfl
theorem q143 : (Jvm.Cond.code ({ cls := "NailedByWord", name := "undo", desc := "()I" } : Jvm.MethodName) prog_1_method_6_code (1 : Nat) (Option.some Jvm.ClassFile.FieldType.int)) ∈ lw_all := lw_g (lw_at lw_m1 31 rfl) rfl
theorem q145 : (Jvm.Cond.instanceMethod ({ cls := "NailedByWord", name := "redo", desc := "()I" } : Jvm.MethodName)) ∈ lw_all := lw_g (lw_at lw_m1 33 rfl) rfl
theorem q146 : (Jvm.Cond.selects "NailedByWord" ({ cls := "NailedByWord", name := "redo", desc := "()I" } : Jvm.MethodName) ({ cls := "NailedByWord", name := "redo", desc := "()I" } : Jvm.MethodName)) ∈ lw_all := lw_g (lw_at lw_m1 34 rfl) rfl
theorem q147 : (Jvm.Cond.code ({ cls := "NailedByWord", name := "redo", desc := "()I" } : Jvm.MethodName) prog_1_method_7_code (1 : Nat) (Option.some Jvm.ClassFile.FieldType.int)) ∈ lw_all := lw_g (lw_at lw_m1 35 rfl) rfl
theorem q149 : (Jvm.Cond.instantiable "NailedByWord" (47 : Nat)) ∈ lw_all := lw_g (lw_at lw_m1 37 rfl) rfl
theorem q151 : (Jvm.Cond.instanceMethod ({ cls := "NailedByWord", name := "<init>", desc := "()V" } : Jvm.MethodName)) ∈ lw_all := lw_g (lw_at lw_m1 39 rfl) rfl
theorem q152 : (Jvm.Cond.code ({ cls := "NailedByWord", name := "<init>", desc := "()V" } : Jvm.MethodName) prog_1_method_8_code (2 : Nat) (Option.none : Option Jvm.ClassFile.FieldType)) ∈ lw_all := lw_g (lw_at lw_m1 40 rfl) rfl
theorem q153 : (Jvm.Cond.methodLink "NailedByWord" (31 : Nat) ({ cls := "java/lang/Object", name := "<init>", desc := "()V" } : Jvm.MethodName)) ∈ lw_all := lw_g (lw_at lw_m1 41 rfl) rfl
theorem q156 : (Jvm.Cond.classLink "NailedByWord" (17 : Nat) "NailedByWord$Change") ∈ lw_all := lw_g (lw_at lw_m1 44 rfl) rfl
theorem q158 : (Jvm.Cond.classLink "NailedByWord" (41 : Nat) "NailedByWord$Fault") ∈ lw_all := lw_g (lw_at lw_m1 46 rfl) rfl
theorem q198 : (Jvm.Cond.methodLink "NailedByWord" (43 : Nat) ({ cls := "NailedByWord$Fault", name := "<init>", desc := "()V" } : Jvm.MethodName)) ∈ lw_all := lw_g (lw_at lw_m1 86 rfl) rfl
theorem q224 : (Jvm.Cond.classLink "NailedByWord" (48 : Nat) "NailedByWord$Person") ∈ lw_all := lw_g (lw_at lw_m1 112 rfl) rfl
theorem q226 : (Jvm.Cond.classLink "NailedByWord" (54 : Nat) "NailedByWord$Promise") ∈ lw_all := lw_g (lw_at lw_m1 114 rfl) rfl
theorem q228 : (Jvm.Cond.methodLink "NailedByWord" (60 : Nat) ({ cls := "NailedByWord", name := "heldAt", desc := "(I)LNailedByWord$Held;" } : Jvm.MethodName)) ∈ lw_all := lw_g (lw_at lw_m1 116 rfl) rfl
theorem q229 : (Jvm.Cond.static ({ cls := "NailedByWord", name := "heldAt", desc := "(I)LNailedByWord$Held;" } : Jvm.MethodName)) ∈ lw_all := lw_g (lw_at lw_m1 117 rfl) rfl
theorem q230 : (Jvm.Cond.code ({ cls := "NailedByWord", name := "heldAt", desc := "(I)LNailedByWord$Held;" } : Jvm.MethodName) prog_1_method_9_code (2 : Nat) (Option.some (Jvm.ClassFile.FieldType.object "NailedByWord$Held"))) ∈ lw_all := lw_g (lw_at lw_m1 118 rfl) rfl
theorem q231 : (Jvm.Cond.classLink "NailedByWord" (4 : Nat) "NailedByWord$Held") ∈ lw_all := lw_g (lw_at lw_m1 119 rfl) rfl
theorem q233 : (Jvm.Cond.methodLinkNest "NailedByWord" (118 : Nat) ({ cls := "NailedByWord$Held", name := "<init>", desc := "()V" } : Jvm.MethodName) "NailedByWord") ∈ lw_tbl := lw_at lw_m1 121 rfl
theorem q238 : (Jvm.Cond.fieldLinkNest "NailedByWord" (3 : Nat) "NailedByWord$Held" "v" "I" "NailedByWord") ∈ lw_tbl := lw_at lw_m1 126 rfl
theorem q242 : (Jvm.Cond.classLink "NailedByWord" (70 : Nat) "NailedByWord$Torn") ∈ lw_all := lw_g (lw_at lw_m1 130 rfl) rfl
theorem q251 : (Jvm.Cond.methodLink "NailedByWord" (72 : Nat) ({ cls := "NailedByWord$Torn", name := "<init>", desc := "()V" } : Jvm.MethodName)) ∈ lw_all := lw_g (lw_at lw_m1 139 rfl) rfl
theorem q257 : (Jvm.Cond.classLink "NailedByWord" (104 : Nat) "NailedByWord$Body") ∈ lw_all := lw_g (lw_at lw_m1 145 rfl) rfl
theorem q259 : (Jvm.Cond.classLink "NailedByWord" (32 : Nat) "java/lang/Object") ∈ lw_all := lw_g (lw_at lw_m1 147 rfl) rfl
theorem q262 : (Jvm.Cond.methodLinkNest "NailedByWord" (117 : Nat) ({ cls := "NailedByWord$Change", name := "<init>", desc := "()V" } : Jvm.MethodName) "NailedByWord") ∈ lw_tbl := lw_at lw_m1 150 rfl
theorem q266 : (Jvm.Cond.fieldLinkNest "NailedByWord" (16 : Nat) "NailedByWord$Change" "of" "LNailedByWord$Held;" "NailedByWord") ∈ lw_tbl := lw_at lw_m1 154 rfl
theorem q267 : (Jvm.Cond.fieldLinkNest "NailedByWord" (22 : Nat) "NailedByWord$Change" "was" "I" "NailedByWord") ∈ lw_tbl := lw_at lw_m1 155 rfl
theorem q268 : (Jvm.Cond.fieldLinkNest "NailedByWord" (25 : Nat) "NailedByWord$Change" "is" "I" "NailedByWord") ∈ lw_tbl := lw_at lw_m1 156 rfl
theorem q276 : (Jvm.Cond.fieldLink "NailedByWord" (12 : Nat) "NailedByWord" "changes" "[LNailedByWord$Change;") ∈ lw_all := lw_g (lw_at lw_m1 164 rfl) rfl
theorem q277 : (Jvm.Cond.fieldLink "NailedByWord" (28 : Nat) "NailedByWord" "changeMany" "I") ∈ lw_all := lw_g (lw_at lw_m1 165 rfl) rfl
theorem q278 : (Jvm.Cond.fieldLink "NailedByWord" (9 : Nat) "NailedByWord" "done" "I") ∈ lw_all := lw_g (lw_at lw_m1 166 rfl) rfl
theorem q279 : (Jvm.Cond.fieldLink "NailedByWord" (37 : Nat) "NailedByWord" "tape" "[I") ∈ lw_all := lw_g (lw_at lw_m1 167 rfl) rfl
theorem q280 : (Jvm.Cond.fieldLink "NailedByWord" (125 : Nat) "NailedByWord" "length" "I") ∈ lw_all := lw_g (lw_at lw_m1 168 rfl) rfl
theorem q281 : (Jvm.Cond.fieldLink "NailedByWord" (44 : Nat) "NailedByWord" "fault" "LNailedByWord$Fault;") ∈ lw_all := lw_g (lw_at lw_m1 169 rfl) rfl
theorem q282 : (Jvm.Cond.fieldLink "NailedByWord" (128 : Nat) "NailedByWord" "at" "I") ∈ lw_all := lw_g (lw_at lw_m1 170 rfl) rfl
theorem q283 : (Jvm.Cond.fieldLink "NailedByWord" (50 : Nat) "NailedByWord" "people" "[LNailedByWord$Person;") ∈ lw_all := lw_g (lw_at lw_m1 171 rfl) rfl
theorem q284 : (Jvm.Cond.fieldLink "NailedByWord" (143 : Nat) "NailedByWord" "personMany" "I") ∈ lw_all := lw_g (lw_at lw_m1 172 rfl) rfl
theorem q285 : (Jvm.Cond.fieldLink "NailedByWord" (56 : Nat) "NailedByWord" "promises" "[LNailedByWord$Promise;") ∈ lw_all := lw_g (lw_at lw_m1 173 rfl) rfl
theorem q286 : (Jvm.Cond.fieldLink "NailedByWord" (146 : Nat) "NailedByWord" "promiseMany" "I") ∈ lw_all := lw_g (lw_at lw_m1 174 rfl) rfl
theorem q287 : (Jvm.Cond.fieldLink "NailedByWord" (64 : Nat) "NailedByWord" "holds" "LNailedByWord$Held;") ∈ lw_all := lw_g (lw_at lw_m1 175 rfl) rfl
theorem q288 : (Jvm.Cond.fieldLink "NailedByWord" (67 : Nat) "NailedByWord" "today" "LNailedByWord$Held;") ∈ lw_all := lw_g (lw_at lw_m1 176 rfl) rfl
theorem q289 : (Jvm.Cond.fieldLink "NailedByWord" (73 : Nat) "NailedByWord" "torn" "LNailedByWord$Torn;") ∈ lw_all := lw_g (lw_at lw_m1 177 rfl) rfl
theorem q291 : (Jvm.Cond.fieldLink "NailedByWord" (77 : Nat) "NailedByWord" "names" "[I") ∈ lw_all := lw_g (lw_at lw_m1 179 rfl) rfl
theorem q292 : (Jvm.Cond.fieldLink "NailedByWord" (251 : Nat) "NailedByWord" "opened" "I") ∈ lw_all := lw_g (lw_at lw_m1 180 rfl) rfl
theorem q293 : (Jvm.Cond.fieldLink "NailedByWord" (307 : Nat) "NailedByWord" "holding" "LNailedByWord$Line;") ∈ lw_all := lw_g (lw_at lw_m1 181 rfl) rfl
theorem q294 : (Jvm.Cond.fieldLink "NailedByWord" (315 : Nat) "NailedByWord" "goneSet" "I") ∈ lw_all := lw_g (lw_at lw_m1 182 rfl) rfl
theorem q295 : (Jvm.Cond.fieldLink "NailedByWord" (318 : Nat) "NailedByWord" "forgotSet" "I") ∈ lw_all := lw_g (lw_at lw_m1 183 rfl) rfl
theorem q296 : (Jvm.Cond.fieldLink "NailedByWord" (80 : Nat) "NailedByWord" "bootsOf" "[I") ∈ lw_all := lw_g (lw_at lw_m1 184 rfl) rfl
theorem q297 : (Jvm.Cond.fieldLink "NailedByWord" (362 : Nat) "NailedByWord" "placeThen" "I") ∈ lw_all := lw_g (lw_at lw_m1 185 rfl) rfl
theorem q298 : (Jvm.Cond.fieldLink "NailedByWord" (365 : Nat) "NailedByWord" "dayThen" "I") ∈ lw_all := lw_g (lw_at lw_m1 186 rfl) rfl
theorem q299 : (Jvm.Cond.fieldLink "NailedByWord" (368 : Nat) "NailedByWord" "heldDays" "I") ∈ lw_all := lw_g (lw_at lw_m1 187 rfl) rfl
theorem q300 : (Jvm.Cond.fieldLink "NailedByWord" (371 : Nat) "NailedByWord" "keptSet" "I") ∈ lw_all := lw_g (lw_at lw_m1 188 rfl) rfl
theorem q301 : (Jvm.Cond.fieldLink "NailedByWord" (83 : Nat) "NailedByWord" "holdersOf" "[I") ∈ lw_all := lw_g (lw_at lw_m1 189 rfl) rfl
theorem q302 : (Jvm.Cond.fieldLink "NailedByWord" (86 : Nat) "NailedByWord" "walked" "[I") ∈ lw_all := lw_g (lw_at lw_m1 190 rfl) rfl
theorem q303 : (Jvm.Cond.fieldLink "NailedByWord" (89 : Nat) "NailedByWord" "bestWalk" "[I") ∈ lw_all := lw_g (lw_at lw_m1 191 rfl) rfl
theorem q304 : (Jvm.Cond.fieldLink "NailedByWord" (439 : Nat) "NailedByWord" "walkMany" "I") ∈ lw_all := lw_g (lw_at lw_m1 192 rfl) rfl
theorem q305 : (Jvm.Cond.fieldLink "NailedByWord" (436 : Nat) "NailedByWord" "leastWay" "I") ∈ lw_all := lw_g (lw_at lw_m1 193 rfl) rfl
theorem q306 : (Jvm.Cond.fieldLink "NailedByWord" (466 : Nat) "NailedByWord" "man" "I") ∈ lw_all := lw_g (lw_at lw_m1 194 rfl) rfl
theorem q307 : (Jvm.Cond.fieldLink "NailedByWord" (463 : Nat) "NailedByWord" "child" "I") ∈ lw_all := lw_g (lw_at lw_m1 195 rfl) rfl
theorem q308 : (Jvm.Cond.fieldLink "NailedByWord" (473 : Nat) "NailedByWord" "goal" "I") ∈ lw_all := lw_g (lw_at lw_m1 196 rfl) rfl
theorem q309 : (Jvm.Cond.fieldLink "NailedByWord" (92 : Nat) "NailedByWord" "ledNow" "[I") ∈ lw_all := lw_g (lw_at lw_m1 197 rfl) rfl
theorem q310 : (Jvm.Cond.fieldLink "NailedByWord" (485 : Nat) "NailedByWord" "isKept" "Z") ∈ lw_all := lw_g (lw_at lw_m1 198 rfl) rfl
theorem q311 : (Jvm.Cond.fieldLink "NailedByWord" (489 : Nat) "NailedByWord" "imagePeople" "I") ∈ lw_all := lw_g (lw_at lw_m1 199 rfl) rfl
theorem q312 : (Jvm.Cond.fieldLink "NailedByWord" (492 : Nat) "NailedByWord" "imagePromises" "I") ∈ lw_all := lw_g (lw_at lw_m1 200 rfl) rfl
theorem q313 : (Jvm.Cond.fieldLink "NailedByWord" (495 : Nat) "NailedByWord" "imageDay" "I") ∈ lw_all := lw_g (lw_at lw_m1 201 rfl) rfl
theorem q314 : (Jvm.Cond.fieldLink "NailedByWord" (95 : Nat) "NailedByWord" "imagePlace" "[I") ∈ lw_all := lw_g (lw_at lw_m1 202 rfl) rfl
theorem q315 : (Jvm.Cond.fieldLink "NailedByWord" (98 : Nat) "NailedByWord" "imageBoots" "[I") ∈ lw_all := lw_g (lw_at lw_m1 203 rfl) rfl
theorem q316 : (Jvm.Cond.fieldLink "NailedByWord" (498 : Nat) "NailedByWord" "imageForgot" "I") ∈ lw_all := lw_g (lw_at lw_m1 204 rfl) rfl
theorem q317 : (Jvm.Cond.fieldLink "NailedByWord" (501 : Nat) "NailedByWord" "imageGone" "I") ∈ lw_all := lw_g (lw_at lw_m1 205 rfl) rfl
theorem q318 : (Jvm.Cond.fieldLink "NailedByWord" (101 : Nat) "NailedByWord" "imageLed" "[I") ∈ lw_all := lw_g (lw_at lw_m1 206 rfl) rfl
theorem q319 : (Jvm.Cond.fieldLink "NailedByWord" (106 : Nat) "NailedByWord" "bodies" "[LNailedByWord$Body;") ∈ lw_all := lw_g (lw_at lw_m1 207 rfl) rfl
theorem q320 : (Jvm.Cond.fieldLink "NailedByWord" (504 : Nat) "NailedByWord" "bodyMany" "I") ∈ lw_all := lw_g (lw_at lw_m1 208 rfl) rfl
theorem q322 : (Jvm.Cond.fieldLink "NailedByWord" (110 : Nat) "NailedByWord" "trace" "[I") ∈ lw_all := lw_g (lw_at lw_m1 210 rfl) rfl
theorem q324 : (Jvm.Cond.fieldLink "NailedByWord" (533 : Nat) "NailedByWord" "ran" "I") ∈ lw_all := lw_g (lw_at lw_m1 212 rfl) rfl
theorem q325 : (Jvm.Cond.fieldLink "NailedByWord" (113 : Nat) "NailedByWord" "shelves" "[Ljava/lang/Object;") ∈ lw_all := lw_g (lw_at lw_m1 213 rfl) rfl
theorem q326 : (Jvm.Cond.laysFinal "NailedByWord" "NailedByWord" "changes" "[LNailedByWord$Change;") ∈ lw_all := lw_g (lw_at lw_m1 214 rfl) rfl
theorem q327 : (Jvm.Cond.soleField "NailedByWord" "changes") ∈ lw_all := lw_g (lw_at lw_m1 215 rfl) rfl
theorem q328 : (Jvm.Cond.lays "NailedByWord" "NailedByWord" "changeMany" "I") ∈ lw_all := lw_g (lw_at lw_m1 216 rfl) rfl
theorem q329 : (Jvm.Cond.soleField "NailedByWord" "changeMany") ∈ lw_all := lw_g (lw_at lw_m1 217 rfl) rfl
theorem q330 : (Jvm.Cond.lays "NailedByWord" "NailedByWord" "done" "I") ∈ lw_all := lw_g (lw_at lw_m1 218 rfl) rfl
theorem q331 : (Jvm.Cond.soleField "NailedByWord" "done") ∈ lw_all := lw_g (lw_at lw_m1 219 rfl) rfl
theorem q332 : (Jvm.Cond.laysFinal "NailedByWord" "NailedByWord" "tape" "[I") ∈ lw_all := lw_g (lw_at lw_m1 220 rfl) rfl
theorem q333 : (Jvm.Cond.soleField "NailedByWord" "tape") ∈ lw_all := lw_g (lw_at lw_m1 221 rfl) rfl
theorem q334 : (Jvm.Cond.lays "NailedByWord" "NailedByWord" "length" "I") ∈ lw_all := lw_g (lw_at lw_m1 222 rfl) rfl
theorem q335 : (Jvm.Cond.soleField "NailedByWord" "length") ∈ lw_all := lw_g (lw_at lw_m1 223 rfl) rfl
theorem q336 : (Jvm.Cond.laysFinal "NailedByWord" "NailedByWord" "fault" "LNailedByWord$Fault;") ∈ lw_all := lw_g (lw_at lw_m1 224 rfl) rfl
theorem q337 : (Jvm.Cond.soleField "NailedByWord" "fault") ∈ lw_all := lw_g (lw_at lw_m1 225 rfl) rfl
theorem q338 : (Jvm.Cond.lays "NailedByWord" "NailedByWord" "at" "I") ∈ lw_all := lw_g (lw_at lw_m1 226 rfl) rfl
theorem q339 : (Jvm.Cond.soleField "NailedByWord" "at") ∈ lw_all := lw_g (lw_at lw_m1 227 rfl) rfl
theorem q340 : (Jvm.Cond.laysFinal "NailedByWord" "NailedByWord" "people" "[LNailedByWord$Person;") ∈ lw_all := lw_g (lw_at lw_m1 228 rfl) rfl
theorem q341 : (Jvm.Cond.soleField "NailedByWord" "people") ∈ lw_all := lw_g (lw_at lw_m1 229 rfl) rfl
theorem q342 : (Jvm.Cond.lays "NailedByWord" "NailedByWord" "personMany" "I") ∈ lw_all := lw_g (lw_at lw_m1 230 rfl) rfl
theorem q343 : (Jvm.Cond.soleField "NailedByWord" "personMany") ∈ lw_all := lw_g (lw_at lw_m1 231 rfl) rfl
theorem q344 : (Jvm.Cond.laysFinal "NailedByWord" "NailedByWord" "promises" "[LNailedByWord$Promise;") ∈ lw_all := lw_g (lw_at lw_m1 232 rfl) rfl
theorem q345 : (Jvm.Cond.soleField "NailedByWord" "promises") ∈ lw_all := lw_g (lw_at lw_m1 233 rfl) rfl
theorem q346 : (Jvm.Cond.lays "NailedByWord" "NailedByWord" "promiseMany" "I") ∈ lw_all := lw_g (lw_at lw_m1 234 rfl) rfl
theorem q347 : (Jvm.Cond.soleField "NailedByWord" "promiseMany") ∈ lw_all := lw_g (lw_at lw_m1 235 rfl) rfl
theorem q348 : (Jvm.Cond.laysFinal "NailedByWord" "NailedByWord" "holds" "LNailedByWord$Held;") ∈ lw_all := lw_g (lw_at lw_m1 236 rfl) rfl
theorem q349 : (Jvm.Cond.soleField "NailedByWord" "holds") ∈ lw_all := lw_g (lw_at lw_m1 237 rfl) rfl
theorem q350 : (Jvm.Cond.laysFinal "NailedByWord" "NailedByWord" "today" "LNailedByWord$Held;") ∈ lw_all := lw_g (lw_at lw_m1 238 rfl) rfl
theorem q351 : (Jvm.Cond.soleField "NailedByWord" "today") ∈ lw_all := lw_g (lw_at lw_m1 239 rfl) rfl
theorem q352 : (Jvm.Cond.laysFinal "NailedByWord" "NailedByWord" "torn" "LNailedByWord$Torn;") ∈ lw_all := lw_g (lw_at lw_m2 0 rfl) rfl
theorem q353 : (Jvm.Cond.soleField "NailedByWord" "torn") ∈ lw_all := lw_g (lw_at lw_m2 1 rfl) rfl
theorem q354 : (Jvm.Cond.laysFinal "NailedByWord" "NailedByWord" "names" "[I") ∈ lw_all := lw_g (lw_at lw_m2 2 rfl) rfl
theorem q355 : (Jvm.Cond.soleField "NailedByWord" "names") ∈ lw_all := lw_g (lw_at lw_m2 3 rfl) rfl
theorem q356 : (Jvm.Cond.lays "NailedByWord" "NailedByWord" "opened" "I") ∈ lw_all := lw_g (lw_at lw_m2 4 rfl) rfl
theorem q357 : (Jvm.Cond.soleField "NailedByWord" "opened") ∈ lw_all := lw_g (lw_at lw_m2 5 rfl) rfl
theorem q358 : (Jvm.Cond.lays "NailedByWord" "NailedByWord" "holding" "LNailedByWord$Line;") ∈ lw_all := lw_g (lw_at lw_m2 6 rfl) rfl
theorem q359 : (Jvm.Cond.soleField "NailedByWord" "holding") ∈ lw_all := lw_g (lw_at lw_m2 7 rfl) rfl
theorem q360 : (Jvm.Cond.lays "NailedByWord" "NailedByWord" "goneSet" "I") ∈ lw_all := lw_g (lw_at lw_m2 8 rfl) rfl
theorem q361 : (Jvm.Cond.soleField "NailedByWord" "goneSet") ∈ lw_all := lw_g (lw_at lw_m2 9 rfl) rfl
theorem q362 : (Jvm.Cond.lays "NailedByWord" "NailedByWord" "forgotSet" "I") ∈ lw_all := lw_g (lw_at lw_m2 10 rfl) rfl
theorem q363 : (Jvm.Cond.soleField "NailedByWord" "forgotSet") ∈ lw_all := lw_g (lw_at lw_m2 11 rfl) rfl
theorem q364 : (Jvm.Cond.laysFinal "NailedByWord" "NailedByWord" "bootsOf" "[I") ∈ lw_all := lw_g (lw_at lw_m2 12 rfl) rfl
theorem q365 : (Jvm.Cond.soleField "NailedByWord" "bootsOf") ∈ lw_all := lw_g (lw_at lw_m2 13 rfl) rfl
theorem q366 : (Jvm.Cond.lays "NailedByWord" "NailedByWord" "placeThen" "I") ∈ lw_all := lw_g (lw_at lw_m2 14 rfl) rfl
theorem q367 : (Jvm.Cond.soleField "NailedByWord" "placeThen") ∈ lw_all := lw_g (lw_at lw_m2 15 rfl) rfl
theorem q368 : (Jvm.Cond.lays "NailedByWord" "NailedByWord" "dayThen" "I") ∈ lw_all := lw_g (lw_at lw_m2 16 rfl) rfl
theorem q369 : (Jvm.Cond.soleField "NailedByWord" "dayThen") ∈ lw_all := lw_g (lw_at lw_m2 17 rfl) rfl
theorem q370 : (Jvm.Cond.lays "NailedByWord" "NailedByWord" "heldDays" "I") ∈ lw_all := lw_g (lw_at lw_m2 18 rfl) rfl
theorem q371 : (Jvm.Cond.soleField "NailedByWord" "heldDays") ∈ lw_all := lw_g (lw_at lw_m2 19 rfl) rfl
theorem q372 : (Jvm.Cond.lays "NailedByWord" "NailedByWord" "keptSet" "I") ∈ lw_all := lw_g (lw_at lw_m2 20 rfl) rfl
theorem q373 : (Jvm.Cond.soleField "NailedByWord" "keptSet") ∈ lw_all := lw_g (lw_at lw_m2 21 rfl) rfl
theorem q374 : (Jvm.Cond.laysFinal "NailedByWord" "NailedByWord" "holdersOf" "[I") ∈ lw_all := lw_g (lw_at lw_m2 22 rfl) rfl
theorem q375 : (Jvm.Cond.soleField "NailedByWord" "holdersOf") ∈ lw_all := lw_g (lw_at lw_m2 23 rfl) rfl
theorem q376 : (Jvm.Cond.laysFinal "NailedByWord" "NailedByWord" "walked" "[I") ∈ lw_all := lw_g (lw_at lw_m2 24 rfl) rfl
theorem q377 : (Jvm.Cond.soleField "NailedByWord" "walked") ∈ lw_all := lw_g (lw_at lw_m2 25 rfl) rfl
theorem q378 : (Jvm.Cond.laysFinal "NailedByWord" "NailedByWord" "bestWalk" "[I") ∈ lw_all := lw_g (lw_at lw_m2 26 rfl) rfl
theorem q379 : (Jvm.Cond.soleField "NailedByWord" "bestWalk") ∈ lw_all := lw_g (lw_at lw_m2 27 rfl) rfl
theorem q380 : (Jvm.Cond.lays "NailedByWord" "NailedByWord" "walkMany" "I") ∈ lw_all := lw_g (lw_at lw_m2 28 rfl) rfl
theorem q381 : (Jvm.Cond.soleField "NailedByWord" "walkMany") ∈ lw_all := lw_g (lw_at lw_m2 29 rfl) rfl
theorem q382 : (Jvm.Cond.lays "NailedByWord" "NailedByWord" "leastWay" "I") ∈ lw_all := lw_g (lw_at lw_m2 30 rfl) rfl
theorem q383 : (Jvm.Cond.soleField "NailedByWord" "leastWay") ∈ lw_all := lw_g (lw_at lw_m2 31 rfl) rfl
theorem q384 : (Jvm.Cond.lays "NailedByWord" "NailedByWord" "man" "I") ∈ lw_all := lw_g (lw_at lw_m2 32 rfl) rfl
theorem q385 : (Jvm.Cond.soleField "NailedByWord" "man") ∈ lw_all := lw_g (lw_at lw_m2 33 rfl) rfl
theorem q386 : (Jvm.Cond.lays "NailedByWord" "NailedByWord" "child" "I") ∈ lw_all := lw_g (lw_at lw_m2 34 rfl) rfl
theorem q387 : (Jvm.Cond.soleField "NailedByWord" "child") ∈ lw_all := lw_g (lw_at lw_m2 35 rfl) rfl
theorem q388 : (Jvm.Cond.lays "NailedByWord" "NailedByWord" "goal" "I") ∈ lw_all := lw_g (lw_at lw_m2 36 rfl) rfl
theorem q389 : (Jvm.Cond.soleField "NailedByWord" "goal") ∈ lw_all := lw_g (lw_at lw_m2 37 rfl) rfl
theorem q390 : (Jvm.Cond.laysFinal "NailedByWord" "NailedByWord" "ledNow" "[I") ∈ lw_all := lw_g (lw_at lw_m2 38 rfl) rfl
theorem q391 : (Jvm.Cond.soleField "NailedByWord" "ledNow") ∈ lw_all := lw_g (lw_at lw_m2 39 rfl) rfl
theorem q392 : (Jvm.Cond.lays "NailedByWord" "NailedByWord" "isKept" "Z") ∈ lw_all := lw_g (lw_at lw_m2 40 rfl) rfl
theorem q393 : (Jvm.Cond.soleField "NailedByWord" "isKept") ∈ lw_all := lw_g (lw_at lw_m2 41 rfl) rfl
theorem q394 : (Jvm.Cond.lays "NailedByWord" "NailedByWord" "imagePeople" "I") ∈ lw_all := lw_g (lw_at lw_m2 42 rfl) rfl
theorem q395 : (Jvm.Cond.soleField "NailedByWord" "imagePeople") ∈ lw_all := lw_g (lw_at lw_m2 43 rfl) rfl
theorem q396 : (Jvm.Cond.lays "NailedByWord" "NailedByWord" "imagePromises" "I") ∈ lw_all := lw_g (lw_at lw_m2 44 rfl) rfl
theorem q397 : (Jvm.Cond.soleField "NailedByWord" "imagePromises") ∈ lw_all := lw_g (lw_at lw_m2 45 rfl) rfl
theorem q398 : (Jvm.Cond.lays "NailedByWord" "NailedByWord" "imageDay" "I") ∈ lw_all := lw_g (lw_at lw_m2 46 rfl) rfl
theorem q399 : (Jvm.Cond.soleField "NailedByWord" "imageDay") ∈ lw_all := lw_g (lw_at lw_m2 47 rfl) rfl
theorem q400 : (Jvm.Cond.laysFinal "NailedByWord" "NailedByWord" "imagePlace" "[I") ∈ lw_all := lw_g (lw_at lw_m2 48 rfl) rfl
theorem q401 : (Jvm.Cond.soleField "NailedByWord" "imagePlace") ∈ lw_all := lw_g (lw_at lw_m2 49 rfl) rfl
theorem q402 : (Jvm.Cond.laysFinal "NailedByWord" "NailedByWord" "imageBoots" "[I") ∈ lw_all := lw_g (lw_at lw_m2 50 rfl) rfl
theorem q403 : (Jvm.Cond.soleField "NailedByWord" "imageBoots") ∈ lw_all := lw_g (lw_at lw_m2 51 rfl) rfl
theorem q404 : (Jvm.Cond.lays "NailedByWord" "NailedByWord" "imageForgot" "I") ∈ lw_all := lw_g (lw_at lw_m2 52 rfl) rfl
theorem q405 : (Jvm.Cond.soleField "NailedByWord" "imageForgot") ∈ lw_all := lw_g (lw_at lw_m2 53 rfl) rfl
theorem q406 : (Jvm.Cond.lays "NailedByWord" "NailedByWord" "imageGone" "I") ∈ lw_all := lw_g (lw_at lw_m2 54 rfl) rfl
theorem q407 : (Jvm.Cond.soleField "NailedByWord" "imageGone") ∈ lw_all := lw_g (lw_at lw_m2 55 rfl) rfl
theorem q408 : (Jvm.Cond.laysFinal "NailedByWord" "NailedByWord" "imageLed" "[I") ∈ lw_all := lw_g (lw_at lw_m2 56 rfl) rfl
theorem q409 : (Jvm.Cond.soleField "NailedByWord" "imageLed") ∈ lw_all := lw_g (lw_at lw_m2 57 rfl) rfl
theorem q410 : (Jvm.Cond.laysFinal "NailedByWord" "NailedByWord" "bodies" "[LNailedByWord$Body;") ∈ lw_all := lw_g (lw_at lw_m2 58 rfl) rfl
theorem q411 : (Jvm.Cond.soleField "NailedByWord" "bodies") ∈ lw_all := lw_g (lw_at lw_m2 59 rfl) rfl
theorem q412 : (Jvm.Cond.lays "NailedByWord" "NailedByWord" "bodyMany" "I") ∈ lw_all := lw_g (lw_at lw_m2 60 rfl) rfl
theorem q413 : (Jvm.Cond.soleField "NailedByWord" "bodyMany") ∈ lw_all := lw_g (lw_at lw_m2 61 rfl) rfl
theorem q414 : (Jvm.Cond.laysFinal "NailedByWord" "NailedByWord" "trace" "[I") ∈ lw_all := lw_g (lw_at lw_m2 62 rfl) rfl
theorem q415 : (Jvm.Cond.soleField "NailedByWord" "trace") ∈ lw_all := lw_g (lw_at lw_m2 63 rfl) rfl
theorem q416 : (Jvm.Cond.lays "NailedByWord" "NailedByWord" "ran" "I") ∈ lw_all := lw_g (lw_at lw_m2 64 rfl) rfl
theorem q417 : (Jvm.Cond.soleField "NailedByWord" "ran") ∈ lw_all := lw_g (lw_at lw_m2 65 rfl) rfl
theorem q418 : (Jvm.Cond.laysFinal "NailedByWord" "NailedByWord" "shelves" "[Ljava/lang/Object;") ∈ lw_all := lw_g (lw_at lw_m2 66 rfl) rfl
theorem q419 : (Jvm.Cond.soleField "NailedByWord" "shelves") ∈ lw_all := lw_g (lw_at lw_m2 67 rfl) rfl
theorem q420 : (Jvm.Cond.superclass "NailedByWord" "java/lang/Object") ∈ lw_all := lw_g (lw_at lw_m2 68 rfl) rfl
theorem q422 : (Jvm.Cond.instanceMethod ({ cls := "NailedByWord", name := "feed", desc := "(I)I" } : Jvm.MethodName)) ∈ lw_all := lw_g (lw_at lw_m2 70 rfl) rfl
theorem q423 : (Jvm.Cond.selects "NailedByWord" ({ cls := "NailedByWord", name := "feed", desc := "(I)I" } : Jvm.MethodName) ({ cls := "NailedByWord", name := "feed", desc := "(I)I" } : Jvm.MethodName)) ∈ lw_all := lw_g (lw_at lw_m2 71 rfl) rfl
theorem q424 : (Jvm.Cond.code ({ cls := "NailedByWord", name := "feed", desc := "(I)I" } : Jvm.MethodName) prog_1_method_10_code (2 : Nat) (Option.some Jvm.ClassFile.FieldType.int)) ∈ lw_all := lw_g (lw_at lw_m2 72 rfl) rfl
theorem q425 : (Jvm.Cond.constantLong "NailedByWord" (119 : Nat) (255 : Int64)) ∈ lw_all := lw_g (lw_at lw_m2 73 rfl) rfl
theorem q426 : (Jvm.Cond.methodLink "NailedByWord" (121 : Nat) ({ cls := "NailedByWord", name := "within", desc := "(JJJ)Z" } : Jvm.MethodName)) ∈ lw_all := lw_g (lw_at lw_m2 74 rfl) rfl
theorem q427 : (Jvm.Cond.static ({ cls := "NailedByWord", name := "within", desc := "(JJJ)Z" } : Jvm.MethodName)) ∈ lw_all := lw_g (lw_at lw_m2 75 rfl) rfl
theorem q428 : (Jvm.Cond.code ({ cls := "NailedByWord", name := "within", desc := "(JJJ)Z" } : Jvm.MethodName) prog_1_method_1_code (6 : Nat) (Option.some Jvm.ClassFile.FieldType.boolean)) ∈ lw_all := lw_g (lw_at lw_m2 76 rfl) rfl
theorem q430 : (Jvm.Cond.instanceMethod ({ cls := "NailedByWord", name := "person", desc := "(I)I" } : Jvm.MethodName)) ∈ lw_all := lw_g (lw_at lw_m2 78 rfl) rfl
theorem q431 : (Jvm.Cond.selects "NailedByWord" ({ cls := "NailedByWord", name := "person", desc := "(I)I" } : Jvm.MethodName) ({ cls := "NailedByWord", name := "person", desc := "(I)I" } : Jvm.MethodName)) ∈ lw_all := lw_g (lw_at lw_m2 79 rfl) rfl
theorem q432 : (Jvm.Cond.code ({ cls := "NailedByWord", name := "person", desc := "(I)I" } : Jvm.MethodName) prog_1_method_19_code (2 : Nat) (Option.some Jvm.ClassFile.FieldType.int)) ∈ lw_all := lw_g (lw_at lw_m2 80 rfl) rfl
theorem q433 : (Jvm.Cond.methodLink "NailedByWord" (153 : Nat) ({ cls := "NailedByWord", name := "isPlace", desc := "(J)Z" } : Jvm.MethodName)) ∈ lw_all := lw_g (lw_at lw_m2 81 rfl) rfl
theorem q434 : (Jvm.Cond.static ({ cls := "NailedByWord", name := "isPlace", desc := "(J)Z" } : Jvm.MethodName)) ∈ lw_all := lw_g (lw_at lw_m2 82 rfl) rfl
theorem q435 : (Jvm.Cond.code ({ cls := "NailedByWord", name := "isPlace", desc := "(J)Z" } : Jvm.MethodName) prog_1_method_17_code (2 : Nat) (Option.some Jvm.ClassFile.FieldType.boolean)) ∈ lw_all := lw_g (lw_at lw_m2 83 rfl) rfl
theorem q436 : (Jvm.Cond.constantLong "NailedByWord" (149 : Nat) (24 : Int64)) ∈ lw_all := lw_g (lw_at lw_m2 84 rfl) rfl
theorem q438 : (Jvm.Cond.methodLink "NailedByWord" (157 : Nat) ({ cls := "NailedByWord$Person", name := "<init>", desc := "(I)V" } : Jvm.MethodName)) ∈ lw_all := lw_g (lw_at lw_m2 86 rfl) rfl
theorem q444 : (Jvm.Cond.fieldLinkNest "NailedByWord" (171 : Nat) "NailedByWord$Person" "place" "LNailedByWord$Held;" "NailedByWord") ∈ lw_tbl := lw_at lw_m2 92 rfl
theorem q446 : (Jvm.Cond.fieldLinkNest "NailedByWord" (214 : Nat) "NailedByWord$Person" "boots" "LNailedByWord$Held;" "NailedByWord") ∈ lw_tbl := lw_at lw_m2 94 rfl
theorem q453 : (Jvm.Cond.instanceMethod ({ cls := "NailedByWord", name := "promise", desc := "(II)I" } : Jvm.MethodName)) ∈ lw_all := lw_g (lw_at lw_m2 101 rfl) rfl
theorem q454 : (Jvm.Cond.selects "NailedByWord" ({ cls := "NailedByWord", name := "promise", desc := "(II)I" } : Jvm.MethodName) ({ cls := "NailedByWord", name := "promise", desc := "(II)I" } : Jvm.MethodName)) ∈ lw_all := lw_g (lw_at lw_m2 102 rfl) rfl
theorem q455 : (Jvm.Cond.code ({ cls := "NailedByWord", name := "promise", desc := "(II)I" } : Jvm.MethodName) prog_1_method_22_code (3 : Nat) (Option.some Jvm.ClassFile.FieldType.int)) ∈ lw_all := lw_g (lw_at lw_m2 103 rfl) rfl
theorem q456 : (Jvm.Cond.methodLink "NailedByWord" (160 : Nat) ({ cls := "NailedByWord", name := "isOne", desc := "(J)Z" } : Jvm.MethodName)) ∈ lw_all := lw_g (lw_at lw_m2 104 rfl) rfl
theorem q457 : (Jvm.Cond.privateMethod ({ cls := "NailedByWord", name := "isOne", desc := "(J)Z" } : Jvm.MethodName)) ∈ lw_tbl := lw_at lw_m2 105 rfl
theorem q458 : (Jvm.Cond.instanceMethod ({ cls := "NailedByWord", name := "isOne", desc := "(J)Z" } : Jvm.MethodName)) ∈ lw_all := lw_g (lw_at lw_m2 106 rfl) rfl
theorem q459 : (Jvm.Cond.code ({ cls := "NailedByWord", name := "isOne", desc := "(J)Z" } : Jvm.MethodName) prog_1_method_15_code (3 : Nat) (Option.some Jvm.ClassFile.FieldType.boolean)) ∈ lw_all := lw_g (lw_at lw_m2 107 rfl) rfl
theorem q460 : (Jvm.Cond.methodLink "NailedByWord" (174 : Nat) ({ cls := "NailedByWord", name := "mayBe", desc := "(IIIII)Z" } : Jvm.MethodName)) ∈ lw_all := lw_g (lw_at lw_m2 108 rfl) rfl
theorem q461 : (Jvm.Cond.privateMethod ({ cls := "NailedByWord", name := "mayBe", desc := "(IIIII)Z" } : Jvm.MethodName)) ∈ lw_tbl := lw_at lw_m2 109 rfl
theorem q462 : (Jvm.Cond.instanceMethod ({ cls := "NailedByWord", name := "mayBe", desc := "(IIIII)Z" } : Jvm.MethodName)) ∈ lw_all := lw_g (lw_at lw_m2 110 rfl) rfl
theorem q463 : (Jvm.Cond.code ({ cls := "NailedByWord", name := "mayBe", desc := "(IIIII)Z" } : Jvm.MethodName) prog_1_method_20_code (6 : Nat) (Option.some Jvm.ClassFile.FieldType.boolean)) ∈ lw_all := lw_g (lw_at lw_m2 111 rfl) rfl
theorem q464 : (Jvm.Cond.constantLong "NailedByWord" (163 : Nat) (9 : Int64)) ∈ lw_all := lw_g (lw_at lw_m2 112 rfl) rfl
theorem q465 : (Jvm.Cond.methodLink "NailedByWord" (165 : Nat) ({ cls := "NailedByWord", name := "isDay", desc := "(J)Z" } : Jvm.MethodName)) ∈ lw_all := lw_g (lw_at lw_m2 113 rfl) rfl
theorem q466 : (Jvm.Cond.static ({ cls := "NailedByWord", name := "isDay", desc := "(J)Z" } : Jvm.MethodName)) ∈ lw_all := lw_g (lw_at lw_m2 114 rfl) rfl
theorem q467 : (Jvm.Cond.code ({ cls := "NailedByWord", name := "isDay", desc := "(J)Z" } : Jvm.MethodName) prog_1_method_18_code (2 : Nat) (Option.some Jvm.ClassFile.FieldType.boolean)) ∈ lw_all := lw_g (lw_at lw_m2 115 rfl) rfl
theorem q468 : (Jvm.Cond.constantLong "NailedByWord" (151 : Nat) (99 : Int64)) ∈ lw_all := lw_g (lw_at lw_m2 116 rfl) rfl
theorem q469 : (Jvm.Cond.methodLink "NailedByWord" (178 : Nat) ({ cls := "NailedByWord", name := "add", desc := "(IIIII)I" } : Jvm.MethodName)) ∈ lw_all := lw_g (lw_at lw_m2 117 rfl) rfl
theorem q470 : (Jvm.Cond.privateMethod ({ cls := "NailedByWord", name := "add", desc := "(IIIII)I" } : Jvm.MethodName)) ∈ lw_tbl := lw_at lw_m2 118 rfl
theorem q471 : (Jvm.Cond.instanceMethod ({ cls := "NailedByWord", name := "add", desc := "(IIIII)I" } : Jvm.MethodName)) ∈ lw_all := lw_g (lw_at lw_m2 119 rfl) rfl
theorem q472 : (Jvm.Cond.code ({ cls := "NailedByWord", name := "add", desc := "(IIIII)I" } : Jvm.MethodName) prog_1_method_21_code (6 : Nat) (Option.some Jvm.ClassFile.FieldType.int)) ∈ lw_all := lw_g (lw_at lw_m2 120 rfl) rfl
theorem q474 : (Jvm.Cond.methodLink "NailedByWord" (168 : Nat) ({ cls := "NailedByWord$Promise", name := "<init>", desc := "(IIIIII)V" } : Jvm.MethodName)) ∈ lw_all := lw_g (lw_at lw_m2 122 rfl) rfl
theorem q482 : (Jvm.Cond.fieldLinkNest "NailedByWord" (229 : Nat) "NailedByWord$Promise" "by" "I" "NailedByWord") ∈ lw_tbl := lw_at lw_m2 130 rfl
theorem q484 : (Jvm.Cond.fieldLinkNest "NailedByWord" (232 : Nat) "NailedByWord$Promise" "to" "I" "NailedByWord") ∈ lw_tbl := lw_at lw_m2 132 rfl
theorem q486 : (Jvm.Cond.fieldLinkNest "NailedByWord" (210 : Nat) "NailedByWord$Promise" "numbers" "[LNailedByWord$Held;" "NailedByWord") ∈ lw_tbl := lw_at lw_m2 134 rfl
theorem q495 : (Jvm.Cond.instanceMethod ({ cls := "NailedByWord", name := "promises", desc := "(III)I" } : Jvm.MethodName)) ∈ lw_all := lw_g (lw_at lw_m2 143 rfl) rfl
theorem q496 : (Jvm.Cond.selects "NailedByWord" ({ cls := "NailedByWord", name := "promises", desc := "(III)I" } : Jvm.MethodName) ({ cls := "NailedByWord", name := "promises", desc := "(III)I" } : Jvm.MethodName)) ∈ lw_all := lw_g (lw_at lw_m2 144 rfl) rfl
theorem q497 : (Jvm.Cond.codeWith ({ cls := "NailedByWord", name := "promises", desc := "(III)I" } : Jvm.MethodName) prog_1_method_24_code (14 : Nat) (Option.some Jvm.ClassFile.FieldType.int) [((54 : Nat), (188 : Nat), (191 : Nat), (70 : Nat))]) ∈ lw_all := lw_g (lw_at lw_m2 145 rfl) rfl
theorem q498 : (Jvm.Cond.methodLink "NailedByWord" (184 : Nat) ({ cls := "NailedByWord", name := "isShelf", desc := "(I)Z" } : Jvm.MethodName)) ∈ lw_all := lw_g (lw_at lw_m2 146 rfl) rfl
theorem q499 : (Jvm.Cond.static ({ cls := "NailedByWord", name := "isShelf", desc := "(I)Z" } : Jvm.MethodName)) ∈ lw_all := lw_g (lw_at lw_m2 147 rfl) rfl
theorem q500 : (Jvm.Cond.code ({ cls := "NailedByWord", name := "isShelf", desc := "(I)Z" } : Jvm.MethodName) prog_1_method_98_code (1 : Nat) (Option.some Jvm.ClassFile.FieldType.boolean)) ∈ lw_all := lw_g (lw_at lw_m2 148 rfl) rfl
theorem q501 : (Jvm.Cond.constantLong "NailedByWord" (193 : Nat) (5 : Int64)) ∈ lw_all := lw_g (lw_at lw_m2 149 rfl) rfl
theorem q502 : (Jvm.Cond.constantLong "NailedByWord" (187 : Nat) (12 : Int64)) ∈ lw_all := lw_g (lw_at lw_m2 150 rfl) rfl
theorem q503 : (Jvm.Cond.methodLink "NailedByWord" (189 : Nat) ({ cls := "NailedByWord", name := "sortOf", desc := "(Ljava/lang/Object;)I" } : Jvm.MethodName)) ∈ lw_all := lw_g (lw_at lw_m2 151 rfl) rfl
theorem q504 : (Jvm.Cond.static ({ cls := "NailedByWord", name := "sortOf", desc := "(Ljava/lang/Object;)I" } : Jvm.MethodName)) ∈ lw_all := lw_g (lw_at lw_m2 152 rfl) rfl
theorem q505 : (Jvm.Cond.code ({ cls := "NailedByWord", name := "sortOf", desc := "(Ljava/lang/Object;)I" } : Jvm.MethodName) prog_1_method_101_code (1 : Nat) (Option.some Jvm.ClassFile.FieldType.int)) ∈ lw_all := lw_g (lw_at lw_m2 153 rfl) rfl
theorem q506 : (Jvm.Cond.classLink "NailedByWord" (182 : Nat) "[B") ∈ lw_all := lw_g (lw_at lw_m2 154 rfl) rfl
theorem q507 : (Jvm.Cond.classLink "NailedByWord" (550 : Nat) "[S") ∈ lw_all := lw_g (lw_at lw_m2 155 rfl) rfl
theorem q508 : (Jvm.Cond.classLink "NailedByWord" (552 : Nat) "[I") ∈ lw_all := lw_g (lw_at lw_m2 156 rfl) rfl
theorem q509 : (Jvm.Cond.classLink "NailedByWord" (553 : Nat) "[J") ∈ lw_all := lw_g (lw_at lw_m2 157 rfl) rfl
theorem q510 : (Jvm.Cond.classLink "NailedByWord" (555 : Nat) "[Z") ∈ lw_all := lw_g (lw_at lw_m2 158 rfl) rfl
theorem q511 : (Jvm.Cond.methodLink "NailedByWord" (195 : Nat) ({ cls := "NailedByWord", name := "toldIn", desc := "(Ljava/lang/Object;J)I" } : Jvm.MethodName)) ∈ lw_all := lw_g (lw_at lw_m2 159 rfl) rfl
theorem q512 : (Jvm.Cond.privateMethod ({ cls := "NailedByWord", name := "toldIn", desc := "(Ljava/lang/Object;J)I" } : Jvm.MethodName)) ∈ lw_tbl := lw_at lw_m2 160 rfl
theorem q513 : (Jvm.Cond.instanceMethod ({ cls := "NailedByWord", name := "toldIn", desc := "(Ljava/lang/Object;J)I" } : Jvm.MethodName)) ∈ lw_all := lw_g (lw_at lw_m2 161 rfl) rfl
theorem q514 : (Jvm.Cond.code ({ cls := "NailedByWord", name := "toldIn", desc := "(Ljava/lang/Object;J)I" } : Jvm.MethodName) prog_1_method_23_code (4 : Nat) (Option.some Jvm.ClassFile.FieldType.int)) ∈ lw_all := lw_g (lw_at lw_m2 162 rfl) rfl
theorem q515 : (Jvm.Cond.constantLong "NailedByWord" (199 : Nat) (2 : Int64)) ∈ lw_all := lw_g (lw_at lw_m2 163 rfl) rfl
theorem q516 : (Jvm.Cond.constantLong "NailedByWord" (201 : Nat) (3 : Int64)) ∈ lw_all := lw_g (lw_at lw_m2 164 rfl) rfl
theorem q517 : (Jvm.Cond.constantLong "NailedByWord" (203 : Nat) (4 : Int64)) ∈ lw_all := lw_g (lw_at lw_m2 165 rfl) rfl
theorem q519 : (Jvm.Cond.instanceMethod ({ cls := "NailedByWord", name := "mend", desc := "(III)I" } : Jvm.MethodName)) ∈ lw_all := lw_g (lw_at lw_m2 167 rfl) rfl
theorem q520 : (Jvm.Cond.selects "NailedByWord" ({ cls := "NailedByWord", name := "mend", desc := "(III)I" } : Jvm.MethodName) ({ cls := "NailedByWord", name := "mend", desc := "(III)I" } : Jvm.MethodName)) ∈ lw_all := lw_g (lw_at lw_m2 168 rfl) rfl
theorem q521 : (Jvm.Cond.code ({ cls := "NailedByWord", name := "mend", desc := "(III)I" } : Jvm.MethodName) prog_1_method_27_code (5 : Nat) (Option.some Jvm.ClassFile.FieldType.int)) ∈ lw_all := lw_g (lw_at lw_m2 169 rfl) rfl
theorem q522 : (Jvm.Cond.methodLink "NailedByWord" (217 : Nat) ({ cls := "NailedByWord", name := "numberOf", desc := "(II)LNailedByWord$Held;" } : Jvm.MethodName)) ∈ lw_all := lw_g (lw_at lw_m2 170 rfl) rfl
theorem q523 : (Jvm.Cond.privateMethod ({ cls := "NailedByWord", name := "numberOf", desc := "(II)LNailedByWord$Held;" } : Jvm.MethodName)) ∈ lw_tbl := lw_at lw_m2 171 rfl
theorem q524 : (Jvm.Cond.instanceMethod ({ cls := "NailedByWord", name := "numberOf", desc := "(II)LNailedByWord$Held;" } : Jvm.MethodName)) ∈ lw_all := lw_g (lw_at lw_m2 172 rfl) rfl
theorem q525 : (Jvm.Cond.code ({ cls := "NailedByWord", name := "numberOf", desc := "(II)LNailedByWord$Held;" } : Jvm.MethodName) prog_1_method_25_code (3 : Nat) (Option.some (Jvm.ClassFile.FieldType.object "NailedByWord$Held"))) ∈ lw_all := lw_g (lw_at lw_m2 173 rfl) rfl
theorem q526 : (Jvm.Cond.constantLong "NailedByWord" (205 : Nat) (7 : Int64)) ∈ lw_all := lw_g (lw_at lw_m2 174 rfl) rfl
theorem q527 : (Jvm.Cond.methodLink "NailedByWord" (207 : Nat) ({ cls := "NailedByWord", name := "isPromise", desc := "(J)Z" } : Jvm.MethodName)) ∈ lw_all := lw_g (lw_at lw_m2 175 rfl) rfl
theorem q528 : (Jvm.Cond.privateMethod ({ cls := "NailedByWord", name := "isPromise", desc := "(J)Z" } : Jvm.MethodName)) ∈ lw_tbl := lw_at lw_m2 176 rfl
theorem q529 : (Jvm.Cond.instanceMethod ({ cls := "NailedByWord", name := "isPromise", desc := "(J)Z" } : Jvm.MethodName)) ∈ lw_all := lw_g (lw_at lw_m2 177 rfl) rfl
theorem q530 : (Jvm.Cond.code ({ cls := "NailedByWord", name := "isPromise", desc := "(J)Z" } : Jvm.MethodName) prog_1_method_16_code (3 : Nat) (Option.some Jvm.ClassFile.FieldType.boolean)) ∈ lw_all := lw_g (lw_at lw_m2 178 rfl) rfl
theorem q531 : (Jvm.Cond.methodLink "NailedByWord" (221 : Nat) ({ cls := "NailedByWord", name := "mayBecome", desc := "(II)Z" } : Jvm.MethodName)) ∈ lw_all := lw_g (lw_at lw_m2 179 rfl) rfl
theorem q532 : (Jvm.Cond.static ({ cls := "NailedByWord", name := "mayBecome", desc := "(II)Z" } : Jvm.MethodName)) ∈ lw_all := lw_g (lw_at lw_m2 180 rfl) rfl
theorem q533 : (Jvm.Cond.code ({ cls := "NailedByWord", name := "mayBecome", desc := "(II)Z" } : Jvm.MethodName) prog_1_method_26_code (2 : Nat) (Option.some Jvm.ClassFile.FieldType.boolean)) ∈ lw_all := lw_g (lw_at lw_m2 181 rfl) rfl
theorem q534 : (Jvm.Cond.methodLink "NailedByWord" (225 : Nat) ({ cls := "NailedByWord", name := "become", desc := "(LNailedByWord$Held;I)I" } : Jvm.MethodName)) ∈ lw_all := lw_g (lw_at lw_m2 182 rfl) rfl
theorem q535 : (Jvm.Cond.privateMethod ({ cls := "NailedByWord", name := "become", desc := "(LNailedByWord$Held;I)I" } : Jvm.MethodName)) ∈ lw_tbl := lw_at lw_m2 183 rfl
theorem q536 : (Jvm.Cond.instanceMethod ({ cls := "NailedByWord", name := "become", desc := "(LNailedByWord$Held;I)I" } : Jvm.MethodName)) ∈ lw_all := lw_g (lw_at lw_m2 184 rfl) rfl
theorem q537 : (Jvm.Cond.code ({ cls := "NailedByWord", name := "become", desc := "(LNailedByWord$Held;I)I" } : Jvm.MethodName) prog_1_method_5_code (6 : Nat) (Option.some Jvm.ClassFile.FieldType.int)) ∈ lw_all := lw_g (lw_at lw_m2 185 rfl) rfl
theorem q539 : (Jvm.Cond.instanceMethod ({ cls := "NailedByWord", name := "of", desc := "(II)I" } : Jvm.MethodName)) ∈ lw_all := lw_g (lw_at lw_m2 187 rfl) rfl
theorem q540 : (Jvm.Cond.selects "NailedByWord" ({ cls := "NailedByWord", name := "of", desc := "(II)I" } : Jvm.MethodName) ({ cls := "NailedByWord", name := "of", desc := "(II)I" } : Jvm.MethodName)) ∈ lw_all := lw_g (lw_at lw_m2 188 rfl) rfl
theorem q541 : (Jvm.Cond.code ({ cls := "NailedByWord", name := "of", desc := "(II)I" } : Jvm.MethodName) prog_1_method_28_code (4 : Nat) (Option.some Jvm.ClassFile.FieldType.int)) ∈ lw_all := lw_g (lw_at lw_m2 189 rfl) rfl
theorem q543 : (Jvm.Cond.instanceMethod ({ cls := "NailedByWord", name := "law", desc := "()I" } : Jvm.MethodName)) ∈ lw_all := lw_g (lw_at lw_m2 191 rfl) rfl
theorem q544 : (Jvm.Cond.selects "NailedByWord" ({ cls := "NailedByWord", name := "law", desc := "()I" } : Jvm.MethodName) ({ cls := "NailedByWord", name := "law", desc := "()I" } : Jvm.MethodName)) ∈ lw_all := lw_g (lw_at lw_m2 192 rfl) rfl
theorem q545 : (Jvm.Cond.codeWith ({ cls := "NailedByWord", name := "law", desc := "()I" } : Jvm.MethodName) prog_1_method_38_code (4 : Nat) (Option.some Jvm.ClassFile.FieldType.int) [((5 : Nat), (15 : Nat), (22 : Nat), (41 : Nat)), ((5 : Nat), (15 : Nat), (38 : Nat), (0 : Nat)), ((22 : Nat), (31 : Nat), (38 : Nat), (0 : Nat))]) ∈ lw_all := lw_g (lw_at lw_m2 193 rfl) rfl
theorem q546 : (Jvm.Cond.methodLink "NailedByWord" (304 : Nat) ({ cls := "NailedByWord", name := "readLaw", desc := "()LNailedByWord$Line;" } : Jvm.MethodName)) ∈ lw_all := lw_g (lw_at lw_m2 194 rfl) rfl
theorem q547 : (Jvm.Cond.privateMethod ({ cls := "NailedByWord", name := "readLaw", desc := "()LNailedByWord$Line;" } : Jvm.MethodName)) ∈ lw_tbl := lw_at lw_m2 195 rfl
theorem q548 : (Jvm.Cond.instanceMethod ({ cls := "NailedByWord", name := "readLaw", desc := "()LNailedByWord$Line;" } : Jvm.MethodName)) ∈ lw_all := lw_g (lw_at lw_m2 196 rfl) rfl
theorem q549 : (Jvm.Cond.code ({ cls := "NailedByWord", name := "readLaw", desc := "()LNailedByWord$Line;" } : Jvm.MethodName) prog_1_method_37_code (3 : Nat) (Option.some (Jvm.ClassFile.FieldType.object "NailedByWord$Line"))) ∈ lw_all := lw_g (lw_at lw_m2 197 rfl) rfl
theorem q550 : (Jvm.Cond.methodLink "NailedByWord" (296 : Nat) ({ cls := "NailedByWord", name := "readLine", desc := "()LNailedByWord$Line;" } : Jvm.MethodName)) ∈ lw_all := lw_g (lw_at lw_m2 198 rfl) rfl
theorem q551 : (Jvm.Cond.privateMethod ({ cls := "NailedByWord", name := "readLine", desc := "()LNailedByWord$Line;" } : Jvm.MethodName)) ∈ lw_tbl := lw_at lw_m2 199 rfl
theorem q552 : (Jvm.Cond.instanceMethod ({ cls := "NailedByWord", name := "readLine", desc := "()LNailedByWord$Line;" } : Jvm.MethodName)) ∈ lw_all := lw_g (lw_at lw_m2 200 rfl) rfl
theorem q553 : (Jvm.Cond.code ({ cls := "NailedByWord", name := "readLine", desc := "()LNailedByWord$Line;" } : Jvm.MethodName) prog_1_method_36_code (2 : Nat) (Option.some (Jvm.ClassFile.FieldType.object "NailedByWord$Line"))) ∈ lw_all := lw_g (lw_at lw_m2 201 rfl) rfl
theorem q554 : (Jvm.Cond.classLink "NailedByWord" (286 : Nat) "NailedByWord$Line") ∈ lw_all := lw_g (lw_at lw_m2 202 rfl) rfl
theorem q556 : (Jvm.Cond.methodLinkNest "NailedByWord" (288 : Nat) ({ cls := "NailedByWord$Line", name := "<init>", desc := "()V" } : Jvm.MethodName) "NailedByWord") ∈ lw_tbl := lw_at lw_m2 204 rfl
theorem q560 : (Jvm.Cond.fieldLinkNest "NailedByWord" (293 : Nat) "NailedByWord$Line" "asked" "LNailedByWord$Term;" "NailedByWord") ∈ lw_tbl := lw_at lw_m2 208 rfl
theorem q561 : (Jvm.Cond.fieldLinkNest "NailedByWord" (289 : Nat) "NailedByWord$Line" "counts" "LNailedByWord$Term;" "NailedByWord") ∈ lw_tbl := lw_at lw_m2 209 rfl
theorem q562 : (Jvm.Cond.fieldLinkNest "NailedByWord" (300 : Nat) "NailedByWord$Line" "next" "LNailedByWord$Line;" "NailedByWord") ∈ lw_tbl := lw_at lw_m2 210 rfl
theorem q570 : (Jvm.Cond.methodLink "NailedByWord" (254 : Nat) ({ cls := "NailedByWord", name := "readEither", desc := "()LNailedByWord$Term;" } : Jvm.MethodName)) ∈ lw_all := lw_g (lw_at lw_m2 218 rfl) rfl
theorem q571 : (Jvm.Cond.privateMethod ({ cls := "NailedByWord", name := "readEither", desc := "()LNailedByWord$Term;" } : Jvm.MethodName)) ∈ lw_tbl := lw_at lw_m2 219 rfl
theorem q572 : (Jvm.Cond.instanceMethod ({ cls := "NailedByWord", name := "readEither", desc := "()LNailedByWord$Term;" } : Jvm.MethodName)) ∈ lw_all := lw_g (lw_at lw_m2 220 rfl) rfl
theorem q573 : (Jvm.Cond.code ({ cls := "NailedByWord", name := "readEither", desc := "()LNailedByWord$Term;" } : Jvm.MethodName) prog_1_method_35_code (2 : Nat) (Option.some (Jvm.ClassFile.FieldType.object "NailedByWord$Term"))) ∈ lw_all := lw_g (lw_at lw_m2 221 rfl) rfl
theorem q574 : (Jvm.Cond.methodLink "NailedByWord" (283 : Nat) ({ cls := "NailedByWord", name := "readAll", desc := "()LNailedByWord$Term;" } : Jvm.MethodName)) ∈ lw_all := lw_g (lw_at lw_m2 222 rfl) rfl
theorem q575 : (Jvm.Cond.privateMethod ({ cls := "NailedByWord", name := "readAll", desc := "()LNailedByWord$Term;" } : Jvm.MethodName)) ∈ lw_tbl := lw_at lw_m2 223 rfl
theorem q576 : (Jvm.Cond.instanceMethod ({ cls := "NailedByWord", name := "readAll", desc := "()LNailedByWord$Term;" } : Jvm.MethodName)) ∈ lw_all := lw_g (lw_at lw_m2 224 rfl) rfl
theorem q577 : (Jvm.Cond.code ({ cls := "NailedByWord", name := "readAll", desc := "()LNailedByWord$Term;" } : Jvm.MethodName) prog_1_method_34_code (2 : Nat) (Option.some (Jvm.ClassFile.FieldType.object "NailedByWord$Term"))) ∈ lw_all := lw_g (lw_at lw_m2 225 rfl) rfl
theorem q578 : (Jvm.Cond.methodLink "NailedByWord" (280 : Nat) ({ cls := "NailedByWord", name := "readLike", desc := "()LNailedByWord$Term;" } : Jvm.MethodName)) ∈ lw_all := lw_g (lw_at lw_m2 226 rfl) rfl
theorem q579 : (Jvm.Cond.privateMethod ({ cls := "NailedByWord", name := "readLike", desc := "()LNailedByWord$Term;" } : Jvm.MethodName)) ∈ lw_tbl := lw_at lw_m2 227 rfl
theorem q580 : (Jvm.Cond.instanceMethod ({ cls := "NailedByWord", name := "readLike", desc := "()LNailedByWord$Term;" } : Jvm.MethodName)) ∈ lw_all := lw_g (lw_at lw_m2 228 rfl) rfl
theorem q581 : (Jvm.Cond.code ({ cls := "NailedByWord", name := "readLike", desc := "()LNailedByWord$Term;" } : Jvm.MethodName) prog_1_method_33_code (3 : Nat) (Option.some (Jvm.ClassFile.FieldType.object "NailedByWord$Term"))) ∈ lw_all := lw_g (lw_at lw_m2 229 rfl) rfl
theorem q582 : (Jvm.Cond.methodLink "NailedByWord" (277 : Nat) ({ cls := "NailedByWord", name := "readPlus", desc := "()LNailedByWord$Term;" } : Jvm.MethodName)) ∈ lw_all := lw_g (lw_at lw_m2 230 rfl) rfl
theorem q583 : (Jvm.Cond.privateMethod ({ cls := "NailedByWord", name := "readPlus", desc := "()LNailedByWord$Term;" } : Jvm.MethodName)) ∈ lw_tbl := lw_at lw_m2 231 rfl
theorem q584 : (Jvm.Cond.instanceMethod ({ cls := "NailedByWord", name := "readPlus", desc := "()LNailedByWord$Term;" } : Jvm.MethodName)) ∈ lw_all := lw_g (lw_at lw_m2 232 rfl) rfl
theorem q585 : (Jvm.Cond.code ({ cls := "NailedByWord", name := "readPlus", desc := "()LNailedByWord$Term;" } : Jvm.MethodName) prog_1_method_32_code (3 : Nat) (Option.some (Jvm.ClassFile.FieldType.object "NailedByWord$Term"))) ∈ lw_all := lw_g (lw_at lw_m2 233 rfl) rfl
theorem q586 : (Jvm.Cond.methodLink "NailedByWord" (274 : Nat) ({ cls := "NailedByWord", name := "readTimes", desc := "()LNailedByWord$Term;" } : Jvm.MethodName)) ∈ lw_all := lw_g (lw_at lw_m2 234 rfl) rfl
theorem q587 : (Jvm.Cond.privateMethod ({ cls := "NailedByWord", name := "readTimes", desc := "()LNailedByWord$Term;" } : Jvm.MethodName)) ∈ lw_tbl := lw_at lw_m2 235 rfl
theorem q588 : (Jvm.Cond.instanceMethod ({ cls := "NailedByWord", name := "readTimes", desc := "()LNailedByWord$Term;" } : Jvm.MethodName)) ∈ lw_all := lw_g (lw_at lw_m2 236 rfl) rfl
theorem q589 : (Jvm.Cond.code ({ cls := "NailedByWord", name := "readTimes", desc := "()LNailedByWord$Term;" } : Jvm.MethodName) prog_1_method_31_code (3 : Nat) (Option.some (Jvm.ClassFile.FieldType.object "NailedByWord$Term"))) ∈ lw_all := lw_g (lw_at lw_m2 237 rfl) rfl
theorem q590 : (Jvm.Cond.methodLink "NailedByWord" (260 : Nat) ({ cls := "NailedByWord", name := "readOne", desc := "()LNailedByWord$Term;" } : Jvm.MethodName)) ∈ lw_all := lw_g (lw_at lw_m2 238 rfl) rfl
theorem q591 : (Jvm.Cond.privateMethod ({ cls := "NailedByWord", name := "readOne", desc := "()LNailedByWord$Term;" } : Jvm.MethodName)) ∈ lw_tbl := lw_at lw_m2 239 rfl
theorem q592 : (Jvm.Cond.instanceMethod ({ cls := "NailedByWord", name := "readOne", desc := "()LNailedByWord$Term;" } : Jvm.MethodName)) ∈ lw_all := lw_g (lw_at lw_m3 0 rfl) rfl
theorem q593 : (Jvm.Cond.code ({ cls := "NailedByWord", name := "readOne", desc := "()LNailedByWord$Term;" } : Jvm.MethodName) prog_1_method_30_code (4 : Nat) (Option.some (Jvm.ClassFile.FieldType.object "NailedByWord$Term"))) ∈ lw_all := lw_g (lw_at lw_m3 1 rfl) rfl
theorem q594 : (Jvm.Cond.methodLink "NailedByWord" (235 : Nat) ({ cls := "NailedByWord", name := "isDigit", desc := "()Z" } : Jvm.MethodName)) ∈ lw_all := lw_g (lw_at lw_m3 2 rfl) rfl
theorem q595 : (Jvm.Cond.privateMethod ({ cls := "NailedByWord", name := "isDigit", desc := "()Z" } : Jvm.MethodName)) ∈ lw_tbl := lw_at lw_m3 3 rfl
theorem q596 : (Jvm.Cond.instanceMethod ({ cls := "NailedByWord", name := "isDigit", desc := "()Z" } : Jvm.MethodName)) ∈ lw_all := lw_g (lw_at lw_m3 4 rfl) rfl
theorem q597 : (Jvm.Cond.code ({ cls := "NailedByWord", name := "isDigit", desc := "()Z" } : Jvm.MethodName) prog_1_method_14_code (1 : Nat) (Option.some Jvm.ClassFile.FieldType.boolean)) ∈ lw_all := lw_g (lw_at lw_m3 5 rfl) rfl
theorem q598 : (Jvm.Cond.methodLink "NailedByWord" (131 : Nat) ({ cls := "NailedByWord", name := "peek", desc := "()I" } : Jvm.MethodName)) ∈ lw_all := lw_g (lw_at lw_m3 6 rfl) rfl
theorem q599 : (Jvm.Cond.privateMethod ({ cls := "NailedByWord", name := "peek", desc := "()I" } : Jvm.MethodName)) ∈ lw_tbl := lw_at lw_m3 7 rfl
theorem q600 : (Jvm.Cond.instanceMethod ({ cls := "NailedByWord", name := "peek", desc := "()I" } : Jvm.MethodName)) ∈ lw_all := lw_g (lw_at lw_m3 8 rfl) rfl
theorem q601 : (Jvm.Cond.code ({ cls := "NailedByWord", name := "peek", desc := "()I" } : Jvm.MethodName) prog_1_method_11_code (1 : Nat) (Option.some Jvm.ClassFile.FieldType.int)) ∈ lw_all := lw_g (lw_at lw_m3 9 rfl) rfl
theorem q602 : (Jvm.Cond.constantLong "NailedByWord" (139 : Nat) (48 : Int64)) ∈ lw_all := lw_g (lw_at lw_m3 10 rfl) rfl
theorem q603 : (Jvm.Cond.constantLong "NailedByWord" (141 : Nat) (57 : Int64)) ∈ lw_all := lw_g (lw_at lw_m3 11 rfl) rfl
theorem q604 : (Jvm.Cond.classLink "NailedByWord" (239 : Nat) "NailedByWord$Figure") ∈ lw_all := lw_g (lw_at lw_m3 12 rfl) rfl
theorem q606 : (Jvm.Cond.methodLink "NailedByWord" (241 : Nat) ({ cls := "NailedByWord$Figure", name := "<init>", desc := "(I)V" } : Jvm.MethodName)) ∈ lw_all := lw_g (lw_at lw_m3 14 rfl) rfl
theorem q617 : (Jvm.Cond.methodLink "NailedByWord" (242 : Nat) ({ cls := "NailedByWord", name := "nameOf", desc := "(I)I" } : Jvm.MethodName)) ∈ lw_all := lw_g (lw_at lw_m3 25 rfl) rfl
theorem q618 : (Jvm.Cond.static ({ cls := "NailedByWord", name := "nameOf", desc := "(I)I" } : Jvm.MethodName)) ∈ lw_all := lw_g (lw_at lw_m3 26 rfl) rfl
theorem q619 : (Jvm.Cond.code ({ cls := "NailedByWord", name := "nameOf", desc := "(I)I" } : Jvm.MethodName) prog_1_method_29_code (1 : Nat) (Option.some Jvm.ClassFile.FieldType.int)) ∈ lw_all := lw_g (lw_at lw_m3 27 rfl) rfl
theorem q620 : (Jvm.Cond.classLink "NailedByWord" (246 : Nat) "NailedByWord$Named") ∈ lw_all := lw_g (lw_at lw_m3 28 rfl) rfl
theorem q622 : (Jvm.Cond.methodLink "NailedByWord" (248 : Nat) ({ cls := "NailedByWord$Named", name := "<init>", desc := "(LNailedByWord;I)V" } : Jvm.MethodName)) ∈ lw_all := lw_g (lw_at lw_m3 30 rfl) rfl
theorem q633 : (Jvm.Cond.classLink "NailedByWord" (258 : Nat) "NailedByWord$Signed") ∈ lw_all := lw_g (lw_at lw_m3 41 rfl) rfl
theorem q635 : (Jvm.Cond.methodLink "NailedByWord" (263 : Nat) ({ cls := "NailedByWord$Signed", name := "<init>", desc := "(ILNailedByWord$Term;)V" } : Jvm.MethodName)) ∈ lw_all := lw_g (lw_at lw_m3 43 rfl) rfl
theorem q646 : (Jvm.Cond.methodLink "NailedByWord" (266 : Nat) ({ cls := "NailedByWord", name := "expect", desc := "(I)V" } : Jvm.MethodName)) ∈ lw_all := lw_g (lw_at lw_m3 54 rfl) rfl
theorem q647 : (Jvm.Cond.privateMethod ({ cls := "NailedByWord", name := "expect", desc := "(I)V" } : Jvm.MethodName)) ∈ lw_tbl := lw_at lw_m3 55 rfl
theorem q648 : (Jvm.Cond.instanceMethod ({ cls := "NailedByWord", name := "expect", desc := "(I)V" } : Jvm.MethodName)) ∈ lw_all := lw_g (lw_at lw_m3 56 rfl) rfl
theorem q649 : (Jvm.Cond.code ({ cls := "NailedByWord", name := "expect", desc := "(I)V" } : Jvm.MethodName) prog_1_method_13_code (2 : Nat) (Option.none : Option Jvm.ClassFile.FieldType)) ∈ lw_all := lw_g (lw_at lw_m3 57 rfl) rfl
theorem q650 : (Jvm.Cond.methodLink "NailedByWord" (135 : Nat) ({ cls := "NailedByWord", name := "take", desc := "(I)Z" } : Jvm.MethodName)) ∈ lw_all := lw_g (lw_at lw_m3 58 rfl) rfl
theorem q651 : (Jvm.Cond.privateMethod ({ cls := "NailedByWord", name := "take", desc := "(I)Z" } : Jvm.MethodName)) ∈ lw_tbl := lw_at lw_m3 59 rfl
theorem q652 : (Jvm.Cond.instanceMethod ({ cls := "NailedByWord", name := "take", desc := "(I)Z" } : Jvm.MethodName)) ∈ lw_all := lw_g (lw_at lw_m3 60 rfl) rfl
theorem q653 : (Jvm.Cond.code ({ cls := "NailedByWord", name := "take", desc := "(I)Z" } : Jvm.MethodName) prog_1_method_12_code (2 : Nat) (Option.some Jvm.ClassFile.FieldType.boolean)) ∈ lw_all := lw_g (lw_at lw_m3 61 rfl) rfl
theorem q654 : (Jvm.Cond.classLink "NailedByWord" (269 : Nat) "NailedByWord$Both") ∈ lw_all := lw_g (lw_at lw_m3 62 rfl) rfl
theorem q656 : (Jvm.Cond.methodLink "NailedByWord" (271 : Nat) ({ cls := "NailedByWord$Both", name := "<init>", desc := "(ILNailedByWord$Term;LNailedByWord$Term;)V" } : Jvm.MethodName)) ∈ lw_all := lw_g (lw_at lw_m3 64 rfl) rfl
theorem q671 : (Jvm.Cond.instanceMethod ({ cls := "NailedByWord", name := "hard", desc := "(I)I" } : Jvm.MethodName)) ∈ lw_all := lw_g (lw_at lw_m3 79 rfl) rfl
theorem q672 : (Jvm.Cond.selects "NailedByWord" ({ cls := "NailedByWord", name := "hard", desc := "(I)I" } : Jvm.MethodName) ({ cls := "NailedByWord", name := "hard", desc := "(I)I" } : Jvm.MethodName)) ∈ lw_all := lw_g (lw_at lw_m3 80 rfl) rfl
theorem q673 : (Jvm.Cond.code ({ cls := "NailedByWord", name := "hard", desc := "(I)I" } : Jvm.MethodName) prog_1_method_47_code (2 : Nat) (Option.some Jvm.ClassFile.FieldType.int)) ∈ lw_all := lw_g (lw_at lw_m3 81 rfl) rfl
theorem q674 : (Jvm.Cond.methodLink "NailedByWord" (359 : Nat) ({ cls := "NailedByWord", name := "beginAll", desc := "()V" } : Jvm.MethodName)) ∈ lw_all := lw_g (lw_at lw_m3 82 rfl) rfl
theorem q675 : (Jvm.Cond.privateMethod ({ cls := "NailedByWord", name := "beginAll", desc := "()V" } : Jvm.MethodName)) ∈ lw_tbl := lw_at lw_m3 83 rfl
theorem q676 : (Jvm.Cond.instanceMethod ({ cls := "NailedByWord", name := "beginAll", desc := "()V" } : Jvm.MethodName)) ∈ lw_all := lw_g (lw_at lw_m3 84 rfl) rfl
theorem q677 : (Jvm.Cond.code ({ cls := "NailedByWord", name := "beginAll", desc := "()V" } : Jvm.MethodName) prog_1_method_40_code (2 : Nat) (Option.none : Option Jvm.ClassFile.FieldType)) ∈ lw_all := lw_g (lw_at lw_m3 85 rfl) rfl
theorem q678 : (Jvm.Cond.methodLink "NailedByWord" (321 : Nat) ({ cls := "NailedByWord$Promise", name := "of", desc := "(I)I" } : Jvm.MethodName)) ∈ lw_all := lw_g (lw_at lw_m3 86 rfl) rfl
theorem q682 : (Jvm.Cond.methodLink "NailedByWord" (349 : Nat) ({ cls := "NailedByWord", name := "hardBy", desc := "(II)I" } : Jvm.MethodName)) ∈ lw_all := lw_g (lw_at lw_m3 90 rfl) rfl
theorem q683 : (Jvm.Cond.privateMethod ({ cls := "NailedByWord", name := "hardBy", desc := "(II)I" } : Jvm.MethodName)) ∈ lw_tbl := lw_at lw_m3 91 rfl
theorem q684 : (Jvm.Cond.instanceMethod ({ cls := "NailedByWord", name := "hardBy", desc := "(II)I" } : Jvm.MethodName)) ∈ lw_all := lw_g (lw_at lw_m3 92 rfl) rfl
theorem q685 : (Jvm.Cond.code ({ cls := "NailedByWord", name := "hardBy", desc := "(II)I" } : Jvm.MethodName) prog_1_method_43_code (9 : Nat) (Option.some Jvm.ClassFile.FieldType.int)) ∈ lw_all := lw_g (lw_at lw_m3 93 rfl) rfl
theorem q686 : (Jvm.Cond.methodLink "NailedByWord" (329 : Nat) ({ cls := "java/lang/Math", name := "max", desc := "(II)I" } : Jvm.MethodName)) ∈ lw_all := lw_g (lw_at lw_m3 94 rfl) rfl
theorem q689 : (Jvm.Cond.methodLink "NailedByWord" (323 : Nat) ({ cls := "NailedByWord", name := "isIn", desc := "(II)Z" } : Jvm.MethodName)) ∈ lw_all := lw_g (lw_at lw_m3 97 rfl) rfl
theorem q690 : (Jvm.Cond.static ({ cls := "NailedByWord", name := "isIn", desc := "(II)Z" } : Jvm.MethodName)) ∈ lw_all := lw_g (lw_at lw_m3 98 rfl) rfl
theorem q691 : (Jvm.Cond.code ({ cls := "NailedByWord", name := "isIn", desc := "(II)Z" } : Jvm.MethodName) prog_1_method_3_code (2 : Nat) (Option.some Jvm.ClassFile.FieldType.boolean)) ∈ lw_all := lw_g (lw_at lw_m3 99 rfl) rfl
theorem q692 : (Jvm.Cond.methodLink "NailedByWord" (335 : Nat) ({ cls := "NailedByWord", name := "bit", desc := "(Z)I" } : Jvm.MethodName)) ∈ lw_all := lw_g (lw_at lw_m3 100 rfl) rfl
theorem q693 : (Jvm.Cond.static ({ cls := "NailedByWord", name := "bit", desc := "(Z)I" } : Jvm.MethodName)) ∈ lw_all := lw_g (lw_at lw_m3 101 rfl) rfl
theorem q694 : (Jvm.Cond.code ({ cls := "NailedByWord", name := "bit", desc := "(Z)I" } : Jvm.MethodName) prog_1_method_2_code (1 : Nat) (Option.some Jvm.ClassFile.FieldType.int)) ∈ lw_all := lw_g (lw_at lw_m3 102 rfl) rfl
theorem q695 : (Jvm.Cond.methodLink "NailedByWord" (339 : Nat) ({ cls := "NailedByWord", name := "isOnAt", desc := "(IIII)Z" } : Jvm.MethodName)) ∈ lw_all := lw_g (lw_at lw_m3 103 rfl) rfl
theorem q696 : (Jvm.Cond.privateMethod ({ cls := "NailedByWord", name := "isOnAt", desc := "(IIII)Z" } : Jvm.MethodName)) ∈ lw_tbl := lw_at lw_m3 104 rfl
theorem q697 : (Jvm.Cond.instanceMethod ({ cls := "NailedByWord", name := "isOnAt", desc := "(IIII)Z" } : Jvm.MethodName)) ∈ lw_all := lw_g (lw_at lw_m3 105 rfl) rfl
theorem q698 : (Jvm.Cond.code ({ cls := "NailedByWord", name := "isOnAt", desc := "(IIII)Z" } : Jvm.MethodName) prog_1_method_42_code (5 : Nat) (Option.some Jvm.ClassFile.FieldType.boolean)) ∈ lw_all := lw_g (lw_at lw_m3 106 rfl) rfl
theorem q699 : (Jvm.Cond.methodLink "NailedByWord" (326 : Nat) ({ cls := "NailedByWord", name := "isOn", desc := "(II)Z" } : Jvm.MethodName)) ∈ lw_all := lw_g (lw_at lw_m3 107 rfl) rfl
theorem q700 : (Jvm.Cond.privateMethod ({ cls := "NailedByWord", name := "isOn", desc := "(II)Z" } : Jvm.MethodName)) ∈ lw_tbl := lw_at lw_m3 108 rfl
theorem q701 : (Jvm.Cond.instanceMethod ({ cls := "NailedByWord", name := "isOn", desc := "(II)Z" } : Jvm.MethodName)) ∈ lw_all := lw_g (lw_at lw_m3 109 rfl) rfl
theorem q702 : (Jvm.Cond.code ({ cls := "NailedByWord", name := "isOn", desc := "(II)Z" } : Jvm.MethodName) prog_1_method_41_code (3 : Nat) (Option.some Jvm.ClassFile.FieldType.boolean)) ∈ lw_all := lw_g (lw_at lw_m3 110 rfl) rfl
theorem q703 : (Jvm.Cond.methodLink "NailedByWord" (343 : Nat) ({ cls := "NailedByWord", name := "ruled", desc := "()I" } : Jvm.MethodName)) ∈ lw_all := lw_g (lw_at lw_m3 111 rfl) rfl
theorem q704 : (Jvm.Cond.privateMethod ({ cls := "NailedByWord", name := "ruled", desc := "()I" } : Jvm.MethodName)) ∈ lw_tbl := lw_at lw_m3 112 rfl
theorem q705 : (Jvm.Cond.instanceMethod ({ cls := "NailedByWord", name := "ruled", desc := "()I" } : Jvm.MethodName)) ∈ lw_all := lw_g (lw_at lw_m3 113 rfl) rfl
theorem q706 : (Jvm.Cond.code ({ cls := "NailedByWord", name := "ruled", desc := "()I" } : Jvm.MethodName) prog_1_method_39_code (2 : Nat) (Option.some Jvm.ClassFile.FieldType.int)) ∈ lw_all := lw_g (lw_at lw_m3 114 rfl) rfl
theorem q707 : (Jvm.Cond.methodLink "NailedByWord" (310 : Nat) ({ cls := "NailedByWord$Term", name := "value", desc := "()I" } : Jvm.MethodName)) ∈ lw_all := lw_g (lw_at lw_m3 115 rfl) rfl
theorem q726 : (Jvm.Cond.methodLink "NailedByWord" (346 : Nat) ({ cls := "java/lang/Math", name := "min", desc := "(II)I" } : Jvm.MethodName)) ∈ lw_all := lw_g (lw_at lw_m3 134 rfl) rfl
theorem q730 : (Jvm.Cond.instanceMethod ({ cls := "NailedByWord", name := "held", desc := "(II)I" } : Jvm.MethodName)) ∈ lw_all := lw_g (lw_at lw_m3 138 rfl) rfl
theorem q731 : (Jvm.Cond.selects "NailedByWord" ({ cls := "NailedByWord", name := "held", desc := "(II)I" } : Jvm.MethodName) ({ cls := "NailedByWord", name := "held", desc := "(II)I" } : Jvm.MethodName)) ∈ lw_all := lw_g (lw_at lw_m3 139 rfl) rfl
theorem q732 : (Jvm.Cond.code ({ cls := "NailedByWord", name := "held", desc := "(II)I" } : Jvm.MethodName) prog_1_method_48_code (6 : Nat) (Option.some Jvm.ClassFile.FieldType.int)) ∈ lw_all := lw_g (lw_at lw_m3 140 rfl) rfl
theorem q733 : (Jvm.Cond.methodLink "NailedByWord" (352 : Nat) ({ cls := "NailedByWord", name := "holdsAt", desc := "(IIII)Z" } : Jvm.MethodName)) ∈ lw_all := lw_g (lw_at lw_m3 141 rfl) rfl
theorem q734 : (Jvm.Cond.privateMethod ({ cls := "NailedByWord", name := "holdsAt", desc := "(IIII)Z" } : Jvm.MethodName)) ∈ lw_tbl := lw_at lw_m3 142 rfl
theorem q735 : (Jvm.Cond.instanceMethod ({ cls := "NailedByWord", name := "holdsAt", desc := "(IIII)Z" } : Jvm.MethodName)) ∈ lw_all := lw_g (lw_at lw_m3 143 rfl) rfl
theorem q736 : (Jvm.Cond.code ({ cls := "NailedByWord", name := "holdsAt", desc := "(IIII)Z" } : Jvm.MethodName) prog_1_method_44_code (5 : Nat) (Option.some Jvm.ClassFile.FieldType.boolean)) ∈ lw_all := lw_g (lw_at lw_m3 144 rfl) rfl
theorem q738 : (Jvm.Cond.instanceMethod ({ cls := "NailedByWord", name := "route", desc := "(IIII)I" } : Jvm.MethodName)) ∈ lw_all := lw_g (lw_at lw_m3 146 rfl) rfl
theorem q739 : (Jvm.Cond.selects "NailedByWord" ({ cls := "NailedByWord", name := "route", desc := "(IIII)I" } : Jvm.MethodName) ({ cls := "NailedByWord", name := "route", desc := "(IIII)I" } : Jvm.MethodName)) ∈ lw_all := lw_g (lw_at lw_m3 147 rfl) rfl
theorem q740 : (Jvm.Cond.code ({ cls := "NailedByWord", name := "route", desc := "(IIII)I" } : Jvm.MethodName) prog_1_method_57_code (8 : Nat) (Option.some Jvm.ClassFile.FieldType.int)) ∈ lw_all := lw_g (lw_at lw_m3 148 rfl) rfl
theorem q741 : (Jvm.Cond.constantLong "NailedByWord" (383 : Nat) (30 : Int64)) ∈ lw_all := lw_g (lw_at lw_m3 149 rfl) rfl
theorem q742 : (Jvm.Cond.methodLink "NailedByWord" (385 : Nat) ({ cls := "NailedByWord", name := "lookAt", desc := "(I)I" } : Jvm.MethodName)) ∈ lw_all := lw_g (lw_at lw_m3 150 rfl) rfl
theorem q743 : (Jvm.Cond.privateMethod ({ cls := "NailedByWord", name := "lookAt", desc := "(I)I" } : Jvm.MethodName)) ∈ lw_tbl := lw_at lw_m3 151 rfl
theorem q744 : (Jvm.Cond.instanceMethod ({ cls := "NailedByWord", name := "lookAt", desc := "(I)I" } : Jvm.MethodName)) ∈ lw_all := lw_g (lw_at lw_m3 152 rfl) rfl
theorem q745 : (Jvm.Cond.code ({ cls := "NailedByWord", name := "lookAt", desc := "(I)I" } : Jvm.MethodName) prog_1_method_55_code (3 : Nat) (Option.some Jvm.ClassFile.FieldType.int)) ∈ lw_all := lw_g (lw_at lw_m3 153 rfl) rfl
theorem q746 : (Jvm.Cond.methodLink "NailedByWord" (388 : Nat) ({ cls := "NailedByWord", name := "stepMany", desc := "([B)I" } : Jvm.MethodName)) ∈ lw_all := lw_g (lw_at lw_m3 154 rfl) rfl
theorem q747 : (Jvm.Cond.privateMethod ({ cls := "NailedByWord", name := "stepMany", desc := "([B)I" } : Jvm.MethodName)) ∈ lw_tbl := lw_at lw_m3 155 rfl
theorem q748 : (Jvm.Cond.instanceMethod ({ cls := "NailedByWord", name := "stepMany", desc := "([B)I" } : Jvm.MethodName)) ∈ lw_all := lw_g (lw_at lw_m3 156 rfl) rfl
theorem q749 : (Jvm.Cond.code ({ cls := "NailedByWord", name := "stepMany", desc := "([B)I" } : Jvm.MethodName) prog_1_method_56_code (3 : Nat) (Option.some Jvm.ClassFile.FieldType.int)) ∈ lw_all := lw_g (lw_at lw_m3 157 rfl) rfl
theorem q750 : (Jvm.Cond.methodLink "NailedByWord" (392 : Nat) ({ cls := "NailedByWord", name := "beginRoute", desc := "(I)V" } : Jvm.MethodName)) ∈ lw_all := lw_g (lw_at lw_m3 158 rfl) rfl
theorem q751 : (Jvm.Cond.privateMethod ({ cls := "NailedByWord", name := "beginRoute", desc := "(I)V" } : Jvm.MethodName)) ∈ lw_tbl := lw_at lw_m3 159 rfl
theorem q752 : (Jvm.Cond.instanceMethod ({ cls := "NailedByWord", name := "beginRoute", desc := "(I)V" } : Jvm.MethodName)) ∈ lw_all := lw_g (lw_at lw_m3 160 rfl) rfl
theorem q753 : (Jvm.Cond.code ({ cls := "NailedByWord", name := "beginRoute", desc := "(I)V" } : Jvm.MethodName) prog_1_method_51_code (2 : Nat) (Option.none : Option Jvm.ClassFile.FieldType)) ∈ lw_all := lw_g (lw_at lw_m3 161 rfl) rfl
theorem q754 : (Jvm.Cond.methodLink "NailedByWord" (374 : Nat) ({ cls := "NailedByWord", name := "keepHere", desc := "(I)V" } : Jvm.MethodName)) ∈ lw_all := lw_g (lw_at lw_m3 162 rfl) rfl
theorem q755 : (Jvm.Cond.privateMethod ({ cls := "NailedByWord", name := "keepHere", desc := "(I)V" } : Jvm.MethodName)) ∈ lw_tbl := lw_at lw_m3 163 rfl
theorem q756 : (Jvm.Cond.instanceMethod ({ cls := "NailedByWord", name := "keepHere", desc := "(I)V" } : Jvm.MethodName)) ∈ lw_all := lw_g (lw_at lw_m3 164 rfl) rfl
theorem q757 : (Jvm.Cond.code ({ cls := "NailedByWord", name := "keepHere", desc := "(I)V" } : Jvm.MethodName) prog_1_method_52_code (3 : Nat) (Option.none : Option Jvm.ClassFile.FieldType)) ∈ lw_all := lw_g (lw_at lw_m3 165 rfl) rfl
theorem q758 : (Jvm.Cond.methodLink "NailedByWord" (395 : Nat) ({ cls := "NailedByWord", name := "goStep", desc := "(II)V" } : Jvm.MethodName)) ∈ lw_all := lw_g (lw_at lw_m3 166 rfl) rfl
theorem q759 : (Jvm.Cond.privateMethod ({ cls := "NailedByWord", name := "goStep", desc := "(II)V" } : Jvm.MethodName)) ∈ lw_tbl := lw_at lw_m3 167 rfl
theorem q760 : (Jvm.Cond.instanceMethod ({ cls := "NailedByWord", name := "goStep", desc := "(II)V" } : Jvm.MethodName)) ∈ lw_all := lw_g (lw_at lw_m3 168 rfl) rfl
theorem q761 : (Jvm.Cond.code ({ cls := "NailedByWord", name := "goStep", desc := "(II)V" } : Jvm.MethodName) prog_1_method_53_code (3 : Nat) (Option.none : Option Jvm.ClassFile.FieldType)) ∈ lw_all := lw_g (lw_at lw_m3 169 rfl) rfl
theorem q762 : (Jvm.Cond.methodLink "NailedByWord" (355 : Nat) ({ cls := "NailedByWord", name := "isHeld", desc := "(III)Z" } : Jvm.MethodName)) ∈ lw_all := lw_g (lw_at lw_m3 170 rfl) rfl
theorem q763 : (Jvm.Cond.privateMethod ({ cls := "NailedByWord", name := "isHeld", desc := "(III)Z" } : Jvm.MethodName)) ∈ lw_tbl := lw_at lw_m3 171 rfl
theorem q764 : (Jvm.Cond.instanceMethod ({ cls := "NailedByWord", name := "isHeld", desc := "(III)Z" } : Jvm.MethodName)) ∈ lw_all := lw_g (lw_at lw_m3 172 rfl) rfl
theorem q765 : (Jvm.Cond.code ({ cls := "NailedByWord", name := "isHeld", desc := "(III)Z" } : Jvm.MethodName) prog_1_method_45_code (5 : Nat) (Option.some Jvm.ClassFile.FieldType.boolean)) ∈ lw_all := lw_g (lw_at lw_m3 173 rfl) rfl
theorem q766 : (Jvm.Cond.methodLink "NailedByWord" (377 : Nat) ({ cls := "NailedByWord", name := "stepFrom", desc := "(II)I" } : Jvm.MethodName)) ∈ lw_all := lw_g (lw_at lw_m3 174 rfl) rfl
theorem q767 : (Jvm.Cond.static ({ cls := "NailedByWord", name := "stepFrom", desc := "(II)I" } : Jvm.MethodName)) ∈ lw_all := lw_g (lw_at lw_m3 175 rfl) rfl
theorem q768 : (Jvm.Cond.code ({ cls := "NailedByWord", name := "stepFrom", desc := "(II)I" } : Jvm.MethodName) prog_1_method_49_code (2 : Nat) (Option.some Jvm.ClassFile.FieldType.int)) ∈ lw_all := lw_g (lw_at lw_m3 176 rfl) rfl
theorem q769 : (Jvm.Cond.methodLink "NailedByWord" (380 : Nat) ({ cls := "NailedByWord", name := "dayOf", desc := "(I)I" } : Jvm.MethodName)) ∈ lw_all := lw_g (lw_at lw_m3 177 rfl) rfl
theorem q770 : (Jvm.Cond.static ({ cls := "NailedByWord", name := "dayOf", desc := "(I)I" } : Jvm.MethodName)) ∈ lw_all := lw_g (lw_at lw_m3 178 rfl) rfl
theorem q771 : (Jvm.Cond.code ({ cls := "NailedByWord", name := "dayOf", desc := "(I)I" } : Jvm.MethodName) prog_1_method_50_code (1 : Nat) (Option.some Jvm.ClassFile.FieldType.int)) ∈ lw_all := lw_g (lw_at lw_m3 179 rfl) rfl
theorem q772 : (Jvm.Cond.methodLink "NailedByWord" (399 : Nat) ({ cls := "NailedByWord", name := "weightOf", desc := "(I)I" } : Jvm.MethodName)) ∈ lw_all := lw_g (lw_at lw_m3 180 rfl) rfl
theorem q773 : (Jvm.Cond.privateMethod ({ cls := "NailedByWord", name := "weightOf", desc := "(I)I" } : Jvm.MethodName)) ∈ lw_tbl := lw_at lw_m3 181 rfl
theorem q774 : (Jvm.Cond.instanceMethod ({ cls := "NailedByWord", name := "weightOf", desc := "(I)I" } : Jvm.MethodName)) ∈ lw_all := lw_g (lw_at lw_m3 182 rfl) rfl
theorem q775 : (Jvm.Cond.code ({ cls := "NailedByWord", name := "weightOf", desc := "(I)I" } : Jvm.MethodName) prog_1_method_54_code (4 : Nat) (Option.some Jvm.ClassFile.FieldType.int)) ∈ lw_all := lw_g (lw_at lw_m3 183 rfl) rfl
theorem q777 : (Jvm.Cond.instanceMethod ({ cls := "NailedByWord", name := "best", desc := "(III)I" } : Jvm.MethodName)) ∈ lw_all := lw_g (lw_at lw_m3 185 rfl) rfl
theorem q778 : (Jvm.Cond.selects "NailedByWord" ({ cls := "NailedByWord", name := "best", desc := "(III)I" } : Jvm.MethodName) ({ cls := "NailedByWord", name := "best", desc := "(III)I" } : Jvm.MethodName)) ∈ lw_all := lw_g (lw_at lw_m3 186 rfl) rfl
theorem q779 : (Jvm.Cond.code ({ cls := "NailedByWord", name := "best", desc := "(III)I" } : Jvm.MethodName) prog_1_method_58_code (9 : Nat) (Option.some Jvm.ClassFile.FieldType.int)) ∈ lw_all := lw_g (lw_at lw_m3 187 rfl) rfl
theorem q780 : (Jvm.Cond.constantLong "NailedByWord" (402 : Nat) (-1 : Int64)) ∈ lw_all := lw_g (lw_at lw_m3 188 rfl) rfl
theorem q782 : (Jvm.Cond.instanceMethod ({ cls := "NailedByWord", name := "soonest", desc := "(II)I" } : Jvm.MethodName)) ∈ lw_all := lw_g (lw_at lw_m3 190 rfl) rfl
theorem q783 : (Jvm.Cond.selects "NailedByWord" ({ cls := "NailedByWord", name := "soonest", desc := "(II)I" } : Jvm.MethodName) ({ cls := "NailedByWord", name := "soonest", desc := "(II)I" } : Jvm.MethodName)) ∈ lw_all := lw_g (lw_at lw_m3 191 rfl) rfl
theorem q784 : (Jvm.Cond.code ({ cls := "NailedByWord", name := "soonest", desc := "(II)I" } : Jvm.MethodName) prog_1_method_60_code (5 : Nat) (Option.some Jvm.ClassFile.FieldType.int)) ∈ lw_all := lw_g (lw_at lw_m3 192 rfl) rfl
theorem q785 : (Jvm.Cond.methodLink "NailedByWord" (404 : Nat) ({ cls := "NailedByWord", name := "spread", desc := "(III)I" } : Jvm.MethodName)) ∈ lw_all := lw_g (lw_at lw_m3 193 rfl) rfl
theorem q786 : (Jvm.Cond.privateMethod ({ cls := "NailedByWord", name := "spread", desc := "(III)I" } : Jvm.MethodName)) ∈ lw_tbl := lw_at lw_m3 194 rfl
theorem q787 : (Jvm.Cond.instanceMethod ({ cls := "NailedByWord", name := "spread", desc := "(III)I" } : Jvm.MethodName)) ∈ lw_all := lw_g (lw_at lw_m3 195 rfl) rfl
theorem q788 : (Jvm.Cond.code ({ cls := "NailedByWord", name := "spread", desc := "(III)I" } : Jvm.MethodName) prog_1_method_59_code (7 : Nat) (Option.some Jvm.ClassFile.FieldType.int)) ∈ lw_all := lw_g (lw_at lw_m3 196 rfl) rfl
theorem q790 : (Jvm.Cond.instanceMethod ({ cls := "NailedByWord", name := "free", desc := "(I)I" } : Jvm.MethodName)) ∈ lw_all := lw_g (lw_at lw_m3 198 rfl) rfl
theorem q791 : (Jvm.Cond.selects "NailedByWord" ({ cls := "NailedByWord", name := "free", desc := "(I)I" } : Jvm.MethodName) ({ cls := "NailedByWord", name := "free", desc := "(I)I" } : Jvm.MethodName)) ∈ lw_all := lw_g (lw_at lw_m3 199 rfl) rfl
theorem q792 : (Jvm.Cond.code ({ cls := "NailedByWord", name := "free", desc := "(I)I" } : Jvm.MethodName) prog_1_method_61_code (4 : Nat) (Option.some Jvm.ClassFile.FieldType.int)) ∈ lw_all := lw_g (lw_at lw_m3 200 rfl) rfl
theorem q794 : (Jvm.Cond.instanceMethod ({ cls := "NailedByWord", name := "words", desc := "(II)I" } : Jvm.MethodName)) ∈ lw_all := lw_g (lw_at lw_m3 202 rfl) rfl
theorem q795 : (Jvm.Cond.selects "NailedByWord" ({ cls := "NailedByWord", name := "words", desc := "(II)I" } : Jvm.MethodName) ({ cls := "NailedByWord", name := "words", desc := "(II)I" } : Jvm.MethodName)) ∈ lw_all := lw_g (lw_at lw_m3 203 rfl) rfl
theorem q796 : (Jvm.Cond.code ({ cls := "NailedByWord", name := "words", desc := "(II)I" } : Jvm.MethodName) prog_1_method_63_code (7 : Nat) (Option.some Jvm.ClassFile.FieldType.int)) ∈ lw_all := lw_g (lw_at lw_m3 204 rfl) rfl
theorem q797 : (Jvm.Cond.methodLink "NailedByWord" (408 : Nat) ({ cls := "NailedByWord", name := "onHere", desc := "(I)I" } : Jvm.MethodName)) ∈ lw_all := lw_g (lw_at lw_m3 205 rfl) rfl
theorem q798 : (Jvm.Cond.privateMethod ({ cls := "NailedByWord", name := "onHere", desc := "(I)I" } : Jvm.MethodName)) ∈ lw_tbl := lw_at lw_m3 206 rfl
theorem q799 : (Jvm.Cond.instanceMethod ({ cls := "NailedByWord", name := "onHere", desc := "(I)I" } : Jvm.MethodName)) ∈ lw_all := lw_g (lw_at lw_m3 207 rfl) rfl
theorem q800 : (Jvm.Cond.code ({ cls := "NailedByWord", name := "onHere", desc := "(I)I" } : Jvm.MethodName) prog_1_method_62_code (4 : Nat) (Option.some Jvm.ClassFile.FieldType.int)) ∈ lw_all := lw_g (lw_at lw_m3 208 rfl) rfl
theorem q801 : (Jvm.Cond.methodLink "NailedByWord" (411 : Nat) ({ cls := "NailedByWord", name := "ones", desc := "(I)I" } : Jvm.MethodName)) ∈ lw_all := lw_g (lw_at lw_m3 209 rfl) rfl
theorem q802 : (Jvm.Cond.static ({ cls := "NailedByWord", name := "ones", desc := "(I)I" } : Jvm.MethodName)) ∈ lw_all := lw_g (lw_at lw_m3 210 rfl) rfl
theorem q803 : (Jvm.Cond.code ({ cls := "NailedByWord", name := "ones", desc := "(I)I" } : Jvm.MethodName) prog_1_method_4_code (3 : Nat) (Option.some Jvm.ClassFile.FieldType.int)) ∈ lw_all := lw_g (lw_at lw_m3 211 rfl) rfl
theorem q804 : (Jvm.Cond.methodLink "NailedByWord" (414 : Nat) ({ cls := "NailedByWord", name := "isHeldNow", desc := "(I)Z" } : Jvm.MethodName)) ∈ lw_all := lw_g (lw_at lw_m3 212 rfl) rfl
theorem q805 : (Jvm.Cond.privateMethod ({ cls := "NailedByWord", name := "isHeldNow", desc := "(I)Z" } : Jvm.MethodName)) ∈ lw_tbl := lw_at lw_m3 213 rfl
theorem q806 : (Jvm.Cond.instanceMethod ({ cls := "NailedByWord", name := "isHeldNow", desc := "(I)Z" } : Jvm.MethodName)) ∈ lw_all := lw_g (lw_at lw_m3 214 rfl) rfl
theorem q807 : (Jvm.Cond.code ({ cls := "NailedByWord", name := "isHeldNow", desc := "(I)Z" } : Jvm.MethodName) prog_1_method_46_code (2 : Nat) (Option.some Jvm.ClassFile.FieldType.boolean)) ∈ lw_all := lw_g (lw_at lw_m3 215 rfl) rfl
theorem q809 : (Jvm.Cond.instanceMethod ({ cls := "NailedByWord", name := "all", desc := "(I)I" } : Jvm.MethodName)) ∈ lw_all := lw_g (lw_at lw_m3 217 rfl) rfl
theorem q810 : (Jvm.Cond.selects "NailedByWord" ({ cls := "NailedByWord", name := "all", desc := "(I)I" } : Jvm.MethodName) ({ cls := "NailedByWord", name := "all", desc := "(I)I" } : Jvm.MethodName)) ∈ lw_all := lw_g (lw_at lw_m3 218 rfl) rfl
theorem q811 : (Jvm.Cond.code ({ cls := "NailedByWord", name := "all", desc := "(I)I" } : Jvm.MethodName) prog_1_method_65_code (6 : Nat) (Option.some Jvm.ClassFile.FieldType.int)) ∈ lw_all := lw_g (lw_at lw_m3 219 rfl) rfl
theorem q812 : (Jvm.Cond.methodLink "NailedByWord" (417 : Nat) ({ cls := "NailedByWord", name := "isNobodyHeld", desc := "()Z" } : Jvm.MethodName)) ∈ lw_all := lw_g (lw_at lw_m3 220 rfl) rfl
theorem q813 : (Jvm.Cond.privateMethod ({ cls := "NailedByWord", name := "isNobodyHeld", desc := "()Z" } : Jvm.MethodName)) ∈ lw_tbl := lw_at lw_m3 221 rfl
theorem q814 : (Jvm.Cond.instanceMethod ({ cls := "NailedByWord", name := "isNobodyHeld", desc := "()Z" } : Jvm.MethodName)) ∈ lw_all := lw_g (lw_at lw_m3 222 rfl) rfl
theorem q815 : (Jvm.Cond.code ({ cls := "NailedByWord", name := "isNobodyHeld", desc := "()Z" } : Jvm.MethodName) prog_1_method_64_code (2 : Nat) (Option.some Jvm.ClassFile.FieldType.boolean)) ∈ lw_all := lw_g (lw_at lw_m3 223 rfl) rfl
theorem q817 : (Jvm.Cond.instanceMethod ({ cls := "NailedByWord", name := "ring", desc := "()I" } : Jvm.MethodName)) ∈ lw_all := lw_g (lw_at lw_m3 225 rfl) rfl
theorem q818 : (Jvm.Cond.selects "NailedByWord" ({ cls := "NailedByWord", name := "ring", desc := "()I" } : Jvm.MethodName) ({ cls := "NailedByWord", name := "ring", desc := "()I" } : Jvm.MethodName)) ∈ lw_all := lw_g (lw_at lw_m3 226 rfl) rfl
theorem q819 : (Jvm.Cond.code ({ cls := "NailedByWord", name := "ring", desc := "()I" } : Jvm.MethodName) prog_1_method_66_code (4 : Nat) (Option.some Jvm.ClassFile.FieldType.int)) ∈ lw_all := lw_g (lw_at lw_m3 227 rfl) rfl
theorem q820 : (Jvm.Cond.methodLink "NailedByWord" (420 : Nat) ({ cls := "NailedByWord", name := "followed", desc := "(II)I" } : Jvm.MethodName)) ∈ lw_all := lw_g (lw_at lw_m3 228 rfl) rfl
theorem q821 : (Jvm.Cond.privateMethod ({ cls := "NailedByWord", name := "followed", desc := "(II)I" } : Jvm.MethodName)) ∈ lw_tbl := lw_at lw_m3 229 rfl
theorem q822 : (Jvm.Cond.instanceMethod ({ cls := "NailedByWord", name := "followed", desc := "(II)I" } : Jvm.MethodName)) ∈ lw_all := lw_g (lw_at lw_m3 230 rfl) rfl
theorem q823 : (Jvm.Cond.code ({ cls := "NailedByWord", name := "followed", desc := "(II)I" } : Jvm.MethodName) prog_1_method_67_code (7 : Nat) (Option.some Jvm.ClassFile.FieldType.int)) ∈ lw_all := lw_g (lw_at lw_m3 231 rfl) rfl
theorem q825 : (Jvm.Cond.instanceMethod ({ cls := "NailedByWord", name := "breaks", desc := "(II)I" } : Jvm.MethodName)) ∈ lw_all := lw_g (lw_at lw_m3 233 rfl) rfl
theorem q826 : (Jvm.Cond.selects "NailedByWord" ({ cls := "NailedByWord", name := "breaks", desc := "(II)I" } : Jvm.MethodName) ({ cls := "NailedByWord", name := "breaks", desc := "(II)I" } : Jvm.MethodName)) ∈ lw_all := lw_g (lw_at lw_m3 234 rfl) rfl
theorem q827 : (Jvm.Cond.code ({ cls := "NailedByWord", name := "breaks", desc := "(II)I" } : Jvm.MethodName) prog_1_method_68_code (7 : Nat) (Option.some Jvm.ClassFile.FieldType.int)) ∈ lw_all := lw_g (lw_at lw_m3 235 rfl) rfl
theorem q829 : (Jvm.Cond.instanceMethod ({ cls := "NailedByWord", name := "judge", desc := "(II)I" } : Jvm.MethodName)) ∈ lw_all := lw_g (lw_at lw_m3 237 rfl) rfl
theorem q830 : (Jvm.Cond.selects "NailedByWord" ({ cls := "NailedByWord", name := "judge", desc := "(II)I" } : Jvm.MethodName) ({ cls := "NailedByWord", name := "judge", desc := "(II)I" } : Jvm.MethodName)) ∈ lw_all := lw_g (lw_at lw_m3 238 rfl) rfl
theorem q831 : (Jvm.Cond.code ({ cls := "NailedByWord", name := "judge", desc := "(II)I" } : Jvm.MethodName) prog_1_method_70_code (7 : Nat) (Option.some Jvm.ClassFile.FieldType.int)) ∈ lw_all := lw_g (lw_at lw_m3 239 rfl) rfl
theorem q832 : (Jvm.Cond.methodLink "NailedByWord" (423 : Nat) ({ cls := "NailedByWord", name := "lookAtBoth", desc := "(I)I" } : Jvm.MethodName)) ∈ lw_all := lw_g (lw_at lw_m4 0 rfl) rfl
theorem q833 : (Jvm.Cond.privateMethod ({ cls := "NailedByWord", name := "lookAtBoth", desc := "(I)I" } : Jvm.MethodName)) ∈ lw_tbl := lw_at lw_m4 1 rfl
theorem q834 : (Jvm.Cond.instanceMethod ({ cls := "NailedByWord", name := "lookAtBoth", desc := "(I)I" } : Jvm.MethodName)) ∈ lw_all := lw_g (lw_at lw_m4 2 rfl) rfl
theorem q835 : (Jvm.Cond.code ({ cls := "NailedByWord", name := "lookAtBoth", desc := "(I)I" } : Jvm.MethodName) prog_1_method_69_code (2 : Nat) (Option.some Jvm.ClassFile.FieldType.int)) ∈ lw_all := lw_g (lw_at lw_m4 3 rfl) rfl
theorem q837 : (Jvm.Cond.instanceMethod ({ cls := "NailedByWord", name := "can", desc := "(II)I" } : Jvm.MethodName)) ∈ lw_all := lw_g (lw_at lw_m4 5 rfl) rfl
theorem q838 : (Jvm.Cond.selects "NailedByWord" ({ cls := "NailedByWord", name := "can", desc := "(II)I" } : Jvm.MethodName) ({ cls := "NailedByWord", name := "can", desc := "(II)I" } : Jvm.MethodName)) ∈ lw_all := lw_g (lw_at lw_m4 6 rfl) rfl
theorem q839 : (Jvm.Cond.code ({ cls := "NailedByWord", name := "can", desc := "(II)I" } : Jvm.MethodName) prog_1_method_72_code (3 : Nat) (Option.some Jvm.ClassFile.FieldType.int)) ∈ lw_all := lw_g (lw_at lw_m4 7 rfl) rfl
theorem q840 : (Jvm.Cond.methodLink "NailedByWord" (426 : Nat) ({ cls := "NailedByWord", name := "canBe", desc := "([BI)Z" } : Jvm.MethodName)) ∈ lw_all := lw_g (lw_at lw_m4 8 rfl) rfl
theorem q841 : (Jvm.Cond.privateMethod ({ cls := "NailedByWord", name := "canBe", desc := "([BI)Z" } : Jvm.MethodName)) ∈ lw_tbl := lw_at lw_m4 9 rfl
theorem q842 : (Jvm.Cond.instanceMethod ({ cls := "NailedByWord", name := "canBe", desc := "([BI)Z" } : Jvm.MethodName)) ∈ lw_all := lw_g (lw_at lw_m4 10 rfl) rfl
theorem q843 : (Jvm.Cond.code ({ cls := "NailedByWord", name := "canBe", desc := "([BI)Z" } : Jvm.MethodName) prog_1_method_71_code (5 : Nat) (Option.some Jvm.ClassFile.FieldType.boolean)) ∈ lw_all := lw_g (lw_at lw_m4 11 rfl) rfl
theorem q845 : (Jvm.Cond.instanceMethod ({ cls := "NailedByWord", name := "who", desc := "(I)I" } : Jvm.MethodName)) ∈ lw_all := lw_g (lw_at lw_m4 13 rfl) rfl
theorem q846 : (Jvm.Cond.selects "NailedByWord" ({ cls := "NailedByWord", name := "who", desc := "(I)I" } : Jvm.MethodName) ({ cls := "NailedByWord", name := "who", desc := "(I)I" } : Jvm.MethodName)) ∈ lw_all := lw_g (lw_at lw_m4 14 rfl) rfl
theorem q847 : (Jvm.Cond.code ({ cls := "NailedByWord", name := "who", desc := "(I)I" } : Jvm.MethodName) prog_1_method_73_code (4 : Nat) (Option.some Jvm.ClassFile.FieldType.int)) ∈ lw_all := lw_g (lw_at lw_m4 15 rfl) rfl
theorem q849 : (Jvm.Cond.instanceMethod ({ cls := "NailedByWord", name := "feeds", desc := "(II)I" } : Jvm.MethodName)) ∈ lw_all := lw_g (lw_at lw_m4 17 rfl) rfl
theorem q850 : (Jvm.Cond.selects "NailedByWord" ({ cls := "NailedByWord", name := "feeds", desc := "(II)I" } : Jvm.MethodName) ({ cls := "NailedByWord", name := "feeds", desc := "(II)I" } : Jvm.MethodName)) ∈ lw_all := lw_g (lw_at lw_m4 18 rfl) rfl
theorem q851 : (Jvm.Cond.code ({ cls := "NailedByWord", name := "feeds", desc := "(II)I" } : Jvm.MethodName) prog_1_method_76_code (5 : Nat) (Option.some Jvm.ClassFile.FieldType.int)) ∈ lw_all := lw_g (lw_at lw_m4 19 rfl) rfl
theorem q852 : (Jvm.Cond.constant "NailedByWord" (452 : Nat) (1000000 : Int32)) ∈ lw_all := lw_g (lw_at lw_m4 20 rfl) rfl
theorem q853 : (Jvm.Cond.methodLink "NailedByWord" (448 : Nat) ({ cls := "NailedByWord", name := "goRound", desc := "(IIIII)V" } : Jvm.MethodName)) ∈ lw_all := lw_g (lw_at lw_m4 21 rfl) rfl
theorem q854 : (Jvm.Cond.privateMethod ({ cls := "NailedByWord", name := "goRound", desc := "(IIIII)V" } : Jvm.MethodName)) ∈ lw_tbl := lw_at lw_m4 22 rfl
theorem q855 : (Jvm.Cond.instanceMethod ({ cls := "NailedByWord", name := "goRound", desc := "(IIIII)V" } : Jvm.MethodName)) ∈ lw_all := lw_g (lw_at lw_m4 23 rfl) rfl
theorem q856 : (Jvm.Cond.code ({ cls := "NailedByWord", name := "goRound", desc := "(IIIII)V" } : Jvm.MethodName) prog_1_method_75_code (7 : Nat) (Option.none : Option Jvm.ClassFile.FieldType)) ∈ lw_all := lw_g (lw_at lw_m4 24 rfl) rfl
theorem q857 : (Jvm.Cond.methodLink "NailedByWord" (433 : Nat) ({ cls := "NailedByWord", name := "farFrom", desc := "(II)I" } : Jvm.MethodName)) ∈ lw_all := lw_g (lw_at lw_m4 25 rfl) rfl
theorem q858 : (Jvm.Cond.static ({ cls := "NailedByWord", name := "farFrom", desc := "(II)I" } : Jvm.MethodName)) ∈ lw_all := lw_g (lw_at lw_m4 26 rfl) rfl
theorem q859 : (Jvm.Cond.code ({ cls := "NailedByWord", name := "farFrom", desc := "(II)I" } : Jvm.MethodName) prog_1_method_74_code (2 : Nat) (Option.some Jvm.ClassFile.FieldType.int)) ∈ lw_all := lw_g (lw_at lw_m4 27 rfl) rfl
theorem q860 : (Jvm.Cond.methodLink "NailedByWord" (430 : Nat) ({ cls := "java/lang/Math", name := "abs", desc := "(I)I" } : Jvm.MethodName)) ∈ lw_all := lw_g (lw_at lw_m4 28 rfl) rfl
theorem q863 : (Jvm.Cond.methodLink "NailedByWord" (442 : Nat) ({ cls := "java/lang/System", name := "arraycopy", desc := "(Ljava/lang/Object;ILjava/lang/Object;II)V" } : Jvm.MethodName)) ∈ lw_all := lw_g (lw_at lw_m4 31 rfl) rfl
theorem q867 : (Jvm.Cond.instanceMethod ({ cls := "NailedByWord", name := "odds", desc := "(II)J" } : Jvm.MethodName)) ∈ lw_all := lw_g (lw_at lw_m4 35 rfl) rfl
theorem q868 : (Jvm.Cond.selects "NailedByWord" ({ cls := "NailedByWord", name := "odds", desc := "(II)J" } : Jvm.MethodName) ({ cls := "NailedByWord", name := "odds", desc := "(II)J" } : Jvm.MethodName)) ∈ lw_all := lw_g (lw_at lw_m4 36 rfl) rfl
theorem q869 : (Jvm.Cond.code ({ cls := "NailedByWord", name := "odds", desc := "(II)J" } : Jvm.MethodName) prog_1_method_78_code (11 : Nat) (Option.some Jvm.ClassFile.FieldType.long)) ∈ lw_all := lw_g (lw_at lw_m4 37 rfl) rfl
theorem q870 : (Jvm.Cond.constantLong "NailedByWord" (459 : Nat) (-9223372036854775808 : Int64)) ∈ lw_all := lw_g (lw_at lw_m4 38 rfl) rfl
theorem q871 : (Jvm.Cond.methodLink "NailedByWord" (453 : Nat) ({ cls := "NailedByWord", name := "common", desc := "(JJ)J" } : Jvm.MethodName)) ∈ lw_all := lw_g (lw_at lw_m4 39 rfl) rfl
theorem q872 : (Jvm.Cond.static ({ cls := "NailedByWord", name := "common", desc := "(JJ)J" } : Jvm.MethodName)) ∈ lw_all := lw_g (lw_at lw_m4 40 rfl) rfl
theorem q873 : (Jvm.Cond.code ({ cls := "NailedByWord", name := "common", desc := "(JJ)J" } : Jvm.MethodName) prog_1_method_77_code (4 : Nat) (Option.some Jvm.ClassFile.FieldType.long)) ∈ lw_all := lw_g (lw_at lw_m4 41 rfl) rfl
theorem q875 : (Jvm.Cond.instanceMethod ({ cls := "NailedByWord", name := "rued", desc := "(II)I" } : Jvm.MethodName)) ∈ lw_all := lw_g (lw_at lw_m4 43 rfl) rfl
theorem q876 : (Jvm.Cond.selects "NailedByWord" ({ cls := "NailedByWord", name := "rued", desc := "(II)I" } : Jvm.MethodName) ({ cls := "NailedByWord", name := "rued", desc := "(II)I" } : Jvm.MethodName)) ∈ lw_all := lw_g (lw_at lw_m4 44 rfl) rfl
theorem q877 : (Jvm.Cond.code ({ cls := "NailedByWord", name := "rued", desc := "(II)I" } : Jvm.MethodName) prog_1_method_79_code (8 : Nat) (Option.some Jvm.ClassFile.FieldType.int)) ∈ lw_all := lw_g (lw_at lw_m4 45 rfl) rfl
theorem q878 : (Jvm.Cond.constantLong "NailedByWord" (461 : Nat) (8 : Int64)) ∈ lw_all := lw_g (lw_at lw_m4 46 rfl) rfl
theorem q880 : (Jvm.Cond.instanceMethod ({ cls := "NailedByWord", name := "byTurns", desc := "(IIII)I" } : Jvm.MethodName)) ∈ lw_all := lw_g (lw_at lw_m4 48 rfl) rfl
theorem q881 : (Jvm.Cond.selects "NailedByWord" ({ cls := "NailedByWord", name := "byTurns", desc := "(IIII)I" } : Jvm.MethodName) ({ cls := "NailedByWord", name := "byTurns", desc := "(IIII)I" } : Jvm.MethodName)) ∈ lw_all := lw_g (lw_at lw_m4 49 rfl) rfl
theorem q882 : (Jvm.Cond.code ({ cls := "NailedByWord", name := "byTurns", desc := "(IIII)I" } : Jvm.MethodName) prog_1_method_83_code (8 : Nat) (Option.some Jvm.ClassFile.FieldType.int)) ∈ lw_all := lw_g (lw_at lw_m4 50 rfl) rfl
theorem q883 : (Jvm.Cond.methodLink "NailedByWord" (469 : Nat) ({ cls := "NailedByWord", name := "playFrom", desc := "(IIII)I" } : Jvm.MethodName)) ∈ lw_all := lw_g (lw_at lw_m4 51 rfl) rfl
theorem q884 : (Jvm.Cond.privateMethod ({ cls := "NailedByWord", name := "playFrom", desc := "(IIII)I" } : Jvm.MethodName)) ∈ lw_tbl := lw_at lw_m4 52 rfl
theorem q885 : (Jvm.Cond.instanceMethod ({ cls := "NailedByWord", name := "playFrom", desc := "(IIII)I" } : Jvm.MethodName)) ∈ lw_all := lw_g (lw_at lw_m4 53 rfl) rfl
theorem q886 : (Jvm.Cond.code ({ cls := "NailedByWord", name := "playFrom", desc := "(IIII)I" } : Jvm.MethodName) prog_1_method_82_code (8 : Nat) (Option.some Jvm.ClassFile.FieldType.int)) ∈ lw_all := lw_g (lw_at lw_m4 54 rfl) rfl
theorem q887 : (Jvm.Cond.methodLink "NailedByWord" (476 : Nat) ({ cls := "NailedByWord", name := "stepTurn", desc := "(IIIII)I" } : Jvm.MethodName)) ∈ lw_all := lw_g (lw_at lw_m4 55 rfl) rfl
theorem q888 : (Jvm.Cond.privateMethod ({ cls := "NailedByWord", name := "stepTurn", desc := "(IIIII)I" } : Jvm.MethodName)) ∈ lw_tbl := lw_at lw_m4 56 rfl
theorem q889 : (Jvm.Cond.instanceMethod ({ cls := "NailedByWord", name := "stepTurn", desc := "(IIIII)I" } : Jvm.MethodName)) ∈ lw_all := lw_g (lw_at lw_m4 57 rfl) rfl
theorem q890 : (Jvm.Cond.code ({ cls := "NailedByWord", name := "stepTurn", desc := "(IIIII)I" } : Jvm.MethodName) prog_1_method_81_code (6 : Nat) (Option.some Jvm.ClassFile.FieldType.int)) ∈ lw_all := lw_g (lw_at lw_m4 58 rfl) rfl
theorem q891 : (Jvm.Cond.methodLink "NailedByWord" (479 : Nat) ({ cls := "NailedByWord", name := "leastToForget", desc := "()I" } : Jvm.MethodName)) ∈ lw_all := lw_g (lw_at lw_m4 59 rfl) rfl
theorem q892 : (Jvm.Cond.privateMethod ({ cls := "NailedByWord", name := "leastToForget", desc := "()I" } : Jvm.MethodName)) ∈ lw_tbl := lw_at lw_m4 60 rfl
theorem q893 : (Jvm.Cond.instanceMethod ({ cls := "NailedByWord", name := "leastToForget", desc := "()I" } : Jvm.MethodName)) ∈ lw_all := lw_g (lw_at lw_m4 61 rfl) rfl
theorem q894 : (Jvm.Cond.code ({ cls := "NailedByWord", name := "leastToForget", desc := "()I" } : Jvm.MethodName) prog_1_method_80_code (2 : Nat) (Option.some Jvm.ClassFile.FieldType.int)) ∈ lw_all := lw_g (lw_at lw_m4 62 rfl) rfl
theorem q896 : (Jvm.Cond.instanceMethod ({ cls := "NailedByWord", name := "drawn", desc := "(IIII)I" } : Jvm.MethodName)) ∈ lw_all := lw_g (lw_at lw_m4 64 rfl) rfl
theorem q897 : (Jvm.Cond.selects "NailedByWord" ({ cls := "NailedByWord", name := "drawn", desc := "(IIII)I" } : Jvm.MethodName) ({ cls := "NailedByWord", name := "drawn", desc := "(IIII)I" } : Jvm.MethodName)) ∈ lw_all := lw_g (lw_at lw_m4 65 rfl) rfl
theorem q898 : (Jvm.Cond.code ({ cls := "NailedByWord", name := "drawn", desc := "(IIII)I" } : Jvm.MethodName) prog_1_method_84_code (10 : Nat) (Option.some Jvm.ClassFile.FieldType.int)) ∈ lw_all := lw_g (lw_at lw_m4 66 rfl) rfl
theorem q899 : (Jvm.Cond.constantLong "NailedByWord" (482 : Nat) (40 : Int64)) ∈ lw_all := lw_g (lw_at lw_m4 67 rfl) rfl
theorem q900 : (Jvm.Cond.constant "NailedByWord" (484 : Nat) (1103515245 : Int32)) ∈ lw_all := lw_g (lw_at lw_m4 68 rfl) rfl
theorem q902 : (Jvm.Cond.instanceMethod ({ cls := "NailedByWord", name := "step", desc := "(II)I" } : Jvm.MethodName)) ∈ lw_all := lw_g (lw_at lw_m4 70 rfl) rfl
theorem q903 : (Jvm.Cond.selects "NailedByWord" ({ cls := "NailedByWord", name := "step", desc := "(II)I" } : Jvm.MethodName) ({ cls := "NailedByWord", name := "step", desc := "(II)I" } : Jvm.MethodName)) ∈ lw_all := lw_g (lw_at lw_m4 71 rfl) rfl
theorem q904 : (Jvm.Cond.code ({ cls := "NailedByWord", name := "step", desc := "(II)I" } : Jvm.MethodName) prog_1_method_85_code (3 : Nat) (Option.some Jvm.ClassFile.FieldType.int)) ∈ lw_all := lw_g (lw_at lw_m4 72 rfl) rfl
theorem q906 : (Jvm.Cond.instanceMethod ({ cls := "NailedByWord", name := "pull", desc := "(I)I" } : Jvm.MethodName)) ∈ lw_all := lw_g (lw_at lw_m4 74 rfl) rfl
theorem q907 : (Jvm.Cond.selects "NailedByWord" ({ cls := "NailedByWord", name := "pull", desc := "(I)I" } : Jvm.MethodName) ({ cls := "NailedByWord", name := "pull", desc := "(I)I" } : Jvm.MethodName)) ∈ lw_all := lw_g (lw_at lw_m4 75 rfl) rfl
theorem q908 : (Jvm.Cond.code ({ cls := "NailedByWord", name := "pull", desc := "(I)I" } : Jvm.MethodName) prog_1_method_86_code (3 : Nat) (Option.some Jvm.ClassFile.FieldType.int)) ∈ lw_all := lw_g (lw_at lw_m4 76 rfl) rfl
theorem q910 : (Jvm.Cond.instanceMethod ({ cls := "NailedByWord", name := "letOff", desc := "(I)I" } : Jvm.MethodName)) ∈ lw_all := lw_g (lw_at lw_m4 78 rfl) rfl
theorem q911 : (Jvm.Cond.selects "NailedByWord" ({ cls := "NailedByWord", name := "letOff", desc := "(I)I" } : Jvm.MethodName) ({ cls := "NailedByWord", name := "letOff", desc := "(I)I" } : Jvm.MethodName)) ∈ lw_all := lw_g (lw_at lw_m4 79 rfl) rfl
theorem q912 : (Jvm.Cond.code ({ cls := "NailedByWord", name := "letOff", desc := "(I)I" } : Jvm.MethodName) prog_1_method_87_code (3 : Nat) (Option.some Jvm.ClassFile.FieldType.int)) ∈ lw_all := lw_g (lw_at lw_m4 80 rfl) rfl
theorem q914 : (Jvm.Cond.instanceMethod ({ cls := "NailedByWord", name := "forget", desc := "(I)I" } : Jvm.MethodName)) ∈ lw_all := lw_g (lw_at lw_m4 82 rfl) rfl
theorem q915 : (Jvm.Cond.selects "NailedByWord" ({ cls := "NailedByWord", name := "forget", desc := "(I)I" } : Jvm.MethodName) ({ cls := "NailedByWord", name := "forget", desc := "(I)I" } : Jvm.MethodName)) ∈ lw_all := lw_g (lw_at lw_m4 83 rfl) rfl
theorem q916 : (Jvm.Cond.code ({ cls := "NailedByWord", name := "forget", desc := "(I)I" } : Jvm.MethodName) prog_1_method_88_code (3 : Nat) (Option.some Jvm.ClassFile.FieldType.int)) ∈ lw_all := lw_g (lw_at lw_m4 84 rfl) rfl
theorem q918 : (Jvm.Cond.instanceMethod ({ cls := "NailedByWord", name := "day", desc := "()I" } : Jvm.MethodName)) ∈ lw_all := lw_g (lw_at lw_m4 86 rfl) rfl
theorem q919 : (Jvm.Cond.selects "NailedByWord" ({ cls := "NailedByWord", name := "day", desc := "()I" } : Jvm.MethodName) ({ cls := "NailedByWord", name := "day", desc := "()I" } : Jvm.MethodName)) ∈ lw_all := lw_g (lw_at lw_m4 87 rfl) rfl
theorem q920 : (Jvm.Cond.code ({ cls := "NailedByWord", name := "day", desc := "()I" } : Jvm.MethodName) prog_1_method_89_code (1 : Nat) (Option.some Jvm.ClassFile.FieldType.int)) ∈ lw_all := lw_g (lw_at lw_m4 88 rfl) rfl
theorem q922 : (Jvm.Cond.instanceMethod ({ cls := "NailedByWord", name := "led", desc := "(I)I" } : Jvm.MethodName)) ∈ lw_all := lw_g (lw_at lw_m4 90 rfl) rfl
theorem q923 : (Jvm.Cond.selects "NailedByWord" ({ cls := "NailedByWord", name := "led", desc := "(I)I" } : Jvm.MethodName) ({ cls := "NailedByWord", name := "led", desc := "(I)I" } : Jvm.MethodName)) ∈ lw_all := lw_g (lw_at lw_m4 91 rfl) rfl
theorem q924 : (Jvm.Cond.code ({ cls := "NailedByWord", name := "led", desc := "(I)I" } : Jvm.MethodName) prog_1_method_90_code (2 : Nat) (Option.some Jvm.ClassFile.FieldType.int)) ∈ lw_all := lw_g (lw_at lw_m4 92 rfl) rfl
theorem q926 : (Jvm.Cond.instanceMethod ({ cls := "NailedByWord", name := "image", desc := "()I" } : Jvm.MethodName)) ∈ lw_all := lw_g (lw_at lw_m4 94 rfl) rfl
theorem q927 : (Jvm.Cond.selects "NailedByWord" ({ cls := "NailedByWord", name := "image", desc := "()I" } : Jvm.MethodName) ({ cls := "NailedByWord", name := "image", desc := "()I" } : Jvm.MethodName)) ∈ lw_all := lw_g (lw_at lw_m4 95 rfl) rfl
theorem q928 : (Jvm.Cond.code ({ cls := "NailedByWord", name := "image", desc := "()I" } : Jvm.MethodName) prog_1_method_91_code (2 : Nat) (Option.some Jvm.ClassFile.FieldType.int)) ∈ lw_all := lw_g (lw_at lw_m4 96 rfl) rfl
theorem q930 : (Jvm.Cond.instanceMethod ({ cls := "NailedByWord", name := "back", desc := "()I" } : Jvm.MethodName)) ∈ lw_all := lw_g (lw_at lw_m4 98 rfl) rfl
theorem q931 : (Jvm.Cond.selects "NailedByWord" ({ cls := "NailedByWord", name := "back", desc := "()I" } : Jvm.MethodName) ({ cls := "NailedByWord", name := "back", desc := "()I" } : Jvm.MethodName)) ∈ lw_all := lw_g (lw_at lw_m4 99 rfl) rfl
theorem q932 : (Jvm.Cond.code ({ cls := "NailedByWord", name := "back", desc := "()I" } : Jvm.MethodName) prog_1_method_92_code (2 : Nat) (Option.some Jvm.ClassFile.FieldType.int)) ∈ lw_all := lw_g (lw_at lw_m4 100 rfl) rfl
theorem q934 : (Jvm.Cond.instanceMethod ({ cls := "NailedByWord", name := "body", desc := "(I)I" } : Jvm.MethodName)) ∈ lw_all := lw_g (lw_at lw_m4 102 rfl) rfl
theorem q935 : (Jvm.Cond.selects "NailedByWord" ({ cls := "NailedByWord", name := "body", desc := "(I)I" } : Jvm.MethodName) ({ cls := "NailedByWord", name := "body", desc := "(I)I" } : Jvm.MethodName)) ∈ lw_all := lw_g (lw_at lw_m4 103 rfl) rfl
theorem q936 : (Jvm.Cond.code ({ cls := "NailedByWord", name := "body", desc := "(I)I" } : Jvm.MethodName) prog_1_method_95_code (2 : Nat) (Option.some Jvm.ClassFile.FieldType.int)) ∈ lw_all := lw_g (lw_at lw_m4 104 rfl) rfl
theorem q937 : (Jvm.Cond.methodLink "NailedByWord" (529 : Nat) ({ cls := "NailedByWord", name := "made", desc := "(I)LNailedByWord$Body;" } : Jvm.MethodName)) ∈ lw_all := lw_g (lw_at lw_m4 105 rfl) rfl
theorem q938 : (Jvm.Cond.privateMethod ({ cls := "NailedByWord", name := "made", desc := "(I)LNailedByWord$Body;" } : Jvm.MethodName)) ∈ lw_tbl := lw_at lw_m4 106 rfl
theorem q939 : (Jvm.Cond.instanceMethod ({ cls := "NailedByWord", name := "made", desc := "(I)LNailedByWord$Body;" } : Jvm.MethodName)) ∈ lw_all := lw_g (lw_at lw_m4 107 rfl) rfl
theorem q940 : (Jvm.Cond.code ({ cls := "NailedByWord", name := "made", desc := "(I)LNailedByWord$Body;" } : Jvm.MethodName) prog_1_method_94_code (2 : Nat) (Option.some (Jvm.ClassFile.FieldType.object "NailedByWord$Body"))) ∈ lw_all := lw_g (lw_at lw_m4 108 rfl) rfl
theorem q941 : (Jvm.Cond.classLink "NailedByWord" (507 : Nat) "NailedByWord$SoleTack") ∈ lw_all := lw_g (lw_at lw_m4 109 rfl) rfl
theorem q943 : (Jvm.Cond.methodLink "NailedByWord" (509 : Nat) ({ cls := "NailedByWord$SoleTack", name := "<init>", desc := "(LNailedByWord;I)V" } : Jvm.MethodName)) ∈ lw_all := lw_g (lw_at lw_m4 111 rfl) rfl
theorem q960 : (Jvm.Cond.classLink "NailedByWord" (510 : Nat) "NailedByWord$LaceTack") ∈ lw_all := lw_g (lw_at lw_m4 128 rfl) rfl
theorem q962 : (Jvm.Cond.methodLink "NailedByWord" (512 : Nat) ({ cls := "NailedByWord$LaceTack", name := "<init>", desc := "(LNailedByWord;I)V" } : Jvm.MethodName)) ∈ lw_all := lw_g (lw_at lw_m4 130 rfl) rfl
theorem q972 : (Jvm.Cond.classLink "NailedByWord" (513 : Nat) "NailedByWord$HeelTack") ∈ lw_all := lw_g (lw_at lw_m4 140 rfl) rfl
theorem q974 : (Jvm.Cond.methodLink "NailedByWord" (515 : Nat) ({ cls := "NailedByWord$HeelTack", name := "<init>", desc := "(LNailedByWord;I)V" } : Jvm.MethodName)) ∈ lw_all := lw_g (lw_at lw_m4 142 rfl) rfl
theorem q985 : (Jvm.Cond.classLink "NailedByWord" (516 : Nat) "NailedByWord$JarTack") ∈ lw_all := lw_g (lw_at lw_m4 153 rfl) rfl
theorem q987 : (Jvm.Cond.methodLink "NailedByWord" (518 : Nat) ({ cls := "NailedByWord$JarTack", name := "<init>", desc := "(LNailedByWord;I)V" } : Jvm.MethodName)) ∈ lw_all := lw_g (lw_at lw_m4 155 rfl) rfl
theorem q998 : (Jvm.Cond.classLink "NailedByWord" (519 : Nat) "NailedByWord$VergerTack") ∈ lw_all := lw_g (lw_at lw_m4 166 rfl) rfl
theorem q1000 : (Jvm.Cond.methodLink "NailedByWord" (521 : Nat) ({ cls := "NailedByWord$VergerTack", name := "<init>", desc := "(LNailedByWord;I)V" } : Jvm.MethodName)) ∈ lw_all := lw_g (lw_at lw_m4 168 rfl) rfl
theorem q1012 : (Jvm.Cond.classLink "NailedByWord" (522 : Nat) "NailedByWord$PittTack") ∈ lw_all := lw_g (lw_at lw_m4 180 rfl) rfl
theorem q1014 : (Jvm.Cond.methodLink "NailedByWord" (524 : Nat) ({ cls := "NailedByWord$PittTack", name := "<init>", desc := "(LNailedByWord;I)V" } : Jvm.MethodName)) ∈ lw_all := lw_g (lw_at lw_m4 182 rfl) rfl
theorem q1024 : (Jvm.Cond.classLink "NailedByWord" (525 : Nat) "NailedByWord$ChildTack") ∈ lw_all := lw_g (lw_at lw_m4 192 rfl) rfl
theorem q1026 : (Jvm.Cond.methodLink "NailedByWord" (527 : Nat) ({ cls := "NailedByWord$ChildTack", name := "<init>", desc := "(LNailedByWord;I)V" } : Jvm.MethodName)) ∈ lw_all := lw_g (lw_at lw_m4 194 rfl) rfl
theorem q1038 : (Jvm.Cond.methodLink "NailedByWord" (528 : Nat) ({ cls := "NailedByWord$Body", name := "<init>", desc := "(LNailedByWord;I)V" } : Jvm.MethodName)) ∈ lw_all := lw_g (lw_at lw_m4 206 rfl) rfl
theorem q1043 : (Jvm.Cond.instanceMethod ({ cls := "NailedByWord", name := "act", desc := "(III)I" } : Jvm.MethodName)) ∈ lw_all := lw_g (lw_at lw_m4 211 rfl) rfl
theorem q1044 : (Jvm.Cond.selects "NailedByWord" ({ cls := "NailedByWord", name := "act", desc := "(III)I" } : Jvm.MethodName) ({ cls := "NailedByWord", name := "act", desc := "(III)I" } : Jvm.MethodName)) ∈ lw_all := lw_g (lw_at lw_m4 212 rfl) rfl
theorem q1045 : (Jvm.Cond.code ({ cls := "NailedByWord", name := "act", desc := "(III)I" } : Jvm.MethodName) prog_1_method_96_code (5 : Nat) (Option.some Jvm.ClassFile.FieldType.int)) ∈ lw_all := lw_g (lw_at lw_m4 213 rfl) rfl
theorem q1046 : (Jvm.Cond.methodLink "NailedByWord" (536 : Nat) ({ cls := "NailedByWord", name := "isBody", desc := "(I)Z" } : Jvm.MethodName)) ∈ lw_all := lw_g (lw_at lw_m4 214 rfl) rfl
theorem q1047 : (Jvm.Cond.privateMethod ({ cls := "NailedByWord", name := "isBody", desc := "(I)Z" } : Jvm.MethodName)) ∈ lw_tbl := lw_at lw_m4 215 rfl
theorem q1048 : (Jvm.Cond.instanceMethod ({ cls := "NailedByWord", name := "isBody", desc := "(I)Z" } : Jvm.MethodName)) ∈ lw_all := lw_g (lw_at lw_m4 216 rfl) rfl
theorem q1049 : (Jvm.Cond.code ({ cls := "NailedByWord", name := "isBody", desc := "(I)Z" } : Jvm.MethodName) prog_1_method_93_code (2 : Nat) (Option.some Jvm.ClassFile.FieldType.boolean)) ∈ lw_all := lw_g (lw_at lw_m4 217 rfl) rfl
theorem q1135 : (Jvm.Cond.methodLink "NailedByWord" (541 : Nat) ({ cls := "NailedByWord$Body", name := "pulls", desc := "(I)I" } : Jvm.MethodName)) ∈ lw_all := lw_g (lw_at lw_m5 63 rfl) rfl
theorem q1174 : (Jvm.Cond.methodLink "NailedByWord" (544 : Nat) ({ cls := "NailedByWord$Body", name := "frees", desc := "(I)I" } : Jvm.MethodName)) ∈ lw_all := lw_g (lw_at lw_m5 102 rfl) rfl
theorem q1272 : (Jvm.Cond.instanceMethod ({ cls := "NailedByWord", name := "trace", desc := "(I)I" } : Jvm.MethodName)) ∈ lw_all := lw_g (lw_at lw_m5 200 rfl) rfl
theorem q1273 : (Jvm.Cond.selects "NailedByWord" ({ cls := "NailedByWord", name := "trace", desc := "(I)I" } : Jvm.MethodName) ({ cls := "NailedByWord", name := "trace", desc := "(I)I" } : Jvm.MethodName)) ∈ lw_all := lw_g (lw_at lw_m5 201 rfl) rfl
theorem q1274 : (Jvm.Cond.code ({ cls := "NailedByWord", name := "trace", desc := "(I)I" } : Jvm.MethodName) prog_1_method_97_code (2 : Nat) (Option.some Jvm.ClassFile.FieldType.int)) ∈ lw_all := lw_g (lw_at lw_m5 202 rfl) rfl
theorem q1276 : (Jvm.Cond.instanceMethod ({ cls := "NailedByWord", name := "keep", desc := "(II)I" } : Jvm.MethodName)) ∈ lw_all := lw_g (lw_at lw_m5 204 rfl) rfl
theorem q1277 : (Jvm.Cond.selects "NailedByWord" ({ cls := "NailedByWord", name := "keep", desc := "(II)I" } : Jvm.MethodName) ({ cls := "NailedByWord", name := "keep", desc := "(II)I" } : Jvm.MethodName)) ∈ lw_all := lw_g (lw_at lw_m5 205 rfl) rfl
theorem q1278 : (Jvm.Cond.code ({ cls := "NailedByWord", name := "keep", desc := "(II)I" } : Jvm.MethodName) prog_1_method_99_code (3 : Nat) (Option.some Jvm.ClassFile.FieldType.int)) ∈ lw_all := lw_g (lw_at lw_m5 206 rfl) rfl
theorem q1280 : (Jvm.Cond.instanceMethod ({ cls := "NailedByWord", name := "row", desc := "(III)I" } : Jvm.MethodName)) ∈ lw_all := lw_g (lw_at lw_m5 208 rfl) rfl
theorem q1281 : (Jvm.Cond.selects "NailedByWord" ({ cls := "NailedByWord", name := "row", desc := "(III)I" } : Jvm.MethodName) ({ cls := "NailedByWord", name := "row", desc := "(III)I" } : Jvm.MethodName)) ∈ lw_all := lw_g (lw_at lw_m5 209 rfl) rfl
theorem q1282 : (Jvm.Cond.code ({ cls := "NailedByWord", name := "row", desc := "(III)I" } : Jvm.MethodName) prog_1_method_100_code (4 : Nat) (Option.some Jvm.ClassFile.FieldType.int)) ∈ lw_all := lw_g (lw_at lw_m5 210 rfl) rfl
theorem q1288 : (Jvm.Cond.instanceMethod ({ cls := "NailedByWord", name := "put", desc := "(IIJ)I" } : Jvm.MethodName)) ∈ lw_all := lw_g (lw_at lw_m5 216 rfl) rfl
theorem q1289 : (Jvm.Cond.selects "NailedByWord" ({ cls := "NailedByWord", name := "put", desc := "(IIJ)I" } : Jvm.MethodName) ({ cls := "NailedByWord", name := "put", desc := "(IIJ)I" } : Jvm.MethodName)) ∈ lw_all := lw_g (lw_at lw_m5 217 rfl) rfl
theorem q1290 : (Jvm.Cond.code ({ cls := "NailedByWord", name := "put", desc := "(IIJ)I" } : Jvm.MethodName) prog_1_method_104_code (7 : Nat) (Option.some Jvm.ClassFile.FieldType.int)) ∈ lw_all := lw_g (lw_at lw_m5 218 rfl) rfl
theorem q1291 : (Jvm.Cond.methodLink "NailedByWord" (560 : Nat) ({ cls := "NailedByWord", name := "refusal", desc := "(II)I" } : Jvm.MethodName)) ∈ lw_all := lw_g (lw_at lw_m5 219 rfl) rfl
theorem q1292 : (Jvm.Cond.privateMethod ({ cls := "NailedByWord", name := "refusal", desc := "(II)I" } : Jvm.MethodName)) ∈ lw_tbl := lw_at lw_m5 220 rfl
theorem q1293 : (Jvm.Cond.instanceMethod ({ cls := "NailedByWord", name := "refusal", desc := "(II)I" } : Jvm.MethodName)) ∈ lw_all := lw_g (lw_at lw_m5 221 rfl) rfl
theorem q1294 : (Jvm.Cond.code ({ cls := "NailedByWord", name := "refusal", desc := "(II)I" } : Jvm.MethodName) prog_1_method_103_code (4 : Nat) (Option.some Jvm.ClassFile.FieldType.int)) ∈ lw_all := lw_g (lw_at lw_m5 222 rfl) rfl
theorem q1295 : (Jvm.Cond.methodLink "NailedByWord" (557 : Nat) ({ cls := "NailedByWord", name := "sizeOf", desc := "(Ljava/lang/Object;)I" } : Jvm.MethodName)) ∈ lw_all := lw_g (lw_at lw_m5 223 rfl) rfl
theorem q1296 : (Jvm.Cond.static ({ cls := "NailedByWord", name := "sizeOf", desc := "(Ljava/lang/Object;)I" } : Jvm.MethodName)) ∈ lw_all := lw_g (lw_at lw_m5 224 rfl) rfl
theorem q1297 : (Jvm.Cond.code ({ cls := "NailedByWord", name := "sizeOf", desc := "(Ljava/lang/Object;)I" } : Jvm.MethodName) prog_1_method_102_code (1 : Nat) (Option.some Jvm.ClassFile.FieldType.int)) ∈ lw_all := lw_g (lw_at lw_m5 225 rfl) rfl
theorem q1299 : (Jvm.Cond.instanceMethod ({ cls := "NailedByWord", name := "element", desc := "(II)J" } : Jvm.MethodName)) ∈ lw_all := lw_g (lw_at lw_m5 227 rfl) rfl
theorem q1300 : (Jvm.Cond.selects "NailedByWord" ({ cls := "NailedByWord", name := "element", desc := "(II)J" } : Jvm.MethodName) ({ cls := "NailedByWord", name := "element", desc := "(II)J" } : Jvm.MethodName)) ∈ lw_all := lw_g (lw_at lw_m5 228 rfl) rfl
theorem q1301 : (Jvm.Cond.code ({ cls := "NailedByWord", name := "element", desc := "(II)J" } : Jvm.MethodName) prog_1_method_105_code (4 : Nat) (Option.some Jvm.ClassFile.FieldType.long)) ∈ lw_all := lw_g (lw_at lw_m5 229 rfl) rfl
theorem q1303 : (Jvm.Cond.instanceMethod ({ cls := "NailedByWord", name := "shift", desc := "(IIIII)I" } : Jvm.MethodName)) ∈ lw_all := lw_g (lw_at lw_m5 231 rfl) rfl
theorem q1304 : (Jvm.Cond.selects "NailedByWord" ({ cls := "NailedByWord", name := "shift", desc := "(IIIII)I" } : Jvm.MethodName) ({ cls := "NailedByWord", name := "shift", desc := "(IIIII)I" } : Jvm.MethodName)) ∈ lw_all := lw_g (lw_at lw_m5 232 rfl) rfl
theorem q1305 : (Jvm.Cond.code ({ cls := "NailedByWord", name := "shift", desc := "(IIIII)I" } : Jvm.MethodName) prog_1_method_106_code (8 : Nat) (Option.some Jvm.ClassFile.FieldType.int)) ∈ lw_all := lw_g (lw_at lw_m5 233 rfl) rfl
theorem q1307 : (Jvm.Cond.instanceMethod ({ cls := "NailedByWord", name := "taken", desc := "(II)I" } : Jvm.MethodName)) ∈ lw_all := lw_g (lw_at lw_m5 235 rfl) rfl
theorem q1308 : (Jvm.Cond.selects "NailedByWord" ({ cls := "NailedByWord", name := "taken", desc := "(II)I" } : Jvm.MethodName) ({ cls := "NailedByWord", name := "taken", desc := "(II)I" } : Jvm.MethodName)) ∈ lw_all := lw_g (lw_at lw_m5 236 rfl) rfl
theorem q1309 : (Jvm.Cond.code ({ cls := "NailedByWord", name := "taken", desc := "(II)I" } : Jvm.MethodName) prog_1_method_107_code (5 : Nat) (Option.some Jvm.ClassFile.FieldType.int)) ∈ lw_all := lw_g (lw_at lw_m5 237 rfl) rfl
theorem q1310 : (Jvm.Cond.methodLink "NailedByWord" (563 : Nat) ({ cls := "NailedByWord$Body", name := "isUnder", desc := "(I)Z" } : Jvm.MethodName)) ∈ lw_all := lw_g (lw_at lw_m5 238 rfl) rfl
theorem q1343 : (Jvm.Cond.methodLink "NailedByWord" (566 : Nat) ({ cls := "NailedByWord$Body", name := "kind", desc := "()I" } : Jvm.MethodName)) ∈ lw_all := lw_g (lw_at lw_m6 31 rfl) rfl
theorem q1370 : (Jvm.Cond.instanceMethod ({ cls := "NailedByWord", name := "count", desc := "(I)I" } : Jvm.MethodName)) ∈ lw_all := lw_g (lw_at lw_m6 58 rfl) rfl
theorem q1371 : (Jvm.Cond.selects "NailedByWord" ({ cls := "NailedByWord", name := "count", desc := "(I)I" } : Jvm.MethodName) ({ cls := "NailedByWord", name := "count", desc := "(I)I" } : Jvm.MethodName)) ∈ lw_all := lw_g (lw_at lw_m6 59 rfl) rfl
theorem q1372 : (Jvm.Cond.code ({ cls := "NailedByWord", name := "count", desc := "(I)I" } : Jvm.MethodName) prog_1_method_108_code (2 : Nat) (Option.some Jvm.ClassFile.FieldType.int)) ∈ lw_all := lw_g (lw_at lw_m6 60 rfl) rfl
theorem q2098 : (Jvm.Cond.castable "NailedByWord" "java/lang/Object") ∈ lw_tbl := lw_at lw_m9 66 rfl
theorem in_X0 : ∀ w ∈ wsX00, w ∈ lw_all := lw_in wsX00 [326, 328, 330, 332, 334, 336, 338, 340, 342, 344, 346, 348, 350, 352, 354, 356, 358, 360, 362, 364, 366, 368, 370, 372, 374, 376, 378, 380, 382, 384, 386, 388, 390, 392, 394, 396, 398, 400, 402, 404, 406, 408, 410, 412, 414, 416, 418] (by decide +kernel) (by decide +kernel)

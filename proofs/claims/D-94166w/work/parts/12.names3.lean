/-! DayBoyModel -/
set_option maxRecDepth 100000
def RX6 : String := "DayBoyModel"
def TX6 : u_T := fun k => match k with
  | 0 => ("DayBoyModel", "thrown", "I", false)
  | 1 => ("DayBoyModel", "tape", "[I", true)
  | 2 => ("DayBoyModel", "size", "I", false)
  | 3 => ("DayBoyModel", "at", "I", false)
  | 4 => ("DayBoyModel", "wrong", "I", false)
  | 5 => ("DayBoyModel", "start", "[I", true)
  | 6 => ("DayBoyModel", "stretches", "[I", true)
  | 7 => ("DayBoyModel", "leapMany", "[I", true)
  | 8 => ("DayBoyModel", "leapBy", "[I", true)
  | 9 => ("DayBoyModel", "leapIs", "[Z", true)
  | 10 => ("DayBoyModel", "lastOf", "[I", true)
  | 11 => ("DayBoyModel", "firstOf", "[I", true)
  | 12 => ("DayBoyModel", "firstDay", "[I", true)
  | 13 => ("DayBoyModel", "before", "[I", true)
  | 14 => ("DayBoyModel", "calendars", "I", false)
  | 15 => ("DayBoyModel", "knows", "[I", true)
  | 16 => ("DayBoyModel", "knownFrom", "[I", true)
  | 17 => ("DayBoyModel", "knownTo", "[I", true)
  | 18 => ("DayBoyModel", "steps", "[I", true)
  | 19 => ("DayBoyModel", "stepBy", "[I", true)
  | 20 => ("DayBoyModel", "stepCost", "[I", true)
  | 21 => ("DayBoyModel", "likes", "[I", true)
  | 22 => ("DayBoyModel", "likeOne", "[I", true)
  | 23 => ("DayBoyModel", "likeOther", "[I", true)
  | 24 => ("DayBoyModel", "likeCost", "[I", true)
  | 25 => ("DayBoyModel", "months", "[I", true)
  | 26 => ("DayBoyModel", "costs", "[I", true)
  | 27 => ("DayBoyModel", "weight", "[I", true)
  | 28 => ("DayBoyModel", "heads", "I", false)
  | 29 => ("DayBoyModel", "given", "I", false)
  | 30 => ("DayBoyModel", "yearStill", "[J", true)
  | 31 => ("DayBoyModel", "monthStill", "[J", true)
  | 32 => ("DayBoyModel", "queue", "[I", true)
  | 33 => ("DayBoyModel", "waits", "[Z", true)
  | 34 => ("DayBoyModel", "first", "I", false)
  | 35 => ("DayBoyModel", "waiting", "I", false)
  | 36 => ("DayBoyModel", "yearRow", "[I", true)
  | 37 => ("DayBoyModel", "monthRow", "[I", true)
  | 38 => ("DayBoyModel", "yearMany", "I", false)
  | 39 => ("DayBoyModel", "monthMany", "I", false)
  | 40 => ("DayBoyModel", "theAnswer", "I", false)
  | 41 => ("DayBoyModel", "theTenths", "I", false)
  | 42 => ("DayBoyModel", "askMonth", "[I", true)
  | 43 => ("DayBoyModel", "askCalendar", "[I", true)
  | 44 => ("DayBoyModel", "askYear", "[I", true)
  | 45 => ("DayBoyModel", "askM", "[I", true)
  | 46 => ("DayBoyModel", "askD", "[I", true)
  | 47 => ("DayBoyModel", "askAnswer", "[I", true)
  | 48 => ("DayBoyModel", "askTenths", "[I", true)
  | 49 => ("DayBoyModel", "asks", "I", false)
  | 50 => ("DayBoyModel", "planCalendar", "[I", true)
  | 51 => ("DayBoyModel", "planYear", "[I", true)
  | 52 => ("DayBoyModel", "planM", "[I", true)
  | 53 => ("DayBoyModel", "planD", "[I", true)
  | 54 => ("DayBoyModel", "plans", "I", false)
  | 55 => ("DayBoyModel", "nearBy", "[I", true)
  | 56 => ("DayBoyModel", "birth", "I", false)
  | 57 => ("DayBoyModel", "birthCalendar", "I", false)
  | 58 => ("DayBoyModel", "birthYear", "I", false)
  | 59 => ("DayBoyModel", "birthM", "I", false)
  | 60 => ("DayBoyModel", "birthD", "I", false)
  | 61 => ("DayBoyModel", "eventDay", "[I", true)
  | 62 => ("DayBoyModel", "eventSort", "[I", true)
  | 63 => ("DayBoyModel", "events", "I", false)
  | 64 => ("DayBoyModel", "keptAsks", "I", false)
  | 65 => ("DayBoyModel", "keptEvents", "I", false)
  | 66 => ("DayBoyModel", "rowYear", "[I", true)
  | 67 => ("DayBoyModel", "rowM", "[I", true)
  | 68 => ("DayBoyModel", "rowD", "[I", true)
  | 69 => ("DayBoyModel", "things", "I", false)
  | _ => ("DayBoyModel", "draws", "J", false)
def tyX6 : Nat → FieldType := fun k => match k with
  | 0 => .int
  | 1 => .array .int
  | 2 => .int
  | 3 => .int
  | 4 => .int
  | 5 => .array .int
  | 6 => .array .int
  | 7 => .array .int
  | 8 => .array .int
  | 9 => .array .boolean
  | 10 => .array .int
  | 11 => .array .int
  | 12 => .array .int
  | 13 => .array .int
  | 14 => .int
  | 15 => .array .int
  | 16 => .array .int
  | 17 => .array .int
  | 18 => .array .int
  | 19 => .array .int
  | 20 => .array .int
  | 21 => .array .int
  | 22 => .array .int
  | 23 => .array .int
  | 24 => .array .int
  | 25 => .array .int
  | 26 => .array .int
  | 27 => .array .int
  | 28 => .int
  | 29 => .int
  | 30 => .array .long
  | 31 => .array .long
  | 32 => .array .int
  | 33 => .array .boolean
  | 34 => .int
  | 35 => .int
  | 36 => .array .int
  | 37 => .array .int
  | 38 => .int
  | 39 => .int
  | 40 => .int
  | 41 => .int
  | 42 => .array .int
  | 43 => .array .int
  | 44 => .array .int
  | 45 => .array .int
  | 46 => .array .int
  | 47 => .array .int
  | 48 => .array .int
  | 49 => .int
  | 50 => .array .int
  | 51 => .array .int
  | 52 => .array .int
  | 53 => .array .int
  | 54 => .int
  | 55 => .array .int
  | 56 => .int
  | 57 => .int
  | 58 => .int
  | 59 => .int
  | 60 => .int
  | 61 => .array .int
  | 62 => .array .int
  | 63 => .int
  | 64 => .int
  | 65 => .int
  | 66 => .array .int
  | 67 => .array .int
  | 68 => .array .int
  | 69 => .int
  | _ => .long
abbrev wsX60 : List Cond := u_ws RX6 TX6 71
set_option maxRecDepth 100000 in
theorem nmX6 : ∀ a, a < 71 → ∀ b, b < 71 → a ≠ b → (TX6 a).2.1 ≠ (TX6 b).2.1 := by decide +kernel
set_option maxRecDepth 100000 in
theorem tyX6_ok : ∀ k, k < 71 → parseFieldDescriptor (TX6 k).2.2.1 = some (tyX6 k) := by decide +kernel
abbrev cX6_init : ByteArray := prog_16_method_2_code
def yX6_init : MethodName := ⟨RX6, "<init>", "()V"⟩
def dkwX6_init_16 : List UInt8 := [17, 0, 160, 188, 10, 181, 0, 153, 177]
abbrev dktX6_init_16 : List UInt8 := dkwX6_init_16 ++ []
def dkwX6_init_15 : List UInt8 := [181, 0, 144, 42, 17, 0, 160, 188, 10, 181, 0, 147, 42, 17, 0, 160, 188, 10, 181, 0, 150, 42]
abbrev dktX6_init_15 : List UInt8 := dkwX6_init_15 ++ dktX6_init_16
def dkwX6_init_14 : List UInt8 := [188, 10, 181, 0, 134, 42, 2, 181, 0, 137, 42, 16, 30, 188, 10, 181, 0, 141, 42, 16, 30, 188, 10]
abbrev dktX6_init_14 : List UInt8 := dkwX6_init_14 ++ dktX6_init_15
def dkwX6_init_13 : List UInt8 := [188, 10, 181, 0, 125, 42, 16, 8, 188, 10, 181, 0, 128, 42, 16, 8, 188, 10, 181, 0, 131, 42, 16, 14]
abbrev dktX6_init_13 : List UInt8 := dkwX6_init_13 ++ dktX6_init_14
def dkwX6_init_12 : List UInt8 := [188, 10, 181, 0, 116, 42, 16, 60, 188, 10, 181, 0, 119, 42, 16, 8, 188, 10, 181, 0, 122, 42, 16, 8]
abbrev dktX6_init_12 : List UInt8 := dkwX6_init_12 ++ dktX6_init_13
def dkwX6_init_11 : List UInt8 := [188, 10, 181, 0, 107, 42, 16, 60, 188, 10, 181, 0, 110, 42, 16, 60, 188, 10, 181, 0, 113, 42, 16, 60]
abbrev dktX6_init_11 : List UInt8 := dkwX6_init_11 ++ dktX6_init_12
def dkwX6_init_10 : List UInt8 := [188, 10, 181, 0, 98, 42, 16, 60, 188, 10, 181, 0, 101, 42, 16, 60, 188, 10, 181, 0, 104, 42, 16, 60]
abbrev dktX6_init_10 : List UInt8 := dkwX6_init_10 ++ dktX6_init_11
def dkwX6_init_9 : List UInt8 := [181, 0, 89, 42, 17, 39, 17, 188, 4, 181, 0, 92, 42, 17, 39, 16, 188, 10, 181, 0, 95, 42, 16, 13]
abbrev dktX6_init_9 : List UInt8 := dkwX6_init_9 ++ dktX6_init_10
def dkwX6_init_8 : List UInt8 := [42, 18, 81, 188, 11, 181, 0, 82, 42, 16, 117, 188, 11, 181, 0, 86, 42, 17, 39, 17, 188, 10]
abbrev dktX6_init_8 : List UInt8 := dkwX6_init_8 ++ dktX6_init_9
def dkwX6_init_7 : List UInt8 := [42, 16, 9, 188, 10, 181, 0, 72, 42, 16, 36, 188, 10, 181, 0, 75, 42, 16, 8, 188, 10, 181, 0, 78]
abbrev dktX6_init_7 : List UInt8 := dkwX6_init_7 ++ dktX6_init_8
def dkwX6_init_6 : List UInt8 := [42, 16, 108, 188, 10, 181, 0, 63, 42, 16, 108, 188, 10, 181, 0, 66, 42, 16, 108, 188, 10, 181, 0, 69]
abbrev dktX6_init_6 : List UInt8 := dkwX6_init_6 ++ dktX6_init_7
def dkwX6_init_5 : List UInt8 := [42, 16, 54, 188, 10, 181, 0, 54, 42, 16, 54, 188, 10, 181, 0, 57, 42, 16, 9, 188, 10, 181, 0, 60]
abbrev dktX6_init_5 : List UInt8 := dkwX6_init_5 ++ dktX6_init_6
def dkwX6_init_4 : List UInt8 := [42, 16, 54, 188, 10, 181, 0, 45, 42, 16, 54, 188, 10, 181, 0, 48, 42, 16, 9, 188, 10, 181, 0, 51]
abbrev dktX6_init_4 : List UInt8 := dkwX6_init_4 ++ dktX6_init_5
def dkwX6_init_3 : List UInt8 := [42, 16, 28, 188, 10, 181, 0, 35, 42, 18, 38, 188, 10, 181, 0, 39, 42, 16, 9, 188, 10, 181, 0, 42]
abbrev dktX6_init_3 : List UInt8 := dkwX6_init_3 ++ dktX6_init_4
def dkwX6_init_2 : List UInt8 := [17, 0, 224, 188, 4, 181, 0, 25, 42, 16, 28, 188, 10, 181, 0, 29, 42, 16, 28, 188, 10, 181, 0, 32]
abbrev dktX6_init_2 : List UInt8 := dkwX6_init_2 ++ dktX6_init_3
def dkwX6_init_1 : List UInt8 := [188, 10, 181, 0, 16, 42, 16, 28, 188, 10, 181, 0, 19, 42, 17, 0, 224, 188, 10, 181, 0, 22, 42]
abbrev dktX6_init_1 : List UInt8 := dkwX6_init_1 ++ dktX6_init_2
def dkwX6_init_0 : List UInt8 := [42, 183, 0, 1, 42, 17, 0, 160, 188, 10, 181, 0, 7, 42, 16, 7, 188, 10, 181, 0, 13, 42, 16, 7]
abbrev dktX6_init_0 : List UInt8 := dkwX6_init_0 ++ dktX6_init_1
theorem dksX6_init_0 : cX6_init.data.toList.drop 0 = dktX6_init_0 := by decide +kernel
theorem dksX6_init_1 : cX6_init.data.toList.drop 24 = dktX6_init_1 := dk_seg dksX6_init_0 24 rfl rfl
theorem dksX6_init_2 : cX6_init.data.toList.drop 47 = dktX6_init_2 := dk_seg dksX6_init_1 23 rfl rfl
theorem dksX6_init_3 : cX6_init.data.toList.drop 71 = dktX6_init_3 := dk_seg dksX6_init_2 24 rfl rfl
theorem dksX6_init_4 : cX6_init.data.toList.drop 95 = dktX6_init_4 := dk_seg dksX6_init_3 24 rfl rfl
theorem dksX6_init_5 : cX6_init.data.toList.drop 119 = dktX6_init_5 := dk_seg dksX6_init_4 24 rfl rfl
theorem dksX6_init_6 : cX6_init.data.toList.drop 143 = dktX6_init_6 := dk_seg dksX6_init_5 24 rfl rfl
theorem dksX6_init_7 : cX6_init.data.toList.drop 167 = dktX6_init_7 := dk_seg dksX6_init_6 24 rfl rfl
theorem dksX6_init_8 : cX6_init.data.toList.drop 191 = dktX6_init_8 := dk_seg dksX6_init_7 24 rfl rfl
theorem dksX6_init_9 : cX6_init.data.toList.drop 213 = dktX6_init_9 := dk_seg dksX6_init_8 22 rfl rfl
theorem dksX6_init_10 : cX6_init.data.toList.drop 237 = dktX6_init_10 := dk_seg dksX6_init_9 24 rfl rfl
theorem dksX6_init_11 : cX6_init.data.toList.drop 261 = dktX6_init_11 := dk_seg dksX6_init_10 24 rfl rfl
theorem dksX6_init_12 : cX6_init.data.toList.drop 285 = dktX6_init_12 := dk_seg dksX6_init_11 24 rfl rfl
theorem dksX6_init_13 : cX6_init.data.toList.drop 309 = dktX6_init_13 := dk_seg dksX6_init_12 24 rfl rfl
theorem dksX6_init_14 : cX6_init.data.toList.drop 333 = dktX6_init_14 := dk_seg dksX6_init_13 24 rfl rfl
theorem dksX6_init_15 : cX6_init.data.toList.drop 356 = dktX6_init_15 := dk_seg dksX6_init_14 23 rfl rfl
theorem dksX6_init_16 : cX6_init.data.toList.drop 378 = dktX6_init_16 := dk_seg dksX6_init_15 22 rfl rfl
theorem dX6_init_0 : decode cX6_init 0 = .ok (.aload_n 0, 1) := dk_42 (dk_at dksX6_init_0 0 rfl rfl)
theorem dX6_init_1 : decode cX6_init 1 = .ok (.invokespecial 1, 3) := dk_183 0 1 (dk_at dksX6_init_0 1 rfl rfl)
theorem dX6_init_4 : decode cX6_init 4 = .ok (.aload_n 0, 1) := dk_42 (dk_at dksX6_init_0 4 rfl rfl)
theorem dX6_init_5 : decode cX6_init 5 = .ok (.sipush 160, 3) := dk_17 0 160 (dk_at dksX6_init_0 5 rfl rfl)
theorem dX6_init_8 : decode cX6_init 8 = .ok (.newarray .int, 2) := dk_188_10 (dk_at dksX6_init_0 8 rfl rfl)
theorem dX6_init_10 : decode cX6_init 10 = .ok (.putfield 7, 3) := dk_181 0 7 (dk_at dksX6_init_0 10 rfl rfl)
theorem dX6_init_13 : decode cX6_init 13 = .ok (.aload_n 0, 1) := dk_42 (dk_at dksX6_init_0 13 rfl rfl)
theorem dX6_init_14 : decode cX6_init 14 = .ok (.bipush 7, 2) := dk_16 7 (dk_at dksX6_init_0 14 rfl rfl)
theorem dX6_init_16 : decode cX6_init 16 = .ok (.newarray .int, 2) := dk_188_10 (dk_at dksX6_init_0 16 rfl rfl)
theorem dX6_init_18 : decode cX6_init 18 = .ok (.putfield 13, 3) := dk_181 0 13 (dk_at dksX6_init_0 18 rfl rfl)
theorem dX6_init_21 : decode cX6_init 21 = .ok (.aload_n 0, 1) := dk_42 (dk_at dksX6_init_0 21 rfl rfl)
theorem dX6_init_22 : decode cX6_init 22 = .ok (.bipush 7, 2) := dk_16 7 (dk_at dksX6_init_0 22 rfl rfl)
theorem dX6_init_24 : decode cX6_init 24 = .ok (.newarray .int, 2) := dk_188_10 (dk_at dksX6_init_1 0 rfl rfl)
theorem dX6_init_26 : decode cX6_init 26 = .ok (.putfield 16, 3) := dk_181 0 16 (dk_at dksX6_init_1 2 rfl rfl)
theorem dX6_init_29 : decode cX6_init 29 = .ok (.aload_n 0, 1) := dk_42 (dk_at dksX6_init_1 5 rfl rfl)
theorem dX6_init_30 : decode cX6_init 30 = .ok (.bipush 28, 2) := dk_16 28 (dk_at dksX6_init_1 6 rfl rfl)
theorem dX6_init_32 : decode cX6_init 32 = .ok (.newarray .int, 2) := dk_188_10 (dk_at dksX6_init_1 8 rfl rfl)
theorem dX6_init_34 : decode cX6_init 34 = .ok (.putfield 19, 3) := dk_181 0 19 (dk_at dksX6_init_1 10 rfl rfl)
theorem dX6_init_37 : decode cX6_init 37 = .ok (.aload_n 0, 1) := dk_42 (dk_at dksX6_init_1 13 rfl rfl)
theorem dX6_init_38 : decode cX6_init 38 = .ok (.sipush 224, 3) := dk_17 0 224 (dk_at dksX6_init_1 14 rfl rfl)
theorem dX6_init_41 : decode cX6_init 41 = .ok (.newarray .int, 2) := dk_188_10 (dk_at dksX6_init_1 17 rfl rfl)
theorem dX6_init_43 : decode cX6_init 43 = .ok (.putfield 22, 3) := dk_181 0 22 (dk_at dksX6_init_1 19 rfl rfl)
theorem dX6_init_46 : decode cX6_init 46 = .ok (.aload_n 0, 1) := dk_42 (dk_at dksX6_init_1 22 rfl rfl)
theorem dX6_init_47 : decode cX6_init 47 = .ok (.sipush 224, 3) := dk_17 0 224 (dk_at dksX6_init_2 0 rfl rfl)
theorem dX6_init_50 : decode cX6_init 50 = .ok (.newarray .boolean, 2) := dk_188_4 (dk_at dksX6_init_2 3 rfl rfl)
theorem dX6_init_52 : decode cX6_init 52 = .ok (.putfield 25, 3) := dk_181 0 25 (dk_at dksX6_init_2 5 rfl rfl)
theorem dX6_init_55 : decode cX6_init 55 = .ok (.aload_n 0, 1) := dk_42 (dk_at dksX6_init_2 8 rfl rfl)
theorem dX6_init_56 : decode cX6_init 56 = .ok (.bipush 28, 2) := dk_16 28 (dk_at dksX6_init_2 9 rfl rfl)
theorem dX6_init_58 : decode cX6_init 58 = .ok (.newarray .int, 2) := dk_188_10 (dk_at dksX6_init_2 11 rfl rfl)
theorem dX6_init_60 : decode cX6_init 60 = .ok (.putfield 29, 3) := dk_181 0 29 (dk_at dksX6_init_2 13 rfl rfl)
theorem dX6_init_63 : decode cX6_init 63 = .ok (.aload_n 0, 1) := dk_42 (dk_at dksX6_init_2 16 rfl rfl)
theorem dX6_init_64 : decode cX6_init 64 = .ok (.bipush 28, 2) := dk_16 28 (dk_at dksX6_init_2 17 rfl rfl)
theorem dX6_init_66 : decode cX6_init 66 = .ok (.newarray .int, 2) := dk_188_10 (dk_at dksX6_init_2 19 rfl rfl)
theorem dX6_init_68 : decode cX6_init 68 = .ok (.putfield 32, 3) := dk_181 0 32 (dk_at dksX6_init_2 21 rfl rfl)
theorem dX6_init_71 : decode cX6_init 71 = .ok (.aload_n 0, 1) := dk_42 (dk_at dksX6_init_3 0 rfl rfl)
theorem dX6_init_72 : decode cX6_init 72 = .ok (.bipush 28, 2) := dk_16 28 (dk_at dksX6_init_3 1 rfl rfl)
theorem dX6_init_74 : decode cX6_init 74 = .ok (.newarray .int, 2) := dk_188_10 (dk_at dksX6_init_3 3 rfl rfl)
theorem dX6_init_76 : decode cX6_init 76 = .ok (.putfield 35, 3) := dk_181 0 35 (dk_at dksX6_init_3 5 rfl rfl)
theorem dX6_init_79 : decode cX6_init 79 = .ok (.aload_n 0, 1) := dk_42 (dk_at dksX6_init_3 8 rfl rfl)
theorem dX6_init_80 : decode cX6_init 80 = .ok (.ldc 38, 2) := dk_18 38 (dk_at dksX6_init_3 9 rfl rfl)
theorem dX6_init_82 : decode cX6_init 82 = .ok (.newarray .int, 2) := dk_188_10 (dk_at dksX6_init_3 11 rfl rfl)
theorem dX6_init_84 : decode cX6_init 84 = .ok (.putfield 39, 3) := dk_181 0 39 (dk_at dksX6_init_3 13 rfl rfl)
theorem dX6_init_87 : decode cX6_init 87 = .ok (.aload_n 0, 1) := dk_42 (dk_at dksX6_init_3 16 rfl rfl)
theorem dX6_init_88 : decode cX6_init 88 = .ok (.bipush 9, 2) := dk_16 9 (dk_at dksX6_init_3 17 rfl rfl)
theorem dX6_init_90 : decode cX6_init 90 = .ok (.newarray .int, 2) := dk_188_10 (dk_at dksX6_init_3 19 rfl rfl)
theorem dX6_init_92 : decode cX6_init 92 = .ok (.putfield 42, 3) := dk_181 0 42 (dk_at dksX6_init_3 21 rfl rfl)
theorem dX6_init_95 : decode cX6_init 95 = .ok (.aload_n 0, 1) := dk_42 (dk_at dksX6_init_4 0 rfl rfl)
theorem dX6_init_96 : decode cX6_init 96 = .ok (.bipush 54, 2) := dk_16 54 (dk_at dksX6_init_4 1 rfl rfl)
theorem dX6_init_98 : decode cX6_init 98 = .ok (.newarray .int, 2) := dk_188_10 (dk_at dksX6_init_4 3 rfl rfl)
theorem dX6_init_100 : decode cX6_init 100 = .ok (.putfield 45, 3) := dk_181 0 45 (dk_at dksX6_init_4 5 rfl rfl)
theorem dX6_init_103 : decode cX6_init 103 = .ok (.aload_n 0, 1) := dk_42 (dk_at dksX6_init_4 8 rfl rfl)
theorem dX6_init_104 : decode cX6_init 104 = .ok (.bipush 54, 2) := dk_16 54 (dk_at dksX6_init_4 9 rfl rfl)
theorem dX6_init_106 : decode cX6_init 106 = .ok (.newarray .int, 2) := dk_188_10 (dk_at dksX6_init_4 11 rfl rfl)
theorem dX6_init_108 : decode cX6_init 108 = .ok (.putfield 48, 3) := dk_181 0 48 (dk_at dksX6_init_4 13 rfl rfl)
theorem dX6_init_111 : decode cX6_init 111 = .ok (.aload_n 0, 1) := dk_42 (dk_at dksX6_init_4 16 rfl rfl)
theorem dX6_init_112 : decode cX6_init 112 = .ok (.bipush 9, 2) := dk_16 9 (dk_at dksX6_init_4 17 rfl rfl)
theorem dX6_init_114 : decode cX6_init 114 = .ok (.newarray .int, 2) := dk_188_10 (dk_at dksX6_init_4 19 rfl rfl)
theorem dX6_init_116 : decode cX6_init 116 = .ok (.putfield 51, 3) := dk_181 0 51 (dk_at dksX6_init_4 21 rfl rfl)
theorem dX6_init_119 : decode cX6_init 119 = .ok (.aload_n 0, 1) := dk_42 (dk_at dksX6_init_5 0 rfl rfl)
theorem dX6_init_120 : decode cX6_init 120 = .ok (.bipush 54, 2) := dk_16 54 (dk_at dksX6_init_5 1 rfl rfl)
theorem dX6_init_122 : decode cX6_init 122 = .ok (.newarray .int, 2) := dk_188_10 (dk_at dksX6_init_5 3 rfl rfl)
theorem dX6_init_124 : decode cX6_init 124 = .ok (.putfield 54, 3) := dk_181 0 54 (dk_at dksX6_init_5 5 rfl rfl)
theorem dX6_init_127 : decode cX6_init 127 = .ok (.aload_n 0, 1) := dk_42 (dk_at dksX6_init_5 8 rfl rfl)
theorem dX6_init_128 : decode cX6_init 128 = .ok (.bipush 54, 2) := dk_16 54 (dk_at dksX6_init_5 9 rfl rfl)
theorem dX6_init_130 : decode cX6_init 130 = .ok (.newarray .int, 2) := dk_188_10 (dk_at dksX6_init_5 11 rfl rfl)
theorem dX6_init_132 : decode cX6_init 132 = .ok (.putfield 57, 3) := dk_181 0 57 (dk_at dksX6_init_5 13 rfl rfl)
theorem dX6_init_135 : decode cX6_init 135 = .ok (.aload_n 0, 1) := dk_42 (dk_at dksX6_init_5 16 rfl rfl)
theorem dX6_init_136 : decode cX6_init 136 = .ok (.bipush 9, 2) := dk_16 9 (dk_at dksX6_init_5 17 rfl rfl)
theorem dX6_init_138 : decode cX6_init 138 = .ok (.newarray .int, 2) := dk_188_10 (dk_at dksX6_init_5 19 rfl rfl)
theorem dX6_init_140 : decode cX6_init 140 = .ok (.putfield 60, 3) := dk_181 0 60 (dk_at dksX6_init_5 21 rfl rfl)
theorem dX6_init_143 : decode cX6_init 143 = .ok (.aload_n 0, 1) := dk_42 (dk_at dksX6_init_6 0 rfl rfl)
theorem dX6_init_144 : decode cX6_init 144 = .ok (.bipush 108, 2) := dk_16 108 (dk_at dksX6_init_6 1 rfl rfl)
theorem dX6_init_146 : decode cX6_init 146 = .ok (.newarray .int, 2) := dk_188_10 (dk_at dksX6_init_6 3 rfl rfl)
theorem dX6_init_148 : decode cX6_init 148 = .ok (.putfield 63, 3) := dk_181 0 63 (dk_at dksX6_init_6 5 rfl rfl)
theorem dX6_init_151 : decode cX6_init 151 = .ok (.aload_n 0, 1) := dk_42 (dk_at dksX6_init_6 8 rfl rfl)
theorem dX6_init_152 : decode cX6_init 152 = .ok (.bipush 108, 2) := dk_16 108 (dk_at dksX6_init_6 9 rfl rfl)
theorem dX6_init_154 : decode cX6_init 154 = .ok (.newarray .int, 2) := dk_188_10 (dk_at dksX6_init_6 11 rfl rfl)
theorem dX6_init_156 : decode cX6_init 156 = .ok (.putfield 66, 3) := dk_181 0 66 (dk_at dksX6_init_6 13 rfl rfl)
theorem dX6_init_159 : decode cX6_init 159 = .ok (.aload_n 0, 1) := dk_42 (dk_at dksX6_init_6 16 rfl rfl)
theorem dX6_init_160 : decode cX6_init 160 = .ok (.bipush 108, 2) := dk_16 108 (dk_at dksX6_init_6 17 rfl rfl)
theorem dX6_init_162 : decode cX6_init 162 = .ok (.newarray .int, 2) := dk_188_10 (dk_at dksX6_init_6 19 rfl rfl)
theorem dX6_init_164 : decode cX6_init 164 = .ok (.putfield 69, 3) := dk_181 0 69 (dk_at dksX6_init_6 21 rfl rfl)
theorem dX6_init_167 : decode cX6_init 167 = .ok (.aload_n 0, 1) := dk_42 (dk_at dksX6_init_7 0 rfl rfl)
theorem dX6_init_168 : decode cX6_init 168 = .ok (.bipush 9, 2) := dk_16 9 (dk_at dksX6_init_7 1 rfl rfl)
theorem dX6_init_170 : decode cX6_init 170 = .ok (.newarray .int, 2) := dk_188_10 (dk_at dksX6_init_7 3 rfl rfl)
theorem dX6_init_172 : decode cX6_init 172 = .ok (.putfield 72, 3) := dk_181 0 72 (dk_at dksX6_init_7 5 rfl rfl)
theorem dX6_init_175 : decode cX6_init 175 = .ok (.aload_n 0, 1) := dk_42 (dk_at dksX6_init_7 8 rfl rfl)
theorem dX6_init_176 : decode cX6_init 176 = .ok (.bipush 36, 2) := dk_16 36 (dk_at dksX6_init_7 9 rfl rfl)
theorem dX6_init_178 : decode cX6_init 178 = .ok (.newarray .int, 2) := dk_188_10 (dk_at dksX6_init_7 11 rfl rfl)
theorem dX6_init_180 : decode cX6_init 180 = .ok (.putfield 75, 3) := dk_181 0 75 (dk_at dksX6_init_7 13 rfl rfl)
theorem dX6_init_183 : decode cX6_init 183 = .ok (.aload_n 0, 1) := dk_42 (dk_at dksX6_init_7 16 rfl rfl)
theorem dX6_init_184 : decode cX6_init 184 = .ok (.bipush 8, 2) := dk_16 8 (dk_at dksX6_init_7 17 rfl rfl)
theorem dX6_init_186 : decode cX6_init 186 = .ok (.newarray .int, 2) := dk_188_10 (dk_at dksX6_init_7 19 rfl rfl)
theorem dX6_init_188 : decode cX6_init 188 = .ok (.putfield 78, 3) := dk_181 0 78 (dk_at dksX6_init_7 21 rfl rfl)
theorem dX6_init_191 : decode cX6_init 191 = .ok (.aload_n 0, 1) := dk_42 (dk_at dksX6_init_8 0 rfl rfl)
theorem dX6_init_192 : decode cX6_init 192 = .ok (.ldc 81, 2) := dk_18 81 (dk_at dksX6_init_8 1 rfl rfl)
theorem dX6_init_194 : decode cX6_init 194 = .ok (.newarray .long, 2) := dk_188_11 (dk_at dksX6_init_8 3 rfl rfl)
theorem dX6_init_196 : decode cX6_init 196 = .ok (.putfield 82, 3) := dk_181 0 82 (dk_at dksX6_init_8 5 rfl rfl)
theorem dX6_init_199 : decode cX6_init 199 = .ok (.aload_n 0, 1) := dk_42 (dk_at dksX6_init_8 8 rfl rfl)
theorem dX6_init_200 : decode cX6_init 200 = .ok (.bipush 117, 2) := dk_16 117 (dk_at dksX6_init_8 9 rfl rfl)
theorem dX6_init_202 : decode cX6_init 202 = .ok (.newarray .long, 2) := dk_188_11 (dk_at dksX6_init_8 11 rfl rfl)
theorem dX6_init_204 : decode cX6_init 204 = .ok (.putfield 86, 3) := dk_181 0 86 (dk_at dksX6_init_8 13 rfl rfl)
theorem dX6_init_207 : decode cX6_init 207 = .ok (.aload_n 0, 1) := dk_42 (dk_at dksX6_init_8 16 rfl rfl)
theorem dX6_init_208 : decode cX6_init 208 = .ok (.sipush 10001, 3) := dk_17 39 17 (dk_at dksX6_init_8 17 rfl rfl)
theorem dX6_init_211 : decode cX6_init 211 = .ok (.newarray .int, 2) := dk_188_10 (dk_at dksX6_init_8 20 rfl rfl)
theorem dX6_init_213 : decode cX6_init 213 = .ok (.putfield 89, 3) := dk_181 0 89 (dk_at dksX6_init_9 0 rfl rfl)
theorem dX6_init_216 : decode cX6_init 216 = .ok (.aload_n 0, 1) := dk_42 (dk_at dksX6_init_9 3 rfl rfl)
theorem dX6_init_217 : decode cX6_init 217 = .ok (.sipush 10001, 3) := dk_17 39 17 (dk_at dksX6_init_9 4 rfl rfl)
theorem dX6_init_220 : decode cX6_init 220 = .ok (.newarray .boolean, 2) := dk_188_4 (dk_at dksX6_init_9 7 rfl rfl)
theorem dX6_init_222 : decode cX6_init 222 = .ok (.putfield 92, 3) := dk_181 0 92 (dk_at dksX6_init_9 9 rfl rfl)
theorem dX6_init_225 : decode cX6_init 225 = .ok (.aload_n 0, 1) := dk_42 (dk_at dksX6_init_9 12 rfl rfl)
theorem dX6_init_226 : decode cX6_init 226 = .ok (.sipush 10000, 3) := dk_17 39 16 (dk_at dksX6_init_9 13 rfl rfl)
theorem dX6_init_229 : decode cX6_init 229 = .ok (.newarray .int, 2) := dk_188_10 (dk_at dksX6_init_9 16 rfl rfl)
theorem dX6_init_231 : decode cX6_init 231 = .ok (.putfield 95, 3) := dk_181 0 95 (dk_at dksX6_init_9 18 rfl rfl)
theorem dX6_init_234 : decode cX6_init 234 = .ok (.aload_n 0, 1) := dk_42 (dk_at dksX6_init_9 21 rfl rfl)
theorem dX6_init_235 : decode cX6_init 235 = .ok (.bipush 13, 2) := dk_16 13 (dk_at dksX6_init_9 22 rfl rfl)
theorem dX6_init_237 : decode cX6_init 237 = .ok (.newarray .int, 2) := dk_188_10 (dk_at dksX6_init_10 0 rfl rfl)
theorem dX6_init_239 : decode cX6_init 239 = .ok (.putfield 98, 3) := dk_181 0 98 (dk_at dksX6_init_10 2 rfl rfl)
theorem dX6_init_242 : decode cX6_init 242 = .ok (.aload_n 0, 1) := dk_42 (dk_at dksX6_init_10 5 rfl rfl)
theorem dX6_init_243 : decode cX6_init 243 = .ok (.bipush 60, 2) := dk_16 60 (dk_at dksX6_init_10 6 rfl rfl)
theorem dX6_init_245 : decode cX6_init 245 = .ok (.newarray .int, 2) := dk_188_10 (dk_at dksX6_init_10 8 rfl rfl)
theorem dX6_init_247 : decode cX6_init 247 = .ok (.putfield 101, 3) := dk_181 0 101 (dk_at dksX6_init_10 10 rfl rfl)
theorem dX6_init_250 : decode cX6_init 250 = .ok (.aload_n 0, 1) := dk_42 (dk_at dksX6_init_10 13 rfl rfl)
theorem dX6_init_251 : decode cX6_init 251 = .ok (.bipush 60, 2) := dk_16 60 (dk_at dksX6_init_10 14 rfl rfl)
theorem dX6_init_253 : decode cX6_init 253 = .ok (.newarray .int, 2) := dk_188_10 (dk_at dksX6_init_10 16 rfl rfl)
theorem dX6_init_255 : decode cX6_init 255 = .ok (.putfield 104, 3) := dk_181 0 104 (dk_at dksX6_init_10 18 rfl rfl)
theorem dX6_init_258 : decode cX6_init 258 = .ok (.aload_n 0, 1) := dk_42 (dk_at dksX6_init_10 21 rfl rfl)
theorem dX6_init_259 : decode cX6_init 259 = .ok (.bipush 60, 2) := dk_16 60 (dk_at dksX6_init_10 22 rfl rfl)
theorem dX6_init_261 : decode cX6_init 261 = .ok (.newarray .int, 2) := dk_188_10 (dk_at dksX6_init_11 0 rfl rfl)
theorem dX6_init_263 : decode cX6_init 263 = .ok (.putfield 107, 3) := dk_181 0 107 (dk_at dksX6_init_11 2 rfl rfl)
theorem dX6_init_266 : decode cX6_init 266 = .ok (.aload_n 0, 1) := dk_42 (dk_at dksX6_init_11 5 rfl rfl)
theorem dX6_init_267 : decode cX6_init 267 = .ok (.bipush 60, 2) := dk_16 60 (dk_at dksX6_init_11 6 rfl rfl)
theorem dX6_init_269 : decode cX6_init 269 = .ok (.newarray .int, 2) := dk_188_10 (dk_at dksX6_init_11 8 rfl rfl)
theorem dX6_init_271 : decode cX6_init 271 = .ok (.putfield 110, 3) := dk_181 0 110 (dk_at dksX6_init_11 10 rfl rfl)
theorem dX6_init_274 : decode cX6_init 274 = .ok (.aload_n 0, 1) := dk_42 (dk_at dksX6_init_11 13 rfl rfl)
theorem dX6_init_275 : decode cX6_init 275 = .ok (.bipush 60, 2) := dk_16 60 (dk_at dksX6_init_11 14 rfl rfl)
theorem dX6_init_277 : decode cX6_init 277 = .ok (.newarray .int, 2) := dk_188_10 (dk_at dksX6_init_11 16 rfl rfl)
theorem dX6_init_279 : decode cX6_init 279 = .ok (.putfield 113, 3) := dk_181 0 113 (dk_at dksX6_init_11 18 rfl rfl)
theorem dX6_init_282 : decode cX6_init 282 = .ok (.aload_n 0, 1) := dk_42 (dk_at dksX6_init_11 21 rfl rfl)
theorem dX6_init_283 : decode cX6_init 283 = .ok (.bipush 60, 2) := dk_16 60 (dk_at dksX6_init_11 22 rfl rfl)
theorem dX6_init_285 : decode cX6_init 285 = .ok (.newarray .int, 2) := dk_188_10 (dk_at dksX6_init_12 0 rfl rfl)
theorem dX6_init_287 : decode cX6_init 287 = .ok (.putfield 116, 3) := dk_181 0 116 (dk_at dksX6_init_12 2 rfl rfl)
theorem dX6_init_290 : decode cX6_init 290 = .ok (.aload_n 0, 1) := dk_42 (dk_at dksX6_init_12 5 rfl rfl)
theorem dX6_init_291 : decode cX6_init 291 = .ok (.bipush 60, 2) := dk_16 60 (dk_at dksX6_init_12 6 rfl rfl)
theorem dX6_init_293 : decode cX6_init 293 = .ok (.newarray .int, 2) := dk_188_10 (dk_at dksX6_init_12 8 rfl rfl)
theorem dX6_init_295 : decode cX6_init 295 = .ok (.putfield 119, 3) := dk_181 0 119 (dk_at dksX6_init_12 10 rfl rfl)
theorem dX6_init_298 : decode cX6_init 298 = .ok (.aload_n 0, 1) := dk_42 (dk_at dksX6_init_12 13 rfl rfl)
theorem dX6_init_299 : decode cX6_init 299 = .ok (.bipush 8, 2) := dk_16 8 (dk_at dksX6_init_12 14 rfl rfl)
theorem dX6_init_301 : decode cX6_init 301 = .ok (.newarray .int, 2) := dk_188_10 (dk_at dksX6_init_12 16 rfl rfl)
theorem dX6_init_303 : decode cX6_init 303 = .ok (.putfield 122, 3) := dk_181 0 122 (dk_at dksX6_init_12 18 rfl rfl)
theorem dX6_init_306 : decode cX6_init 306 = .ok (.aload_n 0, 1) := dk_42 (dk_at dksX6_init_12 21 rfl rfl)
theorem dX6_init_307 : decode cX6_init 307 = .ok (.bipush 8, 2) := dk_16 8 (dk_at dksX6_init_12 22 rfl rfl)
theorem dX6_init_309 : decode cX6_init 309 = .ok (.newarray .int, 2) := dk_188_10 (dk_at dksX6_init_13 0 rfl rfl)
theorem dX6_init_311 : decode cX6_init 311 = .ok (.putfield 125, 3) := dk_181 0 125 (dk_at dksX6_init_13 2 rfl rfl)
theorem dX6_init_314 : decode cX6_init 314 = .ok (.aload_n 0, 1) := dk_42 (dk_at dksX6_init_13 5 rfl rfl)
theorem dX6_init_315 : decode cX6_init 315 = .ok (.bipush 8, 2) := dk_16 8 (dk_at dksX6_init_13 6 rfl rfl)
theorem dX6_init_317 : decode cX6_init 317 = .ok (.newarray .int, 2) := dk_188_10 (dk_at dksX6_init_13 8 rfl rfl)
theorem dX6_init_319 : decode cX6_init 319 = .ok (.putfield 128, 3) := dk_181 0 128 (dk_at dksX6_init_13 10 rfl rfl)
theorem dX6_init_322 : decode cX6_init 322 = .ok (.aload_n 0, 1) := dk_42 (dk_at dksX6_init_13 13 rfl rfl)
theorem dX6_init_323 : decode cX6_init 323 = .ok (.bipush 8, 2) := dk_16 8 (dk_at dksX6_init_13 14 rfl rfl)
theorem dX6_init_325 : decode cX6_init 325 = .ok (.newarray .int, 2) := dk_188_10 (dk_at dksX6_init_13 16 rfl rfl)
theorem dX6_init_327 : decode cX6_init 327 = .ok (.putfield 131, 3) := dk_181 0 131 (dk_at dksX6_init_13 18 rfl rfl)
theorem dX6_init_330 : decode cX6_init 330 = .ok (.aload_n 0, 1) := dk_42 (dk_at dksX6_init_13 21 rfl rfl)
theorem dX6_init_331 : decode cX6_init 331 = .ok (.bipush 14, 2) := dk_16 14 (dk_at dksX6_init_13 22 rfl rfl)
theorem dX6_init_333 : decode cX6_init 333 = .ok (.newarray .int, 2) := dk_188_10 (dk_at dksX6_init_14 0 rfl rfl)
theorem dX6_init_335 : decode cX6_init 335 = .ok (.putfield 134, 3) := dk_181 0 134 (dk_at dksX6_init_14 2 rfl rfl)
theorem dX6_init_338 : decode cX6_init 338 = .ok (.aload_n 0, 1) := dk_42 (dk_at dksX6_init_14 5 rfl rfl)
theorem dX6_init_339 : decode cX6_init 339 = .ok (.iconst (-1), 1) := dk_2 (dk_at dksX6_init_14 6 rfl rfl)
theorem dX6_init_340 : decode cX6_init 340 = .ok (.putfield 137, 3) := dk_181 0 137 (dk_at dksX6_init_14 7 rfl rfl)
theorem dX6_init_343 : decode cX6_init 343 = .ok (.aload_n 0, 1) := dk_42 (dk_at dksX6_init_14 10 rfl rfl)
theorem dX6_init_344 : decode cX6_init 344 = .ok (.bipush 30, 2) := dk_16 30 (dk_at dksX6_init_14 11 rfl rfl)
theorem dX6_init_346 : decode cX6_init 346 = .ok (.newarray .int, 2) := dk_188_10 (dk_at dksX6_init_14 13 rfl rfl)
theorem dX6_init_348 : decode cX6_init 348 = .ok (.putfield 141, 3) := dk_181 0 141 (dk_at dksX6_init_14 15 rfl rfl)
theorem dX6_init_351 : decode cX6_init 351 = .ok (.aload_n 0, 1) := dk_42 (dk_at dksX6_init_14 18 rfl rfl)
theorem dX6_init_352 : decode cX6_init 352 = .ok (.bipush 30, 2) := dk_16 30 (dk_at dksX6_init_14 19 rfl rfl)
theorem dX6_init_354 : decode cX6_init 354 = .ok (.newarray .int, 2) := dk_188_10 (dk_at dksX6_init_14 21 rfl rfl)
theorem dX6_init_356 : decode cX6_init 356 = .ok (.putfield 144, 3) := dk_181 0 144 (dk_at dksX6_init_15 0 rfl rfl)
theorem dX6_init_359 : decode cX6_init 359 = .ok (.aload_n 0, 1) := dk_42 (dk_at dksX6_init_15 3 rfl rfl)
theorem dX6_init_360 : decode cX6_init 360 = .ok (.sipush 160, 3) := dk_17 0 160 (dk_at dksX6_init_15 4 rfl rfl)
theorem dX6_init_363 : decode cX6_init 363 = .ok (.newarray .int, 2) := dk_188_10 (dk_at dksX6_init_15 7 rfl rfl)
theorem dX6_init_365 : decode cX6_init 365 = .ok (.putfield 147, 3) := dk_181 0 147 (dk_at dksX6_init_15 9 rfl rfl)
theorem dX6_init_368 : decode cX6_init 368 = .ok (.aload_n 0, 1) := dk_42 (dk_at dksX6_init_15 12 rfl rfl)
theorem dX6_init_369 : decode cX6_init 369 = .ok (.sipush 160, 3) := dk_17 0 160 (dk_at dksX6_init_15 13 rfl rfl)
theorem dX6_init_372 : decode cX6_init 372 = .ok (.newarray .int, 2) := dk_188_10 (dk_at dksX6_init_15 16 rfl rfl)
theorem dX6_init_374 : decode cX6_init 374 = .ok (.putfield 150, 3) := dk_181 0 150 (dk_at dksX6_init_15 18 rfl rfl)
theorem dX6_init_377 : decode cX6_init 377 = .ok (.aload_n 0, 1) := dk_42 (dk_at dksX6_init_15 21 rfl rfl)
theorem dX6_init_378 : decode cX6_init 378 = .ok (.sipush 160, 3) := dk_17 0 160 (dk_at dksX6_init_16 0 rfl rfl)
theorem dX6_init_381 : decode cX6_init 381 = .ok (.newarray .int, 2) := dk_188_10 (dk_at dksX6_init_16 3 rfl rfl)
theorem dX6_init_383 : decode cX6_init 383 = .ok (.putfield 153, 3) := dk_181 0 153 (dk_at dksX6_init_16 5 rfl rfl)
theorem dX6_init_386 : decode cX6_init 386 = .ok (.return_, 1) := dk_177 (dk_at dksX6_init_16 8 rfl rfl)
abbrev cX6_thrown : ByteArray := prog_16_method_3_code
def yX6_thrown : MethodName := ⟨RX6, "thrown", "()I"⟩
theorem dX6_thrown_0 : decode cX6_thrown 0 = .ok (.aload_n 0, 1) := by decide +kernel
theorem dX6_thrown_1 : decode cX6_thrown 1 = .ok (.getfield 156, 3) := by decide +kernel
theorem dX6_thrown_4 : decode cX6_thrown 4 = .ok (.ireturn, 1) := by decide +kernel
abbrev cX6_feed : ByteArray := prog_16_method_5_code
def yX6_feed : MethodName := ⟨RX6, "feed", "(IIIII)I"⟩
def dkwX6_feed_4 : List UInt8 := [21, 8, 79, 42, 89, 180, 0, 163, 4, 96, 181, 0, 163, 132, 7, 1, 167, 255, 206, 42, 180, 0, 163, 172]
abbrev dktX6_feed_4 : List UInt8 := dkwX6_feed_4 ++ []
def dkwX6_feed_3 : List UInt8 := [21, 4, 21, 5, 21, 7, 184, 0, 159, 54, 8, 21, 8, 153, 0, 24, 42, 180, 0, 7, 42, 180, 0, 163]
abbrev dktX6_feed_3 : List UInt8 := dkwX6_feed_3 ++ dktX6_feed_4
def dkwX6_feed_2 : List UInt8 := [21, 6, 96, 17, 0, 160, 164, 0, 5, 2, 172, 3, 54, 7, 21, 7, 16, 20, 162, 0, 49, 27, 28, 29]
abbrev dktX6_feed_2 : List UInt8 := dkwX6_feed_2 ++ dktX6_feed_3
def dkwX6_feed_1 : List UInt8 := [184, 0, 159, 153, 0, 7, 4, 167, 0, 4, 3, 96, 54, 6, 132, 7, 1, 167, 255, 221, 42, 180, 0, 163]
abbrev dktX6_feed_1 : List UInt8 := dkwX6_feed_1 ++ dktX6_feed_2
def dkwX6_feed_0 : List UInt8 := [3, 54, 6, 3, 54, 7, 21, 7, 16, 20, 162, 0, 34, 21, 6, 27, 28, 29, 21, 4, 21, 5, 21, 7]
abbrev dktX6_feed_0 : List UInt8 := dkwX6_feed_0 ++ dktX6_feed_1
theorem dksX6_feed_0 : cX6_feed.data.toList.drop 0 = dktX6_feed_0 := by decide +kernel
theorem dksX6_feed_1 : cX6_feed.data.toList.drop 24 = dktX6_feed_1 := dk_seg dksX6_feed_0 24 rfl rfl
theorem dksX6_feed_2 : cX6_feed.data.toList.drop 48 = dktX6_feed_2 := dk_seg dksX6_feed_1 24 rfl rfl
theorem dksX6_feed_3 : cX6_feed.data.toList.drop 72 = dktX6_feed_3 := dk_seg dksX6_feed_2 24 rfl rfl
theorem dksX6_feed_4 : cX6_feed.data.toList.drop 96 = dktX6_feed_4 := dk_seg dksX6_feed_3 24 rfl rfl
theorem dX6_feed_0 : decode cX6_feed 0 = .ok (.iconst 0, 1) := dk_3 (dk_at dksX6_feed_0 0 rfl rfl)
theorem dX6_feed_1 : decode cX6_feed 1 = .ok (.istore 6, 2) := dk_54 6 (dk_at dksX6_feed_0 1 rfl rfl)
theorem dX6_feed_3 : decode cX6_feed 3 = .ok (.iconst 0, 1) := dk_3 (dk_at dksX6_feed_0 3 rfl rfl)
theorem dX6_feed_4 : decode cX6_feed 4 = .ok (.istore 7, 2) := dk_54 7 (dk_at dksX6_feed_0 4 rfl rfl)
theorem dX6_feed_6 : decode cX6_feed 6 = .ok (.iload 7, 2) := dk_21 7 (dk_at dksX6_feed_0 6 rfl rfl)
theorem dX6_feed_8 : decode cX6_feed 8 = .ok (.bipush 20, 2) := dk_16 20 (dk_at dksX6_feed_0 8 rfl rfl)
theorem dX6_feed_10 : decode cX6_feed 10 = .ok (.if_icmp .ge 34, 3) := dk_162 0 34 (dk_at dksX6_feed_0 10 rfl rfl)
theorem dX6_feed_13 : decode cX6_feed 13 = .ok (.iload 6, 2) := dk_21 6 (dk_at dksX6_feed_0 13 rfl rfl)
theorem dX6_feed_15 : decode cX6_feed 15 = .ok (.iload_n 1, 1) := dk_27 (dk_at dksX6_feed_0 15 rfl rfl)
theorem dX6_feed_16 : decode cX6_feed 16 = .ok (.iload_n 2, 1) := dk_28 (dk_at dksX6_feed_0 16 rfl rfl)
theorem dX6_feed_17 : decode cX6_feed 17 = .ok (.iload_n 3, 1) := dk_29 (dk_at dksX6_feed_0 17 rfl rfl)
theorem dX6_feed_18 : decode cX6_feed 18 = .ok (.iload 4, 2) := dk_21 4 (dk_at dksX6_feed_0 18 rfl rfl)
theorem dX6_feed_20 : decode cX6_feed 20 = .ok (.iload 5, 2) := dk_21 5 (dk_at dksX6_feed_0 20 rfl rfl)
theorem dX6_feed_22 : decode cX6_feed 22 = .ok (.iload 7, 2) := dk_21 7 (dk_at dksX6_feed_0 22 rfl rfl)
theorem dX6_feed_24 : decode cX6_feed 24 = .ok (.invokestatic 159, 3) := dk_184 0 159 (dk_at dksX6_feed_1 0 rfl rfl)
theorem dX6_feed_27 : decode cX6_feed 27 = .ok (.ifCond .eq 7, 3) := dk_153 0 7 (dk_at dksX6_feed_1 3 rfl rfl)
theorem dX6_feed_30 : decode cX6_feed 30 = .ok (.iconst 1, 1) := dk_4 (dk_at dksX6_feed_1 6 rfl rfl)
theorem dX6_feed_31 : decode cX6_feed 31 = .ok (.goto 4, 3) := dk_167 0 4 (dk_at dksX6_feed_1 7 rfl rfl)
theorem dX6_feed_34 : decode cX6_feed 34 = .ok (.iconst 0, 1) := dk_3 (dk_at dksX6_feed_1 10 rfl rfl)
theorem dX6_feed_35 : decode cX6_feed 35 = .ok (.iadd, 1) := dk_96 (dk_at dksX6_feed_1 11 rfl rfl)
theorem dX6_feed_36 : decode cX6_feed 36 = .ok (.istore 6, 2) := dk_54 6 (dk_at dksX6_feed_1 12 rfl rfl)
theorem dX6_feed_38 : decode cX6_feed 38 = .ok (.iinc 7 1, 3) := dk_132 7 1 (dk_at dksX6_feed_1 14 rfl rfl)
theorem dX6_feed_41 : decode cX6_feed 41 = .ok (.goto (-35), 3) := dk_167 255 221 (dk_at dksX6_feed_1 17 rfl rfl)
theorem dX6_feed_44 : decode cX6_feed 44 = .ok (.aload_n 0, 1) := dk_42 (dk_at dksX6_feed_1 20 rfl rfl)
theorem dX6_feed_45 : decode cX6_feed 45 = .ok (.getfield 163, 3) := dk_180 0 163 (dk_at dksX6_feed_1 21 rfl rfl)
theorem dX6_feed_48 : decode cX6_feed 48 = .ok (.iload 6, 2) := dk_21 6 (dk_at dksX6_feed_2 0 rfl rfl)
theorem dX6_feed_50 : decode cX6_feed 50 = .ok (.iadd, 1) := dk_96 (dk_at dksX6_feed_2 2 rfl rfl)
theorem dX6_feed_51 : decode cX6_feed 51 = .ok (.sipush 160, 3) := dk_17 0 160 (dk_at dksX6_feed_2 3 rfl rfl)
theorem dX6_feed_54 : decode cX6_feed 54 = .ok (.if_icmp .le 5, 3) := dk_164 0 5 (dk_at dksX6_feed_2 6 rfl rfl)
theorem dX6_feed_57 : decode cX6_feed 57 = .ok (.iconst (-1), 1) := dk_2 (dk_at dksX6_feed_2 9 rfl rfl)
theorem dX6_feed_58 : decode cX6_feed 58 = .ok (.ireturn, 1) := dk_172 (dk_at dksX6_feed_2 10 rfl rfl)
theorem dX6_feed_59 : decode cX6_feed 59 = .ok (.iconst 0, 1) := dk_3 (dk_at dksX6_feed_2 11 rfl rfl)
theorem dX6_feed_60 : decode cX6_feed 60 = .ok (.istore 7, 2) := dk_54 7 (dk_at dksX6_feed_2 12 rfl rfl)
theorem dX6_feed_62 : decode cX6_feed 62 = .ok (.iload 7, 2) := dk_21 7 (dk_at dksX6_feed_2 14 rfl rfl)
theorem dX6_feed_64 : decode cX6_feed 64 = .ok (.bipush 20, 2) := dk_16 20 (dk_at dksX6_feed_2 16 rfl rfl)
theorem dX6_feed_66 : decode cX6_feed 66 = .ok (.if_icmp .ge 49, 3) := dk_162 0 49 (dk_at dksX6_feed_2 18 rfl rfl)
theorem dX6_feed_69 : decode cX6_feed 69 = .ok (.iload_n 1, 1) := dk_27 (dk_at dksX6_feed_2 21 rfl rfl)
theorem dX6_feed_70 : decode cX6_feed 70 = .ok (.iload_n 2, 1) := dk_28 (dk_at dksX6_feed_2 22 rfl rfl)
theorem dX6_feed_71 : decode cX6_feed 71 = .ok (.iload_n 3, 1) := dk_29 (dk_at dksX6_feed_2 23 rfl rfl)
theorem dX6_feed_72 : decode cX6_feed 72 = .ok (.iload 4, 2) := dk_21 4 (dk_at dksX6_feed_3 0 rfl rfl)
theorem dX6_feed_74 : decode cX6_feed 74 = .ok (.iload 5, 2) := dk_21 5 (dk_at dksX6_feed_3 2 rfl rfl)
theorem dX6_feed_76 : decode cX6_feed 76 = .ok (.iload 7, 2) := dk_21 7 (dk_at dksX6_feed_3 4 rfl rfl)
theorem dX6_feed_78 : decode cX6_feed 78 = .ok (.invokestatic 159, 3) := dk_184 0 159 (dk_at dksX6_feed_3 6 rfl rfl)
theorem dX6_feed_81 : decode cX6_feed 81 = .ok (.istore 8, 2) := dk_54 8 (dk_at dksX6_feed_3 9 rfl rfl)
theorem dX6_feed_83 : decode cX6_feed 83 = .ok (.iload 8, 2) := dk_21 8 (dk_at dksX6_feed_3 11 rfl rfl)
theorem dX6_feed_85 : decode cX6_feed 85 = .ok (.ifCond .eq 24, 3) := dk_153 0 24 (dk_at dksX6_feed_3 13 rfl rfl)
theorem dX6_feed_88 : decode cX6_feed 88 = .ok (.aload_n 0, 1) := dk_42 (dk_at dksX6_feed_3 16 rfl rfl)
theorem dX6_feed_89 : decode cX6_feed 89 = .ok (.getfield 7, 3) := dk_180 0 7 (dk_at dksX6_feed_3 17 rfl rfl)
theorem dX6_feed_92 : decode cX6_feed 92 = .ok (.aload_n 0, 1) := dk_42 (dk_at dksX6_feed_3 20 rfl rfl)
theorem dX6_feed_93 : decode cX6_feed 93 = .ok (.getfield 163, 3) := dk_180 0 163 (dk_at dksX6_feed_3 21 rfl rfl)
theorem dX6_feed_96 : decode cX6_feed 96 = .ok (.iload 8, 2) := dk_21 8 (dk_at dksX6_feed_4 0 rfl rfl)
theorem dX6_feed_98 : decode cX6_feed 98 = .ok (.iastore, 1) := dk_79 (dk_at dksX6_feed_4 2 rfl rfl)
theorem dX6_feed_99 : decode cX6_feed 99 = .ok (.aload_n 0, 1) := dk_42 (dk_at dksX6_feed_4 3 rfl rfl)
theorem dX6_feed_100 : decode cX6_feed 100 = .ok (.dup, 1) := dk_89 (dk_at dksX6_feed_4 4 rfl rfl)
theorem dX6_feed_101 : decode cX6_feed 101 = .ok (.getfield 163, 3) := dk_180 0 163 (dk_at dksX6_feed_4 5 rfl rfl)
theorem dX6_feed_104 : decode cX6_feed 104 = .ok (.iconst 1, 1) := dk_4 (dk_at dksX6_feed_4 8 rfl rfl)
theorem dX6_feed_105 : decode cX6_feed 105 = .ok (.iadd, 1) := dk_96 (dk_at dksX6_feed_4 9 rfl rfl)
theorem dX6_feed_106 : decode cX6_feed 106 = .ok (.putfield 163, 3) := dk_181 0 163 (dk_at dksX6_feed_4 10 rfl rfl)
theorem dX6_feed_109 : decode cX6_feed 109 = .ok (.iinc 7 1, 3) := dk_132 7 1 (dk_at dksX6_feed_4 13 rfl rfl)
theorem dX6_feed_112 : decode cX6_feed 112 = .ok (.goto (-50), 3) := dk_167 255 206 (dk_at dksX6_feed_4 16 rfl rfl)
theorem dX6_feed_115 : decode cX6_feed 115 = .ok (.aload_n 0, 1) := dk_42 (dk_at dksX6_feed_4 19 rfl rfl)
theorem dX6_feed_116 : decode cX6_feed 116 = .ok (.getfield 163, 3) := dk_180 0 163 (dk_at dksX6_feed_4 20 rfl rfl)
theorem dX6_feed_119 : decode cX6_feed 119 = .ok (.ireturn, 1) := dk_172 (dk_at dksX6_feed_4 23 rfl rfl)
abbrev cX6_byteOf : ByteArray := prog_16_method_4_code
def yX6_byteOf : MethodName := ⟨RX6, "byteOf", "(IIIIII)I"⟩
def dkwX6_byteOf_2 : List UInt8 := [21, 6, 16, 24, 16, 8, 21, 5, 7, 112, 104, 100, 122, 17, 0, 255, 126, 172]
abbrev dktX6_byteOf_2 : List UInt8 := dkwX6_byteOf_2 ++ []
def dkwX6_byteOf_1 : List UInt8 := [16, 12, 162, 0, 7, 28, 167, 0, 16, 21, 5, 16, 16, 162, 0, 7, 29, 167, 0, 5, 21, 4, 54, 6]
abbrev dktX6_byteOf_1 : List UInt8 := dkwX6_byteOf_1 ++ dktX6_byteOf_2
def dkwX6_byteOf_0 : List UInt8 := [21, 5, 7, 162, 0, 7, 26, 167, 0, 38, 21, 5, 16, 8, 162, 0, 7, 27, 167, 0, 27, 21, 5]
abbrev dktX6_byteOf_0 : List UInt8 := dkwX6_byteOf_0 ++ dktX6_byteOf_1
theorem dksX6_byteOf_0 : cX6_byteOf.data.toList.drop 0 = dktX6_byteOf_0 := by decide +kernel
theorem dksX6_byteOf_1 : cX6_byteOf.data.toList.drop 23 = dktX6_byteOf_1 := dk_seg dksX6_byteOf_0 23 rfl rfl
theorem dksX6_byteOf_2 : cX6_byteOf.data.toList.drop 47 = dktX6_byteOf_2 := dk_seg dksX6_byteOf_1 24 rfl rfl
theorem dX6_byteOf_0 : decode cX6_byteOf 0 = .ok (.iload 5, 2) := dk_21 5 (dk_at dksX6_byteOf_0 0 rfl rfl)
theorem dX6_byteOf_2 : decode cX6_byteOf 2 = .ok (.iconst 4, 1) := dk_7 (dk_at dksX6_byteOf_0 2 rfl rfl)
theorem dX6_byteOf_3 : decode cX6_byteOf 3 = .ok (.if_icmp .ge 7, 3) := dk_162 0 7 (dk_at dksX6_byteOf_0 3 rfl rfl)
theorem dX6_byteOf_6 : decode cX6_byteOf 6 = .ok (.iload_n 0, 1) := dk_26 (dk_at dksX6_byteOf_0 6 rfl rfl)
theorem dX6_byteOf_7 : decode cX6_byteOf 7 = .ok (.goto 38, 3) := dk_167 0 38 (dk_at dksX6_byteOf_0 7 rfl rfl)
theorem dX6_byteOf_10 : decode cX6_byteOf 10 = .ok (.iload 5, 2) := dk_21 5 (dk_at dksX6_byteOf_0 10 rfl rfl)
theorem dX6_byteOf_12 : decode cX6_byteOf 12 = .ok (.bipush 8, 2) := dk_16 8 (dk_at dksX6_byteOf_0 12 rfl rfl)
theorem dX6_byteOf_14 : decode cX6_byteOf 14 = .ok (.if_icmp .ge 7, 3) := dk_162 0 7 (dk_at dksX6_byteOf_0 14 rfl rfl)
theorem dX6_byteOf_17 : decode cX6_byteOf 17 = .ok (.iload_n 1, 1) := dk_27 (dk_at dksX6_byteOf_0 17 rfl rfl)
theorem dX6_byteOf_18 : decode cX6_byteOf 18 = .ok (.goto 27, 3) := dk_167 0 27 (dk_at dksX6_byteOf_0 18 rfl rfl)
theorem dX6_byteOf_21 : decode cX6_byteOf 21 = .ok (.iload 5, 2) := dk_21 5 (dk_at dksX6_byteOf_0 21 rfl rfl)
theorem dX6_byteOf_23 : decode cX6_byteOf 23 = .ok (.bipush 12, 2) := dk_16 12 (dk_at dksX6_byteOf_1 0 rfl rfl)
theorem dX6_byteOf_25 : decode cX6_byteOf 25 = .ok (.if_icmp .ge 7, 3) := dk_162 0 7 (dk_at dksX6_byteOf_1 2 rfl rfl)
theorem dX6_byteOf_28 : decode cX6_byteOf 28 = .ok (.iload_n 2, 1) := dk_28 (dk_at dksX6_byteOf_1 5 rfl rfl)
theorem dX6_byteOf_29 : decode cX6_byteOf 29 = .ok (.goto 16, 3) := dk_167 0 16 (dk_at dksX6_byteOf_1 6 rfl rfl)
theorem dX6_byteOf_32 : decode cX6_byteOf 32 = .ok (.iload 5, 2) := dk_21 5 (dk_at dksX6_byteOf_1 9 rfl rfl)
theorem dX6_byteOf_34 : decode cX6_byteOf 34 = .ok (.bipush 16, 2) := dk_16 16 (dk_at dksX6_byteOf_1 11 rfl rfl)
theorem dX6_byteOf_36 : decode cX6_byteOf 36 = .ok (.if_icmp .ge 7, 3) := dk_162 0 7 (dk_at dksX6_byteOf_1 13 rfl rfl)
theorem dX6_byteOf_39 : decode cX6_byteOf 39 = .ok (.iload_n 3, 1) := dk_29 (dk_at dksX6_byteOf_1 16 rfl rfl)
theorem dX6_byteOf_40 : decode cX6_byteOf 40 = .ok (.goto 5, 3) := dk_167 0 5 (dk_at dksX6_byteOf_1 17 rfl rfl)
theorem dX6_byteOf_43 : decode cX6_byteOf 43 = .ok (.iload 4, 2) := dk_21 4 (dk_at dksX6_byteOf_1 20 rfl rfl)
theorem dX6_byteOf_45 : decode cX6_byteOf 45 = .ok (.istore 6, 2) := dk_54 6 (dk_at dksX6_byteOf_1 22 rfl rfl)
theorem dX6_byteOf_47 : decode cX6_byteOf 47 = .ok (.iload 6, 2) := dk_21 6 (dk_at dksX6_byteOf_2 0 rfl rfl)
theorem dX6_byteOf_49 : decode cX6_byteOf 49 = .ok (.bipush 24, 2) := dk_16 24 (dk_at dksX6_byteOf_2 2 rfl rfl)
theorem dX6_byteOf_51 : decode cX6_byteOf 51 = .ok (.bipush 8, 2) := dk_16 8 (dk_at dksX6_byteOf_2 4 rfl rfl)
theorem dX6_byteOf_53 : decode cX6_byteOf 53 = .ok (.iload 5, 2) := dk_21 5 (dk_at dksX6_byteOf_2 6 rfl rfl)
theorem dX6_byteOf_55 : decode cX6_byteOf 55 = .ok (.iconst 4, 1) := dk_7 (dk_at dksX6_byteOf_2 8 rfl rfl)
theorem dX6_byteOf_56 : decode cX6_byteOf 56 = .ok (.irem, 1) := dk_112 (dk_at dksX6_byteOf_2 9 rfl rfl)
theorem dX6_byteOf_57 : decode cX6_byteOf 57 = .ok (.imul, 1) := dk_104 (dk_at dksX6_byteOf_2 10 rfl rfl)
theorem dX6_byteOf_58 : decode cX6_byteOf 58 = .ok (.isub, 1) := dk_100 (dk_at dksX6_byteOf_2 11 rfl rfl)
theorem dX6_byteOf_59 : decode cX6_byteOf 59 = .ok (.ishr, 1) := dk_122 (dk_at dksX6_byteOf_2 12 rfl rfl)
theorem dX6_byteOf_60 : decode cX6_byteOf 60 = .ok (.sipush 255, 3) := dk_17 0 255 (dk_at dksX6_byteOf_2 13 rfl rfl)
theorem dX6_byteOf_63 : decode cX6_byteOf 63 = .ok (.iand, 1) := dk_126 (dk_at dksX6_byteOf_2 16 rfl rfl)
theorem dX6_byteOf_64 : decode cX6_byteOf 64 = .ok (.ireturn, 1) := dk_172 (dk_at dksX6_byteOf_2 17 rfl rfl)
abbrev cX6_end : ByteArray := prog_16_method_6_code
def yX6_end : MethodName := ⟨RX6, "end", "(I)Z"⟩
def dkwX6_end_0 : List UInt8 := [27, 155, 0, 11, 27, 42, 180, 0, 163, 164, 0, 5, 3, 172, 42, 27, 181, 0, 163, 4, 172]
abbrev dktX6_end_0 : List UInt8 := dkwX6_end_0 ++ []
theorem dksX6_end_0 : cX6_end.data.toList.drop 0 = dktX6_end_0 := by decide +kernel
theorem dX6_end_0 : decode cX6_end 0 = .ok (.iload_n 1, 1) := dk_27 (dk_at dksX6_end_0 0 rfl rfl)
theorem dX6_end_1 : decode cX6_end 1 = .ok (.ifCond .lt 11, 3) := dk_155 0 11 (dk_at dksX6_end_0 1 rfl rfl)
theorem dX6_end_4 : decode cX6_end 4 = .ok (.iload_n 1, 1) := dk_27 (dk_at dksX6_end_0 4 rfl rfl)
theorem dX6_end_5 : decode cX6_end 5 = .ok (.aload_n 0, 1) := dk_42 (dk_at dksX6_end_0 5 rfl rfl)
theorem dX6_end_6 : decode cX6_end 6 = .ok (.getfield 163, 3) := dk_180 0 163 (dk_at dksX6_end_0 6 rfl rfl)
theorem dX6_end_9 : decode cX6_end 9 = .ok (.if_icmp .le 5, 3) := dk_164 0 5 (dk_at dksX6_end_0 9 rfl rfl)
theorem dX6_end_12 : decode cX6_end 12 = .ok (.iconst 0, 1) := dk_3 (dk_at dksX6_end_0 12 rfl rfl)
theorem dX6_end_13 : decode cX6_end 13 = .ok (.ireturn, 1) := dk_172 (dk_at dksX6_end_0 13 rfl rfl)
theorem dX6_end_14 : decode cX6_end 14 = .ok (.aload_n 0, 1) := dk_42 (dk_at dksX6_end_0 14 rfl rfl)
theorem dX6_end_15 : decode cX6_end 15 = .ok (.iload_n 1, 1) := dk_27 (dk_at dksX6_end_0 15 rfl rfl)
theorem dX6_end_16 : decode cX6_end 16 = .ok (.putfield 163, 3) := dk_181 0 163 (dk_at dksX6_end_0 16 rfl rfl)
theorem dX6_end_19 : decode cX6_end 19 = .ok (.iconst 1, 1) := dk_4 (dk_at dksX6_end_0 19 rfl rfl)
theorem dX6_end_20 : decode cX6_end 20 = .ok (.ireturn, 1) := dk_172 (dk_at dksX6_end_0 20 rfl rfl)
abbrev cX6_fault : ByteArray := prog_16_method_30_code
def yX6_fault : MethodName := ⟨RX6, "fault", "(I)I"⟩
def dkwX6_fault_1 : List UInt8 := [167, 0, 18, 27, 5, 160, 0, 11, 42, 3, 182, 1, 8, 167, 0, 5, 16, 254, 172]
abbrev dktX6_fault_1 : List UInt8 := dkwX6_fault_1 ++ []
def dkwX6_fault_0 : List UInt8 := [27, 154, 0, 12, 42, 16, 6, 182, 1, 1, 167, 0, 32, 27, 4, 160, 0, 12, 42, 16, 8, 182, 1, 5]
abbrev dktX6_fault_0 : List UInt8 := dkwX6_fault_0 ++ dktX6_fault_1
theorem dksX6_fault_0 : cX6_fault.data.toList.drop 0 = dktX6_fault_0 := by decide +kernel
theorem dksX6_fault_1 : cX6_fault.data.toList.drop 24 = dktX6_fault_1 := dk_seg dksX6_fault_0 24 rfl rfl
theorem dX6_fault_0 : decode cX6_fault 0 = .ok (.iload_n 1, 1) := dk_27 (dk_at dksX6_fault_0 0 rfl rfl)
theorem dX6_fault_1 : decode cX6_fault 1 = .ok (.ifCond .ne 12, 3) := dk_154 0 12 (dk_at dksX6_fault_0 1 rfl rfl)
theorem dX6_fault_4 : decode cX6_fault 4 = .ok (.aload_n 0, 1) := dk_42 (dk_at dksX6_fault_0 4 rfl rfl)
theorem dX6_fault_5 : decode cX6_fault 5 = .ok (.bipush 6, 2) := dk_16 6 (dk_at dksX6_fault_0 5 rfl rfl)
theorem dX6_fault_7 : decode cX6_fault 7 = .ok (.invokevirtual 257, 3) := dk_182 1 1 (dk_at dksX6_fault_0 7 rfl rfl)
theorem dX6_fault_10 : decode cX6_fault 10 = .ok (.goto 32, 3) := dk_167 0 32 (dk_at dksX6_fault_0 10 rfl rfl)
theorem dX6_fault_13 : decode cX6_fault 13 = .ok (.iload_n 1, 1) := dk_27 (dk_at dksX6_fault_0 13 rfl rfl)
theorem dX6_fault_14 : decode cX6_fault 14 = .ok (.iconst 1, 1) := dk_4 (dk_at dksX6_fault_0 14 rfl rfl)
theorem dX6_fault_15 : decode cX6_fault 15 = .ok (.if_icmp .ne 12, 3) := dk_160 0 12 (dk_at dksX6_fault_0 15 rfl rfl)
theorem dX6_fault_18 : decode cX6_fault 18 = .ok (.aload_n 0, 1) := dk_42 (dk_at dksX6_fault_0 18 rfl rfl)
theorem dX6_fault_19 : decode cX6_fault 19 = .ok (.bipush 8, 2) := dk_16 8 (dk_at dksX6_fault_0 19 rfl rfl)
theorem dX6_fault_21 : decode cX6_fault 21 = .ok (.invokevirtual 261, 3) := dk_182 1 5 (dk_at dksX6_fault_0 21 rfl rfl)
theorem dX6_fault_24 : decode cX6_fault 24 = .ok (.goto 18, 3) := dk_167 0 18 (dk_at dksX6_fault_1 0 rfl rfl)
theorem dX6_fault_27 : decode cX6_fault 27 = .ok (.iload_n 1, 1) := dk_27 (dk_at dksX6_fault_1 3 rfl rfl)
theorem dX6_fault_28 : decode cX6_fault 28 = .ok (.iconst 2, 1) := dk_5 (dk_at dksX6_fault_1 4 rfl rfl)
theorem dX6_fault_29 : decode cX6_fault 29 = .ok (.if_icmp .ne 11, 3) := dk_160 0 11 (dk_at dksX6_fault_1 5 rfl rfl)
theorem dX6_fault_32 : decode cX6_fault 32 = .ok (.aload_n 0, 1) := dk_42 (dk_at dksX6_fault_1 8 rfl rfl)
theorem dX6_fault_33 : decode cX6_fault 33 = .ok (.iconst 0, 1) := dk_3 (dk_at dksX6_fault_1 9 rfl rfl)
theorem dX6_fault_34 : decode cX6_fault 34 = .ok (.invokevirtual 264, 3) := dk_182 1 8 (dk_at dksX6_fault_1 10 rfl rfl)
theorem dX6_fault_37 : decode cX6_fault 37 = .ok (.goto 5, 3) := dk_167 0 5 (dk_at dksX6_fault_1 13 rfl rfl)
theorem dX6_fault_40 : decode cX6_fault 40 = .ok (.bipush (-2), 2) := dk_16 254 (dk_at dksX6_fault_1 16 rfl rfl)
theorem dX6_fault_42 : decode cX6_fault 42 = .ok (.ireturn, 1) := dk_172 (dk_at dksX6_fault_1 18 rfl rfl)
abbrev cX6_readCalendar : ByteArray := prog_16_method_23_code
def yX6_readCalendar : MethodName := ⟨RX6, "readCalendar", "(I)I"⟩
def dkwX6_readCalendar_7 : List UInt8 := [16, 31, 184, 0, 208, 79, 42, 180, 0, 173, 172]
abbrev dktX6_readCalendar_7 : List UInt8 := dkwX6_readCalendar_7 ++ []
def dkwX6_readCalendar_6 : List UInt8 := [182, 0, 179, 42, 180, 0, 29, 7, 27, 104, 42, 180, 0, 16, 27, 46, 96, 4, 100, 17, 39, 15, 16, 12]
abbrev dktX6_readCalendar_6 : List UInt8 := dkwX6_readCalendar_6 ++ dktX6_readCalendar_7
def dkwX6_readCalendar_5 : List UInt8 := [96, 182, 0, 224, 167, 255, 204, 42, 180, 0, 173, 2, 160, 0, 15, 42, 182, 0, 176, 2, 159, 0, 7, 42]
abbrev dktX6_readCalendar_5 : List UInt8 := dkwX6_readCalendar_5 ++ dktX6_readCalendar_6
def dkwX6_readCalendar_4 : List UInt8 := [162, 0, 31, 42, 89, 180, 0, 166, 4, 96, 181, 0, 166, 42, 27, 7, 27, 104, 42, 180, 0, 16, 27, 46]
abbrev dktX6_readCalendar_4 : List UInt8 := dkwX6_readCalendar_4 ++ dktX6_readCalendar_5
def dkwX6_readCalendar_3 : List UInt8 := [180, 0, 173, 2, 160, 0, 50, 42, 182, 0, 176, 16, 64, 160, 0, 41, 42, 180, 0, 16, 27, 46, 7]
abbrev dktX6_readCalendar_3 : List UInt8 := dkwX6_readCalendar_3 ++ dktX6_readCalendar_4
def dkwX6_readCalendar_2 : List UInt8 := [180, 0, 32, 28, 4, 4, 4, 184, 0, 208, 79, 42, 180, 0, 35, 28, 42, 180, 0, 13, 27, 46, 79, 42]
abbrev dktX6_readCalendar_2 : List UInt8 := dkwX6_readCalendar_2 ++ dktX6_readCalendar_3
def dkwX6_readCalendar_1 : List UInt8 := [182, 0, 211, 79, 42, 16, 58, 182, 0, 218, 42, 28, 182, 0, 221, 42, 180, 0, 16, 27, 4, 79, 42]
abbrev dktX6_readCalendar_1 : List UInt8 := dkwX6_readCalendar_1 ++ dktX6_readCalendar_2
def dkwX6_readCalendar_0 : List UInt8 := [42, 3, 181, 0, 166, 42, 2, 181, 0, 173, 7, 27, 104, 61, 42, 180, 0, 13, 27, 42, 3, 16, 9]
abbrev dktX6_readCalendar_0 : List UInt8 := dkwX6_readCalendar_0 ++ dktX6_readCalendar_1
theorem dksX6_readCalendar_0 : cX6_readCalendar.data.toList.drop 0 = dktX6_readCalendar_0 := by decide +kernel
theorem dksX6_readCalendar_1 : cX6_readCalendar.data.toList.drop 23 = dktX6_readCalendar_1 := dk_seg dksX6_readCalendar_0 23 rfl rfl
theorem dksX6_readCalendar_2 : cX6_readCalendar.data.toList.drop 46 = dktX6_readCalendar_2 := dk_seg dksX6_readCalendar_1 23 rfl rfl
theorem dksX6_readCalendar_3 : cX6_readCalendar.data.toList.drop 70 = dktX6_readCalendar_3 := dk_seg dksX6_readCalendar_2 24 rfl rfl
theorem dksX6_readCalendar_4 : cX6_readCalendar.data.toList.drop 93 = dktX6_readCalendar_4 := dk_seg dksX6_readCalendar_3 23 rfl rfl
theorem dksX6_readCalendar_5 : cX6_readCalendar.data.toList.drop 117 = dktX6_readCalendar_5 := dk_seg dksX6_readCalendar_4 24 rfl rfl
theorem dksX6_readCalendar_6 : cX6_readCalendar.data.toList.drop 141 = dktX6_readCalendar_6 := dk_seg dksX6_readCalendar_5 24 rfl rfl
theorem dksX6_readCalendar_7 : cX6_readCalendar.data.toList.drop 165 = dktX6_readCalendar_7 := dk_seg dksX6_readCalendar_6 24 rfl rfl
theorem dX6_readCalendar_0 : decode cX6_readCalendar 0 = .ok (.aload_n 0, 1) := dk_42 (dk_at dksX6_readCalendar_0 0 rfl rfl)
theorem dX6_readCalendar_1 : decode cX6_readCalendar 1 = .ok (.iconst 0, 1) := dk_3 (dk_at dksX6_readCalendar_0 1 rfl rfl)
theorem dX6_readCalendar_2 : decode cX6_readCalendar 2 = .ok (.putfield 166, 3) := dk_181 0 166 (dk_at dksX6_readCalendar_0 2 rfl rfl)
theorem dX6_readCalendar_5 : decode cX6_readCalendar 5 = .ok (.aload_n 0, 1) := dk_42 (dk_at dksX6_readCalendar_0 5 rfl rfl)
theorem dX6_readCalendar_6 : decode cX6_readCalendar 6 = .ok (.iconst (-1), 1) := dk_2 (dk_at dksX6_readCalendar_0 6 rfl rfl)
theorem dX6_readCalendar_7 : decode cX6_readCalendar 7 = .ok (.putfield 173, 3) := dk_181 0 173 (dk_at dksX6_readCalendar_0 7 rfl rfl)
theorem dX6_readCalendar_10 : decode cX6_readCalendar 10 = .ok (.iconst 4, 1) := dk_7 (dk_at dksX6_readCalendar_0 10 rfl rfl)
theorem dX6_readCalendar_11 : decode cX6_readCalendar 11 = .ok (.iload_n 1, 1) := dk_27 (dk_at dksX6_readCalendar_0 11 rfl rfl)
theorem dX6_readCalendar_12 : decode cX6_readCalendar 12 = .ok (.imul, 1) := dk_104 (dk_at dksX6_readCalendar_0 12 rfl rfl)
theorem dX6_readCalendar_13 : decode cX6_readCalendar 13 = .ok (.istore_n 2, 1) := dk_61 (dk_at dksX6_readCalendar_0 13 rfl rfl)
theorem dX6_readCalendar_14 : decode cX6_readCalendar 14 = .ok (.aload_n 0, 1) := dk_42 (dk_at dksX6_readCalendar_0 14 rfl rfl)
theorem dX6_readCalendar_15 : decode cX6_readCalendar 15 = .ok (.getfield 13, 3) := dk_180 0 13 (dk_at dksX6_readCalendar_0 15 rfl rfl)
theorem dX6_readCalendar_18 : decode cX6_readCalendar 18 = .ok (.iload_n 1, 1) := dk_27 (dk_at dksX6_readCalendar_0 18 rfl rfl)
theorem dX6_readCalendar_19 : decode cX6_readCalendar 19 = .ok (.aload_n 0, 1) := dk_42 (dk_at dksX6_readCalendar_0 19 rfl rfl)
theorem dX6_readCalendar_20 : decode cX6_readCalendar 20 = .ok (.iconst 0, 1) := dk_3 (dk_at dksX6_readCalendar_0 20 rfl rfl)
theorem dX6_readCalendar_21 : decode cX6_readCalendar 21 = .ok (.bipush 9, 2) := dk_16 9 (dk_at dksX6_readCalendar_0 21 rfl rfl)
theorem dX6_readCalendar_23 : decode cX6_readCalendar 23 = .ok (.invokevirtual 211, 3) := dk_182 0 211 (dk_at dksX6_readCalendar_1 0 rfl rfl)
theorem dX6_readCalendar_26 : decode cX6_readCalendar 26 = .ok (.iastore, 1) := dk_79 (dk_at dksX6_readCalendar_1 3 rfl rfl)
theorem dX6_readCalendar_27 : decode cX6_readCalendar 27 = .ok (.aload_n 0, 1) := dk_42 (dk_at dksX6_readCalendar_1 4 rfl rfl)
theorem dX6_readCalendar_28 : decode cX6_readCalendar 28 = .ok (.bipush 58, 2) := dk_16 58 (dk_at dksX6_readCalendar_1 5 rfl rfl)
theorem dX6_readCalendar_30 : decode cX6_readCalendar 30 = .ok (.invokevirtual 218, 3) := dk_182 0 218 (dk_at dksX6_readCalendar_1 7 rfl rfl)
theorem dX6_readCalendar_33 : decode cX6_readCalendar 33 = .ok (.aload_n 0, 1) := dk_42 (dk_at dksX6_readCalendar_1 10 rfl rfl)
theorem dX6_readCalendar_34 : decode cX6_readCalendar 34 = .ok (.iload_n 2, 1) := dk_28 (dk_at dksX6_readCalendar_1 11 rfl rfl)
theorem dX6_readCalendar_35 : decode cX6_readCalendar 35 = .ok (.invokevirtual 221, 3) := dk_182 0 221 (dk_at dksX6_readCalendar_1 12 rfl rfl)
theorem dX6_readCalendar_38 : decode cX6_readCalendar 38 = .ok (.aload_n 0, 1) := dk_42 (dk_at dksX6_readCalendar_1 15 rfl rfl)
theorem dX6_readCalendar_39 : decode cX6_readCalendar 39 = .ok (.getfield 16, 3) := dk_180 0 16 (dk_at dksX6_readCalendar_1 16 rfl rfl)
theorem dX6_readCalendar_42 : decode cX6_readCalendar 42 = .ok (.iload_n 1, 1) := dk_27 (dk_at dksX6_readCalendar_1 19 rfl rfl)
theorem dX6_readCalendar_43 : decode cX6_readCalendar 43 = .ok (.iconst 1, 1) := dk_4 (dk_at dksX6_readCalendar_1 20 rfl rfl)
theorem dX6_readCalendar_44 : decode cX6_readCalendar 44 = .ok (.iastore, 1) := dk_79 (dk_at dksX6_readCalendar_1 21 rfl rfl)
theorem dX6_readCalendar_45 : decode cX6_readCalendar 45 = .ok (.aload_n 0, 1) := dk_42 (dk_at dksX6_readCalendar_1 22 rfl rfl)
theorem dX6_readCalendar_46 : decode cX6_readCalendar 46 = .ok (.getfield 32, 3) := dk_180 0 32 (dk_at dksX6_readCalendar_2 0 rfl rfl)
theorem dX6_readCalendar_49 : decode cX6_readCalendar 49 = .ok (.iload_n 2, 1) := dk_28 (dk_at dksX6_readCalendar_2 3 rfl rfl)
theorem dX6_readCalendar_50 : decode cX6_readCalendar 50 = .ok (.iconst 1, 1) := dk_4 (dk_at dksX6_readCalendar_2 4 rfl rfl)
theorem dX6_readCalendar_51 : decode cX6_readCalendar 51 = .ok (.iconst 1, 1) := dk_4 (dk_at dksX6_readCalendar_2 5 rfl rfl)
theorem dX6_readCalendar_52 : decode cX6_readCalendar 52 = .ok (.iconst 1, 1) := dk_4 (dk_at dksX6_readCalendar_2 6 rfl rfl)
theorem dX6_readCalendar_53 : decode cX6_readCalendar 53 = .ok (.invokestatic 208, 3) := dk_184 0 208 (dk_at dksX6_readCalendar_2 7 rfl rfl)
theorem dX6_readCalendar_56 : decode cX6_readCalendar 56 = .ok (.iastore, 1) := dk_79 (dk_at dksX6_readCalendar_2 10 rfl rfl)
theorem dX6_readCalendar_57 : decode cX6_readCalendar 57 = .ok (.aload_n 0, 1) := dk_42 (dk_at dksX6_readCalendar_2 11 rfl rfl)
theorem dX6_readCalendar_58 : decode cX6_readCalendar 58 = .ok (.getfield 35, 3) := dk_180 0 35 (dk_at dksX6_readCalendar_2 12 rfl rfl)
theorem dX6_readCalendar_61 : decode cX6_readCalendar 61 = .ok (.iload_n 2, 1) := dk_28 (dk_at dksX6_readCalendar_2 15 rfl rfl)
theorem dX6_readCalendar_62 : decode cX6_readCalendar 62 = .ok (.aload_n 0, 1) := dk_42 (dk_at dksX6_readCalendar_2 16 rfl rfl)
theorem dX6_readCalendar_63 : decode cX6_readCalendar 63 = .ok (.getfield 13, 3) := dk_180 0 13 (dk_at dksX6_readCalendar_2 17 rfl rfl)
theorem dX6_readCalendar_66 : decode cX6_readCalendar 66 = .ok (.iload_n 1, 1) := dk_27 (dk_at dksX6_readCalendar_2 20 rfl rfl)
theorem dX6_readCalendar_67 : decode cX6_readCalendar 67 = .ok (.iaload, 1) := dk_46 (dk_at dksX6_readCalendar_2 21 rfl rfl)
theorem dX6_readCalendar_68 : decode cX6_readCalendar 68 = .ok (.iastore, 1) := dk_79 (dk_at dksX6_readCalendar_2 22 rfl rfl)
theorem dX6_readCalendar_69 : decode cX6_readCalendar 69 = .ok (.aload_n 0, 1) := dk_42 (dk_at dksX6_readCalendar_2 23 rfl rfl)
theorem dX6_readCalendar_70 : decode cX6_readCalendar 70 = .ok (.getfield 173, 3) := dk_180 0 173 (dk_at dksX6_readCalendar_3 0 rfl rfl)
theorem dX6_readCalendar_73 : decode cX6_readCalendar 73 = .ok (.iconst (-1), 1) := dk_2 (dk_at dksX6_readCalendar_3 3 rfl rfl)
theorem dX6_readCalendar_74 : decode cX6_readCalendar 74 = .ok (.if_icmp .ne 50, 3) := dk_160 0 50 (dk_at dksX6_readCalendar_3 4 rfl rfl)
theorem dX6_readCalendar_77 : decode cX6_readCalendar 77 = .ok (.aload_n 0, 1) := dk_42 (dk_at dksX6_readCalendar_3 7 rfl rfl)
theorem dX6_readCalendar_78 : decode cX6_readCalendar 78 = .ok (.invokevirtual 176, 3) := dk_182 0 176 (dk_at dksX6_readCalendar_3 8 rfl rfl)
theorem dX6_readCalendar_81 : decode cX6_readCalendar 81 = .ok (.bipush 64, 2) := dk_16 64 (dk_at dksX6_readCalendar_3 11 rfl rfl)
theorem dX6_readCalendar_83 : decode cX6_readCalendar 83 = .ok (.if_icmp .ne 41, 3) := dk_160 0 41 (dk_at dksX6_readCalendar_3 13 rfl rfl)
theorem dX6_readCalendar_86 : decode cX6_readCalendar 86 = .ok (.aload_n 0, 1) := dk_42 (dk_at dksX6_readCalendar_3 16 rfl rfl)
theorem dX6_readCalendar_87 : decode cX6_readCalendar 87 = .ok (.getfield 16, 3) := dk_180 0 16 (dk_at dksX6_readCalendar_3 17 rfl rfl)
theorem dX6_readCalendar_90 : decode cX6_readCalendar 90 = .ok (.iload_n 1, 1) := dk_27 (dk_at dksX6_readCalendar_3 20 rfl rfl)
theorem dX6_readCalendar_91 : decode cX6_readCalendar 91 = .ok (.iaload, 1) := dk_46 (dk_at dksX6_readCalendar_3 21 rfl rfl)
theorem dX6_readCalendar_92 : decode cX6_readCalendar 92 = .ok (.iconst 4, 1) := dk_7 (dk_at dksX6_readCalendar_3 22 rfl rfl)
theorem dX6_readCalendar_93 : decode cX6_readCalendar 93 = .ok (.if_icmp .ge 31, 3) := dk_162 0 31 (dk_at dksX6_readCalendar_4 0 rfl rfl)
theorem dX6_readCalendar_96 : decode cX6_readCalendar 96 = .ok (.aload_n 0, 1) := dk_42 (dk_at dksX6_readCalendar_4 3 rfl rfl)
theorem dX6_readCalendar_97 : decode cX6_readCalendar 97 = .ok (.dup, 1) := dk_89 (dk_at dksX6_readCalendar_4 4 rfl rfl)
theorem dX6_readCalendar_98 : decode cX6_readCalendar 98 = .ok (.getfield 166, 3) := dk_180 0 166 (dk_at dksX6_readCalendar_4 5 rfl rfl)
theorem dX6_readCalendar_101 : decode cX6_readCalendar 101 = .ok (.iconst 1, 1) := dk_4 (dk_at dksX6_readCalendar_4 8 rfl rfl)
theorem dX6_readCalendar_102 : decode cX6_readCalendar 102 = .ok (.iadd, 1) := dk_96 (dk_at dksX6_readCalendar_4 9 rfl rfl)
theorem dX6_readCalendar_103 : decode cX6_readCalendar 103 = .ok (.putfield 166, 3) := dk_181 0 166 (dk_at dksX6_readCalendar_4 10 rfl rfl)
theorem dX6_readCalendar_106 : decode cX6_readCalendar 106 = .ok (.aload_n 0, 1) := dk_42 (dk_at dksX6_readCalendar_4 13 rfl rfl)
theorem dX6_readCalendar_107 : decode cX6_readCalendar 107 = .ok (.iload_n 1, 1) := dk_27 (dk_at dksX6_readCalendar_4 14 rfl rfl)
theorem dX6_readCalendar_108 : decode cX6_readCalendar 108 = .ok (.iconst 4, 1) := dk_7 (dk_at dksX6_readCalendar_4 15 rfl rfl)
theorem dX6_readCalendar_109 : decode cX6_readCalendar 109 = .ok (.iload_n 1, 1) := dk_27 (dk_at dksX6_readCalendar_4 16 rfl rfl)
theorem dX6_readCalendar_110 : decode cX6_readCalendar 110 = .ok (.imul, 1) := dk_104 (dk_at dksX6_readCalendar_4 17 rfl rfl)
theorem dX6_readCalendar_111 : decode cX6_readCalendar 111 = .ok (.aload_n 0, 1) := dk_42 (dk_at dksX6_readCalendar_4 18 rfl rfl)
theorem dX6_readCalendar_112 : decode cX6_readCalendar 112 = .ok (.getfield 16, 3) := dk_180 0 16 (dk_at dksX6_readCalendar_4 19 rfl rfl)
theorem dX6_readCalendar_115 : decode cX6_readCalendar 115 = .ok (.iload_n 1, 1) := dk_27 (dk_at dksX6_readCalendar_4 22 rfl rfl)
theorem dX6_readCalendar_116 : decode cX6_readCalendar 116 = .ok (.iaload, 1) := dk_46 (dk_at dksX6_readCalendar_4 23 rfl rfl)
theorem dX6_readCalendar_117 : decode cX6_readCalendar 117 = .ok (.iadd, 1) := dk_96 (dk_at dksX6_readCalendar_5 0 rfl rfl)
theorem dX6_readCalendar_118 : decode cX6_readCalendar 118 = .ok (.invokevirtual 224, 3) := dk_182 0 224 (dk_at dksX6_readCalendar_5 1 rfl rfl)
theorem dX6_readCalendar_121 : decode cX6_readCalendar 121 = .ok (.goto (-52), 3) := dk_167 255 204 (dk_at dksX6_readCalendar_5 4 rfl rfl)
theorem dX6_readCalendar_124 : decode cX6_readCalendar 124 = .ok (.aload_n 0, 1) := dk_42 (dk_at dksX6_readCalendar_5 7 rfl rfl)
theorem dX6_readCalendar_125 : decode cX6_readCalendar 125 = .ok (.getfield 173, 3) := dk_180 0 173 (dk_at dksX6_readCalendar_5 8 rfl rfl)
theorem dX6_readCalendar_128 : decode cX6_readCalendar 128 = .ok (.iconst (-1), 1) := dk_2 (dk_at dksX6_readCalendar_5 11 rfl rfl)
theorem dX6_readCalendar_129 : decode cX6_readCalendar 129 = .ok (.if_icmp .ne 15, 3) := dk_160 0 15 (dk_at dksX6_readCalendar_5 12 rfl rfl)
theorem dX6_readCalendar_132 : decode cX6_readCalendar 132 = .ok (.aload_n 0, 1) := dk_42 (dk_at dksX6_readCalendar_5 15 rfl rfl)
theorem dX6_readCalendar_133 : decode cX6_readCalendar 133 = .ok (.invokevirtual 176, 3) := dk_182 0 176 (dk_at dksX6_readCalendar_5 16 rfl rfl)
theorem dX6_readCalendar_136 : decode cX6_readCalendar 136 = .ok (.iconst (-1), 1) := dk_2 (dk_at dksX6_readCalendar_5 19 rfl rfl)
theorem dX6_readCalendar_137 : decode cX6_readCalendar 137 = .ok (.if_icmp .eq 7, 3) := dk_159 0 7 (dk_at dksX6_readCalendar_5 20 rfl rfl)
theorem dX6_readCalendar_140 : decode cX6_readCalendar 140 = .ok (.aload_n 0, 1) := dk_42 (dk_at dksX6_readCalendar_5 23 rfl rfl)
theorem dX6_readCalendar_141 : decode cX6_readCalendar 141 = .ok (.invokevirtual 179, 3) := dk_182 0 179 (dk_at dksX6_readCalendar_6 0 rfl rfl)
theorem dX6_readCalendar_144 : decode cX6_readCalendar 144 = .ok (.aload_n 0, 1) := dk_42 (dk_at dksX6_readCalendar_6 3 rfl rfl)
theorem dX6_readCalendar_145 : decode cX6_readCalendar 145 = .ok (.getfield 29, 3) := dk_180 0 29 (dk_at dksX6_readCalendar_6 4 rfl rfl)
theorem dX6_readCalendar_148 : decode cX6_readCalendar 148 = .ok (.iconst 4, 1) := dk_7 (dk_at dksX6_readCalendar_6 7 rfl rfl)
theorem dX6_readCalendar_149 : decode cX6_readCalendar 149 = .ok (.iload_n 1, 1) := dk_27 (dk_at dksX6_readCalendar_6 8 rfl rfl)
theorem dX6_readCalendar_150 : decode cX6_readCalendar 150 = .ok (.imul, 1) := dk_104 (dk_at dksX6_readCalendar_6 9 rfl rfl)
theorem dX6_readCalendar_151 : decode cX6_readCalendar 151 = .ok (.aload_n 0, 1) := dk_42 (dk_at dksX6_readCalendar_6 10 rfl rfl)
theorem dX6_readCalendar_152 : decode cX6_readCalendar 152 = .ok (.getfield 16, 3) := dk_180 0 16 (dk_at dksX6_readCalendar_6 11 rfl rfl)
theorem dX6_readCalendar_155 : decode cX6_readCalendar 155 = .ok (.iload_n 1, 1) := dk_27 (dk_at dksX6_readCalendar_6 14 rfl rfl)
theorem dX6_readCalendar_156 : decode cX6_readCalendar 156 = .ok (.iaload, 1) := dk_46 (dk_at dksX6_readCalendar_6 15 rfl rfl)
theorem dX6_readCalendar_157 : decode cX6_readCalendar 157 = .ok (.iadd, 1) := dk_96 (dk_at dksX6_readCalendar_6 16 rfl rfl)
theorem dX6_readCalendar_158 : decode cX6_readCalendar 158 = .ok (.iconst 1, 1) := dk_4 (dk_at dksX6_readCalendar_6 17 rfl rfl)
theorem dX6_readCalendar_159 : decode cX6_readCalendar 159 = .ok (.isub, 1) := dk_100 (dk_at dksX6_readCalendar_6 18 rfl rfl)
theorem dX6_readCalendar_160 : decode cX6_readCalendar 160 = .ok (.sipush 9999, 3) := dk_17 39 15 (dk_at dksX6_readCalendar_6 19 rfl rfl)
theorem dX6_readCalendar_163 : decode cX6_readCalendar 163 = .ok (.bipush 12, 2) := dk_16 12 (dk_at dksX6_readCalendar_6 22 rfl rfl)
theorem dX6_readCalendar_165 : decode cX6_readCalendar 165 = .ok (.bipush 31, 2) := dk_16 31 (dk_at dksX6_readCalendar_7 0 rfl rfl)
theorem dX6_readCalendar_167 : decode cX6_readCalendar 167 = .ok (.invokestatic 208, 3) := dk_184 0 208 (dk_at dksX6_readCalendar_7 2 rfl rfl)
theorem dX6_readCalendar_170 : decode cX6_readCalendar 170 = .ok (.iastore, 1) := dk_79 (dk_at dksX6_readCalendar_7 5 rfl rfl)
theorem dX6_readCalendar_171 : decode cX6_readCalendar 171 = .ok (.aload_n 0, 1) := dk_42 (dk_at dksX6_readCalendar_7 6 rfl rfl)
theorem dX6_readCalendar_172 : decode cX6_readCalendar 172 = .ok (.getfield 173, 3) := dk_180 0 173 (dk_at dksX6_readCalendar_7 7 rfl rfl)
theorem dX6_readCalendar_175 : decode cX6_readCalendar 175 = .ok (.ireturn, 1) := dk_172 (dk_at dksX6_readCalendar_7 10 rfl rfl)
abbrev cX6_plain : ByteArray := prog_16_method_15_code
def yX6_plain : MethodName := ⟨RX6, "plain", "(II)I"⟩
def dkwX6_plain_0 : List UInt8 := [42, 27, 28, 182, 0, 193, 62, 42, 182, 0, 197, 29, 172]
abbrev dktX6_plain_0 : List UInt8 := dkwX6_plain_0 ++ []
theorem dksX6_plain_0 : cX6_plain.data.toList.drop 0 = dktX6_plain_0 := by decide +kernel
theorem dX6_plain_0 : decode cX6_plain 0 = .ok (.aload_n 0, 1) := dk_42 (dk_at dksX6_plain_0 0 rfl rfl)
theorem dX6_plain_1 : decode cX6_plain 1 = .ok (.iload_n 1, 1) := dk_27 (dk_at dksX6_plain_0 1 rfl rfl)
theorem dX6_plain_2 : decode cX6_plain 2 = .ok (.iload_n 2, 1) := dk_28 (dk_at dksX6_plain_0 2 rfl rfl)
theorem dX6_plain_3 : decode cX6_plain 3 = .ok (.invokevirtual 193, 3) := dk_182 0 193 (dk_at dksX6_plain_0 3 rfl rfl)
theorem dX6_plain_6 : decode cX6_plain 6 = .ok (.istore_n 3, 1) := dk_62 (dk_at dksX6_plain_0 6 rfl rfl)
theorem dX6_plain_7 : decode cX6_plain 7 = .ok (.aload_n 0, 1) := dk_42 (dk_at dksX6_plain_0 7 rfl rfl)
theorem dX6_plain_8 : decode cX6_plain 8 = .ok (.invokevirtual 197, 3) := dk_182 0 197 (dk_at dksX6_plain_0 8 rfl rfl)
theorem dX6_plain_11 : decode cX6_plain 11 = .ok (.iload_n 3, 1) := dk_29 (dk_at dksX6_plain_0 11 rfl rfl)
theorem dX6_plain_12 : decode cX6_plain 12 = .ok (.ireturn, 1) := dk_172 (dk_at dksX6_plain_0 12 rfl rfl)
abbrev cX6_number : ByteArray := prog_16_method_12_code
def yX6_number : MethodName := ⟨RX6, "number", "(II)I"⟩
def dkwX6_number_4 : List UInt8 := [184, 0, 186, 154, 0, 7, 42, 182, 0, 190, 29, 172]
abbrev dktX6_number_4 : List UInt8 := dkwX6_number_4 ++ []
def dkwX6_number_3 : List UInt8 := [167, 255, 214, 42, 182, 0, 169, 184, 0, 182, 153, 0, 10, 42, 182, 0, 179, 167, 0, 16, 29, 27, 28]
abbrev dktX6_number_3 : List UInt8 := dkwX6_number_3 ++ dktX6_number_4
def dkwX6_number_2 : List UInt8 := [104, 42, 182, 0, 169, 96, 16, 48, 100, 62, 42, 89, 180, 0, 166, 4, 96, 181, 0, 166, 132, 4, 1]
abbrev dktX6_number_2 : List UInt8 := dkwX6_number_2 ++ dktX6_number_3
def dkwX6_number_1 : List UInt8 := [3, 62, 3, 54, 4, 21, 4, 7, 162, 0, 42, 42, 182, 0, 169, 184, 0, 182, 153, 0, 32, 16, 10, 29]
abbrev dktX6_number_1 : List UInt8 := dkwX6_number_1 ++ dktX6_number_2
def dkwX6_number_0 : List UInt8 := [42, 180, 0, 173, 2, 160, 0, 13, 42, 182, 0, 176, 184, 0, 182, 154, 0, 9, 42, 182, 0, 179, 27, 172]
abbrev dktX6_number_0 : List UInt8 := dkwX6_number_0 ++ dktX6_number_1
theorem dksX6_number_0 : cX6_number.data.toList.drop 0 = dktX6_number_0 := by decide +kernel
theorem dksX6_number_1 : cX6_number.data.toList.drop 24 = dktX6_number_1 := dk_seg dksX6_number_0 24 rfl rfl
theorem dksX6_number_2 : cX6_number.data.toList.drop 48 = dktX6_number_2 := dk_seg dksX6_number_1 24 rfl rfl
theorem dksX6_number_3 : cX6_number.data.toList.drop 71 = dktX6_number_3 := dk_seg dksX6_number_2 23 rfl rfl
theorem dksX6_number_4 : cX6_number.data.toList.drop 94 = dktX6_number_4 := dk_seg dksX6_number_3 23 rfl rfl
theorem dX6_number_0 : decode cX6_number 0 = .ok (.aload_n 0, 1) := dk_42 (dk_at dksX6_number_0 0 rfl rfl)
theorem dX6_number_1 : decode cX6_number 1 = .ok (.getfield 173, 3) := dk_180 0 173 (dk_at dksX6_number_0 1 rfl rfl)
theorem dX6_number_4 : decode cX6_number 4 = .ok (.iconst (-1), 1) := dk_2 (dk_at dksX6_number_0 4 rfl rfl)
theorem dX6_number_5 : decode cX6_number 5 = .ok (.if_icmp .ne 13, 3) := dk_160 0 13 (dk_at dksX6_number_0 5 rfl rfl)
theorem dX6_number_8 : decode cX6_number 8 = .ok (.aload_n 0, 1) := dk_42 (dk_at dksX6_number_0 8 rfl rfl)
theorem dX6_number_9 : decode cX6_number 9 = .ok (.invokevirtual 176, 3) := dk_182 0 176 (dk_at dksX6_number_0 9 rfl rfl)
theorem dX6_number_12 : decode cX6_number 12 = .ok (.invokestatic 182, 3) := dk_184 0 182 (dk_at dksX6_number_0 12 rfl rfl)
theorem dX6_number_15 : decode cX6_number 15 = .ok (.ifCond .ne 9, 3) := dk_154 0 9 (dk_at dksX6_number_0 15 rfl rfl)
theorem dX6_number_18 : decode cX6_number 18 = .ok (.aload_n 0, 1) := dk_42 (dk_at dksX6_number_0 18 rfl rfl)
theorem dX6_number_19 : decode cX6_number 19 = .ok (.invokevirtual 179, 3) := dk_182 0 179 (dk_at dksX6_number_0 19 rfl rfl)
theorem dX6_number_22 : decode cX6_number 22 = .ok (.iload_n 1, 1) := dk_27 (dk_at dksX6_number_0 22 rfl rfl)
theorem dX6_number_23 : decode cX6_number 23 = .ok (.ireturn, 1) := dk_172 (dk_at dksX6_number_0 23 rfl rfl)
theorem dX6_number_24 : decode cX6_number 24 = .ok (.iconst 0, 1) := dk_3 (dk_at dksX6_number_1 0 rfl rfl)
theorem dX6_number_25 : decode cX6_number 25 = .ok (.istore_n 3, 1) := dk_62 (dk_at dksX6_number_1 1 rfl rfl)
theorem dX6_number_26 : decode cX6_number 26 = .ok (.iconst 0, 1) := dk_3 (dk_at dksX6_number_1 2 rfl rfl)
theorem dX6_number_27 : decode cX6_number 27 = .ok (.istore 4, 2) := dk_54 4 (dk_at dksX6_number_1 3 rfl rfl)
theorem dX6_number_29 : decode cX6_number 29 = .ok (.iload 4, 2) := dk_21 4 (dk_at dksX6_number_1 5 rfl rfl)
theorem dX6_number_31 : decode cX6_number 31 = .ok (.iconst 4, 1) := dk_7 (dk_at dksX6_number_1 7 rfl rfl)
theorem dX6_number_32 : decode cX6_number 32 = .ok (.if_icmp .ge 42, 3) := dk_162 0 42 (dk_at dksX6_number_1 8 rfl rfl)
theorem dX6_number_35 : decode cX6_number 35 = .ok (.aload_n 0, 1) := dk_42 (dk_at dksX6_number_1 11 rfl rfl)
theorem dX6_number_36 : decode cX6_number 36 = .ok (.invokevirtual 169, 3) := dk_182 0 169 (dk_at dksX6_number_1 12 rfl rfl)
theorem dX6_number_39 : decode cX6_number 39 = .ok (.invokestatic 182, 3) := dk_184 0 182 (dk_at dksX6_number_1 15 rfl rfl)
theorem dX6_number_42 : decode cX6_number 42 = .ok (.ifCond .eq 32, 3) := dk_153 0 32 (dk_at dksX6_number_1 18 rfl rfl)
theorem dX6_number_45 : decode cX6_number 45 = .ok (.bipush 10, 2) := dk_16 10 (dk_at dksX6_number_1 21 rfl rfl)
theorem dX6_number_47 : decode cX6_number 47 = .ok (.iload_n 3, 1) := dk_29 (dk_at dksX6_number_1 23 rfl rfl)
theorem dX6_number_48 : decode cX6_number 48 = .ok (.imul, 1) := dk_104 (dk_at dksX6_number_2 0 rfl rfl)
theorem dX6_number_49 : decode cX6_number 49 = .ok (.aload_n 0, 1) := dk_42 (dk_at dksX6_number_2 1 rfl rfl)
theorem dX6_number_50 : decode cX6_number 50 = .ok (.invokevirtual 169, 3) := dk_182 0 169 (dk_at dksX6_number_2 2 rfl rfl)
theorem dX6_number_53 : decode cX6_number 53 = .ok (.iadd, 1) := dk_96 (dk_at dksX6_number_2 5 rfl rfl)
theorem dX6_number_54 : decode cX6_number 54 = .ok (.bipush 48, 2) := dk_16 48 (dk_at dksX6_number_2 6 rfl rfl)
theorem dX6_number_56 : decode cX6_number 56 = .ok (.isub, 1) := dk_100 (dk_at dksX6_number_2 8 rfl rfl)
theorem dX6_number_57 : decode cX6_number 57 = .ok (.istore_n 3, 1) := dk_62 (dk_at dksX6_number_2 9 rfl rfl)
theorem dX6_number_58 : decode cX6_number 58 = .ok (.aload_n 0, 1) := dk_42 (dk_at dksX6_number_2 10 rfl rfl)
theorem dX6_number_59 : decode cX6_number 59 = .ok (.dup, 1) := dk_89 (dk_at dksX6_number_2 11 rfl rfl)
theorem dX6_number_60 : decode cX6_number 60 = .ok (.getfield 166, 3) := dk_180 0 166 (dk_at dksX6_number_2 12 rfl rfl)
theorem dX6_number_63 : decode cX6_number 63 = .ok (.iconst 1, 1) := dk_4 (dk_at dksX6_number_2 15 rfl rfl)
theorem dX6_number_64 : decode cX6_number 64 = .ok (.iadd, 1) := dk_96 (dk_at dksX6_number_2 16 rfl rfl)
theorem dX6_number_65 : decode cX6_number 65 = .ok (.putfield 166, 3) := dk_181 0 166 (dk_at dksX6_number_2 17 rfl rfl)
theorem dX6_number_68 : decode cX6_number 68 = .ok (.iinc 4 1, 3) := dk_132 4 1 (dk_at dksX6_number_2 20 rfl rfl)
theorem dX6_number_71 : decode cX6_number 71 = .ok (.goto (-42), 3) := dk_167 255 214 (dk_at dksX6_number_3 0 rfl rfl)
theorem dX6_number_74 : decode cX6_number 74 = .ok (.aload_n 0, 1) := dk_42 (dk_at dksX6_number_3 3 rfl rfl)
theorem dX6_number_75 : decode cX6_number 75 = .ok (.invokevirtual 169, 3) := dk_182 0 169 (dk_at dksX6_number_3 4 rfl rfl)
theorem dX6_number_78 : decode cX6_number 78 = .ok (.invokestatic 182, 3) := dk_184 0 182 (dk_at dksX6_number_3 7 rfl rfl)
theorem dX6_number_81 : decode cX6_number 81 = .ok (.ifCond .eq 10, 3) := dk_153 0 10 (dk_at dksX6_number_3 10 rfl rfl)
theorem dX6_number_84 : decode cX6_number 84 = .ok (.aload_n 0, 1) := dk_42 (dk_at dksX6_number_3 13 rfl rfl)
theorem dX6_number_85 : decode cX6_number 85 = .ok (.invokevirtual 179, 3) := dk_182 0 179 (dk_at dksX6_number_3 14 rfl rfl)
theorem dX6_number_88 : decode cX6_number 88 = .ok (.goto 16, 3) := dk_167 0 16 (dk_at dksX6_number_3 17 rfl rfl)
theorem dX6_number_91 : decode cX6_number 91 = .ok (.iload_n 3, 1) := dk_29 (dk_at dksX6_number_3 20 rfl rfl)
theorem dX6_number_92 : decode cX6_number 92 = .ok (.iload_n 1, 1) := dk_27 (dk_at dksX6_number_3 21 rfl rfl)
theorem dX6_number_93 : decode cX6_number 93 = .ok (.iload_n 2, 1) := dk_28 (dk_at dksX6_number_3 22 rfl rfl)
theorem dX6_number_94 : decode cX6_number 94 = .ok (.invokestatic 186, 3) := dk_184 0 186 (dk_at dksX6_number_4 0 rfl rfl)
theorem dX6_number_97 : decode cX6_number 97 = .ok (.ifCond .ne 7, 3) := dk_154 0 7 (dk_at dksX6_number_4 3 rfl rfl)
theorem dX6_number_100 : decode cX6_number 100 = .ok (.aload_n 0, 1) := dk_42 (dk_at dksX6_number_4 6 rfl rfl)
theorem dX6_number_101 : decode cX6_number 101 = .ok (.invokevirtual 190, 3) := dk_182 0 190 (dk_at dksX6_number_4 7 rfl rfl)
theorem dX6_number_104 : decode cX6_number 104 = .ok (.iload_n 3, 1) := dk_29 (dk_at dksX6_number_4 10 rfl rfl)
theorem dX6_number_105 : decode cX6_number 105 = .ok (.ireturn, 1) := dk_172 (dk_at dksX6_number_4 11 rfl rfl)
abbrev cX6_look : ByteArray := prog_16_method_8_code
def yX6_look : MethodName := ⟨RX6, "look", "()I"⟩
def dkwX6_look_1 : List UInt8 := [182, 0, 169, 172]
abbrev dktX6_look_1 : List UInt8 := dkwX6_look_1 ++ []
def dkwX6_look_0 : List UInt8 := [42, 182, 0, 169, 16, 32, 160, 0, 16, 42, 89, 180, 0, 166, 4, 96, 181, 0, 166, 167, 255, 237, 42]
abbrev dktX6_look_0 : List UInt8 := dkwX6_look_0 ++ dktX6_look_1
theorem dksX6_look_0 : cX6_look.data.toList.drop 0 = dktX6_look_0 := by decide +kernel
theorem dksX6_look_1 : cX6_look.data.toList.drop 23 = dktX6_look_1 := dk_seg dksX6_look_0 23 rfl rfl
theorem dX6_look_0 : decode cX6_look 0 = .ok (.aload_n 0, 1) := dk_42 (dk_at dksX6_look_0 0 rfl rfl)
theorem dX6_look_1 : decode cX6_look 1 = .ok (.invokevirtual 169, 3) := dk_182 0 169 (dk_at dksX6_look_0 1 rfl rfl)
theorem dX6_look_4 : decode cX6_look 4 = .ok (.bipush 32, 2) := dk_16 32 (dk_at dksX6_look_0 4 rfl rfl)
theorem dX6_look_6 : decode cX6_look 6 = .ok (.if_icmp .ne 16, 3) := dk_160 0 16 (dk_at dksX6_look_0 6 rfl rfl)
theorem dX6_look_9 : decode cX6_look 9 = .ok (.aload_n 0, 1) := dk_42 (dk_at dksX6_look_0 9 rfl rfl)
theorem dX6_look_10 : decode cX6_look 10 = .ok (.dup, 1) := dk_89 (dk_at dksX6_look_0 10 rfl rfl)
theorem dX6_look_11 : decode cX6_look 11 = .ok (.getfield 166, 3) := dk_180 0 166 (dk_at dksX6_look_0 11 rfl rfl)
theorem dX6_look_14 : decode cX6_look 14 = .ok (.iconst 1, 1) := dk_4 (dk_at dksX6_look_0 14 rfl rfl)
theorem dX6_look_15 : decode cX6_look 15 = .ok (.iadd, 1) := dk_96 (dk_at dksX6_look_0 15 rfl rfl)
theorem dX6_look_16 : decode cX6_look 16 = .ok (.putfield 166, 3) := dk_181 0 166 (dk_at dksX6_look_0 16 rfl rfl)
theorem dX6_look_19 : decode cX6_look 19 = .ok (.goto (-19), 3) := dk_167 255 237 (dk_at dksX6_look_0 19 rfl rfl)
theorem dX6_look_22 : decode cX6_look 22 = .ok (.aload_n 0, 1) := dk_42 (dk_at dksX6_look_0 22 rfl rfl)
theorem dX6_look_23 : decode cX6_look 23 = .ok (.invokevirtual 169, 3) := dk_182 0 169 (dk_at dksX6_look_1 0 rfl rfl)
theorem dX6_look_26 : decode cX6_look 26 = .ok (.ireturn, 1) := dk_172 (dk_at dksX6_look_1 3 rfl rfl)
abbrev cX6_here : ByteArray := prog_16_method_7_code
def yX6_here : MethodName := ⟨RX6, "here", "()I"⟩
def dkwX6_here_1 : List UInt8 := [172]
abbrev dktX6_here_1 : List UInt8 := dkwX6_here_1 ++ []
def dkwX6_here_0 : List UInt8 := [42, 180, 0, 166, 42, 180, 0, 163, 162, 0, 15, 42, 180, 0, 7, 42, 180, 0, 166, 46, 167, 0, 4, 2]
abbrev dktX6_here_0 : List UInt8 := dkwX6_here_0 ++ dktX6_here_1
theorem dksX6_here_0 : cX6_here.data.toList.drop 0 = dktX6_here_0 := by decide +kernel
theorem dksX6_here_1 : cX6_here.data.toList.drop 24 = dktX6_here_1 := dk_seg dksX6_here_0 24 rfl rfl
theorem dX6_here_0 : decode cX6_here 0 = .ok (.aload_n 0, 1) := dk_42 (dk_at dksX6_here_0 0 rfl rfl)
theorem dX6_here_1 : decode cX6_here 1 = .ok (.getfield 166, 3) := dk_180 0 166 (dk_at dksX6_here_0 1 rfl rfl)
theorem dX6_here_4 : decode cX6_here 4 = .ok (.aload_n 0, 1) := dk_42 (dk_at dksX6_here_0 4 rfl rfl)
theorem dX6_here_5 : decode cX6_here 5 = .ok (.getfield 163, 3) := dk_180 0 163 (dk_at dksX6_here_0 5 rfl rfl)
theorem dX6_here_8 : decode cX6_here 8 = .ok (.if_icmp .ge 15, 3) := dk_162 0 15 (dk_at dksX6_here_0 8 rfl rfl)
theorem dX6_here_11 : decode cX6_here 11 = .ok (.aload_n 0, 1) := dk_42 (dk_at dksX6_here_0 11 rfl rfl)
theorem dX6_here_12 : decode cX6_here 12 = .ok (.getfield 7, 3) := dk_180 0 7 (dk_at dksX6_here_0 12 rfl rfl)
theorem dX6_here_15 : decode cX6_here 15 = .ok (.aload_n 0, 1) := dk_42 (dk_at dksX6_here_0 15 rfl rfl)
theorem dX6_here_16 : decode cX6_here 16 = .ok (.getfield 166, 3) := dk_180 0 166 (dk_at dksX6_here_0 16 rfl rfl)
theorem dX6_here_19 : decode cX6_here 19 = .ok (.iaload, 1) := dk_46 (dk_at dksX6_here_0 19 rfl rfl)
theorem dX6_here_20 : decode cX6_here 20 = .ok (.goto 4, 3) := dk_167 0 4 (dk_at dksX6_here_0 20 rfl rfl)
theorem dX6_here_23 : decode cX6_here 23 = .ok (.iconst (-1), 1) := dk_2 (dk_at dksX6_here_0 23 rfl rfl)
theorem dX6_here_24 : decode cX6_here 24 = .ok (.ireturn, 1) := dk_172 (dk_at dksX6_here_1 0 rfl rfl)
abbrev cX6_isDigit : ByteArray := prog_16_method_10_code
def yX6_isDigit : MethodName := ⟨RX6, "isDigit", "(I)Z"⟩
def dkwX6_isDigit_0 : List UInt8 := [26, 16, 48, 161, 0, 13, 26, 16, 57, 163, 0, 7, 4, 167, 0, 4, 3, 172]
abbrev dktX6_isDigit_0 : List UInt8 := dkwX6_isDigit_0 ++ []
theorem dksX6_isDigit_0 : cX6_isDigit.data.toList.drop 0 = dktX6_isDigit_0 := by decide +kernel
theorem dX6_isDigit_0 : decode cX6_isDigit 0 = .ok (.iload_n 0, 1) := dk_26 (dk_at dksX6_isDigit_0 0 rfl rfl)
theorem dX6_isDigit_1 : decode cX6_isDigit 1 = .ok (.bipush 48, 2) := dk_16 48 (dk_at dksX6_isDigit_0 1 rfl rfl)
theorem dX6_isDigit_3 : decode cX6_isDigit 3 = .ok (.if_icmp .lt 13, 3) := dk_161 0 13 (dk_at dksX6_isDigit_0 3 rfl rfl)
theorem dX6_isDigit_6 : decode cX6_isDigit 6 = .ok (.iload_n 0, 1) := dk_26 (dk_at dksX6_isDigit_0 6 rfl rfl)
theorem dX6_isDigit_7 : decode cX6_isDigit 7 = .ok (.bipush 57, 2) := dk_16 57 (dk_at dksX6_isDigit_0 7 rfl rfl)
theorem dX6_isDigit_9 : decode cX6_isDigit 9 = .ok (.if_icmp .gt 7, 3) := dk_163 0 7 (dk_at dksX6_isDigit_0 9 rfl rfl)
theorem dX6_isDigit_12 : decode cX6_isDigit 12 = .ok (.iconst 1, 1) := dk_4 (dk_at dksX6_isDigit_0 12 rfl rfl)
theorem dX6_isDigit_13 : decode cX6_isDigit 13 = .ok (.goto 4, 3) := dk_167 0 4 (dk_at dksX6_isDigit_0 13 rfl rfl)
theorem dX6_isDigit_16 : decode cX6_isDigit 16 = .ok (.iconst 0, 1) := dk_3 (dk_at dksX6_isDigit_0 16 rfl rfl)
theorem dX6_isDigit_17 : decode cX6_isDigit 17 = .ok (.ireturn, 1) := dk_172 (dk_at dksX6_isDigit_0 17 rfl rfl)
abbrev cX6_bad : ByteArray := prog_16_method_9_code
def yX6_bad : MethodName := ⟨RX6, "bad", "()V"⟩
def dkwX6_bad_0 : List UInt8 := [42, 42, 180, 0, 173, 2, 160, 0, 10, 42, 180, 0, 166, 167, 0, 7, 42, 180, 0, 173, 181, 0, 173, 177]
abbrev dktX6_bad_0 : List UInt8 := dkwX6_bad_0 ++ []
theorem dksX6_bad_0 : cX6_bad.data.toList.drop 0 = dktX6_bad_0 := by decide +kernel
theorem dX6_bad_0 : decode cX6_bad 0 = .ok (.aload_n 0, 1) := dk_42 (dk_at dksX6_bad_0 0 rfl rfl)
theorem dX6_bad_1 : decode cX6_bad 1 = .ok (.aload_n 0, 1) := dk_42 (dk_at dksX6_bad_0 1 rfl rfl)
theorem dX6_bad_2 : decode cX6_bad 2 = .ok (.getfield 173, 3) := dk_180 0 173 (dk_at dksX6_bad_0 2 rfl rfl)
theorem dX6_bad_5 : decode cX6_bad 5 = .ok (.iconst (-1), 1) := dk_2 (dk_at dksX6_bad_0 5 rfl rfl)
theorem dX6_bad_6 : decode cX6_bad 6 = .ok (.if_icmp .ne 10, 3) := dk_160 0 10 (dk_at dksX6_bad_0 6 rfl rfl)
theorem dX6_bad_9 : decode cX6_bad 9 = .ok (.aload_n 0, 1) := dk_42 (dk_at dksX6_bad_0 9 rfl rfl)
theorem dX6_bad_10 : decode cX6_bad 10 = .ok (.getfield 166, 3) := dk_180 0 166 (dk_at dksX6_bad_0 10 rfl rfl)
theorem dX6_bad_13 : decode cX6_bad 13 = .ok (.goto 7, 3) := dk_167 0 7 (dk_at dksX6_bad_0 13 rfl rfl)
theorem dX6_bad_16 : decode cX6_bad 16 = .ok (.aload_n 0, 1) := dk_42 (dk_at dksX6_bad_0 16 rfl rfl)
theorem dX6_bad_17 : decode cX6_bad 17 = .ok (.getfield 173, 3) := dk_180 0 173 (dk_at dksX6_bad_0 17 rfl rfl)
theorem dX6_bad_20 : decode cX6_bad 20 = .ok (.putfield 173, 3) := dk_181 0 173 (dk_at dksX6_bad_0 20 rfl rfl)
theorem dX6_bad_23 : decode cX6_bad 23 = .ok (.return_, 1) := dk_177 (dk_at dksX6_bad_0 23 rfl rfl)
abbrev cX6_in : ByteArray := prog_16_method_1_code
def yX6_in : MethodName := ⟨RX6, "in", "(III)Z"⟩
def dkwX6_in_0 : List UInt8 := [26, 27, 161, 0, 12, 26, 28, 163, 0, 7, 4, 167, 0, 4, 3, 172]
abbrev dktX6_in_0 : List UInt8 := dkwX6_in_0 ++ []
theorem dksX6_in_0 : cX6_in.data.toList.drop 0 = dktX6_in_0 := by decide +kernel
theorem dX6_in_0 : decode cX6_in 0 = .ok (.iload_n 0, 1) := dk_26 (dk_at dksX6_in_0 0 rfl rfl)
theorem dX6_in_1 : decode cX6_in 1 = .ok (.iload_n 1, 1) := dk_27 (dk_at dksX6_in_0 1 rfl rfl)
theorem dX6_in_2 : decode cX6_in 2 = .ok (.if_icmp .lt 12, 3) := dk_161 0 12 (dk_at dksX6_in_0 2 rfl rfl)
theorem dX6_in_5 : decode cX6_in 5 = .ok (.iload_n 0, 1) := dk_26 (dk_at dksX6_in_0 5 rfl rfl)
theorem dX6_in_6 : decode cX6_in 6 = .ok (.iload_n 2, 1) := dk_28 (dk_at dksX6_in_0 6 rfl rfl)
theorem dX6_in_7 : decode cX6_in 7 = .ok (.if_icmp .gt 7, 3) := dk_163 0 7 (dk_at dksX6_in_0 7 rfl rfl)
theorem dX6_in_10 : decode cX6_in 10 = .ok (.iconst 1, 1) := dk_4 (dk_at dksX6_in_0 10 rfl rfl)
theorem dX6_in_11 : decode cX6_in 11 = .ok (.goto 4, 3) := dk_167 0 4 (dk_at dksX6_in_0 11 rfl rfl)
theorem dX6_in_14 : decode cX6_in 14 = .ok (.iconst 0, 1) := dk_3 (dk_at dksX6_in_0 14 rfl rfl)
theorem dX6_in_15 : decode cX6_in 15 = .ok (.ireturn, 1) := dk_172 (dk_at dksX6_in_0 15 rfl rfl)
abbrev cX6_wrongAtLast : ByteArray := prog_16_method_13_code
def yX6_wrongAtLast : MethodName := ⟨RX6, "wrongAtLast", "()V"⟩
def dkwX6_wrongAtLast_1 : List UInt8 := [181, 0, 173, 177]
abbrev dktX6_wrongAtLast_1 : List UInt8 := dkwX6_wrongAtLast_1 ++ []
def dkwX6_wrongAtLast_0 : List UInt8 := [42, 42, 180, 0, 173, 2, 160, 0, 12, 42, 180, 0, 166, 4, 100, 167, 0, 7, 42, 180, 0, 173]
abbrev dktX6_wrongAtLast_0 : List UInt8 := dkwX6_wrongAtLast_0 ++ dktX6_wrongAtLast_1
theorem dksX6_wrongAtLast_0 : cX6_wrongAtLast.data.toList.drop 0 = dktX6_wrongAtLast_0 := by decide +kernel
theorem dksX6_wrongAtLast_1 : cX6_wrongAtLast.data.toList.drop 22 = dktX6_wrongAtLast_1 := dk_seg dksX6_wrongAtLast_0 22 rfl rfl
theorem dX6_wrongAtLast_0 : decode cX6_wrongAtLast 0 = .ok (.aload_n 0, 1) := dk_42 (dk_at dksX6_wrongAtLast_0 0 rfl rfl)
theorem dX6_wrongAtLast_1 : decode cX6_wrongAtLast 1 = .ok (.aload_n 0, 1) := dk_42 (dk_at dksX6_wrongAtLast_0 1 rfl rfl)
theorem dX6_wrongAtLast_2 : decode cX6_wrongAtLast 2 = .ok (.getfield 173, 3) := dk_180 0 173 (dk_at dksX6_wrongAtLast_0 2 rfl rfl)
theorem dX6_wrongAtLast_5 : decode cX6_wrongAtLast 5 = .ok (.iconst (-1), 1) := dk_2 (dk_at dksX6_wrongAtLast_0 5 rfl rfl)
theorem dX6_wrongAtLast_6 : decode cX6_wrongAtLast 6 = .ok (.if_icmp .ne 12, 3) := dk_160 0 12 (dk_at dksX6_wrongAtLast_0 6 rfl rfl)
theorem dX6_wrongAtLast_9 : decode cX6_wrongAtLast 9 = .ok (.aload_n 0, 1) := dk_42 (dk_at dksX6_wrongAtLast_0 9 rfl rfl)
theorem dX6_wrongAtLast_10 : decode cX6_wrongAtLast 10 = .ok (.getfield 166, 3) := dk_180 0 166 (dk_at dksX6_wrongAtLast_0 10 rfl rfl)
theorem dX6_wrongAtLast_13 : decode cX6_wrongAtLast 13 = .ok (.iconst 1, 1) := dk_4 (dk_at dksX6_wrongAtLast_0 13 rfl rfl)
theorem dX6_wrongAtLast_14 : decode cX6_wrongAtLast 14 = .ok (.isub, 1) := dk_100 (dk_at dksX6_wrongAtLast_0 14 rfl rfl)
theorem dX6_wrongAtLast_15 : decode cX6_wrongAtLast 15 = .ok (.goto 7, 3) := dk_167 0 7 (dk_at dksX6_wrongAtLast_0 15 rfl rfl)
theorem dX6_wrongAtLast_18 : decode cX6_wrongAtLast 18 = .ok (.aload_n 0, 1) := dk_42 (dk_at dksX6_wrongAtLast_0 18 rfl rfl)
theorem dX6_wrongAtLast_19 : decode cX6_wrongAtLast 19 = .ok (.getfield 173, 3) := dk_180 0 173 (dk_at dksX6_wrongAtLast_0 19 rfl rfl)
theorem dX6_wrongAtLast_22 : decode cX6_wrongAtLast 22 = .ok (.putfield 173, 3) := dk_181 0 173 (dk_at dksX6_wrongAtLast_1 0 rfl rfl)
theorem dX6_wrongAtLast_25 : decode cX6_wrongAtLast 25 = .ok (.return_, 1) := dk_177 (dk_at dksX6_wrongAtLast_1 3 rfl rfl)
abbrev cX6_closeNumber : ByteArray := prog_16_method_14_code
def yX6_closeNumber : MethodName := ⟨RX6, "closeNumber", "()V"⟩
def dkwX6_closeNumber_0 : List UInt8 := [42, 180, 0, 173, 2, 160, 0, 17, 42, 182, 0, 169, 184, 0, 182, 153, 0, 7, 42, 182, 0, 179, 177]
abbrev dktX6_closeNumber_0 : List UInt8 := dkwX6_closeNumber_0 ++ []
theorem dksX6_closeNumber_0 : cX6_closeNumber.data.toList.drop 0 = dktX6_closeNumber_0 := by decide +kernel
theorem dX6_closeNumber_0 : decode cX6_closeNumber 0 = .ok (.aload_n 0, 1) := dk_42 (dk_at dksX6_closeNumber_0 0 rfl rfl)
theorem dX6_closeNumber_1 : decode cX6_closeNumber 1 = .ok (.getfield 173, 3) := dk_180 0 173 (dk_at dksX6_closeNumber_0 1 rfl rfl)
theorem dX6_closeNumber_4 : decode cX6_closeNumber 4 = .ok (.iconst (-1), 1) := dk_2 (dk_at dksX6_closeNumber_0 4 rfl rfl)
theorem dX6_closeNumber_5 : decode cX6_closeNumber 5 = .ok (.if_icmp .ne 17, 3) := dk_160 0 17 (dk_at dksX6_closeNumber_0 5 rfl rfl)
theorem dX6_closeNumber_8 : decode cX6_closeNumber 8 = .ok (.aload_n 0, 1) := dk_42 (dk_at dksX6_closeNumber_0 8 rfl rfl)
theorem dX6_closeNumber_9 : decode cX6_closeNumber 9 = .ok (.invokevirtual 169, 3) := dk_182 0 169 (dk_at dksX6_closeNumber_0 9 rfl rfl)
theorem dX6_closeNumber_12 : decode cX6_closeNumber 12 = .ok (.invokestatic 182, 3) := dk_184 0 182 (dk_at dksX6_closeNumber_0 12 rfl rfl)
theorem dX6_closeNumber_15 : decode cX6_closeNumber 15 = .ok (.ifCond .eq 7, 3) := dk_153 0 7 (dk_at dksX6_closeNumber_0 15 rfl rfl)
theorem dX6_closeNumber_18 : decode cX6_closeNumber 18 = .ok (.aload_n 0, 1) := dk_42 (dk_at dksX6_closeNumber_0 18 rfl rfl)
theorem dX6_closeNumber_19 : decode cX6_closeNumber 19 = .ok (.invokevirtual 179, 3) := dk_182 0 179 (dk_at dksX6_closeNumber_0 19 rfl rfl)
theorem dX6_closeNumber_22 : decode cX6_closeNumber 22 = .ok (.return_, 1) := dk_177 (dk_at dksX6_closeNumber_0 22 rfl rfl)
abbrev cX6_sign : ByteArray := prog_16_method_11_code
def yX6_sign : MethodName := ⟨RX6, "sign", "(I)V"⟩
def dkwX6_sign_1 : List UInt8 := [180, 0, 166, 4, 96, 181, 0, 166, 177]
abbrev dktX6_sign_1 : List UInt8 := dkwX6_sign_1 ++ []
def dkwX6_sign_0 : List UInt8 := [42, 180, 0, 173, 2, 160, 0, 15, 42, 182, 0, 176, 27, 159, 0, 7, 42, 182, 0, 179, 42, 89]
abbrev dktX6_sign_0 : List UInt8 := dkwX6_sign_0 ++ dktX6_sign_1
theorem dksX6_sign_0 : cX6_sign.data.toList.drop 0 = dktX6_sign_0 := by decide +kernel
theorem dksX6_sign_1 : cX6_sign.data.toList.drop 22 = dktX6_sign_1 := dk_seg dksX6_sign_0 22 rfl rfl
theorem dX6_sign_0 : decode cX6_sign 0 = .ok (.aload_n 0, 1) := dk_42 (dk_at dksX6_sign_0 0 rfl rfl)
theorem dX6_sign_1 : decode cX6_sign 1 = .ok (.getfield 173, 3) := dk_180 0 173 (dk_at dksX6_sign_0 1 rfl rfl)
theorem dX6_sign_4 : decode cX6_sign 4 = .ok (.iconst (-1), 1) := dk_2 (dk_at dksX6_sign_0 4 rfl rfl)
theorem dX6_sign_5 : decode cX6_sign 5 = .ok (.if_icmp .ne 15, 3) := dk_160 0 15 (dk_at dksX6_sign_0 5 rfl rfl)
theorem dX6_sign_8 : decode cX6_sign 8 = .ok (.aload_n 0, 1) := dk_42 (dk_at dksX6_sign_0 8 rfl rfl)
theorem dX6_sign_9 : decode cX6_sign 9 = .ok (.invokevirtual 176, 3) := dk_182 0 176 (dk_at dksX6_sign_0 9 rfl rfl)
theorem dX6_sign_12 : decode cX6_sign 12 = .ok (.iload_n 1, 1) := dk_27 (dk_at dksX6_sign_0 12 rfl rfl)
theorem dX6_sign_13 : decode cX6_sign 13 = .ok (.if_icmp .eq 7, 3) := dk_159 0 7 (dk_at dksX6_sign_0 13 rfl rfl)
theorem dX6_sign_16 : decode cX6_sign 16 = .ok (.aload_n 0, 1) := dk_42 (dk_at dksX6_sign_0 16 rfl rfl)
theorem dX6_sign_17 : decode cX6_sign 17 = .ok (.invokevirtual 179, 3) := dk_182 0 179 (dk_at dksX6_sign_0 17 rfl rfl)
theorem dX6_sign_20 : decode cX6_sign 20 = .ok (.aload_n 0, 1) := dk_42 (dk_at dksX6_sign_0 20 rfl rfl)
theorem dX6_sign_21 : decode cX6_sign 21 = .ok (.dup, 1) := dk_89 (dk_at dksX6_sign_0 21 rfl rfl)
theorem dX6_sign_22 : decode cX6_sign 22 = .ok (.getfield 166, 3) := dk_180 0 166 (dk_at dksX6_sign_1 0 rfl rfl)
theorem dX6_sign_25 : decode cX6_sign 25 = .ok (.iconst 1, 1) := dk_4 (dk_at dksX6_sign_1 3 rfl rfl)
theorem dX6_sign_26 : decode cX6_sign 26 = .ok (.iadd, 1) := dk_96 (dk_at dksX6_sign_1 4 rfl rfl)
theorem dX6_sign_27 : decode cX6_sign 27 = .ok (.putfield 166, 3) := dk_181 0 166 (dk_at dksX6_sign_1 5 rfl rfl)
theorem dX6_sign_30 : decode cX6_sign 30 = .ok (.return_, 1) := dk_177 (dk_at dksX6_sign_1 8 rfl rfl)
abbrev cX6_readLeaps : ByteArray := prog_16_method_22_code
def yX6_readLeaps : MethodName := ⟨RX6, "readLeaps", "(I)V"⟩
def dkwX6_readLeaps_7 : List UInt8 := [180, 0, 173, 2, 160, 0, 8, 42, 27, 182, 0, 214, 177]
abbrev dktX6_readLeaps_7 : List UInt8 := dkwX6_readLeaps_7 ++ []
def dkwX6_readLeaps_6 : List UInt8 := [42, 180, 0, 19, 27, 92, 46, 4, 96, 79, 42, 182, 0, 176, 184, 0, 182, 61, 167, 255, 109, 42]
abbrev dktX6_readLeaps_6 : List UInt8 := dkwX6_readLeaps_6 ++ dktX6_readLeaps_7
def dkwX6_readLeaps_5 : List UInt8 := [16, 8, 27, 104, 42, 180, 0, 19, 27, 46, 96, 21, 4, 16, 43, 160, 0, 7, 4, 167, 0, 4, 3, 84]
abbrev dktX6_readLeaps_5 : List UInt8 := dkwX6_readLeaps_5 ++ dktX6_readLeaps_6
def dkwX6_readLeaps_4 : List UInt8 := [181, 0, 166, 42, 180, 0, 22, 16, 8, 27, 104, 42, 180, 0, 19, 27, 46, 96, 29, 79, 42, 180, 0, 25]
abbrev dktX6_readLeaps_4 : List UInt8 := dkwX6_readLeaps_4 ++ dktX6_readLeaps_5
def dkwX6_readLeaps_3 : List UInt8 := [159, 0, 15, 21, 4, 16, 45, 159, 0, 8, 42, 182, 0, 179, 177, 42, 89, 180, 0, 166, 4, 96]
abbrev dktX6_readLeaps_3 : List UInt8 := dkwX6_readLeaps_3 ++ dktX6_readLeaps_4
def dkwX6_readLeaps_2 : List UInt8 := [42, 180, 0, 173, 2, 160, 0, 10, 42, 182, 0, 176, 167, 0, 4, 2, 54, 4, 21, 4, 16, 43]
abbrev dktX6_readLeaps_2 : List UInt8 := dkwX6_readLeaps_2 ++ dktX6_readLeaps_3
def dkwX6_readLeaps_1 : List UInt8 := [180, 0, 19, 27, 46, 16, 8, 160, 0, 8, 42, 182, 0, 179, 177, 42, 4, 17, 39, 15, 182, 0, 211, 62]
abbrev dktX6_readLeaps_1 : List UInt8 := dkwX6_readLeaps_1 ++ dktX6_readLeaps_2
def dkwX6_readLeaps_0 : List UInt8 := [42, 180, 0, 19, 27, 3, 79, 4, 61, 28, 153, 0, 149, 42, 180, 0, 173, 2, 160, 0, 141, 42]
abbrev dktX6_readLeaps_0 : List UInt8 := dkwX6_readLeaps_0 ++ dktX6_readLeaps_1
theorem dksX6_readLeaps_0 : cX6_readLeaps.data.toList.drop 0 = dktX6_readLeaps_0 := by decide +kernel
theorem dksX6_readLeaps_1 : cX6_readLeaps.data.toList.drop 22 = dktX6_readLeaps_1 := dk_seg dksX6_readLeaps_0 22 rfl rfl
theorem dksX6_readLeaps_2 : cX6_readLeaps.data.toList.drop 46 = dktX6_readLeaps_2 := dk_seg dksX6_readLeaps_1 24 rfl rfl
theorem dksX6_readLeaps_3 : cX6_readLeaps.data.toList.drop 68 = dktX6_readLeaps_3 := dk_seg dksX6_readLeaps_2 22 rfl rfl
theorem dksX6_readLeaps_4 : cX6_readLeaps.data.toList.drop 90 = dktX6_readLeaps_4 := dk_seg dksX6_readLeaps_3 22 rfl rfl
theorem dksX6_readLeaps_5 : cX6_readLeaps.data.toList.drop 114 = dktX6_readLeaps_5 := dk_seg dksX6_readLeaps_4 24 rfl rfl
theorem dksX6_readLeaps_6 : cX6_readLeaps.data.toList.drop 138 = dktX6_readLeaps_6 := dk_seg dksX6_readLeaps_5 24 rfl rfl
theorem dksX6_readLeaps_7 : cX6_readLeaps.data.toList.drop 160 = dktX6_readLeaps_7 := dk_seg dksX6_readLeaps_6 22 rfl rfl
theorem dX6_readLeaps_0 : decode cX6_readLeaps 0 = .ok (.aload_n 0, 1) := dk_42 (dk_at dksX6_readLeaps_0 0 rfl rfl)
theorem dX6_readLeaps_1 : decode cX6_readLeaps 1 = .ok (.getfield 19, 3) := dk_180 0 19 (dk_at dksX6_readLeaps_0 1 rfl rfl)
theorem dX6_readLeaps_4 : decode cX6_readLeaps 4 = .ok (.iload_n 1, 1) := dk_27 (dk_at dksX6_readLeaps_0 4 rfl rfl)
theorem dX6_readLeaps_5 : decode cX6_readLeaps 5 = .ok (.iconst 0, 1) := dk_3 (dk_at dksX6_readLeaps_0 5 rfl rfl)
theorem dX6_readLeaps_6 : decode cX6_readLeaps 6 = .ok (.iastore, 1) := dk_79 (dk_at dksX6_readLeaps_0 6 rfl rfl)
theorem dX6_readLeaps_7 : decode cX6_readLeaps 7 = .ok (.iconst 1, 1) := dk_4 (dk_at dksX6_readLeaps_0 7 rfl rfl)
theorem dX6_readLeaps_8 : decode cX6_readLeaps 8 = .ok (.istore_n 2, 1) := dk_61 (dk_at dksX6_readLeaps_0 8 rfl rfl)
theorem dX6_readLeaps_9 : decode cX6_readLeaps 9 = .ok (.iload_n 2, 1) := dk_28 (dk_at dksX6_readLeaps_0 9 rfl rfl)
theorem dX6_readLeaps_10 : decode cX6_readLeaps 10 = .ok (.ifCond .eq 149, 3) := dk_153 0 149 (dk_at dksX6_readLeaps_0 10 rfl rfl)
theorem dX6_readLeaps_13 : decode cX6_readLeaps 13 = .ok (.aload_n 0, 1) := dk_42 (dk_at dksX6_readLeaps_0 13 rfl rfl)
theorem dX6_readLeaps_14 : decode cX6_readLeaps 14 = .ok (.getfield 173, 3) := dk_180 0 173 (dk_at dksX6_readLeaps_0 14 rfl rfl)
theorem dX6_readLeaps_17 : decode cX6_readLeaps 17 = .ok (.iconst (-1), 1) := dk_2 (dk_at dksX6_readLeaps_0 17 rfl rfl)
theorem dX6_readLeaps_18 : decode cX6_readLeaps 18 = .ok (.if_icmp .ne 141, 3) := dk_160 0 141 (dk_at dksX6_readLeaps_0 18 rfl rfl)
theorem dX6_readLeaps_21 : decode cX6_readLeaps 21 = .ok (.aload_n 0, 1) := dk_42 (dk_at dksX6_readLeaps_0 21 rfl rfl)
theorem dX6_readLeaps_22 : decode cX6_readLeaps 22 = .ok (.getfield 19, 3) := dk_180 0 19 (dk_at dksX6_readLeaps_1 0 rfl rfl)
theorem dX6_readLeaps_25 : decode cX6_readLeaps 25 = .ok (.iload_n 1, 1) := dk_27 (dk_at dksX6_readLeaps_1 3 rfl rfl)
theorem dX6_readLeaps_26 : decode cX6_readLeaps 26 = .ok (.iaload, 1) := dk_46 (dk_at dksX6_readLeaps_1 4 rfl rfl)
theorem dX6_readLeaps_27 : decode cX6_readLeaps 27 = .ok (.bipush 8, 2) := dk_16 8 (dk_at dksX6_readLeaps_1 5 rfl rfl)
theorem dX6_readLeaps_29 : decode cX6_readLeaps 29 = .ok (.if_icmp .ne 8, 3) := dk_160 0 8 (dk_at dksX6_readLeaps_1 7 rfl rfl)
theorem dX6_readLeaps_32 : decode cX6_readLeaps 32 = .ok (.aload_n 0, 1) := dk_42 (dk_at dksX6_readLeaps_1 10 rfl rfl)
theorem dX6_readLeaps_33 : decode cX6_readLeaps 33 = .ok (.invokevirtual 179, 3) := dk_182 0 179 (dk_at dksX6_readLeaps_1 11 rfl rfl)
theorem dX6_readLeaps_36 : decode cX6_readLeaps 36 = .ok (.return_, 1) := dk_177 (dk_at dksX6_readLeaps_1 14 rfl rfl)
theorem dX6_readLeaps_37 : decode cX6_readLeaps 37 = .ok (.aload_n 0, 1) := dk_42 (dk_at dksX6_readLeaps_1 15 rfl rfl)
theorem dX6_readLeaps_38 : decode cX6_readLeaps 38 = .ok (.iconst 1, 1) := dk_4 (dk_at dksX6_readLeaps_1 16 rfl rfl)
theorem dX6_readLeaps_39 : decode cX6_readLeaps 39 = .ok (.sipush 9999, 3) := dk_17 39 15 (dk_at dksX6_readLeaps_1 17 rfl rfl)
theorem dX6_readLeaps_42 : decode cX6_readLeaps 42 = .ok (.invokevirtual 211, 3) := dk_182 0 211 (dk_at dksX6_readLeaps_1 20 rfl rfl)
theorem dX6_readLeaps_45 : decode cX6_readLeaps 45 = .ok (.istore_n 3, 1) := dk_62 (dk_at dksX6_readLeaps_1 23 rfl rfl)
theorem dX6_readLeaps_46 : decode cX6_readLeaps 46 = .ok (.aload_n 0, 1) := dk_42 (dk_at dksX6_readLeaps_2 0 rfl rfl)
theorem dX6_readLeaps_47 : decode cX6_readLeaps 47 = .ok (.getfield 173, 3) := dk_180 0 173 (dk_at dksX6_readLeaps_2 1 rfl rfl)
theorem dX6_readLeaps_50 : decode cX6_readLeaps 50 = .ok (.iconst (-1), 1) := dk_2 (dk_at dksX6_readLeaps_2 4 rfl rfl)
theorem dX6_readLeaps_51 : decode cX6_readLeaps 51 = .ok (.if_icmp .ne 10, 3) := dk_160 0 10 (dk_at dksX6_readLeaps_2 5 rfl rfl)
theorem dX6_readLeaps_54 : decode cX6_readLeaps 54 = .ok (.aload_n 0, 1) := dk_42 (dk_at dksX6_readLeaps_2 8 rfl rfl)
theorem dX6_readLeaps_55 : decode cX6_readLeaps 55 = .ok (.invokevirtual 176, 3) := dk_182 0 176 (dk_at dksX6_readLeaps_2 9 rfl rfl)
theorem dX6_readLeaps_58 : decode cX6_readLeaps 58 = .ok (.goto 4, 3) := dk_167 0 4 (dk_at dksX6_readLeaps_2 12 rfl rfl)
theorem dX6_readLeaps_61 : decode cX6_readLeaps 61 = .ok (.iconst (-1), 1) := dk_2 (dk_at dksX6_readLeaps_2 15 rfl rfl)
theorem dX6_readLeaps_62 : decode cX6_readLeaps 62 = .ok (.istore 4, 2) := dk_54 4 (dk_at dksX6_readLeaps_2 16 rfl rfl)
theorem dX6_readLeaps_64 : decode cX6_readLeaps 64 = .ok (.iload 4, 2) := dk_21 4 (dk_at dksX6_readLeaps_2 18 rfl rfl)
theorem dX6_readLeaps_66 : decode cX6_readLeaps 66 = .ok (.bipush 43, 2) := dk_16 43 (dk_at dksX6_readLeaps_2 20 rfl rfl)
theorem dX6_readLeaps_68 : decode cX6_readLeaps 68 = .ok (.if_icmp .eq 15, 3) := dk_159 0 15 (dk_at dksX6_readLeaps_3 0 rfl rfl)
theorem dX6_readLeaps_71 : decode cX6_readLeaps 71 = .ok (.iload 4, 2) := dk_21 4 (dk_at dksX6_readLeaps_3 3 rfl rfl)
theorem dX6_readLeaps_73 : decode cX6_readLeaps 73 = .ok (.bipush 45, 2) := dk_16 45 (dk_at dksX6_readLeaps_3 5 rfl rfl)
theorem dX6_readLeaps_75 : decode cX6_readLeaps 75 = .ok (.if_icmp .eq 8, 3) := dk_159 0 8 (dk_at dksX6_readLeaps_3 7 rfl rfl)
theorem dX6_readLeaps_78 : decode cX6_readLeaps 78 = .ok (.aload_n 0, 1) := dk_42 (dk_at dksX6_readLeaps_3 10 rfl rfl)
theorem dX6_readLeaps_79 : decode cX6_readLeaps 79 = .ok (.invokevirtual 179, 3) := dk_182 0 179 (dk_at dksX6_readLeaps_3 11 rfl rfl)
theorem dX6_readLeaps_82 : decode cX6_readLeaps 82 = .ok (.return_, 1) := dk_177 (dk_at dksX6_readLeaps_3 14 rfl rfl)
theorem dX6_readLeaps_83 : decode cX6_readLeaps 83 = .ok (.aload_n 0, 1) := dk_42 (dk_at dksX6_readLeaps_3 15 rfl rfl)
theorem dX6_readLeaps_84 : decode cX6_readLeaps 84 = .ok (.dup, 1) := dk_89 (dk_at dksX6_readLeaps_3 16 rfl rfl)
theorem dX6_readLeaps_85 : decode cX6_readLeaps 85 = .ok (.getfield 166, 3) := dk_180 0 166 (dk_at dksX6_readLeaps_3 17 rfl rfl)
theorem dX6_readLeaps_88 : decode cX6_readLeaps 88 = .ok (.iconst 1, 1) := dk_4 (dk_at dksX6_readLeaps_3 20 rfl rfl)
theorem dX6_readLeaps_89 : decode cX6_readLeaps 89 = .ok (.iadd, 1) := dk_96 (dk_at dksX6_readLeaps_3 21 rfl rfl)
theorem dX6_readLeaps_90 : decode cX6_readLeaps 90 = .ok (.putfield 166, 3) := dk_181 0 166 (dk_at dksX6_readLeaps_4 0 rfl rfl)
theorem dX6_readLeaps_93 : decode cX6_readLeaps 93 = .ok (.aload_n 0, 1) := dk_42 (dk_at dksX6_readLeaps_4 3 rfl rfl)
theorem dX6_readLeaps_94 : decode cX6_readLeaps 94 = .ok (.getfield 22, 3) := dk_180 0 22 (dk_at dksX6_readLeaps_4 4 rfl rfl)
theorem dX6_readLeaps_97 : decode cX6_readLeaps 97 = .ok (.bipush 8, 2) := dk_16 8 (dk_at dksX6_readLeaps_4 7 rfl rfl)
theorem dX6_readLeaps_99 : decode cX6_readLeaps 99 = .ok (.iload_n 1, 1) := dk_27 (dk_at dksX6_readLeaps_4 9 rfl rfl)
theorem dX6_readLeaps_100 : decode cX6_readLeaps 100 = .ok (.imul, 1) := dk_104 (dk_at dksX6_readLeaps_4 10 rfl rfl)
theorem dX6_readLeaps_101 : decode cX6_readLeaps 101 = .ok (.aload_n 0, 1) := dk_42 (dk_at dksX6_readLeaps_4 11 rfl rfl)
theorem dX6_readLeaps_102 : decode cX6_readLeaps 102 = .ok (.getfield 19, 3) := dk_180 0 19 (dk_at dksX6_readLeaps_4 12 rfl rfl)
theorem dX6_readLeaps_105 : decode cX6_readLeaps 105 = .ok (.iload_n 1, 1) := dk_27 (dk_at dksX6_readLeaps_4 15 rfl rfl)
theorem dX6_readLeaps_106 : decode cX6_readLeaps 106 = .ok (.iaload, 1) := dk_46 (dk_at dksX6_readLeaps_4 16 rfl rfl)
theorem dX6_readLeaps_107 : decode cX6_readLeaps 107 = .ok (.iadd, 1) := dk_96 (dk_at dksX6_readLeaps_4 17 rfl rfl)
theorem dX6_readLeaps_108 : decode cX6_readLeaps 108 = .ok (.iload_n 3, 1) := dk_29 (dk_at dksX6_readLeaps_4 18 rfl rfl)
theorem dX6_readLeaps_109 : decode cX6_readLeaps 109 = .ok (.iastore, 1) := dk_79 (dk_at dksX6_readLeaps_4 19 rfl rfl)
theorem dX6_readLeaps_110 : decode cX6_readLeaps 110 = .ok (.aload_n 0, 1) := dk_42 (dk_at dksX6_readLeaps_4 20 rfl rfl)
theorem dX6_readLeaps_111 : decode cX6_readLeaps 111 = .ok (.getfield 25, 3) := dk_180 0 25 (dk_at dksX6_readLeaps_4 21 rfl rfl)
theorem dX6_readLeaps_114 : decode cX6_readLeaps 114 = .ok (.bipush 8, 2) := dk_16 8 (dk_at dksX6_readLeaps_5 0 rfl rfl)
theorem dX6_readLeaps_116 : decode cX6_readLeaps 116 = .ok (.iload_n 1, 1) := dk_27 (dk_at dksX6_readLeaps_5 2 rfl rfl)
theorem dX6_readLeaps_117 : decode cX6_readLeaps 117 = .ok (.imul, 1) := dk_104 (dk_at dksX6_readLeaps_5 3 rfl rfl)
theorem dX6_readLeaps_118 : decode cX6_readLeaps 118 = .ok (.aload_n 0, 1) := dk_42 (dk_at dksX6_readLeaps_5 4 rfl rfl)
theorem dX6_readLeaps_119 : decode cX6_readLeaps 119 = .ok (.getfield 19, 3) := dk_180 0 19 (dk_at dksX6_readLeaps_5 5 rfl rfl)
theorem dX6_readLeaps_122 : decode cX6_readLeaps 122 = .ok (.iload_n 1, 1) := dk_27 (dk_at dksX6_readLeaps_5 8 rfl rfl)
theorem dX6_readLeaps_123 : decode cX6_readLeaps 123 = .ok (.iaload, 1) := dk_46 (dk_at dksX6_readLeaps_5 9 rfl rfl)
theorem dX6_readLeaps_124 : decode cX6_readLeaps 124 = .ok (.iadd, 1) := dk_96 (dk_at dksX6_readLeaps_5 10 rfl rfl)
theorem dX6_readLeaps_125 : decode cX6_readLeaps 125 = .ok (.iload 4, 2) := dk_21 4 (dk_at dksX6_readLeaps_5 11 rfl rfl)
theorem dX6_readLeaps_127 : decode cX6_readLeaps 127 = .ok (.bipush 43, 2) := dk_16 43 (dk_at dksX6_readLeaps_5 13 rfl rfl)
theorem dX6_readLeaps_129 : decode cX6_readLeaps 129 = .ok (.if_icmp .ne 7, 3) := dk_160 0 7 (dk_at dksX6_readLeaps_5 15 rfl rfl)
theorem dX6_readLeaps_132 : decode cX6_readLeaps 132 = .ok (.iconst 1, 1) := dk_4 (dk_at dksX6_readLeaps_5 18 rfl rfl)
theorem dX6_readLeaps_133 : decode cX6_readLeaps 133 = .ok (.goto 4, 3) := dk_167 0 4 (dk_at dksX6_readLeaps_5 19 rfl rfl)
theorem dX6_readLeaps_136 : decode cX6_readLeaps 136 = .ok (.iconst 0, 1) := dk_3 (dk_at dksX6_readLeaps_5 22 rfl rfl)
theorem dX6_readLeaps_137 : decode cX6_readLeaps 137 = .ok (.bastore, 1) := dk_84 (dk_at dksX6_readLeaps_5 23 rfl rfl)
theorem dX6_readLeaps_138 : decode cX6_readLeaps 138 = .ok (.aload_n 0, 1) := dk_42 (dk_at dksX6_readLeaps_6 0 rfl rfl)
theorem dX6_readLeaps_139 : decode cX6_readLeaps 139 = .ok (.getfield 19, 3) := dk_180 0 19 (dk_at dksX6_readLeaps_6 1 rfl rfl)
theorem dX6_readLeaps_142 : decode cX6_readLeaps 142 = .ok (.iload_n 1, 1) := dk_27 (dk_at dksX6_readLeaps_6 4 rfl rfl)
theorem dX6_readLeaps_143 : decode cX6_readLeaps 143 = .ok (.dup2, 1) := dk_92 (dk_at dksX6_readLeaps_6 5 rfl rfl)
theorem dX6_readLeaps_144 : decode cX6_readLeaps 144 = .ok (.iaload, 1) := dk_46 (dk_at dksX6_readLeaps_6 6 rfl rfl)
theorem dX6_readLeaps_145 : decode cX6_readLeaps 145 = .ok (.iconst 1, 1) := dk_4 (dk_at dksX6_readLeaps_6 7 rfl rfl)
theorem dX6_readLeaps_146 : decode cX6_readLeaps 146 = .ok (.iadd, 1) := dk_96 (dk_at dksX6_readLeaps_6 8 rfl rfl)
theorem dX6_readLeaps_147 : decode cX6_readLeaps 147 = .ok (.iastore, 1) := dk_79 (dk_at dksX6_readLeaps_6 9 rfl rfl)
theorem dX6_readLeaps_148 : decode cX6_readLeaps 148 = .ok (.aload_n 0, 1) := dk_42 (dk_at dksX6_readLeaps_6 10 rfl rfl)
theorem dX6_readLeaps_149 : decode cX6_readLeaps 149 = .ok (.invokevirtual 176, 3) := dk_182 0 176 (dk_at dksX6_readLeaps_6 11 rfl rfl)
theorem dX6_readLeaps_152 : decode cX6_readLeaps 152 = .ok (.invokestatic 182, 3) := dk_184 0 182 (dk_at dksX6_readLeaps_6 14 rfl rfl)
theorem dX6_readLeaps_155 : decode cX6_readLeaps 155 = .ok (.istore_n 2, 1) := dk_61 (dk_at dksX6_readLeaps_6 17 rfl rfl)
theorem dX6_readLeaps_156 : decode cX6_readLeaps 156 = .ok (.goto (-147), 3) := dk_167 255 109 (dk_at dksX6_readLeaps_6 18 rfl rfl)
theorem dX6_readLeaps_159 : decode cX6_readLeaps 159 = .ok (.aload_n 0, 1) := dk_42 (dk_at dksX6_readLeaps_6 21 rfl rfl)
theorem dX6_readLeaps_160 : decode cX6_readLeaps 160 = .ok (.getfield 173, 3) := dk_180 0 173 (dk_at dksX6_readLeaps_7 0 rfl rfl)
theorem dX6_readLeaps_163 : decode cX6_readLeaps 163 = .ok (.iconst (-1), 1) := dk_2 (dk_at dksX6_readLeaps_7 3 rfl rfl)
theorem dX6_readLeaps_164 : decode cX6_readLeaps 164 = .ok (.if_icmp .ne 8, 3) := dk_160 0 8 (dk_at dksX6_readLeaps_7 4 rfl rfl)
theorem dX6_readLeaps_167 : decode cX6_readLeaps 167 = .ok (.aload_n 0, 1) := dk_42 (dk_at dksX6_readLeaps_7 7 rfl rfl)
theorem dX6_readLeaps_168 : decode cX6_readLeaps 168 = .ok (.iload_n 1, 1) := dk_27 (dk_at dksX6_readLeaps_7 8 rfl rfl)
theorem dX6_readLeaps_169 : decode cX6_readLeaps 169 = .ok (.invokevirtual 214, 3) := dk_182 0 214 (dk_at dksX6_readLeaps_7 9 rfl rfl)
theorem dX6_readLeaps_172 : decode cX6_readLeaps 172 = .ok (.return_, 1) := dk_177 (dk_at dksX6_readLeaps_7 12 rfl rfl)
abbrev cX6_layOut : ByteArray := prog_16_method_20_code
def yX6_layOut : MethodName := ⟨RX6, "layOut", "(I)V"⟩
def dkwX6_layOut_2 : List UInt8 := [167, 255, 212, 177]
abbrev dktX6_layOut_2 : List UInt8 := dkwX6_layOut_2 ++ []
def dkwX6_layOut_1 : List UInt8 := [28, 42, 27, 29, 182, 0, 200, 153, 0, 9, 17, 1, 110, 167, 0, 6, 17, 1, 109, 96, 61, 132, 3, 1]
abbrev dktX6_layOut_1 : List UInt8 := dkwX6_layOut_1 ++ dktX6_layOut_2
def dkwX6_layOut_0 : List UInt8 := [3, 61, 4, 62, 29, 17, 39, 17, 162, 0, 43, 42, 180, 0, 39, 17, 39, 17, 27, 104, 29, 96, 28, 79]
abbrev dktX6_layOut_0 : List UInt8 := dkwX6_layOut_0 ++ dktX6_layOut_1
theorem dksX6_layOut_0 : cX6_layOut.data.toList.drop 0 = dktX6_layOut_0 := by decide +kernel
theorem dksX6_layOut_1 : cX6_layOut.data.toList.drop 24 = dktX6_layOut_1 := dk_seg dksX6_layOut_0 24 rfl rfl
theorem dksX6_layOut_2 : cX6_layOut.data.toList.drop 48 = dktX6_layOut_2 := dk_seg dksX6_layOut_1 24 rfl rfl
theorem dX6_layOut_0 : decode cX6_layOut 0 = .ok (.iconst 0, 1) := dk_3 (dk_at dksX6_layOut_0 0 rfl rfl)
theorem dX6_layOut_1 : decode cX6_layOut 1 = .ok (.istore_n 2, 1) := dk_61 (dk_at dksX6_layOut_0 1 rfl rfl)
theorem dX6_layOut_2 : decode cX6_layOut 2 = .ok (.iconst 1, 1) := dk_4 (dk_at dksX6_layOut_0 2 rfl rfl)
theorem dX6_layOut_3 : decode cX6_layOut 3 = .ok (.istore_n 3, 1) := dk_62 (dk_at dksX6_layOut_0 3 rfl rfl)
theorem dX6_layOut_4 : decode cX6_layOut 4 = .ok (.iload_n 3, 1) := dk_29 (dk_at dksX6_layOut_0 4 rfl rfl)
theorem dX6_layOut_5 : decode cX6_layOut 5 = .ok (.sipush 10001, 3) := dk_17 39 17 (dk_at dksX6_layOut_0 5 rfl rfl)
theorem dX6_layOut_8 : decode cX6_layOut 8 = .ok (.if_icmp .ge 43, 3) := dk_162 0 43 (dk_at dksX6_layOut_0 8 rfl rfl)
theorem dX6_layOut_11 : decode cX6_layOut 11 = .ok (.aload_n 0, 1) := dk_42 (dk_at dksX6_layOut_0 11 rfl rfl)
theorem dX6_layOut_12 : decode cX6_layOut 12 = .ok (.getfield 39, 3) := dk_180 0 39 (dk_at dksX6_layOut_0 12 rfl rfl)
theorem dX6_layOut_15 : decode cX6_layOut 15 = .ok (.sipush 10001, 3) := dk_17 39 17 (dk_at dksX6_layOut_0 15 rfl rfl)
theorem dX6_layOut_18 : decode cX6_layOut 18 = .ok (.iload_n 1, 1) := dk_27 (dk_at dksX6_layOut_0 18 rfl rfl)
theorem dX6_layOut_19 : decode cX6_layOut 19 = .ok (.imul, 1) := dk_104 (dk_at dksX6_layOut_0 19 rfl rfl)
theorem dX6_layOut_20 : decode cX6_layOut 20 = .ok (.iload_n 3, 1) := dk_29 (dk_at dksX6_layOut_0 20 rfl rfl)
theorem dX6_layOut_21 : decode cX6_layOut 21 = .ok (.iadd, 1) := dk_96 (dk_at dksX6_layOut_0 21 rfl rfl)
theorem dX6_layOut_22 : decode cX6_layOut 22 = .ok (.iload_n 2, 1) := dk_28 (dk_at dksX6_layOut_0 22 rfl rfl)
theorem dX6_layOut_23 : decode cX6_layOut 23 = .ok (.iastore, 1) := dk_79 (dk_at dksX6_layOut_0 23 rfl rfl)
theorem dX6_layOut_24 : decode cX6_layOut 24 = .ok (.iload_n 2, 1) := dk_28 (dk_at dksX6_layOut_1 0 rfl rfl)
theorem dX6_layOut_25 : decode cX6_layOut 25 = .ok (.aload_n 0, 1) := dk_42 (dk_at dksX6_layOut_1 1 rfl rfl)
theorem dX6_layOut_26 : decode cX6_layOut 26 = .ok (.iload_n 1, 1) := dk_27 (dk_at dksX6_layOut_1 2 rfl rfl)
theorem dX6_layOut_27 : decode cX6_layOut 27 = .ok (.iload_n 3, 1) := dk_29 (dk_at dksX6_layOut_1 3 rfl rfl)
theorem dX6_layOut_28 : decode cX6_layOut 28 = .ok (.invokevirtual 200, 3) := dk_182 0 200 (dk_at dksX6_layOut_1 4 rfl rfl)
theorem dX6_layOut_31 : decode cX6_layOut 31 = .ok (.ifCond .eq 9, 3) := dk_153 0 9 (dk_at dksX6_layOut_1 7 rfl rfl)
theorem dX6_layOut_34 : decode cX6_layOut 34 = .ok (.sipush 366, 3) := dk_17 1 110 (dk_at dksX6_layOut_1 10 rfl rfl)
theorem dX6_layOut_37 : decode cX6_layOut 37 = .ok (.goto 6, 3) := dk_167 0 6 (dk_at dksX6_layOut_1 13 rfl rfl)
theorem dX6_layOut_40 : decode cX6_layOut 40 = .ok (.sipush 365, 3) := dk_17 1 109 (dk_at dksX6_layOut_1 16 rfl rfl)
theorem dX6_layOut_43 : decode cX6_layOut 43 = .ok (.iadd, 1) := dk_96 (dk_at dksX6_layOut_1 19 rfl rfl)
theorem dX6_layOut_44 : decode cX6_layOut 44 = .ok (.istore_n 2, 1) := dk_61 (dk_at dksX6_layOut_1 20 rfl rfl)
theorem dX6_layOut_45 : decode cX6_layOut 45 = .ok (.iinc 3 1, 3) := dk_132 3 1 (dk_at dksX6_layOut_1 21 rfl rfl)
theorem dX6_layOut_48 : decode cX6_layOut 48 = .ok (.goto (-44), 3) := dk_167 255 212 (dk_at dksX6_layOut_2 0 rfl rfl)
theorem dX6_layOut_51 : decode cX6_layOut 51 = .ok (.return_, 1) := dk_177 (dk_at dksX6_layOut_2 3 rfl rfl)
abbrev cX6_isLeap : ByteArray := prog_16_method_16_code
def yX6_isLeap : MethodName := ⟨RX6, "isLeap", "(II)Z"⟩
def dkwX6_isLeap_2 : List UInt8 := [29, 62, 132, 4, 1, 167, 255, 208, 29, 172]
abbrev dktX6_isLeap_2 : List UInt8 := dkwX6_isLeap_2 ++ []
def dkwX6_isLeap_1 : List UInt8 := [104, 21, 4, 96, 46, 112, 154, 0, 18, 42, 180, 0, 25, 16, 8, 27, 104, 21, 4, 96, 51, 167, 0, 4]
abbrev dktX6_isLeap_1 : List UInt8 := dkwX6_isLeap_1 ++ dktX6_isLeap_2
def dkwX6_isLeap_0 : List UInt8 := [3, 62, 3, 54, 4, 21, 4, 42, 180, 0, 19, 27, 46, 162, 0, 43, 28, 42, 180, 0, 22, 16, 8, 27]
abbrev dktX6_isLeap_0 : List UInt8 := dkwX6_isLeap_0 ++ dktX6_isLeap_1
theorem dksX6_isLeap_0 : cX6_isLeap.data.toList.drop 0 = dktX6_isLeap_0 := by decide +kernel
theorem dksX6_isLeap_1 : cX6_isLeap.data.toList.drop 24 = dktX6_isLeap_1 := dk_seg dksX6_isLeap_0 24 rfl rfl
theorem dksX6_isLeap_2 : cX6_isLeap.data.toList.drop 48 = dktX6_isLeap_2 := dk_seg dksX6_isLeap_1 24 rfl rfl
theorem dX6_isLeap_0 : decode cX6_isLeap 0 = .ok (.iconst 0, 1) := dk_3 (dk_at dksX6_isLeap_0 0 rfl rfl)
theorem dX6_isLeap_1 : decode cX6_isLeap 1 = .ok (.istore_n 3, 1) := dk_62 (dk_at dksX6_isLeap_0 1 rfl rfl)
theorem dX6_isLeap_2 : decode cX6_isLeap 2 = .ok (.iconst 0, 1) := dk_3 (dk_at dksX6_isLeap_0 2 rfl rfl)
theorem dX6_isLeap_3 : decode cX6_isLeap 3 = .ok (.istore 4, 2) := dk_54 4 (dk_at dksX6_isLeap_0 3 rfl rfl)
theorem dX6_isLeap_5 : decode cX6_isLeap 5 = .ok (.iload 4, 2) := dk_21 4 (dk_at dksX6_isLeap_0 5 rfl rfl)
theorem dX6_isLeap_7 : decode cX6_isLeap 7 = .ok (.aload_n 0, 1) := dk_42 (dk_at dksX6_isLeap_0 7 rfl rfl)
theorem dX6_isLeap_8 : decode cX6_isLeap 8 = .ok (.getfield 19, 3) := dk_180 0 19 (dk_at dksX6_isLeap_0 8 rfl rfl)
theorem dX6_isLeap_11 : decode cX6_isLeap 11 = .ok (.iload_n 1, 1) := dk_27 (dk_at dksX6_isLeap_0 11 rfl rfl)
theorem dX6_isLeap_12 : decode cX6_isLeap 12 = .ok (.iaload, 1) := dk_46 (dk_at dksX6_isLeap_0 12 rfl rfl)
theorem dX6_isLeap_13 : decode cX6_isLeap 13 = .ok (.if_icmp .ge 43, 3) := dk_162 0 43 (dk_at dksX6_isLeap_0 13 rfl rfl)
theorem dX6_isLeap_16 : decode cX6_isLeap 16 = .ok (.iload_n 2, 1) := dk_28 (dk_at dksX6_isLeap_0 16 rfl rfl)
theorem dX6_isLeap_17 : decode cX6_isLeap 17 = .ok (.aload_n 0, 1) := dk_42 (dk_at dksX6_isLeap_0 17 rfl rfl)
theorem dX6_isLeap_18 : decode cX6_isLeap 18 = .ok (.getfield 22, 3) := dk_180 0 22 (dk_at dksX6_isLeap_0 18 rfl rfl)
theorem dX6_isLeap_21 : decode cX6_isLeap 21 = .ok (.bipush 8, 2) := dk_16 8 (dk_at dksX6_isLeap_0 21 rfl rfl)
theorem dX6_isLeap_23 : decode cX6_isLeap 23 = .ok (.iload_n 1, 1) := dk_27 (dk_at dksX6_isLeap_0 23 rfl rfl)
theorem dX6_isLeap_24 : decode cX6_isLeap 24 = .ok (.imul, 1) := dk_104 (dk_at dksX6_isLeap_1 0 rfl rfl)
theorem dX6_isLeap_25 : decode cX6_isLeap 25 = .ok (.iload 4, 2) := dk_21 4 (dk_at dksX6_isLeap_1 1 rfl rfl)
theorem dX6_isLeap_27 : decode cX6_isLeap 27 = .ok (.iadd, 1) := dk_96 (dk_at dksX6_isLeap_1 3 rfl rfl)
theorem dX6_isLeap_28 : decode cX6_isLeap 28 = .ok (.iaload, 1) := dk_46 (dk_at dksX6_isLeap_1 4 rfl rfl)
theorem dX6_isLeap_29 : decode cX6_isLeap 29 = .ok (.irem, 1) := dk_112 (dk_at dksX6_isLeap_1 5 rfl rfl)
theorem dX6_isLeap_30 : decode cX6_isLeap 30 = .ok (.ifCond .ne 18, 3) := dk_154 0 18 (dk_at dksX6_isLeap_1 6 rfl rfl)
theorem dX6_isLeap_33 : decode cX6_isLeap 33 = .ok (.aload_n 0, 1) := dk_42 (dk_at dksX6_isLeap_1 9 rfl rfl)
theorem dX6_isLeap_34 : decode cX6_isLeap 34 = .ok (.getfield 25, 3) := dk_180 0 25 (dk_at dksX6_isLeap_1 10 rfl rfl)
theorem dX6_isLeap_37 : decode cX6_isLeap 37 = .ok (.bipush 8, 2) := dk_16 8 (dk_at dksX6_isLeap_1 13 rfl rfl)
theorem dX6_isLeap_39 : decode cX6_isLeap 39 = .ok (.iload_n 1, 1) := dk_27 (dk_at dksX6_isLeap_1 15 rfl rfl)
theorem dX6_isLeap_40 : decode cX6_isLeap 40 = .ok (.imul, 1) := dk_104 (dk_at dksX6_isLeap_1 16 rfl rfl)
theorem dX6_isLeap_41 : decode cX6_isLeap 41 = .ok (.iload 4, 2) := dk_21 4 (dk_at dksX6_isLeap_1 17 rfl rfl)
theorem dX6_isLeap_43 : decode cX6_isLeap 43 = .ok (.iadd, 1) := dk_96 (dk_at dksX6_isLeap_1 19 rfl rfl)
theorem dX6_isLeap_44 : decode cX6_isLeap 44 = .ok (.baload, 1) := dk_51 (dk_at dksX6_isLeap_1 20 rfl rfl)
theorem dX6_isLeap_45 : decode cX6_isLeap 45 = .ok (.goto 4, 3) := dk_167 0 4 (dk_at dksX6_isLeap_1 21 rfl rfl)
theorem dX6_isLeap_48 : decode cX6_isLeap 48 = .ok (.iload_n 3, 1) := dk_29 (dk_at dksX6_isLeap_2 0 rfl rfl)
theorem dX6_isLeap_49 : decode cX6_isLeap 49 = .ok (.istore_n 3, 1) := dk_62 (dk_at dksX6_isLeap_2 1 rfl rfl)
theorem dX6_isLeap_50 : decode cX6_isLeap 50 = .ok (.iinc 4 1, 3) := dk_132 4 1 (dk_at dksX6_isLeap_2 2 rfl rfl)
theorem dX6_isLeap_53 : decode cX6_isLeap 53 = .ok (.goto (-48), 3) := dk_167 255 208 (dk_at dksX6_isLeap_2 5 rfl rfl)
theorem dX6_isLeap_56 : decode cX6_isLeap 56 = .ok (.iload_n 3, 1) := dk_29 (dk_at dksX6_isLeap_2 8 rfl rfl)
theorem dX6_isLeap_57 : decode cX6_isLeap 57 = .ok (.ireturn, 1) := dk_172 (dk_at dksX6_isLeap_2 9 rfl rfl)
abbrev cX6_code : ByteArray := prog_16_method_18_code
def yX6_code : MethodName := ⟨RX6, "code", "(III)I"⟩
def dkwX6_code_0 : List UInt8 := [17, 39, 16, 26, 104, 16, 100, 27, 104, 96, 28, 96, 172]
abbrev dktX6_code_0 : List UInt8 := dkwX6_code_0 ++ []
theorem dksX6_code_0 : cX6_code.data.toList.drop 0 = dktX6_code_0 := by decide +kernel
theorem dX6_code_0 : decode cX6_code 0 = .ok (.sipush 10000, 3) := dk_17 39 16 (dk_at dksX6_code_0 0 rfl rfl)
theorem dX6_code_3 : decode cX6_code 3 = .ok (.iload_n 0, 1) := dk_26 (dk_at dksX6_code_0 3 rfl rfl)
theorem dX6_code_4 : decode cX6_code 4 = .ok (.imul, 1) := dk_104 (dk_at dksX6_code_0 4 rfl rfl)
theorem dX6_code_5 : decode cX6_code 5 = .ok (.bipush 100, 2) := dk_16 100 (dk_at dksX6_code_0 5 rfl rfl)
theorem dX6_code_7 : decode cX6_code 7 = .ok (.iload_n 1, 1) := dk_27 (dk_at dksX6_code_0 7 rfl rfl)
theorem dX6_code_8 : decode cX6_code 8 = .ok (.imul, 1) := dk_104 (dk_at dksX6_code_0 8 rfl rfl)
theorem dX6_code_9 : decode cX6_code 9 = .ok (.iadd, 1) := dk_96 (dk_at dksX6_code_0 9 rfl rfl)
theorem dX6_code_10 : decode cX6_code 10 = .ok (.iload_n 2, 1) := dk_28 (dk_at dksX6_code_0 10 rfl rfl)
theorem dX6_code_11 : decode cX6_code 11 = .ok (.iadd, 1) := dk_96 (dk_at dksX6_code_0 11 rfl rfl)
theorem dX6_code_12 : decode cX6_code 12 = .ok (.ireturn, 1) := dk_172 (dk_at dksX6_code_0 12 rfl rfl)
abbrev cX6_change : ByteArray := prog_16_method_24_code
def yX6_change : MethodName := ⟨RX6, "change", "(II)V"⟩
def dkwX6_change_10 : List UInt8 := [79, 177]
abbrev dktX6_change_10 : List UInt8 := dkwX6_change_10 ++ []
def dkwX6_change_9 : List UInt8 := [184, 0, 208, 182, 0, 228, 21, 6, 96, 4, 96, 182, 0, 236, 79, 42, 180, 0, 16, 27, 92, 46, 4, 96]
abbrev dktX6_change_9 : List UInt8 := dkwX6_change_9 ++ dktX6_change_10
def dkwX6_change_8 : List UInt8 := [180, 0, 32, 28, 42, 28, 42, 28, 29, 21, 4, 21, 5, 42, 28, 29, 21, 4, 182, 0, 204, 184, 0, 231]
abbrev dktX6_change_8 : List UInt8 := dkwX6_change_8 ++ dktX6_change_9
def dkwX6_change_7 : List UInt8 := [182, 0, 228, 96, 42, 28, 4, 100, 42, 180, 0, 32, 28, 4, 100, 46, 182, 0, 228, 100, 4, 96, 79, 42]
abbrev dktX6_change_7 : List UInt8 := dkwX6_change_7 ++ dktX6_change_8
def dkwX6_change_6 : List UInt8 := [180, 0, 35, 28, 42, 180, 0, 35, 28, 4, 100, 46, 42, 28, 4, 100, 29, 21, 4, 21, 5, 184, 0, 208]
abbrev dktX6_change_6 : List UInt8 := dkwX6_change_6 ++ dktX6_change_7
def dkwX6_change_5 : List UInt8 := [2, 159, 0, 4, 177, 42, 180, 0, 29, 28, 4, 100, 29, 21, 4, 21, 5, 184, 0, 208, 79, 42]
abbrev dktX6_change_5 : List UInt8 := dkwX6_change_5 ++ dktX6_change_6
def dkwX6_change_4 : List UInt8 := [42, 3, 16, 30, 182, 0, 211, 54, 6, 42, 16, 58, 182, 0, 218, 42, 28, 182, 0, 221, 42, 180, 0, 173]
abbrev dktX6_change_4 : List UInt8 := dkwX6_change_4 ++ dktX6_change_5
def dkwX6_change_3 : List UInt8 := [180, 0, 32, 28, 4, 100, 46, 162, 0, 7, 42, 182, 0, 190, 42, 182, 0, 197, 42, 16, 45, 182, 0, 218]
abbrev dktX6_change_3 : List UInt8 := dkwX6_change_3 ++ dktX6_change_4
def dkwX6_change_2 : List UInt8 := [21, 5, 42, 28, 4, 100, 29, 21, 4, 182, 0, 204, 163, 0, 22, 29, 21, 4, 21, 5, 184, 0, 208, 42]
abbrev dktX6_change_2 : List UInt8 := dkwX6_change_2 ++ dktX6_change_3
def dkwX6_change_1 : List UInt8 := [42, 16, 46, 182, 0, 218, 42, 4, 16, 31, 182, 0, 193, 54, 5, 42, 180, 0, 173, 2, 160, 0, 41]
abbrev dktX6_change_1 : List UInt8 := dkwX6_change_1 ++ dktX6_change_2
def dkwX6_change_0 : List UInt8 := [42, 4, 17, 39, 15, 182, 0, 211, 62, 42, 16, 46, 182, 0, 218, 42, 4, 16, 12, 182, 0, 211, 54, 4]
abbrev dktX6_change_0 : List UInt8 := dkwX6_change_0 ++ dktX6_change_1
theorem dksX6_change_0 : cX6_change.data.toList.drop 0 = dktX6_change_0 := by decide +kernel
theorem dksX6_change_1 : cX6_change.data.toList.drop 24 = dktX6_change_1 := dk_seg dksX6_change_0 24 rfl rfl
theorem dksX6_change_2 : cX6_change.data.toList.drop 47 = dktX6_change_2 := dk_seg dksX6_change_1 23 rfl rfl
theorem dksX6_change_3 : cX6_change.data.toList.drop 71 = dktX6_change_3 := dk_seg dksX6_change_2 24 rfl rfl
theorem dksX6_change_4 : cX6_change.data.toList.drop 95 = dktX6_change_4 := dk_seg dksX6_change_3 24 rfl rfl
theorem dksX6_change_5 : cX6_change.data.toList.drop 119 = dktX6_change_5 := dk_seg dksX6_change_4 24 rfl rfl
theorem dksX6_change_6 : cX6_change.data.toList.drop 141 = dktX6_change_6 := dk_seg dksX6_change_5 22 rfl rfl
theorem dksX6_change_7 : cX6_change.data.toList.drop 165 = dktX6_change_7 := dk_seg dksX6_change_6 24 rfl rfl
theorem dksX6_change_8 : cX6_change.data.toList.drop 189 = dktX6_change_8 := dk_seg dksX6_change_7 24 rfl rfl
theorem dksX6_change_9 : cX6_change.data.toList.drop 213 = dktX6_change_9 := dk_seg dksX6_change_8 24 rfl rfl
theorem dksX6_change_10 : cX6_change.data.toList.drop 237 = dktX6_change_10 := dk_seg dksX6_change_9 24 rfl rfl
theorem dX6_change_0 : decode cX6_change 0 = .ok (.aload_n 0, 1) := dk_42 (dk_at dksX6_change_0 0 rfl rfl)
theorem dX6_change_1 : decode cX6_change 1 = .ok (.iconst 1, 1) := dk_4 (dk_at dksX6_change_0 1 rfl rfl)
theorem dX6_change_2 : decode cX6_change 2 = .ok (.sipush 9999, 3) := dk_17 39 15 (dk_at dksX6_change_0 2 rfl rfl)
theorem dX6_change_5 : decode cX6_change 5 = .ok (.invokevirtual 211, 3) := dk_182 0 211 (dk_at dksX6_change_0 5 rfl rfl)
theorem dX6_change_8 : decode cX6_change 8 = .ok (.istore_n 3, 1) := dk_62 (dk_at dksX6_change_0 8 rfl rfl)
theorem dX6_change_9 : decode cX6_change 9 = .ok (.aload_n 0, 1) := dk_42 (dk_at dksX6_change_0 9 rfl rfl)
theorem dX6_change_10 : decode cX6_change 10 = .ok (.bipush 46, 2) := dk_16 46 (dk_at dksX6_change_0 10 rfl rfl)
theorem dX6_change_12 : decode cX6_change 12 = .ok (.invokevirtual 218, 3) := dk_182 0 218 (dk_at dksX6_change_0 12 rfl rfl)
theorem dX6_change_15 : decode cX6_change 15 = .ok (.aload_n 0, 1) := dk_42 (dk_at dksX6_change_0 15 rfl rfl)
theorem dX6_change_16 : decode cX6_change 16 = .ok (.iconst 1, 1) := dk_4 (dk_at dksX6_change_0 16 rfl rfl)
theorem dX6_change_17 : decode cX6_change 17 = .ok (.bipush 12, 2) := dk_16 12 (dk_at dksX6_change_0 17 rfl rfl)
theorem dX6_change_19 : decode cX6_change 19 = .ok (.invokevirtual 211, 3) := dk_182 0 211 (dk_at dksX6_change_0 19 rfl rfl)
theorem dX6_change_22 : decode cX6_change 22 = .ok (.istore 4, 2) := dk_54 4 (dk_at dksX6_change_0 22 rfl rfl)
theorem dX6_change_24 : decode cX6_change 24 = .ok (.aload_n 0, 1) := dk_42 (dk_at dksX6_change_1 0 rfl rfl)
theorem dX6_change_25 : decode cX6_change 25 = .ok (.bipush 46, 2) := dk_16 46 (dk_at dksX6_change_1 1 rfl rfl)
theorem dX6_change_27 : decode cX6_change 27 = .ok (.invokevirtual 218, 3) := dk_182 0 218 (dk_at dksX6_change_1 3 rfl rfl)
theorem dX6_change_30 : decode cX6_change 30 = .ok (.aload_n 0, 1) := dk_42 (dk_at dksX6_change_1 6 rfl rfl)
theorem dX6_change_31 : decode cX6_change 31 = .ok (.iconst 1, 1) := dk_4 (dk_at dksX6_change_1 7 rfl rfl)
theorem dX6_change_32 : decode cX6_change 32 = .ok (.bipush 31, 2) := dk_16 31 (dk_at dksX6_change_1 8 rfl rfl)
theorem dX6_change_34 : decode cX6_change 34 = .ok (.invokevirtual 193, 3) := dk_182 0 193 (dk_at dksX6_change_1 10 rfl rfl)
theorem dX6_change_37 : decode cX6_change 37 = .ok (.istore 5, 2) := dk_54 5 (dk_at dksX6_change_1 13 rfl rfl)
theorem dX6_change_39 : decode cX6_change 39 = .ok (.aload_n 0, 1) := dk_42 (dk_at dksX6_change_1 15 rfl rfl)
theorem dX6_change_40 : decode cX6_change 40 = .ok (.getfield 173, 3) := dk_180 0 173 (dk_at dksX6_change_1 16 rfl rfl)
theorem dX6_change_43 : decode cX6_change 43 = .ok (.iconst (-1), 1) := dk_2 (dk_at dksX6_change_1 19 rfl rfl)
theorem dX6_change_44 : decode cX6_change 44 = .ok (.if_icmp .ne 41, 3) := dk_160 0 41 (dk_at dksX6_change_1 20 rfl rfl)
theorem dX6_change_47 : decode cX6_change 47 = .ok (.iload 5, 2) := dk_21 5 (dk_at dksX6_change_2 0 rfl rfl)
theorem dX6_change_49 : decode cX6_change 49 = .ok (.aload_n 0, 1) := dk_42 (dk_at dksX6_change_2 2 rfl rfl)
theorem dX6_change_50 : decode cX6_change 50 = .ok (.iload_n 2, 1) := dk_28 (dk_at dksX6_change_2 3 rfl rfl)
theorem dX6_change_51 : decode cX6_change 51 = .ok (.iconst 1, 1) := dk_4 (dk_at dksX6_change_2 4 rfl rfl)
theorem dX6_change_52 : decode cX6_change 52 = .ok (.isub, 1) := dk_100 (dk_at dksX6_change_2 5 rfl rfl)
theorem dX6_change_53 : decode cX6_change 53 = .ok (.iload_n 3, 1) := dk_29 (dk_at dksX6_change_2 6 rfl rfl)
theorem dX6_change_54 : decode cX6_change 54 = .ok (.iload 4, 2) := dk_21 4 (dk_at dksX6_change_2 7 rfl rfl)
theorem dX6_change_56 : decode cX6_change 56 = .ok (.invokevirtual 204, 3) := dk_182 0 204 (dk_at dksX6_change_2 9 rfl rfl)
theorem dX6_change_59 : decode cX6_change 59 = .ok (.if_icmp .gt 22, 3) := dk_163 0 22 (dk_at dksX6_change_2 12 rfl rfl)
theorem dX6_change_62 : decode cX6_change 62 = .ok (.iload_n 3, 1) := dk_29 (dk_at dksX6_change_2 15 rfl rfl)
theorem dX6_change_63 : decode cX6_change 63 = .ok (.iload 4, 2) := dk_21 4 (dk_at dksX6_change_2 16 rfl rfl)
theorem dX6_change_65 : decode cX6_change 65 = .ok (.iload 5, 2) := dk_21 5 (dk_at dksX6_change_2 18 rfl rfl)
theorem dX6_change_67 : decode cX6_change 67 = .ok (.invokestatic 208, 3) := dk_184 0 208 (dk_at dksX6_change_2 20 rfl rfl)
theorem dX6_change_70 : decode cX6_change 70 = .ok (.aload_n 0, 1) := dk_42 (dk_at dksX6_change_2 23 rfl rfl)
theorem dX6_change_71 : decode cX6_change 71 = .ok (.getfield 32, 3) := dk_180 0 32 (dk_at dksX6_change_3 0 rfl rfl)
theorem dX6_change_74 : decode cX6_change 74 = .ok (.iload_n 2, 1) := dk_28 (dk_at dksX6_change_3 3 rfl rfl)
theorem dX6_change_75 : decode cX6_change 75 = .ok (.iconst 1, 1) := dk_4 (dk_at dksX6_change_3 4 rfl rfl)
theorem dX6_change_76 : decode cX6_change 76 = .ok (.isub, 1) := dk_100 (dk_at dksX6_change_3 5 rfl rfl)
theorem dX6_change_77 : decode cX6_change 77 = .ok (.iaload, 1) := dk_46 (dk_at dksX6_change_3 6 rfl rfl)
theorem dX6_change_78 : decode cX6_change 78 = .ok (.if_icmp .ge 7, 3) := dk_162 0 7 (dk_at dksX6_change_3 7 rfl rfl)
theorem dX6_change_81 : decode cX6_change 81 = .ok (.aload_n 0, 1) := dk_42 (dk_at dksX6_change_3 10 rfl rfl)
theorem dX6_change_82 : decode cX6_change 82 = .ok (.invokevirtual 190, 3) := dk_182 0 190 (dk_at dksX6_change_3 11 rfl rfl)
theorem dX6_change_85 : decode cX6_change 85 = .ok (.aload_n 0, 1) := dk_42 (dk_at dksX6_change_3 14 rfl rfl)
theorem dX6_change_86 : decode cX6_change 86 = .ok (.invokevirtual 197, 3) := dk_182 0 197 (dk_at dksX6_change_3 15 rfl rfl)
theorem dX6_change_89 : decode cX6_change 89 = .ok (.aload_n 0, 1) := dk_42 (dk_at dksX6_change_3 18 rfl rfl)
theorem dX6_change_90 : decode cX6_change 90 = .ok (.bipush 45, 2) := dk_16 45 (dk_at dksX6_change_3 19 rfl rfl)
theorem dX6_change_92 : decode cX6_change 92 = .ok (.invokevirtual 218, 3) := dk_182 0 218 (dk_at dksX6_change_3 21 rfl rfl)
theorem dX6_change_95 : decode cX6_change 95 = .ok (.aload_n 0, 1) := dk_42 (dk_at dksX6_change_4 0 rfl rfl)
theorem dX6_change_96 : decode cX6_change 96 = .ok (.iconst 0, 1) := dk_3 (dk_at dksX6_change_4 1 rfl rfl)
theorem dX6_change_97 : decode cX6_change 97 = .ok (.bipush 30, 2) := dk_16 30 (dk_at dksX6_change_4 2 rfl rfl)
theorem dX6_change_99 : decode cX6_change 99 = .ok (.invokevirtual 211, 3) := dk_182 0 211 (dk_at dksX6_change_4 4 rfl rfl)
theorem dX6_change_102 : decode cX6_change 102 = .ok (.istore 6, 2) := dk_54 6 (dk_at dksX6_change_4 7 rfl rfl)
theorem dX6_change_104 : decode cX6_change 104 = .ok (.aload_n 0, 1) := dk_42 (dk_at dksX6_change_4 9 rfl rfl)
theorem dX6_change_105 : decode cX6_change 105 = .ok (.bipush 58, 2) := dk_16 58 (dk_at dksX6_change_4 10 rfl rfl)
theorem dX6_change_107 : decode cX6_change 107 = .ok (.invokevirtual 218, 3) := dk_182 0 218 (dk_at dksX6_change_4 12 rfl rfl)
theorem dX6_change_110 : decode cX6_change 110 = .ok (.aload_n 0, 1) := dk_42 (dk_at dksX6_change_4 15 rfl rfl)
theorem dX6_change_111 : decode cX6_change 111 = .ok (.iload_n 2, 1) := dk_28 (dk_at dksX6_change_4 16 rfl rfl)
theorem dX6_change_112 : decode cX6_change 112 = .ok (.invokevirtual 221, 3) := dk_182 0 221 (dk_at dksX6_change_4 17 rfl rfl)
theorem dX6_change_115 : decode cX6_change 115 = .ok (.aload_n 0, 1) := dk_42 (dk_at dksX6_change_4 20 rfl rfl)
theorem dX6_change_116 : decode cX6_change 116 = .ok (.getfield 173, 3) := dk_180 0 173 (dk_at dksX6_change_4 21 rfl rfl)
theorem dX6_change_119 : decode cX6_change 119 = .ok (.iconst (-1), 1) := dk_2 (dk_at dksX6_change_5 0 rfl rfl)
theorem dX6_change_120 : decode cX6_change 120 = .ok (.if_icmp .eq 4, 3) := dk_159 0 4 (dk_at dksX6_change_5 1 rfl rfl)
theorem dX6_change_123 : decode cX6_change 123 = .ok (.return_, 1) := dk_177 (dk_at dksX6_change_5 4 rfl rfl)
theorem dX6_change_124 : decode cX6_change 124 = .ok (.aload_n 0, 1) := dk_42 (dk_at dksX6_change_5 5 rfl rfl)
theorem dX6_change_125 : decode cX6_change 125 = .ok (.getfield 29, 3) := dk_180 0 29 (dk_at dksX6_change_5 6 rfl rfl)
theorem dX6_change_128 : decode cX6_change 128 = .ok (.iload_n 2, 1) := dk_28 (dk_at dksX6_change_5 9 rfl rfl)
theorem dX6_change_129 : decode cX6_change 129 = .ok (.iconst 1, 1) := dk_4 (dk_at dksX6_change_5 10 rfl rfl)
theorem dX6_change_130 : decode cX6_change 130 = .ok (.isub, 1) := dk_100 (dk_at dksX6_change_5 11 rfl rfl)
theorem dX6_change_131 : decode cX6_change 131 = .ok (.iload_n 3, 1) := dk_29 (dk_at dksX6_change_5 12 rfl rfl)
theorem dX6_change_132 : decode cX6_change 132 = .ok (.iload 4, 2) := dk_21 4 (dk_at dksX6_change_5 13 rfl rfl)
theorem dX6_change_134 : decode cX6_change 134 = .ok (.iload 5, 2) := dk_21 5 (dk_at dksX6_change_5 15 rfl rfl)
theorem dX6_change_136 : decode cX6_change 136 = .ok (.invokestatic 208, 3) := dk_184 0 208 (dk_at dksX6_change_5 17 rfl rfl)
theorem dX6_change_139 : decode cX6_change 139 = .ok (.iastore, 1) := dk_79 (dk_at dksX6_change_5 20 rfl rfl)
theorem dX6_change_140 : decode cX6_change 140 = .ok (.aload_n 0, 1) := dk_42 (dk_at dksX6_change_5 21 rfl rfl)
theorem dX6_change_141 : decode cX6_change 141 = .ok (.getfield 35, 3) := dk_180 0 35 (dk_at dksX6_change_6 0 rfl rfl)
theorem dX6_change_144 : decode cX6_change 144 = .ok (.iload_n 2, 1) := dk_28 (dk_at dksX6_change_6 3 rfl rfl)
theorem dX6_change_145 : decode cX6_change 145 = .ok (.aload_n 0, 1) := dk_42 (dk_at dksX6_change_6 4 rfl rfl)
theorem dX6_change_146 : decode cX6_change 146 = .ok (.getfield 35, 3) := dk_180 0 35 (dk_at dksX6_change_6 5 rfl rfl)
theorem dX6_change_149 : decode cX6_change 149 = .ok (.iload_n 2, 1) := dk_28 (dk_at dksX6_change_6 8 rfl rfl)
theorem dX6_change_150 : decode cX6_change 150 = .ok (.iconst 1, 1) := dk_4 (dk_at dksX6_change_6 9 rfl rfl)
theorem dX6_change_151 : decode cX6_change 151 = .ok (.isub, 1) := dk_100 (dk_at dksX6_change_6 10 rfl rfl)
theorem dX6_change_152 : decode cX6_change 152 = .ok (.iaload, 1) := dk_46 (dk_at dksX6_change_6 11 rfl rfl)
theorem dX6_change_153 : decode cX6_change 153 = .ok (.aload_n 0, 1) := dk_42 (dk_at dksX6_change_6 12 rfl rfl)
theorem dX6_change_154 : decode cX6_change 154 = .ok (.iload_n 2, 1) := dk_28 (dk_at dksX6_change_6 13 rfl rfl)
theorem dX6_change_155 : decode cX6_change 155 = .ok (.iconst 1, 1) := dk_4 (dk_at dksX6_change_6 14 rfl rfl)
theorem dX6_change_156 : decode cX6_change 156 = .ok (.isub, 1) := dk_100 (dk_at dksX6_change_6 15 rfl rfl)
theorem dX6_change_157 : decode cX6_change 157 = .ok (.iload_n 3, 1) := dk_29 (dk_at dksX6_change_6 16 rfl rfl)
theorem dX6_change_158 : decode cX6_change 158 = .ok (.iload 4, 2) := dk_21 4 (dk_at dksX6_change_6 17 rfl rfl)
theorem dX6_change_160 : decode cX6_change 160 = .ok (.iload 5, 2) := dk_21 5 (dk_at dksX6_change_6 19 rfl rfl)
theorem dX6_change_162 : decode cX6_change 162 = .ok (.invokestatic 208, 3) := dk_184 0 208 (dk_at dksX6_change_6 21 rfl rfl)
theorem dX6_change_165 : decode cX6_change 165 = .ok (.invokevirtual 228, 3) := dk_182 0 228 (dk_at dksX6_change_7 0 rfl rfl)
theorem dX6_change_168 : decode cX6_change 168 = .ok (.iadd, 1) := dk_96 (dk_at dksX6_change_7 3 rfl rfl)
theorem dX6_change_169 : decode cX6_change 169 = .ok (.aload_n 0, 1) := dk_42 (dk_at dksX6_change_7 4 rfl rfl)
theorem dX6_change_170 : decode cX6_change 170 = .ok (.iload_n 2, 1) := dk_28 (dk_at dksX6_change_7 5 rfl rfl)
theorem dX6_change_171 : decode cX6_change 171 = .ok (.iconst 1, 1) := dk_4 (dk_at dksX6_change_7 6 rfl rfl)
theorem dX6_change_172 : decode cX6_change 172 = .ok (.isub, 1) := dk_100 (dk_at dksX6_change_7 7 rfl rfl)
theorem dX6_change_173 : decode cX6_change 173 = .ok (.aload_n 0, 1) := dk_42 (dk_at dksX6_change_7 8 rfl rfl)
theorem dX6_change_174 : decode cX6_change 174 = .ok (.getfield 32, 3) := dk_180 0 32 (dk_at dksX6_change_7 9 rfl rfl)
theorem dX6_change_177 : decode cX6_change 177 = .ok (.iload_n 2, 1) := dk_28 (dk_at dksX6_change_7 12 rfl rfl)
theorem dX6_change_178 : decode cX6_change 178 = .ok (.iconst 1, 1) := dk_4 (dk_at dksX6_change_7 13 rfl rfl)
theorem dX6_change_179 : decode cX6_change 179 = .ok (.isub, 1) := dk_100 (dk_at dksX6_change_7 14 rfl rfl)
theorem dX6_change_180 : decode cX6_change 180 = .ok (.iaload, 1) := dk_46 (dk_at dksX6_change_7 15 rfl rfl)
theorem dX6_change_181 : decode cX6_change 181 = .ok (.invokevirtual 228, 3) := dk_182 0 228 (dk_at dksX6_change_7 16 rfl rfl)
theorem dX6_change_184 : decode cX6_change 184 = .ok (.isub, 1) := dk_100 (dk_at dksX6_change_7 19 rfl rfl)
theorem dX6_change_185 : decode cX6_change 185 = .ok (.iconst 1, 1) := dk_4 (dk_at dksX6_change_7 20 rfl rfl)
theorem dX6_change_186 : decode cX6_change 186 = .ok (.iadd, 1) := dk_96 (dk_at dksX6_change_7 21 rfl rfl)
theorem dX6_change_187 : decode cX6_change 187 = .ok (.iastore, 1) := dk_79 (dk_at dksX6_change_7 22 rfl rfl)
theorem dX6_change_188 : decode cX6_change 188 = .ok (.aload_n 0, 1) := dk_42 (dk_at dksX6_change_7 23 rfl rfl)
theorem dX6_change_189 : decode cX6_change 189 = .ok (.getfield 32, 3) := dk_180 0 32 (dk_at dksX6_change_8 0 rfl rfl)
theorem dX6_change_192 : decode cX6_change 192 = .ok (.iload_n 2, 1) := dk_28 (dk_at dksX6_change_8 3 rfl rfl)
theorem dX6_change_193 : decode cX6_change 193 = .ok (.aload_n 0, 1) := dk_42 (dk_at dksX6_change_8 4 rfl rfl)
theorem dX6_change_194 : decode cX6_change 194 = .ok (.iload_n 2, 1) := dk_28 (dk_at dksX6_change_8 5 rfl rfl)
theorem dX6_change_195 : decode cX6_change 195 = .ok (.aload_n 0, 1) := dk_42 (dk_at dksX6_change_8 6 rfl rfl)
theorem dX6_change_196 : decode cX6_change 196 = .ok (.iload_n 2, 1) := dk_28 (dk_at dksX6_change_8 7 rfl rfl)
theorem dX6_change_197 : decode cX6_change 197 = .ok (.iload_n 3, 1) := dk_29 (dk_at dksX6_change_8 8 rfl rfl)
theorem dX6_change_198 : decode cX6_change 198 = .ok (.iload 4, 2) := dk_21 4 (dk_at dksX6_change_8 9 rfl rfl)
theorem dX6_change_200 : decode cX6_change 200 = .ok (.iload 5, 2) := dk_21 5 (dk_at dksX6_change_8 11 rfl rfl)
theorem dX6_change_202 : decode cX6_change 202 = .ok (.aload_n 0, 1) := dk_42 (dk_at dksX6_change_8 13 rfl rfl)
theorem dX6_change_203 : decode cX6_change 203 = .ok (.iload_n 2, 1) := dk_28 (dk_at dksX6_change_8 14 rfl rfl)
theorem dX6_change_204 : decode cX6_change 204 = .ok (.iload_n 3, 1) := dk_29 (dk_at dksX6_change_8 15 rfl rfl)
theorem dX6_change_205 : decode cX6_change 205 = .ok (.iload 4, 2) := dk_21 4 (dk_at dksX6_change_8 16 rfl rfl)
theorem dX6_change_207 : decode cX6_change 207 = .ok (.invokevirtual 204, 3) := dk_182 0 204 (dk_at dksX6_change_8 18 rfl rfl)
theorem dX6_change_210 : decode cX6_change 210 = .ok (.invokestatic 231, 3) := dk_184 0 231 (dk_at dksX6_change_8 21 rfl rfl)
theorem dX6_change_213 : decode cX6_change 213 = .ok (.invokestatic 208, 3) := dk_184 0 208 (dk_at dksX6_change_9 0 rfl rfl)
theorem dX6_change_216 : decode cX6_change 216 = .ok (.invokevirtual 228, 3) := dk_182 0 228 (dk_at dksX6_change_9 3 rfl rfl)
theorem dX6_change_219 : decode cX6_change 219 = .ok (.iload 6, 2) := dk_21 6 (dk_at dksX6_change_9 6 rfl rfl)
theorem dX6_change_221 : decode cX6_change 221 = .ok (.iadd, 1) := dk_96 (dk_at dksX6_change_9 8 rfl rfl)
theorem dX6_change_222 : decode cX6_change 222 = .ok (.iconst 1, 1) := dk_4 (dk_at dksX6_change_9 9 rfl rfl)
theorem dX6_change_223 : decode cX6_change 223 = .ok (.iadd, 1) := dk_96 (dk_at dksX6_change_9 10 rfl rfl)
theorem dX6_change_224 : decode cX6_change 224 = .ok (.invokevirtual 236, 3) := dk_182 0 236 (dk_at dksX6_change_9 11 rfl rfl)
theorem dX6_change_227 : decode cX6_change 227 = .ok (.iastore, 1) := dk_79 (dk_at dksX6_change_9 14 rfl rfl)
theorem dX6_change_228 : decode cX6_change 228 = .ok (.aload_n 0, 1) := dk_42 (dk_at dksX6_change_9 15 rfl rfl)
theorem dX6_change_229 : decode cX6_change 229 = .ok (.getfield 16, 3) := dk_180 0 16 (dk_at dksX6_change_9 16 rfl rfl)
theorem dX6_change_232 : decode cX6_change 232 = .ok (.iload_n 1, 1) := dk_27 (dk_at dksX6_change_9 19 rfl rfl)
theorem dX6_change_233 : decode cX6_change 233 = .ok (.dup2, 1) := dk_92 (dk_at dksX6_change_9 20 rfl rfl)
theorem dX6_change_234 : decode cX6_change 234 = .ok (.iaload, 1) := dk_46 (dk_at dksX6_change_9 21 rfl rfl)
theorem dX6_change_235 : decode cX6_change 235 = .ok (.iconst 1, 1) := dk_4 (dk_at dksX6_change_9 22 rfl rfl)
theorem dX6_change_236 : decode cX6_change 236 = .ok (.iadd, 1) := dk_96 (dk_at dksX6_change_9 23 rfl rfl)
theorem dX6_change_237 : decode cX6_change 237 = .ok (.iastore, 1) := dk_79 (dk_at dksX6_change_10 0 rfl rfl)
theorem dX6_change_238 : decode cX6_change 238 = .ok (.return_, 1) := dk_177 (dk_at dksX6_change_10 1 rfl rfl)
abbrev cX6_daysOf : ByteArray := prog_16_method_17_code
def yX6_daysOf : MethodName := ⟨RX6, "daysOf", "(III)I"⟩
def dkwX6_daysOf_2 : List UInt8 := [16, 30, 167, 0, 5, 16, 31, 172]
abbrev dktX6_daysOf_2 : List UInt8 := dkwX6_daysOf_2 ++ []
def dkwX6_daysOf_1 : List UInt8 := [29, 7, 159, 0, 21, 29, 16, 6, 159, 0, 15, 29, 16, 9, 159, 0, 9, 29, 16, 11, 160, 0, 8]
abbrev dktX6_daysOf_1 : List UInt8 := dkwX6_daysOf_1 ++ dktX6_daysOf_2
def dkwX6_daysOf_0 : List UInt8 := [29, 5, 160, 0, 22, 42, 27, 28, 182, 0, 200, 153, 0, 8, 16, 29, 167, 0, 38, 16, 28, 167, 0, 33]
abbrev dktX6_daysOf_0 : List UInt8 := dkwX6_daysOf_0 ++ dktX6_daysOf_1
theorem dksX6_daysOf_0 : cX6_daysOf.data.toList.drop 0 = dktX6_daysOf_0 := by decide +kernel
theorem dksX6_daysOf_1 : cX6_daysOf.data.toList.drop 24 = dktX6_daysOf_1 := dk_seg dksX6_daysOf_0 24 rfl rfl
theorem dksX6_daysOf_2 : cX6_daysOf.data.toList.drop 47 = dktX6_daysOf_2 := dk_seg dksX6_daysOf_1 23 rfl rfl
theorem dX6_daysOf_0 : decode cX6_daysOf 0 = .ok (.iload_n 3, 1) := dk_29 (dk_at dksX6_daysOf_0 0 rfl rfl)
theorem dX6_daysOf_1 : decode cX6_daysOf 1 = .ok (.iconst 2, 1) := dk_5 (dk_at dksX6_daysOf_0 1 rfl rfl)
theorem dX6_daysOf_2 : decode cX6_daysOf 2 = .ok (.if_icmp .ne 22, 3) := dk_160 0 22 (dk_at dksX6_daysOf_0 2 rfl rfl)
theorem dX6_daysOf_5 : decode cX6_daysOf 5 = .ok (.aload_n 0, 1) := dk_42 (dk_at dksX6_daysOf_0 5 rfl rfl)
theorem dX6_daysOf_6 : decode cX6_daysOf 6 = .ok (.iload_n 1, 1) := dk_27 (dk_at dksX6_daysOf_0 6 rfl rfl)
theorem dX6_daysOf_7 : decode cX6_daysOf 7 = .ok (.iload_n 2, 1) := dk_28 (dk_at dksX6_daysOf_0 7 rfl rfl)
theorem dX6_daysOf_8 : decode cX6_daysOf 8 = .ok (.invokevirtual 200, 3) := dk_182 0 200 (dk_at dksX6_daysOf_0 8 rfl rfl)
theorem dX6_daysOf_11 : decode cX6_daysOf 11 = .ok (.ifCond .eq 8, 3) := dk_153 0 8 (dk_at dksX6_daysOf_0 11 rfl rfl)
theorem dX6_daysOf_14 : decode cX6_daysOf 14 = .ok (.bipush 29, 2) := dk_16 29 (dk_at dksX6_daysOf_0 14 rfl rfl)
theorem dX6_daysOf_16 : decode cX6_daysOf 16 = .ok (.goto 38, 3) := dk_167 0 38 (dk_at dksX6_daysOf_0 16 rfl rfl)
theorem dX6_daysOf_19 : decode cX6_daysOf 19 = .ok (.bipush 28, 2) := dk_16 28 (dk_at dksX6_daysOf_0 19 rfl rfl)
theorem dX6_daysOf_21 : decode cX6_daysOf 21 = .ok (.goto 33, 3) := dk_167 0 33 (dk_at dksX6_daysOf_0 21 rfl rfl)
theorem dX6_daysOf_24 : decode cX6_daysOf 24 = .ok (.iload_n 3, 1) := dk_29 (dk_at dksX6_daysOf_1 0 rfl rfl)
theorem dX6_daysOf_25 : decode cX6_daysOf 25 = .ok (.iconst 4, 1) := dk_7 (dk_at dksX6_daysOf_1 1 rfl rfl)
theorem dX6_daysOf_26 : decode cX6_daysOf 26 = .ok (.if_icmp .eq 21, 3) := dk_159 0 21 (dk_at dksX6_daysOf_1 2 rfl rfl)
theorem dX6_daysOf_29 : decode cX6_daysOf 29 = .ok (.iload_n 3, 1) := dk_29 (dk_at dksX6_daysOf_1 5 rfl rfl)
theorem dX6_daysOf_30 : decode cX6_daysOf 30 = .ok (.bipush 6, 2) := dk_16 6 (dk_at dksX6_daysOf_1 6 rfl rfl)
theorem dX6_daysOf_32 : decode cX6_daysOf 32 = .ok (.if_icmp .eq 15, 3) := dk_159 0 15 (dk_at dksX6_daysOf_1 8 rfl rfl)
theorem dX6_daysOf_35 : decode cX6_daysOf 35 = .ok (.iload_n 3, 1) := dk_29 (dk_at dksX6_daysOf_1 11 rfl rfl)
theorem dX6_daysOf_36 : decode cX6_daysOf 36 = .ok (.bipush 9, 2) := dk_16 9 (dk_at dksX6_daysOf_1 12 rfl rfl)
theorem dX6_daysOf_38 : decode cX6_daysOf 38 = .ok (.if_icmp .eq 9, 3) := dk_159 0 9 (dk_at dksX6_daysOf_1 14 rfl rfl)
theorem dX6_daysOf_41 : decode cX6_daysOf 41 = .ok (.iload_n 3, 1) := dk_29 (dk_at dksX6_daysOf_1 17 rfl rfl)
theorem dX6_daysOf_42 : decode cX6_daysOf 42 = .ok (.bipush 11, 2) := dk_16 11 (dk_at dksX6_daysOf_1 18 rfl rfl)
theorem dX6_daysOf_44 : decode cX6_daysOf 44 = .ok (.if_icmp .ne 8, 3) := dk_160 0 8 (dk_at dksX6_daysOf_1 20 rfl rfl)
theorem dX6_daysOf_47 : decode cX6_daysOf 47 = .ok (.bipush 30, 2) := dk_16 30 (dk_at dksX6_daysOf_2 0 rfl rfl)
theorem dX6_daysOf_49 : decode cX6_daysOf 49 = .ok (.goto 5, 3) := dk_167 0 5 (dk_at dksX6_daysOf_2 2 rfl rfl)
theorem dX6_daysOf_52 : decode cX6_daysOf 52 = .ok (.bipush 31, 2) := dk_16 31 (dk_at dksX6_daysOf_2 5 rfl rfl)
theorem dX6_daysOf_54 : decode cX6_daysOf 54 = .ok (.ireturn, 1) := dk_172 (dk_at dksX6_daysOf_2 7 rfl rfl)
abbrev cX6_ordinal : ByteArray := prog_16_method_19_code
def yX6_ordinal : MethodName := ⟨RX6, "ordinal", "(II)I"⟩
def dkwX6_ordinal_2 : List UInt8 := [42, 27, 29, 21, 6, 182, 0, 204, 96, 54, 5, 132, 6, 1, 167, 255, 233, 21, 5, 172]
abbrev dktX6_ordinal_2 : List UInt8 := dkwX6_ordinal_2 ++ []
def dkwX6_ordinal_1 : List UInt8 := [29, 96, 46, 28, 16, 100, 112, 96, 4, 100, 54, 5, 4, 54, 6, 21, 6, 21, 4, 162, 0, 22, 21, 5]
abbrev dktX6_ordinal_1 : List UInt8 := dkwX6_ordinal_1 ++ dktX6_ordinal_2
def dkwX6_ordinal_0 : List UInt8 := [28, 17, 39, 16, 108, 62, 28, 16, 100, 108, 16, 100, 112, 54, 4, 42, 180, 0, 39, 17, 39, 17, 27, 104]
abbrev dktX6_ordinal_0 : List UInt8 := dkwX6_ordinal_0 ++ dktX6_ordinal_1
theorem dksX6_ordinal_0 : cX6_ordinal.data.toList.drop 0 = dktX6_ordinal_0 := by decide +kernel
theorem dksX6_ordinal_1 : cX6_ordinal.data.toList.drop 24 = dktX6_ordinal_1 := dk_seg dksX6_ordinal_0 24 rfl rfl
theorem dksX6_ordinal_2 : cX6_ordinal.data.toList.drop 48 = dktX6_ordinal_2 := dk_seg dksX6_ordinal_1 24 rfl rfl
theorem dX6_ordinal_0 : decode cX6_ordinal 0 = .ok (.iload_n 2, 1) := dk_28 (dk_at dksX6_ordinal_0 0 rfl rfl)
theorem dX6_ordinal_1 : decode cX6_ordinal 1 = .ok (.sipush 10000, 3) := dk_17 39 16 (dk_at dksX6_ordinal_0 1 rfl rfl)
theorem dX6_ordinal_4 : decode cX6_ordinal 4 = .ok (.idiv, 1) := dk_108 (dk_at dksX6_ordinal_0 4 rfl rfl)
theorem dX6_ordinal_5 : decode cX6_ordinal 5 = .ok (.istore_n 3, 1) := dk_62 (dk_at dksX6_ordinal_0 5 rfl rfl)
theorem dX6_ordinal_6 : decode cX6_ordinal 6 = .ok (.iload_n 2, 1) := dk_28 (dk_at dksX6_ordinal_0 6 rfl rfl)
theorem dX6_ordinal_7 : decode cX6_ordinal 7 = .ok (.bipush 100, 2) := dk_16 100 (dk_at dksX6_ordinal_0 7 rfl rfl)
theorem dX6_ordinal_9 : decode cX6_ordinal 9 = .ok (.idiv, 1) := dk_108 (dk_at dksX6_ordinal_0 9 rfl rfl)
theorem dX6_ordinal_10 : decode cX6_ordinal 10 = .ok (.bipush 100, 2) := dk_16 100 (dk_at dksX6_ordinal_0 10 rfl rfl)
theorem dX6_ordinal_12 : decode cX6_ordinal 12 = .ok (.irem, 1) := dk_112 (dk_at dksX6_ordinal_0 12 rfl rfl)
theorem dX6_ordinal_13 : decode cX6_ordinal 13 = .ok (.istore 4, 2) := dk_54 4 (dk_at dksX6_ordinal_0 13 rfl rfl)
theorem dX6_ordinal_15 : decode cX6_ordinal 15 = .ok (.aload_n 0, 1) := dk_42 (dk_at dksX6_ordinal_0 15 rfl rfl)
theorem dX6_ordinal_16 : decode cX6_ordinal 16 = .ok (.getfield 39, 3) := dk_180 0 39 (dk_at dksX6_ordinal_0 16 rfl rfl)
theorem dX6_ordinal_19 : decode cX6_ordinal 19 = .ok (.sipush 10001, 3) := dk_17 39 17 (dk_at dksX6_ordinal_0 19 rfl rfl)
theorem dX6_ordinal_22 : decode cX6_ordinal 22 = .ok (.iload_n 1, 1) := dk_27 (dk_at dksX6_ordinal_0 22 rfl rfl)
theorem dX6_ordinal_23 : decode cX6_ordinal 23 = .ok (.imul, 1) := dk_104 (dk_at dksX6_ordinal_0 23 rfl rfl)
theorem dX6_ordinal_24 : decode cX6_ordinal 24 = .ok (.iload_n 3, 1) := dk_29 (dk_at dksX6_ordinal_1 0 rfl rfl)
theorem dX6_ordinal_25 : decode cX6_ordinal 25 = .ok (.iadd, 1) := dk_96 (dk_at dksX6_ordinal_1 1 rfl rfl)
theorem dX6_ordinal_26 : decode cX6_ordinal 26 = .ok (.iaload, 1) := dk_46 (dk_at dksX6_ordinal_1 2 rfl rfl)
theorem dX6_ordinal_27 : decode cX6_ordinal 27 = .ok (.iload_n 2, 1) := dk_28 (dk_at dksX6_ordinal_1 3 rfl rfl)
theorem dX6_ordinal_28 : decode cX6_ordinal 28 = .ok (.bipush 100, 2) := dk_16 100 (dk_at dksX6_ordinal_1 4 rfl rfl)
theorem dX6_ordinal_30 : decode cX6_ordinal 30 = .ok (.irem, 1) := dk_112 (dk_at dksX6_ordinal_1 6 rfl rfl)
theorem dX6_ordinal_31 : decode cX6_ordinal 31 = .ok (.iadd, 1) := dk_96 (dk_at dksX6_ordinal_1 7 rfl rfl)
theorem dX6_ordinal_32 : decode cX6_ordinal 32 = .ok (.iconst 1, 1) := dk_4 (dk_at dksX6_ordinal_1 8 rfl rfl)
theorem dX6_ordinal_33 : decode cX6_ordinal 33 = .ok (.isub, 1) := dk_100 (dk_at dksX6_ordinal_1 9 rfl rfl)
theorem dX6_ordinal_34 : decode cX6_ordinal 34 = .ok (.istore 5, 2) := dk_54 5 (dk_at dksX6_ordinal_1 10 rfl rfl)
theorem dX6_ordinal_36 : decode cX6_ordinal 36 = .ok (.iconst 1, 1) := dk_4 (dk_at dksX6_ordinal_1 12 rfl rfl)
theorem dX6_ordinal_37 : decode cX6_ordinal 37 = .ok (.istore 6, 2) := dk_54 6 (dk_at dksX6_ordinal_1 13 rfl rfl)
theorem dX6_ordinal_39 : decode cX6_ordinal 39 = .ok (.iload 6, 2) := dk_21 6 (dk_at dksX6_ordinal_1 15 rfl rfl)
theorem dX6_ordinal_41 : decode cX6_ordinal 41 = .ok (.iload 4, 2) := dk_21 4 (dk_at dksX6_ordinal_1 17 rfl rfl)
theorem dX6_ordinal_43 : decode cX6_ordinal 43 = .ok (.if_icmp .ge 22, 3) := dk_162 0 22 (dk_at dksX6_ordinal_1 19 rfl rfl)
theorem dX6_ordinal_46 : decode cX6_ordinal 46 = .ok (.iload 5, 2) := dk_21 5 (dk_at dksX6_ordinal_1 22 rfl rfl)
theorem dX6_ordinal_48 : decode cX6_ordinal 48 = .ok (.aload_n 0, 1) := dk_42 (dk_at dksX6_ordinal_2 0 rfl rfl)
theorem dX6_ordinal_49 : decode cX6_ordinal 49 = .ok (.iload_n 1, 1) := dk_27 (dk_at dksX6_ordinal_2 1 rfl rfl)
theorem dX6_ordinal_50 : decode cX6_ordinal 50 = .ok (.iload_n 3, 1) := dk_29 (dk_at dksX6_ordinal_2 2 rfl rfl)
theorem dX6_ordinal_51 : decode cX6_ordinal 51 = .ok (.iload 6, 2) := dk_21 6 (dk_at dksX6_ordinal_2 3 rfl rfl)
theorem dX6_ordinal_53 : decode cX6_ordinal 53 = .ok (.invokevirtual 204, 3) := dk_182 0 204 (dk_at dksX6_ordinal_2 5 rfl rfl)
theorem dX6_ordinal_56 : decode cX6_ordinal 56 = .ok (.iadd, 1) := dk_96 (dk_at dksX6_ordinal_2 8 rfl rfl)
theorem dX6_ordinal_57 : decode cX6_ordinal 57 = .ok (.istore 5, 2) := dk_54 5 (dk_at dksX6_ordinal_2 9 rfl rfl)
theorem dX6_ordinal_59 : decode cX6_ordinal 59 = .ok (.iinc 6 1, 3) := dk_132 6 1 (dk_at dksX6_ordinal_2 11 rfl rfl)
theorem dX6_ordinal_62 : decode cX6_ordinal 62 = .ok (.goto (-23), 3) := dk_167 255 233 (dk_at dksX6_ordinal_2 14 rfl rfl)
theorem dX6_ordinal_65 : decode cX6_ordinal 65 = .ok (.iload 5, 2) := dk_21 5 (dk_at dksX6_ordinal_2 17 rfl rfl)
theorem dX6_ordinal_67 : decode cX6_ordinal 67 = .ok (.ireturn, 1) := dk_172 (dk_at dksX6_ordinal_2 19 rfl rfl)
abbrev cX6_dated : ByteArray := prog_16_method_21_code
def yX6_dated : MethodName := ⟨RX6, "dated", "(II)I"⟩
def dkwX6_dated_5 : List UInt8 := [184, 0, 208, 172]
abbrev dktX6_dated_5 : List UInt8 := dkwX6_dated_5 ++ []
def dkwX6_dated_4 : List UInt8 := [42, 27, 29, 21, 6, 182, 0, 204, 100, 54, 5, 132, 6, 1, 167, 255, 220, 29, 21, 6, 21, 5, 4, 96]
abbrev dktX6_dated_4 : List UInt8 := dkwX6_dated_4 ++ dktX6_dated_5
def dkwX6_dated_3 : List UInt8 := [54, 6, 21, 6, 16, 12, 162, 0, 35, 21, 5, 42, 27, 29, 21, 6, 182, 0, 204, 161, 0, 22, 21, 5]
abbrev dktX6_dated_3 : List UInt8 := dkwX6_dated_3 ++ dktX6_dated_4
def dkwX6_dated_2 : List UInt8 := [4, 100, 54, 4, 167, 255, 211, 28, 42, 180, 0, 39, 17, 39, 17, 27, 104, 29, 96, 46, 100, 54, 5, 4]
abbrev dktX6_dated_2 : List UInt8 := dkwX6_dated_2 ++ dktX6_dated_3
def dkwX6_dated_1 : List UInt8 := [180, 0, 39, 17, 39, 17, 27, 104, 21, 5, 96, 46, 28, 163, 0, 9, 21, 5, 62, 167, 0, 9, 21, 5]
abbrev dktX6_dated_1 : List UInt8 := dkwX6_dated_1 ++ dktX6_dated_2
def dkwX6_dated_0 : List UInt8 := [4, 62, 17, 39, 16, 54, 4, 29, 21, 4, 162, 0, 45, 29, 21, 4, 96, 4, 96, 5, 108, 54, 5, 42]
abbrev dktX6_dated_0 : List UInt8 := dkwX6_dated_0 ++ dktX6_dated_1
theorem dksX6_dated_0 : cX6_dated.data.toList.drop 0 = dktX6_dated_0 := by decide +kernel
theorem dksX6_dated_1 : cX6_dated.data.toList.drop 24 = dktX6_dated_1 := dk_seg dksX6_dated_0 24 rfl rfl
theorem dksX6_dated_2 : cX6_dated.data.toList.drop 48 = dktX6_dated_2 := dk_seg dksX6_dated_1 24 rfl rfl
theorem dksX6_dated_3 : cX6_dated.data.toList.drop 72 = dktX6_dated_3 := dk_seg dksX6_dated_2 24 rfl rfl
theorem dksX6_dated_4 : cX6_dated.data.toList.drop 96 = dktX6_dated_4 := dk_seg dksX6_dated_3 24 rfl rfl
theorem dksX6_dated_5 : cX6_dated.data.toList.drop 120 = dktX6_dated_5 := dk_seg dksX6_dated_4 24 rfl rfl
theorem dX6_dated_0 : decode cX6_dated 0 = .ok (.iconst 1, 1) := dk_4 (dk_at dksX6_dated_0 0 rfl rfl)
theorem dX6_dated_1 : decode cX6_dated 1 = .ok (.istore_n 3, 1) := dk_62 (dk_at dksX6_dated_0 1 rfl rfl)
theorem dX6_dated_2 : decode cX6_dated 2 = .ok (.sipush 10000, 3) := dk_17 39 16 (dk_at dksX6_dated_0 2 rfl rfl)
theorem dX6_dated_5 : decode cX6_dated 5 = .ok (.istore 4, 2) := dk_54 4 (dk_at dksX6_dated_0 5 rfl rfl)
theorem dX6_dated_7 : decode cX6_dated 7 = .ok (.iload_n 3, 1) := dk_29 (dk_at dksX6_dated_0 7 rfl rfl)
theorem dX6_dated_8 : decode cX6_dated 8 = .ok (.iload 4, 2) := dk_21 4 (dk_at dksX6_dated_0 8 rfl rfl)
theorem dX6_dated_10 : decode cX6_dated 10 = .ok (.if_icmp .ge 45, 3) := dk_162 0 45 (dk_at dksX6_dated_0 10 rfl rfl)
theorem dX6_dated_13 : decode cX6_dated 13 = .ok (.iload_n 3, 1) := dk_29 (dk_at dksX6_dated_0 13 rfl rfl)
theorem dX6_dated_14 : decode cX6_dated 14 = .ok (.iload 4, 2) := dk_21 4 (dk_at dksX6_dated_0 14 rfl rfl)
theorem dX6_dated_16 : decode cX6_dated 16 = .ok (.iadd, 1) := dk_96 (dk_at dksX6_dated_0 16 rfl rfl)
theorem dX6_dated_17 : decode cX6_dated 17 = .ok (.iconst 1, 1) := dk_4 (dk_at dksX6_dated_0 17 rfl rfl)
theorem dX6_dated_18 : decode cX6_dated 18 = .ok (.iadd, 1) := dk_96 (dk_at dksX6_dated_0 18 rfl rfl)
theorem dX6_dated_19 : decode cX6_dated 19 = .ok (.iconst 2, 1) := dk_5 (dk_at dksX6_dated_0 19 rfl rfl)
theorem dX6_dated_20 : decode cX6_dated 20 = .ok (.idiv, 1) := dk_108 (dk_at dksX6_dated_0 20 rfl rfl)
theorem dX6_dated_21 : decode cX6_dated 21 = .ok (.istore 5, 2) := dk_54 5 (dk_at dksX6_dated_0 21 rfl rfl)
theorem dX6_dated_23 : decode cX6_dated 23 = .ok (.aload_n 0, 1) := dk_42 (dk_at dksX6_dated_0 23 rfl rfl)
theorem dX6_dated_24 : decode cX6_dated 24 = .ok (.getfield 39, 3) := dk_180 0 39 (dk_at dksX6_dated_1 0 rfl rfl)
theorem dX6_dated_27 : decode cX6_dated 27 = .ok (.sipush 10001, 3) := dk_17 39 17 (dk_at dksX6_dated_1 3 rfl rfl)
theorem dX6_dated_30 : decode cX6_dated 30 = .ok (.iload_n 1, 1) := dk_27 (dk_at dksX6_dated_1 6 rfl rfl)
theorem dX6_dated_31 : decode cX6_dated 31 = .ok (.imul, 1) := dk_104 (dk_at dksX6_dated_1 7 rfl rfl)
theorem dX6_dated_32 : decode cX6_dated 32 = .ok (.iload 5, 2) := dk_21 5 (dk_at dksX6_dated_1 8 rfl rfl)
theorem dX6_dated_34 : decode cX6_dated 34 = .ok (.iadd, 1) := dk_96 (dk_at dksX6_dated_1 10 rfl rfl)
theorem dX6_dated_35 : decode cX6_dated 35 = .ok (.iaload, 1) := dk_46 (dk_at dksX6_dated_1 11 rfl rfl)
theorem dX6_dated_36 : decode cX6_dated 36 = .ok (.iload_n 2, 1) := dk_28 (dk_at dksX6_dated_1 12 rfl rfl)
theorem dX6_dated_37 : decode cX6_dated 37 = .ok (.if_icmp .gt 9, 3) := dk_163 0 9 (dk_at dksX6_dated_1 13 rfl rfl)
theorem dX6_dated_40 : decode cX6_dated 40 = .ok (.iload 5, 2) := dk_21 5 (dk_at dksX6_dated_1 16 rfl rfl)
theorem dX6_dated_42 : decode cX6_dated 42 = .ok (.istore_n 3, 1) := dk_62 (dk_at dksX6_dated_1 18 rfl rfl)
theorem dX6_dated_43 : decode cX6_dated 43 = .ok (.goto 9, 3) := dk_167 0 9 (dk_at dksX6_dated_1 19 rfl rfl)
theorem dX6_dated_46 : decode cX6_dated 46 = .ok (.iload 5, 2) := dk_21 5 (dk_at dksX6_dated_1 22 rfl rfl)
theorem dX6_dated_48 : decode cX6_dated 48 = .ok (.iconst 1, 1) := dk_4 (dk_at dksX6_dated_2 0 rfl rfl)
theorem dX6_dated_49 : decode cX6_dated 49 = .ok (.isub, 1) := dk_100 (dk_at dksX6_dated_2 1 rfl rfl)
theorem dX6_dated_50 : decode cX6_dated 50 = .ok (.istore 4, 2) := dk_54 4 (dk_at dksX6_dated_2 2 rfl rfl)
theorem dX6_dated_52 : decode cX6_dated 52 = .ok (.goto (-45), 3) := dk_167 255 211 (dk_at dksX6_dated_2 4 rfl rfl)
theorem dX6_dated_55 : decode cX6_dated 55 = .ok (.iload_n 2, 1) := dk_28 (dk_at dksX6_dated_2 7 rfl rfl)
theorem dX6_dated_56 : decode cX6_dated 56 = .ok (.aload_n 0, 1) := dk_42 (dk_at dksX6_dated_2 8 rfl rfl)
theorem dX6_dated_57 : decode cX6_dated 57 = .ok (.getfield 39, 3) := dk_180 0 39 (dk_at dksX6_dated_2 9 rfl rfl)
theorem dX6_dated_60 : decode cX6_dated 60 = .ok (.sipush 10001, 3) := dk_17 39 17 (dk_at dksX6_dated_2 12 rfl rfl)
theorem dX6_dated_63 : decode cX6_dated 63 = .ok (.iload_n 1, 1) := dk_27 (dk_at dksX6_dated_2 15 rfl rfl)
theorem dX6_dated_64 : decode cX6_dated 64 = .ok (.imul, 1) := dk_104 (dk_at dksX6_dated_2 16 rfl rfl)
theorem dX6_dated_65 : decode cX6_dated 65 = .ok (.iload_n 3, 1) := dk_29 (dk_at dksX6_dated_2 17 rfl rfl)
theorem dX6_dated_66 : decode cX6_dated 66 = .ok (.iadd, 1) := dk_96 (dk_at dksX6_dated_2 18 rfl rfl)
theorem dX6_dated_67 : decode cX6_dated 67 = .ok (.iaload, 1) := dk_46 (dk_at dksX6_dated_2 19 rfl rfl)
theorem dX6_dated_68 : decode cX6_dated 68 = .ok (.isub, 1) := dk_100 (dk_at dksX6_dated_2 20 rfl rfl)
theorem dX6_dated_69 : decode cX6_dated 69 = .ok (.istore 5, 2) := dk_54 5 (dk_at dksX6_dated_2 21 rfl rfl)
theorem dX6_dated_71 : decode cX6_dated 71 = .ok (.iconst 1, 1) := dk_4 (dk_at dksX6_dated_2 23 rfl rfl)
theorem dX6_dated_72 : decode cX6_dated 72 = .ok (.istore 6, 2) := dk_54 6 (dk_at dksX6_dated_3 0 rfl rfl)
theorem dX6_dated_74 : decode cX6_dated 74 = .ok (.iload 6, 2) := dk_21 6 (dk_at dksX6_dated_3 2 rfl rfl)
theorem dX6_dated_76 : decode cX6_dated 76 = .ok (.bipush 12, 2) := dk_16 12 (dk_at dksX6_dated_3 4 rfl rfl)
theorem dX6_dated_78 : decode cX6_dated 78 = .ok (.if_icmp .ge 35, 3) := dk_162 0 35 (dk_at dksX6_dated_3 6 rfl rfl)
theorem dX6_dated_81 : decode cX6_dated 81 = .ok (.iload 5, 2) := dk_21 5 (dk_at dksX6_dated_3 9 rfl rfl)
theorem dX6_dated_83 : decode cX6_dated 83 = .ok (.aload_n 0, 1) := dk_42 (dk_at dksX6_dated_3 11 rfl rfl)
theorem dX6_dated_84 : decode cX6_dated 84 = .ok (.iload_n 1, 1) := dk_27 (dk_at dksX6_dated_3 12 rfl rfl)
theorem dX6_dated_85 : decode cX6_dated 85 = .ok (.iload_n 3, 1) := dk_29 (dk_at dksX6_dated_3 13 rfl rfl)
theorem dX6_dated_86 : decode cX6_dated 86 = .ok (.iload 6, 2) := dk_21 6 (dk_at dksX6_dated_3 14 rfl rfl)
theorem dX6_dated_88 : decode cX6_dated 88 = .ok (.invokevirtual 204, 3) := dk_182 0 204 (dk_at dksX6_dated_3 16 rfl rfl)
theorem dX6_dated_91 : decode cX6_dated 91 = .ok (.if_icmp .lt 22, 3) := dk_161 0 22 (dk_at dksX6_dated_3 19 rfl rfl)
theorem dX6_dated_94 : decode cX6_dated 94 = .ok (.iload 5, 2) := dk_21 5 (dk_at dksX6_dated_3 22 rfl rfl)
theorem dX6_dated_96 : decode cX6_dated 96 = .ok (.aload_n 0, 1) := dk_42 (dk_at dksX6_dated_4 0 rfl rfl)
theorem dX6_dated_97 : decode cX6_dated 97 = .ok (.iload_n 1, 1) := dk_27 (dk_at dksX6_dated_4 1 rfl rfl)
theorem dX6_dated_98 : decode cX6_dated 98 = .ok (.iload_n 3, 1) := dk_29 (dk_at dksX6_dated_4 2 rfl rfl)
theorem dX6_dated_99 : decode cX6_dated 99 = .ok (.iload 6, 2) := dk_21 6 (dk_at dksX6_dated_4 3 rfl rfl)
theorem dX6_dated_101 : decode cX6_dated 101 = .ok (.invokevirtual 204, 3) := dk_182 0 204 (dk_at dksX6_dated_4 5 rfl rfl)
theorem dX6_dated_104 : decode cX6_dated 104 = .ok (.isub, 1) := dk_100 (dk_at dksX6_dated_4 8 rfl rfl)
theorem dX6_dated_105 : decode cX6_dated 105 = .ok (.istore 5, 2) := dk_54 5 (dk_at dksX6_dated_4 9 rfl rfl)
theorem dX6_dated_107 : decode cX6_dated 107 = .ok (.iinc 6 1, 3) := dk_132 6 1 (dk_at dksX6_dated_4 11 rfl rfl)
theorem dX6_dated_110 : decode cX6_dated 110 = .ok (.goto (-36), 3) := dk_167 255 220 (dk_at dksX6_dated_4 14 rfl rfl)
theorem dX6_dated_113 : decode cX6_dated 113 = .ok (.iload_n 3, 1) := dk_29 (dk_at dksX6_dated_4 17 rfl rfl)
theorem dX6_dated_114 : decode cX6_dated 114 = .ok (.iload 6, 2) := dk_21 6 (dk_at dksX6_dated_4 18 rfl rfl)
theorem dX6_dated_116 : decode cX6_dated 116 = .ok (.iload 5, 2) := dk_21 5 (dk_at dksX6_dated_4 20 rfl rfl)
theorem dX6_dated_118 : decode cX6_dated 118 = .ok (.iconst 1, 1) := dk_4 (dk_at dksX6_dated_4 22 rfl rfl)
theorem dX6_dated_119 : decode cX6_dated 119 = .ok (.iadd, 1) := dk_96 (dk_at dksX6_dated_4 23 rfl rfl)
theorem dX6_dated_120 : decode cX6_dated 120 = .ok (.invokestatic 208, 3) := dk_184 0 208 (dk_at dksX6_dated_5 0 rfl rfl)
theorem dX6_dated_123 : decode cX6_dated 123 = .ok (.ireturn, 1) := dk_172 (dk_at dksX6_dated_5 3 rfl rfl)
abbrev cX6_readHead : ByteArray := prog_16_method_29_code
def yX6_readHead : MethodName := ⟨RX6, "readHead", "(I)I"⟩
def dkwX6_readHead_5 : List UInt8 := [42, 182, 0, 176, 2, 159, 0, 7, 42, 182, 0, 179, 42, 180, 0, 173, 172]
abbrev dktX6_readHead_5 : List UInt8 := dkwX6_readHead_5 ++ []
def dkwX6_readHead_4 : List UInt8 := [180, 0, 166, 4, 96, 181, 0, 166, 42, 27, 182, 0, 254, 167, 255, 224, 42, 180, 0, 173, 2, 160, 0, 15]
abbrev dktX6_readHead_4 : List UInt8 := dkwX6_readHead_4 ++ dktX6_readHead_5
def dkwX6_readHead_3 : List UInt8 := [182, 0, 254, 42, 180, 0, 173, 2, 160, 0, 30, 42, 182, 0, 176, 16, 44, 160, 0, 21, 42, 89]
abbrev dktX6_readHead_3 : List UInt8 := dkwX6_readHead_3 ++ dktX6_readHead_4
def dkwX6_readHead_2 : List UInt8 := [162, 0, 20, 42, 180, 0, 75, 7, 27, 104, 28, 96, 3, 79, 132, 2, 1, 167, 255, 237, 42, 27]
abbrev dktX6_readHead_2 : List UInt8 := dkwX6_readHead_2 ++ dktX6_readHead_3
def dkwX6_readHead_1 : List UInt8 := [180, 0, 51, 27, 3, 79, 42, 180, 0, 60, 27, 3, 79, 42, 180, 0, 72, 27, 3, 79, 3, 61, 28, 7]
abbrev dktX6_readHead_1 : List UInt8 := dkwX6_readHead_1 ++ dktX6_readHead_2
def dkwX6_readHead_0 : List UInt8 := [42, 3, 181, 0, 166, 42, 2, 181, 0, 173, 42, 3, 181, 0, 251, 42, 180, 0, 42, 27, 3, 79, 42]
abbrev dktX6_readHead_0 : List UInt8 := dkwX6_readHead_0 ++ dktX6_readHead_1
theorem dksX6_readHead_0 : cX6_readHead.data.toList.drop 0 = dktX6_readHead_0 := by decide +kernel
theorem dksX6_readHead_1 : cX6_readHead.data.toList.drop 23 = dktX6_readHead_1 := dk_seg dksX6_readHead_0 23 rfl rfl
theorem dksX6_readHead_2 : cX6_readHead.data.toList.drop 47 = dktX6_readHead_2 := dk_seg dksX6_readHead_1 24 rfl rfl
theorem dksX6_readHead_3 : cX6_readHead.data.toList.drop 69 = dktX6_readHead_3 := dk_seg dksX6_readHead_2 22 rfl rfl
theorem dksX6_readHead_4 : cX6_readHead.data.toList.drop 91 = dktX6_readHead_4 := dk_seg dksX6_readHead_3 22 rfl rfl
theorem dksX6_readHead_5 : cX6_readHead.data.toList.drop 115 = dktX6_readHead_5 := dk_seg dksX6_readHead_4 24 rfl rfl
theorem dX6_readHead_0 : decode cX6_readHead 0 = .ok (.aload_n 0, 1) := dk_42 (dk_at dksX6_readHead_0 0 rfl rfl)
theorem dX6_readHead_1 : decode cX6_readHead 1 = .ok (.iconst 0, 1) := dk_3 (dk_at dksX6_readHead_0 1 rfl rfl)
theorem dX6_readHead_2 : decode cX6_readHead 2 = .ok (.putfield 166, 3) := dk_181 0 166 (dk_at dksX6_readHead_0 2 rfl rfl)
theorem dX6_readHead_5 : decode cX6_readHead 5 = .ok (.aload_n 0, 1) := dk_42 (dk_at dksX6_readHead_0 5 rfl rfl)
theorem dX6_readHead_6 : decode cX6_readHead 6 = .ok (.iconst (-1), 1) := dk_2 (dk_at dksX6_readHead_0 6 rfl rfl)
theorem dX6_readHead_7 : decode cX6_readHead 7 = .ok (.putfield 173, 3) := dk_181 0 173 (dk_at dksX6_readHead_0 7 rfl rfl)
theorem dX6_readHead_10 : decode cX6_readHead 10 = .ok (.aload_n 0, 1) := dk_42 (dk_at dksX6_readHead_0 10 rfl rfl)
theorem dX6_readHead_11 : decode cX6_readHead 11 = .ok (.iconst 0, 1) := dk_3 (dk_at dksX6_readHead_0 11 rfl rfl)
theorem dX6_readHead_12 : decode cX6_readHead 12 = .ok (.putfield 251, 3) := dk_181 0 251 (dk_at dksX6_readHead_0 12 rfl rfl)
theorem dX6_readHead_15 : decode cX6_readHead 15 = .ok (.aload_n 0, 1) := dk_42 (dk_at dksX6_readHead_0 15 rfl rfl)
theorem dX6_readHead_16 : decode cX6_readHead 16 = .ok (.getfield 42, 3) := dk_180 0 42 (dk_at dksX6_readHead_0 16 rfl rfl)
theorem dX6_readHead_19 : decode cX6_readHead 19 = .ok (.iload_n 1, 1) := dk_27 (dk_at dksX6_readHead_0 19 rfl rfl)
theorem dX6_readHead_20 : decode cX6_readHead 20 = .ok (.iconst 0, 1) := dk_3 (dk_at dksX6_readHead_0 20 rfl rfl)
theorem dX6_readHead_21 : decode cX6_readHead 21 = .ok (.iastore, 1) := dk_79 (dk_at dksX6_readHead_0 21 rfl rfl)
theorem dX6_readHead_22 : decode cX6_readHead 22 = .ok (.aload_n 0, 1) := dk_42 (dk_at dksX6_readHead_0 22 rfl rfl)
theorem dX6_readHead_23 : decode cX6_readHead 23 = .ok (.getfield 51, 3) := dk_180 0 51 (dk_at dksX6_readHead_1 0 rfl rfl)
theorem dX6_readHead_26 : decode cX6_readHead 26 = .ok (.iload_n 1, 1) := dk_27 (dk_at dksX6_readHead_1 3 rfl rfl)
theorem dX6_readHead_27 : decode cX6_readHead 27 = .ok (.iconst 0, 1) := dk_3 (dk_at dksX6_readHead_1 4 rfl rfl)
theorem dX6_readHead_28 : decode cX6_readHead 28 = .ok (.iastore, 1) := dk_79 (dk_at dksX6_readHead_1 5 rfl rfl)
theorem dX6_readHead_29 : decode cX6_readHead 29 = .ok (.aload_n 0, 1) := dk_42 (dk_at dksX6_readHead_1 6 rfl rfl)
theorem dX6_readHead_30 : decode cX6_readHead 30 = .ok (.getfield 60, 3) := dk_180 0 60 (dk_at dksX6_readHead_1 7 rfl rfl)
theorem dX6_readHead_33 : decode cX6_readHead 33 = .ok (.iload_n 1, 1) := dk_27 (dk_at dksX6_readHead_1 10 rfl rfl)
theorem dX6_readHead_34 : decode cX6_readHead 34 = .ok (.iconst 0, 1) := dk_3 (dk_at dksX6_readHead_1 11 rfl rfl)
theorem dX6_readHead_35 : decode cX6_readHead 35 = .ok (.iastore, 1) := dk_79 (dk_at dksX6_readHead_1 12 rfl rfl)
theorem dX6_readHead_36 : decode cX6_readHead 36 = .ok (.aload_n 0, 1) := dk_42 (dk_at dksX6_readHead_1 13 rfl rfl)
theorem dX6_readHead_37 : decode cX6_readHead 37 = .ok (.getfield 72, 3) := dk_180 0 72 (dk_at dksX6_readHead_1 14 rfl rfl)
theorem dX6_readHead_40 : decode cX6_readHead 40 = .ok (.iload_n 1, 1) := dk_27 (dk_at dksX6_readHead_1 17 rfl rfl)
theorem dX6_readHead_41 : decode cX6_readHead 41 = .ok (.iconst 0, 1) := dk_3 (dk_at dksX6_readHead_1 18 rfl rfl)
theorem dX6_readHead_42 : decode cX6_readHead 42 = .ok (.iastore, 1) := dk_79 (dk_at dksX6_readHead_1 19 rfl rfl)
theorem dX6_readHead_43 : decode cX6_readHead 43 = .ok (.iconst 0, 1) := dk_3 (dk_at dksX6_readHead_1 20 rfl rfl)
theorem dX6_readHead_44 : decode cX6_readHead 44 = .ok (.istore_n 2, 1) := dk_61 (dk_at dksX6_readHead_1 21 rfl rfl)
theorem dX6_readHead_45 : decode cX6_readHead 45 = .ok (.iload_n 2, 1) := dk_28 (dk_at dksX6_readHead_1 22 rfl rfl)
theorem dX6_readHead_46 : decode cX6_readHead 46 = .ok (.iconst 4, 1) := dk_7 (dk_at dksX6_readHead_1 23 rfl rfl)
theorem dX6_readHead_47 : decode cX6_readHead 47 = .ok (.if_icmp .ge 20, 3) := dk_162 0 20 (dk_at dksX6_readHead_2 0 rfl rfl)
theorem dX6_readHead_50 : decode cX6_readHead 50 = .ok (.aload_n 0, 1) := dk_42 (dk_at dksX6_readHead_2 3 rfl rfl)
theorem dX6_readHead_51 : decode cX6_readHead 51 = .ok (.getfield 75, 3) := dk_180 0 75 (dk_at dksX6_readHead_2 4 rfl rfl)
theorem dX6_readHead_54 : decode cX6_readHead 54 = .ok (.iconst 4, 1) := dk_7 (dk_at dksX6_readHead_2 7 rfl rfl)
theorem dX6_readHead_55 : decode cX6_readHead 55 = .ok (.iload_n 1, 1) := dk_27 (dk_at dksX6_readHead_2 8 rfl rfl)
theorem dX6_readHead_56 : decode cX6_readHead 56 = .ok (.imul, 1) := dk_104 (dk_at dksX6_readHead_2 9 rfl rfl)
theorem dX6_readHead_57 : decode cX6_readHead 57 = .ok (.iload_n 2, 1) := dk_28 (dk_at dksX6_readHead_2 10 rfl rfl)
theorem dX6_readHead_58 : decode cX6_readHead 58 = .ok (.iadd, 1) := dk_96 (dk_at dksX6_readHead_2 11 rfl rfl)
theorem dX6_readHead_59 : decode cX6_readHead 59 = .ok (.iconst 0, 1) := dk_3 (dk_at dksX6_readHead_2 12 rfl rfl)
theorem dX6_readHead_60 : decode cX6_readHead 60 = .ok (.iastore, 1) := dk_79 (dk_at dksX6_readHead_2 13 rfl rfl)
theorem dX6_readHead_61 : decode cX6_readHead 61 = .ok (.iinc 2 1, 3) := dk_132 2 1 (dk_at dksX6_readHead_2 14 rfl rfl)
theorem dX6_readHead_64 : decode cX6_readHead 64 = .ok (.goto (-19), 3) := dk_167 255 237 (dk_at dksX6_readHead_2 17 rfl rfl)
theorem dX6_readHead_67 : decode cX6_readHead 67 = .ok (.aload_n 0, 1) := dk_42 (dk_at dksX6_readHead_2 20 rfl rfl)
theorem dX6_readHead_68 : decode cX6_readHead 68 = .ok (.iload_n 1, 1) := dk_27 (dk_at dksX6_readHead_2 21 rfl rfl)
theorem dX6_readHead_69 : decode cX6_readHead 69 = .ok (.invokevirtual 254, 3) := dk_182 0 254 (dk_at dksX6_readHead_3 0 rfl rfl)
theorem dX6_readHead_72 : decode cX6_readHead 72 = .ok (.aload_n 0, 1) := dk_42 (dk_at dksX6_readHead_3 3 rfl rfl)
theorem dX6_readHead_73 : decode cX6_readHead 73 = .ok (.getfield 173, 3) := dk_180 0 173 (dk_at dksX6_readHead_3 4 rfl rfl)
theorem dX6_readHead_76 : decode cX6_readHead 76 = .ok (.iconst (-1), 1) := dk_2 (dk_at dksX6_readHead_3 7 rfl rfl)
theorem dX6_readHead_77 : decode cX6_readHead 77 = .ok (.if_icmp .ne 30, 3) := dk_160 0 30 (dk_at dksX6_readHead_3 8 rfl rfl)
theorem dX6_readHead_80 : decode cX6_readHead 80 = .ok (.aload_n 0, 1) := dk_42 (dk_at dksX6_readHead_3 11 rfl rfl)
theorem dX6_readHead_81 : decode cX6_readHead 81 = .ok (.invokevirtual 176, 3) := dk_182 0 176 (dk_at dksX6_readHead_3 12 rfl rfl)
theorem dX6_readHead_84 : decode cX6_readHead 84 = .ok (.bipush 44, 2) := dk_16 44 (dk_at dksX6_readHead_3 15 rfl rfl)
theorem dX6_readHead_86 : decode cX6_readHead 86 = .ok (.if_icmp .ne 21, 3) := dk_160 0 21 (dk_at dksX6_readHead_3 17 rfl rfl)
theorem dX6_readHead_89 : decode cX6_readHead 89 = .ok (.aload_n 0, 1) := dk_42 (dk_at dksX6_readHead_3 20 rfl rfl)
theorem dX6_readHead_90 : decode cX6_readHead 90 = .ok (.dup, 1) := dk_89 (dk_at dksX6_readHead_3 21 rfl rfl)
theorem dX6_readHead_91 : decode cX6_readHead 91 = .ok (.getfield 166, 3) := dk_180 0 166 (dk_at dksX6_readHead_4 0 rfl rfl)
theorem dX6_readHead_94 : decode cX6_readHead 94 = .ok (.iconst 1, 1) := dk_4 (dk_at dksX6_readHead_4 3 rfl rfl)
theorem dX6_readHead_95 : decode cX6_readHead 95 = .ok (.iadd, 1) := dk_96 (dk_at dksX6_readHead_4 4 rfl rfl)
theorem dX6_readHead_96 : decode cX6_readHead 96 = .ok (.putfield 166, 3) := dk_181 0 166 (dk_at dksX6_readHead_4 5 rfl rfl)
theorem dX6_readHead_99 : decode cX6_readHead 99 = .ok (.aload_n 0, 1) := dk_42 (dk_at dksX6_readHead_4 8 rfl rfl)
theorem dX6_readHead_100 : decode cX6_readHead 100 = .ok (.iload_n 1, 1) := dk_27 (dk_at dksX6_readHead_4 9 rfl rfl)
theorem dX6_readHead_101 : decode cX6_readHead 101 = .ok (.invokevirtual 254, 3) := dk_182 0 254 (dk_at dksX6_readHead_4 10 rfl rfl)
theorem dX6_readHead_104 : decode cX6_readHead 104 = .ok (.goto (-32), 3) := dk_167 255 224 (dk_at dksX6_readHead_4 13 rfl rfl)
theorem dX6_readHead_107 : decode cX6_readHead 107 = .ok (.aload_n 0, 1) := dk_42 (dk_at dksX6_readHead_4 16 rfl rfl)
theorem dX6_readHead_108 : decode cX6_readHead 108 = .ok (.getfield 173, 3) := dk_180 0 173 (dk_at dksX6_readHead_4 17 rfl rfl)
theorem dX6_readHead_111 : decode cX6_readHead 111 = .ok (.iconst (-1), 1) := dk_2 (dk_at dksX6_readHead_4 20 rfl rfl)
theorem dX6_readHead_112 : decode cX6_readHead 112 = .ok (.if_icmp .ne 15, 3) := dk_160 0 15 (dk_at dksX6_readHead_4 21 rfl rfl)
theorem dX6_readHead_115 : decode cX6_readHead 115 = .ok (.aload_n 0, 1) := dk_42 (dk_at dksX6_readHead_5 0 rfl rfl)
theorem dX6_readHead_116 : decode cX6_readHead 116 = .ok (.invokevirtual 176, 3) := dk_182 0 176 (dk_at dksX6_readHead_5 1 rfl rfl)
theorem dX6_readHead_119 : decode cX6_readHead 119 = .ok (.iconst (-1), 1) := dk_2 (dk_at dksX6_readHead_5 4 rfl rfl)
theorem dX6_readHead_120 : decode cX6_readHead 120 = .ok (.if_icmp .eq 7, 3) := dk_159 0 7 (dk_at dksX6_readHead_5 5 rfl rfl)
theorem dX6_readHead_123 : decode cX6_readHead 123 = .ok (.aload_n 0, 1) := dk_42 (dk_at dksX6_readHead_5 8 rfl rfl)
theorem dX6_readHead_124 : decode cX6_readHead 124 = .ok (.invokevirtual 179, 3) := dk_182 0 179 (dk_at dksX6_readHead_5 9 rfl rfl)
theorem dX6_readHead_127 : decode cX6_readHead 127 = .ok (.aload_n 0, 1) := dk_42 (dk_at dksX6_readHead_5 12 rfl rfl)
theorem dX6_readHead_128 : decode cX6_readHead 128 = .ok (.getfield 173, 3) := dk_180 0 173 (dk_at dksX6_readHead_5 13 rfl rfl)
theorem dX6_readHead_131 : decode cX6_readHead 131 = .ok (.ireturn, 1) := dk_172 (dk_at dksX6_readHead_5 16 rfl rfl)
abbrev cX6_item : ByteArray := prog_16_method_25_code
def yX6_item : MethodName := ⟨RX6, "item", "(I)V"⟩
def dkwX6_item_11 : List UInt8 := [120, 167, 0, 4, 3, 128, 79, 167, 0, 9, 42, 27, 28, 182, 0, 248, 177]
abbrev dktX6_item_11 : List UInt8 := dkwX6_item_11 ++ []
def dkwX6_item_10 : List UInt8 := [182, 0, 190, 42, 182, 0, 197, 42, 180, 0, 72, 27, 92, 46, 42, 180, 0, 173, 2, 160, 0, 9, 4, 29]
abbrev dktX6_item_10 : List UInt8 := dkwX6_item_10 ++ dktX6_item_11
def dkwX6_item_9 : List UInt8 := [180, 0, 173, 2, 160, 0, 21, 42, 180, 0, 72, 27, 46, 29, 122, 4, 126, 4, 160, 0, 7, 42]
abbrev dktX6_item_9 : List UInt8 := dkwX6_item_9 ++ dktX6_item_10
def dkwX6_item_8 : List UInt8 := [16, 111, 160, 0, 78, 42, 89, 180, 0, 166, 4, 96, 181, 0, 166, 42, 4, 16, 12, 182, 0, 193, 62, 42]
abbrev dktX6_item_8 : List UInt8 := dkwX6_item_8 ++ dktX6_item_9
def dkwX6_item_7 : List UInt8 := [16, 12, 162, 0, 21, 42, 89, 180, 0, 166, 4, 96, 181, 0, 166, 42, 27, 182, 0, 245, 167, 0, 90, 28]
abbrev dktX6_item_7 : List UInt8 := dkwX6_item_7 ++ dktX6_item_8
def dkwX6_item_6 : List UInt8 := [181, 0, 166, 42, 27, 182, 0, 242, 167, 0, 125, 28, 16, 109, 160, 0, 32, 42, 180, 0, 60, 27, 46]
abbrev dktX6_item_6 : List UInt8 := dkwX6_item_6 ++ dktX6_item_7
def dkwX6_item_5 : List UInt8 := [16, 121, 160, 0, 32, 42, 180, 0, 51, 27, 46, 16, 6, 162, 0, 21, 42, 89, 180, 0, 166, 4, 96]
abbrev dktX6_item_5 : List UInt8 := dkwX6_item_5 ++ dktX6_item_6
def dkwX6_item_4 : List UInt8 := [184, 0, 239, 17, 39, 15, 182, 0, 211, 79, 42, 180, 0, 42, 27, 92, 46, 4, 96, 79, 167, 0, 160, 28]
abbrev dktX6_item_4 : List UInt8 := dkwX6_item_4 ++ dktX6_item_5
def dkwX6_item_3 : List UInt8 := [180, 0, 42, 27, 46, 96, 42, 4, 42, 180, 0, 45, 16, 6, 27, 104, 42, 180, 0, 42, 27, 46, 96, 46]
abbrev dktX6_item_3 : List UInt8 := dkwX6_item_3 ++ dktX6_item_4
def dkwX6_item_2 : List UInt8 := [4, 17, 39, 15, 182, 0, 211, 79, 42, 16, 45, 182, 0, 218, 42, 180, 0, 48, 16, 6, 27, 104, 42]
abbrev dktX6_item_2 : List UInt8 := dkwX6_item_2 ++ dktX6_item_3
def dkwX6_item_1 : List UInt8 := [180, 0, 166, 4, 96, 181, 0, 166, 42, 180, 0, 45, 16, 6, 27, 104, 42, 180, 0, 42, 27, 46, 96, 42]
abbrev dktX6_item_1 : List UInt8 := dkwX6_item_1 ++ dktX6_item_2
def dkwX6_item_0 : List UInt8 := [42, 182, 0, 176, 61, 28, 16, 107, 160, 0, 110, 42, 180, 0, 42, 27, 46, 16, 6, 162, 0, 99, 42, 89]
abbrev dktX6_item_0 : List UInt8 := dkwX6_item_0 ++ dktX6_item_1
theorem dksX6_item_0 : cX6_item.data.toList.drop 0 = dktX6_item_0 := by decide +kernel
theorem dksX6_item_1 : cX6_item.data.toList.drop 24 = dktX6_item_1 := dk_seg dksX6_item_0 24 rfl rfl
theorem dksX6_item_2 : cX6_item.data.toList.drop 48 = dktX6_item_2 := dk_seg dksX6_item_1 24 rfl rfl
theorem dksX6_item_3 : cX6_item.data.toList.drop 71 = dktX6_item_3 := dk_seg dksX6_item_2 23 rfl rfl
theorem dksX6_item_4 : cX6_item.data.toList.drop 95 = dktX6_item_4 := dk_seg dksX6_item_3 24 rfl rfl
theorem dksX6_item_5 : cX6_item.data.toList.drop 119 = dktX6_item_5 := dk_seg dksX6_item_4 24 rfl rfl
theorem dksX6_item_6 : cX6_item.data.toList.drop 142 = dktX6_item_6 := dk_seg dksX6_item_5 23 rfl rfl
theorem dksX6_item_7 : cX6_item.data.toList.drop 165 = dktX6_item_7 := dk_seg dksX6_item_6 23 rfl rfl
theorem dksX6_item_8 : cX6_item.data.toList.drop 189 = dktX6_item_8 := dk_seg dksX6_item_7 24 rfl rfl
theorem dksX6_item_9 : cX6_item.data.toList.drop 213 = dktX6_item_9 := dk_seg dksX6_item_8 24 rfl rfl
theorem dksX6_item_10 : cX6_item.data.toList.drop 235 = dktX6_item_10 := dk_seg dksX6_item_9 22 rfl rfl
theorem dksX6_item_11 : cX6_item.data.toList.drop 259 = dktX6_item_11 := dk_seg dksX6_item_10 24 rfl rfl
theorem dX6_item_0 : decode cX6_item 0 = .ok (.aload_n 0, 1) := dk_42 (dk_at dksX6_item_0 0 rfl rfl)
theorem dX6_item_1 : decode cX6_item 1 = .ok (.invokevirtual 176, 3) := dk_182 0 176 (dk_at dksX6_item_0 1 rfl rfl)
theorem dX6_item_4 : decode cX6_item 4 = .ok (.istore_n 2, 1) := dk_61 (dk_at dksX6_item_0 4 rfl rfl)
theorem dX6_item_5 : decode cX6_item 5 = .ok (.iload_n 2, 1) := dk_28 (dk_at dksX6_item_0 5 rfl rfl)
theorem dX6_item_6 : decode cX6_item 6 = .ok (.bipush 107, 2) := dk_16 107 (dk_at dksX6_item_0 6 rfl rfl)
theorem dX6_item_8 : decode cX6_item 8 = .ok (.if_icmp .ne 110, 3) := dk_160 0 110 (dk_at dksX6_item_0 8 rfl rfl)
theorem dX6_item_11 : decode cX6_item 11 = .ok (.aload_n 0, 1) := dk_42 (dk_at dksX6_item_0 11 rfl rfl)
theorem dX6_item_12 : decode cX6_item 12 = .ok (.getfield 42, 3) := dk_180 0 42 (dk_at dksX6_item_0 12 rfl rfl)
theorem dX6_item_15 : decode cX6_item 15 = .ok (.iload_n 1, 1) := dk_27 (dk_at dksX6_item_0 15 rfl rfl)
theorem dX6_item_16 : decode cX6_item 16 = .ok (.iaload, 1) := dk_46 (dk_at dksX6_item_0 16 rfl rfl)
theorem dX6_item_17 : decode cX6_item 17 = .ok (.bipush 6, 2) := dk_16 6 (dk_at dksX6_item_0 17 rfl rfl)
theorem dX6_item_19 : decode cX6_item 19 = .ok (.if_icmp .ge 99, 3) := dk_162 0 99 (dk_at dksX6_item_0 19 rfl rfl)
theorem dX6_item_22 : decode cX6_item 22 = .ok (.aload_n 0, 1) := dk_42 (dk_at dksX6_item_0 22 rfl rfl)
theorem dX6_item_23 : decode cX6_item 23 = .ok (.dup, 1) := dk_89 (dk_at dksX6_item_0 23 rfl rfl)
theorem dX6_item_24 : decode cX6_item 24 = .ok (.getfield 166, 3) := dk_180 0 166 (dk_at dksX6_item_1 0 rfl rfl)
theorem dX6_item_27 : decode cX6_item 27 = .ok (.iconst 1, 1) := dk_4 (dk_at dksX6_item_1 3 rfl rfl)
theorem dX6_item_28 : decode cX6_item 28 = .ok (.iadd, 1) := dk_96 (dk_at dksX6_item_1 4 rfl rfl)
theorem dX6_item_29 : decode cX6_item 29 = .ok (.putfield 166, 3) := dk_181 0 166 (dk_at dksX6_item_1 5 rfl rfl)
theorem dX6_item_32 : decode cX6_item 32 = .ok (.aload_n 0, 1) := dk_42 (dk_at dksX6_item_1 8 rfl rfl)
theorem dX6_item_33 : decode cX6_item 33 = .ok (.getfield 45, 3) := dk_180 0 45 (dk_at dksX6_item_1 9 rfl rfl)
theorem dX6_item_36 : decode cX6_item 36 = .ok (.bipush 6, 2) := dk_16 6 (dk_at dksX6_item_1 12 rfl rfl)
theorem dX6_item_38 : decode cX6_item 38 = .ok (.iload_n 1, 1) := dk_27 (dk_at dksX6_item_1 14 rfl rfl)
theorem dX6_item_39 : decode cX6_item 39 = .ok (.imul, 1) := dk_104 (dk_at dksX6_item_1 15 rfl rfl)
theorem dX6_item_40 : decode cX6_item 40 = .ok (.aload_n 0, 1) := dk_42 (dk_at dksX6_item_1 16 rfl rfl)
theorem dX6_item_41 : decode cX6_item 41 = .ok (.getfield 42, 3) := dk_180 0 42 (dk_at dksX6_item_1 17 rfl rfl)
theorem dX6_item_44 : decode cX6_item 44 = .ok (.iload_n 1, 1) := dk_27 (dk_at dksX6_item_1 20 rfl rfl)
theorem dX6_item_45 : decode cX6_item 45 = .ok (.iaload, 1) := dk_46 (dk_at dksX6_item_1 21 rfl rfl)
theorem dX6_item_46 : decode cX6_item 46 = .ok (.iadd, 1) := dk_96 (dk_at dksX6_item_1 22 rfl rfl)
theorem dX6_item_47 : decode cX6_item 47 = .ok (.aload_n 0, 1) := dk_42 (dk_at dksX6_item_1 23 rfl rfl)
theorem dX6_item_48 : decode cX6_item 48 = .ok (.iconst 1, 1) := dk_4 (dk_at dksX6_item_2 0 rfl rfl)
theorem dX6_item_49 : decode cX6_item 49 = .ok (.sipush 9999, 3) := dk_17 39 15 (dk_at dksX6_item_2 1 rfl rfl)
theorem dX6_item_52 : decode cX6_item 52 = .ok (.invokevirtual 211, 3) := dk_182 0 211 (dk_at dksX6_item_2 4 rfl rfl)
theorem dX6_item_55 : decode cX6_item 55 = .ok (.iastore, 1) := dk_79 (dk_at dksX6_item_2 7 rfl rfl)
theorem dX6_item_56 : decode cX6_item 56 = .ok (.aload_n 0, 1) := dk_42 (dk_at dksX6_item_2 8 rfl rfl)
theorem dX6_item_57 : decode cX6_item 57 = .ok (.bipush 45, 2) := dk_16 45 (dk_at dksX6_item_2 9 rfl rfl)
theorem dX6_item_59 : decode cX6_item 59 = .ok (.invokevirtual 218, 3) := dk_182 0 218 (dk_at dksX6_item_2 11 rfl rfl)
theorem dX6_item_62 : decode cX6_item 62 = .ok (.aload_n 0, 1) := dk_42 (dk_at dksX6_item_2 14 rfl rfl)
theorem dX6_item_63 : decode cX6_item 63 = .ok (.getfield 48, 3) := dk_180 0 48 (dk_at dksX6_item_2 15 rfl rfl)
theorem dX6_item_66 : decode cX6_item 66 = .ok (.bipush 6, 2) := dk_16 6 (dk_at dksX6_item_2 18 rfl rfl)
theorem dX6_item_68 : decode cX6_item 68 = .ok (.iload_n 1, 1) := dk_27 (dk_at dksX6_item_2 20 rfl rfl)
theorem dX6_item_69 : decode cX6_item 69 = .ok (.imul, 1) := dk_104 (dk_at dksX6_item_2 21 rfl rfl)
theorem dX6_item_70 : decode cX6_item 70 = .ok (.aload_n 0, 1) := dk_42 (dk_at dksX6_item_2 22 rfl rfl)
theorem dX6_item_71 : decode cX6_item 71 = .ok (.getfield 42, 3) := dk_180 0 42 (dk_at dksX6_item_3 0 rfl rfl)
theorem dX6_item_74 : decode cX6_item 74 = .ok (.iload_n 1, 1) := dk_27 (dk_at dksX6_item_3 3 rfl rfl)
theorem dX6_item_75 : decode cX6_item 75 = .ok (.iaload, 1) := dk_46 (dk_at dksX6_item_3 4 rfl rfl)
theorem dX6_item_76 : decode cX6_item 76 = .ok (.iadd, 1) := dk_96 (dk_at dksX6_item_3 5 rfl rfl)
theorem dX6_item_77 : decode cX6_item 77 = .ok (.aload_n 0, 1) := dk_42 (dk_at dksX6_item_3 6 rfl rfl)
theorem dX6_item_78 : decode cX6_item 78 = .ok (.iconst 1, 1) := dk_4 (dk_at dksX6_item_3 7 rfl rfl)
theorem dX6_item_79 : decode cX6_item 79 = .ok (.aload_n 0, 1) := dk_42 (dk_at dksX6_item_3 8 rfl rfl)
theorem dX6_item_80 : decode cX6_item 80 = .ok (.getfield 45, 3) := dk_180 0 45 (dk_at dksX6_item_3 9 rfl rfl)
theorem dX6_item_83 : decode cX6_item 83 = .ok (.bipush 6, 2) := dk_16 6 (dk_at dksX6_item_3 12 rfl rfl)
theorem dX6_item_85 : decode cX6_item 85 = .ok (.iload_n 1, 1) := dk_27 (dk_at dksX6_item_3 14 rfl rfl)
theorem dX6_item_86 : decode cX6_item 86 = .ok (.imul, 1) := dk_104 (dk_at dksX6_item_3 15 rfl rfl)
theorem dX6_item_87 : decode cX6_item 87 = .ok (.aload_n 0, 1) := dk_42 (dk_at dksX6_item_3 16 rfl rfl)
theorem dX6_item_88 : decode cX6_item 88 = .ok (.getfield 42, 3) := dk_180 0 42 (dk_at dksX6_item_3 17 rfl rfl)
theorem dX6_item_91 : decode cX6_item 91 = .ok (.iload_n 1, 1) := dk_27 (dk_at dksX6_item_3 20 rfl rfl)
theorem dX6_item_92 : decode cX6_item 92 = .ok (.iaload, 1) := dk_46 (dk_at dksX6_item_3 21 rfl rfl)
theorem dX6_item_93 : decode cX6_item 93 = .ok (.iadd, 1) := dk_96 (dk_at dksX6_item_3 22 rfl rfl)
theorem dX6_item_94 : decode cX6_item 94 = .ok (.iaload, 1) := dk_46 (dk_at dksX6_item_3 23 rfl rfl)
theorem dX6_item_95 : decode cX6_item 95 = .ok (.invokestatic 239, 3) := dk_184 0 239 (dk_at dksX6_item_4 0 rfl rfl)
theorem dX6_item_98 : decode cX6_item 98 = .ok (.sipush 9999, 3) := dk_17 39 15 (dk_at dksX6_item_4 3 rfl rfl)
theorem dX6_item_101 : decode cX6_item 101 = .ok (.invokevirtual 211, 3) := dk_182 0 211 (dk_at dksX6_item_4 6 rfl rfl)
theorem dX6_item_104 : decode cX6_item 104 = .ok (.iastore, 1) := dk_79 (dk_at dksX6_item_4 9 rfl rfl)
theorem dX6_item_105 : decode cX6_item 105 = .ok (.aload_n 0, 1) := dk_42 (dk_at dksX6_item_4 10 rfl rfl)
theorem dX6_item_106 : decode cX6_item 106 = .ok (.getfield 42, 3) := dk_180 0 42 (dk_at dksX6_item_4 11 rfl rfl)
theorem dX6_item_109 : decode cX6_item 109 = .ok (.iload_n 1, 1) := dk_27 (dk_at dksX6_item_4 14 rfl rfl)
theorem dX6_item_110 : decode cX6_item 110 = .ok (.dup2, 1) := dk_92 (dk_at dksX6_item_4 15 rfl rfl)
theorem dX6_item_111 : decode cX6_item 111 = .ok (.iaload, 1) := dk_46 (dk_at dksX6_item_4 16 rfl rfl)
theorem dX6_item_112 : decode cX6_item 112 = .ok (.iconst 1, 1) := dk_4 (dk_at dksX6_item_4 17 rfl rfl)
theorem dX6_item_113 : decode cX6_item 113 = .ok (.iadd, 1) := dk_96 (dk_at dksX6_item_4 18 rfl rfl)
theorem dX6_item_114 : decode cX6_item 114 = .ok (.iastore, 1) := dk_79 (dk_at dksX6_item_4 19 rfl rfl)
theorem dX6_item_115 : decode cX6_item 115 = .ok (.goto 160, 3) := dk_167 0 160 (dk_at dksX6_item_4 20 rfl rfl)
theorem dX6_item_118 : decode cX6_item 118 = .ok (.iload_n 2, 1) := dk_28 (dk_at dksX6_item_4 23 rfl rfl)
theorem dX6_item_119 : decode cX6_item 119 = .ok (.bipush 121, 2) := dk_16 121 (dk_at dksX6_item_5 0 rfl rfl)
theorem dX6_item_121 : decode cX6_item 121 = .ok (.if_icmp .ne 32, 3) := dk_160 0 32 (dk_at dksX6_item_5 2 rfl rfl)
theorem dX6_item_124 : decode cX6_item 124 = .ok (.aload_n 0, 1) := dk_42 (dk_at dksX6_item_5 5 rfl rfl)
theorem dX6_item_125 : decode cX6_item 125 = .ok (.getfield 51, 3) := dk_180 0 51 (dk_at dksX6_item_5 6 rfl rfl)
theorem dX6_item_128 : decode cX6_item 128 = .ok (.iload_n 1, 1) := dk_27 (dk_at dksX6_item_5 9 rfl rfl)
theorem dX6_item_129 : decode cX6_item 129 = .ok (.iaload, 1) := dk_46 (dk_at dksX6_item_5 10 rfl rfl)
theorem dX6_item_130 : decode cX6_item 130 = .ok (.bipush 6, 2) := dk_16 6 (dk_at dksX6_item_5 11 rfl rfl)
theorem dX6_item_132 : decode cX6_item 132 = .ok (.if_icmp .ge 21, 3) := dk_162 0 21 (dk_at dksX6_item_5 13 rfl rfl)
theorem dX6_item_135 : decode cX6_item 135 = .ok (.aload_n 0, 1) := dk_42 (dk_at dksX6_item_5 16 rfl rfl)
theorem dX6_item_136 : decode cX6_item 136 = .ok (.dup, 1) := dk_89 (dk_at dksX6_item_5 17 rfl rfl)
theorem dX6_item_137 : decode cX6_item 137 = .ok (.getfield 166, 3) := dk_180 0 166 (dk_at dksX6_item_5 18 rfl rfl)
theorem dX6_item_140 : decode cX6_item 140 = .ok (.iconst 1, 1) := dk_4 (dk_at dksX6_item_5 21 rfl rfl)
theorem dX6_item_141 : decode cX6_item 141 = .ok (.iadd, 1) := dk_96 (dk_at dksX6_item_5 22 rfl rfl)
theorem dX6_item_142 : decode cX6_item 142 = .ok (.putfield 166, 3) := dk_181 0 166 (dk_at dksX6_item_6 0 rfl rfl)
theorem dX6_item_145 : decode cX6_item 145 = .ok (.aload_n 0, 1) := dk_42 (dk_at dksX6_item_6 3 rfl rfl)
theorem dX6_item_146 : decode cX6_item 146 = .ok (.iload_n 1, 1) := dk_27 (dk_at dksX6_item_6 4 rfl rfl)
theorem dX6_item_147 : decode cX6_item 147 = .ok (.invokevirtual 242, 3) := dk_182 0 242 (dk_at dksX6_item_6 5 rfl rfl)
theorem dX6_item_150 : decode cX6_item 150 = .ok (.goto 125, 3) := dk_167 0 125 (dk_at dksX6_item_6 8 rfl rfl)
theorem dX6_item_153 : decode cX6_item 153 = .ok (.iload_n 2, 1) := dk_28 (dk_at dksX6_item_6 11 rfl rfl)
theorem dX6_item_154 : decode cX6_item 154 = .ok (.bipush 109, 2) := dk_16 109 (dk_at dksX6_item_6 12 rfl rfl)
theorem dX6_item_156 : decode cX6_item 156 = .ok (.if_icmp .ne 32, 3) := dk_160 0 32 (dk_at dksX6_item_6 14 rfl rfl)
theorem dX6_item_159 : decode cX6_item 159 = .ok (.aload_n 0, 1) := dk_42 (dk_at dksX6_item_6 17 rfl rfl)
theorem dX6_item_160 : decode cX6_item 160 = .ok (.getfield 60, 3) := dk_180 0 60 (dk_at dksX6_item_6 18 rfl rfl)
theorem dX6_item_163 : decode cX6_item 163 = .ok (.iload_n 1, 1) := dk_27 (dk_at dksX6_item_6 21 rfl rfl)
theorem dX6_item_164 : decode cX6_item 164 = .ok (.iaload, 1) := dk_46 (dk_at dksX6_item_6 22 rfl rfl)
theorem dX6_item_165 : decode cX6_item 165 = .ok (.bipush 12, 2) := dk_16 12 (dk_at dksX6_item_7 0 rfl rfl)
theorem dX6_item_167 : decode cX6_item 167 = .ok (.if_icmp .ge 21, 3) := dk_162 0 21 (dk_at dksX6_item_7 2 rfl rfl)
theorem dX6_item_170 : decode cX6_item 170 = .ok (.aload_n 0, 1) := dk_42 (dk_at dksX6_item_7 5 rfl rfl)
theorem dX6_item_171 : decode cX6_item 171 = .ok (.dup, 1) := dk_89 (dk_at dksX6_item_7 6 rfl rfl)
theorem dX6_item_172 : decode cX6_item 172 = .ok (.getfield 166, 3) := dk_180 0 166 (dk_at dksX6_item_7 7 rfl rfl)
theorem dX6_item_175 : decode cX6_item 175 = .ok (.iconst 1, 1) := dk_4 (dk_at dksX6_item_7 10 rfl rfl)
theorem dX6_item_176 : decode cX6_item 176 = .ok (.iadd, 1) := dk_96 (dk_at dksX6_item_7 11 rfl rfl)
theorem dX6_item_177 : decode cX6_item 177 = .ok (.putfield 166, 3) := dk_181 0 166 (dk_at dksX6_item_7 12 rfl rfl)
theorem dX6_item_180 : decode cX6_item 180 = .ok (.aload_n 0, 1) := dk_42 (dk_at dksX6_item_7 15 rfl rfl)
theorem dX6_item_181 : decode cX6_item 181 = .ok (.iload_n 1, 1) := dk_27 (dk_at dksX6_item_7 16 rfl rfl)
theorem dX6_item_182 : decode cX6_item 182 = .ok (.invokevirtual 245, 3) := dk_182 0 245 (dk_at dksX6_item_7 17 rfl rfl)
theorem dX6_item_185 : decode cX6_item 185 = .ok (.goto 90, 3) := dk_167 0 90 (dk_at dksX6_item_7 20 rfl rfl)
theorem dX6_item_188 : decode cX6_item 188 = .ok (.iload_n 2, 1) := dk_28 (dk_at dksX6_item_7 23 rfl rfl)
theorem dX6_item_189 : decode cX6_item 189 = .ok (.bipush 111, 2) := dk_16 111 (dk_at dksX6_item_8 0 rfl rfl)
theorem dX6_item_191 : decode cX6_item 191 = .ok (.if_icmp .ne 78, 3) := dk_160 0 78 (dk_at dksX6_item_8 2 rfl rfl)
theorem dX6_item_194 : decode cX6_item 194 = .ok (.aload_n 0, 1) := dk_42 (dk_at dksX6_item_8 5 rfl rfl)
theorem dX6_item_195 : decode cX6_item 195 = .ok (.dup, 1) := dk_89 (dk_at dksX6_item_8 6 rfl rfl)
theorem dX6_item_196 : decode cX6_item 196 = .ok (.getfield 166, 3) := dk_180 0 166 (dk_at dksX6_item_8 7 rfl rfl)
theorem dX6_item_199 : decode cX6_item 199 = .ok (.iconst 1, 1) := dk_4 (dk_at dksX6_item_8 10 rfl rfl)
theorem dX6_item_200 : decode cX6_item 200 = .ok (.iadd, 1) := dk_96 (dk_at dksX6_item_8 11 rfl rfl)
theorem dX6_item_201 : decode cX6_item 201 = .ok (.putfield 166, 3) := dk_181 0 166 (dk_at dksX6_item_8 12 rfl rfl)
theorem dX6_item_204 : decode cX6_item 204 = .ok (.aload_n 0, 1) := dk_42 (dk_at dksX6_item_8 15 rfl rfl)
theorem dX6_item_205 : decode cX6_item 205 = .ok (.iconst 1, 1) := dk_4 (dk_at dksX6_item_8 16 rfl rfl)
theorem dX6_item_206 : decode cX6_item 206 = .ok (.bipush 12, 2) := dk_16 12 (dk_at dksX6_item_8 17 rfl rfl)
theorem dX6_item_208 : decode cX6_item 208 = .ok (.invokevirtual 193, 3) := dk_182 0 193 (dk_at dksX6_item_8 19 rfl rfl)
theorem dX6_item_211 : decode cX6_item 211 = .ok (.istore_n 3, 1) := dk_62 (dk_at dksX6_item_8 22 rfl rfl)
theorem dX6_item_212 : decode cX6_item 212 = .ok (.aload_n 0, 1) := dk_42 (dk_at dksX6_item_8 23 rfl rfl)
theorem dX6_item_213 : decode cX6_item 213 = .ok (.getfield 173, 3) := dk_180 0 173 (dk_at dksX6_item_9 0 rfl rfl)
theorem dX6_item_216 : decode cX6_item 216 = .ok (.iconst (-1), 1) := dk_2 (dk_at dksX6_item_9 3 rfl rfl)
theorem dX6_item_217 : decode cX6_item 217 = .ok (.if_icmp .ne 21, 3) := dk_160 0 21 (dk_at dksX6_item_9 4 rfl rfl)
theorem dX6_item_220 : decode cX6_item 220 = .ok (.aload_n 0, 1) := dk_42 (dk_at dksX6_item_9 7 rfl rfl)
theorem dX6_item_221 : decode cX6_item 221 = .ok (.getfield 72, 3) := dk_180 0 72 (dk_at dksX6_item_9 8 rfl rfl)
theorem dX6_item_224 : decode cX6_item 224 = .ok (.iload_n 1, 1) := dk_27 (dk_at dksX6_item_9 11 rfl rfl)
theorem dX6_item_225 : decode cX6_item 225 = .ok (.iaload, 1) := dk_46 (dk_at dksX6_item_9 12 rfl rfl)
theorem dX6_item_226 : decode cX6_item 226 = .ok (.iload_n 3, 1) := dk_29 (dk_at dksX6_item_9 13 rfl rfl)
theorem dX6_item_227 : decode cX6_item 227 = .ok (.ishr, 1) := dk_122 (dk_at dksX6_item_9 14 rfl rfl)
theorem dX6_item_228 : decode cX6_item 228 = .ok (.iconst 1, 1) := dk_4 (dk_at dksX6_item_9 15 rfl rfl)
theorem dX6_item_229 : decode cX6_item 229 = .ok (.iand, 1) := dk_126 (dk_at dksX6_item_9 16 rfl rfl)
theorem dX6_item_230 : decode cX6_item 230 = .ok (.iconst 1, 1) := dk_4 (dk_at dksX6_item_9 17 rfl rfl)
theorem dX6_item_231 : decode cX6_item 231 = .ok (.if_icmp .ne 7, 3) := dk_160 0 7 (dk_at dksX6_item_9 18 rfl rfl)
theorem dX6_item_234 : decode cX6_item 234 = .ok (.aload_n 0, 1) := dk_42 (dk_at dksX6_item_9 21 rfl rfl)
theorem dX6_item_235 : decode cX6_item 235 = .ok (.invokevirtual 190, 3) := dk_182 0 190 (dk_at dksX6_item_10 0 rfl rfl)
theorem dX6_item_238 : decode cX6_item 238 = .ok (.aload_n 0, 1) := dk_42 (dk_at dksX6_item_10 3 rfl rfl)
theorem dX6_item_239 : decode cX6_item 239 = .ok (.invokevirtual 197, 3) := dk_182 0 197 (dk_at dksX6_item_10 4 rfl rfl)
theorem dX6_item_242 : decode cX6_item 242 = .ok (.aload_n 0, 1) := dk_42 (dk_at dksX6_item_10 7 rfl rfl)
theorem dX6_item_243 : decode cX6_item 243 = .ok (.getfield 72, 3) := dk_180 0 72 (dk_at dksX6_item_10 8 rfl rfl)
theorem dX6_item_246 : decode cX6_item 246 = .ok (.iload_n 1, 1) := dk_27 (dk_at dksX6_item_10 11 rfl rfl)
theorem dX6_item_247 : decode cX6_item 247 = .ok (.dup2, 1) := dk_92 (dk_at dksX6_item_10 12 rfl rfl)
theorem dX6_item_248 : decode cX6_item 248 = .ok (.iaload, 1) := dk_46 (dk_at dksX6_item_10 13 rfl rfl)
theorem dX6_item_249 : decode cX6_item 249 = .ok (.aload_n 0, 1) := dk_42 (dk_at dksX6_item_10 14 rfl rfl)
theorem dX6_item_250 : decode cX6_item 250 = .ok (.getfield 173, 3) := dk_180 0 173 (dk_at dksX6_item_10 15 rfl rfl)
theorem dX6_item_253 : decode cX6_item 253 = .ok (.iconst (-1), 1) := dk_2 (dk_at dksX6_item_10 18 rfl rfl)
theorem dX6_item_254 : decode cX6_item 254 = .ok (.if_icmp .ne 9, 3) := dk_160 0 9 (dk_at dksX6_item_10 19 rfl rfl)
theorem dX6_item_257 : decode cX6_item 257 = .ok (.iconst 1, 1) := dk_4 (dk_at dksX6_item_10 22 rfl rfl)
theorem dX6_item_258 : decode cX6_item 258 = .ok (.iload_n 3, 1) := dk_29 (dk_at dksX6_item_10 23 rfl rfl)
theorem dX6_item_259 : decode cX6_item 259 = .ok (.ishl, 1) := dk_120 (dk_at dksX6_item_11 0 rfl rfl)
theorem dX6_item_260 : decode cX6_item 260 = .ok (.goto 4, 3) := dk_167 0 4 (dk_at dksX6_item_11 1 rfl rfl)
theorem dX6_item_263 : decode cX6_item 263 = .ok (.iconst 0, 1) := dk_3 (dk_at dksX6_item_11 4 rfl rfl)
theorem dX6_item_264 : decode cX6_item 264 = .ok (.ior, 1) := dk_128 (dk_at dksX6_item_11 5 rfl rfl)
theorem dX6_item_265 : decode cX6_item 265 = .ok (.iastore, 1) := dk_79 (dk_at dksX6_item_11 6 rfl rfl)
theorem dX6_item_266 : decode cX6_item 266 = .ok (.goto 9, 3) := dk_167 0 9 (dk_at dksX6_item_11 7 rfl rfl)
theorem dX6_item_269 : decode cX6_item 269 = .ok (.aload_n 0, 1) := dk_42 (dk_at dksX6_item_11 10 rfl rfl)
theorem dX6_item_270 : decode cX6_item 270 = .ok (.iload_n 1, 1) := dk_27 (dk_at dksX6_item_11 11 rfl rfl)
theorem dX6_item_271 : decode cX6_item 271 = .ok (.iload_n 2, 1) := dk_28 (dk_at dksX6_item_11 12 rfl rfl)
theorem dX6_item_272 : decode cX6_item 272 = .ok (.invokevirtual 248, 3) := dk_182 0 248 (dk_at dksX6_item_11 13 rfl rfl)
theorem dX6_item_275 : decode cX6_item 275 = .ok (.return_, 1) := dk_177 (dk_at dksX6_item_11 16 rfl rfl)
abbrev cX6_readStep : ByteArray := prog_16_method_26_code
def yX6_readStep : MethodName := ⟨RX6, "readStep", "(I)V"⟩
def dkwX6_readStep_5 : List UInt8 := [177]
abbrev dktX6_readStep_5 : List UInt8 := dkwX6_readStep_5 ++ []
def dkwX6_readStep_4 : List UInt8 := [180, 0, 51, 27, 46, 96, 42, 3, 16, 99, 182, 0, 211, 79, 42, 180, 0, 51, 27, 92, 46, 4, 96, 79]
abbrev dktX6_readStep_4 : List UInt8 := dkwX6_readStep_4 ++ dktX6_readStep_5
def dkwX6_readStep_3 : List UInt8 := [16, 6, 27, 104, 42, 180, 0, 51, 27, 46, 96, 28, 79, 42, 180, 0, 57, 16, 6, 27, 104, 42]
abbrev dktX6_readStep_3 : List UInt8 := dkwX6_readStep_3 ++ dktX6_readStep_4
def dkwX6_readStep_2 : List UInt8 := [182, 0, 190, 132, 3, 1, 167, 255, 216, 42, 182, 0, 197, 42, 16, 58, 182, 0, 218, 42, 180, 0, 54]
abbrev dktX6_readStep_2 : List UInt8 := dkwX6_readStep_2 ++ dktX6_readStep_3
def dkwX6_readStep_1 : List UInt8 := [180, 0, 173, 2, 160, 0, 28, 42, 180, 0, 54, 16, 6, 27, 104, 29, 96, 46, 28, 160, 0, 7, 42]
abbrev dktX6_readStep_1 : List UInt8 := dkwX6_readStep_1 ++ dktX6_readStep_2
def dkwX6_readStep_0 : List UInt8 := [42, 4, 17, 1, 144, 182, 0, 193, 61, 3, 62, 29, 42, 180, 0, 51, 27, 46, 162, 0, 36, 42]
abbrev dktX6_readStep_0 : List UInt8 := dkwX6_readStep_0 ++ dktX6_readStep_1
theorem dksX6_readStep_0 : cX6_readStep.data.toList.drop 0 = dktX6_readStep_0 := by decide +kernel
theorem dksX6_readStep_1 : cX6_readStep.data.toList.drop 22 = dktX6_readStep_1 := dk_seg dksX6_readStep_0 22 rfl rfl
theorem dksX6_readStep_2 : cX6_readStep.data.toList.drop 45 = dktX6_readStep_2 := dk_seg dksX6_readStep_1 23 rfl rfl
theorem dksX6_readStep_3 : cX6_readStep.data.toList.drop 68 = dktX6_readStep_3 := dk_seg dksX6_readStep_2 23 rfl rfl
theorem dksX6_readStep_4 : cX6_readStep.data.toList.drop 90 = dktX6_readStep_4 := dk_seg dksX6_readStep_3 22 rfl rfl
theorem dksX6_readStep_5 : cX6_readStep.data.toList.drop 114 = dktX6_readStep_5 := dk_seg dksX6_readStep_4 24 rfl rfl
theorem dX6_readStep_0 : decode cX6_readStep 0 = .ok (.aload_n 0, 1) := dk_42 (dk_at dksX6_readStep_0 0 rfl rfl)
theorem dX6_readStep_1 : decode cX6_readStep 1 = .ok (.iconst 1, 1) := dk_4 (dk_at dksX6_readStep_0 1 rfl rfl)
theorem dX6_readStep_2 : decode cX6_readStep 2 = .ok (.sipush 400, 3) := dk_17 1 144 (dk_at dksX6_readStep_0 2 rfl rfl)
theorem dX6_readStep_5 : decode cX6_readStep 5 = .ok (.invokevirtual 193, 3) := dk_182 0 193 (dk_at dksX6_readStep_0 5 rfl rfl)
theorem dX6_readStep_8 : decode cX6_readStep 8 = .ok (.istore_n 2, 1) := dk_61 (dk_at dksX6_readStep_0 8 rfl rfl)
theorem dX6_readStep_9 : decode cX6_readStep 9 = .ok (.iconst 0, 1) := dk_3 (dk_at dksX6_readStep_0 9 rfl rfl)
theorem dX6_readStep_10 : decode cX6_readStep 10 = .ok (.istore_n 3, 1) := dk_62 (dk_at dksX6_readStep_0 10 rfl rfl)
theorem dX6_readStep_11 : decode cX6_readStep 11 = .ok (.iload_n 3, 1) := dk_29 (dk_at dksX6_readStep_0 11 rfl rfl)
theorem dX6_readStep_12 : decode cX6_readStep 12 = .ok (.aload_n 0, 1) := dk_42 (dk_at dksX6_readStep_0 12 rfl rfl)
theorem dX6_readStep_13 : decode cX6_readStep 13 = .ok (.getfield 51, 3) := dk_180 0 51 (dk_at dksX6_readStep_0 13 rfl rfl)
theorem dX6_readStep_16 : decode cX6_readStep 16 = .ok (.iload_n 1, 1) := dk_27 (dk_at dksX6_readStep_0 16 rfl rfl)
theorem dX6_readStep_17 : decode cX6_readStep 17 = .ok (.iaload, 1) := dk_46 (dk_at dksX6_readStep_0 17 rfl rfl)
theorem dX6_readStep_18 : decode cX6_readStep 18 = .ok (.if_icmp .ge 36, 3) := dk_162 0 36 (dk_at dksX6_readStep_0 18 rfl rfl)
theorem dX6_readStep_21 : decode cX6_readStep 21 = .ok (.aload_n 0, 1) := dk_42 (dk_at dksX6_readStep_0 21 rfl rfl)
theorem dX6_readStep_22 : decode cX6_readStep 22 = .ok (.getfield 173, 3) := dk_180 0 173 (dk_at dksX6_readStep_1 0 rfl rfl)
theorem dX6_readStep_25 : decode cX6_readStep 25 = .ok (.iconst (-1), 1) := dk_2 (dk_at dksX6_readStep_1 3 rfl rfl)
theorem dX6_readStep_26 : decode cX6_readStep 26 = .ok (.if_icmp .ne 28, 3) := dk_160 0 28 (dk_at dksX6_readStep_1 4 rfl rfl)
theorem dX6_readStep_29 : decode cX6_readStep 29 = .ok (.aload_n 0, 1) := dk_42 (dk_at dksX6_readStep_1 7 rfl rfl)
theorem dX6_readStep_30 : decode cX6_readStep 30 = .ok (.getfield 54, 3) := dk_180 0 54 (dk_at dksX6_readStep_1 8 rfl rfl)
theorem dX6_readStep_33 : decode cX6_readStep 33 = .ok (.bipush 6, 2) := dk_16 6 (dk_at dksX6_readStep_1 11 rfl rfl)
theorem dX6_readStep_35 : decode cX6_readStep 35 = .ok (.iload_n 1, 1) := dk_27 (dk_at dksX6_readStep_1 13 rfl rfl)
theorem dX6_readStep_36 : decode cX6_readStep 36 = .ok (.imul, 1) := dk_104 (dk_at dksX6_readStep_1 14 rfl rfl)
theorem dX6_readStep_37 : decode cX6_readStep 37 = .ok (.iload_n 3, 1) := dk_29 (dk_at dksX6_readStep_1 15 rfl rfl)
theorem dX6_readStep_38 : decode cX6_readStep 38 = .ok (.iadd, 1) := dk_96 (dk_at dksX6_readStep_1 16 rfl rfl)
theorem dX6_readStep_39 : decode cX6_readStep 39 = .ok (.iaload, 1) := dk_46 (dk_at dksX6_readStep_1 17 rfl rfl)
theorem dX6_readStep_40 : decode cX6_readStep 40 = .ok (.iload_n 2, 1) := dk_28 (dk_at dksX6_readStep_1 18 rfl rfl)
theorem dX6_readStep_41 : decode cX6_readStep 41 = .ok (.if_icmp .ne 7, 3) := dk_160 0 7 (dk_at dksX6_readStep_1 19 rfl rfl)
theorem dX6_readStep_44 : decode cX6_readStep 44 = .ok (.aload_n 0, 1) := dk_42 (dk_at dksX6_readStep_1 22 rfl rfl)
theorem dX6_readStep_45 : decode cX6_readStep 45 = .ok (.invokevirtual 190, 3) := dk_182 0 190 (dk_at dksX6_readStep_2 0 rfl rfl)
theorem dX6_readStep_48 : decode cX6_readStep 48 = .ok (.iinc 3 1, 3) := dk_132 3 1 (dk_at dksX6_readStep_2 3 rfl rfl)
theorem dX6_readStep_51 : decode cX6_readStep 51 = .ok (.goto (-40), 3) := dk_167 255 216 (dk_at dksX6_readStep_2 6 rfl rfl)
theorem dX6_readStep_54 : decode cX6_readStep 54 = .ok (.aload_n 0, 1) := dk_42 (dk_at dksX6_readStep_2 9 rfl rfl)
theorem dX6_readStep_55 : decode cX6_readStep 55 = .ok (.invokevirtual 197, 3) := dk_182 0 197 (dk_at dksX6_readStep_2 10 rfl rfl)
theorem dX6_readStep_58 : decode cX6_readStep 58 = .ok (.aload_n 0, 1) := dk_42 (dk_at dksX6_readStep_2 13 rfl rfl)
theorem dX6_readStep_59 : decode cX6_readStep 59 = .ok (.bipush 58, 2) := dk_16 58 (dk_at dksX6_readStep_2 14 rfl rfl)
theorem dX6_readStep_61 : decode cX6_readStep 61 = .ok (.invokevirtual 218, 3) := dk_182 0 218 (dk_at dksX6_readStep_2 16 rfl rfl)
theorem dX6_readStep_64 : decode cX6_readStep 64 = .ok (.aload_n 0, 1) := dk_42 (dk_at dksX6_readStep_2 19 rfl rfl)
theorem dX6_readStep_65 : decode cX6_readStep 65 = .ok (.getfield 54, 3) := dk_180 0 54 (dk_at dksX6_readStep_2 20 rfl rfl)
theorem dX6_readStep_68 : decode cX6_readStep 68 = .ok (.bipush 6, 2) := dk_16 6 (dk_at dksX6_readStep_3 0 rfl rfl)
theorem dX6_readStep_70 : decode cX6_readStep 70 = .ok (.iload_n 1, 1) := dk_27 (dk_at dksX6_readStep_3 2 rfl rfl)
theorem dX6_readStep_71 : decode cX6_readStep 71 = .ok (.imul, 1) := dk_104 (dk_at dksX6_readStep_3 3 rfl rfl)
theorem dX6_readStep_72 : decode cX6_readStep 72 = .ok (.aload_n 0, 1) := dk_42 (dk_at dksX6_readStep_3 4 rfl rfl)
theorem dX6_readStep_73 : decode cX6_readStep 73 = .ok (.getfield 51, 3) := dk_180 0 51 (dk_at dksX6_readStep_3 5 rfl rfl)
theorem dX6_readStep_76 : decode cX6_readStep 76 = .ok (.iload_n 1, 1) := dk_27 (dk_at dksX6_readStep_3 8 rfl rfl)
theorem dX6_readStep_77 : decode cX6_readStep 77 = .ok (.iaload, 1) := dk_46 (dk_at dksX6_readStep_3 9 rfl rfl)
theorem dX6_readStep_78 : decode cX6_readStep 78 = .ok (.iadd, 1) := dk_96 (dk_at dksX6_readStep_3 10 rfl rfl)
theorem dX6_readStep_79 : decode cX6_readStep 79 = .ok (.iload_n 2, 1) := dk_28 (dk_at dksX6_readStep_3 11 rfl rfl)
theorem dX6_readStep_80 : decode cX6_readStep 80 = .ok (.iastore, 1) := dk_79 (dk_at dksX6_readStep_3 12 rfl rfl)
theorem dX6_readStep_81 : decode cX6_readStep 81 = .ok (.aload_n 0, 1) := dk_42 (dk_at dksX6_readStep_3 13 rfl rfl)
theorem dX6_readStep_82 : decode cX6_readStep 82 = .ok (.getfield 57, 3) := dk_180 0 57 (dk_at dksX6_readStep_3 14 rfl rfl)
theorem dX6_readStep_85 : decode cX6_readStep 85 = .ok (.bipush 6, 2) := dk_16 6 (dk_at dksX6_readStep_3 17 rfl rfl)
theorem dX6_readStep_87 : decode cX6_readStep 87 = .ok (.iload_n 1, 1) := dk_27 (dk_at dksX6_readStep_3 19 rfl rfl)
theorem dX6_readStep_88 : decode cX6_readStep 88 = .ok (.imul, 1) := dk_104 (dk_at dksX6_readStep_3 20 rfl rfl)
theorem dX6_readStep_89 : decode cX6_readStep 89 = .ok (.aload_n 0, 1) := dk_42 (dk_at dksX6_readStep_3 21 rfl rfl)
theorem dX6_readStep_90 : decode cX6_readStep 90 = .ok (.getfield 51, 3) := dk_180 0 51 (dk_at dksX6_readStep_4 0 rfl rfl)
theorem dX6_readStep_93 : decode cX6_readStep 93 = .ok (.iload_n 1, 1) := dk_27 (dk_at dksX6_readStep_4 3 rfl rfl)
theorem dX6_readStep_94 : decode cX6_readStep 94 = .ok (.iaload, 1) := dk_46 (dk_at dksX6_readStep_4 4 rfl rfl)
theorem dX6_readStep_95 : decode cX6_readStep 95 = .ok (.iadd, 1) := dk_96 (dk_at dksX6_readStep_4 5 rfl rfl)
theorem dX6_readStep_96 : decode cX6_readStep 96 = .ok (.aload_n 0, 1) := dk_42 (dk_at dksX6_readStep_4 6 rfl rfl)
theorem dX6_readStep_97 : decode cX6_readStep 97 = .ok (.iconst 0, 1) := dk_3 (dk_at dksX6_readStep_4 7 rfl rfl)
theorem dX6_readStep_98 : decode cX6_readStep 98 = .ok (.bipush 99, 2) := dk_16 99 (dk_at dksX6_readStep_4 8 rfl rfl)
theorem dX6_readStep_100 : decode cX6_readStep 100 = .ok (.invokevirtual 211, 3) := dk_182 0 211 (dk_at dksX6_readStep_4 10 rfl rfl)
theorem dX6_readStep_103 : decode cX6_readStep 103 = .ok (.iastore, 1) := dk_79 (dk_at dksX6_readStep_4 13 rfl rfl)
theorem dX6_readStep_104 : decode cX6_readStep 104 = .ok (.aload_n 0, 1) := dk_42 (dk_at dksX6_readStep_4 14 rfl rfl)
theorem dX6_readStep_105 : decode cX6_readStep 105 = .ok (.getfield 51, 3) := dk_180 0 51 (dk_at dksX6_readStep_4 15 rfl rfl)
theorem dX6_readStep_108 : decode cX6_readStep 108 = .ok (.iload_n 1, 1) := dk_27 (dk_at dksX6_readStep_4 18 rfl rfl)
theorem dX6_readStep_109 : decode cX6_readStep 109 = .ok (.dup2, 1) := dk_92 (dk_at dksX6_readStep_4 19 rfl rfl)
theorem dX6_readStep_110 : decode cX6_readStep 110 = .ok (.iaload, 1) := dk_46 (dk_at dksX6_readStep_4 20 rfl rfl)
theorem dX6_readStep_111 : decode cX6_readStep 111 = .ok (.iconst 1, 1) := dk_4 (dk_at dksX6_readStep_4 21 rfl rfl)
theorem dX6_readStep_112 : decode cX6_readStep 112 = .ok (.iadd, 1) := dk_96 (dk_at dksX6_readStep_4 22 rfl rfl)
theorem dX6_readStep_113 : decode cX6_readStep 113 = .ok (.iastore, 1) := dk_79 (dk_at dksX6_readStep_4 23 rfl rfl)
theorem dX6_readStep_114 : decode cX6_readStep 114 = .ok (.return_, 1) := dk_177 (dk_at dksX6_readStep_5 0 rfl rfl)
abbrev cX6_readLike : ByteArray := prog_16_method_27_code
def yX6_readLike : MethodName := ⟨RX6, "readLike", "(I)V"⟩
def dkwX6_readLike_4 : List UInt8 := [180, 0, 60, 27, 92, 46, 4, 96, 79, 177]
abbrev dktX6_readLike_4 : List UInt8 := dkwX6_readLike_4 ++ []
def dkwX6_readLike_3 : List UInt8 := [182, 0, 197, 42, 16, 58, 182, 0, 218, 42, 180, 0, 69, 28, 42, 3, 16, 99, 182, 0, 211, 79, 42]
abbrev dktX6_readLike_3 : List UInt8 := dkwX6_readLike_3 ++ dktX6_readLike_4
def dkwX6_readLike_2 : List UInt8 := [2, 160, 0, 22, 42, 180, 0, 66, 28, 46, 42, 180, 0, 63, 28, 46, 160, 0, 7, 42, 182, 0, 190, 42]
abbrev dktX6_readLike_2 : List UInt8 := dkwX6_readLike_2 ++ dktX6_readLike_3
def dkwX6_readLike_1 : List UInt8 := [79, 42, 16, 61, 182, 0, 218, 42, 180, 0, 66, 28, 42, 4, 16, 12, 182, 0, 193, 79, 42, 180, 0, 173]
abbrev dktX6_readLike_1 : List UInt8 := dkwX6_readLike_1 ++ dktX6_readLike_2
def dkwX6_readLike_0 : List UInt8 := [16, 12, 27, 104, 42, 180, 0, 60, 27, 46, 96, 61, 42, 180, 0, 63, 28, 42, 4, 16, 12, 182, 0, 211]
abbrev dktX6_readLike_0 : List UInt8 := dkwX6_readLike_0 ++ dktX6_readLike_1
theorem dksX6_readLike_0 : cX6_readLike.data.toList.drop 0 = dktX6_readLike_0 := by decide +kernel
theorem dksX6_readLike_1 : cX6_readLike.data.toList.drop 24 = dktX6_readLike_1 := dk_seg dksX6_readLike_0 24 rfl rfl
theorem dksX6_readLike_2 : cX6_readLike.data.toList.drop 48 = dktX6_readLike_2 := dk_seg dksX6_readLike_1 24 rfl rfl
theorem dksX6_readLike_3 : cX6_readLike.data.toList.drop 72 = dktX6_readLike_3 := dk_seg dksX6_readLike_2 24 rfl rfl
theorem dksX6_readLike_4 : cX6_readLike.data.toList.drop 95 = dktX6_readLike_4 := dk_seg dksX6_readLike_3 23 rfl rfl
theorem dX6_readLike_0 : decode cX6_readLike 0 = .ok (.bipush 12, 2) := dk_16 12 (dk_at dksX6_readLike_0 0 rfl rfl)
theorem dX6_readLike_2 : decode cX6_readLike 2 = .ok (.iload_n 1, 1) := dk_27 (dk_at dksX6_readLike_0 2 rfl rfl)
theorem dX6_readLike_3 : decode cX6_readLike 3 = .ok (.imul, 1) := dk_104 (dk_at dksX6_readLike_0 3 rfl rfl)
theorem dX6_readLike_4 : decode cX6_readLike 4 = .ok (.aload_n 0, 1) := dk_42 (dk_at dksX6_readLike_0 4 rfl rfl)
theorem dX6_readLike_5 : decode cX6_readLike 5 = .ok (.getfield 60, 3) := dk_180 0 60 (dk_at dksX6_readLike_0 5 rfl rfl)
theorem dX6_readLike_8 : decode cX6_readLike 8 = .ok (.iload_n 1, 1) := dk_27 (dk_at dksX6_readLike_0 8 rfl rfl)
theorem dX6_readLike_9 : decode cX6_readLike 9 = .ok (.iaload, 1) := dk_46 (dk_at dksX6_readLike_0 9 rfl rfl)
theorem dX6_readLike_10 : decode cX6_readLike 10 = .ok (.iadd, 1) := dk_96 (dk_at dksX6_readLike_0 10 rfl rfl)
theorem dX6_readLike_11 : decode cX6_readLike 11 = .ok (.istore_n 2, 1) := dk_61 (dk_at dksX6_readLike_0 11 rfl rfl)
theorem dX6_readLike_12 : decode cX6_readLike 12 = .ok (.aload_n 0, 1) := dk_42 (dk_at dksX6_readLike_0 12 rfl rfl)
theorem dX6_readLike_13 : decode cX6_readLike 13 = .ok (.getfield 63, 3) := dk_180 0 63 (dk_at dksX6_readLike_0 13 rfl rfl)
theorem dX6_readLike_16 : decode cX6_readLike 16 = .ok (.iload_n 2, 1) := dk_28 (dk_at dksX6_readLike_0 16 rfl rfl)
theorem dX6_readLike_17 : decode cX6_readLike 17 = .ok (.aload_n 0, 1) := dk_42 (dk_at dksX6_readLike_0 17 rfl rfl)
theorem dX6_readLike_18 : decode cX6_readLike 18 = .ok (.iconst 1, 1) := dk_4 (dk_at dksX6_readLike_0 18 rfl rfl)
theorem dX6_readLike_19 : decode cX6_readLike 19 = .ok (.bipush 12, 2) := dk_16 12 (dk_at dksX6_readLike_0 19 rfl rfl)
theorem dX6_readLike_21 : decode cX6_readLike 21 = .ok (.invokevirtual 211, 3) := dk_182 0 211 (dk_at dksX6_readLike_0 21 rfl rfl)
theorem dX6_readLike_24 : decode cX6_readLike 24 = .ok (.iastore, 1) := dk_79 (dk_at dksX6_readLike_1 0 rfl rfl)
theorem dX6_readLike_25 : decode cX6_readLike 25 = .ok (.aload_n 0, 1) := dk_42 (dk_at dksX6_readLike_1 1 rfl rfl)
theorem dX6_readLike_26 : decode cX6_readLike 26 = .ok (.bipush 61, 2) := dk_16 61 (dk_at dksX6_readLike_1 2 rfl rfl)
theorem dX6_readLike_28 : decode cX6_readLike 28 = .ok (.invokevirtual 218, 3) := dk_182 0 218 (dk_at dksX6_readLike_1 4 rfl rfl)
theorem dX6_readLike_31 : decode cX6_readLike 31 = .ok (.aload_n 0, 1) := dk_42 (dk_at dksX6_readLike_1 7 rfl rfl)
theorem dX6_readLike_32 : decode cX6_readLike 32 = .ok (.getfield 66, 3) := dk_180 0 66 (dk_at dksX6_readLike_1 8 rfl rfl)
theorem dX6_readLike_35 : decode cX6_readLike 35 = .ok (.iload_n 2, 1) := dk_28 (dk_at dksX6_readLike_1 11 rfl rfl)
theorem dX6_readLike_36 : decode cX6_readLike 36 = .ok (.aload_n 0, 1) := dk_42 (dk_at dksX6_readLike_1 12 rfl rfl)
theorem dX6_readLike_37 : decode cX6_readLike 37 = .ok (.iconst 1, 1) := dk_4 (dk_at dksX6_readLike_1 13 rfl rfl)
theorem dX6_readLike_38 : decode cX6_readLike 38 = .ok (.bipush 12, 2) := dk_16 12 (dk_at dksX6_readLike_1 14 rfl rfl)
theorem dX6_readLike_40 : decode cX6_readLike 40 = .ok (.invokevirtual 193, 3) := dk_182 0 193 (dk_at dksX6_readLike_1 16 rfl rfl)
theorem dX6_readLike_43 : decode cX6_readLike 43 = .ok (.iastore, 1) := dk_79 (dk_at dksX6_readLike_1 19 rfl rfl)
theorem dX6_readLike_44 : decode cX6_readLike 44 = .ok (.aload_n 0, 1) := dk_42 (dk_at dksX6_readLike_1 20 rfl rfl)
theorem dX6_readLike_45 : decode cX6_readLike 45 = .ok (.getfield 173, 3) := dk_180 0 173 (dk_at dksX6_readLike_1 21 rfl rfl)
theorem dX6_readLike_48 : decode cX6_readLike 48 = .ok (.iconst (-1), 1) := dk_2 (dk_at dksX6_readLike_2 0 rfl rfl)
theorem dX6_readLike_49 : decode cX6_readLike 49 = .ok (.if_icmp .ne 22, 3) := dk_160 0 22 (dk_at dksX6_readLike_2 1 rfl rfl)
theorem dX6_readLike_52 : decode cX6_readLike 52 = .ok (.aload_n 0, 1) := dk_42 (dk_at dksX6_readLike_2 4 rfl rfl)
theorem dX6_readLike_53 : decode cX6_readLike 53 = .ok (.getfield 66, 3) := dk_180 0 66 (dk_at dksX6_readLike_2 5 rfl rfl)
theorem dX6_readLike_56 : decode cX6_readLike 56 = .ok (.iload_n 2, 1) := dk_28 (dk_at dksX6_readLike_2 8 rfl rfl)
theorem dX6_readLike_57 : decode cX6_readLike 57 = .ok (.iaload, 1) := dk_46 (dk_at dksX6_readLike_2 9 rfl rfl)
theorem dX6_readLike_58 : decode cX6_readLike 58 = .ok (.aload_n 0, 1) := dk_42 (dk_at dksX6_readLike_2 10 rfl rfl)
theorem dX6_readLike_59 : decode cX6_readLike 59 = .ok (.getfield 63, 3) := dk_180 0 63 (dk_at dksX6_readLike_2 11 rfl rfl)
theorem dX6_readLike_62 : decode cX6_readLike 62 = .ok (.iload_n 2, 1) := dk_28 (dk_at dksX6_readLike_2 14 rfl rfl)
theorem dX6_readLike_63 : decode cX6_readLike 63 = .ok (.iaload, 1) := dk_46 (dk_at dksX6_readLike_2 15 rfl rfl)
theorem dX6_readLike_64 : decode cX6_readLike 64 = .ok (.if_icmp .ne 7, 3) := dk_160 0 7 (dk_at dksX6_readLike_2 16 rfl rfl)
theorem dX6_readLike_67 : decode cX6_readLike 67 = .ok (.aload_n 0, 1) := dk_42 (dk_at dksX6_readLike_2 19 rfl rfl)
theorem dX6_readLike_68 : decode cX6_readLike 68 = .ok (.invokevirtual 190, 3) := dk_182 0 190 (dk_at dksX6_readLike_2 20 rfl rfl)
theorem dX6_readLike_71 : decode cX6_readLike 71 = .ok (.aload_n 0, 1) := dk_42 (dk_at dksX6_readLike_2 23 rfl rfl)
theorem dX6_readLike_72 : decode cX6_readLike 72 = .ok (.invokevirtual 197, 3) := dk_182 0 197 (dk_at dksX6_readLike_3 0 rfl rfl)
theorem dX6_readLike_75 : decode cX6_readLike 75 = .ok (.aload_n 0, 1) := dk_42 (dk_at dksX6_readLike_3 3 rfl rfl)
theorem dX6_readLike_76 : decode cX6_readLike 76 = .ok (.bipush 58, 2) := dk_16 58 (dk_at dksX6_readLike_3 4 rfl rfl)
theorem dX6_readLike_78 : decode cX6_readLike 78 = .ok (.invokevirtual 218, 3) := dk_182 0 218 (dk_at dksX6_readLike_3 6 rfl rfl)
theorem dX6_readLike_81 : decode cX6_readLike 81 = .ok (.aload_n 0, 1) := dk_42 (dk_at dksX6_readLike_3 9 rfl rfl)
theorem dX6_readLike_82 : decode cX6_readLike 82 = .ok (.getfield 69, 3) := dk_180 0 69 (dk_at dksX6_readLike_3 10 rfl rfl)
theorem dX6_readLike_85 : decode cX6_readLike 85 = .ok (.iload_n 2, 1) := dk_28 (dk_at dksX6_readLike_3 13 rfl rfl)
theorem dX6_readLike_86 : decode cX6_readLike 86 = .ok (.aload_n 0, 1) := dk_42 (dk_at dksX6_readLike_3 14 rfl rfl)
theorem dX6_readLike_87 : decode cX6_readLike 87 = .ok (.iconst 0, 1) := dk_3 (dk_at dksX6_readLike_3 15 rfl rfl)
theorem dX6_readLike_88 : decode cX6_readLike 88 = .ok (.bipush 99, 2) := dk_16 99 (dk_at dksX6_readLike_3 16 rfl rfl)
theorem dX6_readLike_90 : decode cX6_readLike 90 = .ok (.invokevirtual 211, 3) := dk_182 0 211 (dk_at dksX6_readLike_3 18 rfl rfl)
theorem dX6_readLike_93 : decode cX6_readLike 93 = .ok (.iastore, 1) := dk_79 (dk_at dksX6_readLike_3 21 rfl rfl)
theorem dX6_readLike_94 : decode cX6_readLike 94 = .ok (.aload_n 0, 1) := dk_42 (dk_at dksX6_readLike_3 22 rfl rfl)
theorem dX6_readLike_95 : decode cX6_readLike 95 = .ok (.getfield 60, 3) := dk_180 0 60 (dk_at dksX6_readLike_4 0 rfl rfl)
theorem dX6_readLike_98 : decode cX6_readLike 98 = .ok (.iload_n 1, 1) := dk_27 (dk_at dksX6_readLike_4 3 rfl rfl)
theorem dX6_readLike_99 : decode cX6_readLike 99 = .ok (.dup2, 1) := dk_92 (dk_at dksX6_readLike_4 4 rfl rfl)
theorem dX6_readLike_100 : decode cX6_readLike 100 = .ok (.iaload, 1) := dk_46 (dk_at dksX6_readLike_4 5 rfl rfl)
theorem dX6_readLike_101 : decode cX6_readLike 101 = .ok (.iconst 1, 1) := dk_4 (dk_at dksX6_readLike_4 6 rfl rfl)
theorem dX6_readLike_102 : decode cX6_readLike 102 = .ok (.iadd, 1) := dk_96 (dk_at dksX6_readLike_4 7 rfl rfl)
theorem dX6_readLike_103 : decode cX6_readLike 103 = .ok (.iastore, 1) := dk_79 (dk_at dksX6_readLike_4 8 rfl rfl)
theorem dX6_readLike_104 : decode cX6_readLike 104 = .ok (.return_, 1) := dk_177 (dk_at dksX6_readLike_4 9 rfl rfl)
abbrev cX6_readCost : ByteArray := prog_16_method_28_code
def yX6_readCost : MethodName := ⟨RX6, "readCost", "(II)V"⟩
def dkwX6_readCost_4 : List UInt8 := [42, 3, 16, 99, 182, 0, 211, 79, 177]
abbrev dktX6_readCost_4 : List UInt8 := dkwX6_readCost_4 ++ []
def dkwX6_readCost_3 : List UInt8 := [120, 128, 181, 0, 251, 42, 89, 180, 0, 166, 4, 96, 181, 0, 166, 42, 180, 0, 75, 7, 27, 104, 29, 96]
abbrev dktX6_readCost_3 : List UInt8 := dkwX6_readCost_3 ++ dktX6_readCost_4
def dkwX6_readCost_2 : List UInt8 := [42, 180, 0, 251, 29, 122, 4, 126, 4, 160, 0, 8, 42, 182, 0, 179, 177, 42, 89, 180, 0, 251, 4, 29]
abbrev dktX6_readCost_2 : List UInt8 := dkwX6_readCost_2 ++ dktX6_readCost_3
def dkwX6_readCost_1 : List UInt8 := [160, 0, 7, 5, 167, 0, 14, 28, 16, 108, 160, 0, 7, 6, 167, 0, 4, 2, 62, 29, 2, 159, 0, 15]
abbrev dktX6_readCost_1 : List UInt8 := dkwX6_readCost_1 ++ dktX6_readCost_2
def dkwX6_readCost_0 : List UInt8 := [28, 16, 115, 160, 0, 7, 3, 167, 0, 34, 28, 16, 114, 160, 0, 7, 4, 167, 0, 24, 28, 16, 98]
abbrev dktX6_readCost_0 : List UInt8 := dkwX6_readCost_0 ++ dktX6_readCost_1
theorem dksX6_readCost_0 : cX6_readCost.data.toList.drop 0 = dktX6_readCost_0 := by decide +kernel
theorem dksX6_readCost_1 : cX6_readCost.data.toList.drop 23 = dktX6_readCost_1 := dk_seg dksX6_readCost_0 23 rfl rfl
theorem dksX6_readCost_2 : cX6_readCost.data.toList.drop 47 = dktX6_readCost_2 := dk_seg dksX6_readCost_1 24 rfl rfl
theorem dksX6_readCost_3 : cX6_readCost.data.toList.drop 71 = dktX6_readCost_3 := dk_seg dksX6_readCost_2 24 rfl rfl
theorem dksX6_readCost_4 : cX6_readCost.data.toList.drop 95 = dktX6_readCost_4 := dk_seg dksX6_readCost_3 24 rfl rfl
theorem dX6_readCost_0 : decode cX6_readCost 0 = .ok (.iload_n 2, 1) := dk_28 (dk_at dksX6_readCost_0 0 rfl rfl)
theorem dX6_readCost_1 : decode cX6_readCost 1 = .ok (.bipush 115, 2) := dk_16 115 (dk_at dksX6_readCost_0 1 rfl rfl)
theorem dX6_readCost_3 : decode cX6_readCost 3 = .ok (.if_icmp .ne 7, 3) := dk_160 0 7 (dk_at dksX6_readCost_0 3 rfl rfl)
theorem dX6_readCost_6 : decode cX6_readCost 6 = .ok (.iconst 0, 1) := dk_3 (dk_at dksX6_readCost_0 6 rfl rfl)
theorem dX6_readCost_7 : decode cX6_readCost 7 = .ok (.goto 34, 3) := dk_167 0 34 (dk_at dksX6_readCost_0 7 rfl rfl)
theorem dX6_readCost_10 : decode cX6_readCost 10 = .ok (.iload_n 2, 1) := dk_28 (dk_at dksX6_readCost_0 10 rfl rfl)
theorem dX6_readCost_11 : decode cX6_readCost 11 = .ok (.bipush 114, 2) := dk_16 114 (dk_at dksX6_readCost_0 11 rfl rfl)
theorem dX6_readCost_13 : decode cX6_readCost 13 = .ok (.if_icmp .ne 7, 3) := dk_160 0 7 (dk_at dksX6_readCost_0 13 rfl rfl)
theorem dX6_readCost_16 : decode cX6_readCost 16 = .ok (.iconst 1, 1) := dk_4 (dk_at dksX6_readCost_0 16 rfl rfl)
theorem dX6_readCost_17 : decode cX6_readCost 17 = .ok (.goto 24, 3) := dk_167 0 24 (dk_at dksX6_readCost_0 17 rfl rfl)
theorem dX6_readCost_20 : decode cX6_readCost 20 = .ok (.iload_n 2, 1) := dk_28 (dk_at dksX6_readCost_0 20 rfl rfl)
theorem dX6_readCost_21 : decode cX6_readCost 21 = .ok (.bipush 98, 2) := dk_16 98 (dk_at dksX6_readCost_0 21 rfl rfl)
theorem dX6_readCost_23 : decode cX6_readCost 23 = .ok (.if_icmp .ne 7, 3) := dk_160 0 7 (dk_at dksX6_readCost_1 0 rfl rfl)
theorem dX6_readCost_26 : decode cX6_readCost 26 = .ok (.iconst 2, 1) := dk_5 (dk_at dksX6_readCost_1 3 rfl rfl)
theorem dX6_readCost_27 : decode cX6_readCost 27 = .ok (.goto 14, 3) := dk_167 0 14 (dk_at dksX6_readCost_1 4 rfl rfl)
theorem dX6_readCost_30 : decode cX6_readCost 30 = .ok (.iload_n 2, 1) := dk_28 (dk_at dksX6_readCost_1 7 rfl rfl)
theorem dX6_readCost_31 : decode cX6_readCost 31 = .ok (.bipush 108, 2) := dk_16 108 (dk_at dksX6_readCost_1 8 rfl rfl)
theorem dX6_readCost_33 : decode cX6_readCost 33 = .ok (.if_icmp .ne 7, 3) := dk_160 0 7 (dk_at dksX6_readCost_1 10 rfl rfl)
theorem dX6_readCost_36 : decode cX6_readCost 36 = .ok (.iconst 3, 1) := dk_6 (dk_at dksX6_readCost_1 13 rfl rfl)
theorem dX6_readCost_37 : decode cX6_readCost 37 = .ok (.goto 4, 3) := dk_167 0 4 (dk_at dksX6_readCost_1 14 rfl rfl)
theorem dX6_readCost_40 : decode cX6_readCost 40 = .ok (.iconst (-1), 1) := dk_2 (dk_at dksX6_readCost_1 17 rfl rfl)
theorem dX6_readCost_41 : decode cX6_readCost 41 = .ok (.istore_n 3, 1) := dk_62 (dk_at dksX6_readCost_1 18 rfl rfl)
theorem dX6_readCost_42 : decode cX6_readCost 42 = .ok (.iload_n 3, 1) := dk_29 (dk_at dksX6_readCost_1 19 rfl rfl)
theorem dX6_readCost_43 : decode cX6_readCost 43 = .ok (.iconst (-1), 1) := dk_2 (dk_at dksX6_readCost_1 20 rfl rfl)
theorem dX6_readCost_44 : decode cX6_readCost 44 = .ok (.if_icmp .eq 15, 3) := dk_159 0 15 (dk_at dksX6_readCost_1 21 rfl rfl)
theorem dX6_readCost_47 : decode cX6_readCost 47 = .ok (.aload_n 0, 1) := dk_42 (dk_at dksX6_readCost_2 0 rfl rfl)
theorem dX6_readCost_48 : decode cX6_readCost 48 = .ok (.getfield 251, 3) := dk_180 0 251 (dk_at dksX6_readCost_2 1 rfl rfl)
theorem dX6_readCost_51 : decode cX6_readCost 51 = .ok (.iload_n 3, 1) := dk_29 (dk_at dksX6_readCost_2 4 rfl rfl)
theorem dX6_readCost_52 : decode cX6_readCost 52 = .ok (.ishr, 1) := dk_122 (dk_at dksX6_readCost_2 5 rfl rfl)
theorem dX6_readCost_53 : decode cX6_readCost 53 = .ok (.iconst 1, 1) := dk_4 (dk_at dksX6_readCost_2 6 rfl rfl)
theorem dX6_readCost_54 : decode cX6_readCost 54 = .ok (.iand, 1) := dk_126 (dk_at dksX6_readCost_2 7 rfl rfl)
theorem dX6_readCost_55 : decode cX6_readCost 55 = .ok (.iconst 1, 1) := dk_4 (dk_at dksX6_readCost_2 8 rfl rfl)
theorem dX6_readCost_56 : decode cX6_readCost 56 = .ok (.if_icmp .ne 8, 3) := dk_160 0 8 (dk_at dksX6_readCost_2 9 rfl rfl)
theorem dX6_readCost_59 : decode cX6_readCost 59 = .ok (.aload_n 0, 1) := dk_42 (dk_at dksX6_readCost_2 12 rfl rfl)
theorem dX6_readCost_60 : decode cX6_readCost 60 = .ok (.invokevirtual 179, 3) := dk_182 0 179 (dk_at dksX6_readCost_2 13 rfl rfl)
theorem dX6_readCost_63 : decode cX6_readCost 63 = .ok (.return_, 1) := dk_177 (dk_at dksX6_readCost_2 16 rfl rfl)
theorem dX6_readCost_64 : decode cX6_readCost 64 = .ok (.aload_n 0, 1) := dk_42 (dk_at dksX6_readCost_2 17 rfl rfl)
theorem dX6_readCost_65 : decode cX6_readCost 65 = .ok (.dup, 1) := dk_89 (dk_at dksX6_readCost_2 18 rfl rfl)
theorem dX6_readCost_66 : decode cX6_readCost 66 = .ok (.getfield 251, 3) := dk_180 0 251 (dk_at dksX6_readCost_2 19 rfl rfl)
theorem dX6_readCost_69 : decode cX6_readCost 69 = .ok (.iconst 1, 1) := dk_4 (dk_at dksX6_readCost_2 22 rfl rfl)
theorem dX6_readCost_70 : decode cX6_readCost 70 = .ok (.iload_n 3, 1) := dk_29 (dk_at dksX6_readCost_2 23 rfl rfl)
theorem dX6_readCost_71 : decode cX6_readCost 71 = .ok (.ishl, 1) := dk_120 (dk_at dksX6_readCost_3 0 rfl rfl)
theorem dX6_readCost_72 : decode cX6_readCost 72 = .ok (.ior, 1) := dk_128 (dk_at dksX6_readCost_3 1 rfl rfl)
theorem dX6_readCost_73 : decode cX6_readCost 73 = .ok (.putfield 251, 3) := dk_181 0 251 (dk_at dksX6_readCost_3 2 rfl rfl)
theorem dX6_readCost_76 : decode cX6_readCost 76 = .ok (.aload_n 0, 1) := dk_42 (dk_at dksX6_readCost_3 5 rfl rfl)
theorem dX6_readCost_77 : decode cX6_readCost 77 = .ok (.dup, 1) := dk_89 (dk_at dksX6_readCost_3 6 rfl rfl)
theorem dX6_readCost_78 : decode cX6_readCost 78 = .ok (.getfield 166, 3) := dk_180 0 166 (dk_at dksX6_readCost_3 7 rfl rfl)
theorem dX6_readCost_81 : decode cX6_readCost 81 = .ok (.iconst 1, 1) := dk_4 (dk_at dksX6_readCost_3 10 rfl rfl)
theorem dX6_readCost_82 : decode cX6_readCost 82 = .ok (.iadd, 1) := dk_96 (dk_at dksX6_readCost_3 11 rfl rfl)
theorem dX6_readCost_83 : decode cX6_readCost 83 = .ok (.putfield 166, 3) := dk_181 0 166 (dk_at dksX6_readCost_3 12 rfl rfl)
theorem dX6_readCost_86 : decode cX6_readCost 86 = .ok (.aload_n 0, 1) := dk_42 (dk_at dksX6_readCost_3 15 rfl rfl)
theorem dX6_readCost_87 : decode cX6_readCost 87 = .ok (.getfield 75, 3) := dk_180 0 75 (dk_at dksX6_readCost_3 16 rfl rfl)
theorem dX6_readCost_90 : decode cX6_readCost 90 = .ok (.iconst 4, 1) := dk_7 (dk_at dksX6_readCost_3 19 rfl rfl)
theorem dX6_readCost_91 : decode cX6_readCost 91 = .ok (.iload_n 1, 1) := dk_27 (dk_at dksX6_readCost_3 20 rfl rfl)
theorem dX6_readCost_92 : decode cX6_readCost 92 = .ok (.imul, 1) := dk_104 (dk_at dksX6_readCost_3 21 rfl rfl)
theorem dX6_readCost_93 : decode cX6_readCost 93 = .ok (.iload_n 3, 1) := dk_29 (dk_at dksX6_readCost_3 22 rfl rfl)
theorem dX6_readCost_94 : decode cX6_readCost 94 = .ok (.iadd, 1) := dk_96 (dk_at dksX6_readCost_3 23 rfl rfl)
theorem dX6_readCost_95 : decode cX6_readCost 95 = .ok (.aload_n 0, 1) := dk_42 (dk_at dksX6_readCost_4 0 rfl rfl)
theorem dX6_readCost_96 : decode cX6_readCost 96 = .ok (.iconst 0, 1) := dk_3 (dk_at dksX6_readCost_4 1 rfl rfl)
theorem dX6_readCost_97 : decode cX6_readCost 97 = .ok (.bipush 99, 2) := dk_16 99 (dk_at dksX6_readCost_4 2 rfl rfl)
theorem dX6_readCost_99 : decode cX6_readCost 99 = .ok (.invokevirtual 211, 3) := dk_182 0 211 (dk_at dksX6_readCost_4 4 rfl rfl)
theorem dX6_readCost_102 : decode cX6_readCost 102 = .ok (.iastore, 1) := dk_79 (dk_at dksX6_readCost_4 7 rfl rfl)
theorem dX6_readCost_103 : decode cX6_readCost 103 = .ok (.return_, 1) := dk_177 (dk_at dksX6_readCost_4 8 rfl rfl)
abbrev cX6_readRow : ByteArray := prog_16_method_95_code
def yX6_readRow : MethodName := ⟨RX6, "readRow", "(Z)I"⟩
def dkwX6_readRow_5 : List UInt8 := [172]
abbrev dktX6_readRow_5 : List UInt8 := dkwX6_readRow_5 ++ []
def dkwX6_readRow_4 : List UInt8 := [42, 182, 0, 179, 42, 27, 153, 0, 7, 28, 167, 0, 7, 42, 180, 1, 190, 181, 1, 190, 42, 180, 0, 173]
abbrev dktX6_readRow_4 : List UInt8 := dkwX6_readRow_4 ++ dktX6_readRow_5
def dkwX6_readRow_3 : List UInt8 := [3, 96, 181, 0, 166, 167, 255, 194, 42, 180, 0, 173, 2, 160, 0, 15, 42, 182, 0, 176, 2, 159, 0, 7]
abbrev dktX6_readRow_3 : List UInt8 := dkwX6_readRow_3 ++ dktX6_readRow_4
def dkwX6_readRow_2 : List UInt8 := [16, 59, 160, 0, 7, 4, 167, 0, 4, 3, 62, 42, 89, 180, 0, 166, 29, 153, 0, 7, 4, 167, 0, 4]
abbrev dktX6_readRow_2 : List UInt8 := dkwX6_readRow_2 ++ dktX6_readRow_3
def dkwX6_readRow_1 : List UInt8 := [160, 0, 56, 42, 28, 27, 182, 1, 186, 132, 2, 1, 42, 180, 0, 173, 2, 160, 0, 16, 42, 182, 0, 176]
abbrev dktX6_readRow_1 : List UInt8 := dkwX6_readRow_1 ++ dktX6_readRow_2
def dkwX6_readRow_0 : List UInt8 := [42, 3, 181, 0, 166, 42, 2, 181, 0, 173, 3, 61, 4, 62, 29, 153, 0, 64, 42, 180, 0, 173, 2]
abbrev dktX6_readRow_0 : List UInt8 := dkwX6_readRow_0 ++ dktX6_readRow_1
theorem dksX6_readRow_0 : cX6_readRow.data.toList.drop 0 = dktX6_readRow_0 := by decide +kernel
theorem dksX6_readRow_1 : cX6_readRow.data.toList.drop 23 = dktX6_readRow_1 := dk_seg dksX6_readRow_0 23 rfl rfl
theorem dksX6_readRow_2 : cX6_readRow.data.toList.drop 47 = dktX6_readRow_2 := dk_seg dksX6_readRow_1 24 rfl rfl
theorem dksX6_readRow_3 : cX6_readRow.data.toList.drop 71 = dktX6_readRow_3 := dk_seg dksX6_readRow_2 24 rfl rfl
theorem dksX6_readRow_4 : cX6_readRow.data.toList.drop 95 = dktX6_readRow_4 := dk_seg dksX6_readRow_3 24 rfl rfl
theorem dksX6_readRow_5 : cX6_readRow.data.toList.drop 119 = dktX6_readRow_5 := dk_seg dksX6_readRow_4 24 rfl rfl
theorem dX6_readRow_0 : decode cX6_readRow 0 = .ok (.aload_n 0, 1) := dk_42 (dk_at dksX6_readRow_0 0 rfl rfl)
theorem dX6_readRow_1 : decode cX6_readRow 1 = .ok (.iconst 0, 1) := dk_3 (dk_at dksX6_readRow_0 1 rfl rfl)
theorem dX6_readRow_2 : decode cX6_readRow 2 = .ok (.putfield 166, 3) := dk_181 0 166 (dk_at dksX6_readRow_0 2 rfl rfl)
theorem dX6_readRow_5 : decode cX6_readRow 5 = .ok (.aload_n 0, 1) := dk_42 (dk_at dksX6_readRow_0 5 rfl rfl)
theorem dX6_readRow_6 : decode cX6_readRow 6 = .ok (.iconst (-1), 1) := dk_2 (dk_at dksX6_readRow_0 6 rfl rfl)
theorem dX6_readRow_7 : decode cX6_readRow 7 = .ok (.putfield 173, 3) := dk_181 0 173 (dk_at dksX6_readRow_0 7 rfl rfl)
theorem dX6_readRow_10 : decode cX6_readRow 10 = .ok (.iconst 0, 1) := dk_3 (dk_at dksX6_readRow_0 10 rfl rfl)
theorem dX6_readRow_11 : decode cX6_readRow 11 = .ok (.istore_n 2, 1) := dk_61 (dk_at dksX6_readRow_0 11 rfl rfl)
theorem dX6_readRow_12 : decode cX6_readRow 12 = .ok (.iconst 1, 1) := dk_4 (dk_at dksX6_readRow_0 12 rfl rfl)
theorem dX6_readRow_13 : decode cX6_readRow 13 = .ok (.istore_n 3, 1) := dk_62 (dk_at dksX6_readRow_0 13 rfl rfl)
theorem dX6_readRow_14 : decode cX6_readRow 14 = .ok (.iload_n 3, 1) := dk_29 (dk_at dksX6_readRow_0 14 rfl rfl)
theorem dX6_readRow_15 : decode cX6_readRow 15 = .ok (.ifCond .eq 64, 3) := dk_153 0 64 (dk_at dksX6_readRow_0 15 rfl rfl)
theorem dX6_readRow_18 : decode cX6_readRow 18 = .ok (.aload_n 0, 1) := dk_42 (dk_at dksX6_readRow_0 18 rfl rfl)
theorem dX6_readRow_19 : decode cX6_readRow 19 = .ok (.getfield 173, 3) := dk_180 0 173 (dk_at dksX6_readRow_0 19 rfl rfl)
theorem dX6_readRow_22 : decode cX6_readRow 22 = .ok (.iconst (-1), 1) := dk_2 (dk_at dksX6_readRow_0 22 rfl rfl)
theorem dX6_readRow_23 : decode cX6_readRow 23 = .ok (.if_icmp .ne 56, 3) := dk_160 0 56 (dk_at dksX6_readRow_1 0 rfl rfl)
theorem dX6_readRow_26 : decode cX6_readRow 26 = .ok (.aload_n 0, 1) := dk_42 (dk_at dksX6_readRow_1 3 rfl rfl)
theorem dX6_readRow_27 : decode cX6_readRow 27 = .ok (.iload_n 2, 1) := dk_28 (dk_at dksX6_readRow_1 4 rfl rfl)
theorem dX6_readRow_28 : decode cX6_readRow 28 = .ok (.iload_n 1, 1) := dk_27 (dk_at dksX6_readRow_1 5 rfl rfl)
theorem dX6_readRow_29 : decode cX6_readRow 29 = .ok (.invokevirtual 442, 3) := dk_182 1 186 (dk_at dksX6_readRow_1 6 rfl rfl)
theorem dX6_readRow_32 : decode cX6_readRow 32 = .ok (.iinc 2 1, 3) := dk_132 2 1 (dk_at dksX6_readRow_1 9 rfl rfl)
theorem dX6_readRow_35 : decode cX6_readRow 35 = .ok (.aload_n 0, 1) := dk_42 (dk_at dksX6_readRow_1 12 rfl rfl)
theorem dX6_readRow_36 : decode cX6_readRow 36 = .ok (.getfield 173, 3) := dk_180 0 173 (dk_at dksX6_readRow_1 13 rfl rfl)
theorem dX6_readRow_39 : decode cX6_readRow 39 = .ok (.iconst (-1), 1) := dk_2 (dk_at dksX6_readRow_1 16 rfl rfl)
theorem dX6_readRow_40 : decode cX6_readRow 40 = .ok (.if_icmp .ne 16, 3) := dk_160 0 16 (dk_at dksX6_readRow_1 17 rfl rfl)
theorem dX6_readRow_43 : decode cX6_readRow 43 = .ok (.aload_n 0, 1) := dk_42 (dk_at dksX6_readRow_1 20 rfl rfl)
theorem dX6_readRow_44 : decode cX6_readRow 44 = .ok (.invokevirtual 176, 3) := dk_182 0 176 (dk_at dksX6_readRow_1 21 rfl rfl)
theorem dX6_readRow_47 : decode cX6_readRow 47 = .ok (.bipush 59, 2) := dk_16 59 (dk_at dksX6_readRow_2 0 rfl rfl)
theorem dX6_readRow_49 : decode cX6_readRow 49 = .ok (.if_icmp .ne 7, 3) := dk_160 0 7 (dk_at dksX6_readRow_2 2 rfl rfl)
theorem dX6_readRow_52 : decode cX6_readRow 52 = .ok (.iconst 1, 1) := dk_4 (dk_at dksX6_readRow_2 5 rfl rfl)
theorem dX6_readRow_53 : decode cX6_readRow 53 = .ok (.goto 4, 3) := dk_167 0 4 (dk_at dksX6_readRow_2 6 rfl rfl)
theorem dX6_readRow_56 : decode cX6_readRow 56 = .ok (.iconst 0, 1) := dk_3 (dk_at dksX6_readRow_2 9 rfl rfl)
theorem dX6_readRow_57 : decode cX6_readRow 57 = .ok (.istore_n 3, 1) := dk_62 (dk_at dksX6_readRow_2 10 rfl rfl)
theorem dX6_readRow_58 : decode cX6_readRow 58 = .ok (.aload_n 0, 1) := dk_42 (dk_at dksX6_readRow_2 11 rfl rfl)
theorem dX6_readRow_59 : decode cX6_readRow 59 = .ok (.dup, 1) := dk_89 (dk_at dksX6_readRow_2 12 rfl rfl)
theorem dX6_readRow_60 : decode cX6_readRow 60 = .ok (.getfield 166, 3) := dk_180 0 166 (dk_at dksX6_readRow_2 13 rfl rfl)
theorem dX6_readRow_63 : decode cX6_readRow 63 = .ok (.iload_n 3, 1) := dk_29 (dk_at dksX6_readRow_2 16 rfl rfl)
theorem dX6_readRow_64 : decode cX6_readRow 64 = .ok (.ifCond .eq 7, 3) := dk_153 0 7 (dk_at dksX6_readRow_2 17 rfl rfl)
theorem dX6_readRow_67 : decode cX6_readRow 67 = .ok (.iconst 1, 1) := dk_4 (dk_at dksX6_readRow_2 20 rfl rfl)
theorem dX6_readRow_68 : decode cX6_readRow 68 = .ok (.goto 4, 3) := dk_167 0 4 (dk_at dksX6_readRow_2 21 rfl rfl)
theorem dX6_readRow_71 : decode cX6_readRow 71 = .ok (.iconst 0, 1) := dk_3 (dk_at dksX6_readRow_3 0 rfl rfl)
theorem dX6_readRow_72 : decode cX6_readRow 72 = .ok (.iadd, 1) := dk_96 (dk_at dksX6_readRow_3 1 rfl rfl)
theorem dX6_readRow_73 : decode cX6_readRow 73 = .ok (.putfield 166, 3) := dk_181 0 166 (dk_at dksX6_readRow_3 2 rfl rfl)
theorem dX6_readRow_76 : decode cX6_readRow 76 = .ok (.goto (-62), 3) := dk_167 255 194 (dk_at dksX6_readRow_3 5 rfl rfl)
theorem dX6_readRow_79 : decode cX6_readRow 79 = .ok (.aload_n 0, 1) := dk_42 (dk_at dksX6_readRow_3 8 rfl rfl)
theorem dX6_readRow_80 : decode cX6_readRow 80 = .ok (.getfield 173, 3) := dk_180 0 173 (dk_at dksX6_readRow_3 9 rfl rfl)
theorem dX6_readRow_83 : decode cX6_readRow 83 = .ok (.iconst (-1), 1) := dk_2 (dk_at dksX6_readRow_3 12 rfl rfl)
theorem dX6_readRow_84 : decode cX6_readRow 84 = .ok (.if_icmp .ne 15, 3) := dk_160 0 15 (dk_at dksX6_readRow_3 13 rfl rfl)
theorem dX6_readRow_87 : decode cX6_readRow 87 = .ok (.aload_n 0, 1) := dk_42 (dk_at dksX6_readRow_3 16 rfl rfl)
theorem dX6_readRow_88 : decode cX6_readRow 88 = .ok (.invokevirtual 176, 3) := dk_182 0 176 (dk_at dksX6_readRow_3 17 rfl rfl)
theorem dX6_readRow_91 : decode cX6_readRow 91 = .ok (.iconst (-1), 1) := dk_2 (dk_at dksX6_readRow_3 20 rfl rfl)
theorem dX6_readRow_92 : decode cX6_readRow 92 = .ok (.if_icmp .eq 7, 3) := dk_159 0 7 (dk_at dksX6_readRow_3 21 rfl rfl)
theorem dX6_readRow_95 : decode cX6_readRow 95 = .ok (.aload_n 0, 1) := dk_42 (dk_at dksX6_readRow_4 0 rfl rfl)
theorem dX6_readRow_96 : decode cX6_readRow 96 = .ok (.invokevirtual 179, 3) := dk_182 0 179 (dk_at dksX6_readRow_4 1 rfl rfl)
theorem dX6_readRow_99 : decode cX6_readRow 99 = .ok (.aload_n 0, 1) := dk_42 (dk_at dksX6_readRow_4 4 rfl rfl)
theorem dX6_readRow_100 : decode cX6_readRow 100 = .ok (.iload_n 1, 1) := dk_27 (dk_at dksX6_readRow_4 5 rfl rfl)
theorem dX6_readRow_101 : decode cX6_readRow 101 = .ok (.ifCond .eq 7, 3) := dk_153 0 7 (dk_at dksX6_readRow_4 6 rfl rfl)
theorem dX6_readRow_104 : decode cX6_readRow 104 = .ok (.iload_n 2, 1) := dk_28 (dk_at dksX6_readRow_4 9 rfl rfl)
theorem dX6_readRow_105 : decode cX6_readRow 105 = .ok (.goto 7, 3) := dk_167 0 7 (dk_at dksX6_readRow_4 10 rfl rfl)
theorem dX6_readRow_108 : decode cX6_readRow 108 = .ok (.aload_n 0, 1) := dk_42 (dk_at dksX6_readRow_4 13 rfl rfl)
theorem dX6_readRow_109 : decode cX6_readRow 109 = .ok (.getfield 446, 3) := dk_180 1 190 (dk_at dksX6_readRow_4 14 rfl rfl)
theorem dX6_readRow_112 : decode cX6_readRow 112 = .ok (.putfield 446, 3) := dk_181 1 190 (dk_at dksX6_readRow_4 17 rfl rfl)
theorem dX6_readRow_115 : decode cX6_readRow 115 = .ok (.aload_n 0, 1) := dk_42 (dk_at dksX6_readRow_4 20 rfl rfl)
theorem dX6_readRow_116 : decode cX6_readRow 116 = .ok (.getfield 173, 3) := dk_180 0 173 (dk_at dksX6_readRow_4 21 rfl rfl)
theorem dX6_readRow_119 : decode cX6_readRow 119 = .ok (.ireturn, 1) := dk_172 (dk_at dksX6_readRow_5 0 rfl rfl)
abbrev cX6_readThing : ByteArray := prog_16_method_96_code
def yX6_readThing : MethodName := ⟨RX6, "readThing", "(IZ)V"⟩
def dkwX6_readThing_4 : List UInt8 := [21, 5, 79, 177]
abbrev dktX6_readThing_4 : List UInt8 := dkwX6_readThing_4 ++ []
def dkwX6_readThing_3 : List UInt8 := [28, 153, 0, 26, 42, 180, 0, 147, 27, 29, 79, 42, 180, 0, 150, 27, 21, 4, 79, 42, 180, 0, 153, 27]
abbrev dktX6_readThing_3 : List UInt8 := dkwX6_readThing_3 ++ dktX6_readThing_4
def dkwX6_readThing_2 : List UInt8 := [17, 39, 15, 182, 0, 211, 54, 4, 42, 16, 46, 182, 0, 218, 42, 3, 17, 39, 15, 182, 0, 211, 54, 5]
abbrev dktX6_readThing_2 : List UInt8 := dkwX6_readThing_2 ++ dktX6_readThing_3
def dkwX6_readThing_1 : List UInt8 := [181, 0, 166, 167, 0, 44, 42, 3, 17, 39, 15, 182, 0, 211, 62, 42, 16, 46, 182, 0, 218, 42, 3]
abbrev dktX6_readThing_1 : List UInt8 := dkwX6_readThing_1 ++ dktX6_readThing_2
def dkwX6_readThing_0 : List UInt8 := [2, 62, 3, 54, 4, 3, 54, 5, 42, 182, 0, 176, 16, 63, 160, 0, 16, 42, 89, 180, 0, 166, 4, 96]
abbrev dktX6_readThing_0 : List UInt8 := dkwX6_readThing_0 ++ dktX6_readThing_1
theorem dksX6_readThing_0 : cX6_readThing.data.toList.drop 0 = dktX6_readThing_0 := by decide +kernel
theorem dksX6_readThing_1 : cX6_readThing.data.toList.drop 24 = dktX6_readThing_1 := dk_seg dksX6_readThing_0 24 rfl rfl
theorem dksX6_readThing_2 : cX6_readThing.data.toList.drop 47 = dktX6_readThing_2 := dk_seg dksX6_readThing_1 23 rfl rfl
theorem dksX6_readThing_3 : cX6_readThing.data.toList.drop 71 = dktX6_readThing_3 := dk_seg dksX6_readThing_2 24 rfl rfl
theorem dksX6_readThing_4 : cX6_readThing.data.toList.drop 95 = dktX6_readThing_4 := dk_seg dksX6_readThing_3 24 rfl rfl
theorem dX6_readThing_0 : decode cX6_readThing 0 = .ok (.iconst (-1), 1) := dk_2 (dk_at dksX6_readThing_0 0 rfl rfl)
theorem dX6_readThing_1 : decode cX6_readThing 1 = .ok (.istore_n 3, 1) := dk_62 (dk_at dksX6_readThing_0 1 rfl rfl)
theorem dX6_readThing_2 : decode cX6_readThing 2 = .ok (.iconst 0, 1) := dk_3 (dk_at dksX6_readThing_0 2 rfl rfl)
theorem dX6_readThing_3 : decode cX6_readThing 3 = .ok (.istore 4, 2) := dk_54 4 (dk_at dksX6_readThing_0 3 rfl rfl)
theorem dX6_readThing_5 : decode cX6_readThing 5 = .ok (.iconst 0, 1) := dk_3 (dk_at dksX6_readThing_0 5 rfl rfl)
theorem dX6_readThing_6 : decode cX6_readThing 6 = .ok (.istore 5, 2) := dk_54 5 (dk_at dksX6_readThing_0 6 rfl rfl)
theorem dX6_readThing_8 : decode cX6_readThing 8 = .ok (.aload_n 0, 1) := dk_42 (dk_at dksX6_readThing_0 8 rfl rfl)
theorem dX6_readThing_9 : decode cX6_readThing 9 = .ok (.invokevirtual 176, 3) := dk_182 0 176 (dk_at dksX6_readThing_0 9 rfl rfl)
theorem dX6_readThing_12 : decode cX6_readThing 12 = .ok (.bipush 63, 2) := dk_16 63 (dk_at dksX6_readThing_0 12 rfl rfl)
theorem dX6_readThing_14 : decode cX6_readThing 14 = .ok (.if_icmp .ne 16, 3) := dk_160 0 16 (dk_at dksX6_readThing_0 14 rfl rfl)
theorem dX6_readThing_17 : decode cX6_readThing 17 = .ok (.aload_n 0, 1) := dk_42 (dk_at dksX6_readThing_0 17 rfl rfl)
theorem dX6_readThing_18 : decode cX6_readThing 18 = .ok (.dup, 1) := dk_89 (dk_at dksX6_readThing_0 18 rfl rfl)
theorem dX6_readThing_19 : decode cX6_readThing 19 = .ok (.getfield 166, 3) := dk_180 0 166 (dk_at dksX6_readThing_0 19 rfl rfl)
theorem dX6_readThing_22 : decode cX6_readThing 22 = .ok (.iconst 1, 1) := dk_4 (dk_at dksX6_readThing_0 22 rfl rfl)
theorem dX6_readThing_23 : decode cX6_readThing 23 = .ok (.iadd, 1) := dk_96 (dk_at dksX6_readThing_0 23 rfl rfl)
theorem dX6_readThing_24 : decode cX6_readThing 24 = .ok (.putfield 166, 3) := dk_181 0 166 (dk_at dksX6_readThing_1 0 rfl rfl)
theorem dX6_readThing_27 : decode cX6_readThing 27 = .ok (.goto 44, 3) := dk_167 0 44 (dk_at dksX6_readThing_1 3 rfl rfl)
theorem dX6_readThing_30 : decode cX6_readThing 30 = .ok (.aload_n 0, 1) := dk_42 (dk_at dksX6_readThing_1 6 rfl rfl)
theorem dX6_readThing_31 : decode cX6_readThing 31 = .ok (.iconst 0, 1) := dk_3 (dk_at dksX6_readThing_1 7 rfl rfl)
theorem dX6_readThing_32 : decode cX6_readThing 32 = .ok (.sipush 9999, 3) := dk_17 39 15 (dk_at dksX6_readThing_1 8 rfl rfl)
theorem dX6_readThing_35 : decode cX6_readThing 35 = .ok (.invokevirtual 211, 3) := dk_182 0 211 (dk_at dksX6_readThing_1 11 rfl rfl)
theorem dX6_readThing_38 : decode cX6_readThing 38 = .ok (.istore_n 3, 1) := dk_62 (dk_at dksX6_readThing_1 14 rfl rfl)
theorem dX6_readThing_39 : decode cX6_readThing 39 = .ok (.aload_n 0, 1) := dk_42 (dk_at dksX6_readThing_1 15 rfl rfl)
theorem dX6_readThing_40 : decode cX6_readThing 40 = .ok (.bipush 46, 2) := dk_16 46 (dk_at dksX6_readThing_1 16 rfl rfl)
theorem dX6_readThing_42 : decode cX6_readThing 42 = .ok (.invokevirtual 218, 3) := dk_182 0 218 (dk_at dksX6_readThing_1 18 rfl rfl)
theorem dX6_readThing_45 : decode cX6_readThing 45 = .ok (.aload_n 0, 1) := dk_42 (dk_at dksX6_readThing_1 21 rfl rfl)
theorem dX6_readThing_46 : decode cX6_readThing 46 = .ok (.iconst 0, 1) := dk_3 (dk_at dksX6_readThing_1 22 rfl rfl)
theorem dX6_readThing_47 : decode cX6_readThing 47 = .ok (.sipush 9999, 3) := dk_17 39 15 (dk_at dksX6_readThing_2 0 rfl rfl)
theorem dX6_readThing_50 : decode cX6_readThing 50 = .ok (.invokevirtual 211, 3) := dk_182 0 211 (dk_at dksX6_readThing_2 3 rfl rfl)
theorem dX6_readThing_53 : decode cX6_readThing 53 = .ok (.istore 4, 2) := dk_54 4 (dk_at dksX6_readThing_2 6 rfl rfl)
theorem dX6_readThing_55 : decode cX6_readThing 55 = .ok (.aload_n 0, 1) := dk_42 (dk_at dksX6_readThing_2 8 rfl rfl)
theorem dX6_readThing_56 : decode cX6_readThing 56 = .ok (.bipush 46, 2) := dk_16 46 (dk_at dksX6_readThing_2 9 rfl rfl)
theorem dX6_readThing_58 : decode cX6_readThing 58 = .ok (.invokevirtual 218, 3) := dk_182 0 218 (dk_at dksX6_readThing_2 11 rfl rfl)
theorem dX6_readThing_61 : decode cX6_readThing 61 = .ok (.aload_n 0, 1) := dk_42 (dk_at dksX6_readThing_2 14 rfl rfl)
theorem dX6_readThing_62 : decode cX6_readThing 62 = .ok (.iconst 0, 1) := dk_3 (dk_at dksX6_readThing_2 15 rfl rfl)
theorem dX6_readThing_63 : decode cX6_readThing 63 = .ok (.sipush 9999, 3) := dk_17 39 15 (dk_at dksX6_readThing_2 16 rfl rfl)
theorem dX6_readThing_66 : decode cX6_readThing 66 = .ok (.invokevirtual 211, 3) := dk_182 0 211 (dk_at dksX6_readThing_2 19 rfl rfl)
theorem dX6_readThing_69 : decode cX6_readThing 69 = .ok (.istore 5, 2) := dk_54 5 (dk_at dksX6_readThing_2 22 rfl rfl)
theorem dX6_readThing_71 : decode cX6_readThing 71 = .ok (.iload_n 2, 1) := dk_28 (dk_at dksX6_readThing_3 0 rfl rfl)
theorem dX6_readThing_72 : decode cX6_readThing 72 = .ok (.ifCond .eq 26, 3) := dk_153 0 26 (dk_at dksX6_readThing_3 1 rfl rfl)
theorem dX6_readThing_75 : decode cX6_readThing 75 = .ok (.aload_n 0, 1) := dk_42 (dk_at dksX6_readThing_3 4 rfl rfl)
theorem dX6_readThing_76 : decode cX6_readThing 76 = .ok (.getfield 147, 3) := dk_180 0 147 (dk_at dksX6_readThing_3 5 rfl rfl)
theorem dX6_readThing_79 : decode cX6_readThing 79 = .ok (.iload_n 1, 1) := dk_27 (dk_at dksX6_readThing_3 8 rfl rfl)
theorem dX6_readThing_80 : decode cX6_readThing 80 = .ok (.iload_n 3, 1) := dk_29 (dk_at dksX6_readThing_3 9 rfl rfl)
theorem dX6_readThing_81 : decode cX6_readThing 81 = .ok (.iastore, 1) := dk_79 (dk_at dksX6_readThing_3 10 rfl rfl)
theorem dX6_readThing_82 : decode cX6_readThing 82 = .ok (.aload_n 0, 1) := dk_42 (dk_at dksX6_readThing_3 11 rfl rfl)
theorem dX6_readThing_83 : decode cX6_readThing 83 = .ok (.getfield 150, 3) := dk_180 0 150 (dk_at dksX6_readThing_3 12 rfl rfl)
theorem dX6_readThing_86 : decode cX6_readThing 86 = .ok (.iload_n 1, 1) := dk_27 (dk_at dksX6_readThing_3 15 rfl rfl)
theorem dX6_readThing_87 : decode cX6_readThing 87 = .ok (.iload 4, 2) := dk_21 4 (dk_at dksX6_readThing_3 16 rfl rfl)
theorem dX6_readThing_89 : decode cX6_readThing 89 = .ok (.iastore, 1) := dk_79 (dk_at dksX6_readThing_3 18 rfl rfl)
theorem dX6_readThing_90 : decode cX6_readThing 90 = .ok (.aload_n 0, 1) := dk_42 (dk_at dksX6_readThing_3 19 rfl rfl)
theorem dX6_readThing_91 : decode cX6_readThing 91 = .ok (.getfield 153, 3) := dk_180 0 153 (dk_at dksX6_readThing_3 20 rfl rfl)
theorem dX6_readThing_94 : decode cX6_readThing 94 = .ok (.iload_n 1, 1) := dk_27 (dk_at dksX6_readThing_3 23 rfl rfl)
theorem dX6_readThing_95 : decode cX6_readThing 95 = .ok (.iload 5, 2) := dk_21 5 (dk_at dksX6_readThing_4 0 rfl rfl)
theorem dX6_readThing_97 : decode cX6_readThing 97 = .ok (.iastore, 1) := dk_79 (dk_at dksX6_readThing_4 2 rfl rfl)
theorem dX6_readThing_98 : decode cX6_readThing 98 = .ok (.return_, 1) := dk_177 (dk_at dksX6_readThing_4 3 rfl rfl)
abbrev cX6_text : ByteArray := prog_16_method_31_code
def yX6_text : MethodName := ⟨RX6, "text", "(I)I"⟩
def dkwX6_text_5 : List UInt8 := [181, 1, 18, 42, 180, 1, 18, 4, 100, 172]
abbrev dktX6_text_5 : List UInt8 := dkwX6_text_5 ++ []
def dkwX6_text_4 : List UInt8 := [180, 0, 78, 42, 180, 1, 18, 4, 79, 42, 42, 180, 1, 18, 182, 1, 21, 42, 89, 180, 1, 18, 4, 96]
abbrev dktX6_text_4 : List UInt8 := dkwX6_text_4 ++ dktX6_text_5
def dkwX6_text_3 : List UInt8 := [159, 0, 15, 42, 42, 180, 1, 18, 182, 1, 5, 2, 159, 0, 5, 2, 172, 42, 3, 181, 0, 163, 42]
abbrev dktX6_text_3 : List UInt8 := dkwX6_text_3 ++ dktX6_text_4
def dkwX6_text_2 : List UInt8 := [4, 100, 172, 27, 5, 160, 0, 8, 42, 182, 1, 15, 172, 27, 4, 160, 0, 24, 42, 180, 1, 18, 16, 8]
abbrev dktX6_text_2 : List UInt8 := dkwX6_text_2 ++ dktX6_text_3
def dkwX6_text_1 : List UInt8 := [159, 0, 5, 2, 172, 42, 3, 181, 0, 163, 42, 89, 180, 1, 12, 4, 96, 181, 1, 12, 42, 180, 1, 12]
abbrev dktX6_text_1 : List UInt8 := dkwX6_text_1 ++ dktX6_text_2
def dkwX6_text_0 : List UInt8 := [27, 154, 0, 48, 42, 180, 1, 12, 16, 6, 159, 0, 15, 42, 42, 180, 1, 12, 182, 1, 1, 2]
abbrev dktX6_text_0 : List UInt8 := dkwX6_text_0 ++ dktX6_text_1
theorem dksX6_text_0 : cX6_text.data.toList.drop 0 = dktX6_text_0 := by decide +kernel
theorem dksX6_text_1 : cX6_text.data.toList.drop 22 = dktX6_text_1 := dk_seg dksX6_text_0 22 rfl rfl
theorem dksX6_text_2 : cX6_text.data.toList.drop 46 = dktX6_text_2 := dk_seg dksX6_text_1 24 rfl rfl
theorem dksX6_text_3 : cX6_text.data.toList.drop 70 = dktX6_text_3 := dk_seg dksX6_text_2 24 rfl rfl
theorem dksX6_text_4 : cX6_text.data.toList.drop 93 = dktX6_text_4 := dk_seg dksX6_text_3 23 rfl rfl
theorem dksX6_text_5 : cX6_text.data.toList.drop 117 = dktX6_text_5 := dk_seg dksX6_text_4 24 rfl rfl
theorem dX6_text_0 : decode cX6_text 0 = .ok (.iload_n 1, 1) := dk_27 (dk_at dksX6_text_0 0 rfl rfl)
theorem dX6_text_1 : decode cX6_text 1 = .ok (.ifCond .ne 48, 3) := dk_154 0 48 (dk_at dksX6_text_0 1 rfl rfl)
theorem dX6_text_4 : decode cX6_text 4 = .ok (.aload_n 0, 1) := dk_42 (dk_at dksX6_text_0 4 rfl rfl)
theorem dX6_text_5 : decode cX6_text 5 = .ok (.getfield 268, 3) := dk_180 1 12 (dk_at dksX6_text_0 5 rfl rfl)
theorem dX6_text_8 : decode cX6_text 8 = .ok (.bipush 6, 2) := dk_16 6 (dk_at dksX6_text_0 8 rfl rfl)
theorem dX6_text_10 : decode cX6_text 10 = .ok (.if_icmp .eq 15, 3) := dk_159 0 15 (dk_at dksX6_text_0 10 rfl rfl)
theorem dX6_text_13 : decode cX6_text 13 = .ok (.aload_n 0, 1) := dk_42 (dk_at dksX6_text_0 13 rfl rfl)
theorem dX6_text_14 : decode cX6_text 14 = .ok (.aload_n 0, 1) := dk_42 (dk_at dksX6_text_0 14 rfl rfl)
theorem dX6_text_15 : decode cX6_text 15 = .ok (.getfield 268, 3) := dk_180 1 12 (dk_at dksX6_text_0 15 rfl rfl)
theorem dX6_text_18 : decode cX6_text 18 = .ok (.invokevirtual 257, 3) := dk_182 1 1 (dk_at dksX6_text_0 18 rfl rfl)
theorem dX6_text_21 : decode cX6_text 21 = .ok (.iconst (-1), 1) := dk_2 (dk_at dksX6_text_0 21 rfl rfl)
theorem dX6_text_22 : decode cX6_text 22 = .ok (.if_icmp .eq 5, 3) := dk_159 0 5 (dk_at dksX6_text_1 0 rfl rfl)
theorem dX6_text_25 : decode cX6_text 25 = .ok (.iconst (-1), 1) := dk_2 (dk_at dksX6_text_1 3 rfl rfl)
theorem dX6_text_26 : decode cX6_text 26 = .ok (.ireturn, 1) := dk_172 (dk_at dksX6_text_1 4 rfl rfl)
theorem dX6_text_27 : decode cX6_text 27 = .ok (.aload_n 0, 1) := dk_42 (dk_at dksX6_text_1 5 rfl rfl)
theorem dX6_text_28 : decode cX6_text 28 = .ok (.iconst 0, 1) := dk_3 (dk_at dksX6_text_1 6 rfl rfl)
theorem dX6_text_29 : decode cX6_text 29 = .ok (.putfield 163, 3) := dk_181 0 163 (dk_at dksX6_text_1 7 rfl rfl)
theorem dX6_text_32 : decode cX6_text 32 = .ok (.aload_n 0, 1) := dk_42 (dk_at dksX6_text_1 10 rfl rfl)
theorem dX6_text_33 : decode cX6_text 33 = .ok (.dup, 1) := dk_89 (dk_at dksX6_text_1 11 rfl rfl)
theorem dX6_text_34 : decode cX6_text 34 = .ok (.getfield 268, 3) := dk_180 1 12 (dk_at dksX6_text_1 12 rfl rfl)
theorem dX6_text_37 : decode cX6_text 37 = .ok (.iconst 1, 1) := dk_4 (dk_at dksX6_text_1 15 rfl rfl)
theorem dX6_text_38 : decode cX6_text 38 = .ok (.iadd, 1) := dk_96 (dk_at dksX6_text_1 16 rfl rfl)
theorem dX6_text_39 : decode cX6_text 39 = .ok (.putfield 268, 3) := dk_181 1 12 (dk_at dksX6_text_1 17 rfl rfl)
theorem dX6_text_42 : decode cX6_text 42 = .ok (.aload_n 0, 1) := dk_42 (dk_at dksX6_text_1 20 rfl rfl)
theorem dX6_text_43 : decode cX6_text 43 = .ok (.getfield 268, 3) := dk_180 1 12 (dk_at dksX6_text_1 21 rfl rfl)
theorem dX6_text_46 : decode cX6_text 46 = .ok (.iconst 1, 1) := dk_4 (dk_at dksX6_text_2 0 rfl rfl)
theorem dX6_text_47 : decode cX6_text 47 = .ok (.isub, 1) := dk_100 (dk_at dksX6_text_2 1 rfl rfl)
theorem dX6_text_48 : decode cX6_text 48 = .ok (.ireturn, 1) := dk_172 (dk_at dksX6_text_2 2 rfl rfl)
theorem dX6_text_49 : decode cX6_text 49 = .ok (.iload_n 1, 1) := dk_27 (dk_at dksX6_text_2 3 rfl rfl)
theorem dX6_text_50 : decode cX6_text 50 = .ok (.iconst 2, 1) := dk_5 (dk_at dksX6_text_2 4 rfl rfl)
theorem dX6_text_51 : decode cX6_text 51 = .ok (.if_icmp .ne 8, 3) := dk_160 0 8 (dk_at dksX6_text_2 5 rfl rfl)
theorem dX6_text_54 : decode cX6_text 54 = .ok (.aload_n 0, 1) := dk_42 (dk_at dksX6_text_2 8 rfl rfl)
theorem dX6_text_55 : decode cX6_text 55 = .ok (.invokevirtual 271, 3) := dk_182 1 15 (dk_at dksX6_text_2 9 rfl rfl)
theorem dX6_text_58 : decode cX6_text 58 = .ok (.ireturn, 1) := dk_172 (dk_at dksX6_text_2 12 rfl rfl)
theorem dX6_text_59 : decode cX6_text 59 = .ok (.iload_n 1, 1) := dk_27 (dk_at dksX6_text_2 13 rfl rfl)
theorem dX6_text_60 : decode cX6_text 60 = .ok (.iconst 1, 1) := dk_4 (dk_at dksX6_text_2 14 rfl rfl)
theorem dX6_text_61 : decode cX6_text 61 = .ok (.if_icmp .ne 24, 3) := dk_160 0 24 (dk_at dksX6_text_2 15 rfl rfl)
theorem dX6_text_64 : decode cX6_text 64 = .ok (.aload_n 0, 1) := dk_42 (dk_at dksX6_text_2 18 rfl rfl)
theorem dX6_text_65 : decode cX6_text 65 = .ok (.getfield 274, 3) := dk_180 1 18 (dk_at dksX6_text_2 19 rfl rfl)
theorem dX6_text_68 : decode cX6_text 68 = .ok (.bipush 8, 2) := dk_16 8 (dk_at dksX6_text_2 22 rfl rfl)
theorem dX6_text_70 : decode cX6_text 70 = .ok (.if_icmp .eq 15, 3) := dk_159 0 15 (dk_at dksX6_text_3 0 rfl rfl)
theorem dX6_text_73 : decode cX6_text 73 = .ok (.aload_n 0, 1) := dk_42 (dk_at dksX6_text_3 3 rfl rfl)
theorem dX6_text_74 : decode cX6_text 74 = .ok (.aload_n 0, 1) := dk_42 (dk_at dksX6_text_3 4 rfl rfl)
theorem dX6_text_75 : decode cX6_text 75 = .ok (.getfield 274, 3) := dk_180 1 18 (dk_at dksX6_text_3 5 rfl rfl)
theorem dX6_text_78 : decode cX6_text 78 = .ok (.invokevirtual 261, 3) := dk_182 1 5 (dk_at dksX6_text_3 8 rfl rfl)
theorem dX6_text_81 : decode cX6_text 81 = .ok (.iconst (-1), 1) := dk_2 (dk_at dksX6_text_3 11 rfl rfl)
theorem dX6_text_82 : decode cX6_text 82 = .ok (.if_icmp .eq 5, 3) := dk_159 0 5 (dk_at dksX6_text_3 12 rfl rfl)
theorem dX6_text_85 : decode cX6_text 85 = .ok (.iconst (-1), 1) := dk_2 (dk_at dksX6_text_3 15 rfl rfl)
theorem dX6_text_86 : decode cX6_text 86 = .ok (.ireturn, 1) := dk_172 (dk_at dksX6_text_3 16 rfl rfl)
theorem dX6_text_87 : decode cX6_text 87 = .ok (.aload_n 0, 1) := dk_42 (dk_at dksX6_text_3 17 rfl rfl)
theorem dX6_text_88 : decode cX6_text 88 = .ok (.iconst 0, 1) := dk_3 (dk_at dksX6_text_3 18 rfl rfl)
theorem dX6_text_89 : decode cX6_text 89 = .ok (.putfield 163, 3) := dk_181 0 163 (dk_at dksX6_text_3 19 rfl rfl)
theorem dX6_text_92 : decode cX6_text 92 = .ok (.aload_n 0, 1) := dk_42 (dk_at dksX6_text_3 22 rfl rfl)
theorem dX6_text_93 : decode cX6_text 93 = .ok (.getfield 78, 3) := dk_180 0 78 (dk_at dksX6_text_4 0 rfl rfl)
theorem dX6_text_96 : decode cX6_text 96 = .ok (.aload_n 0, 1) := dk_42 (dk_at dksX6_text_4 3 rfl rfl)
theorem dX6_text_97 : decode cX6_text 97 = .ok (.getfield 274, 3) := dk_180 1 18 (dk_at dksX6_text_4 4 rfl rfl)
theorem dX6_text_100 : decode cX6_text 100 = .ok (.iconst 1, 1) := dk_4 (dk_at dksX6_text_4 7 rfl rfl)
theorem dX6_text_101 : decode cX6_text 101 = .ok (.iastore, 1) := dk_79 (dk_at dksX6_text_4 8 rfl rfl)
theorem dX6_text_102 : decode cX6_text 102 = .ok (.aload_n 0, 1) := dk_42 (dk_at dksX6_text_4 9 rfl rfl)
theorem dX6_text_103 : decode cX6_text 103 = .ok (.aload_n 0, 1) := dk_42 (dk_at dksX6_text_4 10 rfl rfl)
theorem dX6_text_104 : decode cX6_text 104 = .ok (.getfield 274, 3) := dk_180 1 18 (dk_at dksX6_text_4 11 rfl rfl)
theorem dX6_text_107 : decode cX6_text 107 = .ok (.invokevirtual 277, 3) := dk_182 1 21 (dk_at dksX6_text_4 14 rfl rfl)
theorem dX6_text_110 : decode cX6_text 110 = .ok (.aload_n 0, 1) := dk_42 (dk_at dksX6_text_4 17 rfl rfl)
theorem dX6_text_111 : decode cX6_text 111 = .ok (.dup, 1) := dk_89 (dk_at dksX6_text_4 18 rfl rfl)
theorem dX6_text_112 : decode cX6_text 112 = .ok (.getfield 274, 3) := dk_180 1 18 (dk_at dksX6_text_4 19 rfl rfl)
theorem dX6_text_115 : decode cX6_text 115 = .ok (.iconst 1, 1) := dk_4 (dk_at dksX6_text_4 22 rfl rfl)
theorem dX6_text_116 : decode cX6_text 116 = .ok (.iadd, 1) := dk_96 (dk_at dksX6_text_4 23 rfl rfl)
theorem dX6_text_117 : decode cX6_text 117 = .ok (.putfield 274, 3) := dk_181 1 18 (dk_at dksX6_text_5 0 rfl rfl)
theorem dX6_text_120 : decode cX6_text 120 = .ok (.aload_n 0, 1) := dk_42 (dk_at dksX6_text_5 3 rfl rfl)
theorem dX6_text_121 : decode cX6_text 121 = .ok (.getfield 274, 3) := dk_180 1 18 (dk_at dksX6_text_5 4 rfl rfl)
theorem dX6_text_124 : decode cX6_text 124 = .ok (.iconst 1, 1) := dk_4 (dk_at dksX6_text_5 7 rfl rfl)
theorem dX6_text_125 : decode cX6_text 125 = .ok (.isub, 1) := dk_100 (dk_at dksX6_text_5 8 rfl rfl)
theorem dX6_text_126 : decode cX6_text 126 = .ok (.ireturn, 1) := dk_172 (dk_at dksX6_text_5 9 rfl rfl)
abbrev cX6_takeRow : ByteArray := prog_16_method_97_code
def yX6_takeRow : MethodName := ⟨RX6, "takeRow", "()I"⟩
def dkwX6_takeRow_1 : List UInt8 := [180, 1, 190, 172]
abbrev dktX6_takeRow_1 : List UInt8 := dkwX6_takeRow_1 ++ []
def dkwX6_takeRow_0 : List UInt8 := [42, 3, 182, 1, 8, 2, 159, 0, 5, 2, 172, 42, 4, 182, 1, 8, 87, 42, 3, 181, 0, 163, 42]
abbrev dktX6_takeRow_0 : List UInt8 := dkwX6_takeRow_0 ++ dktX6_takeRow_1
theorem dksX6_takeRow_0 : cX6_takeRow.data.toList.drop 0 = dktX6_takeRow_0 := by decide +kernel
theorem dksX6_takeRow_1 : cX6_takeRow.data.toList.drop 23 = dktX6_takeRow_1 := dk_seg dksX6_takeRow_0 23 rfl rfl
theorem dX6_takeRow_0 : decode cX6_takeRow 0 = .ok (.aload_n 0, 1) := dk_42 (dk_at dksX6_takeRow_0 0 rfl rfl)
theorem dX6_takeRow_1 : decode cX6_takeRow 1 = .ok (.iconst 0, 1) := dk_3 (dk_at dksX6_takeRow_0 1 rfl rfl)
theorem dX6_takeRow_2 : decode cX6_takeRow 2 = .ok (.invokevirtual 264, 3) := dk_182 1 8 (dk_at dksX6_takeRow_0 2 rfl rfl)
theorem dX6_takeRow_5 : decode cX6_takeRow 5 = .ok (.iconst (-1), 1) := dk_2 (dk_at dksX6_takeRow_0 5 rfl rfl)
theorem dX6_takeRow_6 : decode cX6_takeRow 6 = .ok (.if_icmp .eq 5, 3) := dk_159 0 5 (dk_at dksX6_takeRow_0 6 rfl rfl)
theorem dX6_takeRow_9 : decode cX6_takeRow 9 = .ok (.iconst (-1), 1) := dk_2 (dk_at dksX6_takeRow_0 9 rfl rfl)
theorem dX6_takeRow_10 : decode cX6_takeRow 10 = .ok (.ireturn, 1) := dk_172 (dk_at dksX6_takeRow_0 10 rfl rfl)
theorem dX6_takeRow_11 : decode cX6_takeRow 11 = .ok (.aload_n 0, 1) := dk_42 (dk_at dksX6_takeRow_0 11 rfl rfl)
theorem dX6_takeRow_12 : decode cX6_takeRow 12 = .ok (.iconst 1, 1) := dk_4 (dk_at dksX6_takeRow_0 12 rfl rfl)
theorem dX6_takeRow_13 : decode cX6_takeRow 13 = .ok (.invokevirtual 264, 3) := dk_182 1 8 (dk_at dksX6_takeRow_0 13 rfl rfl)
theorem dX6_takeRow_16 : decode cX6_takeRow 16 = .ok (.pop, 1) := dk_87 (dk_at dksX6_takeRow_0 16 rfl rfl)
theorem dX6_takeRow_17 : decode cX6_takeRow 17 = .ok (.aload_n 0, 1) := dk_42 (dk_at dksX6_takeRow_0 17 rfl rfl)
theorem dX6_takeRow_18 : decode cX6_takeRow 18 = .ok (.iconst 0, 1) := dk_3 (dk_at dksX6_takeRow_0 18 rfl rfl)
theorem dX6_takeRow_19 : decode cX6_takeRow 19 = .ok (.putfield 163, 3) := dk_181 0 163 (dk_at dksX6_takeRow_0 19 rfl rfl)
theorem dX6_takeRow_22 : decode cX6_takeRow 22 = .ok (.aload_n 0, 1) := dk_42 (dk_at dksX6_takeRow_0 22 rfl rfl)
theorem dX6_takeRow_23 : decode cX6_takeRow 23 = .ok (.getfield 446, 3) := dk_180 1 190 (dk_at dksX6_takeRow_1 0 rfl rfl)
theorem dX6_takeRow_26 : decode cX6_takeRow 26 = .ok (.ireturn, 1) := dk_172 (dk_at dksX6_takeRow_1 3 rfl rfl)
abbrev cX6_spread : ByteArray := prog_16_method_48_code
def yX6_spread : MethodName := ⟨RX6, "spread", "(I)V"⟩
def dkwX6_spread_13 : List UInt8 := [132, 2, 1, 167, 255, 119, 177]
abbrev dktX6_spread_13 : List UInt8 := dkwX6_spread_13 ++ []
def dkwX6_spread_12 : List UInt8 := [21, 7, 47, 42, 180, 0, 86, 21, 6, 47, 22, 4, 97, 184, 1, 73, 80, 132, 3, 1, 167, 255, 133]
abbrev dktX6_spread_12 : List UInt8 := dkwX6_spread_12 ++ dktX6_spread_13
def dkwX6_spread_11 : List UInt8 := [180, 0, 86, 21, 7, 47, 22, 4, 97, 184, 1, 73, 80, 42, 180, 0, 86, 21, 7, 42, 180, 0, 86]
abbrev dktX6_spread_11 : List UInt8 := dkwX6_spread_11 ++ dktX6_spread_12
def dkwX6_spread_10 : List UInt8 := [27, 104, 29, 96, 46, 96, 54, 7, 42, 180, 0, 86, 21, 6, 42, 180, 0, 86, 21, 6, 47, 42]
abbrev dktX6_spread_10 : List UInt8 := dkwX6_spread_10 ++ dktX6_spread_11
def dkwX6_spread_9 : List UInt8 := [42, 180, 0, 63, 16, 12, 27, 104, 29, 96, 46, 96, 54, 6, 16, 13, 27, 104, 42, 180, 0, 66, 16, 12]
abbrev dktX6_spread_9 : List UInt8 := dkwX6_spread_9 ++ dktX6_spread_10
def dkwX6_spread_8 : List UInt8 := [20, 1, 60, 42, 180, 0, 69, 16, 12, 27, 104, 29, 96, 46, 133, 105, 10, 97, 55, 4, 16, 13, 27, 104]
abbrev dktX6_spread_8 : List UInt8 := dkwX6_spread_8 ++ dktX6_spread_9
def dkwX6_spread_7 : List UInt8 := [167, 255, 183, 3, 61, 28, 16, 12, 162, 0, 137, 3, 62, 29, 42, 180, 0, 60, 27, 46, 162, 0, 119]
abbrev dktX6_spread_7 : List UInt8 := dkwX6_spread_7 ++ dktX6_spread_8
def dkwX6_spread_6 : List UInt8 := [180, 0, 86, 16, 13, 27, 104, 28, 96, 29, 153, 0, 7, 9, 167, 0, 6, 20, 1, 65, 80, 132, 2, 1]
abbrev dktX6_spread_6 : List UInt8 := dkwX6_spread_6 ++ dktX6_spread_7
def dkwX6_spread_5 : List UInt8 := [167, 0, 22, 42, 180, 0, 72, 27, 46, 28, 122, 4, 126, 4, 160, 0, 7, 4, 167, 0, 4, 3, 62, 42]
abbrev dktX6_spread_5 : List UInt8 := dkwX6_spread_5 ++ dktX6_spread_6
def dkwX6_spread_4 : List UInt8 := [16, 12, 163, 0, 73, 42, 180, 0, 72, 27, 46, 154, 0, 16, 28, 4, 160, 0, 7, 4, 167, 0, 26, 3]
abbrev dktX6_spread_4 : List UInt8 := dkwX6_spread_4 ++ dktX6_spread_5
def dkwX6_spread_3 : List UInt8 := [28, 96, 9, 80, 42, 28, 182, 1, 62, 132, 2, 1, 167, 255, 186, 42, 27, 27, 182, 1, 70, 4, 61, 28]
abbrev dktX6_spread_3 : List UInt8 := dkwX6_spread_3 ++ dktX6_spread_4
def dkwX6_spread_2 : List UInt8 := [17, 39, 15, 163, 0, 30, 42, 27, 28, 182, 1, 67, 153, 0, 21, 42, 180, 0, 82, 17, 39, 17, 27, 104]
abbrev dktX6_spread_2 : List UInt8 := dkwX6_spread_2 ++ dktX6_spread_3
def dkwX6_spread_1 : List UInt8 := [17, 39, 17, 27, 104, 28, 96, 20, 1, 65, 80, 42, 180, 0, 92, 28, 3, 84, 28, 158, 0, 37, 28]
abbrev dktX6_spread_1 : List UInt8 := dkwX6_spread_1 ++ dktX6_spread_2
def dkwX6_spread_0 : List UInt8 := [42, 3, 181, 1, 50, 42, 3, 181, 1, 53, 3, 61, 28, 17, 39, 17, 162, 0, 69, 42, 180, 0, 82]
abbrev dktX6_spread_0 : List UInt8 := dkwX6_spread_0 ++ dktX6_spread_1
theorem dksX6_spread_0 : cX6_spread.data.toList.drop 0 = dktX6_spread_0 := by decide +kernel
theorem dksX6_spread_1 : cX6_spread.data.toList.drop 23 = dktX6_spread_1 := dk_seg dksX6_spread_0 23 rfl rfl
theorem dksX6_spread_2 : cX6_spread.data.toList.drop 46 = dktX6_spread_2 := dk_seg dksX6_spread_1 23 rfl rfl
theorem dksX6_spread_3 : cX6_spread.data.toList.drop 70 = dktX6_spread_3 := dk_seg dksX6_spread_2 24 rfl rfl
theorem dksX6_spread_4 : cX6_spread.data.toList.drop 94 = dktX6_spread_4 := dk_seg dksX6_spread_3 24 rfl rfl
theorem dksX6_spread_5 : cX6_spread.data.toList.drop 118 = dktX6_spread_5 := dk_seg dksX6_spread_4 24 rfl rfl
theorem dksX6_spread_6 : cX6_spread.data.toList.drop 142 = dktX6_spread_6 := dk_seg dksX6_spread_5 24 rfl rfl
theorem dksX6_spread_7 : cX6_spread.data.toList.drop 166 = dktX6_spread_7 := dk_seg dksX6_spread_6 24 rfl rfl
theorem dksX6_spread_8 : cX6_spread.data.toList.drop 189 = dktX6_spread_8 := dk_seg dksX6_spread_7 23 rfl rfl
theorem dksX6_spread_9 : cX6_spread.data.toList.drop 213 = dktX6_spread_9 := dk_seg dksX6_spread_8 24 rfl rfl
theorem dksX6_spread_10 : cX6_spread.data.toList.drop 237 = dktX6_spread_10 := dk_seg dksX6_spread_9 24 rfl rfl
theorem dksX6_spread_11 : cX6_spread.data.toList.drop 259 = dktX6_spread_11 := dk_seg dksX6_spread_10 22 rfl rfl
theorem dksX6_spread_12 : cX6_spread.data.toList.drop 282 = dktX6_spread_12 := dk_seg dksX6_spread_11 23 rfl rfl
theorem dksX6_spread_13 : cX6_spread.data.toList.drop 305 = dktX6_spread_13 := dk_seg dksX6_spread_12 23 rfl rfl
theorem dX6_spread_0 : decode cX6_spread 0 = .ok (.aload_n 0, 1) := dk_42 (dk_at dksX6_spread_0 0 rfl rfl)
theorem dX6_spread_1 : decode cX6_spread 1 = .ok (.iconst 0, 1) := dk_3 (dk_at dksX6_spread_0 1 rfl rfl)
theorem dX6_spread_2 : decode cX6_spread 2 = .ok (.putfield 306, 3) := dk_181 1 50 (dk_at dksX6_spread_0 2 rfl rfl)
theorem dX6_spread_5 : decode cX6_spread 5 = .ok (.aload_n 0, 1) := dk_42 (dk_at dksX6_spread_0 5 rfl rfl)
theorem dX6_spread_6 : decode cX6_spread 6 = .ok (.iconst 0, 1) := dk_3 (dk_at dksX6_spread_0 6 rfl rfl)
theorem dX6_spread_7 : decode cX6_spread 7 = .ok (.putfield 309, 3) := dk_181 1 53 (dk_at dksX6_spread_0 7 rfl rfl)
theorem dX6_spread_10 : decode cX6_spread 10 = .ok (.iconst 0, 1) := dk_3 (dk_at dksX6_spread_0 10 rfl rfl)
theorem dX6_spread_11 : decode cX6_spread 11 = .ok (.istore_n 2, 1) := dk_61 (dk_at dksX6_spread_0 11 rfl rfl)
theorem dX6_spread_12 : decode cX6_spread 12 = .ok (.iload_n 2, 1) := dk_28 (dk_at dksX6_spread_0 12 rfl rfl)
theorem dX6_spread_13 : decode cX6_spread 13 = .ok (.sipush 10001, 3) := dk_17 39 17 (dk_at dksX6_spread_0 13 rfl rfl)
theorem dX6_spread_16 : decode cX6_spread 16 = .ok (.if_icmp .ge 69, 3) := dk_162 0 69 (dk_at dksX6_spread_0 16 rfl rfl)
theorem dX6_spread_19 : decode cX6_spread 19 = .ok (.aload_n 0, 1) := dk_42 (dk_at dksX6_spread_0 19 rfl rfl)
theorem dX6_spread_20 : decode cX6_spread 20 = .ok (.getfield 82, 3) := dk_180 0 82 (dk_at dksX6_spread_0 20 rfl rfl)
theorem dX6_spread_23 : decode cX6_spread 23 = .ok (.sipush 10001, 3) := dk_17 39 17 (dk_at dksX6_spread_1 0 rfl rfl)
theorem dX6_spread_26 : decode cX6_spread 26 = .ok (.iload_n 1, 1) := dk_27 (dk_at dksX6_spread_1 3 rfl rfl)
theorem dX6_spread_27 : decode cX6_spread 27 = .ok (.imul, 1) := dk_104 (dk_at dksX6_spread_1 4 rfl rfl)
theorem dX6_spread_28 : decode cX6_spread 28 = .ok (.iload_n 2, 1) := dk_28 (dk_at dksX6_spread_1 5 rfl rfl)
theorem dX6_spread_29 : decode cX6_spread 29 = .ok (.iadd, 1) := dk_96 (dk_at dksX6_spread_1 6 rfl rfl)
theorem dX6_spread_30 : decode cX6_spread 30 = .ok (.ldc2_w 321, 3) := dk_20 1 65 (dk_at dksX6_spread_1 7 rfl rfl)
theorem dX6_spread_33 : decode cX6_spread 33 = .ok (.lastore, 1) := dk_80 (dk_at dksX6_spread_1 10 rfl rfl)
theorem dX6_spread_34 : decode cX6_spread 34 = .ok (.aload_n 0, 1) := dk_42 (dk_at dksX6_spread_1 11 rfl rfl)
theorem dX6_spread_35 : decode cX6_spread 35 = .ok (.getfield 92, 3) := dk_180 0 92 (dk_at dksX6_spread_1 12 rfl rfl)
theorem dX6_spread_38 : decode cX6_spread 38 = .ok (.iload_n 2, 1) := dk_28 (dk_at dksX6_spread_1 15 rfl rfl)
theorem dX6_spread_39 : decode cX6_spread 39 = .ok (.iconst 0, 1) := dk_3 (dk_at dksX6_spread_1 16 rfl rfl)
theorem dX6_spread_40 : decode cX6_spread 40 = .ok (.bastore, 1) := dk_84 (dk_at dksX6_spread_1 17 rfl rfl)
theorem dX6_spread_41 : decode cX6_spread 41 = .ok (.iload_n 2, 1) := dk_28 (dk_at dksX6_spread_1 18 rfl rfl)
theorem dX6_spread_42 : decode cX6_spread 42 = .ok (.ifCond .le 37, 3) := dk_158 0 37 (dk_at dksX6_spread_1 19 rfl rfl)
theorem dX6_spread_45 : decode cX6_spread 45 = .ok (.iload_n 2, 1) := dk_28 (dk_at dksX6_spread_1 22 rfl rfl)
theorem dX6_spread_46 : decode cX6_spread 46 = .ok (.sipush 9999, 3) := dk_17 39 15 (dk_at dksX6_spread_2 0 rfl rfl)
theorem dX6_spread_49 : decode cX6_spread 49 = .ok (.if_icmp .gt 30, 3) := dk_163 0 30 (dk_at dksX6_spread_2 3 rfl rfl)
theorem dX6_spread_52 : decode cX6_spread 52 = .ok (.aload_n 0, 1) := dk_42 (dk_at dksX6_spread_2 6 rfl rfl)
theorem dX6_spread_53 : decode cX6_spread 53 = .ok (.iload_n 1, 1) := dk_27 (dk_at dksX6_spread_2 7 rfl rfl)
theorem dX6_spread_54 : decode cX6_spread 54 = .ok (.iload_n 2, 1) := dk_28 (dk_at dksX6_spread_2 8 rfl rfl)
theorem dX6_spread_55 : decode cX6_spread 55 = .ok (.invokevirtual 323, 3) := dk_182 1 67 (dk_at dksX6_spread_2 9 rfl rfl)
theorem dX6_spread_58 : decode cX6_spread 58 = .ok (.ifCond .eq 21, 3) := dk_153 0 21 (dk_at dksX6_spread_2 12 rfl rfl)
theorem dX6_spread_61 : decode cX6_spread 61 = .ok (.aload_n 0, 1) := dk_42 (dk_at dksX6_spread_2 15 rfl rfl)
theorem dX6_spread_62 : decode cX6_spread 62 = .ok (.getfield 82, 3) := dk_180 0 82 (dk_at dksX6_spread_2 16 rfl rfl)
theorem dX6_spread_65 : decode cX6_spread 65 = .ok (.sipush 10001, 3) := dk_17 39 17 (dk_at dksX6_spread_2 19 rfl rfl)
theorem dX6_spread_68 : decode cX6_spread 68 = .ok (.iload_n 1, 1) := dk_27 (dk_at dksX6_spread_2 22 rfl rfl)
theorem dX6_spread_69 : decode cX6_spread 69 = .ok (.imul, 1) := dk_104 (dk_at dksX6_spread_2 23 rfl rfl)
theorem dX6_spread_70 : decode cX6_spread 70 = .ok (.iload_n 2, 1) := dk_28 (dk_at dksX6_spread_3 0 rfl rfl)
theorem dX6_spread_71 : decode cX6_spread 71 = .ok (.iadd, 1) := dk_96 (dk_at dksX6_spread_3 1 rfl rfl)
theorem dX6_spread_72 : decode cX6_spread 72 = .ok (.lconst 0, 1) := dk_9 (dk_at dksX6_spread_3 2 rfl rfl)
theorem dX6_spread_73 : decode cX6_spread 73 = .ok (.lastore, 1) := dk_80 (dk_at dksX6_spread_3 3 rfl rfl)
theorem dX6_spread_74 : decode cX6_spread 74 = .ok (.aload_n 0, 1) := dk_42 (dk_at dksX6_spread_3 4 rfl rfl)
theorem dX6_spread_75 : decode cX6_spread 75 = .ok (.iload_n 2, 1) := dk_28 (dk_at dksX6_spread_3 5 rfl rfl)
theorem dX6_spread_76 : decode cX6_spread 76 = .ok (.invokevirtual 318, 3) := dk_182 1 62 (dk_at dksX6_spread_3 6 rfl rfl)
theorem dX6_spread_79 : decode cX6_spread 79 = .ok (.iinc 2 1, 3) := dk_132 2 1 (dk_at dksX6_spread_3 9 rfl rfl)
theorem dX6_spread_82 : decode cX6_spread 82 = .ok (.goto (-70), 3) := dk_167 255 186 (dk_at dksX6_spread_3 12 rfl rfl)
theorem dX6_spread_85 : decode cX6_spread 85 = .ok (.aload_n 0, 1) := dk_42 (dk_at dksX6_spread_3 15 rfl rfl)
theorem dX6_spread_86 : decode cX6_spread 86 = .ok (.iload_n 1, 1) := dk_27 (dk_at dksX6_spread_3 16 rfl rfl)
theorem dX6_spread_87 : decode cX6_spread 87 = .ok (.iload_n 1, 1) := dk_27 (dk_at dksX6_spread_3 17 rfl rfl)
theorem dX6_spread_88 : decode cX6_spread 88 = .ok (.invokevirtual 326, 3) := dk_182 1 70 (dk_at dksX6_spread_3 18 rfl rfl)
theorem dX6_spread_91 : decode cX6_spread 91 = .ok (.iconst 1, 1) := dk_4 (dk_at dksX6_spread_3 21 rfl rfl)
theorem dX6_spread_92 : decode cX6_spread 92 = .ok (.istore_n 2, 1) := dk_61 (dk_at dksX6_spread_3 22 rfl rfl)
theorem dX6_spread_93 : decode cX6_spread 93 = .ok (.iload_n 2, 1) := dk_28 (dk_at dksX6_spread_3 23 rfl rfl)
theorem dX6_spread_94 : decode cX6_spread 94 = .ok (.bipush 12, 2) := dk_16 12 (dk_at dksX6_spread_4 0 rfl rfl)
theorem dX6_spread_96 : decode cX6_spread 96 = .ok (.if_icmp .gt 73, 3) := dk_163 0 73 (dk_at dksX6_spread_4 2 rfl rfl)
theorem dX6_spread_99 : decode cX6_spread 99 = .ok (.aload_n 0, 1) := dk_42 (dk_at dksX6_spread_4 5 rfl rfl)
theorem dX6_spread_100 : decode cX6_spread 100 = .ok (.getfield 72, 3) := dk_180 0 72 (dk_at dksX6_spread_4 6 rfl rfl)
theorem dX6_spread_103 : decode cX6_spread 103 = .ok (.iload_n 1, 1) := dk_27 (dk_at dksX6_spread_4 9 rfl rfl)
theorem dX6_spread_104 : decode cX6_spread 104 = .ok (.iaload, 1) := dk_46 (dk_at dksX6_spread_4 10 rfl rfl)
theorem dX6_spread_105 : decode cX6_spread 105 = .ok (.ifCond .ne 16, 3) := dk_154 0 16 (dk_at dksX6_spread_4 11 rfl rfl)
theorem dX6_spread_108 : decode cX6_spread 108 = .ok (.iload_n 2, 1) := dk_28 (dk_at dksX6_spread_4 14 rfl rfl)
theorem dX6_spread_109 : decode cX6_spread 109 = .ok (.iconst 1, 1) := dk_4 (dk_at dksX6_spread_4 15 rfl rfl)
theorem dX6_spread_110 : decode cX6_spread 110 = .ok (.if_icmp .ne 7, 3) := dk_160 0 7 (dk_at dksX6_spread_4 16 rfl rfl)
theorem dX6_spread_113 : decode cX6_spread 113 = .ok (.iconst 1, 1) := dk_4 (dk_at dksX6_spread_4 19 rfl rfl)
theorem dX6_spread_114 : decode cX6_spread 114 = .ok (.goto 26, 3) := dk_167 0 26 (dk_at dksX6_spread_4 20 rfl rfl)
theorem dX6_spread_117 : decode cX6_spread 117 = .ok (.iconst 0, 1) := dk_3 (dk_at dksX6_spread_4 23 rfl rfl)
theorem dX6_spread_118 : decode cX6_spread 118 = .ok (.goto 22, 3) := dk_167 0 22 (dk_at dksX6_spread_5 0 rfl rfl)
theorem dX6_spread_121 : decode cX6_spread 121 = .ok (.aload_n 0, 1) := dk_42 (dk_at dksX6_spread_5 3 rfl rfl)
theorem dX6_spread_122 : decode cX6_spread 122 = .ok (.getfield 72, 3) := dk_180 0 72 (dk_at dksX6_spread_5 4 rfl rfl)
theorem dX6_spread_125 : decode cX6_spread 125 = .ok (.iload_n 1, 1) := dk_27 (dk_at dksX6_spread_5 7 rfl rfl)
theorem dX6_spread_126 : decode cX6_spread 126 = .ok (.iaload, 1) := dk_46 (dk_at dksX6_spread_5 8 rfl rfl)
theorem dX6_spread_127 : decode cX6_spread 127 = .ok (.iload_n 2, 1) := dk_28 (dk_at dksX6_spread_5 9 rfl rfl)
theorem dX6_spread_128 : decode cX6_spread 128 = .ok (.ishr, 1) := dk_122 (dk_at dksX6_spread_5 10 rfl rfl)
theorem dX6_spread_129 : decode cX6_spread 129 = .ok (.iconst 1, 1) := dk_4 (dk_at dksX6_spread_5 11 rfl rfl)
theorem dX6_spread_130 : decode cX6_spread 130 = .ok (.iand, 1) := dk_126 (dk_at dksX6_spread_5 12 rfl rfl)
theorem dX6_spread_131 : decode cX6_spread 131 = .ok (.iconst 1, 1) := dk_4 (dk_at dksX6_spread_5 13 rfl rfl)
theorem dX6_spread_132 : decode cX6_spread 132 = .ok (.if_icmp .ne 7, 3) := dk_160 0 7 (dk_at dksX6_spread_5 14 rfl rfl)
theorem dX6_spread_135 : decode cX6_spread 135 = .ok (.iconst 1, 1) := dk_4 (dk_at dksX6_spread_5 17 rfl rfl)
theorem dX6_spread_136 : decode cX6_spread 136 = .ok (.goto 4, 3) := dk_167 0 4 (dk_at dksX6_spread_5 18 rfl rfl)
theorem dX6_spread_139 : decode cX6_spread 139 = .ok (.iconst 0, 1) := dk_3 (dk_at dksX6_spread_5 21 rfl rfl)
theorem dX6_spread_140 : decode cX6_spread 140 = .ok (.istore_n 3, 1) := dk_62 (dk_at dksX6_spread_5 22 rfl rfl)
theorem dX6_spread_141 : decode cX6_spread 141 = .ok (.aload_n 0, 1) := dk_42 (dk_at dksX6_spread_5 23 rfl rfl)
theorem dX6_spread_142 : decode cX6_spread 142 = .ok (.getfield 86, 3) := dk_180 0 86 (dk_at dksX6_spread_6 0 rfl rfl)
theorem dX6_spread_145 : decode cX6_spread 145 = .ok (.bipush 13, 2) := dk_16 13 (dk_at dksX6_spread_6 3 rfl rfl)
theorem dX6_spread_147 : decode cX6_spread 147 = .ok (.iload_n 1, 1) := dk_27 (dk_at dksX6_spread_6 5 rfl rfl)
theorem dX6_spread_148 : decode cX6_spread 148 = .ok (.imul, 1) := dk_104 (dk_at dksX6_spread_6 6 rfl rfl)
theorem dX6_spread_149 : decode cX6_spread 149 = .ok (.iload_n 2, 1) := dk_28 (dk_at dksX6_spread_6 7 rfl rfl)
theorem dX6_spread_150 : decode cX6_spread 150 = .ok (.iadd, 1) := dk_96 (dk_at dksX6_spread_6 8 rfl rfl)
theorem dX6_spread_151 : decode cX6_spread 151 = .ok (.iload_n 3, 1) := dk_29 (dk_at dksX6_spread_6 9 rfl rfl)
theorem dX6_spread_152 : decode cX6_spread 152 = .ok (.ifCond .eq 7, 3) := dk_153 0 7 (dk_at dksX6_spread_6 10 rfl rfl)
theorem dX6_spread_155 : decode cX6_spread 155 = .ok (.lconst 0, 1) := dk_9 (dk_at dksX6_spread_6 13 rfl rfl)
theorem dX6_spread_156 : decode cX6_spread 156 = .ok (.goto 6, 3) := dk_167 0 6 (dk_at dksX6_spread_6 14 rfl rfl)
theorem dX6_spread_159 : decode cX6_spread 159 = .ok (.ldc2_w 321, 3) := dk_20 1 65 (dk_at dksX6_spread_6 17 rfl rfl)
theorem dX6_spread_162 : decode cX6_spread 162 = .ok (.lastore, 1) := dk_80 (dk_at dksX6_spread_6 20 rfl rfl)
theorem dX6_spread_163 : decode cX6_spread 163 = .ok (.iinc 2 1, 3) := dk_132 2 1 (dk_at dksX6_spread_6 21 rfl rfl)
theorem dX6_spread_166 : decode cX6_spread 166 = .ok (.goto (-73), 3) := dk_167 255 183 (dk_at dksX6_spread_7 0 rfl rfl)
theorem dX6_spread_169 : decode cX6_spread 169 = .ok (.iconst 0, 1) := dk_3 (dk_at dksX6_spread_7 3 rfl rfl)
theorem dX6_spread_170 : decode cX6_spread 170 = .ok (.istore_n 2, 1) := dk_61 (dk_at dksX6_spread_7 4 rfl rfl)
theorem dX6_spread_171 : decode cX6_spread 171 = .ok (.iload_n 2, 1) := dk_28 (dk_at dksX6_spread_7 5 rfl rfl)
theorem dX6_spread_172 : decode cX6_spread 172 = .ok (.bipush 12, 2) := dk_16 12 (dk_at dksX6_spread_7 6 rfl rfl)
theorem dX6_spread_174 : decode cX6_spread 174 = .ok (.if_icmp .ge 137, 3) := dk_162 0 137 (dk_at dksX6_spread_7 8 rfl rfl)
theorem dX6_spread_177 : decode cX6_spread 177 = .ok (.iconst 0, 1) := dk_3 (dk_at dksX6_spread_7 11 rfl rfl)
theorem dX6_spread_178 : decode cX6_spread 178 = .ok (.istore_n 3, 1) := dk_62 (dk_at dksX6_spread_7 12 rfl rfl)
theorem dX6_spread_179 : decode cX6_spread 179 = .ok (.iload_n 3, 1) := dk_29 (dk_at dksX6_spread_7 13 rfl rfl)
theorem dX6_spread_180 : decode cX6_spread 180 = .ok (.aload_n 0, 1) := dk_42 (dk_at dksX6_spread_7 14 rfl rfl)
theorem dX6_spread_181 : decode cX6_spread 181 = .ok (.getfield 60, 3) := dk_180 0 60 (dk_at dksX6_spread_7 15 rfl rfl)
theorem dX6_spread_184 : decode cX6_spread 184 = .ok (.iload_n 1, 1) := dk_27 (dk_at dksX6_spread_7 18 rfl rfl)
theorem dX6_spread_185 : decode cX6_spread 185 = .ok (.iaload, 1) := dk_46 (dk_at dksX6_spread_7 19 rfl rfl)
theorem dX6_spread_186 : decode cX6_spread 186 = .ok (.if_icmp .ge 119, 3) := dk_162 0 119 (dk_at dksX6_spread_7 20 rfl rfl)
theorem dX6_spread_189 : decode cX6_spread 189 = .ok (.ldc2_w 316, 3) := dk_20 1 60 (dk_at dksX6_spread_8 0 rfl rfl)
theorem dX6_spread_192 : decode cX6_spread 192 = .ok (.aload_n 0, 1) := dk_42 (dk_at dksX6_spread_8 3 rfl rfl)
theorem dX6_spread_193 : decode cX6_spread 193 = .ok (.getfield 69, 3) := dk_180 0 69 (dk_at dksX6_spread_8 4 rfl rfl)
theorem dX6_spread_196 : decode cX6_spread 196 = .ok (.bipush 12, 2) := dk_16 12 (dk_at dksX6_spread_8 7 rfl rfl)
theorem dX6_spread_198 : decode cX6_spread 198 = .ok (.iload_n 1, 1) := dk_27 (dk_at dksX6_spread_8 9 rfl rfl)
theorem dX6_spread_199 : decode cX6_spread 199 = .ok (.imul, 1) := dk_104 (dk_at dksX6_spread_8 10 rfl rfl)
theorem dX6_spread_200 : decode cX6_spread 200 = .ok (.iload_n 3, 1) := dk_29 (dk_at dksX6_spread_8 11 rfl rfl)
theorem dX6_spread_201 : decode cX6_spread 201 = .ok (.iadd, 1) := dk_96 (dk_at dksX6_spread_8 12 rfl rfl)
theorem dX6_spread_202 : decode cX6_spread 202 = .ok (.iaload, 1) := dk_46 (dk_at dksX6_spread_8 13 rfl rfl)
theorem dX6_spread_203 : decode cX6_spread 203 = .ok (.i2l, 1) := dk_133 (dk_at dksX6_spread_8 14 rfl rfl)
theorem dX6_spread_204 : decode cX6_spread 204 = .ok (.lmul, 1) := dk_105 (dk_at dksX6_spread_8 15 rfl rfl)
theorem dX6_spread_205 : decode cX6_spread 205 = .ok (.lconst 1, 1) := dk_10 (dk_at dksX6_spread_8 16 rfl rfl)
theorem dX6_spread_206 : decode cX6_spread 206 = .ok (.ladd, 1) := dk_97 (dk_at dksX6_spread_8 17 rfl rfl)
theorem dX6_spread_207 : decode cX6_spread 207 = .ok (.lstore 4, 2) := dk_55 4 (dk_at dksX6_spread_8 18 rfl rfl)
theorem dX6_spread_209 : decode cX6_spread 209 = .ok (.bipush 13, 2) := dk_16 13 (dk_at dksX6_spread_8 20 rfl rfl)
theorem dX6_spread_211 : decode cX6_spread 211 = .ok (.iload_n 1, 1) := dk_27 (dk_at dksX6_spread_8 22 rfl rfl)
theorem dX6_spread_212 : decode cX6_spread 212 = .ok (.imul, 1) := dk_104 (dk_at dksX6_spread_8 23 rfl rfl)
theorem dX6_spread_213 : decode cX6_spread 213 = .ok (.aload_n 0, 1) := dk_42 (dk_at dksX6_spread_9 0 rfl rfl)
theorem dX6_spread_214 : decode cX6_spread 214 = .ok (.getfield 63, 3) := dk_180 0 63 (dk_at dksX6_spread_9 1 rfl rfl)
theorem dX6_spread_217 : decode cX6_spread 217 = .ok (.bipush 12, 2) := dk_16 12 (dk_at dksX6_spread_9 4 rfl rfl)
theorem dX6_spread_219 : decode cX6_spread 219 = .ok (.iload_n 1, 1) := dk_27 (dk_at dksX6_spread_9 6 rfl rfl)
theorem dX6_spread_220 : decode cX6_spread 220 = .ok (.imul, 1) := dk_104 (dk_at dksX6_spread_9 7 rfl rfl)
theorem dX6_spread_221 : decode cX6_spread 221 = .ok (.iload_n 3, 1) := dk_29 (dk_at dksX6_spread_9 8 rfl rfl)
theorem dX6_spread_222 : decode cX6_spread 222 = .ok (.iadd, 1) := dk_96 (dk_at dksX6_spread_9 9 rfl rfl)
theorem dX6_spread_223 : decode cX6_spread 223 = .ok (.iaload, 1) := dk_46 (dk_at dksX6_spread_9 10 rfl rfl)
theorem dX6_spread_224 : decode cX6_spread 224 = .ok (.iadd, 1) := dk_96 (dk_at dksX6_spread_9 11 rfl rfl)
theorem dX6_spread_225 : decode cX6_spread 225 = .ok (.istore 6, 2) := dk_54 6 (dk_at dksX6_spread_9 12 rfl rfl)
theorem dX6_spread_227 : decode cX6_spread 227 = .ok (.bipush 13, 2) := dk_16 13 (dk_at dksX6_spread_9 14 rfl rfl)
theorem dX6_spread_229 : decode cX6_spread 229 = .ok (.iload_n 1, 1) := dk_27 (dk_at dksX6_spread_9 16 rfl rfl)
theorem dX6_spread_230 : decode cX6_spread 230 = .ok (.imul, 1) := dk_104 (dk_at dksX6_spread_9 17 rfl rfl)
theorem dX6_spread_231 : decode cX6_spread 231 = .ok (.aload_n 0, 1) := dk_42 (dk_at dksX6_spread_9 18 rfl rfl)
theorem dX6_spread_232 : decode cX6_spread 232 = .ok (.getfield 66, 3) := dk_180 0 66 (dk_at dksX6_spread_9 19 rfl rfl)
theorem dX6_spread_235 : decode cX6_spread 235 = .ok (.bipush 12, 2) := dk_16 12 (dk_at dksX6_spread_9 22 rfl rfl)
theorem dX6_spread_237 : decode cX6_spread 237 = .ok (.iload_n 1, 1) := dk_27 (dk_at dksX6_spread_10 0 rfl rfl)
theorem dX6_spread_238 : decode cX6_spread 238 = .ok (.imul, 1) := dk_104 (dk_at dksX6_spread_10 1 rfl rfl)
theorem dX6_spread_239 : decode cX6_spread 239 = .ok (.iload_n 3, 1) := dk_29 (dk_at dksX6_spread_10 2 rfl rfl)
theorem dX6_spread_240 : decode cX6_spread 240 = .ok (.iadd, 1) := dk_96 (dk_at dksX6_spread_10 3 rfl rfl)
theorem dX6_spread_241 : decode cX6_spread 241 = .ok (.iaload, 1) := dk_46 (dk_at dksX6_spread_10 4 rfl rfl)
theorem dX6_spread_242 : decode cX6_spread 242 = .ok (.iadd, 1) := dk_96 (dk_at dksX6_spread_10 5 rfl rfl)
theorem dX6_spread_243 : decode cX6_spread 243 = .ok (.istore 7, 2) := dk_54 7 (dk_at dksX6_spread_10 6 rfl rfl)
theorem dX6_spread_245 : decode cX6_spread 245 = .ok (.aload_n 0, 1) := dk_42 (dk_at dksX6_spread_10 8 rfl rfl)
theorem dX6_spread_246 : decode cX6_spread 246 = .ok (.getfield 86, 3) := dk_180 0 86 (dk_at dksX6_spread_10 9 rfl rfl)
theorem dX6_spread_249 : decode cX6_spread 249 = .ok (.iload 6, 2) := dk_21 6 (dk_at dksX6_spread_10 12 rfl rfl)
theorem dX6_spread_251 : decode cX6_spread 251 = .ok (.aload_n 0, 1) := dk_42 (dk_at dksX6_spread_10 14 rfl rfl)
theorem dX6_spread_252 : decode cX6_spread 252 = .ok (.getfield 86, 3) := dk_180 0 86 (dk_at dksX6_spread_10 15 rfl rfl)
theorem dX6_spread_255 : decode cX6_spread 255 = .ok (.iload 6, 2) := dk_21 6 (dk_at dksX6_spread_10 18 rfl rfl)
theorem dX6_spread_257 : decode cX6_spread 257 = .ok (.laload, 1) := dk_47 (dk_at dksX6_spread_10 20 rfl rfl)
theorem dX6_spread_258 : decode cX6_spread 258 = .ok (.aload_n 0, 1) := dk_42 (dk_at dksX6_spread_10 21 rfl rfl)
theorem dX6_spread_259 : decode cX6_spread 259 = .ok (.getfield 86, 3) := dk_180 0 86 (dk_at dksX6_spread_11 0 rfl rfl)
theorem dX6_spread_262 : decode cX6_spread 262 = .ok (.iload 7, 2) := dk_21 7 (dk_at dksX6_spread_11 3 rfl rfl)
theorem dX6_spread_264 : decode cX6_spread 264 = .ok (.laload, 1) := dk_47 (dk_at dksX6_spread_11 5 rfl rfl)
theorem dX6_spread_265 : decode cX6_spread 265 = .ok (.lload 4, 2) := dk_22 4 (dk_at dksX6_spread_11 6 rfl rfl)
theorem dX6_spread_267 : decode cX6_spread 267 = .ok (.ladd, 1) := dk_97 (dk_at dksX6_spread_11 8 rfl rfl)
theorem dX6_spread_268 : decode cX6_spread 268 = .ok (.invokestatic 329, 3) := dk_184 1 73 (dk_at dksX6_spread_11 9 rfl rfl)
theorem dX6_spread_271 : decode cX6_spread 271 = .ok (.lastore, 1) := dk_80 (dk_at dksX6_spread_11 12 rfl rfl)
theorem dX6_spread_272 : decode cX6_spread 272 = .ok (.aload_n 0, 1) := dk_42 (dk_at dksX6_spread_11 13 rfl rfl)
theorem dX6_spread_273 : decode cX6_spread 273 = .ok (.getfield 86, 3) := dk_180 0 86 (dk_at dksX6_spread_11 14 rfl rfl)
theorem dX6_spread_276 : decode cX6_spread 276 = .ok (.iload 7, 2) := dk_21 7 (dk_at dksX6_spread_11 17 rfl rfl)
theorem dX6_spread_278 : decode cX6_spread 278 = .ok (.aload_n 0, 1) := dk_42 (dk_at dksX6_spread_11 19 rfl rfl)
theorem dX6_spread_279 : decode cX6_spread 279 = .ok (.getfield 86, 3) := dk_180 0 86 (dk_at dksX6_spread_11 20 rfl rfl)
theorem dX6_spread_282 : decode cX6_spread 282 = .ok (.iload 7, 2) := dk_21 7 (dk_at dksX6_spread_12 0 rfl rfl)
theorem dX6_spread_284 : decode cX6_spread 284 = .ok (.laload, 1) := dk_47 (dk_at dksX6_spread_12 2 rfl rfl)
theorem dX6_spread_285 : decode cX6_spread 285 = .ok (.aload_n 0, 1) := dk_42 (dk_at dksX6_spread_12 3 rfl rfl)
theorem dX6_spread_286 : decode cX6_spread 286 = .ok (.getfield 86, 3) := dk_180 0 86 (dk_at dksX6_spread_12 4 rfl rfl)
theorem dX6_spread_289 : decode cX6_spread 289 = .ok (.iload 6, 2) := dk_21 6 (dk_at dksX6_spread_12 7 rfl rfl)
theorem dX6_spread_291 : decode cX6_spread 291 = .ok (.laload, 1) := dk_47 (dk_at dksX6_spread_12 9 rfl rfl)
theorem dX6_spread_292 : decode cX6_spread 292 = .ok (.lload 4, 2) := dk_22 4 (dk_at dksX6_spread_12 10 rfl rfl)
theorem dX6_spread_294 : decode cX6_spread 294 = .ok (.ladd, 1) := dk_97 (dk_at dksX6_spread_12 12 rfl rfl)
theorem dX6_spread_295 : decode cX6_spread 295 = .ok (.invokestatic 329, 3) := dk_184 1 73 (dk_at dksX6_spread_12 13 rfl rfl)
theorem dX6_spread_298 : decode cX6_spread 298 = .ok (.lastore, 1) := dk_80 (dk_at dksX6_spread_12 16 rfl rfl)
theorem dX6_spread_299 : decode cX6_spread 299 = .ok (.iinc 3 1, 3) := dk_132 3 1 (dk_at dksX6_spread_12 17 rfl rfl)
theorem dX6_spread_302 : decode cX6_spread 302 = .ok (.goto (-123), 3) := dk_167 255 133 (dk_at dksX6_spread_12 20 rfl rfl)
theorem dX6_spread_305 : decode cX6_spread 305 = .ok (.iinc 2 1, 3) := dk_132 2 1 (dk_at dksX6_spread_13 0 rfl rfl)
theorem dX6_spread_308 : decode cX6_spread 308 = .ok (.goto (-137), 3) := dk_167 255 119 (dk_at dksX6_spread_13 3 rfl rfl)
theorem dX6_spread_311 : decode cX6_spread 311 = .ok (.return_, 1) := dk_177 (dk_at dksX6_spread_13 6 rfl rfl)
abbrev cX6_knowsYear : ByteArray := prog_16_method_47_code
def yX6_knowsYear : MethodName := ⟨RX6, "knowsYear", "(II)Z"⟩
def dkwX6_knowsYear_2 : List UInt8 := [167, 255, 212, 3, 172]
abbrev dktX6_knowsYear_2 : List UInt8 := dkwX6_knowsYear_2 ++ []
def dkwX6_knowsYear_1 : List UInt8 := [42, 180, 0, 48, 16, 6, 27, 104, 29, 96, 46, 184, 0, 186, 153, 0, 5, 4, 172, 132, 3, 1]
abbrev dktX6_knowsYear_1 : List UInt8 := dkwX6_knowsYear_1 ++ dktX6_knowsYear_2
def dkwX6_knowsYear_0 : List UInt8 := [3, 62, 29, 42, 180, 0, 42, 27, 46, 162, 0, 40, 28, 42, 180, 0, 45, 16, 6, 27, 104, 29, 96, 46]
abbrev dktX6_knowsYear_0 : List UInt8 := dkwX6_knowsYear_0 ++ dktX6_knowsYear_1
theorem dksX6_knowsYear_0 : cX6_knowsYear.data.toList.drop 0 = dktX6_knowsYear_0 := by decide +kernel
theorem dksX6_knowsYear_1 : cX6_knowsYear.data.toList.drop 24 = dktX6_knowsYear_1 := dk_seg dksX6_knowsYear_0 24 rfl rfl
theorem dksX6_knowsYear_2 : cX6_knowsYear.data.toList.drop 46 = dktX6_knowsYear_2 := dk_seg dksX6_knowsYear_1 22 rfl rfl
theorem dX6_knowsYear_0 : decode cX6_knowsYear 0 = .ok (.iconst 0, 1) := dk_3 (dk_at dksX6_knowsYear_0 0 rfl rfl)
theorem dX6_knowsYear_1 : decode cX6_knowsYear 1 = .ok (.istore_n 3, 1) := dk_62 (dk_at dksX6_knowsYear_0 1 rfl rfl)
theorem dX6_knowsYear_2 : decode cX6_knowsYear 2 = .ok (.iload_n 3, 1) := dk_29 (dk_at dksX6_knowsYear_0 2 rfl rfl)
theorem dX6_knowsYear_3 : decode cX6_knowsYear 3 = .ok (.aload_n 0, 1) := dk_42 (dk_at dksX6_knowsYear_0 3 rfl rfl)
theorem dX6_knowsYear_4 : decode cX6_knowsYear 4 = .ok (.getfield 42, 3) := dk_180 0 42 (dk_at dksX6_knowsYear_0 4 rfl rfl)
theorem dX6_knowsYear_7 : decode cX6_knowsYear 7 = .ok (.iload_n 1, 1) := dk_27 (dk_at dksX6_knowsYear_0 7 rfl rfl)
theorem dX6_knowsYear_8 : decode cX6_knowsYear 8 = .ok (.iaload, 1) := dk_46 (dk_at dksX6_knowsYear_0 8 rfl rfl)
theorem dX6_knowsYear_9 : decode cX6_knowsYear 9 = .ok (.if_icmp .ge 40, 3) := dk_162 0 40 (dk_at dksX6_knowsYear_0 9 rfl rfl)
theorem dX6_knowsYear_12 : decode cX6_knowsYear 12 = .ok (.iload_n 2, 1) := dk_28 (dk_at dksX6_knowsYear_0 12 rfl rfl)
theorem dX6_knowsYear_13 : decode cX6_knowsYear 13 = .ok (.aload_n 0, 1) := dk_42 (dk_at dksX6_knowsYear_0 13 rfl rfl)
theorem dX6_knowsYear_14 : decode cX6_knowsYear 14 = .ok (.getfield 45, 3) := dk_180 0 45 (dk_at dksX6_knowsYear_0 14 rfl rfl)
theorem dX6_knowsYear_17 : decode cX6_knowsYear 17 = .ok (.bipush 6, 2) := dk_16 6 (dk_at dksX6_knowsYear_0 17 rfl rfl)
theorem dX6_knowsYear_19 : decode cX6_knowsYear 19 = .ok (.iload_n 1, 1) := dk_27 (dk_at dksX6_knowsYear_0 19 rfl rfl)
theorem dX6_knowsYear_20 : decode cX6_knowsYear 20 = .ok (.imul, 1) := dk_104 (dk_at dksX6_knowsYear_0 20 rfl rfl)
theorem dX6_knowsYear_21 : decode cX6_knowsYear 21 = .ok (.iload_n 3, 1) := dk_29 (dk_at dksX6_knowsYear_0 21 rfl rfl)
theorem dX6_knowsYear_22 : decode cX6_knowsYear 22 = .ok (.iadd, 1) := dk_96 (dk_at dksX6_knowsYear_0 22 rfl rfl)
theorem dX6_knowsYear_23 : decode cX6_knowsYear 23 = .ok (.iaload, 1) := dk_46 (dk_at dksX6_knowsYear_0 23 rfl rfl)
theorem dX6_knowsYear_24 : decode cX6_knowsYear 24 = .ok (.aload_n 0, 1) := dk_42 (dk_at dksX6_knowsYear_1 0 rfl rfl)
theorem dX6_knowsYear_25 : decode cX6_knowsYear 25 = .ok (.getfield 48, 3) := dk_180 0 48 (dk_at dksX6_knowsYear_1 1 rfl rfl)
theorem dX6_knowsYear_28 : decode cX6_knowsYear 28 = .ok (.bipush 6, 2) := dk_16 6 (dk_at dksX6_knowsYear_1 4 rfl rfl)
theorem dX6_knowsYear_30 : decode cX6_knowsYear 30 = .ok (.iload_n 1, 1) := dk_27 (dk_at dksX6_knowsYear_1 6 rfl rfl)
theorem dX6_knowsYear_31 : decode cX6_knowsYear 31 = .ok (.imul, 1) := dk_104 (dk_at dksX6_knowsYear_1 7 rfl rfl)
theorem dX6_knowsYear_32 : decode cX6_knowsYear 32 = .ok (.iload_n 3, 1) := dk_29 (dk_at dksX6_knowsYear_1 8 rfl rfl)
theorem dX6_knowsYear_33 : decode cX6_knowsYear 33 = .ok (.iadd, 1) := dk_96 (dk_at dksX6_knowsYear_1 9 rfl rfl)
theorem dX6_knowsYear_34 : decode cX6_knowsYear 34 = .ok (.iaload, 1) := dk_46 (dk_at dksX6_knowsYear_1 10 rfl rfl)
theorem dX6_knowsYear_35 : decode cX6_knowsYear 35 = .ok (.invokestatic 186, 3) := dk_184 0 186 (dk_at dksX6_knowsYear_1 11 rfl rfl)
theorem dX6_knowsYear_38 : decode cX6_knowsYear 38 = .ok (.ifCond .eq 5, 3) := dk_153 0 5 (dk_at dksX6_knowsYear_1 14 rfl rfl)
theorem dX6_knowsYear_41 : decode cX6_knowsYear 41 = .ok (.iconst 1, 1) := dk_4 (dk_at dksX6_knowsYear_1 17 rfl rfl)
theorem dX6_knowsYear_42 : decode cX6_knowsYear 42 = .ok (.ireturn, 1) := dk_172 (dk_at dksX6_knowsYear_1 18 rfl rfl)
theorem dX6_knowsYear_43 : decode cX6_knowsYear 43 = .ok (.iinc 3 1, 3) := dk_132 3 1 (dk_at dksX6_knowsYear_1 19 rfl rfl)
theorem dX6_knowsYear_46 : decode cX6_knowsYear 46 = .ok (.goto (-44), 3) := dk_167 255 212 (dk_at dksX6_knowsYear_2 0 rfl rfl)
theorem dX6_knowsYear_49 : decode cX6_knowsYear 49 = .ok (.iconst 0, 1) := dk_3 (dk_at dksX6_knowsYear_2 3 rfl rfl)
theorem dX6_knowsYear_50 : decode cX6_knowsYear 50 = .ok (.ireturn, 1) := dk_172 (dk_at dksX6_knowsYear_2 4 rfl rfl)
abbrev cX6_push : ByteArray := prog_16_method_44_code
def yX6_push : MethodName := ⟨RX6, "push", "(I)V"⟩
def dkwX6_push_1 : List UInt8 := [42, 180, 1, 53, 96, 17, 39, 17, 112, 27, 79, 42, 89, 180, 1, 53, 4, 96, 181, 1, 53, 177]
abbrev dktX6_push_1 : List UInt8 := dkwX6_push_1 ++ []
def dkwX6_push_0 : List UInt8 := [42, 180, 0, 92, 27, 51, 154, 0, 39, 42, 180, 0, 92, 27, 4, 84, 42, 180, 0, 89, 42, 180, 1, 50]
abbrev dktX6_push_0 : List UInt8 := dkwX6_push_0 ++ dktX6_push_1
theorem dksX6_push_0 : cX6_push.data.toList.drop 0 = dktX6_push_0 := by decide +kernel
theorem dksX6_push_1 : cX6_push.data.toList.drop 24 = dktX6_push_1 := dk_seg dksX6_push_0 24 rfl rfl
theorem dX6_push_0 : decode cX6_push 0 = .ok (.aload_n 0, 1) := dk_42 (dk_at dksX6_push_0 0 rfl rfl)
theorem dX6_push_1 : decode cX6_push 1 = .ok (.getfield 92, 3) := dk_180 0 92 (dk_at dksX6_push_0 1 rfl rfl)
theorem dX6_push_4 : decode cX6_push 4 = .ok (.iload_n 1, 1) := dk_27 (dk_at dksX6_push_0 4 rfl rfl)
theorem dX6_push_5 : decode cX6_push 5 = .ok (.baload, 1) := dk_51 (dk_at dksX6_push_0 5 rfl rfl)
theorem dX6_push_6 : decode cX6_push 6 = .ok (.ifCond .ne 39, 3) := dk_154 0 39 (dk_at dksX6_push_0 6 rfl rfl)
theorem dX6_push_9 : decode cX6_push 9 = .ok (.aload_n 0, 1) := dk_42 (dk_at dksX6_push_0 9 rfl rfl)
theorem dX6_push_10 : decode cX6_push 10 = .ok (.getfield 92, 3) := dk_180 0 92 (dk_at dksX6_push_0 10 rfl rfl)
theorem dX6_push_13 : decode cX6_push 13 = .ok (.iload_n 1, 1) := dk_27 (dk_at dksX6_push_0 13 rfl rfl)
theorem dX6_push_14 : decode cX6_push 14 = .ok (.iconst 1, 1) := dk_4 (dk_at dksX6_push_0 14 rfl rfl)
theorem dX6_push_15 : decode cX6_push 15 = .ok (.bastore, 1) := dk_84 (dk_at dksX6_push_0 15 rfl rfl)
theorem dX6_push_16 : decode cX6_push 16 = .ok (.aload_n 0, 1) := dk_42 (dk_at dksX6_push_0 16 rfl rfl)
theorem dX6_push_17 : decode cX6_push 17 = .ok (.getfield 89, 3) := dk_180 0 89 (dk_at dksX6_push_0 17 rfl rfl)
theorem dX6_push_20 : decode cX6_push 20 = .ok (.aload_n 0, 1) := dk_42 (dk_at dksX6_push_0 20 rfl rfl)
theorem dX6_push_21 : decode cX6_push 21 = .ok (.getfield 306, 3) := dk_180 1 50 (dk_at dksX6_push_0 21 rfl rfl)
theorem dX6_push_24 : decode cX6_push 24 = .ok (.aload_n 0, 1) := dk_42 (dk_at dksX6_push_1 0 rfl rfl)
theorem dX6_push_25 : decode cX6_push 25 = .ok (.getfield 309, 3) := dk_180 1 53 (dk_at dksX6_push_1 1 rfl rfl)
theorem dX6_push_28 : decode cX6_push 28 = .ok (.iadd, 1) := dk_96 (dk_at dksX6_push_1 4 rfl rfl)
theorem dX6_push_29 : decode cX6_push 29 = .ok (.sipush 10001, 3) := dk_17 39 17 (dk_at dksX6_push_1 5 rfl rfl)
theorem dX6_push_32 : decode cX6_push 32 = .ok (.irem, 1) := dk_112 (dk_at dksX6_push_1 8 rfl rfl)
theorem dX6_push_33 : decode cX6_push 33 = .ok (.iload_n 1, 1) := dk_27 (dk_at dksX6_push_1 9 rfl rfl)
theorem dX6_push_34 : decode cX6_push 34 = .ok (.iastore, 1) := dk_79 (dk_at dksX6_push_1 10 rfl rfl)
theorem dX6_push_35 : decode cX6_push 35 = .ok (.aload_n 0, 1) := dk_42 (dk_at dksX6_push_1 11 rfl rfl)
theorem dX6_push_36 : decode cX6_push 36 = .ok (.dup, 1) := dk_89 (dk_at dksX6_push_1 12 rfl rfl)
theorem dX6_push_37 : decode cX6_push 37 = .ok (.getfield 309, 3) := dk_180 1 53 (dk_at dksX6_push_1 13 rfl rfl)
theorem dX6_push_40 : decode cX6_push 40 = .ok (.iconst 1, 1) := dk_4 (dk_at dksX6_push_1 16 rfl rfl)
theorem dX6_push_41 : decode cX6_push 41 = .ok (.iadd, 1) := dk_96 (dk_at dksX6_push_1 17 rfl rfl)
theorem dX6_push_42 : decode cX6_push 42 = .ok (.putfield 309, 3) := dk_181 1 53 (dk_at dksX6_push_1 18 rfl rfl)
theorem dX6_push_45 : decode cX6_push 45 = .ok (.return_, 1) := dk_177 (dk_at dksX6_push_1 21 rfl rfl)
abbrev cX6_flood : ByteArray := prog_16_method_45_code
def yX6_flood : MethodName := ⟨RX6, "flood", "(II)V"⟩
def dkwX6_flood_5 : List UInt8 := [21, 4, 96, 46, 182, 1, 56, 132, 4, 1, 167, 255, 178, 167, 255, 124, 177]
abbrev dktX6_flood_5 : List UInt8 := dkwX6_flood_5 ++ []
def dkwX6_flood_4 : List UInt8 := [29, 29, 42, 180, 0, 54, 16, 6, 27, 104, 21, 4, 96, 46, 96, 42, 180, 0, 57, 16, 6, 27, 104]
abbrev dktX6_flood_4 : List UInt8 := dkwX6_flood_4 ++ dktX6_flood_5
def dkwX6_flood_3 : List UInt8 := [27, 104, 21, 4, 96, 46, 100, 42, 180, 0, 57, 16, 6, 27, 104, 21, 4, 96, 46, 182, 1, 56, 42, 28]
abbrev dktX6_flood_3 : List UInt8 := dkwX6_flood_3 ++ dktX6_flood_4
def dkwX6_flood_2 : List UInt8 := [3, 54, 4, 21, 4, 42, 180, 0, 51, 27, 46, 162, 0, 73, 42, 28, 29, 29, 42, 180, 0, 54, 16, 6]
abbrev dktX6_flood_2 : List UInt8 := dkwX6_flood_2 ++ dktX6_flood_3
def dkwX6_flood_1 : List UInt8 := [17, 39, 17, 112, 181, 1, 50, 42, 89, 180, 1, 53, 4, 100, 181, 1, 53, 42, 180, 0, 92, 29, 3, 84]
abbrev dktX6_flood_1 : List UInt8 := dkwX6_flood_1 ++ dktX6_flood_2
def dkwX6_flood_0 : List UInt8 := [42, 180, 1, 53, 158, 0, 131, 42, 180, 0, 89, 42, 180, 1, 50, 46, 62, 42, 42, 180, 1, 50, 4, 96]
abbrev dktX6_flood_0 : List UInt8 := dkwX6_flood_0 ++ dktX6_flood_1
theorem dksX6_flood_0 : cX6_flood.data.toList.drop 0 = dktX6_flood_0 := by decide +kernel
theorem dksX6_flood_1 : cX6_flood.data.toList.drop 24 = dktX6_flood_1 := dk_seg dksX6_flood_0 24 rfl rfl
theorem dksX6_flood_2 : cX6_flood.data.toList.drop 48 = dktX6_flood_2 := dk_seg dksX6_flood_1 24 rfl rfl
theorem dksX6_flood_3 : cX6_flood.data.toList.drop 72 = dktX6_flood_3 := dk_seg dksX6_flood_2 24 rfl rfl
theorem dksX6_flood_4 : cX6_flood.data.toList.drop 96 = dktX6_flood_4 := dk_seg dksX6_flood_3 24 rfl rfl
theorem dksX6_flood_5 : cX6_flood.data.toList.drop 119 = dktX6_flood_5 := dk_seg dksX6_flood_4 23 rfl rfl
theorem dX6_flood_0 : decode cX6_flood 0 = .ok (.aload_n 0, 1) := dk_42 (dk_at dksX6_flood_0 0 rfl rfl)
theorem dX6_flood_1 : decode cX6_flood 1 = .ok (.getfield 309, 3) := dk_180 1 53 (dk_at dksX6_flood_0 1 rfl rfl)
theorem dX6_flood_4 : decode cX6_flood 4 = .ok (.ifCond .le 131, 3) := dk_158 0 131 (dk_at dksX6_flood_0 4 rfl rfl)
theorem dX6_flood_7 : decode cX6_flood 7 = .ok (.aload_n 0, 1) := dk_42 (dk_at dksX6_flood_0 7 rfl rfl)
theorem dX6_flood_8 : decode cX6_flood 8 = .ok (.getfield 89, 3) := dk_180 0 89 (dk_at dksX6_flood_0 8 rfl rfl)
theorem dX6_flood_11 : decode cX6_flood 11 = .ok (.aload_n 0, 1) := dk_42 (dk_at dksX6_flood_0 11 rfl rfl)
theorem dX6_flood_12 : decode cX6_flood 12 = .ok (.getfield 306, 3) := dk_180 1 50 (dk_at dksX6_flood_0 12 rfl rfl)
theorem dX6_flood_15 : decode cX6_flood 15 = .ok (.iaload, 1) := dk_46 (dk_at dksX6_flood_0 15 rfl rfl)
theorem dX6_flood_16 : decode cX6_flood 16 = .ok (.istore_n 3, 1) := dk_62 (dk_at dksX6_flood_0 16 rfl rfl)
theorem dX6_flood_17 : decode cX6_flood 17 = .ok (.aload_n 0, 1) := dk_42 (dk_at dksX6_flood_0 17 rfl rfl)
theorem dX6_flood_18 : decode cX6_flood 18 = .ok (.aload_n 0, 1) := dk_42 (dk_at dksX6_flood_0 18 rfl rfl)
theorem dX6_flood_19 : decode cX6_flood 19 = .ok (.getfield 306, 3) := dk_180 1 50 (dk_at dksX6_flood_0 19 rfl rfl)
theorem dX6_flood_22 : decode cX6_flood 22 = .ok (.iconst 1, 1) := dk_4 (dk_at dksX6_flood_0 22 rfl rfl)
theorem dX6_flood_23 : decode cX6_flood 23 = .ok (.iadd, 1) := dk_96 (dk_at dksX6_flood_0 23 rfl rfl)
theorem dX6_flood_24 : decode cX6_flood 24 = .ok (.sipush 10001, 3) := dk_17 39 17 (dk_at dksX6_flood_1 0 rfl rfl)
theorem dX6_flood_27 : decode cX6_flood 27 = .ok (.irem, 1) := dk_112 (dk_at dksX6_flood_1 3 rfl rfl)
theorem dX6_flood_28 : decode cX6_flood 28 = .ok (.putfield 306, 3) := dk_181 1 50 (dk_at dksX6_flood_1 4 rfl rfl)
theorem dX6_flood_31 : decode cX6_flood 31 = .ok (.aload_n 0, 1) := dk_42 (dk_at dksX6_flood_1 7 rfl rfl)
theorem dX6_flood_32 : decode cX6_flood 32 = .ok (.dup, 1) := dk_89 (dk_at dksX6_flood_1 8 rfl rfl)
theorem dX6_flood_33 : decode cX6_flood 33 = .ok (.getfield 309, 3) := dk_180 1 53 (dk_at dksX6_flood_1 9 rfl rfl)
theorem dX6_flood_36 : decode cX6_flood 36 = .ok (.iconst 1, 1) := dk_4 (dk_at dksX6_flood_1 12 rfl rfl)
theorem dX6_flood_37 : decode cX6_flood 37 = .ok (.isub, 1) := dk_100 (dk_at dksX6_flood_1 13 rfl rfl)
theorem dX6_flood_38 : decode cX6_flood 38 = .ok (.putfield 309, 3) := dk_181 1 53 (dk_at dksX6_flood_1 14 rfl rfl)
theorem dX6_flood_41 : decode cX6_flood 41 = .ok (.aload_n 0, 1) := dk_42 (dk_at dksX6_flood_1 17 rfl rfl)
theorem dX6_flood_42 : decode cX6_flood 42 = .ok (.getfield 92, 3) := dk_180 0 92 (dk_at dksX6_flood_1 18 rfl rfl)
theorem dX6_flood_45 : decode cX6_flood 45 = .ok (.iload_n 3, 1) := dk_29 (dk_at dksX6_flood_1 21 rfl rfl)
theorem dX6_flood_46 : decode cX6_flood 46 = .ok (.iconst 0, 1) := dk_3 (dk_at dksX6_flood_1 22 rfl rfl)
theorem dX6_flood_47 : decode cX6_flood 47 = .ok (.bastore, 1) := dk_84 (dk_at dksX6_flood_1 23 rfl rfl)
theorem dX6_flood_48 : decode cX6_flood 48 = .ok (.iconst 0, 1) := dk_3 (dk_at dksX6_flood_2 0 rfl rfl)
theorem dX6_flood_49 : decode cX6_flood 49 = .ok (.istore 4, 2) := dk_54 4 (dk_at dksX6_flood_2 1 rfl rfl)
theorem dX6_flood_51 : decode cX6_flood 51 = .ok (.iload 4, 2) := dk_21 4 (dk_at dksX6_flood_2 3 rfl rfl)
theorem dX6_flood_53 : decode cX6_flood 53 = .ok (.aload_n 0, 1) := dk_42 (dk_at dksX6_flood_2 5 rfl rfl)
theorem dX6_flood_54 : decode cX6_flood 54 = .ok (.getfield 51, 3) := dk_180 0 51 (dk_at dksX6_flood_2 6 rfl rfl)
theorem dX6_flood_57 : decode cX6_flood 57 = .ok (.iload_n 1, 1) := dk_27 (dk_at dksX6_flood_2 9 rfl rfl)
theorem dX6_flood_58 : decode cX6_flood 58 = .ok (.iaload, 1) := dk_46 (dk_at dksX6_flood_2 10 rfl rfl)
theorem dX6_flood_59 : decode cX6_flood 59 = .ok (.if_icmp .ge 73, 3) := dk_162 0 73 (dk_at dksX6_flood_2 11 rfl rfl)
theorem dX6_flood_62 : decode cX6_flood 62 = .ok (.aload_n 0, 1) := dk_42 (dk_at dksX6_flood_2 14 rfl rfl)
theorem dX6_flood_63 : decode cX6_flood 63 = .ok (.iload_n 2, 1) := dk_28 (dk_at dksX6_flood_2 15 rfl rfl)
theorem dX6_flood_64 : decode cX6_flood 64 = .ok (.iload_n 3, 1) := dk_29 (dk_at dksX6_flood_2 16 rfl rfl)
theorem dX6_flood_65 : decode cX6_flood 65 = .ok (.iload_n 3, 1) := dk_29 (dk_at dksX6_flood_2 17 rfl rfl)
theorem dX6_flood_66 : decode cX6_flood 66 = .ok (.aload_n 0, 1) := dk_42 (dk_at dksX6_flood_2 18 rfl rfl)
theorem dX6_flood_67 : decode cX6_flood 67 = .ok (.getfield 54, 3) := dk_180 0 54 (dk_at dksX6_flood_2 19 rfl rfl)
theorem dX6_flood_70 : decode cX6_flood 70 = .ok (.bipush 6, 2) := dk_16 6 (dk_at dksX6_flood_2 22 rfl rfl)
theorem dX6_flood_72 : decode cX6_flood 72 = .ok (.iload_n 1, 1) := dk_27 (dk_at dksX6_flood_3 0 rfl rfl)
theorem dX6_flood_73 : decode cX6_flood 73 = .ok (.imul, 1) := dk_104 (dk_at dksX6_flood_3 1 rfl rfl)
theorem dX6_flood_74 : decode cX6_flood 74 = .ok (.iload 4, 2) := dk_21 4 (dk_at dksX6_flood_3 2 rfl rfl)
theorem dX6_flood_76 : decode cX6_flood 76 = .ok (.iadd, 1) := dk_96 (dk_at dksX6_flood_3 4 rfl rfl)
theorem dX6_flood_77 : decode cX6_flood 77 = .ok (.iaload, 1) := dk_46 (dk_at dksX6_flood_3 5 rfl rfl)
theorem dX6_flood_78 : decode cX6_flood 78 = .ok (.isub, 1) := dk_100 (dk_at dksX6_flood_3 6 rfl rfl)
theorem dX6_flood_79 : decode cX6_flood 79 = .ok (.aload_n 0, 1) := dk_42 (dk_at dksX6_flood_3 7 rfl rfl)
theorem dX6_flood_80 : decode cX6_flood 80 = .ok (.getfield 57, 3) := dk_180 0 57 (dk_at dksX6_flood_3 8 rfl rfl)
theorem dX6_flood_83 : decode cX6_flood 83 = .ok (.bipush 6, 2) := dk_16 6 (dk_at dksX6_flood_3 11 rfl rfl)
theorem dX6_flood_85 : decode cX6_flood 85 = .ok (.iload_n 1, 1) := dk_27 (dk_at dksX6_flood_3 13 rfl rfl)
theorem dX6_flood_86 : decode cX6_flood 86 = .ok (.imul, 1) := dk_104 (dk_at dksX6_flood_3 14 rfl rfl)
theorem dX6_flood_87 : decode cX6_flood 87 = .ok (.iload 4, 2) := dk_21 4 (dk_at dksX6_flood_3 15 rfl rfl)
theorem dX6_flood_89 : decode cX6_flood 89 = .ok (.iadd, 1) := dk_96 (dk_at dksX6_flood_3 17 rfl rfl)
theorem dX6_flood_90 : decode cX6_flood 90 = .ok (.iaload, 1) := dk_46 (dk_at dksX6_flood_3 18 rfl rfl)
theorem dX6_flood_91 : decode cX6_flood 91 = .ok (.invokevirtual 312, 3) := dk_182 1 56 (dk_at dksX6_flood_3 19 rfl rfl)
theorem dX6_flood_94 : decode cX6_flood 94 = .ok (.aload_n 0, 1) := dk_42 (dk_at dksX6_flood_3 22 rfl rfl)
theorem dX6_flood_95 : decode cX6_flood 95 = .ok (.iload_n 2, 1) := dk_28 (dk_at dksX6_flood_3 23 rfl rfl)
theorem dX6_flood_96 : decode cX6_flood 96 = .ok (.iload_n 3, 1) := dk_29 (dk_at dksX6_flood_4 0 rfl rfl)
theorem dX6_flood_97 : decode cX6_flood 97 = .ok (.iload_n 3, 1) := dk_29 (dk_at dksX6_flood_4 1 rfl rfl)
theorem dX6_flood_98 : decode cX6_flood 98 = .ok (.aload_n 0, 1) := dk_42 (dk_at dksX6_flood_4 2 rfl rfl)
theorem dX6_flood_99 : decode cX6_flood 99 = .ok (.getfield 54, 3) := dk_180 0 54 (dk_at dksX6_flood_4 3 rfl rfl)
theorem dX6_flood_102 : decode cX6_flood 102 = .ok (.bipush 6, 2) := dk_16 6 (dk_at dksX6_flood_4 6 rfl rfl)
theorem dX6_flood_104 : decode cX6_flood 104 = .ok (.iload_n 1, 1) := dk_27 (dk_at dksX6_flood_4 8 rfl rfl)
theorem dX6_flood_105 : decode cX6_flood 105 = .ok (.imul, 1) := dk_104 (dk_at dksX6_flood_4 9 rfl rfl)
theorem dX6_flood_106 : decode cX6_flood 106 = .ok (.iload 4, 2) := dk_21 4 (dk_at dksX6_flood_4 10 rfl rfl)
theorem dX6_flood_108 : decode cX6_flood 108 = .ok (.iadd, 1) := dk_96 (dk_at dksX6_flood_4 12 rfl rfl)
theorem dX6_flood_109 : decode cX6_flood 109 = .ok (.iaload, 1) := dk_46 (dk_at dksX6_flood_4 13 rfl rfl)
theorem dX6_flood_110 : decode cX6_flood 110 = .ok (.iadd, 1) := dk_96 (dk_at dksX6_flood_4 14 rfl rfl)
theorem dX6_flood_111 : decode cX6_flood 111 = .ok (.aload_n 0, 1) := dk_42 (dk_at dksX6_flood_4 15 rfl rfl)
theorem dX6_flood_112 : decode cX6_flood 112 = .ok (.getfield 57, 3) := dk_180 0 57 (dk_at dksX6_flood_4 16 rfl rfl)
theorem dX6_flood_115 : decode cX6_flood 115 = .ok (.bipush 6, 2) := dk_16 6 (dk_at dksX6_flood_4 19 rfl rfl)
theorem dX6_flood_117 : decode cX6_flood 117 = .ok (.iload_n 1, 1) := dk_27 (dk_at dksX6_flood_4 21 rfl rfl)
theorem dX6_flood_118 : decode cX6_flood 118 = .ok (.imul, 1) := dk_104 (dk_at dksX6_flood_4 22 rfl rfl)
theorem dX6_flood_119 : decode cX6_flood 119 = .ok (.iload 4, 2) := dk_21 4 (dk_at dksX6_flood_5 0 rfl rfl)
theorem dX6_flood_121 : decode cX6_flood 121 = .ok (.iadd, 1) := dk_96 (dk_at dksX6_flood_5 2 rfl rfl)
theorem dX6_flood_122 : decode cX6_flood 122 = .ok (.iaload, 1) := dk_46 (dk_at dksX6_flood_5 3 rfl rfl)
theorem dX6_flood_123 : decode cX6_flood 123 = .ok (.invokevirtual 312, 3) := dk_182 1 56 (dk_at dksX6_flood_5 4 rfl rfl)
theorem dX6_flood_126 : decode cX6_flood 126 = .ok (.iinc 4 1, 3) := dk_132 4 1 (dk_at dksX6_flood_5 7 rfl rfl)
theorem dX6_flood_129 : decode cX6_flood 129 = .ok (.goto (-78), 3) := dk_167 255 178 (dk_at dksX6_flood_5 10 rfl rfl)
theorem dX6_flood_132 : decode cX6_flood 132 = .ok (.goto (-132), 3) := dk_167 255 124 (dk_at dksX6_flood_5 13 rfl rfl)
theorem dX6_flood_135 : decode cX6_flood 135 = .ok (.return_, 1) := dk_177 (dk_at dksX6_flood_5 16 rfl rfl)
abbrev cX6_touch : ByteArray := prog_16_method_46_code
def yX6_touch : MethodName := ⟨RX6, "touch", "(IIII)V"⟩
def dkwX6_touch_3 : List UInt8 := [182, 1, 62, 177]
abbrev dktX6_touch_3 : List UInt8 := dkwX6_touch_3 ++ []
def dkwX6_touch_2 : List UInt8 := [96, 47, 148, 156, 0, 22, 42, 180, 0, 82, 17, 39, 17, 27, 104, 29, 96, 22, 5, 80, 42, 29]
abbrev dktX6_touch_2 : List UInt8 := dkwX6_touch_2 ++ dktX6_touch_3
def dkwX6_touch_1 : List UInt8 := [20, 1, 60, 21, 4, 133, 105, 97, 10, 97, 55, 5, 22, 5, 42, 180, 0, 82, 17, 39, 17, 27, 104, 29]
abbrev dktX6_touch_1 : List UInt8 := dkwX6_touch_1 ++ dktX6_touch_2
def dkwX6_touch_0 : List UInt8 := [29, 4, 17, 39, 15, 184, 0, 186, 154, 0, 4, 177, 42, 180, 0, 82, 17, 39, 17, 27, 104, 28, 96, 47]
abbrev dktX6_touch_0 : List UInt8 := dkwX6_touch_0 ++ dktX6_touch_1
theorem dksX6_touch_0 : cX6_touch.data.toList.drop 0 = dktX6_touch_0 := by decide +kernel
theorem dksX6_touch_1 : cX6_touch.data.toList.drop 24 = dktX6_touch_1 := dk_seg dksX6_touch_0 24 rfl rfl
theorem dksX6_touch_2 : cX6_touch.data.toList.drop 48 = dktX6_touch_2 := dk_seg dksX6_touch_1 24 rfl rfl
theorem dksX6_touch_3 : cX6_touch.data.toList.drop 70 = dktX6_touch_3 := dk_seg dksX6_touch_2 22 rfl rfl
theorem dX6_touch_0 : decode cX6_touch 0 = .ok (.iload_n 3, 1) := dk_29 (dk_at dksX6_touch_0 0 rfl rfl)
theorem dX6_touch_1 : decode cX6_touch 1 = .ok (.iconst 1, 1) := dk_4 (dk_at dksX6_touch_0 1 rfl rfl)
theorem dX6_touch_2 : decode cX6_touch 2 = .ok (.sipush 9999, 3) := dk_17 39 15 (dk_at dksX6_touch_0 2 rfl rfl)
theorem dX6_touch_5 : decode cX6_touch 5 = .ok (.invokestatic 186, 3) := dk_184 0 186 (dk_at dksX6_touch_0 5 rfl rfl)
theorem dX6_touch_8 : decode cX6_touch 8 = .ok (.ifCond .ne 4, 3) := dk_154 0 4 (dk_at dksX6_touch_0 8 rfl rfl)
theorem dX6_touch_11 : decode cX6_touch 11 = .ok (.return_, 1) := dk_177 (dk_at dksX6_touch_0 11 rfl rfl)
theorem dX6_touch_12 : decode cX6_touch 12 = .ok (.aload_n 0, 1) := dk_42 (dk_at dksX6_touch_0 12 rfl rfl)
theorem dX6_touch_13 : decode cX6_touch 13 = .ok (.getfield 82, 3) := dk_180 0 82 (dk_at dksX6_touch_0 13 rfl rfl)
theorem dX6_touch_16 : decode cX6_touch 16 = .ok (.sipush 10001, 3) := dk_17 39 17 (dk_at dksX6_touch_0 16 rfl rfl)
theorem dX6_touch_19 : decode cX6_touch 19 = .ok (.iload_n 1, 1) := dk_27 (dk_at dksX6_touch_0 19 rfl rfl)
theorem dX6_touch_20 : decode cX6_touch 20 = .ok (.imul, 1) := dk_104 (dk_at dksX6_touch_0 20 rfl rfl)
theorem dX6_touch_21 : decode cX6_touch 21 = .ok (.iload_n 2, 1) := dk_28 (dk_at dksX6_touch_0 21 rfl rfl)
theorem dX6_touch_22 : decode cX6_touch 22 = .ok (.iadd, 1) := dk_96 (dk_at dksX6_touch_0 22 rfl rfl)
theorem dX6_touch_23 : decode cX6_touch 23 = .ok (.laload, 1) := dk_47 (dk_at dksX6_touch_0 23 rfl rfl)
theorem dX6_touch_24 : decode cX6_touch 24 = .ok (.ldc2_w 316, 3) := dk_20 1 60 (dk_at dksX6_touch_1 0 rfl rfl)
theorem dX6_touch_27 : decode cX6_touch 27 = .ok (.iload 4, 2) := dk_21 4 (dk_at dksX6_touch_1 3 rfl rfl)
theorem dX6_touch_29 : decode cX6_touch 29 = .ok (.i2l, 1) := dk_133 (dk_at dksX6_touch_1 5 rfl rfl)
theorem dX6_touch_30 : decode cX6_touch 30 = .ok (.lmul, 1) := dk_105 (dk_at dksX6_touch_1 6 rfl rfl)
theorem dX6_touch_31 : decode cX6_touch 31 = .ok (.ladd, 1) := dk_97 (dk_at dksX6_touch_1 7 rfl rfl)
theorem dX6_touch_32 : decode cX6_touch 32 = .ok (.lconst 1, 1) := dk_10 (dk_at dksX6_touch_1 8 rfl rfl)
theorem dX6_touch_33 : decode cX6_touch 33 = .ok (.ladd, 1) := dk_97 (dk_at dksX6_touch_1 9 rfl rfl)
theorem dX6_touch_34 : decode cX6_touch 34 = .ok (.lstore 5, 2) := dk_55 5 (dk_at dksX6_touch_1 10 rfl rfl)
theorem dX6_touch_36 : decode cX6_touch 36 = .ok (.lload 5, 2) := dk_22 5 (dk_at dksX6_touch_1 12 rfl rfl)
theorem dX6_touch_38 : decode cX6_touch 38 = .ok (.aload_n 0, 1) := dk_42 (dk_at dksX6_touch_1 14 rfl rfl)
theorem dX6_touch_39 : decode cX6_touch 39 = .ok (.getfield 82, 3) := dk_180 0 82 (dk_at dksX6_touch_1 15 rfl rfl)
theorem dX6_touch_42 : decode cX6_touch 42 = .ok (.sipush 10001, 3) := dk_17 39 17 (dk_at dksX6_touch_1 18 rfl rfl)
theorem dX6_touch_45 : decode cX6_touch 45 = .ok (.iload_n 1, 1) := dk_27 (dk_at dksX6_touch_1 21 rfl rfl)
theorem dX6_touch_46 : decode cX6_touch 46 = .ok (.imul, 1) := dk_104 (dk_at dksX6_touch_1 22 rfl rfl)
theorem dX6_touch_47 : decode cX6_touch 47 = .ok (.iload_n 3, 1) := dk_29 (dk_at dksX6_touch_1 23 rfl rfl)
theorem dX6_touch_48 : decode cX6_touch 48 = .ok (.iadd, 1) := dk_96 (dk_at dksX6_touch_2 0 rfl rfl)
theorem dX6_touch_49 : decode cX6_touch 49 = .ok (.laload, 1) := dk_47 (dk_at dksX6_touch_2 1 rfl rfl)
theorem dX6_touch_50 : decode cX6_touch 50 = .ok (.lcmp, 1) := dk_148 (dk_at dksX6_touch_2 2 rfl rfl)
theorem dX6_touch_51 : decode cX6_touch 51 = .ok (.ifCond .ge 22, 3) := dk_156 0 22 (dk_at dksX6_touch_2 3 rfl rfl)
theorem dX6_touch_54 : decode cX6_touch 54 = .ok (.aload_n 0, 1) := dk_42 (dk_at dksX6_touch_2 6 rfl rfl)
theorem dX6_touch_55 : decode cX6_touch 55 = .ok (.getfield 82, 3) := dk_180 0 82 (dk_at dksX6_touch_2 7 rfl rfl)
theorem dX6_touch_58 : decode cX6_touch 58 = .ok (.sipush 10001, 3) := dk_17 39 17 (dk_at dksX6_touch_2 10 rfl rfl)
theorem dX6_touch_61 : decode cX6_touch 61 = .ok (.iload_n 1, 1) := dk_27 (dk_at dksX6_touch_2 13 rfl rfl)
theorem dX6_touch_62 : decode cX6_touch 62 = .ok (.imul, 1) := dk_104 (dk_at dksX6_touch_2 14 rfl rfl)
theorem dX6_touch_63 : decode cX6_touch 63 = .ok (.iload_n 3, 1) := dk_29 (dk_at dksX6_touch_2 15 rfl rfl)
theorem dX6_touch_64 : decode cX6_touch 64 = .ok (.iadd, 1) := dk_96 (dk_at dksX6_touch_2 16 rfl rfl)
theorem dX6_touch_65 : decode cX6_touch 65 = .ok (.lload 5, 2) := dk_22 5 (dk_at dksX6_touch_2 17 rfl rfl)
theorem dX6_touch_67 : decode cX6_touch 67 = .ok (.lastore, 1) := dk_80 (dk_at dksX6_touch_2 19 rfl rfl)
theorem dX6_touch_68 : decode cX6_touch 68 = .ok (.aload_n 0, 1) := dk_42 (dk_at dksX6_touch_2 20 rfl rfl)
theorem dX6_touch_69 : decode cX6_touch 69 = .ok (.iload_n 3, 1) := dk_29 (dk_at dksX6_touch_2 21 rfl rfl)
theorem dX6_touch_70 : decode cX6_touch 70 = .ok (.invokevirtual 318, 3) := dk_182 1 62 (dk_at dksX6_touch_3 0 rfl rfl)
theorem dX6_touch_73 : decode cX6_touch 73 = .ok (.return_, 1) := dk_177 (dk_at dksX6_touch_3 3 rfl rfl)
abbrev cX6_day : ByteArray := prog_16_method_36_code
def yX6_day : MethodName := ⟨RX6, "day", "(IIII)I"⟩
def dkwX6_day_1 : List UInt8 := [180, 0, 156, 4, 160, 0, 7, 3, 167, 0, 12, 42, 27, 28, 29, 21, 4, 182, 1, 35, 172]
abbrev dktX6_day_1 : List UInt8 := dkwX6_day_1 ++ []
def dkwX6_day_0 : List UInt8 := [42, 42, 27, 28, 29, 21, 4, 182, 1, 31, 153, 0, 7, 3, 167, 0, 4, 4, 181, 0, 156, 42]
abbrev dktX6_day_0 : List UInt8 := dkwX6_day_0 ++ dktX6_day_1
theorem dksX6_day_0 : cX6_day.data.toList.drop 0 = dktX6_day_0 := by decide +kernel
theorem dksX6_day_1 : cX6_day.data.toList.drop 22 = dktX6_day_1 := dk_seg dksX6_day_0 22 rfl rfl
theorem dX6_day_0 : decode cX6_day 0 = .ok (.aload_n 0, 1) := dk_42 (dk_at dksX6_day_0 0 rfl rfl)
theorem dX6_day_1 : decode cX6_day 1 = .ok (.aload_n 0, 1) := dk_42 (dk_at dksX6_day_0 1 rfl rfl)
theorem dX6_day_2 : decode cX6_day 2 = .ok (.iload_n 1, 1) := dk_27 (dk_at dksX6_day_0 2 rfl rfl)
theorem dX6_day_3 : decode cX6_day 3 = .ok (.iload_n 2, 1) := dk_28 (dk_at dksX6_day_0 3 rfl rfl)
theorem dX6_day_4 : decode cX6_day 4 = .ok (.iload_n 3, 1) := dk_29 (dk_at dksX6_day_0 4 rfl rfl)
theorem dX6_day_5 : decode cX6_day 5 = .ok (.iload 4, 2) := dk_21 4 (dk_at dksX6_day_0 5 rfl rfl)
theorem dX6_day_7 : decode cX6_day 7 = .ok (.invokevirtual 287, 3) := dk_182 1 31 (dk_at dksX6_day_0 7 rfl rfl)
theorem dX6_day_10 : decode cX6_day 10 = .ok (.ifCond .eq 7, 3) := dk_153 0 7 (dk_at dksX6_day_0 10 rfl rfl)
theorem dX6_day_13 : decode cX6_day 13 = .ok (.iconst 0, 1) := dk_3 (dk_at dksX6_day_0 13 rfl rfl)
theorem dX6_day_14 : decode cX6_day 14 = .ok (.goto 4, 3) := dk_167 0 4 (dk_at dksX6_day_0 14 rfl rfl)
theorem dX6_day_17 : decode cX6_day 17 = .ok (.iconst 1, 1) := dk_4 (dk_at dksX6_day_0 17 rfl rfl)
theorem dX6_day_18 : decode cX6_day 18 = .ok (.putfield 156, 3) := dk_181 0 156 (dk_at dksX6_day_0 18 rfl rfl)
theorem dX6_day_21 : decode cX6_day 21 = .ok (.aload_n 0, 1) := dk_42 (dk_at dksX6_day_0 21 rfl rfl)
theorem dX6_day_22 : decode cX6_day 22 = .ok (.getfield 156, 3) := dk_180 0 156 (dk_at dksX6_day_1 0 rfl rfl)
theorem dX6_day_25 : decode cX6_day 25 = .ok (.iconst 1, 1) := dk_4 (dk_at dksX6_day_1 3 rfl rfl)
theorem dX6_day_26 : decode cX6_day 26 = .ok (.if_icmp .ne 7, 3) := dk_160 0 7 (dk_at dksX6_day_1 4 rfl rfl)
theorem dX6_day_29 : decode cX6_day 29 = .ok (.iconst 0, 1) := dk_3 (dk_at dksX6_day_1 7 rfl rfl)
theorem dX6_day_30 : decode cX6_day 30 = .ok (.goto 12, 3) := dk_167 0 12 (dk_at dksX6_day_1 8 rfl rfl)
theorem dX6_day_33 : decode cX6_day 33 = .ok (.aload_n 0, 1) := dk_42 (dk_at dksX6_day_1 11 rfl rfl)
theorem dX6_day_34 : decode cX6_day 34 = .ok (.iload_n 1, 1) := dk_27 (dk_at dksX6_day_1 12 rfl rfl)
theorem dX6_day_35 : decode cX6_day 35 = .ok (.iload_n 2, 1) := dk_28 (dk_at dksX6_day_1 13 rfl rfl)
theorem dX6_day_36 : decode cX6_day 36 = .ok (.iload_n 3, 1) := dk_29 (dk_at dksX6_day_1 14 rfl rfl)
theorem dX6_day_37 : decode cX6_day 37 = .ok (.iload 4, 2) := dk_21 4 (dk_at dksX6_day_1 15 rfl rfl)
theorem dX6_day_39 : decode cX6_day 39 = .ok (.invokevirtual 291, 3) := dk_182 1 35 (dk_at dksX6_day_1 17 rfl rfl)
theorem dX6_day_42 : decode cX6_day 42 = .ok (.ireturn, 1) := dk_172 (dk_at dksX6_day_1 20 rfl rfl)
abbrev cX6_isDate : ByteArray := prog_16_method_34_code
def yX6_isDate : MethodName := ⟨RX6, "isDate", "(IIII)Z"⟩
def dkwX6_isDate_0 : List UInt8 := [42, 27, 28, 29, 21, 4, 182, 1, 27, 2, 159, 0, 7, 4, 167, 0, 4, 3, 172]
abbrev dktX6_isDate_0 : List UInt8 := dkwX6_isDate_0 ++ []
theorem dksX6_isDate_0 : cX6_isDate.data.toList.drop 0 = dktX6_isDate_0 := by decide +kernel
theorem dX6_isDate_0 : decode cX6_isDate 0 = .ok (.aload_n 0, 1) := dk_42 (dk_at dksX6_isDate_0 0 rfl rfl)
theorem dX6_isDate_1 : decode cX6_isDate 1 = .ok (.iload_n 1, 1) := dk_27 (dk_at dksX6_isDate_0 1 rfl rfl)
theorem dX6_isDate_2 : decode cX6_isDate 2 = .ok (.iload_n 2, 1) := dk_28 (dk_at dksX6_isDate_0 2 rfl rfl)
theorem dX6_isDate_3 : decode cX6_isDate 3 = .ok (.iload_n 3, 1) := dk_29 (dk_at dksX6_isDate_0 3 rfl rfl)
theorem dX6_isDate_4 : decode cX6_isDate 4 = .ok (.iload 4, 2) := dk_21 4 (dk_at dksX6_isDate_0 4 rfl rfl)
theorem dX6_isDate_6 : decode cX6_isDate 6 = .ok (.invokevirtual 283, 3) := dk_182 1 27 (dk_at dksX6_isDate_0 6 rfl rfl)
theorem dX6_isDate_9 : decode cX6_isDate 9 = .ok (.iconst (-1), 1) := dk_2 (dk_at dksX6_isDate_0 9 rfl rfl)
theorem dX6_isDate_10 : decode cX6_isDate 10 = .ok (.if_icmp .eq 7, 3) := dk_159 0 7 (dk_at dksX6_isDate_0 10 rfl rfl)
theorem dX6_isDate_13 : decode cX6_isDate 13 = .ok (.iconst 1, 1) := dk_4 (dk_at dksX6_isDate_0 13 rfl rfl)
theorem dX6_isDate_14 : decode cX6_isDate 14 = .ok (.goto 4, 3) := dk_167 0 4 (dk_at dksX6_isDate_0 14 rfl rfl)
theorem dX6_isDate_17 : decode cX6_isDate 17 = .ok (.iconst 0, 1) := dk_3 (dk_at dksX6_isDate_0 17 rfl rfl)
theorem dX6_isDate_18 : decode cX6_isDate 18 = .ok (.ireturn, 1) := dk_172 (dk_at dksX6_isDate_0 18 rfl rfl)
abbrev cX6_stretchOf : ByteArray := prog_16_method_33_code
def yX6_stretchOf : MethodName := ⟨RX6, "stretchOf", "(IIII)I"⟩
def dkwX6_stretchOf_5 : List UInt8 := [167, 255, 188, 2, 172]
abbrev dktX6_stretchOf_5 : List UInt8 := dkwX6_stretchOf_5 ++ []
def dkwX6_stretchOf_4 : List UInt8 := [163, 0, 19, 21, 4, 42, 21, 5, 28, 29, 182, 0, 204, 163, 0, 6, 21, 5, 172, 132, 5, 1]
abbrev dktX6_stretchOf_4 : List UInt8 := dkwX6_stretchOf_4 ++ dktX6_stretchOf_5
def dkwX6_stretchOf_3 : List UInt8 := [180, 0, 32, 21, 5, 46, 161, 0, 36, 28, 29, 21, 4, 184, 0, 208, 42, 180, 0, 29, 21, 5, 46]
abbrev dktX6_stretchOf_3 : List UInt8 := dkwX6_stretchOf_3 ++ dktX6_stretchOf_4
def dkwX6_stretchOf_2 : List UInt8 := [21, 5, 7, 27, 104, 42, 180, 0, 16, 27, 46, 96, 162, 0, 59, 28, 29, 21, 4, 184, 0, 208, 42]
abbrev dktX6_stretchOf_2 : List UInt8 := dkwX6_stretchOf_2 ++ dktX6_stretchOf_3
def dkwX6_stretchOf_1 : List UInt8 := [184, 0, 186, 153, 0, 14, 21, 4, 4, 16, 31, 184, 0, 186, 154, 0, 5, 2, 172, 7, 27, 104, 54, 5]
abbrev dktX6_stretchOf_1 : List UInt8 := dkwX6_stretchOf_1 ++ dktX6_stretchOf_2
def dkwX6_stretchOf_0 : List UInt8 := [42, 27, 182, 1, 24, 153, 0, 35, 28, 4, 17, 39, 15, 184, 0, 186, 153, 0, 24, 29, 4, 16, 12]
abbrev dktX6_stretchOf_0 : List UInt8 := dkwX6_stretchOf_0 ++ dktX6_stretchOf_1
theorem dksX6_stretchOf_0 : cX6_stretchOf.data.toList.drop 0 = dktX6_stretchOf_0 := by decide +kernel
theorem dksX6_stretchOf_1 : cX6_stretchOf.data.toList.drop 23 = dktX6_stretchOf_1 := dk_seg dksX6_stretchOf_0 23 rfl rfl
theorem dksX6_stretchOf_2 : cX6_stretchOf.data.toList.drop 47 = dktX6_stretchOf_2 := dk_seg dksX6_stretchOf_1 24 rfl rfl
theorem dksX6_stretchOf_3 : cX6_stretchOf.data.toList.drop 70 = dktX6_stretchOf_3 := dk_seg dksX6_stretchOf_2 23 rfl rfl
theorem dksX6_stretchOf_4 : cX6_stretchOf.data.toList.drop 93 = dktX6_stretchOf_4 := dk_seg dksX6_stretchOf_3 23 rfl rfl
theorem dksX6_stretchOf_5 : cX6_stretchOf.data.toList.drop 115 = dktX6_stretchOf_5 := dk_seg dksX6_stretchOf_4 22 rfl rfl
theorem dX6_stretchOf_0 : decode cX6_stretchOf 0 = .ok (.aload_n 0, 1) := dk_42 (dk_at dksX6_stretchOf_0 0 rfl rfl)
theorem dX6_stretchOf_1 : decode cX6_stretchOf 1 = .ok (.iload_n 1, 1) := dk_27 (dk_at dksX6_stretchOf_0 1 rfl rfl)
theorem dX6_stretchOf_2 : decode cX6_stretchOf 2 = .ok (.invokevirtual 280, 3) := dk_182 1 24 (dk_at dksX6_stretchOf_0 2 rfl rfl)
theorem dX6_stretchOf_5 : decode cX6_stretchOf 5 = .ok (.ifCond .eq 35, 3) := dk_153 0 35 (dk_at dksX6_stretchOf_0 5 rfl rfl)
theorem dX6_stretchOf_8 : decode cX6_stretchOf 8 = .ok (.iload_n 2, 1) := dk_28 (dk_at dksX6_stretchOf_0 8 rfl rfl)
theorem dX6_stretchOf_9 : decode cX6_stretchOf 9 = .ok (.iconst 1, 1) := dk_4 (dk_at dksX6_stretchOf_0 9 rfl rfl)
theorem dX6_stretchOf_10 : decode cX6_stretchOf 10 = .ok (.sipush 9999, 3) := dk_17 39 15 (dk_at dksX6_stretchOf_0 10 rfl rfl)
theorem dX6_stretchOf_13 : decode cX6_stretchOf 13 = .ok (.invokestatic 186, 3) := dk_184 0 186 (dk_at dksX6_stretchOf_0 13 rfl rfl)
theorem dX6_stretchOf_16 : decode cX6_stretchOf 16 = .ok (.ifCond .eq 24, 3) := dk_153 0 24 (dk_at dksX6_stretchOf_0 16 rfl rfl)
theorem dX6_stretchOf_19 : decode cX6_stretchOf 19 = .ok (.iload_n 3, 1) := dk_29 (dk_at dksX6_stretchOf_0 19 rfl rfl)
theorem dX6_stretchOf_20 : decode cX6_stretchOf 20 = .ok (.iconst 1, 1) := dk_4 (dk_at dksX6_stretchOf_0 20 rfl rfl)
theorem dX6_stretchOf_21 : decode cX6_stretchOf 21 = .ok (.bipush 12, 2) := dk_16 12 (dk_at dksX6_stretchOf_0 21 rfl rfl)
theorem dX6_stretchOf_23 : decode cX6_stretchOf 23 = .ok (.invokestatic 186, 3) := dk_184 0 186 (dk_at dksX6_stretchOf_1 0 rfl rfl)
theorem dX6_stretchOf_26 : decode cX6_stretchOf 26 = .ok (.ifCond .eq 14, 3) := dk_153 0 14 (dk_at dksX6_stretchOf_1 3 rfl rfl)
theorem dX6_stretchOf_29 : decode cX6_stretchOf 29 = .ok (.iload 4, 2) := dk_21 4 (dk_at dksX6_stretchOf_1 6 rfl rfl)
theorem dX6_stretchOf_31 : decode cX6_stretchOf 31 = .ok (.iconst 1, 1) := dk_4 (dk_at dksX6_stretchOf_1 8 rfl rfl)
theorem dX6_stretchOf_32 : decode cX6_stretchOf 32 = .ok (.bipush 31, 2) := dk_16 31 (dk_at dksX6_stretchOf_1 9 rfl rfl)
theorem dX6_stretchOf_34 : decode cX6_stretchOf 34 = .ok (.invokestatic 186, 3) := dk_184 0 186 (dk_at dksX6_stretchOf_1 11 rfl rfl)
theorem dX6_stretchOf_37 : decode cX6_stretchOf 37 = .ok (.ifCond .ne 5, 3) := dk_154 0 5 (dk_at dksX6_stretchOf_1 14 rfl rfl)
theorem dX6_stretchOf_40 : decode cX6_stretchOf 40 = .ok (.iconst (-1), 1) := dk_2 (dk_at dksX6_stretchOf_1 17 rfl rfl)
theorem dX6_stretchOf_41 : decode cX6_stretchOf 41 = .ok (.ireturn, 1) := dk_172 (dk_at dksX6_stretchOf_1 18 rfl rfl)
theorem dX6_stretchOf_42 : decode cX6_stretchOf 42 = .ok (.iconst 4, 1) := dk_7 (dk_at dksX6_stretchOf_1 19 rfl rfl)
theorem dX6_stretchOf_43 : decode cX6_stretchOf 43 = .ok (.iload_n 1, 1) := dk_27 (dk_at dksX6_stretchOf_1 20 rfl rfl)
theorem dX6_stretchOf_44 : decode cX6_stretchOf 44 = .ok (.imul, 1) := dk_104 (dk_at dksX6_stretchOf_1 21 rfl rfl)
theorem dX6_stretchOf_45 : decode cX6_stretchOf 45 = .ok (.istore 5, 2) := dk_54 5 (dk_at dksX6_stretchOf_1 22 rfl rfl)
theorem dX6_stretchOf_47 : decode cX6_stretchOf 47 = .ok (.iload 5, 2) := dk_21 5 (dk_at dksX6_stretchOf_2 0 rfl rfl)
theorem dX6_stretchOf_49 : decode cX6_stretchOf 49 = .ok (.iconst 4, 1) := dk_7 (dk_at dksX6_stretchOf_2 2 rfl rfl)
theorem dX6_stretchOf_50 : decode cX6_stretchOf 50 = .ok (.iload_n 1, 1) := dk_27 (dk_at dksX6_stretchOf_2 3 rfl rfl)
theorem dX6_stretchOf_51 : decode cX6_stretchOf 51 = .ok (.imul, 1) := dk_104 (dk_at dksX6_stretchOf_2 4 rfl rfl)
theorem dX6_stretchOf_52 : decode cX6_stretchOf 52 = .ok (.aload_n 0, 1) := dk_42 (dk_at dksX6_stretchOf_2 5 rfl rfl)
theorem dX6_stretchOf_53 : decode cX6_stretchOf 53 = .ok (.getfield 16, 3) := dk_180 0 16 (dk_at dksX6_stretchOf_2 6 rfl rfl)
theorem dX6_stretchOf_56 : decode cX6_stretchOf 56 = .ok (.iload_n 1, 1) := dk_27 (dk_at dksX6_stretchOf_2 9 rfl rfl)
theorem dX6_stretchOf_57 : decode cX6_stretchOf 57 = .ok (.iaload, 1) := dk_46 (dk_at dksX6_stretchOf_2 10 rfl rfl)
theorem dX6_stretchOf_58 : decode cX6_stretchOf 58 = .ok (.iadd, 1) := dk_96 (dk_at dksX6_stretchOf_2 11 rfl rfl)
theorem dX6_stretchOf_59 : decode cX6_stretchOf 59 = .ok (.if_icmp .ge 59, 3) := dk_162 0 59 (dk_at dksX6_stretchOf_2 12 rfl rfl)
theorem dX6_stretchOf_62 : decode cX6_stretchOf 62 = .ok (.iload_n 2, 1) := dk_28 (dk_at dksX6_stretchOf_2 15 rfl rfl)
theorem dX6_stretchOf_63 : decode cX6_stretchOf 63 = .ok (.iload_n 3, 1) := dk_29 (dk_at dksX6_stretchOf_2 16 rfl rfl)
theorem dX6_stretchOf_64 : decode cX6_stretchOf 64 = .ok (.iload 4, 2) := dk_21 4 (dk_at dksX6_stretchOf_2 17 rfl rfl)
theorem dX6_stretchOf_66 : decode cX6_stretchOf 66 = .ok (.invokestatic 208, 3) := dk_184 0 208 (dk_at dksX6_stretchOf_2 19 rfl rfl)
theorem dX6_stretchOf_69 : decode cX6_stretchOf 69 = .ok (.aload_n 0, 1) := dk_42 (dk_at dksX6_stretchOf_2 22 rfl rfl)
theorem dX6_stretchOf_70 : decode cX6_stretchOf 70 = .ok (.getfield 32, 3) := dk_180 0 32 (dk_at dksX6_stretchOf_3 0 rfl rfl)
theorem dX6_stretchOf_73 : decode cX6_stretchOf 73 = .ok (.iload 5, 2) := dk_21 5 (dk_at dksX6_stretchOf_3 3 rfl rfl)
theorem dX6_stretchOf_75 : decode cX6_stretchOf 75 = .ok (.iaload, 1) := dk_46 (dk_at dksX6_stretchOf_3 5 rfl rfl)
theorem dX6_stretchOf_76 : decode cX6_stretchOf 76 = .ok (.if_icmp .lt 36, 3) := dk_161 0 36 (dk_at dksX6_stretchOf_3 6 rfl rfl)
theorem dX6_stretchOf_79 : decode cX6_stretchOf 79 = .ok (.iload_n 2, 1) := dk_28 (dk_at dksX6_stretchOf_3 9 rfl rfl)
theorem dX6_stretchOf_80 : decode cX6_stretchOf 80 = .ok (.iload_n 3, 1) := dk_29 (dk_at dksX6_stretchOf_3 10 rfl rfl)
theorem dX6_stretchOf_81 : decode cX6_stretchOf 81 = .ok (.iload 4, 2) := dk_21 4 (dk_at dksX6_stretchOf_3 11 rfl rfl)
theorem dX6_stretchOf_83 : decode cX6_stretchOf 83 = .ok (.invokestatic 208, 3) := dk_184 0 208 (dk_at dksX6_stretchOf_3 13 rfl rfl)
theorem dX6_stretchOf_86 : decode cX6_stretchOf 86 = .ok (.aload_n 0, 1) := dk_42 (dk_at dksX6_stretchOf_3 16 rfl rfl)
theorem dX6_stretchOf_87 : decode cX6_stretchOf 87 = .ok (.getfield 29, 3) := dk_180 0 29 (dk_at dksX6_stretchOf_3 17 rfl rfl)
theorem dX6_stretchOf_90 : decode cX6_stretchOf 90 = .ok (.iload 5, 2) := dk_21 5 (dk_at dksX6_stretchOf_3 20 rfl rfl)
theorem dX6_stretchOf_92 : decode cX6_stretchOf 92 = .ok (.iaload, 1) := dk_46 (dk_at dksX6_stretchOf_3 22 rfl rfl)
theorem dX6_stretchOf_93 : decode cX6_stretchOf 93 = .ok (.if_icmp .gt 19, 3) := dk_163 0 19 (dk_at dksX6_stretchOf_4 0 rfl rfl)
theorem dX6_stretchOf_96 : decode cX6_stretchOf 96 = .ok (.iload 4, 2) := dk_21 4 (dk_at dksX6_stretchOf_4 3 rfl rfl)
theorem dX6_stretchOf_98 : decode cX6_stretchOf 98 = .ok (.aload_n 0, 1) := dk_42 (dk_at dksX6_stretchOf_4 5 rfl rfl)
theorem dX6_stretchOf_99 : decode cX6_stretchOf 99 = .ok (.iload 5, 2) := dk_21 5 (dk_at dksX6_stretchOf_4 6 rfl rfl)
theorem dX6_stretchOf_101 : decode cX6_stretchOf 101 = .ok (.iload_n 2, 1) := dk_28 (dk_at dksX6_stretchOf_4 8 rfl rfl)
theorem dX6_stretchOf_102 : decode cX6_stretchOf 102 = .ok (.iload_n 3, 1) := dk_29 (dk_at dksX6_stretchOf_4 9 rfl rfl)
theorem dX6_stretchOf_103 : decode cX6_stretchOf 103 = .ok (.invokevirtual 204, 3) := dk_182 0 204 (dk_at dksX6_stretchOf_4 10 rfl rfl)
theorem dX6_stretchOf_106 : decode cX6_stretchOf 106 = .ok (.if_icmp .gt 6, 3) := dk_163 0 6 (dk_at dksX6_stretchOf_4 13 rfl rfl)
theorem dX6_stretchOf_109 : decode cX6_stretchOf 109 = .ok (.iload 5, 2) := dk_21 5 (dk_at dksX6_stretchOf_4 16 rfl rfl)
theorem dX6_stretchOf_111 : decode cX6_stretchOf 111 = .ok (.ireturn, 1) := dk_172 (dk_at dksX6_stretchOf_4 18 rfl rfl)
theorem dX6_stretchOf_112 : decode cX6_stretchOf 112 = .ok (.iinc 5 1, 3) := dk_132 5 1 (dk_at dksX6_stretchOf_4 19 rfl rfl)
theorem dX6_stretchOf_115 : decode cX6_stretchOf 115 = .ok (.goto (-68), 3) := dk_167 255 188 (dk_at dksX6_stretchOf_5 0 rfl rfl)
theorem dX6_stretchOf_118 : decode cX6_stretchOf 118 = .ok (.iconst (-1), 1) := dk_2 (dk_at dksX6_stretchOf_5 3 rfl rfl)
theorem dX6_stretchOf_119 : decode cX6_stretchOf 119 = .ok (.ireturn, 1) := dk_172 (dk_at dksX6_stretchOf_5 4 rfl rfl)
abbrev cX6_isCalendar : ByteArray := prog_16_method_32_code
def yX6_isCalendar : MethodName := ⟨RX6, "isCalendar", "(I)Z"⟩
def dkwX6_isCalendar_0 : List UInt8 := [27, 3, 42, 180, 1, 12, 4, 100, 184, 0, 186, 172]
abbrev dktX6_isCalendar_0 : List UInt8 := dkwX6_isCalendar_0 ++ []
theorem dksX6_isCalendar_0 : cX6_isCalendar.data.toList.drop 0 = dktX6_isCalendar_0 := by decide +kernel
theorem dX6_isCalendar_0 : decode cX6_isCalendar 0 = .ok (.iload_n 1, 1) := dk_27 (dk_at dksX6_isCalendar_0 0 rfl rfl)
theorem dX6_isCalendar_1 : decode cX6_isCalendar 1 = .ok (.iconst 0, 1) := dk_3 (dk_at dksX6_isCalendar_0 1 rfl rfl)
theorem dX6_isCalendar_2 : decode cX6_isCalendar 2 = .ok (.aload_n 0, 1) := dk_42 (dk_at dksX6_isCalendar_0 2 rfl rfl)
theorem dX6_isCalendar_3 : decode cX6_isCalendar 3 = .ok (.getfield 268, 3) := dk_180 1 12 (dk_at dksX6_isCalendar_0 3 rfl rfl)
theorem dX6_isCalendar_6 : decode cX6_isCalendar 6 = .ok (.iconst 1, 1) := dk_4 (dk_at dksX6_isCalendar_0 6 rfl rfl)
theorem dX6_isCalendar_7 : decode cX6_isCalendar 7 = .ok (.isub, 1) := dk_100 (dk_at dksX6_isCalendar_0 7 rfl rfl)
theorem dX6_isCalendar_8 : decode cX6_isCalendar 8 = .ok (.invokestatic 186, 3) := dk_184 0 186 (dk_at dksX6_isCalendar_0 8 rfl rfl)
theorem dX6_isCalendar_11 : decode cX6_isCalendar 11 = .ok (.ireturn, 1) := dk_172 (dk_at dksX6_isCalendar_0 11 rfl rfl)
abbrev cX6_dayOf : ByteArray := prog_16_method_35_code
def yX6_dayOf : MethodName := ⟨RX6, "dayOf", "(IIII)I"⟩
def dkwX6_dayOf_1 : List UInt8 := [21, 4, 184, 0, 208, 182, 0, 228, 96, 42, 21, 5, 42, 180, 0, 32, 21, 5, 46, 182, 0, 228, 100, 172]
abbrev dktX6_dayOf_1 : List UInt8 := dkwX6_dayOf_1 ++ []
def dkwX6_dayOf_0 : List UInt8 := [42, 27, 28, 29, 21, 4, 182, 1, 27, 54, 5, 42, 180, 0, 35, 21, 5, 46, 42, 21, 5, 28, 29]
abbrev dktX6_dayOf_0 : List UInt8 := dkwX6_dayOf_0 ++ dktX6_dayOf_1
theorem dksX6_dayOf_0 : cX6_dayOf.data.toList.drop 0 = dktX6_dayOf_0 := by decide +kernel
theorem dksX6_dayOf_1 : cX6_dayOf.data.toList.drop 23 = dktX6_dayOf_1 := dk_seg dksX6_dayOf_0 23 rfl rfl
theorem dX6_dayOf_0 : decode cX6_dayOf 0 = .ok (.aload_n 0, 1) := dk_42 (dk_at dksX6_dayOf_0 0 rfl rfl)
theorem dX6_dayOf_1 : decode cX6_dayOf 1 = .ok (.iload_n 1, 1) := dk_27 (dk_at dksX6_dayOf_0 1 rfl rfl)
theorem dX6_dayOf_2 : decode cX6_dayOf 2 = .ok (.iload_n 2, 1) := dk_28 (dk_at dksX6_dayOf_0 2 rfl rfl)
theorem dX6_dayOf_3 : decode cX6_dayOf 3 = .ok (.iload_n 3, 1) := dk_29 (dk_at dksX6_dayOf_0 3 rfl rfl)
theorem dX6_dayOf_4 : decode cX6_dayOf 4 = .ok (.iload 4, 2) := dk_21 4 (dk_at dksX6_dayOf_0 4 rfl rfl)
theorem dX6_dayOf_6 : decode cX6_dayOf 6 = .ok (.invokevirtual 283, 3) := dk_182 1 27 (dk_at dksX6_dayOf_0 6 rfl rfl)
theorem dX6_dayOf_9 : decode cX6_dayOf 9 = .ok (.istore 5, 2) := dk_54 5 (dk_at dksX6_dayOf_0 9 rfl rfl)
theorem dX6_dayOf_11 : decode cX6_dayOf 11 = .ok (.aload_n 0, 1) := dk_42 (dk_at dksX6_dayOf_0 11 rfl rfl)
theorem dX6_dayOf_12 : decode cX6_dayOf 12 = .ok (.getfield 35, 3) := dk_180 0 35 (dk_at dksX6_dayOf_0 12 rfl rfl)
theorem dX6_dayOf_15 : decode cX6_dayOf 15 = .ok (.iload 5, 2) := dk_21 5 (dk_at dksX6_dayOf_0 15 rfl rfl)
theorem dX6_dayOf_17 : decode cX6_dayOf 17 = .ok (.iaload, 1) := dk_46 (dk_at dksX6_dayOf_0 17 rfl rfl)
theorem dX6_dayOf_18 : decode cX6_dayOf 18 = .ok (.aload_n 0, 1) := dk_42 (dk_at dksX6_dayOf_0 18 rfl rfl)
theorem dX6_dayOf_19 : decode cX6_dayOf 19 = .ok (.iload 5, 2) := dk_21 5 (dk_at dksX6_dayOf_0 19 rfl rfl)
theorem dX6_dayOf_21 : decode cX6_dayOf 21 = .ok (.iload_n 2, 1) := dk_28 (dk_at dksX6_dayOf_0 21 rfl rfl)
theorem dX6_dayOf_22 : decode cX6_dayOf 22 = .ok (.iload_n 3, 1) := dk_29 (dk_at dksX6_dayOf_0 22 rfl rfl)
theorem dX6_dayOf_23 : decode cX6_dayOf 23 = .ok (.iload 4, 2) := dk_21 4 (dk_at dksX6_dayOf_1 0 rfl rfl)
theorem dX6_dayOf_25 : decode cX6_dayOf 25 = .ok (.invokestatic 208, 3) := dk_184 0 208 (dk_at dksX6_dayOf_1 2 rfl rfl)
theorem dX6_dayOf_28 : decode cX6_dayOf 28 = .ok (.invokevirtual 228, 3) := dk_182 0 228 (dk_at dksX6_dayOf_1 5 rfl rfl)
theorem dX6_dayOf_31 : decode cX6_dayOf 31 = .ok (.iadd, 1) := dk_96 (dk_at dksX6_dayOf_1 8 rfl rfl)
theorem dX6_dayOf_32 : decode cX6_dayOf 32 = .ok (.aload_n 0, 1) := dk_42 (dk_at dksX6_dayOf_1 9 rfl rfl)
theorem dX6_dayOf_33 : decode cX6_dayOf 33 = .ok (.iload 5, 2) := dk_21 5 (dk_at dksX6_dayOf_1 10 rfl rfl)
theorem dX6_dayOf_35 : decode cX6_dayOf 35 = .ok (.aload_n 0, 1) := dk_42 (dk_at dksX6_dayOf_1 12 rfl rfl)
theorem dX6_dayOf_36 : decode cX6_dayOf 36 = .ok (.getfield 32, 3) := dk_180 0 32 (dk_at dksX6_dayOf_1 13 rfl rfl)
theorem dX6_dayOf_39 : decode cX6_dayOf 39 = .ok (.iload 5, 2) := dk_21 5 (dk_at dksX6_dayOf_1 16 rfl rfl)
theorem dX6_dayOf_41 : decode cX6_dayOf 41 = .ok (.iaload, 1) := dk_46 (dk_at dksX6_dayOf_1 18 rfl rfl)
theorem dX6_dayOf_42 : decode cX6_dayOf 42 = .ok (.invokevirtual 228, 3) := dk_182 0 228 (dk_at dksX6_dayOf_1 19 rfl rfl)
theorem dX6_dayOf_45 : decode cX6_dayOf 45 = .ok (.isub, 1) := dk_100 (dk_at dksX6_dayOf_1 22 rfl rfl)
theorem dX6_dayOf_46 : decode cX6_dayOf 46 = .ok (.ireturn, 1) := dk_172 (dk_at dksX6_dayOf_1 23 rfl rfl)
abbrev cX6_date : ByteArray := prog_16_method_39_code
def yX6_date : MethodName := ⟨RX6, "date", "(III)I"⟩
def dkwX6_date_2 : List UInt8 := [167, 0, 9, 21, 4, 29, 184, 1, 41, 172]
abbrev dktX6_date_2 : List UInt8 := dkwX6_date_2 ++ []
def dkwX6_date_1 : List UInt8 := [182, 1, 38, 54, 4, 21, 4, 2, 160, 0, 7, 2, 167, 0, 21, 29, 6, 160, 0, 10, 28, 16, 7, 112]
abbrev dktX6_date_1 : List UInt8 := dkwX6_date_1 ++ dktX6_date_2
def dkwX6_date_0 : List UInt8 := [42, 27, 182, 1, 24, 153, 0, 12, 29, 3, 6, 184, 0, 186, 154, 0, 5, 2, 172, 42, 27, 28]
abbrev dktX6_date_0 : List UInt8 := dkwX6_date_0 ++ dktX6_date_1
theorem dksX6_date_0 : cX6_date.data.toList.drop 0 = dktX6_date_0 := by decide +kernel
theorem dksX6_date_1 : cX6_date.data.toList.drop 22 = dktX6_date_1 := dk_seg dksX6_date_0 22 rfl rfl
theorem dksX6_date_2 : cX6_date.data.toList.drop 46 = dktX6_date_2 := dk_seg dksX6_date_1 24 rfl rfl
theorem dX6_date_0 : decode cX6_date 0 = .ok (.aload_n 0, 1) := dk_42 (dk_at dksX6_date_0 0 rfl rfl)
theorem dX6_date_1 : decode cX6_date 1 = .ok (.iload_n 1, 1) := dk_27 (dk_at dksX6_date_0 1 rfl rfl)
theorem dX6_date_2 : decode cX6_date 2 = .ok (.invokevirtual 280, 3) := dk_182 1 24 (dk_at dksX6_date_0 2 rfl rfl)
theorem dX6_date_5 : decode cX6_date 5 = .ok (.ifCond .eq 12, 3) := dk_153 0 12 (dk_at dksX6_date_0 5 rfl rfl)
theorem dX6_date_8 : decode cX6_date 8 = .ok (.iload_n 3, 1) := dk_29 (dk_at dksX6_date_0 8 rfl rfl)
theorem dX6_date_9 : decode cX6_date 9 = .ok (.iconst 0, 1) := dk_3 (dk_at dksX6_date_0 9 rfl rfl)
theorem dX6_date_10 : decode cX6_date 10 = .ok (.iconst 3, 1) := dk_6 (dk_at dksX6_date_0 10 rfl rfl)
theorem dX6_date_11 : decode cX6_date 11 = .ok (.invokestatic 186, 3) := dk_184 0 186 (dk_at dksX6_date_0 11 rfl rfl)
theorem dX6_date_14 : decode cX6_date 14 = .ok (.ifCond .ne 5, 3) := dk_154 0 5 (dk_at dksX6_date_0 14 rfl rfl)
theorem dX6_date_17 : decode cX6_date 17 = .ok (.iconst (-1), 1) := dk_2 (dk_at dksX6_date_0 17 rfl rfl)
theorem dX6_date_18 : decode cX6_date 18 = .ok (.ireturn, 1) := dk_172 (dk_at dksX6_date_0 18 rfl rfl)
theorem dX6_date_19 : decode cX6_date 19 = .ok (.aload_n 0, 1) := dk_42 (dk_at dksX6_date_0 19 rfl rfl)
theorem dX6_date_20 : decode cX6_date 20 = .ok (.iload_n 1, 1) := dk_27 (dk_at dksX6_date_0 20 rfl rfl)
theorem dX6_date_21 : decode cX6_date 21 = .ok (.iload_n 2, 1) := dk_28 (dk_at dksX6_date_0 21 rfl rfl)
theorem dX6_date_22 : decode cX6_date 22 = .ok (.invokevirtual 294, 3) := dk_182 1 38 (dk_at dksX6_date_1 0 rfl rfl)
theorem dX6_date_25 : decode cX6_date 25 = .ok (.istore 4, 2) := dk_54 4 (dk_at dksX6_date_1 3 rfl rfl)
theorem dX6_date_27 : decode cX6_date 27 = .ok (.iload 4, 2) := dk_21 4 (dk_at dksX6_date_1 5 rfl rfl)
theorem dX6_date_29 : decode cX6_date 29 = .ok (.iconst (-1), 1) := dk_2 (dk_at dksX6_date_1 7 rfl rfl)
theorem dX6_date_30 : decode cX6_date 30 = .ok (.if_icmp .ne 7, 3) := dk_160 0 7 (dk_at dksX6_date_1 8 rfl rfl)
theorem dX6_date_33 : decode cX6_date 33 = .ok (.iconst (-1), 1) := dk_2 (dk_at dksX6_date_1 11 rfl rfl)
theorem dX6_date_34 : decode cX6_date 34 = .ok (.goto 21, 3) := dk_167 0 21 (dk_at dksX6_date_1 12 rfl rfl)
theorem dX6_date_37 : decode cX6_date 37 = .ok (.iload_n 3, 1) := dk_29 (dk_at dksX6_date_1 15 rfl rfl)
theorem dX6_date_38 : decode cX6_date 38 = .ok (.iconst 3, 1) := dk_6 (dk_at dksX6_date_1 16 rfl rfl)
theorem dX6_date_39 : decode cX6_date 39 = .ok (.if_icmp .ne 10, 3) := dk_160 0 10 (dk_at dksX6_date_1 17 rfl rfl)
theorem dX6_date_42 : decode cX6_date 42 = .ok (.iload_n 2, 1) := dk_28 (dk_at dksX6_date_1 20 rfl rfl)
theorem dX6_date_43 : decode cX6_date 43 = .ok (.bipush 7, 2) := dk_16 7 (dk_at dksX6_date_1 21 rfl rfl)
theorem dX6_date_45 : decode cX6_date 45 = .ok (.irem, 1) := dk_112 (dk_at dksX6_date_1 23 rfl rfl)
theorem dX6_date_46 : decode cX6_date 46 = .ok (.goto 9, 3) := dk_167 0 9 (dk_at dksX6_date_2 0 rfl rfl)
theorem dX6_date_49 : decode cX6_date 49 = .ok (.iload 4, 2) := dk_21 4 (dk_at dksX6_date_2 3 rfl rfl)
theorem dX6_date_51 : decode cX6_date 51 = .ok (.iload_n 3, 1) := dk_29 (dk_at dksX6_date_2 5 rfl rfl)
theorem dX6_date_52 : decode cX6_date 52 = .ok (.invokestatic 297, 3) := dk_184 1 41 (dk_at dksX6_date_2 6 rfl rfl)
theorem dX6_date_55 : decode cX6_date 55 = .ok (.ireturn, 1) := dk_172 (dk_at dksX6_date_2 9 rfl rfl)
abbrev cX6_dateOf : ByteArray := prog_16_method_37_code
def yX6_dateOf : MethodName := ⟨RX6, "dateOf", "(II)I"⟩
def dkwX6_dateOf_4 : List UInt8 := [42, 180, 0, 35, 29, 46, 100, 21, 4, 96, 182, 0, 236, 172, 132, 3, 1, 167, 255, 147, 2, 172]
abbrev dktX6_dateOf_4 : List UInt8 := dkwX6_dateOf_4 ++ []
def dkwX6_dateOf_3 : List UInt8 := [182, 0, 228, 21, 4, 100, 163, 0, 7, 4, 167, 0, 4, 3, 54, 5, 21, 5, 153, 0, 20, 42, 29, 28]
abbrev dktX6_dateOf_3 : List UInt8 := dkwX6_dateOf_3 ++ dktX6_dateOf_4
def dkwX6_dateOf_2 : List UInt8 := [180, 0, 35, 29, 46, 161, 0, 32, 28, 42, 180, 0, 35, 29, 46, 100, 42, 29, 42, 180, 0, 29, 29, 46]
abbrev dktX6_dateOf_2 : List UInt8 := dkwX6_dateOf_2 ++ dktX6_dateOf_3
def dkwX6_dateOf_1 : List UInt8 := [29, 46, 182, 0, 228, 54, 4, 42, 180, 0, 29, 29, 46, 42, 180, 0, 32, 29, 46, 161, 0, 42, 28, 42]
abbrev dktX6_dateOf_1 : List UInt8 := dkwX6_dateOf_1 ++ dktX6_dateOf_2
def dkwX6_dateOf_0 : List UInt8 := [7, 27, 104, 62, 29, 7, 27, 104, 42, 180, 0, 16, 27, 46, 96, 162, 0, 101, 42, 29, 42, 180, 0, 32]
abbrev dktX6_dateOf_0 : List UInt8 := dkwX6_dateOf_0 ++ dktX6_dateOf_1
theorem dksX6_dateOf_0 : cX6_dateOf.data.toList.drop 0 = dktX6_dateOf_0 := by decide +kernel
theorem dksX6_dateOf_1 : cX6_dateOf.data.toList.drop 24 = dktX6_dateOf_1 := dk_seg dksX6_dateOf_0 24 rfl rfl
theorem dksX6_dateOf_2 : cX6_dateOf.data.toList.drop 48 = dktX6_dateOf_2 := dk_seg dksX6_dateOf_1 24 rfl rfl
theorem dksX6_dateOf_3 : cX6_dateOf.data.toList.drop 72 = dktX6_dateOf_3 := dk_seg dksX6_dateOf_2 24 rfl rfl
theorem dksX6_dateOf_4 : cX6_dateOf.data.toList.drop 96 = dktX6_dateOf_4 := dk_seg dksX6_dateOf_3 24 rfl rfl
theorem dX6_dateOf_0 : decode cX6_dateOf 0 = .ok (.iconst 4, 1) := dk_7 (dk_at dksX6_dateOf_0 0 rfl rfl)
theorem dX6_dateOf_1 : decode cX6_dateOf 1 = .ok (.iload_n 1, 1) := dk_27 (dk_at dksX6_dateOf_0 1 rfl rfl)
theorem dX6_dateOf_2 : decode cX6_dateOf 2 = .ok (.imul, 1) := dk_104 (dk_at dksX6_dateOf_0 2 rfl rfl)
theorem dX6_dateOf_3 : decode cX6_dateOf 3 = .ok (.istore_n 3, 1) := dk_62 (dk_at dksX6_dateOf_0 3 rfl rfl)
theorem dX6_dateOf_4 : decode cX6_dateOf 4 = .ok (.iload_n 3, 1) := dk_29 (dk_at dksX6_dateOf_0 4 rfl rfl)
theorem dX6_dateOf_5 : decode cX6_dateOf 5 = .ok (.iconst 4, 1) := dk_7 (dk_at dksX6_dateOf_0 5 rfl rfl)
theorem dX6_dateOf_6 : decode cX6_dateOf 6 = .ok (.iload_n 1, 1) := dk_27 (dk_at dksX6_dateOf_0 6 rfl rfl)
theorem dX6_dateOf_7 : decode cX6_dateOf 7 = .ok (.imul, 1) := dk_104 (dk_at dksX6_dateOf_0 7 rfl rfl)
theorem dX6_dateOf_8 : decode cX6_dateOf 8 = .ok (.aload_n 0, 1) := dk_42 (dk_at dksX6_dateOf_0 8 rfl rfl)
theorem dX6_dateOf_9 : decode cX6_dateOf 9 = .ok (.getfield 16, 3) := dk_180 0 16 (dk_at dksX6_dateOf_0 9 rfl rfl)
theorem dX6_dateOf_12 : decode cX6_dateOf 12 = .ok (.iload_n 1, 1) := dk_27 (dk_at dksX6_dateOf_0 12 rfl rfl)
theorem dX6_dateOf_13 : decode cX6_dateOf 13 = .ok (.iaload, 1) := dk_46 (dk_at dksX6_dateOf_0 13 rfl rfl)
theorem dX6_dateOf_14 : decode cX6_dateOf 14 = .ok (.iadd, 1) := dk_96 (dk_at dksX6_dateOf_0 14 rfl rfl)
theorem dX6_dateOf_15 : decode cX6_dateOf 15 = .ok (.if_icmp .ge 101, 3) := dk_162 0 101 (dk_at dksX6_dateOf_0 15 rfl rfl)
theorem dX6_dateOf_18 : decode cX6_dateOf 18 = .ok (.aload_n 0, 1) := dk_42 (dk_at dksX6_dateOf_0 18 rfl rfl)
theorem dX6_dateOf_19 : decode cX6_dateOf 19 = .ok (.iload_n 3, 1) := dk_29 (dk_at dksX6_dateOf_0 19 rfl rfl)
theorem dX6_dateOf_20 : decode cX6_dateOf 20 = .ok (.aload_n 0, 1) := dk_42 (dk_at dksX6_dateOf_0 20 rfl rfl)
theorem dX6_dateOf_21 : decode cX6_dateOf 21 = .ok (.getfield 32, 3) := dk_180 0 32 (dk_at dksX6_dateOf_0 21 rfl rfl)
theorem dX6_dateOf_24 : decode cX6_dateOf 24 = .ok (.iload_n 3, 1) := dk_29 (dk_at dksX6_dateOf_1 0 rfl rfl)
theorem dX6_dateOf_25 : decode cX6_dateOf 25 = .ok (.iaload, 1) := dk_46 (dk_at dksX6_dateOf_1 1 rfl rfl)
theorem dX6_dateOf_26 : decode cX6_dateOf 26 = .ok (.invokevirtual 228, 3) := dk_182 0 228 (dk_at dksX6_dateOf_1 2 rfl rfl)
theorem dX6_dateOf_29 : decode cX6_dateOf 29 = .ok (.istore 4, 2) := dk_54 4 (dk_at dksX6_dateOf_1 5 rfl rfl)
theorem dX6_dateOf_31 : decode cX6_dateOf 31 = .ok (.aload_n 0, 1) := dk_42 (dk_at dksX6_dateOf_1 7 rfl rfl)
theorem dX6_dateOf_32 : decode cX6_dateOf 32 = .ok (.getfield 29, 3) := dk_180 0 29 (dk_at dksX6_dateOf_1 8 rfl rfl)
theorem dX6_dateOf_35 : decode cX6_dateOf 35 = .ok (.iload_n 3, 1) := dk_29 (dk_at dksX6_dateOf_1 11 rfl rfl)
theorem dX6_dateOf_36 : decode cX6_dateOf 36 = .ok (.iaload, 1) := dk_46 (dk_at dksX6_dateOf_1 12 rfl rfl)
theorem dX6_dateOf_37 : decode cX6_dateOf 37 = .ok (.aload_n 0, 1) := dk_42 (dk_at dksX6_dateOf_1 13 rfl rfl)
theorem dX6_dateOf_38 : decode cX6_dateOf 38 = .ok (.getfield 32, 3) := dk_180 0 32 (dk_at dksX6_dateOf_1 14 rfl rfl)
theorem dX6_dateOf_41 : decode cX6_dateOf 41 = .ok (.iload_n 3, 1) := dk_29 (dk_at dksX6_dateOf_1 17 rfl rfl)
theorem dX6_dateOf_42 : decode cX6_dateOf 42 = .ok (.iaload, 1) := dk_46 (dk_at dksX6_dateOf_1 18 rfl rfl)
theorem dX6_dateOf_43 : decode cX6_dateOf 43 = .ok (.if_icmp .lt 42, 3) := dk_161 0 42 (dk_at dksX6_dateOf_1 19 rfl rfl)
theorem dX6_dateOf_46 : decode cX6_dateOf 46 = .ok (.iload_n 2, 1) := dk_28 (dk_at dksX6_dateOf_1 22 rfl rfl)
theorem dX6_dateOf_47 : decode cX6_dateOf 47 = .ok (.aload_n 0, 1) := dk_42 (dk_at dksX6_dateOf_1 23 rfl rfl)
theorem dX6_dateOf_48 : decode cX6_dateOf 48 = .ok (.getfield 35, 3) := dk_180 0 35 (dk_at dksX6_dateOf_2 0 rfl rfl)
theorem dX6_dateOf_51 : decode cX6_dateOf 51 = .ok (.iload_n 3, 1) := dk_29 (dk_at dksX6_dateOf_2 3 rfl rfl)
theorem dX6_dateOf_52 : decode cX6_dateOf 52 = .ok (.iaload, 1) := dk_46 (dk_at dksX6_dateOf_2 4 rfl rfl)
theorem dX6_dateOf_53 : decode cX6_dateOf 53 = .ok (.if_icmp .lt 32, 3) := dk_161 0 32 (dk_at dksX6_dateOf_2 5 rfl rfl)
theorem dX6_dateOf_56 : decode cX6_dateOf 56 = .ok (.iload_n 2, 1) := dk_28 (dk_at dksX6_dateOf_2 8 rfl rfl)
theorem dX6_dateOf_57 : decode cX6_dateOf 57 = .ok (.aload_n 0, 1) := dk_42 (dk_at dksX6_dateOf_2 9 rfl rfl)
theorem dX6_dateOf_58 : decode cX6_dateOf 58 = .ok (.getfield 35, 3) := dk_180 0 35 (dk_at dksX6_dateOf_2 10 rfl rfl)
theorem dX6_dateOf_61 : decode cX6_dateOf 61 = .ok (.iload_n 3, 1) := dk_29 (dk_at dksX6_dateOf_2 13 rfl rfl)
theorem dX6_dateOf_62 : decode cX6_dateOf 62 = .ok (.iaload, 1) := dk_46 (dk_at dksX6_dateOf_2 14 rfl rfl)
theorem dX6_dateOf_63 : decode cX6_dateOf 63 = .ok (.isub, 1) := dk_100 (dk_at dksX6_dateOf_2 15 rfl rfl)
theorem dX6_dateOf_64 : decode cX6_dateOf 64 = .ok (.aload_n 0, 1) := dk_42 (dk_at dksX6_dateOf_2 16 rfl rfl)
theorem dX6_dateOf_65 : decode cX6_dateOf 65 = .ok (.iload_n 3, 1) := dk_29 (dk_at dksX6_dateOf_2 17 rfl rfl)
theorem dX6_dateOf_66 : decode cX6_dateOf 66 = .ok (.aload_n 0, 1) := dk_42 (dk_at dksX6_dateOf_2 18 rfl rfl)
theorem dX6_dateOf_67 : decode cX6_dateOf 67 = .ok (.getfield 29, 3) := dk_180 0 29 (dk_at dksX6_dateOf_2 19 rfl rfl)
theorem dX6_dateOf_70 : decode cX6_dateOf 70 = .ok (.iload_n 3, 1) := dk_29 (dk_at dksX6_dateOf_2 22 rfl rfl)
theorem dX6_dateOf_71 : decode cX6_dateOf 71 = .ok (.iaload, 1) := dk_46 (dk_at dksX6_dateOf_2 23 rfl rfl)
theorem dX6_dateOf_72 : decode cX6_dateOf 72 = .ok (.invokevirtual 228, 3) := dk_182 0 228 (dk_at dksX6_dateOf_3 0 rfl rfl)
theorem dX6_dateOf_75 : decode cX6_dateOf 75 = .ok (.iload 4, 2) := dk_21 4 (dk_at dksX6_dateOf_3 3 rfl rfl)
theorem dX6_dateOf_77 : decode cX6_dateOf 77 = .ok (.isub, 1) := dk_100 (dk_at dksX6_dateOf_3 5 rfl rfl)
theorem dX6_dateOf_78 : decode cX6_dateOf 78 = .ok (.if_icmp .gt 7, 3) := dk_163 0 7 (dk_at dksX6_dateOf_3 6 rfl rfl)
theorem dX6_dateOf_81 : decode cX6_dateOf 81 = .ok (.iconst 1, 1) := dk_4 (dk_at dksX6_dateOf_3 9 rfl rfl)
theorem dX6_dateOf_82 : decode cX6_dateOf 82 = .ok (.goto 4, 3) := dk_167 0 4 (dk_at dksX6_dateOf_3 10 rfl rfl)
theorem dX6_dateOf_85 : decode cX6_dateOf 85 = .ok (.iconst 0, 1) := dk_3 (dk_at dksX6_dateOf_3 13 rfl rfl)
theorem dX6_dateOf_86 : decode cX6_dateOf 86 = .ok (.istore 5, 2) := dk_54 5 (dk_at dksX6_dateOf_3 14 rfl rfl)
theorem dX6_dateOf_88 : decode cX6_dateOf 88 = .ok (.iload 5, 2) := dk_21 5 (dk_at dksX6_dateOf_3 16 rfl rfl)
theorem dX6_dateOf_90 : decode cX6_dateOf 90 = .ok (.ifCond .eq 20, 3) := dk_153 0 20 (dk_at dksX6_dateOf_3 18 rfl rfl)
theorem dX6_dateOf_93 : decode cX6_dateOf 93 = .ok (.aload_n 0, 1) := dk_42 (dk_at dksX6_dateOf_3 21 rfl rfl)
theorem dX6_dateOf_94 : decode cX6_dateOf 94 = .ok (.iload_n 3, 1) := dk_29 (dk_at dksX6_dateOf_3 22 rfl rfl)
theorem dX6_dateOf_95 : decode cX6_dateOf 95 = .ok (.iload_n 2, 1) := dk_28 (dk_at dksX6_dateOf_3 23 rfl rfl)
theorem dX6_dateOf_96 : decode cX6_dateOf 96 = .ok (.aload_n 0, 1) := dk_42 (dk_at dksX6_dateOf_4 0 rfl rfl)
theorem dX6_dateOf_97 : decode cX6_dateOf 97 = .ok (.getfield 35, 3) := dk_180 0 35 (dk_at dksX6_dateOf_4 1 rfl rfl)
theorem dX6_dateOf_100 : decode cX6_dateOf 100 = .ok (.iload_n 3, 1) := dk_29 (dk_at dksX6_dateOf_4 4 rfl rfl)
theorem dX6_dateOf_101 : decode cX6_dateOf 101 = .ok (.iaload, 1) := dk_46 (dk_at dksX6_dateOf_4 5 rfl rfl)
theorem dX6_dateOf_102 : decode cX6_dateOf 102 = .ok (.isub, 1) := dk_100 (dk_at dksX6_dateOf_4 6 rfl rfl)
theorem dX6_dateOf_103 : decode cX6_dateOf 103 = .ok (.iload 4, 2) := dk_21 4 (dk_at dksX6_dateOf_4 7 rfl rfl)
theorem dX6_dateOf_105 : decode cX6_dateOf 105 = .ok (.iadd, 1) := dk_96 (dk_at dksX6_dateOf_4 9 rfl rfl)
theorem dX6_dateOf_106 : decode cX6_dateOf 106 = .ok (.invokevirtual 236, 3) := dk_182 0 236 (dk_at dksX6_dateOf_4 10 rfl rfl)
theorem dX6_dateOf_109 : decode cX6_dateOf 109 = .ok (.ireturn, 1) := dk_172 (dk_at dksX6_dateOf_4 13 rfl rfl)
theorem dX6_dateOf_110 : decode cX6_dateOf 110 = .ok (.iinc 3 1, 3) := dk_132 3 1 (dk_at dksX6_dateOf_4 14 rfl rfl)
theorem dX6_dateOf_113 : decode cX6_dateOf 113 = .ok (.goto (-109), 3) := dk_167 255 147 (dk_at dksX6_dateOf_4 17 rfl rfl)
theorem dX6_dateOf_116 : decode cX6_dateOf 116 = .ok (.iconst (-1), 1) := dk_2 (dk_at dksX6_dateOf_4 20 rfl rfl)
theorem dX6_dateOf_117 : decode cX6_dateOf 117 = .ok (.ireturn, 1) := dk_172 (dk_at dksX6_dateOf_4 21 rfl rfl)
abbrev cX6_partOf : ByteArray := prog_16_method_38_code
def yX6_partOf : MethodName := ⟨RX6, "partOf", "(II)I"⟩
def dkwX6_partOf_1 : List UInt8 := [167, 0, 7, 26, 16, 100, 112, 172]
abbrev dktX6_partOf_1 : List UInt8 := dkwX6_partOf_1 ++ []
def dkwX6_partOf_0 : List UInt8 := [27, 154, 0, 11, 26, 17, 39, 16, 108, 167, 0, 22, 27, 4, 160, 0, 13, 26, 16, 100, 108, 16, 100, 112]
abbrev dktX6_partOf_0 : List UInt8 := dkwX6_partOf_0 ++ dktX6_partOf_1
theorem dksX6_partOf_0 : cX6_partOf.data.toList.drop 0 = dktX6_partOf_0 := by decide +kernel
theorem dksX6_partOf_1 : cX6_partOf.data.toList.drop 24 = dktX6_partOf_1 := dk_seg dksX6_partOf_0 24 rfl rfl
theorem dX6_partOf_0 : decode cX6_partOf 0 = .ok (.iload_n 1, 1) := dk_27 (dk_at dksX6_partOf_0 0 rfl rfl)
theorem dX6_partOf_1 : decode cX6_partOf 1 = .ok (.ifCond .ne 11, 3) := dk_154 0 11 (dk_at dksX6_partOf_0 1 rfl rfl)
theorem dX6_partOf_4 : decode cX6_partOf 4 = .ok (.iload_n 0, 1) := dk_26 (dk_at dksX6_partOf_0 4 rfl rfl)
theorem dX6_partOf_5 : decode cX6_partOf 5 = .ok (.sipush 10000, 3) := dk_17 39 16 (dk_at dksX6_partOf_0 5 rfl rfl)
theorem dX6_partOf_8 : decode cX6_partOf 8 = .ok (.idiv, 1) := dk_108 (dk_at dksX6_partOf_0 8 rfl rfl)
theorem dX6_partOf_9 : decode cX6_partOf 9 = .ok (.goto 22, 3) := dk_167 0 22 (dk_at dksX6_partOf_0 9 rfl rfl)
theorem dX6_partOf_12 : decode cX6_partOf 12 = .ok (.iload_n 1, 1) := dk_27 (dk_at dksX6_partOf_0 12 rfl rfl)
theorem dX6_partOf_13 : decode cX6_partOf 13 = .ok (.iconst 1, 1) := dk_4 (dk_at dksX6_partOf_0 13 rfl rfl)
theorem dX6_partOf_14 : decode cX6_partOf 14 = .ok (.if_icmp .ne 13, 3) := dk_160 0 13 (dk_at dksX6_partOf_0 14 rfl rfl)
theorem dX6_partOf_17 : decode cX6_partOf 17 = .ok (.iload_n 0, 1) := dk_26 (dk_at dksX6_partOf_0 17 rfl rfl)
theorem dX6_partOf_18 : decode cX6_partOf 18 = .ok (.bipush 100, 2) := dk_16 100 (dk_at dksX6_partOf_0 18 rfl rfl)
theorem dX6_partOf_20 : decode cX6_partOf 20 = .ok (.idiv, 1) := dk_108 (dk_at dksX6_partOf_0 20 rfl rfl)
theorem dX6_partOf_21 : decode cX6_partOf 21 = .ok (.bipush 100, 2) := dk_16 100 (dk_at dksX6_partOf_0 21 rfl rfl)
theorem dX6_partOf_23 : decode cX6_partOf 23 = .ok (.irem, 1) := dk_112 (dk_at dksX6_partOf_0 23 rfl rfl)
theorem dX6_partOf_24 : decode cX6_partOf 24 = .ok (.goto 7, 3) := dk_167 0 7 (dk_at dksX6_partOf_1 0 rfl rfl)
theorem dX6_partOf_27 : decode cX6_partOf 27 = .ok (.iload_n 0, 1) := dk_26 (dk_at dksX6_partOf_1 3 rfl rfl)
theorem dX6_partOf_28 : decode cX6_partOf 28 = .ok (.bipush 100, 2) := dk_16 100 (dk_at dksX6_partOf_1 4 rfl rfl)
theorem dX6_partOf_30 : decode cX6_partOf 30 = .ok (.irem, 1) := dk_112 (dk_at dksX6_partOf_1 6 rfl rfl)
theorem dX6_partOf_31 : decode cX6_partOf 31 = .ok (.ireturn, 1) := dk_172 (dk_at dksX6_partOf_1 7 rfl rfl)
abbrev cX6_turned : ByteArray := prog_16_method_40_code
def yX6_turned : MethodName := ⟨RX6, "turned", "(IIIIII)I"⟩
def dkwX6_turned_2 : List UInt8 := [167, 0, 4, 2, 172]
abbrev dktX6_turned_2 : List UInt8 := dkwX6_turned_2 ++ []
def dkwX6_turned_1 : List UInt8 := [5, 184, 0, 186, 153, 0, 23, 42, 21, 5, 42, 27, 28, 29, 21, 4, 182, 1, 35, 21, 6, 182, 1, 44]
abbrev dktX6_turned_1 : List UInt8 := dkwX6_turned_1 ++ dktX6_turned_2
def dkwX6_turned_0 : List UInt8 := [42, 27, 28, 29, 21, 4, 182, 1, 31, 153, 0, 42, 42, 21, 5, 182, 1, 24, 153, 0, 33, 21, 6, 3]
abbrev dktX6_turned_0 : List UInt8 := dkwX6_turned_0 ++ dktX6_turned_1
theorem dksX6_turned_0 : cX6_turned.data.toList.drop 0 = dktX6_turned_0 := by decide +kernel
theorem dksX6_turned_1 : cX6_turned.data.toList.drop 24 = dktX6_turned_1 := dk_seg dksX6_turned_0 24 rfl rfl
theorem dksX6_turned_2 : cX6_turned.data.toList.drop 48 = dktX6_turned_2 := dk_seg dksX6_turned_1 24 rfl rfl
theorem dX6_turned_0 : decode cX6_turned 0 = .ok (.aload_n 0, 1) := dk_42 (dk_at dksX6_turned_0 0 rfl rfl)
theorem dX6_turned_1 : decode cX6_turned 1 = .ok (.iload_n 1, 1) := dk_27 (dk_at dksX6_turned_0 1 rfl rfl)
theorem dX6_turned_2 : decode cX6_turned 2 = .ok (.iload_n 2, 1) := dk_28 (dk_at dksX6_turned_0 2 rfl rfl)
theorem dX6_turned_3 : decode cX6_turned 3 = .ok (.iload_n 3, 1) := dk_29 (dk_at dksX6_turned_0 3 rfl rfl)
theorem dX6_turned_4 : decode cX6_turned 4 = .ok (.iload 4, 2) := dk_21 4 (dk_at dksX6_turned_0 4 rfl rfl)
theorem dX6_turned_6 : decode cX6_turned 6 = .ok (.invokevirtual 287, 3) := dk_182 1 31 (dk_at dksX6_turned_0 6 rfl rfl)
theorem dX6_turned_9 : decode cX6_turned 9 = .ok (.ifCond .eq 42, 3) := dk_153 0 42 (dk_at dksX6_turned_0 9 rfl rfl)
theorem dX6_turned_12 : decode cX6_turned 12 = .ok (.aload_n 0, 1) := dk_42 (dk_at dksX6_turned_0 12 rfl rfl)
theorem dX6_turned_13 : decode cX6_turned 13 = .ok (.iload 5, 2) := dk_21 5 (dk_at dksX6_turned_0 13 rfl rfl)
theorem dX6_turned_15 : decode cX6_turned 15 = .ok (.invokevirtual 280, 3) := dk_182 1 24 (dk_at dksX6_turned_0 15 rfl rfl)
theorem dX6_turned_18 : decode cX6_turned 18 = .ok (.ifCond .eq 33, 3) := dk_153 0 33 (dk_at dksX6_turned_0 18 rfl rfl)
theorem dX6_turned_21 : decode cX6_turned 21 = .ok (.iload 6, 2) := dk_21 6 (dk_at dksX6_turned_0 21 rfl rfl)
theorem dX6_turned_23 : decode cX6_turned 23 = .ok (.iconst 0, 1) := dk_3 (dk_at dksX6_turned_0 23 rfl rfl)
theorem dX6_turned_24 : decode cX6_turned 24 = .ok (.iconst 2, 1) := dk_5 (dk_at dksX6_turned_1 0 rfl rfl)
theorem dX6_turned_25 : decode cX6_turned 25 = .ok (.invokestatic 186, 3) := dk_184 0 186 (dk_at dksX6_turned_1 1 rfl rfl)
theorem dX6_turned_28 : decode cX6_turned 28 = .ok (.ifCond .eq 23, 3) := dk_153 0 23 (dk_at dksX6_turned_1 4 rfl rfl)
theorem dX6_turned_31 : decode cX6_turned 31 = .ok (.aload_n 0, 1) := dk_42 (dk_at dksX6_turned_1 7 rfl rfl)
theorem dX6_turned_32 : decode cX6_turned 32 = .ok (.iload 5, 2) := dk_21 5 (dk_at dksX6_turned_1 8 rfl rfl)
theorem dX6_turned_34 : decode cX6_turned 34 = .ok (.aload_n 0, 1) := dk_42 (dk_at dksX6_turned_1 10 rfl rfl)
theorem dX6_turned_35 : decode cX6_turned 35 = .ok (.iload_n 1, 1) := dk_27 (dk_at dksX6_turned_1 11 rfl rfl)
theorem dX6_turned_36 : decode cX6_turned 36 = .ok (.iload_n 2, 1) := dk_28 (dk_at dksX6_turned_1 12 rfl rfl)
theorem dX6_turned_37 : decode cX6_turned 37 = .ok (.iload_n 3, 1) := dk_29 (dk_at dksX6_turned_1 13 rfl rfl)
theorem dX6_turned_38 : decode cX6_turned 38 = .ok (.iload 4, 2) := dk_21 4 (dk_at dksX6_turned_1 14 rfl rfl)
theorem dX6_turned_40 : decode cX6_turned 40 = .ok (.invokevirtual 291, 3) := dk_182 1 35 (dk_at dksX6_turned_1 16 rfl rfl)
theorem dX6_turned_43 : decode cX6_turned 43 = .ok (.iload 6, 2) := dk_21 6 (dk_at dksX6_turned_1 19 rfl rfl)
theorem dX6_turned_45 : decode cX6_turned 45 = .ok (.invokevirtual 300, 3) := dk_182 1 44 (dk_at dksX6_turned_1 21 rfl rfl)
theorem dX6_turned_48 : decode cX6_turned 48 = .ok (.goto 4, 3) := dk_167 0 4 (dk_at dksX6_turned_2 0 rfl rfl)
theorem dX6_turned_51 : decode cX6_turned 51 = .ok (.iconst (-1), 1) := dk_2 (dk_at dksX6_turned_2 3 rfl rfl)
theorem dX6_turned_52 : decode cX6_turned 52 = .ok (.ireturn, 1) := dk_172 (dk_at dksX6_turned_2 4 rfl rfl)
abbrev cX6_many : ByteArray := prog_16_method_41_code
def yX6_many : MethodName := ⟨RX6, "many", "(III)I"⟩
def dkwX6_many_4 : List UInt8 := [132, 6, 1, 167, 255, 223, 132, 5, 1, 167, 255, 199, 21, 4, 172]
abbrev dktX6_many_4 : List UInt8 := dkwX6_many_4 ++ []
def dkwX6_many_3 : List UInt8 := [21, 4, 42, 27, 28, 21, 5, 21, 6, 182, 1, 31, 153, 0, 7, 4, 167, 0, 4, 3, 96, 54, 4]
abbrev dktX6_many_3 : List UInt8 := dkwX6_many_3 ++ dktX6_many_4
def dkwX6_many_2 : List UInt8 := [29, 154, 0, 8, 16, 12, 167, 0, 4, 29, 163, 0, 48, 4, 54, 6, 21, 6, 16, 31, 163, 0, 32]
abbrev dktX6_many_2 : List UInt8 := dkwX6_many_2 ++ dktX6_many_3
def dkwX6_many_1 : List UInt8 := [184, 0, 186, 154, 0, 5, 2, 172, 3, 54, 4, 29, 154, 0, 7, 4, 167, 0, 4, 29, 54, 5, 21, 5]
abbrev dktX6_many_1 : List UInt8 := dkwX6_many_1 ++ dktX6_many_2
def dkwX6_many_0 : List UInt8 := [42, 27, 182, 1, 24, 153, 0, 24, 28, 4, 17, 39, 15, 184, 0, 186, 153, 0, 13, 29, 3, 16, 12]
abbrev dktX6_many_0 : List UInt8 := dkwX6_many_0 ++ dktX6_many_1
theorem dksX6_many_0 : cX6_many.data.toList.drop 0 = dktX6_many_0 := by decide +kernel
theorem dksX6_many_1 : cX6_many.data.toList.drop 23 = dktX6_many_1 := dk_seg dksX6_many_0 23 rfl rfl
theorem dksX6_many_2 : cX6_many.data.toList.drop 47 = dktX6_many_2 := dk_seg dksX6_many_1 24 rfl rfl
theorem dksX6_many_3 : cX6_many.data.toList.drop 70 = dktX6_many_3 := dk_seg dksX6_many_2 23 rfl rfl
theorem dksX6_many_4 : cX6_many.data.toList.drop 93 = dktX6_many_4 := dk_seg dksX6_many_3 23 rfl rfl
theorem dX6_many_0 : decode cX6_many 0 = .ok (.aload_n 0, 1) := dk_42 (dk_at dksX6_many_0 0 rfl rfl)
theorem dX6_many_1 : decode cX6_many 1 = .ok (.iload_n 1, 1) := dk_27 (dk_at dksX6_many_0 1 rfl rfl)
theorem dX6_many_2 : decode cX6_many 2 = .ok (.invokevirtual 280, 3) := dk_182 1 24 (dk_at dksX6_many_0 2 rfl rfl)
theorem dX6_many_5 : decode cX6_many 5 = .ok (.ifCond .eq 24, 3) := dk_153 0 24 (dk_at dksX6_many_0 5 rfl rfl)
theorem dX6_many_8 : decode cX6_many 8 = .ok (.iload_n 2, 1) := dk_28 (dk_at dksX6_many_0 8 rfl rfl)
theorem dX6_many_9 : decode cX6_many 9 = .ok (.iconst 1, 1) := dk_4 (dk_at dksX6_many_0 9 rfl rfl)
theorem dX6_many_10 : decode cX6_many 10 = .ok (.sipush 9999, 3) := dk_17 39 15 (dk_at dksX6_many_0 10 rfl rfl)
theorem dX6_many_13 : decode cX6_many 13 = .ok (.invokestatic 186, 3) := dk_184 0 186 (dk_at dksX6_many_0 13 rfl rfl)
theorem dX6_many_16 : decode cX6_many 16 = .ok (.ifCond .eq 13, 3) := dk_153 0 13 (dk_at dksX6_many_0 16 rfl rfl)
theorem dX6_many_19 : decode cX6_many 19 = .ok (.iload_n 3, 1) := dk_29 (dk_at dksX6_many_0 19 rfl rfl)
theorem dX6_many_20 : decode cX6_many 20 = .ok (.iconst 0, 1) := dk_3 (dk_at dksX6_many_0 20 rfl rfl)
theorem dX6_many_21 : decode cX6_many 21 = .ok (.bipush 12, 2) := dk_16 12 (dk_at dksX6_many_0 21 rfl rfl)
theorem dX6_many_23 : decode cX6_many 23 = .ok (.invokestatic 186, 3) := dk_184 0 186 (dk_at dksX6_many_1 0 rfl rfl)
theorem dX6_many_26 : decode cX6_many 26 = .ok (.ifCond .ne 5, 3) := dk_154 0 5 (dk_at dksX6_many_1 3 rfl rfl)
theorem dX6_many_29 : decode cX6_many 29 = .ok (.iconst (-1), 1) := dk_2 (dk_at dksX6_many_1 6 rfl rfl)
theorem dX6_many_30 : decode cX6_many 30 = .ok (.ireturn, 1) := dk_172 (dk_at dksX6_many_1 7 rfl rfl)
theorem dX6_many_31 : decode cX6_many 31 = .ok (.iconst 0, 1) := dk_3 (dk_at dksX6_many_1 8 rfl rfl)
theorem dX6_many_32 : decode cX6_many 32 = .ok (.istore 4, 2) := dk_54 4 (dk_at dksX6_many_1 9 rfl rfl)
theorem dX6_many_34 : decode cX6_many 34 = .ok (.iload_n 3, 1) := dk_29 (dk_at dksX6_many_1 11 rfl rfl)
theorem dX6_many_35 : decode cX6_many 35 = .ok (.ifCond .ne 7, 3) := dk_154 0 7 (dk_at dksX6_many_1 12 rfl rfl)
theorem dX6_many_38 : decode cX6_many 38 = .ok (.iconst 1, 1) := dk_4 (dk_at dksX6_many_1 15 rfl rfl)
theorem dX6_many_39 : decode cX6_many 39 = .ok (.goto 4, 3) := dk_167 0 4 (dk_at dksX6_many_1 16 rfl rfl)
theorem dX6_many_42 : decode cX6_many 42 = .ok (.iload_n 3, 1) := dk_29 (dk_at dksX6_many_1 19 rfl rfl)
theorem dX6_many_43 : decode cX6_many 43 = .ok (.istore 5, 2) := dk_54 5 (dk_at dksX6_many_1 20 rfl rfl)
theorem dX6_many_45 : decode cX6_many 45 = .ok (.iload 5, 2) := dk_21 5 (dk_at dksX6_many_1 22 rfl rfl)
theorem dX6_many_47 : decode cX6_many 47 = .ok (.iload_n 3, 1) := dk_29 (dk_at dksX6_many_2 0 rfl rfl)
theorem dX6_many_48 : decode cX6_many 48 = .ok (.ifCond .ne 8, 3) := dk_154 0 8 (dk_at dksX6_many_2 1 rfl rfl)
theorem dX6_many_51 : decode cX6_many 51 = .ok (.bipush 12, 2) := dk_16 12 (dk_at dksX6_many_2 4 rfl rfl)
theorem dX6_many_53 : decode cX6_many 53 = .ok (.goto 4, 3) := dk_167 0 4 (dk_at dksX6_many_2 6 rfl rfl)
theorem dX6_many_56 : decode cX6_many 56 = .ok (.iload_n 3, 1) := dk_29 (dk_at dksX6_many_2 9 rfl rfl)
theorem dX6_many_57 : decode cX6_many 57 = .ok (.if_icmp .gt 48, 3) := dk_163 0 48 (dk_at dksX6_many_2 10 rfl rfl)
theorem dX6_many_60 : decode cX6_many 60 = .ok (.iconst 1, 1) := dk_4 (dk_at dksX6_many_2 13 rfl rfl)
theorem dX6_many_61 : decode cX6_many 61 = .ok (.istore 6, 2) := dk_54 6 (dk_at dksX6_many_2 14 rfl rfl)
theorem dX6_many_63 : decode cX6_many 63 = .ok (.iload 6, 2) := dk_21 6 (dk_at dksX6_many_2 16 rfl rfl)
theorem dX6_many_65 : decode cX6_many 65 = .ok (.bipush 31, 2) := dk_16 31 (dk_at dksX6_many_2 18 rfl rfl)
theorem dX6_many_67 : decode cX6_many 67 = .ok (.if_icmp .gt 32, 3) := dk_163 0 32 (dk_at dksX6_many_2 20 rfl rfl)
theorem dX6_many_70 : decode cX6_many 70 = .ok (.iload 4, 2) := dk_21 4 (dk_at dksX6_many_3 0 rfl rfl)
theorem dX6_many_72 : decode cX6_many 72 = .ok (.aload_n 0, 1) := dk_42 (dk_at dksX6_many_3 2 rfl rfl)
theorem dX6_many_73 : decode cX6_many 73 = .ok (.iload_n 1, 1) := dk_27 (dk_at dksX6_many_3 3 rfl rfl)
theorem dX6_many_74 : decode cX6_many 74 = .ok (.iload_n 2, 1) := dk_28 (dk_at dksX6_many_3 4 rfl rfl)
theorem dX6_many_75 : decode cX6_many 75 = .ok (.iload 5, 2) := dk_21 5 (dk_at dksX6_many_3 5 rfl rfl)
theorem dX6_many_77 : decode cX6_many 77 = .ok (.iload 6, 2) := dk_21 6 (dk_at dksX6_many_3 7 rfl rfl)
theorem dX6_many_79 : decode cX6_many 79 = .ok (.invokevirtual 287, 3) := dk_182 1 31 (dk_at dksX6_many_3 9 rfl rfl)
theorem dX6_many_82 : decode cX6_many 82 = .ok (.ifCond .eq 7, 3) := dk_153 0 7 (dk_at dksX6_many_3 12 rfl rfl)
theorem dX6_many_85 : decode cX6_many 85 = .ok (.iconst 1, 1) := dk_4 (dk_at dksX6_many_3 15 rfl rfl)
theorem dX6_many_86 : decode cX6_many 86 = .ok (.goto 4, 3) := dk_167 0 4 (dk_at dksX6_many_3 16 rfl rfl)
theorem dX6_many_89 : decode cX6_many 89 = .ok (.iconst 0, 1) := dk_3 (dk_at dksX6_many_3 19 rfl rfl)
theorem dX6_many_90 : decode cX6_many 90 = .ok (.iadd, 1) := dk_96 (dk_at dksX6_many_3 20 rfl rfl)
theorem dX6_many_91 : decode cX6_many 91 = .ok (.istore 4, 2) := dk_54 4 (dk_at dksX6_many_3 21 rfl rfl)
theorem dX6_many_93 : decode cX6_many 93 = .ok (.iinc 6 1, 3) := dk_132 6 1 (dk_at dksX6_many_4 0 rfl rfl)
theorem dX6_many_96 : decode cX6_many 96 = .ok (.goto (-33), 3) := dk_167 255 223 (dk_at dksX6_many_4 3 rfl rfl)
theorem dX6_many_99 : decode cX6_many 99 = .ok (.iinc 5 1, 3) := dk_132 5 1 (dk_at dksX6_many_4 6 rfl rfl)
theorem dX6_many_102 : decode cX6_many 102 = .ok (.goto (-57), 3) := dk_167 255 199 (dk_at dksX6_many_4 9 rfl rfl)
theorem dX6_many_105 : decode cX6_many 105 = .ok (.iload 4, 2) := dk_21 4 (dk_at dksX6_many_4 12 rfl rfl)
theorem dX6_many_107 : decode cX6_many 107 = .ok (.ireturn, 1) := dk_172 (dk_at dksX6_many_4 14 rfl rfl)
abbrev cX6_kind : ByteArray := prog_16_method_43_code
def yX6_kind : MethodName := ⟨RX6, "kind", "(II)I"⟩
def dkwX6_kind_0 : List UInt8 := [42, 27, 182, 1, 24, 153, 0, 12, 42, 27, 28, 182, 1, 47, 167, 0, 4, 2, 172]
abbrev dktX6_kind_0 : List UInt8 := dkwX6_kind_0 ++ []
theorem dksX6_kind_0 : cX6_kind.data.toList.drop 0 = dktX6_kind_0 := by decide +kernel
theorem dX6_kind_0 : decode cX6_kind 0 = .ok (.aload_n 0, 1) := dk_42 (dk_at dksX6_kind_0 0 rfl rfl)
theorem dX6_kind_1 : decode cX6_kind 1 = .ok (.iload_n 1, 1) := dk_27 (dk_at dksX6_kind_0 1 rfl rfl)
theorem dX6_kind_2 : decode cX6_kind 2 = .ok (.invokevirtual 280, 3) := dk_182 1 24 (dk_at dksX6_kind_0 2 rfl rfl)
theorem dX6_kind_5 : decode cX6_kind 5 = .ok (.ifCond .eq 12, 3) := dk_153 0 12 (dk_at dksX6_kind_0 5 rfl rfl)
theorem dX6_kind_8 : decode cX6_kind 8 = .ok (.aload_n 0, 1) := dk_42 (dk_at dksX6_kind_0 8 rfl rfl)
theorem dX6_kind_9 : decode cX6_kind 9 = .ok (.iload_n 1, 1) := dk_27 (dk_at dksX6_kind_0 9 rfl rfl)
theorem dX6_kind_10 : decode cX6_kind 10 = .ok (.iload_n 2, 1) := dk_28 (dk_at dksX6_kind_0 10 rfl rfl)
theorem dX6_kind_11 : decode cX6_kind 11 = .ok (.invokevirtual 303, 3) := dk_182 1 47 (dk_at dksX6_kind_0 11 rfl rfl)
theorem dX6_kind_14 : decode cX6_kind 14 = .ok (.goto 4, 3) := dk_167 0 4 (dk_at dksX6_kind_0 14 rfl rfl)
theorem dX6_kind_17 : decode cX6_kind 17 = .ok (.iconst (-1), 1) := dk_2 (dk_at dksX6_kind_0 17 rfl rfl)
theorem dX6_kind_18 : decode cX6_kind 18 = .ok (.ireturn, 1) := dk_172 (dk_at dksX6_kind_0 18 rfl rfl)
abbrev cX6_kindOf : ByteArray := prog_16_method_42_code
def yX6_kindOf : MethodName := ⟨RX6, "kindOf", "(II)I"⟩
def dkwX6_kindOf_3 : List UInt8 := [96, 17, 1, 108, 100, 167, 0, 4, 2, 172]
abbrev dktX6_kindOf_3 : List UInt8 := dkwX6_kindOf_3 ++ []
def dkwX6_kindOf_2 : List UInt8 := [54, 4, 21, 4, 17, 1, 108, 17, 1, 109, 184, 0, 186, 153, 0, 19, 5, 29, 16, 7, 112, 104, 21, 4]
abbrev dktX6_kindOf_2 : List UInt8 := dkwX6_kindOf_2 ++ dktX6_kindOf_3
def dkwX6_kindOf_1 : List UInt8 := [2, 172, 42, 27, 28, 4, 4, 182, 1, 35, 62, 42, 27, 28, 16, 12, 16, 31, 182, 1, 35, 29, 100]
abbrev dktX6_kindOf_1 : List UInt8 := dkwX6_kindOf_1 ++ dktX6_kindOf_2
def dkwX6_kindOf_0 : List UInt8 := [42, 27, 28, 4, 4, 182, 1, 31, 153, 0, 16, 42, 27, 28, 16, 12, 16, 31, 182, 1, 31, 154, 0, 5]
abbrev dktX6_kindOf_0 : List UInt8 := dkwX6_kindOf_0 ++ dktX6_kindOf_1
theorem dksX6_kindOf_0 : cX6_kindOf.data.toList.drop 0 = dktX6_kindOf_0 := by decide +kernel
theorem dksX6_kindOf_1 : cX6_kindOf.data.toList.drop 24 = dktX6_kindOf_1 := dk_seg dksX6_kindOf_0 24 rfl rfl
theorem dksX6_kindOf_2 : cX6_kindOf.data.toList.drop 47 = dktX6_kindOf_2 := dk_seg dksX6_kindOf_1 23 rfl rfl
theorem dksX6_kindOf_3 : cX6_kindOf.data.toList.drop 71 = dktX6_kindOf_3 := dk_seg dksX6_kindOf_2 24 rfl rfl
theorem dX6_kindOf_0 : decode cX6_kindOf 0 = .ok (.aload_n 0, 1) := dk_42 (dk_at dksX6_kindOf_0 0 rfl rfl)
theorem dX6_kindOf_1 : decode cX6_kindOf 1 = .ok (.iload_n 1, 1) := dk_27 (dk_at dksX6_kindOf_0 1 rfl rfl)
theorem dX6_kindOf_2 : decode cX6_kindOf 2 = .ok (.iload_n 2, 1) := dk_28 (dk_at dksX6_kindOf_0 2 rfl rfl)
theorem dX6_kindOf_3 : decode cX6_kindOf 3 = .ok (.iconst 1, 1) := dk_4 (dk_at dksX6_kindOf_0 3 rfl rfl)
theorem dX6_kindOf_4 : decode cX6_kindOf 4 = .ok (.iconst 1, 1) := dk_4 (dk_at dksX6_kindOf_0 4 rfl rfl)
theorem dX6_kindOf_5 : decode cX6_kindOf 5 = .ok (.invokevirtual 287, 3) := dk_182 1 31 (dk_at dksX6_kindOf_0 5 rfl rfl)
theorem dX6_kindOf_8 : decode cX6_kindOf 8 = .ok (.ifCond .eq 16, 3) := dk_153 0 16 (dk_at dksX6_kindOf_0 8 rfl rfl)
theorem dX6_kindOf_11 : decode cX6_kindOf 11 = .ok (.aload_n 0, 1) := dk_42 (dk_at dksX6_kindOf_0 11 rfl rfl)
theorem dX6_kindOf_12 : decode cX6_kindOf 12 = .ok (.iload_n 1, 1) := dk_27 (dk_at dksX6_kindOf_0 12 rfl rfl)
theorem dX6_kindOf_13 : decode cX6_kindOf 13 = .ok (.iload_n 2, 1) := dk_28 (dk_at dksX6_kindOf_0 13 rfl rfl)
theorem dX6_kindOf_14 : decode cX6_kindOf 14 = .ok (.bipush 12, 2) := dk_16 12 (dk_at dksX6_kindOf_0 14 rfl rfl)
theorem dX6_kindOf_16 : decode cX6_kindOf 16 = .ok (.bipush 31, 2) := dk_16 31 (dk_at dksX6_kindOf_0 16 rfl rfl)
theorem dX6_kindOf_18 : decode cX6_kindOf 18 = .ok (.invokevirtual 287, 3) := dk_182 1 31 (dk_at dksX6_kindOf_0 18 rfl rfl)
theorem dX6_kindOf_21 : decode cX6_kindOf 21 = .ok (.ifCond .ne 5, 3) := dk_154 0 5 (dk_at dksX6_kindOf_0 21 rfl rfl)
theorem dX6_kindOf_24 : decode cX6_kindOf 24 = .ok (.iconst (-1), 1) := dk_2 (dk_at dksX6_kindOf_1 0 rfl rfl)
theorem dX6_kindOf_25 : decode cX6_kindOf 25 = .ok (.ireturn, 1) := dk_172 (dk_at dksX6_kindOf_1 1 rfl rfl)
theorem dX6_kindOf_26 : decode cX6_kindOf 26 = .ok (.aload_n 0, 1) := dk_42 (dk_at dksX6_kindOf_1 2 rfl rfl)
theorem dX6_kindOf_27 : decode cX6_kindOf 27 = .ok (.iload_n 1, 1) := dk_27 (dk_at dksX6_kindOf_1 3 rfl rfl)
theorem dX6_kindOf_28 : decode cX6_kindOf 28 = .ok (.iload_n 2, 1) := dk_28 (dk_at dksX6_kindOf_1 4 rfl rfl)
theorem dX6_kindOf_29 : decode cX6_kindOf 29 = .ok (.iconst 1, 1) := dk_4 (dk_at dksX6_kindOf_1 5 rfl rfl)
theorem dX6_kindOf_30 : decode cX6_kindOf 30 = .ok (.iconst 1, 1) := dk_4 (dk_at dksX6_kindOf_1 6 rfl rfl)
theorem dX6_kindOf_31 : decode cX6_kindOf 31 = .ok (.invokevirtual 291, 3) := dk_182 1 35 (dk_at dksX6_kindOf_1 7 rfl rfl)
theorem dX6_kindOf_34 : decode cX6_kindOf 34 = .ok (.istore_n 3, 1) := dk_62 (dk_at dksX6_kindOf_1 10 rfl rfl)
theorem dX6_kindOf_35 : decode cX6_kindOf 35 = .ok (.aload_n 0, 1) := dk_42 (dk_at dksX6_kindOf_1 11 rfl rfl)
theorem dX6_kindOf_36 : decode cX6_kindOf 36 = .ok (.iload_n 1, 1) := dk_27 (dk_at dksX6_kindOf_1 12 rfl rfl)
theorem dX6_kindOf_37 : decode cX6_kindOf 37 = .ok (.iload_n 2, 1) := dk_28 (dk_at dksX6_kindOf_1 13 rfl rfl)
theorem dX6_kindOf_38 : decode cX6_kindOf 38 = .ok (.bipush 12, 2) := dk_16 12 (dk_at dksX6_kindOf_1 14 rfl rfl)
theorem dX6_kindOf_40 : decode cX6_kindOf 40 = .ok (.bipush 31, 2) := dk_16 31 (dk_at dksX6_kindOf_1 16 rfl rfl)
theorem dX6_kindOf_42 : decode cX6_kindOf 42 = .ok (.invokevirtual 291, 3) := dk_182 1 35 (dk_at dksX6_kindOf_1 18 rfl rfl)
theorem dX6_kindOf_45 : decode cX6_kindOf 45 = .ok (.iload_n 3, 1) := dk_29 (dk_at dksX6_kindOf_1 21 rfl rfl)
theorem dX6_kindOf_46 : decode cX6_kindOf 46 = .ok (.isub, 1) := dk_100 (dk_at dksX6_kindOf_1 22 rfl rfl)
theorem dX6_kindOf_47 : decode cX6_kindOf 47 = .ok (.istore 4, 2) := dk_54 4 (dk_at dksX6_kindOf_2 0 rfl rfl)
theorem dX6_kindOf_49 : decode cX6_kindOf 49 = .ok (.iload 4, 2) := dk_21 4 (dk_at dksX6_kindOf_2 2 rfl rfl)
theorem dX6_kindOf_51 : decode cX6_kindOf 51 = .ok (.sipush 364, 3) := dk_17 1 108 (dk_at dksX6_kindOf_2 4 rfl rfl)
theorem dX6_kindOf_54 : decode cX6_kindOf 54 = .ok (.sipush 365, 3) := dk_17 1 109 (dk_at dksX6_kindOf_2 7 rfl rfl)
theorem dX6_kindOf_57 : decode cX6_kindOf 57 = .ok (.invokestatic 186, 3) := dk_184 0 186 (dk_at dksX6_kindOf_2 10 rfl rfl)
theorem dX6_kindOf_60 : decode cX6_kindOf 60 = .ok (.ifCond .eq 19, 3) := dk_153 0 19 (dk_at dksX6_kindOf_2 13 rfl rfl)
theorem dX6_kindOf_63 : decode cX6_kindOf 63 = .ok (.iconst 2, 1) := dk_5 (dk_at dksX6_kindOf_2 16 rfl rfl)
theorem dX6_kindOf_64 : decode cX6_kindOf 64 = .ok (.iload_n 3, 1) := dk_29 (dk_at dksX6_kindOf_2 17 rfl rfl)
theorem dX6_kindOf_65 : decode cX6_kindOf 65 = .ok (.bipush 7, 2) := dk_16 7 (dk_at dksX6_kindOf_2 18 rfl rfl)
theorem dX6_kindOf_67 : decode cX6_kindOf 67 = .ok (.irem, 1) := dk_112 (dk_at dksX6_kindOf_2 20 rfl rfl)
theorem dX6_kindOf_68 : decode cX6_kindOf 68 = .ok (.imul, 1) := dk_104 (dk_at dksX6_kindOf_2 21 rfl rfl)
theorem dX6_kindOf_69 : decode cX6_kindOf 69 = .ok (.iload 4, 2) := dk_21 4 (dk_at dksX6_kindOf_2 22 rfl rfl)
theorem dX6_kindOf_71 : decode cX6_kindOf 71 = .ok (.iadd, 1) := dk_96 (dk_at dksX6_kindOf_3 0 rfl rfl)
theorem dX6_kindOf_72 : decode cX6_kindOf 72 = .ok (.sipush 364, 3) := dk_17 1 108 (dk_at dksX6_kindOf_3 1 rfl rfl)
theorem dX6_kindOf_75 : decode cX6_kindOf 75 = .ok (.isub, 1) := dk_100 (dk_at dksX6_kindOf_3 4 rfl rfl)
theorem dX6_kindOf_76 : decode cX6_kindOf 76 = .ok (.goto 4, 3) := dk_167 0 4 (dk_at dksX6_kindOf_3 5 rfl rfl)
theorem dX6_kindOf_79 : decode cX6_kindOf 79 = .ok (.iconst (-1), 1) := dk_2 (dk_at dksX6_kindOf_3 8 rfl rfl)
theorem dX6_kindOf_80 : decode cX6_kindOf 80 = .ok (.ireturn, 1) := dk_172 (dk_at dksX6_kindOf_3 9 rfl rfl)
abbrev cX6_way : ByteArray := prog_16_method_53_code
def yX6_way : MethodName := ⟨RX6, "way", "(IIIIIII)I"⟩
def dkwX6_way_4 : List UInt8 := [180, 0, 95, 21, 7, 46, 167, 0, 14, 42, 180, 0, 98, 21, 7, 46, 167, 0, 4, 2, 172]
abbrev dktX6_way_4 : List UInt8 := dkwX6_way_4 ++ []
def dkwX6_way_3 : List UInt8 := [4, 100, 172, 21, 7, 3, 21, 8, 4, 100, 184, 0, 186, 153, 0, 28, 21, 6, 154, 0, 13, 42]
abbrev dktX6_way_3 : List UInt8 := dkwX6_way_3 ++ dktX6_way_4
def dkwX6_way_2 : List UInt8 := [154, 0, 10, 42, 180, 1, 76, 167, 0, 7, 42, 180, 1, 82, 54, 8, 21, 7, 2, 160, 0, 8, 21, 8]
abbrev dktX6_way_2 : List UInt8 := dkwX6_way_2 ++ dktX6_way_3
def dkwX6_way_1 : List UInt8 := [4, 184, 0, 186, 153, 0, 15, 42, 27, 28, 29, 21, 4, 182, 1, 91, 154, 0, 5, 2, 172, 21, 6]
abbrev dktX6_way_1 : List UInt8 := dkwX6_way_1 ++ dktX6_way_2
def dkwX6_way_0 : List UInt8 := [42, 27, 182, 1, 88, 153, 0, 38, 42, 28, 29, 21, 4, 21, 5, 182, 1, 31, 153, 0, 25, 21, 6, 3]
abbrev dktX6_way_0 : List UInt8 := dkwX6_way_0 ++ dktX6_way_1
theorem dksX6_way_0 : cX6_way.data.toList.drop 0 = dktX6_way_0 := by decide +kernel
theorem dksX6_way_1 : cX6_way.data.toList.drop 24 = dktX6_way_1 := dk_seg dksX6_way_0 24 rfl rfl
theorem dksX6_way_2 : cX6_way.data.toList.drop 47 = dktX6_way_2 := dk_seg dksX6_way_1 23 rfl rfl
theorem dksX6_way_3 : cX6_way.data.toList.drop 71 = dktX6_way_3 := dk_seg dksX6_way_2 24 rfl rfl
theorem dksX6_way_4 : cX6_way.data.toList.drop 93 = dktX6_way_4 := dk_seg dksX6_way_3 22 rfl rfl
theorem dX6_way_0 : decode cX6_way 0 = .ok (.aload_n 0, 1) := dk_42 (dk_at dksX6_way_0 0 rfl rfl)
theorem dX6_way_1 : decode cX6_way 1 = .ok (.iload_n 1, 1) := dk_27 (dk_at dksX6_way_0 1 rfl rfl)
theorem dX6_way_2 : decode cX6_way 2 = .ok (.invokevirtual 344, 3) := dk_182 1 88 (dk_at dksX6_way_0 2 rfl rfl)
theorem dX6_way_5 : decode cX6_way 5 = .ok (.ifCond .eq 38, 3) := dk_153 0 38 (dk_at dksX6_way_0 5 rfl rfl)
theorem dX6_way_8 : decode cX6_way 8 = .ok (.aload_n 0, 1) := dk_42 (dk_at dksX6_way_0 8 rfl rfl)
theorem dX6_way_9 : decode cX6_way 9 = .ok (.iload_n 2, 1) := dk_28 (dk_at dksX6_way_0 9 rfl rfl)
theorem dX6_way_10 : decode cX6_way 10 = .ok (.iload_n 3, 1) := dk_29 (dk_at dksX6_way_0 10 rfl rfl)
theorem dX6_way_11 : decode cX6_way 11 = .ok (.iload 4, 2) := dk_21 4 (dk_at dksX6_way_0 11 rfl rfl)
theorem dX6_way_13 : decode cX6_way 13 = .ok (.iload 5, 2) := dk_21 5 (dk_at dksX6_way_0 13 rfl rfl)
theorem dX6_way_15 : decode cX6_way 15 = .ok (.invokevirtual 287, 3) := dk_182 1 31 (dk_at dksX6_way_0 15 rfl rfl)
theorem dX6_way_18 : decode cX6_way 18 = .ok (.ifCond .eq 25, 3) := dk_153 0 25 (dk_at dksX6_way_0 18 rfl rfl)
theorem dX6_way_21 : decode cX6_way 21 = .ok (.iload 6, 2) := dk_21 6 (dk_at dksX6_way_0 21 rfl rfl)
theorem dX6_way_23 : decode cX6_way 23 = .ok (.iconst 0, 1) := dk_3 (dk_at dksX6_way_0 23 rfl rfl)
theorem dX6_way_24 : decode cX6_way 24 = .ok (.iconst 1, 1) := dk_4 (dk_at dksX6_way_1 0 rfl rfl)
theorem dX6_way_25 : decode cX6_way 25 = .ok (.invokestatic 186, 3) := dk_184 0 186 (dk_at dksX6_way_1 1 rfl rfl)
theorem dX6_way_28 : decode cX6_way 28 = .ok (.ifCond .eq 15, 3) := dk_153 0 15 (dk_at dksX6_way_1 4 rfl rfl)
theorem dX6_way_31 : decode cX6_way 31 = .ok (.aload_n 0, 1) := dk_42 (dk_at dksX6_way_1 7 rfl rfl)
theorem dX6_way_32 : decode cX6_way 32 = .ok (.iload_n 1, 1) := dk_27 (dk_at dksX6_way_1 8 rfl rfl)
theorem dX6_way_33 : decode cX6_way 33 = .ok (.iload_n 2, 1) := dk_28 (dk_at dksX6_way_1 9 rfl rfl)
theorem dX6_way_34 : decode cX6_way 34 = .ok (.iload_n 3, 1) := dk_29 (dk_at dksX6_way_1 10 rfl rfl)
theorem dX6_way_35 : decode cX6_way 35 = .ok (.iload 4, 2) := dk_21 4 (dk_at dksX6_way_1 11 rfl rfl)
theorem dX6_way_37 : decode cX6_way 37 = .ok (.invokevirtual 347, 3) := dk_182 1 91 (dk_at dksX6_way_1 13 rfl rfl)
theorem dX6_way_40 : decode cX6_way 40 = .ok (.ifCond .ne 5, 3) := dk_154 0 5 (dk_at dksX6_way_1 16 rfl rfl)
theorem dX6_way_43 : decode cX6_way 43 = .ok (.iconst (-1), 1) := dk_2 (dk_at dksX6_way_1 19 rfl rfl)
theorem dX6_way_44 : decode cX6_way 44 = .ok (.ireturn, 1) := dk_172 (dk_at dksX6_way_1 20 rfl rfl)
theorem dX6_way_45 : decode cX6_way 45 = .ok (.iload 6, 2) := dk_21 6 (dk_at dksX6_way_1 21 rfl rfl)
theorem dX6_way_47 : decode cX6_way 47 = .ok (.ifCond .ne 10, 3) := dk_154 0 10 (dk_at dksX6_way_2 0 rfl rfl)
theorem dX6_way_50 : decode cX6_way 50 = .ok (.aload_n 0, 1) := dk_42 (dk_at dksX6_way_2 3 rfl rfl)
theorem dX6_way_51 : decode cX6_way 51 = .ok (.getfield 332, 3) := dk_180 1 76 (dk_at dksX6_way_2 4 rfl rfl)
theorem dX6_way_54 : decode cX6_way 54 = .ok (.goto 7, 3) := dk_167 0 7 (dk_at dksX6_way_2 7 rfl rfl)
theorem dX6_way_57 : decode cX6_way 57 = .ok (.aload_n 0, 1) := dk_42 (dk_at dksX6_way_2 10 rfl rfl)
theorem dX6_way_58 : decode cX6_way 58 = .ok (.getfield 338, 3) := dk_180 1 82 (dk_at dksX6_way_2 11 rfl rfl)
theorem dX6_way_61 : decode cX6_way 61 = .ok (.istore 8, 2) := dk_54 8 (dk_at dksX6_way_2 14 rfl rfl)
theorem dX6_way_63 : decode cX6_way 63 = .ok (.iload 7, 2) := dk_21 7 (dk_at dksX6_way_2 16 rfl rfl)
theorem dX6_way_65 : decode cX6_way 65 = .ok (.iconst (-1), 1) := dk_2 (dk_at dksX6_way_2 18 rfl rfl)
theorem dX6_way_66 : decode cX6_way 66 = .ok (.if_icmp .ne 8, 3) := dk_160 0 8 (dk_at dksX6_way_2 19 rfl rfl)
theorem dX6_way_69 : decode cX6_way 69 = .ok (.iload 8, 2) := dk_21 8 (dk_at dksX6_way_2 22 rfl rfl)
theorem dX6_way_71 : decode cX6_way 71 = .ok (.iconst 1, 1) := dk_4 (dk_at dksX6_way_3 0 rfl rfl)
theorem dX6_way_72 : decode cX6_way 72 = .ok (.isub, 1) := dk_100 (dk_at dksX6_way_3 1 rfl rfl)
theorem dX6_way_73 : decode cX6_way 73 = .ok (.ireturn, 1) := dk_172 (dk_at dksX6_way_3 2 rfl rfl)
theorem dX6_way_74 : decode cX6_way 74 = .ok (.iload 7, 2) := dk_21 7 (dk_at dksX6_way_3 3 rfl rfl)
theorem dX6_way_76 : decode cX6_way 76 = .ok (.iconst 0, 1) := dk_3 (dk_at dksX6_way_3 5 rfl rfl)
theorem dX6_way_77 : decode cX6_way 77 = .ok (.iload 8, 2) := dk_21 8 (dk_at dksX6_way_3 6 rfl rfl)
theorem dX6_way_79 : decode cX6_way 79 = .ok (.iconst 1, 1) := dk_4 (dk_at dksX6_way_3 8 rfl rfl)
theorem dX6_way_80 : decode cX6_way 80 = .ok (.isub, 1) := dk_100 (dk_at dksX6_way_3 9 rfl rfl)
theorem dX6_way_81 : decode cX6_way 81 = .ok (.invokestatic 186, 3) := dk_184 0 186 (dk_at dksX6_way_3 10 rfl rfl)
theorem dX6_way_84 : decode cX6_way 84 = .ok (.ifCond .eq 28, 3) := dk_153 0 28 (dk_at dksX6_way_3 13 rfl rfl)
theorem dX6_way_87 : decode cX6_way 87 = .ok (.iload 6, 2) := dk_21 6 (dk_at dksX6_way_3 16 rfl rfl)
theorem dX6_way_89 : decode cX6_way 89 = .ok (.ifCond .ne 13, 3) := dk_154 0 13 (dk_at dksX6_way_3 18 rfl rfl)
theorem dX6_way_92 : decode cX6_way 92 = .ok (.aload_n 0, 1) := dk_42 (dk_at dksX6_way_3 21 rfl rfl)
theorem dX6_way_93 : decode cX6_way 93 = .ok (.getfield 95, 3) := dk_180 0 95 (dk_at dksX6_way_4 0 rfl rfl)
theorem dX6_way_96 : decode cX6_way 96 = .ok (.iload 7, 2) := dk_21 7 (dk_at dksX6_way_4 3 rfl rfl)
theorem dX6_way_98 : decode cX6_way 98 = .ok (.iaload, 1) := dk_46 (dk_at dksX6_way_4 5 rfl rfl)
theorem dX6_way_99 : decode cX6_way 99 = .ok (.goto 14, 3) := dk_167 0 14 (dk_at dksX6_way_4 6 rfl rfl)
theorem dX6_way_102 : decode cX6_way 102 = .ok (.aload_n 0, 1) := dk_42 (dk_at dksX6_way_4 9 rfl rfl)
theorem dX6_way_103 : decode cX6_way 103 = .ok (.getfield 98, 3) := dk_180 0 98 (dk_at dksX6_way_4 10 rfl rfl)
theorem dX6_way_106 : decode cX6_way 106 = .ok (.iload 7, 2) := dk_21 7 (dk_at dksX6_way_4 13 rfl rfl)
theorem dX6_way_108 : decode cX6_way 108 = .ok (.iaload, 1) := dk_46 (dk_at dksX6_way_4 15 rfl rfl)
theorem dX6_way_109 : decode cX6_way 109 = .ok (.goto 4, 3) := dk_167 0 4 (dk_at dksX6_way_4 16 rfl rfl)
theorem dX6_way_112 : decode cX6_way 112 = .ok (.iconst (-1), 1) := dk_2 (dk_at dksX6_way_4 19 rfl rfl)
theorem dX6_way_113 : decode cX6_way 113 = .ok (.ireturn, 1) := dk_172 (dk_at dksX6_way_4 20 rfl rfl)
abbrev cX6_isHead : ByteArray := prog_16_method_51_code
def yX6_isHead : MethodName := ⟨RX6, "isHead", "(I)Z"⟩
def dkwX6_isHead_0 : List UInt8 := [27, 3, 42, 180, 1, 18, 4, 100, 184, 0, 186, 172]
abbrev dktX6_isHead_0 : List UInt8 := dkwX6_isHead_0 ++ []
theorem dksX6_isHead_0 : cX6_isHead.data.toList.drop 0 = dktX6_isHead_0 := by decide +kernel
theorem dX6_isHead_0 : decode cX6_isHead 0 = .ok (.iload_n 1, 1) := dk_27 (dk_at dksX6_isHead_0 0 rfl rfl)
theorem dX6_isHead_1 : decode cX6_isHead 1 = .ok (.iconst 0, 1) := dk_3 (dk_at dksX6_isHead_0 1 rfl rfl)
theorem dX6_isHead_2 : decode cX6_isHead 2 = .ok (.aload_n 0, 1) := dk_42 (dk_at dksX6_isHead_0 2 rfl rfl)
theorem dX6_isHead_3 : decode cX6_isHead 3 = .ok (.getfield 274, 3) := dk_180 1 18 (dk_at dksX6_isHead_0 3 rfl rfl)
theorem dX6_isHead_6 : decode cX6_isHead 6 = .ok (.iconst 1, 1) := dk_4 (dk_at dksX6_isHead_0 6 rfl rfl)
theorem dX6_isHead_7 : decode cX6_isHead 7 = .ok (.isub, 1) := dk_100 (dk_at dksX6_isHead_0 7 rfl rfl)
theorem dX6_isHead_8 : decode cX6_isHead 8 = .ok (.invokestatic 186, 3) := dk_184 0 186 (dk_at dksX6_isHead_0 8 rfl rfl)
theorem dX6_isHead_11 : decode cX6_isHead 11 = .ok (.ireturn, 1) := dk_172 (dk_at dksX6_isHead_0 11 rfl rfl)
abbrev cX6_goes : ByteArray := prog_16_method_52_code
def yX6_goes : MethodName := ⟨RX6, "goes", "(IIII)Z"⟩
def dkwX6_goes_8 : List UInt8 := [46, 42, 180, 0, 98, 42, 180, 1, 82, 4, 100, 46, 4, 182, 1, 31, 172]
abbrev dktX6_goes_8 : List UInt8 := dkwX6_goes_8 ++ []
def dkwX6_goes_7 : List UInt8 := [42, 27, 21, 5, 182, 1, 85, 54, 5, 167, 255, 199, 42, 28, 42, 180, 0, 95, 42, 180, 1, 76, 4, 100]
abbrev dktX6_goes_7 : List UInt8 := dkwX6_goes_7 ++ dktX6_goes_8
def dkwX6_goes_6 : List UInt8 := [181, 1, 82, 42, 180, 0, 86, 16, 13, 27, 104, 21, 5, 96, 47, 9, 148, 154, 0, 7, 2, 167, 0, 10]
abbrev dktX6_goes_6 : List UInt8 := dkwX6_goes_6 ++ dktX6_goes_7
def dkwX6_goes_5 : List UInt8 := [21, 5, 2, 159, 0, 57, 42, 180, 0, 98, 42, 180, 1, 82, 21, 5, 79, 42, 89, 180, 1, 82, 4, 96]
abbrev dktX6_goes_5 : List UInt8 := dkwX6_goes_5 ++ dktX6_goes_6
def dkwX6_goes_4 : List UInt8 := [167, 0, 10, 42, 27, 21, 5, 182, 1, 79, 54, 5, 167, 255, 198, 42, 3, 181, 1, 82, 21, 4, 54, 5]
abbrev dktX6_goes_4 : List UInt8 := dkwX6_goes_4 ++ dktX6_goes_5
def dkwX6_goes_3 : List UInt8 := [4, 96, 181, 1, 76, 42, 180, 0, 82, 17, 39, 17, 27, 104, 21, 5, 96, 47, 9, 148, 154, 0, 7, 2]
abbrev dktX6_goes_3 : List UInt8 := dkwX6_goes_3 ++ dktX6_goes_4
def dkwX6_goes_2 : List UInt8 := [54, 5, 21, 5, 2, 159, 0, 58, 42, 180, 0, 95, 42, 180, 1, 76, 21, 5, 79, 42, 89, 180, 1, 76]
abbrev dktX6_goes_2 : List UInt8 := dkwX6_goes_2 ++ dktX6_goes_3
def dkwX6_goes_1 : List UInt8 := [16, 13, 27, 104, 21, 4, 96, 47, 20, 1, 65, 148, 155, 0, 5, 3, 172, 42, 3, 181, 1, 76, 29]
abbrev dktX6_goes_1 : List UInt8 := dkwX6_goes_1 ++ dktX6_goes_2
def dkwX6_goes_0 : List UInt8 := [42, 180, 0, 82, 17, 39, 17, 27, 104, 29, 96, 47, 20, 1, 65, 148, 156, 0, 22, 42, 180, 0, 86]
abbrev dktX6_goes_0 : List UInt8 := dkwX6_goes_0 ++ dktX6_goes_1
theorem dksX6_goes_0 : cX6_goes.data.toList.drop 0 = dktX6_goes_0 := by decide +kernel
theorem dksX6_goes_1 : cX6_goes.data.toList.drop 23 = dktX6_goes_1 := dk_seg dksX6_goes_0 23 rfl rfl
theorem dksX6_goes_2 : cX6_goes.data.toList.drop 46 = dktX6_goes_2 := dk_seg dksX6_goes_1 23 rfl rfl
theorem dksX6_goes_3 : cX6_goes.data.toList.drop 70 = dktX6_goes_3 := dk_seg dksX6_goes_2 24 rfl rfl
theorem dksX6_goes_4 : cX6_goes.data.toList.drop 94 = dktX6_goes_4 := dk_seg dksX6_goes_3 24 rfl rfl
theorem dksX6_goes_5 : cX6_goes.data.toList.drop 118 = dktX6_goes_5 := dk_seg dksX6_goes_4 24 rfl rfl
theorem dksX6_goes_6 : cX6_goes.data.toList.drop 142 = dktX6_goes_6 := dk_seg dksX6_goes_5 24 rfl rfl
theorem dksX6_goes_7 : cX6_goes.data.toList.drop 166 = dktX6_goes_7 := dk_seg dksX6_goes_6 24 rfl rfl
theorem dksX6_goes_8 : cX6_goes.data.toList.drop 190 = dktX6_goes_8 := dk_seg dksX6_goes_7 24 rfl rfl
theorem dX6_goes_0 : decode cX6_goes 0 = .ok (.aload_n 0, 1) := dk_42 (dk_at dksX6_goes_0 0 rfl rfl)
theorem dX6_goes_1 : decode cX6_goes 1 = .ok (.getfield 82, 3) := dk_180 0 82 (dk_at dksX6_goes_0 1 rfl rfl)
theorem dX6_goes_4 : decode cX6_goes 4 = .ok (.sipush 10001, 3) := dk_17 39 17 (dk_at dksX6_goes_0 4 rfl rfl)
theorem dX6_goes_7 : decode cX6_goes 7 = .ok (.iload_n 1, 1) := dk_27 (dk_at dksX6_goes_0 7 rfl rfl)
theorem dX6_goes_8 : decode cX6_goes 8 = .ok (.imul, 1) := dk_104 (dk_at dksX6_goes_0 8 rfl rfl)
theorem dX6_goes_9 : decode cX6_goes 9 = .ok (.iload_n 3, 1) := dk_29 (dk_at dksX6_goes_0 9 rfl rfl)
theorem dX6_goes_10 : decode cX6_goes 10 = .ok (.iadd, 1) := dk_96 (dk_at dksX6_goes_0 10 rfl rfl)
theorem dX6_goes_11 : decode cX6_goes 11 = .ok (.laload, 1) := dk_47 (dk_at dksX6_goes_0 11 rfl rfl)
theorem dX6_goes_12 : decode cX6_goes 12 = .ok (.ldc2_w 321, 3) := dk_20 1 65 (dk_at dksX6_goes_0 12 rfl rfl)
theorem dX6_goes_15 : decode cX6_goes 15 = .ok (.lcmp, 1) := dk_148 (dk_at dksX6_goes_0 15 rfl rfl)
theorem dX6_goes_16 : decode cX6_goes 16 = .ok (.ifCond .ge 22, 3) := dk_156 0 22 (dk_at dksX6_goes_0 16 rfl rfl)
theorem dX6_goes_19 : decode cX6_goes 19 = .ok (.aload_n 0, 1) := dk_42 (dk_at dksX6_goes_0 19 rfl rfl)
theorem dX6_goes_20 : decode cX6_goes 20 = .ok (.getfield 86, 3) := dk_180 0 86 (dk_at dksX6_goes_0 20 rfl rfl)
theorem dX6_goes_23 : decode cX6_goes 23 = .ok (.bipush 13, 2) := dk_16 13 (dk_at dksX6_goes_1 0 rfl rfl)
theorem dX6_goes_25 : decode cX6_goes 25 = .ok (.iload_n 1, 1) := dk_27 (dk_at dksX6_goes_1 2 rfl rfl)
theorem dX6_goes_26 : decode cX6_goes 26 = .ok (.imul, 1) := dk_104 (dk_at dksX6_goes_1 3 rfl rfl)
theorem dX6_goes_27 : decode cX6_goes 27 = .ok (.iload 4, 2) := dk_21 4 (dk_at dksX6_goes_1 4 rfl rfl)
theorem dX6_goes_29 : decode cX6_goes 29 = .ok (.iadd, 1) := dk_96 (dk_at dksX6_goes_1 6 rfl rfl)
theorem dX6_goes_30 : decode cX6_goes 30 = .ok (.laload, 1) := dk_47 (dk_at dksX6_goes_1 7 rfl rfl)
theorem dX6_goes_31 : decode cX6_goes 31 = .ok (.ldc2_w 321, 3) := dk_20 1 65 (dk_at dksX6_goes_1 8 rfl rfl)
theorem dX6_goes_34 : decode cX6_goes 34 = .ok (.lcmp, 1) := dk_148 (dk_at dksX6_goes_1 11 rfl rfl)
theorem dX6_goes_35 : decode cX6_goes 35 = .ok (.ifCond .lt 5, 3) := dk_155 0 5 (dk_at dksX6_goes_1 12 rfl rfl)
theorem dX6_goes_38 : decode cX6_goes 38 = .ok (.iconst 0, 1) := dk_3 (dk_at dksX6_goes_1 15 rfl rfl)
theorem dX6_goes_39 : decode cX6_goes 39 = .ok (.ireturn, 1) := dk_172 (dk_at dksX6_goes_1 16 rfl rfl)
theorem dX6_goes_40 : decode cX6_goes 40 = .ok (.aload_n 0, 1) := dk_42 (dk_at dksX6_goes_1 17 rfl rfl)
theorem dX6_goes_41 : decode cX6_goes 41 = .ok (.iconst 0, 1) := dk_3 (dk_at dksX6_goes_1 18 rfl rfl)
theorem dX6_goes_42 : decode cX6_goes 42 = .ok (.putfield 332, 3) := dk_181 1 76 (dk_at dksX6_goes_1 19 rfl rfl)
theorem dX6_goes_45 : decode cX6_goes 45 = .ok (.iload_n 3, 1) := dk_29 (dk_at dksX6_goes_1 22 rfl rfl)
theorem dX6_goes_46 : decode cX6_goes 46 = .ok (.istore 5, 2) := dk_54 5 (dk_at dksX6_goes_2 0 rfl rfl)
theorem dX6_goes_48 : decode cX6_goes 48 = .ok (.iload 5, 2) := dk_21 5 (dk_at dksX6_goes_2 2 rfl rfl)
theorem dX6_goes_50 : decode cX6_goes 50 = .ok (.iconst (-1), 1) := dk_2 (dk_at dksX6_goes_2 4 rfl rfl)
theorem dX6_goes_51 : decode cX6_goes 51 = .ok (.if_icmp .eq 58, 3) := dk_159 0 58 (dk_at dksX6_goes_2 5 rfl rfl)
theorem dX6_goes_54 : decode cX6_goes 54 = .ok (.aload_n 0, 1) := dk_42 (dk_at dksX6_goes_2 8 rfl rfl)
theorem dX6_goes_55 : decode cX6_goes 55 = .ok (.getfield 95, 3) := dk_180 0 95 (dk_at dksX6_goes_2 9 rfl rfl)
theorem dX6_goes_58 : decode cX6_goes 58 = .ok (.aload_n 0, 1) := dk_42 (dk_at dksX6_goes_2 12 rfl rfl)
theorem dX6_goes_59 : decode cX6_goes 59 = .ok (.getfield 332, 3) := dk_180 1 76 (dk_at dksX6_goes_2 13 rfl rfl)
theorem dX6_goes_62 : decode cX6_goes 62 = .ok (.iload 5, 2) := dk_21 5 (dk_at dksX6_goes_2 16 rfl rfl)
theorem dX6_goes_64 : decode cX6_goes 64 = .ok (.iastore, 1) := dk_79 (dk_at dksX6_goes_2 18 rfl rfl)
theorem dX6_goes_65 : decode cX6_goes 65 = .ok (.aload_n 0, 1) := dk_42 (dk_at dksX6_goes_2 19 rfl rfl)
theorem dX6_goes_66 : decode cX6_goes 66 = .ok (.dup, 1) := dk_89 (dk_at dksX6_goes_2 20 rfl rfl)
theorem dX6_goes_67 : decode cX6_goes 67 = .ok (.getfield 332, 3) := dk_180 1 76 (dk_at dksX6_goes_2 21 rfl rfl)
theorem dX6_goes_70 : decode cX6_goes 70 = .ok (.iconst 1, 1) := dk_4 (dk_at dksX6_goes_3 0 rfl rfl)
theorem dX6_goes_71 : decode cX6_goes 71 = .ok (.iadd, 1) := dk_96 (dk_at dksX6_goes_3 1 rfl rfl)
theorem dX6_goes_72 : decode cX6_goes 72 = .ok (.putfield 332, 3) := dk_181 1 76 (dk_at dksX6_goes_3 2 rfl rfl)
theorem dX6_goes_75 : decode cX6_goes 75 = .ok (.aload_n 0, 1) := dk_42 (dk_at dksX6_goes_3 5 rfl rfl)
theorem dX6_goes_76 : decode cX6_goes 76 = .ok (.getfield 82, 3) := dk_180 0 82 (dk_at dksX6_goes_3 6 rfl rfl)
theorem dX6_goes_79 : decode cX6_goes 79 = .ok (.sipush 10001, 3) := dk_17 39 17 (dk_at dksX6_goes_3 9 rfl rfl)
theorem dX6_goes_82 : decode cX6_goes 82 = .ok (.iload_n 1, 1) := dk_27 (dk_at dksX6_goes_3 12 rfl rfl)
theorem dX6_goes_83 : decode cX6_goes 83 = .ok (.imul, 1) := dk_104 (dk_at dksX6_goes_3 13 rfl rfl)
theorem dX6_goes_84 : decode cX6_goes 84 = .ok (.iload 5, 2) := dk_21 5 (dk_at dksX6_goes_3 14 rfl rfl)
theorem dX6_goes_86 : decode cX6_goes 86 = .ok (.iadd, 1) := dk_96 (dk_at dksX6_goes_3 16 rfl rfl)
theorem dX6_goes_87 : decode cX6_goes 87 = .ok (.laload, 1) := dk_47 (dk_at dksX6_goes_3 17 rfl rfl)
theorem dX6_goes_88 : decode cX6_goes 88 = .ok (.lconst 0, 1) := dk_9 (dk_at dksX6_goes_3 18 rfl rfl)
theorem dX6_goes_89 : decode cX6_goes 89 = .ok (.lcmp, 1) := dk_148 (dk_at dksX6_goes_3 19 rfl rfl)
theorem dX6_goes_90 : decode cX6_goes 90 = .ok (.ifCond .ne 7, 3) := dk_154 0 7 (dk_at dksX6_goes_3 20 rfl rfl)
theorem dX6_goes_93 : decode cX6_goes 93 = .ok (.iconst (-1), 1) := dk_2 (dk_at dksX6_goes_3 23 rfl rfl)
theorem dX6_goes_94 : decode cX6_goes 94 = .ok (.goto 10, 3) := dk_167 0 10 (dk_at dksX6_goes_4 0 rfl rfl)
theorem dX6_goes_97 : decode cX6_goes 97 = .ok (.aload_n 0, 1) := dk_42 (dk_at dksX6_goes_4 3 rfl rfl)
theorem dX6_goes_98 : decode cX6_goes 98 = .ok (.iload_n 1, 1) := dk_27 (dk_at dksX6_goes_4 4 rfl rfl)
theorem dX6_goes_99 : decode cX6_goes 99 = .ok (.iload 5, 2) := dk_21 5 (dk_at dksX6_goes_4 5 rfl rfl)
theorem dX6_goes_101 : decode cX6_goes 101 = .ok (.invokevirtual 335, 3) := dk_182 1 79 (dk_at dksX6_goes_4 7 rfl rfl)
theorem dX6_goes_104 : decode cX6_goes 104 = .ok (.istore 5, 2) := dk_54 5 (dk_at dksX6_goes_4 10 rfl rfl)
theorem dX6_goes_106 : decode cX6_goes 106 = .ok (.goto (-58), 3) := dk_167 255 198 (dk_at dksX6_goes_4 12 rfl rfl)
theorem dX6_goes_109 : decode cX6_goes 109 = .ok (.aload_n 0, 1) := dk_42 (dk_at dksX6_goes_4 15 rfl rfl)
theorem dX6_goes_110 : decode cX6_goes 110 = .ok (.iconst 0, 1) := dk_3 (dk_at dksX6_goes_4 16 rfl rfl)
theorem dX6_goes_111 : decode cX6_goes 111 = .ok (.putfield 338, 3) := dk_181 1 82 (dk_at dksX6_goes_4 17 rfl rfl)
theorem dX6_goes_114 : decode cX6_goes 114 = .ok (.iload 4, 2) := dk_21 4 (dk_at dksX6_goes_4 20 rfl rfl)
theorem dX6_goes_116 : decode cX6_goes 116 = .ok (.istore 5, 2) := dk_54 5 (dk_at dksX6_goes_4 22 rfl rfl)
theorem dX6_goes_118 : decode cX6_goes 118 = .ok (.iload 5, 2) := dk_21 5 (dk_at dksX6_goes_5 0 rfl rfl)
theorem dX6_goes_120 : decode cX6_goes 120 = .ok (.iconst (-1), 1) := dk_2 (dk_at dksX6_goes_5 2 rfl rfl)
theorem dX6_goes_121 : decode cX6_goes 121 = .ok (.if_icmp .eq 57, 3) := dk_159 0 57 (dk_at dksX6_goes_5 3 rfl rfl)
theorem dX6_goes_124 : decode cX6_goes 124 = .ok (.aload_n 0, 1) := dk_42 (dk_at dksX6_goes_5 6 rfl rfl)
theorem dX6_goes_125 : decode cX6_goes 125 = .ok (.getfield 98, 3) := dk_180 0 98 (dk_at dksX6_goes_5 7 rfl rfl)
theorem dX6_goes_128 : decode cX6_goes 128 = .ok (.aload_n 0, 1) := dk_42 (dk_at dksX6_goes_5 10 rfl rfl)
theorem dX6_goes_129 : decode cX6_goes 129 = .ok (.getfield 338, 3) := dk_180 1 82 (dk_at dksX6_goes_5 11 rfl rfl)
theorem dX6_goes_132 : decode cX6_goes 132 = .ok (.iload 5, 2) := dk_21 5 (dk_at dksX6_goes_5 14 rfl rfl)
theorem dX6_goes_134 : decode cX6_goes 134 = .ok (.iastore, 1) := dk_79 (dk_at dksX6_goes_5 16 rfl rfl)
theorem dX6_goes_135 : decode cX6_goes 135 = .ok (.aload_n 0, 1) := dk_42 (dk_at dksX6_goes_5 17 rfl rfl)
theorem dX6_goes_136 : decode cX6_goes 136 = .ok (.dup, 1) := dk_89 (dk_at dksX6_goes_5 18 rfl rfl)
theorem dX6_goes_137 : decode cX6_goes 137 = .ok (.getfield 338, 3) := dk_180 1 82 (dk_at dksX6_goes_5 19 rfl rfl)
theorem dX6_goes_140 : decode cX6_goes 140 = .ok (.iconst 1, 1) := dk_4 (dk_at dksX6_goes_5 22 rfl rfl)
theorem dX6_goes_141 : decode cX6_goes 141 = .ok (.iadd, 1) := dk_96 (dk_at dksX6_goes_5 23 rfl rfl)
theorem dX6_goes_142 : decode cX6_goes 142 = .ok (.putfield 338, 3) := dk_181 1 82 (dk_at dksX6_goes_6 0 rfl rfl)
theorem dX6_goes_145 : decode cX6_goes 145 = .ok (.aload_n 0, 1) := dk_42 (dk_at dksX6_goes_6 3 rfl rfl)
theorem dX6_goes_146 : decode cX6_goes 146 = .ok (.getfield 86, 3) := dk_180 0 86 (dk_at dksX6_goes_6 4 rfl rfl)
theorem dX6_goes_149 : decode cX6_goes 149 = .ok (.bipush 13, 2) := dk_16 13 (dk_at dksX6_goes_6 7 rfl rfl)
theorem dX6_goes_151 : decode cX6_goes 151 = .ok (.iload_n 1, 1) := dk_27 (dk_at dksX6_goes_6 9 rfl rfl)
theorem dX6_goes_152 : decode cX6_goes 152 = .ok (.imul, 1) := dk_104 (dk_at dksX6_goes_6 10 rfl rfl)
theorem dX6_goes_153 : decode cX6_goes 153 = .ok (.iload 5, 2) := dk_21 5 (dk_at dksX6_goes_6 11 rfl rfl)
theorem dX6_goes_155 : decode cX6_goes 155 = .ok (.iadd, 1) := dk_96 (dk_at dksX6_goes_6 13 rfl rfl)
theorem dX6_goes_156 : decode cX6_goes 156 = .ok (.laload, 1) := dk_47 (dk_at dksX6_goes_6 14 rfl rfl)
theorem dX6_goes_157 : decode cX6_goes 157 = .ok (.lconst 0, 1) := dk_9 (dk_at dksX6_goes_6 15 rfl rfl)
theorem dX6_goes_158 : decode cX6_goes 158 = .ok (.lcmp, 1) := dk_148 (dk_at dksX6_goes_6 16 rfl rfl)
theorem dX6_goes_159 : decode cX6_goes 159 = .ok (.ifCond .ne 7, 3) := dk_154 0 7 (dk_at dksX6_goes_6 17 rfl rfl)
theorem dX6_goes_162 : decode cX6_goes 162 = .ok (.iconst (-1), 1) := dk_2 (dk_at dksX6_goes_6 20 rfl rfl)
theorem dX6_goes_163 : decode cX6_goes 163 = .ok (.goto 10, 3) := dk_167 0 10 (dk_at dksX6_goes_6 21 rfl rfl)
theorem dX6_goes_166 : decode cX6_goes 166 = .ok (.aload_n 0, 1) := dk_42 (dk_at dksX6_goes_7 0 rfl rfl)
theorem dX6_goes_167 : decode cX6_goes 167 = .ok (.iload_n 1, 1) := dk_27 (dk_at dksX6_goes_7 1 rfl rfl)
theorem dX6_goes_168 : decode cX6_goes 168 = .ok (.iload 5, 2) := dk_21 5 (dk_at dksX6_goes_7 2 rfl rfl)
theorem dX6_goes_170 : decode cX6_goes 170 = .ok (.invokevirtual 341, 3) := dk_182 1 85 (dk_at dksX6_goes_7 4 rfl rfl)
theorem dX6_goes_173 : decode cX6_goes 173 = .ok (.istore 5, 2) := dk_54 5 (dk_at dksX6_goes_7 7 rfl rfl)
theorem dX6_goes_175 : decode cX6_goes 175 = .ok (.goto (-57), 3) := dk_167 255 199 (dk_at dksX6_goes_7 9 rfl rfl)
theorem dX6_goes_178 : decode cX6_goes 178 = .ok (.aload_n 0, 1) := dk_42 (dk_at dksX6_goes_7 12 rfl rfl)
theorem dX6_goes_179 : decode cX6_goes 179 = .ok (.iload_n 2, 1) := dk_28 (dk_at dksX6_goes_7 13 rfl rfl)
theorem dX6_goes_180 : decode cX6_goes 180 = .ok (.aload_n 0, 1) := dk_42 (dk_at dksX6_goes_7 14 rfl rfl)
theorem dX6_goes_181 : decode cX6_goes 181 = .ok (.getfield 95, 3) := dk_180 0 95 (dk_at dksX6_goes_7 15 rfl rfl)
theorem dX6_goes_184 : decode cX6_goes 184 = .ok (.aload_n 0, 1) := dk_42 (dk_at dksX6_goes_7 18 rfl rfl)
theorem dX6_goes_185 : decode cX6_goes 185 = .ok (.getfield 332, 3) := dk_180 1 76 (dk_at dksX6_goes_7 19 rfl rfl)
theorem dX6_goes_188 : decode cX6_goes 188 = .ok (.iconst 1, 1) := dk_4 (dk_at dksX6_goes_7 22 rfl rfl)
theorem dX6_goes_189 : decode cX6_goes 189 = .ok (.isub, 1) := dk_100 (dk_at dksX6_goes_7 23 rfl rfl)
theorem dX6_goes_190 : decode cX6_goes 190 = .ok (.iaload, 1) := dk_46 (dk_at dksX6_goes_8 0 rfl rfl)
theorem dX6_goes_191 : decode cX6_goes 191 = .ok (.aload_n 0, 1) := dk_42 (dk_at dksX6_goes_8 1 rfl rfl)
theorem dX6_goes_192 : decode cX6_goes 192 = .ok (.getfield 98, 3) := dk_180 0 98 (dk_at dksX6_goes_8 2 rfl rfl)
theorem dX6_goes_195 : decode cX6_goes 195 = .ok (.aload_n 0, 1) := dk_42 (dk_at dksX6_goes_8 5 rfl rfl)
theorem dX6_goes_196 : decode cX6_goes 196 = .ok (.getfield 338, 3) := dk_180 1 82 (dk_at dksX6_goes_8 6 rfl rfl)
theorem dX6_goes_199 : decode cX6_goes 199 = .ok (.iconst 1, 1) := dk_4 (dk_at dksX6_goes_8 9 rfl rfl)
theorem dX6_goes_200 : decode cX6_goes 200 = .ok (.isub, 1) := dk_100 (dk_at dksX6_goes_8 10 rfl rfl)
theorem dX6_goes_201 : decode cX6_goes 201 = .ok (.iaload, 1) := dk_46 (dk_at dksX6_goes_8 11 rfl rfl)
theorem dX6_goes_202 : decode cX6_goes 202 = .ok (.iconst 1, 1) := dk_4 (dk_at dksX6_goes_8 12 rfl rfl)
theorem dX6_goes_203 : decode cX6_goes 203 = .ok (.invokevirtual 287, 3) := dk_182 1 31 (dk_at dksX6_goes_8 13 rfl rfl)
theorem dX6_goes_206 : decode cX6_goes 206 = .ok (.ireturn, 1) := dk_172 (dk_at dksX6_goes_8 16 rfl rfl)
abbrev cX6_nextYear : ByteArray := prog_16_method_49_code
def yX6_nextYear : MethodName := ⟨RX6, "nextYear", "(II)I"⟩
def dkwX6_nextYear_7 : List UInt8 := [21, 8, 29, 162, 0, 6, 21, 8, 62, 132, 4, 1, 167, 255, 86, 29, 172]
abbrev dktX6_nextYear_7 : List UInt8 := dkwX6_nextYear_7 ++ []
def dkwX6_nextYear_6 : List UInt8 := [180, 0, 82, 17, 39, 17, 27, 104, 21, 8, 96, 47, 22, 5, 148, 154, 0, 17, 29, 2, 159, 0, 9]
abbrev dktX6_nextYear_6 : List UInt8 := dkwX6_nextYear_6 ++ dktX6_nextYear_7
def dkwX6_nextYear_5 : List UInt8 := [21, 7, 29, 162, 0, 6, 21, 7, 62, 21, 8, 4, 17, 39, 15, 184, 0, 186, 153, 0, 36, 42]
abbrev dktX6_nextYear_5 : List UInt8 := dkwX6_nextYear_5 ++ dktX6_nextYear_6
def dkwX6_nextYear_4 : List UInt8 := [180, 0, 82, 17, 39, 17, 27, 104, 21, 7, 96, 47, 22, 5, 148, 154, 0, 17, 29, 2, 159, 0, 9]
abbrev dktX6_nextYear_4 : List UInt8 := dkwX6_nextYear_4 ++ dktX6_nextYear_5
def dkwX6_nextYear_3 : List UInt8 := [16, 6, 27, 104, 21, 4, 96, 46, 96, 54, 8, 21, 7, 4, 17, 39, 15, 184, 0, 186, 153, 0, 36, 42]
abbrev dktX6_nextYear_3 : List UInt8 := dkwX6_nextYear_3 ++ dktX6_nextYear_4
def dkwX6_nextYear_2 : List UInt8 := [55, 5, 28, 42, 180, 0, 54, 16, 6, 27, 104, 21, 4, 96, 46, 100, 54, 7, 28, 42, 180, 0, 54]
abbrev dktX6_nextYear_2 : List UInt8 := dkwX6_nextYear_2 ++ dktX6_nextYear_3
def dkwX6_nextYear_1 : List UInt8 := [104, 28, 96, 47, 20, 1, 60, 42, 180, 0, 57, 16, 6, 27, 104, 21, 4, 96, 46, 133, 105, 101, 10, 101]
abbrev dktX6_nextYear_1 : List UInt8 := dkwX6_nextYear_1 ++ dktX6_nextYear_2
def dkwX6_nextYear_0 : List UInt8 := [2, 62, 3, 54, 4, 21, 4, 42, 180, 0, 51, 27, 46, 162, 0, 165, 42, 180, 0, 82, 17, 39, 17, 27]
abbrev dktX6_nextYear_0 : List UInt8 := dkwX6_nextYear_0 ++ dktX6_nextYear_1
theorem dksX6_nextYear_0 : cX6_nextYear.data.toList.drop 0 = dktX6_nextYear_0 := by decide +kernel
theorem dksX6_nextYear_1 : cX6_nextYear.data.toList.drop 24 = dktX6_nextYear_1 := dk_seg dksX6_nextYear_0 24 rfl rfl
theorem dksX6_nextYear_2 : cX6_nextYear.data.toList.drop 48 = dktX6_nextYear_2 := dk_seg dksX6_nextYear_1 24 rfl rfl
theorem dksX6_nextYear_3 : cX6_nextYear.data.toList.drop 71 = dktX6_nextYear_3 := dk_seg dksX6_nextYear_2 23 rfl rfl
theorem dksX6_nextYear_4 : cX6_nextYear.data.toList.drop 95 = dktX6_nextYear_4 := dk_seg dksX6_nextYear_3 24 rfl rfl
theorem dksX6_nextYear_5 : cX6_nextYear.data.toList.drop 118 = dktX6_nextYear_5 := dk_seg dksX6_nextYear_4 23 rfl rfl
theorem dksX6_nextYear_6 : cX6_nextYear.data.toList.drop 140 = dktX6_nextYear_6 := dk_seg dksX6_nextYear_5 22 rfl rfl
theorem dksX6_nextYear_7 : cX6_nextYear.data.toList.drop 163 = dktX6_nextYear_7 := dk_seg dksX6_nextYear_6 23 rfl rfl
theorem dX6_nextYear_0 : decode cX6_nextYear 0 = .ok (.iconst (-1), 1) := dk_2 (dk_at dksX6_nextYear_0 0 rfl rfl)
theorem dX6_nextYear_1 : decode cX6_nextYear 1 = .ok (.istore_n 3, 1) := dk_62 (dk_at dksX6_nextYear_0 1 rfl rfl)
theorem dX6_nextYear_2 : decode cX6_nextYear 2 = .ok (.iconst 0, 1) := dk_3 (dk_at dksX6_nextYear_0 2 rfl rfl)
theorem dX6_nextYear_3 : decode cX6_nextYear 3 = .ok (.istore 4, 2) := dk_54 4 (dk_at dksX6_nextYear_0 3 rfl rfl)
theorem dX6_nextYear_5 : decode cX6_nextYear 5 = .ok (.iload 4, 2) := dk_21 4 (dk_at dksX6_nextYear_0 5 rfl rfl)
theorem dX6_nextYear_7 : decode cX6_nextYear 7 = .ok (.aload_n 0, 1) := dk_42 (dk_at dksX6_nextYear_0 7 rfl rfl)
theorem dX6_nextYear_8 : decode cX6_nextYear 8 = .ok (.getfield 51, 3) := dk_180 0 51 (dk_at dksX6_nextYear_0 8 rfl rfl)
theorem dX6_nextYear_11 : decode cX6_nextYear 11 = .ok (.iload_n 1, 1) := dk_27 (dk_at dksX6_nextYear_0 11 rfl rfl)
theorem dX6_nextYear_12 : decode cX6_nextYear 12 = .ok (.iaload, 1) := dk_46 (dk_at dksX6_nextYear_0 12 rfl rfl)
theorem dX6_nextYear_13 : decode cX6_nextYear 13 = .ok (.if_icmp .ge 165, 3) := dk_162 0 165 (dk_at dksX6_nextYear_0 13 rfl rfl)
theorem dX6_nextYear_16 : decode cX6_nextYear 16 = .ok (.aload_n 0, 1) := dk_42 (dk_at dksX6_nextYear_0 16 rfl rfl)
theorem dX6_nextYear_17 : decode cX6_nextYear 17 = .ok (.getfield 82, 3) := dk_180 0 82 (dk_at dksX6_nextYear_0 17 rfl rfl)
theorem dX6_nextYear_20 : decode cX6_nextYear 20 = .ok (.sipush 10001, 3) := dk_17 39 17 (dk_at dksX6_nextYear_0 20 rfl rfl)
theorem dX6_nextYear_23 : decode cX6_nextYear 23 = .ok (.iload_n 1, 1) := dk_27 (dk_at dksX6_nextYear_0 23 rfl rfl)
theorem dX6_nextYear_24 : decode cX6_nextYear 24 = .ok (.imul, 1) := dk_104 (dk_at dksX6_nextYear_1 0 rfl rfl)
theorem dX6_nextYear_25 : decode cX6_nextYear 25 = .ok (.iload_n 2, 1) := dk_28 (dk_at dksX6_nextYear_1 1 rfl rfl)
theorem dX6_nextYear_26 : decode cX6_nextYear 26 = .ok (.iadd, 1) := dk_96 (dk_at dksX6_nextYear_1 2 rfl rfl)
theorem dX6_nextYear_27 : decode cX6_nextYear 27 = .ok (.laload, 1) := dk_47 (dk_at dksX6_nextYear_1 3 rfl rfl)
theorem dX6_nextYear_28 : decode cX6_nextYear 28 = .ok (.ldc2_w 316, 3) := dk_20 1 60 (dk_at dksX6_nextYear_1 4 rfl rfl)
theorem dX6_nextYear_31 : decode cX6_nextYear 31 = .ok (.aload_n 0, 1) := dk_42 (dk_at dksX6_nextYear_1 7 rfl rfl)
theorem dX6_nextYear_32 : decode cX6_nextYear 32 = .ok (.getfield 57, 3) := dk_180 0 57 (dk_at dksX6_nextYear_1 8 rfl rfl)
theorem dX6_nextYear_35 : decode cX6_nextYear 35 = .ok (.bipush 6, 2) := dk_16 6 (dk_at dksX6_nextYear_1 11 rfl rfl)
theorem dX6_nextYear_37 : decode cX6_nextYear 37 = .ok (.iload_n 1, 1) := dk_27 (dk_at dksX6_nextYear_1 13 rfl rfl)
theorem dX6_nextYear_38 : decode cX6_nextYear 38 = .ok (.imul, 1) := dk_104 (dk_at dksX6_nextYear_1 14 rfl rfl)
theorem dX6_nextYear_39 : decode cX6_nextYear 39 = .ok (.iload 4, 2) := dk_21 4 (dk_at dksX6_nextYear_1 15 rfl rfl)
theorem dX6_nextYear_41 : decode cX6_nextYear 41 = .ok (.iadd, 1) := dk_96 (dk_at dksX6_nextYear_1 17 rfl rfl)
theorem dX6_nextYear_42 : decode cX6_nextYear 42 = .ok (.iaload, 1) := dk_46 (dk_at dksX6_nextYear_1 18 rfl rfl)
theorem dX6_nextYear_43 : decode cX6_nextYear 43 = .ok (.i2l, 1) := dk_133 (dk_at dksX6_nextYear_1 19 rfl rfl)
theorem dX6_nextYear_44 : decode cX6_nextYear 44 = .ok (.lmul, 1) := dk_105 (dk_at dksX6_nextYear_1 20 rfl rfl)
theorem dX6_nextYear_45 : decode cX6_nextYear 45 = .ok (.lsub, 1) := dk_101 (dk_at dksX6_nextYear_1 21 rfl rfl)
theorem dX6_nextYear_46 : decode cX6_nextYear 46 = .ok (.lconst 1, 1) := dk_10 (dk_at dksX6_nextYear_1 22 rfl rfl)
theorem dX6_nextYear_47 : decode cX6_nextYear 47 = .ok (.lsub, 1) := dk_101 (dk_at dksX6_nextYear_1 23 rfl rfl)
theorem dX6_nextYear_48 : decode cX6_nextYear 48 = .ok (.lstore 5, 2) := dk_55 5 (dk_at dksX6_nextYear_2 0 rfl rfl)
theorem dX6_nextYear_50 : decode cX6_nextYear 50 = .ok (.iload_n 2, 1) := dk_28 (dk_at dksX6_nextYear_2 2 rfl rfl)
theorem dX6_nextYear_51 : decode cX6_nextYear 51 = .ok (.aload_n 0, 1) := dk_42 (dk_at dksX6_nextYear_2 3 rfl rfl)
theorem dX6_nextYear_52 : decode cX6_nextYear 52 = .ok (.getfield 54, 3) := dk_180 0 54 (dk_at dksX6_nextYear_2 4 rfl rfl)
theorem dX6_nextYear_55 : decode cX6_nextYear 55 = .ok (.bipush 6, 2) := dk_16 6 (dk_at dksX6_nextYear_2 7 rfl rfl)
theorem dX6_nextYear_57 : decode cX6_nextYear 57 = .ok (.iload_n 1, 1) := dk_27 (dk_at dksX6_nextYear_2 9 rfl rfl)
theorem dX6_nextYear_58 : decode cX6_nextYear 58 = .ok (.imul, 1) := dk_104 (dk_at dksX6_nextYear_2 10 rfl rfl)
theorem dX6_nextYear_59 : decode cX6_nextYear 59 = .ok (.iload 4, 2) := dk_21 4 (dk_at dksX6_nextYear_2 11 rfl rfl)
theorem dX6_nextYear_61 : decode cX6_nextYear 61 = .ok (.iadd, 1) := dk_96 (dk_at dksX6_nextYear_2 13 rfl rfl)
theorem dX6_nextYear_62 : decode cX6_nextYear 62 = .ok (.iaload, 1) := dk_46 (dk_at dksX6_nextYear_2 14 rfl rfl)
theorem dX6_nextYear_63 : decode cX6_nextYear 63 = .ok (.isub, 1) := dk_100 (dk_at dksX6_nextYear_2 15 rfl rfl)
theorem dX6_nextYear_64 : decode cX6_nextYear 64 = .ok (.istore 7, 2) := dk_54 7 (dk_at dksX6_nextYear_2 16 rfl rfl)
theorem dX6_nextYear_66 : decode cX6_nextYear 66 = .ok (.iload_n 2, 1) := dk_28 (dk_at dksX6_nextYear_2 18 rfl rfl)
theorem dX6_nextYear_67 : decode cX6_nextYear 67 = .ok (.aload_n 0, 1) := dk_42 (dk_at dksX6_nextYear_2 19 rfl rfl)
theorem dX6_nextYear_68 : decode cX6_nextYear 68 = .ok (.getfield 54, 3) := dk_180 0 54 (dk_at dksX6_nextYear_2 20 rfl rfl)
theorem dX6_nextYear_71 : decode cX6_nextYear 71 = .ok (.bipush 6, 2) := dk_16 6 (dk_at dksX6_nextYear_3 0 rfl rfl)
theorem dX6_nextYear_73 : decode cX6_nextYear 73 = .ok (.iload_n 1, 1) := dk_27 (dk_at dksX6_nextYear_3 2 rfl rfl)
theorem dX6_nextYear_74 : decode cX6_nextYear 74 = .ok (.imul, 1) := dk_104 (dk_at dksX6_nextYear_3 3 rfl rfl)
theorem dX6_nextYear_75 : decode cX6_nextYear 75 = .ok (.iload 4, 2) := dk_21 4 (dk_at dksX6_nextYear_3 4 rfl rfl)
theorem dX6_nextYear_77 : decode cX6_nextYear 77 = .ok (.iadd, 1) := dk_96 (dk_at dksX6_nextYear_3 6 rfl rfl)
theorem dX6_nextYear_78 : decode cX6_nextYear 78 = .ok (.iaload, 1) := dk_46 (dk_at dksX6_nextYear_3 7 rfl rfl)
theorem dX6_nextYear_79 : decode cX6_nextYear 79 = .ok (.iadd, 1) := dk_96 (dk_at dksX6_nextYear_3 8 rfl rfl)
theorem dX6_nextYear_80 : decode cX6_nextYear 80 = .ok (.istore 8, 2) := dk_54 8 (dk_at dksX6_nextYear_3 9 rfl rfl)
theorem dX6_nextYear_82 : decode cX6_nextYear 82 = .ok (.iload 7, 2) := dk_21 7 (dk_at dksX6_nextYear_3 11 rfl rfl)
theorem dX6_nextYear_84 : decode cX6_nextYear 84 = .ok (.iconst 1, 1) := dk_4 (dk_at dksX6_nextYear_3 13 rfl rfl)
theorem dX6_nextYear_85 : decode cX6_nextYear 85 = .ok (.sipush 9999, 3) := dk_17 39 15 (dk_at dksX6_nextYear_3 14 rfl rfl)
theorem dX6_nextYear_88 : decode cX6_nextYear 88 = .ok (.invokestatic 186, 3) := dk_184 0 186 (dk_at dksX6_nextYear_3 17 rfl rfl)
theorem dX6_nextYear_91 : decode cX6_nextYear 91 = .ok (.ifCond .eq 36, 3) := dk_153 0 36 (dk_at dksX6_nextYear_3 20 rfl rfl)
theorem dX6_nextYear_94 : decode cX6_nextYear 94 = .ok (.aload_n 0, 1) := dk_42 (dk_at dksX6_nextYear_3 23 rfl rfl)
theorem dX6_nextYear_95 : decode cX6_nextYear 95 = .ok (.getfield 82, 3) := dk_180 0 82 (dk_at dksX6_nextYear_4 0 rfl rfl)
theorem dX6_nextYear_98 : decode cX6_nextYear 98 = .ok (.sipush 10001, 3) := dk_17 39 17 (dk_at dksX6_nextYear_4 3 rfl rfl)
theorem dX6_nextYear_101 : decode cX6_nextYear 101 = .ok (.iload_n 1, 1) := dk_27 (dk_at dksX6_nextYear_4 6 rfl rfl)
theorem dX6_nextYear_102 : decode cX6_nextYear 102 = .ok (.imul, 1) := dk_104 (dk_at dksX6_nextYear_4 7 rfl rfl)
theorem dX6_nextYear_103 : decode cX6_nextYear 103 = .ok (.iload 7, 2) := dk_21 7 (dk_at dksX6_nextYear_4 8 rfl rfl)
theorem dX6_nextYear_105 : decode cX6_nextYear 105 = .ok (.iadd, 1) := dk_96 (dk_at dksX6_nextYear_4 10 rfl rfl)
theorem dX6_nextYear_106 : decode cX6_nextYear 106 = .ok (.laload, 1) := dk_47 (dk_at dksX6_nextYear_4 11 rfl rfl)
theorem dX6_nextYear_107 : decode cX6_nextYear 107 = .ok (.lload 5, 2) := dk_22 5 (dk_at dksX6_nextYear_4 12 rfl rfl)
theorem dX6_nextYear_109 : decode cX6_nextYear 109 = .ok (.lcmp, 1) := dk_148 (dk_at dksX6_nextYear_4 14 rfl rfl)
theorem dX6_nextYear_110 : decode cX6_nextYear 110 = .ok (.ifCond .ne 17, 3) := dk_154 0 17 (dk_at dksX6_nextYear_4 15 rfl rfl)
theorem dX6_nextYear_113 : decode cX6_nextYear 113 = .ok (.iload_n 3, 1) := dk_29 (dk_at dksX6_nextYear_4 18 rfl rfl)
theorem dX6_nextYear_114 : decode cX6_nextYear 114 = .ok (.iconst (-1), 1) := dk_2 (dk_at dksX6_nextYear_4 19 rfl rfl)
theorem dX6_nextYear_115 : decode cX6_nextYear 115 = .ok (.if_icmp .eq 9, 3) := dk_159 0 9 (dk_at dksX6_nextYear_4 20 rfl rfl)
theorem dX6_nextYear_118 : decode cX6_nextYear 118 = .ok (.iload 7, 2) := dk_21 7 (dk_at dksX6_nextYear_5 0 rfl rfl)
theorem dX6_nextYear_120 : decode cX6_nextYear 120 = .ok (.iload_n 3, 1) := dk_29 (dk_at dksX6_nextYear_5 2 rfl rfl)
theorem dX6_nextYear_121 : decode cX6_nextYear 121 = .ok (.if_icmp .ge 6, 3) := dk_162 0 6 (dk_at dksX6_nextYear_5 3 rfl rfl)
theorem dX6_nextYear_124 : decode cX6_nextYear 124 = .ok (.iload 7, 2) := dk_21 7 (dk_at dksX6_nextYear_5 6 rfl rfl)
theorem dX6_nextYear_126 : decode cX6_nextYear 126 = .ok (.istore_n 3, 1) := dk_62 (dk_at dksX6_nextYear_5 8 rfl rfl)
theorem dX6_nextYear_127 : decode cX6_nextYear 127 = .ok (.iload 8, 2) := dk_21 8 (dk_at dksX6_nextYear_5 9 rfl rfl)
theorem dX6_nextYear_129 : decode cX6_nextYear 129 = .ok (.iconst 1, 1) := dk_4 (dk_at dksX6_nextYear_5 11 rfl rfl)
theorem dX6_nextYear_130 : decode cX6_nextYear 130 = .ok (.sipush 9999, 3) := dk_17 39 15 (dk_at dksX6_nextYear_5 12 rfl rfl)
theorem dX6_nextYear_133 : decode cX6_nextYear 133 = .ok (.invokestatic 186, 3) := dk_184 0 186 (dk_at dksX6_nextYear_5 15 rfl rfl)
theorem dX6_nextYear_136 : decode cX6_nextYear 136 = .ok (.ifCond .eq 36, 3) := dk_153 0 36 (dk_at dksX6_nextYear_5 18 rfl rfl)
theorem dX6_nextYear_139 : decode cX6_nextYear 139 = .ok (.aload_n 0, 1) := dk_42 (dk_at dksX6_nextYear_5 21 rfl rfl)
theorem dX6_nextYear_140 : decode cX6_nextYear 140 = .ok (.getfield 82, 3) := dk_180 0 82 (dk_at dksX6_nextYear_6 0 rfl rfl)
theorem dX6_nextYear_143 : decode cX6_nextYear 143 = .ok (.sipush 10001, 3) := dk_17 39 17 (dk_at dksX6_nextYear_6 3 rfl rfl)
theorem dX6_nextYear_146 : decode cX6_nextYear 146 = .ok (.iload_n 1, 1) := dk_27 (dk_at dksX6_nextYear_6 6 rfl rfl)
theorem dX6_nextYear_147 : decode cX6_nextYear 147 = .ok (.imul, 1) := dk_104 (dk_at dksX6_nextYear_6 7 rfl rfl)
theorem dX6_nextYear_148 : decode cX6_nextYear 148 = .ok (.iload 8, 2) := dk_21 8 (dk_at dksX6_nextYear_6 8 rfl rfl)
theorem dX6_nextYear_150 : decode cX6_nextYear 150 = .ok (.iadd, 1) := dk_96 (dk_at dksX6_nextYear_6 10 rfl rfl)
theorem dX6_nextYear_151 : decode cX6_nextYear 151 = .ok (.laload, 1) := dk_47 (dk_at dksX6_nextYear_6 11 rfl rfl)
theorem dX6_nextYear_152 : decode cX6_nextYear 152 = .ok (.lload 5, 2) := dk_22 5 (dk_at dksX6_nextYear_6 12 rfl rfl)
theorem dX6_nextYear_154 : decode cX6_nextYear 154 = .ok (.lcmp, 1) := dk_148 (dk_at dksX6_nextYear_6 14 rfl rfl)
theorem dX6_nextYear_155 : decode cX6_nextYear 155 = .ok (.ifCond .ne 17, 3) := dk_154 0 17 (dk_at dksX6_nextYear_6 15 rfl rfl)
theorem dX6_nextYear_158 : decode cX6_nextYear 158 = .ok (.iload_n 3, 1) := dk_29 (dk_at dksX6_nextYear_6 18 rfl rfl)
theorem dX6_nextYear_159 : decode cX6_nextYear 159 = .ok (.iconst (-1), 1) := dk_2 (dk_at dksX6_nextYear_6 19 rfl rfl)
theorem dX6_nextYear_160 : decode cX6_nextYear 160 = .ok (.if_icmp .eq 9, 3) := dk_159 0 9 (dk_at dksX6_nextYear_6 20 rfl rfl)
theorem dX6_nextYear_163 : decode cX6_nextYear 163 = .ok (.iload 8, 2) := dk_21 8 (dk_at dksX6_nextYear_7 0 rfl rfl)
theorem dX6_nextYear_165 : decode cX6_nextYear 165 = .ok (.iload_n 3, 1) := dk_29 (dk_at dksX6_nextYear_7 2 rfl rfl)
theorem dX6_nextYear_166 : decode cX6_nextYear 166 = .ok (.if_icmp .ge 6, 3) := dk_162 0 6 (dk_at dksX6_nextYear_7 3 rfl rfl)
theorem dX6_nextYear_169 : decode cX6_nextYear 169 = .ok (.iload 8, 2) := dk_21 8 (dk_at dksX6_nextYear_7 6 rfl rfl)
theorem dX6_nextYear_171 : decode cX6_nextYear 171 = .ok (.istore_n 3, 1) := dk_62 (dk_at dksX6_nextYear_7 8 rfl rfl)
theorem dX6_nextYear_172 : decode cX6_nextYear 172 = .ok (.iinc 4 1, 3) := dk_132 4 1 (dk_at dksX6_nextYear_7 9 rfl rfl)
theorem dX6_nextYear_175 : decode cX6_nextYear 175 = .ok (.goto (-170), 3) := dk_167 255 86 (dk_at dksX6_nextYear_7 12 rfl rfl)
theorem dX6_nextYear_178 : decode cX6_nextYear 178 = .ok (.iload_n 3, 1) := dk_29 (dk_at dksX6_nextYear_7 15 rfl rfl)
theorem dX6_nextYear_179 : decode cX6_nextYear 179 = .ok (.ireturn, 1) := dk_172 (dk_at dksX6_nextYear_7 16 rfl rfl)
abbrev cX6_nextMonth : ByteArray := prog_16_method_50_code
def yX6_nextMonth : MethodName := ⟨RX6, "nextMonth", "(II)I"⟩
def dkwX6_nextMonth_6 : List UInt8 := [172]
abbrev dktX6_nextMonth_6 : List UInt8 := dkwX6_nextMonth_6 ++ []
def dkwX6_nextMonth_5 : List UInt8 := [154, 0, 17, 29, 2, 159, 0, 9, 21, 7, 29, 162, 0, 6, 21, 7, 62, 132, 4, 1, 167, 255, 122, 29]
abbrev dktX6_nextMonth_5 : List UInt8 := dkwX6_nextMonth_5 ++ dktX6_nextMonth_6
def dkwX6_nextMonth_4 : List UInt8 := [28, 96, 47, 20, 1, 60, 42, 180, 0, 69, 16, 12, 27, 104, 21, 4, 96, 46, 133, 105, 101, 10, 101, 148]
abbrev dktX6_nextMonth_4 : List UInt8 := dkwX6_nextMonth_4 ++ dktX6_nextMonth_5
def dkwX6_nextMonth_3 : List UInt8 := [2, 159, 0, 64, 42, 180, 0, 86, 16, 13, 27, 104, 21, 7, 96, 47, 42, 180, 0, 86, 16, 13, 27, 104]
abbrev dktX6_nextMonth_3 : List UInt8 := dkwX6_nextMonth_3 ++ dktX6_nextMonth_4
def dkwX6_nextMonth_2 : List UInt8 := [160, 0, 8, 21, 6, 167, 0, 15, 21, 6, 28, 160, 0, 8, 21, 5, 167, 0, 4, 2, 54, 7, 21, 7]
abbrev dktX6_nextMonth_2 : List UInt8 := dkwX6_nextMonth_2 ++ dktX6_nextMonth_3
def dkwX6_nextMonth_1 : List UInt8 := [21, 4, 96, 46, 54, 5, 42, 180, 0, 66, 16, 12, 27, 104, 21, 4, 96, 46, 54, 6, 21, 5, 28]
abbrev dktX6_nextMonth_1 : List UInt8 := dkwX6_nextMonth_1 ++ dktX6_nextMonth_2
def dkwX6_nextMonth_0 : List UInt8 := [2, 62, 3, 54, 4, 21, 4, 42, 180, 0, 60, 27, 46, 162, 0, 129, 42, 180, 0, 63, 16, 12, 27, 104]
abbrev dktX6_nextMonth_0 : List UInt8 := dkwX6_nextMonth_0 ++ dktX6_nextMonth_1
theorem dksX6_nextMonth_0 : cX6_nextMonth.data.toList.drop 0 = dktX6_nextMonth_0 := by decide +kernel
theorem dksX6_nextMonth_1 : cX6_nextMonth.data.toList.drop 24 = dktX6_nextMonth_1 := dk_seg dksX6_nextMonth_0 24 rfl rfl
theorem dksX6_nextMonth_2 : cX6_nextMonth.data.toList.drop 47 = dktX6_nextMonth_2 := dk_seg dksX6_nextMonth_1 23 rfl rfl
theorem dksX6_nextMonth_3 : cX6_nextMonth.data.toList.drop 71 = dktX6_nextMonth_3 := dk_seg dksX6_nextMonth_2 24 rfl rfl
theorem dksX6_nextMonth_4 : cX6_nextMonth.data.toList.drop 95 = dktX6_nextMonth_4 := dk_seg dksX6_nextMonth_3 24 rfl rfl
theorem dksX6_nextMonth_5 : cX6_nextMonth.data.toList.drop 119 = dktX6_nextMonth_5 := dk_seg dksX6_nextMonth_4 24 rfl rfl
theorem dksX6_nextMonth_6 : cX6_nextMonth.data.toList.drop 143 = dktX6_nextMonth_6 := dk_seg dksX6_nextMonth_5 24 rfl rfl
theorem dX6_nextMonth_0 : decode cX6_nextMonth 0 = .ok (.iconst (-1), 1) := dk_2 (dk_at dksX6_nextMonth_0 0 rfl rfl)
theorem dX6_nextMonth_1 : decode cX6_nextMonth 1 = .ok (.istore_n 3, 1) := dk_62 (dk_at dksX6_nextMonth_0 1 rfl rfl)
theorem dX6_nextMonth_2 : decode cX6_nextMonth 2 = .ok (.iconst 0, 1) := dk_3 (dk_at dksX6_nextMonth_0 2 rfl rfl)
theorem dX6_nextMonth_3 : decode cX6_nextMonth 3 = .ok (.istore 4, 2) := dk_54 4 (dk_at dksX6_nextMonth_0 3 rfl rfl)
theorem dX6_nextMonth_5 : decode cX6_nextMonth 5 = .ok (.iload 4, 2) := dk_21 4 (dk_at dksX6_nextMonth_0 5 rfl rfl)
theorem dX6_nextMonth_7 : decode cX6_nextMonth 7 = .ok (.aload_n 0, 1) := dk_42 (dk_at dksX6_nextMonth_0 7 rfl rfl)
theorem dX6_nextMonth_8 : decode cX6_nextMonth 8 = .ok (.getfield 60, 3) := dk_180 0 60 (dk_at dksX6_nextMonth_0 8 rfl rfl)
theorem dX6_nextMonth_11 : decode cX6_nextMonth 11 = .ok (.iload_n 1, 1) := dk_27 (dk_at dksX6_nextMonth_0 11 rfl rfl)
theorem dX6_nextMonth_12 : decode cX6_nextMonth 12 = .ok (.iaload, 1) := dk_46 (dk_at dksX6_nextMonth_0 12 rfl rfl)
theorem dX6_nextMonth_13 : decode cX6_nextMonth 13 = .ok (.if_icmp .ge 129, 3) := dk_162 0 129 (dk_at dksX6_nextMonth_0 13 rfl rfl)
theorem dX6_nextMonth_16 : decode cX6_nextMonth 16 = .ok (.aload_n 0, 1) := dk_42 (dk_at dksX6_nextMonth_0 16 rfl rfl)
theorem dX6_nextMonth_17 : decode cX6_nextMonth 17 = .ok (.getfield 63, 3) := dk_180 0 63 (dk_at dksX6_nextMonth_0 17 rfl rfl)
theorem dX6_nextMonth_20 : decode cX6_nextMonth 20 = .ok (.bipush 12, 2) := dk_16 12 (dk_at dksX6_nextMonth_0 20 rfl rfl)
theorem dX6_nextMonth_22 : decode cX6_nextMonth 22 = .ok (.iload_n 1, 1) := dk_27 (dk_at dksX6_nextMonth_0 22 rfl rfl)
theorem dX6_nextMonth_23 : decode cX6_nextMonth 23 = .ok (.imul, 1) := dk_104 (dk_at dksX6_nextMonth_0 23 rfl rfl)
theorem dX6_nextMonth_24 : decode cX6_nextMonth 24 = .ok (.iload 4, 2) := dk_21 4 (dk_at dksX6_nextMonth_1 0 rfl rfl)
theorem dX6_nextMonth_26 : decode cX6_nextMonth 26 = .ok (.iadd, 1) := dk_96 (dk_at dksX6_nextMonth_1 2 rfl rfl)
theorem dX6_nextMonth_27 : decode cX6_nextMonth 27 = .ok (.iaload, 1) := dk_46 (dk_at dksX6_nextMonth_1 3 rfl rfl)
theorem dX6_nextMonth_28 : decode cX6_nextMonth 28 = .ok (.istore 5, 2) := dk_54 5 (dk_at dksX6_nextMonth_1 4 rfl rfl)
theorem dX6_nextMonth_30 : decode cX6_nextMonth 30 = .ok (.aload_n 0, 1) := dk_42 (dk_at dksX6_nextMonth_1 6 rfl rfl)
theorem dX6_nextMonth_31 : decode cX6_nextMonth 31 = .ok (.getfield 66, 3) := dk_180 0 66 (dk_at dksX6_nextMonth_1 7 rfl rfl)
theorem dX6_nextMonth_34 : decode cX6_nextMonth 34 = .ok (.bipush 12, 2) := dk_16 12 (dk_at dksX6_nextMonth_1 10 rfl rfl)
theorem dX6_nextMonth_36 : decode cX6_nextMonth 36 = .ok (.iload_n 1, 1) := dk_27 (dk_at dksX6_nextMonth_1 12 rfl rfl)
theorem dX6_nextMonth_37 : decode cX6_nextMonth 37 = .ok (.imul, 1) := dk_104 (dk_at dksX6_nextMonth_1 13 rfl rfl)
theorem dX6_nextMonth_38 : decode cX6_nextMonth 38 = .ok (.iload 4, 2) := dk_21 4 (dk_at dksX6_nextMonth_1 14 rfl rfl)
theorem dX6_nextMonth_40 : decode cX6_nextMonth 40 = .ok (.iadd, 1) := dk_96 (dk_at dksX6_nextMonth_1 16 rfl rfl)
theorem dX6_nextMonth_41 : decode cX6_nextMonth 41 = .ok (.iaload, 1) := dk_46 (dk_at dksX6_nextMonth_1 17 rfl rfl)
theorem dX6_nextMonth_42 : decode cX6_nextMonth 42 = .ok (.istore 6, 2) := dk_54 6 (dk_at dksX6_nextMonth_1 18 rfl rfl)
theorem dX6_nextMonth_44 : decode cX6_nextMonth 44 = .ok (.iload 5, 2) := dk_21 5 (dk_at dksX6_nextMonth_1 20 rfl rfl)
theorem dX6_nextMonth_46 : decode cX6_nextMonth 46 = .ok (.iload_n 2, 1) := dk_28 (dk_at dksX6_nextMonth_1 22 rfl rfl)
theorem dX6_nextMonth_47 : decode cX6_nextMonth 47 = .ok (.if_icmp .ne 8, 3) := dk_160 0 8 (dk_at dksX6_nextMonth_2 0 rfl rfl)
theorem dX6_nextMonth_50 : decode cX6_nextMonth 50 = .ok (.iload 6, 2) := dk_21 6 (dk_at dksX6_nextMonth_2 3 rfl rfl)
theorem dX6_nextMonth_52 : decode cX6_nextMonth 52 = .ok (.goto 15, 3) := dk_167 0 15 (dk_at dksX6_nextMonth_2 5 rfl rfl)
theorem dX6_nextMonth_55 : decode cX6_nextMonth 55 = .ok (.iload 6, 2) := dk_21 6 (dk_at dksX6_nextMonth_2 8 rfl rfl)
theorem dX6_nextMonth_57 : decode cX6_nextMonth 57 = .ok (.iload_n 2, 1) := dk_28 (dk_at dksX6_nextMonth_2 10 rfl rfl)
theorem dX6_nextMonth_58 : decode cX6_nextMonth 58 = .ok (.if_icmp .ne 8, 3) := dk_160 0 8 (dk_at dksX6_nextMonth_2 11 rfl rfl)
theorem dX6_nextMonth_61 : decode cX6_nextMonth 61 = .ok (.iload 5, 2) := dk_21 5 (dk_at dksX6_nextMonth_2 14 rfl rfl)
theorem dX6_nextMonth_63 : decode cX6_nextMonth 63 = .ok (.goto 4, 3) := dk_167 0 4 (dk_at dksX6_nextMonth_2 16 rfl rfl)
theorem dX6_nextMonth_66 : decode cX6_nextMonth 66 = .ok (.iconst (-1), 1) := dk_2 (dk_at dksX6_nextMonth_2 19 rfl rfl)
theorem dX6_nextMonth_67 : decode cX6_nextMonth 67 = .ok (.istore 7, 2) := dk_54 7 (dk_at dksX6_nextMonth_2 20 rfl rfl)
theorem dX6_nextMonth_69 : decode cX6_nextMonth 69 = .ok (.iload 7, 2) := dk_21 7 (dk_at dksX6_nextMonth_2 22 rfl rfl)
theorem dX6_nextMonth_71 : decode cX6_nextMonth 71 = .ok (.iconst (-1), 1) := dk_2 (dk_at dksX6_nextMonth_3 0 rfl rfl)
theorem dX6_nextMonth_72 : decode cX6_nextMonth 72 = .ok (.if_icmp .eq 64, 3) := dk_159 0 64 (dk_at dksX6_nextMonth_3 1 rfl rfl)
theorem dX6_nextMonth_75 : decode cX6_nextMonth 75 = .ok (.aload_n 0, 1) := dk_42 (dk_at dksX6_nextMonth_3 4 rfl rfl)
theorem dX6_nextMonth_76 : decode cX6_nextMonth 76 = .ok (.getfield 86, 3) := dk_180 0 86 (dk_at dksX6_nextMonth_3 5 rfl rfl)
theorem dX6_nextMonth_79 : decode cX6_nextMonth 79 = .ok (.bipush 13, 2) := dk_16 13 (dk_at dksX6_nextMonth_3 8 rfl rfl)
theorem dX6_nextMonth_81 : decode cX6_nextMonth 81 = .ok (.iload_n 1, 1) := dk_27 (dk_at dksX6_nextMonth_3 10 rfl rfl)
theorem dX6_nextMonth_82 : decode cX6_nextMonth 82 = .ok (.imul, 1) := dk_104 (dk_at dksX6_nextMonth_3 11 rfl rfl)
theorem dX6_nextMonth_83 : decode cX6_nextMonth 83 = .ok (.iload 7, 2) := dk_21 7 (dk_at dksX6_nextMonth_3 12 rfl rfl)
theorem dX6_nextMonth_85 : decode cX6_nextMonth 85 = .ok (.iadd, 1) := dk_96 (dk_at dksX6_nextMonth_3 14 rfl rfl)
theorem dX6_nextMonth_86 : decode cX6_nextMonth 86 = .ok (.laload, 1) := dk_47 (dk_at dksX6_nextMonth_3 15 rfl rfl)
theorem dX6_nextMonth_87 : decode cX6_nextMonth 87 = .ok (.aload_n 0, 1) := dk_42 (dk_at dksX6_nextMonth_3 16 rfl rfl)
theorem dX6_nextMonth_88 : decode cX6_nextMonth 88 = .ok (.getfield 86, 3) := dk_180 0 86 (dk_at dksX6_nextMonth_3 17 rfl rfl)
theorem dX6_nextMonth_91 : decode cX6_nextMonth 91 = .ok (.bipush 13, 2) := dk_16 13 (dk_at dksX6_nextMonth_3 20 rfl rfl)
theorem dX6_nextMonth_93 : decode cX6_nextMonth 93 = .ok (.iload_n 1, 1) := dk_27 (dk_at dksX6_nextMonth_3 22 rfl rfl)
theorem dX6_nextMonth_94 : decode cX6_nextMonth 94 = .ok (.imul, 1) := dk_104 (dk_at dksX6_nextMonth_3 23 rfl rfl)
theorem dX6_nextMonth_95 : decode cX6_nextMonth 95 = .ok (.iload_n 2, 1) := dk_28 (dk_at dksX6_nextMonth_4 0 rfl rfl)
theorem dX6_nextMonth_96 : decode cX6_nextMonth 96 = .ok (.iadd, 1) := dk_96 (dk_at dksX6_nextMonth_4 1 rfl rfl)
theorem dX6_nextMonth_97 : decode cX6_nextMonth 97 = .ok (.laload, 1) := dk_47 (dk_at dksX6_nextMonth_4 2 rfl rfl)
theorem dX6_nextMonth_98 : decode cX6_nextMonth 98 = .ok (.ldc2_w 316, 3) := dk_20 1 60 (dk_at dksX6_nextMonth_4 3 rfl rfl)
theorem dX6_nextMonth_101 : decode cX6_nextMonth 101 = .ok (.aload_n 0, 1) := dk_42 (dk_at dksX6_nextMonth_4 6 rfl rfl)
theorem dX6_nextMonth_102 : decode cX6_nextMonth 102 = .ok (.getfield 69, 3) := dk_180 0 69 (dk_at dksX6_nextMonth_4 7 rfl rfl)
theorem dX6_nextMonth_105 : decode cX6_nextMonth 105 = .ok (.bipush 12, 2) := dk_16 12 (dk_at dksX6_nextMonth_4 10 rfl rfl)
theorem dX6_nextMonth_107 : decode cX6_nextMonth 107 = .ok (.iload_n 1, 1) := dk_27 (dk_at dksX6_nextMonth_4 12 rfl rfl)
theorem dX6_nextMonth_108 : decode cX6_nextMonth 108 = .ok (.imul, 1) := dk_104 (dk_at dksX6_nextMonth_4 13 rfl rfl)
theorem dX6_nextMonth_109 : decode cX6_nextMonth 109 = .ok (.iload 4, 2) := dk_21 4 (dk_at dksX6_nextMonth_4 14 rfl rfl)
theorem dX6_nextMonth_111 : decode cX6_nextMonth 111 = .ok (.iadd, 1) := dk_96 (dk_at dksX6_nextMonth_4 16 rfl rfl)
theorem dX6_nextMonth_112 : decode cX6_nextMonth 112 = .ok (.iaload, 1) := dk_46 (dk_at dksX6_nextMonth_4 17 rfl rfl)
theorem dX6_nextMonth_113 : decode cX6_nextMonth 113 = .ok (.i2l, 1) := dk_133 (dk_at dksX6_nextMonth_4 18 rfl rfl)
theorem dX6_nextMonth_114 : decode cX6_nextMonth 114 = .ok (.lmul, 1) := dk_105 (dk_at dksX6_nextMonth_4 19 rfl rfl)
theorem dX6_nextMonth_115 : decode cX6_nextMonth 115 = .ok (.lsub, 1) := dk_101 (dk_at dksX6_nextMonth_4 20 rfl rfl)
theorem dX6_nextMonth_116 : decode cX6_nextMonth 116 = .ok (.lconst 1, 1) := dk_10 (dk_at dksX6_nextMonth_4 21 rfl rfl)
theorem dX6_nextMonth_117 : decode cX6_nextMonth 117 = .ok (.lsub, 1) := dk_101 (dk_at dksX6_nextMonth_4 22 rfl rfl)
theorem dX6_nextMonth_118 : decode cX6_nextMonth 118 = .ok (.lcmp, 1) := dk_148 (dk_at dksX6_nextMonth_4 23 rfl rfl)
theorem dX6_nextMonth_119 : decode cX6_nextMonth 119 = .ok (.ifCond .ne 17, 3) := dk_154 0 17 (dk_at dksX6_nextMonth_5 0 rfl rfl)
theorem dX6_nextMonth_122 : decode cX6_nextMonth 122 = .ok (.iload_n 3, 1) := dk_29 (dk_at dksX6_nextMonth_5 3 rfl rfl)
theorem dX6_nextMonth_123 : decode cX6_nextMonth 123 = .ok (.iconst (-1), 1) := dk_2 (dk_at dksX6_nextMonth_5 4 rfl rfl)
theorem dX6_nextMonth_124 : decode cX6_nextMonth 124 = .ok (.if_icmp .eq 9, 3) := dk_159 0 9 (dk_at dksX6_nextMonth_5 5 rfl rfl)
theorem dX6_nextMonth_127 : decode cX6_nextMonth 127 = .ok (.iload 7, 2) := dk_21 7 (dk_at dksX6_nextMonth_5 8 rfl rfl)
theorem dX6_nextMonth_129 : decode cX6_nextMonth 129 = .ok (.iload_n 3, 1) := dk_29 (dk_at dksX6_nextMonth_5 10 rfl rfl)
theorem dX6_nextMonth_130 : decode cX6_nextMonth 130 = .ok (.if_icmp .ge 6, 3) := dk_162 0 6 (dk_at dksX6_nextMonth_5 11 rfl rfl)
theorem dX6_nextMonth_133 : decode cX6_nextMonth 133 = .ok (.iload 7, 2) := dk_21 7 (dk_at dksX6_nextMonth_5 14 rfl rfl)
theorem dX6_nextMonth_135 : decode cX6_nextMonth 135 = .ok (.istore_n 3, 1) := dk_62 (dk_at dksX6_nextMonth_5 16 rfl rfl)
theorem dX6_nextMonth_136 : decode cX6_nextMonth 136 = .ok (.iinc 4 1, 3) := dk_132 4 1 (dk_at dksX6_nextMonth_5 17 rfl rfl)
theorem dX6_nextMonth_139 : decode cX6_nextMonth 139 = .ok (.goto (-134), 3) := dk_167 255 122 (dk_at dksX6_nextMonth_5 20 rfl rfl)
theorem dX6_nextMonth_142 : decode cX6_nextMonth 142 = .ok (.iload_n 3, 1) := dk_29 (dk_at dksX6_nextMonth_5 23 rfl rfl)
theorem dX6_nextMonth_143 : decode cX6_nextMonth 143 = .ok (.ireturn, 1) := dk_172 (dk_at dksX6_nextMonth_6 0 rfl rfl)
abbrev cX6_answers : ByteArray := prog_16_method_57_code
def yX6_answers : MethodName := ⟨RX6, "answers", "(IIIIII)I"⟩
def dkwX6_answers_4 : List UInt8 := [184, 1, 104, 167, 0, 8, 42, 28, 182, 1, 107, 172]
abbrev dktX6_answers_4 : List UInt8 := dkwX6_answers_4 ++ []
def dkwX6_answers_3 : List UInt8 := [167, 0, 35, 21, 6, 5, 160, 0, 24, 42, 180, 1, 94, 42, 28, 29, 21, 4, 21, 5, 182, 1, 35, 100]
abbrev dktX6_answers_3 : List UInt8 := dkwX6_answers_3 ++ dktX6_answers_4
def dkwX6_answers_2 : List UInt8 := [172, 21, 6, 154, 0, 10, 42, 180, 1, 94, 167, 0, 48, 21, 6, 4, 160, 0, 10, 42, 180, 1, 97]
abbrev dktX6_answers_2 : List UInt8 := dkwX6_answers_2 ++ dktX6_answers_3
def dkwX6_answers_1 : List UInt8 := [6, 184, 0, 186, 153, 0, 17, 42, 27, 28, 29, 21, 4, 21, 5, 182, 1, 100, 154, 0, 7, 17, 252, 24]
abbrev dktX6_answers_1 : List UInt8 := dkwX6_answers_1 ++ dktX6_answers_2
def dkwX6_answers_0 : List UInt8 := [42, 27, 182, 1, 88, 153, 0, 40, 42, 28, 29, 21, 4, 21, 5, 182, 1, 31, 153, 0, 27, 21, 6, 3]
abbrev dktX6_answers_0 : List UInt8 := dkwX6_answers_0 ++ dktX6_answers_1
theorem dksX6_answers_0 : cX6_answers.data.toList.drop 0 = dktX6_answers_0 := by decide +kernel
theorem dksX6_answers_1 : cX6_answers.data.toList.drop 24 = dktX6_answers_1 := dk_seg dksX6_answers_0 24 rfl rfl
theorem dksX6_answers_2 : cX6_answers.data.toList.drop 48 = dktX6_answers_2 := dk_seg dksX6_answers_1 24 rfl rfl
theorem dksX6_answers_3 : cX6_answers.data.toList.drop 71 = dktX6_answers_3 := dk_seg dksX6_answers_2 23 rfl rfl
theorem dksX6_answers_4 : cX6_answers.data.toList.drop 95 = dktX6_answers_4 := dk_seg dksX6_answers_3 24 rfl rfl
theorem dX6_answers_0 : decode cX6_answers 0 = .ok (.aload_n 0, 1) := dk_42 (dk_at dksX6_answers_0 0 rfl rfl)
theorem dX6_answers_1 : decode cX6_answers 1 = .ok (.iload_n 1, 1) := dk_27 (dk_at dksX6_answers_0 1 rfl rfl)
theorem dX6_answers_2 : decode cX6_answers 2 = .ok (.invokevirtual 344, 3) := dk_182 1 88 (dk_at dksX6_answers_0 2 rfl rfl)
theorem dX6_answers_5 : decode cX6_answers 5 = .ok (.ifCond .eq 40, 3) := dk_153 0 40 (dk_at dksX6_answers_0 5 rfl rfl)
theorem dX6_answers_8 : decode cX6_answers 8 = .ok (.aload_n 0, 1) := dk_42 (dk_at dksX6_answers_0 8 rfl rfl)
theorem dX6_answers_9 : decode cX6_answers 9 = .ok (.iload_n 2, 1) := dk_28 (dk_at dksX6_answers_0 9 rfl rfl)
theorem dX6_answers_10 : decode cX6_answers 10 = .ok (.iload_n 3, 1) := dk_29 (dk_at dksX6_answers_0 10 rfl rfl)
theorem dX6_answers_11 : decode cX6_answers 11 = .ok (.iload 4, 2) := dk_21 4 (dk_at dksX6_answers_0 11 rfl rfl)
theorem dX6_answers_13 : decode cX6_answers 13 = .ok (.iload 5, 2) := dk_21 5 (dk_at dksX6_answers_0 13 rfl rfl)
theorem dX6_answers_15 : decode cX6_answers 15 = .ok (.invokevirtual 287, 3) := dk_182 1 31 (dk_at dksX6_answers_0 15 rfl rfl)
theorem dX6_answers_18 : decode cX6_answers 18 = .ok (.ifCond .eq 27, 3) := dk_153 0 27 (dk_at dksX6_answers_0 18 rfl rfl)
theorem dX6_answers_21 : decode cX6_answers 21 = .ok (.iload 6, 2) := dk_21 6 (dk_at dksX6_answers_0 21 rfl rfl)
theorem dX6_answers_23 : decode cX6_answers 23 = .ok (.iconst 0, 1) := dk_3 (dk_at dksX6_answers_0 23 rfl rfl)
theorem dX6_answers_24 : decode cX6_answers 24 = .ok (.iconst 3, 1) := dk_6 (dk_at dksX6_answers_1 0 rfl rfl)
theorem dX6_answers_25 : decode cX6_answers 25 = .ok (.invokestatic 186, 3) := dk_184 0 186 (dk_at dksX6_answers_1 1 rfl rfl)
theorem dX6_answers_28 : decode cX6_answers 28 = .ok (.ifCond .eq 17, 3) := dk_153 0 17 (dk_at dksX6_answers_1 4 rfl rfl)
theorem dX6_answers_31 : decode cX6_answers 31 = .ok (.aload_n 0, 1) := dk_42 (dk_at dksX6_answers_1 7 rfl rfl)
theorem dX6_answers_32 : decode cX6_answers 32 = .ok (.iload_n 1, 1) := dk_27 (dk_at dksX6_answers_1 8 rfl rfl)
theorem dX6_answers_33 : decode cX6_answers 33 = .ok (.iload_n 2, 1) := dk_28 (dk_at dksX6_answers_1 9 rfl rfl)
theorem dX6_answers_34 : decode cX6_answers 34 = .ok (.iload_n 3, 1) := dk_29 (dk_at dksX6_answers_1 10 rfl rfl)
theorem dX6_answers_35 : decode cX6_answers 35 = .ok (.iload 4, 2) := dk_21 4 (dk_at dksX6_answers_1 11 rfl rfl)
theorem dX6_answers_37 : decode cX6_answers 37 = .ok (.iload 5, 2) := dk_21 5 (dk_at dksX6_answers_1 13 rfl rfl)
theorem dX6_answers_39 : decode cX6_answers 39 = .ok (.invokevirtual 356, 3) := dk_182 1 100 (dk_at dksX6_answers_1 15 rfl rfl)
theorem dX6_answers_42 : decode cX6_answers 42 = .ok (.ifCond .ne 7, 3) := dk_154 0 7 (dk_at dksX6_answers_1 18 rfl rfl)
theorem dX6_answers_45 : decode cX6_answers 45 = .ok (.sipush (-1000), 3) := dk_17 252 24 (dk_at dksX6_answers_1 21 rfl rfl)
theorem dX6_answers_48 : decode cX6_answers 48 = .ok (.ireturn, 1) := dk_172 (dk_at dksX6_answers_2 0 rfl rfl)
theorem dX6_answers_49 : decode cX6_answers 49 = .ok (.iload 6, 2) := dk_21 6 (dk_at dksX6_answers_2 1 rfl rfl)
theorem dX6_answers_51 : decode cX6_answers 51 = .ok (.ifCond .ne 10, 3) := dk_154 0 10 (dk_at dksX6_answers_2 3 rfl rfl)
theorem dX6_answers_54 : decode cX6_answers 54 = .ok (.aload_n 0, 1) := dk_42 (dk_at dksX6_answers_2 6 rfl rfl)
theorem dX6_answers_55 : decode cX6_answers 55 = .ok (.getfield 350, 3) := dk_180 1 94 (dk_at dksX6_answers_2 7 rfl rfl)
theorem dX6_answers_58 : decode cX6_answers 58 = .ok (.goto 48, 3) := dk_167 0 48 (dk_at dksX6_answers_2 10 rfl rfl)
theorem dX6_answers_61 : decode cX6_answers 61 = .ok (.iload 6, 2) := dk_21 6 (dk_at dksX6_answers_2 13 rfl rfl)
theorem dX6_answers_63 : decode cX6_answers 63 = .ok (.iconst 1, 1) := dk_4 (dk_at dksX6_answers_2 15 rfl rfl)
theorem dX6_answers_64 : decode cX6_answers 64 = .ok (.if_icmp .ne 10, 3) := dk_160 0 10 (dk_at dksX6_answers_2 16 rfl rfl)
theorem dX6_answers_67 : decode cX6_answers 67 = .ok (.aload_n 0, 1) := dk_42 (dk_at dksX6_answers_2 19 rfl rfl)
theorem dX6_answers_68 : decode cX6_answers 68 = .ok (.getfield 353, 3) := dk_180 1 97 (dk_at dksX6_answers_2 20 rfl rfl)
theorem dX6_answers_71 : decode cX6_answers 71 = .ok (.goto 35, 3) := dk_167 0 35 (dk_at dksX6_answers_3 0 rfl rfl)
theorem dX6_answers_74 : decode cX6_answers 74 = .ok (.iload 6, 2) := dk_21 6 (dk_at dksX6_answers_3 3 rfl rfl)
theorem dX6_answers_76 : decode cX6_answers 76 = .ok (.iconst 2, 1) := dk_5 (dk_at dksX6_answers_3 5 rfl rfl)
theorem dX6_answers_77 : decode cX6_answers 77 = .ok (.if_icmp .ne 24, 3) := dk_160 0 24 (dk_at dksX6_answers_3 6 rfl rfl)
theorem dX6_answers_80 : decode cX6_answers 80 = .ok (.aload_n 0, 1) := dk_42 (dk_at dksX6_answers_3 9 rfl rfl)
theorem dX6_answers_81 : decode cX6_answers 81 = .ok (.getfield 350, 3) := dk_180 1 94 (dk_at dksX6_answers_3 10 rfl rfl)
theorem dX6_answers_84 : decode cX6_answers 84 = .ok (.aload_n 0, 1) := dk_42 (dk_at dksX6_answers_3 13 rfl rfl)
theorem dX6_answers_85 : decode cX6_answers 85 = .ok (.iload_n 2, 1) := dk_28 (dk_at dksX6_answers_3 14 rfl rfl)
theorem dX6_answers_86 : decode cX6_answers 86 = .ok (.iload_n 3, 1) := dk_29 (dk_at dksX6_answers_3 15 rfl rfl)
theorem dX6_answers_87 : decode cX6_answers 87 = .ok (.iload 4, 2) := dk_21 4 (dk_at dksX6_answers_3 16 rfl rfl)
theorem dX6_answers_89 : decode cX6_answers 89 = .ok (.iload 5, 2) := dk_21 5 (dk_at dksX6_answers_3 18 rfl rfl)
theorem dX6_answers_91 : decode cX6_answers 91 = .ok (.invokevirtual 291, 3) := dk_182 1 35 (dk_at dksX6_answers_3 20 rfl rfl)
theorem dX6_answers_94 : decode cX6_answers 94 = .ok (.isub, 1) := dk_100 (dk_at dksX6_answers_3 23 rfl rfl)
theorem dX6_answers_95 : decode cX6_answers 95 = .ok (.invokestatic 360, 3) := dk_184 1 104 (dk_at dksX6_answers_4 0 rfl rfl)
theorem dX6_answers_98 : decode cX6_answers 98 = .ok (.goto 8, 3) := dk_167 0 8 (dk_at dksX6_answers_4 3 rfl rfl)
theorem dX6_answers_101 : decode cX6_answers 101 = .ok (.aload_n 0, 1) := dk_42 (dk_at dksX6_answers_4 6 rfl rfl)
theorem dX6_answers_102 : decode cX6_answers 102 = .ok (.iload_n 2, 1) := dk_28 (dk_at dksX6_answers_4 7 rfl rfl)
theorem dX6_answers_103 : decode cX6_answers 103 = .ok (.invokevirtual 363, 3) := dk_182 1 107 (dk_at dksX6_answers_4 8 rfl rfl)
theorem dX6_answers_106 : decode cX6_answers 106 = .ok (.ireturn, 1) := dk_172 (dk_at dksX6_answers_4 11 rfl rfl)
abbrev cX6_answer : ByteArray := prog_16_method_54_code
def yX6_answer : MethodName := ⟨RX6, "answer", "(IIIII)Z"⟩
def dkwX6_answer_7 : List UInt8 := [46, 167, 0, 4, 3, 96, 181, 1, 97, 4, 172]
abbrev dktX6_answer_7 : List UInt8 := dkwX6_answer_7 ++ []
def dkwX6_answer_6 : List UInt8 := [104, 96, 42, 28, 21, 6, 5, 16, 29, 182, 1, 31, 153, 0, 16, 42, 180, 0, 75, 7, 27, 104, 6, 96]
abbrev dktX6_answer_6 : List UInt8 := dkwX6_answer_6 ++ dktX6_answer_7
def dkwX6_answer_5 : List UInt8 := [4, 100, 16, 7, 108, 104, 96, 42, 180, 0, 75, 7, 27, 104, 4, 96, 46, 21, 5, 4, 100, 16, 7, 112]
abbrev dktX6_answer_5 : List UInt8 := dkwX6_answer_5 ++ dktX6_answer_6
def dkwX6_answer_4 : List UInt8 := [42, 42, 180, 0, 75, 7, 27, 104, 5, 96, 46, 21, 7, 96, 42, 180, 0, 75, 7, 27, 104, 46, 21, 5]
abbrev dktX6_answer_4 : List UInt8 := dkwX6_answer_4 ++ dktX6_answer_5
def dkwX6_answer_3 : List UInt8 := [20, 1, 60, 109, 42, 180, 0, 86, 16, 13, 27, 104, 21, 4, 96, 47, 20, 1, 60, 109, 97, 136, 54, 7]
abbrev dktX6_answer_3 : List UInt8 := dkwX6_answer_3 ++ dktX6_answer_4
def dkwX6_answer_2 : List UInt8 := [21, 5, 96, 4, 100, 16, 7, 112, 181, 1, 94, 42, 180, 0, 82, 17, 39, 17, 27, 104, 29, 96, 47]
abbrev dktX6_answer_2 : List UInt8 := dkwX6_answer_2 ++ dktX6_answer_3
def dkwX6_answer_1 : List UInt8 := [46, 54, 6, 42, 42, 28, 21, 6, 42, 180, 0, 98, 42, 180, 1, 82, 4, 100, 46, 4, 182, 1, 35]
abbrev dktX6_answer_1 : List UInt8 := dkwX6_answer_1 ++ dktX6_answer_2
def dkwX6_answer_0 : List UInt8 := [42, 27, 28, 29, 21, 4, 182, 1, 91, 154, 0, 5, 3, 172, 42, 180, 0, 95, 42, 180, 1, 76, 4, 100]
abbrev dktX6_answer_0 : List UInt8 := dkwX6_answer_0 ++ dktX6_answer_1
theorem dksX6_answer_0 : cX6_answer.data.toList.drop 0 = dktX6_answer_0 := by decide +kernel
theorem dksX6_answer_1 : cX6_answer.data.toList.drop 24 = dktX6_answer_1 := dk_seg dksX6_answer_0 24 rfl rfl
theorem dksX6_answer_2 : cX6_answer.data.toList.drop 47 = dktX6_answer_2 := dk_seg dksX6_answer_1 23 rfl rfl
theorem dksX6_answer_3 : cX6_answer.data.toList.drop 70 = dktX6_answer_3 := dk_seg dksX6_answer_2 23 rfl rfl
theorem dksX6_answer_4 : cX6_answer.data.toList.drop 94 = dktX6_answer_4 := dk_seg dksX6_answer_3 24 rfl rfl
theorem dksX6_answer_5 : cX6_answer.data.toList.drop 118 = dktX6_answer_5 := dk_seg dksX6_answer_4 24 rfl rfl
theorem dksX6_answer_6 : cX6_answer.data.toList.drop 142 = dktX6_answer_6 := dk_seg dksX6_answer_5 24 rfl rfl
theorem dksX6_answer_7 : cX6_answer.data.toList.drop 166 = dktX6_answer_7 := dk_seg dksX6_answer_6 24 rfl rfl
theorem dX6_answer_0 : decode cX6_answer 0 = .ok (.aload_n 0, 1) := dk_42 (dk_at dksX6_answer_0 0 rfl rfl)
theorem dX6_answer_1 : decode cX6_answer 1 = .ok (.iload_n 1, 1) := dk_27 (dk_at dksX6_answer_0 1 rfl rfl)
theorem dX6_answer_2 : decode cX6_answer 2 = .ok (.iload_n 2, 1) := dk_28 (dk_at dksX6_answer_0 2 rfl rfl)
theorem dX6_answer_3 : decode cX6_answer 3 = .ok (.iload_n 3, 1) := dk_29 (dk_at dksX6_answer_0 3 rfl rfl)
theorem dX6_answer_4 : decode cX6_answer 4 = .ok (.iload 4, 2) := dk_21 4 (dk_at dksX6_answer_0 4 rfl rfl)
theorem dX6_answer_6 : decode cX6_answer 6 = .ok (.invokevirtual 347, 3) := dk_182 1 91 (dk_at dksX6_answer_0 6 rfl rfl)
theorem dX6_answer_9 : decode cX6_answer 9 = .ok (.ifCond .ne 5, 3) := dk_154 0 5 (dk_at dksX6_answer_0 9 rfl rfl)
theorem dX6_answer_12 : decode cX6_answer 12 = .ok (.iconst 0, 1) := dk_3 (dk_at dksX6_answer_0 12 rfl rfl)
theorem dX6_answer_13 : decode cX6_answer 13 = .ok (.ireturn, 1) := dk_172 (dk_at dksX6_answer_0 13 rfl rfl)
theorem dX6_answer_14 : decode cX6_answer 14 = .ok (.aload_n 0, 1) := dk_42 (dk_at dksX6_answer_0 14 rfl rfl)
theorem dX6_answer_15 : decode cX6_answer 15 = .ok (.getfield 95, 3) := dk_180 0 95 (dk_at dksX6_answer_0 15 rfl rfl)
theorem dX6_answer_18 : decode cX6_answer 18 = .ok (.aload_n 0, 1) := dk_42 (dk_at dksX6_answer_0 18 rfl rfl)
theorem dX6_answer_19 : decode cX6_answer 19 = .ok (.getfield 332, 3) := dk_180 1 76 (dk_at dksX6_answer_0 19 rfl rfl)
theorem dX6_answer_22 : decode cX6_answer 22 = .ok (.iconst 1, 1) := dk_4 (dk_at dksX6_answer_0 22 rfl rfl)
theorem dX6_answer_23 : decode cX6_answer 23 = .ok (.isub, 1) := dk_100 (dk_at dksX6_answer_0 23 rfl rfl)
theorem dX6_answer_24 : decode cX6_answer 24 = .ok (.iaload, 1) := dk_46 (dk_at dksX6_answer_1 0 rfl rfl)
theorem dX6_answer_25 : decode cX6_answer 25 = .ok (.istore 6, 2) := dk_54 6 (dk_at dksX6_answer_1 1 rfl rfl)
theorem dX6_answer_27 : decode cX6_answer 27 = .ok (.aload_n 0, 1) := dk_42 (dk_at dksX6_answer_1 3 rfl rfl)
theorem dX6_answer_28 : decode cX6_answer 28 = .ok (.aload_n 0, 1) := dk_42 (dk_at dksX6_answer_1 4 rfl rfl)
theorem dX6_answer_29 : decode cX6_answer 29 = .ok (.iload_n 2, 1) := dk_28 (dk_at dksX6_answer_1 5 rfl rfl)
theorem dX6_answer_30 : decode cX6_answer 30 = .ok (.iload 6, 2) := dk_21 6 (dk_at dksX6_answer_1 6 rfl rfl)
theorem dX6_answer_32 : decode cX6_answer 32 = .ok (.aload_n 0, 1) := dk_42 (dk_at dksX6_answer_1 8 rfl rfl)
theorem dX6_answer_33 : decode cX6_answer 33 = .ok (.getfield 98, 3) := dk_180 0 98 (dk_at dksX6_answer_1 9 rfl rfl)
theorem dX6_answer_36 : decode cX6_answer 36 = .ok (.aload_n 0, 1) := dk_42 (dk_at dksX6_answer_1 12 rfl rfl)
theorem dX6_answer_37 : decode cX6_answer 37 = .ok (.getfield 338, 3) := dk_180 1 82 (dk_at dksX6_answer_1 13 rfl rfl)
theorem dX6_answer_40 : decode cX6_answer 40 = .ok (.iconst 1, 1) := dk_4 (dk_at dksX6_answer_1 16 rfl rfl)
theorem dX6_answer_41 : decode cX6_answer 41 = .ok (.isub, 1) := dk_100 (dk_at dksX6_answer_1 17 rfl rfl)
theorem dX6_answer_42 : decode cX6_answer 42 = .ok (.iaload, 1) := dk_46 (dk_at dksX6_answer_1 18 rfl rfl)
theorem dX6_answer_43 : decode cX6_answer 43 = .ok (.iconst 1, 1) := dk_4 (dk_at dksX6_answer_1 19 rfl rfl)
theorem dX6_answer_44 : decode cX6_answer 44 = .ok (.invokevirtual 291, 3) := dk_182 1 35 (dk_at dksX6_answer_1 20 rfl rfl)
theorem dX6_answer_47 : decode cX6_answer 47 = .ok (.iload 5, 2) := dk_21 5 (dk_at dksX6_answer_2 0 rfl rfl)
theorem dX6_answer_49 : decode cX6_answer 49 = .ok (.iadd, 1) := dk_96 (dk_at dksX6_answer_2 2 rfl rfl)
theorem dX6_answer_50 : decode cX6_answer 50 = .ok (.iconst 1, 1) := dk_4 (dk_at dksX6_answer_2 3 rfl rfl)
theorem dX6_answer_51 : decode cX6_answer 51 = .ok (.isub, 1) := dk_100 (dk_at dksX6_answer_2 4 rfl rfl)
theorem dX6_answer_52 : decode cX6_answer 52 = .ok (.bipush 7, 2) := dk_16 7 (dk_at dksX6_answer_2 5 rfl rfl)
theorem dX6_answer_54 : decode cX6_answer 54 = .ok (.irem, 1) := dk_112 (dk_at dksX6_answer_2 7 rfl rfl)
theorem dX6_answer_55 : decode cX6_answer 55 = .ok (.putfield 350, 3) := dk_181 1 94 (dk_at dksX6_answer_2 8 rfl rfl)
theorem dX6_answer_58 : decode cX6_answer 58 = .ok (.aload_n 0, 1) := dk_42 (dk_at dksX6_answer_2 11 rfl rfl)
theorem dX6_answer_59 : decode cX6_answer 59 = .ok (.getfield 82, 3) := dk_180 0 82 (dk_at dksX6_answer_2 12 rfl rfl)
theorem dX6_answer_62 : decode cX6_answer 62 = .ok (.sipush 10001, 3) := dk_17 39 17 (dk_at dksX6_answer_2 15 rfl rfl)
theorem dX6_answer_65 : decode cX6_answer 65 = .ok (.iload_n 1, 1) := dk_27 (dk_at dksX6_answer_2 18 rfl rfl)
theorem dX6_answer_66 : decode cX6_answer 66 = .ok (.imul, 1) := dk_104 (dk_at dksX6_answer_2 19 rfl rfl)
theorem dX6_answer_67 : decode cX6_answer 67 = .ok (.iload_n 3, 1) := dk_29 (dk_at dksX6_answer_2 20 rfl rfl)
theorem dX6_answer_68 : decode cX6_answer 68 = .ok (.iadd, 1) := dk_96 (dk_at dksX6_answer_2 21 rfl rfl)
theorem dX6_answer_69 : decode cX6_answer 69 = .ok (.laload, 1) := dk_47 (dk_at dksX6_answer_2 22 rfl rfl)
theorem dX6_answer_70 : decode cX6_answer 70 = .ok (.ldc2_w 316, 3) := dk_20 1 60 (dk_at dksX6_answer_3 0 rfl rfl)
theorem dX6_answer_73 : decode cX6_answer 73 = .ok (.ldiv, 1) := dk_109 (dk_at dksX6_answer_3 3 rfl rfl)
theorem dX6_answer_74 : decode cX6_answer 74 = .ok (.aload_n 0, 1) := dk_42 (dk_at dksX6_answer_3 4 rfl rfl)
theorem dX6_answer_75 : decode cX6_answer 75 = .ok (.getfield 86, 3) := dk_180 0 86 (dk_at dksX6_answer_3 5 rfl rfl)
theorem dX6_answer_78 : decode cX6_answer 78 = .ok (.bipush 13, 2) := dk_16 13 (dk_at dksX6_answer_3 8 rfl rfl)
theorem dX6_answer_80 : decode cX6_answer 80 = .ok (.iload_n 1, 1) := dk_27 (dk_at dksX6_answer_3 10 rfl rfl)
theorem dX6_answer_81 : decode cX6_answer 81 = .ok (.imul, 1) := dk_104 (dk_at dksX6_answer_3 11 rfl rfl)
theorem dX6_answer_82 : decode cX6_answer 82 = .ok (.iload 4, 2) := dk_21 4 (dk_at dksX6_answer_3 12 rfl rfl)
theorem dX6_answer_84 : decode cX6_answer 84 = .ok (.iadd, 1) := dk_96 (dk_at dksX6_answer_3 14 rfl rfl)
theorem dX6_answer_85 : decode cX6_answer 85 = .ok (.laload, 1) := dk_47 (dk_at dksX6_answer_3 15 rfl rfl)
theorem dX6_answer_86 : decode cX6_answer 86 = .ok (.ldc2_w 316, 3) := dk_20 1 60 (dk_at dksX6_answer_3 16 rfl rfl)
theorem dX6_answer_89 : decode cX6_answer 89 = .ok (.ldiv, 1) := dk_109 (dk_at dksX6_answer_3 19 rfl rfl)
theorem dX6_answer_90 : decode cX6_answer 90 = .ok (.ladd, 1) := dk_97 (dk_at dksX6_answer_3 20 rfl rfl)
theorem dX6_answer_91 : decode cX6_answer 91 = .ok (.l2i, 1) := dk_136 (dk_at dksX6_answer_3 21 rfl rfl)
theorem dX6_answer_92 : decode cX6_answer 92 = .ok (.istore 7, 2) := dk_54 7 (dk_at dksX6_answer_3 22 rfl rfl)
theorem dX6_answer_94 : decode cX6_answer 94 = .ok (.aload_n 0, 1) := dk_42 (dk_at dksX6_answer_4 0 rfl rfl)
theorem dX6_answer_95 : decode cX6_answer 95 = .ok (.aload_n 0, 1) := dk_42 (dk_at dksX6_answer_4 1 rfl rfl)
theorem dX6_answer_96 : decode cX6_answer 96 = .ok (.getfield 75, 3) := dk_180 0 75 (dk_at dksX6_answer_4 2 rfl rfl)
theorem dX6_answer_99 : decode cX6_answer 99 = .ok (.iconst 4, 1) := dk_7 (dk_at dksX6_answer_4 5 rfl rfl)
theorem dX6_answer_100 : decode cX6_answer 100 = .ok (.iload_n 1, 1) := dk_27 (dk_at dksX6_answer_4 6 rfl rfl)
theorem dX6_answer_101 : decode cX6_answer 101 = .ok (.imul, 1) := dk_104 (dk_at dksX6_answer_4 7 rfl rfl)
theorem dX6_answer_102 : decode cX6_answer 102 = .ok (.iconst 2, 1) := dk_5 (dk_at dksX6_answer_4 8 rfl rfl)
theorem dX6_answer_103 : decode cX6_answer 103 = .ok (.iadd, 1) := dk_96 (dk_at dksX6_answer_4 9 rfl rfl)
theorem dX6_answer_104 : decode cX6_answer 104 = .ok (.iaload, 1) := dk_46 (dk_at dksX6_answer_4 10 rfl rfl)
theorem dX6_answer_105 : decode cX6_answer 105 = .ok (.iload 7, 2) := dk_21 7 (dk_at dksX6_answer_4 11 rfl rfl)
theorem dX6_answer_107 : decode cX6_answer 107 = .ok (.iadd, 1) := dk_96 (dk_at dksX6_answer_4 13 rfl rfl)
theorem dX6_answer_108 : decode cX6_answer 108 = .ok (.aload_n 0, 1) := dk_42 (dk_at dksX6_answer_4 14 rfl rfl)
theorem dX6_answer_109 : decode cX6_answer 109 = .ok (.getfield 75, 3) := dk_180 0 75 (dk_at dksX6_answer_4 15 rfl rfl)
theorem dX6_answer_112 : decode cX6_answer 112 = .ok (.iconst 4, 1) := dk_7 (dk_at dksX6_answer_4 18 rfl rfl)
theorem dX6_answer_113 : decode cX6_answer 113 = .ok (.iload_n 1, 1) := dk_27 (dk_at dksX6_answer_4 19 rfl rfl)
theorem dX6_answer_114 : decode cX6_answer 114 = .ok (.imul, 1) := dk_104 (dk_at dksX6_answer_4 20 rfl rfl)
theorem dX6_answer_115 : decode cX6_answer 115 = .ok (.iaload, 1) := dk_46 (dk_at dksX6_answer_4 21 rfl rfl)
theorem dX6_answer_116 : decode cX6_answer 116 = .ok (.iload 5, 2) := dk_21 5 (dk_at dksX6_answer_4 22 rfl rfl)
theorem dX6_answer_118 : decode cX6_answer 118 = .ok (.iconst 1, 1) := dk_4 (dk_at dksX6_answer_5 0 rfl rfl)
theorem dX6_answer_119 : decode cX6_answer 119 = .ok (.isub, 1) := dk_100 (dk_at dksX6_answer_5 1 rfl rfl)
theorem dX6_answer_120 : decode cX6_answer 120 = .ok (.bipush 7, 2) := dk_16 7 (dk_at dksX6_answer_5 2 rfl rfl)
theorem dX6_answer_122 : decode cX6_answer 122 = .ok (.idiv, 1) := dk_108 (dk_at dksX6_answer_5 4 rfl rfl)
theorem dX6_answer_123 : decode cX6_answer 123 = .ok (.imul, 1) := dk_104 (dk_at dksX6_answer_5 5 rfl rfl)
theorem dX6_answer_124 : decode cX6_answer 124 = .ok (.iadd, 1) := dk_96 (dk_at dksX6_answer_5 6 rfl rfl)
theorem dX6_answer_125 : decode cX6_answer 125 = .ok (.aload_n 0, 1) := dk_42 (dk_at dksX6_answer_5 7 rfl rfl)
theorem dX6_answer_126 : decode cX6_answer 126 = .ok (.getfield 75, 3) := dk_180 0 75 (dk_at dksX6_answer_5 8 rfl rfl)
theorem dX6_answer_129 : decode cX6_answer 129 = .ok (.iconst 4, 1) := dk_7 (dk_at dksX6_answer_5 11 rfl rfl)
theorem dX6_answer_130 : decode cX6_answer 130 = .ok (.iload_n 1, 1) := dk_27 (dk_at dksX6_answer_5 12 rfl rfl)
theorem dX6_answer_131 : decode cX6_answer 131 = .ok (.imul, 1) := dk_104 (dk_at dksX6_answer_5 13 rfl rfl)
theorem dX6_answer_132 : decode cX6_answer 132 = .ok (.iconst 1, 1) := dk_4 (dk_at dksX6_answer_5 14 rfl rfl)
theorem dX6_answer_133 : decode cX6_answer 133 = .ok (.iadd, 1) := dk_96 (dk_at dksX6_answer_5 15 rfl rfl)
theorem dX6_answer_134 : decode cX6_answer 134 = .ok (.iaload, 1) := dk_46 (dk_at dksX6_answer_5 16 rfl rfl)
theorem dX6_answer_135 : decode cX6_answer 135 = .ok (.iload 5, 2) := dk_21 5 (dk_at dksX6_answer_5 17 rfl rfl)
theorem dX6_answer_137 : decode cX6_answer 137 = .ok (.iconst 1, 1) := dk_4 (dk_at dksX6_answer_5 19 rfl rfl)
theorem dX6_answer_138 : decode cX6_answer 138 = .ok (.isub, 1) := dk_100 (dk_at dksX6_answer_5 20 rfl rfl)
theorem dX6_answer_139 : decode cX6_answer 139 = .ok (.bipush 7, 2) := dk_16 7 (dk_at dksX6_answer_5 21 rfl rfl)
theorem dX6_answer_141 : decode cX6_answer 141 = .ok (.irem, 1) := dk_112 (dk_at dksX6_answer_5 23 rfl rfl)
theorem dX6_answer_142 : decode cX6_answer 142 = .ok (.imul, 1) := dk_104 (dk_at dksX6_answer_6 0 rfl rfl)
theorem dX6_answer_143 : decode cX6_answer 143 = .ok (.iadd, 1) := dk_96 (dk_at dksX6_answer_6 1 rfl rfl)
theorem dX6_answer_144 : decode cX6_answer 144 = .ok (.aload_n 0, 1) := dk_42 (dk_at dksX6_answer_6 2 rfl rfl)
theorem dX6_answer_145 : decode cX6_answer 145 = .ok (.iload_n 2, 1) := dk_28 (dk_at dksX6_answer_6 3 rfl rfl)
theorem dX6_answer_146 : decode cX6_answer 146 = .ok (.iload 6, 2) := dk_21 6 (dk_at dksX6_answer_6 4 rfl rfl)
theorem dX6_answer_148 : decode cX6_answer 148 = .ok (.iconst 2, 1) := dk_5 (dk_at dksX6_answer_6 6 rfl rfl)
theorem dX6_answer_149 : decode cX6_answer 149 = .ok (.bipush 29, 2) := dk_16 29 (dk_at dksX6_answer_6 7 rfl rfl)
theorem dX6_answer_151 : decode cX6_answer 151 = .ok (.invokevirtual 287, 3) := dk_182 1 31 (dk_at dksX6_answer_6 9 rfl rfl)
theorem dX6_answer_154 : decode cX6_answer 154 = .ok (.ifCond .eq 16, 3) := dk_153 0 16 (dk_at dksX6_answer_6 12 rfl rfl)
theorem dX6_answer_157 : decode cX6_answer 157 = .ok (.aload_n 0, 1) := dk_42 (dk_at dksX6_answer_6 15 rfl rfl)
theorem dX6_answer_158 : decode cX6_answer 158 = .ok (.getfield 75, 3) := dk_180 0 75 (dk_at dksX6_answer_6 16 rfl rfl)
theorem dX6_answer_161 : decode cX6_answer 161 = .ok (.iconst 4, 1) := dk_7 (dk_at dksX6_answer_6 19 rfl rfl)
theorem dX6_answer_162 : decode cX6_answer 162 = .ok (.iload_n 1, 1) := dk_27 (dk_at dksX6_answer_6 20 rfl rfl)
theorem dX6_answer_163 : decode cX6_answer 163 = .ok (.imul, 1) := dk_104 (dk_at dksX6_answer_6 21 rfl rfl)
theorem dX6_answer_164 : decode cX6_answer 164 = .ok (.iconst 3, 1) := dk_6 (dk_at dksX6_answer_6 22 rfl rfl)
theorem dX6_answer_165 : decode cX6_answer 165 = .ok (.iadd, 1) := dk_96 (dk_at dksX6_answer_6 23 rfl rfl)
theorem dX6_answer_166 : decode cX6_answer 166 = .ok (.iaload, 1) := dk_46 (dk_at dksX6_answer_7 0 rfl rfl)
theorem dX6_answer_167 : decode cX6_answer 167 = .ok (.goto 4, 3) := dk_167 0 4 (dk_at dksX6_answer_7 1 rfl rfl)
theorem dX6_answer_170 : decode cX6_answer 170 = .ok (.iconst 0, 1) := dk_3 (dk_at dksX6_answer_7 4 rfl rfl)
theorem dX6_answer_171 : decode cX6_answer 171 = .ok (.iadd, 1) := dk_96 (dk_at dksX6_answer_7 5 rfl rfl)
theorem dX6_answer_172 : decode cX6_answer 172 = .ok (.putfield 353, 3) := dk_181 1 97 (dk_at dksX6_answer_7 6 rfl rfl)
theorem dX6_answer_175 : decode cX6_answer 175 = .ok (.iconst 1, 1) := dk_4 (dk_at dksX6_answer_7 9 rfl rfl)
theorem dX6_answer_176 : decode cX6_answer 176 = .ok (.ireturn, 1) := dk_172 (dk_at dksX6_answer_7 10 rfl rfl)
abbrev cX6_round : ByteArray := prog_16_method_55_code
def yX6_round : MethodName := ⟨RX6, "round", "(I)I"⟩
def dkwX6_round_1 : List UInt8 := [172]
abbrev dktX6_round_1 : List UInt8 := dkwX6_round_1 ++ []
def dkwX6_round_0 : List UInt8 := [26, 16, 7, 112, 16, 7, 96, 16, 7, 112, 60, 27, 6, 164, 0, 10, 27, 16, 7, 100, 167, 0, 4, 27]
abbrev dktX6_round_0 : List UInt8 := dkwX6_round_0 ++ dktX6_round_1
theorem dksX6_round_0 : cX6_round.data.toList.drop 0 = dktX6_round_0 := by decide +kernel
theorem dksX6_round_1 : cX6_round.data.toList.drop 24 = dktX6_round_1 := dk_seg dksX6_round_0 24 rfl rfl
theorem dX6_round_0 : decode cX6_round 0 = .ok (.iload_n 0, 1) := dk_26 (dk_at dksX6_round_0 0 rfl rfl)
theorem dX6_round_1 : decode cX6_round 1 = .ok (.bipush 7, 2) := dk_16 7 (dk_at dksX6_round_0 1 rfl rfl)
theorem dX6_round_3 : decode cX6_round 3 = .ok (.irem, 1) := dk_112 (dk_at dksX6_round_0 3 rfl rfl)
theorem dX6_round_4 : decode cX6_round 4 = .ok (.bipush 7, 2) := dk_16 7 (dk_at dksX6_round_0 4 rfl rfl)
theorem dX6_round_6 : decode cX6_round 6 = .ok (.iadd, 1) := dk_96 (dk_at dksX6_round_0 6 rfl rfl)
theorem dX6_round_7 : decode cX6_round 7 = .ok (.bipush 7, 2) := dk_16 7 (dk_at dksX6_round_0 7 rfl rfl)
theorem dX6_round_9 : decode cX6_round 9 = .ok (.irem, 1) := dk_112 (dk_at dksX6_round_0 9 rfl rfl)
theorem dX6_round_10 : decode cX6_round 10 = .ok (.istore_n 1, 1) := dk_60 (dk_at dksX6_round_0 10 rfl rfl)
theorem dX6_round_11 : decode cX6_round 11 = .ok (.iload_n 1, 1) := dk_27 (dk_at dksX6_round_0 11 rfl rfl)
theorem dX6_round_12 : decode cX6_round 12 = .ok (.iconst 3, 1) := dk_6 (dk_at dksX6_round_0 12 rfl rfl)
theorem dX6_round_13 : decode cX6_round 13 = .ok (.if_icmp .le 10, 3) := dk_164 0 10 (dk_at dksX6_round_0 13 rfl rfl)
theorem dX6_round_16 : decode cX6_round 16 = .ok (.iload_n 1, 1) := dk_27 (dk_at dksX6_round_0 16 rfl rfl)
theorem dX6_round_17 : decode cX6_round 17 = .ok (.bipush 7, 2) := dk_16 7 (dk_at dksX6_round_0 17 rfl rfl)
theorem dX6_round_19 : decode cX6_round 19 = .ok (.isub, 1) := dk_100 (dk_at dksX6_round_0 19 rfl rfl)
theorem dX6_round_20 : decode cX6_round 20 = .ok (.goto 4, 3) := dk_167 0 4 (dk_at dksX6_round_0 20 rfl rfl)
theorem dX6_round_23 : decode cX6_round 23 = .ok (.iload_n 1, 1) := dk_27 (dk_at dksX6_round_0 23 rfl rfl)
theorem dX6_round_24 : decode cX6_round 24 = .ok (.ireturn, 1) := dk_172 (dk_at dksX6_round_1 0 rfl rfl)
abbrev cX6_falseStep : ByteArray := prog_16_method_56_code
def yX6_falseStep : MethodName := ⟨RX6, "falseStep", "(I)I"⟩
def dkwX6_falseStep_7 : List UInt8 := [5, 100, 172, 132, 3, 1, 167, 255, 153, 2, 172]
abbrev dktX6_falseStep_7 : List UInt8 := dkwX6_falseStep_7 ++ []
def dkwX6_falseStep_6 : List UInt8 := [27, 28, 42, 180, 0, 98, 29, 46, 4, 182, 1, 35, 16, 7, 112, 159, 0, 12, 42, 180, 1, 76, 29, 96]
abbrev dktX6_falseStep_6 : List UInt8 := dkwX6_falseStep_6 ++ dktX6_falseStep_7
def dkwX6_falseStep_5 : List UInt8 := [21, 4, 153, 0, 40, 42, 27, 28, 42, 180, 0, 98, 29, 4, 100, 46, 4, 182, 1, 35, 16, 7, 112, 42]
abbrev dktX6_falseStep_5 : List UInt8 := dkwX6_falseStep_5 ++ dktX6_falseStep_6
def dkwX6_falseStep_4 : List UInt8 := [42, 27, 28, 42, 180, 0, 98, 29, 46, 4, 182, 1, 31, 153, 0, 7, 4, 167, 0, 4, 3, 54, 4]
abbrev dktX6_falseStep_4 : List UInt8 := dkwX6_falseStep_4 ++ dktX6_falseStep_5
def dkwX6_falseStep_3 : List UInt8 := [180, 1, 82, 162, 0, 101, 42, 27, 28, 42, 180, 0, 98, 29, 4, 100, 46, 4, 182, 1, 31, 153, 0, 23]
abbrev dktX6_falseStep_3 : List UInt8 := dkwX6_falseStep_3 ++ dktX6_falseStep_4
def dkwX6_falseStep_2 : List UInt8 := [132, 2, 1, 167, 255, 207, 42, 180, 0, 95, 42, 180, 1, 76, 4, 100, 46, 61, 4, 62, 29, 42]
abbrev dktX6_falseStep_2 : List UInt8 := dkwX6_falseStep_2 ++ dktX6_falseStep_3
def dkwX6_falseStep_1 : List UInt8 := [29, 2, 159, 0, 18, 29, 42, 27, 42, 180, 0, 95, 28, 46, 182, 1, 47, 159, 0, 7, 28, 4, 100, 172]
abbrev dktX6_falseStep_1 : List UInt8 := dkwX6_falseStep_1 ++ dktX6_falseStep_2
def dkwX6_falseStep_0 : List UInt8 := [4, 61, 28, 42, 180, 1, 76, 162, 0, 47, 42, 27, 42, 180, 0, 95, 28, 4, 100, 46, 182, 1, 47, 62]
abbrev dktX6_falseStep_0 : List UInt8 := dkwX6_falseStep_0 ++ dktX6_falseStep_1
theorem dksX6_falseStep_0 : cX6_falseStep.data.toList.drop 0 = dktX6_falseStep_0 := by decide +kernel
theorem dksX6_falseStep_1 : cX6_falseStep.data.toList.drop 24 = dktX6_falseStep_1 := dk_seg dksX6_falseStep_0 24 rfl rfl
theorem dksX6_falseStep_2 : cX6_falseStep.data.toList.drop 48 = dktX6_falseStep_2 := dk_seg dksX6_falseStep_1 24 rfl rfl
theorem dksX6_falseStep_3 : cX6_falseStep.data.toList.drop 70 = dktX6_falseStep_3 := dk_seg dksX6_falseStep_2 22 rfl rfl
theorem dksX6_falseStep_4 : cX6_falseStep.data.toList.drop 94 = dktX6_falseStep_4 := dk_seg dksX6_falseStep_3 24 rfl rfl
theorem dksX6_falseStep_5 : cX6_falseStep.data.toList.drop 117 = dktX6_falseStep_5 := dk_seg dksX6_falseStep_4 23 rfl rfl
theorem dksX6_falseStep_6 : cX6_falseStep.data.toList.drop 141 = dktX6_falseStep_6 := dk_seg dksX6_falseStep_5 24 rfl rfl
theorem dksX6_falseStep_7 : cX6_falseStep.data.toList.drop 165 = dktX6_falseStep_7 := dk_seg dksX6_falseStep_6 24 rfl rfl
theorem dX6_falseStep_0 : decode cX6_falseStep 0 = .ok (.iconst 1, 1) := dk_4 (dk_at dksX6_falseStep_0 0 rfl rfl)
theorem dX6_falseStep_1 : decode cX6_falseStep 1 = .ok (.istore_n 2, 1) := dk_61 (dk_at dksX6_falseStep_0 1 rfl rfl)
theorem dX6_falseStep_2 : decode cX6_falseStep 2 = .ok (.iload_n 2, 1) := dk_28 (dk_at dksX6_falseStep_0 2 rfl rfl)
theorem dX6_falseStep_3 : decode cX6_falseStep 3 = .ok (.aload_n 0, 1) := dk_42 (dk_at dksX6_falseStep_0 3 rfl rfl)
theorem dX6_falseStep_4 : decode cX6_falseStep 4 = .ok (.getfield 332, 3) := dk_180 1 76 (dk_at dksX6_falseStep_0 4 rfl rfl)
theorem dX6_falseStep_7 : decode cX6_falseStep 7 = .ok (.if_icmp .ge 47, 3) := dk_162 0 47 (dk_at dksX6_falseStep_0 7 rfl rfl)
theorem dX6_falseStep_10 : decode cX6_falseStep 10 = .ok (.aload_n 0, 1) := dk_42 (dk_at dksX6_falseStep_0 10 rfl rfl)
theorem dX6_falseStep_11 : decode cX6_falseStep 11 = .ok (.iload_n 1, 1) := dk_27 (dk_at dksX6_falseStep_0 11 rfl rfl)
theorem dX6_falseStep_12 : decode cX6_falseStep 12 = .ok (.aload_n 0, 1) := dk_42 (dk_at dksX6_falseStep_0 12 rfl rfl)
theorem dX6_falseStep_13 : decode cX6_falseStep 13 = .ok (.getfield 95, 3) := dk_180 0 95 (dk_at dksX6_falseStep_0 13 rfl rfl)
theorem dX6_falseStep_16 : decode cX6_falseStep 16 = .ok (.iload_n 2, 1) := dk_28 (dk_at dksX6_falseStep_0 16 rfl rfl)
theorem dX6_falseStep_17 : decode cX6_falseStep 17 = .ok (.iconst 1, 1) := dk_4 (dk_at dksX6_falseStep_0 17 rfl rfl)
theorem dX6_falseStep_18 : decode cX6_falseStep 18 = .ok (.isub, 1) := dk_100 (dk_at dksX6_falseStep_0 18 rfl rfl)
theorem dX6_falseStep_19 : decode cX6_falseStep 19 = .ok (.iaload, 1) := dk_46 (dk_at dksX6_falseStep_0 19 rfl rfl)
theorem dX6_falseStep_20 : decode cX6_falseStep 20 = .ok (.invokevirtual 303, 3) := dk_182 1 47 (dk_at dksX6_falseStep_0 20 rfl rfl)
theorem dX6_falseStep_23 : decode cX6_falseStep 23 = .ok (.istore_n 3, 1) := dk_62 (dk_at dksX6_falseStep_0 23 rfl rfl)
theorem dX6_falseStep_24 : decode cX6_falseStep 24 = .ok (.iload_n 3, 1) := dk_29 (dk_at dksX6_falseStep_1 0 rfl rfl)
theorem dX6_falseStep_25 : decode cX6_falseStep 25 = .ok (.iconst (-1), 1) := dk_2 (dk_at dksX6_falseStep_1 1 rfl rfl)
theorem dX6_falseStep_26 : decode cX6_falseStep 26 = .ok (.if_icmp .eq 18, 3) := dk_159 0 18 (dk_at dksX6_falseStep_1 2 rfl rfl)
theorem dX6_falseStep_29 : decode cX6_falseStep 29 = .ok (.iload_n 3, 1) := dk_29 (dk_at dksX6_falseStep_1 5 rfl rfl)
theorem dX6_falseStep_30 : decode cX6_falseStep 30 = .ok (.aload_n 0, 1) := dk_42 (dk_at dksX6_falseStep_1 6 rfl rfl)
theorem dX6_falseStep_31 : decode cX6_falseStep 31 = .ok (.iload_n 1, 1) := dk_27 (dk_at dksX6_falseStep_1 7 rfl rfl)
theorem dX6_falseStep_32 : decode cX6_falseStep 32 = .ok (.aload_n 0, 1) := dk_42 (dk_at dksX6_falseStep_1 8 rfl rfl)
theorem dX6_falseStep_33 : decode cX6_falseStep 33 = .ok (.getfield 95, 3) := dk_180 0 95 (dk_at dksX6_falseStep_1 9 rfl rfl)
theorem dX6_falseStep_36 : decode cX6_falseStep 36 = .ok (.iload_n 2, 1) := dk_28 (dk_at dksX6_falseStep_1 12 rfl rfl)
theorem dX6_falseStep_37 : decode cX6_falseStep 37 = .ok (.iaload, 1) := dk_46 (dk_at dksX6_falseStep_1 13 rfl rfl)
theorem dX6_falseStep_38 : decode cX6_falseStep 38 = .ok (.invokevirtual 303, 3) := dk_182 1 47 (dk_at dksX6_falseStep_1 14 rfl rfl)
theorem dX6_falseStep_41 : decode cX6_falseStep 41 = .ok (.if_icmp .eq 7, 3) := dk_159 0 7 (dk_at dksX6_falseStep_1 17 rfl rfl)
theorem dX6_falseStep_44 : decode cX6_falseStep 44 = .ok (.iload_n 2, 1) := dk_28 (dk_at dksX6_falseStep_1 20 rfl rfl)
theorem dX6_falseStep_45 : decode cX6_falseStep 45 = .ok (.iconst 1, 1) := dk_4 (dk_at dksX6_falseStep_1 21 rfl rfl)
theorem dX6_falseStep_46 : decode cX6_falseStep 46 = .ok (.isub, 1) := dk_100 (dk_at dksX6_falseStep_1 22 rfl rfl)
theorem dX6_falseStep_47 : decode cX6_falseStep 47 = .ok (.ireturn, 1) := dk_172 (dk_at dksX6_falseStep_1 23 rfl rfl)
theorem dX6_falseStep_48 : decode cX6_falseStep 48 = .ok (.iinc 2 1, 3) := dk_132 2 1 (dk_at dksX6_falseStep_2 0 rfl rfl)
theorem dX6_falseStep_51 : decode cX6_falseStep 51 = .ok (.goto (-49), 3) := dk_167 255 207 (dk_at dksX6_falseStep_2 3 rfl rfl)
theorem dX6_falseStep_54 : decode cX6_falseStep 54 = .ok (.aload_n 0, 1) := dk_42 (dk_at dksX6_falseStep_2 6 rfl rfl)
theorem dX6_falseStep_55 : decode cX6_falseStep 55 = .ok (.getfield 95, 3) := dk_180 0 95 (dk_at dksX6_falseStep_2 7 rfl rfl)
theorem dX6_falseStep_58 : decode cX6_falseStep 58 = .ok (.aload_n 0, 1) := dk_42 (dk_at dksX6_falseStep_2 10 rfl rfl)
theorem dX6_falseStep_59 : decode cX6_falseStep 59 = .ok (.getfield 332, 3) := dk_180 1 76 (dk_at dksX6_falseStep_2 11 rfl rfl)
theorem dX6_falseStep_62 : decode cX6_falseStep 62 = .ok (.iconst 1, 1) := dk_4 (dk_at dksX6_falseStep_2 14 rfl rfl)
theorem dX6_falseStep_63 : decode cX6_falseStep 63 = .ok (.isub, 1) := dk_100 (dk_at dksX6_falseStep_2 15 rfl rfl)
theorem dX6_falseStep_64 : decode cX6_falseStep 64 = .ok (.iaload, 1) := dk_46 (dk_at dksX6_falseStep_2 16 rfl rfl)
theorem dX6_falseStep_65 : decode cX6_falseStep 65 = .ok (.istore_n 2, 1) := dk_61 (dk_at dksX6_falseStep_2 17 rfl rfl)
theorem dX6_falseStep_66 : decode cX6_falseStep 66 = .ok (.iconst 1, 1) := dk_4 (dk_at dksX6_falseStep_2 18 rfl rfl)
theorem dX6_falseStep_67 : decode cX6_falseStep 67 = .ok (.istore_n 3, 1) := dk_62 (dk_at dksX6_falseStep_2 19 rfl rfl)
theorem dX6_falseStep_68 : decode cX6_falseStep 68 = .ok (.iload_n 3, 1) := dk_29 (dk_at dksX6_falseStep_2 20 rfl rfl)
theorem dX6_falseStep_69 : decode cX6_falseStep 69 = .ok (.aload_n 0, 1) := dk_42 (dk_at dksX6_falseStep_2 21 rfl rfl)
theorem dX6_falseStep_70 : decode cX6_falseStep 70 = .ok (.getfield 338, 3) := dk_180 1 82 (dk_at dksX6_falseStep_3 0 rfl rfl)
theorem dX6_falseStep_73 : decode cX6_falseStep 73 = .ok (.if_icmp .ge 101, 3) := dk_162 0 101 (dk_at dksX6_falseStep_3 3 rfl rfl)
theorem dX6_falseStep_76 : decode cX6_falseStep 76 = .ok (.aload_n 0, 1) := dk_42 (dk_at dksX6_falseStep_3 6 rfl rfl)
theorem dX6_falseStep_77 : decode cX6_falseStep 77 = .ok (.iload_n 1, 1) := dk_27 (dk_at dksX6_falseStep_3 7 rfl rfl)
theorem dX6_falseStep_78 : decode cX6_falseStep 78 = .ok (.iload_n 2, 1) := dk_28 (dk_at dksX6_falseStep_3 8 rfl rfl)
theorem dX6_falseStep_79 : decode cX6_falseStep 79 = .ok (.aload_n 0, 1) := dk_42 (dk_at dksX6_falseStep_3 9 rfl rfl)
theorem dX6_falseStep_80 : decode cX6_falseStep 80 = .ok (.getfield 98, 3) := dk_180 0 98 (dk_at dksX6_falseStep_3 10 rfl rfl)
theorem dX6_falseStep_83 : decode cX6_falseStep 83 = .ok (.iload_n 3, 1) := dk_29 (dk_at dksX6_falseStep_3 13 rfl rfl)
theorem dX6_falseStep_84 : decode cX6_falseStep 84 = .ok (.iconst 1, 1) := dk_4 (dk_at dksX6_falseStep_3 14 rfl rfl)
theorem dX6_falseStep_85 : decode cX6_falseStep 85 = .ok (.isub, 1) := dk_100 (dk_at dksX6_falseStep_3 15 rfl rfl)
theorem dX6_falseStep_86 : decode cX6_falseStep 86 = .ok (.iaload, 1) := dk_46 (dk_at dksX6_falseStep_3 16 rfl rfl)
theorem dX6_falseStep_87 : decode cX6_falseStep 87 = .ok (.iconst 1, 1) := dk_4 (dk_at dksX6_falseStep_3 17 rfl rfl)
theorem dX6_falseStep_88 : decode cX6_falseStep 88 = .ok (.invokevirtual 287, 3) := dk_182 1 31 (dk_at dksX6_falseStep_3 18 rfl rfl)
theorem dX6_falseStep_91 : decode cX6_falseStep 91 = .ok (.ifCond .eq 23, 3) := dk_153 0 23 (dk_at dksX6_falseStep_3 21 rfl rfl)
theorem dX6_falseStep_94 : decode cX6_falseStep 94 = .ok (.aload_n 0, 1) := dk_42 (dk_at dksX6_falseStep_4 0 rfl rfl)
theorem dX6_falseStep_95 : decode cX6_falseStep 95 = .ok (.iload_n 1, 1) := dk_27 (dk_at dksX6_falseStep_4 1 rfl rfl)
theorem dX6_falseStep_96 : decode cX6_falseStep 96 = .ok (.iload_n 2, 1) := dk_28 (dk_at dksX6_falseStep_4 2 rfl rfl)
theorem dX6_falseStep_97 : decode cX6_falseStep 97 = .ok (.aload_n 0, 1) := dk_42 (dk_at dksX6_falseStep_4 3 rfl rfl)
theorem dX6_falseStep_98 : decode cX6_falseStep 98 = .ok (.getfield 98, 3) := dk_180 0 98 (dk_at dksX6_falseStep_4 4 rfl rfl)
theorem dX6_falseStep_101 : decode cX6_falseStep 101 = .ok (.iload_n 3, 1) := dk_29 (dk_at dksX6_falseStep_4 7 rfl rfl)
theorem dX6_falseStep_102 : decode cX6_falseStep 102 = .ok (.iaload, 1) := dk_46 (dk_at dksX6_falseStep_4 8 rfl rfl)
theorem dX6_falseStep_103 : decode cX6_falseStep 103 = .ok (.iconst 1, 1) := dk_4 (dk_at dksX6_falseStep_4 9 rfl rfl)
theorem dX6_falseStep_104 : decode cX6_falseStep 104 = .ok (.invokevirtual 287, 3) := dk_182 1 31 (dk_at dksX6_falseStep_4 10 rfl rfl)
theorem dX6_falseStep_107 : decode cX6_falseStep 107 = .ok (.ifCond .eq 7, 3) := dk_153 0 7 (dk_at dksX6_falseStep_4 13 rfl rfl)
theorem dX6_falseStep_110 : decode cX6_falseStep 110 = .ok (.iconst 1, 1) := dk_4 (dk_at dksX6_falseStep_4 16 rfl rfl)
theorem dX6_falseStep_111 : decode cX6_falseStep 111 = .ok (.goto 4, 3) := dk_167 0 4 (dk_at dksX6_falseStep_4 17 rfl rfl)
theorem dX6_falseStep_114 : decode cX6_falseStep 114 = .ok (.iconst 0, 1) := dk_3 (dk_at dksX6_falseStep_4 20 rfl rfl)
theorem dX6_falseStep_115 : decode cX6_falseStep 115 = .ok (.istore 4, 2) := dk_54 4 (dk_at dksX6_falseStep_4 21 rfl rfl)
theorem dX6_falseStep_117 : decode cX6_falseStep 117 = .ok (.iload 4, 2) := dk_21 4 (dk_at dksX6_falseStep_5 0 rfl rfl)
theorem dX6_falseStep_119 : decode cX6_falseStep 119 = .ok (.ifCond .eq 40, 3) := dk_153 0 40 (dk_at dksX6_falseStep_5 2 rfl rfl)
theorem dX6_falseStep_122 : decode cX6_falseStep 122 = .ok (.aload_n 0, 1) := dk_42 (dk_at dksX6_falseStep_5 5 rfl rfl)
theorem dX6_falseStep_123 : decode cX6_falseStep 123 = .ok (.iload_n 1, 1) := dk_27 (dk_at dksX6_falseStep_5 6 rfl rfl)
theorem dX6_falseStep_124 : decode cX6_falseStep 124 = .ok (.iload_n 2, 1) := dk_28 (dk_at dksX6_falseStep_5 7 rfl rfl)
theorem dX6_falseStep_125 : decode cX6_falseStep 125 = .ok (.aload_n 0, 1) := dk_42 (dk_at dksX6_falseStep_5 8 rfl rfl)
theorem dX6_falseStep_126 : decode cX6_falseStep 126 = .ok (.getfield 98, 3) := dk_180 0 98 (dk_at dksX6_falseStep_5 9 rfl rfl)
theorem dX6_falseStep_129 : decode cX6_falseStep 129 = .ok (.iload_n 3, 1) := dk_29 (dk_at dksX6_falseStep_5 12 rfl rfl)
theorem dX6_falseStep_130 : decode cX6_falseStep 130 = .ok (.iconst 1, 1) := dk_4 (dk_at dksX6_falseStep_5 13 rfl rfl)
theorem dX6_falseStep_131 : decode cX6_falseStep 131 = .ok (.isub, 1) := dk_100 (dk_at dksX6_falseStep_5 14 rfl rfl)
theorem dX6_falseStep_132 : decode cX6_falseStep 132 = .ok (.iaload, 1) := dk_46 (dk_at dksX6_falseStep_5 15 rfl rfl)
theorem dX6_falseStep_133 : decode cX6_falseStep 133 = .ok (.iconst 1, 1) := dk_4 (dk_at dksX6_falseStep_5 16 rfl rfl)
theorem dX6_falseStep_134 : decode cX6_falseStep 134 = .ok (.invokevirtual 291, 3) := dk_182 1 35 (dk_at dksX6_falseStep_5 17 rfl rfl)
theorem dX6_falseStep_137 : decode cX6_falseStep 137 = .ok (.bipush 7, 2) := dk_16 7 (dk_at dksX6_falseStep_5 20 rfl rfl)
theorem dX6_falseStep_139 : decode cX6_falseStep 139 = .ok (.irem, 1) := dk_112 (dk_at dksX6_falseStep_5 22 rfl rfl)
theorem dX6_falseStep_140 : decode cX6_falseStep 140 = .ok (.aload_n 0, 1) := dk_42 (dk_at dksX6_falseStep_5 23 rfl rfl)
theorem dX6_falseStep_141 : decode cX6_falseStep 141 = .ok (.iload_n 1, 1) := dk_27 (dk_at dksX6_falseStep_6 0 rfl rfl)
theorem dX6_falseStep_142 : decode cX6_falseStep 142 = .ok (.iload_n 2, 1) := dk_28 (dk_at dksX6_falseStep_6 1 rfl rfl)
theorem dX6_falseStep_143 : decode cX6_falseStep 143 = .ok (.aload_n 0, 1) := dk_42 (dk_at dksX6_falseStep_6 2 rfl rfl)
theorem dX6_falseStep_144 : decode cX6_falseStep 144 = .ok (.getfield 98, 3) := dk_180 0 98 (dk_at dksX6_falseStep_6 3 rfl rfl)
theorem dX6_falseStep_147 : decode cX6_falseStep 147 = .ok (.iload_n 3, 1) := dk_29 (dk_at dksX6_falseStep_6 6 rfl rfl)
theorem dX6_falseStep_148 : decode cX6_falseStep 148 = .ok (.iaload, 1) := dk_46 (dk_at dksX6_falseStep_6 7 rfl rfl)
theorem dX6_falseStep_149 : decode cX6_falseStep 149 = .ok (.iconst 1, 1) := dk_4 (dk_at dksX6_falseStep_6 8 rfl rfl)
theorem dX6_falseStep_150 : decode cX6_falseStep 150 = .ok (.invokevirtual 291, 3) := dk_182 1 35 (dk_at dksX6_falseStep_6 9 rfl rfl)
theorem dX6_falseStep_153 : decode cX6_falseStep 153 = .ok (.bipush 7, 2) := dk_16 7 (dk_at dksX6_falseStep_6 12 rfl rfl)
theorem dX6_falseStep_155 : decode cX6_falseStep 155 = .ok (.irem, 1) := dk_112 (dk_at dksX6_falseStep_6 14 rfl rfl)
theorem dX6_falseStep_156 : decode cX6_falseStep 156 = .ok (.if_icmp .eq 12, 3) := dk_159 0 12 (dk_at dksX6_falseStep_6 15 rfl rfl)
theorem dX6_falseStep_159 : decode cX6_falseStep 159 = .ok (.aload_n 0, 1) := dk_42 (dk_at dksX6_falseStep_6 18 rfl rfl)
theorem dX6_falseStep_160 : decode cX6_falseStep 160 = .ok (.getfield 332, 3) := dk_180 1 76 (dk_at dksX6_falseStep_6 19 rfl rfl)
theorem dX6_falseStep_163 : decode cX6_falseStep 163 = .ok (.iload_n 3, 1) := dk_29 (dk_at dksX6_falseStep_6 22 rfl rfl)
theorem dX6_falseStep_164 : decode cX6_falseStep 164 = .ok (.iadd, 1) := dk_96 (dk_at dksX6_falseStep_6 23 rfl rfl)
theorem dX6_falseStep_165 : decode cX6_falseStep 165 = .ok (.iconst 2, 1) := dk_5 (dk_at dksX6_falseStep_7 0 rfl rfl)
theorem dX6_falseStep_166 : decode cX6_falseStep 166 = .ok (.isub, 1) := dk_100 (dk_at dksX6_falseStep_7 1 rfl rfl)
theorem dX6_falseStep_167 : decode cX6_falseStep 167 = .ok (.ireturn, 1) := dk_172 (dk_at dksX6_falseStep_7 2 rfl rfl)
theorem dX6_falseStep_168 : decode cX6_falseStep 168 = .ok (.iinc 3 1, 3) := dk_132 3 1 (dk_at dksX6_falseStep_7 3 rfl rfl)
theorem dX6_falseStep_171 : decode cX6_falseStep 171 = .ok (.goto (-103), 3) := dk_167 255 153 (dk_at dksX6_falseStep_7 6 rfl rfl)
theorem dX6_falseStep_174 : decode cX6_falseStep 174 = .ok (.iconst (-1), 1) := dk_2 (dk_at dksX6_falseStep_7 9 rfl rfl)
theorem dX6_falseStep_175 : decode cX6_falseStep 175 = .ok (.ireturn, 1) := dk_172 (dk_at dksX6_falseStep_7 10 rfl rfl)
abbrev cX6_ask : ByteArray := prog_16_method_58_code
def yX6_ask : MethodName := ⟨RX6, "ask", "(IIIIIII)I"⟩
def dkwX6_ask_7 : List UInt8 := [180, 1, 110, 4, 96, 181, 1, 110, 42, 180, 1, 110, 4, 100, 172]
abbrev dktX6_ask_7 : List UInt8 := dkwX6_ask_7 ++ []
def dkwX6_ask_6 : List UInt8 := [42, 180, 0, 116, 42, 180, 1, 110, 21, 6, 79, 42, 180, 0, 119, 42, 180, 1, 110, 21, 7, 79, 42, 89]
abbrev dktX6_ask_6 : List UInt8 := dkwX6_ask_6 ++ dktX6_ask_7
def dkwX6_ask_5 : List UInt8 := [29, 79, 42, 180, 0, 110, 42, 180, 1, 110, 21, 4, 79, 42, 180, 0, 113, 42, 180, 1, 110, 21, 5, 79]
abbrev dktX6_ask_5 : List UInt8 := dkwX6_ask_5 ++ dktX6_ask_6
def dkwX6_ask_4 : List UInt8 := [42, 180, 1, 110, 27, 79, 42, 180, 0, 104, 42, 180, 1, 110, 28, 79, 42, 180, 0, 107, 42, 180, 1, 110]
abbrev dktX6_ask_4 : List UInt8 := dkwX6_ask_4 ++ dktX6_ask_5
def dkwX6_ask_3 : List UInt8 := [17, 39, 15, 184, 0, 186, 153, 0, 12, 42, 180, 1, 110, 16, 60, 160, 0, 5, 2, 172, 42, 180, 0, 101]
abbrev dktX6_ask_3 : List UInt8 := dkwX6_ask_3 ++ dktX6_ask_4
def dkwX6_ask_2 : List UInt8 := [21, 5, 182, 1, 31, 153, 0, 35, 21, 6, 3, 16, 6, 184, 0, 186, 153, 0, 24, 21, 7, 3]
abbrev dktX6_ask_2 : List UInt8 := dkwX6_ask_2 ++ dktX6_ask_3
def dkwX6_ask_1 : List UInt8 := [163, 0, 18, 27, 42, 180, 0, 101, 42, 180, 1, 110, 4, 100, 46, 161, 0, 48, 42, 28, 29, 21, 4]
abbrev dktX6_ask_1 : List UInt8 := dkwX6_ask_1 ++ dktX6_ask_2
def dkwX6_ask_0 : List UInt8 := [27, 3, 17, 3, 231, 184, 0, 186, 153, 0, 79, 42, 180, 1, 110, 158, 0, 27, 42, 180, 1, 110, 16, 60]
abbrev dktX6_ask_0 : List UInt8 := dkwX6_ask_0 ++ dktX6_ask_1
theorem dksX6_ask_0 : cX6_ask.data.toList.drop 0 = dktX6_ask_0 := by decide +kernel
theorem dksX6_ask_1 : cX6_ask.data.toList.drop 24 = dktX6_ask_1 := dk_seg dksX6_ask_0 24 rfl rfl
theorem dksX6_ask_2 : cX6_ask.data.toList.drop 47 = dktX6_ask_2 := dk_seg dksX6_ask_1 23 rfl rfl
theorem dksX6_ask_3 : cX6_ask.data.toList.drop 69 = dktX6_ask_3 := dk_seg dksX6_ask_2 22 rfl rfl
theorem dksX6_ask_4 : cX6_ask.data.toList.drop 93 = dktX6_ask_4 := dk_seg dksX6_ask_3 24 rfl rfl
theorem dksX6_ask_5 : cX6_ask.data.toList.drop 117 = dktX6_ask_5 := dk_seg dksX6_ask_4 24 rfl rfl
theorem dksX6_ask_6 : cX6_ask.data.toList.drop 141 = dktX6_ask_6 := dk_seg dksX6_ask_5 24 rfl rfl
theorem dksX6_ask_7 : cX6_ask.data.toList.drop 165 = dktX6_ask_7 := dk_seg dksX6_ask_6 24 rfl rfl
theorem dX6_ask_0 : decode cX6_ask 0 = .ok (.iload_n 1, 1) := dk_27 (dk_at dksX6_ask_0 0 rfl rfl)
theorem dX6_ask_1 : decode cX6_ask 1 = .ok (.iconst 0, 1) := dk_3 (dk_at dksX6_ask_0 1 rfl rfl)
theorem dX6_ask_2 : decode cX6_ask 2 = .ok (.sipush 999, 3) := dk_17 3 231 (dk_at dksX6_ask_0 2 rfl rfl)
theorem dX6_ask_5 : decode cX6_ask 5 = .ok (.invokestatic 186, 3) := dk_184 0 186 (dk_at dksX6_ask_0 5 rfl rfl)
theorem dX6_ask_8 : decode cX6_ask 8 = .ok (.ifCond .eq 79, 3) := dk_153 0 79 (dk_at dksX6_ask_0 8 rfl rfl)
theorem dX6_ask_11 : decode cX6_ask 11 = .ok (.aload_n 0, 1) := dk_42 (dk_at dksX6_ask_0 11 rfl rfl)
theorem dX6_ask_12 : decode cX6_ask 12 = .ok (.getfield 366, 3) := dk_180 1 110 (dk_at dksX6_ask_0 12 rfl rfl)
theorem dX6_ask_15 : decode cX6_ask 15 = .ok (.ifCond .le 27, 3) := dk_158 0 27 (dk_at dksX6_ask_0 15 rfl rfl)
theorem dX6_ask_18 : decode cX6_ask 18 = .ok (.aload_n 0, 1) := dk_42 (dk_at dksX6_ask_0 18 rfl rfl)
theorem dX6_ask_19 : decode cX6_ask 19 = .ok (.getfield 366, 3) := dk_180 1 110 (dk_at dksX6_ask_0 19 rfl rfl)
theorem dX6_ask_22 : decode cX6_ask 22 = .ok (.bipush 60, 2) := dk_16 60 (dk_at dksX6_ask_0 22 rfl rfl)
theorem dX6_ask_24 : decode cX6_ask 24 = .ok (.if_icmp .gt 18, 3) := dk_163 0 18 (dk_at dksX6_ask_1 0 rfl rfl)
theorem dX6_ask_27 : decode cX6_ask 27 = .ok (.iload_n 1, 1) := dk_27 (dk_at dksX6_ask_1 3 rfl rfl)
theorem dX6_ask_28 : decode cX6_ask 28 = .ok (.aload_n 0, 1) := dk_42 (dk_at dksX6_ask_1 4 rfl rfl)
theorem dX6_ask_29 : decode cX6_ask 29 = .ok (.getfield 101, 3) := dk_180 0 101 (dk_at dksX6_ask_1 5 rfl rfl)
theorem dX6_ask_32 : decode cX6_ask 32 = .ok (.aload_n 0, 1) := dk_42 (dk_at dksX6_ask_1 8 rfl rfl)
theorem dX6_ask_33 : decode cX6_ask 33 = .ok (.getfield 366, 3) := dk_180 1 110 (dk_at dksX6_ask_1 9 rfl rfl)
theorem dX6_ask_36 : decode cX6_ask 36 = .ok (.iconst 1, 1) := dk_4 (dk_at dksX6_ask_1 12 rfl rfl)
theorem dX6_ask_37 : decode cX6_ask 37 = .ok (.isub, 1) := dk_100 (dk_at dksX6_ask_1 13 rfl rfl)
theorem dX6_ask_38 : decode cX6_ask 38 = .ok (.iaload, 1) := dk_46 (dk_at dksX6_ask_1 14 rfl rfl)
theorem dX6_ask_39 : decode cX6_ask 39 = .ok (.if_icmp .lt 48, 3) := dk_161 0 48 (dk_at dksX6_ask_1 15 rfl rfl)
theorem dX6_ask_42 : decode cX6_ask 42 = .ok (.aload_n 0, 1) := dk_42 (dk_at dksX6_ask_1 18 rfl rfl)
theorem dX6_ask_43 : decode cX6_ask 43 = .ok (.iload_n 2, 1) := dk_28 (dk_at dksX6_ask_1 19 rfl rfl)
theorem dX6_ask_44 : decode cX6_ask 44 = .ok (.iload_n 3, 1) := dk_29 (dk_at dksX6_ask_1 20 rfl rfl)
theorem dX6_ask_45 : decode cX6_ask 45 = .ok (.iload 4, 2) := dk_21 4 (dk_at dksX6_ask_1 21 rfl rfl)
theorem dX6_ask_47 : decode cX6_ask 47 = .ok (.iload 5, 2) := dk_21 5 (dk_at dksX6_ask_2 0 rfl rfl)
theorem dX6_ask_49 : decode cX6_ask 49 = .ok (.invokevirtual 287, 3) := dk_182 1 31 (dk_at dksX6_ask_2 2 rfl rfl)
theorem dX6_ask_52 : decode cX6_ask 52 = .ok (.ifCond .eq 35, 3) := dk_153 0 35 (dk_at dksX6_ask_2 5 rfl rfl)
theorem dX6_ask_55 : decode cX6_ask 55 = .ok (.iload 6, 2) := dk_21 6 (dk_at dksX6_ask_2 8 rfl rfl)
theorem dX6_ask_57 : decode cX6_ask 57 = .ok (.iconst 0, 1) := dk_3 (dk_at dksX6_ask_2 10 rfl rfl)
theorem dX6_ask_58 : decode cX6_ask 58 = .ok (.bipush 6, 2) := dk_16 6 (dk_at dksX6_ask_2 11 rfl rfl)
theorem dX6_ask_60 : decode cX6_ask 60 = .ok (.invokestatic 186, 3) := dk_184 0 186 (dk_at dksX6_ask_2 13 rfl rfl)
theorem dX6_ask_63 : decode cX6_ask 63 = .ok (.ifCond .eq 24, 3) := dk_153 0 24 (dk_at dksX6_ask_2 16 rfl rfl)
theorem dX6_ask_66 : decode cX6_ask 66 = .ok (.iload 7, 2) := dk_21 7 (dk_at dksX6_ask_2 19 rfl rfl)
theorem dX6_ask_68 : decode cX6_ask 68 = .ok (.iconst 0, 1) := dk_3 (dk_at dksX6_ask_2 21 rfl rfl)
theorem dX6_ask_69 : decode cX6_ask 69 = .ok (.sipush 9999, 3) := dk_17 39 15 (dk_at dksX6_ask_3 0 rfl rfl)
theorem dX6_ask_72 : decode cX6_ask 72 = .ok (.invokestatic 186, 3) := dk_184 0 186 (dk_at dksX6_ask_3 3 rfl rfl)
theorem dX6_ask_75 : decode cX6_ask 75 = .ok (.ifCond .eq 12, 3) := dk_153 0 12 (dk_at dksX6_ask_3 6 rfl rfl)
theorem dX6_ask_78 : decode cX6_ask 78 = .ok (.aload_n 0, 1) := dk_42 (dk_at dksX6_ask_3 9 rfl rfl)
theorem dX6_ask_79 : decode cX6_ask 79 = .ok (.getfield 366, 3) := dk_180 1 110 (dk_at dksX6_ask_3 10 rfl rfl)
theorem dX6_ask_82 : decode cX6_ask 82 = .ok (.bipush 60, 2) := dk_16 60 (dk_at dksX6_ask_3 13 rfl rfl)
theorem dX6_ask_84 : decode cX6_ask 84 = .ok (.if_icmp .ne 5, 3) := dk_160 0 5 (dk_at dksX6_ask_3 15 rfl rfl)
theorem dX6_ask_87 : decode cX6_ask 87 = .ok (.iconst (-1), 1) := dk_2 (dk_at dksX6_ask_3 18 rfl rfl)
theorem dX6_ask_88 : decode cX6_ask 88 = .ok (.ireturn, 1) := dk_172 (dk_at dksX6_ask_3 19 rfl rfl)
theorem dX6_ask_89 : decode cX6_ask 89 = .ok (.aload_n 0, 1) := dk_42 (dk_at dksX6_ask_3 20 rfl rfl)
theorem dX6_ask_90 : decode cX6_ask 90 = .ok (.getfield 101, 3) := dk_180 0 101 (dk_at dksX6_ask_3 21 rfl rfl)
theorem dX6_ask_93 : decode cX6_ask 93 = .ok (.aload_n 0, 1) := dk_42 (dk_at dksX6_ask_4 0 rfl rfl)
theorem dX6_ask_94 : decode cX6_ask 94 = .ok (.getfield 366, 3) := dk_180 1 110 (dk_at dksX6_ask_4 1 rfl rfl)
theorem dX6_ask_97 : decode cX6_ask 97 = .ok (.iload_n 1, 1) := dk_27 (dk_at dksX6_ask_4 4 rfl rfl)
theorem dX6_ask_98 : decode cX6_ask 98 = .ok (.iastore, 1) := dk_79 (dk_at dksX6_ask_4 5 rfl rfl)
theorem dX6_ask_99 : decode cX6_ask 99 = .ok (.aload_n 0, 1) := dk_42 (dk_at dksX6_ask_4 6 rfl rfl)
theorem dX6_ask_100 : decode cX6_ask 100 = .ok (.getfield 104, 3) := dk_180 0 104 (dk_at dksX6_ask_4 7 rfl rfl)
theorem dX6_ask_103 : decode cX6_ask 103 = .ok (.aload_n 0, 1) := dk_42 (dk_at dksX6_ask_4 10 rfl rfl)
theorem dX6_ask_104 : decode cX6_ask 104 = .ok (.getfield 366, 3) := dk_180 1 110 (dk_at dksX6_ask_4 11 rfl rfl)
theorem dX6_ask_107 : decode cX6_ask 107 = .ok (.iload_n 2, 1) := dk_28 (dk_at dksX6_ask_4 14 rfl rfl)
theorem dX6_ask_108 : decode cX6_ask 108 = .ok (.iastore, 1) := dk_79 (dk_at dksX6_ask_4 15 rfl rfl)
theorem dX6_ask_109 : decode cX6_ask 109 = .ok (.aload_n 0, 1) := dk_42 (dk_at dksX6_ask_4 16 rfl rfl)
theorem dX6_ask_110 : decode cX6_ask 110 = .ok (.getfield 107, 3) := dk_180 0 107 (dk_at dksX6_ask_4 17 rfl rfl)
theorem dX6_ask_113 : decode cX6_ask 113 = .ok (.aload_n 0, 1) := dk_42 (dk_at dksX6_ask_4 20 rfl rfl)
theorem dX6_ask_114 : decode cX6_ask 114 = .ok (.getfield 366, 3) := dk_180 1 110 (dk_at dksX6_ask_4 21 rfl rfl)
theorem dX6_ask_117 : decode cX6_ask 117 = .ok (.iload_n 3, 1) := dk_29 (dk_at dksX6_ask_5 0 rfl rfl)
theorem dX6_ask_118 : decode cX6_ask 118 = .ok (.iastore, 1) := dk_79 (dk_at dksX6_ask_5 1 rfl rfl)
theorem dX6_ask_119 : decode cX6_ask 119 = .ok (.aload_n 0, 1) := dk_42 (dk_at dksX6_ask_5 2 rfl rfl)
theorem dX6_ask_120 : decode cX6_ask 120 = .ok (.getfield 110, 3) := dk_180 0 110 (dk_at dksX6_ask_5 3 rfl rfl)
theorem dX6_ask_123 : decode cX6_ask 123 = .ok (.aload_n 0, 1) := dk_42 (dk_at dksX6_ask_5 6 rfl rfl)
theorem dX6_ask_124 : decode cX6_ask 124 = .ok (.getfield 366, 3) := dk_180 1 110 (dk_at dksX6_ask_5 7 rfl rfl)
theorem dX6_ask_127 : decode cX6_ask 127 = .ok (.iload 4, 2) := dk_21 4 (dk_at dksX6_ask_5 10 rfl rfl)
theorem dX6_ask_129 : decode cX6_ask 129 = .ok (.iastore, 1) := dk_79 (dk_at dksX6_ask_5 12 rfl rfl)
theorem dX6_ask_130 : decode cX6_ask 130 = .ok (.aload_n 0, 1) := dk_42 (dk_at dksX6_ask_5 13 rfl rfl)
theorem dX6_ask_131 : decode cX6_ask 131 = .ok (.getfield 113, 3) := dk_180 0 113 (dk_at dksX6_ask_5 14 rfl rfl)
theorem dX6_ask_134 : decode cX6_ask 134 = .ok (.aload_n 0, 1) := dk_42 (dk_at dksX6_ask_5 17 rfl rfl)
theorem dX6_ask_135 : decode cX6_ask 135 = .ok (.getfield 366, 3) := dk_180 1 110 (dk_at dksX6_ask_5 18 rfl rfl)
theorem dX6_ask_138 : decode cX6_ask 138 = .ok (.iload 5, 2) := dk_21 5 (dk_at dksX6_ask_5 21 rfl rfl)
theorem dX6_ask_140 : decode cX6_ask 140 = .ok (.iastore, 1) := dk_79 (dk_at dksX6_ask_5 23 rfl rfl)
theorem dX6_ask_141 : decode cX6_ask 141 = .ok (.aload_n 0, 1) := dk_42 (dk_at dksX6_ask_6 0 rfl rfl)
theorem dX6_ask_142 : decode cX6_ask 142 = .ok (.getfield 116, 3) := dk_180 0 116 (dk_at dksX6_ask_6 1 rfl rfl)
theorem dX6_ask_145 : decode cX6_ask 145 = .ok (.aload_n 0, 1) := dk_42 (dk_at dksX6_ask_6 4 rfl rfl)
theorem dX6_ask_146 : decode cX6_ask 146 = .ok (.getfield 366, 3) := dk_180 1 110 (dk_at dksX6_ask_6 5 rfl rfl)
theorem dX6_ask_149 : decode cX6_ask 149 = .ok (.iload 6, 2) := dk_21 6 (dk_at dksX6_ask_6 8 rfl rfl)
theorem dX6_ask_151 : decode cX6_ask 151 = .ok (.iastore, 1) := dk_79 (dk_at dksX6_ask_6 10 rfl rfl)
theorem dX6_ask_152 : decode cX6_ask 152 = .ok (.aload_n 0, 1) := dk_42 (dk_at dksX6_ask_6 11 rfl rfl)
theorem dX6_ask_153 : decode cX6_ask 153 = .ok (.getfield 119, 3) := dk_180 0 119 (dk_at dksX6_ask_6 12 rfl rfl)
theorem dX6_ask_156 : decode cX6_ask 156 = .ok (.aload_n 0, 1) := dk_42 (dk_at dksX6_ask_6 15 rfl rfl)
theorem dX6_ask_157 : decode cX6_ask 157 = .ok (.getfield 366, 3) := dk_180 1 110 (dk_at dksX6_ask_6 16 rfl rfl)
theorem dX6_ask_160 : decode cX6_ask 160 = .ok (.iload 7, 2) := dk_21 7 (dk_at dksX6_ask_6 19 rfl rfl)
theorem dX6_ask_162 : decode cX6_ask 162 = .ok (.iastore, 1) := dk_79 (dk_at dksX6_ask_6 21 rfl rfl)
theorem dX6_ask_163 : decode cX6_ask 163 = .ok (.aload_n 0, 1) := dk_42 (dk_at dksX6_ask_6 22 rfl rfl)
theorem dX6_ask_164 : decode cX6_ask 164 = .ok (.dup, 1) := dk_89 (dk_at dksX6_ask_6 23 rfl rfl)
theorem dX6_ask_165 : decode cX6_ask 165 = .ok (.getfield 366, 3) := dk_180 1 110 (dk_at dksX6_ask_7 0 rfl rfl)
theorem dX6_ask_168 : decode cX6_ask 168 = .ok (.iconst 1, 1) := dk_4 (dk_at dksX6_ask_7 3 rfl rfl)
theorem dX6_ask_169 : decode cX6_ask 169 = .ok (.iadd, 1) := dk_96 (dk_at dksX6_ask_7 4 rfl rfl)
theorem dX6_ask_170 : decode cX6_ask 170 = .ok (.putfield 366, 3) := dk_181 1 110 (dk_at dksX6_ask_7 5 rfl rfl)
theorem dX6_ask_173 : decode cX6_ask 173 = .ok (.aload_n 0, 1) := dk_42 (dk_at dksX6_ask_7 8 rfl rfl)
theorem dX6_ask_174 : decode cX6_ask 174 = .ok (.getfield 366, 3) := dk_180 1 110 (dk_at dksX6_ask_7 9 rfl rfl)
theorem dX6_ask_177 : decode cX6_ask 177 = .ok (.iconst 1, 1) := dk_4 (dk_at dksX6_ask_7 12 rfl rfl)
theorem dX6_ask_178 : decode cX6_ask 178 = .ok (.isub, 1) := dk_100 (dk_at dksX6_ask_7 13 rfl rfl)
theorem dX6_ask_179 : decode cX6_ask 179 = .ok (.ireturn, 1) := dk_172 (dk_at dksX6_ask_7 14 rfl rfl)
abbrev cX6_asked : ByteArray := prog_16_method_60_code
def yX6_asked : MethodName := ⟨RX6, "asked", "(II)I"⟩
def dkwX6_asked_5 : List UInt8 := [184, 1, 104, 172]
abbrev dktX6_asked_5 : List UInt8 := dkwX6_asked_5 ++ []
def dkwX6_asked_4 : List UInt8 := [27, 46, 172, 42, 180, 0, 119, 27, 46, 172, 42, 180, 0, 116, 27, 46, 42, 27, 182, 1, 113, 100]
abbrev dktX6_asked_4 : List UInt8 := dkwX6_asked_4 ++ dktX6_asked_5
def dkwX6_asked_3 : List UInt8 := [42, 180, 0, 101, 27, 46, 172, 42, 180, 0, 104, 27, 46, 172, 42, 27, 182, 1, 113, 172, 42, 180, 0, 116]
abbrev dktX6_asked_3 : List UInt8 := dkwX6_asked_3 ++ dktX6_asked_4
def dkwX6_asked_2 : List UInt8 := [170, 0, 0, 0, 0, 0, 0, 70, 0, 0, 0, 0, 0, 0, 0, 4, 0, 0, 0, 36, 0, 0, 0, 43, 0, 0, 0, 50, 0, 0, 0, 56, 0, 0, 0, 63]
abbrev dktX6_asked_2 : List UInt8 := dkwX6_asked_2 ++ dktX6_asked_3
def dkwX6_asked_1 : List UInt8 := [17, 252, 24, 172, 28]
abbrev dktX6_asked_1 : List UInt8 := dkwX6_asked_1 ++ dktX6_asked_2
def dkwX6_asked_0 : List UInt8 := [27, 3, 42, 180, 1, 110, 4, 100, 184, 0, 186, 153, 0, 12, 28, 3, 8, 184, 0, 186, 154, 0, 7]
abbrev dktX6_asked_0 : List UInt8 := dkwX6_asked_0 ++ dktX6_asked_1
theorem dksX6_asked_0 : cX6_asked.data.toList.drop 0 = dktX6_asked_0 := by decide +kernel
theorem dksX6_asked_1 : cX6_asked.data.toList.drop 23 = dktX6_asked_1 := dk_seg dksX6_asked_0 23 rfl rfl
theorem dksX6_asked_2 : cX6_asked.data.toList.drop 28 = dktX6_asked_2 := dk_seg dksX6_asked_1 5 rfl rfl
theorem dksX6_asked_3 : cX6_asked.data.toList.drop 64 = dktX6_asked_3 := dk_seg dksX6_asked_2 36 rfl rfl
theorem dksX6_asked_4 : cX6_asked.data.toList.drop 88 = dktX6_asked_4 := dk_seg dksX6_asked_3 24 rfl rfl
theorem dksX6_asked_5 : cX6_asked.data.toList.drop 110 = dktX6_asked_5 := dk_seg dksX6_asked_4 22 rfl rfl
theorem dX6_asked_0 : decode cX6_asked 0 = .ok (.iload_n 1, 1) := dk_27 (dk_at dksX6_asked_0 0 rfl rfl)
theorem dX6_asked_1 : decode cX6_asked 1 = .ok (.iconst 0, 1) := dk_3 (dk_at dksX6_asked_0 1 rfl rfl)
theorem dX6_asked_2 : decode cX6_asked 2 = .ok (.aload_n 0, 1) := dk_42 (dk_at dksX6_asked_0 2 rfl rfl)
theorem dX6_asked_3 : decode cX6_asked 3 = .ok (.getfield 366, 3) := dk_180 1 110 (dk_at dksX6_asked_0 3 rfl rfl)
theorem dX6_asked_6 : decode cX6_asked 6 = .ok (.iconst 1, 1) := dk_4 (dk_at dksX6_asked_0 6 rfl rfl)
theorem dX6_asked_7 : decode cX6_asked 7 = .ok (.isub, 1) := dk_100 (dk_at dksX6_asked_0 7 rfl rfl)
theorem dX6_asked_8 : decode cX6_asked 8 = .ok (.invokestatic 186, 3) := dk_184 0 186 (dk_at dksX6_asked_0 8 rfl rfl)
theorem dX6_asked_11 : decode cX6_asked 11 = .ok (.ifCond .eq 12, 3) := dk_153 0 12 (dk_at dksX6_asked_0 11 rfl rfl)
theorem dX6_asked_14 : decode cX6_asked 14 = .ok (.iload_n 2, 1) := dk_28 (dk_at dksX6_asked_0 14 rfl rfl)
theorem dX6_asked_15 : decode cX6_asked 15 = .ok (.iconst 0, 1) := dk_3 (dk_at dksX6_asked_0 15 rfl rfl)
theorem dX6_asked_16 : decode cX6_asked 16 = .ok (.iconst 5, 1) := dk_8 (dk_at dksX6_asked_0 16 rfl rfl)
theorem dX6_asked_17 : decode cX6_asked 17 = .ok (.invokestatic 186, 3) := dk_184 0 186 (dk_at dksX6_asked_0 17 rfl rfl)
theorem dX6_asked_20 : decode cX6_asked 20 = .ok (.ifCond .ne 7, 3) := dk_154 0 7 (dk_at dksX6_asked_0 20 rfl rfl)
theorem dX6_asked_23 : decode cX6_asked 23 = .ok (.sipush (-1000), 3) := dk_17 252 24 (dk_at dksX6_asked_1 0 rfl rfl)
theorem dX6_asked_26 : decode cX6_asked 26 = .ok (.ireturn, 1) := dk_172 (dk_at dksX6_asked_1 3 rfl rfl)
theorem dX6_asked_27 : decode cX6_asked 27 = .ok (.iload_n 2, 1) := dk_28 (dk_at dksX6_asked_1 4 rfl rfl)
theorem dX6_asked_28 : decode cX6_asked 28 = .ok (.tableswitch 70 0 4 #[36, 43, 50, 56, 63], 36) := by decide +kernel
theorem dX6_asked_64 : decode cX6_asked 64 = .ok (.aload_n 0, 1) := dk_42 (dk_at dksX6_asked_3 0 rfl rfl)
theorem dX6_asked_65 : decode cX6_asked 65 = .ok (.getfield 101, 3) := dk_180 0 101 (dk_at dksX6_asked_3 1 rfl rfl)
theorem dX6_asked_68 : decode cX6_asked 68 = .ok (.iload_n 1, 1) := dk_27 (dk_at dksX6_asked_3 4 rfl rfl)
theorem dX6_asked_69 : decode cX6_asked 69 = .ok (.iaload, 1) := dk_46 (dk_at dksX6_asked_3 5 rfl rfl)
theorem dX6_asked_70 : decode cX6_asked 70 = .ok (.ireturn, 1) := dk_172 (dk_at dksX6_asked_3 6 rfl rfl)
theorem dX6_asked_71 : decode cX6_asked 71 = .ok (.aload_n 0, 1) := dk_42 (dk_at dksX6_asked_3 7 rfl rfl)
theorem dX6_asked_72 : decode cX6_asked 72 = .ok (.getfield 104, 3) := dk_180 0 104 (dk_at dksX6_asked_3 8 rfl rfl)
theorem dX6_asked_75 : decode cX6_asked 75 = .ok (.iload_n 1, 1) := dk_27 (dk_at dksX6_asked_3 11 rfl rfl)
theorem dX6_asked_76 : decode cX6_asked 76 = .ok (.iaload, 1) := dk_46 (dk_at dksX6_asked_3 12 rfl rfl)
theorem dX6_asked_77 : decode cX6_asked 77 = .ok (.ireturn, 1) := dk_172 (dk_at dksX6_asked_3 13 rfl rfl)
theorem dX6_asked_78 : decode cX6_asked 78 = .ok (.aload_n 0, 1) := dk_42 (dk_at dksX6_asked_3 14 rfl rfl)
theorem dX6_asked_79 : decode cX6_asked 79 = .ok (.iload_n 1, 1) := dk_27 (dk_at dksX6_asked_3 15 rfl rfl)
theorem dX6_asked_80 : decode cX6_asked 80 = .ok (.invokevirtual 369, 3) := dk_182 1 113 (dk_at dksX6_asked_3 16 rfl rfl)
theorem dX6_asked_83 : decode cX6_asked 83 = .ok (.ireturn, 1) := dk_172 (dk_at dksX6_asked_3 19 rfl rfl)
theorem dX6_asked_84 : decode cX6_asked 84 = .ok (.aload_n 0, 1) := dk_42 (dk_at dksX6_asked_3 20 rfl rfl)
theorem dX6_asked_85 : decode cX6_asked 85 = .ok (.getfield 116, 3) := dk_180 0 116 (dk_at dksX6_asked_3 21 rfl rfl)
theorem dX6_asked_88 : decode cX6_asked 88 = .ok (.iload_n 1, 1) := dk_27 (dk_at dksX6_asked_4 0 rfl rfl)
theorem dX6_asked_89 : decode cX6_asked 89 = .ok (.iaload, 1) := dk_46 (dk_at dksX6_asked_4 1 rfl rfl)
theorem dX6_asked_90 : decode cX6_asked 90 = .ok (.ireturn, 1) := dk_172 (dk_at dksX6_asked_4 2 rfl rfl)
theorem dX6_asked_91 : decode cX6_asked 91 = .ok (.aload_n 0, 1) := dk_42 (dk_at dksX6_asked_4 3 rfl rfl)
theorem dX6_asked_92 : decode cX6_asked 92 = .ok (.getfield 119, 3) := dk_180 0 119 (dk_at dksX6_asked_4 4 rfl rfl)
theorem dX6_asked_95 : decode cX6_asked 95 = .ok (.iload_n 1, 1) := dk_27 (dk_at dksX6_asked_4 7 rfl rfl)
theorem dX6_asked_96 : decode cX6_asked 96 = .ok (.iaload, 1) := dk_46 (dk_at dksX6_asked_4 8 rfl rfl)
theorem dX6_asked_97 : decode cX6_asked 97 = .ok (.ireturn, 1) := dk_172 (dk_at dksX6_asked_4 9 rfl rfl)
theorem dX6_asked_98 : decode cX6_asked 98 = .ok (.aload_n 0, 1) := dk_42 (dk_at dksX6_asked_4 10 rfl rfl)
theorem dX6_asked_99 : decode cX6_asked 99 = .ok (.getfield 116, 3) := dk_180 0 116 (dk_at dksX6_asked_4 11 rfl rfl)
theorem dX6_asked_102 : decode cX6_asked 102 = .ok (.iload_n 1, 1) := dk_27 (dk_at dksX6_asked_4 14 rfl rfl)
theorem dX6_asked_103 : decode cX6_asked 103 = .ok (.iaload, 1) := dk_46 (dk_at dksX6_asked_4 15 rfl rfl)
theorem dX6_asked_104 : decode cX6_asked 104 = .ok (.aload_n 0, 1) := dk_42 (dk_at dksX6_asked_4 16 rfl rfl)
theorem dX6_asked_105 : decode cX6_asked 105 = .ok (.iload_n 1, 1) := dk_27 (dk_at dksX6_asked_4 17 rfl rfl)
theorem dX6_asked_106 : decode cX6_asked 106 = .ok (.invokevirtual 369, 3) := dk_182 1 113 (dk_at dksX6_asked_4 18 rfl rfl)
theorem dX6_asked_109 : decode cX6_asked 109 = .ok (.isub, 1) := dk_100 (dk_at dksX6_asked_4 21 rfl rfl)
theorem dX6_asked_110 : decode cX6_asked 110 = .ok (.invokestatic 360, 3) := dk_184 1 104 (dk_at dksX6_asked_5 0 rfl rfl)
theorem dX6_asked_113 : decode cX6_asked 113 = .ok (.ireturn, 1) := dk_172 (dk_at dksX6_asked_5 3 rfl rfl)
abbrev cX6_askDay : ByteArray := prog_16_method_59_code
def yX6_askDay : MethodName := ⟨RX6, "askDay", "(I)I"⟩
def dkwX6_askDay_1 : List UInt8 := [46, 182, 1, 35, 172]
abbrev dktX6_askDay_1 : List UInt8 := dkwX6_askDay_1 ++ []
def dkwX6_askDay_0 : List UInt8 := [42, 42, 180, 0, 104, 27, 46, 42, 180, 0, 107, 27, 46, 42, 180, 0, 110, 27, 46, 42, 180, 0, 113, 27]
abbrev dktX6_askDay_0 : List UInt8 := dkwX6_askDay_0 ++ dktX6_askDay_1
theorem dksX6_askDay_0 : cX6_askDay.data.toList.drop 0 = dktX6_askDay_0 := by decide +kernel
theorem dksX6_askDay_1 : cX6_askDay.data.toList.drop 24 = dktX6_askDay_1 := dk_seg dksX6_askDay_0 24 rfl rfl
theorem dX6_askDay_0 : decode cX6_askDay 0 = .ok (.aload_n 0, 1) := dk_42 (dk_at dksX6_askDay_0 0 rfl rfl)
theorem dX6_askDay_1 : decode cX6_askDay 1 = .ok (.aload_n 0, 1) := dk_42 (dk_at dksX6_askDay_0 1 rfl rfl)
theorem dX6_askDay_2 : decode cX6_askDay 2 = .ok (.getfield 104, 3) := dk_180 0 104 (dk_at dksX6_askDay_0 2 rfl rfl)
theorem dX6_askDay_5 : decode cX6_askDay 5 = .ok (.iload_n 1, 1) := dk_27 (dk_at dksX6_askDay_0 5 rfl rfl)
theorem dX6_askDay_6 : decode cX6_askDay 6 = .ok (.iaload, 1) := dk_46 (dk_at dksX6_askDay_0 6 rfl rfl)
theorem dX6_askDay_7 : decode cX6_askDay 7 = .ok (.aload_n 0, 1) := dk_42 (dk_at dksX6_askDay_0 7 rfl rfl)
theorem dX6_askDay_8 : decode cX6_askDay 8 = .ok (.getfield 107, 3) := dk_180 0 107 (dk_at dksX6_askDay_0 8 rfl rfl)
theorem dX6_askDay_11 : decode cX6_askDay 11 = .ok (.iload_n 1, 1) := dk_27 (dk_at dksX6_askDay_0 11 rfl rfl)
theorem dX6_askDay_12 : decode cX6_askDay 12 = .ok (.iaload, 1) := dk_46 (dk_at dksX6_askDay_0 12 rfl rfl)
theorem dX6_askDay_13 : decode cX6_askDay 13 = .ok (.aload_n 0, 1) := dk_42 (dk_at dksX6_askDay_0 13 rfl rfl)
theorem dX6_askDay_14 : decode cX6_askDay 14 = .ok (.getfield 110, 3) := dk_180 0 110 (dk_at dksX6_askDay_0 14 rfl rfl)
theorem dX6_askDay_17 : decode cX6_askDay 17 = .ok (.iload_n 1, 1) := dk_27 (dk_at dksX6_askDay_0 17 rfl rfl)
theorem dX6_askDay_18 : decode cX6_askDay 18 = .ok (.iaload, 1) := dk_46 (dk_at dksX6_askDay_0 18 rfl rfl)
theorem dX6_askDay_19 : decode cX6_askDay 19 = .ok (.aload_n 0, 1) := dk_42 (dk_at dksX6_askDay_0 19 rfl rfl)
theorem dX6_askDay_20 : decode cX6_askDay 20 = .ok (.getfield 113, 3) := dk_180 0 113 (dk_at dksX6_askDay_0 20 rfl rfl)
theorem dX6_askDay_23 : decode cX6_askDay 23 = .ok (.iload_n 1, 1) := dk_27 (dk_at dksX6_askDay_0 23 rfl rfl)
theorem dX6_askDay_24 : decode cX6_askDay 24 = .ok (.iaload, 1) := dk_46 (dk_at dksX6_askDay_1 0 rfl rfl)
theorem dX6_askDay_25 : decode cX6_askDay 25 = .ok (.invokevirtual 291, 3) := dk_182 1 35 (dk_at dksX6_askDay_1 1 rfl rfl)
theorem dX6_askDay_28 : decode cX6_askDay 28 = .ok (.ireturn, 1) := dk_172 (dk_at dksX6_askDay_1 4 rfl rfl)
abbrev cX6_fits : ByteArray := prog_16_method_64_code
def yX6_fits : MethodName := ⟨RX6, "fits", "(I)I"⟩
def dkwX6_fits_2 : List UInt8 := [167, 255, 222, 28, 172]
abbrev dktX6_fits_2 : List UInt8 := dkwX6_fits_2 ++ []
def dkwX6_fits_1 : List UInt8 := [29, 27, 182, 1, 125, 42, 180, 1, 110, 160, 0, 9, 4, 29, 120, 167, 0, 4, 3, 128, 61, 132, 3, 1]
abbrev dktX6_fits_1 : List UInt8 := dkwX6_fits_1 ++ dktX6_fits_2
def dkwX6_fits_0 : List UInt8 := [42, 27, 182, 1, 122, 154, 0, 5, 2, 172, 3, 61, 3, 62, 29, 42, 180, 1, 18, 162, 0, 32, 28, 42]
abbrev dktX6_fits_0 : List UInt8 := dkwX6_fits_0 ++ dktX6_fits_1
theorem dksX6_fits_0 : cX6_fits.data.toList.drop 0 = dktX6_fits_0 := by decide +kernel
theorem dksX6_fits_1 : cX6_fits.data.toList.drop 24 = dktX6_fits_1 := dk_seg dksX6_fits_0 24 rfl rfl
theorem dksX6_fits_2 : cX6_fits.data.toList.drop 48 = dktX6_fits_2 := dk_seg dksX6_fits_1 24 rfl rfl
theorem dX6_fits_0 : decode cX6_fits 0 = .ok (.aload_n 0, 1) := dk_42 (dk_at dksX6_fits_0 0 rfl rfl)
theorem dX6_fits_1 : decode cX6_fits 1 = .ok (.iload_n 1, 1) := dk_27 (dk_at dksX6_fits_0 1 rfl rfl)
theorem dX6_fits_2 : decode cX6_fits 2 = .ok (.invokevirtual 378, 3) := dk_182 1 122 (dk_at dksX6_fits_0 2 rfl rfl)
theorem dX6_fits_5 : decode cX6_fits 5 = .ok (.ifCond .ne 5, 3) := dk_154 0 5 (dk_at dksX6_fits_0 5 rfl rfl)
theorem dX6_fits_8 : decode cX6_fits 8 = .ok (.iconst (-1), 1) := dk_2 (dk_at dksX6_fits_0 8 rfl rfl)
theorem dX6_fits_9 : decode cX6_fits 9 = .ok (.ireturn, 1) := dk_172 (dk_at dksX6_fits_0 9 rfl rfl)
theorem dX6_fits_10 : decode cX6_fits 10 = .ok (.iconst 0, 1) := dk_3 (dk_at dksX6_fits_0 10 rfl rfl)
theorem dX6_fits_11 : decode cX6_fits 11 = .ok (.istore_n 2, 1) := dk_61 (dk_at dksX6_fits_0 11 rfl rfl)
theorem dX6_fits_12 : decode cX6_fits 12 = .ok (.iconst 0, 1) := dk_3 (dk_at dksX6_fits_0 12 rfl rfl)
theorem dX6_fits_13 : decode cX6_fits 13 = .ok (.istore_n 3, 1) := dk_62 (dk_at dksX6_fits_0 13 rfl rfl)
theorem dX6_fits_14 : decode cX6_fits 14 = .ok (.iload_n 3, 1) := dk_29 (dk_at dksX6_fits_0 14 rfl rfl)
theorem dX6_fits_15 : decode cX6_fits 15 = .ok (.aload_n 0, 1) := dk_42 (dk_at dksX6_fits_0 15 rfl rfl)
theorem dX6_fits_16 : decode cX6_fits 16 = .ok (.getfield 274, 3) := dk_180 1 18 (dk_at dksX6_fits_0 16 rfl rfl)
theorem dX6_fits_19 : decode cX6_fits 19 = .ok (.if_icmp .ge 32, 3) := dk_162 0 32 (dk_at dksX6_fits_0 19 rfl rfl)
theorem dX6_fits_22 : decode cX6_fits 22 = .ok (.iload_n 2, 1) := dk_28 (dk_at dksX6_fits_0 22 rfl rfl)
theorem dX6_fits_23 : decode cX6_fits 23 = .ok (.aload_n 0, 1) := dk_42 (dk_at dksX6_fits_0 23 rfl rfl)
theorem dX6_fits_24 : decode cX6_fits 24 = .ok (.iload_n 3, 1) := dk_29 (dk_at dksX6_fits_1 0 rfl rfl)
theorem dX6_fits_25 : decode cX6_fits 25 = .ok (.iload_n 1, 1) := dk_27 (dk_at dksX6_fits_1 1 rfl rfl)
theorem dX6_fits_26 : decode cX6_fits 26 = .ok (.invokevirtual 381, 3) := dk_182 1 125 (dk_at dksX6_fits_1 2 rfl rfl)
theorem dX6_fits_29 : decode cX6_fits 29 = .ok (.aload_n 0, 1) := dk_42 (dk_at dksX6_fits_1 5 rfl rfl)
theorem dX6_fits_30 : decode cX6_fits 30 = .ok (.getfield 366, 3) := dk_180 1 110 (dk_at dksX6_fits_1 6 rfl rfl)
theorem dX6_fits_33 : decode cX6_fits 33 = .ok (.if_icmp .ne 9, 3) := dk_160 0 9 (dk_at dksX6_fits_1 9 rfl rfl)
theorem dX6_fits_36 : decode cX6_fits 36 = .ok (.iconst 1, 1) := dk_4 (dk_at dksX6_fits_1 12 rfl rfl)
theorem dX6_fits_37 : decode cX6_fits 37 = .ok (.iload_n 3, 1) := dk_29 (dk_at dksX6_fits_1 13 rfl rfl)
theorem dX6_fits_38 : decode cX6_fits 38 = .ok (.ishl, 1) := dk_120 (dk_at dksX6_fits_1 14 rfl rfl)
theorem dX6_fits_39 : decode cX6_fits 39 = .ok (.goto 4, 3) := dk_167 0 4 (dk_at dksX6_fits_1 15 rfl rfl)
theorem dX6_fits_42 : decode cX6_fits 42 = .ok (.iconst 0, 1) := dk_3 (dk_at dksX6_fits_1 18 rfl rfl)
theorem dX6_fits_43 : decode cX6_fits 43 = .ok (.ior, 1) := dk_128 (dk_at dksX6_fits_1 19 rfl rfl)
theorem dX6_fits_44 : decode cX6_fits 44 = .ok (.istore_n 2, 1) := dk_61 (dk_at dksX6_fits_1 20 rfl rfl)
theorem dX6_fits_45 : decode cX6_fits 45 = .ok (.iinc 3 1, 3) := dk_132 3 1 (dk_at dksX6_fits_1 21 rfl rfl)
theorem dX6_fits_48 : decode cX6_fits 48 = .ok (.goto (-34), 3) := dk_167 255 222 (dk_at dksX6_fits_2 0 rfl rfl)
theorem dX6_fits_51 : decode cX6_fits 51 = .ok (.iload_n 2, 1) := dk_28 (dk_at dksX6_fits_2 3 rfl rfl)
theorem dX6_fits_52 : decode cX6_fits 52 = .ok (.ireturn, 1) := dk_172 (dk_at dksX6_fits_2 4 rfl rfl)
abbrev cX6_isSlack : ByteArray := prog_16_method_63_code
def yX6_isSlack : MethodName := ⟨RX6, "isSlack", "(I)Z"⟩
def dkwX6_isSlack_0 : List UInt8 := [27, 3, 17, 3, 231, 184, 0, 186, 172]
abbrev dktX6_isSlack_0 : List UInt8 := dkwX6_isSlack_0 ++ []
theorem dksX6_isSlack_0 : cX6_isSlack.data.toList.drop 0 = dktX6_isSlack_0 := by decide +kernel
theorem dX6_isSlack_0 : decode cX6_isSlack 0 = .ok (.iload_n 1, 1) := dk_27 (dk_at dksX6_isSlack_0 0 rfl rfl)
theorem dX6_isSlack_1 : decode cX6_isSlack 1 = .ok (.iconst 0, 1) := dk_3 (dk_at dksX6_isSlack_0 1 rfl rfl)
theorem dX6_isSlack_2 : decode cX6_isSlack 2 = .ok (.sipush 999, 3) := dk_17 3 231 (dk_at dksX6_isSlack_0 2 rfl rfl)
theorem dX6_isSlack_5 : decode cX6_isSlack 5 = .ok (.invokestatic 186, 3) := dk_184 0 186 (dk_at dksX6_isSlack_0 5 rfl rfl)
theorem dX6_isSlack_8 : decode cX6_isSlack 8 = .ok (.ireturn, 1) := dk_172 (dk_at dksX6_isSlack_0 8 rfl rfl)
abbrev cX6_soMany : ByteArray := prog_16_method_62_code
def yX6_soMany : MethodName := ⟨RX6, "soMany", "(II)I"⟩
def dkwX6_soMany_1 : List UInt8 := [153, 0, 7, 4, 167, 0, 4, 3, 96, 62, 132, 4, 1, 167, 255, 225, 29, 172]
abbrev dktX6_soMany_1 : List UInt8 := dkwX6_soMany_1 ++ []
def dkwX6_soMany_0 : List UInt8 := [3, 62, 3, 54, 4, 21, 4, 42, 180, 1, 110, 162, 0, 28, 29, 42, 27, 21, 4, 28, 182, 1, 119]
abbrev dktX6_soMany_0 : List UInt8 := dkwX6_soMany_0 ++ dktX6_soMany_1
theorem dksX6_soMany_0 : cX6_soMany.data.toList.drop 0 = dktX6_soMany_0 := by decide +kernel
theorem dksX6_soMany_1 : cX6_soMany.data.toList.drop 23 = dktX6_soMany_1 := dk_seg dksX6_soMany_0 23 rfl rfl
theorem dX6_soMany_0 : decode cX6_soMany 0 = .ok (.iconst 0, 1) := dk_3 (dk_at dksX6_soMany_0 0 rfl rfl)
theorem dX6_soMany_1 : decode cX6_soMany 1 = .ok (.istore_n 3, 1) := dk_62 (dk_at dksX6_soMany_0 1 rfl rfl)
theorem dX6_soMany_2 : decode cX6_soMany 2 = .ok (.iconst 0, 1) := dk_3 (dk_at dksX6_soMany_0 2 rfl rfl)
theorem dX6_soMany_3 : decode cX6_soMany 3 = .ok (.istore 4, 2) := dk_54 4 (dk_at dksX6_soMany_0 3 rfl rfl)
theorem dX6_soMany_5 : decode cX6_soMany 5 = .ok (.iload 4, 2) := dk_21 4 (dk_at dksX6_soMany_0 5 rfl rfl)
theorem dX6_soMany_7 : decode cX6_soMany 7 = .ok (.aload_n 0, 1) := dk_42 (dk_at dksX6_soMany_0 7 rfl rfl)
theorem dX6_soMany_8 : decode cX6_soMany 8 = .ok (.getfield 366, 3) := dk_180 1 110 (dk_at dksX6_soMany_0 8 rfl rfl)
theorem dX6_soMany_11 : decode cX6_soMany 11 = .ok (.if_icmp .ge 28, 3) := dk_162 0 28 (dk_at dksX6_soMany_0 11 rfl rfl)
theorem dX6_soMany_14 : decode cX6_soMany 14 = .ok (.iload_n 3, 1) := dk_29 (dk_at dksX6_soMany_0 14 rfl rfl)
theorem dX6_soMany_15 : decode cX6_soMany 15 = .ok (.aload_n 0, 1) := dk_42 (dk_at dksX6_soMany_0 15 rfl rfl)
theorem dX6_soMany_16 : decode cX6_soMany 16 = .ok (.iload_n 1, 1) := dk_27 (dk_at dksX6_soMany_0 16 rfl rfl)
theorem dX6_soMany_17 : decode cX6_soMany 17 = .ok (.iload 4, 2) := dk_21 4 (dk_at dksX6_soMany_0 17 rfl rfl)
theorem dX6_soMany_19 : decode cX6_soMany 19 = .ok (.iload_n 2, 1) := dk_28 (dk_at dksX6_soMany_0 19 rfl rfl)
theorem dX6_soMany_20 : decode cX6_soMany 20 = .ok (.invokevirtual 375, 3) := dk_182 1 119 (dk_at dksX6_soMany_0 20 rfl rfl)
theorem dX6_soMany_23 : decode cX6_soMany 23 = .ok (.ifCond .eq 7, 3) := dk_153 0 7 (dk_at dksX6_soMany_1 0 rfl rfl)
theorem dX6_soMany_26 : decode cX6_soMany 26 = .ok (.iconst 1, 1) := dk_4 (dk_at dksX6_soMany_1 3 rfl rfl)
theorem dX6_soMany_27 : decode cX6_soMany 27 = .ok (.goto 4, 3) := dk_167 0 4 (dk_at dksX6_soMany_1 4 rfl rfl)
theorem dX6_soMany_30 : decode cX6_soMany 30 = .ok (.iconst 0, 1) := dk_3 (dk_at dksX6_soMany_1 7 rfl rfl)
theorem dX6_soMany_31 : decode cX6_soMany 31 = .ok (.iadd, 1) := dk_96 (dk_at dksX6_soMany_1 8 rfl rfl)
theorem dX6_soMany_32 : decode cX6_soMany 32 = .ok (.istore_n 3, 1) := dk_62 (dk_at dksX6_soMany_1 9 rfl rfl)
theorem dX6_soMany_33 : decode cX6_soMany 33 = .ok (.iinc 4 1, 3) := dk_132 4 1 (dk_at dksX6_soMany_1 10 rfl rfl)
theorem dX6_soMany_36 : decode cX6_soMany 36 = .ok (.goto (-31), 3) := dk_167 255 225 (dk_at dksX6_soMany_1 13 rfl rfl)
theorem dX6_soMany_39 : decode cX6_soMany 39 = .ok (.iload_n 3, 1) := dk_29 (dk_at dksX6_soMany_1 16 rfl rfl)
theorem dX6_soMany_40 : decode cX6_soMany 40 = .ok (.ireturn, 1) := dk_172 (dk_at dksX6_soMany_1 17 rfl rfl)
abbrev cX6_isSo : ByteArray := prog_16_method_61_code
def yX6_isSo : MethodName := ⟨RX6, "isSo", "(III)Z"⟩
def dkwX6_isSo_2 : List UInt8 := [180, 1, 97, 42, 180, 0, 119, 28, 46, 100, 184, 1, 116, 29, 163, 0, 7, 4, 167, 0, 4, 3, 172]
abbrev dktX6_isSo_2 : List UInt8 := dkwX6_isSo_2 ++ []
def dkwX6_isSo_1 : List UInt8 := [28, 46, 182, 1, 100, 153, 0, 38, 42, 180, 1, 94, 42, 180, 0, 116, 28, 46, 160, 0, 25, 42]
abbrev dktX6_isSo_1 : List UInt8 := dkwX6_isSo_1 ++ dktX6_isSo_2
def dkwX6_isSo_0 : List UInt8 := [42, 27, 42, 180, 0, 104, 28, 46, 42, 180, 0, 107, 28, 46, 42, 180, 0, 110, 28, 46, 42, 180, 0, 113]
abbrev dktX6_isSo_0 : List UInt8 := dkwX6_isSo_0 ++ dktX6_isSo_1
theorem dksX6_isSo_0 : cX6_isSo.data.toList.drop 0 = dktX6_isSo_0 := by decide +kernel
theorem dksX6_isSo_1 : cX6_isSo.data.toList.drop 24 = dktX6_isSo_1 := dk_seg dksX6_isSo_0 24 rfl rfl
theorem dksX6_isSo_2 : cX6_isSo.data.toList.drop 46 = dktX6_isSo_2 := dk_seg dksX6_isSo_1 22 rfl rfl
theorem dX6_isSo_0 : decode cX6_isSo 0 = .ok (.aload_n 0, 1) := dk_42 (dk_at dksX6_isSo_0 0 rfl rfl)
theorem dX6_isSo_1 : decode cX6_isSo 1 = .ok (.iload_n 1, 1) := dk_27 (dk_at dksX6_isSo_0 1 rfl rfl)
theorem dX6_isSo_2 : decode cX6_isSo 2 = .ok (.aload_n 0, 1) := dk_42 (dk_at dksX6_isSo_0 2 rfl rfl)
theorem dX6_isSo_3 : decode cX6_isSo 3 = .ok (.getfield 104, 3) := dk_180 0 104 (dk_at dksX6_isSo_0 3 rfl rfl)
theorem dX6_isSo_6 : decode cX6_isSo 6 = .ok (.iload_n 2, 1) := dk_28 (dk_at dksX6_isSo_0 6 rfl rfl)
theorem dX6_isSo_7 : decode cX6_isSo 7 = .ok (.iaload, 1) := dk_46 (dk_at dksX6_isSo_0 7 rfl rfl)
theorem dX6_isSo_8 : decode cX6_isSo 8 = .ok (.aload_n 0, 1) := dk_42 (dk_at dksX6_isSo_0 8 rfl rfl)
theorem dX6_isSo_9 : decode cX6_isSo 9 = .ok (.getfield 107, 3) := dk_180 0 107 (dk_at dksX6_isSo_0 9 rfl rfl)
theorem dX6_isSo_12 : decode cX6_isSo 12 = .ok (.iload_n 2, 1) := dk_28 (dk_at dksX6_isSo_0 12 rfl rfl)
theorem dX6_isSo_13 : decode cX6_isSo 13 = .ok (.iaload, 1) := dk_46 (dk_at dksX6_isSo_0 13 rfl rfl)
theorem dX6_isSo_14 : decode cX6_isSo 14 = .ok (.aload_n 0, 1) := dk_42 (dk_at dksX6_isSo_0 14 rfl rfl)
theorem dX6_isSo_15 : decode cX6_isSo 15 = .ok (.getfield 110, 3) := dk_180 0 110 (dk_at dksX6_isSo_0 15 rfl rfl)
theorem dX6_isSo_18 : decode cX6_isSo 18 = .ok (.iload_n 2, 1) := dk_28 (dk_at dksX6_isSo_0 18 rfl rfl)
theorem dX6_isSo_19 : decode cX6_isSo 19 = .ok (.iaload, 1) := dk_46 (dk_at dksX6_isSo_0 19 rfl rfl)
theorem dX6_isSo_20 : decode cX6_isSo 20 = .ok (.aload_n 0, 1) := dk_42 (dk_at dksX6_isSo_0 20 rfl rfl)
theorem dX6_isSo_21 : decode cX6_isSo 21 = .ok (.getfield 113, 3) := dk_180 0 113 (dk_at dksX6_isSo_0 21 rfl rfl)
theorem dX6_isSo_24 : decode cX6_isSo 24 = .ok (.iload_n 2, 1) := dk_28 (dk_at dksX6_isSo_1 0 rfl rfl)
theorem dX6_isSo_25 : decode cX6_isSo 25 = .ok (.iaload, 1) := dk_46 (dk_at dksX6_isSo_1 1 rfl rfl)
theorem dX6_isSo_26 : decode cX6_isSo 26 = .ok (.invokevirtual 356, 3) := dk_182 1 100 (dk_at dksX6_isSo_1 2 rfl rfl)
theorem dX6_isSo_29 : decode cX6_isSo 29 = .ok (.ifCond .eq 38, 3) := dk_153 0 38 (dk_at dksX6_isSo_1 5 rfl rfl)
theorem dX6_isSo_32 : decode cX6_isSo 32 = .ok (.aload_n 0, 1) := dk_42 (dk_at dksX6_isSo_1 8 rfl rfl)
theorem dX6_isSo_33 : decode cX6_isSo 33 = .ok (.getfield 350, 3) := dk_180 1 94 (dk_at dksX6_isSo_1 9 rfl rfl)
theorem dX6_isSo_36 : decode cX6_isSo 36 = .ok (.aload_n 0, 1) := dk_42 (dk_at dksX6_isSo_1 12 rfl rfl)
theorem dX6_isSo_37 : decode cX6_isSo 37 = .ok (.getfield 116, 3) := dk_180 0 116 (dk_at dksX6_isSo_1 13 rfl rfl)
theorem dX6_isSo_40 : decode cX6_isSo 40 = .ok (.iload_n 2, 1) := dk_28 (dk_at dksX6_isSo_1 16 rfl rfl)
theorem dX6_isSo_41 : decode cX6_isSo 41 = .ok (.iaload, 1) := dk_46 (dk_at dksX6_isSo_1 17 rfl rfl)
theorem dX6_isSo_42 : decode cX6_isSo 42 = .ok (.if_icmp .ne 25, 3) := dk_160 0 25 (dk_at dksX6_isSo_1 18 rfl rfl)
theorem dX6_isSo_45 : decode cX6_isSo 45 = .ok (.aload_n 0, 1) := dk_42 (dk_at dksX6_isSo_1 21 rfl rfl)
theorem dX6_isSo_46 : decode cX6_isSo 46 = .ok (.getfield 353, 3) := dk_180 1 97 (dk_at dksX6_isSo_2 0 rfl rfl)
theorem dX6_isSo_49 : decode cX6_isSo 49 = .ok (.aload_n 0, 1) := dk_42 (dk_at dksX6_isSo_2 3 rfl rfl)
theorem dX6_isSo_50 : decode cX6_isSo 50 = .ok (.getfield 119, 3) := dk_180 0 119 (dk_at dksX6_isSo_2 4 rfl rfl)
theorem dX6_isSo_53 : decode cX6_isSo 53 = .ok (.iload_n 2, 1) := dk_28 (dk_at dksX6_isSo_2 7 rfl rfl)
theorem dX6_isSo_54 : decode cX6_isSo 54 = .ok (.iaload, 1) := dk_46 (dk_at dksX6_isSo_2 8 rfl rfl)
theorem dX6_isSo_55 : decode cX6_isSo 55 = .ok (.isub, 1) := dk_100 (dk_at dksX6_isSo_2 9 rfl rfl)
theorem dX6_isSo_56 : decode cX6_isSo 56 = .ok (.invokestatic 372, 3) := dk_184 1 116 (dk_at dksX6_isSo_2 10 rfl rfl)
theorem dX6_isSo_59 : decode cX6_isSo 59 = .ok (.iload_n 3, 1) := dk_29 (dk_at dksX6_isSo_2 13 rfl rfl)
theorem dX6_isSo_60 : decode cX6_isSo 60 = .ok (.if_icmp .gt 7, 3) := dk_163 0 7 (dk_at dksX6_isSo_2 14 rfl rfl)
theorem dX6_isSo_63 : decode cX6_isSo 63 = .ok (.iconst 1, 1) := dk_4 (dk_at dksX6_isSo_2 17 rfl rfl)
theorem dX6_isSo_64 : decode cX6_isSo 64 = .ok (.goto 4, 3) := dk_167 0 4 (dk_at dksX6_isSo_2 18 rfl rfl)
theorem dX6_isSo_67 : decode cX6_isSo 67 = .ok (.iconst 0, 1) := dk_3 (dk_at dksX6_isSo_2 21 rfl rfl)
theorem dX6_isSo_68 : decode cX6_isSo 68 = .ok (.ireturn, 1) := dk_172 (dk_at dksX6_isSo_2 22 rfl rfl)
abbrev cX6_so : ByteArray := prog_16_method_65_code
def yX6_so : MethodName := ⟨RX6, "so", "(II)I"⟩
def dkwX6_so_1 : List UInt8 := [167, 0, 4, 2, 172]
abbrev dktX6_so_1 : List UInt8 := dkwX6_so_1 ++ []
def dkwX6_so_0 : List UInt8 := [42, 27, 182, 1, 88, 153, 0, 20, 42, 28, 182, 1, 122, 153, 0, 12, 42, 27, 28, 182, 1, 125]
abbrev dktX6_so_0 : List UInt8 := dkwX6_so_0 ++ dktX6_so_1
theorem dksX6_so_0 : cX6_so.data.toList.drop 0 = dktX6_so_0 := by decide +kernel
theorem dksX6_so_1 : cX6_so.data.toList.drop 22 = dktX6_so_1 := dk_seg dksX6_so_0 22 rfl rfl
theorem dX6_so_0 : decode cX6_so 0 = .ok (.aload_n 0, 1) := dk_42 (dk_at dksX6_so_0 0 rfl rfl)
theorem dX6_so_1 : decode cX6_so 1 = .ok (.iload_n 1, 1) := dk_27 (dk_at dksX6_so_0 1 rfl rfl)
theorem dX6_so_2 : decode cX6_so 2 = .ok (.invokevirtual 344, 3) := dk_182 1 88 (dk_at dksX6_so_0 2 rfl rfl)
theorem dX6_so_5 : decode cX6_so 5 = .ok (.ifCond .eq 20, 3) := dk_153 0 20 (dk_at dksX6_so_0 5 rfl rfl)
theorem dX6_so_8 : decode cX6_so 8 = .ok (.aload_n 0, 1) := dk_42 (dk_at dksX6_so_0 8 rfl rfl)
theorem dX6_so_9 : decode cX6_so 9 = .ok (.iload_n 2, 1) := dk_28 (dk_at dksX6_so_0 9 rfl rfl)
theorem dX6_so_10 : decode cX6_so 10 = .ok (.invokevirtual 378, 3) := dk_182 1 122 (dk_at dksX6_so_0 10 rfl rfl)
theorem dX6_so_13 : decode cX6_so 13 = .ok (.ifCond .eq 12, 3) := dk_153 0 12 (dk_at dksX6_so_0 13 rfl rfl)
theorem dX6_so_16 : decode cX6_so 16 = .ok (.aload_n 0, 1) := dk_42 (dk_at dksX6_so_0 16 rfl rfl)
theorem dX6_so_17 : decode cX6_so 17 = .ok (.iload_n 1, 1) := dk_27 (dk_at dksX6_so_0 17 rfl rfl)
theorem dX6_so_18 : decode cX6_so 18 = .ok (.iload_n 2, 1) := dk_28 (dk_at dksX6_so_0 18 rfl rfl)
theorem dX6_so_19 : decode cX6_so 19 = .ok (.invokevirtual 381, 3) := dk_182 1 125 (dk_at dksX6_so_0 19 rfl rfl)
theorem dX6_so_22 : decode cX6_so 22 = .ok (.goto 4, 3) := dk_167 0 4 (dk_at dksX6_so_1 0 rfl rfl)
theorem dX6_so_25 : decode cX6_so 25 = .ok (.iconst (-1), 1) := dk_2 (dk_at dksX6_so_1 3 rfl rfl)
theorem dX6_so_26 : decode cX6_so 26 = .ok (.ireturn, 1) := dk_172 (dk_at dksX6_so_1 4 rfl rfl)
abbrev cX6_further : ByteArray := prog_16_method_66_code
def yX6_further : MethodName := ⟨RX6, "further", "(I)I"⟩
def dkwX6_further_4 : List UInt8 := [167, 255, 180, 28, 172]
abbrev dktX6_further_4 : List UInt8 := dkwX6_further_4 ++ []
def dkwX6_further_3 : List UInt8 := [46, 42, 180, 0, 119, 21, 4, 46, 184, 1, 128, 104, 96, 61, 132, 4, 1, 167, 255, 197, 132, 3, 1]
abbrev dktX6_further_3 : List UInt8 := dkwX6_further_3 ++ dktX6_further_4
def dkwX6_further_2 : List UInt8 := [180, 0, 107, 21, 4, 46, 27, 100, 184, 1, 116, 184, 1, 128, 54, 5, 28, 21, 5, 42, 180, 0, 119, 29]
abbrev dktX6_further_2 : List UInt8 := dkwX6_further_2 ++ dktX6_further_3
def dkwX6_further_1 : List UInt8 := [162, 0, 74, 3, 54, 4, 21, 4, 29, 162, 0, 59, 42, 180, 0, 107, 29, 46, 27, 100, 184, 1, 116, 42]
abbrev dktX6_further_1 : List UInt8 := dkwX6_further_1 ++ dktX6_further_2
def dkwX6_further_0 : List UInt8 := [27, 4, 17, 39, 15, 184, 0, 186, 154, 0, 7, 17, 252, 24, 172, 3, 61, 3, 62, 29, 42, 180, 1, 110]
abbrev dktX6_further_0 : List UInt8 := dkwX6_further_0 ++ dktX6_further_1
theorem dksX6_further_0 : cX6_further.data.toList.drop 0 = dktX6_further_0 := by decide +kernel
theorem dksX6_further_1 : cX6_further.data.toList.drop 24 = dktX6_further_1 := dk_seg dksX6_further_0 24 rfl rfl
theorem dksX6_further_2 : cX6_further.data.toList.drop 48 = dktX6_further_2 := dk_seg dksX6_further_1 24 rfl rfl
theorem dksX6_further_3 : cX6_further.data.toList.drop 72 = dktX6_further_3 := dk_seg dksX6_further_2 24 rfl rfl
theorem dksX6_further_4 : cX6_further.data.toList.drop 95 = dktX6_further_4 := dk_seg dksX6_further_3 23 rfl rfl
theorem dX6_further_0 : decode cX6_further 0 = .ok (.iload_n 1, 1) := dk_27 (dk_at dksX6_further_0 0 rfl rfl)
theorem dX6_further_1 : decode cX6_further 1 = .ok (.iconst 1, 1) := dk_4 (dk_at dksX6_further_0 1 rfl rfl)
theorem dX6_further_2 : decode cX6_further 2 = .ok (.sipush 9999, 3) := dk_17 39 15 (dk_at dksX6_further_0 2 rfl rfl)
theorem dX6_further_5 : decode cX6_further 5 = .ok (.invokestatic 186, 3) := dk_184 0 186 (dk_at dksX6_further_0 5 rfl rfl)
theorem dX6_further_8 : decode cX6_further 8 = .ok (.ifCond .ne 7, 3) := dk_154 0 7 (dk_at dksX6_further_0 8 rfl rfl)
theorem dX6_further_11 : decode cX6_further 11 = .ok (.sipush (-1000), 3) := dk_17 252 24 (dk_at dksX6_further_0 11 rfl rfl)
theorem dX6_further_14 : decode cX6_further 14 = .ok (.ireturn, 1) := dk_172 (dk_at dksX6_further_0 14 rfl rfl)
theorem dX6_further_15 : decode cX6_further 15 = .ok (.iconst 0, 1) := dk_3 (dk_at dksX6_further_0 15 rfl rfl)
theorem dX6_further_16 : decode cX6_further 16 = .ok (.istore_n 2, 1) := dk_61 (dk_at dksX6_further_0 16 rfl rfl)
theorem dX6_further_17 : decode cX6_further 17 = .ok (.iconst 0, 1) := dk_3 (dk_at dksX6_further_0 17 rfl rfl)
theorem dX6_further_18 : decode cX6_further 18 = .ok (.istore_n 3, 1) := dk_62 (dk_at dksX6_further_0 18 rfl rfl)
theorem dX6_further_19 : decode cX6_further 19 = .ok (.iload_n 3, 1) := dk_29 (dk_at dksX6_further_0 19 rfl rfl)
theorem dX6_further_20 : decode cX6_further 20 = .ok (.aload_n 0, 1) := dk_42 (dk_at dksX6_further_0 20 rfl rfl)
theorem dX6_further_21 : decode cX6_further 21 = .ok (.getfield 366, 3) := dk_180 1 110 (dk_at dksX6_further_0 21 rfl rfl)
theorem dX6_further_24 : decode cX6_further 24 = .ok (.if_icmp .ge 74, 3) := dk_162 0 74 (dk_at dksX6_further_1 0 rfl rfl)
theorem dX6_further_27 : decode cX6_further 27 = .ok (.iconst 0, 1) := dk_3 (dk_at dksX6_further_1 3 rfl rfl)
theorem dX6_further_28 : decode cX6_further 28 = .ok (.istore 4, 2) := dk_54 4 (dk_at dksX6_further_1 4 rfl rfl)
theorem dX6_further_30 : decode cX6_further 30 = .ok (.iload 4, 2) := dk_21 4 (dk_at dksX6_further_1 6 rfl rfl)
theorem dX6_further_32 : decode cX6_further 32 = .ok (.iload_n 3, 1) := dk_29 (dk_at dksX6_further_1 8 rfl rfl)
theorem dX6_further_33 : decode cX6_further 33 = .ok (.if_icmp .ge 59, 3) := dk_162 0 59 (dk_at dksX6_further_1 9 rfl rfl)
theorem dX6_further_36 : decode cX6_further 36 = .ok (.aload_n 0, 1) := dk_42 (dk_at dksX6_further_1 12 rfl rfl)
theorem dX6_further_37 : decode cX6_further 37 = .ok (.getfield 107, 3) := dk_180 0 107 (dk_at dksX6_further_1 13 rfl rfl)
theorem dX6_further_40 : decode cX6_further 40 = .ok (.iload_n 3, 1) := dk_29 (dk_at dksX6_further_1 16 rfl rfl)
theorem dX6_further_41 : decode cX6_further 41 = .ok (.iaload, 1) := dk_46 (dk_at dksX6_further_1 17 rfl rfl)
theorem dX6_further_42 : decode cX6_further 42 = .ok (.iload_n 1, 1) := dk_27 (dk_at dksX6_further_1 18 rfl rfl)
theorem dX6_further_43 : decode cX6_further 43 = .ok (.isub, 1) := dk_100 (dk_at dksX6_further_1 19 rfl rfl)
theorem dX6_further_44 : decode cX6_further 44 = .ok (.invokestatic 372, 3) := dk_184 1 116 (dk_at dksX6_further_1 20 rfl rfl)
theorem dX6_further_47 : decode cX6_further 47 = .ok (.aload_n 0, 1) := dk_42 (dk_at dksX6_further_1 23 rfl rfl)
theorem dX6_further_48 : decode cX6_further 48 = .ok (.getfield 107, 3) := dk_180 0 107 (dk_at dksX6_further_2 0 rfl rfl)
theorem dX6_further_51 : decode cX6_further 51 = .ok (.iload 4, 2) := dk_21 4 (dk_at dksX6_further_2 3 rfl rfl)
theorem dX6_further_53 : decode cX6_further 53 = .ok (.iaload, 1) := dk_46 (dk_at dksX6_further_2 5 rfl rfl)
theorem dX6_further_54 : decode cX6_further 54 = .ok (.iload_n 1, 1) := dk_27 (dk_at dksX6_further_2 6 rfl rfl)
theorem dX6_further_55 : decode cX6_further 55 = .ok (.isub, 1) := dk_100 (dk_at dksX6_further_2 7 rfl rfl)
theorem dX6_further_56 : decode cX6_further 56 = .ok (.invokestatic 372, 3) := dk_184 1 116 (dk_at dksX6_further_2 8 rfl rfl)
theorem dX6_further_59 : decode cX6_further 59 = .ok (.invokestatic 384, 3) := dk_184 1 128 (dk_at dksX6_further_2 11 rfl rfl)
theorem dX6_further_62 : decode cX6_further 62 = .ok (.istore 5, 2) := dk_54 5 (dk_at dksX6_further_2 14 rfl rfl)
theorem dX6_further_64 : decode cX6_further 64 = .ok (.iload_n 2, 1) := dk_28 (dk_at dksX6_further_2 16 rfl rfl)
theorem dX6_further_65 : decode cX6_further 65 = .ok (.iload 5, 2) := dk_21 5 (dk_at dksX6_further_2 17 rfl rfl)
theorem dX6_further_67 : decode cX6_further 67 = .ok (.aload_n 0, 1) := dk_42 (dk_at dksX6_further_2 19 rfl rfl)
theorem dX6_further_68 : decode cX6_further 68 = .ok (.getfield 119, 3) := dk_180 0 119 (dk_at dksX6_further_2 20 rfl rfl)
theorem dX6_further_71 : decode cX6_further 71 = .ok (.iload_n 3, 1) := dk_29 (dk_at dksX6_further_2 23 rfl rfl)
theorem dX6_further_72 : decode cX6_further 72 = .ok (.iaload, 1) := dk_46 (dk_at dksX6_further_3 0 rfl rfl)
theorem dX6_further_73 : decode cX6_further 73 = .ok (.aload_n 0, 1) := dk_42 (dk_at dksX6_further_3 1 rfl rfl)
theorem dX6_further_74 : decode cX6_further 74 = .ok (.getfield 119, 3) := dk_180 0 119 (dk_at dksX6_further_3 2 rfl rfl)
theorem dX6_further_77 : decode cX6_further 77 = .ok (.iload 4, 2) := dk_21 4 (dk_at dksX6_further_3 5 rfl rfl)
theorem dX6_further_79 : decode cX6_further 79 = .ok (.iaload, 1) := dk_46 (dk_at dksX6_further_3 7 rfl rfl)
theorem dX6_further_80 : decode cX6_further 80 = .ok (.invokestatic 384, 3) := dk_184 1 128 (dk_at dksX6_further_3 8 rfl rfl)
theorem dX6_further_83 : decode cX6_further 83 = .ok (.imul, 1) := dk_104 (dk_at dksX6_further_3 11 rfl rfl)
theorem dX6_further_84 : decode cX6_further 84 = .ok (.iadd, 1) := dk_96 (dk_at dksX6_further_3 12 rfl rfl)
theorem dX6_further_85 : decode cX6_further 85 = .ok (.istore_n 2, 1) := dk_61 (dk_at dksX6_further_3 13 rfl rfl)
theorem dX6_further_86 : decode cX6_further 86 = .ok (.iinc 4 1, 3) := dk_132 4 1 (dk_at dksX6_further_3 14 rfl rfl)
theorem dX6_further_89 : decode cX6_further 89 = .ok (.goto (-59), 3) := dk_167 255 197 (dk_at dksX6_further_3 17 rfl rfl)
theorem dX6_further_92 : decode cX6_further 92 = .ok (.iinc 3 1, 3) := dk_132 3 1 (dk_at dksX6_further_3 20 rfl rfl)
theorem dX6_further_95 : decode cX6_further 95 = .ok (.goto (-76), 3) := dk_167 255 180 (dk_at dksX6_further_4 0 rfl rfl)
theorem dX6_further_98 : decode cX6_further 98 = .ok (.iload_n 2, 1) := dk_28 (dk_at dksX6_further_4 3 rfl rfl)
theorem dX6_further_99 : decode cX6_further 99 = .ok (.ireturn, 1) := dk_172 (dk_at dksX6_further_4 4 rfl rfl)
abbrev cX6_lived : ByteArray := prog_16_method_68_code
def yX6_lived : MethodName := ⟨RX6, "lived", "(I)I"⟩
def dkwX6_lived_3 : List UInt8 := [46, 96, 61, 132, 3, 1, 132, 4, 1, 167, 255, 201, 28, 29, 184, 1, 133, 172]
abbrev dktX6_lived_3 : List UInt8 := dkwX6_lived_3 ++ []
def dkwX6_lived_2 : List UInt8 := [4, 167, 0, 4, 3, 27, 154, 0, 7, 4, 167, 0, 4, 3, 160, 0, 16, 28, 42, 180, 0, 119, 21, 4]
abbrev dktX6_lived_2 : List UInt8 := dkwX6_lived_2 ++ dktX6_lived_3
def dkwX6_lived_1 : List UInt8 := [54, 4, 21, 4, 42, 180, 1, 110, 162, 0, 52, 42, 21, 4, 182, 1, 113, 42, 180, 0, 137, 161, 0, 7]
abbrev dktX6_lived_1 : List UInt8 := dkwX6_lived_1 ++ dktX6_lived_2
def dkwX6_lived_0 : List UInt8 := [42, 180, 0, 137, 2, 159, 0, 12, 27, 3, 4, 184, 0, 186, 154, 0, 5, 2, 172, 3, 61, 3, 62, 3]
abbrev dktX6_lived_0 : List UInt8 := dkwX6_lived_0 ++ dktX6_lived_1
theorem dksX6_lived_0 : cX6_lived.data.toList.drop 0 = dktX6_lived_0 := by decide +kernel
theorem dksX6_lived_1 : cX6_lived.data.toList.drop 24 = dktX6_lived_1 := dk_seg dksX6_lived_0 24 rfl rfl
theorem dksX6_lived_2 : cX6_lived.data.toList.drop 48 = dktX6_lived_2 := dk_seg dksX6_lived_1 24 rfl rfl
theorem dksX6_lived_3 : cX6_lived.data.toList.drop 72 = dktX6_lived_3 := dk_seg dksX6_lived_2 24 rfl rfl
theorem dX6_lived_0 : decode cX6_lived 0 = .ok (.aload_n 0, 1) := dk_42 (dk_at dksX6_lived_0 0 rfl rfl)
theorem dX6_lived_1 : decode cX6_lived 1 = .ok (.getfield 137, 3) := dk_180 0 137 (dk_at dksX6_lived_0 1 rfl rfl)
theorem dX6_lived_4 : decode cX6_lived 4 = .ok (.iconst (-1), 1) := dk_2 (dk_at dksX6_lived_0 4 rfl rfl)
theorem dX6_lived_5 : decode cX6_lived 5 = .ok (.if_icmp .eq 12, 3) := dk_159 0 12 (dk_at dksX6_lived_0 5 rfl rfl)
theorem dX6_lived_8 : decode cX6_lived 8 = .ok (.iload_n 1, 1) := dk_27 (dk_at dksX6_lived_0 8 rfl rfl)
theorem dX6_lived_9 : decode cX6_lived 9 = .ok (.iconst 0, 1) := dk_3 (dk_at dksX6_lived_0 9 rfl rfl)
theorem dX6_lived_10 : decode cX6_lived 10 = .ok (.iconst 1, 1) := dk_4 (dk_at dksX6_lived_0 10 rfl rfl)
theorem dX6_lived_11 : decode cX6_lived 11 = .ok (.invokestatic 186, 3) := dk_184 0 186 (dk_at dksX6_lived_0 11 rfl rfl)
theorem dX6_lived_14 : decode cX6_lived 14 = .ok (.ifCond .ne 5, 3) := dk_154 0 5 (dk_at dksX6_lived_0 14 rfl rfl)
theorem dX6_lived_17 : decode cX6_lived 17 = .ok (.iconst (-1), 1) := dk_2 (dk_at dksX6_lived_0 17 rfl rfl)
theorem dX6_lived_18 : decode cX6_lived 18 = .ok (.ireturn, 1) := dk_172 (dk_at dksX6_lived_0 18 rfl rfl)
theorem dX6_lived_19 : decode cX6_lived 19 = .ok (.iconst 0, 1) := dk_3 (dk_at dksX6_lived_0 19 rfl rfl)
theorem dX6_lived_20 : decode cX6_lived 20 = .ok (.istore_n 2, 1) := dk_61 (dk_at dksX6_lived_0 20 rfl rfl)
theorem dX6_lived_21 : decode cX6_lived 21 = .ok (.iconst 0, 1) := dk_3 (dk_at dksX6_lived_0 21 rfl rfl)
theorem dX6_lived_22 : decode cX6_lived 22 = .ok (.istore_n 3, 1) := dk_62 (dk_at dksX6_lived_0 22 rfl rfl)
theorem dX6_lived_23 : decode cX6_lived 23 = .ok (.iconst 0, 1) := dk_3 (dk_at dksX6_lived_0 23 rfl rfl)
theorem dX6_lived_24 : decode cX6_lived 24 = .ok (.istore 4, 2) := dk_54 4 (dk_at dksX6_lived_1 0 rfl rfl)
theorem dX6_lived_26 : decode cX6_lived 26 = .ok (.iload 4, 2) := dk_21 4 (dk_at dksX6_lived_1 2 rfl rfl)
theorem dX6_lived_28 : decode cX6_lived 28 = .ok (.aload_n 0, 1) := dk_42 (dk_at dksX6_lived_1 4 rfl rfl)
theorem dX6_lived_29 : decode cX6_lived 29 = .ok (.getfield 366, 3) := dk_180 1 110 (dk_at dksX6_lived_1 5 rfl rfl)
theorem dX6_lived_32 : decode cX6_lived 32 = .ok (.if_icmp .ge 52, 3) := dk_162 0 52 (dk_at dksX6_lived_1 8 rfl rfl)
theorem dX6_lived_35 : decode cX6_lived 35 = .ok (.aload_n 0, 1) := dk_42 (dk_at dksX6_lived_1 11 rfl rfl)
theorem dX6_lived_36 : decode cX6_lived 36 = .ok (.iload 4, 2) := dk_21 4 (dk_at dksX6_lived_1 12 rfl rfl)
theorem dX6_lived_38 : decode cX6_lived 38 = .ok (.invokevirtual 369, 3) := dk_182 1 113 (dk_at dksX6_lived_1 14 rfl rfl)
theorem dX6_lived_41 : decode cX6_lived 41 = .ok (.aload_n 0, 1) := dk_42 (dk_at dksX6_lived_1 17 rfl rfl)
theorem dX6_lived_42 : decode cX6_lived 42 = .ok (.getfield 137, 3) := dk_180 0 137 (dk_at dksX6_lived_1 18 rfl rfl)
theorem dX6_lived_45 : decode cX6_lived 45 = .ok (.if_icmp .lt 7, 3) := dk_161 0 7 (dk_at dksX6_lived_1 21 rfl rfl)
theorem dX6_lived_48 : decode cX6_lived 48 = .ok (.iconst 1, 1) := dk_4 (dk_at dksX6_lived_2 0 rfl rfl)
theorem dX6_lived_49 : decode cX6_lived 49 = .ok (.goto 4, 3) := dk_167 0 4 (dk_at dksX6_lived_2 1 rfl rfl)
theorem dX6_lived_52 : decode cX6_lived 52 = .ok (.iconst 0, 1) := dk_3 (dk_at dksX6_lived_2 4 rfl rfl)
theorem dX6_lived_53 : decode cX6_lived 53 = .ok (.iload_n 1, 1) := dk_27 (dk_at dksX6_lived_2 5 rfl rfl)
theorem dX6_lived_54 : decode cX6_lived 54 = .ok (.ifCond .ne 7, 3) := dk_154 0 7 (dk_at dksX6_lived_2 6 rfl rfl)
theorem dX6_lived_57 : decode cX6_lived 57 = .ok (.iconst 1, 1) := dk_4 (dk_at dksX6_lived_2 9 rfl rfl)
theorem dX6_lived_58 : decode cX6_lived 58 = .ok (.goto 4, 3) := dk_167 0 4 (dk_at dksX6_lived_2 10 rfl rfl)
theorem dX6_lived_61 : decode cX6_lived 61 = .ok (.iconst 0, 1) := dk_3 (dk_at dksX6_lived_2 13 rfl rfl)
theorem dX6_lived_62 : decode cX6_lived 62 = .ok (.if_icmp .ne 16, 3) := dk_160 0 16 (dk_at dksX6_lived_2 14 rfl rfl)
theorem dX6_lived_65 : decode cX6_lived 65 = .ok (.iload_n 2, 1) := dk_28 (dk_at dksX6_lived_2 17 rfl rfl)
theorem dX6_lived_66 : decode cX6_lived 66 = .ok (.aload_n 0, 1) := dk_42 (dk_at dksX6_lived_2 18 rfl rfl)
theorem dX6_lived_67 : decode cX6_lived 67 = .ok (.getfield 119, 3) := dk_180 0 119 (dk_at dksX6_lived_2 19 rfl rfl)
theorem dX6_lived_70 : decode cX6_lived 70 = .ok (.iload 4, 2) := dk_21 4 (dk_at dksX6_lived_2 22 rfl rfl)
theorem dX6_lived_72 : decode cX6_lived 72 = .ok (.iaload, 1) := dk_46 (dk_at dksX6_lived_3 0 rfl rfl)
theorem dX6_lived_73 : decode cX6_lived 73 = .ok (.iadd, 1) := dk_96 (dk_at dksX6_lived_3 1 rfl rfl)
theorem dX6_lived_74 : decode cX6_lived 74 = .ok (.istore_n 2, 1) := dk_61 (dk_at dksX6_lived_3 2 rfl rfl)
theorem dX6_lived_75 : decode cX6_lived 75 = .ok (.iinc 3 1, 3) := dk_132 3 1 (dk_at dksX6_lived_3 3 rfl rfl)
theorem dX6_lived_78 : decode cX6_lived 78 = .ok (.iinc 4 1, 3) := dk_132 4 1 (dk_at dksX6_lived_3 6 rfl rfl)
theorem dX6_lived_81 : decode cX6_lived 81 = .ok (.goto (-55), 3) := dk_167 255 201 (dk_at dksX6_lived_3 9 rfl rfl)
theorem dX6_lived_84 : decode cX6_lived 84 = .ok (.iload_n 2, 1) := dk_28 (dk_at dksX6_lived_3 12 rfl rfl)
theorem dX6_lived_85 : decode cX6_lived 85 = .ok (.iload_n 3, 1) := dk_29 (dk_at dksX6_lived_3 13 rfl rfl)
theorem dX6_lived_86 : decode cX6_lived 86 = .ok (.invokestatic 389, 3) := dk_184 1 133 (dk_at dksX6_lived_3 14 rfl rfl)
theorem dX6_lived_89 : decode cX6_lived 89 = .ok (.ireturn, 1) := dk_172 (dk_at dksX6_lived_3 17 rfl rfl)
abbrev cX6_mean : ByteArray := prog_16_method_67_code
def yX6_mean : MethodName := ⟨RX6, "mean", "(II)I"⟩
def dkwX6_mean_0 : List UInt8 := [27, 154, 0, 7, 2, 167, 0, 6, 26, 27, 108, 172]
abbrev dktX6_mean_0 : List UInt8 := dkwX6_mean_0 ++ []
theorem dksX6_mean_0 : cX6_mean.data.toList.drop 0 = dktX6_mean_0 := by decide +kernel
theorem dX6_mean_0 : decode cX6_mean 0 = .ok (.iload_n 1, 1) := dk_27 (dk_at dksX6_mean_0 0 rfl rfl)
theorem dX6_mean_1 : decode cX6_mean 1 = .ok (.ifCond .ne 7, 3) := dk_154 0 7 (dk_at dksX6_mean_0 1 rfl rfl)
theorem dX6_mean_4 : decode cX6_mean 4 = .ok (.iconst (-1), 1) := dk_2 (dk_at dksX6_mean_0 4 rfl rfl)
theorem dX6_mean_5 : decode cX6_mean 5 = .ok (.goto 6, 3) := dk_167 0 6 (dk_at dksX6_mean_0 5 rfl rfl)
theorem dX6_mean_8 : decode cX6_mean 8 = .ok (.iload_n 0, 1) := dk_26 (dk_at dksX6_mean_0 8 rfl rfl)
theorem dX6_mean_9 : decode cX6_mean 9 = .ok (.iload_n 1, 1) := dk_27 (dk_at dksX6_mean_0 9 rfl rfl)
theorem dX6_mean_10 : decode cX6_mean 10 = .ok (.idiv, 1) := dk_108 (dk_at dksX6_mean_0 10 rfl rfl)
theorem dX6_mean_11 : decode cX6_mean 11 = .ok (.ireturn, 1) := dk_172 (dk_at dksX6_mean_0 11 rfl rfl)
abbrev cX6_after : ByteArray := prog_16_method_69_code
def yX6_after : MethodName := ⟨RX6, "after", "(I)I"⟩
def dkwX6_after_5 : List UInt8 := [167, 255, 157, 28, 29, 184, 1, 133, 172]
abbrev dktX6_after_5 : List UInt8 := dkwX6_after_5 ++ []
def dkwX6_after_4 : List UInt8 := [167, 0, 4, 3, 160, 0, 16, 28, 42, 180, 0, 119, 21, 4, 46, 96, 61, 132, 3, 1, 132, 4, 1]
abbrev dktX6_after_4 : List UInt8 := dkwX6_after_4 ++ dktX6_after_5
def dkwX6_after_3 : List UInt8 := [4, 100, 46, 182, 1, 47, 160, 0, 7, 4, 167, 0, 4, 3, 54, 6, 21, 6, 27, 154, 0, 7, 4]
abbrev dktX6_after_3 : List UInt8 := dkwX6_after_3 ++ dktX6_after_4
def dkwX6_after_2 : List UInt8 := [21, 5, 2, 159, 0, 34, 21, 5, 42, 42, 180, 0, 104, 21, 4, 4, 100, 46, 42, 180, 0, 107, 21, 4]
abbrev dktX6_after_2 : List UInt8 := dkwX6_after_2 ++ dktX6_after_3
def dkwX6_after_1 : List UInt8 := [162, 0, 96, 42, 42, 180, 0, 104, 21, 4, 46, 42, 180, 0, 107, 21, 4, 46, 182, 1, 47, 54, 5]
abbrev dktX6_after_1 : List UInt8 := dkwX6_after_1 ++ dktX6_after_2
def dkwX6_after_0 : List UInt8 := [27, 3, 4, 184, 0, 186, 154, 0, 5, 2, 172, 3, 61, 3, 62, 4, 54, 4, 21, 4, 42, 180, 1, 110]
abbrev dktX6_after_0 : List UInt8 := dkwX6_after_0 ++ dktX6_after_1
theorem dksX6_after_0 : cX6_after.data.toList.drop 0 = dktX6_after_0 := by decide +kernel
theorem dksX6_after_1 : cX6_after.data.toList.drop 24 = dktX6_after_1 := dk_seg dksX6_after_0 24 rfl rfl
theorem dksX6_after_2 : cX6_after.data.toList.drop 47 = dktX6_after_2 := dk_seg dksX6_after_1 23 rfl rfl
theorem dksX6_after_3 : cX6_after.data.toList.drop 71 = dktX6_after_3 := dk_seg dksX6_after_2 24 rfl rfl
theorem dksX6_after_4 : cX6_after.data.toList.drop 94 = dktX6_after_4 := dk_seg dksX6_after_3 23 rfl rfl
theorem dksX6_after_5 : cX6_after.data.toList.drop 117 = dktX6_after_5 := dk_seg dksX6_after_4 23 rfl rfl
theorem dX6_after_0 : decode cX6_after 0 = .ok (.iload_n 1, 1) := dk_27 (dk_at dksX6_after_0 0 rfl rfl)
theorem dX6_after_1 : decode cX6_after 1 = .ok (.iconst 0, 1) := dk_3 (dk_at dksX6_after_0 1 rfl rfl)
theorem dX6_after_2 : decode cX6_after 2 = .ok (.iconst 1, 1) := dk_4 (dk_at dksX6_after_0 2 rfl rfl)
theorem dX6_after_3 : decode cX6_after 3 = .ok (.invokestatic 186, 3) := dk_184 0 186 (dk_at dksX6_after_0 3 rfl rfl)
theorem dX6_after_6 : decode cX6_after 6 = .ok (.ifCond .ne 5, 3) := dk_154 0 5 (dk_at dksX6_after_0 6 rfl rfl)
theorem dX6_after_9 : decode cX6_after 9 = .ok (.iconst (-1), 1) := dk_2 (dk_at dksX6_after_0 9 rfl rfl)
theorem dX6_after_10 : decode cX6_after 10 = .ok (.ireturn, 1) := dk_172 (dk_at dksX6_after_0 10 rfl rfl)
theorem dX6_after_11 : decode cX6_after 11 = .ok (.iconst 0, 1) := dk_3 (dk_at dksX6_after_0 11 rfl rfl)
theorem dX6_after_12 : decode cX6_after 12 = .ok (.istore_n 2, 1) := dk_61 (dk_at dksX6_after_0 12 rfl rfl)
theorem dX6_after_13 : decode cX6_after 13 = .ok (.iconst 0, 1) := dk_3 (dk_at dksX6_after_0 13 rfl rfl)
theorem dX6_after_14 : decode cX6_after 14 = .ok (.istore_n 3, 1) := dk_62 (dk_at dksX6_after_0 14 rfl rfl)
theorem dX6_after_15 : decode cX6_after 15 = .ok (.iconst 1, 1) := dk_4 (dk_at dksX6_after_0 15 rfl rfl)
theorem dX6_after_16 : decode cX6_after 16 = .ok (.istore 4, 2) := dk_54 4 (dk_at dksX6_after_0 16 rfl rfl)
theorem dX6_after_18 : decode cX6_after 18 = .ok (.iload 4, 2) := dk_21 4 (dk_at dksX6_after_0 18 rfl rfl)
theorem dX6_after_20 : decode cX6_after 20 = .ok (.aload_n 0, 1) := dk_42 (dk_at dksX6_after_0 20 rfl rfl)
theorem dX6_after_21 : decode cX6_after 21 = .ok (.getfield 366, 3) := dk_180 1 110 (dk_at dksX6_after_0 21 rfl rfl)
theorem dX6_after_24 : decode cX6_after 24 = .ok (.if_icmp .ge 96, 3) := dk_162 0 96 (dk_at dksX6_after_1 0 rfl rfl)
theorem dX6_after_27 : decode cX6_after 27 = .ok (.aload_n 0, 1) := dk_42 (dk_at dksX6_after_1 3 rfl rfl)
theorem dX6_after_28 : decode cX6_after 28 = .ok (.aload_n 0, 1) := dk_42 (dk_at dksX6_after_1 4 rfl rfl)
theorem dX6_after_29 : decode cX6_after 29 = .ok (.getfield 104, 3) := dk_180 0 104 (dk_at dksX6_after_1 5 rfl rfl)
theorem dX6_after_32 : decode cX6_after 32 = .ok (.iload 4, 2) := dk_21 4 (dk_at dksX6_after_1 8 rfl rfl)
theorem dX6_after_34 : decode cX6_after 34 = .ok (.iaload, 1) := dk_46 (dk_at dksX6_after_1 10 rfl rfl)
theorem dX6_after_35 : decode cX6_after 35 = .ok (.aload_n 0, 1) := dk_42 (dk_at dksX6_after_1 11 rfl rfl)
theorem dX6_after_36 : decode cX6_after 36 = .ok (.getfield 107, 3) := dk_180 0 107 (dk_at dksX6_after_1 12 rfl rfl)
theorem dX6_after_39 : decode cX6_after 39 = .ok (.iload 4, 2) := dk_21 4 (dk_at dksX6_after_1 15 rfl rfl)
theorem dX6_after_41 : decode cX6_after 41 = .ok (.iaload, 1) := dk_46 (dk_at dksX6_after_1 17 rfl rfl)
theorem dX6_after_42 : decode cX6_after 42 = .ok (.invokevirtual 303, 3) := dk_182 1 47 (dk_at dksX6_after_1 18 rfl rfl)
theorem dX6_after_45 : decode cX6_after 45 = .ok (.istore 5, 2) := dk_54 5 (dk_at dksX6_after_1 21 rfl rfl)
theorem dX6_after_47 : decode cX6_after 47 = .ok (.iload 5, 2) := dk_21 5 (dk_at dksX6_after_2 0 rfl rfl)
theorem dX6_after_49 : decode cX6_after 49 = .ok (.iconst (-1), 1) := dk_2 (dk_at dksX6_after_2 2 rfl rfl)
theorem dX6_after_50 : decode cX6_after 50 = .ok (.if_icmp .eq 34, 3) := dk_159 0 34 (dk_at dksX6_after_2 3 rfl rfl)
theorem dX6_after_53 : decode cX6_after 53 = .ok (.iload 5, 2) := dk_21 5 (dk_at dksX6_after_2 6 rfl rfl)
theorem dX6_after_55 : decode cX6_after 55 = .ok (.aload_n 0, 1) := dk_42 (dk_at dksX6_after_2 8 rfl rfl)
theorem dX6_after_56 : decode cX6_after 56 = .ok (.aload_n 0, 1) := dk_42 (dk_at dksX6_after_2 9 rfl rfl)
theorem dX6_after_57 : decode cX6_after 57 = .ok (.getfield 104, 3) := dk_180 0 104 (dk_at dksX6_after_2 10 rfl rfl)
theorem dX6_after_60 : decode cX6_after 60 = .ok (.iload 4, 2) := dk_21 4 (dk_at dksX6_after_2 13 rfl rfl)
theorem dX6_after_62 : decode cX6_after 62 = .ok (.iconst 1, 1) := dk_4 (dk_at dksX6_after_2 15 rfl rfl)
theorem dX6_after_63 : decode cX6_after 63 = .ok (.isub, 1) := dk_100 (dk_at dksX6_after_2 16 rfl rfl)
theorem dX6_after_64 : decode cX6_after 64 = .ok (.iaload, 1) := dk_46 (dk_at dksX6_after_2 17 rfl rfl)
theorem dX6_after_65 : decode cX6_after 65 = .ok (.aload_n 0, 1) := dk_42 (dk_at dksX6_after_2 18 rfl rfl)
theorem dX6_after_66 : decode cX6_after 66 = .ok (.getfield 107, 3) := dk_180 0 107 (dk_at dksX6_after_2 19 rfl rfl)
theorem dX6_after_69 : decode cX6_after 69 = .ok (.iload 4, 2) := dk_21 4 (dk_at dksX6_after_2 22 rfl rfl)
theorem dX6_after_71 : decode cX6_after 71 = .ok (.iconst 1, 1) := dk_4 (dk_at dksX6_after_3 0 rfl rfl)
theorem dX6_after_72 : decode cX6_after 72 = .ok (.isub, 1) := dk_100 (dk_at dksX6_after_3 1 rfl rfl)
theorem dX6_after_73 : decode cX6_after 73 = .ok (.iaload, 1) := dk_46 (dk_at dksX6_after_3 2 rfl rfl)
theorem dX6_after_74 : decode cX6_after 74 = .ok (.invokevirtual 303, 3) := dk_182 1 47 (dk_at dksX6_after_3 3 rfl rfl)
theorem dX6_after_77 : decode cX6_after 77 = .ok (.if_icmp .ne 7, 3) := dk_160 0 7 (dk_at dksX6_after_3 6 rfl rfl)
theorem dX6_after_80 : decode cX6_after 80 = .ok (.iconst 1, 1) := dk_4 (dk_at dksX6_after_3 9 rfl rfl)
theorem dX6_after_81 : decode cX6_after 81 = .ok (.goto 4, 3) := dk_167 0 4 (dk_at dksX6_after_3 10 rfl rfl)
theorem dX6_after_84 : decode cX6_after 84 = .ok (.iconst 0, 1) := dk_3 (dk_at dksX6_after_3 13 rfl rfl)
theorem dX6_after_85 : decode cX6_after 85 = .ok (.istore 6, 2) := dk_54 6 (dk_at dksX6_after_3 14 rfl rfl)
theorem dX6_after_87 : decode cX6_after 87 = .ok (.iload 6, 2) := dk_21 6 (dk_at dksX6_after_3 16 rfl rfl)
theorem dX6_after_89 : decode cX6_after 89 = .ok (.iload_n 1, 1) := dk_27 (dk_at dksX6_after_3 18 rfl rfl)
theorem dX6_after_90 : decode cX6_after 90 = .ok (.ifCond .ne 7, 3) := dk_154 0 7 (dk_at dksX6_after_3 19 rfl rfl)
theorem dX6_after_93 : decode cX6_after 93 = .ok (.iconst 1, 1) := dk_4 (dk_at dksX6_after_3 22 rfl rfl)
theorem dX6_after_94 : decode cX6_after 94 = .ok (.goto 4, 3) := dk_167 0 4 (dk_at dksX6_after_4 0 rfl rfl)
theorem dX6_after_97 : decode cX6_after 97 = .ok (.iconst 0, 1) := dk_3 (dk_at dksX6_after_4 3 rfl rfl)
theorem dX6_after_98 : decode cX6_after 98 = .ok (.if_icmp .ne 16, 3) := dk_160 0 16 (dk_at dksX6_after_4 4 rfl rfl)
theorem dX6_after_101 : decode cX6_after 101 = .ok (.iload_n 2, 1) := dk_28 (dk_at dksX6_after_4 7 rfl rfl)
theorem dX6_after_102 : decode cX6_after 102 = .ok (.aload_n 0, 1) := dk_42 (dk_at dksX6_after_4 8 rfl rfl)
theorem dX6_after_103 : decode cX6_after 103 = .ok (.getfield 119, 3) := dk_180 0 119 (dk_at dksX6_after_4 9 rfl rfl)
theorem dX6_after_106 : decode cX6_after 106 = .ok (.iload 4, 2) := dk_21 4 (dk_at dksX6_after_4 12 rfl rfl)
theorem dX6_after_108 : decode cX6_after 108 = .ok (.iaload, 1) := dk_46 (dk_at dksX6_after_4 14 rfl rfl)
theorem dX6_after_109 : decode cX6_after 109 = .ok (.iadd, 1) := dk_96 (dk_at dksX6_after_4 15 rfl rfl)
theorem dX6_after_110 : decode cX6_after 110 = .ok (.istore_n 2, 1) := dk_61 (dk_at dksX6_after_4 16 rfl rfl)
theorem dX6_after_111 : decode cX6_after 111 = .ok (.iinc 3 1, 3) := dk_132 3 1 (dk_at dksX6_after_4 17 rfl rfl)
theorem dX6_after_114 : decode cX6_after 114 = .ok (.iinc 4 1, 3) := dk_132 4 1 (dk_at dksX6_after_4 20 rfl rfl)
theorem dX6_after_117 : decode cX6_after 117 = .ok (.goto (-99), 3) := dk_167 255 157 (dk_at dksX6_after_5 0 rfl rfl)
theorem dX6_after_120 : decode cX6_after 120 = .ok (.iload_n 2, 1) := dk_28 (dk_at dksX6_after_5 3 rfl rfl)
theorem dX6_after_121 : decode cX6_after 121 = .ok (.iload_n 3, 1) := dk_29 (dk_at dksX6_after_5 4 rfl rfl)
theorem dX6_after_122 : decode cX6_after 122 = .ok (.invokestatic 389, 3) := dk_184 1 133 (dk_at dksX6_after_5 5 rfl rfl)
theorem dX6_after_125 : decode cX6_after 125 = .ok (.ireturn, 1) := dk_172 (dk_at dksX6_after_5 8 rfl rfl)
abbrev cX6_learnt : ByteArray := prog_16_method_70_code
def yX6_learnt : MethodName := ⟨RX6, "learnt", "(IIII)I"⟩
def dkwX6_learnt_6 : List UInt8 := [167, 0, 15, 21, 4, 154, 0, 8, 21, 6, 167, 0, 5, 21, 5, 172]
abbrev dktX6_learnt_6 : List UInt8 := dkwX6_learnt_6 ++ []
def dkwX6_learnt_5 : List UInt8 := [180, 0, 101, 21, 7, 46, 4, 96, 54, 6, 132, 7, 1, 167, 255, 217, 21, 6, 21, 5, 164, 0, 7, 2]
abbrev dktX6_learnt_5 : List UInt8 := dkwX6_learnt_5 ++ dktX6_learnt_6
def dkwX6_learnt_4 : List UInt8 := [180, 1, 110, 162, 0, 36, 42, 28, 21, 7, 29, 182, 1, 119, 153, 0, 8, 21, 6, 167, 0, 12, 42]
abbrev dktX6_learnt_4 : List UInt8 := dkwX6_learnt_4 ++ dktX6_learnt_5
def dkwX6_learnt_3 : List UInt8 := [167, 0, 10, 42, 180, 0, 101, 21, 7, 46, 54, 5, 132, 7, 255, 167, 255, 223, 3, 54, 7, 21, 7, 42]
abbrev dktX6_learnt_3 : List UInt8 := dkwX6_learnt_3 ++ dktX6_learnt_4
def dkwX6_learnt_2 : List UInt8 := [4, 100, 54, 7, 21, 7, 155, 0, 34, 42, 27, 21, 7, 29, 182, 1, 119, 153, 0, 8, 21, 5]
abbrev dktX6_learnt_2 : List UInt8 := dkwX6_learnt_2 ++ dktX6_learnt_3
def dkwX6_learnt_1 : List UInt8 := [21, 4, 3, 4, 184, 0, 186, 154, 0, 5, 2, 172, 17, 3, 232, 54, 5, 3, 54, 6, 42, 180, 1, 110]
abbrev dktX6_learnt_1 : List UInt8 := dkwX6_learnt_1 ++ dktX6_learnt_2
def dkwX6_learnt_0 : List UInt8 := [42, 27, 182, 1, 88, 153, 0, 29, 42, 28, 182, 1, 88, 153, 0, 21, 42, 29, 182, 1, 122, 153, 0, 13]
abbrev dktX6_learnt_0 : List UInt8 := dkwX6_learnt_0 ++ dktX6_learnt_1
theorem dksX6_learnt_0 : cX6_learnt.data.toList.drop 0 = dktX6_learnt_0 := by decide +kernel
theorem dksX6_learnt_1 : cX6_learnt.data.toList.drop 24 = dktX6_learnt_1 := dk_seg dksX6_learnt_0 24 rfl rfl
theorem dksX6_learnt_2 : cX6_learnt.data.toList.drop 48 = dktX6_learnt_2 := dk_seg dksX6_learnt_1 24 rfl rfl
theorem dksX6_learnt_3 : cX6_learnt.data.toList.drop 70 = dktX6_learnt_3 := dk_seg dksX6_learnt_2 22 rfl rfl
theorem dksX6_learnt_4 : cX6_learnt.data.toList.drop 94 = dktX6_learnt_4 := dk_seg dksX6_learnt_3 24 rfl rfl
theorem dksX6_learnt_5 : cX6_learnt.data.toList.drop 117 = dktX6_learnt_5 := dk_seg dksX6_learnt_4 23 rfl rfl
theorem dksX6_learnt_6 : cX6_learnt.data.toList.drop 141 = dktX6_learnt_6 := dk_seg dksX6_learnt_5 24 rfl rfl
theorem dX6_learnt_0 : decode cX6_learnt 0 = .ok (.aload_n 0, 1) := dk_42 (dk_at dksX6_learnt_0 0 rfl rfl)
theorem dX6_learnt_1 : decode cX6_learnt 1 = .ok (.iload_n 1, 1) := dk_27 (dk_at dksX6_learnt_0 1 rfl rfl)
theorem dX6_learnt_2 : decode cX6_learnt 2 = .ok (.invokevirtual 344, 3) := dk_182 1 88 (dk_at dksX6_learnt_0 2 rfl rfl)
theorem dX6_learnt_5 : decode cX6_learnt 5 = .ok (.ifCond .eq 29, 3) := dk_153 0 29 (dk_at dksX6_learnt_0 5 rfl rfl)
theorem dX6_learnt_8 : decode cX6_learnt 8 = .ok (.aload_n 0, 1) := dk_42 (dk_at dksX6_learnt_0 8 rfl rfl)
theorem dX6_learnt_9 : decode cX6_learnt 9 = .ok (.iload_n 2, 1) := dk_28 (dk_at dksX6_learnt_0 9 rfl rfl)
theorem dX6_learnt_10 : decode cX6_learnt 10 = .ok (.invokevirtual 344, 3) := dk_182 1 88 (dk_at dksX6_learnt_0 10 rfl rfl)
theorem dX6_learnt_13 : decode cX6_learnt 13 = .ok (.ifCond .eq 21, 3) := dk_153 0 21 (dk_at dksX6_learnt_0 13 rfl rfl)
theorem dX6_learnt_16 : decode cX6_learnt 16 = .ok (.aload_n 0, 1) := dk_42 (dk_at dksX6_learnt_0 16 rfl rfl)
theorem dX6_learnt_17 : decode cX6_learnt 17 = .ok (.iload_n 3, 1) := dk_29 (dk_at dksX6_learnt_0 17 rfl rfl)
theorem dX6_learnt_18 : decode cX6_learnt 18 = .ok (.invokevirtual 378, 3) := dk_182 1 122 (dk_at dksX6_learnt_0 18 rfl rfl)
theorem dX6_learnt_21 : decode cX6_learnt 21 = .ok (.ifCond .eq 13, 3) := dk_153 0 13 (dk_at dksX6_learnt_0 21 rfl rfl)
theorem dX6_learnt_24 : decode cX6_learnt 24 = .ok (.iload 4, 2) := dk_21 4 (dk_at dksX6_learnt_1 0 rfl rfl)
theorem dX6_learnt_26 : decode cX6_learnt 26 = .ok (.iconst 0, 1) := dk_3 (dk_at dksX6_learnt_1 2 rfl rfl)
theorem dX6_learnt_27 : decode cX6_learnt 27 = .ok (.iconst 1, 1) := dk_4 (dk_at dksX6_learnt_1 3 rfl rfl)
theorem dX6_learnt_28 : decode cX6_learnt 28 = .ok (.invokestatic 186, 3) := dk_184 0 186 (dk_at dksX6_learnt_1 4 rfl rfl)
theorem dX6_learnt_31 : decode cX6_learnt 31 = .ok (.ifCond .ne 5, 3) := dk_154 0 5 (dk_at dksX6_learnt_1 7 rfl rfl)
theorem dX6_learnt_34 : decode cX6_learnt 34 = .ok (.iconst (-1), 1) := dk_2 (dk_at dksX6_learnt_1 10 rfl rfl)
theorem dX6_learnt_35 : decode cX6_learnt 35 = .ok (.ireturn, 1) := dk_172 (dk_at dksX6_learnt_1 11 rfl rfl)
theorem dX6_learnt_36 : decode cX6_learnt 36 = .ok (.sipush 1000, 3) := dk_17 3 232 (dk_at dksX6_learnt_1 12 rfl rfl)
theorem dX6_learnt_39 : decode cX6_learnt 39 = .ok (.istore 5, 2) := dk_54 5 (dk_at dksX6_learnt_1 15 rfl rfl)
theorem dX6_learnt_41 : decode cX6_learnt 41 = .ok (.iconst 0, 1) := dk_3 (dk_at dksX6_learnt_1 17 rfl rfl)
theorem dX6_learnt_42 : decode cX6_learnt 42 = .ok (.istore 6, 2) := dk_54 6 (dk_at dksX6_learnt_1 18 rfl rfl)
theorem dX6_learnt_44 : decode cX6_learnt 44 = .ok (.aload_n 0, 1) := dk_42 (dk_at dksX6_learnt_1 20 rfl rfl)
theorem dX6_learnt_45 : decode cX6_learnt 45 = .ok (.getfield 366, 3) := dk_180 1 110 (dk_at dksX6_learnt_1 21 rfl rfl)
theorem dX6_learnt_48 : decode cX6_learnt 48 = .ok (.iconst 1, 1) := dk_4 (dk_at dksX6_learnt_2 0 rfl rfl)
theorem dX6_learnt_49 : decode cX6_learnt 49 = .ok (.isub, 1) := dk_100 (dk_at dksX6_learnt_2 1 rfl rfl)
theorem dX6_learnt_50 : decode cX6_learnt 50 = .ok (.istore 7, 2) := dk_54 7 (dk_at dksX6_learnt_2 2 rfl rfl)
theorem dX6_learnt_52 : decode cX6_learnt 52 = .ok (.iload 7, 2) := dk_21 7 (dk_at dksX6_learnt_2 4 rfl rfl)
theorem dX6_learnt_54 : decode cX6_learnt 54 = .ok (.ifCond .lt 34, 3) := dk_155 0 34 (dk_at dksX6_learnt_2 6 rfl rfl)
theorem dX6_learnt_57 : decode cX6_learnt 57 = .ok (.aload_n 0, 1) := dk_42 (dk_at dksX6_learnt_2 9 rfl rfl)
theorem dX6_learnt_58 : decode cX6_learnt 58 = .ok (.iload_n 1, 1) := dk_27 (dk_at dksX6_learnt_2 10 rfl rfl)
theorem dX6_learnt_59 : decode cX6_learnt 59 = .ok (.iload 7, 2) := dk_21 7 (dk_at dksX6_learnt_2 11 rfl rfl)
theorem dX6_learnt_61 : decode cX6_learnt 61 = .ok (.iload_n 3, 1) := dk_29 (dk_at dksX6_learnt_2 13 rfl rfl)
theorem dX6_learnt_62 : decode cX6_learnt 62 = .ok (.invokevirtual 375, 3) := dk_182 1 119 (dk_at dksX6_learnt_2 14 rfl rfl)
theorem dX6_learnt_65 : decode cX6_learnt 65 = .ok (.ifCond .eq 8, 3) := dk_153 0 8 (dk_at dksX6_learnt_2 17 rfl rfl)
theorem dX6_learnt_68 : decode cX6_learnt 68 = .ok (.iload 5, 2) := dk_21 5 (dk_at dksX6_learnt_2 20 rfl rfl)
theorem dX6_learnt_70 : decode cX6_learnt 70 = .ok (.goto 10, 3) := dk_167 0 10 (dk_at dksX6_learnt_3 0 rfl rfl)
theorem dX6_learnt_73 : decode cX6_learnt 73 = .ok (.aload_n 0, 1) := dk_42 (dk_at dksX6_learnt_3 3 rfl rfl)
theorem dX6_learnt_74 : decode cX6_learnt 74 = .ok (.getfield 101, 3) := dk_180 0 101 (dk_at dksX6_learnt_3 4 rfl rfl)
theorem dX6_learnt_77 : decode cX6_learnt 77 = .ok (.iload 7, 2) := dk_21 7 (dk_at dksX6_learnt_3 7 rfl rfl)
theorem dX6_learnt_79 : decode cX6_learnt 79 = .ok (.iaload, 1) := dk_46 (dk_at dksX6_learnt_3 9 rfl rfl)
theorem dX6_learnt_80 : decode cX6_learnt 80 = .ok (.istore 5, 2) := dk_54 5 (dk_at dksX6_learnt_3 10 rfl rfl)
theorem dX6_learnt_82 : decode cX6_learnt 82 = .ok (.iinc 7 (-1), 3) := dk_132 7 255 (dk_at dksX6_learnt_3 12 rfl rfl)
theorem dX6_learnt_85 : decode cX6_learnt 85 = .ok (.goto (-33), 3) := dk_167 255 223 (dk_at dksX6_learnt_3 15 rfl rfl)
theorem dX6_learnt_88 : decode cX6_learnt 88 = .ok (.iconst 0, 1) := dk_3 (dk_at dksX6_learnt_3 18 rfl rfl)
theorem dX6_learnt_89 : decode cX6_learnt 89 = .ok (.istore 7, 2) := dk_54 7 (dk_at dksX6_learnt_3 19 rfl rfl)
theorem dX6_learnt_91 : decode cX6_learnt 91 = .ok (.iload 7, 2) := dk_21 7 (dk_at dksX6_learnt_3 21 rfl rfl)
theorem dX6_learnt_93 : decode cX6_learnt 93 = .ok (.aload_n 0, 1) := dk_42 (dk_at dksX6_learnt_3 23 rfl rfl)
theorem dX6_learnt_94 : decode cX6_learnt 94 = .ok (.getfield 366, 3) := dk_180 1 110 (dk_at dksX6_learnt_4 0 rfl rfl)
theorem dX6_learnt_97 : decode cX6_learnt 97 = .ok (.if_icmp .ge 36, 3) := dk_162 0 36 (dk_at dksX6_learnt_4 3 rfl rfl)
theorem dX6_learnt_100 : decode cX6_learnt 100 = .ok (.aload_n 0, 1) := dk_42 (dk_at dksX6_learnt_4 6 rfl rfl)
theorem dX6_learnt_101 : decode cX6_learnt 101 = .ok (.iload_n 2, 1) := dk_28 (dk_at dksX6_learnt_4 7 rfl rfl)
theorem dX6_learnt_102 : decode cX6_learnt 102 = .ok (.iload 7, 2) := dk_21 7 (dk_at dksX6_learnt_4 8 rfl rfl)
theorem dX6_learnt_104 : decode cX6_learnt 104 = .ok (.iload_n 3, 1) := dk_29 (dk_at dksX6_learnt_4 10 rfl rfl)
theorem dX6_learnt_105 : decode cX6_learnt 105 = .ok (.invokevirtual 375, 3) := dk_182 1 119 (dk_at dksX6_learnt_4 11 rfl rfl)
theorem dX6_learnt_108 : decode cX6_learnt 108 = .ok (.ifCond .eq 8, 3) := dk_153 0 8 (dk_at dksX6_learnt_4 14 rfl rfl)
theorem dX6_learnt_111 : decode cX6_learnt 111 = .ok (.iload 6, 2) := dk_21 6 (dk_at dksX6_learnt_4 17 rfl rfl)
theorem dX6_learnt_113 : decode cX6_learnt 113 = .ok (.goto 12, 3) := dk_167 0 12 (dk_at dksX6_learnt_4 19 rfl rfl)
theorem dX6_learnt_116 : decode cX6_learnt 116 = .ok (.aload_n 0, 1) := dk_42 (dk_at dksX6_learnt_4 22 rfl rfl)
theorem dX6_learnt_117 : decode cX6_learnt 117 = .ok (.getfield 101, 3) := dk_180 0 101 (dk_at dksX6_learnt_5 0 rfl rfl)
theorem dX6_learnt_120 : decode cX6_learnt 120 = .ok (.iload 7, 2) := dk_21 7 (dk_at dksX6_learnt_5 3 rfl rfl)
theorem dX6_learnt_122 : decode cX6_learnt 122 = .ok (.iaload, 1) := dk_46 (dk_at dksX6_learnt_5 5 rfl rfl)
theorem dX6_learnt_123 : decode cX6_learnt 123 = .ok (.iconst 1, 1) := dk_4 (dk_at dksX6_learnt_5 6 rfl rfl)
theorem dX6_learnt_124 : decode cX6_learnt 124 = .ok (.iadd, 1) := dk_96 (dk_at dksX6_learnt_5 7 rfl rfl)
theorem dX6_learnt_125 : decode cX6_learnt 125 = .ok (.istore 6, 2) := dk_54 6 (dk_at dksX6_learnt_5 8 rfl rfl)
theorem dX6_learnt_127 : decode cX6_learnt 127 = .ok (.iinc 7 1, 3) := dk_132 7 1 (dk_at dksX6_learnt_5 10 rfl rfl)
theorem dX6_learnt_130 : decode cX6_learnt 130 = .ok (.goto (-39), 3) := dk_167 255 217 (dk_at dksX6_learnt_5 13 rfl rfl)
theorem dX6_learnt_133 : decode cX6_learnt 133 = .ok (.iload 6, 2) := dk_21 6 (dk_at dksX6_learnt_5 16 rfl rfl)
theorem dX6_learnt_135 : decode cX6_learnt 135 = .ok (.iload 5, 2) := dk_21 5 (dk_at dksX6_learnt_5 18 rfl rfl)
theorem dX6_learnt_137 : decode cX6_learnt 137 = .ok (.if_icmp .le 7, 3) := dk_164 0 7 (dk_at dksX6_learnt_5 20 rfl rfl)
theorem dX6_learnt_140 : decode cX6_learnt 140 = .ok (.iconst (-1), 1) := dk_2 (dk_at dksX6_learnt_5 23 rfl rfl)
theorem dX6_learnt_141 : decode cX6_learnt 141 = .ok (.goto 15, 3) := dk_167 0 15 (dk_at dksX6_learnt_6 0 rfl rfl)
theorem dX6_learnt_144 : decode cX6_learnt 144 = .ok (.iload 4, 2) := dk_21 4 (dk_at dksX6_learnt_6 3 rfl rfl)
theorem dX6_learnt_146 : decode cX6_learnt 146 = .ok (.ifCond .ne 8, 3) := dk_154 0 8 (dk_at dksX6_learnt_6 5 rfl rfl)
theorem dX6_learnt_149 : decode cX6_learnt 149 = .ok (.iload 6, 2) := dk_21 6 (dk_at dksX6_learnt_6 8 rfl rfl)
theorem dX6_learnt_151 : decode cX6_learnt 151 = .ok (.goto 5, 3) := dk_167 0 5 (dk_at dksX6_learnt_6 10 rfl rfl)
theorem dX6_learnt_154 : decode cX6_learnt 154 = .ok (.iload 5, 2) := dk_21 5 (dk_at dksX6_learnt_6 13 rfl rfl)
theorem dX6_learnt_156 : decode cX6_learnt 156 = .ok (.ireturn, 1) := dk_172 (dk_at dksX6_learnt_6 15 rfl rfl)
abbrev cX6_weigh : ByteArray := prog_16_method_71_code
def yX6_weigh : MethodName := ⟨RX6, "weigh", "(II)Z"⟩
def dkwX6_weigh_1 : List UInt8 := [27, 28, 79, 4, 172]
abbrev dktX6_weigh_1 : List UInt8 := dkwX6_weigh_1 ++ []
def dkwX6_weigh_0 : List UInt8 := [42, 27, 182, 1, 88, 153, 0, 13, 28, 4, 16, 9, 184, 0, 186, 154, 0, 5, 3, 172, 42, 180, 0, 78]
abbrev dktX6_weigh_0 : List UInt8 := dkwX6_weigh_0 ++ dktX6_weigh_1
theorem dksX6_weigh_0 : cX6_weigh.data.toList.drop 0 = dktX6_weigh_0 := by decide +kernel
theorem dksX6_weigh_1 : cX6_weigh.data.toList.drop 24 = dktX6_weigh_1 := dk_seg dksX6_weigh_0 24 rfl rfl
theorem dX6_weigh_0 : decode cX6_weigh 0 = .ok (.aload_n 0, 1) := dk_42 (dk_at dksX6_weigh_0 0 rfl rfl)
theorem dX6_weigh_1 : decode cX6_weigh 1 = .ok (.iload_n 1, 1) := dk_27 (dk_at dksX6_weigh_0 1 rfl rfl)
theorem dX6_weigh_2 : decode cX6_weigh 2 = .ok (.invokevirtual 344, 3) := dk_182 1 88 (dk_at dksX6_weigh_0 2 rfl rfl)
theorem dX6_weigh_5 : decode cX6_weigh 5 = .ok (.ifCond .eq 13, 3) := dk_153 0 13 (dk_at dksX6_weigh_0 5 rfl rfl)
theorem dX6_weigh_8 : decode cX6_weigh 8 = .ok (.iload_n 2, 1) := dk_28 (dk_at dksX6_weigh_0 8 rfl rfl)
theorem dX6_weigh_9 : decode cX6_weigh 9 = .ok (.iconst 1, 1) := dk_4 (dk_at dksX6_weigh_0 9 rfl rfl)
theorem dX6_weigh_10 : decode cX6_weigh 10 = .ok (.bipush 9, 2) := dk_16 9 (dk_at dksX6_weigh_0 10 rfl rfl)
theorem dX6_weigh_12 : decode cX6_weigh 12 = .ok (.invokestatic 186, 3) := dk_184 0 186 (dk_at dksX6_weigh_0 12 rfl rfl)
theorem dX6_weigh_15 : decode cX6_weigh 15 = .ok (.ifCond .ne 5, 3) := dk_154 0 5 (dk_at dksX6_weigh_0 15 rfl rfl)
theorem dX6_weigh_18 : decode cX6_weigh 18 = .ok (.iconst 0, 1) := dk_3 (dk_at dksX6_weigh_0 18 rfl rfl)
theorem dX6_weigh_19 : decode cX6_weigh 19 = .ok (.ireturn, 1) := dk_172 (dk_at dksX6_weigh_0 19 rfl rfl)
theorem dX6_weigh_20 : decode cX6_weigh 20 = .ok (.aload_n 0, 1) := dk_42 (dk_at dksX6_weigh_0 20 rfl rfl)
theorem dX6_weigh_21 : decode cX6_weigh 21 = .ok (.getfield 78, 3) := dk_180 0 78 (dk_at dksX6_weigh_0 21 rfl rfl)
theorem dX6_weigh_24 : decode cX6_weigh 24 = .ok (.iload_n 1, 1) := dk_27 (dk_at dksX6_weigh_1 0 rfl rfl)
theorem dX6_weigh_25 : decode cX6_weigh 25 = .ok (.iload_n 2, 1) := dk_28 (dk_at dksX6_weigh_1 1 rfl rfl)
theorem dX6_weigh_26 : decode cX6_weigh 26 = .ok (.iastore, 1) := dk_79 (dk_at dksX6_weigh_1 2 rfl rfl)
theorem dX6_weigh_27 : decode cX6_weigh 27 = .ok (.iconst 1, 1) := dk_4 (dk_at dksX6_weigh_1 3 rfl rfl)
theorem dX6_weigh_28 : decode cX6_weigh 28 = .ok (.ireturn, 1) := dk_172 (dk_at dksX6_weigh_1 4 rfl rfl)
abbrev cX6_odds : ByteArray := prog_16_method_72_code
def yX6_odds : MethodName := ⟨RX6, "odds", "(II)I"⟩
def dkwX6_odds_3 : List UInt8 := [167, 0, 4, 3, 96, 62, 132, 4, 1, 167, 255, 205, 29, 172]
abbrev dktX6_odds_3 : List UInt8 := dkwX6_odds_3 ++ []
def dkwX6_odds_2 : List UInt8 := [160, 0, 27, 42, 21, 4, 28, 182, 1, 125, 42, 180, 1, 110, 160, 0, 13, 42, 180, 0, 78, 21, 4, 46]
abbrev dktX6_odds_2 : List UInt8 := dkwX6_odds_2 ++ dktX6_odds_3
def dkwX6_odds_1 : List UInt8 := [62, 3, 54, 4, 21, 4, 42, 180, 1, 18, 162, 0, 48, 29, 27, 2, 159, 0, 9, 27, 21, 4]
abbrev dktX6_odds_1 : List UInt8 := dkwX6_odds_1 ++ dktX6_odds_2
def dkwX6_odds_0 : List UInt8 := [27, 2, 159, 0, 11, 42, 27, 182, 1, 88, 153, 0, 11, 42, 28, 182, 1, 122, 154, 0, 5, 2, 172, 3]
abbrev dktX6_odds_0 : List UInt8 := dkwX6_odds_0 ++ dktX6_odds_1
theorem dksX6_odds_0 : cX6_odds.data.toList.drop 0 = dktX6_odds_0 := by decide +kernel
theorem dksX6_odds_1 : cX6_odds.data.toList.drop 24 = dktX6_odds_1 := dk_seg dksX6_odds_0 24 rfl rfl
theorem dksX6_odds_2 : cX6_odds.data.toList.drop 46 = dktX6_odds_2 := dk_seg dksX6_odds_1 22 rfl rfl
theorem dksX6_odds_3 : cX6_odds.data.toList.drop 70 = dktX6_odds_3 := dk_seg dksX6_odds_2 24 rfl rfl
theorem dX6_odds_0 : decode cX6_odds 0 = .ok (.iload_n 1, 1) := dk_27 (dk_at dksX6_odds_0 0 rfl rfl)
theorem dX6_odds_1 : decode cX6_odds 1 = .ok (.iconst (-1), 1) := dk_2 (dk_at dksX6_odds_0 1 rfl rfl)
theorem dX6_odds_2 : decode cX6_odds 2 = .ok (.if_icmp .eq 11, 3) := dk_159 0 11 (dk_at dksX6_odds_0 2 rfl rfl)
theorem dX6_odds_5 : decode cX6_odds 5 = .ok (.aload_n 0, 1) := dk_42 (dk_at dksX6_odds_0 5 rfl rfl)
theorem dX6_odds_6 : decode cX6_odds 6 = .ok (.iload_n 1, 1) := dk_27 (dk_at dksX6_odds_0 6 rfl rfl)
theorem dX6_odds_7 : decode cX6_odds 7 = .ok (.invokevirtual 344, 3) := dk_182 1 88 (dk_at dksX6_odds_0 7 rfl rfl)
theorem dX6_odds_10 : decode cX6_odds 10 = .ok (.ifCond .eq 11, 3) := dk_153 0 11 (dk_at dksX6_odds_0 10 rfl rfl)
theorem dX6_odds_13 : decode cX6_odds 13 = .ok (.aload_n 0, 1) := dk_42 (dk_at dksX6_odds_0 13 rfl rfl)
theorem dX6_odds_14 : decode cX6_odds 14 = .ok (.iload_n 2, 1) := dk_28 (dk_at dksX6_odds_0 14 rfl rfl)
theorem dX6_odds_15 : decode cX6_odds 15 = .ok (.invokevirtual 378, 3) := dk_182 1 122 (dk_at dksX6_odds_0 15 rfl rfl)
theorem dX6_odds_18 : decode cX6_odds 18 = .ok (.ifCond .ne 5, 3) := dk_154 0 5 (dk_at dksX6_odds_0 18 rfl rfl)
theorem dX6_odds_21 : decode cX6_odds 21 = .ok (.iconst (-1), 1) := dk_2 (dk_at dksX6_odds_0 21 rfl rfl)
theorem dX6_odds_22 : decode cX6_odds 22 = .ok (.ireturn, 1) := dk_172 (dk_at dksX6_odds_0 22 rfl rfl)
theorem dX6_odds_23 : decode cX6_odds 23 = .ok (.iconst 0, 1) := dk_3 (dk_at dksX6_odds_0 23 rfl rfl)
theorem dX6_odds_24 : decode cX6_odds 24 = .ok (.istore_n 3, 1) := dk_62 (dk_at dksX6_odds_1 0 rfl rfl)
theorem dX6_odds_25 : decode cX6_odds 25 = .ok (.iconst 0, 1) := dk_3 (dk_at dksX6_odds_1 1 rfl rfl)
theorem dX6_odds_26 : decode cX6_odds 26 = .ok (.istore 4, 2) := dk_54 4 (dk_at dksX6_odds_1 2 rfl rfl)
theorem dX6_odds_28 : decode cX6_odds 28 = .ok (.iload 4, 2) := dk_21 4 (dk_at dksX6_odds_1 4 rfl rfl)
theorem dX6_odds_30 : decode cX6_odds 30 = .ok (.aload_n 0, 1) := dk_42 (dk_at dksX6_odds_1 6 rfl rfl)
theorem dX6_odds_31 : decode cX6_odds 31 = .ok (.getfield 274, 3) := dk_180 1 18 (dk_at dksX6_odds_1 7 rfl rfl)
theorem dX6_odds_34 : decode cX6_odds 34 = .ok (.if_icmp .ge 48, 3) := dk_162 0 48 (dk_at dksX6_odds_1 10 rfl rfl)
theorem dX6_odds_37 : decode cX6_odds 37 = .ok (.iload_n 3, 1) := dk_29 (dk_at dksX6_odds_1 13 rfl rfl)
theorem dX6_odds_38 : decode cX6_odds 38 = .ok (.iload_n 1, 1) := dk_27 (dk_at dksX6_odds_1 14 rfl rfl)
theorem dX6_odds_39 : decode cX6_odds 39 = .ok (.iconst (-1), 1) := dk_2 (dk_at dksX6_odds_1 15 rfl rfl)
theorem dX6_odds_40 : decode cX6_odds 40 = .ok (.if_icmp .eq 9, 3) := dk_159 0 9 (dk_at dksX6_odds_1 16 rfl rfl)
theorem dX6_odds_43 : decode cX6_odds 43 = .ok (.iload_n 1, 1) := dk_27 (dk_at dksX6_odds_1 19 rfl rfl)
theorem dX6_odds_44 : decode cX6_odds 44 = .ok (.iload 4, 2) := dk_21 4 (dk_at dksX6_odds_1 20 rfl rfl)
theorem dX6_odds_46 : decode cX6_odds 46 = .ok (.if_icmp .ne 27, 3) := dk_160 0 27 (dk_at dksX6_odds_2 0 rfl rfl)
theorem dX6_odds_49 : decode cX6_odds 49 = .ok (.aload_n 0, 1) := dk_42 (dk_at dksX6_odds_2 3 rfl rfl)
theorem dX6_odds_50 : decode cX6_odds 50 = .ok (.iload 4, 2) := dk_21 4 (dk_at dksX6_odds_2 4 rfl rfl)
theorem dX6_odds_52 : decode cX6_odds 52 = .ok (.iload_n 2, 1) := dk_28 (dk_at dksX6_odds_2 6 rfl rfl)
theorem dX6_odds_53 : decode cX6_odds 53 = .ok (.invokevirtual 381, 3) := dk_182 1 125 (dk_at dksX6_odds_2 7 rfl rfl)
theorem dX6_odds_56 : decode cX6_odds 56 = .ok (.aload_n 0, 1) := dk_42 (dk_at dksX6_odds_2 10 rfl rfl)
theorem dX6_odds_57 : decode cX6_odds 57 = .ok (.getfield 366, 3) := dk_180 1 110 (dk_at dksX6_odds_2 11 rfl rfl)
theorem dX6_odds_60 : decode cX6_odds 60 = .ok (.if_icmp .ne 13, 3) := dk_160 0 13 (dk_at dksX6_odds_2 14 rfl rfl)
theorem dX6_odds_63 : decode cX6_odds 63 = .ok (.aload_n 0, 1) := dk_42 (dk_at dksX6_odds_2 17 rfl rfl)
theorem dX6_odds_64 : decode cX6_odds 64 = .ok (.getfield 78, 3) := dk_180 0 78 (dk_at dksX6_odds_2 18 rfl rfl)
theorem dX6_odds_67 : decode cX6_odds 67 = .ok (.iload 4, 2) := dk_21 4 (dk_at dksX6_odds_2 21 rfl rfl)
theorem dX6_odds_69 : decode cX6_odds 69 = .ok (.iaload, 1) := dk_46 (dk_at dksX6_odds_2 23 rfl rfl)
theorem dX6_odds_70 : decode cX6_odds 70 = .ok (.goto 4, 3) := dk_167 0 4 (dk_at dksX6_odds_3 0 rfl rfl)
theorem dX6_odds_73 : decode cX6_odds 73 = .ok (.iconst 0, 1) := dk_3 (dk_at dksX6_odds_3 3 rfl rfl)
theorem dX6_odds_74 : decode cX6_odds 74 = .ok (.iadd, 1) := dk_96 (dk_at dksX6_odds_3 4 rfl rfl)
theorem dX6_odds_75 : decode cX6_odds 75 = .ok (.istore_n 3, 1) := dk_62 (dk_at dksX6_odds_3 5 rfl rfl)
theorem dX6_odds_76 : decode cX6_odds 76 = .ok (.iinc 4 1, 3) := dk_132 4 1 (dk_at dksX6_odds_3 6 rfl rfl)
theorem dX6_odds_79 : decode cX6_odds 79 = .ok (.goto (-51), 3) := dk_167 255 205 (dk_at dksX6_odds_3 9 rfl rfl)
theorem dX6_odds_82 : decode cX6_odds 82 = .ok (.iload_n 3, 1) := dk_29 (dk_at dksX6_odds_3 12 rfl rfl)
theorem dX6_odds_83 : decode cX6_odds 83 = .ok (.ireturn, 1) := dk_172 (dk_at dksX6_odds_3 13 rfl rfl)
abbrev cX6_plan : ByteArray := prog_16_method_73_code
def yX6_plan : MethodName := ⟨RX6, "plan", "(IIII)I"⟩
def dkwX6_plan_3 : List UInt8 := [181, 1, 136, 42, 180, 1, 136, 4, 100, 172]
abbrev dktX6_plan_3 : List UInt8 := dkwX6_plan_3 ++ []
def dkwX6_plan_2 : List UInt8 := [180, 1, 136, 29, 79, 42, 180, 0, 131, 42, 180, 1, 136, 21, 4, 79, 42, 89, 180, 1, 136, 4, 96]
abbrev dktX6_plan_2 : List UInt8 := dkwX6_plan_2 ++ dktX6_plan_3
def dkwX6_plan_1 : List UInt8 := [180, 0, 122, 42, 180, 1, 136, 27, 79, 42, 180, 0, 125, 42, 180, 1, 136, 28, 79, 42, 180, 0, 128, 42]
abbrev dktX6_plan_1 : List UInt8 := dkwX6_plan_1 ++ dktX6_plan_2
def dkwX6_plan_0 : List UInt8 := [42, 27, 28, 29, 21, 4, 182, 1, 31, 153, 0, 12, 42, 180, 1, 136, 16, 8, 160, 0, 5, 2, 172, 42]
abbrev dktX6_plan_0 : List UInt8 := dkwX6_plan_0 ++ dktX6_plan_1
theorem dksX6_plan_0 : cX6_plan.data.toList.drop 0 = dktX6_plan_0 := by decide +kernel
theorem dksX6_plan_1 : cX6_plan.data.toList.drop 24 = dktX6_plan_1 := dk_seg dksX6_plan_0 24 rfl rfl
theorem dksX6_plan_2 : cX6_plan.data.toList.drop 48 = dktX6_plan_2 := dk_seg dksX6_plan_1 24 rfl rfl
theorem dksX6_plan_3 : cX6_plan.data.toList.drop 71 = dktX6_plan_3 := dk_seg dksX6_plan_2 23 rfl rfl
theorem dX6_plan_0 : decode cX6_plan 0 = .ok (.aload_n 0, 1) := dk_42 (dk_at dksX6_plan_0 0 rfl rfl)
theorem dX6_plan_1 : decode cX6_plan 1 = .ok (.iload_n 1, 1) := dk_27 (dk_at dksX6_plan_0 1 rfl rfl)
theorem dX6_plan_2 : decode cX6_plan 2 = .ok (.iload_n 2, 1) := dk_28 (dk_at dksX6_plan_0 2 rfl rfl)
theorem dX6_plan_3 : decode cX6_plan 3 = .ok (.iload_n 3, 1) := dk_29 (dk_at dksX6_plan_0 3 rfl rfl)
theorem dX6_plan_4 : decode cX6_plan 4 = .ok (.iload 4, 2) := dk_21 4 (dk_at dksX6_plan_0 4 rfl rfl)
theorem dX6_plan_6 : decode cX6_plan 6 = .ok (.invokevirtual 287, 3) := dk_182 1 31 (dk_at dksX6_plan_0 6 rfl rfl)
theorem dX6_plan_9 : decode cX6_plan 9 = .ok (.ifCond .eq 12, 3) := dk_153 0 12 (dk_at dksX6_plan_0 9 rfl rfl)
theorem dX6_plan_12 : decode cX6_plan 12 = .ok (.aload_n 0, 1) := dk_42 (dk_at dksX6_plan_0 12 rfl rfl)
theorem dX6_plan_13 : decode cX6_plan 13 = .ok (.getfield 392, 3) := dk_180 1 136 (dk_at dksX6_plan_0 13 rfl rfl)
theorem dX6_plan_16 : decode cX6_plan 16 = .ok (.bipush 8, 2) := dk_16 8 (dk_at dksX6_plan_0 16 rfl rfl)
theorem dX6_plan_18 : decode cX6_plan 18 = .ok (.if_icmp .ne 5, 3) := dk_160 0 5 (dk_at dksX6_plan_0 18 rfl rfl)
theorem dX6_plan_21 : decode cX6_plan 21 = .ok (.iconst (-1), 1) := dk_2 (dk_at dksX6_plan_0 21 rfl rfl)
theorem dX6_plan_22 : decode cX6_plan 22 = .ok (.ireturn, 1) := dk_172 (dk_at dksX6_plan_0 22 rfl rfl)
theorem dX6_plan_23 : decode cX6_plan 23 = .ok (.aload_n 0, 1) := dk_42 (dk_at dksX6_plan_0 23 rfl rfl)
theorem dX6_plan_24 : decode cX6_plan 24 = .ok (.getfield 122, 3) := dk_180 0 122 (dk_at dksX6_plan_1 0 rfl rfl)
theorem dX6_plan_27 : decode cX6_plan 27 = .ok (.aload_n 0, 1) := dk_42 (dk_at dksX6_plan_1 3 rfl rfl)
theorem dX6_plan_28 : decode cX6_plan 28 = .ok (.getfield 392, 3) := dk_180 1 136 (dk_at dksX6_plan_1 4 rfl rfl)
theorem dX6_plan_31 : decode cX6_plan 31 = .ok (.iload_n 1, 1) := dk_27 (dk_at dksX6_plan_1 7 rfl rfl)
theorem dX6_plan_32 : decode cX6_plan 32 = .ok (.iastore, 1) := dk_79 (dk_at dksX6_plan_1 8 rfl rfl)
theorem dX6_plan_33 : decode cX6_plan 33 = .ok (.aload_n 0, 1) := dk_42 (dk_at dksX6_plan_1 9 rfl rfl)
theorem dX6_plan_34 : decode cX6_plan 34 = .ok (.getfield 125, 3) := dk_180 0 125 (dk_at dksX6_plan_1 10 rfl rfl)
theorem dX6_plan_37 : decode cX6_plan 37 = .ok (.aload_n 0, 1) := dk_42 (dk_at dksX6_plan_1 13 rfl rfl)
theorem dX6_plan_38 : decode cX6_plan 38 = .ok (.getfield 392, 3) := dk_180 1 136 (dk_at dksX6_plan_1 14 rfl rfl)
theorem dX6_plan_41 : decode cX6_plan 41 = .ok (.iload_n 2, 1) := dk_28 (dk_at dksX6_plan_1 17 rfl rfl)
theorem dX6_plan_42 : decode cX6_plan 42 = .ok (.iastore, 1) := dk_79 (dk_at dksX6_plan_1 18 rfl rfl)
theorem dX6_plan_43 : decode cX6_plan 43 = .ok (.aload_n 0, 1) := dk_42 (dk_at dksX6_plan_1 19 rfl rfl)
theorem dX6_plan_44 : decode cX6_plan 44 = .ok (.getfield 128, 3) := dk_180 0 128 (dk_at dksX6_plan_1 20 rfl rfl)
theorem dX6_plan_47 : decode cX6_plan 47 = .ok (.aload_n 0, 1) := dk_42 (dk_at dksX6_plan_1 23 rfl rfl)
theorem dX6_plan_48 : decode cX6_plan 48 = .ok (.getfield 392, 3) := dk_180 1 136 (dk_at dksX6_plan_2 0 rfl rfl)
theorem dX6_plan_51 : decode cX6_plan 51 = .ok (.iload_n 3, 1) := dk_29 (dk_at dksX6_plan_2 3 rfl rfl)
theorem dX6_plan_52 : decode cX6_plan 52 = .ok (.iastore, 1) := dk_79 (dk_at dksX6_plan_2 4 rfl rfl)
theorem dX6_plan_53 : decode cX6_plan 53 = .ok (.aload_n 0, 1) := dk_42 (dk_at dksX6_plan_2 5 rfl rfl)
theorem dX6_plan_54 : decode cX6_plan 54 = .ok (.getfield 131, 3) := dk_180 0 131 (dk_at dksX6_plan_2 6 rfl rfl)
theorem dX6_plan_57 : decode cX6_plan 57 = .ok (.aload_n 0, 1) := dk_42 (dk_at dksX6_plan_2 9 rfl rfl)
theorem dX6_plan_58 : decode cX6_plan 58 = .ok (.getfield 392, 3) := dk_180 1 136 (dk_at dksX6_plan_2 10 rfl rfl)
theorem dX6_plan_61 : decode cX6_plan 61 = .ok (.iload 4, 2) := dk_21 4 (dk_at dksX6_plan_2 13 rfl rfl)
theorem dX6_plan_63 : decode cX6_plan 63 = .ok (.iastore, 1) := dk_79 (dk_at dksX6_plan_2 15 rfl rfl)
theorem dX6_plan_64 : decode cX6_plan 64 = .ok (.aload_n 0, 1) := dk_42 (dk_at dksX6_plan_2 16 rfl rfl)
theorem dX6_plan_65 : decode cX6_plan 65 = .ok (.dup, 1) := dk_89 (dk_at dksX6_plan_2 17 rfl rfl)
theorem dX6_plan_66 : decode cX6_plan 66 = .ok (.getfield 392, 3) := dk_180 1 136 (dk_at dksX6_plan_2 18 rfl rfl)
theorem dX6_plan_69 : decode cX6_plan 69 = .ok (.iconst 1, 1) := dk_4 (dk_at dksX6_plan_2 21 rfl rfl)
theorem dX6_plan_70 : decode cX6_plan 70 = .ok (.iadd, 1) := dk_96 (dk_at dksX6_plan_2 22 rfl rfl)
theorem dX6_plan_71 : decode cX6_plan 71 = .ok (.putfield 392, 3) := dk_181 1 136 (dk_at dksX6_plan_3 0 rfl rfl)
theorem dX6_plan_74 : decode cX6_plan 74 = .ok (.aload_n 0, 1) := dk_42 (dk_at dksX6_plan_3 3 rfl rfl)
theorem dX6_plan_75 : decode cX6_plan 75 = .ok (.getfield 392, 3) := dk_180 1 136 (dk_at dksX6_plan_3 4 rfl rfl)
theorem dX6_plan_78 : decode cX6_plan 78 = .ok (.iconst 1, 1) := dk_4 (dk_at dksX6_plan_3 7 rfl rfl)
theorem dX6_plan_79 : decode cX6_plan 79 = .ok (.isub, 1) := dk_100 (dk_at dksX6_plan_3 8 rfl rfl)
theorem dX6_plan_80 : decode cX6_plan 80 = .ok (.ireturn, 1) := dk_172 (dk_at dksX6_plan_3 9 rfl rfl)
abbrev cX6_parted : ByteArray := prog_16_method_77_code
def yX6_parted : MethodName := ⟨RX6, "parted", "(II)I"⟩
def dkwX6_parted_1 : List UInt8 := [28, 182, 1, 146, 167, 0, 4, 2, 172]
abbrev dktX6_parted_1 : List UInt8 := dkwX6_parted_1 ++ []
def dkwX6_parted_0 : List UInt8 := [27, 3, 42, 180, 1, 136, 4, 100, 184, 0, 186, 153, 0, 20, 42, 28, 182, 1, 143, 153, 0, 12, 42, 27]
abbrev dktX6_parted_0 : List UInt8 := dkwX6_parted_0 ++ dktX6_parted_1
theorem dksX6_parted_0 : cX6_parted.data.toList.drop 0 = dktX6_parted_0 := by decide +kernel
theorem dksX6_parted_1 : cX6_parted.data.toList.drop 24 = dktX6_parted_1 := dk_seg dksX6_parted_0 24 rfl rfl
theorem dX6_parted_0 : decode cX6_parted 0 = .ok (.iload_n 1, 1) := dk_27 (dk_at dksX6_parted_0 0 rfl rfl)
theorem dX6_parted_1 : decode cX6_parted 1 = .ok (.iconst 0, 1) := dk_3 (dk_at dksX6_parted_0 1 rfl rfl)
theorem dX6_parted_2 : decode cX6_parted 2 = .ok (.aload_n 0, 1) := dk_42 (dk_at dksX6_parted_0 2 rfl rfl)
theorem dX6_parted_3 : decode cX6_parted 3 = .ok (.getfield 392, 3) := dk_180 1 136 (dk_at dksX6_parted_0 3 rfl rfl)
theorem dX6_parted_6 : decode cX6_parted 6 = .ok (.iconst 1, 1) := dk_4 (dk_at dksX6_parted_0 6 rfl rfl)
theorem dX6_parted_7 : decode cX6_parted 7 = .ok (.isub, 1) := dk_100 (dk_at dksX6_parted_0 7 rfl rfl)
theorem dX6_parted_8 : decode cX6_parted 8 = .ok (.invokestatic 186, 3) := dk_184 0 186 (dk_at dksX6_parted_0 8 rfl rfl)
theorem dX6_parted_11 : decode cX6_parted 11 = .ok (.ifCond .eq 20, 3) := dk_153 0 20 (dk_at dksX6_parted_0 11 rfl rfl)
theorem dX6_parted_14 : decode cX6_parted 14 = .ok (.aload_n 0, 1) := dk_42 (dk_at dksX6_parted_0 14 rfl rfl)
theorem dX6_parted_15 : decode cX6_parted 15 = .ok (.iload_n 2, 1) := dk_28 (dk_at dksX6_parted_0 15 rfl rfl)
theorem dX6_parted_16 : decode cX6_parted 16 = .ok (.invokevirtual 399, 3) := dk_182 1 143 (dk_at dksX6_parted_0 16 rfl rfl)
theorem dX6_parted_19 : decode cX6_parted 19 = .ok (.ifCond .eq 12, 3) := dk_153 0 12 (dk_at dksX6_parted_0 19 rfl rfl)
theorem dX6_parted_22 : decode cX6_parted 22 = .ok (.aload_n 0, 1) := dk_42 (dk_at dksX6_parted_0 22 rfl rfl)
theorem dX6_parted_23 : decode cX6_parted 23 = .ok (.iload_n 1, 1) := dk_27 (dk_at dksX6_parted_0 23 rfl rfl)
theorem dX6_parted_24 : decode cX6_parted 24 = .ok (.iload_n 2, 1) := dk_28 (dk_at dksX6_parted_1 0 rfl rfl)
theorem dX6_parted_25 : decode cX6_parted 25 = .ok (.invokevirtual 402, 3) := dk_182 1 146 (dk_at dksX6_parted_1 1 rfl rfl)
theorem dX6_parted_28 : decode cX6_parted 28 = .ok (.goto 4, 3) := dk_167 0 4 (dk_at dksX6_parted_1 4 rfl rfl)
theorem dX6_parted_31 : decode cX6_parted 31 = .ok (.iconst (-1), 1) := dk_2 (dk_at dksX6_parted_1 7 rfl rfl)
theorem dX6_parted_32 : decode cX6_parted 32 = .ok (.ireturn, 1) := dk_172 (dk_at dksX6_parted_1 8 rfl rfl)
abbrev cX6_areHeads : ByteArray := prog_16_method_76_code
def yX6_areHeads : MethodName := ⟨RX6, "areHeads", "(I)Z"⟩
def dkwX6_areHeads_0 : List UInt8 := [27, 155, 0, 16, 27, 42, 180, 1, 18, 122, 154, 0, 7, 4, 167, 0, 4, 3, 172]
abbrev dktX6_areHeads_0 : List UInt8 := dkwX6_areHeads_0 ++ []
theorem dksX6_areHeads_0 : cX6_areHeads.data.toList.drop 0 = dktX6_areHeads_0 := by decide +kernel
theorem dX6_areHeads_0 : decode cX6_areHeads 0 = .ok (.iload_n 1, 1) := dk_27 (dk_at dksX6_areHeads_0 0 rfl rfl)
theorem dX6_areHeads_1 : decode cX6_areHeads 1 = .ok (.ifCond .lt 16, 3) := dk_155 0 16 (dk_at dksX6_areHeads_0 1 rfl rfl)
theorem dX6_areHeads_4 : decode cX6_areHeads 4 = .ok (.iload_n 1, 1) := dk_27 (dk_at dksX6_areHeads_0 4 rfl rfl)
theorem dX6_areHeads_5 : decode cX6_areHeads 5 = .ok (.aload_n 0, 1) := dk_42 (dk_at dksX6_areHeads_0 5 rfl rfl)
theorem dX6_areHeads_6 : decode cX6_areHeads 6 = .ok (.getfield 274, 3) := dk_180 1 18 (dk_at dksX6_areHeads_0 6 rfl rfl)
theorem dX6_areHeads_9 : decode cX6_areHeads 9 = .ok (.ishr, 1) := dk_122 (dk_at dksX6_areHeads_0 9 rfl rfl)
theorem dX6_areHeads_10 : decode cX6_areHeads 10 = .ok (.ifCond .ne 7, 3) := dk_154 0 7 (dk_at dksX6_areHeads_0 10 rfl rfl)
theorem dX6_areHeads_13 : decode cX6_areHeads 13 = .ok (.iconst 1, 1) := dk_4 (dk_at dksX6_areHeads_0 13 rfl rfl)
theorem dX6_areHeads_14 : decode cX6_areHeads 14 = .ok (.goto 4, 3) := dk_167 0 4 (dk_at dksX6_areHeads_0 14 rfl rfl)
theorem dX6_areHeads_17 : decode cX6_areHeads 17 = .ok (.iconst 0, 1) := dk_3 (dk_at dksX6_areHeads_0 17 rfl rfl)
theorem dX6_areHeads_18 : decode cX6_areHeads 18 = .ok (.ireturn, 1) := dk_172 (dk_at dksX6_areHeads_0 18 rfl rfl)
abbrev cX6_partedBy : ByteArray := prog_16_method_75_code
def yX6_partedBy : MethodName := ⟨RX6, "partedBy", "(II)I"⟩
def dkwX6_partedBy_4 : List UInt8 := [3, 96, 62, 132, 5, 1, 167, 255, 171, 132, 4, 1, 167, 255, 153, 29, 172]
abbrev dktX6_partedBy_4 : List UInt8 := dkwX6_partedBy_4 ++ []
def dkwX6_partedBy_3 : List UInt8 := [27, 46, 42, 180, 0, 128, 27, 46, 42, 180, 0, 131, 27, 46, 182, 1, 139, 153, 0, 7, 4, 167, 0, 4]
abbrev dktX6_partedBy_3 : List UInt8 := dkwX6_partedBy_3 ++ dktX6_partedBy_4
def dkwX6_partedBy_2 : List UInt8 := [3, 54, 6, 29, 21, 6, 153, 0, 42, 42, 21, 4, 21, 5, 42, 180, 0, 122, 27, 46, 42, 180, 0, 125]
abbrev dktX6_partedBy_2 : List UInt8 := dkwX6_partedBy_2 ++ dktX6_partedBy_3
def dkwX6_partedBy_1 : List UInt8 := [28, 21, 4, 122, 4, 126, 4, 160, 0, 17, 28, 21, 5, 122, 4, 126, 4, 160, 0, 7, 4, 167, 0, 4]
abbrev dktX6_partedBy_1 : List UInt8 := dkwX6_partedBy_1 ++ dktX6_partedBy_2
def dkwX6_partedBy_0 : List UInt8 := [3, 62, 3, 54, 4, 21, 4, 42, 180, 1, 18, 162, 0, 100, 3, 54, 5, 21, 5, 21, 4, 162, 0, 84]
abbrev dktX6_partedBy_0 : List UInt8 := dkwX6_partedBy_0 ++ dktX6_partedBy_1
theorem dksX6_partedBy_0 : cX6_partedBy.data.toList.drop 0 = dktX6_partedBy_0 := by decide +kernel
theorem dksX6_partedBy_1 : cX6_partedBy.data.toList.drop 24 = dktX6_partedBy_1 := dk_seg dksX6_partedBy_0 24 rfl rfl
theorem dksX6_partedBy_2 : cX6_partedBy.data.toList.drop 48 = dktX6_partedBy_2 := dk_seg dksX6_partedBy_1 24 rfl rfl
theorem dksX6_partedBy_3 : cX6_partedBy.data.toList.drop 72 = dktX6_partedBy_3 := dk_seg dksX6_partedBy_2 24 rfl rfl
theorem dksX6_partedBy_4 : cX6_partedBy.data.toList.drop 96 = dktX6_partedBy_4 := dk_seg dksX6_partedBy_3 24 rfl rfl
theorem dX6_partedBy_0 : decode cX6_partedBy 0 = .ok (.iconst 0, 1) := dk_3 (dk_at dksX6_partedBy_0 0 rfl rfl)
theorem dX6_partedBy_1 : decode cX6_partedBy 1 = .ok (.istore_n 3, 1) := dk_62 (dk_at dksX6_partedBy_0 1 rfl rfl)
theorem dX6_partedBy_2 : decode cX6_partedBy 2 = .ok (.iconst 0, 1) := dk_3 (dk_at dksX6_partedBy_0 2 rfl rfl)
theorem dX6_partedBy_3 : decode cX6_partedBy 3 = .ok (.istore 4, 2) := dk_54 4 (dk_at dksX6_partedBy_0 3 rfl rfl)
theorem dX6_partedBy_5 : decode cX6_partedBy 5 = .ok (.iload 4, 2) := dk_21 4 (dk_at dksX6_partedBy_0 5 rfl rfl)
theorem dX6_partedBy_7 : decode cX6_partedBy 7 = .ok (.aload_n 0, 1) := dk_42 (dk_at dksX6_partedBy_0 7 rfl rfl)
theorem dX6_partedBy_8 : decode cX6_partedBy 8 = .ok (.getfield 274, 3) := dk_180 1 18 (dk_at dksX6_partedBy_0 8 rfl rfl)
theorem dX6_partedBy_11 : decode cX6_partedBy 11 = .ok (.if_icmp .ge 100, 3) := dk_162 0 100 (dk_at dksX6_partedBy_0 11 rfl rfl)
theorem dX6_partedBy_14 : decode cX6_partedBy 14 = .ok (.iconst 0, 1) := dk_3 (dk_at dksX6_partedBy_0 14 rfl rfl)
theorem dX6_partedBy_15 : decode cX6_partedBy 15 = .ok (.istore 5, 2) := dk_54 5 (dk_at dksX6_partedBy_0 15 rfl rfl)
theorem dX6_partedBy_17 : decode cX6_partedBy 17 = .ok (.iload 5, 2) := dk_21 5 (dk_at dksX6_partedBy_0 17 rfl rfl)
theorem dX6_partedBy_19 : decode cX6_partedBy 19 = .ok (.iload 4, 2) := dk_21 4 (dk_at dksX6_partedBy_0 19 rfl rfl)
theorem dX6_partedBy_21 : decode cX6_partedBy 21 = .ok (.if_icmp .ge 84, 3) := dk_162 0 84 (dk_at dksX6_partedBy_0 21 rfl rfl)
theorem dX6_partedBy_24 : decode cX6_partedBy 24 = .ok (.iload_n 2, 1) := dk_28 (dk_at dksX6_partedBy_1 0 rfl rfl)
theorem dX6_partedBy_25 : decode cX6_partedBy 25 = .ok (.iload 4, 2) := dk_21 4 (dk_at dksX6_partedBy_1 1 rfl rfl)
theorem dX6_partedBy_27 : decode cX6_partedBy 27 = .ok (.ishr, 1) := dk_122 (dk_at dksX6_partedBy_1 3 rfl rfl)
theorem dX6_partedBy_28 : decode cX6_partedBy 28 = .ok (.iconst 1, 1) := dk_4 (dk_at dksX6_partedBy_1 4 rfl rfl)
theorem dX6_partedBy_29 : decode cX6_partedBy 29 = .ok (.iand, 1) := dk_126 (dk_at dksX6_partedBy_1 5 rfl rfl)
theorem dX6_partedBy_30 : decode cX6_partedBy 30 = .ok (.iconst 1, 1) := dk_4 (dk_at dksX6_partedBy_1 6 rfl rfl)
theorem dX6_partedBy_31 : decode cX6_partedBy 31 = .ok (.if_icmp .ne 17, 3) := dk_160 0 17 (dk_at dksX6_partedBy_1 7 rfl rfl)
theorem dX6_partedBy_34 : decode cX6_partedBy 34 = .ok (.iload_n 2, 1) := dk_28 (dk_at dksX6_partedBy_1 10 rfl rfl)
theorem dX6_partedBy_35 : decode cX6_partedBy 35 = .ok (.iload 5, 2) := dk_21 5 (dk_at dksX6_partedBy_1 11 rfl rfl)
theorem dX6_partedBy_37 : decode cX6_partedBy 37 = .ok (.ishr, 1) := dk_122 (dk_at dksX6_partedBy_1 13 rfl rfl)
theorem dX6_partedBy_38 : decode cX6_partedBy 38 = .ok (.iconst 1, 1) := dk_4 (dk_at dksX6_partedBy_1 14 rfl rfl)
theorem dX6_partedBy_39 : decode cX6_partedBy 39 = .ok (.iand, 1) := dk_126 (dk_at dksX6_partedBy_1 15 rfl rfl)
theorem dX6_partedBy_40 : decode cX6_partedBy 40 = .ok (.iconst 1, 1) := dk_4 (dk_at dksX6_partedBy_1 16 rfl rfl)
theorem dX6_partedBy_41 : decode cX6_partedBy 41 = .ok (.if_icmp .ne 7, 3) := dk_160 0 7 (dk_at dksX6_partedBy_1 17 rfl rfl)
theorem dX6_partedBy_44 : decode cX6_partedBy 44 = .ok (.iconst 1, 1) := dk_4 (dk_at dksX6_partedBy_1 20 rfl rfl)
theorem dX6_partedBy_45 : decode cX6_partedBy 45 = .ok (.goto 4, 3) := dk_167 0 4 (dk_at dksX6_partedBy_1 21 rfl rfl)
theorem dX6_partedBy_48 : decode cX6_partedBy 48 = .ok (.iconst 0, 1) := dk_3 (dk_at dksX6_partedBy_2 0 rfl rfl)
theorem dX6_partedBy_49 : decode cX6_partedBy 49 = .ok (.istore 6, 2) := dk_54 6 (dk_at dksX6_partedBy_2 1 rfl rfl)
theorem dX6_partedBy_51 : decode cX6_partedBy 51 = .ok (.iload_n 3, 1) := dk_29 (dk_at dksX6_partedBy_2 3 rfl rfl)
theorem dX6_partedBy_52 : decode cX6_partedBy 52 = .ok (.iload 6, 2) := dk_21 6 (dk_at dksX6_partedBy_2 4 rfl rfl)
theorem dX6_partedBy_54 : decode cX6_partedBy 54 = .ok (.ifCond .eq 42, 3) := dk_153 0 42 (dk_at dksX6_partedBy_2 6 rfl rfl)
theorem dX6_partedBy_57 : decode cX6_partedBy 57 = .ok (.aload_n 0, 1) := dk_42 (dk_at dksX6_partedBy_2 9 rfl rfl)
theorem dX6_partedBy_58 : decode cX6_partedBy 58 = .ok (.iload 4, 2) := dk_21 4 (dk_at dksX6_partedBy_2 10 rfl rfl)
theorem dX6_partedBy_60 : decode cX6_partedBy 60 = .ok (.iload 5, 2) := dk_21 5 (dk_at dksX6_partedBy_2 12 rfl rfl)
theorem dX6_partedBy_62 : decode cX6_partedBy 62 = .ok (.aload_n 0, 1) := dk_42 (dk_at dksX6_partedBy_2 14 rfl rfl)
theorem dX6_partedBy_63 : decode cX6_partedBy 63 = .ok (.getfield 122, 3) := dk_180 0 122 (dk_at dksX6_partedBy_2 15 rfl rfl)
theorem dX6_partedBy_66 : decode cX6_partedBy 66 = .ok (.iload_n 1, 1) := dk_27 (dk_at dksX6_partedBy_2 18 rfl rfl)
theorem dX6_partedBy_67 : decode cX6_partedBy 67 = .ok (.iaload, 1) := dk_46 (dk_at dksX6_partedBy_2 19 rfl rfl)
theorem dX6_partedBy_68 : decode cX6_partedBy 68 = .ok (.aload_n 0, 1) := dk_42 (dk_at dksX6_partedBy_2 20 rfl rfl)
theorem dX6_partedBy_69 : decode cX6_partedBy 69 = .ok (.getfield 125, 3) := dk_180 0 125 (dk_at dksX6_partedBy_2 21 rfl rfl)
theorem dX6_partedBy_72 : decode cX6_partedBy 72 = .ok (.iload_n 1, 1) := dk_27 (dk_at dksX6_partedBy_3 0 rfl rfl)
theorem dX6_partedBy_73 : decode cX6_partedBy 73 = .ok (.iaload, 1) := dk_46 (dk_at dksX6_partedBy_3 1 rfl rfl)
theorem dX6_partedBy_74 : decode cX6_partedBy 74 = .ok (.aload_n 0, 1) := dk_42 (dk_at dksX6_partedBy_3 2 rfl rfl)
theorem dX6_partedBy_75 : decode cX6_partedBy 75 = .ok (.getfield 128, 3) := dk_180 0 128 (dk_at dksX6_partedBy_3 3 rfl rfl)
theorem dX6_partedBy_78 : decode cX6_partedBy 78 = .ok (.iload_n 1, 1) := dk_27 (dk_at dksX6_partedBy_3 6 rfl rfl)
theorem dX6_partedBy_79 : decode cX6_partedBy 79 = .ok (.iaload, 1) := dk_46 (dk_at dksX6_partedBy_3 7 rfl rfl)
theorem dX6_partedBy_80 : decode cX6_partedBy 80 = .ok (.aload_n 0, 1) := dk_42 (dk_at dksX6_partedBy_3 8 rfl rfl)
theorem dX6_partedBy_81 : decode cX6_partedBy 81 = .ok (.getfield 131, 3) := dk_180 0 131 (dk_at dksX6_partedBy_3 9 rfl rfl)
theorem dX6_partedBy_84 : decode cX6_partedBy 84 = .ok (.iload_n 1, 1) := dk_27 (dk_at dksX6_partedBy_3 12 rfl rfl)
theorem dX6_partedBy_85 : decode cX6_partedBy 85 = .ok (.iaload, 1) := dk_46 (dk_at dksX6_partedBy_3 13 rfl rfl)
theorem dX6_partedBy_86 : decode cX6_partedBy 86 = .ok (.invokevirtual 395, 3) := dk_182 1 139 (dk_at dksX6_partedBy_3 14 rfl rfl)
theorem dX6_partedBy_89 : decode cX6_partedBy 89 = .ok (.ifCond .eq 7, 3) := dk_153 0 7 (dk_at dksX6_partedBy_3 17 rfl rfl)
theorem dX6_partedBy_92 : decode cX6_partedBy 92 = .ok (.iconst 1, 1) := dk_4 (dk_at dksX6_partedBy_3 20 rfl rfl)
theorem dX6_partedBy_93 : decode cX6_partedBy 93 = .ok (.goto 4, 3) := dk_167 0 4 (dk_at dksX6_partedBy_3 21 rfl rfl)
theorem dX6_partedBy_96 : decode cX6_partedBy 96 = .ok (.iconst 0, 1) := dk_3 (dk_at dksX6_partedBy_4 0 rfl rfl)
theorem dX6_partedBy_97 : decode cX6_partedBy 97 = .ok (.iadd, 1) := dk_96 (dk_at dksX6_partedBy_4 1 rfl rfl)
theorem dX6_partedBy_98 : decode cX6_partedBy 98 = .ok (.istore_n 3, 1) := dk_62 (dk_at dksX6_partedBy_4 2 rfl rfl)
theorem dX6_partedBy_99 : decode cX6_partedBy 99 = .ok (.iinc 5 1, 3) := dk_132 5 1 (dk_at dksX6_partedBy_4 3 rfl rfl)
theorem dX6_partedBy_102 : decode cX6_partedBy 102 = .ok (.goto (-85), 3) := dk_167 255 171 (dk_at dksX6_partedBy_4 6 rfl rfl)
theorem dX6_partedBy_105 : decode cX6_partedBy 105 = .ok (.iinc 4 1, 3) := dk_132 4 1 (dk_at dksX6_partedBy_4 9 rfl rfl)
theorem dX6_partedBy_108 : decode cX6_partedBy 108 = .ok (.goto (-103), 3) := dk_167 255 153 (dk_at dksX6_partedBy_4 12 rfl rfl)
theorem dX6_partedBy_111 : decode cX6_partedBy 111 = .ok (.iload_n 3, 1) := dk_29 (dk_at dksX6_partedBy_4 15 rfl rfl)
theorem dX6_partedBy_112 : decode cX6_partedBy 112 = .ok (.ireturn, 1) := dk_172 (dk_at dksX6_partedBy_4 16 rfl rfl)
abbrev cX6_areApart : ByteArray := prog_16_method_74_code
def yX6_areApart : MethodName := ⟨RX6, "areApart", "(IIIIII)Z"⟩
def dkwX6_areApart_3 : List UInt8 := [167, 0, 4, 3, 172]
abbrev dktX6_areApart_3 : List UInt8 := dkwX6_areApart_3 ++ []
def dkwX6_areApart_2 : List UInt8 := [21, 7, 153, 0, 25, 21, 8, 42, 180, 1, 94, 160, 0, 12, 21, 9, 42, 180, 1, 97, 159, 0, 7, 4]
abbrev dktX6_areApart_2 : List UInt8 := dkwX6_areApart_2 ++ dktX6_areApart_3
def dkwX6_areApart_1 : List UInt8 := [54, 9, 42, 28, 29, 21, 4, 21, 5, 21, 6, 182, 1, 100, 54, 10, 21, 7, 21, 10, 160, 0, 26]
abbrev dktX6_areApart_1 : List UInt8 := dkwX6_areApart_1 ++ dktX6_areApart_2
def dkwX6_areApart_0 : List UInt8 := [42, 27, 29, 21, 4, 21, 5, 21, 6, 182, 1, 100, 54, 7, 42, 180, 1, 94, 54, 8, 42, 180, 1, 97]
abbrev dktX6_areApart_0 : List UInt8 := dkwX6_areApart_0 ++ dktX6_areApart_1
theorem dksX6_areApart_0 : cX6_areApart.data.toList.drop 0 = dktX6_areApart_0 := by decide +kernel
theorem dksX6_areApart_1 : cX6_areApart.data.toList.drop 24 = dktX6_areApart_1 := dk_seg dksX6_areApart_0 24 rfl rfl
theorem dksX6_areApart_2 : cX6_areApart.data.toList.drop 47 = dktX6_areApart_2 := dk_seg dksX6_areApart_1 23 rfl rfl
theorem dksX6_areApart_3 : cX6_areApart.data.toList.drop 71 = dktX6_areApart_3 := dk_seg dksX6_areApart_2 24 rfl rfl
theorem dX6_areApart_0 : decode cX6_areApart 0 = .ok (.aload_n 0, 1) := dk_42 (dk_at dksX6_areApart_0 0 rfl rfl)
theorem dX6_areApart_1 : decode cX6_areApart 1 = .ok (.iload_n 1, 1) := dk_27 (dk_at dksX6_areApart_0 1 rfl rfl)
theorem dX6_areApart_2 : decode cX6_areApart 2 = .ok (.iload_n 3, 1) := dk_29 (dk_at dksX6_areApart_0 2 rfl rfl)
theorem dX6_areApart_3 : decode cX6_areApart 3 = .ok (.iload 4, 2) := dk_21 4 (dk_at dksX6_areApart_0 3 rfl rfl)
theorem dX6_areApart_5 : decode cX6_areApart 5 = .ok (.iload 5, 2) := dk_21 5 (dk_at dksX6_areApart_0 5 rfl rfl)
theorem dX6_areApart_7 : decode cX6_areApart 7 = .ok (.iload 6, 2) := dk_21 6 (dk_at dksX6_areApart_0 7 rfl rfl)
theorem dX6_areApart_9 : decode cX6_areApart 9 = .ok (.invokevirtual 356, 3) := dk_182 1 100 (dk_at dksX6_areApart_0 9 rfl rfl)
theorem dX6_areApart_12 : decode cX6_areApart 12 = .ok (.istore 7, 2) := dk_54 7 (dk_at dksX6_areApart_0 12 rfl rfl)
theorem dX6_areApart_14 : decode cX6_areApart 14 = .ok (.aload_n 0, 1) := dk_42 (dk_at dksX6_areApart_0 14 rfl rfl)
theorem dX6_areApart_15 : decode cX6_areApart 15 = .ok (.getfield 350, 3) := dk_180 1 94 (dk_at dksX6_areApart_0 15 rfl rfl)
theorem dX6_areApart_18 : decode cX6_areApart 18 = .ok (.istore 8, 2) := dk_54 8 (dk_at dksX6_areApart_0 18 rfl rfl)
theorem dX6_areApart_20 : decode cX6_areApart 20 = .ok (.aload_n 0, 1) := dk_42 (dk_at dksX6_areApart_0 20 rfl rfl)
theorem dX6_areApart_21 : decode cX6_areApart 21 = .ok (.getfield 353, 3) := dk_180 1 97 (dk_at dksX6_areApart_0 21 rfl rfl)
theorem dX6_areApart_24 : decode cX6_areApart 24 = .ok (.istore 9, 2) := dk_54 9 (dk_at dksX6_areApart_1 0 rfl rfl)
theorem dX6_areApart_26 : decode cX6_areApart 26 = .ok (.aload_n 0, 1) := dk_42 (dk_at dksX6_areApart_1 2 rfl rfl)
theorem dX6_areApart_27 : decode cX6_areApart 27 = .ok (.iload_n 2, 1) := dk_28 (dk_at dksX6_areApart_1 3 rfl rfl)
theorem dX6_areApart_28 : decode cX6_areApart 28 = .ok (.iload_n 3, 1) := dk_29 (dk_at dksX6_areApart_1 4 rfl rfl)
theorem dX6_areApart_29 : decode cX6_areApart 29 = .ok (.iload 4, 2) := dk_21 4 (dk_at dksX6_areApart_1 5 rfl rfl)
theorem dX6_areApart_31 : decode cX6_areApart 31 = .ok (.iload 5, 2) := dk_21 5 (dk_at dksX6_areApart_1 7 rfl rfl)
theorem dX6_areApart_33 : decode cX6_areApart 33 = .ok (.iload 6, 2) := dk_21 6 (dk_at dksX6_areApart_1 9 rfl rfl)
theorem dX6_areApart_35 : decode cX6_areApart 35 = .ok (.invokevirtual 356, 3) := dk_182 1 100 (dk_at dksX6_areApart_1 11 rfl rfl)
theorem dX6_areApart_38 : decode cX6_areApart 38 = .ok (.istore 10, 2) := dk_54 10 (dk_at dksX6_areApart_1 14 rfl rfl)
theorem dX6_areApart_40 : decode cX6_areApart 40 = .ok (.iload 7, 2) := dk_21 7 (dk_at dksX6_areApart_1 16 rfl rfl)
theorem dX6_areApart_42 : decode cX6_areApart 42 = .ok (.iload 10, 2) := dk_21 10 (dk_at dksX6_areApart_1 18 rfl rfl)
theorem dX6_areApart_44 : decode cX6_areApart 44 = .ok (.if_icmp .ne 26, 3) := dk_160 0 26 (dk_at dksX6_areApart_1 20 rfl rfl)
theorem dX6_areApart_47 : decode cX6_areApart 47 = .ok (.iload 7, 2) := dk_21 7 (dk_at dksX6_areApart_2 0 rfl rfl)
theorem dX6_areApart_49 : decode cX6_areApart 49 = .ok (.ifCond .eq 25, 3) := dk_153 0 25 (dk_at dksX6_areApart_2 2 rfl rfl)
theorem dX6_areApart_52 : decode cX6_areApart 52 = .ok (.iload 8, 2) := dk_21 8 (dk_at dksX6_areApart_2 5 rfl rfl)
theorem dX6_areApart_54 : decode cX6_areApart 54 = .ok (.aload_n 0, 1) := dk_42 (dk_at dksX6_areApart_2 7 rfl rfl)
theorem dX6_areApart_55 : decode cX6_areApart 55 = .ok (.getfield 350, 3) := dk_180 1 94 (dk_at dksX6_areApart_2 8 rfl rfl)
theorem dX6_areApart_58 : decode cX6_areApart 58 = .ok (.if_icmp .ne 12, 3) := dk_160 0 12 (dk_at dksX6_areApart_2 11 rfl rfl)
theorem dX6_areApart_61 : decode cX6_areApart 61 = .ok (.iload 9, 2) := dk_21 9 (dk_at dksX6_areApart_2 14 rfl rfl)
theorem dX6_areApart_63 : decode cX6_areApart 63 = .ok (.aload_n 0, 1) := dk_42 (dk_at dksX6_areApart_2 16 rfl rfl)
theorem dX6_areApart_64 : decode cX6_areApart 64 = .ok (.getfield 353, 3) := dk_180 1 97 (dk_at dksX6_areApart_2 17 rfl rfl)
theorem dX6_areApart_67 : decode cX6_areApart 67 = .ok (.if_icmp .eq 7, 3) := dk_159 0 7 (dk_at dksX6_areApart_2 20 rfl rfl)
theorem dX6_areApart_70 : decode cX6_areApart 70 = .ok (.iconst 1, 1) := dk_4 (dk_at dksX6_areApart_2 23 rfl rfl)
theorem dX6_areApart_71 : decode cX6_areApart 71 = .ok (.goto 4, 3) := dk_167 0 4 (dk_at dksX6_areApart_3 0 rfl rfl)
theorem dX6_areApart_74 : decode cX6_areApart 74 = .ok (.iconst 0, 1) := dk_3 (dk_at dksX6_areApart_3 3 rfl rfl)
theorem dX6_areApart_75 : decode cX6_areApart 75 = .ok (.ireturn, 1) := dk_172 (dk_at dksX6_areApart_3 4 rfl rfl)
abbrev cX6_next : ByteArray := prog_16_method_78_code
def yX6_next : MethodName := ⟨RX6, "next", "(I)I"⟩
def dkwX6_next_2 : List UInt8 := [61, 29, 21, 5, 184, 0, 239, 62, 132, 4, 1, 167, 255, 215, 28, 172]
abbrev dktX6_next_2 : List UInt8 := dkwX6_next_2 ++ []
def dkwX6_next_1 : List UInt8 := [162, 0, 38, 42, 21, 4, 27, 182, 1, 146, 54, 5, 21, 5, 29, 164, 0, 8, 21, 4, 167, 0, 4, 28]
abbrev dktX6_next_1 : List UInt8 := dkwX6_next_1 ++ dktX6_next_2
def dkwX6_next_0 : List UInt8 := [42, 27, 182, 1, 143, 154, 0, 5, 2, 172, 2, 61, 2, 62, 3, 54, 4, 21, 4, 42, 180, 1, 136]
abbrev dktX6_next_0 : List UInt8 := dkwX6_next_0 ++ dktX6_next_1
theorem dksX6_next_0 : cX6_next.data.toList.drop 0 = dktX6_next_0 := by decide +kernel
theorem dksX6_next_1 : cX6_next.data.toList.drop 23 = dktX6_next_1 := dk_seg dksX6_next_0 23 rfl rfl
theorem dksX6_next_2 : cX6_next.data.toList.drop 47 = dktX6_next_2 := dk_seg dksX6_next_1 24 rfl rfl
theorem dX6_next_0 : decode cX6_next 0 = .ok (.aload_n 0, 1) := dk_42 (dk_at dksX6_next_0 0 rfl rfl)
theorem dX6_next_1 : decode cX6_next 1 = .ok (.iload_n 1, 1) := dk_27 (dk_at dksX6_next_0 1 rfl rfl)
theorem dX6_next_2 : decode cX6_next 2 = .ok (.invokevirtual 399, 3) := dk_182 1 143 (dk_at dksX6_next_0 2 rfl rfl)
theorem dX6_next_5 : decode cX6_next 5 = .ok (.ifCond .ne 5, 3) := dk_154 0 5 (dk_at dksX6_next_0 5 rfl rfl)
theorem dX6_next_8 : decode cX6_next 8 = .ok (.iconst (-1), 1) := dk_2 (dk_at dksX6_next_0 8 rfl rfl)
theorem dX6_next_9 : decode cX6_next 9 = .ok (.ireturn, 1) := dk_172 (dk_at dksX6_next_0 9 rfl rfl)
theorem dX6_next_10 : decode cX6_next 10 = .ok (.iconst (-1), 1) := dk_2 (dk_at dksX6_next_0 10 rfl rfl)
theorem dX6_next_11 : decode cX6_next 11 = .ok (.istore_n 2, 1) := dk_61 (dk_at dksX6_next_0 11 rfl rfl)
theorem dX6_next_12 : decode cX6_next 12 = .ok (.iconst (-1), 1) := dk_2 (dk_at dksX6_next_0 12 rfl rfl)
theorem dX6_next_13 : decode cX6_next 13 = .ok (.istore_n 3, 1) := dk_62 (dk_at dksX6_next_0 13 rfl rfl)
theorem dX6_next_14 : decode cX6_next 14 = .ok (.iconst 0, 1) := dk_3 (dk_at dksX6_next_0 14 rfl rfl)
theorem dX6_next_15 : decode cX6_next 15 = .ok (.istore 4, 2) := dk_54 4 (dk_at dksX6_next_0 15 rfl rfl)
theorem dX6_next_17 : decode cX6_next 17 = .ok (.iload 4, 2) := dk_21 4 (dk_at dksX6_next_0 17 rfl rfl)
theorem dX6_next_19 : decode cX6_next 19 = .ok (.aload_n 0, 1) := dk_42 (dk_at dksX6_next_0 19 rfl rfl)
theorem dX6_next_20 : decode cX6_next 20 = .ok (.getfield 392, 3) := dk_180 1 136 (dk_at dksX6_next_0 20 rfl rfl)
theorem dX6_next_23 : decode cX6_next 23 = .ok (.if_icmp .ge 38, 3) := dk_162 0 38 (dk_at dksX6_next_1 0 rfl rfl)
theorem dX6_next_26 : decode cX6_next 26 = .ok (.aload_n 0, 1) := dk_42 (dk_at dksX6_next_1 3 rfl rfl)
theorem dX6_next_27 : decode cX6_next 27 = .ok (.iload 4, 2) := dk_21 4 (dk_at dksX6_next_1 4 rfl rfl)
theorem dX6_next_29 : decode cX6_next 29 = .ok (.iload_n 1, 1) := dk_27 (dk_at dksX6_next_1 6 rfl rfl)
theorem dX6_next_30 : decode cX6_next 30 = .ok (.invokevirtual 402, 3) := dk_182 1 146 (dk_at dksX6_next_1 7 rfl rfl)
theorem dX6_next_33 : decode cX6_next 33 = .ok (.istore 5, 2) := dk_54 5 (dk_at dksX6_next_1 10 rfl rfl)
theorem dX6_next_35 : decode cX6_next 35 = .ok (.iload 5, 2) := dk_21 5 (dk_at dksX6_next_1 12 rfl rfl)
theorem dX6_next_37 : decode cX6_next 37 = .ok (.iload_n 3, 1) := dk_29 (dk_at dksX6_next_1 14 rfl rfl)
theorem dX6_next_38 : decode cX6_next 38 = .ok (.if_icmp .le 8, 3) := dk_164 0 8 (dk_at dksX6_next_1 15 rfl rfl)
theorem dX6_next_41 : decode cX6_next 41 = .ok (.iload 4, 2) := dk_21 4 (dk_at dksX6_next_1 18 rfl rfl)
theorem dX6_next_43 : decode cX6_next 43 = .ok (.goto 4, 3) := dk_167 0 4 (dk_at dksX6_next_1 20 rfl rfl)
theorem dX6_next_46 : decode cX6_next 46 = .ok (.iload_n 2, 1) := dk_28 (dk_at dksX6_next_1 23 rfl rfl)
theorem dX6_next_47 : decode cX6_next 47 = .ok (.istore_n 2, 1) := dk_61 (dk_at dksX6_next_2 0 rfl rfl)
theorem dX6_next_48 : decode cX6_next 48 = .ok (.iload_n 3, 1) := dk_29 (dk_at dksX6_next_2 1 rfl rfl)
theorem dX6_next_49 : decode cX6_next 49 = .ok (.iload 5, 2) := dk_21 5 (dk_at dksX6_next_2 2 rfl rfl)
theorem dX6_next_51 : decode cX6_next 51 = .ok (.invokestatic 239, 3) := dk_184 0 239 (dk_at dksX6_next_2 4 rfl rfl)
theorem dX6_next_54 : decode cX6_next 54 = .ok (.istore_n 3, 1) := dk_62 (dk_at dksX6_next_2 7 rfl rfl)
theorem dX6_next_55 : decode cX6_next 55 = .ok (.iinc 4 1, 3) := dk_132 4 1 (dk_at dksX6_next_2 8 rfl rfl)
theorem dX6_next_58 : decode cX6_next 58 = .ok (.goto (-41), 3) := dk_167 255 215 (dk_at dksX6_next_2 11 rfl rfl)
theorem dX6_next_61 : decode cX6_next 61 = .ok (.iload_n 2, 1) := dk_28 (dk_at dksX6_next_2 14 rfl rfl)
theorem dX6_next_62 : decode cX6_next 62 = .ok (.ireturn, 1) := dk_172 (dk_at dksX6_next_2 15 rfl rfl)
abbrev cX6_part : ByteArray := prog_16_method_79_code
def yX6_part : MethodName := ⟨RX6, "part", "(IIIII)I"⟩
def dkwX6_part_6 : List UInt8 := [132, 6, 1, 167, 255, 163, 2, 172]
abbrev dktX6_part_6 : List UInt8 := dkwX6_part_6 ++ []
def dkwX6_part_5 : List UInt8 := [42, 29, 21, 6, 21, 7, 21, 8, 182, 1, 35, 172, 132, 8, 1, 167, 255, 204, 132, 7, 1, 167, 255, 188]
abbrev dktX6_part_5 : List UInt8 := dkwX6_part_5 ++ dktX6_part_6
def dkwX6_part_4 : List UInt8 := [21, 8, 182, 1, 31, 153, 0, 31, 42, 27, 28, 29, 21, 6, 21, 7, 21, 8, 182, 1, 139, 153, 0, 15]
abbrev dktX6_part_4 : List UInt8 := dkwX6_part_4 ++ dktX6_part_5
def dkwX6_part_3 : List UInt8 := [21, 7, 16, 12, 163, 0, 67, 4, 54, 8, 21, 8, 16, 31, 163, 0, 51, 42, 29, 21, 6, 21, 7]
abbrev dktX6_part_3 : List UInt8 := dkwX6_part_3 ++ dktX6_part_4
def dkwX6_part_2 : List UInt8 := [172, 21, 4, 54, 6, 21, 6, 21, 4, 21, 5, 96, 17, 39, 16, 184, 0, 231, 162, 0, 83, 4, 54, 7]
abbrev dktX6_part_2 : List UInt8 := dkwX6_part_2 ++ dktX6_part_3
def dkwX6_part_1 : List UInt8 := [21, 5, 4, 16, 20, 184, 0, 186, 153, 0, 15, 21, 4, 4, 17, 39, 15, 184, 0, 186, 154, 0, 5, 2]
abbrev dktX6_part_1 : List UInt8 := dkwX6_part_1 ++ dktX6_part_2
def dkwX6_part_0 : List UInt8 := [42, 27, 182, 1, 88, 153, 0, 42, 42, 28, 182, 1, 88, 153, 0, 34, 42, 29, 182, 1, 24, 153, 0, 26]
abbrev dktX6_part_0 : List UInt8 := dkwX6_part_0 ++ dktX6_part_1
theorem dksX6_part_0 : cX6_part.data.toList.drop 0 = dktX6_part_0 := by decide +kernel
theorem dksX6_part_1 : cX6_part.data.toList.drop 24 = dktX6_part_1 := dk_seg dksX6_part_0 24 rfl rfl
theorem dksX6_part_2 : cX6_part.data.toList.drop 48 = dktX6_part_2 := dk_seg dksX6_part_1 24 rfl rfl
theorem dksX6_part_3 : cX6_part.data.toList.drop 72 = dktX6_part_3 := dk_seg dksX6_part_2 24 rfl rfl
theorem dksX6_part_4 : cX6_part.data.toList.drop 95 = dktX6_part_4 := dk_seg dksX6_part_3 23 rfl rfl
theorem dksX6_part_5 : cX6_part.data.toList.drop 119 = dktX6_part_5 := dk_seg dksX6_part_4 24 rfl rfl
theorem dksX6_part_6 : cX6_part.data.toList.drop 143 = dktX6_part_6 := dk_seg dksX6_part_5 24 rfl rfl
theorem dX6_part_0 : decode cX6_part 0 = .ok (.aload_n 0, 1) := dk_42 (dk_at dksX6_part_0 0 rfl rfl)
theorem dX6_part_1 : decode cX6_part 1 = .ok (.iload_n 1, 1) := dk_27 (dk_at dksX6_part_0 1 rfl rfl)
theorem dX6_part_2 : decode cX6_part 2 = .ok (.invokevirtual 344, 3) := dk_182 1 88 (dk_at dksX6_part_0 2 rfl rfl)
theorem dX6_part_5 : decode cX6_part 5 = .ok (.ifCond .eq 42, 3) := dk_153 0 42 (dk_at dksX6_part_0 5 rfl rfl)
theorem dX6_part_8 : decode cX6_part 8 = .ok (.aload_n 0, 1) := dk_42 (dk_at dksX6_part_0 8 rfl rfl)
theorem dX6_part_9 : decode cX6_part 9 = .ok (.iload_n 2, 1) := dk_28 (dk_at dksX6_part_0 9 rfl rfl)
theorem dX6_part_10 : decode cX6_part 10 = .ok (.invokevirtual 344, 3) := dk_182 1 88 (dk_at dksX6_part_0 10 rfl rfl)
theorem dX6_part_13 : decode cX6_part 13 = .ok (.ifCond .eq 34, 3) := dk_153 0 34 (dk_at dksX6_part_0 13 rfl rfl)
theorem dX6_part_16 : decode cX6_part 16 = .ok (.aload_n 0, 1) := dk_42 (dk_at dksX6_part_0 16 rfl rfl)
theorem dX6_part_17 : decode cX6_part 17 = .ok (.iload_n 3, 1) := dk_29 (dk_at dksX6_part_0 17 rfl rfl)
theorem dX6_part_18 : decode cX6_part 18 = .ok (.invokevirtual 280, 3) := dk_182 1 24 (dk_at dksX6_part_0 18 rfl rfl)
theorem dX6_part_21 : decode cX6_part 21 = .ok (.ifCond .eq 26, 3) := dk_153 0 26 (dk_at dksX6_part_0 21 rfl rfl)
theorem dX6_part_24 : decode cX6_part 24 = .ok (.iload 5, 2) := dk_21 5 (dk_at dksX6_part_1 0 rfl rfl)
theorem dX6_part_26 : decode cX6_part 26 = .ok (.iconst 1, 1) := dk_4 (dk_at dksX6_part_1 2 rfl rfl)
theorem dX6_part_27 : decode cX6_part 27 = .ok (.bipush 20, 2) := dk_16 20 (dk_at dksX6_part_1 3 rfl rfl)
theorem dX6_part_29 : decode cX6_part 29 = .ok (.invokestatic 186, 3) := dk_184 0 186 (dk_at dksX6_part_1 5 rfl rfl)
theorem dX6_part_32 : decode cX6_part 32 = .ok (.ifCond .eq 15, 3) := dk_153 0 15 (dk_at dksX6_part_1 8 rfl rfl)
theorem dX6_part_35 : decode cX6_part 35 = .ok (.iload 4, 2) := dk_21 4 (dk_at dksX6_part_1 11 rfl rfl)
theorem dX6_part_37 : decode cX6_part 37 = .ok (.iconst 1, 1) := dk_4 (dk_at dksX6_part_1 13 rfl rfl)
theorem dX6_part_38 : decode cX6_part 38 = .ok (.sipush 9999, 3) := dk_17 39 15 (dk_at dksX6_part_1 14 rfl rfl)
theorem dX6_part_41 : decode cX6_part 41 = .ok (.invokestatic 186, 3) := dk_184 0 186 (dk_at dksX6_part_1 17 rfl rfl)
theorem dX6_part_44 : decode cX6_part 44 = .ok (.ifCond .ne 5, 3) := dk_154 0 5 (dk_at dksX6_part_1 20 rfl rfl)
theorem dX6_part_47 : decode cX6_part 47 = .ok (.iconst (-1), 1) := dk_2 (dk_at dksX6_part_1 23 rfl rfl)
theorem dX6_part_48 : decode cX6_part 48 = .ok (.ireturn, 1) := dk_172 (dk_at dksX6_part_2 0 rfl rfl)
theorem dX6_part_49 : decode cX6_part 49 = .ok (.iload 4, 2) := dk_21 4 (dk_at dksX6_part_2 1 rfl rfl)
theorem dX6_part_51 : decode cX6_part 51 = .ok (.istore 6, 2) := dk_54 6 (dk_at dksX6_part_2 3 rfl rfl)
theorem dX6_part_53 : decode cX6_part 53 = .ok (.iload 6, 2) := dk_21 6 (dk_at dksX6_part_2 5 rfl rfl)
theorem dX6_part_55 : decode cX6_part 55 = .ok (.iload 4, 2) := dk_21 4 (dk_at dksX6_part_2 7 rfl rfl)
theorem dX6_part_57 : decode cX6_part 57 = .ok (.iload 5, 2) := dk_21 5 (dk_at dksX6_part_2 9 rfl rfl)
theorem dX6_part_59 : decode cX6_part 59 = .ok (.iadd, 1) := dk_96 (dk_at dksX6_part_2 11 rfl rfl)
theorem dX6_part_60 : decode cX6_part 60 = .ok (.sipush 10000, 3) := dk_17 39 16 (dk_at dksX6_part_2 12 rfl rfl)
theorem dX6_part_63 : decode cX6_part 63 = .ok (.invokestatic 231, 3) := dk_184 0 231 (dk_at dksX6_part_2 15 rfl rfl)
theorem dX6_part_66 : decode cX6_part 66 = .ok (.if_icmp .ge 83, 3) := dk_162 0 83 (dk_at dksX6_part_2 18 rfl rfl)
theorem dX6_part_69 : decode cX6_part 69 = .ok (.iconst 1, 1) := dk_4 (dk_at dksX6_part_2 21 rfl rfl)
theorem dX6_part_70 : decode cX6_part 70 = .ok (.istore 7, 2) := dk_54 7 (dk_at dksX6_part_2 22 rfl rfl)
theorem dX6_part_72 : decode cX6_part 72 = .ok (.iload 7, 2) := dk_21 7 (dk_at dksX6_part_3 0 rfl rfl)
theorem dX6_part_74 : decode cX6_part 74 = .ok (.bipush 12, 2) := dk_16 12 (dk_at dksX6_part_3 2 rfl rfl)
theorem dX6_part_76 : decode cX6_part 76 = .ok (.if_icmp .gt 67, 3) := dk_163 0 67 (dk_at dksX6_part_3 4 rfl rfl)
theorem dX6_part_79 : decode cX6_part 79 = .ok (.iconst 1, 1) := dk_4 (dk_at dksX6_part_3 7 rfl rfl)
theorem dX6_part_80 : decode cX6_part 80 = .ok (.istore 8, 2) := dk_54 8 (dk_at dksX6_part_3 8 rfl rfl)
theorem dX6_part_82 : decode cX6_part 82 = .ok (.iload 8, 2) := dk_21 8 (dk_at dksX6_part_3 10 rfl rfl)
theorem dX6_part_84 : decode cX6_part 84 = .ok (.bipush 31, 2) := dk_16 31 (dk_at dksX6_part_3 12 rfl rfl)
theorem dX6_part_86 : decode cX6_part 86 = .ok (.if_icmp .gt 51, 3) := dk_163 0 51 (dk_at dksX6_part_3 14 rfl rfl)
theorem dX6_part_89 : decode cX6_part 89 = .ok (.aload_n 0, 1) := dk_42 (dk_at dksX6_part_3 17 rfl rfl)
theorem dX6_part_90 : decode cX6_part 90 = .ok (.iload_n 3, 1) := dk_29 (dk_at dksX6_part_3 18 rfl rfl)
theorem dX6_part_91 : decode cX6_part 91 = .ok (.iload 6, 2) := dk_21 6 (dk_at dksX6_part_3 19 rfl rfl)
theorem dX6_part_93 : decode cX6_part 93 = .ok (.iload 7, 2) := dk_21 7 (dk_at dksX6_part_3 21 rfl rfl)
theorem dX6_part_95 : decode cX6_part 95 = .ok (.iload 8, 2) := dk_21 8 (dk_at dksX6_part_4 0 rfl rfl)
theorem dX6_part_97 : decode cX6_part 97 = .ok (.invokevirtual 287, 3) := dk_182 1 31 (dk_at dksX6_part_4 2 rfl rfl)
theorem dX6_part_100 : decode cX6_part 100 = .ok (.ifCond .eq 31, 3) := dk_153 0 31 (dk_at dksX6_part_4 5 rfl rfl)
theorem dX6_part_103 : decode cX6_part 103 = .ok (.aload_n 0, 1) := dk_42 (dk_at dksX6_part_4 8 rfl rfl)
theorem dX6_part_104 : decode cX6_part 104 = .ok (.iload_n 1, 1) := dk_27 (dk_at dksX6_part_4 9 rfl rfl)
theorem dX6_part_105 : decode cX6_part 105 = .ok (.iload_n 2, 1) := dk_28 (dk_at dksX6_part_4 10 rfl rfl)
theorem dX6_part_106 : decode cX6_part 106 = .ok (.iload_n 3, 1) := dk_29 (dk_at dksX6_part_4 11 rfl rfl)
theorem dX6_part_107 : decode cX6_part 107 = .ok (.iload 6, 2) := dk_21 6 (dk_at dksX6_part_4 12 rfl rfl)
theorem dX6_part_109 : decode cX6_part 109 = .ok (.iload 7, 2) := dk_21 7 (dk_at dksX6_part_4 14 rfl rfl)
theorem dX6_part_111 : decode cX6_part 111 = .ok (.iload 8, 2) := dk_21 8 (dk_at dksX6_part_4 16 rfl rfl)
theorem dX6_part_113 : decode cX6_part 113 = .ok (.invokevirtual 395, 3) := dk_182 1 139 (dk_at dksX6_part_4 18 rfl rfl)
theorem dX6_part_116 : decode cX6_part 116 = .ok (.ifCond .eq 15, 3) := dk_153 0 15 (dk_at dksX6_part_4 21 rfl rfl)
theorem dX6_part_119 : decode cX6_part 119 = .ok (.aload_n 0, 1) := dk_42 (dk_at dksX6_part_5 0 rfl rfl)
theorem dX6_part_120 : decode cX6_part 120 = .ok (.iload_n 3, 1) := dk_29 (dk_at dksX6_part_5 1 rfl rfl)
theorem dX6_part_121 : decode cX6_part 121 = .ok (.iload 6, 2) := dk_21 6 (dk_at dksX6_part_5 2 rfl rfl)
theorem dX6_part_123 : decode cX6_part 123 = .ok (.iload 7, 2) := dk_21 7 (dk_at dksX6_part_5 4 rfl rfl)
theorem dX6_part_125 : decode cX6_part 125 = .ok (.iload 8, 2) := dk_21 8 (dk_at dksX6_part_5 6 rfl rfl)
theorem dX6_part_127 : decode cX6_part 127 = .ok (.invokevirtual 291, 3) := dk_182 1 35 (dk_at dksX6_part_5 8 rfl rfl)
theorem dX6_part_130 : decode cX6_part 130 = .ok (.ireturn, 1) := dk_172 (dk_at dksX6_part_5 11 rfl rfl)
theorem dX6_part_131 : decode cX6_part 131 = .ok (.iinc 8 1, 3) := dk_132 8 1 (dk_at dksX6_part_5 12 rfl rfl)
theorem dX6_part_134 : decode cX6_part 134 = .ok (.goto (-52), 3) := dk_167 255 204 (dk_at dksX6_part_5 15 rfl rfl)
theorem dX6_part_137 : decode cX6_part 137 = .ok (.iinc 7 1, 3) := dk_132 7 1 (dk_at dksX6_part_5 18 rfl rfl)
theorem dX6_part_140 : decode cX6_part 140 = .ok (.goto (-68), 3) := dk_167 255 188 (dk_at dksX6_part_5 21 rfl rfl)
theorem dX6_part_143 : decode cX6_part 143 = .ok (.iinc 6 1, 3) := dk_132 6 1 (dk_at dksX6_part_6 0 rfl rfl)
theorem dX6_part_146 : decode cX6_part 146 = .ok (.goto (-93), 3) := dk_167 255 163 (dk_at dksX6_part_6 3 rfl rfl)
theorem dX6_part_149 : decode cX6_part 149 = .ok (.iconst (-1), 1) := dk_2 (dk_at dksX6_part_6 6 rfl rfl)
theorem dX6_part_150 : decode cX6_part 150 = .ok (.ireturn, 1) := dk_172 (dk_at dksX6_part_6 7 rfl rfl)
abbrev cX6_least : ByteArray := prog_16_method_82_code
def yX6_least : MethodName := ⟨RX6, "least", "(IIIII)I"⟩
def dkwX6_least_7 : List UInt8 := [167, 0, 5, 21, 6, 172]
abbrev dktX6_least_7 : List UInt8 := dkwX6_least_7 ++ []
def dkwX6_least_6 : List UInt8 := [153, 0, 7, 21, 7, 54, 6, 132, 7, 1, 167, 255, 189, 21, 5, 154, 0, 11, 21, 6, 184, 1, 153]
abbrev dktX6_least_6 : List UInt8 := dkwX6_least_6 ++ dktX6_least_7
def dkwX6_least_5 : List UInt8 := [21, 8, 154, 0, 29, 21, 7, 21, 9, 126, 21, 9, 116, 126, 153, 0, 17, 42, 21, 7, 29, 182, 1, 156]
abbrev dktX6_least_5 : List UInt8 := dkwX6_least_5 ++ dktX6_least_6
def dkwX6_least_4 : List UInt8 := [184, 1, 153, 21, 7, 184, 1, 153, 100, 54, 8, 21, 6, 21, 7, 130, 54, 9, 21, 8, 157, 0, 20]
abbrev dktX6_least_4 : List UInt8 := dkwX6_least_4 ++ dktX6_least_5
def dkwX6_least_3 : List UInt8 := [182, 1, 150, 4, 29, 120, 4, 100, 54, 6, 4, 54, 7, 21, 7, 4, 29, 120, 162, 0, 65, 21, 6]
abbrev dktX6_least_3 : List UInt8 := dkwX6_least_3 ++ dktX6_least_4
def dkwX6_least_2 : List UInt8 := [184, 0, 186, 153, 0, 13, 21, 5, 3, 4, 184, 0, 186, 154, 0, 5, 2, 172, 42, 27, 28, 29, 21, 4]
abbrev dktX6_least_2 : List UInt8 := dkwX6_least_2 ++ dktX6_least_3
def dkwX6_least_1 : List UInt8 := [184, 0, 186, 153, 0, 36, 28, 29, 96, 4, 100, 17, 39, 15, 163, 0, 25, 21, 4, 3, 17, 3, 231]
abbrev dktX6_least_1 : List UInt8 := dkwX6_least_1 ++ dktX6_least_2
def dkwX6_least_0 : List UInt8 := [42, 27, 182, 1, 88, 153, 0, 57, 28, 4, 17, 39, 15, 184, 0, 186, 153, 0, 46, 29, 4, 16, 14]
abbrev dktX6_least_0 : List UInt8 := dkwX6_least_0 ++ dktX6_least_1
theorem dksX6_least_0 : cX6_least.data.toList.drop 0 = dktX6_least_0 := by decide +kernel
theorem dksX6_least_1 : cX6_least.data.toList.drop 23 = dktX6_least_1 := dk_seg dksX6_least_0 23 rfl rfl
theorem dksX6_least_2 : cX6_least.data.toList.drop 46 = dktX6_least_2 := dk_seg dksX6_least_1 23 rfl rfl
theorem dksX6_least_3 : cX6_least.data.toList.drop 70 = dktX6_least_3 := dk_seg dksX6_least_2 24 rfl rfl
theorem dksX6_least_4 : cX6_least.data.toList.drop 93 = dktX6_least_4 := dk_seg dksX6_least_3 23 rfl rfl
theorem dksX6_least_5 : cX6_least.data.toList.drop 116 = dktX6_least_5 := dk_seg dksX6_least_4 23 rfl rfl
theorem dksX6_least_6 : cX6_least.data.toList.drop 140 = dktX6_least_6 := dk_seg dksX6_least_5 24 rfl rfl
theorem dksX6_least_7 : cX6_least.data.toList.drop 163 = dktX6_least_7 := dk_seg dksX6_least_6 23 rfl rfl
theorem dX6_least_0 : decode cX6_least 0 = .ok (.aload_n 0, 1) := dk_42 (dk_at dksX6_least_0 0 rfl rfl)
theorem dX6_least_1 : decode cX6_least 1 = .ok (.iload_n 1, 1) := dk_27 (dk_at dksX6_least_0 1 rfl rfl)
theorem dX6_least_2 : decode cX6_least 2 = .ok (.invokevirtual 344, 3) := dk_182 1 88 (dk_at dksX6_least_0 2 rfl rfl)
theorem dX6_least_5 : decode cX6_least 5 = .ok (.ifCond .eq 57, 3) := dk_153 0 57 (dk_at dksX6_least_0 5 rfl rfl)
theorem dX6_least_8 : decode cX6_least 8 = .ok (.iload_n 2, 1) := dk_28 (dk_at dksX6_least_0 8 rfl rfl)
theorem dX6_least_9 : decode cX6_least 9 = .ok (.iconst 1, 1) := dk_4 (dk_at dksX6_least_0 9 rfl rfl)
theorem dX6_least_10 : decode cX6_least 10 = .ok (.sipush 9999, 3) := dk_17 39 15 (dk_at dksX6_least_0 10 rfl rfl)
theorem dX6_least_13 : decode cX6_least 13 = .ok (.invokestatic 186, 3) := dk_184 0 186 (dk_at dksX6_least_0 13 rfl rfl)
theorem dX6_least_16 : decode cX6_least 16 = .ok (.ifCond .eq 46, 3) := dk_153 0 46 (dk_at dksX6_least_0 16 rfl rfl)
theorem dX6_least_19 : decode cX6_least 19 = .ok (.iload_n 3, 1) := dk_29 (dk_at dksX6_least_0 19 rfl rfl)
theorem dX6_least_20 : decode cX6_least 20 = .ok (.iconst 1, 1) := dk_4 (dk_at dksX6_least_0 20 rfl rfl)
theorem dX6_least_21 : decode cX6_least 21 = .ok (.bipush 14, 2) := dk_16 14 (dk_at dksX6_least_0 21 rfl rfl)
theorem dX6_least_23 : decode cX6_least 23 = .ok (.invokestatic 186, 3) := dk_184 0 186 (dk_at dksX6_least_1 0 rfl rfl)
theorem dX6_least_26 : decode cX6_least 26 = .ok (.ifCond .eq 36, 3) := dk_153 0 36 (dk_at dksX6_least_1 3 rfl rfl)
theorem dX6_least_29 : decode cX6_least 29 = .ok (.iload_n 2, 1) := dk_28 (dk_at dksX6_least_1 6 rfl rfl)
theorem dX6_least_30 : decode cX6_least 30 = .ok (.iload_n 3, 1) := dk_29 (dk_at dksX6_least_1 7 rfl rfl)
theorem dX6_least_31 : decode cX6_least 31 = .ok (.iadd, 1) := dk_96 (dk_at dksX6_least_1 8 rfl rfl)
theorem dX6_least_32 : decode cX6_least 32 = .ok (.iconst 1, 1) := dk_4 (dk_at dksX6_least_1 9 rfl rfl)
theorem dX6_least_33 : decode cX6_least 33 = .ok (.isub, 1) := dk_100 (dk_at dksX6_least_1 10 rfl rfl)
theorem dX6_least_34 : decode cX6_least 34 = .ok (.sipush 9999, 3) := dk_17 39 15 (dk_at dksX6_least_1 11 rfl rfl)
theorem dX6_least_37 : decode cX6_least 37 = .ok (.if_icmp .gt 25, 3) := dk_163 0 25 (dk_at dksX6_least_1 14 rfl rfl)
theorem dX6_least_40 : decode cX6_least 40 = .ok (.iload 4, 2) := dk_21 4 (dk_at dksX6_least_1 17 rfl rfl)
theorem dX6_least_42 : decode cX6_least 42 = .ok (.iconst 0, 1) := dk_3 (dk_at dksX6_least_1 19 rfl rfl)
theorem dX6_least_43 : decode cX6_least 43 = .ok (.sipush 999, 3) := dk_17 3 231 (dk_at dksX6_least_1 20 rfl rfl)
theorem dX6_least_46 : decode cX6_least 46 = .ok (.invokestatic 186, 3) := dk_184 0 186 (dk_at dksX6_least_2 0 rfl rfl)
theorem dX6_least_49 : decode cX6_least 49 = .ok (.ifCond .eq 13, 3) := dk_153 0 13 (dk_at dksX6_least_2 3 rfl rfl)
theorem dX6_least_52 : decode cX6_least 52 = .ok (.iload 5, 2) := dk_21 5 (dk_at dksX6_least_2 6 rfl rfl)
theorem dX6_least_54 : decode cX6_least 54 = .ok (.iconst 0, 1) := dk_3 (dk_at dksX6_least_2 8 rfl rfl)
theorem dX6_least_55 : decode cX6_least 55 = .ok (.iconst 1, 1) := dk_4 (dk_at dksX6_least_2 9 rfl rfl)
theorem dX6_least_56 : decode cX6_least 56 = .ok (.invokestatic 186, 3) := dk_184 0 186 (dk_at dksX6_least_2 10 rfl rfl)
theorem dX6_least_59 : decode cX6_least 59 = .ok (.ifCond .ne 5, 3) := dk_154 0 5 (dk_at dksX6_least_2 13 rfl rfl)
theorem dX6_least_62 : decode cX6_least 62 = .ok (.iconst (-1), 1) := dk_2 (dk_at dksX6_least_2 16 rfl rfl)
theorem dX6_least_63 : decode cX6_least 63 = .ok (.ireturn, 1) := dk_172 (dk_at dksX6_least_2 17 rfl rfl)
theorem dX6_least_64 : decode cX6_least 64 = .ok (.aload_n 0, 1) := dk_42 (dk_at dksX6_least_2 18 rfl rfl)
theorem dX6_least_65 : decode cX6_least 65 = .ok (.iload_n 1, 1) := dk_27 (dk_at dksX6_least_2 19 rfl rfl)
theorem dX6_least_66 : decode cX6_least 66 = .ok (.iload_n 2, 1) := dk_28 (dk_at dksX6_least_2 20 rfl rfl)
theorem dX6_least_67 : decode cX6_least 67 = .ok (.iload_n 3, 1) := dk_29 (dk_at dksX6_least_2 21 rfl rfl)
theorem dX6_least_68 : decode cX6_least 68 = .ok (.iload 4, 2) := dk_21 4 (dk_at dksX6_least_2 22 rfl rfl)
theorem dX6_least_70 : decode cX6_least 70 = .ok (.invokevirtual 406, 3) := dk_182 1 150 (dk_at dksX6_least_3 0 rfl rfl)
theorem dX6_least_73 : decode cX6_least 73 = .ok (.iconst 1, 1) := dk_4 (dk_at dksX6_least_3 3 rfl rfl)
theorem dX6_least_74 : decode cX6_least 74 = .ok (.iload_n 3, 1) := dk_29 (dk_at dksX6_least_3 4 rfl rfl)
theorem dX6_least_75 : decode cX6_least 75 = .ok (.ishl, 1) := dk_120 (dk_at dksX6_least_3 5 rfl rfl)
theorem dX6_least_76 : decode cX6_least 76 = .ok (.iconst 1, 1) := dk_4 (dk_at dksX6_least_3 6 rfl rfl)
theorem dX6_least_77 : decode cX6_least 77 = .ok (.isub, 1) := dk_100 (dk_at dksX6_least_3 7 rfl rfl)
theorem dX6_least_78 : decode cX6_least 78 = .ok (.istore 6, 2) := dk_54 6 (dk_at dksX6_least_3 8 rfl rfl)
theorem dX6_least_80 : decode cX6_least 80 = .ok (.iconst 1, 1) := dk_4 (dk_at dksX6_least_3 10 rfl rfl)
theorem dX6_least_81 : decode cX6_least 81 = .ok (.istore 7, 2) := dk_54 7 (dk_at dksX6_least_3 11 rfl rfl)
theorem dX6_least_83 : decode cX6_least 83 = .ok (.iload 7, 2) := dk_21 7 (dk_at dksX6_least_3 13 rfl rfl)
theorem dX6_least_85 : decode cX6_least 85 = .ok (.iconst 1, 1) := dk_4 (dk_at dksX6_least_3 15 rfl rfl)
theorem dX6_least_86 : decode cX6_least 86 = .ok (.iload_n 3, 1) := dk_29 (dk_at dksX6_least_3 16 rfl rfl)
theorem dX6_least_87 : decode cX6_least 87 = .ok (.ishl, 1) := dk_120 (dk_at dksX6_least_3 17 rfl rfl)
theorem dX6_least_88 : decode cX6_least 88 = .ok (.if_icmp .ge 65, 3) := dk_162 0 65 (dk_at dksX6_least_3 18 rfl rfl)
theorem dX6_least_91 : decode cX6_least 91 = .ok (.iload 6, 2) := dk_21 6 (dk_at dksX6_least_3 21 rfl rfl)
theorem dX6_least_93 : decode cX6_least 93 = .ok (.invokestatic 409, 3) := dk_184 1 153 (dk_at dksX6_least_4 0 rfl rfl)
theorem dX6_least_96 : decode cX6_least 96 = .ok (.iload 7, 2) := dk_21 7 (dk_at dksX6_least_4 3 rfl rfl)
theorem dX6_least_98 : decode cX6_least 98 = .ok (.invokestatic 409, 3) := dk_184 1 153 (dk_at dksX6_least_4 5 rfl rfl)
theorem dX6_least_101 : decode cX6_least 101 = .ok (.isub, 1) := dk_100 (dk_at dksX6_least_4 8 rfl rfl)
theorem dX6_least_102 : decode cX6_least 102 = .ok (.istore 8, 2) := dk_54 8 (dk_at dksX6_least_4 9 rfl rfl)
theorem dX6_least_104 : decode cX6_least 104 = .ok (.iload 6, 2) := dk_21 6 (dk_at dksX6_least_4 11 rfl rfl)
theorem dX6_least_106 : decode cX6_least 106 = .ok (.iload 7, 2) := dk_21 7 (dk_at dksX6_least_4 13 rfl rfl)
theorem dX6_least_108 : decode cX6_least 108 = .ok (.ixor, 1) := dk_130 (dk_at dksX6_least_4 15 rfl rfl)
theorem dX6_least_109 : decode cX6_least 109 = .ok (.istore 9, 2) := dk_54 9 (dk_at dksX6_least_4 16 rfl rfl)
theorem dX6_least_111 : decode cX6_least 111 = .ok (.iload 8, 2) := dk_21 8 (dk_at dksX6_least_4 18 rfl rfl)
theorem dX6_least_113 : decode cX6_least 113 = .ok (.ifCond .gt 20, 3) := dk_157 0 20 (dk_at dksX6_least_4 20 rfl rfl)
theorem dX6_least_116 : decode cX6_least 116 = .ok (.iload 8, 2) := dk_21 8 (dk_at dksX6_least_5 0 rfl rfl)
theorem dX6_least_118 : decode cX6_least 118 = .ok (.ifCond .ne 29, 3) := dk_154 0 29 (dk_at dksX6_least_5 2 rfl rfl)
theorem dX6_least_121 : decode cX6_least 121 = .ok (.iload 7, 2) := dk_21 7 (dk_at dksX6_least_5 5 rfl rfl)
theorem dX6_least_123 : decode cX6_least 123 = .ok (.iload 9, 2) := dk_21 9 (dk_at dksX6_least_5 7 rfl rfl)
theorem dX6_least_125 : decode cX6_least 125 = .ok (.iand, 1) := dk_126 (dk_at dksX6_least_5 9 rfl rfl)
theorem dX6_least_126 : decode cX6_least 126 = .ok (.iload 9, 2) := dk_21 9 (dk_at dksX6_least_5 10 rfl rfl)
theorem dX6_least_128 : decode cX6_least 128 = .ok (.ineg, 1) := dk_116 (dk_at dksX6_least_5 12 rfl rfl)
theorem dX6_least_129 : decode cX6_least 129 = .ok (.iand, 1) := dk_126 (dk_at dksX6_least_5 13 rfl rfl)
theorem dX6_least_130 : decode cX6_least 130 = .ok (.ifCond .eq 17, 3) := dk_153 0 17 (dk_at dksX6_least_5 14 rfl rfl)
theorem dX6_least_133 : decode cX6_least 133 = .ok (.aload_n 0, 1) := dk_42 (dk_at dksX6_least_5 17 rfl rfl)
theorem dX6_least_134 : decode cX6_least 134 = .ok (.iload 7, 2) := dk_21 7 (dk_at dksX6_least_5 18 rfl rfl)
theorem dX6_least_136 : decode cX6_least 136 = .ok (.iload_n 3, 1) := dk_29 (dk_at dksX6_least_5 20 rfl rfl)
theorem dX6_least_137 : decode cX6_least 137 = .ok (.invokevirtual 412, 3) := dk_182 1 156 (dk_at dksX6_least_5 21 rfl rfl)
theorem dX6_least_140 : decode cX6_least 140 = .ok (.ifCond .eq 7, 3) := dk_153 0 7 (dk_at dksX6_least_6 0 rfl rfl)
theorem dX6_least_143 : decode cX6_least 143 = .ok (.iload 7, 2) := dk_21 7 (dk_at dksX6_least_6 3 rfl rfl)
theorem dX6_least_145 : decode cX6_least 145 = .ok (.istore 6, 2) := dk_54 6 (dk_at dksX6_least_6 5 rfl rfl)
theorem dX6_least_147 : decode cX6_least 147 = .ok (.iinc 7 1, 3) := dk_132 7 1 (dk_at dksX6_least_6 7 rfl rfl)
theorem dX6_least_150 : decode cX6_least 150 = .ok (.goto (-67), 3) := dk_167 255 189 (dk_at dksX6_least_6 10 rfl rfl)
theorem dX6_least_153 : decode cX6_least 153 = .ok (.iload 5, 2) := dk_21 5 (dk_at dksX6_least_6 13 rfl rfl)
theorem dX6_least_155 : decode cX6_least 155 = .ok (.ifCond .ne 11, 3) := dk_154 0 11 (dk_at dksX6_least_6 15 rfl rfl)
theorem dX6_least_158 : decode cX6_least 158 = .ok (.iload 6, 2) := dk_21 6 (dk_at dksX6_least_6 18 rfl rfl)
theorem dX6_least_160 : decode cX6_least 160 = .ok (.invokestatic 409, 3) := dk_184 1 153 (dk_at dksX6_least_6 20 rfl rfl)
theorem dX6_least_163 : decode cX6_least 163 = .ok (.goto 5, 3) := dk_167 0 5 (dk_at dksX6_least_7 0 rfl rfl)
theorem dX6_least_166 : decode cX6_least 166 = .ok (.iload 6, 2) := dk_21 6 (dk_at dksX6_least_7 3 rfl rfl)
theorem dX6_least_168 : decode cX6_least 168 = .ok (.ireturn, 1) := dk_172 (dk_at dksX6_least_7 5 rfl rfl)
abbrev cX6_nearYears : ByteArray := prog_16_method_80_code
def yX6_nearYears : MethodName := ⟨RX6, "nearYears", "(IIII)V"⟩
def dkwX6_nearYears_7 : List UInt8 := [167, 255, 91, 177]
abbrev dktX6_nearYears_7 : List UInt8 := dkwX6_nearYears_7 ++ []
def dkwX6_nearYears_6 : List UInt8 := [133, 148, 157, 0, 10, 4, 21, 6, 120, 167, 0, 4, 3, 128, 79, 132, 6, 1, 167, 255, 192, 132, 5, 1]
abbrev dktX6_nearYears_6 : List UInt8 := dkwX6_nearYears_6 ++ dktX6_nearYears_7
def dkwX6_nearYears_5 : List UInt8 := [180, 0, 134, 21, 5, 92, 46, 22, 7, 20, 1, 65, 148, 156, 0, 23, 22, 7, 20, 1, 60, 109, 21, 4]
abbrev dktX6_nearYears_5 : List UInt8 := dkwX6_nearYears_5 ++ dktX6_nearYears_6
def dkwX6_nearYears_4 : List UInt8 := [54, 6, 21, 6, 29, 162, 0, 64, 42, 180, 0, 82, 19, 1, 149, 28, 96, 21, 6, 96, 47, 55, 7, 42]
abbrev dktX6_nearYears_4 : List UInt8 := dkwX6_nearYears_4 ++ dktX6_nearYears_5
def dkwX6_nearYears_3 : List UInt8 := [42, 28, 21, 5, 96, 182, 1, 62, 42, 27, 16, 8, 182, 1, 70, 42, 180, 0, 134, 21, 5, 3, 79, 3]
abbrev dktX6_nearYears_3 : List UInt8 := dkwX6_nearYears_3 ++ dktX6_nearYears_4
def dkwX6_nearYears_2 : List UInt8 := [21, 6, 3, 84, 132, 6, 1, 167, 255, 223, 42, 180, 0, 82, 19, 1, 149, 28, 96, 21, 5, 96, 9, 80]
abbrev dktX6_nearYears_2 : List UInt8 := dkwX6_nearYears_2 ++ dktX6_nearYears_3
def dkwX6_nearYears_1 : List UInt8 := [17, 39, 17, 162, 0, 31, 42, 180, 0, 82, 19, 1, 149, 21, 6, 96, 20, 1, 65, 80, 42, 180, 0, 92]
abbrev dktX6_nearYears_1 : List UInt8 := dkwX6_nearYears_1 ++ dktX6_nearYears_2
def dkwX6_nearYears_0 : List UInt8 := [3, 54, 5, 21, 5, 29, 162, 0, 165, 42, 3, 181, 1, 50, 42, 3, 181, 1, 53, 3, 54, 6, 21, 6]
abbrev dktX6_nearYears_0 : List UInt8 := dkwX6_nearYears_0 ++ dktX6_nearYears_1
theorem dksX6_nearYears_0 : cX6_nearYears.data.toList.drop 0 = dktX6_nearYears_0 := by decide +kernel
theorem dksX6_nearYears_1 : cX6_nearYears.data.toList.drop 24 = dktX6_nearYears_1 := dk_seg dksX6_nearYears_0 24 rfl rfl
theorem dksX6_nearYears_2 : cX6_nearYears.data.toList.drop 48 = dktX6_nearYears_2 := dk_seg dksX6_nearYears_1 24 rfl rfl
theorem dksX6_nearYears_3 : cX6_nearYears.data.toList.drop 72 = dktX6_nearYears_3 := dk_seg dksX6_nearYears_2 24 rfl rfl
theorem dksX6_nearYears_4 : cX6_nearYears.data.toList.drop 96 = dktX6_nearYears_4 := dk_seg dksX6_nearYears_3 24 rfl rfl
theorem dksX6_nearYears_5 : cX6_nearYears.data.toList.drop 120 = dktX6_nearYears_5 := dk_seg dksX6_nearYears_4 24 rfl rfl
theorem dksX6_nearYears_6 : cX6_nearYears.data.toList.drop 144 = dktX6_nearYears_6 := dk_seg dksX6_nearYears_5 24 rfl rfl
theorem dksX6_nearYears_7 : cX6_nearYears.data.toList.drop 168 = dktX6_nearYears_7 := dk_seg dksX6_nearYears_6 24 rfl rfl
theorem dX6_nearYears_0 : decode cX6_nearYears 0 = .ok (.iconst 0, 1) := dk_3 (dk_at dksX6_nearYears_0 0 rfl rfl)
theorem dX6_nearYears_1 : decode cX6_nearYears 1 = .ok (.istore 5, 2) := dk_54 5 (dk_at dksX6_nearYears_0 1 rfl rfl)
theorem dX6_nearYears_3 : decode cX6_nearYears 3 = .ok (.iload 5, 2) := dk_21 5 (dk_at dksX6_nearYears_0 3 rfl rfl)
theorem dX6_nearYears_5 : decode cX6_nearYears 5 = .ok (.iload_n 3, 1) := dk_29 (dk_at dksX6_nearYears_0 5 rfl rfl)
theorem dX6_nearYears_6 : decode cX6_nearYears 6 = .ok (.if_icmp .ge 165, 3) := dk_162 0 165 (dk_at dksX6_nearYears_0 6 rfl rfl)
theorem dX6_nearYears_9 : decode cX6_nearYears 9 = .ok (.aload_n 0, 1) := dk_42 (dk_at dksX6_nearYears_0 9 rfl rfl)
theorem dX6_nearYears_10 : decode cX6_nearYears 10 = .ok (.iconst 0, 1) := dk_3 (dk_at dksX6_nearYears_0 10 rfl rfl)
theorem dX6_nearYears_11 : decode cX6_nearYears 11 = .ok (.putfield 306, 3) := dk_181 1 50 (dk_at dksX6_nearYears_0 11 rfl rfl)
theorem dX6_nearYears_14 : decode cX6_nearYears 14 = .ok (.aload_n 0, 1) := dk_42 (dk_at dksX6_nearYears_0 14 rfl rfl)
theorem dX6_nearYears_15 : decode cX6_nearYears 15 = .ok (.iconst 0, 1) := dk_3 (dk_at dksX6_nearYears_0 15 rfl rfl)
theorem dX6_nearYears_16 : decode cX6_nearYears 16 = .ok (.putfield 309, 3) := dk_181 1 53 (dk_at dksX6_nearYears_0 16 rfl rfl)
theorem dX6_nearYears_19 : decode cX6_nearYears 19 = .ok (.iconst 0, 1) := dk_3 (dk_at dksX6_nearYears_0 19 rfl rfl)
theorem dX6_nearYears_20 : decode cX6_nearYears 20 = .ok (.istore 6, 2) := dk_54 6 (dk_at dksX6_nearYears_0 20 rfl rfl)
theorem dX6_nearYears_22 : decode cX6_nearYears 22 = .ok (.iload 6, 2) := dk_21 6 (dk_at dksX6_nearYears_0 22 rfl rfl)
theorem dX6_nearYears_24 : decode cX6_nearYears 24 = .ok (.sipush 10001, 3) := dk_17 39 17 (dk_at dksX6_nearYears_1 0 rfl rfl)
theorem dX6_nearYears_27 : decode cX6_nearYears 27 = .ok (.if_icmp .ge 31, 3) := dk_162 0 31 (dk_at dksX6_nearYears_1 3 rfl rfl)
theorem dX6_nearYears_30 : decode cX6_nearYears 30 = .ok (.aload_n 0, 1) := dk_42 (dk_at dksX6_nearYears_1 6 rfl rfl)
theorem dX6_nearYears_31 : decode cX6_nearYears 31 = .ok (.getfield 82, 3) := dk_180 0 82 (dk_at dksX6_nearYears_1 7 rfl rfl)
theorem dX6_nearYears_34 : decode cX6_nearYears 34 = .ok (.ldc_w 405, 3) := dk_19 1 149 (dk_at dksX6_nearYears_1 10 rfl rfl)
theorem dX6_nearYears_37 : decode cX6_nearYears 37 = .ok (.iload 6, 2) := dk_21 6 (dk_at dksX6_nearYears_1 13 rfl rfl)
theorem dX6_nearYears_39 : decode cX6_nearYears 39 = .ok (.iadd, 1) := dk_96 (dk_at dksX6_nearYears_1 15 rfl rfl)
theorem dX6_nearYears_40 : decode cX6_nearYears 40 = .ok (.ldc2_w 321, 3) := dk_20 1 65 (dk_at dksX6_nearYears_1 16 rfl rfl)
theorem dX6_nearYears_43 : decode cX6_nearYears 43 = .ok (.lastore, 1) := dk_80 (dk_at dksX6_nearYears_1 19 rfl rfl)
theorem dX6_nearYears_44 : decode cX6_nearYears 44 = .ok (.aload_n 0, 1) := dk_42 (dk_at dksX6_nearYears_1 20 rfl rfl)
theorem dX6_nearYears_45 : decode cX6_nearYears 45 = .ok (.getfield 92, 3) := dk_180 0 92 (dk_at dksX6_nearYears_1 21 rfl rfl)
theorem dX6_nearYears_48 : decode cX6_nearYears 48 = .ok (.iload 6, 2) := dk_21 6 (dk_at dksX6_nearYears_2 0 rfl rfl)
theorem dX6_nearYears_50 : decode cX6_nearYears 50 = .ok (.iconst 0, 1) := dk_3 (dk_at dksX6_nearYears_2 2 rfl rfl)
theorem dX6_nearYears_51 : decode cX6_nearYears 51 = .ok (.bastore, 1) := dk_84 (dk_at dksX6_nearYears_2 3 rfl rfl)
theorem dX6_nearYears_52 : decode cX6_nearYears 52 = .ok (.iinc 6 1, 3) := dk_132 6 1 (dk_at dksX6_nearYears_2 4 rfl rfl)
theorem dX6_nearYears_55 : decode cX6_nearYears 55 = .ok (.goto (-33), 3) := dk_167 255 223 (dk_at dksX6_nearYears_2 7 rfl rfl)
theorem dX6_nearYears_58 : decode cX6_nearYears 58 = .ok (.aload_n 0, 1) := dk_42 (dk_at dksX6_nearYears_2 10 rfl rfl)
theorem dX6_nearYears_59 : decode cX6_nearYears 59 = .ok (.getfield 82, 3) := dk_180 0 82 (dk_at dksX6_nearYears_2 11 rfl rfl)
theorem dX6_nearYears_62 : decode cX6_nearYears 62 = .ok (.ldc_w 405, 3) := dk_19 1 149 (dk_at dksX6_nearYears_2 14 rfl rfl)
theorem dX6_nearYears_65 : decode cX6_nearYears 65 = .ok (.iload_n 2, 1) := dk_28 (dk_at dksX6_nearYears_2 17 rfl rfl)
theorem dX6_nearYears_66 : decode cX6_nearYears 66 = .ok (.iadd, 1) := dk_96 (dk_at dksX6_nearYears_2 18 rfl rfl)
theorem dX6_nearYears_67 : decode cX6_nearYears 67 = .ok (.iload 5, 2) := dk_21 5 (dk_at dksX6_nearYears_2 19 rfl rfl)
theorem dX6_nearYears_69 : decode cX6_nearYears 69 = .ok (.iadd, 1) := dk_96 (dk_at dksX6_nearYears_2 21 rfl rfl)
theorem dX6_nearYears_70 : decode cX6_nearYears 70 = .ok (.lconst 0, 1) := dk_9 (dk_at dksX6_nearYears_2 22 rfl rfl)
theorem dX6_nearYears_71 : decode cX6_nearYears 71 = .ok (.lastore, 1) := dk_80 (dk_at dksX6_nearYears_2 23 rfl rfl)
theorem dX6_nearYears_72 : decode cX6_nearYears 72 = .ok (.aload_n 0, 1) := dk_42 (dk_at dksX6_nearYears_3 0 rfl rfl)
theorem dX6_nearYears_73 : decode cX6_nearYears 73 = .ok (.iload_n 2, 1) := dk_28 (dk_at dksX6_nearYears_3 1 rfl rfl)
theorem dX6_nearYears_74 : decode cX6_nearYears 74 = .ok (.iload 5, 2) := dk_21 5 (dk_at dksX6_nearYears_3 2 rfl rfl)
theorem dX6_nearYears_76 : decode cX6_nearYears 76 = .ok (.iadd, 1) := dk_96 (dk_at dksX6_nearYears_3 4 rfl rfl)
theorem dX6_nearYears_77 : decode cX6_nearYears 77 = .ok (.invokevirtual 318, 3) := dk_182 1 62 (dk_at dksX6_nearYears_3 5 rfl rfl)
theorem dX6_nearYears_80 : decode cX6_nearYears 80 = .ok (.aload_n 0, 1) := dk_42 (dk_at dksX6_nearYears_3 8 rfl rfl)
theorem dX6_nearYears_81 : decode cX6_nearYears 81 = .ok (.iload_n 1, 1) := dk_27 (dk_at dksX6_nearYears_3 9 rfl rfl)
theorem dX6_nearYears_82 : decode cX6_nearYears 82 = .ok (.bipush 8, 2) := dk_16 8 (dk_at dksX6_nearYears_3 10 rfl rfl)
theorem dX6_nearYears_84 : decode cX6_nearYears 84 = .ok (.invokevirtual 326, 3) := dk_182 1 70 (dk_at dksX6_nearYears_3 12 rfl rfl)
theorem dX6_nearYears_87 : decode cX6_nearYears 87 = .ok (.aload_n 0, 1) := dk_42 (dk_at dksX6_nearYears_3 15 rfl rfl)
theorem dX6_nearYears_88 : decode cX6_nearYears 88 = .ok (.getfield 134, 3) := dk_180 0 134 (dk_at dksX6_nearYears_3 16 rfl rfl)
theorem dX6_nearYears_91 : decode cX6_nearYears 91 = .ok (.iload 5, 2) := dk_21 5 (dk_at dksX6_nearYears_3 19 rfl rfl)
theorem dX6_nearYears_93 : decode cX6_nearYears 93 = .ok (.iconst 0, 1) := dk_3 (dk_at dksX6_nearYears_3 21 rfl rfl)
theorem dX6_nearYears_94 : decode cX6_nearYears 94 = .ok (.iastore, 1) := dk_79 (dk_at dksX6_nearYears_3 22 rfl rfl)
theorem dX6_nearYears_95 : decode cX6_nearYears 95 = .ok (.iconst 0, 1) := dk_3 (dk_at dksX6_nearYears_3 23 rfl rfl)
theorem dX6_nearYears_96 : decode cX6_nearYears 96 = .ok (.istore 6, 2) := dk_54 6 (dk_at dksX6_nearYears_4 0 rfl rfl)
theorem dX6_nearYears_98 : decode cX6_nearYears 98 = .ok (.iload 6, 2) := dk_21 6 (dk_at dksX6_nearYears_4 2 rfl rfl)
theorem dX6_nearYears_100 : decode cX6_nearYears 100 = .ok (.iload_n 3, 1) := dk_29 (dk_at dksX6_nearYears_4 4 rfl rfl)
theorem dX6_nearYears_101 : decode cX6_nearYears 101 = .ok (.if_icmp .ge 64, 3) := dk_162 0 64 (dk_at dksX6_nearYears_4 5 rfl rfl)
theorem dX6_nearYears_104 : decode cX6_nearYears 104 = .ok (.aload_n 0, 1) := dk_42 (dk_at dksX6_nearYears_4 8 rfl rfl)
theorem dX6_nearYears_105 : decode cX6_nearYears 105 = .ok (.getfield 82, 3) := dk_180 0 82 (dk_at dksX6_nearYears_4 9 rfl rfl)
theorem dX6_nearYears_108 : decode cX6_nearYears 108 = .ok (.ldc_w 405, 3) := dk_19 1 149 (dk_at dksX6_nearYears_4 12 rfl rfl)
theorem dX6_nearYears_111 : decode cX6_nearYears 111 = .ok (.iload_n 2, 1) := dk_28 (dk_at dksX6_nearYears_4 15 rfl rfl)
theorem dX6_nearYears_112 : decode cX6_nearYears 112 = .ok (.iadd, 1) := dk_96 (dk_at dksX6_nearYears_4 16 rfl rfl)
theorem dX6_nearYears_113 : decode cX6_nearYears 113 = .ok (.iload 6, 2) := dk_21 6 (dk_at dksX6_nearYears_4 17 rfl rfl)
theorem dX6_nearYears_115 : decode cX6_nearYears 115 = .ok (.iadd, 1) := dk_96 (dk_at dksX6_nearYears_4 19 rfl rfl)
theorem dX6_nearYears_116 : decode cX6_nearYears 116 = .ok (.laload, 1) := dk_47 (dk_at dksX6_nearYears_4 20 rfl rfl)
theorem dX6_nearYears_117 : decode cX6_nearYears 117 = .ok (.lstore 7, 2) := dk_55 7 (dk_at dksX6_nearYears_4 21 rfl rfl)
theorem dX6_nearYears_119 : decode cX6_nearYears 119 = .ok (.aload_n 0, 1) := dk_42 (dk_at dksX6_nearYears_4 23 rfl rfl)
theorem dX6_nearYears_120 : decode cX6_nearYears 120 = .ok (.getfield 134, 3) := dk_180 0 134 (dk_at dksX6_nearYears_5 0 rfl rfl)
theorem dX6_nearYears_123 : decode cX6_nearYears 123 = .ok (.iload 5, 2) := dk_21 5 (dk_at dksX6_nearYears_5 3 rfl rfl)
theorem dX6_nearYears_125 : decode cX6_nearYears 125 = .ok (.dup2, 1) := dk_92 (dk_at dksX6_nearYears_5 5 rfl rfl)
theorem dX6_nearYears_126 : decode cX6_nearYears 126 = .ok (.iaload, 1) := dk_46 (dk_at dksX6_nearYears_5 6 rfl rfl)
theorem dX6_nearYears_127 : decode cX6_nearYears 127 = .ok (.lload 7, 2) := dk_22 7 (dk_at dksX6_nearYears_5 7 rfl rfl)
theorem dX6_nearYears_129 : decode cX6_nearYears 129 = .ok (.ldc2_w 321, 3) := dk_20 1 65 (dk_at dksX6_nearYears_5 9 rfl rfl)
theorem dX6_nearYears_132 : decode cX6_nearYears 132 = .ok (.lcmp, 1) := dk_148 (dk_at dksX6_nearYears_5 12 rfl rfl)
theorem dX6_nearYears_133 : decode cX6_nearYears 133 = .ok (.ifCond .ge 23, 3) := dk_156 0 23 (dk_at dksX6_nearYears_5 13 rfl rfl)
theorem dX6_nearYears_136 : decode cX6_nearYears 136 = .ok (.lload 7, 2) := dk_22 7 (dk_at dksX6_nearYears_5 16 rfl rfl)
theorem dX6_nearYears_138 : decode cX6_nearYears 138 = .ok (.ldc2_w 316, 3) := dk_20 1 60 (dk_at dksX6_nearYears_5 18 rfl rfl)
theorem dX6_nearYears_141 : decode cX6_nearYears 141 = .ok (.ldiv, 1) := dk_109 (dk_at dksX6_nearYears_5 21 rfl rfl)
theorem dX6_nearYears_142 : decode cX6_nearYears 142 = .ok (.iload 4, 2) := dk_21 4 (dk_at dksX6_nearYears_5 22 rfl rfl)
theorem dX6_nearYears_144 : decode cX6_nearYears 144 = .ok (.i2l, 1) := dk_133 (dk_at dksX6_nearYears_6 0 rfl rfl)
theorem dX6_nearYears_145 : decode cX6_nearYears 145 = .ok (.lcmp, 1) := dk_148 (dk_at dksX6_nearYears_6 1 rfl rfl)
theorem dX6_nearYears_146 : decode cX6_nearYears 146 = .ok (.ifCond .gt 10, 3) := dk_157 0 10 (dk_at dksX6_nearYears_6 2 rfl rfl)
theorem dX6_nearYears_149 : decode cX6_nearYears 149 = .ok (.iconst 1, 1) := dk_4 (dk_at dksX6_nearYears_6 5 rfl rfl)
theorem dX6_nearYears_150 : decode cX6_nearYears 150 = .ok (.iload 6, 2) := dk_21 6 (dk_at dksX6_nearYears_6 6 rfl rfl)
theorem dX6_nearYears_152 : decode cX6_nearYears 152 = .ok (.ishl, 1) := dk_120 (dk_at dksX6_nearYears_6 8 rfl rfl)
theorem dX6_nearYears_153 : decode cX6_nearYears 153 = .ok (.goto 4, 3) := dk_167 0 4 (dk_at dksX6_nearYears_6 9 rfl rfl)
theorem dX6_nearYears_156 : decode cX6_nearYears 156 = .ok (.iconst 0, 1) := dk_3 (dk_at dksX6_nearYears_6 12 rfl rfl)
theorem dX6_nearYears_157 : decode cX6_nearYears 157 = .ok (.ior, 1) := dk_128 (dk_at dksX6_nearYears_6 13 rfl rfl)
theorem dX6_nearYears_158 : decode cX6_nearYears 158 = .ok (.iastore, 1) := dk_79 (dk_at dksX6_nearYears_6 14 rfl rfl)
theorem dX6_nearYears_159 : decode cX6_nearYears 159 = .ok (.iinc 6 1, 3) := dk_132 6 1 (dk_at dksX6_nearYears_6 15 rfl rfl)
theorem dX6_nearYears_162 : decode cX6_nearYears 162 = .ok (.goto (-64), 3) := dk_167 255 192 (dk_at dksX6_nearYears_6 18 rfl rfl)
theorem dX6_nearYears_165 : decode cX6_nearYears 165 = .ok (.iinc 5 1, 3) := dk_132 5 1 (dk_at dksX6_nearYears_6 21 rfl rfl)
theorem dX6_nearYears_168 : decode cX6_nearYears 168 = .ok (.goto (-165), 3) := dk_167 255 91 (dk_at dksX6_nearYears_7 0 rfl rfl)
theorem dX6_nearYears_171 : decode cX6_nearYears 171 = .ok (.return_, 1) := dk_177 (dk_at dksX6_nearYears_7 3 rfl rfl)
abbrev cX6_doAll : ByteArray := prog_16_method_81_code
def yX6_doAll : MethodName := ⟨RX6, "doAll", "(II)Z"⟩
def dkwX6_doAll_1 : List UInt8 := [167, 255, 235, 4, 172]
abbrev dktX6_doAll_1 : List UInt8 := dkwX6_doAll_1 ++ []
def dkwX6_doAll_0 : List UInt8 := [3, 62, 29, 28, 162, 0, 22, 42, 180, 0, 134, 29, 46, 27, 126, 154, 0, 5, 3, 172, 132, 3, 1]
abbrev dktX6_doAll_0 : List UInt8 := dkwX6_doAll_0 ++ dktX6_doAll_1
theorem dksX6_doAll_0 : cX6_doAll.data.toList.drop 0 = dktX6_doAll_0 := by decide +kernel
theorem dksX6_doAll_1 : cX6_doAll.data.toList.drop 23 = dktX6_doAll_1 := dk_seg dksX6_doAll_0 23 rfl rfl
theorem dX6_doAll_0 : decode cX6_doAll 0 = .ok (.iconst 0, 1) := dk_3 (dk_at dksX6_doAll_0 0 rfl rfl)
theorem dX6_doAll_1 : decode cX6_doAll 1 = .ok (.istore_n 3, 1) := dk_62 (dk_at dksX6_doAll_0 1 rfl rfl)
theorem dX6_doAll_2 : decode cX6_doAll 2 = .ok (.iload_n 3, 1) := dk_29 (dk_at dksX6_doAll_0 2 rfl rfl)
theorem dX6_doAll_3 : decode cX6_doAll 3 = .ok (.iload_n 2, 1) := dk_28 (dk_at dksX6_doAll_0 3 rfl rfl)
theorem dX6_doAll_4 : decode cX6_doAll 4 = .ok (.if_icmp .ge 22, 3) := dk_162 0 22 (dk_at dksX6_doAll_0 4 rfl rfl)
theorem dX6_doAll_7 : decode cX6_doAll 7 = .ok (.aload_n 0, 1) := dk_42 (dk_at dksX6_doAll_0 7 rfl rfl)
theorem dX6_doAll_8 : decode cX6_doAll 8 = .ok (.getfield 134, 3) := dk_180 0 134 (dk_at dksX6_doAll_0 8 rfl rfl)
theorem dX6_doAll_11 : decode cX6_doAll 11 = .ok (.iload_n 3, 1) := dk_29 (dk_at dksX6_doAll_0 11 rfl rfl)
theorem dX6_doAll_12 : decode cX6_doAll 12 = .ok (.iaload, 1) := dk_46 (dk_at dksX6_doAll_0 12 rfl rfl)
theorem dX6_doAll_13 : decode cX6_doAll 13 = .ok (.iload_n 1, 1) := dk_27 (dk_at dksX6_doAll_0 13 rfl rfl)
theorem dX6_doAll_14 : decode cX6_doAll 14 = .ok (.iand, 1) := dk_126 (dk_at dksX6_doAll_0 14 rfl rfl)
theorem dX6_doAll_15 : decode cX6_doAll 15 = .ok (.ifCond .ne 5, 3) := dk_154 0 5 (dk_at dksX6_doAll_0 15 rfl rfl)
theorem dX6_doAll_18 : decode cX6_doAll 18 = .ok (.iconst 0, 1) := dk_3 (dk_at dksX6_doAll_0 18 rfl rfl)
theorem dX6_doAll_19 : decode cX6_doAll 19 = .ok (.ireturn, 1) := dk_172 (dk_at dksX6_doAll_0 19 rfl rfl)
theorem dX6_doAll_20 : decode cX6_doAll 20 = .ok (.iinc 3 1, 3) := dk_132 3 1 (dk_at dksX6_doAll_0 20 rfl rfl)
theorem dX6_doAll_23 : decode cX6_doAll 23 = .ok (.goto (-21), 3) := dk_167 255 235 (dk_at dksX6_doAll_1 0 rfl rfl)
theorem dX6_doAll_26 : decode cX6_doAll 26 = .ok (.iconst 1, 1) := dk_4 (dk_at dksX6_doAll_1 3 rfl rfl)
theorem dX6_doAll_27 : decode cX6_doAll 27 = .ok (.ireturn, 1) := dk_172 (dk_at dksX6_doAll_1 4 rfl rfl)
abbrev cX6_like : ByteArray := prog_16_method_83_code
def yX6_like : MethodName := ⟨RX6, "like", "(III)I"⟩
def dkwX6_like_3 : List UInt8 := [160, 0, 6, 21, 6, 172, 132, 5, 1, 132, 6, 1, 167, 255, 215, 2, 172]
abbrev dktX6_like_3 : List UInt8 := dkwX6_like_3 ++ []
def dkwX6_like_2 : List UInt8 := [163, 0, 39, 21, 4, 2, 159, 0, 33, 42, 27, 21, 6, 182, 1, 47, 21, 4, 160, 0, 15, 21, 5, 29]
abbrev dktX6_like_2 : List UInt8 := dkwX6_like_2 ++ dktX6_like_3
def dkwX6_like_1 : List UInt8 := [172, 42, 27, 28, 182, 1, 47, 54, 4, 3, 54, 5, 28, 4, 96, 54, 6, 21, 6, 17, 39, 15]
abbrev dktX6_like_1 : List UInt8 := dkwX6_like_1 ++ dktX6_like_2
def dkwX6_like_0 : List UInt8 := [42, 27, 182, 1, 24, 153, 0, 18, 28, 4, 17, 39, 15, 184, 0, 186, 153, 0, 7, 29, 156, 0, 5, 2]
abbrev dktX6_like_0 : List UInt8 := dkwX6_like_0 ++ dktX6_like_1
theorem dksX6_like_0 : cX6_like.data.toList.drop 0 = dktX6_like_0 := by decide +kernel
theorem dksX6_like_1 : cX6_like.data.toList.drop 24 = dktX6_like_1 := dk_seg dksX6_like_0 24 rfl rfl
theorem dksX6_like_2 : cX6_like.data.toList.drop 46 = dktX6_like_2 := dk_seg dksX6_like_1 22 rfl rfl
theorem dksX6_like_3 : cX6_like.data.toList.drop 70 = dktX6_like_3 := dk_seg dksX6_like_2 24 rfl rfl
theorem dX6_like_0 : decode cX6_like 0 = .ok (.aload_n 0, 1) := dk_42 (dk_at dksX6_like_0 0 rfl rfl)
theorem dX6_like_1 : decode cX6_like 1 = .ok (.iload_n 1, 1) := dk_27 (dk_at dksX6_like_0 1 rfl rfl)
theorem dX6_like_2 : decode cX6_like 2 = .ok (.invokevirtual 280, 3) := dk_182 1 24 (dk_at dksX6_like_0 2 rfl rfl)
theorem dX6_like_5 : decode cX6_like 5 = .ok (.ifCond .eq 18, 3) := dk_153 0 18 (dk_at dksX6_like_0 5 rfl rfl)
theorem dX6_like_8 : decode cX6_like 8 = .ok (.iload_n 2, 1) := dk_28 (dk_at dksX6_like_0 8 rfl rfl)
theorem dX6_like_9 : decode cX6_like 9 = .ok (.iconst 1, 1) := dk_4 (dk_at dksX6_like_0 9 rfl rfl)
theorem dX6_like_10 : decode cX6_like 10 = .ok (.sipush 9999, 3) := dk_17 39 15 (dk_at dksX6_like_0 10 rfl rfl)
theorem dX6_like_13 : decode cX6_like 13 = .ok (.invokestatic 186, 3) := dk_184 0 186 (dk_at dksX6_like_0 13 rfl rfl)
theorem dX6_like_16 : decode cX6_like 16 = .ok (.ifCond .eq 7, 3) := dk_153 0 7 (dk_at dksX6_like_0 16 rfl rfl)
theorem dX6_like_19 : decode cX6_like 19 = .ok (.iload_n 3, 1) := dk_29 (dk_at dksX6_like_0 19 rfl rfl)
theorem dX6_like_20 : decode cX6_like 20 = .ok (.ifCond .ge 5, 3) := dk_156 0 5 (dk_at dksX6_like_0 20 rfl rfl)
theorem dX6_like_23 : decode cX6_like 23 = .ok (.iconst (-1), 1) := dk_2 (dk_at dksX6_like_0 23 rfl rfl)
theorem dX6_like_24 : decode cX6_like 24 = .ok (.ireturn, 1) := dk_172 (dk_at dksX6_like_1 0 rfl rfl)
theorem dX6_like_25 : decode cX6_like 25 = .ok (.aload_n 0, 1) := dk_42 (dk_at dksX6_like_1 1 rfl rfl)
theorem dX6_like_26 : decode cX6_like 26 = .ok (.iload_n 1, 1) := dk_27 (dk_at dksX6_like_1 2 rfl rfl)
theorem dX6_like_27 : decode cX6_like 27 = .ok (.iload_n 2, 1) := dk_28 (dk_at dksX6_like_1 3 rfl rfl)
theorem dX6_like_28 : decode cX6_like 28 = .ok (.invokevirtual 303, 3) := dk_182 1 47 (dk_at dksX6_like_1 4 rfl rfl)
theorem dX6_like_31 : decode cX6_like 31 = .ok (.istore 4, 2) := dk_54 4 (dk_at dksX6_like_1 7 rfl rfl)
theorem dX6_like_33 : decode cX6_like 33 = .ok (.iconst 0, 1) := dk_3 (dk_at dksX6_like_1 9 rfl rfl)
theorem dX6_like_34 : decode cX6_like 34 = .ok (.istore 5, 2) := dk_54 5 (dk_at dksX6_like_1 10 rfl rfl)
theorem dX6_like_36 : decode cX6_like 36 = .ok (.iload_n 2, 1) := dk_28 (dk_at dksX6_like_1 12 rfl rfl)
theorem dX6_like_37 : decode cX6_like 37 = .ok (.iconst 1, 1) := dk_4 (dk_at dksX6_like_1 13 rfl rfl)
theorem dX6_like_38 : decode cX6_like 38 = .ok (.iadd, 1) := dk_96 (dk_at dksX6_like_1 14 rfl rfl)
theorem dX6_like_39 : decode cX6_like 39 = .ok (.istore 6, 2) := dk_54 6 (dk_at dksX6_like_1 15 rfl rfl)
theorem dX6_like_41 : decode cX6_like 41 = .ok (.iload 6, 2) := dk_21 6 (dk_at dksX6_like_1 17 rfl rfl)
theorem dX6_like_43 : decode cX6_like 43 = .ok (.sipush 9999, 3) := dk_17 39 15 (dk_at dksX6_like_1 19 rfl rfl)
theorem dX6_like_46 : decode cX6_like 46 = .ok (.if_icmp .gt 39, 3) := dk_163 0 39 (dk_at dksX6_like_2 0 rfl rfl)
theorem dX6_like_49 : decode cX6_like 49 = .ok (.iload 4, 2) := dk_21 4 (dk_at dksX6_like_2 3 rfl rfl)
theorem dX6_like_51 : decode cX6_like 51 = .ok (.iconst (-1), 1) := dk_2 (dk_at dksX6_like_2 5 rfl rfl)
theorem dX6_like_52 : decode cX6_like 52 = .ok (.if_icmp .eq 33, 3) := dk_159 0 33 (dk_at dksX6_like_2 6 rfl rfl)
theorem dX6_like_55 : decode cX6_like 55 = .ok (.aload_n 0, 1) := dk_42 (dk_at dksX6_like_2 9 rfl rfl)
theorem dX6_like_56 : decode cX6_like 56 = .ok (.iload_n 1, 1) := dk_27 (dk_at dksX6_like_2 10 rfl rfl)
theorem dX6_like_57 : decode cX6_like 57 = .ok (.iload 6, 2) := dk_21 6 (dk_at dksX6_like_2 11 rfl rfl)
theorem dX6_like_59 : decode cX6_like 59 = .ok (.invokevirtual 303, 3) := dk_182 1 47 (dk_at dksX6_like_2 13 rfl rfl)
theorem dX6_like_62 : decode cX6_like 62 = .ok (.iload 4, 2) := dk_21 4 (dk_at dksX6_like_2 16 rfl rfl)
theorem dX6_like_64 : decode cX6_like 64 = .ok (.if_icmp .ne 15, 3) := dk_160 0 15 (dk_at dksX6_like_2 18 rfl rfl)
theorem dX6_like_67 : decode cX6_like 67 = .ok (.iload 5, 2) := dk_21 5 (dk_at dksX6_like_2 21 rfl rfl)
theorem dX6_like_69 : decode cX6_like 69 = .ok (.iload_n 3, 1) := dk_29 (dk_at dksX6_like_2 23 rfl rfl)
theorem dX6_like_70 : decode cX6_like 70 = .ok (.if_icmp .ne 6, 3) := dk_160 0 6 (dk_at dksX6_like_3 0 rfl rfl)
theorem dX6_like_73 : decode cX6_like 73 = .ok (.iload 6, 2) := dk_21 6 (dk_at dksX6_like_3 3 rfl rfl)
theorem dX6_like_75 : decode cX6_like 75 = .ok (.ireturn, 1) := dk_172 (dk_at dksX6_like_3 5 rfl rfl)
theorem dX6_like_76 : decode cX6_like 76 = .ok (.iinc 5 1, 3) := dk_132 5 1 (dk_at dksX6_like_3 6 rfl rfl)
theorem dX6_like_79 : decode cX6_like 79 = .ok (.iinc 6 1, 3) := dk_132 6 1 (dk_at dksX6_like_3 9 rfl rfl)
theorem dX6_like_82 : decode cX6_like 82 = .ok (.goto (-41), 3) := dk_167 255 215 (dk_at dksX6_like_3 12 rfl rfl)
theorem dX6_like_85 : decode cX6_like 85 = .ok (.iconst (-1), 1) := dk_2 (dk_at dksX6_like_3 15 rfl rfl)
theorem dX6_like_86 : decode cX6_like 86 = .ok (.ireturn, 1) := dk_172 (dk_at dksX6_like_3 16 rfl rfl)
abbrev cX6_thirteenths : ByteArray := prog_16_method_84_code
def yX6_thirteenths : MethodName := ⟨RX6, "thirteenths", "(IIII)I"⟩
def dkwX6_thirteenths_5 : List UInt8 := [167, 255, 188, 21, 5, 172]
abbrev dktX6_thirteenths_5 : List UInt8 := dkwX6_thirteenths_5 ++ []
def dkwX6_thirteenths_4 : List UInt8 := [21, 4, 160, 0, 7, 4, 167, 0, 4, 3, 96, 54, 5, 132, 7, 1, 167, 255, 203, 132, 6, 1]
abbrev dktX6_thirteenths_4 : List UInt8 := dkwX6_thirteenths_4 ++ dktX6_thirteenths_5
def dkwX6_thirteenths_3 : List UInt8 := [21, 7, 16, 13, 182, 1, 31, 153, 0, 26, 42, 27, 21, 6, 21, 7, 16, 13, 182, 1, 35, 16, 7, 112]
abbrev dktX6_thirteenths_3 : List UInt8 := dkwX6_thirteenths_3 ++ dktX6_thirteenths_4
def dkwX6_thirteenths_2 : List UInt8 := [54, 6, 21, 6, 29, 163, 0, 68, 4, 54, 7, 21, 7, 16, 12, 163, 0, 52, 21, 5, 42, 27, 21, 6]
abbrev dktX6_thirteenths_2 : List UInt8 := dkwX6_thirteenths_2 ++ dktX6_thirteenths_3
def dkwX6_thirteenths_1 : List UInt8 := [184, 0, 186, 153, 0, 14, 21, 4, 3, 16, 6, 184, 0, 186, 154, 0, 5, 2, 172, 3, 54, 5, 28]
abbrev dktX6_thirteenths_1 : List UInt8 := dkwX6_thirteenths_1 ++ dktX6_thirteenths_2
def dkwX6_thirteenths_0 : List UInt8 := [42, 27, 182, 1, 24, 153, 0, 36, 28, 4, 17, 39, 15, 184, 0, 186, 153, 0, 25, 29, 28, 17, 39, 15]
abbrev dktX6_thirteenths_0 : List UInt8 := dkwX6_thirteenths_0 ++ dktX6_thirteenths_1
theorem dksX6_thirteenths_0 : cX6_thirteenths.data.toList.drop 0 = dktX6_thirteenths_0 := by decide +kernel
theorem dksX6_thirteenths_1 : cX6_thirteenths.data.toList.drop 24 = dktX6_thirteenths_1 := dk_seg dksX6_thirteenths_0 24 rfl rfl
theorem dksX6_thirteenths_2 : cX6_thirteenths.data.toList.drop 47 = dktX6_thirteenths_2 := dk_seg dksX6_thirteenths_1 23 rfl rfl
theorem dksX6_thirteenths_3 : cX6_thirteenths.data.toList.drop 71 = dktX6_thirteenths_3 := dk_seg dksX6_thirteenths_2 24 rfl rfl
theorem dksX6_thirteenths_4 : cX6_thirteenths.data.toList.drop 95 = dktX6_thirteenths_4 := dk_seg dksX6_thirteenths_3 24 rfl rfl
theorem dksX6_thirteenths_5 : cX6_thirteenths.data.toList.drop 117 = dktX6_thirteenths_5 := dk_seg dksX6_thirteenths_4 22 rfl rfl
theorem dX6_thirteenths_0 : decode cX6_thirteenths 0 = .ok (.aload_n 0, 1) := dk_42 (dk_at dksX6_thirteenths_0 0 rfl rfl)
theorem dX6_thirteenths_1 : decode cX6_thirteenths 1 = .ok (.iload_n 1, 1) := dk_27 (dk_at dksX6_thirteenths_0 1 rfl rfl)
theorem dX6_thirteenths_2 : decode cX6_thirteenths 2 = .ok (.invokevirtual 280, 3) := dk_182 1 24 (dk_at dksX6_thirteenths_0 2 rfl rfl)
theorem dX6_thirteenths_5 : decode cX6_thirteenths 5 = .ok (.ifCond .eq 36, 3) := dk_153 0 36 (dk_at dksX6_thirteenths_0 5 rfl rfl)
theorem dX6_thirteenths_8 : decode cX6_thirteenths 8 = .ok (.iload_n 2, 1) := dk_28 (dk_at dksX6_thirteenths_0 8 rfl rfl)
theorem dX6_thirteenths_9 : decode cX6_thirteenths 9 = .ok (.iconst 1, 1) := dk_4 (dk_at dksX6_thirteenths_0 9 rfl rfl)
theorem dX6_thirteenths_10 : decode cX6_thirteenths 10 = .ok (.sipush 9999, 3) := dk_17 39 15 (dk_at dksX6_thirteenths_0 10 rfl rfl)
theorem dX6_thirteenths_13 : decode cX6_thirteenths 13 = .ok (.invokestatic 186, 3) := dk_184 0 186 (dk_at dksX6_thirteenths_0 13 rfl rfl)
theorem dX6_thirteenths_16 : decode cX6_thirteenths 16 = .ok (.ifCond .eq 25, 3) := dk_153 0 25 (dk_at dksX6_thirteenths_0 16 rfl rfl)
theorem dX6_thirteenths_19 : decode cX6_thirteenths 19 = .ok (.iload_n 3, 1) := dk_29 (dk_at dksX6_thirteenths_0 19 rfl rfl)
theorem dX6_thirteenths_20 : decode cX6_thirteenths 20 = .ok (.iload_n 2, 1) := dk_28 (dk_at dksX6_thirteenths_0 20 rfl rfl)
theorem dX6_thirteenths_21 : decode cX6_thirteenths 21 = .ok (.sipush 9999, 3) := dk_17 39 15 (dk_at dksX6_thirteenths_0 21 rfl rfl)
theorem dX6_thirteenths_24 : decode cX6_thirteenths 24 = .ok (.invokestatic 186, 3) := dk_184 0 186 (dk_at dksX6_thirteenths_1 0 rfl rfl)
theorem dX6_thirteenths_27 : decode cX6_thirteenths 27 = .ok (.ifCond .eq 14, 3) := dk_153 0 14 (dk_at dksX6_thirteenths_1 3 rfl rfl)
theorem dX6_thirteenths_30 : decode cX6_thirteenths 30 = .ok (.iload 4, 2) := dk_21 4 (dk_at dksX6_thirteenths_1 6 rfl rfl)
theorem dX6_thirteenths_32 : decode cX6_thirteenths 32 = .ok (.iconst 0, 1) := dk_3 (dk_at dksX6_thirteenths_1 8 rfl rfl)
theorem dX6_thirteenths_33 : decode cX6_thirteenths 33 = .ok (.bipush 6, 2) := dk_16 6 (dk_at dksX6_thirteenths_1 9 rfl rfl)
theorem dX6_thirteenths_35 : decode cX6_thirteenths 35 = .ok (.invokestatic 186, 3) := dk_184 0 186 (dk_at dksX6_thirteenths_1 11 rfl rfl)
theorem dX6_thirteenths_38 : decode cX6_thirteenths 38 = .ok (.ifCond .ne 5, 3) := dk_154 0 5 (dk_at dksX6_thirteenths_1 14 rfl rfl)
theorem dX6_thirteenths_41 : decode cX6_thirteenths 41 = .ok (.iconst (-1), 1) := dk_2 (dk_at dksX6_thirteenths_1 17 rfl rfl)
theorem dX6_thirteenths_42 : decode cX6_thirteenths 42 = .ok (.ireturn, 1) := dk_172 (dk_at dksX6_thirteenths_1 18 rfl rfl)
theorem dX6_thirteenths_43 : decode cX6_thirteenths 43 = .ok (.iconst 0, 1) := dk_3 (dk_at dksX6_thirteenths_1 19 rfl rfl)
theorem dX6_thirteenths_44 : decode cX6_thirteenths 44 = .ok (.istore 5, 2) := dk_54 5 (dk_at dksX6_thirteenths_1 20 rfl rfl)
theorem dX6_thirteenths_46 : decode cX6_thirteenths 46 = .ok (.iload_n 2, 1) := dk_28 (dk_at dksX6_thirteenths_1 22 rfl rfl)
theorem dX6_thirteenths_47 : decode cX6_thirteenths 47 = .ok (.istore 6, 2) := dk_54 6 (dk_at dksX6_thirteenths_2 0 rfl rfl)
theorem dX6_thirteenths_49 : decode cX6_thirteenths 49 = .ok (.iload 6, 2) := dk_21 6 (dk_at dksX6_thirteenths_2 2 rfl rfl)
theorem dX6_thirteenths_51 : decode cX6_thirteenths 51 = .ok (.iload_n 3, 1) := dk_29 (dk_at dksX6_thirteenths_2 4 rfl rfl)
theorem dX6_thirteenths_52 : decode cX6_thirteenths 52 = .ok (.if_icmp .gt 68, 3) := dk_163 0 68 (dk_at dksX6_thirteenths_2 5 rfl rfl)
theorem dX6_thirteenths_55 : decode cX6_thirteenths 55 = .ok (.iconst 1, 1) := dk_4 (dk_at dksX6_thirteenths_2 8 rfl rfl)
theorem dX6_thirteenths_56 : decode cX6_thirteenths 56 = .ok (.istore 7, 2) := dk_54 7 (dk_at dksX6_thirteenths_2 9 rfl rfl)
theorem dX6_thirteenths_58 : decode cX6_thirteenths 58 = .ok (.iload 7, 2) := dk_21 7 (dk_at dksX6_thirteenths_2 11 rfl rfl)
theorem dX6_thirteenths_60 : decode cX6_thirteenths 60 = .ok (.bipush 12, 2) := dk_16 12 (dk_at dksX6_thirteenths_2 13 rfl rfl)
theorem dX6_thirteenths_62 : decode cX6_thirteenths 62 = .ok (.if_icmp .gt 52, 3) := dk_163 0 52 (dk_at dksX6_thirteenths_2 15 rfl rfl)
theorem dX6_thirteenths_65 : decode cX6_thirteenths 65 = .ok (.iload 5, 2) := dk_21 5 (dk_at dksX6_thirteenths_2 18 rfl rfl)
theorem dX6_thirteenths_67 : decode cX6_thirteenths 67 = .ok (.aload_n 0, 1) := dk_42 (dk_at dksX6_thirteenths_2 20 rfl rfl)
theorem dX6_thirteenths_68 : decode cX6_thirteenths 68 = .ok (.iload_n 1, 1) := dk_27 (dk_at dksX6_thirteenths_2 21 rfl rfl)
theorem dX6_thirteenths_69 : decode cX6_thirteenths 69 = .ok (.iload 6, 2) := dk_21 6 (dk_at dksX6_thirteenths_2 22 rfl rfl)
theorem dX6_thirteenths_71 : decode cX6_thirteenths 71 = .ok (.iload 7, 2) := dk_21 7 (dk_at dksX6_thirteenths_3 0 rfl rfl)
theorem dX6_thirteenths_73 : decode cX6_thirteenths 73 = .ok (.bipush 13, 2) := dk_16 13 (dk_at dksX6_thirteenths_3 2 rfl rfl)
theorem dX6_thirteenths_75 : decode cX6_thirteenths 75 = .ok (.invokevirtual 287, 3) := dk_182 1 31 (dk_at dksX6_thirteenths_3 4 rfl rfl)
theorem dX6_thirteenths_78 : decode cX6_thirteenths 78 = .ok (.ifCond .eq 26, 3) := dk_153 0 26 (dk_at dksX6_thirteenths_3 7 rfl rfl)
theorem dX6_thirteenths_81 : decode cX6_thirteenths 81 = .ok (.aload_n 0, 1) := dk_42 (dk_at dksX6_thirteenths_3 10 rfl rfl)
theorem dX6_thirteenths_82 : decode cX6_thirteenths 82 = .ok (.iload_n 1, 1) := dk_27 (dk_at dksX6_thirteenths_3 11 rfl rfl)
theorem dX6_thirteenths_83 : decode cX6_thirteenths 83 = .ok (.iload 6, 2) := dk_21 6 (dk_at dksX6_thirteenths_3 12 rfl rfl)
theorem dX6_thirteenths_85 : decode cX6_thirteenths 85 = .ok (.iload 7, 2) := dk_21 7 (dk_at dksX6_thirteenths_3 14 rfl rfl)
theorem dX6_thirteenths_87 : decode cX6_thirteenths 87 = .ok (.bipush 13, 2) := dk_16 13 (dk_at dksX6_thirteenths_3 16 rfl rfl)
theorem dX6_thirteenths_89 : decode cX6_thirteenths 89 = .ok (.invokevirtual 291, 3) := dk_182 1 35 (dk_at dksX6_thirteenths_3 18 rfl rfl)
theorem dX6_thirteenths_92 : decode cX6_thirteenths 92 = .ok (.bipush 7, 2) := dk_16 7 (dk_at dksX6_thirteenths_3 21 rfl rfl)
theorem dX6_thirteenths_94 : decode cX6_thirteenths 94 = .ok (.irem, 1) := dk_112 (dk_at dksX6_thirteenths_3 23 rfl rfl)
theorem dX6_thirteenths_95 : decode cX6_thirteenths 95 = .ok (.iload 4, 2) := dk_21 4 (dk_at dksX6_thirteenths_4 0 rfl rfl)
theorem dX6_thirteenths_97 : decode cX6_thirteenths 97 = .ok (.if_icmp .ne 7, 3) := dk_160 0 7 (dk_at dksX6_thirteenths_4 2 rfl rfl)
theorem dX6_thirteenths_100 : decode cX6_thirteenths 100 = .ok (.iconst 1, 1) := dk_4 (dk_at dksX6_thirteenths_4 5 rfl rfl)
theorem dX6_thirteenths_101 : decode cX6_thirteenths 101 = .ok (.goto 4, 3) := dk_167 0 4 (dk_at dksX6_thirteenths_4 6 rfl rfl)
theorem dX6_thirteenths_104 : decode cX6_thirteenths 104 = .ok (.iconst 0, 1) := dk_3 (dk_at dksX6_thirteenths_4 9 rfl rfl)
theorem dX6_thirteenths_105 : decode cX6_thirteenths 105 = .ok (.iadd, 1) := dk_96 (dk_at dksX6_thirteenths_4 10 rfl rfl)
theorem dX6_thirteenths_106 : decode cX6_thirteenths 106 = .ok (.istore 5, 2) := dk_54 5 (dk_at dksX6_thirteenths_4 11 rfl rfl)
theorem dX6_thirteenths_108 : decode cX6_thirteenths 108 = .ok (.iinc 7 1, 3) := dk_132 7 1 (dk_at dksX6_thirteenths_4 13 rfl rfl)
theorem dX6_thirteenths_111 : decode cX6_thirteenths 111 = .ok (.goto (-53), 3) := dk_167 255 203 (dk_at dksX6_thirteenths_4 16 rfl rfl)
theorem dX6_thirteenths_114 : decode cX6_thirteenths 114 = .ok (.iinc 6 1, 3) := dk_132 6 1 (dk_at dksX6_thirteenths_4 19 rfl rfl)
theorem dX6_thirteenths_117 : decode cX6_thirteenths 117 = .ok (.goto (-68), 3) := dk_167 255 188 (dk_at dksX6_thirteenths_5 0 rfl rfl)
theorem dX6_thirteenths_120 : decode cX6_thirteenths 120 = .ok (.iload 5, 2) := dk_21 5 (dk_at dksX6_thirteenths_5 3 rfl rfl)
theorem dX6_thirteenths_122 : decode cX6_thirteenths 122 = .ok (.ireturn, 1) := dk_172 (dk_at dksX6_thirteenths_5 5 rfl rfl)
abbrev cX6_mates : ByteArray := prog_16_method_85_code
def yX6_mates : MethodName := ⟨RX6, "mates", "(III)I"⟩
def dkwX6_mates_3 : List UInt8 := [100, 120, 167, 0, 4, 3, 128, 54, 4, 132, 5, 1, 167, 255, 193, 21, 4, 172]
abbrev dktX6_mates_3 : List UInt8 := dkwX6_mates_3 ++ []
def dkwX6_mates_2 : List UInt8 := [182, 1, 35, 16, 7, 112, 42, 27, 28, 29, 4, 182, 1, 35, 16, 7, 112, 160, 0, 12, 4, 21, 5, 4]
abbrev dktX6_mates_2 : List UInt8 := dkwX6_mates_2 ++ dktX6_mates_3
def dkwX6_mates_1 : List UInt8 := [163, 0, 62, 21, 4, 42, 27, 28, 21, 5, 4, 182, 1, 31, 153, 0, 38, 42, 27, 28, 21, 5, 4]
abbrev dktX6_mates_1 : List UInt8 := dkwX6_mates_1 ++ dktX6_mates_2
def dkwX6_mates_0 : List UInt8 := [42, 27, 28, 29, 4, 182, 1, 31, 154, 0, 5, 2, 172, 3, 54, 4, 4, 54, 5, 21, 5, 16, 12]
abbrev dktX6_mates_0 : List UInt8 := dkwX6_mates_0 ++ dktX6_mates_1
theorem dksX6_mates_0 : cX6_mates.data.toList.drop 0 = dktX6_mates_0 := by decide +kernel
theorem dksX6_mates_1 : cX6_mates.data.toList.drop 23 = dktX6_mates_1 := dk_seg dksX6_mates_0 23 rfl rfl
theorem dksX6_mates_2 : cX6_mates.data.toList.drop 46 = dktX6_mates_2 := dk_seg dksX6_mates_1 23 rfl rfl
theorem dksX6_mates_3 : cX6_mates.data.toList.drop 70 = dktX6_mates_3 := dk_seg dksX6_mates_2 24 rfl rfl
theorem dX6_mates_0 : decode cX6_mates 0 = .ok (.aload_n 0, 1) := dk_42 (dk_at dksX6_mates_0 0 rfl rfl)
theorem dX6_mates_1 : decode cX6_mates 1 = .ok (.iload_n 1, 1) := dk_27 (dk_at dksX6_mates_0 1 rfl rfl)
theorem dX6_mates_2 : decode cX6_mates 2 = .ok (.iload_n 2, 1) := dk_28 (dk_at dksX6_mates_0 2 rfl rfl)
theorem dX6_mates_3 : decode cX6_mates 3 = .ok (.iload_n 3, 1) := dk_29 (dk_at dksX6_mates_0 3 rfl rfl)
theorem dX6_mates_4 : decode cX6_mates 4 = .ok (.iconst 1, 1) := dk_4 (dk_at dksX6_mates_0 4 rfl rfl)
theorem dX6_mates_5 : decode cX6_mates 5 = .ok (.invokevirtual 287, 3) := dk_182 1 31 (dk_at dksX6_mates_0 5 rfl rfl)
theorem dX6_mates_8 : decode cX6_mates 8 = .ok (.ifCond .ne 5, 3) := dk_154 0 5 (dk_at dksX6_mates_0 8 rfl rfl)
theorem dX6_mates_11 : decode cX6_mates 11 = .ok (.iconst (-1), 1) := dk_2 (dk_at dksX6_mates_0 11 rfl rfl)
theorem dX6_mates_12 : decode cX6_mates 12 = .ok (.ireturn, 1) := dk_172 (dk_at dksX6_mates_0 12 rfl rfl)
theorem dX6_mates_13 : decode cX6_mates 13 = .ok (.iconst 0, 1) := dk_3 (dk_at dksX6_mates_0 13 rfl rfl)
theorem dX6_mates_14 : decode cX6_mates 14 = .ok (.istore 4, 2) := dk_54 4 (dk_at dksX6_mates_0 14 rfl rfl)
theorem dX6_mates_16 : decode cX6_mates 16 = .ok (.iconst 1, 1) := dk_4 (dk_at dksX6_mates_0 16 rfl rfl)
theorem dX6_mates_17 : decode cX6_mates 17 = .ok (.istore 5, 2) := dk_54 5 (dk_at dksX6_mates_0 17 rfl rfl)
theorem dX6_mates_19 : decode cX6_mates 19 = .ok (.iload 5, 2) := dk_21 5 (dk_at dksX6_mates_0 19 rfl rfl)
theorem dX6_mates_21 : decode cX6_mates 21 = .ok (.bipush 12, 2) := dk_16 12 (dk_at dksX6_mates_0 21 rfl rfl)
theorem dX6_mates_23 : decode cX6_mates 23 = .ok (.if_icmp .gt 62, 3) := dk_163 0 62 (dk_at dksX6_mates_1 0 rfl rfl)
theorem dX6_mates_26 : decode cX6_mates 26 = .ok (.iload 4, 2) := dk_21 4 (dk_at dksX6_mates_1 3 rfl rfl)
theorem dX6_mates_28 : decode cX6_mates 28 = .ok (.aload_n 0, 1) := dk_42 (dk_at dksX6_mates_1 5 rfl rfl)
theorem dX6_mates_29 : decode cX6_mates 29 = .ok (.iload_n 1, 1) := dk_27 (dk_at dksX6_mates_1 6 rfl rfl)
theorem dX6_mates_30 : decode cX6_mates 30 = .ok (.iload_n 2, 1) := dk_28 (dk_at dksX6_mates_1 7 rfl rfl)
theorem dX6_mates_31 : decode cX6_mates 31 = .ok (.iload 5, 2) := dk_21 5 (dk_at dksX6_mates_1 8 rfl rfl)
theorem dX6_mates_33 : decode cX6_mates 33 = .ok (.iconst 1, 1) := dk_4 (dk_at dksX6_mates_1 10 rfl rfl)
theorem dX6_mates_34 : decode cX6_mates 34 = .ok (.invokevirtual 287, 3) := dk_182 1 31 (dk_at dksX6_mates_1 11 rfl rfl)
theorem dX6_mates_37 : decode cX6_mates 37 = .ok (.ifCond .eq 38, 3) := dk_153 0 38 (dk_at dksX6_mates_1 14 rfl rfl)
theorem dX6_mates_40 : decode cX6_mates 40 = .ok (.aload_n 0, 1) := dk_42 (dk_at dksX6_mates_1 17 rfl rfl)
theorem dX6_mates_41 : decode cX6_mates 41 = .ok (.iload_n 1, 1) := dk_27 (dk_at dksX6_mates_1 18 rfl rfl)
theorem dX6_mates_42 : decode cX6_mates 42 = .ok (.iload_n 2, 1) := dk_28 (dk_at dksX6_mates_1 19 rfl rfl)
theorem dX6_mates_43 : decode cX6_mates 43 = .ok (.iload 5, 2) := dk_21 5 (dk_at dksX6_mates_1 20 rfl rfl)
theorem dX6_mates_45 : decode cX6_mates 45 = .ok (.iconst 1, 1) := dk_4 (dk_at dksX6_mates_1 22 rfl rfl)
theorem dX6_mates_46 : decode cX6_mates 46 = .ok (.invokevirtual 291, 3) := dk_182 1 35 (dk_at dksX6_mates_2 0 rfl rfl)
theorem dX6_mates_49 : decode cX6_mates 49 = .ok (.bipush 7, 2) := dk_16 7 (dk_at dksX6_mates_2 3 rfl rfl)
theorem dX6_mates_51 : decode cX6_mates 51 = .ok (.irem, 1) := dk_112 (dk_at dksX6_mates_2 5 rfl rfl)
theorem dX6_mates_52 : decode cX6_mates 52 = .ok (.aload_n 0, 1) := dk_42 (dk_at dksX6_mates_2 6 rfl rfl)
theorem dX6_mates_53 : decode cX6_mates 53 = .ok (.iload_n 1, 1) := dk_27 (dk_at dksX6_mates_2 7 rfl rfl)
theorem dX6_mates_54 : decode cX6_mates 54 = .ok (.iload_n 2, 1) := dk_28 (dk_at dksX6_mates_2 8 rfl rfl)
theorem dX6_mates_55 : decode cX6_mates 55 = .ok (.iload_n 3, 1) := dk_29 (dk_at dksX6_mates_2 9 rfl rfl)
theorem dX6_mates_56 : decode cX6_mates 56 = .ok (.iconst 1, 1) := dk_4 (dk_at dksX6_mates_2 10 rfl rfl)
theorem dX6_mates_57 : decode cX6_mates 57 = .ok (.invokevirtual 291, 3) := dk_182 1 35 (dk_at dksX6_mates_2 11 rfl rfl)
theorem dX6_mates_60 : decode cX6_mates 60 = .ok (.bipush 7, 2) := dk_16 7 (dk_at dksX6_mates_2 14 rfl rfl)
theorem dX6_mates_62 : decode cX6_mates 62 = .ok (.irem, 1) := dk_112 (dk_at dksX6_mates_2 16 rfl rfl)
theorem dX6_mates_63 : decode cX6_mates 63 = .ok (.if_icmp .ne 12, 3) := dk_160 0 12 (dk_at dksX6_mates_2 17 rfl rfl)
theorem dX6_mates_66 : decode cX6_mates 66 = .ok (.iconst 1, 1) := dk_4 (dk_at dksX6_mates_2 20 rfl rfl)
theorem dX6_mates_67 : decode cX6_mates 67 = .ok (.iload 5, 2) := dk_21 5 (dk_at dksX6_mates_2 21 rfl rfl)
theorem dX6_mates_69 : decode cX6_mates 69 = .ok (.iconst 1, 1) := dk_4 (dk_at dksX6_mates_2 23 rfl rfl)
theorem dX6_mates_70 : decode cX6_mates 70 = .ok (.isub, 1) := dk_100 (dk_at dksX6_mates_3 0 rfl rfl)
theorem dX6_mates_71 : decode cX6_mates 71 = .ok (.ishl, 1) := dk_120 (dk_at dksX6_mates_3 1 rfl rfl)
theorem dX6_mates_72 : decode cX6_mates 72 = .ok (.goto 4, 3) := dk_167 0 4 (dk_at dksX6_mates_3 2 rfl rfl)
theorem dX6_mates_75 : decode cX6_mates 75 = .ok (.iconst 0, 1) := dk_3 (dk_at dksX6_mates_3 5 rfl rfl)
theorem dX6_mates_76 : decode cX6_mates 76 = .ok (.ior, 1) := dk_128 (dk_at dksX6_mates_3 6 rfl rfl)
theorem dX6_mates_77 : decode cX6_mates 77 = .ok (.istore 4, 2) := dk_54 4 (dk_at dksX6_mates_3 7 rfl rfl)
theorem dX6_mates_79 : decode cX6_mates 79 = .ok (.iinc 5 1, 3) := dk_132 5 1 (dk_at dksX6_mates_3 9 rfl rfl)
theorem dX6_mates_82 : decode cX6_mates 82 = .ok (.goto (-63), 3) := dk_167 255 193 (dk_at dksX6_mates_3 12 rfl rfl)
theorem dX6_mates_85 : decode cX6_mates 85 = .ok (.iload 4, 2) := dk_21 4 (dk_at dksX6_mates_3 15 rfl rfl)
theorem dX6_mates_87 : decode cX6_mates 87 = .ok (.ireturn, 1) := dk_172 (dk_at dksX6_mates_3 17 rfl rfl)
abbrev cX6_born : ByteArray := prog_16_method_86_code
def yX6_born : MethodName := ⟨RX6, "born", "(IIII)Z"⟩
def dkwX6_born_2 : List UInt8 := [4, 172]
abbrev dktX6_born_2 : List UInt8 := dkwX6_born_2 ++ []
def dkwX6_born_1 : List UInt8 := [181, 0, 137, 42, 27, 181, 1, 159, 42, 28, 181, 1, 162, 42, 29, 181, 1, 165, 42, 21, 4, 181, 1, 168]
abbrev dktX6_born_1 : List UInt8 := dkwX6_born_1 ++ dktX6_born_2
def dkwX6_born_0 : List UInt8 := [42, 27, 28, 29, 21, 4, 182, 1, 31, 154, 0, 5, 3, 172, 42, 42, 27, 28, 29, 21, 4, 182, 1, 35]
abbrev dktX6_born_0 : List UInt8 := dkwX6_born_0 ++ dktX6_born_1
theorem dksX6_born_0 : cX6_born.data.toList.drop 0 = dktX6_born_0 := by decide +kernel
theorem dksX6_born_1 : cX6_born.data.toList.drop 24 = dktX6_born_1 := dk_seg dksX6_born_0 24 rfl rfl
theorem dksX6_born_2 : cX6_born.data.toList.drop 48 = dktX6_born_2 := dk_seg dksX6_born_1 24 rfl rfl
theorem dX6_born_0 : decode cX6_born 0 = .ok (.aload_n 0, 1) := dk_42 (dk_at dksX6_born_0 0 rfl rfl)
theorem dX6_born_1 : decode cX6_born 1 = .ok (.iload_n 1, 1) := dk_27 (dk_at dksX6_born_0 1 rfl rfl)
theorem dX6_born_2 : decode cX6_born 2 = .ok (.iload_n 2, 1) := dk_28 (dk_at dksX6_born_0 2 rfl rfl)
theorem dX6_born_3 : decode cX6_born 3 = .ok (.iload_n 3, 1) := dk_29 (dk_at dksX6_born_0 3 rfl rfl)
theorem dX6_born_4 : decode cX6_born 4 = .ok (.iload 4, 2) := dk_21 4 (dk_at dksX6_born_0 4 rfl rfl)
theorem dX6_born_6 : decode cX6_born 6 = .ok (.invokevirtual 287, 3) := dk_182 1 31 (dk_at dksX6_born_0 6 rfl rfl)
theorem dX6_born_9 : decode cX6_born 9 = .ok (.ifCond .ne 5, 3) := dk_154 0 5 (dk_at dksX6_born_0 9 rfl rfl)
theorem dX6_born_12 : decode cX6_born 12 = .ok (.iconst 0, 1) := dk_3 (dk_at dksX6_born_0 12 rfl rfl)
theorem dX6_born_13 : decode cX6_born 13 = .ok (.ireturn, 1) := dk_172 (dk_at dksX6_born_0 13 rfl rfl)
theorem dX6_born_14 : decode cX6_born 14 = .ok (.aload_n 0, 1) := dk_42 (dk_at dksX6_born_0 14 rfl rfl)
theorem dX6_born_15 : decode cX6_born 15 = .ok (.aload_n 0, 1) := dk_42 (dk_at dksX6_born_0 15 rfl rfl)
theorem dX6_born_16 : decode cX6_born 16 = .ok (.iload_n 1, 1) := dk_27 (dk_at dksX6_born_0 16 rfl rfl)
theorem dX6_born_17 : decode cX6_born 17 = .ok (.iload_n 2, 1) := dk_28 (dk_at dksX6_born_0 17 rfl rfl)
theorem dX6_born_18 : decode cX6_born 18 = .ok (.iload_n 3, 1) := dk_29 (dk_at dksX6_born_0 18 rfl rfl)
theorem dX6_born_19 : decode cX6_born 19 = .ok (.iload 4, 2) := dk_21 4 (dk_at dksX6_born_0 19 rfl rfl)
theorem dX6_born_21 : decode cX6_born 21 = .ok (.invokevirtual 291, 3) := dk_182 1 35 (dk_at dksX6_born_0 21 rfl rfl)
theorem dX6_born_24 : decode cX6_born 24 = .ok (.putfield 137, 3) := dk_181 0 137 (dk_at dksX6_born_1 0 rfl rfl)
theorem dX6_born_27 : decode cX6_born 27 = .ok (.aload_n 0, 1) := dk_42 (dk_at dksX6_born_1 3 rfl rfl)
theorem dX6_born_28 : decode cX6_born 28 = .ok (.iload_n 1, 1) := dk_27 (dk_at dksX6_born_1 4 rfl rfl)
theorem dX6_born_29 : decode cX6_born 29 = .ok (.putfield 415, 3) := dk_181 1 159 (dk_at dksX6_born_1 5 rfl rfl)
theorem dX6_born_32 : decode cX6_born 32 = .ok (.aload_n 0, 1) := dk_42 (dk_at dksX6_born_1 8 rfl rfl)
theorem dX6_born_33 : decode cX6_born 33 = .ok (.iload_n 2, 1) := dk_28 (dk_at dksX6_born_1 9 rfl rfl)
theorem dX6_born_34 : decode cX6_born 34 = .ok (.putfield 418, 3) := dk_181 1 162 (dk_at dksX6_born_1 10 rfl rfl)
theorem dX6_born_37 : decode cX6_born 37 = .ok (.aload_n 0, 1) := dk_42 (dk_at dksX6_born_1 13 rfl rfl)
theorem dX6_born_38 : decode cX6_born 38 = .ok (.iload_n 3, 1) := dk_29 (dk_at dksX6_born_1 14 rfl rfl)
theorem dX6_born_39 : decode cX6_born 39 = .ok (.putfield 421, 3) := dk_181 1 165 (dk_at dksX6_born_1 15 rfl rfl)
theorem dX6_born_42 : decode cX6_born 42 = .ok (.aload_n 0, 1) := dk_42 (dk_at dksX6_born_1 18 rfl rfl)
theorem dX6_born_43 : decode cX6_born 43 = .ok (.iload 4, 2) := dk_21 4 (dk_at dksX6_born_1 19 rfl rfl)
theorem dX6_born_45 : decode cX6_born 45 = .ok (.putfield 424, 3) := dk_181 1 168 (dk_at dksX6_born_1 21 rfl rfl)
theorem dX6_born_48 : decode cX6_born 48 = .ok (.iconst 1, 1) := dk_4 (dk_at dksX6_born_2 0 rfl rfl)
theorem dX6_born_49 : decode cX6_born 49 = .ok (.ireturn, 1) := dk_172 (dk_at dksX6_born_2 1 rfl rfl)
abbrev cX6_age : ByteArray := prog_16_method_88_code
def yX6_age : MethodName := ⟨RX6, "age", "(IIII)I"⟩
def dkwX6_age_4 : List UInt8 := [4, 167, 0, 4, 3, 96, 54, 5, 132, 6, 1, 167, 255, 208, 21, 5, 172]
abbrev dktX6_age_4 : List UInt8 := dkwX6_age_4 ++ []
def dkwX6_age_3 : List UInt8 := [54, 7, 21, 5, 21, 7, 2, 159, 0, 21, 21, 7, 42, 27, 28, 29, 21, 4, 182, 1, 35, 163, 0, 7]
abbrev dktX6_age_3 : List UInt8 := dkwX6_age_3 ++ dktX6_age_4
def dkwX6_age_2 : List UInt8 := [3, 54, 5, 42, 180, 1, 162, 4, 96, 54, 6, 21, 6, 28, 163, 0, 48, 42, 27, 21, 6, 182, 1, 171]
abbrev dktX6_age_2 : List UInt8 := dkwX6_age_2 ++ dktX6_age_3
def dkwX6_age_1 : List UInt8 := [182, 1, 31, 153, 0, 19, 42, 27, 28, 29, 21, 4, 182, 1, 35, 42, 180, 0, 137, 162, 0, 5, 2, 172]
abbrev dktX6_age_1 : List UInt8 := dkwX6_age_1 ++ dktX6_age_2
def dkwX6_age_0 : List UInt8 := [42, 180, 0, 137, 2, 159, 0, 39, 27, 42, 180, 1, 159, 160, 0, 31, 42, 27, 28, 29, 21, 4]
abbrev dktX6_age_0 : List UInt8 := dkwX6_age_0 ++ dktX6_age_1
theorem dksX6_age_0 : cX6_age.data.toList.drop 0 = dktX6_age_0 := by decide +kernel
theorem dksX6_age_1 : cX6_age.data.toList.drop 22 = dktX6_age_1 := dk_seg dksX6_age_0 22 rfl rfl
theorem dksX6_age_2 : cX6_age.data.toList.drop 46 = dktX6_age_2 := dk_seg dksX6_age_1 24 rfl rfl
theorem dksX6_age_3 : cX6_age.data.toList.drop 70 = dktX6_age_3 := dk_seg dksX6_age_2 24 rfl rfl
theorem dksX6_age_4 : cX6_age.data.toList.drop 94 = dktX6_age_4 := dk_seg dksX6_age_3 24 rfl rfl
theorem dX6_age_0 : decode cX6_age 0 = .ok (.aload_n 0, 1) := dk_42 (dk_at dksX6_age_0 0 rfl rfl)
theorem dX6_age_1 : decode cX6_age 1 = .ok (.getfield 137, 3) := dk_180 0 137 (dk_at dksX6_age_0 1 rfl rfl)
theorem dX6_age_4 : decode cX6_age 4 = .ok (.iconst (-1), 1) := dk_2 (dk_at dksX6_age_0 4 rfl rfl)
theorem dX6_age_5 : decode cX6_age 5 = .ok (.if_icmp .eq 39, 3) := dk_159 0 39 (dk_at dksX6_age_0 5 rfl rfl)
theorem dX6_age_8 : decode cX6_age 8 = .ok (.iload_n 1, 1) := dk_27 (dk_at dksX6_age_0 8 rfl rfl)
theorem dX6_age_9 : decode cX6_age 9 = .ok (.aload_n 0, 1) := dk_42 (dk_at dksX6_age_0 9 rfl rfl)
theorem dX6_age_10 : decode cX6_age 10 = .ok (.getfield 415, 3) := dk_180 1 159 (dk_at dksX6_age_0 10 rfl rfl)
theorem dX6_age_13 : decode cX6_age 13 = .ok (.if_icmp .ne 31, 3) := dk_160 0 31 (dk_at dksX6_age_0 13 rfl rfl)
theorem dX6_age_16 : decode cX6_age 16 = .ok (.aload_n 0, 1) := dk_42 (dk_at dksX6_age_0 16 rfl rfl)
theorem dX6_age_17 : decode cX6_age 17 = .ok (.iload_n 1, 1) := dk_27 (dk_at dksX6_age_0 17 rfl rfl)
theorem dX6_age_18 : decode cX6_age 18 = .ok (.iload_n 2, 1) := dk_28 (dk_at dksX6_age_0 18 rfl rfl)
theorem dX6_age_19 : decode cX6_age 19 = .ok (.iload_n 3, 1) := dk_29 (dk_at dksX6_age_0 19 rfl rfl)
theorem dX6_age_20 : decode cX6_age 20 = .ok (.iload 4, 2) := dk_21 4 (dk_at dksX6_age_0 20 rfl rfl)
theorem dX6_age_22 : decode cX6_age 22 = .ok (.invokevirtual 287, 3) := dk_182 1 31 (dk_at dksX6_age_1 0 rfl rfl)
theorem dX6_age_25 : decode cX6_age 25 = .ok (.ifCond .eq 19, 3) := dk_153 0 19 (dk_at dksX6_age_1 3 rfl rfl)
theorem dX6_age_28 : decode cX6_age 28 = .ok (.aload_n 0, 1) := dk_42 (dk_at dksX6_age_1 6 rfl rfl)
theorem dX6_age_29 : decode cX6_age 29 = .ok (.iload_n 1, 1) := dk_27 (dk_at dksX6_age_1 7 rfl rfl)
theorem dX6_age_30 : decode cX6_age 30 = .ok (.iload_n 2, 1) := dk_28 (dk_at dksX6_age_1 8 rfl rfl)
theorem dX6_age_31 : decode cX6_age 31 = .ok (.iload_n 3, 1) := dk_29 (dk_at dksX6_age_1 9 rfl rfl)
theorem dX6_age_32 : decode cX6_age 32 = .ok (.iload 4, 2) := dk_21 4 (dk_at dksX6_age_1 10 rfl rfl)
theorem dX6_age_34 : decode cX6_age 34 = .ok (.invokevirtual 291, 3) := dk_182 1 35 (dk_at dksX6_age_1 12 rfl rfl)
theorem dX6_age_37 : decode cX6_age 37 = .ok (.aload_n 0, 1) := dk_42 (dk_at dksX6_age_1 15 rfl rfl)
theorem dX6_age_38 : decode cX6_age 38 = .ok (.getfield 137, 3) := dk_180 0 137 (dk_at dksX6_age_1 16 rfl rfl)
theorem dX6_age_41 : decode cX6_age 41 = .ok (.if_icmp .ge 5, 3) := dk_162 0 5 (dk_at dksX6_age_1 19 rfl rfl)
theorem dX6_age_44 : decode cX6_age 44 = .ok (.iconst (-1), 1) := dk_2 (dk_at dksX6_age_1 22 rfl rfl)
theorem dX6_age_45 : decode cX6_age 45 = .ok (.ireturn, 1) := dk_172 (dk_at dksX6_age_1 23 rfl rfl)
theorem dX6_age_46 : decode cX6_age 46 = .ok (.iconst 0, 1) := dk_3 (dk_at dksX6_age_2 0 rfl rfl)
theorem dX6_age_47 : decode cX6_age 47 = .ok (.istore 5, 2) := dk_54 5 (dk_at dksX6_age_2 1 rfl rfl)
theorem dX6_age_49 : decode cX6_age 49 = .ok (.aload_n 0, 1) := dk_42 (dk_at dksX6_age_2 3 rfl rfl)
theorem dX6_age_50 : decode cX6_age 50 = .ok (.getfield 418, 3) := dk_180 1 162 (dk_at dksX6_age_2 4 rfl rfl)
theorem dX6_age_53 : decode cX6_age 53 = .ok (.iconst 1, 1) := dk_4 (dk_at dksX6_age_2 7 rfl rfl)
theorem dX6_age_54 : decode cX6_age 54 = .ok (.iadd, 1) := dk_96 (dk_at dksX6_age_2 8 rfl rfl)
theorem dX6_age_55 : decode cX6_age 55 = .ok (.istore 6, 2) := dk_54 6 (dk_at dksX6_age_2 9 rfl rfl)
theorem dX6_age_57 : decode cX6_age 57 = .ok (.iload 6, 2) := dk_21 6 (dk_at dksX6_age_2 11 rfl rfl)
theorem dX6_age_59 : decode cX6_age 59 = .ok (.iload_n 2, 1) := dk_28 (dk_at dksX6_age_2 13 rfl rfl)
theorem dX6_age_60 : decode cX6_age 60 = .ok (.if_icmp .gt 48, 3) := dk_163 0 48 (dk_at dksX6_age_2 14 rfl rfl)
theorem dX6_age_63 : decode cX6_age 63 = .ok (.aload_n 0, 1) := dk_42 (dk_at dksX6_age_2 17 rfl rfl)
theorem dX6_age_64 : decode cX6_age 64 = .ok (.iload_n 1, 1) := dk_27 (dk_at dksX6_age_2 18 rfl rfl)
theorem dX6_age_65 : decode cX6_age 65 = .ok (.iload 6, 2) := dk_21 6 (dk_at dksX6_age_2 19 rfl rfl)
theorem dX6_age_67 : decode cX6_age 67 = .ok (.invokevirtual 427, 3) := dk_182 1 171 (dk_at dksX6_age_2 21 rfl rfl)
theorem dX6_age_70 : decode cX6_age 70 = .ok (.istore 7, 2) := dk_54 7 (dk_at dksX6_age_3 0 rfl rfl)
theorem dX6_age_72 : decode cX6_age 72 = .ok (.iload 5, 2) := dk_21 5 (dk_at dksX6_age_3 2 rfl rfl)
theorem dX6_age_74 : decode cX6_age 74 = .ok (.iload 7, 2) := dk_21 7 (dk_at dksX6_age_3 4 rfl rfl)
theorem dX6_age_76 : decode cX6_age 76 = .ok (.iconst (-1), 1) := dk_2 (dk_at dksX6_age_3 6 rfl rfl)
theorem dX6_age_77 : decode cX6_age 77 = .ok (.if_icmp .eq 21, 3) := dk_159 0 21 (dk_at dksX6_age_3 7 rfl rfl)
theorem dX6_age_80 : decode cX6_age 80 = .ok (.iload 7, 2) := dk_21 7 (dk_at dksX6_age_3 10 rfl rfl)
theorem dX6_age_82 : decode cX6_age 82 = .ok (.aload_n 0, 1) := dk_42 (dk_at dksX6_age_3 12 rfl rfl)
theorem dX6_age_83 : decode cX6_age 83 = .ok (.iload_n 1, 1) := dk_27 (dk_at dksX6_age_3 13 rfl rfl)
theorem dX6_age_84 : decode cX6_age 84 = .ok (.iload_n 2, 1) := dk_28 (dk_at dksX6_age_3 14 rfl rfl)
theorem dX6_age_85 : decode cX6_age 85 = .ok (.iload_n 3, 1) := dk_29 (dk_at dksX6_age_3 15 rfl rfl)
theorem dX6_age_86 : decode cX6_age 86 = .ok (.iload 4, 2) := dk_21 4 (dk_at dksX6_age_3 16 rfl rfl)
theorem dX6_age_88 : decode cX6_age 88 = .ok (.invokevirtual 291, 3) := dk_182 1 35 (dk_at dksX6_age_3 18 rfl rfl)
theorem dX6_age_91 : decode cX6_age 91 = .ok (.if_icmp .gt 7, 3) := dk_163 0 7 (dk_at dksX6_age_3 21 rfl rfl)
theorem dX6_age_94 : decode cX6_age 94 = .ok (.iconst 1, 1) := dk_4 (dk_at dksX6_age_4 0 rfl rfl)
theorem dX6_age_95 : decode cX6_age 95 = .ok (.goto 4, 3) := dk_167 0 4 (dk_at dksX6_age_4 1 rfl rfl)
theorem dX6_age_98 : decode cX6_age 98 = .ok (.iconst 0, 1) := dk_3 (dk_at dksX6_age_4 4 rfl rfl)
theorem dX6_age_99 : decode cX6_age 99 = .ok (.iadd, 1) := dk_96 (dk_at dksX6_age_4 5 rfl rfl)
theorem dX6_age_100 : decode cX6_age 100 = .ok (.istore 5, 2) := dk_54 5 (dk_at dksX6_age_4 6 rfl rfl)
theorem dX6_age_102 : decode cX6_age 102 = .ok (.iinc 6 1, 3) := dk_132 6 1 (dk_at dksX6_age_4 8 rfl rfl)
theorem dX6_age_105 : decode cX6_age 105 = .ok (.goto (-48), 3) := dk_167 255 208 (dk_at dksX6_age_4 11 rfl rfl)
theorem dX6_age_108 : decode cX6_age 108 = .ok (.iload 5, 2) := dk_21 5 (dk_at dksX6_age_4 14 rfl rfl)
theorem dX6_age_110 : decode cX6_age 110 = .ok (.ireturn, 1) := dk_172 (dk_at dksX6_age_4 16 rfl rfl)
abbrev cX6_firstFrom : ByteArray := prog_16_method_87_code
def yX6_firstFrom : MethodName := ⟨RX6, "firstFrom", "(II)I"⟩
def dkwX6_firstFrom_4 : List UInt8 := [167, 255, 183, 132, 3, 1, 167, 255, 161, 2, 172]
abbrev dktX6_firstFrom_4 : List UInt8 := dkwX6_firstFrom_4 ++ []
def dkwX6_firstFrom_3 : List UInt8 := [153, 0, 14, 42, 27, 29, 21, 4, 21, 5, 182, 1, 35, 172, 132, 5, 1, 167, 255, 199, 132, 4, 1]
abbrev dktX6_firstFrom_3 : List UInt8 := dkwX6_firstFrom_3 ++ dktX6_firstFrom_4
def dkwX6_firstFrom_2 : List UInt8 := [180, 1, 165, 42, 180, 1, 168, 184, 0, 208, 161, 0, 27, 42, 27, 29, 21, 4, 21, 5, 182, 1, 31]
abbrev dktX6_firstFrom_2 : List UInt8 := dkwX6_firstFrom_2 ++ dktX6_firstFrom_3
def dkwX6_firstFrom_1 : List UInt8 := [163, 0, 72, 4, 54, 5, 21, 5, 16, 31, 163, 0, 56, 29, 21, 4, 21, 5, 184, 0, 208, 28, 42]
abbrev dktX6_firstFrom_1 : List UInt8 := dkwX6_firstFrom_1 ++ dktX6_firstFrom_2
def dkwX6_firstFrom_0 : List UInt8 := [28, 62, 29, 17, 39, 15, 28, 4, 96, 184, 0, 231, 163, 0, 88, 4, 54, 4, 21, 4, 16, 12]
abbrev dktX6_firstFrom_0 : List UInt8 := dkwX6_firstFrom_0 ++ dktX6_firstFrom_1
theorem dksX6_firstFrom_0 : cX6_firstFrom.data.toList.drop 0 = dktX6_firstFrom_0 := by decide +kernel
theorem dksX6_firstFrom_1 : cX6_firstFrom.data.toList.drop 22 = dktX6_firstFrom_1 := dk_seg dksX6_firstFrom_0 22 rfl rfl
theorem dksX6_firstFrom_2 : cX6_firstFrom.data.toList.drop 45 = dktX6_firstFrom_2 := dk_seg dksX6_firstFrom_1 23 rfl rfl
theorem dksX6_firstFrom_3 : cX6_firstFrom.data.toList.drop 68 = dktX6_firstFrom_3 := dk_seg dksX6_firstFrom_2 23 rfl rfl
theorem dksX6_firstFrom_4 : cX6_firstFrom.data.toList.drop 91 = dktX6_firstFrom_4 := dk_seg dksX6_firstFrom_3 23 rfl rfl
theorem dX6_firstFrom_0 : decode cX6_firstFrom 0 = .ok (.iload_n 2, 1) := dk_28 (dk_at dksX6_firstFrom_0 0 rfl rfl)
theorem dX6_firstFrom_1 : decode cX6_firstFrom 1 = .ok (.istore_n 3, 1) := dk_62 (dk_at dksX6_firstFrom_0 1 rfl rfl)
theorem dX6_firstFrom_2 : decode cX6_firstFrom 2 = .ok (.iload_n 3, 1) := dk_29 (dk_at dksX6_firstFrom_0 2 rfl rfl)
theorem dX6_firstFrom_3 : decode cX6_firstFrom 3 = .ok (.sipush 9999, 3) := dk_17 39 15 (dk_at dksX6_firstFrom_0 3 rfl rfl)
theorem dX6_firstFrom_6 : decode cX6_firstFrom 6 = .ok (.iload_n 2, 1) := dk_28 (dk_at dksX6_firstFrom_0 6 rfl rfl)
theorem dX6_firstFrom_7 : decode cX6_firstFrom 7 = .ok (.iconst 1, 1) := dk_4 (dk_at dksX6_firstFrom_0 7 rfl rfl)
theorem dX6_firstFrom_8 : decode cX6_firstFrom 8 = .ok (.iadd, 1) := dk_96 (dk_at dksX6_firstFrom_0 8 rfl rfl)
theorem dX6_firstFrom_9 : decode cX6_firstFrom 9 = .ok (.invokestatic 231, 3) := dk_184 0 231 (dk_at dksX6_firstFrom_0 9 rfl rfl)
theorem dX6_firstFrom_12 : decode cX6_firstFrom 12 = .ok (.if_icmp .gt 88, 3) := dk_163 0 88 (dk_at dksX6_firstFrom_0 12 rfl rfl)
theorem dX6_firstFrom_15 : decode cX6_firstFrom 15 = .ok (.iconst 1, 1) := dk_4 (dk_at dksX6_firstFrom_0 15 rfl rfl)
theorem dX6_firstFrom_16 : decode cX6_firstFrom 16 = .ok (.istore 4, 2) := dk_54 4 (dk_at dksX6_firstFrom_0 16 rfl rfl)
theorem dX6_firstFrom_18 : decode cX6_firstFrom 18 = .ok (.iload 4, 2) := dk_21 4 (dk_at dksX6_firstFrom_0 18 rfl rfl)
theorem dX6_firstFrom_20 : decode cX6_firstFrom 20 = .ok (.bipush 12, 2) := dk_16 12 (dk_at dksX6_firstFrom_0 20 rfl rfl)
theorem dX6_firstFrom_22 : decode cX6_firstFrom 22 = .ok (.if_icmp .gt 72, 3) := dk_163 0 72 (dk_at dksX6_firstFrom_1 0 rfl rfl)
theorem dX6_firstFrom_25 : decode cX6_firstFrom 25 = .ok (.iconst 1, 1) := dk_4 (dk_at dksX6_firstFrom_1 3 rfl rfl)
theorem dX6_firstFrom_26 : decode cX6_firstFrom 26 = .ok (.istore 5, 2) := dk_54 5 (dk_at dksX6_firstFrom_1 4 rfl rfl)
theorem dX6_firstFrom_28 : decode cX6_firstFrom 28 = .ok (.iload 5, 2) := dk_21 5 (dk_at dksX6_firstFrom_1 6 rfl rfl)
theorem dX6_firstFrom_30 : decode cX6_firstFrom 30 = .ok (.bipush 31, 2) := dk_16 31 (dk_at dksX6_firstFrom_1 8 rfl rfl)
theorem dX6_firstFrom_32 : decode cX6_firstFrom 32 = .ok (.if_icmp .gt 56, 3) := dk_163 0 56 (dk_at dksX6_firstFrom_1 10 rfl rfl)
theorem dX6_firstFrom_35 : decode cX6_firstFrom 35 = .ok (.iload_n 3, 1) := dk_29 (dk_at dksX6_firstFrom_1 13 rfl rfl)
theorem dX6_firstFrom_36 : decode cX6_firstFrom 36 = .ok (.iload 4, 2) := dk_21 4 (dk_at dksX6_firstFrom_1 14 rfl rfl)
theorem dX6_firstFrom_38 : decode cX6_firstFrom 38 = .ok (.iload 5, 2) := dk_21 5 (dk_at dksX6_firstFrom_1 16 rfl rfl)
theorem dX6_firstFrom_40 : decode cX6_firstFrom 40 = .ok (.invokestatic 208, 3) := dk_184 0 208 (dk_at dksX6_firstFrom_1 18 rfl rfl)
theorem dX6_firstFrom_43 : decode cX6_firstFrom 43 = .ok (.iload_n 2, 1) := dk_28 (dk_at dksX6_firstFrom_1 21 rfl rfl)
theorem dX6_firstFrom_44 : decode cX6_firstFrom 44 = .ok (.aload_n 0, 1) := dk_42 (dk_at dksX6_firstFrom_1 22 rfl rfl)
theorem dX6_firstFrom_45 : decode cX6_firstFrom 45 = .ok (.getfield 421, 3) := dk_180 1 165 (dk_at dksX6_firstFrom_2 0 rfl rfl)
theorem dX6_firstFrom_48 : decode cX6_firstFrom 48 = .ok (.aload_n 0, 1) := dk_42 (dk_at dksX6_firstFrom_2 3 rfl rfl)
theorem dX6_firstFrom_49 : decode cX6_firstFrom 49 = .ok (.getfield 424, 3) := dk_180 1 168 (dk_at dksX6_firstFrom_2 4 rfl rfl)
theorem dX6_firstFrom_52 : decode cX6_firstFrom 52 = .ok (.invokestatic 208, 3) := dk_184 0 208 (dk_at dksX6_firstFrom_2 7 rfl rfl)
theorem dX6_firstFrom_55 : decode cX6_firstFrom 55 = .ok (.if_icmp .lt 27, 3) := dk_161 0 27 (dk_at dksX6_firstFrom_2 10 rfl rfl)
theorem dX6_firstFrom_58 : decode cX6_firstFrom 58 = .ok (.aload_n 0, 1) := dk_42 (dk_at dksX6_firstFrom_2 13 rfl rfl)
theorem dX6_firstFrom_59 : decode cX6_firstFrom 59 = .ok (.iload_n 1, 1) := dk_27 (dk_at dksX6_firstFrom_2 14 rfl rfl)
theorem dX6_firstFrom_60 : decode cX6_firstFrom 60 = .ok (.iload_n 3, 1) := dk_29 (dk_at dksX6_firstFrom_2 15 rfl rfl)
theorem dX6_firstFrom_61 : decode cX6_firstFrom 61 = .ok (.iload 4, 2) := dk_21 4 (dk_at dksX6_firstFrom_2 16 rfl rfl)
theorem dX6_firstFrom_63 : decode cX6_firstFrom 63 = .ok (.iload 5, 2) := dk_21 5 (dk_at dksX6_firstFrom_2 18 rfl rfl)
theorem dX6_firstFrom_65 : decode cX6_firstFrom 65 = .ok (.invokevirtual 287, 3) := dk_182 1 31 (dk_at dksX6_firstFrom_2 20 rfl rfl)
theorem dX6_firstFrom_68 : decode cX6_firstFrom 68 = .ok (.ifCond .eq 14, 3) := dk_153 0 14 (dk_at dksX6_firstFrom_3 0 rfl rfl)
theorem dX6_firstFrom_71 : decode cX6_firstFrom 71 = .ok (.aload_n 0, 1) := dk_42 (dk_at dksX6_firstFrom_3 3 rfl rfl)
theorem dX6_firstFrom_72 : decode cX6_firstFrom 72 = .ok (.iload_n 1, 1) := dk_27 (dk_at dksX6_firstFrom_3 4 rfl rfl)
theorem dX6_firstFrom_73 : decode cX6_firstFrom 73 = .ok (.iload_n 3, 1) := dk_29 (dk_at dksX6_firstFrom_3 5 rfl rfl)
theorem dX6_firstFrom_74 : decode cX6_firstFrom 74 = .ok (.iload 4, 2) := dk_21 4 (dk_at dksX6_firstFrom_3 6 rfl rfl)
theorem dX6_firstFrom_76 : decode cX6_firstFrom 76 = .ok (.iload 5, 2) := dk_21 5 (dk_at dksX6_firstFrom_3 8 rfl rfl)
theorem dX6_firstFrom_78 : decode cX6_firstFrom 78 = .ok (.invokevirtual 291, 3) := dk_182 1 35 (dk_at dksX6_firstFrom_3 10 rfl rfl)
theorem dX6_firstFrom_81 : decode cX6_firstFrom 81 = .ok (.ireturn, 1) := dk_172 (dk_at dksX6_firstFrom_3 13 rfl rfl)
theorem dX6_firstFrom_82 : decode cX6_firstFrom 82 = .ok (.iinc 5 1, 3) := dk_132 5 1 (dk_at dksX6_firstFrom_3 14 rfl rfl)
theorem dX6_firstFrom_85 : decode cX6_firstFrom 85 = .ok (.goto (-57), 3) := dk_167 255 199 (dk_at dksX6_firstFrom_3 17 rfl rfl)
theorem dX6_firstFrom_88 : decode cX6_firstFrom 88 = .ok (.iinc 4 1, 3) := dk_132 4 1 (dk_at dksX6_firstFrom_3 20 rfl rfl)
theorem dX6_firstFrom_91 : decode cX6_firstFrom 91 = .ok (.goto (-73), 3) := dk_167 255 183 (dk_at dksX6_firstFrom_4 0 rfl rfl)
theorem dX6_firstFrom_94 : decode cX6_firstFrom 94 = .ok (.iinc 3 1, 3) := dk_132 3 1 (dk_at dksX6_firstFrom_4 3 rfl rfl)
theorem dX6_firstFrom_97 : decode cX6_firstFrom 97 = .ok (.goto (-95), 3) := dk_167 255 161 (dk_at dksX6_firstFrom_4 6 rfl rfl)
theorem dX6_firstFrom_100 : decode cX6_firstFrom 100 = .ok (.iconst (-1), 1) := dk_2 (dk_at dksX6_firstFrom_4 9 rfl rfl)
theorem dX6_firstFrom_101 : decode cX6_firstFrom 101 = .ok (.ireturn, 1) := dk_172 (dk_at dksX6_firstFrom_4 10 rfl rfl)
abbrev cX6_event : ByteArray := prog_16_method_89_code
def yX6_event : MethodName := ⟨RX6, "event", "(IIIII)I"⟩
def dkwX6_event_3 : List UInt8 := [181, 1, 174, 42, 180, 1, 174, 172]
abbrev dktX6_event_3 : List UInt8 := dkwX6_event_3 ++ []
def dkwX6_event_2 : List UInt8 := [182, 1, 35, 79, 42, 180, 0, 144, 42, 180, 1, 174, 21, 5, 79, 42, 89, 180, 1, 174, 4, 96]
abbrev dktX6_event_2 : List UInt8 := dkwX6_event_2 ++ dktX6_event_3
def dkwX6_event_1 : List UInt8 := [180, 1, 174, 16, 30, 160, 0, 5, 2, 172, 42, 180, 0, 141, 42, 180, 1, 174, 42, 27, 28, 29, 21, 4]
abbrev dktX6_event_1 : List UInt8 := dkwX6_event_1 ++ dktX6_event_2
def dkwX6_event_0 : List UInt8 := [42, 27, 28, 29, 21, 4, 182, 1, 31, 153, 0, 22, 21, 5, 3, 6, 184, 0, 186, 153, 0, 12, 42]
abbrev dktX6_event_0 : List UInt8 := dkwX6_event_0 ++ dktX6_event_1
theorem dksX6_event_0 : cX6_event.data.toList.drop 0 = dktX6_event_0 := by decide +kernel
theorem dksX6_event_1 : cX6_event.data.toList.drop 23 = dktX6_event_1 := dk_seg dksX6_event_0 23 rfl rfl
theorem dksX6_event_2 : cX6_event.data.toList.drop 47 = dktX6_event_2 := dk_seg dksX6_event_1 24 rfl rfl
theorem dksX6_event_3 : cX6_event.data.toList.drop 69 = dktX6_event_3 := dk_seg dksX6_event_2 22 rfl rfl
theorem dX6_event_0 : decode cX6_event 0 = .ok (.aload_n 0, 1) := dk_42 (dk_at dksX6_event_0 0 rfl rfl)
theorem dX6_event_1 : decode cX6_event 1 = .ok (.iload_n 1, 1) := dk_27 (dk_at dksX6_event_0 1 rfl rfl)
theorem dX6_event_2 : decode cX6_event 2 = .ok (.iload_n 2, 1) := dk_28 (dk_at dksX6_event_0 2 rfl rfl)
theorem dX6_event_3 : decode cX6_event 3 = .ok (.iload_n 3, 1) := dk_29 (dk_at dksX6_event_0 3 rfl rfl)
theorem dX6_event_4 : decode cX6_event 4 = .ok (.iload 4, 2) := dk_21 4 (dk_at dksX6_event_0 4 rfl rfl)
theorem dX6_event_6 : decode cX6_event 6 = .ok (.invokevirtual 287, 3) := dk_182 1 31 (dk_at dksX6_event_0 6 rfl rfl)
theorem dX6_event_9 : decode cX6_event 9 = .ok (.ifCond .eq 22, 3) := dk_153 0 22 (dk_at dksX6_event_0 9 rfl rfl)
theorem dX6_event_12 : decode cX6_event 12 = .ok (.iload 5, 2) := dk_21 5 (dk_at dksX6_event_0 12 rfl rfl)
theorem dX6_event_14 : decode cX6_event 14 = .ok (.iconst 0, 1) := dk_3 (dk_at dksX6_event_0 14 rfl rfl)
theorem dX6_event_15 : decode cX6_event 15 = .ok (.iconst 3, 1) := dk_6 (dk_at dksX6_event_0 15 rfl rfl)
theorem dX6_event_16 : decode cX6_event 16 = .ok (.invokestatic 186, 3) := dk_184 0 186 (dk_at dksX6_event_0 16 rfl rfl)
theorem dX6_event_19 : decode cX6_event 19 = .ok (.ifCond .eq 12, 3) := dk_153 0 12 (dk_at dksX6_event_0 19 rfl rfl)
theorem dX6_event_22 : decode cX6_event 22 = .ok (.aload_n 0, 1) := dk_42 (dk_at dksX6_event_0 22 rfl rfl)
theorem dX6_event_23 : decode cX6_event 23 = .ok (.getfield 430, 3) := dk_180 1 174 (dk_at dksX6_event_1 0 rfl rfl)
theorem dX6_event_26 : decode cX6_event 26 = .ok (.bipush 30, 2) := dk_16 30 (dk_at dksX6_event_1 3 rfl rfl)
theorem dX6_event_28 : decode cX6_event 28 = .ok (.if_icmp .ne 5, 3) := dk_160 0 5 (dk_at dksX6_event_1 5 rfl rfl)
theorem dX6_event_31 : decode cX6_event 31 = .ok (.iconst (-1), 1) := dk_2 (dk_at dksX6_event_1 8 rfl rfl)
theorem dX6_event_32 : decode cX6_event 32 = .ok (.ireturn, 1) := dk_172 (dk_at dksX6_event_1 9 rfl rfl)
theorem dX6_event_33 : decode cX6_event 33 = .ok (.aload_n 0, 1) := dk_42 (dk_at dksX6_event_1 10 rfl rfl)
theorem dX6_event_34 : decode cX6_event 34 = .ok (.getfield 141, 3) := dk_180 0 141 (dk_at dksX6_event_1 11 rfl rfl)
theorem dX6_event_37 : decode cX6_event 37 = .ok (.aload_n 0, 1) := dk_42 (dk_at dksX6_event_1 14 rfl rfl)
theorem dX6_event_38 : decode cX6_event 38 = .ok (.getfield 430, 3) := dk_180 1 174 (dk_at dksX6_event_1 15 rfl rfl)
theorem dX6_event_41 : decode cX6_event 41 = .ok (.aload_n 0, 1) := dk_42 (dk_at dksX6_event_1 18 rfl rfl)
theorem dX6_event_42 : decode cX6_event 42 = .ok (.iload_n 1, 1) := dk_27 (dk_at dksX6_event_1 19 rfl rfl)
theorem dX6_event_43 : decode cX6_event 43 = .ok (.iload_n 2, 1) := dk_28 (dk_at dksX6_event_1 20 rfl rfl)
theorem dX6_event_44 : decode cX6_event 44 = .ok (.iload_n 3, 1) := dk_29 (dk_at dksX6_event_1 21 rfl rfl)
theorem dX6_event_45 : decode cX6_event 45 = .ok (.iload 4, 2) := dk_21 4 (dk_at dksX6_event_1 22 rfl rfl)
theorem dX6_event_47 : decode cX6_event 47 = .ok (.invokevirtual 291, 3) := dk_182 1 35 (dk_at dksX6_event_2 0 rfl rfl)
theorem dX6_event_50 : decode cX6_event 50 = .ok (.iastore, 1) := dk_79 (dk_at dksX6_event_2 3 rfl rfl)
theorem dX6_event_51 : decode cX6_event 51 = .ok (.aload_n 0, 1) := dk_42 (dk_at dksX6_event_2 4 rfl rfl)
theorem dX6_event_52 : decode cX6_event 52 = .ok (.getfield 144, 3) := dk_180 0 144 (dk_at dksX6_event_2 5 rfl rfl)
theorem dX6_event_55 : decode cX6_event 55 = .ok (.aload_n 0, 1) := dk_42 (dk_at dksX6_event_2 8 rfl rfl)
theorem dX6_event_56 : decode cX6_event 56 = .ok (.getfield 430, 3) := dk_180 1 174 (dk_at dksX6_event_2 9 rfl rfl)
theorem dX6_event_59 : decode cX6_event 59 = .ok (.iload 5, 2) := dk_21 5 (dk_at dksX6_event_2 12 rfl rfl)
theorem dX6_event_61 : decode cX6_event 61 = .ok (.iastore, 1) := dk_79 (dk_at dksX6_event_2 14 rfl rfl)
theorem dX6_event_62 : decode cX6_event 62 = .ok (.aload_n 0, 1) := dk_42 (dk_at dksX6_event_2 15 rfl rfl)
theorem dX6_event_63 : decode cX6_event 63 = .ok (.dup, 1) := dk_89 (dk_at dksX6_event_2 16 rfl rfl)
theorem dX6_event_64 : decode cX6_event 64 = .ok (.getfield 430, 3) := dk_180 1 174 (dk_at dksX6_event_2 17 rfl rfl)
theorem dX6_event_67 : decode cX6_event 67 = .ok (.iconst 1, 1) := dk_4 (dk_at dksX6_event_2 20 rfl rfl)
theorem dX6_event_68 : decode cX6_event 68 = .ok (.iadd, 1) := dk_96 (dk_at dksX6_event_2 21 rfl rfl)
theorem dX6_event_69 : decode cX6_event 69 = .ok (.putfield 430, 3) := dk_181 1 174 (dk_at dksX6_event_3 0 rfl rfl)
theorem dX6_event_72 : decode cX6_event 72 = .ok (.aload_n 0, 1) := dk_42 (dk_at dksX6_event_3 3 rfl rfl)
theorem dX6_event_73 : decode cX6_event 73 = .ok (.getfield 430, 3) := dk_180 1 174 (dk_at dksX6_event_3 4 rfl rfl)
theorem dX6_event_76 : decode cX6_event 76 = .ok (.ireturn, 1) := dk_172 (dk_at dksX6_event_3 7 rfl rfl)
abbrev cX6_held : ByteArray := prog_16_method_90_code
def yX6_held : MethodName := ⟨RX6, "held", "(IIII)I"⟩
def dkwX6_held_3 : List UInt8 := [167, 255, 207, 21, 5, 172]
abbrev dktX6_held_3 : List UInt8 := dkwX6_held_3 ++ []
def dkwX6_held_2 : List UInt8 := [160, 0, 15, 4, 42, 180, 0, 144, 21, 6, 46, 120, 167, 0, 4, 3, 128, 54, 5, 132, 6, 1]
abbrev dktX6_held_2 : List UInt8 := dkwX6_held_2 ++ dktX6_held_3
def dkwX6_held_1 : List UInt8 := [180, 1, 174, 162, 0, 46, 21, 5, 42, 180, 0, 141, 21, 6, 46, 42, 27, 28, 29, 21, 4, 182, 1, 35]
abbrev dktX6_held_1 : List UInt8 := dkwX6_held_1 ++ dktX6_held_2
def dkwX6_held_0 : List UInt8 := [42, 27, 28, 29, 21, 4, 182, 1, 31, 154, 0, 5, 2, 172, 3, 54, 5, 3, 54, 6, 21, 6, 42]
abbrev dktX6_held_0 : List UInt8 := dkwX6_held_0 ++ dktX6_held_1
theorem dksX6_held_0 : cX6_held.data.toList.drop 0 = dktX6_held_0 := by decide +kernel
theorem dksX6_held_1 : cX6_held.data.toList.drop 23 = dktX6_held_1 := dk_seg dksX6_held_0 23 rfl rfl
theorem dksX6_held_2 : cX6_held.data.toList.drop 47 = dktX6_held_2 := dk_seg dksX6_held_1 24 rfl rfl
theorem dksX6_held_3 : cX6_held.data.toList.drop 69 = dktX6_held_3 := dk_seg dksX6_held_2 22 rfl rfl
theorem dX6_held_0 : decode cX6_held 0 = .ok (.aload_n 0, 1) := dk_42 (dk_at dksX6_held_0 0 rfl rfl)
theorem dX6_held_1 : decode cX6_held 1 = .ok (.iload_n 1, 1) := dk_27 (dk_at dksX6_held_0 1 rfl rfl)
theorem dX6_held_2 : decode cX6_held 2 = .ok (.iload_n 2, 1) := dk_28 (dk_at dksX6_held_0 2 rfl rfl)
theorem dX6_held_3 : decode cX6_held 3 = .ok (.iload_n 3, 1) := dk_29 (dk_at dksX6_held_0 3 rfl rfl)
theorem dX6_held_4 : decode cX6_held 4 = .ok (.iload 4, 2) := dk_21 4 (dk_at dksX6_held_0 4 rfl rfl)
theorem dX6_held_6 : decode cX6_held 6 = .ok (.invokevirtual 287, 3) := dk_182 1 31 (dk_at dksX6_held_0 6 rfl rfl)
theorem dX6_held_9 : decode cX6_held 9 = .ok (.ifCond .ne 5, 3) := dk_154 0 5 (dk_at dksX6_held_0 9 rfl rfl)
theorem dX6_held_12 : decode cX6_held 12 = .ok (.iconst (-1), 1) := dk_2 (dk_at dksX6_held_0 12 rfl rfl)
theorem dX6_held_13 : decode cX6_held 13 = .ok (.ireturn, 1) := dk_172 (dk_at dksX6_held_0 13 rfl rfl)
theorem dX6_held_14 : decode cX6_held 14 = .ok (.iconst 0, 1) := dk_3 (dk_at dksX6_held_0 14 rfl rfl)
theorem dX6_held_15 : decode cX6_held 15 = .ok (.istore 5, 2) := dk_54 5 (dk_at dksX6_held_0 15 rfl rfl)
theorem dX6_held_17 : decode cX6_held 17 = .ok (.iconst 0, 1) := dk_3 (dk_at dksX6_held_0 17 rfl rfl)
theorem dX6_held_18 : decode cX6_held 18 = .ok (.istore 6, 2) := dk_54 6 (dk_at dksX6_held_0 18 rfl rfl)
theorem dX6_held_20 : decode cX6_held 20 = .ok (.iload 6, 2) := dk_21 6 (dk_at dksX6_held_0 20 rfl rfl)
theorem dX6_held_22 : decode cX6_held 22 = .ok (.aload_n 0, 1) := dk_42 (dk_at dksX6_held_0 22 rfl rfl)
theorem dX6_held_23 : decode cX6_held 23 = .ok (.getfield 430, 3) := dk_180 1 174 (dk_at dksX6_held_1 0 rfl rfl)
theorem dX6_held_26 : decode cX6_held 26 = .ok (.if_icmp .ge 46, 3) := dk_162 0 46 (dk_at dksX6_held_1 3 rfl rfl)
theorem dX6_held_29 : decode cX6_held 29 = .ok (.iload 5, 2) := dk_21 5 (dk_at dksX6_held_1 6 rfl rfl)
theorem dX6_held_31 : decode cX6_held 31 = .ok (.aload_n 0, 1) := dk_42 (dk_at dksX6_held_1 8 rfl rfl)
theorem dX6_held_32 : decode cX6_held 32 = .ok (.getfield 141, 3) := dk_180 0 141 (dk_at dksX6_held_1 9 rfl rfl)
theorem dX6_held_35 : decode cX6_held 35 = .ok (.iload 6, 2) := dk_21 6 (dk_at dksX6_held_1 12 rfl rfl)
theorem dX6_held_37 : decode cX6_held 37 = .ok (.iaload, 1) := dk_46 (dk_at dksX6_held_1 14 rfl rfl)
theorem dX6_held_38 : decode cX6_held 38 = .ok (.aload_n 0, 1) := dk_42 (dk_at dksX6_held_1 15 rfl rfl)
theorem dX6_held_39 : decode cX6_held 39 = .ok (.iload_n 1, 1) := dk_27 (dk_at dksX6_held_1 16 rfl rfl)
theorem dX6_held_40 : decode cX6_held 40 = .ok (.iload_n 2, 1) := dk_28 (dk_at dksX6_held_1 17 rfl rfl)
theorem dX6_held_41 : decode cX6_held 41 = .ok (.iload_n 3, 1) := dk_29 (dk_at dksX6_held_1 18 rfl rfl)
theorem dX6_held_42 : decode cX6_held 42 = .ok (.iload 4, 2) := dk_21 4 (dk_at dksX6_held_1 19 rfl rfl)
theorem dX6_held_44 : decode cX6_held 44 = .ok (.invokevirtual 291, 3) := dk_182 1 35 (dk_at dksX6_held_1 21 rfl rfl)
theorem dX6_held_47 : decode cX6_held 47 = .ok (.if_icmp .ne 15, 3) := dk_160 0 15 (dk_at dksX6_held_2 0 rfl rfl)
theorem dX6_held_50 : decode cX6_held 50 = .ok (.iconst 1, 1) := dk_4 (dk_at dksX6_held_2 3 rfl rfl)
theorem dX6_held_51 : decode cX6_held 51 = .ok (.aload_n 0, 1) := dk_42 (dk_at dksX6_held_2 4 rfl rfl)
theorem dX6_held_52 : decode cX6_held 52 = .ok (.getfield 144, 3) := dk_180 0 144 (dk_at dksX6_held_2 5 rfl rfl)
theorem dX6_held_55 : decode cX6_held 55 = .ok (.iload 6, 2) := dk_21 6 (dk_at dksX6_held_2 8 rfl rfl)
theorem dX6_held_57 : decode cX6_held 57 = .ok (.iaload, 1) := dk_46 (dk_at dksX6_held_2 10 rfl rfl)
theorem dX6_held_58 : decode cX6_held 58 = .ok (.ishl, 1) := dk_120 (dk_at dksX6_held_2 11 rfl rfl)
theorem dX6_held_59 : decode cX6_held 59 = .ok (.goto 4, 3) := dk_167 0 4 (dk_at dksX6_held_2 12 rfl rfl)
theorem dX6_held_62 : decode cX6_held 62 = .ok (.iconst 0, 1) := dk_3 (dk_at dksX6_held_2 15 rfl rfl)
theorem dX6_held_63 : decode cX6_held 63 = .ok (.ior, 1) := dk_128 (dk_at dksX6_held_2 16 rfl rfl)
theorem dX6_held_64 : decode cX6_held 64 = .ok (.istore 5, 2) := dk_54 5 (dk_at dksX6_held_2 17 rfl rfl)
theorem dX6_held_66 : decode cX6_held 66 = .ok (.iinc 6 1, 3) := dk_132 6 1 (dk_at dksX6_held_2 19 rfl rfl)
theorem dX6_held_69 : decode cX6_held 69 = .ok (.goto (-49), 3) := dk_167 255 207 (dk_at dksX6_held_3 0 rfl rfl)
theorem dX6_held_72 : decode cX6_held 72 = .ok (.iload 5, 2) := dk_21 5 (dk_at dksX6_held_3 3 rfl rfl)
theorem dX6_held_74 : decode cX6_held 74 = .ok (.ireturn, 1) := dk_172 (dk_at dksX6_held_3 5 rfl rfl)
abbrev cX6_spell : ByteArray := prog_16_method_92_code
def yX6_spell : MethodName := ⟨RX6, "spell", "(I)I"⟩
def dkwX6_spell_3 : List UInt8 := [167, 255, 202, 28, 172]
abbrev dktX6_spell_3 : List UInt8 := dkwX6_spell_3 ++ []
def dkwX6_spell_2 : List UInt8 := [182, 1, 177, 153, 0, 9, 132, 4, 1, 167, 255, 226, 28, 21, 4, 184, 0, 239, 61, 132, 3, 1]
abbrev dktX6_spell_2 : List UInt8 := dkwX6_spell_2 ++ dktX6_spell_3
def dkwX6_spell_1 : List UInt8 := [54, 4, 42, 180, 0, 144, 29, 46, 27, 160, 0, 26, 42, 42, 180, 0, 141, 29, 46, 21, 4, 96, 27]
abbrev dktX6_spell_1 : List UInt8 := dkwX6_spell_1 ++ dktX6_spell_2
def dkwX6_spell_0 : List UInt8 := [27, 3, 6, 184, 0, 186, 154, 0, 5, 2, 172, 3, 61, 3, 62, 29, 42, 180, 1, 174, 162, 0, 52, 3]
abbrev dktX6_spell_0 : List UInt8 := dkwX6_spell_0 ++ dktX6_spell_1
theorem dksX6_spell_0 : cX6_spell.data.toList.drop 0 = dktX6_spell_0 := by decide +kernel
theorem dksX6_spell_1 : cX6_spell.data.toList.drop 24 = dktX6_spell_1 := dk_seg dksX6_spell_0 24 rfl rfl
theorem dksX6_spell_2 : cX6_spell.data.toList.drop 47 = dktX6_spell_2 := dk_seg dksX6_spell_1 23 rfl rfl
theorem dksX6_spell_3 : cX6_spell.data.toList.drop 69 = dktX6_spell_3 := dk_seg dksX6_spell_2 22 rfl rfl
theorem dX6_spell_0 : decode cX6_spell 0 = .ok (.iload_n 1, 1) := dk_27 (dk_at dksX6_spell_0 0 rfl rfl)
theorem dX6_spell_1 : decode cX6_spell 1 = .ok (.iconst 0, 1) := dk_3 (dk_at dksX6_spell_0 1 rfl rfl)
theorem dX6_spell_2 : decode cX6_spell 2 = .ok (.iconst 3, 1) := dk_6 (dk_at dksX6_spell_0 2 rfl rfl)
theorem dX6_spell_3 : decode cX6_spell 3 = .ok (.invokestatic 186, 3) := dk_184 0 186 (dk_at dksX6_spell_0 3 rfl rfl)
theorem dX6_spell_6 : decode cX6_spell 6 = .ok (.ifCond .ne 5, 3) := dk_154 0 5 (dk_at dksX6_spell_0 6 rfl rfl)
theorem dX6_spell_9 : decode cX6_spell 9 = .ok (.iconst (-1), 1) := dk_2 (dk_at dksX6_spell_0 9 rfl rfl)
theorem dX6_spell_10 : decode cX6_spell 10 = .ok (.ireturn, 1) := dk_172 (dk_at dksX6_spell_0 10 rfl rfl)
theorem dX6_spell_11 : decode cX6_spell 11 = .ok (.iconst 0, 1) := dk_3 (dk_at dksX6_spell_0 11 rfl rfl)
theorem dX6_spell_12 : decode cX6_spell 12 = .ok (.istore_n 2, 1) := dk_61 (dk_at dksX6_spell_0 12 rfl rfl)
theorem dX6_spell_13 : decode cX6_spell 13 = .ok (.iconst 0, 1) := dk_3 (dk_at dksX6_spell_0 13 rfl rfl)
theorem dX6_spell_14 : decode cX6_spell 14 = .ok (.istore_n 3, 1) := dk_62 (dk_at dksX6_spell_0 14 rfl rfl)
theorem dX6_spell_15 : decode cX6_spell 15 = .ok (.iload_n 3, 1) := dk_29 (dk_at dksX6_spell_0 15 rfl rfl)
theorem dX6_spell_16 : decode cX6_spell 16 = .ok (.aload_n 0, 1) := dk_42 (dk_at dksX6_spell_0 16 rfl rfl)
theorem dX6_spell_17 : decode cX6_spell 17 = .ok (.getfield 430, 3) := dk_180 1 174 (dk_at dksX6_spell_0 17 rfl rfl)
theorem dX6_spell_20 : decode cX6_spell 20 = .ok (.if_icmp .ge 52, 3) := dk_162 0 52 (dk_at dksX6_spell_0 20 rfl rfl)
theorem dX6_spell_23 : decode cX6_spell 23 = .ok (.iconst 0, 1) := dk_3 (dk_at dksX6_spell_0 23 rfl rfl)
theorem dX6_spell_24 : decode cX6_spell 24 = .ok (.istore 4, 2) := dk_54 4 (dk_at dksX6_spell_1 0 rfl rfl)
theorem dX6_spell_26 : decode cX6_spell 26 = .ok (.aload_n 0, 1) := dk_42 (dk_at dksX6_spell_1 2 rfl rfl)
theorem dX6_spell_27 : decode cX6_spell 27 = .ok (.getfield 144, 3) := dk_180 0 144 (dk_at dksX6_spell_1 3 rfl rfl)
theorem dX6_spell_30 : decode cX6_spell 30 = .ok (.iload_n 3, 1) := dk_29 (dk_at dksX6_spell_1 6 rfl rfl)
theorem dX6_spell_31 : decode cX6_spell 31 = .ok (.iaload, 1) := dk_46 (dk_at dksX6_spell_1 7 rfl rfl)
theorem dX6_spell_32 : decode cX6_spell 32 = .ok (.iload_n 1, 1) := dk_27 (dk_at dksX6_spell_1 8 rfl rfl)
theorem dX6_spell_33 : decode cX6_spell 33 = .ok (.if_icmp .ne 26, 3) := dk_160 0 26 (dk_at dksX6_spell_1 9 rfl rfl)
theorem dX6_spell_36 : decode cX6_spell 36 = .ok (.aload_n 0, 1) := dk_42 (dk_at dksX6_spell_1 12 rfl rfl)
theorem dX6_spell_37 : decode cX6_spell 37 = .ok (.aload_n 0, 1) := dk_42 (dk_at dksX6_spell_1 13 rfl rfl)
theorem dX6_spell_38 : decode cX6_spell 38 = .ok (.getfield 141, 3) := dk_180 0 141 (dk_at dksX6_spell_1 14 rfl rfl)
theorem dX6_spell_41 : decode cX6_spell 41 = .ok (.iload_n 3, 1) := dk_29 (dk_at dksX6_spell_1 17 rfl rfl)
theorem dX6_spell_42 : decode cX6_spell 42 = .ok (.iaload, 1) := dk_46 (dk_at dksX6_spell_1 18 rfl rfl)
theorem dX6_spell_43 : decode cX6_spell 43 = .ok (.iload 4, 2) := dk_21 4 (dk_at dksX6_spell_1 19 rfl rfl)
theorem dX6_spell_45 : decode cX6_spell 45 = .ok (.iadd, 1) := dk_96 (dk_at dksX6_spell_1 21 rfl rfl)
theorem dX6_spell_46 : decode cX6_spell 46 = .ok (.iload_n 1, 1) := dk_27 (dk_at dksX6_spell_1 22 rfl rfl)
theorem dX6_spell_47 : decode cX6_spell 47 = .ok (.invokevirtual 433, 3) := dk_182 1 177 (dk_at dksX6_spell_2 0 rfl rfl)
theorem dX6_spell_50 : decode cX6_spell 50 = .ok (.ifCond .eq 9, 3) := dk_153 0 9 (dk_at dksX6_spell_2 3 rfl rfl)
theorem dX6_spell_53 : decode cX6_spell 53 = .ok (.iinc 4 1, 3) := dk_132 4 1 (dk_at dksX6_spell_2 6 rfl rfl)
theorem dX6_spell_56 : decode cX6_spell 56 = .ok (.goto (-30), 3) := dk_167 255 226 (dk_at dksX6_spell_2 9 rfl rfl)
theorem dX6_spell_59 : decode cX6_spell 59 = .ok (.iload_n 2, 1) := dk_28 (dk_at dksX6_spell_2 12 rfl rfl)
theorem dX6_spell_60 : decode cX6_spell 60 = .ok (.iload 4, 2) := dk_21 4 (dk_at dksX6_spell_2 13 rfl rfl)
theorem dX6_spell_62 : decode cX6_spell 62 = .ok (.invokestatic 239, 3) := dk_184 0 239 (dk_at dksX6_spell_2 15 rfl rfl)
theorem dX6_spell_65 : decode cX6_spell 65 = .ok (.istore_n 2, 1) := dk_61 (dk_at dksX6_spell_2 18 rfl rfl)
theorem dX6_spell_66 : decode cX6_spell 66 = .ok (.iinc 3 1, 3) := dk_132 3 1 (dk_at dksX6_spell_2 19 rfl rfl)
theorem dX6_spell_69 : decode cX6_spell 69 = .ok (.goto (-54), 3) := dk_167 255 202 (dk_at dksX6_spell_3 0 rfl rfl)
theorem dX6_spell_72 : decode cX6_spell 72 = .ok (.iload_n 2, 1) := dk_28 (dk_at dksX6_spell_3 3 rfl rfl)
theorem dX6_spell_73 : decode cX6_spell 73 = .ok (.ireturn, 1) := dk_172 (dk_at dksX6_spell_3 4 rfl rfl)
abbrev cX6_hasEvent : ByteArray := prog_16_method_91_code
def yX6_hasEvent : MethodName := ⟨RX6, "hasEvent", "(II)Z"⟩
def dkwX6_hasEvent_1 : List UInt8 := [29, 46, 28, 160, 0, 5, 4, 172, 132, 3, 1, 167, 255, 223, 3, 172]
abbrev dktX6_hasEvent_1 : List UInt8 := dkwX6_hasEvent_1 ++ []
def dkwX6_hasEvent_0 : List UInt8 := [3, 62, 29, 42, 180, 1, 174, 162, 0, 31, 42, 180, 0, 141, 29, 46, 27, 160, 0, 15, 42, 180, 0, 144]
abbrev dktX6_hasEvent_0 : List UInt8 := dkwX6_hasEvent_0 ++ dktX6_hasEvent_1
theorem dksX6_hasEvent_0 : cX6_hasEvent.data.toList.drop 0 = dktX6_hasEvent_0 := by decide +kernel
theorem dksX6_hasEvent_1 : cX6_hasEvent.data.toList.drop 24 = dktX6_hasEvent_1 := dk_seg dksX6_hasEvent_0 24 rfl rfl
theorem dX6_hasEvent_0 : decode cX6_hasEvent 0 = .ok (.iconst 0, 1) := dk_3 (dk_at dksX6_hasEvent_0 0 rfl rfl)
theorem dX6_hasEvent_1 : decode cX6_hasEvent 1 = .ok (.istore_n 3, 1) := dk_62 (dk_at dksX6_hasEvent_0 1 rfl rfl)
theorem dX6_hasEvent_2 : decode cX6_hasEvent 2 = .ok (.iload_n 3, 1) := dk_29 (dk_at dksX6_hasEvent_0 2 rfl rfl)
theorem dX6_hasEvent_3 : decode cX6_hasEvent 3 = .ok (.aload_n 0, 1) := dk_42 (dk_at dksX6_hasEvent_0 3 rfl rfl)
theorem dX6_hasEvent_4 : decode cX6_hasEvent 4 = .ok (.getfield 430, 3) := dk_180 1 174 (dk_at dksX6_hasEvent_0 4 rfl rfl)
theorem dX6_hasEvent_7 : decode cX6_hasEvent 7 = .ok (.if_icmp .ge 31, 3) := dk_162 0 31 (dk_at dksX6_hasEvent_0 7 rfl rfl)
theorem dX6_hasEvent_10 : decode cX6_hasEvent 10 = .ok (.aload_n 0, 1) := dk_42 (dk_at dksX6_hasEvent_0 10 rfl rfl)
theorem dX6_hasEvent_11 : decode cX6_hasEvent 11 = .ok (.getfield 141, 3) := dk_180 0 141 (dk_at dksX6_hasEvent_0 11 rfl rfl)
theorem dX6_hasEvent_14 : decode cX6_hasEvent 14 = .ok (.iload_n 3, 1) := dk_29 (dk_at dksX6_hasEvent_0 14 rfl rfl)
theorem dX6_hasEvent_15 : decode cX6_hasEvent 15 = .ok (.iaload, 1) := dk_46 (dk_at dksX6_hasEvent_0 15 rfl rfl)
theorem dX6_hasEvent_16 : decode cX6_hasEvent 16 = .ok (.iload_n 1, 1) := dk_27 (dk_at dksX6_hasEvent_0 16 rfl rfl)
theorem dX6_hasEvent_17 : decode cX6_hasEvent 17 = .ok (.if_icmp .ne 15, 3) := dk_160 0 15 (dk_at dksX6_hasEvent_0 17 rfl rfl)
theorem dX6_hasEvent_20 : decode cX6_hasEvent 20 = .ok (.aload_n 0, 1) := dk_42 (dk_at dksX6_hasEvent_0 20 rfl rfl)
theorem dX6_hasEvent_21 : decode cX6_hasEvent 21 = .ok (.getfield 144, 3) := dk_180 0 144 (dk_at dksX6_hasEvent_0 21 rfl rfl)
theorem dX6_hasEvent_24 : decode cX6_hasEvent 24 = .ok (.iload_n 3, 1) := dk_29 (dk_at dksX6_hasEvent_1 0 rfl rfl)
theorem dX6_hasEvent_25 : decode cX6_hasEvent 25 = .ok (.iaload, 1) := dk_46 (dk_at dksX6_hasEvent_1 1 rfl rfl)
theorem dX6_hasEvent_26 : decode cX6_hasEvent 26 = .ok (.iload_n 2, 1) := dk_28 (dk_at dksX6_hasEvent_1 2 rfl rfl)
theorem dX6_hasEvent_27 : decode cX6_hasEvent 27 = .ok (.if_icmp .ne 5, 3) := dk_160 0 5 (dk_at dksX6_hasEvent_1 3 rfl rfl)
theorem dX6_hasEvent_30 : decode cX6_hasEvent 30 = .ok (.iconst 1, 1) := dk_4 (dk_at dksX6_hasEvent_1 6 rfl rfl)
theorem dX6_hasEvent_31 : decode cX6_hasEvent 31 = .ok (.ireturn, 1) := dk_172 (dk_at dksX6_hasEvent_1 7 rfl rfl)
theorem dX6_hasEvent_32 : decode cX6_hasEvent 32 = .ok (.iinc 3 1, 3) := dk_132 3 1 (dk_at dksX6_hasEvent_1 8 rfl rfl)
theorem dX6_hasEvent_35 : decode cX6_hasEvent 35 = .ok (.goto (-33), 3) := dk_167 255 223 (dk_at dksX6_hasEvent_1 11 rfl rfl)
theorem dX6_hasEvent_38 : decode cX6_hasEvent 38 = .ok (.iconst 0, 1) := dk_3 (dk_at dksX6_hasEvent_1 14 rfl rfl)
theorem dX6_hasEvent_39 : decode cX6_hasEvent 39 = .ok (.ireturn, 1) := dk_172 (dk_at dksX6_hasEvent_1 15 rfl rfl)
abbrev cX6_keep : ByteArray := prog_16_method_93_code
def yX6_keep : MethodName := ⟨RX6, "keep", "()I"⟩
def dkwX6_keep_1 : List UInt8 := [96, 172]
abbrev dktX6_keep_1 : List UInt8 := dkwX6_keep_1 ++ []
def dkwX6_keep_0 : List UInt8 := [42, 42, 180, 1, 110, 181, 1, 180, 42, 42, 180, 1, 174, 181, 1, 183, 42, 180, 1, 110, 42, 180, 1, 174]
abbrev dktX6_keep_0 : List UInt8 := dkwX6_keep_0 ++ dktX6_keep_1
theorem dksX6_keep_0 : cX6_keep.data.toList.drop 0 = dktX6_keep_0 := by decide +kernel
theorem dksX6_keep_1 : cX6_keep.data.toList.drop 24 = dktX6_keep_1 := dk_seg dksX6_keep_0 24 rfl rfl
theorem dX6_keep_0 : decode cX6_keep 0 = .ok (.aload_n 0, 1) := dk_42 (dk_at dksX6_keep_0 0 rfl rfl)
theorem dX6_keep_1 : decode cX6_keep 1 = .ok (.aload_n 0, 1) := dk_42 (dk_at dksX6_keep_0 1 rfl rfl)
theorem dX6_keep_2 : decode cX6_keep 2 = .ok (.getfield 366, 3) := dk_180 1 110 (dk_at dksX6_keep_0 2 rfl rfl)
theorem dX6_keep_5 : decode cX6_keep 5 = .ok (.putfield 436, 3) := dk_181 1 180 (dk_at dksX6_keep_0 5 rfl rfl)
theorem dX6_keep_8 : decode cX6_keep 8 = .ok (.aload_n 0, 1) := dk_42 (dk_at dksX6_keep_0 8 rfl rfl)
theorem dX6_keep_9 : decode cX6_keep 9 = .ok (.aload_n 0, 1) := dk_42 (dk_at dksX6_keep_0 9 rfl rfl)
theorem dX6_keep_10 : decode cX6_keep 10 = .ok (.getfield 430, 3) := dk_180 1 174 (dk_at dksX6_keep_0 10 rfl rfl)
theorem dX6_keep_13 : decode cX6_keep 13 = .ok (.putfield 439, 3) := dk_181 1 183 (dk_at dksX6_keep_0 13 rfl rfl)
theorem dX6_keep_16 : decode cX6_keep 16 = .ok (.aload_n 0, 1) := dk_42 (dk_at dksX6_keep_0 16 rfl rfl)
theorem dX6_keep_17 : decode cX6_keep 17 = .ok (.getfield 366, 3) := dk_180 1 110 (dk_at dksX6_keep_0 17 rfl rfl)
theorem dX6_keep_20 : decode cX6_keep 20 = .ok (.aload_n 0, 1) := dk_42 (dk_at dksX6_keep_0 20 rfl rfl)
theorem dX6_keep_21 : decode cX6_keep 21 = .ok (.getfield 430, 3) := dk_180 1 174 (dk_at dksX6_keep_0 21 rfl rfl)
theorem dX6_keep_24 : decode cX6_keep 24 = .ok (.iadd, 1) := dk_96 (dk_at dksX6_keep_1 0 rfl rfl)
theorem dX6_keep_25 : decode cX6_keep 25 = .ok (.ireturn, 1) := dk_172 (dk_at dksX6_keep_1 1 rfl rfl)
abbrev cX6_back : ByteArray := prog_16_method_94_code
def yX6_back : MethodName := ⟨RX6, "back", "()I"⟩
def dkwX6_back_1 : List UInt8 := [184, 0, 231, 181, 1, 174, 42, 180, 1, 110, 42, 180, 1, 174, 96, 172]
abbrev dktX6_back_1 : List UInt8 := dkwX6_back_1 ++ []
def dkwX6_back_0 : List UInt8 := [42, 42, 180, 1, 110, 42, 180, 1, 180, 184, 0, 231, 181, 1, 110, 42, 42, 180, 1, 174, 42, 180, 1, 183]
abbrev dktX6_back_0 : List UInt8 := dkwX6_back_0 ++ dktX6_back_1
theorem dksX6_back_0 : cX6_back.data.toList.drop 0 = dktX6_back_0 := by decide +kernel
theorem dksX6_back_1 : cX6_back.data.toList.drop 24 = dktX6_back_1 := dk_seg dksX6_back_0 24 rfl rfl
theorem dX6_back_0 : decode cX6_back 0 = .ok (.aload_n 0, 1) := dk_42 (dk_at dksX6_back_0 0 rfl rfl)
theorem dX6_back_1 : decode cX6_back 1 = .ok (.aload_n 0, 1) := dk_42 (dk_at dksX6_back_0 1 rfl rfl)
theorem dX6_back_2 : decode cX6_back 2 = .ok (.getfield 366, 3) := dk_180 1 110 (dk_at dksX6_back_0 2 rfl rfl)
theorem dX6_back_5 : decode cX6_back 5 = .ok (.aload_n 0, 1) := dk_42 (dk_at dksX6_back_0 5 rfl rfl)
theorem dX6_back_6 : decode cX6_back 6 = .ok (.getfield 436, 3) := dk_180 1 180 (dk_at dksX6_back_0 6 rfl rfl)
theorem dX6_back_9 : decode cX6_back 9 = .ok (.invokestatic 231, 3) := dk_184 0 231 (dk_at dksX6_back_0 9 rfl rfl)
theorem dX6_back_12 : decode cX6_back 12 = .ok (.putfield 366, 3) := dk_181 1 110 (dk_at dksX6_back_0 12 rfl rfl)
theorem dX6_back_15 : decode cX6_back 15 = .ok (.aload_n 0, 1) := dk_42 (dk_at dksX6_back_0 15 rfl rfl)
theorem dX6_back_16 : decode cX6_back 16 = .ok (.aload_n 0, 1) := dk_42 (dk_at dksX6_back_0 16 rfl rfl)
theorem dX6_back_17 : decode cX6_back 17 = .ok (.getfield 430, 3) := dk_180 1 174 (dk_at dksX6_back_0 17 rfl rfl)
theorem dX6_back_20 : decode cX6_back 20 = .ok (.aload_n 0, 1) := dk_42 (dk_at dksX6_back_0 20 rfl rfl)
theorem dX6_back_21 : decode cX6_back 21 = .ok (.getfield 439, 3) := dk_180 1 183 (dk_at dksX6_back_0 21 rfl rfl)
theorem dX6_back_24 : decode cX6_back 24 = .ok (.invokestatic 231, 3) := dk_184 0 231 (dk_at dksX6_back_1 0 rfl rfl)
theorem dX6_back_27 : decode cX6_back 27 = .ok (.putfield 430, 3) := dk_181 1 174 (dk_at dksX6_back_1 3 rfl rfl)
theorem dX6_back_30 : decode cX6_back 30 = .ok (.aload_n 0, 1) := dk_42 (dk_at dksX6_back_1 6 rfl rfl)
theorem dX6_back_31 : decode cX6_back 31 = .ok (.getfield 366, 3) := dk_180 1 110 (dk_at dksX6_back_1 7 rfl rfl)
theorem dX6_back_34 : decode cX6_back 34 = .ok (.aload_n 0, 1) := dk_42 (dk_at dksX6_back_1 10 rfl rfl)
theorem dX6_back_35 : decode cX6_back 35 = .ok (.getfield 430, 3) := dk_180 1 174 (dk_at dksX6_back_1 11 rfl rfl)
theorem dX6_back_38 : decode cX6_back 38 = .ok (.iadd, 1) := dk_96 (dk_at dksX6_back_1 14 rfl rfl)
theorem dX6_back_39 : decode cX6_back 39 = .ok (.ireturn, 1) := dk_172 (dk_at dksX6_back_1 15 rfl rfl)
abbrev cX6_row : ByteArray := prog_16_method_98_code
def yX6_row : MethodName := ⟨RX6, "row", "(III)I"⟩
def dkwX6_row_7 : List UInt8 := [16, 8, 160, 0, 7, 6, 167, 0, 4, 3, 54, 4, 132, 6, 1, 167, 255, 120, 21, 5, 172]
abbrev dktX6_row_7 : List UInt8 := dkwX6_row_7 ++ []
def dkwX6_row_6 : List UInt8 := [167, 0, 5, 16, 7, 54, 5, 21, 5, 16, 7, 160, 0, 10, 21, 4, 4, 96, 167, 0, 15, 21, 5]
abbrev dktX6_row_6 : List UInt8 := dkwX6_row_6 ++ dktX6_row_7
def dkwX6_row_5 : List UInt8 := [54, 7, 21, 4, 6, 160, 0, 8, 16, 8, 167, 0, 17, 21, 7, 153, 0, 10, 42, 180, 1, 94]
abbrev dktX6_row_5 : List UInt8 := dkwX6_row_5 ++ dktX6_row_6
def dkwX6_row_4 : List UInt8 := [180, 0, 150, 21, 6, 46, 42, 180, 0, 153, 21, 6, 46, 182, 1, 100, 153, 0, 7, 4, 167, 0, 4, 3]
abbrev dktX6_row_4 : List UInt8 := dkwX6_row_4 ++ dktX6_row_5
def dkwX6_row_3 : List UInt8 := [180, 0, 153, 21, 6, 46, 182, 1, 31, 153, 0, 37, 42, 27, 28, 42, 180, 0, 147, 21, 6, 46, 42]
abbrev dktX6_row_3 : List UInt8 := dkwX6_row_3 ++ dktX6_row_4
def dkwX6_row_2 : List UInt8 := [21, 4, 6, 162, 0, 66, 42, 28, 42, 180, 0, 147, 21, 6, 46, 42, 180, 0, 150, 21, 6, 46, 42]
abbrev dktX6_row_2 : List UInt8 := dkwX6_row_2 ++ dktX6_row_3
def dkwX6_row_1 : List UInt8 := [184, 0, 186, 154, 0, 5, 2, 172, 3, 54, 4, 3, 54, 5, 3, 54, 6, 21, 6, 29, 163, 0, 136]
abbrev dktX6_row_1 : List UInt8 := dkwX6_row_1 ++ dktX6_row_2
def dkwX6_row_0 : List UInt8 := [42, 27, 182, 1, 88, 153, 0, 25, 42, 28, 182, 1, 24, 153, 0, 17, 29, 3, 42, 180, 1, 190, 4, 100]
abbrev dktX6_row_0 : List UInt8 := dkwX6_row_0 ++ dktX6_row_1
theorem dksX6_row_0 : cX6_row.data.toList.drop 0 = dktX6_row_0 := by decide +kernel
theorem dksX6_row_1 : cX6_row.data.toList.drop 24 = dktX6_row_1 := dk_seg dksX6_row_0 24 rfl rfl
theorem dksX6_row_2 : cX6_row.data.toList.drop 47 = dktX6_row_2 := dk_seg dksX6_row_1 23 rfl rfl
theorem dksX6_row_3 : cX6_row.data.toList.drop 70 = dktX6_row_3 := dk_seg dksX6_row_2 23 rfl rfl
theorem dksX6_row_4 : cX6_row.data.toList.drop 93 = dktX6_row_4 := dk_seg dksX6_row_3 23 rfl rfl
theorem dksX6_row_5 : cX6_row.data.toList.drop 117 = dktX6_row_5 := dk_seg dksX6_row_4 24 rfl rfl
theorem dksX6_row_6 : cX6_row.data.toList.drop 139 = dktX6_row_6 := dk_seg dksX6_row_5 22 rfl rfl
theorem dksX6_row_7 : cX6_row.data.toList.drop 162 = dktX6_row_7 := dk_seg dksX6_row_6 23 rfl rfl
theorem dX6_row_0 : decode cX6_row 0 = .ok (.aload_n 0, 1) := dk_42 (dk_at dksX6_row_0 0 rfl rfl)
theorem dX6_row_1 : decode cX6_row 1 = .ok (.iload_n 1, 1) := dk_27 (dk_at dksX6_row_0 1 rfl rfl)
theorem dX6_row_2 : decode cX6_row 2 = .ok (.invokevirtual 344, 3) := dk_182 1 88 (dk_at dksX6_row_0 2 rfl rfl)
theorem dX6_row_5 : decode cX6_row 5 = .ok (.ifCond .eq 25, 3) := dk_153 0 25 (dk_at dksX6_row_0 5 rfl rfl)
theorem dX6_row_8 : decode cX6_row 8 = .ok (.aload_n 0, 1) := dk_42 (dk_at dksX6_row_0 8 rfl rfl)
theorem dX6_row_9 : decode cX6_row 9 = .ok (.iload_n 2, 1) := dk_28 (dk_at dksX6_row_0 9 rfl rfl)
theorem dX6_row_10 : decode cX6_row 10 = .ok (.invokevirtual 280, 3) := dk_182 1 24 (dk_at dksX6_row_0 10 rfl rfl)
theorem dX6_row_13 : decode cX6_row 13 = .ok (.ifCond .eq 17, 3) := dk_153 0 17 (dk_at dksX6_row_0 13 rfl rfl)
theorem dX6_row_16 : decode cX6_row 16 = .ok (.iload_n 3, 1) := dk_29 (dk_at dksX6_row_0 16 rfl rfl)
theorem dX6_row_17 : decode cX6_row 17 = .ok (.iconst 0, 1) := dk_3 (dk_at dksX6_row_0 17 rfl rfl)
theorem dX6_row_18 : decode cX6_row 18 = .ok (.aload_n 0, 1) := dk_42 (dk_at dksX6_row_0 18 rfl rfl)
theorem dX6_row_19 : decode cX6_row 19 = .ok (.getfield 446, 3) := dk_180 1 190 (dk_at dksX6_row_0 19 rfl rfl)
theorem dX6_row_22 : decode cX6_row 22 = .ok (.iconst 1, 1) := dk_4 (dk_at dksX6_row_0 22 rfl rfl)
theorem dX6_row_23 : decode cX6_row 23 = .ok (.isub, 1) := dk_100 (dk_at dksX6_row_0 23 rfl rfl)
theorem dX6_row_24 : decode cX6_row 24 = .ok (.invokestatic 186, 3) := dk_184 0 186 (dk_at dksX6_row_1 0 rfl rfl)
theorem dX6_row_27 : decode cX6_row 27 = .ok (.ifCond .ne 5, 3) := dk_154 0 5 (dk_at dksX6_row_1 3 rfl rfl)
theorem dX6_row_30 : decode cX6_row 30 = .ok (.iconst (-1), 1) := dk_2 (dk_at dksX6_row_1 6 rfl rfl)
theorem dX6_row_31 : decode cX6_row 31 = .ok (.ireturn, 1) := dk_172 (dk_at dksX6_row_1 7 rfl rfl)
theorem dX6_row_32 : decode cX6_row 32 = .ok (.iconst 0, 1) := dk_3 (dk_at dksX6_row_1 8 rfl rfl)
theorem dX6_row_33 : decode cX6_row 33 = .ok (.istore 4, 2) := dk_54 4 (dk_at dksX6_row_1 9 rfl rfl)
theorem dX6_row_35 : decode cX6_row 35 = .ok (.iconst 0, 1) := dk_3 (dk_at dksX6_row_1 11 rfl rfl)
theorem dX6_row_36 : decode cX6_row 36 = .ok (.istore 5, 2) := dk_54 5 (dk_at dksX6_row_1 12 rfl rfl)
theorem dX6_row_38 : decode cX6_row 38 = .ok (.iconst 0, 1) := dk_3 (dk_at dksX6_row_1 14 rfl rfl)
theorem dX6_row_39 : decode cX6_row 39 = .ok (.istore 6, 2) := dk_54 6 (dk_at dksX6_row_1 15 rfl rfl)
theorem dX6_row_41 : decode cX6_row 41 = .ok (.iload 6, 2) := dk_21 6 (dk_at dksX6_row_1 17 rfl rfl)
theorem dX6_row_43 : decode cX6_row 43 = .ok (.iload_n 3, 1) := dk_29 (dk_at dksX6_row_1 19 rfl rfl)
theorem dX6_row_44 : decode cX6_row 44 = .ok (.if_icmp .gt 136, 3) := dk_163 0 136 (dk_at dksX6_row_1 20 rfl rfl)
theorem dX6_row_47 : decode cX6_row 47 = .ok (.iload 4, 2) := dk_21 4 (dk_at dksX6_row_2 0 rfl rfl)
theorem dX6_row_49 : decode cX6_row 49 = .ok (.iconst 3, 1) := dk_6 (dk_at dksX6_row_2 2 rfl rfl)
theorem dX6_row_50 : decode cX6_row 50 = .ok (.if_icmp .ge 66, 3) := dk_162 0 66 (dk_at dksX6_row_2 3 rfl rfl)
theorem dX6_row_53 : decode cX6_row 53 = .ok (.aload_n 0, 1) := dk_42 (dk_at dksX6_row_2 6 rfl rfl)
theorem dX6_row_54 : decode cX6_row 54 = .ok (.iload_n 2, 1) := dk_28 (dk_at dksX6_row_2 7 rfl rfl)
theorem dX6_row_55 : decode cX6_row 55 = .ok (.aload_n 0, 1) := dk_42 (dk_at dksX6_row_2 8 rfl rfl)
theorem dX6_row_56 : decode cX6_row 56 = .ok (.getfield 147, 3) := dk_180 0 147 (dk_at dksX6_row_2 9 rfl rfl)
theorem dX6_row_59 : decode cX6_row 59 = .ok (.iload 6, 2) := dk_21 6 (dk_at dksX6_row_2 12 rfl rfl)
theorem dX6_row_61 : decode cX6_row 61 = .ok (.iaload, 1) := dk_46 (dk_at dksX6_row_2 14 rfl rfl)
theorem dX6_row_62 : decode cX6_row 62 = .ok (.aload_n 0, 1) := dk_42 (dk_at dksX6_row_2 15 rfl rfl)
theorem dX6_row_63 : decode cX6_row 63 = .ok (.getfield 150, 3) := dk_180 0 150 (dk_at dksX6_row_2 16 rfl rfl)
theorem dX6_row_66 : decode cX6_row 66 = .ok (.iload 6, 2) := dk_21 6 (dk_at dksX6_row_2 19 rfl rfl)
theorem dX6_row_68 : decode cX6_row 68 = .ok (.iaload, 1) := dk_46 (dk_at dksX6_row_2 21 rfl rfl)
theorem dX6_row_69 : decode cX6_row 69 = .ok (.aload_n 0, 1) := dk_42 (dk_at dksX6_row_2 22 rfl rfl)
theorem dX6_row_70 : decode cX6_row 70 = .ok (.getfield 153, 3) := dk_180 0 153 (dk_at dksX6_row_3 0 rfl rfl)
theorem dX6_row_73 : decode cX6_row 73 = .ok (.iload 6, 2) := dk_21 6 (dk_at dksX6_row_3 3 rfl rfl)
theorem dX6_row_75 : decode cX6_row 75 = .ok (.iaload, 1) := dk_46 (dk_at dksX6_row_3 5 rfl rfl)
theorem dX6_row_76 : decode cX6_row 76 = .ok (.invokevirtual 287, 3) := dk_182 1 31 (dk_at dksX6_row_3 6 rfl rfl)
theorem dX6_row_79 : decode cX6_row 79 = .ok (.ifCond .eq 37, 3) := dk_153 0 37 (dk_at dksX6_row_3 9 rfl rfl)
theorem dX6_row_82 : decode cX6_row 82 = .ok (.aload_n 0, 1) := dk_42 (dk_at dksX6_row_3 12 rfl rfl)
theorem dX6_row_83 : decode cX6_row 83 = .ok (.iload_n 1, 1) := dk_27 (dk_at dksX6_row_3 13 rfl rfl)
theorem dX6_row_84 : decode cX6_row 84 = .ok (.iload_n 2, 1) := dk_28 (dk_at dksX6_row_3 14 rfl rfl)
theorem dX6_row_85 : decode cX6_row 85 = .ok (.aload_n 0, 1) := dk_42 (dk_at dksX6_row_3 15 rfl rfl)
theorem dX6_row_86 : decode cX6_row 86 = .ok (.getfield 147, 3) := dk_180 0 147 (dk_at dksX6_row_3 16 rfl rfl)
theorem dX6_row_89 : decode cX6_row 89 = .ok (.iload 6, 2) := dk_21 6 (dk_at dksX6_row_3 19 rfl rfl)
theorem dX6_row_91 : decode cX6_row 91 = .ok (.iaload, 1) := dk_46 (dk_at dksX6_row_3 21 rfl rfl)
theorem dX6_row_92 : decode cX6_row 92 = .ok (.aload_n 0, 1) := dk_42 (dk_at dksX6_row_3 22 rfl rfl)
theorem dX6_row_93 : decode cX6_row 93 = .ok (.getfield 150, 3) := dk_180 0 150 (dk_at dksX6_row_4 0 rfl rfl)
theorem dX6_row_96 : decode cX6_row 96 = .ok (.iload 6, 2) := dk_21 6 (dk_at dksX6_row_4 3 rfl rfl)
theorem dX6_row_98 : decode cX6_row 98 = .ok (.iaload, 1) := dk_46 (dk_at dksX6_row_4 5 rfl rfl)
theorem dX6_row_99 : decode cX6_row 99 = .ok (.aload_n 0, 1) := dk_42 (dk_at dksX6_row_4 6 rfl rfl)
theorem dX6_row_100 : decode cX6_row 100 = .ok (.getfield 153, 3) := dk_180 0 153 (dk_at dksX6_row_4 7 rfl rfl)
theorem dX6_row_103 : decode cX6_row 103 = .ok (.iload 6, 2) := dk_21 6 (dk_at dksX6_row_4 10 rfl rfl)
theorem dX6_row_105 : decode cX6_row 105 = .ok (.iaload, 1) := dk_46 (dk_at dksX6_row_4 12 rfl rfl)
theorem dX6_row_106 : decode cX6_row 106 = .ok (.invokevirtual 356, 3) := dk_182 1 100 (dk_at dksX6_row_4 13 rfl rfl)
theorem dX6_row_109 : decode cX6_row 109 = .ok (.ifCond .eq 7, 3) := dk_153 0 7 (dk_at dksX6_row_4 16 rfl rfl)
theorem dX6_row_112 : decode cX6_row 112 = .ok (.iconst 1, 1) := dk_4 (dk_at dksX6_row_4 19 rfl rfl)
theorem dX6_row_113 : decode cX6_row 113 = .ok (.goto 4, 3) := dk_167 0 4 (dk_at dksX6_row_4 20 rfl rfl)
theorem dX6_row_116 : decode cX6_row 116 = .ok (.iconst 0, 1) := dk_3 (dk_at dksX6_row_4 23 rfl rfl)
theorem dX6_row_117 : decode cX6_row 117 = .ok (.istore 7, 2) := dk_54 7 (dk_at dksX6_row_5 0 rfl rfl)
theorem dX6_row_119 : decode cX6_row 119 = .ok (.iload 4, 2) := dk_21 4 (dk_at dksX6_row_5 2 rfl rfl)
theorem dX6_row_121 : decode cX6_row 121 = .ok (.iconst 3, 1) := dk_6 (dk_at dksX6_row_5 4 rfl rfl)
theorem dX6_row_122 : decode cX6_row 122 = .ok (.if_icmp .ne 8, 3) := dk_160 0 8 (dk_at dksX6_row_5 5 rfl rfl)
theorem dX6_row_125 : decode cX6_row 125 = .ok (.bipush 8, 2) := dk_16 8 (dk_at dksX6_row_5 8 rfl rfl)
theorem dX6_row_127 : decode cX6_row 127 = .ok (.goto 17, 3) := dk_167 0 17 (dk_at dksX6_row_5 10 rfl rfl)
theorem dX6_row_130 : decode cX6_row 130 = .ok (.iload 7, 2) := dk_21 7 (dk_at dksX6_row_5 13 rfl rfl)
theorem dX6_row_132 : decode cX6_row 132 = .ok (.ifCond .eq 10, 3) := dk_153 0 10 (dk_at dksX6_row_5 15 rfl rfl)
theorem dX6_row_135 : decode cX6_row 135 = .ok (.aload_n 0, 1) := dk_42 (dk_at dksX6_row_5 18 rfl rfl)
theorem dX6_row_136 : decode cX6_row 136 = .ok (.getfield 350, 3) := dk_180 1 94 (dk_at dksX6_row_5 19 rfl rfl)
theorem dX6_row_139 : decode cX6_row 139 = .ok (.goto 5, 3) := dk_167 0 5 (dk_at dksX6_row_6 0 rfl rfl)
theorem dX6_row_142 : decode cX6_row 142 = .ok (.bipush 7, 2) := dk_16 7 (dk_at dksX6_row_6 3 rfl rfl)
theorem dX6_row_144 : decode cX6_row 144 = .ok (.istore 5, 2) := dk_54 5 (dk_at dksX6_row_6 5 rfl rfl)
theorem dX6_row_146 : decode cX6_row 146 = .ok (.iload 5, 2) := dk_21 5 (dk_at dksX6_row_6 7 rfl rfl)
theorem dX6_row_148 : decode cX6_row 148 = .ok (.bipush 7, 2) := dk_16 7 (dk_at dksX6_row_6 9 rfl rfl)
theorem dX6_row_150 : decode cX6_row 150 = .ok (.if_icmp .ne 10, 3) := dk_160 0 10 (dk_at dksX6_row_6 11 rfl rfl)
theorem dX6_row_153 : decode cX6_row 153 = .ok (.iload 4, 2) := dk_21 4 (dk_at dksX6_row_6 14 rfl rfl)
theorem dX6_row_155 : decode cX6_row 155 = .ok (.iconst 1, 1) := dk_4 (dk_at dksX6_row_6 16 rfl rfl)
theorem dX6_row_156 : decode cX6_row 156 = .ok (.iadd, 1) := dk_96 (dk_at dksX6_row_6 17 rfl rfl)
theorem dX6_row_157 : decode cX6_row 157 = .ok (.goto 15, 3) := dk_167 0 15 (dk_at dksX6_row_6 18 rfl rfl)
theorem dX6_row_160 : decode cX6_row 160 = .ok (.iload 5, 2) := dk_21 5 (dk_at dksX6_row_6 21 rfl rfl)
theorem dX6_row_162 : decode cX6_row 162 = .ok (.bipush 8, 2) := dk_16 8 (dk_at dksX6_row_7 0 rfl rfl)
theorem dX6_row_164 : decode cX6_row 164 = .ok (.if_icmp .ne 7, 3) := dk_160 0 7 (dk_at dksX6_row_7 2 rfl rfl)
theorem dX6_row_167 : decode cX6_row 167 = .ok (.iconst 3, 1) := dk_6 (dk_at dksX6_row_7 5 rfl rfl)
theorem dX6_row_168 : decode cX6_row 168 = .ok (.goto 4, 3) := dk_167 0 4 (dk_at dksX6_row_7 6 rfl rfl)
theorem dX6_row_171 : decode cX6_row 171 = .ok (.iconst 0, 1) := dk_3 (dk_at dksX6_row_7 9 rfl rfl)
theorem dX6_row_172 : decode cX6_row 172 = .ok (.istore 4, 2) := dk_54 4 (dk_at dksX6_row_7 10 rfl rfl)
theorem dX6_row_174 : decode cX6_row 174 = .ok (.iinc 6 1, 3) := dk_132 6 1 (dk_at dksX6_row_7 12 rfl rfl)
theorem dX6_row_177 : decode cX6_row 177 = .ok (.goto (-136), 3) := dk_167 255 120 (dk_at dksX6_row_7 15 rfl rfl)
theorem dX6_row_180 : decode cX6_row 180 = .ok (.iload 5, 2) := dk_21 5 (dk_at dksX6_row_7 18 rfl rfl)
theorem dX6_row_182 : decode cX6_row 182 = .ok (.ireturn, 1) := dk_172 (dk_at dksX6_row_7 20 rfl rfl)
abbrev cX6_run : ByteArray := prog_16_method_101_code
def yX6_run : MethodName := ⟨RX6, "run", "(IJIII)I"⟩
def dkwX6_run_8 : List UInt8 := [21, 8, 172]
abbrev dktX6_run_8 : List UInt8 := dkwX6_run_8 ++ []
def dkwX6_run_7 : List UInt8 := [167, 0, 5, 21, 8, 54, 8, 132, 9, 1, 167, 255, 142, 21, 6, 2, 160, 0, 8, 21, 7, 167, 0, 5]
abbrev dktX6_run_7 : List UInt8 := dkwX6_run_7 ++ dktX6_run_8
def dkwX6_run_6 : List UInt8 := [167, 0, 5, 21, 11, 54, 10, 21, 7, 21, 10, 96, 54, 7, 21, 9, 21, 6, 160, 0, 8, 21, 10]
abbrev dktX6_run_6 : List UInt8 := dkwX6_run_6 ++ dktX6_run_7
def dkwX6_run_5 : List UInt8 := [182, 1, 201, 96, 54, 11, 42, 21, 9, 182, 1, 204, 153, 0, 15, 3, 21, 11, 21, 5, 100, 184, 0, 239]
abbrev dktX6_run_5 : List UInt8 := dkwX6_run_5 ++ dktX6_run_6
def dkwX6_run_4 : List UInt8 := [46, 42, 180, 0, 131, 21, 9, 46, 182, 1, 100, 153, 0, 50, 42, 180, 1, 97, 42, 21, 4, 4, 96]
abbrev dktX6_run_4 : List UInt8 := dkwX6_run_4 ++ dktX6_run_5
def dkwX6_run_3 : List UInt8 := [54, 10, 42, 27, 42, 180, 0, 122, 21, 9, 46, 42, 180, 0, 125, 21, 9, 46, 42, 180, 0, 128, 21, 9]
abbrev dktX6_run_3 : List UInt8 := dkwX6_run_3 ++ dktX6_run_4
def dkwX6_run_2 : List UInt8 := [32, 181, 1, 193, 3, 54, 7, 2, 54, 8, 3, 54, 9, 21, 9, 42, 180, 1, 136, 162, 0, 111, 2]
abbrev dktX6_run_2 : List UInt8 := dkwX6_run_2 ++ dktX6_run_3
def dkwX6_run_1 : List UInt8 := [184, 0, 186, 153, 0, 18, 21, 6, 2, 42, 180, 1, 136, 4, 100, 184, 0, 186, 154, 0, 5, 2, 172, 42]
abbrev dktX6_run_1 : List UInt8 := dkwX6_run_1 ++ dktX6_run_2
def dkwX6_run_0 : List UInt8 := [42, 27, 182, 1, 88, 153, 0, 40, 21, 4, 3, 16, 99, 184, 0, 186, 153, 0, 29, 21, 5, 3, 16, 99]
abbrev dktX6_run_0 : List UInt8 := dkwX6_run_0 ++ dktX6_run_1
theorem dksX6_run_0 : cX6_run.data.toList.drop 0 = dktX6_run_0 := by decide +kernel
theorem dksX6_run_1 : cX6_run.data.toList.drop 24 = dktX6_run_1 := dk_seg dksX6_run_0 24 rfl rfl
theorem dksX6_run_2 : cX6_run.data.toList.drop 48 = dktX6_run_2 := dk_seg dksX6_run_1 24 rfl rfl
theorem dksX6_run_3 : cX6_run.data.toList.drop 71 = dktX6_run_3 := dk_seg dksX6_run_2 23 rfl rfl
theorem dksX6_run_4 : cX6_run.data.toList.drop 95 = dktX6_run_4 := dk_seg dksX6_run_3 24 rfl rfl
theorem dksX6_run_5 : cX6_run.data.toList.drop 118 = dktX6_run_5 := dk_seg dksX6_run_4 23 rfl rfl
theorem dksX6_run_6 : cX6_run.data.toList.drop 142 = dktX6_run_6 := dk_seg dksX6_run_5 24 rfl rfl
theorem dksX6_run_7 : cX6_run.data.toList.drop 165 = dktX6_run_7 := dk_seg dksX6_run_6 23 rfl rfl
theorem dksX6_run_8 : cX6_run.data.toList.drop 189 = dktX6_run_8 := dk_seg dksX6_run_7 24 rfl rfl
theorem dX6_run_0 : decode cX6_run 0 = .ok (.aload_n 0, 1) := dk_42 (dk_at dksX6_run_0 0 rfl rfl)
theorem dX6_run_1 : decode cX6_run 1 = .ok (.iload_n 1, 1) := dk_27 (dk_at dksX6_run_0 1 rfl rfl)
theorem dX6_run_2 : decode cX6_run 2 = .ok (.invokevirtual 344, 3) := dk_182 1 88 (dk_at dksX6_run_0 2 rfl rfl)
theorem dX6_run_5 : decode cX6_run 5 = .ok (.ifCond .eq 40, 3) := dk_153 0 40 (dk_at dksX6_run_0 5 rfl rfl)
theorem dX6_run_8 : decode cX6_run 8 = .ok (.iload 4, 2) := dk_21 4 (dk_at dksX6_run_0 8 rfl rfl)
theorem dX6_run_10 : decode cX6_run 10 = .ok (.iconst 0, 1) := dk_3 (dk_at dksX6_run_0 10 rfl rfl)
theorem dX6_run_11 : decode cX6_run 11 = .ok (.bipush 99, 2) := dk_16 99 (dk_at dksX6_run_0 11 rfl rfl)
theorem dX6_run_13 : decode cX6_run 13 = .ok (.invokestatic 186, 3) := dk_184 0 186 (dk_at dksX6_run_0 13 rfl rfl)
theorem dX6_run_16 : decode cX6_run 16 = .ok (.ifCond .eq 29, 3) := dk_153 0 29 (dk_at dksX6_run_0 16 rfl rfl)
theorem dX6_run_19 : decode cX6_run 19 = .ok (.iload 5, 2) := dk_21 5 (dk_at dksX6_run_0 19 rfl rfl)
theorem dX6_run_21 : decode cX6_run 21 = .ok (.iconst 0, 1) := dk_3 (dk_at dksX6_run_0 21 rfl rfl)
theorem dX6_run_22 : decode cX6_run 22 = .ok (.bipush 99, 2) := dk_16 99 (dk_at dksX6_run_0 22 rfl rfl)
theorem dX6_run_24 : decode cX6_run 24 = .ok (.invokestatic 186, 3) := dk_184 0 186 (dk_at dksX6_run_1 0 rfl rfl)
theorem dX6_run_27 : decode cX6_run 27 = .ok (.ifCond .eq 18, 3) := dk_153 0 18 (dk_at dksX6_run_1 3 rfl rfl)
theorem dX6_run_30 : decode cX6_run 30 = .ok (.iload 6, 2) := dk_21 6 (dk_at dksX6_run_1 6 rfl rfl)
theorem dX6_run_32 : decode cX6_run 32 = .ok (.iconst (-1), 1) := dk_2 (dk_at dksX6_run_1 8 rfl rfl)
theorem dX6_run_33 : decode cX6_run 33 = .ok (.aload_n 0, 1) := dk_42 (dk_at dksX6_run_1 9 rfl rfl)
theorem dX6_run_34 : decode cX6_run 34 = .ok (.getfield 392, 3) := dk_180 1 136 (dk_at dksX6_run_1 10 rfl rfl)
theorem dX6_run_37 : decode cX6_run 37 = .ok (.iconst 1, 1) := dk_4 (dk_at dksX6_run_1 13 rfl rfl)
theorem dX6_run_38 : decode cX6_run 38 = .ok (.isub, 1) := dk_100 (dk_at dksX6_run_1 14 rfl rfl)
theorem dX6_run_39 : decode cX6_run 39 = .ok (.invokestatic 186, 3) := dk_184 0 186 (dk_at dksX6_run_1 15 rfl rfl)
theorem dX6_run_42 : decode cX6_run 42 = .ok (.ifCond .ne 5, 3) := dk_154 0 5 (dk_at dksX6_run_1 18 rfl rfl)
theorem dX6_run_45 : decode cX6_run 45 = .ok (.iconst (-1), 1) := dk_2 (dk_at dksX6_run_1 21 rfl rfl)
theorem dX6_run_46 : decode cX6_run 46 = .ok (.ireturn, 1) := dk_172 (dk_at dksX6_run_1 22 rfl rfl)
theorem dX6_run_47 : decode cX6_run 47 = .ok (.aload_n 0, 1) := dk_42 (dk_at dksX6_run_1 23 rfl rfl)
theorem dX6_run_48 : decode cX6_run 48 = .ok (.lload_n 2, 1) := dk_32 (dk_at dksX6_run_2 0 rfl rfl)
theorem dX6_run_49 : decode cX6_run 49 = .ok (.putfield 449, 3) := dk_181 1 193 (dk_at dksX6_run_2 1 rfl rfl)
theorem dX6_run_52 : decode cX6_run 52 = .ok (.iconst 0, 1) := dk_3 (dk_at dksX6_run_2 4 rfl rfl)
theorem dX6_run_53 : decode cX6_run 53 = .ok (.istore 7, 2) := dk_54 7 (dk_at dksX6_run_2 5 rfl rfl)
theorem dX6_run_55 : decode cX6_run 55 = .ok (.iconst (-1), 1) := dk_2 (dk_at dksX6_run_2 7 rfl rfl)
theorem dX6_run_56 : decode cX6_run 56 = .ok (.istore 8, 2) := dk_54 8 (dk_at dksX6_run_2 8 rfl rfl)
theorem dX6_run_58 : decode cX6_run 58 = .ok (.iconst 0, 1) := dk_3 (dk_at dksX6_run_2 10 rfl rfl)
theorem dX6_run_59 : decode cX6_run 59 = .ok (.istore 9, 2) := dk_54 9 (dk_at dksX6_run_2 11 rfl rfl)
theorem dX6_run_61 : decode cX6_run 61 = .ok (.iload 9, 2) := dk_21 9 (dk_at dksX6_run_2 13 rfl rfl)
theorem dX6_run_63 : decode cX6_run 63 = .ok (.aload_n 0, 1) := dk_42 (dk_at dksX6_run_2 15 rfl rfl)
theorem dX6_run_64 : decode cX6_run 64 = .ok (.getfield 392, 3) := dk_180 1 136 (dk_at dksX6_run_2 16 rfl rfl)
theorem dX6_run_67 : decode cX6_run 67 = .ok (.if_icmp .ge 111, 3) := dk_162 0 111 (dk_at dksX6_run_2 19 rfl rfl)
theorem dX6_run_70 : decode cX6_run 70 = .ok (.iconst (-1), 1) := dk_2 (dk_at dksX6_run_2 22 rfl rfl)
theorem dX6_run_71 : decode cX6_run 71 = .ok (.istore 10, 2) := dk_54 10 (dk_at dksX6_run_3 0 rfl rfl)
theorem dX6_run_73 : decode cX6_run 73 = .ok (.aload_n 0, 1) := dk_42 (dk_at dksX6_run_3 2 rfl rfl)
theorem dX6_run_74 : decode cX6_run 74 = .ok (.iload_n 1, 1) := dk_27 (dk_at dksX6_run_3 3 rfl rfl)
theorem dX6_run_75 : decode cX6_run 75 = .ok (.aload_n 0, 1) := dk_42 (dk_at dksX6_run_3 4 rfl rfl)
theorem dX6_run_76 : decode cX6_run 76 = .ok (.getfield 122, 3) := dk_180 0 122 (dk_at dksX6_run_3 5 rfl rfl)
theorem dX6_run_79 : decode cX6_run 79 = .ok (.iload 9, 2) := dk_21 9 (dk_at dksX6_run_3 8 rfl rfl)
theorem dX6_run_81 : decode cX6_run 81 = .ok (.iaload, 1) := dk_46 (dk_at dksX6_run_3 10 rfl rfl)
theorem dX6_run_82 : decode cX6_run 82 = .ok (.aload_n 0, 1) := dk_42 (dk_at dksX6_run_3 11 rfl rfl)
theorem dX6_run_83 : decode cX6_run 83 = .ok (.getfield 125, 3) := dk_180 0 125 (dk_at dksX6_run_3 12 rfl rfl)
theorem dX6_run_86 : decode cX6_run 86 = .ok (.iload 9, 2) := dk_21 9 (dk_at dksX6_run_3 15 rfl rfl)
theorem dX6_run_88 : decode cX6_run 88 = .ok (.iaload, 1) := dk_46 (dk_at dksX6_run_3 17 rfl rfl)
theorem dX6_run_89 : decode cX6_run 89 = .ok (.aload_n 0, 1) := dk_42 (dk_at dksX6_run_3 18 rfl rfl)
theorem dX6_run_90 : decode cX6_run 90 = .ok (.getfield 128, 3) := dk_180 0 128 (dk_at dksX6_run_3 19 rfl rfl)
theorem dX6_run_93 : decode cX6_run 93 = .ok (.iload 9, 2) := dk_21 9 (dk_at dksX6_run_3 22 rfl rfl)
theorem dX6_run_95 : decode cX6_run 95 = .ok (.iaload, 1) := dk_46 (dk_at dksX6_run_4 0 rfl rfl)
theorem dX6_run_96 : decode cX6_run 96 = .ok (.aload_n 0, 1) := dk_42 (dk_at dksX6_run_4 1 rfl rfl)
theorem dX6_run_97 : decode cX6_run 97 = .ok (.getfield 131, 3) := dk_180 0 131 (dk_at dksX6_run_4 2 rfl rfl)
theorem dX6_run_100 : decode cX6_run 100 = .ok (.iload 9, 2) := dk_21 9 (dk_at dksX6_run_4 5 rfl rfl)
theorem dX6_run_102 : decode cX6_run 102 = .ok (.iaload, 1) := dk_46 (dk_at dksX6_run_4 7 rfl rfl)
theorem dX6_run_103 : decode cX6_run 103 = .ok (.invokevirtual 356, 3) := dk_182 1 100 (dk_at dksX6_run_4 8 rfl rfl)
theorem dX6_run_106 : decode cX6_run 106 = .ok (.ifCond .eq 50, 3) := dk_153 0 50 (dk_at dksX6_run_4 11 rfl rfl)
theorem dX6_run_109 : decode cX6_run 109 = .ok (.aload_n 0, 1) := dk_42 (dk_at dksX6_run_4 14 rfl rfl)
theorem dX6_run_110 : decode cX6_run 110 = .ok (.getfield 353, 3) := dk_180 1 97 (dk_at dksX6_run_4 15 rfl rfl)
theorem dX6_run_113 : decode cX6_run 113 = .ok (.aload_n 0, 1) := dk_42 (dk_at dksX6_run_4 18 rfl rfl)
theorem dX6_run_114 : decode cX6_run 114 = .ok (.iload 4, 2) := dk_21 4 (dk_at dksX6_run_4 19 rfl rfl)
theorem dX6_run_116 : decode cX6_run 116 = .ok (.iconst 1, 1) := dk_4 (dk_at dksX6_run_4 21 rfl rfl)
theorem dX6_run_117 : decode cX6_run 117 = .ok (.iadd, 1) := dk_96 (dk_at dksX6_run_4 22 rfl rfl)
theorem dX6_run_118 : decode cX6_run 118 = .ok (.invokevirtual 457, 3) := dk_182 1 201 (dk_at dksX6_run_5 0 rfl rfl)
theorem dX6_run_121 : decode cX6_run 121 = .ok (.iadd, 1) := dk_96 (dk_at dksX6_run_5 3 rfl rfl)
theorem dX6_run_122 : decode cX6_run 122 = .ok (.istore 11, 2) := dk_54 11 (dk_at dksX6_run_5 4 rfl rfl)
theorem dX6_run_124 : decode cX6_run 124 = .ok (.aload_n 0, 1) := dk_42 (dk_at dksX6_run_5 6 rfl rfl)
theorem dX6_run_125 : decode cX6_run 125 = .ok (.iload 9, 2) := dk_21 9 (dk_at dksX6_run_5 7 rfl rfl)
theorem dX6_run_127 : decode cX6_run 127 = .ok (.invokevirtual 460, 3) := dk_182 1 204 (dk_at dksX6_run_5 9 rfl rfl)
theorem dX6_run_130 : decode cX6_run 130 = .ok (.ifCond .eq 15, 3) := dk_153 0 15 (dk_at dksX6_run_5 12 rfl rfl)
theorem dX6_run_133 : decode cX6_run 133 = .ok (.iconst 0, 1) := dk_3 (dk_at dksX6_run_5 15 rfl rfl)
theorem dX6_run_134 : decode cX6_run 134 = .ok (.iload 11, 2) := dk_21 11 (dk_at dksX6_run_5 16 rfl rfl)
theorem dX6_run_136 : decode cX6_run 136 = .ok (.iload 5, 2) := dk_21 5 (dk_at dksX6_run_5 18 rfl rfl)
theorem dX6_run_138 : decode cX6_run 138 = .ok (.isub, 1) := dk_100 (dk_at dksX6_run_5 20 rfl rfl)
theorem dX6_run_139 : decode cX6_run 139 = .ok (.invokestatic 239, 3) := dk_184 0 239 (dk_at dksX6_run_5 21 rfl rfl)
theorem dX6_run_142 : decode cX6_run 142 = .ok (.goto 5, 3) := dk_167 0 5 (dk_at dksX6_run_6 0 rfl rfl)
theorem dX6_run_145 : decode cX6_run 145 = .ok (.iload 11, 2) := dk_21 11 (dk_at dksX6_run_6 3 rfl rfl)
theorem dX6_run_147 : decode cX6_run 147 = .ok (.istore 10, 2) := dk_54 10 (dk_at dksX6_run_6 5 rfl rfl)
theorem dX6_run_149 : decode cX6_run 149 = .ok (.iload 7, 2) := dk_21 7 (dk_at dksX6_run_6 7 rfl rfl)
theorem dX6_run_151 : decode cX6_run 151 = .ok (.iload 10, 2) := dk_21 10 (dk_at dksX6_run_6 9 rfl rfl)
theorem dX6_run_153 : decode cX6_run 153 = .ok (.iadd, 1) := dk_96 (dk_at dksX6_run_6 11 rfl rfl)
theorem dX6_run_154 : decode cX6_run 154 = .ok (.istore 7, 2) := dk_54 7 (dk_at dksX6_run_6 12 rfl rfl)
theorem dX6_run_156 : decode cX6_run 156 = .ok (.iload 9, 2) := dk_21 9 (dk_at dksX6_run_6 14 rfl rfl)
theorem dX6_run_158 : decode cX6_run 158 = .ok (.iload 6, 2) := dk_21 6 (dk_at dksX6_run_6 16 rfl rfl)
theorem dX6_run_160 : decode cX6_run 160 = .ok (.if_icmp .ne 8, 3) := dk_160 0 8 (dk_at dksX6_run_6 18 rfl rfl)
theorem dX6_run_163 : decode cX6_run 163 = .ok (.iload 10, 2) := dk_21 10 (dk_at dksX6_run_6 21 rfl rfl)
theorem dX6_run_165 : decode cX6_run 165 = .ok (.goto 5, 3) := dk_167 0 5 (dk_at dksX6_run_7 0 rfl rfl)
theorem dX6_run_168 : decode cX6_run 168 = .ok (.iload 8, 2) := dk_21 8 (dk_at dksX6_run_7 3 rfl rfl)
theorem dX6_run_170 : decode cX6_run 170 = .ok (.istore 8, 2) := dk_54 8 (dk_at dksX6_run_7 5 rfl rfl)
theorem dX6_run_172 : decode cX6_run 172 = .ok (.iinc 9 1, 3) := dk_132 9 1 (dk_at dksX6_run_7 7 rfl rfl)
theorem dX6_run_175 : decode cX6_run 175 = .ok (.goto (-114), 3) := dk_167 255 142 (dk_at dksX6_run_7 10 rfl rfl)
theorem dX6_run_178 : decode cX6_run 178 = .ok (.iload 6, 2) := dk_21 6 (dk_at dksX6_run_7 13 rfl rfl)
theorem dX6_run_180 : decode cX6_run 180 = .ok (.iconst (-1), 1) := dk_2 (dk_at dksX6_run_7 15 rfl rfl)
theorem dX6_run_181 : decode cX6_run 181 = .ok (.if_icmp .ne 8, 3) := dk_160 0 8 (dk_at dksX6_run_7 16 rfl rfl)
theorem dX6_run_184 : decode cX6_run 184 = .ok (.iload 7, 2) := dk_21 7 (dk_at dksX6_run_7 19 rfl rfl)
theorem dX6_run_186 : decode cX6_run 186 = .ok (.goto 5, 3) := dk_167 0 5 (dk_at dksX6_run_7 21 rfl rfl)
theorem dX6_run_189 : decode cX6_run 189 = .ok (.iload 8, 2) := dk_21 8 (dk_at dksX6_run_8 0 rfl rfl)
theorem dX6_run_191 : decode cX6_run 191 = .ok (.ireturn, 1) := dk_172 (dk_at dksX6_run_8 2 rfl rfl)
abbrev cX6_draw : ByteArray := prog_16_method_99_code
def yX6_draw : MethodName := ⟨RX6, "draw", "(I)I"⟩
def dkwX6_draw_1 : List UInt8 := [133, 113, 136, 172]
abbrev dktX6_draw_1 : List UInt8 := dkwX6_draw_1 ++ []
def dkwX6_draw_0 : List UInt8 := [42, 42, 180, 1, 193, 20, 1, 197, 105, 20, 1, 199, 97, 181, 1, 193, 42, 180, 1, 193, 16, 33, 125, 27]
abbrev dktX6_draw_0 : List UInt8 := dkwX6_draw_0 ++ dktX6_draw_1
theorem dksX6_draw_0 : cX6_draw.data.toList.drop 0 = dktX6_draw_0 := by decide +kernel
theorem dksX6_draw_1 : cX6_draw.data.toList.drop 24 = dktX6_draw_1 := dk_seg dksX6_draw_0 24 rfl rfl
theorem dX6_draw_0 : decode cX6_draw 0 = .ok (.aload_n 0, 1) := dk_42 (dk_at dksX6_draw_0 0 rfl rfl)
theorem dX6_draw_1 : decode cX6_draw 1 = .ok (.aload_n 0, 1) := dk_42 (dk_at dksX6_draw_0 1 rfl rfl)
theorem dX6_draw_2 : decode cX6_draw 2 = .ok (.getfield 449, 3) := dk_180 1 193 (dk_at dksX6_draw_0 2 rfl rfl)
theorem dX6_draw_5 : decode cX6_draw 5 = .ok (.ldc2_w 453, 3) := dk_20 1 197 (dk_at dksX6_draw_0 5 rfl rfl)
theorem dX6_draw_8 : decode cX6_draw 8 = .ok (.lmul, 1) := dk_105 (dk_at dksX6_draw_0 8 rfl rfl)
theorem dX6_draw_9 : decode cX6_draw 9 = .ok (.ldc2_w 455, 3) := dk_20 1 199 (dk_at dksX6_draw_0 9 rfl rfl)
theorem dX6_draw_12 : decode cX6_draw 12 = .ok (.ladd, 1) := dk_97 (dk_at dksX6_draw_0 12 rfl rfl)
theorem dX6_draw_13 : decode cX6_draw 13 = .ok (.putfield 449, 3) := dk_181 1 193 (dk_at dksX6_draw_0 13 rfl rfl)
theorem dX6_draw_16 : decode cX6_draw 16 = .ok (.aload_n 0, 1) := dk_42 (dk_at dksX6_draw_0 16 rfl rfl)
theorem dX6_draw_17 : decode cX6_draw 17 = .ok (.getfield 449, 3) := dk_180 1 193 (dk_at dksX6_draw_0 17 rfl rfl)
theorem dX6_draw_20 : decode cX6_draw 20 = .ok (.bipush 33, 2) := dk_16 33 (dk_at dksX6_draw_0 20 rfl rfl)
theorem dX6_draw_22 : decode cX6_draw 22 = .ok (.lushr, 1) := dk_125 (dk_at dksX6_draw_0 22 rfl rfl)
theorem dX6_draw_23 : decode cX6_draw 23 = .ok (.iload_n 1, 1) := dk_27 (dk_at dksX6_draw_0 23 rfl rfl)
theorem dX6_draw_24 : decode cX6_draw 24 = .ok (.i2l, 1) := dk_133 (dk_at dksX6_draw_1 0 rfl rfl)
theorem dX6_draw_25 : decode cX6_draw 25 = .ok (.lrem, 1) := dk_113 (dk_at dksX6_draw_1 1 rfl rfl)
theorem dX6_draw_26 : decode cX6_draw 26 = .ok (.l2i, 1) := dk_136 (dk_at dksX6_draw_1 2 rfl rfl)
theorem dX6_draw_27 : decode cX6_draw 27 = .ok (.ireturn, 1) := dk_172 (dk_at dksX6_draw_1 3 rfl rfl)
abbrev cX6_isEased : ByteArray := prog_16_method_100_code
def yX6_isEased : MethodName := ⟨RX6, "isEased", "(I)Z"⟩
def dkwX6_isEased_2 : List UInt8 := [182, 1, 47, 160, 0, 7, 4, 167, 0, 4, 3, 172]
abbrev dktX6_isEased_2 : List UInt8 := dkwX6_isEased_2 ++ []
def dkwX6_isEased_1 : List UInt8 := [2, 159, 0, 31, 28, 42, 42, 180, 0, 122, 27, 4, 100, 46, 42, 180, 0, 125, 27, 4, 100, 46]
abbrev dktX6_isEased_1 : List UInt8 := dkwX6_isEased_1 ++ dktX6_isEased_2
def dkwX6_isEased_0 : List UInt8 := [27, 154, 0, 5, 3, 172, 42, 42, 180, 0, 122, 27, 46, 42, 180, 0, 125, 27, 46, 182, 1, 47, 61, 28]
abbrev dktX6_isEased_0 : List UInt8 := dkwX6_isEased_0 ++ dktX6_isEased_1
theorem dksX6_isEased_0 : cX6_isEased.data.toList.drop 0 = dktX6_isEased_0 := by decide +kernel
theorem dksX6_isEased_1 : cX6_isEased.data.toList.drop 24 = dktX6_isEased_1 := dk_seg dksX6_isEased_0 24 rfl rfl
theorem dksX6_isEased_2 : cX6_isEased.data.toList.drop 46 = dktX6_isEased_2 := dk_seg dksX6_isEased_1 22 rfl rfl
theorem dX6_isEased_0 : decode cX6_isEased 0 = .ok (.iload_n 1, 1) := dk_27 (dk_at dksX6_isEased_0 0 rfl rfl)
theorem dX6_isEased_1 : decode cX6_isEased 1 = .ok (.ifCond .ne 5, 3) := dk_154 0 5 (dk_at dksX6_isEased_0 1 rfl rfl)
theorem dX6_isEased_4 : decode cX6_isEased 4 = .ok (.iconst 0, 1) := dk_3 (dk_at dksX6_isEased_0 4 rfl rfl)
theorem dX6_isEased_5 : decode cX6_isEased 5 = .ok (.ireturn, 1) := dk_172 (dk_at dksX6_isEased_0 5 rfl rfl)
theorem dX6_isEased_6 : decode cX6_isEased 6 = .ok (.aload_n 0, 1) := dk_42 (dk_at dksX6_isEased_0 6 rfl rfl)
theorem dX6_isEased_7 : decode cX6_isEased 7 = .ok (.aload_n 0, 1) := dk_42 (dk_at dksX6_isEased_0 7 rfl rfl)
theorem dX6_isEased_8 : decode cX6_isEased 8 = .ok (.getfield 122, 3) := dk_180 0 122 (dk_at dksX6_isEased_0 8 rfl rfl)
theorem dX6_isEased_11 : decode cX6_isEased 11 = .ok (.iload_n 1, 1) := dk_27 (dk_at dksX6_isEased_0 11 rfl rfl)
theorem dX6_isEased_12 : decode cX6_isEased 12 = .ok (.iaload, 1) := dk_46 (dk_at dksX6_isEased_0 12 rfl rfl)
theorem dX6_isEased_13 : decode cX6_isEased 13 = .ok (.aload_n 0, 1) := dk_42 (dk_at dksX6_isEased_0 13 rfl rfl)
theorem dX6_isEased_14 : decode cX6_isEased 14 = .ok (.getfield 125, 3) := dk_180 0 125 (dk_at dksX6_isEased_0 14 rfl rfl)
theorem dX6_isEased_17 : decode cX6_isEased 17 = .ok (.iload_n 1, 1) := dk_27 (dk_at dksX6_isEased_0 17 rfl rfl)
theorem dX6_isEased_18 : decode cX6_isEased 18 = .ok (.iaload, 1) := dk_46 (dk_at dksX6_isEased_0 18 rfl rfl)
theorem dX6_isEased_19 : decode cX6_isEased 19 = .ok (.invokevirtual 303, 3) := dk_182 1 47 (dk_at dksX6_isEased_0 19 rfl rfl)
theorem dX6_isEased_22 : decode cX6_isEased 22 = .ok (.istore_n 2, 1) := dk_61 (dk_at dksX6_isEased_0 22 rfl rfl)
theorem dX6_isEased_23 : decode cX6_isEased 23 = .ok (.iload_n 2, 1) := dk_28 (dk_at dksX6_isEased_0 23 rfl rfl)
theorem dX6_isEased_24 : decode cX6_isEased 24 = .ok (.iconst (-1), 1) := dk_2 (dk_at dksX6_isEased_1 0 rfl rfl)
theorem dX6_isEased_25 : decode cX6_isEased 25 = .ok (.if_icmp .eq 31, 3) := dk_159 0 31 (dk_at dksX6_isEased_1 1 rfl rfl)
theorem dX6_isEased_28 : decode cX6_isEased 28 = .ok (.iload_n 2, 1) := dk_28 (dk_at dksX6_isEased_1 4 rfl rfl)
theorem dX6_isEased_29 : decode cX6_isEased 29 = .ok (.aload_n 0, 1) := dk_42 (dk_at dksX6_isEased_1 5 rfl rfl)
theorem dX6_isEased_30 : decode cX6_isEased 30 = .ok (.aload_n 0, 1) := dk_42 (dk_at dksX6_isEased_1 6 rfl rfl)
theorem dX6_isEased_31 : decode cX6_isEased 31 = .ok (.getfield 122, 3) := dk_180 0 122 (dk_at dksX6_isEased_1 7 rfl rfl)
theorem dX6_isEased_34 : decode cX6_isEased 34 = .ok (.iload_n 1, 1) := dk_27 (dk_at dksX6_isEased_1 10 rfl rfl)
theorem dX6_isEased_35 : decode cX6_isEased 35 = .ok (.iconst 1, 1) := dk_4 (dk_at dksX6_isEased_1 11 rfl rfl)
theorem dX6_isEased_36 : decode cX6_isEased 36 = .ok (.isub, 1) := dk_100 (dk_at dksX6_isEased_1 12 rfl rfl)
theorem dX6_isEased_37 : decode cX6_isEased 37 = .ok (.iaload, 1) := dk_46 (dk_at dksX6_isEased_1 13 rfl rfl)
theorem dX6_isEased_38 : decode cX6_isEased 38 = .ok (.aload_n 0, 1) := dk_42 (dk_at dksX6_isEased_1 14 rfl rfl)
theorem dX6_isEased_39 : decode cX6_isEased 39 = .ok (.getfield 125, 3) := dk_180 0 125 (dk_at dksX6_isEased_1 15 rfl rfl)
theorem dX6_isEased_42 : decode cX6_isEased 42 = .ok (.iload_n 1, 1) := dk_27 (dk_at dksX6_isEased_1 18 rfl rfl)
theorem dX6_isEased_43 : decode cX6_isEased 43 = .ok (.iconst 1, 1) := dk_4 (dk_at dksX6_isEased_1 19 rfl rfl)
theorem dX6_isEased_44 : decode cX6_isEased 44 = .ok (.isub, 1) := dk_100 (dk_at dksX6_isEased_1 20 rfl rfl)
theorem dX6_isEased_45 : decode cX6_isEased 45 = .ok (.iaload, 1) := dk_46 (dk_at dksX6_isEased_1 21 rfl rfl)
theorem dX6_isEased_46 : decode cX6_isEased 46 = .ok (.invokevirtual 303, 3) := dk_182 1 47 (dk_at dksX6_isEased_2 0 rfl rfl)
theorem dX6_isEased_49 : decode cX6_isEased 49 = .ok (.if_icmp .ne 7, 3) := dk_160 0 7 (dk_at dksX6_isEased_2 3 rfl rfl)
theorem dX6_isEased_52 : decode cX6_isEased 52 = .ok (.iconst 1, 1) := dk_4 (dk_at dksX6_isEased_2 6 rfl rfl)
theorem dX6_isEased_53 : decode cX6_isEased 53 = .ok (.goto 4, 3) := dk_167 0 4 (dk_at dksX6_isEased_2 7 rfl rfl)
theorem dX6_isEased_56 : decode cX6_isEased 56 = .ok (.iconst 0, 1) := dk_3 (dk_at dksX6_isEased_2 10 rfl rfl)
theorem dX6_isEased_57 : decode cX6_isEased 57 = .ok (.ireturn, 1) := dk_172 (dk_at dksX6_isEased_2 11 rfl rfl)
abbrev cX6_holds : ByteArray := prog_16_method_103_code
def yX6_holds : MethodName := ⟨RX6, "holds", "(IIIIII)I"⟩
def dkwX6_holds_5 : List UInt8 := [104, 21, 4, 96, 46, 21, 5, 21, 6, 182, 1, 213, 167, 0, 4, 2, 172]
abbrev dktX6_holds_5 : List UInt8 := dkwX6_holds_5 ++ []
def dkwX6_holds_4 : List UInt8 := [153, 0, 39, 42, 28, 42, 180, 0, 63, 16, 12, 27, 104, 21, 4, 96, 46, 42, 180, 0, 66, 16, 12, 27]
abbrev dktX6_holds_4 : List UInt8 := dkwX6_holds_4 ++ dktX6_holds_5
def dkwX6_holds_3 : List UInt8 := [167, 0, 4, 2, 172, 29, 4, 160, 0, 56, 21, 4, 3, 42, 180, 0, 60, 27, 46, 4, 100, 184, 0, 186]
abbrev dktX6_holds_3 : List UInt8 := dkwX6_holds_3 ++ dktX6_holds_4
def dkwX6_holds_2 : List UInt8 := [153, 0, 27, 42, 28, 42, 180, 0, 54, 16, 6, 27, 104, 21, 4, 96, 46, 21, 5, 21, 6, 182, 1, 210]
abbrev dktX6_holds_2 : List UInt8 := dkwX6_holds_2 ++ dktX6_holds_3
def dkwX6_holds_1 : List UInt8 := [154, 0, 5, 2, 172, 29, 154, 0, 46, 21, 4, 3, 42, 180, 0, 51, 27, 46, 4, 100, 184, 0, 186]
abbrev dktX6_holds_1 : List UInt8 := dkwX6_holds_1 ++ dktX6_holds_2
def dkwX6_holds_0 : List UInt8 := [42, 27, 182, 1, 88, 153, 0, 22, 42, 28, 182, 1, 24, 153, 0, 14, 42, 21, 5, 21, 6, 182, 1, 207]
abbrev dktX6_holds_0 : List UInt8 := dkwX6_holds_0 ++ dktX6_holds_1
theorem dksX6_holds_0 : cX6_holds.data.toList.drop 0 = dktX6_holds_0 := by decide +kernel
theorem dksX6_holds_1 : cX6_holds.data.toList.drop 24 = dktX6_holds_1 := dk_seg dksX6_holds_0 24 rfl rfl
theorem dksX6_holds_2 : cX6_holds.data.toList.drop 47 = dktX6_holds_2 := dk_seg dksX6_holds_1 23 rfl rfl
theorem dksX6_holds_3 : cX6_holds.data.toList.drop 71 = dktX6_holds_3 := dk_seg dksX6_holds_2 24 rfl rfl
theorem dksX6_holds_4 : cX6_holds.data.toList.drop 95 = dktX6_holds_4 := dk_seg dksX6_holds_3 24 rfl rfl
theorem dksX6_holds_5 : cX6_holds.data.toList.drop 119 = dktX6_holds_5 := dk_seg dksX6_holds_4 24 rfl rfl
theorem dX6_holds_0 : decode cX6_holds 0 = .ok (.aload_n 0, 1) := dk_42 (dk_at dksX6_holds_0 0 rfl rfl)
theorem dX6_holds_1 : decode cX6_holds 1 = .ok (.iload_n 1, 1) := dk_27 (dk_at dksX6_holds_0 1 rfl rfl)
theorem dX6_holds_2 : decode cX6_holds 2 = .ok (.invokevirtual 344, 3) := dk_182 1 88 (dk_at dksX6_holds_0 2 rfl rfl)
theorem dX6_holds_5 : decode cX6_holds 5 = .ok (.ifCond .eq 22, 3) := dk_153 0 22 (dk_at dksX6_holds_0 5 rfl rfl)
theorem dX6_holds_8 : decode cX6_holds 8 = .ok (.aload_n 0, 1) := dk_42 (dk_at dksX6_holds_0 8 rfl rfl)
theorem dX6_holds_9 : decode cX6_holds 9 = .ok (.iload_n 2, 1) := dk_28 (dk_at dksX6_holds_0 9 rfl rfl)
theorem dX6_holds_10 : decode cX6_holds 10 = .ok (.invokevirtual 280, 3) := dk_182 1 24 (dk_at dksX6_holds_0 10 rfl rfl)
theorem dX6_holds_13 : decode cX6_holds 13 = .ok (.ifCond .eq 14, 3) := dk_153 0 14 (dk_at dksX6_holds_0 13 rfl rfl)
theorem dX6_holds_16 : decode cX6_holds 16 = .ok (.aload_n 0, 1) := dk_42 (dk_at dksX6_holds_0 16 rfl rfl)
theorem dX6_holds_17 : decode cX6_holds 17 = .ok (.iload 5, 2) := dk_21 5 (dk_at dksX6_holds_0 17 rfl rfl)
theorem dX6_holds_19 : decode cX6_holds 19 = .ok (.iload 6, 2) := dk_21 6 (dk_at dksX6_holds_0 19 rfl rfl)
theorem dX6_holds_21 : decode cX6_holds 21 = .ok (.invokevirtual 463, 3) := dk_182 1 207 (dk_at dksX6_holds_0 21 rfl rfl)
theorem dX6_holds_24 : decode cX6_holds 24 = .ok (.ifCond .ne 5, 3) := dk_154 0 5 (dk_at dksX6_holds_1 0 rfl rfl)
theorem dX6_holds_27 : decode cX6_holds 27 = .ok (.iconst (-1), 1) := dk_2 (dk_at dksX6_holds_1 3 rfl rfl)
theorem dX6_holds_28 : decode cX6_holds 28 = .ok (.ireturn, 1) := dk_172 (dk_at dksX6_holds_1 4 rfl rfl)
theorem dX6_holds_29 : decode cX6_holds 29 = .ok (.iload_n 3, 1) := dk_29 (dk_at dksX6_holds_1 5 rfl rfl)
theorem dX6_holds_30 : decode cX6_holds 30 = .ok (.ifCond .ne 46, 3) := dk_154 0 46 (dk_at dksX6_holds_1 6 rfl rfl)
theorem dX6_holds_33 : decode cX6_holds 33 = .ok (.iload 4, 2) := dk_21 4 (dk_at dksX6_holds_1 9 rfl rfl)
theorem dX6_holds_35 : decode cX6_holds 35 = .ok (.iconst 0, 1) := dk_3 (dk_at dksX6_holds_1 11 rfl rfl)
theorem dX6_holds_36 : decode cX6_holds 36 = .ok (.aload_n 0, 1) := dk_42 (dk_at dksX6_holds_1 12 rfl rfl)
theorem dX6_holds_37 : decode cX6_holds 37 = .ok (.getfield 51, 3) := dk_180 0 51 (dk_at dksX6_holds_1 13 rfl rfl)
theorem dX6_holds_40 : decode cX6_holds 40 = .ok (.iload_n 1, 1) := dk_27 (dk_at dksX6_holds_1 16 rfl rfl)
theorem dX6_holds_41 : decode cX6_holds 41 = .ok (.iaload, 1) := dk_46 (dk_at dksX6_holds_1 17 rfl rfl)
theorem dX6_holds_42 : decode cX6_holds 42 = .ok (.iconst 1, 1) := dk_4 (dk_at dksX6_holds_1 18 rfl rfl)
theorem dX6_holds_43 : decode cX6_holds 43 = .ok (.isub, 1) := dk_100 (dk_at dksX6_holds_1 19 rfl rfl)
theorem dX6_holds_44 : decode cX6_holds 44 = .ok (.invokestatic 186, 3) := dk_184 0 186 (dk_at dksX6_holds_1 20 rfl rfl)
theorem dX6_holds_47 : decode cX6_holds 47 = .ok (.ifCond .eq 27, 3) := dk_153 0 27 (dk_at dksX6_holds_2 0 rfl rfl)
theorem dX6_holds_50 : decode cX6_holds 50 = .ok (.aload_n 0, 1) := dk_42 (dk_at dksX6_holds_2 3 rfl rfl)
theorem dX6_holds_51 : decode cX6_holds 51 = .ok (.iload_n 2, 1) := dk_28 (dk_at dksX6_holds_2 4 rfl rfl)
theorem dX6_holds_52 : decode cX6_holds 52 = .ok (.aload_n 0, 1) := dk_42 (dk_at dksX6_holds_2 5 rfl rfl)
theorem dX6_holds_53 : decode cX6_holds 53 = .ok (.getfield 54, 3) := dk_180 0 54 (dk_at dksX6_holds_2 6 rfl rfl)
theorem dX6_holds_56 : decode cX6_holds 56 = .ok (.bipush 6, 2) := dk_16 6 (dk_at dksX6_holds_2 9 rfl rfl)
theorem dX6_holds_58 : decode cX6_holds 58 = .ok (.iload_n 1, 1) := dk_27 (dk_at dksX6_holds_2 11 rfl rfl)
theorem dX6_holds_59 : decode cX6_holds 59 = .ok (.imul, 1) := dk_104 (dk_at dksX6_holds_2 12 rfl rfl)
theorem dX6_holds_60 : decode cX6_holds 60 = .ok (.iload 4, 2) := dk_21 4 (dk_at dksX6_holds_2 13 rfl rfl)
theorem dX6_holds_62 : decode cX6_holds 62 = .ok (.iadd, 1) := dk_96 (dk_at dksX6_holds_2 15 rfl rfl)
theorem dX6_holds_63 : decode cX6_holds 63 = .ok (.iaload, 1) := dk_46 (dk_at dksX6_holds_2 16 rfl rfl)
theorem dX6_holds_64 : decode cX6_holds 64 = .ok (.iload 5, 2) := dk_21 5 (dk_at dksX6_holds_2 17 rfl rfl)
theorem dX6_holds_66 : decode cX6_holds 66 = .ok (.iload 6, 2) := dk_21 6 (dk_at dksX6_holds_2 19 rfl rfl)
theorem dX6_holds_68 : decode cX6_holds 68 = .ok (.invokevirtual 466, 3) := dk_182 1 210 (dk_at dksX6_holds_2 21 rfl rfl)
theorem dX6_holds_71 : decode cX6_holds 71 = .ok (.goto 4, 3) := dk_167 0 4 (dk_at dksX6_holds_3 0 rfl rfl)
theorem dX6_holds_74 : decode cX6_holds 74 = .ok (.iconst (-1), 1) := dk_2 (dk_at dksX6_holds_3 3 rfl rfl)
theorem dX6_holds_75 : decode cX6_holds 75 = .ok (.ireturn, 1) := dk_172 (dk_at dksX6_holds_3 4 rfl rfl)
theorem dX6_holds_76 : decode cX6_holds 76 = .ok (.iload_n 3, 1) := dk_29 (dk_at dksX6_holds_3 5 rfl rfl)
theorem dX6_holds_77 : decode cX6_holds 77 = .ok (.iconst 1, 1) := dk_4 (dk_at dksX6_holds_3 6 rfl rfl)
theorem dX6_holds_78 : decode cX6_holds 78 = .ok (.if_icmp .ne 56, 3) := dk_160 0 56 (dk_at dksX6_holds_3 7 rfl rfl)
theorem dX6_holds_81 : decode cX6_holds 81 = .ok (.iload 4, 2) := dk_21 4 (dk_at dksX6_holds_3 10 rfl rfl)
theorem dX6_holds_83 : decode cX6_holds 83 = .ok (.iconst 0, 1) := dk_3 (dk_at dksX6_holds_3 12 rfl rfl)
theorem dX6_holds_84 : decode cX6_holds 84 = .ok (.aload_n 0, 1) := dk_42 (dk_at dksX6_holds_3 13 rfl rfl)
theorem dX6_holds_85 : decode cX6_holds 85 = .ok (.getfield 60, 3) := dk_180 0 60 (dk_at dksX6_holds_3 14 rfl rfl)
theorem dX6_holds_88 : decode cX6_holds 88 = .ok (.iload_n 1, 1) := dk_27 (dk_at dksX6_holds_3 17 rfl rfl)
theorem dX6_holds_89 : decode cX6_holds 89 = .ok (.iaload, 1) := dk_46 (dk_at dksX6_holds_3 18 rfl rfl)
theorem dX6_holds_90 : decode cX6_holds 90 = .ok (.iconst 1, 1) := dk_4 (dk_at dksX6_holds_3 19 rfl rfl)
theorem dX6_holds_91 : decode cX6_holds 91 = .ok (.isub, 1) := dk_100 (dk_at dksX6_holds_3 20 rfl rfl)
theorem dX6_holds_92 : decode cX6_holds 92 = .ok (.invokestatic 186, 3) := dk_184 0 186 (dk_at dksX6_holds_3 21 rfl rfl)
theorem dX6_holds_95 : decode cX6_holds 95 = .ok (.ifCond .eq 39, 3) := dk_153 0 39 (dk_at dksX6_holds_4 0 rfl rfl)
theorem dX6_holds_98 : decode cX6_holds 98 = .ok (.aload_n 0, 1) := dk_42 (dk_at dksX6_holds_4 3 rfl rfl)
theorem dX6_holds_99 : decode cX6_holds 99 = .ok (.iload_n 2, 1) := dk_28 (dk_at dksX6_holds_4 4 rfl rfl)
theorem dX6_holds_100 : decode cX6_holds 100 = .ok (.aload_n 0, 1) := dk_42 (dk_at dksX6_holds_4 5 rfl rfl)
theorem dX6_holds_101 : decode cX6_holds 101 = .ok (.getfield 63, 3) := dk_180 0 63 (dk_at dksX6_holds_4 6 rfl rfl)
theorem dX6_holds_104 : decode cX6_holds 104 = .ok (.bipush 12, 2) := dk_16 12 (dk_at dksX6_holds_4 9 rfl rfl)
theorem dX6_holds_106 : decode cX6_holds 106 = .ok (.iload_n 1, 1) := dk_27 (dk_at dksX6_holds_4 11 rfl rfl)
theorem dX6_holds_107 : decode cX6_holds 107 = .ok (.imul, 1) := dk_104 (dk_at dksX6_holds_4 12 rfl rfl)
theorem dX6_holds_108 : decode cX6_holds 108 = .ok (.iload 4, 2) := dk_21 4 (dk_at dksX6_holds_4 13 rfl rfl)
theorem dX6_holds_110 : decode cX6_holds 110 = .ok (.iadd, 1) := dk_96 (dk_at dksX6_holds_4 15 rfl rfl)
theorem dX6_holds_111 : decode cX6_holds 111 = .ok (.iaload, 1) := dk_46 (dk_at dksX6_holds_4 16 rfl rfl)
theorem dX6_holds_112 : decode cX6_holds 112 = .ok (.aload_n 0, 1) := dk_42 (dk_at dksX6_holds_4 17 rfl rfl)
theorem dX6_holds_113 : decode cX6_holds 113 = .ok (.getfield 66, 3) := dk_180 0 66 (dk_at dksX6_holds_4 18 rfl rfl)
theorem dX6_holds_116 : decode cX6_holds 116 = .ok (.bipush 12, 2) := dk_16 12 (dk_at dksX6_holds_4 21 rfl rfl)
theorem dX6_holds_118 : decode cX6_holds 118 = .ok (.iload_n 1, 1) := dk_27 (dk_at dksX6_holds_4 23 rfl rfl)
theorem dX6_holds_119 : decode cX6_holds 119 = .ok (.imul, 1) := dk_104 (dk_at dksX6_holds_5 0 rfl rfl)
theorem dX6_holds_120 : decode cX6_holds 120 = .ok (.iload 4, 2) := dk_21 4 (dk_at dksX6_holds_5 1 rfl rfl)
theorem dX6_holds_122 : decode cX6_holds 122 = .ok (.iadd, 1) := dk_96 (dk_at dksX6_holds_5 3 rfl rfl)
theorem dX6_holds_123 : decode cX6_holds 123 = .ok (.iaload, 1) := dk_46 (dk_at dksX6_holds_5 4 rfl rfl)
theorem dX6_holds_124 : decode cX6_holds 124 = .ok (.iload 5, 2) := dk_21 5 (dk_at dksX6_holds_5 5 rfl rfl)
theorem dX6_holds_126 : decode cX6_holds 126 = .ok (.iload 6, 2) := dk_21 6 (dk_at dksX6_holds_5 7 rfl rfl)
theorem dX6_holds_128 : decode cX6_holds 128 = .ok (.invokevirtual 469, 3) := dk_182 1 213 (dk_at dksX6_holds_5 9 rfl rfl)
theorem dX6_holds_131 : decode cX6_holds 131 = .ok (.goto 4, 3) := dk_167 0 4 (dk_at dksX6_holds_5 12 rfl rfl)
theorem dX6_holds_134 : decode cX6_holds 134 = .ok (.iconst (-1), 1) := dk_2 (dk_at dksX6_holds_5 15 rfl rfl)
theorem dX6_holds_135 : decode cX6_holds 135 = .ok (.ireturn, 1) := dk_172 (dk_at dksX6_holds_5 16 rfl rfl)
abbrev cX6_areYears : ByteArray := prog_16_method_102_code
def yX6_areYears : MethodName := ⟨RX6, "areYears", "(II)Z"⟩
def dkwX6_areYears_1 : List UInt8 := [167, 0, 4, 3, 172]
abbrev dktX6_areYears_1 : List UInt8 := dkwX6_areYears_1 ++ []
def dkwX6_areYears_0 : List UInt8 := [27, 4, 17, 39, 15, 184, 0, 186, 153, 0, 18, 28, 27, 17, 39, 15, 184, 0, 186, 153, 0, 7, 4]
abbrev dktX6_areYears_0 : List UInt8 := dkwX6_areYears_0 ++ dktX6_areYears_1
theorem dksX6_areYears_0 : cX6_areYears.data.toList.drop 0 = dktX6_areYears_0 := by decide +kernel
theorem dksX6_areYears_1 : cX6_areYears.data.toList.drop 23 = dktX6_areYears_1 := dk_seg dksX6_areYears_0 23 rfl rfl
theorem dX6_areYears_0 : decode cX6_areYears 0 = .ok (.iload_n 1, 1) := dk_27 (dk_at dksX6_areYears_0 0 rfl rfl)
theorem dX6_areYears_1 : decode cX6_areYears 1 = .ok (.iconst 1, 1) := dk_4 (dk_at dksX6_areYears_0 1 rfl rfl)
theorem dX6_areYears_2 : decode cX6_areYears 2 = .ok (.sipush 9999, 3) := dk_17 39 15 (dk_at dksX6_areYears_0 2 rfl rfl)
theorem dX6_areYears_5 : decode cX6_areYears 5 = .ok (.invokestatic 186, 3) := dk_184 0 186 (dk_at dksX6_areYears_0 5 rfl rfl)
theorem dX6_areYears_8 : decode cX6_areYears 8 = .ok (.ifCond .eq 18, 3) := dk_153 0 18 (dk_at dksX6_areYears_0 8 rfl rfl)
theorem dX6_areYears_11 : decode cX6_areYears 11 = .ok (.iload_n 2, 1) := dk_28 (dk_at dksX6_areYears_0 11 rfl rfl)
theorem dX6_areYears_12 : decode cX6_areYears 12 = .ok (.iload_n 1, 1) := dk_27 (dk_at dksX6_areYears_0 12 rfl rfl)
theorem dX6_areYears_13 : decode cX6_areYears 13 = .ok (.sipush 9999, 3) := dk_17 39 15 (dk_at dksX6_areYears_0 13 rfl rfl)
theorem dX6_areYears_16 : decode cX6_areYears 16 = .ok (.invokestatic 186, 3) := dk_184 0 186 (dk_at dksX6_areYears_0 16 rfl rfl)
theorem dX6_areYears_19 : decode cX6_areYears 19 = .ok (.ifCond .eq 7, 3) := dk_153 0 7 (dk_at dksX6_areYears_0 19 rfl rfl)
theorem dX6_areYears_22 : decode cX6_areYears 22 = .ok (.iconst 1, 1) := dk_4 (dk_at dksX6_areYears_0 22 rfl rfl)
theorem dX6_areYears_23 : decode cX6_areYears 23 = .ok (.goto 4, 3) := dk_167 0 4 (dk_at dksX6_areYears_1 0 rfl rfl)
theorem dX6_areYears_26 : decode cX6_areYears 26 = .ok (.iconst 0, 1) := dk_3 (dk_at dksX6_areYears_1 3 rfl rfl)
theorem dX6_areYears_27 : decode cX6_areYears 27 = .ok (.ireturn, 1) := dk_172 (dk_at dksX6_areYears_1 4 rfl rfl)
abbrev cX6_stepTrue : ByteArray := prog_16_method_104_code
def yX6_stepTrue : MethodName := ⟨RX6, "stepTrue", "(IIII)I"⟩
def dkwX6_stepTrue_2 : List UInt8 := [167, 0, 4, 3, 96, 54, 5, 132, 6, 1, 167, 255, 205, 21, 5, 172]
abbrev dktX6_stepTrue_2 : List UInt8 := dkwX6_stepTrue_2 ++ []
def dkwX6_stepTrue_1 : List UInt8 := [21, 5, 21, 7, 2, 159, 0, 21, 21, 7, 42, 27, 21, 6, 28, 96, 182, 1, 47, 160, 0, 7, 4]
abbrev dktX6_stepTrue_1 : List UInt8 := dkwX6_stepTrue_1 ++ dktX6_stepTrue_2
def dkwX6_stepTrue_0 : List UInt8 := [3, 54, 5, 29, 54, 6, 21, 6, 28, 96, 21, 4, 163, 0, 48, 42, 27, 21, 6, 182, 1, 47, 54, 7]
abbrev dktX6_stepTrue_0 : List UInt8 := dkwX6_stepTrue_0 ++ dktX6_stepTrue_1
theorem dksX6_stepTrue_0 : cX6_stepTrue.data.toList.drop 0 = dktX6_stepTrue_0 := by decide +kernel
theorem dksX6_stepTrue_1 : cX6_stepTrue.data.toList.drop 24 = dktX6_stepTrue_1 := dk_seg dksX6_stepTrue_0 24 rfl rfl
theorem dksX6_stepTrue_2 : cX6_stepTrue.data.toList.drop 47 = dktX6_stepTrue_2 := dk_seg dksX6_stepTrue_1 23 rfl rfl
theorem dX6_stepTrue_0 : decode cX6_stepTrue 0 = .ok (.iconst 0, 1) := dk_3 (dk_at dksX6_stepTrue_0 0 rfl rfl)
theorem dX6_stepTrue_1 : decode cX6_stepTrue 1 = .ok (.istore 5, 2) := dk_54 5 (dk_at dksX6_stepTrue_0 1 rfl rfl)
theorem dX6_stepTrue_3 : decode cX6_stepTrue 3 = .ok (.iload_n 3, 1) := dk_29 (dk_at dksX6_stepTrue_0 3 rfl rfl)
theorem dX6_stepTrue_4 : decode cX6_stepTrue 4 = .ok (.istore 6, 2) := dk_54 6 (dk_at dksX6_stepTrue_0 4 rfl rfl)
theorem dX6_stepTrue_6 : decode cX6_stepTrue 6 = .ok (.iload 6, 2) := dk_21 6 (dk_at dksX6_stepTrue_0 6 rfl rfl)
theorem dX6_stepTrue_8 : decode cX6_stepTrue 8 = .ok (.iload_n 2, 1) := dk_28 (dk_at dksX6_stepTrue_0 8 rfl rfl)
theorem dX6_stepTrue_9 : decode cX6_stepTrue 9 = .ok (.iadd, 1) := dk_96 (dk_at dksX6_stepTrue_0 9 rfl rfl)
theorem dX6_stepTrue_10 : decode cX6_stepTrue 10 = .ok (.iload 4, 2) := dk_21 4 (dk_at dksX6_stepTrue_0 10 rfl rfl)
theorem dX6_stepTrue_12 : decode cX6_stepTrue 12 = .ok (.if_icmp .gt 48, 3) := dk_163 0 48 (dk_at dksX6_stepTrue_0 12 rfl rfl)
theorem dX6_stepTrue_15 : decode cX6_stepTrue 15 = .ok (.aload_n 0, 1) := dk_42 (dk_at dksX6_stepTrue_0 15 rfl rfl)
theorem dX6_stepTrue_16 : decode cX6_stepTrue 16 = .ok (.iload_n 1, 1) := dk_27 (dk_at dksX6_stepTrue_0 16 rfl rfl)
theorem dX6_stepTrue_17 : decode cX6_stepTrue 17 = .ok (.iload 6, 2) := dk_21 6 (dk_at dksX6_stepTrue_0 17 rfl rfl)
theorem dX6_stepTrue_19 : decode cX6_stepTrue 19 = .ok (.invokevirtual 303, 3) := dk_182 1 47 (dk_at dksX6_stepTrue_0 19 rfl rfl)
theorem dX6_stepTrue_22 : decode cX6_stepTrue 22 = .ok (.istore 7, 2) := dk_54 7 (dk_at dksX6_stepTrue_0 22 rfl rfl)
theorem dX6_stepTrue_24 : decode cX6_stepTrue 24 = .ok (.iload 5, 2) := dk_21 5 (dk_at dksX6_stepTrue_1 0 rfl rfl)
theorem dX6_stepTrue_26 : decode cX6_stepTrue 26 = .ok (.iload 7, 2) := dk_21 7 (dk_at dksX6_stepTrue_1 2 rfl rfl)
theorem dX6_stepTrue_28 : decode cX6_stepTrue 28 = .ok (.iconst (-1), 1) := dk_2 (dk_at dksX6_stepTrue_1 4 rfl rfl)
theorem dX6_stepTrue_29 : decode cX6_stepTrue 29 = .ok (.if_icmp .eq 21, 3) := dk_159 0 21 (dk_at dksX6_stepTrue_1 5 rfl rfl)
theorem dX6_stepTrue_32 : decode cX6_stepTrue 32 = .ok (.iload 7, 2) := dk_21 7 (dk_at dksX6_stepTrue_1 8 rfl rfl)
theorem dX6_stepTrue_34 : decode cX6_stepTrue 34 = .ok (.aload_n 0, 1) := dk_42 (dk_at dksX6_stepTrue_1 10 rfl rfl)
theorem dX6_stepTrue_35 : decode cX6_stepTrue 35 = .ok (.iload_n 1, 1) := dk_27 (dk_at dksX6_stepTrue_1 11 rfl rfl)
theorem dX6_stepTrue_36 : decode cX6_stepTrue 36 = .ok (.iload 6, 2) := dk_21 6 (dk_at dksX6_stepTrue_1 12 rfl rfl)
theorem dX6_stepTrue_38 : decode cX6_stepTrue 38 = .ok (.iload_n 2, 1) := dk_28 (dk_at dksX6_stepTrue_1 14 rfl rfl)
theorem dX6_stepTrue_39 : decode cX6_stepTrue 39 = .ok (.iadd, 1) := dk_96 (dk_at dksX6_stepTrue_1 15 rfl rfl)
theorem dX6_stepTrue_40 : decode cX6_stepTrue 40 = .ok (.invokevirtual 303, 3) := dk_182 1 47 (dk_at dksX6_stepTrue_1 16 rfl rfl)
theorem dX6_stepTrue_43 : decode cX6_stepTrue 43 = .ok (.if_icmp .ne 7, 3) := dk_160 0 7 (dk_at dksX6_stepTrue_1 19 rfl rfl)
theorem dX6_stepTrue_46 : decode cX6_stepTrue 46 = .ok (.iconst 1, 1) := dk_4 (dk_at dksX6_stepTrue_1 22 rfl rfl)
theorem dX6_stepTrue_47 : decode cX6_stepTrue 47 = .ok (.goto 4, 3) := dk_167 0 4 (dk_at dksX6_stepTrue_2 0 rfl rfl)
theorem dX6_stepTrue_50 : decode cX6_stepTrue 50 = .ok (.iconst 0, 1) := dk_3 (dk_at dksX6_stepTrue_2 3 rfl rfl)
theorem dX6_stepTrue_51 : decode cX6_stepTrue 51 = .ok (.iadd, 1) := dk_96 (dk_at dksX6_stepTrue_2 4 rfl rfl)
theorem dX6_stepTrue_52 : decode cX6_stepTrue 52 = .ok (.istore 5, 2) := dk_54 5 (dk_at dksX6_stepTrue_2 5 rfl rfl)
theorem dX6_stepTrue_54 : decode cX6_stepTrue 54 = .ok (.iinc 6 1, 3) := dk_132 6 1 (dk_at dksX6_stepTrue_2 7 rfl rfl)
theorem dX6_stepTrue_57 : decode cX6_stepTrue 57 = .ok (.goto (-51), 3) := dk_167 255 205 (dk_at dksX6_stepTrue_2 10 rfl rfl)
theorem dX6_stepTrue_60 : decode cX6_stepTrue 60 = .ok (.iload 5, 2) := dk_21 5 (dk_at dksX6_stepTrue_2 13 rfl rfl)
theorem dX6_stepTrue_62 : decode cX6_stepTrue 62 = .ok (.ireturn, 1) := dk_172 (dk_at dksX6_stepTrue_2 15 rfl rfl)
abbrev cX6_monthsTrue : ByteArray := prog_16_method_105_code
def yX6_monthsTrue : MethodName := ⟨RX6, "monthsTrue", "(IIIII)I"⟩
def dkwX6_monthsTrue_3 : List UInt8 := [167, 0, 4, 3, 96, 54, 6, 132, 7, 1, 167, 255, 185, 21, 6, 172]
abbrev dktX6_monthsTrue_3 : List UInt8 := dkwX6_monthsTrue_3 ++ []
def dkwX6_monthsTrue_2 : List UInt8 := [182, 1, 35, 16, 7, 112, 42, 27, 21, 7, 29, 4, 182, 1, 35, 16, 7, 112, 160, 0, 7, 4]
abbrev dktX6_monthsTrue_2 : List UInt8 := dkwX6_monthsTrue_2 ++ dktX6_monthsTrue_3
def dkwX6_monthsTrue_1 : List UInt8 := [182, 1, 31, 153, 0, 46, 42, 27, 21, 7, 29, 4, 182, 1, 31, 153, 0, 34, 42, 27, 21, 7, 28, 4]
abbrev dktX6_monthsTrue_1 : List UInt8 := dkwX6_monthsTrue_1 ++ dktX6_monthsTrue_2
def dkwX6_monthsTrue_0 : List UInt8 := [3, 54, 6, 21, 4, 54, 7, 21, 7, 21, 5, 163, 0, 70, 21, 6, 42, 27, 21, 7, 28, 4]
abbrev dktX6_monthsTrue_0 : List UInt8 := dkwX6_monthsTrue_0 ++ dktX6_monthsTrue_1
theorem dksX6_monthsTrue_0 : cX6_monthsTrue.data.toList.drop 0 = dktX6_monthsTrue_0 := by decide +kernel
theorem dksX6_monthsTrue_1 : cX6_monthsTrue.data.toList.drop 22 = dktX6_monthsTrue_1 := dk_seg dksX6_monthsTrue_0 22 rfl rfl
theorem dksX6_monthsTrue_2 : cX6_monthsTrue.data.toList.drop 46 = dktX6_monthsTrue_2 := dk_seg dksX6_monthsTrue_1 24 rfl rfl
theorem dksX6_monthsTrue_3 : cX6_monthsTrue.data.toList.drop 68 = dktX6_monthsTrue_3 := dk_seg dksX6_monthsTrue_2 22 rfl rfl
theorem dX6_monthsTrue_0 : decode cX6_monthsTrue 0 = .ok (.iconst 0, 1) := dk_3 (dk_at dksX6_monthsTrue_0 0 rfl rfl)
theorem dX6_monthsTrue_1 : decode cX6_monthsTrue 1 = .ok (.istore 6, 2) := dk_54 6 (dk_at dksX6_monthsTrue_0 1 rfl rfl)
theorem dX6_monthsTrue_3 : decode cX6_monthsTrue 3 = .ok (.iload 4, 2) := dk_21 4 (dk_at dksX6_monthsTrue_0 3 rfl rfl)
theorem dX6_monthsTrue_5 : decode cX6_monthsTrue 5 = .ok (.istore 7, 2) := dk_54 7 (dk_at dksX6_monthsTrue_0 5 rfl rfl)
theorem dX6_monthsTrue_7 : decode cX6_monthsTrue 7 = .ok (.iload 7, 2) := dk_21 7 (dk_at dksX6_monthsTrue_0 7 rfl rfl)
theorem dX6_monthsTrue_9 : decode cX6_monthsTrue 9 = .ok (.iload 5, 2) := dk_21 5 (dk_at dksX6_monthsTrue_0 9 rfl rfl)
theorem dX6_monthsTrue_11 : decode cX6_monthsTrue 11 = .ok (.if_icmp .gt 70, 3) := dk_163 0 70 (dk_at dksX6_monthsTrue_0 11 rfl rfl)
theorem dX6_monthsTrue_14 : decode cX6_monthsTrue 14 = .ok (.iload 6, 2) := dk_21 6 (dk_at dksX6_monthsTrue_0 14 rfl rfl)
theorem dX6_monthsTrue_16 : decode cX6_monthsTrue 16 = .ok (.aload_n 0, 1) := dk_42 (dk_at dksX6_monthsTrue_0 16 rfl rfl)
theorem dX6_monthsTrue_17 : decode cX6_monthsTrue 17 = .ok (.iload_n 1, 1) := dk_27 (dk_at dksX6_monthsTrue_0 17 rfl rfl)
theorem dX6_monthsTrue_18 : decode cX6_monthsTrue 18 = .ok (.iload 7, 2) := dk_21 7 (dk_at dksX6_monthsTrue_0 18 rfl rfl)
theorem dX6_monthsTrue_20 : decode cX6_monthsTrue 20 = .ok (.iload_n 2, 1) := dk_28 (dk_at dksX6_monthsTrue_0 20 rfl rfl)
theorem dX6_monthsTrue_21 : decode cX6_monthsTrue 21 = .ok (.iconst 1, 1) := dk_4 (dk_at dksX6_monthsTrue_0 21 rfl rfl)
theorem dX6_monthsTrue_22 : decode cX6_monthsTrue 22 = .ok (.invokevirtual 287, 3) := dk_182 1 31 (dk_at dksX6_monthsTrue_1 0 rfl rfl)
theorem dX6_monthsTrue_25 : decode cX6_monthsTrue 25 = .ok (.ifCond .eq 46, 3) := dk_153 0 46 (dk_at dksX6_monthsTrue_1 3 rfl rfl)
theorem dX6_monthsTrue_28 : decode cX6_monthsTrue 28 = .ok (.aload_n 0, 1) := dk_42 (dk_at dksX6_monthsTrue_1 6 rfl rfl)
theorem dX6_monthsTrue_29 : decode cX6_monthsTrue 29 = .ok (.iload_n 1, 1) := dk_27 (dk_at dksX6_monthsTrue_1 7 rfl rfl)
theorem dX6_monthsTrue_30 : decode cX6_monthsTrue 30 = .ok (.iload 7, 2) := dk_21 7 (dk_at dksX6_monthsTrue_1 8 rfl rfl)
theorem dX6_monthsTrue_32 : decode cX6_monthsTrue 32 = .ok (.iload_n 3, 1) := dk_29 (dk_at dksX6_monthsTrue_1 10 rfl rfl)
theorem dX6_monthsTrue_33 : decode cX6_monthsTrue 33 = .ok (.iconst 1, 1) := dk_4 (dk_at dksX6_monthsTrue_1 11 rfl rfl)
theorem dX6_monthsTrue_34 : decode cX6_monthsTrue 34 = .ok (.invokevirtual 287, 3) := dk_182 1 31 (dk_at dksX6_monthsTrue_1 12 rfl rfl)
theorem dX6_monthsTrue_37 : decode cX6_monthsTrue 37 = .ok (.ifCond .eq 34, 3) := dk_153 0 34 (dk_at dksX6_monthsTrue_1 15 rfl rfl)
theorem dX6_monthsTrue_40 : decode cX6_monthsTrue 40 = .ok (.aload_n 0, 1) := dk_42 (dk_at dksX6_monthsTrue_1 18 rfl rfl)
theorem dX6_monthsTrue_41 : decode cX6_monthsTrue 41 = .ok (.iload_n 1, 1) := dk_27 (dk_at dksX6_monthsTrue_1 19 rfl rfl)
theorem dX6_monthsTrue_42 : decode cX6_monthsTrue 42 = .ok (.iload 7, 2) := dk_21 7 (dk_at dksX6_monthsTrue_1 20 rfl rfl)
theorem dX6_monthsTrue_44 : decode cX6_monthsTrue 44 = .ok (.iload_n 2, 1) := dk_28 (dk_at dksX6_monthsTrue_1 22 rfl rfl)
theorem dX6_monthsTrue_45 : decode cX6_monthsTrue 45 = .ok (.iconst 1, 1) := dk_4 (dk_at dksX6_monthsTrue_1 23 rfl rfl)
theorem dX6_monthsTrue_46 : decode cX6_monthsTrue 46 = .ok (.invokevirtual 291, 3) := dk_182 1 35 (dk_at dksX6_monthsTrue_2 0 rfl rfl)
theorem dX6_monthsTrue_49 : decode cX6_monthsTrue 49 = .ok (.bipush 7, 2) := dk_16 7 (dk_at dksX6_monthsTrue_2 3 rfl rfl)
theorem dX6_monthsTrue_51 : decode cX6_monthsTrue 51 = .ok (.irem, 1) := dk_112 (dk_at dksX6_monthsTrue_2 5 rfl rfl)
theorem dX6_monthsTrue_52 : decode cX6_monthsTrue 52 = .ok (.aload_n 0, 1) := dk_42 (dk_at dksX6_monthsTrue_2 6 rfl rfl)
theorem dX6_monthsTrue_53 : decode cX6_monthsTrue 53 = .ok (.iload_n 1, 1) := dk_27 (dk_at dksX6_monthsTrue_2 7 rfl rfl)
theorem dX6_monthsTrue_54 : decode cX6_monthsTrue 54 = .ok (.iload 7, 2) := dk_21 7 (dk_at dksX6_monthsTrue_2 8 rfl rfl)
theorem dX6_monthsTrue_56 : decode cX6_monthsTrue 56 = .ok (.iload_n 3, 1) := dk_29 (dk_at dksX6_monthsTrue_2 10 rfl rfl)
theorem dX6_monthsTrue_57 : decode cX6_monthsTrue 57 = .ok (.iconst 1, 1) := dk_4 (dk_at dksX6_monthsTrue_2 11 rfl rfl)
theorem dX6_monthsTrue_58 : decode cX6_monthsTrue 58 = .ok (.invokevirtual 291, 3) := dk_182 1 35 (dk_at dksX6_monthsTrue_2 12 rfl rfl)
theorem dX6_monthsTrue_61 : decode cX6_monthsTrue 61 = .ok (.bipush 7, 2) := dk_16 7 (dk_at dksX6_monthsTrue_2 15 rfl rfl)
theorem dX6_monthsTrue_63 : decode cX6_monthsTrue 63 = .ok (.irem, 1) := dk_112 (dk_at dksX6_monthsTrue_2 17 rfl rfl)
theorem dX6_monthsTrue_64 : decode cX6_monthsTrue 64 = .ok (.if_icmp .ne 7, 3) := dk_160 0 7 (dk_at dksX6_monthsTrue_2 18 rfl rfl)
theorem dX6_monthsTrue_67 : decode cX6_monthsTrue 67 = .ok (.iconst 1, 1) := dk_4 (dk_at dksX6_monthsTrue_2 21 rfl rfl)
theorem dX6_monthsTrue_68 : decode cX6_monthsTrue 68 = .ok (.goto 4, 3) := dk_167 0 4 (dk_at dksX6_monthsTrue_3 0 rfl rfl)
theorem dX6_monthsTrue_71 : decode cX6_monthsTrue 71 = .ok (.iconst 0, 1) := dk_3 (dk_at dksX6_monthsTrue_3 3 rfl rfl)
theorem dX6_monthsTrue_72 : decode cX6_monthsTrue 72 = .ok (.iadd, 1) := dk_96 (dk_at dksX6_monthsTrue_3 4 rfl rfl)
theorem dX6_monthsTrue_73 : decode cX6_monthsTrue 73 = .ok (.istore 6, 2) := dk_54 6 (dk_at dksX6_monthsTrue_3 5 rfl rfl)
theorem dX6_monthsTrue_75 : decode cX6_monthsTrue 75 = .ok (.iinc 7 1, 3) := dk_132 7 1 (dk_at dksX6_monthsTrue_3 7 rfl rfl)
theorem dX6_monthsTrue_78 : decode cX6_monthsTrue 78 = .ok (.goto (-71), 3) := dk_167 255 185 (dk_at dksX6_monthsTrue_3 10 rfl rfl)
theorem dX6_monthsTrue_81 : decode cX6_monthsTrue 81 = .ok (.iload 6, 2) := dk_21 6 (dk_at dksX6_monthsTrue_3 13 rfl rfl)
theorem dX6_monthsTrue_83 : decode cX6_monthsTrue 83 = .ok (.ireturn, 1) := dk_172 (dk_at dksX6_monthsTrue_3 15 rfl rfl)
abbrev cX6_right : ByteArray := prog_16_method_106_code
def yX6_right : MethodName := ⟨RX6, "right", "(IIII)I"⟩
def dkwX6_right_7 : List UInt8 := [21, 5, 172]
abbrev dktX6_right_7 : List UInt8 := dkwX6_right_7 ++ []
def dkwX6_right_6 : List UInt8 := [160, 0, 7, 4, 167, 0, 4, 3, 96, 54, 5, 132, 7, 1, 167, 255, 158, 132, 6, 1, 167, 255, 142]
abbrev dktX6_right_6 : List UInt8 := dkwX6_right_6 ++ dktX6_right_7
def dkwX6_right_5 : List UInt8 := [100, 184, 1, 104, 154, 0, 7, 4, 167, 0, 4, 3, 21, 4, 154, 0, 7, 4, 167, 0, 4, 3]
abbrev dktX6_right_5 : List UInt8 := dkwX6_right_5 ++ dktX6_right_6
def dkwX6_right_4 : List UInt8 := [3, 54, 8, 21, 5, 21, 8, 153, 0, 46, 42, 180, 1, 94, 42, 28, 29, 21, 6, 21, 7, 182, 1, 35]
abbrev dktX6_right_4 : List UInt8 := dkwX6_right_4 ++ dktX6_right_5
def dkwX6_right_3 : List UInt8 := [182, 1, 31, 153, 0, 21, 42, 27, 28, 29, 21, 6, 21, 7, 182, 1, 100, 153, 0, 7, 4, 167, 0, 4]
abbrev dktX6_right_3 : List UInt8 := dkwX6_right_3 ++ dktX6_right_4
def dkwX6_right_2 : List UInt8 := [16, 12, 163, 0, 113, 4, 54, 7, 21, 7, 16, 31, 163, 0, 97, 42, 28, 29, 21, 6, 21, 7]
abbrev dktX6_right_2 : List UInt8 := dkwX6_right_2 ++ dktX6_right_3
def dkwX6_right_1 : List UInt8 := [153, 0, 13, 21, 4, 3, 4, 184, 0, 186, 154, 0, 5, 2, 172, 3, 54, 5, 4, 54, 6, 21, 6]
abbrev dktX6_right_1 : List UInt8 := dkwX6_right_1 ++ dktX6_right_2
def dkwX6_right_0 : List UInt8 := [42, 27, 182, 1, 88, 153, 0, 32, 42, 28, 182, 1, 24, 153, 0, 24, 29, 4, 17, 39, 15, 184, 0, 186]
abbrev dktX6_right_0 : List UInt8 := dkwX6_right_0 ++ dktX6_right_1
theorem dksX6_right_0 : cX6_right.data.toList.drop 0 = dktX6_right_0 := by decide +kernel
theorem dksX6_right_1 : cX6_right.data.toList.drop 24 = dktX6_right_1 := dk_seg dksX6_right_0 24 rfl rfl
theorem dksX6_right_2 : cX6_right.data.toList.drop 47 = dktX6_right_2 := dk_seg dksX6_right_1 23 rfl rfl
theorem dksX6_right_3 : cX6_right.data.toList.drop 69 = dktX6_right_3 := dk_seg dksX6_right_2 22 rfl rfl
theorem dksX6_right_4 : cX6_right.data.toList.drop 93 = dktX6_right_4 := dk_seg dksX6_right_3 24 rfl rfl
theorem dksX6_right_5 : cX6_right.data.toList.drop 117 = dktX6_right_5 := dk_seg dksX6_right_4 24 rfl rfl
theorem dksX6_right_6 : cX6_right.data.toList.drop 139 = dktX6_right_6 := dk_seg dksX6_right_5 22 rfl rfl
theorem dksX6_right_7 : cX6_right.data.toList.drop 162 = dktX6_right_7 := dk_seg dksX6_right_6 23 rfl rfl
theorem dX6_right_0 : decode cX6_right 0 = .ok (.aload_n 0, 1) := dk_42 (dk_at dksX6_right_0 0 rfl rfl)
theorem dX6_right_1 : decode cX6_right 1 = .ok (.iload_n 1, 1) := dk_27 (dk_at dksX6_right_0 1 rfl rfl)
theorem dX6_right_2 : decode cX6_right 2 = .ok (.invokevirtual 344, 3) := dk_182 1 88 (dk_at dksX6_right_0 2 rfl rfl)
theorem dX6_right_5 : decode cX6_right 5 = .ok (.ifCond .eq 32, 3) := dk_153 0 32 (dk_at dksX6_right_0 5 rfl rfl)
theorem dX6_right_8 : decode cX6_right 8 = .ok (.aload_n 0, 1) := dk_42 (dk_at dksX6_right_0 8 rfl rfl)
theorem dX6_right_9 : decode cX6_right 9 = .ok (.iload_n 2, 1) := dk_28 (dk_at dksX6_right_0 9 rfl rfl)
theorem dX6_right_10 : decode cX6_right 10 = .ok (.invokevirtual 280, 3) := dk_182 1 24 (dk_at dksX6_right_0 10 rfl rfl)
theorem dX6_right_13 : decode cX6_right 13 = .ok (.ifCond .eq 24, 3) := dk_153 0 24 (dk_at dksX6_right_0 13 rfl rfl)
theorem dX6_right_16 : decode cX6_right 16 = .ok (.iload_n 3, 1) := dk_29 (dk_at dksX6_right_0 16 rfl rfl)
theorem dX6_right_17 : decode cX6_right 17 = .ok (.iconst 1, 1) := dk_4 (dk_at dksX6_right_0 17 rfl rfl)
theorem dX6_right_18 : decode cX6_right 18 = .ok (.sipush 9999, 3) := dk_17 39 15 (dk_at dksX6_right_0 18 rfl rfl)
theorem dX6_right_21 : decode cX6_right 21 = .ok (.invokestatic 186, 3) := dk_184 0 186 (dk_at dksX6_right_0 21 rfl rfl)
theorem dX6_right_24 : decode cX6_right 24 = .ok (.ifCond .eq 13, 3) := dk_153 0 13 (dk_at dksX6_right_1 0 rfl rfl)
theorem dX6_right_27 : decode cX6_right 27 = .ok (.iload 4, 2) := dk_21 4 (dk_at dksX6_right_1 3 rfl rfl)
theorem dX6_right_29 : decode cX6_right 29 = .ok (.iconst 0, 1) := dk_3 (dk_at dksX6_right_1 5 rfl rfl)
theorem dX6_right_30 : decode cX6_right 30 = .ok (.iconst 1, 1) := dk_4 (dk_at dksX6_right_1 6 rfl rfl)
theorem dX6_right_31 : decode cX6_right 31 = .ok (.invokestatic 186, 3) := dk_184 0 186 (dk_at dksX6_right_1 7 rfl rfl)
theorem dX6_right_34 : decode cX6_right 34 = .ok (.ifCond .ne 5, 3) := dk_154 0 5 (dk_at dksX6_right_1 10 rfl rfl)
theorem dX6_right_37 : decode cX6_right 37 = .ok (.iconst (-1), 1) := dk_2 (dk_at dksX6_right_1 13 rfl rfl)
theorem dX6_right_38 : decode cX6_right 38 = .ok (.ireturn, 1) := dk_172 (dk_at dksX6_right_1 14 rfl rfl)
theorem dX6_right_39 : decode cX6_right 39 = .ok (.iconst 0, 1) := dk_3 (dk_at dksX6_right_1 15 rfl rfl)
theorem dX6_right_40 : decode cX6_right 40 = .ok (.istore 5, 2) := dk_54 5 (dk_at dksX6_right_1 16 rfl rfl)
theorem dX6_right_42 : decode cX6_right 42 = .ok (.iconst 1, 1) := dk_4 (dk_at dksX6_right_1 18 rfl rfl)
theorem dX6_right_43 : decode cX6_right 43 = .ok (.istore 6, 2) := dk_54 6 (dk_at dksX6_right_1 19 rfl rfl)
theorem dX6_right_45 : decode cX6_right 45 = .ok (.iload 6, 2) := dk_21 6 (dk_at dksX6_right_1 21 rfl rfl)
theorem dX6_right_47 : decode cX6_right 47 = .ok (.bipush 12, 2) := dk_16 12 (dk_at dksX6_right_2 0 rfl rfl)
theorem dX6_right_49 : decode cX6_right 49 = .ok (.if_icmp .gt 113, 3) := dk_163 0 113 (dk_at dksX6_right_2 2 rfl rfl)
theorem dX6_right_52 : decode cX6_right 52 = .ok (.iconst 1, 1) := dk_4 (dk_at dksX6_right_2 5 rfl rfl)
theorem dX6_right_53 : decode cX6_right 53 = .ok (.istore 7, 2) := dk_54 7 (dk_at dksX6_right_2 6 rfl rfl)
theorem dX6_right_55 : decode cX6_right 55 = .ok (.iload 7, 2) := dk_21 7 (dk_at dksX6_right_2 8 rfl rfl)
theorem dX6_right_57 : decode cX6_right 57 = .ok (.bipush 31, 2) := dk_16 31 (dk_at dksX6_right_2 10 rfl rfl)
theorem dX6_right_59 : decode cX6_right 59 = .ok (.if_icmp .gt 97, 3) := dk_163 0 97 (dk_at dksX6_right_2 12 rfl rfl)
theorem dX6_right_62 : decode cX6_right 62 = .ok (.aload_n 0, 1) := dk_42 (dk_at dksX6_right_2 15 rfl rfl)
theorem dX6_right_63 : decode cX6_right 63 = .ok (.iload_n 2, 1) := dk_28 (dk_at dksX6_right_2 16 rfl rfl)
theorem dX6_right_64 : decode cX6_right 64 = .ok (.iload_n 3, 1) := dk_29 (dk_at dksX6_right_2 17 rfl rfl)
theorem dX6_right_65 : decode cX6_right 65 = .ok (.iload 6, 2) := dk_21 6 (dk_at dksX6_right_2 18 rfl rfl)
theorem dX6_right_67 : decode cX6_right 67 = .ok (.iload 7, 2) := dk_21 7 (dk_at dksX6_right_2 20 rfl rfl)
theorem dX6_right_69 : decode cX6_right 69 = .ok (.invokevirtual 287, 3) := dk_182 1 31 (dk_at dksX6_right_3 0 rfl rfl)
theorem dX6_right_72 : decode cX6_right 72 = .ok (.ifCond .eq 21, 3) := dk_153 0 21 (dk_at dksX6_right_3 3 rfl rfl)
theorem dX6_right_75 : decode cX6_right 75 = .ok (.aload_n 0, 1) := dk_42 (dk_at dksX6_right_3 6 rfl rfl)
theorem dX6_right_76 : decode cX6_right 76 = .ok (.iload_n 1, 1) := dk_27 (dk_at dksX6_right_3 7 rfl rfl)
theorem dX6_right_77 : decode cX6_right 77 = .ok (.iload_n 2, 1) := dk_28 (dk_at dksX6_right_3 8 rfl rfl)
theorem dX6_right_78 : decode cX6_right 78 = .ok (.iload_n 3, 1) := dk_29 (dk_at dksX6_right_3 9 rfl rfl)
theorem dX6_right_79 : decode cX6_right 79 = .ok (.iload 6, 2) := dk_21 6 (dk_at dksX6_right_3 10 rfl rfl)
theorem dX6_right_81 : decode cX6_right 81 = .ok (.iload 7, 2) := dk_21 7 (dk_at dksX6_right_3 12 rfl rfl)
theorem dX6_right_83 : decode cX6_right 83 = .ok (.invokevirtual 356, 3) := dk_182 1 100 (dk_at dksX6_right_3 14 rfl rfl)
theorem dX6_right_86 : decode cX6_right 86 = .ok (.ifCond .eq 7, 3) := dk_153 0 7 (dk_at dksX6_right_3 17 rfl rfl)
theorem dX6_right_89 : decode cX6_right 89 = .ok (.iconst 1, 1) := dk_4 (dk_at dksX6_right_3 20 rfl rfl)
theorem dX6_right_90 : decode cX6_right 90 = .ok (.goto 4, 3) := dk_167 0 4 (dk_at dksX6_right_3 21 rfl rfl)
theorem dX6_right_93 : decode cX6_right 93 = .ok (.iconst 0, 1) := dk_3 (dk_at dksX6_right_4 0 rfl rfl)
theorem dX6_right_94 : decode cX6_right 94 = .ok (.istore 8, 2) := dk_54 8 (dk_at dksX6_right_4 1 rfl rfl)
theorem dX6_right_96 : decode cX6_right 96 = .ok (.iload 5, 2) := dk_21 5 (dk_at dksX6_right_4 3 rfl rfl)
theorem dX6_right_98 : decode cX6_right 98 = .ok (.iload 8, 2) := dk_21 8 (dk_at dksX6_right_4 5 rfl rfl)
theorem dX6_right_100 : decode cX6_right 100 = .ok (.ifCond .eq 46, 3) := dk_153 0 46 (dk_at dksX6_right_4 7 rfl rfl)
theorem dX6_right_103 : decode cX6_right 103 = .ok (.aload_n 0, 1) := dk_42 (dk_at dksX6_right_4 10 rfl rfl)
theorem dX6_right_104 : decode cX6_right 104 = .ok (.getfield 350, 3) := dk_180 1 94 (dk_at dksX6_right_4 11 rfl rfl)
theorem dX6_right_107 : decode cX6_right 107 = .ok (.aload_n 0, 1) := dk_42 (dk_at dksX6_right_4 14 rfl rfl)
theorem dX6_right_108 : decode cX6_right 108 = .ok (.iload_n 2, 1) := dk_28 (dk_at dksX6_right_4 15 rfl rfl)
theorem dX6_right_109 : decode cX6_right 109 = .ok (.iload_n 3, 1) := dk_29 (dk_at dksX6_right_4 16 rfl rfl)
theorem dX6_right_110 : decode cX6_right 110 = .ok (.iload 6, 2) := dk_21 6 (dk_at dksX6_right_4 17 rfl rfl)
theorem dX6_right_112 : decode cX6_right 112 = .ok (.iload 7, 2) := dk_21 7 (dk_at dksX6_right_4 19 rfl rfl)
theorem dX6_right_114 : decode cX6_right 114 = .ok (.invokevirtual 291, 3) := dk_182 1 35 (dk_at dksX6_right_4 21 rfl rfl)
theorem dX6_right_117 : decode cX6_right 117 = .ok (.isub, 1) := dk_100 (dk_at dksX6_right_5 0 rfl rfl)
theorem dX6_right_118 : decode cX6_right 118 = .ok (.invokestatic 360, 3) := dk_184 1 104 (dk_at dksX6_right_5 1 rfl rfl)
theorem dX6_right_121 : decode cX6_right 121 = .ok (.ifCond .ne 7, 3) := dk_154 0 7 (dk_at dksX6_right_5 4 rfl rfl)
theorem dX6_right_124 : decode cX6_right 124 = .ok (.iconst 1, 1) := dk_4 (dk_at dksX6_right_5 7 rfl rfl)
theorem dX6_right_125 : decode cX6_right 125 = .ok (.goto 4, 3) := dk_167 0 4 (dk_at dksX6_right_5 8 rfl rfl)
theorem dX6_right_128 : decode cX6_right 128 = .ok (.iconst 0, 1) := dk_3 (dk_at dksX6_right_5 11 rfl rfl)
theorem dX6_right_129 : decode cX6_right 129 = .ok (.iload 4, 2) := dk_21 4 (dk_at dksX6_right_5 12 rfl rfl)
theorem dX6_right_131 : decode cX6_right 131 = .ok (.ifCond .ne 7, 3) := dk_154 0 7 (dk_at dksX6_right_5 14 rfl rfl)
theorem dX6_right_134 : decode cX6_right 134 = .ok (.iconst 1, 1) := dk_4 (dk_at dksX6_right_5 17 rfl rfl)
theorem dX6_right_135 : decode cX6_right 135 = .ok (.goto 4, 3) := dk_167 0 4 (dk_at dksX6_right_5 18 rfl rfl)
theorem dX6_right_138 : decode cX6_right 138 = .ok (.iconst 0, 1) := dk_3 (dk_at dksX6_right_5 21 rfl rfl)
theorem dX6_right_139 : decode cX6_right 139 = .ok (.if_icmp .ne 7, 3) := dk_160 0 7 (dk_at dksX6_right_6 0 rfl rfl)
theorem dX6_right_142 : decode cX6_right 142 = .ok (.iconst 1, 1) := dk_4 (dk_at dksX6_right_6 3 rfl rfl)
theorem dX6_right_143 : decode cX6_right 143 = .ok (.goto 4, 3) := dk_167 0 4 (dk_at dksX6_right_6 4 rfl rfl)
theorem dX6_right_146 : decode cX6_right 146 = .ok (.iconst 0, 1) := dk_3 (dk_at dksX6_right_6 7 rfl rfl)
theorem dX6_right_147 : decode cX6_right 147 = .ok (.iadd, 1) := dk_96 (dk_at dksX6_right_6 8 rfl rfl)
theorem dX6_right_148 : decode cX6_right 148 = .ok (.istore 5, 2) := dk_54 5 (dk_at dksX6_right_6 9 rfl rfl)
theorem dX6_right_150 : decode cX6_right 150 = .ok (.iinc 7 1, 3) := dk_132 7 1 (dk_at dksX6_right_6 11 rfl rfl)
theorem dX6_right_153 : decode cX6_right 153 = .ok (.goto (-98), 3) := dk_167 255 158 (dk_at dksX6_right_6 14 rfl rfl)
theorem dX6_right_156 : decode cX6_right 156 = .ok (.iinc 6 1, 3) := dk_132 6 1 (dk_at dksX6_right_6 17 rfl rfl)
theorem dX6_right_159 : decode cX6_right 159 = .ok (.goto (-114), 3) := dk_167 255 142 (dk_at dksX6_right_6 20 rfl rfl)
theorem dX6_right_162 : decode cX6_right 162 = .ok (.iload 5, 2) := dk_21 5 (dk_at dksX6_right_7 0 rfl rfl)
theorem dX6_right_164 : decode cX6_right 164 = .ok (.ireturn, 1) := dk_172 (dk_at dksX6_right_7 2 rfl rfl)
abbrev cX6_lacks : ByteArray := prog_16_method_107_code
def yX6_lacks : MethodName := ⟨RX6, "lacks", "(IIII)I"⟩
def dkwX6_lacks_4 : List UInt8 := [21, 4, 182, 1, 217, 167, 0, 4, 2, 172]
abbrev dktX6_lacks_4 : List UInt8 := dkwX6_lacks_4 ++ []
def dkwX6_lacks_3 : List UInt8 := [54, 5, 132, 6, 1, 167, 255, 212, 21, 5, 172, 42, 28, 29, 182, 1, 207, 153, 0, 15, 42, 27, 28, 29]
abbrev dktX6_lacks_3 : List UInt8 := dkwX6_lacks_3 ++ dktX6_lacks_4
def dkwX6_lacks_2 : List UInt8 := [27, 104, 21, 6, 96, 47, 20, 1, 65, 148, 155, 0, 12, 4, 21, 6, 4, 100, 120, 167, 0, 4, 3, 128]
abbrev dktX6_lacks_2 : List UInt8 := dkwX6_lacks_2 ++ dktX6_lacks_3
def dkwX6_lacks_1 : List UInt8 := [160, 0, 59, 3, 54, 5, 4, 54, 6, 21, 6, 16, 12, 163, 0, 43, 21, 5, 42, 180, 0, 86, 16, 13]
abbrev dktX6_lacks_1 : List UInt8 := dkwX6_lacks_1 ++ dktX6_lacks_2
def dkwX6_lacks_0 : List UInt8 := [42, 27, 182, 1, 88, 153, 0, 13, 21, 4, 3, 6, 184, 0, 186, 154, 0, 5, 2, 172, 21, 4, 6]
abbrev dktX6_lacks_0 : List UInt8 := dkwX6_lacks_0 ++ dktX6_lacks_1
theorem dksX6_lacks_0 : cX6_lacks.data.toList.drop 0 = dktX6_lacks_0 := by decide +kernel
theorem dksX6_lacks_1 : cX6_lacks.data.toList.drop 23 = dktX6_lacks_1 := dk_seg dksX6_lacks_0 23 rfl rfl
theorem dksX6_lacks_2 : cX6_lacks.data.toList.drop 47 = dktX6_lacks_2 := dk_seg dksX6_lacks_1 24 rfl rfl
theorem dksX6_lacks_3 : cX6_lacks.data.toList.drop 71 = dktX6_lacks_3 := dk_seg dksX6_lacks_2 24 rfl rfl
theorem dksX6_lacks_4 : cX6_lacks.data.toList.drop 95 = dktX6_lacks_4 := dk_seg dksX6_lacks_3 24 rfl rfl
theorem dX6_lacks_0 : decode cX6_lacks 0 = .ok (.aload_n 0, 1) := dk_42 (dk_at dksX6_lacks_0 0 rfl rfl)
theorem dX6_lacks_1 : decode cX6_lacks 1 = .ok (.iload_n 1, 1) := dk_27 (dk_at dksX6_lacks_0 1 rfl rfl)
theorem dX6_lacks_2 : decode cX6_lacks 2 = .ok (.invokevirtual 344, 3) := dk_182 1 88 (dk_at dksX6_lacks_0 2 rfl rfl)
theorem dX6_lacks_5 : decode cX6_lacks 5 = .ok (.ifCond .eq 13, 3) := dk_153 0 13 (dk_at dksX6_lacks_0 5 rfl rfl)
theorem dX6_lacks_8 : decode cX6_lacks 8 = .ok (.iload 4, 2) := dk_21 4 (dk_at dksX6_lacks_0 8 rfl rfl)
theorem dX6_lacks_10 : decode cX6_lacks 10 = .ok (.iconst 0, 1) := dk_3 (dk_at dksX6_lacks_0 10 rfl rfl)
theorem dX6_lacks_11 : decode cX6_lacks 11 = .ok (.iconst 3, 1) := dk_6 (dk_at dksX6_lacks_0 11 rfl rfl)
theorem dX6_lacks_12 : decode cX6_lacks 12 = .ok (.invokestatic 186, 3) := dk_184 0 186 (dk_at dksX6_lacks_0 12 rfl rfl)
theorem dX6_lacks_15 : decode cX6_lacks 15 = .ok (.ifCond .ne 5, 3) := dk_154 0 5 (dk_at dksX6_lacks_0 15 rfl rfl)
theorem dX6_lacks_18 : decode cX6_lacks 18 = .ok (.iconst (-1), 1) := dk_2 (dk_at dksX6_lacks_0 18 rfl rfl)
theorem dX6_lacks_19 : decode cX6_lacks 19 = .ok (.ireturn, 1) := dk_172 (dk_at dksX6_lacks_0 19 rfl rfl)
theorem dX6_lacks_20 : decode cX6_lacks 20 = .ok (.iload 4, 2) := dk_21 4 (dk_at dksX6_lacks_0 20 rfl rfl)
theorem dX6_lacks_22 : decode cX6_lacks 22 = .ok (.iconst 3, 1) := dk_6 (dk_at dksX6_lacks_0 22 rfl rfl)
theorem dX6_lacks_23 : decode cX6_lacks 23 = .ok (.if_icmp .ne 59, 3) := dk_160 0 59 (dk_at dksX6_lacks_1 0 rfl rfl)
theorem dX6_lacks_26 : decode cX6_lacks 26 = .ok (.iconst 0, 1) := dk_3 (dk_at dksX6_lacks_1 3 rfl rfl)
theorem dX6_lacks_27 : decode cX6_lacks 27 = .ok (.istore 5, 2) := dk_54 5 (dk_at dksX6_lacks_1 4 rfl rfl)
theorem dX6_lacks_29 : decode cX6_lacks 29 = .ok (.iconst 1, 1) := dk_4 (dk_at dksX6_lacks_1 6 rfl rfl)
theorem dX6_lacks_30 : decode cX6_lacks 30 = .ok (.istore 6, 2) := dk_54 6 (dk_at dksX6_lacks_1 7 rfl rfl)
theorem dX6_lacks_32 : decode cX6_lacks 32 = .ok (.iload 6, 2) := dk_21 6 (dk_at dksX6_lacks_1 9 rfl rfl)
theorem dX6_lacks_34 : decode cX6_lacks 34 = .ok (.bipush 12, 2) := dk_16 12 (dk_at dksX6_lacks_1 11 rfl rfl)
theorem dX6_lacks_36 : decode cX6_lacks 36 = .ok (.if_icmp .gt 43, 3) := dk_163 0 43 (dk_at dksX6_lacks_1 13 rfl rfl)
theorem dX6_lacks_39 : decode cX6_lacks 39 = .ok (.iload 5, 2) := dk_21 5 (dk_at dksX6_lacks_1 16 rfl rfl)
theorem dX6_lacks_41 : decode cX6_lacks 41 = .ok (.aload_n 0, 1) := dk_42 (dk_at dksX6_lacks_1 18 rfl rfl)
theorem dX6_lacks_42 : decode cX6_lacks 42 = .ok (.getfield 86, 3) := dk_180 0 86 (dk_at dksX6_lacks_1 19 rfl rfl)
theorem dX6_lacks_45 : decode cX6_lacks 45 = .ok (.bipush 13, 2) := dk_16 13 (dk_at dksX6_lacks_1 22 rfl rfl)
theorem dX6_lacks_47 : decode cX6_lacks 47 = .ok (.iload_n 1, 1) := dk_27 (dk_at dksX6_lacks_2 0 rfl rfl)
theorem dX6_lacks_48 : decode cX6_lacks 48 = .ok (.imul, 1) := dk_104 (dk_at dksX6_lacks_2 1 rfl rfl)
theorem dX6_lacks_49 : decode cX6_lacks 49 = .ok (.iload 6, 2) := dk_21 6 (dk_at dksX6_lacks_2 2 rfl rfl)
theorem dX6_lacks_51 : decode cX6_lacks 51 = .ok (.iadd, 1) := dk_96 (dk_at dksX6_lacks_2 4 rfl rfl)
theorem dX6_lacks_52 : decode cX6_lacks 52 = .ok (.laload, 1) := dk_47 (dk_at dksX6_lacks_2 5 rfl rfl)
theorem dX6_lacks_53 : decode cX6_lacks 53 = .ok (.ldc2_w 321, 3) := dk_20 1 65 (dk_at dksX6_lacks_2 6 rfl rfl)
theorem dX6_lacks_56 : decode cX6_lacks 56 = .ok (.lcmp, 1) := dk_148 (dk_at dksX6_lacks_2 9 rfl rfl)
theorem dX6_lacks_57 : decode cX6_lacks 57 = .ok (.ifCond .lt 12, 3) := dk_155 0 12 (dk_at dksX6_lacks_2 10 rfl rfl)
theorem dX6_lacks_60 : decode cX6_lacks 60 = .ok (.iconst 1, 1) := dk_4 (dk_at dksX6_lacks_2 13 rfl rfl)
theorem dX6_lacks_61 : decode cX6_lacks 61 = .ok (.iload 6, 2) := dk_21 6 (dk_at dksX6_lacks_2 14 rfl rfl)
theorem dX6_lacks_63 : decode cX6_lacks 63 = .ok (.iconst 1, 1) := dk_4 (dk_at dksX6_lacks_2 16 rfl rfl)
theorem dX6_lacks_64 : decode cX6_lacks 64 = .ok (.isub, 1) := dk_100 (dk_at dksX6_lacks_2 17 rfl rfl)
theorem dX6_lacks_65 : decode cX6_lacks 65 = .ok (.ishl, 1) := dk_120 (dk_at dksX6_lacks_2 18 rfl rfl)
theorem dX6_lacks_66 : decode cX6_lacks 66 = .ok (.goto 4, 3) := dk_167 0 4 (dk_at dksX6_lacks_2 19 rfl rfl)
theorem dX6_lacks_69 : decode cX6_lacks 69 = .ok (.iconst 0, 1) := dk_3 (dk_at dksX6_lacks_2 22 rfl rfl)
theorem dX6_lacks_70 : decode cX6_lacks 70 = .ok (.ior, 1) := dk_128 (dk_at dksX6_lacks_2 23 rfl rfl)
theorem dX6_lacks_71 : decode cX6_lacks 71 = .ok (.istore 5, 2) := dk_54 5 (dk_at dksX6_lacks_3 0 rfl rfl)
theorem dX6_lacks_73 : decode cX6_lacks 73 = .ok (.iinc 6 1, 3) := dk_132 6 1 (dk_at dksX6_lacks_3 2 rfl rfl)
theorem dX6_lacks_76 : decode cX6_lacks 76 = .ok (.goto (-44), 3) := dk_167 255 212 (dk_at dksX6_lacks_3 5 rfl rfl)
theorem dX6_lacks_79 : decode cX6_lacks 79 = .ok (.iload 5, 2) := dk_21 5 (dk_at dksX6_lacks_3 8 rfl rfl)
theorem dX6_lacks_81 : decode cX6_lacks 81 = .ok (.ireturn, 1) := dk_172 (dk_at dksX6_lacks_3 10 rfl rfl)
theorem dX6_lacks_82 : decode cX6_lacks 82 = .ok (.aload_n 0, 1) := dk_42 (dk_at dksX6_lacks_3 11 rfl rfl)
theorem dX6_lacks_83 : decode cX6_lacks 83 = .ok (.iload_n 2, 1) := dk_28 (dk_at dksX6_lacks_3 12 rfl rfl)
theorem dX6_lacks_84 : decode cX6_lacks 84 = .ok (.iload_n 3, 1) := dk_29 (dk_at dksX6_lacks_3 13 rfl rfl)
theorem dX6_lacks_85 : decode cX6_lacks 85 = .ok (.invokevirtual 463, 3) := dk_182 1 207 (dk_at dksX6_lacks_3 14 rfl rfl)
theorem dX6_lacks_88 : decode cX6_lacks 88 = .ok (.ifCond .eq 15, 3) := dk_153 0 15 (dk_at dksX6_lacks_3 17 rfl rfl)
theorem dX6_lacks_91 : decode cX6_lacks 91 = .ok (.aload_n 0, 1) := dk_42 (dk_at dksX6_lacks_3 20 rfl rfl)
theorem dX6_lacks_92 : decode cX6_lacks 92 = .ok (.iload_n 1, 1) := dk_27 (dk_at dksX6_lacks_3 21 rfl rfl)
theorem dX6_lacks_93 : decode cX6_lacks 93 = .ok (.iload_n 2, 1) := dk_28 (dk_at dksX6_lacks_3 22 rfl rfl)
theorem dX6_lacks_94 : decode cX6_lacks 94 = .ok (.iload_n 3, 1) := dk_29 (dk_at dksX6_lacks_3 23 rfl rfl)
theorem dX6_lacks_95 : decode cX6_lacks 95 = .ok (.iload 4, 2) := dk_21 4 (dk_at dksX6_lacks_4 0 rfl rfl)
theorem dX6_lacks_97 : decode cX6_lacks 97 = .ok (.invokevirtual 473, 3) := dk_182 1 217 (dk_at dksX6_lacks_4 2 rfl rfl)
theorem dX6_lacks_100 : decode cX6_lacks 100 = .ok (.goto 4, 3) := dk_167 0 4 (dk_at dksX6_lacks_4 5 rfl rfl)
theorem dX6_lacks_103 : decode cX6_lacks 103 = .ok (.iconst (-1), 1) := dk_2 (dk_at dksX6_lacks_4 8 rfl rfl)
theorem dX6_lacks_104 : decode cX6_lacks 104 = .ok (.ireturn, 1) := dk_172 (dk_at dksX6_lacks_4 9 rfl rfl)
abbrev cX6_yearsLack : ByteArray := prog_16_method_108_code
def yX6_yearsLack : MethodName := ⟨RX6, "yearsLack", "(IIII)I"⟩
def dkwX6_yearsLack_4 : List UInt8 := [160, 0, 8, 21, 6, 167, 0, 10, 42, 27, 21, 6, 182, 1, 220, 172]
abbrev dktX6_yearsLack_4 : List UInt8 := dkwX6_yearsLack_4 ++ []
def dkwX6_yearsLack_3 : List UInt8 := [167, 255, 194, 21, 4, 154, 0, 8, 21, 5, 167, 0, 27, 21, 4, 4, 159, 0, 9, 21, 6, 2]
abbrev dktX6_yearsLack_3 : List UInt8 := dkwX6_yearsLack_3 ++ dktX6_yearsLack_4
def dkwX6_yearsLack_2 : List UInt8 := [27, 21, 7, 182, 1, 220, 42, 27, 21, 6, 182, 1, 220, 164, 0, 7, 21, 7, 54, 6, 132, 7, 1]
abbrev dktX6_yearsLack_2 : List UInt8 := dkwX6_yearsLack_2 ++ dktX6_yearsLack_3
def dkwX6_yearsLack_1 : List UInt8 := [21, 7, 96, 47, 20, 1, 65, 148, 155, 0, 9, 132, 5, 1, 167, 0, 30, 21, 6, 2, 159, 0, 20, 42]
abbrev dktX6_yearsLack_1 : List UInt8 := dkwX6_yearsLack_1 ++ dktX6_yearsLack_2
def dkwX6_yearsLack_0 : List UInt8 := [3, 54, 5, 2, 54, 6, 28, 54, 7, 21, 7, 29, 163, 0, 62, 42, 180, 0, 82, 17, 39, 17, 27, 104]
abbrev dktX6_yearsLack_0 : List UInt8 := dkwX6_yearsLack_0 ++ dktX6_yearsLack_1
theorem dksX6_yearsLack_0 : cX6_yearsLack.data.toList.drop 0 = dktX6_yearsLack_0 := by decide +kernel
theorem dksX6_yearsLack_1 : cX6_yearsLack.data.toList.drop 24 = dktX6_yearsLack_1 := dk_seg dksX6_yearsLack_0 24 rfl rfl
theorem dksX6_yearsLack_2 : cX6_yearsLack.data.toList.drop 48 = dktX6_yearsLack_2 := dk_seg dksX6_yearsLack_1 24 rfl rfl
theorem dksX6_yearsLack_3 : cX6_yearsLack.data.toList.drop 71 = dktX6_yearsLack_3 := dk_seg dksX6_yearsLack_2 23 rfl rfl
theorem dksX6_yearsLack_4 : cX6_yearsLack.data.toList.drop 93 = dktX6_yearsLack_4 := dk_seg dksX6_yearsLack_3 22 rfl rfl
theorem dX6_yearsLack_0 : decode cX6_yearsLack 0 = .ok (.iconst 0, 1) := dk_3 (dk_at dksX6_yearsLack_0 0 rfl rfl)
theorem dX6_yearsLack_1 : decode cX6_yearsLack 1 = .ok (.istore 5, 2) := dk_54 5 (dk_at dksX6_yearsLack_0 1 rfl rfl)
theorem dX6_yearsLack_3 : decode cX6_yearsLack 3 = .ok (.iconst (-1), 1) := dk_2 (dk_at dksX6_yearsLack_0 3 rfl rfl)
theorem dX6_yearsLack_4 : decode cX6_yearsLack 4 = .ok (.istore 6, 2) := dk_54 6 (dk_at dksX6_yearsLack_0 4 rfl rfl)
theorem dX6_yearsLack_6 : decode cX6_yearsLack 6 = .ok (.iload_n 2, 1) := dk_28 (dk_at dksX6_yearsLack_0 6 rfl rfl)
theorem dX6_yearsLack_7 : decode cX6_yearsLack 7 = .ok (.istore 7, 2) := dk_54 7 (dk_at dksX6_yearsLack_0 7 rfl rfl)
theorem dX6_yearsLack_9 : decode cX6_yearsLack 9 = .ok (.iload 7, 2) := dk_21 7 (dk_at dksX6_yearsLack_0 9 rfl rfl)
theorem dX6_yearsLack_11 : decode cX6_yearsLack 11 = .ok (.iload_n 3, 1) := dk_29 (dk_at dksX6_yearsLack_0 11 rfl rfl)
theorem dX6_yearsLack_12 : decode cX6_yearsLack 12 = .ok (.if_icmp .gt 62, 3) := dk_163 0 62 (dk_at dksX6_yearsLack_0 12 rfl rfl)
theorem dX6_yearsLack_15 : decode cX6_yearsLack 15 = .ok (.aload_n 0, 1) := dk_42 (dk_at dksX6_yearsLack_0 15 rfl rfl)
theorem dX6_yearsLack_16 : decode cX6_yearsLack 16 = .ok (.getfield 82, 3) := dk_180 0 82 (dk_at dksX6_yearsLack_0 16 rfl rfl)
theorem dX6_yearsLack_19 : decode cX6_yearsLack 19 = .ok (.sipush 10001, 3) := dk_17 39 17 (dk_at dksX6_yearsLack_0 19 rfl rfl)
theorem dX6_yearsLack_22 : decode cX6_yearsLack 22 = .ok (.iload_n 1, 1) := dk_27 (dk_at dksX6_yearsLack_0 22 rfl rfl)
theorem dX6_yearsLack_23 : decode cX6_yearsLack 23 = .ok (.imul, 1) := dk_104 (dk_at dksX6_yearsLack_0 23 rfl rfl)
theorem dX6_yearsLack_24 : decode cX6_yearsLack 24 = .ok (.iload 7, 2) := dk_21 7 (dk_at dksX6_yearsLack_1 0 rfl rfl)
theorem dX6_yearsLack_26 : decode cX6_yearsLack 26 = .ok (.iadd, 1) := dk_96 (dk_at dksX6_yearsLack_1 2 rfl rfl)
theorem dX6_yearsLack_27 : decode cX6_yearsLack 27 = .ok (.laload, 1) := dk_47 (dk_at dksX6_yearsLack_1 3 rfl rfl)
theorem dX6_yearsLack_28 : decode cX6_yearsLack 28 = .ok (.ldc2_w 321, 3) := dk_20 1 65 (dk_at dksX6_yearsLack_1 4 rfl rfl)
theorem dX6_yearsLack_31 : decode cX6_yearsLack 31 = .ok (.lcmp, 1) := dk_148 (dk_at dksX6_yearsLack_1 7 rfl rfl)
theorem dX6_yearsLack_32 : decode cX6_yearsLack 32 = .ok (.ifCond .lt 9, 3) := dk_155 0 9 (dk_at dksX6_yearsLack_1 8 rfl rfl)
theorem dX6_yearsLack_35 : decode cX6_yearsLack 35 = .ok (.iinc 5 1, 3) := dk_132 5 1 (dk_at dksX6_yearsLack_1 11 rfl rfl)
theorem dX6_yearsLack_38 : decode cX6_yearsLack 38 = .ok (.goto 30, 3) := dk_167 0 30 (dk_at dksX6_yearsLack_1 14 rfl rfl)
theorem dX6_yearsLack_41 : decode cX6_yearsLack 41 = .ok (.iload 6, 2) := dk_21 6 (dk_at dksX6_yearsLack_1 17 rfl rfl)
theorem dX6_yearsLack_43 : decode cX6_yearsLack 43 = .ok (.iconst (-1), 1) := dk_2 (dk_at dksX6_yearsLack_1 19 rfl rfl)
theorem dX6_yearsLack_44 : decode cX6_yearsLack 44 = .ok (.if_icmp .eq 20, 3) := dk_159 0 20 (dk_at dksX6_yearsLack_1 20 rfl rfl)
theorem dX6_yearsLack_47 : decode cX6_yearsLack 47 = .ok (.aload_n 0, 1) := dk_42 (dk_at dksX6_yearsLack_1 23 rfl rfl)
theorem dX6_yearsLack_48 : decode cX6_yearsLack 48 = .ok (.iload_n 1, 1) := dk_27 (dk_at dksX6_yearsLack_2 0 rfl rfl)
theorem dX6_yearsLack_49 : decode cX6_yearsLack 49 = .ok (.iload 7, 2) := dk_21 7 (dk_at dksX6_yearsLack_2 1 rfl rfl)
theorem dX6_yearsLack_51 : decode cX6_yearsLack 51 = .ok (.invokevirtual 476, 3) := dk_182 1 220 (dk_at dksX6_yearsLack_2 3 rfl rfl)
theorem dX6_yearsLack_54 : decode cX6_yearsLack 54 = .ok (.aload_n 0, 1) := dk_42 (dk_at dksX6_yearsLack_2 6 rfl rfl)
theorem dX6_yearsLack_55 : decode cX6_yearsLack 55 = .ok (.iload_n 1, 1) := dk_27 (dk_at dksX6_yearsLack_2 7 rfl rfl)
theorem dX6_yearsLack_56 : decode cX6_yearsLack 56 = .ok (.iload 6, 2) := dk_21 6 (dk_at dksX6_yearsLack_2 8 rfl rfl)
theorem dX6_yearsLack_58 : decode cX6_yearsLack 58 = .ok (.invokevirtual 476, 3) := dk_182 1 220 (dk_at dksX6_yearsLack_2 10 rfl rfl)
theorem dX6_yearsLack_61 : decode cX6_yearsLack 61 = .ok (.if_icmp .le 7, 3) := dk_164 0 7 (dk_at dksX6_yearsLack_2 13 rfl rfl)
theorem dX6_yearsLack_64 : decode cX6_yearsLack 64 = .ok (.iload 7, 2) := dk_21 7 (dk_at dksX6_yearsLack_2 16 rfl rfl)
theorem dX6_yearsLack_66 : decode cX6_yearsLack 66 = .ok (.istore 6, 2) := dk_54 6 (dk_at dksX6_yearsLack_2 18 rfl rfl)
theorem dX6_yearsLack_68 : decode cX6_yearsLack 68 = .ok (.iinc 7 1, 3) := dk_132 7 1 (dk_at dksX6_yearsLack_2 20 rfl rfl)
theorem dX6_yearsLack_71 : decode cX6_yearsLack 71 = .ok (.goto (-62), 3) := dk_167 255 194 (dk_at dksX6_yearsLack_3 0 rfl rfl)
theorem dX6_yearsLack_74 : decode cX6_yearsLack 74 = .ok (.iload 4, 2) := dk_21 4 (dk_at dksX6_yearsLack_3 3 rfl rfl)
theorem dX6_yearsLack_76 : decode cX6_yearsLack 76 = .ok (.ifCond .ne 8, 3) := dk_154 0 8 (dk_at dksX6_yearsLack_3 5 rfl rfl)
theorem dX6_yearsLack_79 : decode cX6_yearsLack 79 = .ok (.iload 5, 2) := dk_21 5 (dk_at dksX6_yearsLack_3 8 rfl rfl)
theorem dX6_yearsLack_81 : decode cX6_yearsLack 81 = .ok (.goto 27, 3) := dk_167 0 27 (dk_at dksX6_yearsLack_3 10 rfl rfl)
theorem dX6_yearsLack_84 : decode cX6_yearsLack 84 = .ok (.iload 4, 2) := dk_21 4 (dk_at dksX6_yearsLack_3 13 rfl rfl)
theorem dX6_yearsLack_86 : decode cX6_yearsLack 86 = .ok (.iconst 1, 1) := dk_4 (dk_at dksX6_yearsLack_3 15 rfl rfl)
theorem dX6_yearsLack_87 : decode cX6_yearsLack 87 = .ok (.if_icmp .eq 9, 3) := dk_159 0 9 (dk_at dksX6_yearsLack_3 16 rfl rfl)
theorem dX6_yearsLack_90 : decode cX6_yearsLack 90 = .ok (.iload 6, 2) := dk_21 6 (dk_at dksX6_yearsLack_3 19 rfl rfl)
theorem dX6_yearsLack_92 : decode cX6_yearsLack 92 = .ok (.iconst (-1), 1) := dk_2 (dk_at dksX6_yearsLack_3 21 rfl rfl)
theorem dX6_yearsLack_93 : decode cX6_yearsLack 93 = .ok (.if_icmp .ne 8, 3) := dk_160 0 8 (dk_at dksX6_yearsLack_4 0 rfl rfl)
theorem dX6_yearsLack_96 : decode cX6_yearsLack 96 = .ok (.iload 6, 2) := dk_21 6 (dk_at dksX6_yearsLack_4 3 rfl rfl)
theorem dX6_yearsLack_98 : decode cX6_yearsLack 98 = .ok (.goto 10, 3) := dk_167 0 10 (dk_at dksX6_yearsLack_4 5 rfl rfl)
theorem dX6_yearsLack_101 : decode cX6_yearsLack 101 = .ok (.aload_n 0, 1) := dk_42 (dk_at dksX6_yearsLack_4 8 rfl rfl)
theorem dX6_yearsLack_102 : decode cX6_yearsLack 102 = .ok (.iload_n 1, 1) := dk_27 (dk_at dksX6_yearsLack_4 9 rfl rfl)
theorem dX6_yearsLack_103 : decode cX6_yearsLack 103 = .ok (.iload 6, 2) := dk_21 6 (dk_at dksX6_yearsLack_4 10 rfl rfl)
theorem dX6_yearsLack_105 : decode cX6_yearsLack 105 = .ok (.invokevirtual 476, 3) := dk_182 1 220 (dk_at dksX6_yearsLack_4 12 rfl rfl)
theorem dX6_yearsLack_108 : decode cX6_yearsLack 108 = .ok (.ireturn, 1) := dk_172 (dk_at dksX6_yearsLack_4 15 rfl rfl)
abbrev cX6_costOf : ByteArray := prog_16_method_109_code
def yX6_costOf : MethodName := ⟨RX6, "costOf", "(II)I"⟩
def dkwX6_costOf_0 : List UInt8 := [42, 180, 0, 82, 17, 39, 17, 27, 104, 28, 96, 47, 20, 1, 60, 109, 136, 172]
abbrev dktX6_costOf_0 : List UInt8 := dkwX6_costOf_0 ++ []
theorem dksX6_costOf_0 : cX6_costOf.data.toList.drop 0 = dktX6_costOf_0 := by decide +kernel
theorem dX6_costOf_0 : decode cX6_costOf 0 = .ok (.aload_n 0, 1) := dk_42 (dk_at dksX6_costOf_0 0 rfl rfl)
theorem dX6_costOf_1 : decode cX6_costOf 1 = .ok (.getfield 82, 3) := dk_180 0 82 (dk_at dksX6_costOf_0 1 rfl rfl)
theorem dX6_costOf_4 : decode cX6_costOf 4 = .ok (.sipush 10001, 3) := dk_17 39 17 (dk_at dksX6_costOf_0 4 rfl rfl)
theorem dX6_costOf_7 : decode cX6_costOf 7 = .ok (.iload_n 1, 1) := dk_27 (dk_at dksX6_costOf_0 7 rfl rfl)
theorem dX6_costOf_8 : decode cX6_costOf 8 = .ok (.imul, 1) := dk_104 (dk_at dksX6_costOf_0 8 rfl rfl)
theorem dX6_costOf_9 : decode cX6_costOf 9 = .ok (.iload_n 2, 1) := dk_28 (dk_at dksX6_costOf_0 9 rfl rfl)
theorem dX6_costOf_10 : decode cX6_costOf 10 = .ok (.iadd, 1) := dk_96 (dk_at dksX6_costOf_0 10 rfl rfl)
theorem dX6_costOf_11 : decode cX6_costOf 11 = .ok (.laload, 1) := dk_47 (dk_at dksX6_costOf_0 11 rfl rfl)
theorem dX6_costOf_12 : decode cX6_costOf 12 = .ok (.ldc2_w 316, 3) := dk_20 1 60 (dk_at dksX6_costOf_0 12 rfl rfl)
theorem dX6_costOf_15 : decode cX6_costOf 15 = .ok (.ldiv, 1) := dk_109 (dk_at dksX6_costOf_0 15 rfl rfl)
theorem dX6_costOf_16 : decode cX6_costOf 16 = .ok (.l2i, 1) := dk_136 (dk_at dksX6_costOf_0 16 rfl rfl)
theorem dX6_costOf_17 : decode cX6_costOf 17 = .ok (.ireturn, 1) := dk_172 (dk_at dksX6_costOf_0 17 rfl rfl)
abbrev cX6_spare : ByteArray := prog_16_method_110_code
def yX6_spare : MethodName := ⟨RX6, "spare", "(II)I"⟩
def dkwX6_spare_2 : List UInt8 := [28, 163, 0, 10, 4, 21, 4, 120, 167, 0, 4, 3, 128, 62, 132, 4, 1, 167, 255, 217, 29, 172]
abbrev dktX6_spare_2 : List UInt8 := dkwX6_spare_2 ++ []
def dkwX6_spare_1 : List UInt8 := [54, 4, 21, 4, 42, 180, 1, 18, 162, 0, 36, 29, 42, 180, 1, 110, 42, 21, 4, 27, 182, 1, 125, 100]
abbrev dktX6_spare_1 : List UInt8 := dkwX6_spare_1 ++ dktX6_spare_2
def dkwX6_spare_0 : List UInt8 := [42, 27, 182, 1, 122, 153, 0, 13, 28, 3, 16, 60, 184, 0, 186, 154, 0, 5, 2, 172, 3, 62, 3]
abbrev dktX6_spare_0 : List UInt8 := dkwX6_spare_0 ++ dktX6_spare_1
theorem dksX6_spare_0 : cX6_spare.data.toList.drop 0 = dktX6_spare_0 := by decide +kernel
theorem dksX6_spare_1 : cX6_spare.data.toList.drop 23 = dktX6_spare_1 := dk_seg dksX6_spare_0 23 rfl rfl
theorem dksX6_spare_2 : cX6_spare.data.toList.drop 47 = dktX6_spare_2 := dk_seg dksX6_spare_1 24 rfl rfl
theorem dX6_spare_0 : decode cX6_spare 0 = .ok (.aload_n 0, 1) := dk_42 (dk_at dksX6_spare_0 0 rfl rfl)
theorem dX6_spare_1 : decode cX6_spare 1 = .ok (.iload_n 1, 1) := dk_27 (dk_at dksX6_spare_0 1 rfl rfl)
theorem dX6_spare_2 : decode cX6_spare 2 = .ok (.invokevirtual 378, 3) := dk_182 1 122 (dk_at dksX6_spare_0 2 rfl rfl)
theorem dX6_spare_5 : decode cX6_spare 5 = .ok (.ifCond .eq 13, 3) := dk_153 0 13 (dk_at dksX6_spare_0 5 rfl rfl)
theorem dX6_spare_8 : decode cX6_spare 8 = .ok (.iload_n 2, 1) := dk_28 (dk_at dksX6_spare_0 8 rfl rfl)
theorem dX6_spare_9 : decode cX6_spare 9 = .ok (.iconst 0, 1) := dk_3 (dk_at dksX6_spare_0 9 rfl rfl)
theorem dX6_spare_10 : decode cX6_spare 10 = .ok (.bipush 60, 2) := dk_16 60 (dk_at dksX6_spare_0 10 rfl rfl)
theorem dX6_spare_12 : decode cX6_spare 12 = .ok (.invokestatic 186, 3) := dk_184 0 186 (dk_at dksX6_spare_0 12 rfl rfl)
theorem dX6_spare_15 : decode cX6_spare 15 = .ok (.ifCond .ne 5, 3) := dk_154 0 5 (dk_at dksX6_spare_0 15 rfl rfl)
theorem dX6_spare_18 : decode cX6_spare 18 = .ok (.iconst (-1), 1) := dk_2 (dk_at dksX6_spare_0 18 rfl rfl)
theorem dX6_spare_19 : decode cX6_spare 19 = .ok (.ireturn, 1) := dk_172 (dk_at dksX6_spare_0 19 rfl rfl)
theorem dX6_spare_20 : decode cX6_spare 20 = .ok (.iconst 0, 1) := dk_3 (dk_at dksX6_spare_0 20 rfl rfl)
theorem dX6_spare_21 : decode cX6_spare 21 = .ok (.istore_n 3, 1) := dk_62 (dk_at dksX6_spare_0 21 rfl rfl)
theorem dX6_spare_22 : decode cX6_spare 22 = .ok (.iconst 0, 1) := dk_3 (dk_at dksX6_spare_0 22 rfl rfl)
theorem dX6_spare_23 : decode cX6_spare 23 = .ok (.istore 4, 2) := dk_54 4 (dk_at dksX6_spare_1 0 rfl rfl)
theorem dX6_spare_25 : decode cX6_spare 25 = .ok (.iload 4, 2) := dk_21 4 (dk_at dksX6_spare_1 2 rfl rfl)
theorem dX6_spare_27 : decode cX6_spare 27 = .ok (.aload_n 0, 1) := dk_42 (dk_at dksX6_spare_1 4 rfl rfl)
theorem dX6_spare_28 : decode cX6_spare 28 = .ok (.getfield 274, 3) := dk_180 1 18 (dk_at dksX6_spare_1 5 rfl rfl)
theorem dX6_spare_31 : decode cX6_spare 31 = .ok (.if_icmp .ge 36, 3) := dk_162 0 36 (dk_at dksX6_spare_1 8 rfl rfl)
theorem dX6_spare_34 : decode cX6_spare 34 = .ok (.iload_n 3, 1) := dk_29 (dk_at dksX6_spare_1 11 rfl rfl)
theorem dX6_spare_35 : decode cX6_spare 35 = .ok (.aload_n 0, 1) := dk_42 (dk_at dksX6_spare_1 12 rfl rfl)
theorem dX6_spare_36 : decode cX6_spare 36 = .ok (.getfield 366, 3) := dk_180 1 110 (dk_at dksX6_spare_1 13 rfl rfl)
theorem dX6_spare_39 : decode cX6_spare 39 = .ok (.aload_n 0, 1) := dk_42 (dk_at dksX6_spare_1 16 rfl rfl)
theorem dX6_spare_40 : decode cX6_spare 40 = .ok (.iload 4, 2) := dk_21 4 (dk_at dksX6_spare_1 17 rfl rfl)
theorem dX6_spare_42 : decode cX6_spare 42 = .ok (.iload_n 1, 1) := dk_27 (dk_at dksX6_spare_1 19 rfl rfl)
theorem dX6_spare_43 : decode cX6_spare 43 = .ok (.invokevirtual 381, 3) := dk_182 1 125 (dk_at dksX6_spare_1 20 rfl rfl)
theorem dX6_spare_46 : decode cX6_spare 46 = .ok (.isub, 1) := dk_100 (dk_at dksX6_spare_1 23 rfl rfl)
theorem dX6_spare_47 : decode cX6_spare 47 = .ok (.iload_n 2, 1) := dk_28 (dk_at dksX6_spare_2 0 rfl rfl)
theorem dX6_spare_48 : decode cX6_spare 48 = .ok (.if_icmp .gt 10, 3) := dk_163 0 10 (dk_at dksX6_spare_2 1 rfl rfl)
theorem dX6_spare_51 : decode cX6_spare 51 = .ok (.iconst 1, 1) := dk_4 (dk_at dksX6_spare_2 4 rfl rfl)
theorem dX6_spare_52 : decode cX6_spare 52 = .ok (.iload 4, 2) := dk_21 4 (dk_at dksX6_spare_2 5 rfl rfl)
theorem dX6_spare_54 : decode cX6_spare 54 = .ok (.ishl, 1) := dk_120 (dk_at dksX6_spare_2 7 rfl rfl)
theorem dX6_spare_55 : decode cX6_spare 55 = .ok (.goto 4, 3) := dk_167 0 4 (dk_at dksX6_spare_2 8 rfl rfl)
theorem dX6_spare_58 : decode cX6_spare 58 = .ok (.iconst 0, 1) := dk_3 (dk_at dksX6_spare_2 11 rfl rfl)
theorem dX6_spare_59 : decode cX6_spare 59 = .ok (.ior, 1) := dk_128 (dk_at dksX6_spare_2 12 rfl rfl)
theorem dX6_spare_60 : decode cX6_spare 60 = .ok (.istore_n 3, 1) := dk_62 (dk_at dksX6_spare_2 13 rfl rfl)
theorem dX6_spare_61 : decode cX6_spare 61 = .ok (.iinc 4 1, 3) := dk_132 4 1 (dk_at dksX6_spare_2 14 rfl rfl)
theorem dX6_spare_64 : decode cX6_spare 64 = .ok (.goto (-39), 3) := dk_167 255 217 (dk_at dksX6_spare_2 17 rfl rfl)
theorem dX6_spare_67 : decode cX6_spare 67 = .ok (.iload_n 3, 1) := dk_29 (dk_at dksX6_spare_2 20 rfl rfl)
theorem dX6_spare_68 : decode cX6_spare 68 = .ok (.ireturn, 1) := dk_172 (dk_at dksX6_spare_2 21 rfl rfl)
abbrev cX6_unlike : ByteArray := prog_16_method_111_code
def yX6_unlike : MethodName := ⟨RX6, "unlike", "(III)I"⟩
def dkwX6_unlike_2 : List UInt8 := [182, 1, 38, 42, 28, 21, 4, 182, 1, 38, 159, 0, 6, 21, 4, 172, 132, 4, 1, 167, 255, 223, 2, 172]
abbrev dktX6_unlike_2 : List UInt8 := dkwX6_unlike_2 ++ []
def dkwX6_unlike_1 : List UInt8 := [154, 0, 5, 2, 172, 29, 54, 4, 21, 4, 29, 17, 19, 136, 96, 162, 0, 29, 42, 27, 21, 4]
abbrev dktX6_unlike_1 : List UInt8 := dkwX6_unlike_1 ++ dktX6_unlike_2
def dkwX6_unlike_0 : List UInt8 := [42, 27, 182, 1, 24, 153, 0, 22, 42, 28, 182, 1, 24, 153, 0, 14, 29, 3, 19, 1, 223, 184, 0, 186]
abbrev dktX6_unlike_0 : List UInt8 := dkwX6_unlike_0 ++ dktX6_unlike_1
theorem dksX6_unlike_0 : cX6_unlike.data.toList.drop 0 = dktX6_unlike_0 := by decide +kernel
theorem dksX6_unlike_1 : cX6_unlike.data.toList.drop 24 = dktX6_unlike_1 := dk_seg dksX6_unlike_0 24 rfl rfl
theorem dksX6_unlike_2 : cX6_unlike.data.toList.drop 46 = dktX6_unlike_2 := dk_seg dksX6_unlike_1 22 rfl rfl
theorem dX6_unlike_0 : decode cX6_unlike 0 = .ok (.aload_n 0, 1) := dk_42 (dk_at dksX6_unlike_0 0 rfl rfl)
theorem dX6_unlike_1 : decode cX6_unlike 1 = .ok (.iload_n 1, 1) := dk_27 (dk_at dksX6_unlike_0 1 rfl rfl)
theorem dX6_unlike_2 : decode cX6_unlike 2 = .ok (.invokevirtual 280, 3) := dk_182 1 24 (dk_at dksX6_unlike_0 2 rfl rfl)
theorem dX6_unlike_5 : decode cX6_unlike 5 = .ok (.ifCond .eq 22, 3) := dk_153 0 22 (dk_at dksX6_unlike_0 5 rfl rfl)
theorem dX6_unlike_8 : decode cX6_unlike 8 = .ok (.aload_n 0, 1) := dk_42 (dk_at dksX6_unlike_0 8 rfl rfl)
theorem dX6_unlike_9 : decode cX6_unlike 9 = .ok (.iload_n 2, 1) := dk_28 (dk_at dksX6_unlike_0 9 rfl rfl)
theorem dX6_unlike_10 : decode cX6_unlike 10 = .ok (.invokevirtual 280, 3) := dk_182 1 24 (dk_at dksX6_unlike_0 10 rfl rfl)
theorem dX6_unlike_13 : decode cX6_unlike 13 = .ok (.ifCond .eq 14, 3) := dk_153 0 14 (dk_at dksX6_unlike_0 13 rfl rfl)
theorem dX6_unlike_16 : decode cX6_unlike 16 = .ok (.iload_n 3, 1) := dk_29 (dk_at dksX6_unlike_0 16 rfl rfl)
theorem dX6_unlike_17 : decode cX6_unlike 17 = .ok (.iconst 0, 1) := dk_3 (dk_at dksX6_unlike_0 17 rfl rfl)
theorem dX6_unlike_18 : decode cX6_unlike 18 = .ok (.ldc_w 479, 3) := dk_19 1 223 (dk_at dksX6_unlike_0 18 rfl rfl)
theorem dX6_unlike_21 : decode cX6_unlike 21 = .ok (.invokestatic 186, 3) := dk_184 0 186 (dk_at dksX6_unlike_0 21 rfl rfl)
theorem dX6_unlike_24 : decode cX6_unlike 24 = .ok (.ifCond .ne 5, 3) := dk_154 0 5 (dk_at dksX6_unlike_1 0 rfl rfl)
theorem dX6_unlike_27 : decode cX6_unlike 27 = .ok (.iconst (-1), 1) := dk_2 (dk_at dksX6_unlike_1 3 rfl rfl)
theorem dX6_unlike_28 : decode cX6_unlike 28 = .ok (.ireturn, 1) := dk_172 (dk_at dksX6_unlike_1 4 rfl rfl)
theorem dX6_unlike_29 : decode cX6_unlike 29 = .ok (.iload_n 3, 1) := dk_29 (dk_at dksX6_unlike_1 5 rfl rfl)
theorem dX6_unlike_30 : decode cX6_unlike 30 = .ok (.istore 4, 2) := dk_54 4 (dk_at dksX6_unlike_1 6 rfl rfl)
theorem dX6_unlike_32 : decode cX6_unlike 32 = .ok (.iload 4, 2) := dk_21 4 (dk_at dksX6_unlike_1 8 rfl rfl)
theorem dX6_unlike_34 : decode cX6_unlike 34 = .ok (.iload_n 3, 1) := dk_29 (dk_at dksX6_unlike_1 10 rfl rfl)
theorem dX6_unlike_35 : decode cX6_unlike 35 = .ok (.sipush 5000, 3) := dk_17 19 136 (dk_at dksX6_unlike_1 11 rfl rfl)
theorem dX6_unlike_38 : decode cX6_unlike 38 = .ok (.iadd, 1) := dk_96 (dk_at dksX6_unlike_1 14 rfl rfl)
theorem dX6_unlike_39 : decode cX6_unlike 39 = .ok (.if_icmp .ge 29, 3) := dk_162 0 29 (dk_at dksX6_unlike_1 15 rfl rfl)
theorem dX6_unlike_42 : decode cX6_unlike 42 = .ok (.aload_n 0, 1) := dk_42 (dk_at dksX6_unlike_1 18 rfl rfl)
theorem dX6_unlike_43 : decode cX6_unlike 43 = .ok (.iload_n 1, 1) := dk_27 (dk_at dksX6_unlike_1 19 rfl rfl)
theorem dX6_unlike_44 : decode cX6_unlike 44 = .ok (.iload 4, 2) := dk_21 4 (dk_at dksX6_unlike_1 20 rfl rfl)
theorem dX6_unlike_46 : decode cX6_unlike 46 = .ok (.invokevirtual 294, 3) := dk_182 1 38 (dk_at dksX6_unlike_2 0 rfl rfl)
theorem dX6_unlike_49 : decode cX6_unlike 49 = .ok (.aload_n 0, 1) := dk_42 (dk_at dksX6_unlike_2 3 rfl rfl)
theorem dX6_unlike_50 : decode cX6_unlike 50 = .ok (.iload_n 2, 1) := dk_28 (dk_at dksX6_unlike_2 4 rfl rfl)
theorem dX6_unlike_51 : decode cX6_unlike 51 = .ok (.iload 4, 2) := dk_21 4 (dk_at dksX6_unlike_2 5 rfl rfl)
theorem dX6_unlike_53 : decode cX6_unlike 53 = .ok (.invokevirtual 294, 3) := dk_182 1 38 (dk_at dksX6_unlike_2 7 rfl rfl)
theorem dX6_unlike_56 : decode cX6_unlike 56 = .ok (.if_icmp .eq 6, 3) := dk_159 0 6 (dk_at dksX6_unlike_2 10 rfl rfl)
theorem dX6_unlike_59 : decode cX6_unlike 59 = .ok (.iload 4, 2) := dk_21 4 (dk_at dksX6_unlike_2 13 rfl rfl)
theorem dX6_unlike_61 : decode cX6_unlike 61 = .ok (.ireturn, 1) := dk_172 (dk_at dksX6_unlike_2 15 rfl rfl)
theorem dX6_unlike_62 : decode cX6_unlike 62 = .ok (.iinc 4 1, 3) := dk_132 4 1 (dk_at dksX6_unlike_2 16 rfl rfl)
theorem dX6_unlike_65 : decode cX6_unlike 65 = .ok (.goto (-33), 3) := dk_167 255 223 (dk_at dksX6_unlike_2 19 rfl rfl)
theorem dX6_unlike_68 : decode cX6_unlike 68 = .ok (.iconst (-1), 1) := dk_2 (dk_at dksX6_unlike_2 22 rfl rfl)
theorem dX6_unlike_69 : decode cX6_unlike 69 = .ok (.ireturn, 1) := dk_172 (dk_at dksX6_unlike_2 23 rfl rfl)
abbrev cX6_rises : ByteArray := prog_16_method_112_code
def yX6_rises : MethodName := ⟨RX6, "rises", "(IIII)I"⟩
def dkwX6_rises_5 : List UInt8 := [96, 54, 5, 132, 6, 1, 167, 255, 168, 21, 5, 172]
abbrev dktX6_rises_5 : List UInt8 := dkwX6_rises_5 ++ []
def dkwX6_rises_4 : List UInt8 := [153, 0, 23, 42, 27, 21, 6, 182, 1, 220, 42, 28, 21, 6, 182, 1, 220, 184, 1, 128, 167, 0, 4, 3]
abbrev dktX6_rises_4 : List UInt8 := dkwX6_rises_4 ++ dktX6_rises_5
def dkwX6_rises_3 : List UInt8 := [104, 21, 6, 96, 47, 20, 1, 65, 148, 156, 0, 7, 4, 167, 0, 4, 3, 54, 7, 21, 5, 21, 7]
abbrev dktX6_rises_3 : List UInt8 := dkwX6_rises_3 ++ dktX6_rises_4
def dkwX6_rises_2 : List UInt8 := [17, 39, 17, 27, 104, 21, 6, 96, 47, 20, 1, 65, 148, 156, 0, 27, 42, 180, 0, 82, 17, 39, 17, 28]
abbrev dktX6_rises_2 : List UInt8 := dkwX6_rises_2 ++ dktX6_rises_3
def dkwX6_rises_1 : List UInt8 := [154, 0, 7, 17, 252, 24, 172, 3, 54, 5, 29, 54, 6, 21, 6, 21, 4, 163, 0, 87, 42, 180, 0, 82]
abbrev dktX6_rises_1 : List UInt8 := dkwX6_rises_1 ++ dktX6_rises_2
def dkwX6_rises_0 : List UInt8 := [42, 27, 182, 1, 88, 153, 0, 21, 42, 28, 182, 1, 88, 153, 0, 13, 42, 29, 21, 4, 182, 1, 207]
abbrev dktX6_rises_0 : List UInt8 := dkwX6_rises_0 ++ dktX6_rises_1
theorem dksX6_rises_0 : cX6_rises.data.toList.drop 0 = dktX6_rises_0 := by decide +kernel
theorem dksX6_rises_1 : cX6_rises.data.toList.drop 23 = dktX6_rises_1 := dk_seg dksX6_rises_0 23 rfl rfl
theorem dksX6_rises_2 : cX6_rises.data.toList.drop 47 = dktX6_rises_2 := dk_seg dksX6_rises_1 24 rfl rfl
theorem dksX6_rises_3 : cX6_rises.data.toList.drop 71 = dktX6_rises_3 := dk_seg dksX6_rises_2 24 rfl rfl
theorem dksX6_rises_4 : cX6_rises.data.toList.drop 94 = dktX6_rises_4 := dk_seg dksX6_rises_3 23 rfl rfl
theorem dksX6_rises_5 : cX6_rises.data.toList.drop 118 = dktX6_rises_5 := dk_seg dksX6_rises_4 24 rfl rfl
theorem dX6_rises_0 : decode cX6_rises 0 = .ok (.aload_n 0, 1) := dk_42 (dk_at dksX6_rises_0 0 rfl rfl)
theorem dX6_rises_1 : decode cX6_rises 1 = .ok (.iload_n 1, 1) := dk_27 (dk_at dksX6_rises_0 1 rfl rfl)
theorem dX6_rises_2 : decode cX6_rises 2 = .ok (.invokevirtual 344, 3) := dk_182 1 88 (dk_at dksX6_rises_0 2 rfl rfl)
theorem dX6_rises_5 : decode cX6_rises 5 = .ok (.ifCond .eq 21, 3) := dk_153 0 21 (dk_at dksX6_rises_0 5 rfl rfl)
theorem dX6_rises_8 : decode cX6_rises 8 = .ok (.aload_n 0, 1) := dk_42 (dk_at dksX6_rises_0 8 rfl rfl)
theorem dX6_rises_9 : decode cX6_rises 9 = .ok (.iload_n 2, 1) := dk_28 (dk_at dksX6_rises_0 9 rfl rfl)
theorem dX6_rises_10 : decode cX6_rises 10 = .ok (.invokevirtual 344, 3) := dk_182 1 88 (dk_at dksX6_rises_0 10 rfl rfl)
theorem dX6_rises_13 : decode cX6_rises 13 = .ok (.ifCond .eq 13, 3) := dk_153 0 13 (dk_at dksX6_rises_0 13 rfl rfl)
theorem dX6_rises_16 : decode cX6_rises 16 = .ok (.aload_n 0, 1) := dk_42 (dk_at dksX6_rises_0 16 rfl rfl)
theorem dX6_rises_17 : decode cX6_rises 17 = .ok (.iload_n 3, 1) := dk_29 (dk_at dksX6_rises_0 17 rfl rfl)
theorem dX6_rises_18 : decode cX6_rises 18 = .ok (.iload 4, 2) := dk_21 4 (dk_at dksX6_rises_0 18 rfl rfl)
theorem dX6_rises_20 : decode cX6_rises 20 = .ok (.invokevirtual 463, 3) := dk_182 1 207 (dk_at dksX6_rises_0 20 rfl rfl)
theorem dX6_rises_23 : decode cX6_rises 23 = .ok (.ifCond .ne 7, 3) := dk_154 0 7 (dk_at dksX6_rises_1 0 rfl rfl)
theorem dX6_rises_26 : decode cX6_rises 26 = .ok (.sipush (-1000), 3) := dk_17 252 24 (dk_at dksX6_rises_1 3 rfl rfl)
theorem dX6_rises_29 : decode cX6_rises 29 = .ok (.ireturn, 1) := dk_172 (dk_at dksX6_rises_1 6 rfl rfl)
theorem dX6_rises_30 : decode cX6_rises 30 = .ok (.iconst 0, 1) := dk_3 (dk_at dksX6_rises_1 7 rfl rfl)
theorem dX6_rises_31 : decode cX6_rises 31 = .ok (.istore 5, 2) := dk_54 5 (dk_at dksX6_rises_1 8 rfl rfl)
theorem dX6_rises_33 : decode cX6_rises 33 = .ok (.iload_n 3, 1) := dk_29 (dk_at dksX6_rises_1 10 rfl rfl)
theorem dX6_rises_34 : decode cX6_rises 34 = .ok (.istore 6, 2) := dk_54 6 (dk_at dksX6_rises_1 11 rfl rfl)
theorem dX6_rises_36 : decode cX6_rises 36 = .ok (.iload 6, 2) := dk_21 6 (dk_at dksX6_rises_1 13 rfl rfl)
theorem dX6_rises_38 : decode cX6_rises 38 = .ok (.iload 4, 2) := dk_21 4 (dk_at dksX6_rises_1 15 rfl rfl)
theorem dX6_rises_40 : decode cX6_rises 40 = .ok (.if_icmp .gt 87, 3) := dk_163 0 87 (dk_at dksX6_rises_1 17 rfl rfl)
theorem dX6_rises_43 : decode cX6_rises 43 = .ok (.aload_n 0, 1) := dk_42 (dk_at dksX6_rises_1 20 rfl rfl)
theorem dX6_rises_44 : decode cX6_rises 44 = .ok (.getfield 82, 3) := dk_180 0 82 (dk_at dksX6_rises_1 21 rfl rfl)
theorem dX6_rises_47 : decode cX6_rises 47 = .ok (.sipush 10001, 3) := dk_17 39 17 (dk_at dksX6_rises_2 0 rfl rfl)
theorem dX6_rises_50 : decode cX6_rises 50 = .ok (.iload_n 1, 1) := dk_27 (dk_at dksX6_rises_2 3 rfl rfl)
theorem dX6_rises_51 : decode cX6_rises 51 = .ok (.imul, 1) := dk_104 (dk_at dksX6_rises_2 4 rfl rfl)
theorem dX6_rises_52 : decode cX6_rises 52 = .ok (.iload 6, 2) := dk_21 6 (dk_at dksX6_rises_2 5 rfl rfl)
theorem dX6_rises_54 : decode cX6_rises 54 = .ok (.iadd, 1) := dk_96 (dk_at dksX6_rises_2 7 rfl rfl)
theorem dX6_rises_55 : decode cX6_rises 55 = .ok (.laload, 1) := dk_47 (dk_at dksX6_rises_2 8 rfl rfl)
theorem dX6_rises_56 : decode cX6_rises 56 = .ok (.ldc2_w 321, 3) := dk_20 1 65 (dk_at dksX6_rises_2 9 rfl rfl)
theorem dX6_rises_59 : decode cX6_rises 59 = .ok (.lcmp, 1) := dk_148 (dk_at dksX6_rises_2 12 rfl rfl)
theorem dX6_rises_60 : decode cX6_rises 60 = .ok (.ifCond .ge 27, 3) := dk_156 0 27 (dk_at dksX6_rises_2 13 rfl rfl)
theorem dX6_rises_63 : decode cX6_rises 63 = .ok (.aload_n 0, 1) := dk_42 (dk_at dksX6_rises_2 16 rfl rfl)
theorem dX6_rises_64 : decode cX6_rises 64 = .ok (.getfield 82, 3) := dk_180 0 82 (dk_at dksX6_rises_2 17 rfl rfl)
theorem dX6_rises_67 : decode cX6_rises 67 = .ok (.sipush 10001, 3) := dk_17 39 17 (dk_at dksX6_rises_2 20 rfl rfl)
theorem dX6_rises_70 : decode cX6_rises 70 = .ok (.iload_n 2, 1) := dk_28 (dk_at dksX6_rises_2 23 rfl rfl)
theorem dX6_rises_71 : decode cX6_rises 71 = .ok (.imul, 1) := dk_104 (dk_at dksX6_rises_3 0 rfl rfl)
theorem dX6_rises_72 : decode cX6_rises 72 = .ok (.iload 6, 2) := dk_21 6 (dk_at dksX6_rises_3 1 rfl rfl)
theorem dX6_rises_74 : decode cX6_rises 74 = .ok (.iadd, 1) := dk_96 (dk_at dksX6_rises_3 3 rfl rfl)
theorem dX6_rises_75 : decode cX6_rises 75 = .ok (.laload, 1) := dk_47 (dk_at dksX6_rises_3 4 rfl rfl)
theorem dX6_rises_76 : decode cX6_rises 76 = .ok (.ldc2_w 321, 3) := dk_20 1 65 (dk_at dksX6_rises_3 5 rfl rfl)
theorem dX6_rises_79 : decode cX6_rises 79 = .ok (.lcmp, 1) := dk_148 (dk_at dksX6_rises_3 8 rfl rfl)
theorem dX6_rises_80 : decode cX6_rises 80 = .ok (.ifCond .ge 7, 3) := dk_156 0 7 (dk_at dksX6_rises_3 9 rfl rfl)
theorem dX6_rises_83 : decode cX6_rises 83 = .ok (.iconst 1, 1) := dk_4 (dk_at dksX6_rises_3 12 rfl rfl)
theorem dX6_rises_84 : decode cX6_rises 84 = .ok (.goto 4, 3) := dk_167 0 4 (dk_at dksX6_rises_3 13 rfl rfl)
theorem dX6_rises_87 : decode cX6_rises 87 = .ok (.iconst 0, 1) := dk_3 (dk_at dksX6_rises_3 16 rfl rfl)
theorem dX6_rises_88 : decode cX6_rises 88 = .ok (.istore 7, 2) := dk_54 7 (dk_at dksX6_rises_3 17 rfl rfl)
theorem dX6_rises_90 : decode cX6_rises 90 = .ok (.iload 5, 2) := dk_21 5 (dk_at dksX6_rises_3 19 rfl rfl)
theorem dX6_rises_92 : decode cX6_rises 92 = .ok (.iload 7, 2) := dk_21 7 (dk_at dksX6_rises_3 21 rfl rfl)
theorem dX6_rises_94 : decode cX6_rises 94 = .ok (.ifCond .eq 23, 3) := dk_153 0 23 (dk_at dksX6_rises_4 0 rfl rfl)
theorem dX6_rises_97 : decode cX6_rises 97 = .ok (.aload_n 0, 1) := dk_42 (dk_at dksX6_rises_4 3 rfl rfl)
theorem dX6_rises_98 : decode cX6_rises 98 = .ok (.iload_n 1, 1) := dk_27 (dk_at dksX6_rises_4 4 rfl rfl)
theorem dX6_rises_99 : decode cX6_rises 99 = .ok (.iload 6, 2) := dk_21 6 (dk_at dksX6_rises_4 5 rfl rfl)
theorem dX6_rises_101 : decode cX6_rises 101 = .ok (.invokevirtual 476, 3) := dk_182 1 220 (dk_at dksX6_rises_4 7 rfl rfl)
theorem dX6_rises_104 : decode cX6_rises 104 = .ok (.aload_n 0, 1) := dk_42 (dk_at dksX6_rises_4 10 rfl rfl)
theorem dX6_rises_105 : decode cX6_rises 105 = .ok (.iload_n 2, 1) := dk_28 (dk_at dksX6_rises_4 11 rfl rfl)
theorem dX6_rises_106 : decode cX6_rises 106 = .ok (.iload 6, 2) := dk_21 6 (dk_at dksX6_rises_4 12 rfl rfl)
theorem dX6_rises_108 : decode cX6_rises 108 = .ok (.invokevirtual 476, 3) := dk_182 1 220 (dk_at dksX6_rises_4 14 rfl rfl)
theorem dX6_rises_111 : decode cX6_rises 111 = .ok (.invokestatic 384, 3) := dk_184 1 128 (dk_at dksX6_rises_4 17 rfl rfl)
theorem dX6_rises_114 : decode cX6_rises 114 = .ok (.goto 4, 3) := dk_167 0 4 (dk_at dksX6_rises_4 20 rfl rfl)
theorem dX6_rises_117 : decode cX6_rises 117 = .ok (.iconst 0, 1) := dk_3 (dk_at dksX6_rises_4 23 rfl rfl)
theorem dX6_rises_118 : decode cX6_rises 118 = .ok (.iadd, 1) := dk_96 (dk_at dksX6_rises_5 0 rfl rfl)
theorem dX6_rises_119 : decode cX6_rises 119 = .ok (.istore 5, 2) := dk_54 5 (dk_at dksX6_rises_5 1 rfl rfl)
theorem dX6_rises_121 : decode cX6_rises 121 = .ok (.iinc 6 1, 3) := dk_132 6 1 (dk_at dksX6_rises_5 3 rfl rfl)
theorem dX6_rises_124 : decode cX6_rises 124 = .ok (.goto (-88), 3) := dk_167 255 168 (dk_at dksX6_rises_5 6 rfl rfl)
theorem dX6_rises_127 : decode cX6_rises 127 = .ok (.iload 5, 2) := dk_21 5 (dk_at dksX6_rises_5 9 rfl rfl)
theorem dX6_rises_129 : decode cX6_rises 129 = .ok (.ireturn, 1) := dk_172 (dk_at dksX6_rises_5 11 rfl rfl)
abbrev cX6_count : ByteArray := prog_16_method_113_code
def yX6_count : MethodName := ⟨RX6, "count", "(I)I"⟩
def dkwX6_count_3 : List UInt8 := [172, 42, 180, 1, 174, 172, 42, 180, 0, 163, 172, 42, 180, 0, 137, 172, 17, 252, 24, 172]
abbrev dktX6_count_3 : List UInt8 := dkwX6_count_3 ++ []
def dkwX6_count_2 : List UInt8 := [42, 180, 1, 190, 172, 42, 180, 1, 12, 172, 42, 180, 1, 18, 172, 42, 180, 1, 110, 172, 42, 180, 1, 136]
abbrev dktX6_count_2 : List UInt8 := dkwX6_count_2 ++ dktX6_count_3
def dkwX6_count_1 : List UInt8 := [170, 0, 0, 0, 0, 0, 87, 0, 0, 0, 0, 0, 0, 0, 7, 0, 0, 0, 52, 0, 0, 0, 57, 0, 0, 0, 62, 0, 0, 0, 67, 0, 0, 0, 72, 0, 0, 0, 77, 0, 0, 0, 82, 0, 0, 0, 47]
abbrev dktX6_count_1 : List UInt8 := dkwX6_count_1 ++ dktX6_count_2
def dkwX6_count_0 : List UInt8 := [27]
abbrev dktX6_count_0 : List UInt8 := dkwX6_count_0 ++ dktX6_count_1
theorem dksX6_count_0 : cX6_count.data.toList.drop 0 = dktX6_count_0 := by decide +kernel
theorem dksX6_count_1 : cX6_count.data.toList.drop 1 = dktX6_count_1 := dk_seg dksX6_count_0 1 rfl rfl
theorem dksX6_count_2 : cX6_count.data.toList.drop 48 = dktX6_count_2 := dk_seg dksX6_count_1 47 rfl rfl
theorem dksX6_count_3 : cX6_count.data.toList.drop 72 = dktX6_count_3 := dk_seg dksX6_count_2 24 rfl rfl
theorem dX6_count_0 : decode cX6_count 0 = .ok (.iload_n 1, 1) := dk_27 (dk_at dksX6_count_0 0 rfl rfl)
theorem dX6_count_1 : decode cX6_count 1 = .ok (.tableswitch 87 0 7 #[52, 57, 62, 67, 72, 77, 82, 47], 47) := by decide +kernel
theorem dX6_count_48 : decode cX6_count 48 = .ok (.aload_n 0, 1) := dk_42 (dk_at dksX6_count_2 0 rfl rfl)
theorem dX6_count_49 : decode cX6_count 49 = .ok (.getfield 446, 3) := dk_180 1 190 (dk_at dksX6_count_2 1 rfl rfl)
theorem dX6_count_52 : decode cX6_count 52 = .ok (.ireturn, 1) := dk_172 (dk_at dksX6_count_2 4 rfl rfl)
theorem dX6_count_53 : decode cX6_count 53 = .ok (.aload_n 0, 1) := dk_42 (dk_at dksX6_count_2 5 rfl rfl)
theorem dX6_count_54 : decode cX6_count 54 = .ok (.getfield 268, 3) := dk_180 1 12 (dk_at dksX6_count_2 6 rfl rfl)
theorem dX6_count_57 : decode cX6_count 57 = .ok (.ireturn, 1) := dk_172 (dk_at dksX6_count_2 9 rfl rfl)
theorem dX6_count_58 : decode cX6_count 58 = .ok (.aload_n 0, 1) := dk_42 (dk_at dksX6_count_2 10 rfl rfl)
theorem dX6_count_59 : decode cX6_count 59 = .ok (.getfield 274, 3) := dk_180 1 18 (dk_at dksX6_count_2 11 rfl rfl)
theorem dX6_count_62 : decode cX6_count 62 = .ok (.ireturn, 1) := dk_172 (dk_at dksX6_count_2 14 rfl rfl)
theorem dX6_count_63 : decode cX6_count 63 = .ok (.aload_n 0, 1) := dk_42 (dk_at dksX6_count_2 15 rfl rfl)
theorem dX6_count_64 : decode cX6_count 64 = .ok (.getfield 366, 3) := dk_180 1 110 (dk_at dksX6_count_2 16 rfl rfl)
theorem dX6_count_67 : decode cX6_count 67 = .ok (.ireturn, 1) := dk_172 (dk_at dksX6_count_2 19 rfl rfl)
theorem dX6_count_68 : decode cX6_count 68 = .ok (.aload_n 0, 1) := dk_42 (dk_at dksX6_count_2 20 rfl rfl)
theorem dX6_count_69 : decode cX6_count 69 = .ok (.getfield 392, 3) := dk_180 1 136 (dk_at dksX6_count_2 21 rfl rfl)
theorem dX6_count_72 : decode cX6_count 72 = .ok (.ireturn, 1) := dk_172 (dk_at dksX6_count_3 0 rfl rfl)
theorem dX6_count_73 : decode cX6_count 73 = .ok (.aload_n 0, 1) := dk_42 (dk_at dksX6_count_3 1 rfl rfl)
theorem dX6_count_74 : decode cX6_count 74 = .ok (.getfield 430, 3) := dk_180 1 174 (dk_at dksX6_count_3 2 rfl rfl)
theorem dX6_count_77 : decode cX6_count 77 = .ok (.ireturn, 1) := dk_172 (dk_at dksX6_count_3 5 rfl rfl)
theorem dX6_count_78 : decode cX6_count 78 = .ok (.aload_n 0, 1) := dk_42 (dk_at dksX6_count_3 6 rfl rfl)
theorem dX6_count_79 : decode cX6_count 79 = .ok (.getfield 163, 3) := dk_180 0 163 (dk_at dksX6_count_3 7 rfl rfl)
theorem dX6_count_82 : decode cX6_count 82 = .ok (.ireturn, 1) := dk_172 (dk_at dksX6_count_3 10 rfl rfl)
theorem dX6_count_83 : decode cX6_count 83 = .ok (.aload_n 0, 1) := dk_42 (dk_at dksX6_count_3 11 rfl rfl)
theorem dX6_count_84 : decode cX6_count 84 = .ok (.getfield 137, 3) := dk_180 0 137 (dk_at dksX6_count_3 12 rfl rfl)
theorem dX6_count_87 : decode cX6_count 87 = .ok (.ireturn, 1) := dk_172 (dk_at dksX6_count_3 15 rfl rfl)
theorem dX6_count_88 : decode cX6_count 88 = .ok (.sipush (-1000), 3) := dk_17 252 24 (dk_at dksX6_count_3 16 rfl rfl)
theorem dX6_count_91 : decode cX6_count 91 = .ok (.ireturn, 1) := dk_172 (dk_at dksX6_count_3 19 rfl rfl)
theorem q109 : (Jvm.Cond.initialized "DayBoyModel") ∈ lw_all := lw_g (lw_at lw_m1 6 rfl) rfl
theorem q1234 : (Jvm.Cond.instantiable "DayBoyModel" (71 : Nat)) ∈ lw_all := lw_g (lw_at lw_m5 171 rfl) rfl
theorem q1236 : (Jvm.Cond.instanceMethod ({ cls := "DayBoyModel", name := "<init>", desc := "()V" } : Jvm.MethodName)) ∈ lw_all := lw_g (lw_at lw_m5 173 rfl) rfl
theorem q1237 : (Jvm.Cond.code ({ cls := "DayBoyModel", name := "<init>", desc := "()V" } : Jvm.MethodName) prog_16_method_2_code (1 : Nat) (Option.none : Option Jvm.ClassFile.FieldType)) ∈ lw_all := lw_g (lw_at lw_m5 174 rfl) rfl
theorem q1238 : (Jvm.Cond.methodLink "DayBoyModel" (1 : Nat) ({ cls := "java/lang/Object", name := "<init>", desc := "()V" } : Jvm.MethodName)) ∈ lw_all := lw_g (lw_at lw_m5 175 rfl) rfl
theorem q1239 : (Jvm.Cond.constant "DayBoyModel" (38 : Nat) (280028 : Int32)) ∈ lw_all := lw_g (lw_at lw_m5 176 rfl) rfl
theorem q1240 : (Jvm.Cond.constant "DayBoyModel" (81 : Nat) (90009 : Int32)) ∈ lw_all := lw_g (lw_at lw_m5 177 rfl) rfl
theorem q1241 : (Jvm.Cond.fieldLink "DayBoyModel" (156 : Nat) "DayBoyModel" "thrown" "I") ∈ lw_all := lw_g (lw_at lw_m5 178 rfl) rfl
theorem q1242 : (Jvm.Cond.fieldLink "DayBoyModel" (7 : Nat) "DayBoyModel" "tape" "[I") ∈ lw_all := lw_g (lw_at lw_m5 179 rfl) rfl
theorem q1243 : (Jvm.Cond.fieldLink "DayBoyModel" (163 : Nat) "DayBoyModel" "size" "I") ∈ lw_all := lw_g (lw_at lw_m5 180 rfl) rfl
theorem q1244 : (Jvm.Cond.fieldLink "DayBoyModel" (166 : Nat) "DayBoyModel" "at" "I") ∈ lw_all := lw_g (lw_at lw_m5 181 rfl) rfl
theorem q1245 : (Jvm.Cond.fieldLink "DayBoyModel" (173 : Nat) "DayBoyModel" "wrong" "I") ∈ lw_all := lw_g (lw_at lw_m5 182 rfl) rfl
theorem q1246 : (Jvm.Cond.fieldLink "DayBoyModel" (13 : Nat) "DayBoyModel" "start" "[I") ∈ lw_all := lw_g (lw_at lw_m5 183 rfl) rfl
theorem q1247 : (Jvm.Cond.fieldLink "DayBoyModel" (16 : Nat) "DayBoyModel" "stretches" "[I") ∈ lw_all := lw_g (lw_at lw_m5 184 rfl) rfl
theorem q1248 : (Jvm.Cond.fieldLink "DayBoyModel" (19 : Nat) "DayBoyModel" "leapMany" "[I") ∈ lw_all := lw_g (lw_at lw_m5 185 rfl) rfl
theorem q1249 : (Jvm.Cond.fieldLink "DayBoyModel" (22 : Nat) "DayBoyModel" "leapBy" "[I") ∈ lw_all := lw_g (lw_at lw_m5 186 rfl) rfl
theorem q1250 : (Jvm.Cond.fieldLink "DayBoyModel" (25 : Nat) "DayBoyModel" "leapIs" "[Z") ∈ lw_all := lw_g (lw_at lw_m5 187 rfl) rfl
theorem q1251 : (Jvm.Cond.fieldLink "DayBoyModel" (29 : Nat) "DayBoyModel" "lastOf" "[I") ∈ lw_all := lw_g (lw_at lw_m5 188 rfl) rfl
theorem q1252 : (Jvm.Cond.fieldLink "DayBoyModel" (32 : Nat) "DayBoyModel" "firstOf" "[I") ∈ lw_all := lw_g (lw_at lw_m5 189 rfl) rfl
theorem q1253 : (Jvm.Cond.fieldLink "DayBoyModel" (35 : Nat) "DayBoyModel" "firstDay" "[I") ∈ lw_all := lw_g (lw_at lw_m5 190 rfl) rfl
theorem q1254 : (Jvm.Cond.fieldLink "DayBoyModel" (39 : Nat) "DayBoyModel" "before" "[I") ∈ lw_all := lw_g (lw_at lw_m5 191 rfl) rfl
theorem q1255 : (Jvm.Cond.fieldLink "DayBoyModel" (268 : Nat) "DayBoyModel" "calendars" "I") ∈ lw_all := lw_g (lw_at lw_m5 192 rfl) rfl
theorem q1256 : (Jvm.Cond.fieldLink "DayBoyModel" (42 : Nat) "DayBoyModel" "knows" "[I") ∈ lw_all := lw_g (lw_at lw_m5 193 rfl) rfl
theorem q1257 : (Jvm.Cond.fieldLink "DayBoyModel" (45 : Nat) "DayBoyModel" "knownFrom" "[I") ∈ lw_all := lw_g (lw_at lw_m5 194 rfl) rfl
theorem q1258 : (Jvm.Cond.fieldLink "DayBoyModel" (48 : Nat) "DayBoyModel" "knownTo" "[I") ∈ lw_all := lw_g (lw_at lw_m5 195 rfl) rfl
theorem q1259 : (Jvm.Cond.fieldLink "DayBoyModel" (51 : Nat) "DayBoyModel" "steps" "[I") ∈ lw_all := lw_g (lw_at lw_m5 196 rfl) rfl
theorem q1260 : (Jvm.Cond.fieldLink "DayBoyModel" (54 : Nat) "DayBoyModel" "stepBy" "[I") ∈ lw_all := lw_g (lw_at lw_m5 197 rfl) rfl
theorem q1261 : (Jvm.Cond.fieldLink "DayBoyModel" (57 : Nat) "DayBoyModel" "stepCost" "[I") ∈ lw_all := lw_g (lw_at lw_m5 198 rfl) rfl
theorem q1262 : (Jvm.Cond.fieldLink "DayBoyModel" (60 : Nat) "DayBoyModel" "likes" "[I") ∈ lw_all := lw_g (lw_at lw_m5 199 rfl) rfl
theorem q1263 : (Jvm.Cond.fieldLink "DayBoyModel" (63 : Nat) "DayBoyModel" "likeOne" "[I") ∈ lw_all := lw_g (lw_at lw_m5 200 rfl) rfl
theorem q1264 : (Jvm.Cond.fieldLink "DayBoyModel" (66 : Nat) "DayBoyModel" "likeOther" "[I") ∈ lw_all := lw_g (lw_at lw_m5 201 rfl) rfl
theorem q1265 : (Jvm.Cond.fieldLink "DayBoyModel" (69 : Nat) "DayBoyModel" "likeCost" "[I") ∈ lw_all := lw_g (lw_at lw_m5 202 rfl) rfl
theorem q1266 : (Jvm.Cond.fieldLink "DayBoyModel" (72 : Nat) "DayBoyModel" "months" "[I") ∈ lw_all := lw_g (lw_at lw_m5 203 rfl) rfl
theorem q1267 : (Jvm.Cond.fieldLink "DayBoyModel" (75 : Nat) "DayBoyModel" "costs" "[I") ∈ lw_all := lw_g (lw_at lw_m5 204 rfl) rfl
theorem q1268 : (Jvm.Cond.fieldLink "DayBoyModel" (78 : Nat) "DayBoyModel" "weight" "[I") ∈ lw_all := lw_g (lw_at lw_m5 205 rfl) rfl
theorem q1269 : (Jvm.Cond.fieldLink "DayBoyModel" (274 : Nat) "DayBoyModel" "heads" "I") ∈ lw_all := lw_g (lw_at lw_m5 206 rfl) rfl
theorem q1270 : (Jvm.Cond.fieldLink "DayBoyModel" (251 : Nat) "DayBoyModel" "given" "I") ∈ lw_all := lw_g (lw_at lw_m5 207 rfl) rfl
theorem q1271 : (Jvm.Cond.fieldLink "DayBoyModel" (82 : Nat) "DayBoyModel" "yearStill" "[J") ∈ lw_all := lw_g (lw_at lw_m5 208 rfl) rfl
theorem q1272 : (Jvm.Cond.fieldLink "DayBoyModel" (86 : Nat) "DayBoyModel" "monthStill" "[J") ∈ lw_all := lw_g (lw_at lw_m5 209 rfl) rfl
theorem q1273 : (Jvm.Cond.fieldLink "DayBoyModel" (89 : Nat) "DayBoyModel" "queue" "[I") ∈ lw_all := lw_g (lw_at lw_m5 210 rfl) rfl
theorem q1274 : (Jvm.Cond.fieldLink "DayBoyModel" (92 : Nat) "DayBoyModel" "waits" "[Z") ∈ lw_all := lw_g (lw_at lw_m5 211 rfl) rfl
theorem q1275 : (Jvm.Cond.fieldLink "DayBoyModel" (306 : Nat) "DayBoyModel" "first" "I") ∈ lw_all := lw_g (lw_at lw_m5 212 rfl) rfl
theorem q1276 : (Jvm.Cond.fieldLink "DayBoyModel" (309 : Nat) "DayBoyModel" "waiting" "I") ∈ lw_all := lw_g (lw_at lw_m5 213 rfl) rfl
theorem q1277 : (Jvm.Cond.fieldLink "DayBoyModel" (95 : Nat) "DayBoyModel" "yearRow" "[I") ∈ lw_all := lw_g (lw_at lw_m5 214 rfl) rfl
theorem q1278 : (Jvm.Cond.fieldLink "DayBoyModel" (98 : Nat) "DayBoyModel" "monthRow" "[I") ∈ lw_all := lw_g (lw_at lw_m5 215 rfl) rfl
theorem q1279 : (Jvm.Cond.fieldLink "DayBoyModel" (332 : Nat) "DayBoyModel" "yearMany" "I") ∈ lw_all := lw_g (lw_at lw_m5 216 rfl) rfl
theorem q1280 : (Jvm.Cond.fieldLink "DayBoyModel" (338 : Nat) "DayBoyModel" "monthMany" "I") ∈ lw_all := lw_g (lw_at lw_m5 217 rfl) rfl
theorem q1281 : (Jvm.Cond.fieldLink "DayBoyModel" (350 : Nat) "DayBoyModel" "theAnswer" "I") ∈ lw_all := lw_g (lw_at lw_m5 218 rfl) rfl
theorem q1282 : (Jvm.Cond.fieldLink "DayBoyModel" (353 : Nat) "DayBoyModel" "theTenths" "I") ∈ lw_all := lw_g (lw_at lw_m5 219 rfl) rfl
theorem q1283 : (Jvm.Cond.fieldLink "DayBoyModel" (101 : Nat) "DayBoyModel" "askMonth" "[I") ∈ lw_all := lw_g (lw_at lw_m5 220 rfl) rfl
theorem q1284 : (Jvm.Cond.fieldLink "DayBoyModel" (104 : Nat) "DayBoyModel" "askCalendar" "[I") ∈ lw_all := lw_g (lw_at lw_m5 221 rfl) rfl
theorem q1285 : (Jvm.Cond.fieldLink "DayBoyModel" (107 : Nat) "DayBoyModel" "askYear" "[I") ∈ lw_all := lw_g (lw_at lw_m5 222 rfl) rfl
theorem q1286 : (Jvm.Cond.fieldLink "DayBoyModel" (110 : Nat) "DayBoyModel" "askM" "[I") ∈ lw_all := lw_g (lw_at lw_m5 223 rfl) rfl
theorem q1287 : (Jvm.Cond.fieldLink "DayBoyModel" (113 : Nat) "DayBoyModel" "askD" "[I") ∈ lw_all := lw_g (lw_at lw_m5 224 rfl) rfl
theorem q1288 : (Jvm.Cond.fieldLink "DayBoyModel" (116 : Nat) "DayBoyModel" "askAnswer" "[I") ∈ lw_all := lw_g (lw_at lw_m5 225 rfl) rfl
theorem q1289 : (Jvm.Cond.fieldLink "DayBoyModel" (119 : Nat) "DayBoyModel" "askTenths" "[I") ∈ lw_all := lw_g (lw_at lw_m5 226 rfl) rfl
theorem q1290 : (Jvm.Cond.fieldLink "DayBoyModel" (366 : Nat) "DayBoyModel" "asks" "I") ∈ lw_all := lw_g (lw_at lw_m5 227 rfl) rfl
theorem q1291 : (Jvm.Cond.fieldLink "DayBoyModel" (122 : Nat) "DayBoyModel" "planCalendar" "[I") ∈ lw_all := lw_g (lw_at lw_m5 228 rfl) rfl
theorem q1292 : (Jvm.Cond.fieldLink "DayBoyModel" (125 : Nat) "DayBoyModel" "planYear" "[I") ∈ lw_all := lw_g (lw_at lw_m5 229 rfl) rfl
theorem q1293 : (Jvm.Cond.fieldLink "DayBoyModel" (128 : Nat) "DayBoyModel" "planM" "[I") ∈ lw_all := lw_g (lw_at lw_m5 230 rfl) rfl
theorem q1294 : (Jvm.Cond.fieldLink "DayBoyModel" (131 : Nat) "DayBoyModel" "planD" "[I") ∈ lw_all := lw_g (lw_at lw_m5 231 rfl) rfl
theorem q1295 : (Jvm.Cond.fieldLink "DayBoyModel" (392 : Nat) "DayBoyModel" "plans" "I") ∈ lw_all := lw_g (lw_at lw_m5 232 rfl) rfl
theorem q1296 : (Jvm.Cond.fieldLink "DayBoyModel" (134 : Nat) "DayBoyModel" "nearBy" "[I") ∈ lw_all := lw_g (lw_at lw_m5 233 rfl) rfl
theorem q1297 : (Jvm.Cond.fieldLink "DayBoyModel" (137 : Nat) "DayBoyModel" "birth" "I") ∈ lw_all := lw_g (lw_at lw_m5 234 rfl) rfl
theorem q1298 : (Jvm.Cond.fieldLink "DayBoyModel" (415 : Nat) "DayBoyModel" "birthCalendar" "I") ∈ lw_all := lw_g (lw_at lw_m5 235 rfl) rfl
theorem q1299 : (Jvm.Cond.fieldLink "DayBoyModel" (418 : Nat) "DayBoyModel" "birthYear" "I") ∈ lw_all := lw_g (lw_at lw_m5 236 rfl) rfl
theorem q1300 : (Jvm.Cond.fieldLink "DayBoyModel" (421 : Nat) "DayBoyModel" "birthM" "I") ∈ lw_all := lw_g (lw_at lw_m5 237 rfl) rfl
theorem q1301 : (Jvm.Cond.fieldLink "DayBoyModel" (424 : Nat) "DayBoyModel" "birthD" "I") ∈ lw_all := lw_g (lw_at lw_m5 238 rfl) rfl
theorem q1302 : (Jvm.Cond.fieldLink "DayBoyModel" (141 : Nat) "DayBoyModel" "eventDay" "[I") ∈ lw_all := lw_g (lw_at lw_m5 239 rfl) rfl
theorem q1303 : (Jvm.Cond.fieldLink "DayBoyModel" (144 : Nat) "DayBoyModel" "eventSort" "[I") ∈ lw_all := lw_g (lw_at lw_m6 0 rfl) rfl
theorem q1304 : (Jvm.Cond.fieldLink "DayBoyModel" (430 : Nat) "DayBoyModel" "events" "I") ∈ lw_all := lw_g (lw_at lw_m6 1 rfl) rfl
theorem q1305 : (Jvm.Cond.fieldLink "DayBoyModel" (436 : Nat) "DayBoyModel" "keptAsks" "I") ∈ lw_all := lw_g (lw_at lw_m6 2 rfl) rfl
theorem q1306 : (Jvm.Cond.fieldLink "DayBoyModel" (439 : Nat) "DayBoyModel" "keptEvents" "I") ∈ lw_all := lw_g (lw_at lw_m6 3 rfl) rfl
theorem q1307 : (Jvm.Cond.fieldLink "DayBoyModel" (147 : Nat) "DayBoyModel" "rowYear" "[I") ∈ lw_all := lw_g (lw_at lw_m6 4 rfl) rfl
theorem q1308 : (Jvm.Cond.fieldLink "DayBoyModel" (150 : Nat) "DayBoyModel" "rowM" "[I") ∈ lw_all := lw_g (lw_at lw_m6 5 rfl) rfl
theorem q1309 : (Jvm.Cond.fieldLink "DayBoyModel" (153 : Nat) "DayBoyModel" "rowD" "[I") ∈ lw_all := lw_g (lw_at lw_m6 6 rfl) rfl
theorem q1310 : (Jvm.Cond.fieldLink "DayBoyModel" (446 : Nat) "DayBoyModel" "things" "I") ∈ lw_all := lw_g (lw_at lw_m6 7 rfl) rfl
theorem q1311 : (Jvm.Cond.fieldLink "DayBoyModel" (449 : Nat) "DayBoyModel" "draws" "J") ∈ lw_all := lw_g (lw_at lw_m6 8 rfl) rfl
theorem q1312 : (Jvm.Cond.lays "DayBoyModel" "DayBoyModel" "thrown" "I") ∈ lw_all := lw_g (lw_at lw_m6 9 rfl) rfl
theorem q1313 : (Jvm.Cond.soleField "DayBoyModel" "thrown") ∈ lw_all := lw_g (lw_at lw_m6 10 rfl) rfl
theorem q1314 : (Jvm.Cond.laysFinal "DayBoyModel" "DayBoyModel" "tape" "[I") ∈ lw_all := lw_g (lw_at lw_m6 11 rfl) rfl
theorem q1315 : (Jvm.Cond.soleField "DayBoyModel" "tape") ∈ lw_all := lw_g (lw_at lw_m6 12 rfl) rfl
theorem q1316 : (Jvm.Cond.lays "DayBoyModel" "DayBoyModel" "size" "I") ∈ lw_all := lw_g (lw_at lw_m6 13 rfl) rfl
theorem q1317 : (Jvm.Cond.soleField "DayBoyModel" "size") ∈ lw_all := lw_g (lw_at lw_m6 14 rfl) rfl
theorem q1318 : (Jvm.Cond.lays "DayBoyModel" "DayBoyModel" "at" "I") ∈ lw_all := lw_g (lw_at lw_m6 15 rfl) rfl
theorem q1319 : (Jvm.Cond.soleField "DayBoyModel" "at") ∈ lw_all := lw_g (lw_at lw_m6 16 rfl) rfl
theorem q1320 : (Jvm.Cond.lays "DayBoyModel" "DayBoyModel" "wrong" "I") ∈ lw_all := lw_g (lw_at lw_m6 17 rfl) rfl
theorem q1321 : (Jvm.Cond.soleField "DayBoyModel" "wrong") ∈ lw_all := lw_g (lw_at lw_m6 18 rfl) rfl
theorem q1322 : (Jvm.Cond.laysFinal "DayBoyModel" "DayBoyModel" "start" "[I") ∈ lw_all := lw_g (lw_at lw_m6 19 rfl) rfl
theorem q1323 : (Jvm.Cond.soleField "DayBoyModel" "start") ∈ lw_all := lw_g (lw_at lw_m6 20 rfl) rfl
theorem q1324 : (Jvm.Cond.laysFinal "DayBoyModel" "DayBoyModel" "stretches" "[I") ∈ lw_all := lw_g (lw_at lw_m6 21 rfl) rfl
theorem q1325 : (Jvm.Cond.soleField "DayBoyModel" "stretches") ∈ lw_all := lw_g (lw_at lw_m6 22 rfl) rfl
theorem q1326 : (Jvm.Cond.laysFinal "DayBoyModel" "DayBoyModel" "leapMany" "[I") ∈ lw_all := lw_g (lw_at lw_m6 23 rfl) rfl
theorem q1327 : (Jvm.Cond.soleField "DayBoyModel" "leapMany") ∈ lw_all := lw_g (lw_at lw_m6 24 rfl) rfl
theorem q1328 : (Jvm.Cond.laysFinal "DayBoyModel" "DayBoyModel" "leapBy" "[I") ∈ lw_all := lw_g (lw_at lw_m6 25 rfl) rfl
theorem q1329 : (Jvm.Cond.soleField "DayBoyModel" "leapBy") ∈ lw_all := lw_g (lw_at lw_m6 26 rfl) rfl
theorem q1330 : (Jvm.Cond.laysFinal "DayBoyModel" "DayBoyModel" "leapIs" "[Z") ∈ lw_all := lw_g (lw_at lw_m6 27 rfl) rfl
theorem q1331 : (Jvm.Cond.soleField "DayBoyModel" "leapIs") ∈ lw_all := lw_g (lw_at lw_m6 28 rfl) rfl
theorem q1332 : (Jvm.Cond.laysFinal "DayBoyModel" "DayBoyModel" "lastOf" "[I") ∈ lw_all := lw_g (lw_at lw_m6 29 rfl) rfl
theorem q1333 : (Jvm.Cond.soleField "DayBoyModel" "lastOf") ∈ lw_all := lw_g (lw_at lw_m6 30 rfl) rfl
theorem q1334 : (Jvm.Cond.laysFinal "DayBoyModel" "DayBoyModel" "firstOf" "[I") ∈ lw_all := lw_g (lw_at lw_m6 31 rfl) rfl
theorem q1335 : (Jvm.Cond.soleField "DayBoyModel" "firstOf") ∈ lw_all := lw_g (lw_at lw_m6 32 rfl) rfl
theorem q1336 : (Jvm.Cond.laysFinal "DayBoyModel" "DayBoyModel" "firstDay" "[I") ∈ lw_all := lw_g (lw_at lw_m6 33 rfl) rfl
theorem q1337 : (Jvm.Cond.soleField "DayBoyModel" "firstDay") ∈ lw_all := lw_g (lw_at lw_m6 34 rfl) rfl
theorem q1338 : (Jvm.Cond.laysFinal "DayBoyModel" "DayBoyModel" "before" "[I") ∈ lw_all := lw_g (lw_at lw_m6 35 rfl) rfl
theorem q1339 : (Jvm.Cond.soleField "DayBoyModel" "before") ∈ lw_all := lw_g (lw_at lw_m6 36 rfl) rfl
theorem q1340 : (Jvm.Cond.lays "DayBoyModel" "DayBoyModel" "calendars" "I") ∈ lw_all := lw_g (lw_at lw_m6 37 rfl) rfl
theorem q1341 : (Jvm.Cond.soleField "DayBoyModel" "calendars") ∈ lw_all := lw_g (lw_at lw_m6 38 rfl) rfl
theorem q1342 : (Jvm.Cond.laysFinal "DayBoyModel" "DayBoyModel" "knows" "[I") ∈ lw_all := lw_g (lw_at lw_m6 39 rfl) rfl
theorem q1343 : (Jvm.Cond.soleField "DayBoyModel" "knows") ∈ lw_all := lw_g (lw_at lw_m6 40 rfl) rfl
theorem q1344 : (Jvm.Cond.laysFinal "DayBoyModel" "DayBoyModel" "knownFrom" "[I") ∈ lw_all := lw_g (lw_at lw_m6 41 rfl) rfl
theorem q1345 : (Jvm.Cond.soleField "DayBoyModel" "knownFrom") ∈ lw_all := lw_g (lw_at lw_m6 42 rfl) rfl
theorem q1346 : (Jvm.Cond.laysFinal "DayBoyModel" "DayBoyModel" "knownTo" "[I") ∈ lw_all := lw_g (lw_at lw_m6 43 rfl) rfl
theorem q1347 : (Jvm.Cond.soleField "DayBoyModel" "knownTo") ∈ lw_all := lw_g (lw_at lw_m6 44 rfl) rfl
theorem q1348 : (Jvm.Cond.laysFinal "DayBoyModel" "DayBoyModel" "steps" "[I") ∈ lw_all := lw_g (lw_at lw_m6 45 rfl) rfl
theorem q1349 : (Jvm.Cond.soleField "DayBoyModel" "steps") ∈ lw_all := lw_g (lw_at lw_m6 46 rfl) rfl
theorem q1350 : (Jvm.Cond.laysFinal "DayBoyModel" "DayBoyModel" "stepBy" "[I") ∈ lw_all := lw_g (lw_at lw_m6 47 rfl) rfl
theorem q1351 : (Jvm.Cond.soleField "DayBoyModel" "stepBy") ∈ lw_all := lw_g (lw_at lw_m6 48 rfl) rfl
theorem q1352 : (Jvm.Cond.laysFinal "DayBoyModel" "DayBoyModel" "stepCost" "[I") ∈ lw_all := lw_g (lw_at lw_m6 49 rfl) rfl
theorem q1353 : (Jvm.Cond.soleField "DayBoyModel" "stepCost") ∈ lw_all := lw_g (lw_at lw_m6 50 rfl) rfl
theorem q1354 : (Jvm.Cond.laysFinal "DayBoyModel" "DayBoyModel" "likes" "[I") ∈ lw_all := lw_g (lw_at lw_m6 51 rfl) rfl
theorem q1355 : (Jvm.Cond.soleField "DayBoyModel" "likes") ∈ lw_all := lw_g (lw_at lw_m6 52 rfl) rfl
theorem q1356 : (Jvm.Cond.laysFinal "DayBoyModel" "DayBoyModel" "likeOne" "[I") ∈ lw_all := lw_g (lw_at lw_m6 53 rfl) rfl
theorem q1357 : (Jvm.Cond.soleField "DayBoyModel" "likeOne") ∈ lw_all := lw_g (lw_at lw_m6 54 rfl) rfl
theorem q1358 : (Jvm.Cond.laysFinal "DayBoyModel" "DayBoyModel" "likeOther" "[I") ∈ lw_all := lw_g (lw_at lw_m6 55 rfl) rfl
theorem q1359 : (Jvm.Cond.soleField "DayBoyModel" "likeOther") ∈ lw_all := lw_g (lw_at lw_m6 56 rfl) rfl
theorem q1360 : (Jvm.Cond.laysFinal "DayBoyModel" "DayBoyModel" "likeCost" "[I") ∈ lw_all := lw_g (lw_at lw_m6 57 rfl) rfl
theorem q1361 : (Jvm.Cond.soleField "DayBoyModel" "likeCost") ∈ lw_all := lw_g (lw_at lw_m6 58 rfl) rfl
theorem q1362 : (Jvm.Cond.laysFinal "DayBoyModel" "DayBoyModel" "months" "[I") ∈ lw_all := lw_g (lw_at lw_m6 59 rfl) rfl
theorem q1363 : (Jvm.Cond.soleField "DayBoyModel" "months") ∈ lw_all := lw_g (lw_at lw_m6 60 rfl) rfl
theorem q1364 : (Jvm.Cond.laysFinal "DayBoyModel" "DayBoyModel" "costs" "[I") ∈ lw_all := lw_g (lw_at lw_m6 61 rfl) rfl
theorem q1365 : (Jvm.Cond.soleField "DayBoyModel" "costs") ∈ lw_all := lw_g (lw_at lw_m6 62 rfl) rfl
theorem q1366 : (Jvm.Cond.laysFinal "DayBoyModel" "DayBoyModel" "weight" "[I") ∈ lw_all := lw_g (lw_at lw_m6 63 rfl) rfl
theorem q1367 : (Jvm.Cond.soleField "DayBoyModel" "weight") ∈ lw_all := lw_g (lw_at lw_m6 64 rfl) rfl
theorem q1368 : (Jvm.Cond.lays "DayBoyModel" "DayBoyModel" "heads" "I") ∈ lw_all := lw_g (lw_at lw_m6 65 rfl) rfl
theorem q1369 : (Jvm.Cond.soleField "DayBoyModel" "heads") ∈ lw_all := lw_g (lw_at lw_m6 66 rfl) rfl
theorem q1370 : (Jvm.Cond.lays "DayBoyModel" "DayBoyModel" "given" "I") ∈ lw_all := lw_g (lw_at lw_m6 67 rfl) rfl
theorem q1371 : (Jvm.Cond.soleField "DayBoyModel" "given") ∈ lw_all := lw_g (lw_at lw_m6 68 rfl) rfl
theorem q1372 : (Jvm.Cond.laysFinal "DayBoyModel" "DayBoyModel" "yearStill" "[J") ∈ lw_all := lw_g (lw_at lw_m6 69 rfl) rfl
theorem q1373 : (Jvm.Cond.soleField "DayBoyModel" "yearStill") ∈ lw_all := lw_g (lw_at lw_m6 70 rfl) rfl
theorem q1374 : (Jvm.Cond.laysFinal "DayBoyModel" "DayBoyModel" "monthStill" "[J") ∈ lw_all := lw_g (lw_at lw_m6 71 rfl) rfl
theorem q1375 : (Jvm.Cond.soleField "DayBoyModel" "monthStill") ∈ lw_all := lw_g (lw_at lw_m6 72 rfl) rfl
theorem q1376 : (Jvm.Cond.laysFinal "DayBoyModel" "DayBoyModel" "queue" "[I") ∈ lw_all := lw_g (lw_at lw_m6 73 rfl) rfl
theorem q1377 : (Jvm.Cond.soleField "DayBoyModel" "queue") ∈ lw_all := lw_g (lw_at lw_m6 74 rfl) rfl
theorem q1378 : (Jvm.Cond.laysFinal "DayBoyModel" "DayBoyModel" "waits" "[Z") ∈ lw_all := lw_g (lw_at lw_m6 75 rfl) rfl
theorem q1379 : (Jvm.Cond.soleField "DayBoyModel" "waits") ∈ lw_all := lw_g (lw_at lw_m6 76 rfl) rfl
theorem q1380 : (Jvm.Cond.lays "DayBoyModel" "DayBoyModel" "first" "I") ∈ lw_all := lw_g (lw_at lw_m6 77 rfl) rfl
theorem q1381 : (Jvm.Cond.soleField "DayBoyModel" "first") ∈ lw_all := lw_g (lw_at lw_m6 78 rfl) rfl
theorem q1382 : (Jvm.Cond.lays "DayBoyModel" "DayBoyModel" "waiting" "I") ∈ lw_all := lw_g (lw_at lw_m6 79 rfl) rfl
theorem q1383 : (Jvm.Cond.soleField "DayBoyModel" "waiting") ∈ lw_all := lw_g (lw_at lw_m6 80 rfl) rfl
theorem q1384 : (Jvm.Cond.laysFinal "DayBoyModel" "DayBoyModel" "yearRow" "[I") ∈ lw_all := lw_g (lw_at lw_m6 81 rfl) rfl
theorem q1385 : (Jvm.Cond.soleField "DayBoyModel" "yearRow") ∈ lw_all := lw_g (lw_at lw_m6 82 rfl) rfl
theorem q1386 : (Jvm.Cond.laysFinal "DayBoyModel" "DayBoyModel" "monthRow" "[I") ∈ lw_all := lw_g (lw_at lw_m6 83 rfl) rfl
theorem q1387 : (Jvm.Cond.soleField "DayBoyModel" "monthRow") ∈ lw_all := lw_g (lw_at lw_m6 84 rfl) rfl
theorem q1388 : (Jvm.Cond.lays "DayBoyModel" "DayBoyModel" "yearMany" "I") ∈ lw_all := lw_g (lw_at lw_m6 85 rfl) rfl
theorem q1389 : (Jvm.Cond.soleField "DayBoyModel" "yearMany") ∈ lw_all := lw_g (lw_at lw_m6 86 rfl) rfl
theorem q1390 : (Jvm.Cond.lays "DayBoyModel" "DayBoyModel" "monthMany" "I") ∈ lw_all := lw_g (lw_at lw_m6 87 rfl) rfl
theorem q1391 : (Jvm.Cond.soleField "DayBoyModel" "monthMany") ∈ lw_all := lw_g (lw_at lw_m6 88 rfl) rfl
theorem q1392 : (Jvm.Cond.lays "DayBoyModel" "DayBoyModel" "theAnswer" "I") ∈ lw_all := lw_g (lw_at lw_m6 89 rfl) rfl
theorem q1393 : (Jvm.Cond.soleField "DayBoyModel" "theAnswer") ∈ lw_all := lw_g (lw_at lw_m6 90 rfl) rfl
theorem q1394 : (Jvm.Cond.lays "DayBoyModel" "DayBoyModel" "theTenths" "I") ∈ lw_all := lw_g (lw_at lw_m6 91 rfl) rfl
theorem q1395 : (Jvm.Cond.soleField "DayBoyModel" "theTenths") ∈ lw_all := lw_g (lw_at lw_m6 92 rfl) rfl
theorem q1396 : (Jvm.Cond.laysFinal "DayBoyModel" "DayBoyModel" "askMonth" "[I") ∈ lw_all := lw_g (lw_at lw_m6 93 rfl) rfl
theorem q1397 : (Jvm.Cond.soleField "DayBoyModel" "askMonth") ∈ lw_all := lw_g (lw_at lw_m6 94 rfl) rfl
theorem q1398 : (Jvm.Cond.laysFinal "DayBoyModel" "DayBoyModel" "askCalendar" "[I") ∈ lw_all := lw_g (lw_at lw_m6 95 rfl) rfl
theorem q1399 : (Jvm.Cond.soleField "DayBoyModel" "askCalendar") ∈ lw_all := lw_g (lw_at lw_m6 96 rfl) rfl
theorem q1400 : (Jvm.Cond.laysFinal "DayBoyModel" "DayBoyModel" "askYear" "[I") ∈ lw_all := lw_g (lw_at lw_m6 97 rfl) rfl
theorem q1401 : (Jvm.Cond.soleField "DayBoyModel" "askYear") ∈ lw_all := lw_g (lw_at lw_m6 98 rfl) rfl
theorem q1402 : (Jvm.Cond.laysFinal "DayBoyModel" "DayBoyModel" "askM" "[I") ∈ lw_all := lw_g (lw_at lw_m6 99 rfl) rfl
theorem q1403 : (Jvm.Cond.soleField "DayBoyModel" "askM") ∈ lw_all := lw_g (lw_at lw_m6 100 rfl) rfl
theorem q1404 : (Jvm.Cond.laysFinal "DayBoyModel" "DayBoyModel" "askD" "[I") ∈ lw_all := lw_g (lw_at lw_m6 101 rfl) rfl
theorem q1405 : (Jvm.Cond.soleField "DayBoyModel" "askD") ∈ lw_all := lw_g (lw_at lw_m6 102 rfl) rfl
theorem q1406 : (Jvm.Cond.laysFinal "DayBoyModel" "DayBoyModel" "askAnswer" "[I") ∈ lw_all := lw_g (lw_at lw_m6 103 rfl) rfl
theorem q1407 : (Jvm.Cond.soleField "DayBoyModel" "askAnswer") ∈ lw_all := lw_g (lw_at lw_m6 104 rfl) rfl
theorem q1408 : (Jvm.Cond.laysFinal "DayBoyModel" "DayBoyModel" "askTenths" "[I") ∈ lw_all := lw_g (lw_at lw_m6 105 rfl) rfl
theorem q1409 : (Jvm.Cond.soleField "DayBoyModel" "askTenths") ∈ lw_all := lw_g (lw_at lw_m6 106 rfl) rfl
theorem q1410 : (Jvm.Cond.lays "DayBoyModel" "DayBoyModel" "asks" "I") ∈ lw_all := lw_g (lw_at lw_m6 107 rfl) rfl
theorem q1411 : (Jvm.Cond.soleField "DayBoyModel" "asks") ∈ lw_all := lw_g (lw_at lw_m6 108 rfl) rfl
theorem q1412 : (Jvm.Cond.laysFinal "DayBoyModel" "DayBoyModel" "planCalendar" "[I") ∈ lw_all := lw_g (lw_at lw_m6 109 rfl) rfl
theorem q1413 : (Jvm.Cond.soleField "DayBoyModel" "planCalendar") ∈ lw_all := lw_g (lw_at lw_m6 110 rfl) rfl
theorem q1414 : (Jvm.Cond.laysFinal "DayBoyModel" "DayBoyModel" "planYear" "[I") ∈ lw_all := lw_g (lw_at lw_m6 111 rfl) rfl
theorem q1415 : (Jvm.Cond.soleField "DayBoyModel" "planYear") ∈ lw_all := lw_g (lw_at lw_m6 112 rfl) rfl
theorem q1416 : (Jvm.Cond.laysFinal "DayBoyModel" "DayBoyModel" "planM" "[I") ∈ lw_all := lw_g (lw_at lw_m6 113 rfl) rfl
theorem q1417 : (Jvm.Cond.soleField "DayBoyModel" "planM") ∈ lw_all := lw_g (lw_at lw_m6 114 rfl) rfl
theorem q1418 : (Jvm.Cond.laysFinal "DayBoyModel" "DayBoyModel" "planD" "[I") ∈ lw_all := lw_g (lw_at lw_m6 115 rfl) rfl
theorem q1419 : (Jvm.Cond.soleField "DayBoyModel" "planD") ∈ lw_all := lw_g (lw_at lw_m6 116 rfl) rfl
theorem q1420 : (Jvm.Cond.lays "DayBoyModel" "DayBoyModel" "plans" "I") ∈ lw_all := lw_g (lw_at lw_m6 117 rfl) rfl
theorem q1421 : (Jvm.Cond.soleField "DayBoyModel" "plans") ∈ lw_all := lw_g (lw_at lw_m6 118 rfl) rfl
theorem q1422 : (Jvm.Cond.laysFinal "DayBoyModel" "DayBoyModel" "nearBy" "[I") ∈ lw_all := lw_g (lw_at lw_m6 119 rfl) rfl
theorem q1423 : (Jvm.Cond.soleField "DayBoyModel" "nearBy") ∈ lw_all := lw_g (lw_at lw_m6 120 rfl) rfl
theorem q1424 : (Jvm.Cond.lays "DayBoyModel" "DayBoyModel" "birth" "I") ∈ lw_all := lw_g (lw_at lw_m6 121 rfl) rfl
theorem q1425 : (Jvm.Cond.soleField "DayBoyModel" "birth") ∈ lw_all := lw_g (lw_at lw_m6 122 rfl) rfl
theorem q1426 : (Jvm.Cond.lays "DayBoyModel" "DayBoyModel" "birthCalendar" "I") ∈ lw_all := lw_g (lw_at lw_m6 123 rfl) rfl
theorem q1427 : (Jvm.Cond.soleField "DayBoyModel" "birthCalendar") ∈ lw_all := lw_g (lw_at lw_m6 124 rfl) rfl
theorem q1428 : (Jvm.Cond.lays "DayBoyModel" "DayBoyModel" "birthYear" "I") ∈ lw_all := lw_g (lw_at lw_m6 125 rfl) rfl
theorem q1429 : (Jvm.Cond.soleField "DayBoyModel" "birthYear") ∈ lw_all := lw_g (lw_at lw_m6 126 rfl) rfl
theorem q1430 : (Jvm.Cond.lays "DayBoyModel" "DayBoyModel" "birthM" "I") ∈ lw_all := lw_g (lw_at lw_m6 127 rfl) rfl
theorem q1431 : (Jvm.Cond.soleField "DayBoyModel" "birthM") ∈ lw_all := lw_g (lw_at lw_m6 128 rfl) rfl
theorem q1432 : (Jvm.Cond.lays "DayBoyModel" "DayBoyModel" "birthD" "I") ∈ lw_all := lw_g (lw_at lw_m6 129 rfl) rfl
theorem q1433 : (Jvm.Cond.soleField "DayBoyModel" "birthD") ∈ lw_all := lw_g (lw_at lw_m6 130 rfl) rfl
theorem q1434 : (Jvm.Cond.laysFinal "DayBoyModel" "DayBoyModel" "eventDay" "[I") ∈ lw_all := lw_g (lw_at lw_m6 131 rfl) rfl
theorem q1435 : (Jvm.Cond.soleField "DayBoyModel" "eventDay") ∈ lw_all := lw_g (lw_at lw_m6 132 rfl) rfl
theorem q1436 : (Jvm.Cond.laysFinal "DayBoyModel" "DayBoyModel" "eventSort" "[I") ∈ lw_all := lw_g (lw_at lw_m6 133 rfl) rfl
theorem q1437 : (Jvm.Cond.soleField "DayBoyModel" "eventSort") ∈ lw_all := lw_g (lw_at lw_m6 134 rfl) rfl
theorem q1438 : (Jvm.Cond.lays "DayBoyModel" "DayBoyModel" "events" "I") ∈ lw_all := lw_g (lw_at lw_m6 135 rfl) rfl
theorem q1439 : (Jvm.Cond.soleField "DayBoyModel" "events") ∈ lw_all := lw_g (lw_at lw_m6 136 rfl) rfl
theorem q1440 : (Jvm.Cond.lays "DayBoyModel" "DayBoyModel" "keptAsks" "I") ∈ lw_all := lw_g (lw_at lw_m6 137 rfl) rfl
theorem q1441 : (Jvm.Cond.soleField "DayBoyModel" "keptAsks") ∈ lw_all := lw_g (lw_at lw_m6 138 rfl) rfl
theorem q1442 : (Jvm.Cond.lays "DayBoyModel" "DayBoyModel" "keptEvents" "I") ∈ lw_all := lw_g (lw_at lw_m6 139 rfl) rfl
theorem q1443 : (Jvm.Cond.soleField "DayBoyModel" "keptEvents") ∈ lw_all := lw_g (lw_at lw_m6 140 rfl) rfl
theorem q1444 : (Jvm.Cond.laysFinal "DayBoyModel" "DayBoyModel" "rowYear" "[I") ∈ lw_all := lw_g (lw_at lw_m6 141 rfl) rfl
theorem q1445 : (Jvm.Cond.soleField "DayBoyModel" "rowYear") ∈ lw_all := lw_g (lw_at lw_m6 142 rfl) rfl
theorem q1446 : (Jvm.Cond.laysFinal "DayBoyModel" "DayBoyModel" "rowM" "[I") ∈ lw_all := lw_g (lw_at lw_m6 143 rfl) rfl
theorem q1447 : (Jvm.Cond.soleField "DayBoyModel" "rowM") ∈ lw_all := lw_g (lw_at lw_m6 144 rfl) rfl
theorem q1448 : (Jvm.Cond.laysFinal "DayBoyModel" "DayBoyModel" "rowD" "[I") ∈ lw_all := lw_g (lw_at lw_m6 145 rfl) rfl
theorem q1449 : (Jvm.Cond.soleField "DayBoyModel" "rowD") ∈ lw_all := lw_g (lw_at lw_m6 146 rfl) rfl
theorem q1450 : (Jvm.Cond.lays "DayBoyModel" "DayBoyModel" "things" "I") ∈ lw_all := lw_g (lw_at lw_m6 147 rfl) rfl
theorem q1451 : (Jvm.Cond.soleField "DayBoyModel" "things") ∈ lw_all := lw_g (lw_at lw_m6 148 rfl) rfl
theorem q1452 : (Jvm.Cond.lays "DayBoyModel" "DayBoyModel" "draws" "J") ∈ lw_all := lw_g (lw_at lw_m6 149 rfl) rfl
theorem q1453 : (Jvm.Cond.soleField "DayBoyModel" "draws") ∈ lw_all := lw_g (lw_at lw_m6 150 rfl) rfl
theorem q1454 : (Jvm.Cond.superclass "DayBoyModel" "java/lang/Object") ∈ lw_all := lw_g (lw_at lw_m6 151 rfl) rfl
theorem q1456 : (Jvm.Cond.instanceMethod ({ cls := "DayBoyModel", name := "thrown", desc := "()I" } : Jvm.MethodName)) ∈ lw_all := lw_g (lw_at lw_m6 153 rfl) rfl
theorem q1457 : (Jvm.Cond.selects "DayBoyModel" ({ cls := "DayBoyModel", name := "thrown", desc := "()I" } : Jvm.MethodName) ({ cls := "DayBoyModel", name := "thrown", desc := "()I" } : Jvm.MethodName)) ∈ lw_all := lw_g (lw_at lw_m6 154 rfl) rfl
theorem q1458 : (Jvm.Cond.code ({ cls := "DayBoyModel", name := "thrown", desc := "()I" } : Jvm.MethodName) prog_16_method_3_code (1 : Nat) (Option.some Jvm.ClassFile.FieldType.int)) ∈ lw_all := lw_g (lw_at lw_m6 155 rfl) rfl
theorem q1460 : (Jvm.Cond.instanceMethod ({ cls := "DayBoyModel", name := "feed", desc := "(IIIII)I" } : Jvm.MethodName)) ∈ lw_all := lw_g (lw_at lw_m6 157 rfl) rfl
theorem q1461 : (Jvm.Cond.selects "DayBoyModel" ({ cls := "DayBoyModel", name := "feed", desc := "(IIIII)I" } : Jvm.MethodName) ({ cls := "DayBoyModel", name := "feed", desc := "(IIIII)I" } : Jvm.MethodName)) ∈ lw_all := lw_g (lw_at lw_m6 158 rfl) rfl
theorem q1462 : (Jvm.Cond.code ({ cls := "DayBoyModel", name := "feed", desc := "(IIIII)I" } : Jvm.MethodName) prog_16_method_5_code (9 : Nat) (Option.some Jvm.ClassFile.FieldType.int)) ∈ lw_all := lw_g (lw_at lw_m6 159 rfl) rfl
theorem q1463 : (Jvm.Cond.methodLink "DayBoyModel" (159 : Nat) ({ cls := "DayBoyModel", name := "byteOf", desc := "(IIIIII)I" } : Jvm.MethodName)) ∈ lw_all := lw_g (lw_at lw_m6 160 rfl) rfl
theorem q1464 : (Jvm.Cond.static ({ cls := "DayBoyModel", name := "byteOf", desc := "(IIIIII)I" } : Jvm.MethodName)) ∈ lw_all := lw_g (lw_at lw_m6 161 rfl) rfl
theorem q1465 : (Jvm.Cond.code ({ cls := "DayBoyModel", name := "byteOf", desc := "(IIIIII)I" } : Jvm.MethodName) prog_16_method_4_code (7 : Nat) (Option.some Jvm.ClassFile.FieldType.int)) ∈ lw_all := lw_g (lw_at lw_m6 162 rfl) rfl
theorem q1467 : (Jvm.Cond.instanceMethod ({ cls := "DayBoyModel", name := "end", desc := "(I)Z" } : Jvm.MethodName)) ∈ lw_all := lw_g (lw_at lw_m6 164 rfl) rfl
theorem q1468 : (Jvm.Cond.selects "DayBoyModel" ({ cls := "DayBoyModel", name := "end", desc := "(I)Z" } : Jvm.MethodName) ({ cls := "DayBoyModel", name := "end", desc := "(I)Z" } : Jvm.MethodName)) ∈ lw_all := lw_g (lw_at lw_m6 165 rfl) rfl
theorem q1469 : (Jvm.Cond.code ({ cls := "DayBoyModel", name := "end", desc := "(I)Z" } : Jvm.MethodName) prog_16_method_6_code (2 : Nat) (Option.some Jvm.ClassFile.FieldType.boolean)) ∈ lw_all := lw_g (lw_at lw_m6 166 rfl) rfl
theorem q1471 : (Jvm.Cond.instanceMethod ({ cls := "DayBoyModel", name := "fault", desc := "(I)I" } : Jvm.MethodName)) ∈ lw_all := lw_g (lw_at lw_m6 168 rfl) rfl
theorem q1472 : (Jvm.Cond.selects "DayBoyModel" ({ cls := "DayBoyModel", name := "fault", desc := "(I)I" } : Jvm.MethodName) ({ cls := "DayBoyModel", name := "fault", desc := "(I)I" } : Jvm.MethodName)) ∈ lw_all := lw_g (lw_at lw_m6 169 rfl) rfl
theorem q1473 : (Jvm.Cond.code ({ cls := "DayBoyModel", name := "fault", desc := "(I)I" } : Jvm.MethodName) prog_16_method_30_code (2 : Nat) (Option.some Jvm.ClassFile.FieldType.int)) ∈ lw_all := lw_g (lw_at lw_m6 170 rfl) rfl
theorem q1474 : (Jvm.Cond.methodLink "DayBoyModel" (257 : Nat) ({ cls := "DayBoyModel", name := "readCalendar", desc := "(I)I" } : Jvm.MethodName)) ∈ lw_all := lw_g (lw_at lw_m6 171 rfl) rfl
theorem q1475 : (Jvm.Cond.privateMethod ({ cls := "DayBoyModel", name := "readCalendar", desc := "(I)I" } : Jvm.MethodName)) ∈ lw_tbl := lw_at lw_m6 172 rfl
theorem q1476 : (Jvm.Cond.instanceMethod ({ cls := "DayBoyModel", name := "readCalendar", desc := "(I)I" } : Jvm.MethodName)) ∈ lw_all := lw_g (lw_at lw_m6 173 rfl) rfl
theorem q1477 : (Jvm.Cond.code ({ cls := "DayBoyModel", name := "readCalendar", desc := "(I)I" } : Jvm.MethodName) prog_16_method_23_code (3 : Nat) (Option.some Jvm.ClassFile.FieldType.int)) ∈ lw_all := lw_g (lw_at lw_m6 174 rfl) rfl
theorem q1478 : (Jvm.Cond.methodLink "DayBoyModel" (211 : Nat) ({ cls := "DayBoyModel", name := "plain", desc := "(II)I" } : Jvm.MethodName)) ∈ lw_all := lw_g (lw_at lw_m6 175 rfl) rfl
theorem q1479 : (Jvm.Cond.privateMethod ({ cls := "DayBoyModel", name := "plain", desc := "(II)I" } : Jvm.MethodName)) ∈ lw_tbl := lw_at lw_m6 176 rfl
theorem q1480 : (Jvm.Cond.instanceMethod ({ cls := "DayBoyModel", name := "plain", desc := "(II)I" } : Jvm.MethodName)) ∈ lw_all := lw_g (lw_at lw_m6 177 rfl) rfl
theorem q1481 : (Jvm.Cond.code ({ cls := "DayBoyModel", name := "plain", desc := "(II)I" } : Jvm.MethodName) prog_16_method_15_code (4 : Nat) (Option.some Jvm.ClassFile.FieldType.int)) ∈ lw_all := lw_g (lw_at lw_m6 178 rfl) rfl
theorem q1482 : (Jvm.Cond.methodLink "DayBoyModel" (193 : Nat) ({ cls := "DayBoyModel", name := "number", desc := "(II)I" } : Jvm.MethodName)) ∈ lw_all := lw_g (lw_at lw_m6 179 rfl) rfl
theorem q1483 : (Jvm.Cond.privateMethod ({ cls := "DayBoyModel", name := "number", desc := "(II)I" } : Jvm.MethodName)) ∈ lw_tbl := lw_at lw_m6 180 rfl
theorem q1484 : (Jvm.Cond.instanceMethod ({ cls := "DayBoyModel", name := "number", desc := "(II)I" } : Jvm.MethodName)) ∈ lw_all := lw_g (lw_at lw_m6 181 rfl) rfl
theorem q1485 : (Jvm.Cond.code ({ cls := "DayBoyModel", name := "number", desc := "(II)I" } : Jvm.MethodName) prog_16_method_12_code (5 : Nat) (Option.some Jvm.ClassFile.FieldType.int)) ∈ lw_all := lw_g (lw_at lw_m6 182 rfl) rfl
theorem q1486 : (Jvm.Cond.methodLink "DayBoyModel" (176 : Nat) ({ cls := "DayBoyModel", name := "look", desc := "()I" } : Jvm.MethodName)) ∈ lw_all := lw_g (lw_at lw_m6 183 rfl) rfl
theorem q1487 : (Jvm.Cond.privateMethod ({ cls := "DayBoyModel", name := "look", desc := "()I" } : Jvm.MethodName)) ∈ lw_tbl := lw_at lw_m6 184 rfl
theorem q1488 : (Jvm.Cond.instanceMethod ({ cls := "DayBoyModel", name := "look", desc := "()I" } : Jvm.MethodName)) ∈ lw_all := lw_g (lw_at lw_m6 185 rfl) rfl
theorem q1489 : (Jvm.Cond.code ({ cls := "DayBoyModel", name := "look", desc := "()I" } : Jvm.MethodName) prog_16_method_8_code (1 : Nat) (Option.some Jvm.ClassFile.FieldType.int)) ∈ lw_all := lw_g (lw_at lw_m6 186 rfl) rfl
theorem q1490 : (Jvm.Cond.methodLink "DayBoyModel" (169 : Nat) ({ cls := "DayBoyModel", name := "here", desc := "()I" } : Jvm.MethodName)) ∈ lw_all := lw_g (lw_at lw_m6 187 rfl) rfl
theorem q1491 : (Jvm.Cond.privateMethod ({ cls := "DayBoyModel", name := "here", desc := "()I" } : Jvm.MethodName)) ∈ lw_tbl := lw_at lw_m6 188 rfl
theorem q1492 : (Jvm.Cond.instanceMethod ({ cls := "DayBoyModel", name := "here", desc := "()I" } : Jvm.MethodName)) ∈ lw_all := lw_g (lw_at lw_m6 189 rfl) rfl
theorem q1493 : (Jvm.Cond.code ({ cls := "DayBoyModel", name := "here", desc := "()I" } : Jvm.MethodName) prog_16_method_7_code (1 : Nat) (Option.some Jvm.ClassFile.FieldType.int)) ∈ lw_all := lw_g (lw_at lw_m6 190 rfl) rfl
theorem q1494 : (Jvm.Cond.methodLink "DayBoyModel" (182 : Nat) ({ cls := "DayBoyModel", name := "isDigit", desc := "(I)Z" } : Jvm.MethodName)) ∈ lw_all := lw_g (lw_at lw_m6 191 rfl) rfl
theorem q1495 : (Jvm.Cond.static ({ cls := "DayBoyModel", name := "isDigit", desc := "(I)Z" } : Jvm.MethodName)) ∈ lw_all := lw_g (lw_at lw_m6 192 rfl) rfl
theorem q1496 : (Jvm.Cond.code ({ cls := "DayBoyModel", name := "isDigit", desc := "(I)Z" } : Jvm.MethodName) prog_16_method_10_code (1 : Nat) (Option.some Jvm.ClassFile.FieldType.boolean)) ∈ lw_all := lw_g (lw_at lw_m6 193 rfl) rfl
theorem q1497 : (Jvm.Cond.methodLink "DayBoyModel" (179 : Nat) ({ cls := "DayBoyModel", name := "bad", desc := "()V" } : Jvm.MethodName)) ∈ lw_all := lw_g (lw_at lw_m6 194 rfl) rfl
theorem q1498 : (Jvm.Cond.privateMethod ({ cls := "DayBoyModel", name := "bad", desc := "()V" } : Jvm.MethodName)) ∈ lw_tbl := lw_at lw_m6 195 rfl
theorem q1499 : (Jvm.Cond.instanceMethod ({ cls := "DayBoyModel", name := "bad", desc := "()V" } : Jvm.MethodName)) ∈ lw_all := lw_g (lw_at lw_m6 196 rfl) rfl
theorem q1500 : (Jvm.Cond.code ({ cls := "DayBoyModel", name := "bad", desc := "()V" } : Jvm.MethodName) prog_16_method_9_code (1 : Nat) (Option.none : Option Jvm.ClassFile.FieldType)) ∈ lw_all := lw_g (lw_at lw_m6 197 rfl) rfl
theorem q1501 : (Jvm.Cond.methodLink "DayBoyModel" (186 : Nat) ({ cls := "DayBoyModel", name := "in", desc := "(III)Z" } : Jvm.MethodName)) ∈ lw_all := lw_g (lw_at lw_m6 198 rfl) rfl
theorem q1502 : (Jvm.Cond.static ({ cls := "DayBoyModel", name := "in", desc := "(III)Z" } : Jvm.MethodName)) ∈ lw_all := lw_g (lw_at lw_m6 199 rfl) rfl
theorem q1503 : (Jvm.Cond.code ({ cls := "DayBoyModel", name := "in", desc := "(III)Z" } : Jvm.MethodName) prog_16_method_1_code (3 : Nat) (Option.some Jvm.ClassFile.FieldType.boolean)) ∈ lw_all := lw_g (lw_at lw_m6 200 rfl) rfl
theorem q1504 : (Jvm.Cond.methodLink "DayBoyModel" (190 : Nat) ({ cls := "DayBoyModel", name := "wrongAtLast", desc := "()V" } : Jvm.MethodName)) ∈ lw_all := lw_g (lw_at lw_m6 201 rfl) rfl
theorem q1505 : (Jvm.Cond.privateMethod ({ cls := "DayBoyModel", name := "wrongAtLast", desc := "()V" } : Jvm.MethodName)) ∈ lw_tbl := lw_at lw_m6 202 rfl
theorem q1506 : (Jvm.Cond.instanceMethod ({ cls := "DayBoyModel", name := "wrongAtLast", desc := "()V" } : Jvm.MethodName)) ∈ lw_all := lw_g (lw_at lw_m6 203 rfl) rfl
theorem q1507 : (Jvm.Cond.code ({ cls := "DayBoyModel", name := "wrongAtLast", desc := "()V" } : Jvm.MethodName) prog_16_method_13_code (1 : Nat) (Option.none : Option Jvm.ClassFile.FieldType)) ∈ lw_all := lw_g (lw_at lw_m6 204 rfl) rfl
theorem q1508 : (Jvm.Cond.methodLink "DayBoyModel" (197 : Nat) ({ cls := "DayBoyModel", name := "closeNumber", desc := "()V" } : Jvm.MethodName)) ∈ lw_all := lw_g (lw_at lw_m6 205 rfl) rfl
theorem q1509 : (Jvm.Cond.privateMethod ({ cls := "DayBoyModel", name := "closeNumber", desc := "()V" } : Jvm.MethodName)) ∈ lw_tbl := lw_at lw_m6 206 rfl
theorem q1510 : (Jvm.Cond.instanceMethod ({ cls := "DayBoyModel", name := "closeNumber", desc := "()V" } : Jvm.MethodName)) ∈ lw_all := lw_g (lw_at lw_m6 207 rfl) rfl
theorem q1511 : (Jvm.Cond.code ({ cls := "DayBoyModel", name := "closeNumber", desc := "()V" } : Jvm.MethodName) prog_16_method_14_code (1 : Nat) (Option.none : Option Jvm.ClassFile.FieldType)) ∈ lw_all := lw_g (lw_at lw_m6 208 rfl) rfl
theorem q1512 : (Jvm.Cond.methodLink "DayBoyModel" (218 : Nat) ({ cls := "DayBoyModel", name := "sign", desc := "(I)V" } : Jvm.MethodName)) ∈ lw_all := lw_g (lw_at lw_m6 209 rfl) rfl
theorem q1513 : (Jvm.Cond.privateMethod ({ cls := "DayBoyModel", name := "sign", desc := "(I)V" } : Jvm.MethodName)) ∈ lw_tbl := lw_at lw_m6 210 rfl
theorem q1514 : (Jvm.Cond.instanceMethod ({ cls := "DayBoyModel", name := "sign", desc := "(I)V" } : Jvm.MethodName)) ∈ lw_all := lw_g (lw_at lw_m6 211 rfl) rfl
theorem q1515 : (Jvm.Cond.code ({ cls := "DayBoyModel", name := "sign", desc := "(I)V" } : Jvm.MethodName) prog_16_method_11_code (2 : Nat) (Option.none : Option Jvm.ClassFile.FieldType)) ∈ lw_all := lw_g (lw_at lw_m6 212 rfl) rfl
theorem q1516 : (Jvm.Cond.methodLink "DayBoyModel" (221 : Nat) ({ cls := "DayBoyModel", name := "readLeaps", desc := "(I)V" } : Jvm.MethodName)) ∈ lw_all := lw_g (lw_at lw_m6 213 rfl) rfl
theorem q1517 : (Jvm.Cond.privateMethod ({ cls := "DayBoyModel", name := "readLeaps", desc := "(I)V" } : Jvm.MethodName)) ∈ lw_tbl := lw_at lw_m6 214 rfl
theorem q1518 : (Jvm.Cond.instanceMethod ({ cls := "DayBoyModel", name := "readLeaps", desc := "(I)V" } : Jvm.MethodName)) ∈ lw_all := lw_g (lw_at lw_m6 215 rfl) rfl
theorem q1519 : (Jvm.Cond.code ({ cls := "DayBoyModel", name := "readLeaps", desc := "(I)V" } : Jvm.MethodName) prog_16_method_22_code (5 : Nat) (Option.none : Option Jvm.ClassFile.FieldType)) ∈ lw_all := lw_g (lw_at lw_m6 216 rfl) rfl
theorem q1520 : (Jvm.Cond.methodLink "DayBoyModel" (214 : Nat) ({ cls := "DayBoyModel", name := "layOut", desc := "(I)V" } : Jvm.MethodName)) ∈ lw_all := lw_g (lw_at lw_m6 217 rfl) rfl
theorem q1521 : (Jvm.Cond.privateMethod ({ cls := "DayBoyModel", name := "layOut", desc := "(I)V" } : Jvm.MethodName)) ∈ lw_tbl := lw_at lw_m6 218 rfl
theorem q1522 : (Jvm.Cond.instanceMethod ({ cls := "DayBoyModel", name := "layOut", desc := "(I)V" } : Jvm.MethodName)) ∈ lw_all := lw_g (lw_at lw_m6 219 rfl) rfl
theorem q1523 : (Jvm.Cond.code ({ cls := "DayBoyModel", name := "layOut", desc := "(I)V" } : Jvm.MethodName) prog_16_method_20_code (4 : Nat) (Option.none : Option Jvm.ClassFile.FieldType)) ∈ lw_all := lw_g (lw_at lw_m6 220 rfl) rfl
theorem q1524 : (Jvm.Cond.methodLink "DayBoyModel" (200 : Nat) ({ cls := "DayBoyModel", name := "isLeap", desc := "(II)Z" } : Jvm.MethodName)) ∈ lw_all := lw_g (lw_at lw_m6 221 rfl) rfl
theorem q1525 : (Jvm.Cond.privateMethod ({ cls := "DayBoyModel", name := "isLeap", desc := "(II)Z" } : Jvm.MethodName)) ∈ lw_tbl := lw_at lw_m6 222 rfl
theorem q1526 : (Jvm.Cond.instanceMethod ({ cls := "DayBoyModel", name := "isLeap", desc := "(II)Z" } : Jvm.MethodName)) ∈ lw_all := lw_g (lw_at lw_m6 223 rfl) rfl
theorem q1527 : (Jvm.Cond.code ({ cls := "DayBoyModel", name := "isLeap", desc := "(II)Z" } : Jvm.MethodName) prog_16_method_16_code (5 : Nat) (Option.some Jvm.ClassFile.FieldType.boolean)) ∈ lw_all := lw_g (lw_at lw_m6 224 rfl) rfl
theorem q1528 : (Jvm.Cond.methodLink "DayBoyModel" (208 : Nat) ({ cls := "DayBoyModel", name := "code", desc := "(III)I" } : Jvm.MethodName)) ∈ lw_all := lw_g (lw_at lw_m6 225 rfl) rfl
theorem q1529 : (Jvm.Cond.static ({ cls := "DayBoyModel", name := "code", desc := "(III)I" } : Jvm.MethodName)) ∈ lw_all := lw_g (lw_at lw_m6 226 rfl) rfl
theorem q1530 : (Jvm.Cond.code ({ cls := "DayBoyModel", name := "code", desc := "(III)I" } : Jvm.MethodName) prog_16_method_18_code (3 : Nat) (Option.some Jvm.ClassFile.FieldType.int)) ∈ lw_all := lw_g (lw_at lw_m6 227 rfl) rfl
theorem q1531 : (Jvm.Cond.methodLink "DayBoyModel" (224 : Nat) ({ cls := "DayBoyModel", name := "change", desc := "(II)V" } : Jvm.MethodName)) ∈ lw_all := lw_g (lw_at lw_m6 228 rfl) rfl
theorem q1532 : (Jvm.Cond.privateMethod ({ cls := "DayBoyModel", name := "change", desc := "(II)V" } : Jvm.MethodName)) ∈ lw_tbl := lw_at lw_m6 229 rfl
theorem q1533 : (Jvm.Cond.instanceMethod ({ cls := "DayBoyModel", name := "change", desc := "(II)V" } : Jvm.MethodName)) ∈ lw_all := lw_g (lw_at lw_m6 230 rfl) rfl
theorem q1534 : (Jvm.Cond.code ({ cls := "DayBoyModel", name := "change", desc := "(II)V" } : Jvm.MethodName) prog_16_method_24_code (7 : Nat) (Option.none : Option Jvm.ClassFile.FieldType)) ∈ lw_all := lw_g (lw_at lw_m6 231 rfl) rfl
theorem q1535 : (Jvm.Cond.methodLink "DayBoyModel" (204 : Nat) ({ cls := "DayBoyModel", name := "daysOf", desc := "(III)I" } : Jvm.MethodName)) ∈ lw_all := lw_g (lw_at lw_m6 232 rfl) rfl
theorem q1536 : (Jvm.Cond.privateMethod ({ cls := "DayBoyModel", name := "daysOf", desc := "(III)I" } : Jvm.MethodName)) ∈ lw_tbl := lw_at lw_m6 233 rfl
theorem q1537 : (Jvm.Cond.instanceMethod ({ cls := "DayBoyModel", name := "daysOf", desc := "(III)I" } : Jvm.MethodName)) ∈ lw_all := lw_g (lw_at lw_m6 234 rfl) rfl
theorem q1538 : (Jvm.Cond.code ({ cls := "DayBoyModel", name := "daysOf", desc := "(III)I" } : Jvm.MethodName) prog_16_method_17_code (4 : Nat) (Option.some Jvm.ClassFile.FieldType.int)) ∈ lw_all := lw_g (lw_at lw_m6 235 rfl) rfl
theorem q1539 : (Jvm.Cond.methodLink "DayBoyModel" (228 : Nat) ({ cls := "DayBoyModel", name := "ordinal", desc := "(II)I" } : Jvm.MethodName)) ∈ lw_all := lw_g (lw_at lw_m6 236 rfl) rfl
theorem q1540 : (Jvm.Cond.privateMethod ({ cls := "DayBoyModel", name := "ordinal", desc := "(II)I" } : Jvm.MethodName)) ∈ lw_tbl := lw_at lw_m6 237 rfl
theorem q1541 : (Jvm.Cond.instanceMethod ({ cls := "DayBoyModel", name := "ordinal", desc := "(II)I" } : Jvm.MethodName)) ∈ lw_all := lw_g (lw_at lw_m6 238 rfl) rfl
theorem q1542 : (Jvm.Cond.code ({ cls := "DayBoyModel", name := "ordinal", desc := "(II)I" } : Jvm.MethodName) prog_16_method_19_code (7 : Nat) (Option.some Jvm.ClassFile.FieldType.int)) ∈ lw_all := lw_g (lw_at lw_m6 239 rfl) rfl
theorem q1543 : (Jvm.Cond.methodLink "DayBoyModel" (231 : Nat) ({ cls := "java/lang/Math", name := "min", desc := "(II)I" } : Jvm.MethodName)) ∈ lw_all := lw_g (lw_at lw_m7 0 rfl) rfl
theorem q1544 : (Jvm.Cond.methodLink "DayBoyModel" (236 : Nat) ({ cls := "DayBoyModel", name := "dated", desc := "(II)I" } : Jvm.MethodName)) ∈ lw_all := lw_g (lw_at lw_m7 1 rfl) rfl
theorem q1545 : (Jvm.Cond.privateMethod ({ cls := "DayBoyModel", name := "dated", desc := "(II)I" } : Jvm.MethodName)) ∈ lw_tbl := lw_at lw_m7 2 rfl
theorem q1546 : (Jvm.Cond.instanceMethod ({ cls := "DayBoyModel", name := "dated", desc := "(II)I" } : Jvm.MethodName)) ∈ lw_all := lw_g (lw_at lw_m7 3 rfl) rfl
theorem q1547 : (Jvm.Cond.code ({ cls := "DayBoyModel", name := "dated", desc := "(II)I" } : Jvm.MethodName) prog_16_method_21_code (7 : Nat) (Option.some Jvm.ClassFile.FieldType.int)) ∈ lw_all := lw_g (lw_at lw_m7 4 rfl) rfl
theorem q1548 : (Jvm.Cond.methodLink "DayBoyModel" (261 : Nat) ({ cls := "DayBoyModel", name := "readHead", desc := "(I)I" } : Jvm.MethodName)) ∈ lw_all := lw_g (lw_at lw_m7 5 rfl) rfl
theorem q1549 : (Jvm.Cond.privateMethod ({ cls := "DayBoyModel", name := "readHead", desc := "(I)I" } : Jvm.MethodName)) ∈ lw_tbl := lw_at lw_m7 6 rfl
theorem q1550 : (Jvm.Cond.instanceMethod ({ cls := "DayBoyModel", name := "readHead", desc := "(I)I" } : Jvm.MethodName)) ∈ lw_all := lw_g (lw_at lw_m7 7 rfl) rfl
theorem q1551 : (Jvm.Cond.code ({ cls := "DayBoyModel", name := "readHead", desc := "(I)I" } : Jvm.MethodName) prog_16_method_29_code (3 : Nat) (Option.some Jvm.ClassFile.FieldType.int)) ∈ lw_all := lw_g (lw_at lw_m7 8 rfl) rfl
theorem q1552 : (Jvm.Cond.methodLink "DayBoyModel" (254 : Nat) ({ cls := "DayBoyModel", name := "item", desc := "(I)V" } : Jvm.MethodName)) ∈ lw_all := lw_g (lw_at lw_m7 9 rfl) rfl
theorem q1553 : (Jvm.Cond.privateMethod ({ cls := "DayBoyModel", name := "item", desc := "(I)V" } : Jvm.MethodName)) ∈ lw_tbl := lw_at lw_m7 10 rfl
theorem q1554 : (Jvm.Cond.instanceMethod ({ cls := "DayBoyModel", name := "item", desc := "(I)V" } : Jvm.MethodName)) ∈ lw_all := lw_g (lw_at lw_m7 11 rfl) rfl
theorem q1555 : (Jvm.Cond.code ({ cls := "DayBoyModel", name := "item", desc := "(I)V" } : Jvm.MethodName) prog_16_method_25_code (4 : Nat) (Option.none : Option Jvm.ClassFile.FieldType)) ∈ lw_all := lw_g (lw_at lw_m7 12 rfl) rfl
theorem q1556 : (Jvm.Cond.methodLink "DayBoyModel" (239 : Nat) ({ cls := "java/lang/Math", name := "max", desc := "(II)I" } : Jvm.MethodName)) ∈ lw_all := lw_g (lw_at lw_m7 13 rfl) rfl
theorem q1557 : (Jvm.Cond.methodLink "DayBoyModel" (242 : Nat) ({ cls := "DayBoyModel", name := "readStep", desc := "(I)V" } : Jvm.MethodName)) ∈ lw_all := lw_g (lw_at lw_m7 14 rfl) rfl
theorem q1558 : (Jvm.Cond.privateMethod ({ cls := "DayBoyModel", name := "readStep", desc := "(I)V" } : Jvm.MethodName)) ∈ lw_tbl := lw_at lw_m7 15 rfl
theorem q1559 : (Jvm.Cond.instanceMethod ({ cls := "DayBoyModel", name := "readStep", desc := "(I)V" } : Jvm.MethodName)) ∈ lw_all := lw_g (lw_at lw_m7 16 rfl) rfl
theorem q1560 : (Jvm.Cond.code ({ cls := "DayBoyModel", name := "readStep", desc := "(I)V" } : Jvm.MethodName) prog_16_method_26_code (4 : Nat) (Option.none : Option Jvm.ClassFile.FieldType)) ∈ lw_all := lw_g (lw_at lw_m7 17 rfl) rfl
theorem q1561 : (Jvm.Cond.methodLink "DayBoyModel" (245 : Nat) ({ cls := "DayBoyModel", name := "readLike", desc := "(I)V" } : Jvm.MethodName)) ∈ lw_all := lw_g (lw_at lw_m7 18 rfl) rfl
theorem q1562 : (Jvm.Cond.privateMethod ({ cls := "DayBoyModel", name := "readLike", desc := "(I)V" } : Jvm.MethodName)) ∈ lw_tbl := lw_at lw_m7 19 rfl
theorem q1563 : (Jvm.Cond.instanceMethod ({ cls := "DayBoyModel", name := "readLike", desc := "(I)V" } : Jvm.MethodName)) ∈ lw_all := lw_g (lw_at lw_m7 20 rfl) rfl
theorem q1564 : (Jvm.Cond.code ({ cls := "DayBoyModel", name := "readLike", desc := "(I)V" } : Jvm.MethodName) prog_16_method_27_code (3 : Nat) (Option.none : Option Jvm.ClassFile.FieldType)) ∈ lw_all := lw_g (lw_at lw_m7 21 rfl) rfl
theorem q1565 : (Jvm.Cond.methodLink "DayBoyModel" (248 : Nat) ({ cls := "DayBoyModel", name := "readCost", desc := "(II)V" } : Jvm.MethodName)) ∈ lw_all := lw_g (lw_at lw_m7 22 rfl) rfl
theorem q1566 : (Jvm.Cond.privateMethod ({ cls := "DayBoyModel", name := "readCost", desc := "(II)V" } : Jvm.MethodName)) ∈ lw_tbl := lw_at lw_m7 23 rfl
theorem q1567 : (Jvm.Cond.instanceMethod ({ cls := "DayBoyModel", name := "readCost", desc := "(II)V" } : Jvm.MethodName)) ∈ lw_all := lw_g (lw_at lw_m7 24 rfl) rfl
theorem q1568 : (Jvm.Cond.code ({ cls := "DayBoyModel", name := "readCost", desc := "(II)V" } : Jvm.MethodName) prog_16_method_28_code (4 : Nat) (Option.none : Option Jvm.ClassFile.FieldType)) ∈ lw_all := lw_g (lw_at lw_m7 25 rfl) rfl
theorem q1569 : (Jvm.Cond.methodLink "DayBoyModel" (264 : Nat) ({ cls := "DayBoyModel", name := "readRow", desc := "(Z)I" } : Jvm.MethodName)) ∈ lw_all := lw_g (lw_at lw_m7 26 rfl) rfl
theorem q1570 : (Jvm.Cond.privateMethod ({ cls := "DayBoyModel", name := "readRow", desc := "(Z)I" } : Jvm.MethodName)) ∈ lw_tbl := lw_at lw_m7 27 rfl
theorem q1571 : (Jvm.Cond.instanceMethod ({ cls := "DayBoyModel", name := "readRow", desc := "(Z)I" } : Jvm.MethodName)) ∈ lw_all := lw_g (lw_at lw_m7 28 rfl) rfl
theorem q1572 : (Jvm.Cond.code ({ cls := "DayBoyModel", name := "readRow", desc := "(Z)I" } : Jvm.MethodName) prog_16_method_95_code (4 : Nat) (Option.some Jvm.ClassFile.FieldType.int)) ∈ lw_all := lw_g (lw_at lw_m7 29 rfl) rfl
theorem q1573 : (Jvm.Cond.methodLink "DayBoyModel" (442 : Nat) ({ cls := "DayBoyModel", name := "readThing", desc := "(IZ)V" } : Jvm.MethodName)) ∈ lw_all := lw_g (lw_at lw_m7 30 rfl) rfl
theorem q1574 : (Jvm.Cond.privateMethod ({ cls := "DayBoyModel", name := "readThing", desc := "(IZ)V" } : Jvm.MethodName)) ∈ lw_tbl := lw_at lw_m7 31 rfl
theorem q1575 : (Jvm.Cond.instanceMethod ({ cls := "DayBoyModel", name := "readThing", desc := "(IZ)V" } : Jvm.MethodName)) ∈ lw_all := lw_g (lw_at lw_m7 32 rfl) rfl
theorem q1576 : (Jvm.Cond.code ({ cls := "DayBoyModel", name := "readThing", desc := "(IZ)V" } : Jvm.MethodName) prog_16_method_96_code (6 : Nat) (Option.none : Option Jvm.ClassFile.FieldType)) ∈ lw_all := lw_g (lw_at lw_m7 33 rfl) rfl
theorem q1578 : (Jvm.Cond.instanceMethod ({ cls := "DayBoyModel", name := "text", desc := "(I)I" } : Jvm.MethodName)) ∈ lw_all := lw_g (lw_at lw_m7 35 rfl) rfl
theorem q1579 : (Jvm.Cond.selects "DayBoyModel" ({ cls := "DayBoyModel", name := "text", desc := "(I)I" } : Jvm.MethodName) ({ cls := "DayBoyModel", name := "text", desc := "(I)I" } : Jvm.MethodName)) ∈ lw_all := lw_g (lw_at lw_m7 36 rfl) rfl
theorem q1580 : (Jvm.Cond.code ({ cls := "DayBoyModel", name := "text", desc := "(I)I" } : Jvm.MethodName) prog_16_method_31_code (2 : Nat) (Option.some Jvm.ClassFile.FieldType.int)) ∈ lw_all := lw_g (lw_at lw_m7 37 rfl) rfl
theorem q1581 : (Jvm.Cond.methodLink "DayBoyModel" (271 : Nat) ({ cls := "DayBoyModel", name := "takeRow", desc := "()I" } : Jvm.MethodName)) ∈ lw_all := lw_g (lw_at lw_m7 38 rfl) rfl
theorem q1582 : (Jvm.Cond.privateMethod ({ cls := "DayBoyModel", name := "takeRow", desc := "()I" } : Jvm.MethodName)) ∈ lw_tbl := lw_at lw_m7 39 rfl
theorem q1583 : (Jvm.Cond.instanceMethod ({ cls := "DayBoyModel", name := "takeRow", desc := "()I" } : Jvm.MethodName)) ∈ lw_all := lw_g (lw_at lw_m7 40 rfl) rfl
theorem q1584 : (Jvm.Cond.code ({ cls := "DayBoyModel", name := "takeRow", desc := "()I" } : Jvm.MethodName) prog_16_method_97_code (1 : Nat) (Option.some Jvm.ClassFile.FieldType.int)) ∈ lw_all := lw_g (lw_at lw_m7 41 rfl) rfl
theorem q1585 : (Jvm.Cond.methodLink "DayBoyModel" (277 : Nat) ({ cls := "DayBoyModel", name := "spread", desc := "(I)V" } : Jvm.MethodName)) ∈ lw_all := lw_g (lw_at lw_m7 42 rfl) rfl
theorem q1586 : (Jvm.Cond.privateMethod ({ cls := "DayBoyModel", name := "spread", desc := "(I)V" } : Jvm.MethodName)) ∈ lw_tbl := lw_at lw_m7 43 rfl
theorem q1587 : (Jvm.Cond.instanceMethod ({ cls := "DayBoyModel", name := "spread", desc := "(I)V" } : Jvm.MethodName)) ∈ lw_all := lw_g (lw_at lw_m7 44 rfl) rfl
theorem q1588 : (Jvm.Cond.code ({ cls := "DayBoyModel", name := "spread", desc := "(I)V" } : Jvm.MethodName) prog_16_method_48_code (8 : Nat) (Option.none : Option Jvm.ClassFile.FieldType)) ∈ lw_all := lw_g (lw_at lw_m7 45 rfl) rfl
theorem q1589 : (Jvm.Cond.constantLong "DayBoyModel" (321 : Nat) (1152921504606846976 : Int64)) ∈ lw_all := lw_g (lw_at lw_m7 46 rfl) rfl
theorem q1590 : (Jvm.Cond.methodLink "DayBoyModel" (323 : Nat) ({ cls := "DayBoyModel", name := "knowsYear", desc := "(II)Z" } : Jvm.MethodName)) ∈ lw_all := lw_g (lw_at lw_m7 47 rfl) rfl
theorem q1591 : (Jvm.Cond.privateMethod ({ cls := "DayBoyModel", name := "knowsYear", desc := "(II)Z" } : Jvm.MethodName)) ∈ lw_tbl := lw_at lw_m7 48 rfl
theorem q1592 : (Jvm.Cond.instanceMethod ({ cls := "DayBoyModel", name := "knowsYear", desc := "(II)Z" } : Jvm.MethodName)) ∈ lw_all := lw_g (lw_at lw_m7 49 rfl) rfl
theorem q1593 : (Jvm.Cond.code ({ cls := "DayBoyModel", name := "knowsYear", desc := "(II)Z" } : Jvm.MethodName) prog_16_method_47_code (4 : Nat) (Option.some Jvm.ClassFile.FieldType.boolean)) ∈ lw_all := lw_g (lw_at lw_m7 50 rfl) rfl
theorem q1594 : (Jvm.Cond.methodLink "DayBoyModel" (318 : Nat) ({ cls := "DayBoyModel", name := "push", desc := "(I)V" } : Jvm.MethodName)) ∈ lw_all := lw_g (lw_at lw_m7 51 rfl) rfl
theorem q1595 : (Jvm.Cond.privateMethod ({ cls := "DayBoyModel", name := "push", desc := "(I)V" } : Jvm.MethodName)) ∈ lw_tbl := lw_at lw_m7 52 rfl
theorem q1596 : (Jvm.Cond.instanceMethod ({ cls := "DayBoyModel", name := "push", desc := "(I)V" } : Jvm.MethodName)) ∈ lw_all := lw_g (lw_at lw_m7 53 rfl) rfl
theorem q1597 : (Jvm.Cond.code ({ cls := "DayBoyModel", name := "push", desc := "(I)V" } : Jvm.MethodName) prog_16_method_44_code (2 : Nat) (Option.none : Option Jvm.ClassFile.FieldType)) ∈ lw_all := lw_g (lw_at lw_m7 54 rfl) rfl
theorem q1598 : (Jvm.Cond.methodLink "DayBoyModel" (326 : Nat) ({ cls := "DayBoyModel", name := "flood", desc := "(II)V" } : Jvm.MethodName)) ∈ lw_all := lw_g (lw_at lw_m7 55 rfl) rfl
theorem q1599 : (Jvm.Cond.privateMethod ({ cls := "DayBoyModel", name := "flood", desc := "(II)V" } : Jvm.MethodName)) ∈ lw_tbl := lw_at lw_m7 56 rfl
theorem q1600 : (Jvm.Cond.instanceMethod ({ cls := "DayBoyModel", name := "flood", desc := "(II)V" } : Jvm.MethodName)) ∈ lw_all := lw_g (lw_at lw_m7 57 rfl) rfl
theorem q1601 : (Jvm.Cond.code ({ cls := "DayBoyModel", name := "flood", desc := "(II)V" } : Jvm.MethodName) prog_16_method_45_code (5 : Nat) (Option.none : Option Jvm.ClassFile.FieldType)) ∈ lw_all := lw_g (lw_at lw_m7 58 rfl) rfl
theorem q1602 : (Jvm.Cond.methodLink "DayBoyModel" (312 : Nat) ({ cls := "DayBoyModel", name := "touch", desc := "(IIII)V" } : Jvm.MethodName)) ∈ lw_all := lw_g (lw_at lw_m7 59 rfl) rfl
theorem q1603 : (Jvm.Cond.privateMethod ({ cls := "DayBoyModel", name := "touch", desc := "(IIII)V" } : Jvm.MethodName)) ∈ lw_tbl := lw_at lw_m7 60 rfl
theorem q1604 : (Jvm.Cond.instanceMethod ({ cls := "DayBoyModel", name := "touch", desc := "(IIII)V" } : Jvm.MethodName)) ∈ lw_all := lw_g (lw_at lw_m7 61 rfl) rfl
theorem q1605 : (Jvm.Cond.code ({ cls := "DayBoyModel", name := "touch", desc := "(IIII)V" } : Jvm.MethodName) prog_16_method_46_code (7 : Nat) (Option.none : Option Jvm.ClassFile.FieldType)) ∈ lw_all := lw_g (lw_at lw_m7 62 rfl) rfl
theorem q1606 : (Jvm.Cond.constantLong "DayBoyModel" (316 : Nat) (100000 : Int64)) ∈ lw_all := lw_g (lw_at lw_m7 63 rfl) rfl
theorem q1607 : (Jvm.Cond.methodLink "DayBoyModel" (329 : Nat) ({ cls := "java/lang/Math", name := "min", desc := "(JJ)J" } : Jvm.MethodName)) ∈ lw_all := lw_g (lw_at lw_m7 64 rfl) rfl
theorem q1609 : (Jvm.Cond.instanceMethod ({ cls := "DayBoyModel", name := "day", desc := "(IIII)I" } : Jvm.MethodName)) ∈ lw_all := lw_g (lw_at lw_m7 66 rfl) rfl
theorem q1610 : (Jvm.Cond.selects "DayBoyModel" ({ cls := "DayBoyModel", name := "day", desc := "(IIII)I" } : Jvm.MethodName) ({ cls := "DayBoyModel", name := "day", desc := "(IIII)I" } : Jvm.MethodName)) ∈ lw_all := lw_g (lw_at lw_m7 67 rfl) rfl
theorem q1611 : (Jvm.Cond.code ({ cls := "DayBoyModel", name := "day", desc := "(IIII)I" } : Jvm.MethodName) prog_16_method_36_code (5 : Nat) (Option.some Jvm.ClassFile.FieldType.int)) ∈ lw_all := lw_g (lw_at lw_m7 68 rfl) rfl
theorem q1612 : (Jvm.Cond.methodLink "DayBoyModel" (287 : Nat) ({ cls := "DayBoyModel", name := "isDate", desc := "(IIII)Z" } : Jvm.MethodName)) ∈ lw_all := lw_g (lw_at lw_m7 69 rfl) rfl
theorem q1613 : (Jvm.Cond.privateMethod ({ cls := "DayBoyModel", name := "isDate", desc := "(IIII)Z" } : Jvm.MethodName)) ∈ lw_tbl := lw_at lw_m7 70 rfl
theorem q1614 : (Jvm.Cond.instanceMethod ({ cls := "DayBoyModel", name := "isDate", desc := "(IIII)Z" } : Jvm.MethodName)) ∈ lw_all := lw_g (lw_at lw_m7 71 rfl) rfl
theorem q1615 : (Jvm.Cond.code ({ cls := "DayBoyModel", name := "isDate", desc := "(IIII)Z" } : Jvm.MethodName) prog_16_method_34_code (5 : Nat) (Option.some Jvm.ClassFile.FieldType.boolean)) ∈ lw_all := lw_g (lw_at lw_m7 72 rfl) rfl
theorem q1616 : (Jvm.Cond.methodLink "DayBoyModel" (283 : Nat) ({ cls := "DayBoyModel", name := "stretchOf", desc := "(IIII)I" } : Jvm.MethodName)) ∈ lw_all := lw_g (lw_at lw_m7 73 rfl) rfl
theorem q1617 : (Jvm.Cond.privateMethod ({ cls := "DayBoyModel", name := "stretchOf", desc := "(IIII)I" } : Jvm.MethodName)) ∈ lw_tbl := lw_at lw_m7 74 rfl
theorem q1618 : (Jvm.Cond.instanceMethod ({ cls := "DayBoyModel", name := "stretchOf", desc := "(IIII)I" } : Jvm.MethodName)) ∈ lw_all := lw_g (lw_at lw_m7 75 rfl) rfl
theorem q1619 : (Jvm.Cond.code ({ cls := "DayBoyModel", name := "stretchOf", desc := "(IIII)I" } : Jvm.MethodName) prog_16_method_33_code (6 : Nat) (Option.some Jvm.ClassFile.FieldType.int)) ∈ lw_all := lw_g (lw_at lw_m7 76 rfl) rfl
theorem q1620 : (Jvm.Cond.methodLink "DayBoyModel" (280 : Nat) ({ cls := "DayBoyModel", name := "isCalendar", desc := "(I)Z" } : Jvm.MethodName)) ∈ lw_all := lw_g (lw_at lw_m7 77 rfl) rfl
theorem q1621 : (Jvm.Cond.privateMethod ({ cls := "DayBoyModel", name := "isCalendar", desc := "(I)Z" } : Jvm.MethodName)) ∈ lw_tbl := lw_at lw_m7 78 rfl
theorem q1622 : (Jvm.Cond.instanceMethod ({ cls := "DayBoyModel", name := "isCalendar", desc := "(I)Z" } : Jvm.MethodName)) ∈ lw_all := lw_g (lw_at lw_m7 79 rfl) rfl
theorem q1623 : (Jvm.Cond.code ({ cls := "DayBoyModel", name := "isCalendar", desc := "(I)Z" } : Jvm.MethodName) prog_16_method_32_code (2 : Nat) (Option.some Jvm.ClassFile.FieldType.boolean)) ∈ lw_all := lw_g (lw_at lw_m7 80 rfl) rfl
theorem q1624 : (Jvm.Cond.methodLink "DayBoyModel" (291 : Nat) ({ cls := "DayBoyModel", name := "dayOf", desc := "(IIII)I" } : Jvm.MethodName)) ∈ lw_all := lw_g (lw_at lw_m7 81 rfl) rfl
theorem q1625 : (Jvm.Cond.privateMethod ({ cls := "DayBoyModel", name := "dayOf", desc := "(IIII)I" } : Jvm.MethodName)) ∈ lw_tbl := lw_at lw_m7 82 rfl
theorem q1626 : (Jvm.Cond.instanceMethod ({ cls := "DayBoyModel", name := "dayOf", desc := "(IIII)I" } : Jvm.MethodName)) ∈ lw_all := lw_g (lw_at lw_m7 83 rfl) rfl
theorem q1627 : (Jvm.Cond.code ({ cls := "DayBoyModel", name := "dayOf", desc := "(IIII)I" } : Jvm.MethodName) prog_16_method_35_code (6 : Nat) (Option.some Jvm.ClassFile.FieldType.int)) ∈ lw_all := lw_g (lw_at lw_m7 84 rfl) rfl
theorem q1629 : (Jvm.Cond.instanceMethod ({ cls := "DayBoyModel", name := "date", desc := "(III)I" } : Jvm.MethodName)) ∈ lw_all := lw_g (lw_at lw_m7 86 rfl) rfl
theorem q1630 : (Jvm.Cond.selects "DayBoyModel" ({ cls := "DayBoyModel", name := "date", desc := "(III)I" } : Jvm.MethodName) ({ cls := "DayBoyModel", name := "date", desc := "(III)I" } : Jvm.MethodName)) ∈ lw_all := lw_g (lw_at lw_m7 87 rfl) rfl
theorem q1631 : (Jvm.Cond.code ({ cls := "DayBoyModel", name := "date", desc := "(III)I" } : Jvm.MethodName) prog_16_method_39_code (5 : Nat) (Option.some Jvm.ClassFile.FieldType.int)) ∈ lw_all := lw_g (lw_at lw_m7 88 rfl) rfl
theorem q1632 : (Jvm.Cond.methodLink "DayBoyModel" (294 : Nat) ({ cls := "DayBoyModel", name := "dateOf", desc := "(II)I" } : Jvm.MethodName)) ∈ lw_all := lw_g (lw_at lw_m7 89 rfl) rfl
theorem q1633 : (Jvm.Cond.privateMethod ({ cls := "DayBoyModel", name := "dateOf", desc := "(II)I" } : Jvm.MethodName)) ∈ lw_tbl := lw_at lw_m7 90 rfl
theorem q1634 : (Jvm.Cond.instanceMethod ({ cls := "DayBoyModel", name := "dateOf", desc := "(II)I" } : Jvm.MethodName)) ∈ lw_all := lw_g (lw_at lw_m7 91 rfl) rfl
theorem q1635 : (Jvm.Cond.code ({ cls := "DayBoyModel", name := "dateOf", desc := "(II)I" } : Jvm.MethodName) prog_16_method_37_code (6 : Nat) (Option.some Jvm.ClassFile.FieldType.int)) ∈ lw_all := lw_g (lw_at lw_m7 92 rfl) rfl
theorem q1636 : (Jvm.Cond.methodLink "DayBoyModel" (297 : Nat) ({ cls := "DayBoyModel", name := "partOf", desc := "(II)I" } : Jvm.MethodName)) ∈ lw_all := lw_g (lw_at lw_m7 93 rfl) rfl
theorem q1637 : (Jvm.Cond.static ({ cls := "DayBoyModel", name := "partOf", desc := "(II)I" } : Jvm.MethodName)) ∈ lw_all := lw_g (lw_at lw_m7 94 rfl) rfl
theorem q1638 : (Jvm.Cond.code ({ cls := "DayBoyModel", name := "partOf", desc := "(II)I" } : Jvm.MethodName) prog_16_method_38_code (2 : Nat) (Option.some Jvm.ClassFile.FieldType.int)) ∈ lw_all := lw_g (lw_at lw_m7 95 rfl) rfl
theorem q1640 : (Jvm.Cond.instanceMethod ({ cls := "DayBoyModel", name := "turned", desc := "(IIIIII)I" } : Jvm.MethodName)) ∈ lw_all := lw_g (lw_at lw_m7 97 rfl) rfl
theorem q1641 : (Jvm.Cond.selects "DayBoyModel" ({ cls := "DayBoyModel", name := "turned", desc := "(IIIIII)I" } : Jvm.MethodName) ({ cls := "DayBoyModel", name := "turned", desc := "(IIIIII)I" } : Jvm.MethodName)) ∈ lw_all := lw_g (lw_at lw_m7 98 rfl) rfl
theorem q1642 : (Jvm.Cond.code ({ cls := "DayBoyModel", name := "turned", desc := "(IIIIII)I" } : Jvm.MethodName) prog_16_method_40_code (7 : Nat) (Option.some Jvm.ClassFile.FieldType.int)) ∈ lw_all := lw_g (lw_at lw_m7 99 rfl) rfl
theorem q1643 : (Jvm.Cond.methodLink "DayBoyModel" (300 : Nat) ({ cls := "DayBoyModel", name := "date", desc := "(III)I" } : Jvm.MethodName)) ∈ lw_all := lw_g (lw_at lw_m7 100 rfl) rfl
theorem q1645 : (Jvm.Cond.instanceMethod ({ cls := "DayBoyModel", name := "many", desc := "(III)I" } : Jvm.MethodName)) ∈ lw_all := lw_g (lw_at lw_m7 102 rfl) rfl
theorem q1646 : (Jvm.Cond.selects "DayBoyModel" ({ cls := "DayBoyModel", name := "many", desc := "(III)I" } : Jvm.MethodName) ({ cls := "DayBoyModel", name := "many", desc := "(III)I" } : Jvm.MethodName)) ∈ lw_all := lw_g (lw_at lw_m7 103 rfl) rfl
theorem q1647 : (Jvm.Cond.code ({ cls := "DayBoyModel", name := "many", desc := "(III)I" } : Jvm.MethodName) prog_16_method_41_code (7 : Nat) (Option.some Jvm.ClassFile.FieldType.int)) ∈ lw_all := lw_g (lw_at lw_m7 104 rfl) rfl
theorem q1649 : (Jvm.Cond.instanceMethod ({ cls := "DayBoyModel", name := "kind", desc := "(II)I" } : Jvm.MethodName)) ∈ lw_all := lw_g (lw_at lw_m7 106 rfl) rfl
theorem q1650 : (Jvm.Cond.selects "DayBoyModel" ({ cls := "DayBoyModel", name := "kind", desc := "(II)I" } : Jvm.MethodName) ({ cls := "DayBoyModel", name := "kind", desc := "(II)I" } : Jvm.MethodName)) ∈ lw_all := lw_g (lw_at lw_m7 107 rfl) rfl
theorem q1651 : (Jvm.Cond.code ({ cls := "DayBoyModel", name := "kind", desc := "(II)I" } : Jvm.MethodName) prog_16_method_43_code (3 : Nat) (Option.some Jvm.ClassFile.FieldType.int)) ∈ lw_all := lw_g (lw_at lw_m7 108 rfl) rfl
theorem q1652 : (Jvm.Cond.methodLink "DayBoyModel" (303 : Nat) ({ cls := "DayBoyModel", name := "kindOf", desc := "(II)I" } : Jvm.MethodName)) ∈ lw_all := lw_g (lw_at lw_m7 109 rfl) rfl
theorem q1653 : (Jvm.Cond.privateMethod ({ cls := "DayBoyModel", name := "kindOf", desc := "(II)I" } : Jvm.MethodName)) ∈ lw_tbl := lw_at lw_m7 110 rfl
theorem q1654 : (Jvm.Cond.instanceMethod ({ cls := "DayBoyModel", name := "kindOf", desc := "(II)I" } : Jvm.MethodName)) ∈ lw_all := lw_g (lw_at lw_m7 111 rfl) rfl
theorem q1655 : (Jvm.Cond.code ({ cls := "DayBoyModel", name := "kindOf", desc := "(II)I" } : Jvm.MethodName) prog_16_method_42_code (5 : Nat) (Option.some Jvm.ClassFile.FieldType.int)) ∈ lw_all := lw_g (lw_at lw_m7 112 rfl) rfl
theorem q1657 : (Jvm.Cond.instanceMethod ({ cls := "DayBoyModel", name := "way", desc := "(IIIIIII)I" } : Jvm.MethodName)) ∈ lw_all := lw_g (lw_at lw_m7 114 rfl) rfl
theorem q1658 : (Jvm.Cond.selects "DayBoyModel" ({ cls := "DayBoyModel", name := "way", desc := "(IIIIIII)I" } : Jvm.MethodName) ({ cls := "DayBoyModel", name := "way", desc := "(IIIIIII)I" } : Jvm.MethodName)) ∈ lw_all := lw_g (lw_at lw_m7 115 rfl) rfl
theorem q1659 : (Jvm.Cond.code ({ cls := "DayBoyModel", name := "way", desc := "(IIIIIII)I" } : Jvm.MethodName) prog_16_method_53_code (9 : Nat) (Option.some Jvm.ClassFile.FieldType.int)) ∈ lw_all := lw_g (lw_at lw_m7 116 rfl) rfl
theorem q1660 : (Jvm.Cond.methodLink "DayBoyModel" (344 : Nat) ({ cls := "DayBoyModel", name := "isHead", desc := "(I)Z" } : Jvm.MethodName)) ∈ lw_all := lw_g (lw_at lw_m7 117 rfl) rfl
theorem q1661 : (Jvm.Cond.privateMethod ({ cls := "DayBoyModel", name := "isHead", desc := "(I)Z" } : Jvm.MethodName)) ∈ lw_tbl := lw_at lw_m7 118 rfl
theorem q1662 : (Jvm.Cond.instanceMethod ({ cls := "DayBoyModel", name := "isHead", desc := "(I)Z" } : Jvm.MethodName)) ∈ lw_all := lw_g (lw_at lw_m7 119 rfl) rfl
theorem q1663 : (Jvm.Cond.code ({ cls := "DayBoyModel", name := "isHead", desc := "(I)Z" } : Jvm.MethodName) prog_16_method_51_code (2 : Nat) (Option.some Jvm.ClassFile.FieldType.boolean)) ∈ lw_all := lw_g (lw_at lw_m7 120 rfl) rfl
theorem q1664 : (Jvm.Cond.methodLink "DayBoyModel" (347 : Nat) ({ cls := "DayBoyModel", name := "goes", desc := "(IIII)Z" } : Jvm.MethodName)) ∈ lw_all := lw_g (lw_at lw_m7 121 rfl) rfl
theorem q1665 : (Jvm.Cond.privateMethod ({ cls := "DayBoyModel", name := "goes", desc := "(IIII)Z" } : Jvm.MethodName)) ∈ lw_tbl := lw_at lw_m7 122 rfl
theorem q1666 : (Jvm.Cond.instanceMethod ({ cls := "DayBoyModel", name := "goes", desc := "(IIII)Z" } : Jvm.MethodName)) ∈ lw_all := lw_g (lw_at lw_m7 123 rfl) rfl
theorem q1667 : (Jvm.Cond.code ({ cls := "DayBoyModel", name := "goes", desc := "(IIII)Z" } : Jvm.MethodName) prog_16_method_52_code (6 : Nat) (Option.some Jvm.ClassFile.FieldType.boolean)) ∈ lw_all := lw_g (lw_at lw_m7 124 rfl) rfl
theorem q1668 : (Jvm.Cond.methodLink "DayBoyModel" (335 : Nat) ({ cls := "DayBoyModel", name := "nextYear", desc := "(II)I" } : Jvm.MethodName)) ∈ lw_all := lw_g (lw_at lw_m7 125 rfl) rfl
theorem q1669 : (Jvm.Cond.privateMethod ({ cls := "DayBoyModel", name := "nextYear", desc := "(II)I" } : Jvm.MethodName)) ∈ lw_tbl := lw_at lw_m7 126 rfl
theorem q1670 : (Jvm.Cond.instanceMethod ({ cls := "DayBoyModel", name := "nextYear", desc := "(II)I" } : Jvm.MethodName)) ∈ lw_all := lw_g (lw_at lw_m7 127 rfl) rfl
theorem q1671 : (Jvm.Cond.code ({ cls := "DayBoyModel", name := "nextYear", desc := "(II)I" } : Jvm.MethodName) prog_16_method_49_code (9 : Nat) (Option.some Jvm.ClassFile.FieldType.int)) ∈ lw_all := lw_g (lw_at lw_m7 128 rfl) rfl
theorem q1672 : (Jvm.Cond.methodLink "DayBoyModel" (341 : Nat) ({ cls := "DayBoyModel", name := "nextMonth", desc := "(II)I" } : Jvm.MethodName)) ∈ lw_all := lw_g (lw_at lw_m7 129 rfl) rfl
theorem q1673 : (Jvm.Cond.privateMethod ({ cls := "DayBoyModel", name := "nextMonth", desc := "(II)I" } : Jvm.MethodName)) ∈ lw_tbl := lw_at lw_m7 130 rfl
theorem q1674 : (Jvm.Cond.instanceMethod ({ cls := "DayBoyModel", name := "nextMonth", desc := "(II)I" } : Jvm.MethodName)) ∈ lw_all := lw_g (lw_at lw_m7 131 rfl) rfl
theorem q1675 : (Jvm.Cond.code ({ cls := "DayBoyModel", name := "nextMonth", desc := "(II)I" } : Jvm.MethodName) prog_16_method_50_code (8 : Nat) (Option.some Jvm.ClassFile.FieldType.int)) ∈ lw_all := lw_g (lw_at lw_m7 132 rfl) rfl
theorem q1677 : (Jvm.Cond.instanceMethod ({ cls := "DayBoyModel", name := "answers", desc := "(IIIIII)I" } : Jvm.MethodName)) ∈ lw_all := lw_g (lw_at lw_m7 134 rfl) rfl
theorem q1678 : (Jvm.Cond.selects "DayBoyModel" ({ cls := "DayBoyModel", name := "answers", desc := "(IIIIII)I" } : Jvm.MethodName) ({ cls := "DayBoyModel", name := "answers", desc := "(IIIIII)I" } : Jvm.MethodName)) ∈ lw_all := lw_g (lw_at lw_m7 135 rfl) rfl
theorem q1679 : (Jvm.Cond.code ({ cls := "DayBoyModel", name := "answers", desc := "(IIIIII)I" } : Jvm.MethodName) prog_16_method_57_code (7 : Nat) (Option.some Jvm.ClassFile.FieldType.int)) ∈ lw_all := lw_g (lw_at lw_m7 136 rfl) rfl
theorem q1680 : (Jvm.Cond.methodLink "DayBoyModel" (356 : Nat) ({ cls := "DayBoyModel", name := "answer", desc := "(IIIII)Z" } : Jvm.MethodName)) ∈ lw_all := lw_g (lw_at lw_m7 137 rfl) rfl
theorem q1681 : (Jvm.Cond.privateMethod ({ cls := "DayBoyModel", name := "answer", desc := "(IIIII)Z" } : Jvm.MethodName)) ∈ lw_tbl := lw_at lw_m7 138 rfl
theorem q1682 : (Jvm.Cond.instanceMethod ({ cls := "DayBoyModel", name := "answer", desc := "(IIIII)Z" } : Jvm.MethodName)) ∈ lw_all := lw_g (lw_at lw_m7 139 rfl) rfl
theorem q1683 : (Jvm.Cond.code ({ cls := "DayBoyModel", name := "answer", desc := "(IIIII)Z" } : Jvm.MethodName) prog_16_method_54_code (8 : Nat) (Option.some Jvm.ClassFile.FieldType.boolean)) ∈ lw_all := lw_g (lw_at lw_m7 140 rfl) rfl
theorem q1684 : (Jvm.Cond.methodLink "DayBoyModel" (360 : Nat) ({ cls := "DayBoyModel", name := "round", desc := "(I)I" } : Jvm.MethodName)) ∈ lw_all := lw_g (lw_at lw_m7 141 rfl) rfl
theorem q1685 : (Jvm.Cond.static ({ cls := "DayBoyModel", name := "round", desc := "(I)I" } : Jvm.MethodName)) ∈ lw_all := lw_g (lw_at lw_m7 142 rfl) rfl
theorem q1686 : (Jvm.Cond.code ({ cls := "DayBoyModel", name := "round", desc := "(I)I" } : Jvm.MethodName) prog_16_method_55_code (2 : Nat) (Option.some Jvm.ClassFile.FieldType.int)) ∈ lw_all := lw_g (lw_at lw_m7 143 rfl) rfl
theorem q1687 : (Jvm.Cond.methodLink "DayBoyModel" (363 : Nat) ({ cls := "DayBoyModel", name := "falseStep", desc := "(I)I" } : Jvm.MethodName)) ∈ lw_all := lw_g (lw_at lw_m7 144 rfl) rfl
theorem q1688 : (Jvm.Cond.privateMethod ({ cls := "DayBoyModel", name := "falseStep", desc := "(I)I" } : Jvm.MethodName)) ∈ lw_tbl := lw_at lw_m7 145 rfl
theorem q1689 : (Jvm.Cond.instanceMethod ({ cls := "DayBoyModel", name := "falseStep", desc := "(I)I" } : Jvm.MethodName)) ∈ lw_all := lw_g (lw_at lw_m7 146 rfl) rfl
theorem q1690 : (Jvm.Cond.code ({ cls := "DayBoyModel", name := "falseStep", desc := "(I)I" } : Jvm.MethodName) prog_16_method_56_code (5 : Nat) (Option.some Jvm.ClassFile.FieldType.int)) ∈ lw_all := lw_g (lw_at lw_m7 147 rfl) rfl
theorem q1692 : (Jvm.Cond.instanceMethod ({ cls := "DayBoyModel", name := "ask", desc := "(IIIIIII)I" } : Jvm.MethodName)) ∈ lw_all := lw_g (lw_at lw_m7 149 rfl) rfl
theorem q1693 : (Jvm.Cond.selects "DayBoyModel" ({ cls := "DayBoyModel", name := "ask", desc := "(IIIIIII)I" } : Jvm.MethodName) ({ cls := "DayBoyModel", name := "ask", desc := "(IIIIIII)I" } : Jvm.MethodName)) ∈ lw_all := lw_g (lw_at lw_m7 150 rfl) rfl
theorem q1694 : (Jvm.Cond.code ({ cls := "DayBoyModel", name := "ask", desc := "(IIIIIII)I" } : Jvm.MethodName) prog_16_method_58_code (8 : Nat) (Option.some Jvm.ClassFile.FieldType.int)) ∈ lw_all := lw_g (lw_at lw_m7 151 rfl) rfl
theorem q1696 : (Jvm.Cond.instanceMethod ({ cls := "DayBoyModel", name := "asked", desc := "(II)I" } : Jvm.MethodName)) ∈ lw_all := lw_g (lw_at lw_m7 153 rfl) rfl
theorem q1697 : (Jvm.Cond.selects "DayBoyModel" ({ cls := "DayBoyModel", name := "asked", desc := "(II)I" } : Jvm.MethodName) ({ cls := "DayBoyModel", name := "asked", desc := "(II)I" } : Jvm.MethodName)) ∈ lw_all := lw_g (lw_at lw_m7 154 rfl) rfl
theorem q1698 : (Jvm.Cond.code ({ cls := "DayBoyModel", name := "asked", desc := "(II)I" } : Jvm.MethodName) prog_16_method_60_code (3 : Nat) (Option.some Jvm.ClassFile.FieldType.int)) ∈ lw_all := lw_g (lw_at lw_m7 155 rfl) rfl
theorem q1699 : (Jvm.Cond.methodLink "DayBoyModel" (369 : Nat) ({ cls := "DayBoyModel", name := "askDay", desc := "(I)I" } : Jvm.MethodName)) ∈ lw_all := lw_g (lw_at lw_m7 156 rfl) rfl
theorem q1700 : (Jvm.Cond.privateMethod ({ cls := "DayBoyModel", name := "askDay", desc := "(I)I" } : Jvm.MethodName)) ∈ lw_tbl := lw_at lw_m7 157 rfl
theorem q1701 : (Jvm.Cond.instanceMethod ({ cls := "DayBoyModel", name := "askDay", desc := "(I)I" } : Jvm.MethodName)) ∈ lw_all := lw_g (lw_at lw_m7 158 rfl) rfl
theorem q1702 : (Jvm.Cond.code ({ cls := "DayBoyModel", name := "askDay", desc := "(I)I" } : Jvm.MethodName) prog_16_method_59_code (2 : Nat) (Option.some Jvm.ClassFile.FieldType.int)) ∈ lw_all := lw_g (lw_at lw_m7 159 rfl) rfl
theorem q1704 : (Jvm.Cond.instanceMethod ({ cls := "DayBoyModel", name := "fits", desc := "(I)I" } : Jvm.MethodName)) ∈ lw_all := lw_g (lw_at lw_m7 161 rfl) rfl
theorem q1705 : (Jvm.Cond.selects "DayBoyModel" ({ cls := "DayBoyModel", name := "fits", desc := "(I)I" } : Jvm.MethodName) ({ cls := "DayBoyModel", name := "fits", desc := "(I)I" } : Jvm.MethodName)) ∈ lw_all := lw_g (lw_at lw_m7 162 rfl) rfl
theorem q1706 : (Jvm.Cond.code ({ cls := "DayBoyModel", name := "fits", desc := "(I)I" } : Jvm.MethodName) prog_16_method_64_code (4 : Nat) (Option.some Jvm.ClassFile.FieldType.int)) ∈ lw_all := lw_g (lw_at lw_m7 163 rfl) rfl
theorem q1707 : (Jvm.Cond.methodLink "DayBoyModel" (378 : Nat) ({ cls := "DayBoyModel", name := "isSlack", desc := "(I)Z" } : Jvm.MethodName)) ∈ lw_all := lw_g (lw_at lw_m7 164 rfl) rfl
theorem q1708 : (Jvm.Cond.privateMethod ({ cls := "DayBoyModel", name := "isSlack", desc := "(I)Z" } : Jvm.MethodName)) ∈ lw_tbl := lw_at lw_m7 165 rfl
theorem q1709 : (Jvm.Cond.instanceMethod ({ cls := "DayBoyModel", name := "isSlack", desc := "(I)Z" } : Jvm.MethodName)) ∈ lw_all := lw_g (lw_at lw_m7 166 rfl) rfl
theorem q1710 : (Jvm.Cond.code ({ cls := "DayBoyModel", name := "isSlack", desc := "(I)Z" } : Jvm.MethodName) prog_16_method_63_code (2 : Nat) (Option.some Jvm.ClassFile.FieldType.boolean)) ∈ lw_all := lw_g (lw_at lw_m7 167 rfl) rfl
theorem q1711 : (Jvm.Cond.methodLink "DayBoyModel" (381 : Nat) ({ cls := "DayBoyModel", name := "soMany", desc := "(II)I" } : Jvm.MethodName)) ∈ lw_all := lw_g (lw_at lw_m7 168 rfl) rfl
theorem q1712 : (Jvm.Cond.privateMethod ({ cls := "DayBoyModel", name := "soMany", desc := "(II)I" } : Jvm.MethodName)) ∈ lw_tbl := lw_at lw_m7 169 rfl
theorem q1713 : (Jvm.Cond.instanceMethod ({ cls := "DayBoyModel", name := "soMany", desc := "(II)I" } : Jvm.MethodName)) ∈ lw_all := lw_g (lw_at lw_m7 170 rfl) rfl
theorem q1714 : (Jvm.Cond.code ({ cls := "DayBoyModel", name := "soMany", desc := "(II)I" } : Jvm.MethodName) prog_16_method_62_code (5 : Nat) (Option.some Jvm.ClassFile.FieldType.int)) ∈ lw_all := lw_g (lw_at lw_m7 171 rfl) rfl
theorem q1715 : (Jvm.Cond.methodLink "DayBoyModel" (375 : Nat) ({ cls := "DayBoyModel", name := "isSo", desc := "(III)Z" } : Jvm.MethodName)) ∈ lw_all := lw_g (lw_at lw_m7 172 rfl) rfl
theorem q1716 : (Jvm.Cond.privateMethod ({ cls := "DayBoyModel", name := "isSo", desc := "(III)Z" } : Jvm.MethodName)) ∈ lw_tbl := lw_at lw_m7 173 rfl
theorem q1717 : (Jvm.Cond.instanceMethod ({ cls := "DayBoyModel", name := "isSo", desc := "(III)Z" } : Jvm.MethodName)) ∈ lw_all := lw_g (lw_at lw_m7 174 rfl) rfl
theorem q1718 : (Jvm.Cond.code ({ cls := "DayBoyModel", name := "isSo", desc := "(III)Z" } : Jvm.MethodName) prog_16_method_61_code (4 : Nat) (Option.some Jvm.ClassFile.FieldType.boolean)) ∈ lw_all := lw_g (lw_at lw_m7 175 rfl) rfl
theorem q1719 : (Jvm.Cond.methodLink "DayBoyModel" (372 : Nat) ({ cls := "java/lang/Math", name := "abs", desc := "(I)I" } : Jvm.MethodName)) ∈ lw_all := lw_g (lw_at lw_m7 176 rfl) rfl
theorem q1721 : (Jvm.Cond.instanceMethod ({ cls := "DayBoyModel", name := "so", desc := "(II)I" } : Jvm.MethodName)) ∈ lw_all := lw_g (lw_at lw_m7 178 rfl) rfl
theorem q1722 : (Jvm.Cond.selects "DayBoyModel" ({ cls := "DayBoyModel", name := "so", desc := "(II)I" } : Jvm.MethodName) ({ cls := "DayBoyModel", name := "so", desc := "(II)I" } : Jvm.MethodName)) ∈ lw_all := lw_g (lw_at lw_m7 179 rfl) rfl
theorem q1723 : (Jvm.Cond.code ({ cls := "DayBoyModel", name := "so", desc := "(II)I" } : Jvm.MethodName) prog_16_method_65_code (3 : Nat) (Option.some Jvm.ClassFile.FieldType.int)) ∈ lw_all := lw_g (lw_at lw_m7 180 rfl) rfl
theorem q1725 : (Jvm.Cond.instanceMethod ({ cls := "DayBoyModel", name := "further", desc := "(I)I" } : Jvm.MethodName)) ∈ lw_all := lw_g (lw_at lw_m7 182 rfl) rfl
theorem q1726 : (Jvm.Cond.selects "DayBoyModel" ({ cls := "DayBoyModel", name := "further", desc := "(I)I" } : Jvm.MethodName) ({ cls := "DayBoyModel", name := "further", desc := "(I)I" } : Jvm.MethodName)) ∈ lw_all := lw_g (lw_at lw_m7 183 rfl) rfl
theorem q1727 : (Jvm.Cond.code ({ cls := "DayBoyModel", name := "further", desc := "(I)I" } : Jvm.MethodName) prog_16_method_66_code (6 : Nat) (Option.some Jvm.ClassFile.FieldType.int)) ∈ lw_all := lw_g (lw_at lw_m7 184 rfl) rfl
theorem q1728 : (Jvm.Cond.methodLink "DayBoyModel" (384 : Nat) ({ cls := "java/lang/Integer", name := "compare", desc := "(II)I" } : Jvm.MethodName)) ∈ lw_all := lw_g (lw_at lw_m7 185 rfl) rfl
theorem q1730 : (Jvm.Cond.instanceMethod ({ cls := "DayBoyModel", name := "lived", desc := "(I)I" } : Jvm.MethodName)) ∈ lw_all := lw_g (lw_at lw_m7 187 rfl) rfl
theorem q1731 : (Jvm.Cond.selects "DayBoyModel" ({ cls := "DayBoyModel", name := "lived", desc := "(I)I" } : Jvm.MethodName) ({ cls := "DayBoyModel", name := "lived", desc := "(I)I" } : Jvm.MethodName)) ∈ lw_all := lw_g (lw_at lw_m7 188 rfl) rfl
theorem q1732 : (Jvm.Cond.code ({ cls := "DayBoyModel", name := "lived", desc := "(I)I" } : Jvm.MethodName) prog_16_method_68_code (5 : Nat) (Option.some Jvm.ClassFile.FieldType.int)) ∈ lw_all := lw_g (lw_at lw_m7 189 rfl) rfl
theorem q1733 : (Jvm.Cond.methodLink "DayBoyModel" (389 : Nat) ({ cls := "DayBoyModel", name := "mean", desc := "(II)I" } : Jvm.MethodName)) ∈ lw_all := lw_g (lw_at lw_m7 190 rfl) rfl
theorem q1734 : (Jvm.Cond.static ({ cls := "DayBoyModel", name := "mean", desc := "(II)I" } : Jvm.MethodName)) ∈ lw_all := lw_g (lw_at lw_m7 191 rfl) rfl
theorem q1735 : (Jvm.Cond.code ({ cls := "DayBoyModel", name := "mean", desc := "(II)I" } : Jvm.MethodName) prog_16_method_67_code (2 : Nat) (Option.some Jvm.ClassFile.FieldType.int)) ∈ lw_all := lw_g (lw_at lw_m7 192 rfl) rfl
theorem q1737 : (Jvm.Cond.instanceMethod ({ cls := "DayBoyModel", name := "after", desc := "(I)I" } : Jvm.MethodName)) ∈ lw_all := lw_g (lw_at lw_m7 194 rfl) rfl
theorem q1738 : (Jvm.Cond.selects "DayBoyModel" ({ cls := "DayBoyModel", name := "after", desc := "(I)I" } : Jvm.MethodName) ({ cls := "DayBoyModel", name := "after", desc := "(I)I" } : Jvm.MethodName)) ∈ lw_all := lw_g (lw_at lw_m7 195 rfl) rfl
theorem q1739 : (Jvm.Cond.code ({ cls := "DayBoyModel", name := "after", desc := "(I)I" } : Jvm.MethodName) prog_16_method_69_code (7 : Nat) (Option.some Jvm.ClassFile.FieldType.int)) ∈ lw_all := lw_g (lw_at lw_m7 196 rfl) rfl
theorem q1741 : (Jvm.Cond.instanceMethod ({ cls := "DayBoyModel", name := "learnt", desc := "(IIII)I" } : Jvm.MethodName)) ∈ lw_all := lw_g (lw_at lw_m7 198 rfl) rfl
theorem q1742 : (Jvm.Cond.selects "DayBoyModel" ({ cls := "DayBoyModel", name := "learnt", desc := "(IIII)I" } : Jvm.MethodName) ({ cls := "DayBoyModel", name := "learnt", desc := "(IIII)I" } : Jvm.MethodName)) ∈ lw_all := lw_g (lw_at lw_m7 199 rfl) rfl
theorem q1743 : (Jvm.Cond.code ({ cls := "DayBoyModel", name := "learnt", desc := "(IIII)I" } : Jvm.MethodName) prog_16_method_70_code (8 : Nat) (Option.some Jvm.ClassFile.FieldType.int)) ∈ lw_all := lw_g (lw_at lw_m7 200 rfl) rfl
theorem q1745 : (Jvm.Cond.instanceMethod ({ cls := "DayBoyModel", name := "weigh", desc := "(II)Z" } : Jvm.MethodName)) ∈ lw_all := lw_g (lw_at lw_m7 202 rfl) rfl
theorem q1746 : (Jvm.Cond.selects "DayBoyModel" ({ cls := "DayBoyModel", name := "weigh", desc := "(II)Z" } : Jvm.MethodName) ({ cls := "DayBoyModel", name := "weigh", desc := "(II)Z" } : Jvm.MethodName)) ∈ lw_all := lw_g (lw_at lw_m7 203 rfl) rfl
theorem q1747 : (Jvm.Cond.code ({ cls := "DayBoyModel", name := "weigh", desc := "(II)Z" } : Jvm.MethodName) prog_16_method_71_code (3 : Nat) (Option.some Jvm.ClassFile.FieldType.boolean)) ∈ lw_all := lw_g (lw_at lw_m7 204 rfl) rfl
theorem q1749 : (Jvm.Cond.instanceMethod ({ cls := "DayBoyModel", name := "odds", desc := "(II)I" } : Jvm.MethodName)) ∈ lw_all := lw_g (lw_at lw_m7 206 rfl) rfl
theorem q1750 : (Jvm.Cond.selects "DayBoyModel" ({ cls := "DayBoyModel", name := "odds", desc := "(II)I" } : Jvm.MethodName) ({ cls := "DayBoyModel", name := "odds", desc := "(II)I" } : Jvm.MethodName)) ∈ lw_all := lw_g (lw_at lw_m7 207 rfl) rfl
theorem q1751 : (Jvm.Cond.code ({ cls := "DayBoyModel", name := "odds", desc := "(II)I" } : Jvm.MethodName) prog_16_method_72_code (5 : Nat) (Option.some Jvm.ClassFile.FieldType.int)) ∈ lw_all := lw_g (lw_at lw_m7 208 rfl) rfl
theorem q1753 : (Jvm.Cond.instanceMethod ({ cls := "DayBoyModel", name := "plan", desc := "(IIII)I" } : Jvm.MethodName)) ∈ lw_all := lw_g (lw_at lw_m7 210 rfl) rfl
theorem q1754 : (Jvm.Cond.selects "DayBoyModel" ({ cls := "DayBoyModel", name := "plan", desc := "(IIII)I" } : Jvm.MethodName) ({ cls := "DayBoyModel", name := "plan", desc := "(IIII)I" } : Jvm.MethodName)) ∈ lw_all := lw_g (lw_at lw_m7 211 rfl) rfl
theorem q1755 : (Jvm.Cond.code ({ cls := "DayBoyModel", name := "plan", desc := "(IIII)I" } : Jvm.MethodName) prog_16_method_73_code (5 : Nat) (Option.some Jvm.ClassFile.FieldType.int)) ∈ lw_all := lw_g (lw_at lw_m7 212 rfl) rfl
theorem q1757 : (Jvm.Cond.instanceMethod ({ cls := "DayBoyModel", name := "parted", desc := "(II)I" } : Jvm.MethodName)) ∈ lw_all := lw_g (lw_at lw_m7 214 rfl) rfl
theorem q1758 : (Jvm.Cond.selects "DayBoyModel" ({ cls := "DayBoyModel", name := "parted", desc := "(II)I" } : Jvm.MethodName) ({ cls := "DayBoyModel", name := "parted", desc := "(II)I" } : Jvm.MethodName)) ∈ lw_all := lw_g (lw_at lw_m7 215 rfl) rfl
theorem q1759 : (Jvm.Cond.code ({ cls := "DayBoyModel", name := "parted", desc := "(II)I" } : Jvm.MethodName) prog_16_method_77_code (3 : Nat) (Option.some Jvm.ClassFile.FieldType.int)) ∈ lw_all := lw_g (lw_at lw_m7 216 rfl) rfl
theorem q1760 : (Jvm.Cond.methodLink "DayBoyModel" (399 : Nat) ({ cls := "DayBoyModel", name := "areHeads", desc := "(I)Z" } : Jvm.MethodName)) ∈ lw_all := lw_g (lw_at lw_m7 217 rfl) rfl
theorem q1761 : (Jvm.Cond.privateMethod ({ cls := "DayBoyModel", name := "areHeads", desc := "(I)Z" } : Jvm.MethodName)) ∈ lw_tbl := lw_at lw_m7 218 rfl
theorem q1762 : (Jvm.Cond.instanceMethod ({ cls := "DayBoyModel", name := "areHeads", desc := "(I)Z" } : Jvm.MethodName)) ∈ lw_all := lw_g (lw_at lw_m7 219 rfl) rfl
theorem q1763 : (Jvm.Cond.code ({ cls := "DayBoyModel", name := "areHeads", desc := "(I)Z" } : Jvm.MethodName) prog_16_method_76_code (2 : Nat) (Option.some Jvm.ClassFile.FieldType.boolean)) ∈ lw_all := lw_g (lw_at lw_m7 220 rfl) rfl
theorem q1764 : (Jvm.Cond.methodLink "DayBoyModel" (402 : Nat) ({ cls := "DayBoyModel", name := "partedBy", desc := "(II)I" } : Jvm.MethodName)) ∈ lw_all := lw_g (lw_at lw_m7 221 rfl) rfl
theorem q1765 : (Jvm.Cond.privateMethod ({ cls := "DayBoyModel", name := "partedBy", desc := "(II)I" } : Jvm.MethodName)) ∈ lw_tbl := lw_at lw_m7 222 rfl
theorem q1766 : (Jvm.Cond.instanceMethod ({ cls := "DayBoyModel", name := "partedBy", desc := "(II)I" } : Jvm.MethodName)) ∈ lw_all := lw_g (lw_at lw_m7 223 rfl) rfl
theorem q1767 : (Jvm.Cond.code ({ cls := "DayBoyModel", name := "partedBy", desc := "(II)I" } : Jvm.MethodName) prog_16_method_75_code (7 : Nat) (Option.some Jvm.ClassFile.FieldType.int)) ∈ lw_all := lw_g (lw_at lw_m7 224 rfl) rfl
theorem q1768 : (Jvm.Cond.methodLink "DayBoyModel" (395 : Nat) ({ cls := "DayBoyModel", name := "areApart", desc := "(IIIIII)Z" } : Jvm.MethodName)) ∈ lw_all := lw_g (lw_at lw_m7 225 rfl) rfl
theorem q1769 : (Jvm.Cond.privateMethod ({ cls := "DayBoyModel", name := "areApart", desc := "(IIIIII)Z" } : Jvm.MethodName)) ∈ lw_tbl := lw_at lw_m7 226 rfl
theorem q1770 : (Jvm.Cond.instanceMethod ({ cls := "DayBoyModel", name := "areApart", desc := "(IIIIII)Z" } : Jvm.MethodName)) ∈ lw_all := lw_g (lw_at lw_m7 227 rfl) rfl
theorem q1771 : (Jvm.Cond.code ({ cls := "DayBoyModel", name := "areApart", desc := "(IIIIII)Z" } : Jvm.MethodName) prog_16_method_74_code (11 : Nat) (Option.some Jvm.ClassFile.FieldType.boolean)) ∈ lw_all := lw_g (lw_at lw_m7 228 rfl) rfl
theorem q1773 : (Jvm.Cond.instanceMethod ({ cls := "DayBoyModel", name := "next", desc := "(I)I" } : Jvm.MethodName)) ∈ lw_all := lw_g (lw_at lw_m7 230 rfl) rfl
theorem q1774 : (Jvm.Cond.selects "DayBoyModel" ({ cls := "DayBoyModel", name := "next", desc := "(I)I" } : Jvm.MethodName) ({ cls := "DayBoyModel", name := "next", desc := "(I)I" } : Jvm.MethodName)) ∈ lw_all := lw_g (lw_at lw_m7 231 rfl) rfl
theorem q1775 : (Jvm.Cond.code ({ cls := "DayBoyModel", name := "next", desc := "(I)I" } : Jvm.MethodName) prog_16_method_78_code (6 : Nat) (Option.some Jvm.ClassFile.FieldType.int)) ∈ lw_all := lw_g (lw_at lw_m7 232 rfl) rfl
theorem q1777 : (Jvm.Cond.instanceMethod ({ cls := "DayBoyModel", name := "part", desc := "(IIIII)I" } : Jvm.MethodName)) ∈ lw_all := lw_g (lw_at lw_m7 234 rfl) rfl
theorem q1778 : (Jvm.Cond.selects "DayBoyModel" ({ cls := "DayBoyModel", name := "part", desc := "(IIIII)I" } : Jvm.MethodName) ({ cls := "DayBoyModel", name := "part", desc := "(IIIII)I" } : Jvm.MethodName)) ∈ lw_all := lw_g (lw_at lw_m7 235 rfl) rfl
theorem q1779 : (Jvm.Cond.code ({ cls := "DayBoyModel", name := "part", desc := "(IIIII)I" } : Jvm.MethodName) prog_16_method_79_code (9 : Nat) (Option.some Jvm.ClassFile.FieldType.int)) ∈ lw_all := lw_g (lw_at lw_m7 236 rfl) rfl
theorem q1781 : (Jvm.Cond.instanceMethod ({ cls := "DayBoyModel", name := "least", desc := "(IIIII)I" } : Jvm.MethodName)) ∈ lw_all := lw_g (lw_at lw_m7 238 rfl) rfl
theorem q1782 : (Jvm.Cond.selects "DayBoyModel" ({ cls := "DayBoyModel", name := "least", desc := "(IIIII)I" } : Jvm.MethodName) ({ cls := "DayBoyModel", name := "least", desc := "(IIIII)I" } : Jvm.MethodName)) ∈ lw_all := lw_g (lw_at lw_m7 239 rfl) rfl
theorem q1783 : (Jvm.Cond.code ({ cls := "DayBoyModel", name := "least", desc := "(IIIII)I" } : Jvm.MethodName) prog_16_method_82_code (10 : Nat) (Option.some Jvm.ClassFile.FieldType.int)) ∈ lw_all := lw_g (lw_at lw_m8 0 rfl) rfl
theorem q1784 : (Jvm.Cond.methodLink "DayBoyModel" (406 : Nat) ({ cls := "DayBoyModel", name := "nearYears", desc := "(IIII)V" } : Jvm.MethodName)) ∈ lw_all := lw_g (lw_at lw_m8 1 rfl) rfl
theorem q1785 : (Jvm.Cond.privateMethod ({ cls := "DayBoyModel", name := "nearYears", desc := "(IIII)V" } : Jvm.MethodName)) ∈ lw_tbl := lw_at lw_m8 2 rfl
theorem q1786 : (Jvm.Cond.instanceMethod ({ cls := "DayBoyModel", name := "nearYears", desc := "(IIII)V" } : Jvm.MethodName)) ∈ lw_all := lw_g (lw_at lw_m8 3 rfl) rfl
theorem q1787 : (Jvm.Cond.code ({ cls := "DayBoyModel", name := "nearYears", desc := "(IIII)V" } : Jvm.MethodName) prog_16_method_80_code (9 : Nat) (Option.none : Option Jvm.ClassFile.FieldType)) ∈ lw_all := lw_g (lw_at lw_m8 4 rfl) rfl
theorem q1788 : (Jvm.Cond.constant "DayBoyModel" (405 : Nat) (80008 : Int32)) ∈ lw_all := lw_g (lw_at lw_m8 5 rfl) rfl
theorem q1789 : (Jvm.Cond.methodLink "DayBoyModel" (409 : Nat) ({ cls := "java/lang/Integer", name := "bitCount", desc := "(I)I" } : Jvm.MethodName)) ∈ lw_all := lw_g (lw_at lw_m8 6 rfl) rfl
theorem q1790 : (Jvm.Cond.methodLink "DayBoyModel" (412 : Nat) ({ cls := "DayBoyModel", name := "doAll", desc := "(II)Z" } : Jvm.MethodName)) ∈ lw_all := lw_g (lw_at lw_m8 7 rfl) rfl
theorem q1791 : (Jvm.Cond.privateMethod ({ cls := "DayBoyModel", name := "doAll", desc := "(II)Z" } : Jvm.MethodName)) ∈ lw_tbl := lw_at lw_m8 8 rfl
theorem q1792 : (Jvm.Cond.instanceMethod ({ cls := "DayBoyModel", name := "doAll", desc := "(II)Z" } : Jvm.MethodName)) ∈ lw_all := lw_g (lw_at lw_m8 9 rfl) rfl
theorem q1793 : (Jvm.Cond.code ({ cls := "DayBoyModel", name := "doAll", desc := "(II)Z" } : Jvm.MethodName) prog_16_method_81_code (4 : Nat) (Option.some Jvm.ClassFile.FieldType.boolean)) ∈ lw_all := lw_g (lw_at lw_m8 10 rfl) rfl
theorem q1795 : (Jvm.Cond.instanceMethod ({ cls := "DayBoyModel", name := "like", desc := "(III)I" } : Jvm.MethodName)) ∈ lw_all := lw_g (lw_at lw_m8 12 rfl) rfl
theorem q1796 : (Jvm.Cond.selects "DayBoyModel" ({ cls := "DayBoyModel", name := "like", desc := "(III)I" } : Jvm.MethodName) ({ cls := "DayBoyModel", name := "like", desc := "(III)I" } : Jvm.MethodName)) ∈ lw_all := lw_g (lw_at lw_m8 13 rfl) rfl
theorem q1797 : (Jvm.Cond.code ({ cls := "DayBoyModel", name := "like", desc := "(III)I" } : Jvm.MethodName) prog_16_method_83_code (7 : Nat) (Option.some Jvm.ClassFile.FieldType.int)) ∈ lw_all := lw_g (lw_at lw_m8 14 rfl) rfl
theorem q1799 : (Jvm.Cond.instanceMethod ({ cls := "DayBoyModel", name := "thirteenths", desc := "(IIII)I" } : Jvm.MethodName)) ∈ lw_all := lw_g (lw_at lw_m8 16 rfl) rfl
theorem q1800 : (Jvm.Cond.selects "DayBoyModel" ({ cls := "DayBoyModel", name := "thirteenths", desc := "(IIII)I" } : Jvm.MethodName) ({ cls := "DayBoyModel", name := "thirteenths", desc := "(IIII)I" } : Jvm.MethodName)) ∈ lw_all := lw_g (lw_at lw_m8 17 rfl) rfl
theorem q1801 : (Jvm.Cond.code ({ cls := "DayBoyModel", name := "thirteenths", desc := "(IIII)I" } : Jvm.MethodName) prog_16_method_84_code (8 : Nat) (Option.some Jvm.ClassFile.FieldType.int)) ∈ lw_all := lw_g (lw_at lw_m8 18 rfl) rfl
theorem q1803 : (Jvm.Cond.instanceMethod ({ cls := "DayBoyModel", name := "mates", desc := "(III)I" } : Jvm.MethodName)) ∈ lw_all := lw_g (lw_at lw_m8 20 rfl) rfl
theorem q1804 : (Jvm.Cond.selects "DayBoyModel" ({ cls := "DayBoyModel", name := "mates", desc := "(III)I" } : Jvm.MethodName) ({ cls := "DayBoyModel", name := "mates", desc := "(III)I" } : Jvm.MethodName)) ∈ lw_all := lw_g (lw_at lw_m8 21 rfl) rfl
theorem q1805 : (Jvm.Cond.code ({ cls := "DayBoyModel", name := "mates", desc := "(III)I" } : Jvm.MethodName) prog_16_method_85_code (6 : Nat) (Option.some Jvm.ClassFile.FieldType.int)) ∈ lw_all := lw_g (lw_at lw_m8 22 rfl) rfl
theorem q1807 : (Jvm.Cond.instanceMethod ({ cls := "DayBoyModel", name := "born", desc := "(IIII)Z" } : Jvm.MethodName)) ∈ lw_all := lw_g (lw_at lw_m8 24 rfl) rfl
theorem q1808 : (Jvm.Cond.selects "DayBoyModel" ({ cls := "DayBoyModel", name := "born", desc := "(IIII)Z" } : Jvm.MethodName) ({ cls := "DayBoyModel", name := "born", desc := "(IIII)Z" } : Jvm.MethodName)) ∈ lw_all := lw_g (lw_at lw_m8 25 rfl) rfl
theorem q1809 : (Jvm.Cond.code ({ cls := "DayBoyModel", name := "born", desc := "(IIII)Z" } : Jvm.MethodName) prog_16_method_86_code (5 : Nat) (Option.some Jvm.ClassFile.FieldType.boolean)) ∈ lw_all := lw_g (lw_at lw_m8 26 rfl) rfl
theorem q1811 : (Jvm.Cond.instanceMethod ({ cls := "DayBoyModel", name := "age", desc := "(IIII)I" } : Jvm.MethodName)) ∈ lw_all := lw_g (lw_at lw_m8 28 rfl) rfl
theorem q1812 : (Jvm.Cond.selects "DayBoyModel" ({ cls := "DayBoyModel", name := "age", desc := "(IIII)I" } : Jvm.MethodName) ({ cls := "DayBoyModel", name := "age", desc := "(IIII)I" } : Jvm.MethodName)) ∈ lw_all := lw_g (lw_at lw_m8 29 rfl) rfl
theorem q1813 : (Jvm.Cond.code ({ cls := "DayBoyModel", name := "age", desc := "(IIII)I" } : Jvm.MethodName) prog_16_method_88_code (8 : Nat) (Option.some Jvm.ClassFile.FieldType.int)) ∈ lw_all := lw_g (lw_at lw_m8 30 rfl) rfl
theorem q1814 : (Jvm.Cond.methodLink "DayBoyModel" (427 : Nat) ({ cls := "DayBoyModel", name := "firstFrom", desc := "(II)I" } : Jvm.MethodName)) ∈ lw_all := lw_g (lw_at lw_m8 31 rfl) rfl
theorem q1815 : (Jvm.Cond.privateMethod ({ cls := "DayBoyModel", name := "firstFrom", desc := "(II)I" } : Jvm.MethodName)) ∈ lw_tbl := lw_at lw_m8 32 rfl
theorem q1816 : (Jvm.Cond.instanceMethod ({ cls := "DayBoyModel", name := "firstFrom", desc := "(II)I" } : Jvm.MethodName)) ∈ lw_all := lw_g (lw_at lw_m8 33 rfl) rfl
theorem q1817 : (Jvm.Cond.code ({ cls := "DayBoyModel", name := "firstFrom", desc := "(II)I" } : Jvm.MethodName) prog_16_method_87_code (6 : Nat) (Option.some Jvm.ClassFile.FieldType.int)) ∈ lw_all := lw_g (lw_at lw_m8 34 rfl) rfl
theorem q1819 : (Jvm.Cond.instanceMethod ({ cls := "DayBoyModel", name := "event", desc := "(IIIII)I" } : Jvm.MethodName)) ∈ lw_all := lw_g (lw_at lw_m8 36 rfl) rfl
theorem q1820 : (Jvm.Cond.selects "DayBoyModel" ({ cls := "DayBoyModel", name := "event", desc := "(IIIII)I" } : Jvm.MethodName) ({ cls := "DayBoyModel", name := "event", desc := "(IIIII)I" } : Jvm.MethodName)) ∈ lw_all := lw_g (lw_at lw_m8 37 rfl) rfl
theorem q1821 : (Jvm.Cond.code ({ cls := "DayBoyModel", name := "event", desc := "(IIIII)I" } : Jvm.MethodName) prog_16_method_89_code (6 : Nat) (Option.some Jvm.ClassFile.FieldType.int)) ∈ lw_all := lw_g (lw_at lw_m8 38 rfl) rfl
theorem q1823 : (Jvm.Cond.instanceMethod ({ cls := "DayBoyModel", name := "held", desc := "(IIII)I" } : Jvm.MethodName)) ∈ lw_all := lw_g (lw_at lw_m8 40 rfl) rfl
theorem q1824 : (Jvm.Cond.selects "DayBoyModel" ({ cls := "DayBoyModel", name := "held", desc := "(IIII)I" } : Jvm.MethodName) ({ cls := "DayBoyModel", name := "held", desc := "(IIII)I" } : Jvm.MethodName)) ∈ lw_all := lw_g (lw_at lw_m8 41 rfl) rfl
theorem q1825 : (Jvm.Cond.code ({ cls := "DayBoyModel", name := "held", desc := "(IIII)I" } : Jvm.MethodName) prog_16_method_90_code (7 : Nat) (Option.some Jvm.ClassFile.FieldType.int)) ∈ lw_all := lw_g (lw_at lw_m8 42 rfl) rfl
theorem q1827 : (Jvm.Cond.instanceMethod ({ cls := "DayBoyModel", name := "spell", desc := "(I)I" } : Jvm.MethodName)) ∈ lw_all := lw_g (lw_at lw_m8 44 rfl) rfl
theorem q1828 : (Jvm.Cond.selects "DayBoyModel" ({ cls := "DayBoyModel", name := "spell", desc := "(I)I" } : Jvm.MethodName) ({ cls := "DayBoyModel", name := "spell", desc := "(I)I" } : Jvm.MethodName)) ∈ lw_all := lw_g (lw_at lw_m8 45 rfl) rfl
theorem q1829 : (Jvm.Cond.code ({ cls := "DayBoyModel", name := "spell", desc := "(I)I" } : Jvm.MethodName) prog_16_method_92_code (5 : Nat) (Option.some Jvm.ClassFile.FieldType.int)) ∈ lw_all := lw_g (lw_at lw_m8 46 rfl) rfl
theorem q1830 : (Jvm.Cond.methodLink "DayBoyModel" (433 : Nat) ({ cls := "DayBoyModel", name := "hasEvent", desc := "(II)Z" } : Jvm.MethodName)) ∈ lw_all := lw_g (lw_at lw_m8 47 rfl) rfl
theorem q1831 : (Jvm.Cond.privateMethod ({ cls := "DayBoyModel", name := "hasEvent", desc := "(II)Z" } : Jvm.MethodName)) ∈ lw_tbl := lw_at lw_m8 48 rfl
theorem q1832 : (Jvm.Cond.instanceMethod ({ cls := "DayBoyModel", name := "hasEvent", desc := "(II)Z" } : Jvm.MethodName)) ∈ lw_all := lw_g (lw_at lw_m8 49 rfl) rfl
theorem q1833 : (Jvm.Cond.code ({ cls := "DayBoyModel", name := "hasEvent", desc := "(II)Z" } : Jvm.MethodName) prog_16_method_91_code (4 : Nat) (Option.some Jvm.ClassFile.FieldType.boolean)) ∈ lw_all := lw_g (lw_at lw_m8 50 rfl) rfl
theorem q1835 : (Jvm.Cond.instanceMethod ({ cls := "DayBoyModel", name := "keep", desc := "()I" } : Jvm.MethodName)) ∈ lw_all := lw_g (lw_at lw_m8 52 rfl) rfl
theorem q1836 : (Jvm.Cond.selects "DayBoyModel" ({ cls := "DayBoyModel", name := "keep", desc := "()I" } : Jvm.MethodName) ({ cls := "DayBoyModel", name := "keep", desc := "()I" } : Jvm.MethodName)) ∈ lw_all := lw_g (lw_at lw_m8 53 rfl) rfl
theorem q1837 : (Jvm.Cond.code ({ cls := "DayBoyModel", name := "keep", desc := "()I" } : Jvm.MethodName) prog_16_method_93_code (1 : Nat) (Option.some Jvm.ClassFile.FieldType.int)) ∈ lw_all := lw_g (lw_at lw_m8 54 rfl) rfl
theorem q1839 : (Jvm.Cond.instanceMethod ({ cls := "DayBoyModel", name := "back", desc := "()I" } : Jvm.MethodName)) ∈ lw_all := lw_g (lw_at lw_m8 56 rfl) rfl
theorem q1840 : (Jvm.Cond.selects "DayBoyModel" ({ cls := "DayBoyModel", name := "back", desc := "()I" } : Jvm.MethodName) ({ cls := "DayBoyModel", name := "back", desc := "()I" } : Jvm.MethodName)) ∈ lw_all := lw_g (lw_at lw_m8 57 rfl) rfl
theorem q1841 : (Jvm.Cond.code ({ cls := "DayBoyModel", name := "back", desc := "()I" } : Jvm.MethodName) prog_16_method_94_code (1 : Nat) (Option.some Jvm.ClassFile.FieldType.int)) ∈ lw_all := lw_g (lw_at lw_m8 58 rfl) rfl
theorem q1843 : (Jvm.Cond.instanceMethod ({ cls := "DayBoyModel", name := "row", desc := "(III)I" } : Jvm.MethodName)) ∈ lw_all := lw_g (lw_at lw_m8 60 rfl) rfl
theorem q1844 : (Jvm.Cond.selects "DayBoyModel" ({ cls := "DayBoyModel", name := "row", desc := "(III)I" } : Jvm.MethodName) ({ cls := "DayBoyModel", name := "row", desc := "(III)I" } : Jvm.MethodName)) ∈ lw_all := lw_g (lw_at lw_m8 61 rfl) rfl
theorem q1845 : (Jvm.Cond.code ({ cls := "DayBoyModel", name := "row", desc := "(III)I" } : Jvm.MethodName) prog_16_method_98_code (8 : Nat) (Option.some Jvm.ClassFile.FieldType.int)) ∈ lw_all := lw_g (lw_at lw_m8 62 rfl) rfl
theorem q1847 : (Jvm.Cond.instanceMethod ({ cls := "DayBoyModel", name := "run", desc := "(IJIII)I" } : Jvm.MethodName)) ∈ lw_all := lw_g (lw_at lw_m8 64 rfl) rfl
theorem q1848 : (Jvm.Cond.selects "DayBoyModel" ({ cls := "DayBoyModel", name := "run", desc := "(IJIII)I" } : Jvm.MethodName) ({ cls := "DayBoyModel", name := "run", desc := "(IJIII)I" } : Jvm.MethodName)) ∈ lw_all := lw_g (lw_at lw_m8 65 rfl) rfl
theorem q1849 : (Jvm.Cond.code ({ cls := "DayBoyModel", name := "run", desc := "(IJIII)I" } : Jvm.MethodName) prog_16_method_101_code (12 : Nat) (Option.some Jvm.ClassFile.FieldType.int)) ∈ lw_all := lw_g (lw_at lw_m8 66 rfl) rfl
theorem q1850 : (Jvm.Cond.methodLink "DayBoyModel" (457 : Nat) ({ cls := "DayBoyModel", name := "draw", desc := "(I)I" } : Jvm.MethodName)) ∈ lw_all := lw_g (lw_at lw_m8 67 rfl) rfl
theorem q1851 : (Jvm.Cond.privateMethod ({ cls := "DayBoyModel", name := "draw", desc := "(I)I" } : Jvm.MethodName)) ∈ lw_tbl := lw_at lw_m8 68 rfl
theorem q1852 : (Jvm.Cond.instanceMethod ({ cls := "DayBoyModel", name := "draw", desc := "(I)I" } : Jvm.MethodName)) ∈ lw_all := lw_g (lw_at lw_m8 69 rfl) rfl
theorem q1853 : (Jvm.Cond.code ({ cls := "DayBoyModel", name := "draw", desc := "(I)I" } : Jvm.MethodName) prog_16_method_99_code (2 : Nat) (Option.some Jvm.ClassFile.FieldType.int)) ∈ lw_all := lw_g (lw_at lw_m8 70 rfl) rfl
theorem q1854 : (Jvm.Cond.constantLong "DayBoyModel" (453 : Nat) (6364136223846793005 : Int64)) ∈ lw_all := lw_g (lw_at lw_m8 71 rfl) rfl
theorem q1855 : (Jvm.Cond.constantLong "DayBoyModel" (455 : Nat) (1442695040888963407 : Int64)) ∈ lw_all := lw_g (lw_at lw_m8 72 rfl) rfl
theorem q1856 : (Jvm.Cond.methodLink "DayBoyModel" (460 : Nat) ({ cls := "DayBoyModel", name := "isEased", desc := "(I)Z" } : Jvm.MethodName)) ∈ lw_all := lw_g (lw_at lw_m8 73 rfl) rfl
theorem q1857 : (Jvm.Cond.privateMethod ({ cls := "DayBoyModel", name := "isEased", desc := "(I)Z" } : Jvm.MethodName)) ∈ lw_tbl := lw_at lw_m8 74 rfl
theorem q1858 : (Jvm.Cond.instanceMethod ({ cls := "DayBoyModel", name := "isEased", desc := "(I)Z" } : Jvm.MethodName)) ∈ lw_all := lw_g (lw_at lw_m8 75 rfl) rfl
theorem q1859 : (Jvm.Cond.code ({ cls := "DayBoyModel", name := "isEased", desc := "(I)Z" } : Jvm.MethodName) prog_16_method_100_code (3 : Nat) (Option.some Jvm.ClassFile.FieldType.boolean)) ∈ lw_all := lw_g (lw_at lw_m8 76 rfl) rfl
theorem q1861 : (Jvm.Cond.instanceMethod ({ cls := "DayBoyModel", name := "holds", desc := "(IIIIII)I" } : Jvm.MethodName)) ∈ lw_all := lw_g (lw_at lw_m8 78 rfl) rfl
theorem q1862 : (Jvm.Cond.selects "DayBoyModel" ({ cls := "DayBoyModel", name := "holds", desc := "(IIIIII)I" } : Jvm.MethodName) ({ cls := "DayBoyModel", name := "holds", desc := "(IIIIII)I" } : Jvm.MethodName)) ∈ lw_all := lw_g (lw_at lw_m8 79 rfl) rfl
theorem q1863 : (Jvm.Cond.code ({ cls := "DayBoyModel", name := "holds", desc := "(IIIIII)I" } : Jvm.MethodName) prog_16_method_103_code (7 : Nat) (Option.some Jvm.ClassFile.FieldType.int)) ∈ lw_all := lw_g (lw_at lw_m8 80 rfl) rfl
theorem q1864 : (Jvm.Cond.methodLink "DayBoyModel" (463 : Nat) ({ cls := "DayBoyModel", name := "areYears", desc := "(II)Z" } : Jvm.MethodName)) ∈ lw_all := lw_g (lw_at lw_m8 81 rfl) rfl
theorem q1865 : (Jvm.Cond.privateMethod ({ cls := "DayBoyModel", name := "areYears", desc := "(II)Z" } : Jvm.MethodName)) ∈ lw_tbl := lw_at lw_m8 82 rfl
theorem q1866 : (Jvm.Cond.instanceMethod ({ cls := "DayBoyModel", name := "areYears", desc := "(II)Z" } : Jvm.MethodName)) ∈ lw_all := lw_g (lw_at lw_m8 83 rfl) rfl
theorem q1867 : (Jvm.Cond.code ({ cls := "DayBoyModel", name := "areYears", desc := "(II)Z" } : Jvm.MethodName) prog_16_method_102_code (3 : Nat) (Option.some Jvm.ClassFile.FieldType.boolean)) ∈ lw_all := lw_g (lw_at lw_m8 84 rfl) rfl
theorem q1868 : (Jvm.Cond.methodLink "DayBoyModel" (466 : Nat) ({ cls := "DayBoyModel", name := "stepTrue", desc := "(IIII)I" } : Jvm.MethodName)) ∈ lw_all := lw_g (lw_at lw_m8 85 rfl) rfl
theorem q1869 : (Jvm.Cond.privateMethod ({ cls := "DayBoyModel", name := "stepTrue", desc := "(IIII)I" } : Jvm.MethodName)) ∈ lw_tbl := lw_at lw_m8 86 rfl
theorem q1870 : (Jvm.Cond.instanceMethod ({ cls := "DayBoyModel", name := "stepTrue", desc := "(IIII)I" } : Jvm.MethodName)) ∈ lw_all := lw_g (lw_at lw_m8 87 rfl) rfl
theorem q1871 : (Jvm.Cond.code ({ cls := "DayBoyModel", name := "stepTrue", desc := "(IIII)I" } : Jvm.MethodName) prog_16_method_104_code (8 : Nat) (Option.some Jvm.ClassFile.FieldType.int)) ∈ lw_all := lw_g (lw_at lw_m8 88 rfl) rfl
theorem q1872 : (Jvm.Cond.methodLink "DayBoyModel" (469 : Nat) ({ cls := "DayBoyModel", name := "monthsTrue", desc := "(IIIII)I" } : Jvm.MethodName)) ∈ lw_all := lw_g (lw_at lw_m8 89 rfl) rfl
theorem q1873 : (Jvm.Cond.privateMethod ({ cls := "DayBoyModel", name := "monthsTrue", desc := "(IIIII)I" } : Jvm.MethodName)) ∈ lw_tbl := lw_at lw_m8 90 rfl
theorem q1874 : (Jvm.Cond.instanceMethod ({ cls := "DayBoyModel", name := "monthsTrue", desc := "(IIIII)I" } : Jvm.MethodName)) ∈ lw_all := lw_g (lw_at lw_m8 91 rfl) rfl
theorem q1875 : (Jvm.Cond.code ({ cls := "DayBoyModel", name := "monthsTrue", desc := "(IIIII)I" } : Jvm.MethodName) prog_16_method_105_code (8 : Nat) (Option.some Jvm.ClassFile.FieldType.int)) ∈ lw_all := lw_g (lw_at lw_m8 92 rfl) rfl
theorem q1877 : (Jvm.Cond.instanceMethod ({ cls := "DayBoyModel", name := "right", desc := "(IIII)I" } : Jvm.MethodName)) ∈ lw_all := lw_g (lw_at lw_m8 94 rfl) rfl
theorem q1878 : (Jvm.Cond.selects "DayBoyModel" ({ cls := "DayBoyModel", name := "right", desc := "(IIII)I" } : Jvm.MethodName) ({ cls := "DayBoyModel", name := "right", desc := "(IIII)I" } : Jvm.MethodName)) ∈ lw_all := lw_g (lw_at lw_m8 95 rfl) rfl
theorem q1879 : (Jvm.Cond.code ({ cls := "DayBoyModel", name := "right", desc := "(IIII)I" } : Jvm.MethodName) prog_16_method_106_code (9 : Nat) (Option.some Jvm.ClassFile.FieldType.int)) ∈ lw_all := lw_g (lw_at lw_m8 96 rfl) rfl
theorem q1881 : (Jvm.Cond.instanceMethod ({ cls := "DayBoyModel", name := "lacks", desc := "(IIII)I" } : Jvm.MethodName)) ∈ lw_all := lw_g (lw_at lw_m8 98 rfl) rfl
theorem q1882 : (Jvm.Cond.selects "DayBoyModel" ({ cls := "DayBoyModel", name := "lacks", desc := "(IIII)I" } : Jvm.MethodName) ({ cls := "DayBoyModel", name := "lacks", desc := "(IIII)I" } : Jvm.MethodName)) ∈ lw_all := lw_g (lw_at lw_m8 99 rfl) rfl
theorem q1883 : (Jvm.Cond.code ({ cls := "DayBoyModel", name := "lacks", desc := "(IIII)I" } : Jvm.MethodName) prog_16_method_107_code (7 : Nat) (Option.some Jvm.ClassFile.FieldType.int)) ∈ lw_all := lw_g (lw_at lw_m8 100 rfl) rfl
theorem q1884 : (Jvm.Cond.methodLink "DayBoyModel" (473 : Nat) ({ cls := "DayBoyModel", name := "yearsLack", desc := "(IIII)I" } : Jvm.MethodName)) ∈ lw_all := lw_g (lw_at lw_m8 101 rfl) rfl
theorem q1885 : (Jvm.Cond.privateMethod ({ cls := "DayBoyModel", name := "yearsLack", desc := "(IIII)I" } : Jvm.MethodName)) ∈ lw_tbl := lw_at lw_m8 102 rfl
theorem q1886 : (Jvm.Cond.instanceMethod ({ cls := "DayBoyModel", name := "yearsLack", desc := "(IIII)I" } : Jvm.MethodName)) ∈ lw_all := lw_g (lw_at lw_m8 103 rfl) rfl
theorem q1887 : (Jvm.Cond.code ({ cls := "DayBoyModel", name := "yearsLack", desc := "(IIII)I" } : Jvm.MethodName) prog_16_method_108_code (8 : Nat) (Option.some Jvm.ClassFile.FieldType.int)) ∈ lw_all := lw_g (lw_at lw_m8 104 rfl) rfl
theorem q1888 : (Jvm.Cond.methodLink "DayBoyModel" (476 : Nat) ({ cls := "DayBoyModel", name := "costOf", desc := "(II)I" } : Jvm.MethodName)) ∈ lw_all := lw_g (lw_at lw_m8 105 rfl) rfl
theorem q1889 : (Jvm.Cond.privateMethod ({ cls := "DayBoyModel", name := "costOf", desc := "(II)I" } : Jvm.MethodName)) ∈ lw_tbl := lw_at lw_m8 106 rfl
theorem q1890 : (Jvm.Cond.instanceMethod ({ cls := "DayBoyModel", name := "costOf", desc := "(II)I" } : Jvm.MethodName)) ∈ lw_all := lw_g (lw_at lw_m8 107 rfl) rfl
theorem q1891 : (Jvm.Cond.code ({ cls := "DayBoyModel", name := "costOf", desc := "(II)I" } : Jvm.MethodName) prog_16_method_109_code (3 : Nat) (Option.some Jvm.ClassFile.FieldType.int)) ∈ lw_all := lw_g (lw_at lw_m8 108 rfl) rfl
theorem q1893 : (Jvm.Cond.instanceMethod ({ cls := "DayBoyModel", name := "spare", desc := "(II)I" } : Jvm.MethodName)) ∈ lw_all := lw_g (lw_at lw_m8 110 rfl) rfl
theorem q1894 : (Jvm.Cond.selects "DayBoyModel" ({ cls := "DayBoyModel", name := "spare", desc := "(II)I" } : Jvm.MethodName) ({ cls := "DayBoyModel", name := "spare", desc := "(II)I" } : Jvm.MethodName)) ∈ lw_all := lw_g (lw_at lw_m8 111 rfl) rfl
theorem q1895 : (Jvm.Cond.code ({ cls := "DayBoyModel", name := "spare", desc := "(II)I" } : Jvm.MethodName) prog_16_method_110_code (5 : Nat) (Option.some Jvm.ClassFile.FieldType.int)) ∈ lw_all := lw_g (lw_at lw_m8 112 rfl) rfl
theorem q1897 : (Jvm.Cond.instanceMethod ({ cls := "DayBoyModel", name := "unlike", desc := "(III)I" } : Jvm.MethodName)) ∈ lw_all := lw_g (lw_at lw_m8 114 rfl) rfl
theorem q1898 : (Jvm.Cond.selects "DayBoyModel" ({ cls := "DayBoyModel", name := "unlike", desc := "(III)I" } : Jvm.MethodName) ({ cls := "DayBoyModel", name := "unlike", desc := "(III)I" } : Jvm.MethodName)) ∈ lw_all := lw_g (lw_at lw_m8 115 rfl) rfl
theorem q1899 : (Jvm.Cond.code ({ cls := "DayBoyModel", name := "unlike", desc := "(III)I" } : Jvm.MethodName) prog_16_method_111_code (5 : Nat) (Option.some Jvm.ClassFile.FieldType.int)) ∈ lw_all := lw_g (lw_at lw_m8 116 rfl) rfl
theorem q1900 : (Jvm.Cond.constant "DayBoyModel" (479 : Nat) (4000000 : Int32)) ∈ lw_all := lw_g (lw_at lw_m8 117 rfl) rfl
theorem q1902 : (Jvm.Cond.instanceMethod ({ cls := "DayBoyModel", name := "rises", desc := "(IIII)I" } : Jvm.MethodName)) ∈ lw_all := lw_g (lw_at lw_m8 119 rfl) rfl
theorem q1903 : (Jvm.Cond.selects "DayBoyModel" ({ cls := "DayBoyModel", name := "rises", desc := "(IIII)I" } : Jvm.MethodName) ({ cls := "DayBoyModel", name := "rises", desc := "(IIII)I" } : Jvm.MethodName)) ∈ lw_all := lw_g (lw_at lw_m8 120 rfl) rfl
theorem q1904 : (Jvm.Cond.code ({ cls := "DayBoyModel", name := "rises", desc := "(IIII)I" } : Jvm.MethodName) prog_16_method_112_code (8 : Nat) (Option.some Jvm.ClassFile.FieldType.int)) ∈ lw_all := lw_g (lw_at lw_m8 121 rfl) rfl
theorem q1906 : (Jvm.Cond.instanceMethod ({ cls := "DayBoyModel", name := "count", desc := "(I)I" } : Jvm.MethodName)) ∈ lw_all := lw_g (lw_at lw_m8 123 rfl) rfl
theorem q1907 : (Jvm.Cond.selects "DayBoyModel" ({ cls := "DayBoyModel", name := "count", desc := "(I)I" } : Jvm.MethodName) ({ cls := "DayBoyModel", name := "count", desc := "(I)I" } : Jvm.MethodName)) ∈ lw_all := lw_g (lw_at lw_m8 124 rfl) rfl
theorem q1908 : (Jvm.Cond.code ({ cls := "DayBoyModel", name := "count", desc := "(I)I" } : Jvm.MethodName) prog_16_method_113_code (2 : Nat) (Option.some Jvm.ClassFile.FieldType.int)) ∈ lw_all := lw_g (lw_at lw_m8 125 rfl) rfl
theorem q1917 : (Jvm.Cond.castable "DayBoyModel" "java/lang/Object") ∈ lw_tbl := lw_at lw_m8 134 rfl
theorem in_X6 : ∀ w ∈ wsX60, w ∈ lw_all := lw_in wsX60 [1312, 1314, 1316, 1318, 1320, 1322, 1324, 1326, 1328, 1330, 1332, 1334, 1336, 1338, 1340, 1342, 1344, 1346, 1348, 1350, 1352, 1354, 1356, 1358, 1360, 1362, 1364, 1366, 1368, 1370, 1372, 1374, 1376, 1378, 1380, 1382, 1384, 1386, 1388, 1390, 1392, 1394, 1396, 1398, 1400, 1402, 1404, 1406, 1408, 1410, 1412, 1414, 1416, 1418, 1420, 1422, 1424, 1426, 1428, 1430, 1432, 1434, 1436, 1438, 1440, 1442, 1444, 1446, 1448, 1450, 1452] (by decide +kernel) (by decide +kernel)

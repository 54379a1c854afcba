/-! DayBoy -/
set_option maxRecDepth 100000
def RX1 : String := "DayBoy"
def TX1 : u_T := fun k => match k with
  | 0 => ("DayBoy", "tape", "[B", true)
  | 1 => ("DayBoy", "length", "I", false)
  | 2 => ("DayBoy", "draft", "LDayBoy$Almanac;", false)
  | 3 => ("DayBoy", "draftHead", "LDayBoy$Head;", false)
  | 4 => ("DayBoy", "calendars", "[LDayBoy$Almanac;", true)
  | 5 => ("DayBoy", "heads", "[LDayBoy$Head;", true)
  | 6 => ("DayBoy", "calendarMany", "I", false)
  | 7 => ("DayBoy", "headMany", "I", false)
  | 8 => ("DayBoy", "rowDraft", "[I", true)
  | 9 => ("DayBoy", "row", "[I", true)
  | 10 => ("DayBoy", "rowMany", "I", false)
  | 11 => ("DayBoy", "rowRead", "I", false)
  | 12 => ("DayBoy", "asks", "[LDayBoy$Ask;", true)
  | 13 => ("DayBoy", "askMany", "I", false)
  | 14 => ("DayBoy", "birth", "I", false)
  | 15 => ("DayBoy", "birthCalendar", "I", false)
  | 16 => ("DayBoy", "planCalendar", "[I", true)
  | 17 => ("DayBoy", "planY", "[I", true)
  | 18 => ("DayBoy", "planM", "[I", true)
  | 19 => ("DayBoy", "planD", "[I", true)
  | 20 => ("DayBoy", "planMany", "I", false)
  | 21 => ("DayBoy", "gets", "[I", true)
  | 22 => ("DayBoy", "seeker", "LDayBoy$Head;", true)
  | 23 => ("DayBoy", "eventDay", "[I", true)
  | 24 => ("DayBoy", "eventSort", "[I", true)
  | 25 => ("DayBoy", "eventMany", "I", false)
  | 26 => ("DayBoy", "keptAsks", "I", false)
  | _ => ("DayBoy", "keptEvents", "I", false)
def tyX1 : Nat → FieldType := fun k => match k with
  | 0 => .array .byte
  | 1 => .int
  | 2 => .object "DayBoy$Almanac"
  | 3 => .object "DayBoy$Head"
  | 4 => .array (.object "DayBoy$Almanac")
  | 5 => .array (.object "DayBoy$Head")
  | 6 => .int
  | 7 => .int
  | 8 => .array .int
  | 9 => .array .int
  | 10 => .int
  | 11 => .int
  | 12 => .array (.object "DayBoy$Ask")
  | 13 => .int
  | 14 => .int
  | 15 => .int
  | 16 => .array .int
  | 17 => .array .int
  | 18 => .array .int
  | 19 => .array .int
  | 20 => .int
  | 21 => .array .int
  | 22 => .object "DayBoy$Head"
  | 23 => .array .int
  | 24 => .array .int
  | 25 => .int
  | 26 => .int
  | _ => .int
abbrev wsX10 : List Cond := u_ws RX1 TX1 28
set_option maxRecDepth 100000 in
theorem nmX1 : ∀ a, a < 28 → ∀ b, b < 28 → a ≠ b → (TX1 a).2.1 ≠ (TX1 b).2.1 := by decide +kernel
set_option maxRecDepth 100000 in
theorem tyX1_ok : ∀ k, k < 28 → parseFieldDescriptor (TX1 k).2.2.1 = some (tyX1 k) := by decide +kernel
abbrev cX1_init : ByteArray := prog_1_method_1_code
def yX1_init : MethodName := ⟨RX1, "<init>", "()V"⟩
def dkwX1_init_6 : List UInt8 := [181, 0, 70, 42, 16, 30, 188, 10, 181, 0, 73, 177]
abbrev dktX1_init_6 : List UInt8 := dkwX1_init_6 ++ []
def dkwX1_init_5 : List UInt8 := [17, 0, 196, 188, 10, 181, 0, 64, 42, 187, 0, 20, 89, 183, 0, 22, 181, 0, 67, 42, 16, 30, 188, 10]
abbrev dktX1_init_5 : List UInt8 := dkwX1_init_5 ++ dktX1_init_6
def dkwX1_init_4 : List UInt8 := [16, 8, 188, 10, 181, 0, 55, 42, 16, 8, 188, 10, 181, 0, 58, 42, 16, 8, 188, 10, 181, 0, 61, 42]
abbrev dktX1_init_4 : List UInt8 := dkwX1_init_4 ++ dktX1_init_5
def dkwX1_init_3 : List UInt8 := [42, 16, 60, 189, 0, 42, 181, 0, 44, 42, 2, 181, 0, 48, 42, 16, 8, 188, 10, 181, 0, 52, 42]
abbrev dktX1_init_3 : List UInt8 := dkwX1_init_3 ++ dktX1_init_4
def dkwX1_init_2 : List UInt8 := [189, 0, 20, 181, 0, 31, 42, 17, 1, 224, 188, 10, 181, 0, 35, 42, 17, 1, 224, 188, 10, 181, 0, 39]
abbrev dktX1_init_2 : List UInt8 := dkwX1_init_2 ++ dktX1_init_3
def dkwX1_init_1 : List UInt8 := [42, 187, 0, 20, 89, 183, 0, 22, 181, 0, 23, 42, 16, 6, 189, 0, 13, 181, 0, 27, 42, 16, 8]
abbrev dktX1_init_1 : List UInt8 := dkwX1_init_1 ++ dktX1_init_2
def dkwX1_init_0 : List UInt8 := [42, 183, 0, 1, 42, 17, 0, 160, 188, 8, 181, 0, 9, 42, 187, 0, 13, 89, 183, 0, 15, 181, 0, 16]
abbrev dktX1_init_0 : List UInt8 := dkwX1_init_0 ++ dktX1_init_1
theorem dksX1_init_0 : cX1_init.data.toList.drop 0 = dktX1_init_0 := by decide +kernel
theorem dksX1_init_1 : cX1_init.data.toList.drop 24 = dktX1_init_1 := dk_seg dksX1_init_0 24 rfl rfl
theorem dksX1_init_2 : cX1_init.data.toList.drop 47 = dktX1_init_2 := dk_seg dksX1_init_1 23 rfl rfl
theorem dksX1_init_3 : cX1_init.data.toList.drop 71 = dktX1_init_3 := dk_seg dksX1_init_2 24 rfl rfl
theorem dksX1_init_4 : cX1_init.data.toList.drop 94 = dktX1_init_4 := dk_seg dksX1_init_3 23 rfl rfl
theorem dksX1_init_5 : cX1_init.data.toList.drop 118 = dktX1_init_5 := dk_seg dksX1_init_4 24 rfl rfl
theorem dksX1_init_6 : cX1_init.data.toList.drop 142 = dktX1_init_6 := dk_seg dksX1_init_5 24 rfl rfl
theorem dX1_init_0 : decode cX1_init 0 = .ok (.aload_n 0, 1) := dk_42 (dk_at dksX1_init_0 0 rfl rfl)
theorem dX1_init_1 : decode cX1_init 1 = .ok (.invokespecial 1, 3) := dk_183 0 1 (dk_at dksX1_init_0 1 rfl rfl)
theorem dX1_init_4 : decode cX1_init 4 = .ok (.aload_n 0, 1) := dk_42 (dk_at dksX1_init_0 4 rfl rfl)
theorem dX1_init_5 : decode cX1_init 5 = .ok (.sipush 160, 3) := dk_17 0 160 (dk_at dksX1_init_0 5 rfl rfl)
theorem dX1_init_8 : decode cX1_init 8 = .ok (.newarray .byte, 2) := dk_188_8 (dk_at dksX1_init_0 8 rfl rfl)
theorem dX1_init_10 : decode cX1_init 10 = .ok (.putfield 9, 3) := dk_181 0 9 (dk_at dksX1_init_0 10 rfl rfl)
theorem dX1_init_13 : decode cX1_init 13 = .ok (.aload_n 0, 1) := dk_42 (dk_at dksX1_init_0 13 rfl rfl)
theorem dX1_init_14 : decode cX1_init 14 = .ok (.new 13, 3) := dk_187 0 13 (dk_at dksX1_init_0 14 rfl rfl)
theorem dX1_init_17 : decode cX1_init 17 = .ok (.dup, 1) := dk_89 (dk_at dksX1_init_0 17 rfl rfl)
theorem dX1_init_18 : decode cX1_init 18 = .ok (.invokespecial 15, 3) := dk_183 0 15 (dk_at dksX1_init_0 18 rfl rfl)
theorem dX1_init_21 : decode cX1_init 21 = .ok (.putfield 16, 3) := dk_181 0 16 (dk_at dksX1_init_0 21 rfl rfl)
theorem dX1_init_24 : decode cX1_init 24 = .ok (.aload_n 0, 1) := dk_42 (dk_at dksX1_init_1 0 rfl rfl)
theorem dX1_init_25 : decode cX1_init 25 = .ok (.new 20, 3) := dk_187 0 20 (dk_at dksX1_init_1 1 rfl rfl)
theorem dX1_init_28 : decode cX1_init 28 = .ok (.dup, 1) := dk_89 (dk_at dksX1_init_1 4 rfl rfl)
theorem dX1_init_29 : decode cX1_init 29 = .ok (.invokespecial 22, 3) := dk_183 0 22 (dk_at dksX1_init_1 5 rfl rfl)
theorem dX1_init_32 : decode cX1_init 32 = .ok (.putfield 23, 3) := dk_181 0 23 (dk_at dksX1_init_1 8 rfl rfl)
theorem dX1_init_35 : decode cX1_init 35 = .ok (.aload_n 0, 1) := dk_42 (dk_at dksX1_init_1 11 rfl rfl)
theorem dX1_init_36 : decode cX1_init 36 = .ok (.bipush 6, 2) := dk_16 6 (dk_at dksX1_init_1 12 rfl rfl)
theorem dX1_init_38 : decode cX1_init 38 = .ok (.anewarray 13, 3) := dk_189 0 13 (dk_at dksX1_init_1 14 rfl rfl)
theorem dX1_init_41 : decode cX1_init 41 = .ok (.putfield 27, 3) := dk_181 0 27 (dk_at dksX1_init_1 17 rfl rfl)
theorem dX1_init_44 : decode cX1_init 44 = .ok (.aload_n 0, 1) := dk_42 (dk_at dksX1_init_1 20 rfl rfl)
theorem dX1_init_45 : decode cX1_init 45 = .ok (.bipush 8, 2) := dk_16 8 (dk_at dksX1_init_1 21 rfl rfl)
theorem dX1_init_47 : decode cX1_init 47 = .ok (.anewarray 20, 3) := dk_189 0 20 (dk_at dksX1_init_2 0 rfl rfl)
theorem dX1_init_50 : decode cX1_init 50 = .ok (.putfield 31, 3) := dk_181 0 31 (dk_at dksX1_init_2 3 rfl rfl)
theorem dX1_init_53 : decode cX1_init 53 = .ok (.aload_n 0, 1) := dk_42 (dk_at dksX1_init_2 6 rfl rfl)
theorem dX1_init_54 : decode cX1_init 54 = .ok (.sipush 480, 3) := dk_17 1 224 (dk_at dksX1_init_2 7 rfl rfl)
theorem dX1_init_57 : decode cX1_init 57 = .ok (.newarray .int, 2) := dk_188_10 (dk_at dksX1_init_2 10 rfl rfl)
theorem dX1_init_59 : decode cX1_init 59 = .ok (.putfield 35, 3) := dk_181 0 35 (dk_at dksX1_init_2 12 rfl rfl)
theorem dX1_init_62 : decode cX1_init 62 = .ok (.aload_n 0, 1) := dk_42 (dk_at dksX1_init_2 15 rfl rfl)
theorem dX1_init_63 : decode cX1_init 63 = .ok (.sipush 480, 3) := dk_17 1 224 (dk_at dksX1_init_2 16 rfl rfl)
theorem dX1_init_66 : decode cX1_init 66 = .ok (.newarray .int, 2) := dk_188_10 (dk_at dksX1_init_2 19 rfl rfl)
theorem dX1_init_68 : decode cX1_init 68 = .ok (.putfield 39, 3) := dk_181 0 39 (dk_at dksX1_init_2 21 rfl rfl)
theorem dX1_init_71 : decode cX1_init 71 = .ok (.aload_n 0, 1) := dk_42 (dk_at dksX1_init_3 0 rfl rfl)
theorem dX1_init_72 : decode cX1_init 72 = .ok (.bipush 60, 2) := dk_16 60 (dk_at dksX1_init_3 1 rfl rfl)
theorem dX1_init_74 : decode cX1_init 74 = .ok (.anewarray 42, 3) := dk_189 0 42 (dk_at dksX1_init_3 3 rfl rfl)
theorem dX1_init_77 : decode cX1_init 77 = .ok (.putfield 44, 3) := dk_181 0 44 (dk_at dksX1_init_3 6 rfl rfl)
theorem dX1_init_80 : decode cX1_init 80 = .ok (.aload_n 0, 1) := dk_42 (dk_at dksX1_init_3 9 rfl rfl)
theorem dX1_init_81 : decode cX1_init 81 = .ok (.iconst (-1), 1) := dk_2 (dk_at dksX1_init_3 10 rfl rfl)
theorem dX1_init_82 : decode cX1_init 82 = .ok (.putfield 48, 3) := dk_181 0 48 (dk_at dksX1_init_3 11 rfl rfl)
theorem dX1_init_85 : decode cX1_init 85 = .ok (.aload_n 0, 1) := dk_42 (dk_at dksX1_init_3 14 rfl rfl)
theorem dX1_init_86 : decode cX1_init 86 = .ok (.bipush 8, 2) := dk_16 8 (dk_at dksX1_init_3 15 rfl rfl)
theorem dX1_init_88 : decode cX1_init 88 = .ok (.newarray .int, 2) := dk_188_10 (dk_at dksX1_init_3 17 rfl rfl)
theorem dX1_init_90 : decode cX1_init 90 = .ok (.putfield 52, 3) := dk_181 0 52 (dk_at dksX1_init_3 19 rfl rfl)
theorem dX1_init_93 : decode cX1_init 93 = .ok (.aload_n 0, 1) := dk_42 (dk_at dksX1_init_3 22 rfl rfl)
theorem dX1_init_94 : decode cX1_init 94 = .ok (.bipush 8, 2) := dk_16 8 (dk_at dksX1_init_4 0 rfl rfl)
theorem dX1_init_96 : decode cX1_init 96 = .ok (.newarray .int, 2) := dk_188_10 (dk_at dksX1_init_4 2 rfl rfl)
theorem dX1_init_98 : decode cX1_init 98 = .ok (.putfield 55, 3) := dk_181 0 55 (dk_at dksX1_init_4 4 rfl rfl)
theorem dX1_init_101 : decode cX1_init 101 = .ok (.aload_n 0, 1) := dk_42 (dk_at dksX1_init_4 7 rfl rfl)
theorem dX1_init_102 : decode cX1_init 102 = .ok (.bipush 8, 2) := dk_16 8 (dk_at dksX1_init_4 8 rfl rfl)
theorem dX1_init_104 : decode cX1_init 104 = .ok (.newarray .int, 2) := dk_188_10 (dk_at dksX1_init_4 10 rfl rfl)
theorem dX1_init_106 : decode cX1_init 106 = .ok (.putfield 58, 3) := dk_181 0 58 (dk_at dksX1_init_4 12 rfl rfl)
theorem dX1_init_109 : decode cX1_init 109 = .ok (.aload_n 0, 1) := dk_42 (dk_at dksX1_init_4 15 rfl rfl)
theorem dX1_init_110 : decode cX1_init 110 = .ok (.bipush 8, 2) := dk_16 8 (dk_at dksX1_init_4 16 rfl rfl)
theorem dX1_init_112 : decode cX1_init 112 = .ok (.newarray .int, 2) := dk_188_10 (dk_at dksX1_init_4 18 rfl rfl)
theorem dX1_init_114 : decode cX1_init 114 = .ok (.putfield 61, 3) := dk_181 0 61 (dk_at dksX1_init_4 20 rfl rfl)
theorem dX1_init_117 : decode cX1_init 117 = .ok (.aload_n 0, 1) := dk_42 (dk_at dksX1_init_4 23 rfl rfl)
theorem dX1_init_118 : decode cX1_init 118 = .ok (.sipush 196, 3) := dk_17 0 196 (dk_at dksX1_init_5 0 rfl rfl)
theorem dX1_init_121 : decode cX1_init 121 = .ok (.newarray .int, 2) := dk_188_10 (dk_at dksX1_init_5 3 rfl rfl)
theorem dX1_init_123 : decode cX1_init 123 = .ok (.putfield 64, 3) := dk_181 0 64 (dk_at dksX1_init_5 5 rfl rfl)
theorem dX1_init_126 : decode cX1_init 126 = .ok (.aload_n 0, 1) := dk_42 (dk_at dksX1_init_5 8 rfl rfl)
theorem dX1_init_127 : decode cX1_init 127 = .ok (.new 20, 3) := dk_187 0 20 (dk_at dksX1_init_5 9 rfl rfl)
theorem dX1_init_130 : decode cX1_init 130 = .ok (.dup, 1) := dk_89 (dk_at dksX1_init_5 12 rfl rfl)
theorem dX1_init_131 : decode cX1_init 131 = .ok (.invokespecial 22, 3) := dk_183 0 22 (dk_at dksX1_init_5 13 rfl rfl)
theorem dX1_init_134 : decode cX1_init 134 = .ok (.putfield 67, 3) := dk_181 0 67 (dk_at dksX1_init_5 16 rfl rfl)
theorem dX1_init_137 : decode cX1_init 137 = .ok (.aload_n 0, 1) := dk_42 (dk_at dksX1_init_5 19 rfl rfl)
theorem dX1_init_138 : decode cX1_init 138 = .ok (.bipush 30, 2) := dk_16 30 (dk_at dksX1_init_5 20 rfl rfl)
theorem dX1_init_140 : decode cX1_init 140 = .ok (.newarray .int, 2) := dk_188_10 (dk_at dksX1_init_5 22 rfl rfl)
theorem dX1_init_142 : decode cX1_init 142 = .ok (.putfield 70, 3) := dk_181 0 70 (dk_at dksX1_init_6 0 rfl rfl)
theorem dX1_init_145 : decode cX1_init 145 = .ok (.aload_n 0, 1) := dk_42 (dk_at dksX1_init_6 3 rfl rfl)
theorem dX1_init_146 : decode cX1_init 146 = .ok (.bipush 30, 2) := dk_16 30 (dk_at dksX1_init_6 4 rfl rfl)
theorem dX1_init_148 : decode cX1_init 148 = .ok (.newarray .int, 2) := dk_188_10 (dk_at dksX1_init_6 6 rfl rfl)
theorem dX1_init_150 : decode cX1_init 150 = .ok (.putfield 73, 3) := dk_181 0 73 (dk_at dksX1_init_6 8 rfl rfl)
theorem dX1_init_153 : decode cX1_init 153 = .ok (.return_, 1) := dk_177 (dk_at dksX1_init_6 11 rfl rfl)
abbrev cX1_feed : ByteArray := prog_1_method_3_code
def yX1_feed : MethodName := ⟨RX1, "feed", "(IIIII)I"⟩
def dkwX1_feed_3 : List UInt8 := [182, 0, 83, 42, 180, 0, 80, 172]
abbrev dktX1_feed_3 : List UInt8 := dkwX1_feed_3 ++ []
def dkwX1_feed_2 : List UInt8 := [182, 0, 83, 42, 28, 182, 0, 83, 42, 29, 182, 0, 83, 42, 21, 4, 182, 0, 83, 42, 21, 5]
abbrev dktX1_feed_2 : List UInt8 := dkwX1_feed_2 ++ dktX1_feed_3
def dkwX1_feed_1 : List UInt8 := [184, 0, 76, 96, 54, 6, 42, 180, 0, 80, 21, 6, 96, 17, 0, 160, 164, 0, 5, 2, 172, 42, 27]
abbrev dktX1_feed_1 : List UInt8 := dkwX1_feed_1 ++ dktX1_feed_2
def dkwX1_feed_0 : List UInt8 := [27, 184, 0, 76, 28, 184, 0, 76, 96, 29, 184, 0, 76, 96, 21, 4, 184, 0, 76, 96, 21, 5]
abbrev dktX1_feed_0 : List UInt8 := dkwX1_feed_0 ++ dktX1_feed_1
theorem dksX1_feed_0 : cX1_feed.data.toList.drop 0 = dktX1_feed_0 := by decide +kernel
theorem dksX1_feed_1 : cX1_feed.data.toList.drop 22 = dktX1_feed_1 := dk_seg dksX1_feed_0 22 rfl rfl
theorem dksX1_feed_2 : cX1_feed.data.toList.drop 45 = dktX1_feed_2 := dk_seg dksX1_feed_1 23 rfl rfl
theorem dksX1_feed_3 : cX1_feed.data.toList.drop 67 = dktX1_feed_3 := dk_seg dksX1_feed_2 22 rfl rfl
theorem dX1_feed_0 : decode cX1_feed 0 = .ok (.iload_n 1, 1) := dk_27 (dk_at dksX1_feed_0 0 rfl rfl)
theorem dX1_feed_1 : decode cX1_feed 1 = .ok (.invokestatic 76, 3) := dk_184 0 76 (dk_at dksX1_feed_0 1 rfl rfl)
theorem dX1_feed_4 : decode cX1_feed 4 = .ok (.iload_n 2, 1) := dk_28 (dk_at dksX1_feed_0 4 rfl rfl)
theorem dX1_feed_5 : decode cX1_feed 5 = .ok (.invokestatic 76, 3) := dk_184 0 76 (dk_at dksX1_feed_0 5 rfl rfl)
theorem dX1_feed_8 : decode cX1_feed 8 = .ok (.iadd, 1) := dk_96 (dk_at dksX1_feed_0 8 rfl rfl)
theorem dX1_feed_9 : decode cX1_feed 9 = .ok (.iload_n 3, 1) := dk_29 (dk_at dksX1_feed_0 9 rfl rfl)
theorem dX1_feed_10 : decode cX1_feed 10 = .ok (.invokestatic 76, 3) := dk_184 0 76 (dk_at dksX1_feed_0 10 rfl rfl)
theorem dX1_feed_13 : decode cX1_feed 13 = .ok (.iadd, 1) := dk_96 (dk_at dksX1_feed_0 13 rfl rfl)
theorem dX1_feed_14 : decode cX1_feed 14 = .ok (.iload 4, 2) := dk_21 4 (dk_at dksX1_feed_0 14 rfl rfl)
theorem dX1_feed_16 : decode cX1_feed 16 = .ok (.invokestatic 76, 3) := dk_184 0 76 (dk_at dksX1_feed_0 16 rfl rfl)
theorem dX1_feed_19 : decode cX1_feed 19 = .ok (.iadd, 1) := dk_96 (dk_at dksX1_feed_0 19 rfl rfl)
theorem dX1_feed_20 : decode cX1_feed 20 = .ok (.iload 5, 2) := dk_21 5 (dk_at dksX1_feed_0 20 rfl rfl)
theorem dX1_feed_22 : decode cX1_feed 22 = .ok (.invokestatic 76, 3) := dk_184 0 76 (dk_at dksX1_feed_1 0 rfl rfl)
theorem dX1_feed_25 : decode cX1_feed 25 = .ok (.iadd, 1) := dk_96 (dk_at dksX1_feed_1 3 rfl rfl)
theorem dX1_feed_26 : decode cX1_feed 26 = .ok (.istore 6, 2) := dk_54 6 (dk_at dksX1_feed_1 4 rfl rfl)
theorem dX1_feed_28 : decode cX1_feed 28 = .ok (.aload_n 0, 1) := dk_42 (dk_at dksX1_feed_1 6 rfl rfl)
theorem dX1_feed_29 : decode cX1_feed 29 = .ok (.getfield 80, 3) := dk_180 0 80 (dk_at dksX1_feed_1 7 rfl rfl)
theorem dX1_feed_32 : decode cX1_feed 32 = .ok (.iload 6, 2) := dk_21 6 (dk_at dksX1_feed_1 10 rfl rfl)
theorem dX1_feed_34 : decode cX1_feed 34 = .ok (.iadd, 1) := dk_96 (dk_at dksX1_feed_1 12 rfl rfl)
theorem dX1_feed_35 : decode cX1_feed 35 = .ok (.sipush 160, 3) := dk_17 0 160 (dk_at dksX1_feed_1 13 rfl rfl)
theorem dX1_feed_38 : decode cX1_feed 38 = .ok (.if_icmp .le 5, 3) := dk_164 0 5 (dk_at dksX1_feed_1 16 rfl rfl)
theorem dX1_feed_41 : decode cX1_feed 41 = .ok (.iconst (-1), 1) := dk_2 (dk_at dksX1_feed_1 19 rfl rfl)
theorem dX1_feed_42 : decode cX1_feed 42 = .ok (.ireturn, 1) := dk_172 (dk_at dksX1_feed_1 20 rfl rfl)
theorem dX1_feed_43 : decode cX1_feed 43 = .ok (.aload_n 0, 1) := dk_42 (dk_at dksX1_feed_1 21 rfl rfl)
theorem dX1_feed_44 : decode cX1_feed 44 = .ok (.iload_n 1, 1) := dk_27 (dk_at dksX1_feed_1 22 rfl rfl)
theorem dX1_feed_45 : decode cX1_feed 45 = .ok (.invokevirtual 83, 3) := dk_182 0 83 (dk_at dksX1_feed_2 0 rfl rfl)
theorem dX1_feed_48 : decode cX1_feed 48 = .ok (.aload_n 0, 1) := dk_42 (dk_at dksX1_feed_2 3 rfl rfl)
theorem dX1_feed_49 : decode cX1_feed 49 = .ok (.iload_n 2, 1) := dk_28 (dk_at dksX1_feed_2 4 rfl rfl)
theorem dX1_feed_50 : decode cX1_feed 50 = .ok (.invokevirtual 83, 3) := dk_182 0 83 (dk_at dksX1_feed_2 5 rfl rfl)
theorem dX1_feed_53 : decode cX1_feed 53 = .ok (.aload_n 0, 1) := dk_42 (dk_at dksX1_feed_2 8 rfl rfl)
theorem dX1_feed_54 : decode cX1_feed 54 = .ok (.iload_n 3, 1) := dk_29 (dk_at dksX1_feed_2 9 rfl rfl)
theorem dX1_feed_55 : decode cX1_feed 55 = .ok (.invokevirtual 83, 3) := dk_182 0 83 (dk_at dksX1_feed_2 10 rfl rfl)
theorem dX1_feed_58 : decode cX1_feed 58 = .ok (.aload_n 0, 1) := dk_42 (dk_at dksX1_feed_2 13 rfl rfl)
theorem dX1_feed_59 : decode cX1_feed 59 = .ok (.iload 4, 2) := dk_21 4 (dk_at dksX1_feed_2 14 rfl rfl)
theorem dX1_feed_61 : decode cX1_feed 61 = .ok (.invokevirtual 83, 3) := dk_182 0 83 (dk_at dksX1_feed_2 16 rfl rfl)
theorem dX1_feed_64 : decode cX1_feed 64 = .ok (.aload_n 0, 1) := dk_42 (dk_at dksX1_feed_2 19 rfl rfl)
theorem dX1_feed_65 : decode cX1_feed 65 = .ok (.iload 5, 2) := dk_21 5 (dk_at dksX1_feed_2 20 rfl rfl)
theorem dX1_feed_67 : decode cX1_feed 67 = .ok (.invokevirtual 83, 3) := dk_182 0 83 (dk_at dksX1_feed_3 0 rfl rfl)
theorem dX1_feed_70 : decode cX1_feed 70 = .ok (.aload_n 0, 1) := dk_42 (dk_at dksX1_feed_3 3 rfl rfl)
theorem dX1_feed_71 : decode cX1_feed 71 = .ok (.getfield 80, 3) := dk_180 0 80 (dk_at dksX1_feed_3 4 rfl rfl)
theorem dX1_feed_74 : decode cX1_feed 74 = .ok (.ireturn, 1) := dk_172 (dk_at dksX1_feed_3 7 rfl rfl)
abbrev cX1_bytes : ByteArray := prog_1_method_4_code
def yX1_bytes : MethodName := ⟨RX1, "bytes", "(I)I"⟩
def dkwX1_bytes_1 : List UInt8 := [3, 96, 60, 132, 2, 248, 167, 255, 231, 27, 172]
abbrev dktX1_bytes_1 : List UInt8 := dkwX1_bytes_1 ++ []
def dkwX1_bytes_0 : List UInt8 := [3, 60, 16, 24, 61, 28, 155, 0, 27, 27, 26, 28, 122, 17, 0, 255, 126, 153, 0, 7, 4, 167, 0, 4]
abbrev dktX1_bytes_0 : List UInt8 := dkwX1_bytes_0 ++ dktX1_bytes_1
theorem dksX1_bytes_0 : cX1_bytes.data.toList.drop 0 = dktX1_bytes_0 := by decide +kernel
theorem dksX1_bytes_1 : cX1_bytes.data.toList.drop 24 = dktX1_bytes_1 := dk_seg dksX1_bytes_0 24 rfl rfl
theorem dX1_bytes_0 : decode cX1_bytes 0 = .ok (.iconst 0, 1) := dk_3 (dk_at dksX1_bytes_0 0 rfl rfl)
theorem dX1_bytes_1 : decode cX1_bytes 1 = .ok (.istore_n 1, 1) := dk_60 (dk_at dksX1_bytes_0 1 rfl rfl)
theorem dX1_bytes_2 : decode cX1_bytes 2 = .ok (.bipush 24, 2) := dk_16 24 (dk_at dksX1_bytes_0 2 rfl rfl)
theorem dX1_bytes_4 : decode cX1_bytes 4 = .ok (.istore_n 2, 1) := dk_61 (dk_at dksX1_bytes_0 4 rfl rfl)
theorem dX1_bytes_5 : decode cX1_bytes 5 = .ok (.iload_n 2, 1) := dk_28 (dk_at dksX1_bytes_0 5 rfl rfl)
theorem dX1_bytes_6 : decode cX1_bytes 6 = .ok (.ifCond .lt 27, 3) := dk_155 0 27 (dk_at dksX1_bytes_0 6 rfl rfl)
theorem dX1_bytes_9 : decode cX1_bytes 9 = .ok (.iload_n 1, 1) := dk_27 (dk_at dksX1_bytes_0 9 rfl rfl)
theorem dX1_bytes_10 : decode cX1_bytes 10 = .ok (.iload_n 0, 1) := dk_26 (dk_at dksX1_bytes_0 10 rfl rfl)
theorem dX1_bytes_11 : decode cX1_bytes 11 = .ok (.iload_n 2, 1) := dk_28 (dk_at dksX1_bytes_0 11 rfl rfl)
theorem dX1_bytes_12 : decode cX1_bytes 12 = .ok (.ishr, 1) := dk_122 (dk_at dksX1_bytes_0 12 rfl rfl)
theorem dX1_bytes_13 : decode cX1_bytes 13 = .ok (.sipush 255, 3) := dk_17 0 255 (dk_at dksX1_bytes_0 13 rfl rfl)
theorem dX1_bytes_16 : decode cX1_bytes 16 = .ok (.iand, 1) := dk_126 (dk_at dksX1_bytes_0 16 rfl rfl)
theorem dX1_bytes_17 : decode cX1_bytes 17 = .ok (.ifCond .eq 7, 3) := dk_153 0 7 (dk_at dksX1_bytes_0 17 rfl rfl)
theorem dX1_bytes_20 : decode cX1_bytes 20 = .ok (.iconst 1, 1) := dk_4 (dk_at dksX1_bytes_0 20 rfl rfl)
theorem dX1_bytes_21 : decode cX1_bytes 21 = .ok (.goto 4, 3) := dk_167 0 4 (dk_at dksX1_bytes_0 21 rfl rfl)
theorem dX1_bytes_24 : decode cX1_bytes 24 = .ok (.iconst 0, 1) := dk_3 (dk_at dksX1_bytes_1 0 rfl rfl)
theorem dX1_bytes_25 : decode cX1_bytes 25 = .ok (.iadd, 1) := dk_96 (dk_at dksX1_bytes_1 1 rfl rfl)
theorem dX1_bytes_26 : decode cX1_bytes 26 = .ok (.istore_n 1, 1) := dk_60 (dk_at dksX1_bytes_1 2 rfl rfl)
theorem dX1_bytes_27 : decode cX1_bytes 27 = .ok (.iinc 2 (-8), 3) := dk_132 2 248 (dk_at dksX1_bytes_1 3 rfl rfl)
theorem dX1_bytes_30 : decode cX1_bytes 30 = .ok (.goto (-25), 3) := dk_167 255 231 (dk_at dksX1_bytes_1 6 rfl rfl)
theorem dX1_bytes_33 : decode cX1_bytes 33 = .ok (.iload_n 1, 1) := dk_27 (dk_at dksX1_bytes_1 9 rfl rfl)
theorem dX1_bytes_34 : decode cX1_bytes 34 = .ok (.ireturn, 1) := dk_172 (dk_at dksX1_bytes_1 10 rfl rfl)
abbrev cX1_bring : ByteArray := prog_1_method_5_code
def yX1_bring : MethodName := ⟨RX1, "bring", "(I)V"⟩
def dkwX1_bring_2 : List UInt8 := [167, 255, 213, 177]
abbrev dktX1_bring_2 : List UInt8 := dkwX1_bring_2 ++ []
def dkwX1_bring_1 : List UInt8 := [42, 180, 0, 80, 27, 28, 122, 145, 84, 42, 89, 180, 0, 80, 4, 96, 181, 0, 80, 132, 2, 248]
abbrev dktX1_bring_1 : List UInt8 := dkwX1_bring_1 ++ dktX1_bring_2
def dkwX1_bring_0 : List UInt8 := [16, 24, 61, 28, 155, 0, 45, 27, 28, 122, 17, 0, 255, 126, 154, 0, 6, 167, 0, 26, 42, 180, 0, 9]
abbrev dktX1_bring_0 : List UInt8 := dkwX1_bring_0 ++ dktX1_bring_1
theorem dksX1_bring_0 : cX1_bring.data.toList.drop 0 = dktX1_bring_0 := by decide +kernel
theorem dksX1_bring_1 : cX1_bring.data.toList.drop 24 = dktX1_bring_1 := dk_seg dksX1_bring_0 24 rfl rfl
theorem dksX1_bring_2 : cX1_bring.data.toList.drop 46 = dktX1_bring_2 := dk_seg dksX1_bring_1 22 rfl rfl
theorem dX1_bring_0 : decode cX1_bring 0 = .ok (.bipush 24, 2) := dk_16 24 (dk_at dksX1_bring_0 0 rfl rfl)
theorem dX1_bring_2 : decode cX1_bring 2 = .ok (.istore_n 2, 1) := dk_61 (dk_at dksX1_bring_0 2 rfl rfl)
theorem dX1_bring_3 : decode cX1_bring 3 = .ok (.iload_n 2, 1) := dk_28 (dk_at dksX1_bring_0 3 rfl rfl)
theorem dX1_bring_4 : decode cX1_bring 4 = .ok (.ifCond .lt 45, 3) := dk_155 0 45 (dk_at dksX1_bring_0 4 rfl rfl)
theorem dX1_bring_7 : decode cX1_bring 7 = .ok (.iload_n 1, 1) := dk_27 (dk_at dksX1_bring_0 7 rfl rfl)
theorem dX1_bring_8 : decode cX1_bring 8 = .ok (.iload_n 2, 1) := dk_28 (dk_at dksX1_bring_0 8 rfl rfl)
theorem dX1_bring_9 : decode cX1_bring 9 = .ok (.ishr, 1) := dk_122 (dk_at dksX1_bring_0 9 rfl rfl)
theorem dX1_bring_10 : decode cX1_bring 10 = .ok (.sipush 255, 3) := dk_17 0 255 (dk_at dksX1_bring_0 10 rfl rfl)
theorem dX1_bring_13 : decode cX1_bring 13 = .ok (.iand, 1) := dk_126 (dk_at dksX1_bring_0 13 rfl rfl)
theorem dX1_bring_14 : decode cX1_bring 14 = .ok (.ifCond .ne 6, 3) := dk_154 0 6 (dk_at dksX1_bring_0 14 rfl rfl)
theorem dX1_bring_17 : decode cX1_bring 17 = .ok (.goto 26, 3) := dk_167 0 26 (dk_at dksX1_bring_0 17 rfl rfl)
theorem dX1_bring_20 : decode cX1_bring 20 = .ok (.aload_n 0, 1) := dk_42 (dk_at dksX1_bring_0 20 rfl rfl)
theorem dX1_bring_21 : decode cX1_bring 21 = .ok (.getfield 9, 3) := dk_180 0 9 (dk_at dksX1_bring_0 21 rfl rfl)
theorem dX1_bring_24 : decode cX1_bring 24 = .ok (.aload_n 0, 1) := dk_42 (dk_at dksX1_bring_1 0 rfl rfl)
theorem dX1_bring_25 : decode cX1_bring 25 = .ok (.getfield 80, 3) := dk_180 0 80 (dk_at dksX1_bring_1 1 rfl rfl)
theorem dX1_bring_28 : decode cX1_bring 28 = .ok (.iload_n 1, 1) := dk_27 (dk_at dksX1_bring_1 4 rfl rfl)
theorem dX1_bring_29 : decode cX1_bring 29 = .ok (.iload_n 2, 1) := dk_28 (dk_at dksX1_bring_1 5 rfl rfl)
theorem dX1_bring_30 : decode cX1_bring 30 = .ok (.ishr, 1) := dk_122 (dk_at dksX1_bring_1 6 rfl rfl)
theorem dX1_bring_31 : decode cX1_bring 31 = .ok (.i2b, 1) := dk_145 (dk_at dksX1_bring_1 7 rfl rfl)
theorem dX1_bring_32 : decode cX1_bring 32 = .ok (.bastore, 1) := dk_84 (dk_at dksX1_bring_1 8 rfl rfl)
theorem dX1_bring_33 : decode cX1_bring 33 = .ok (.aload_n 0, 1) := dk_42 (dk_at dksX1_bring_1 9 rfl rfl)
theorem dX1_bring_34 : decode cX1_bring 34 = .ok (.dup, 1) := dk_89 (dk_at dksX1_bring_1 10 rfl rfl)
theorem dX1_bring_35 : decode cX1_bring 35 = .ok (.getfield 80, 3) := dk_180 0 80 (dk_at dksX1_bring_1 11 rfl rfl)
theorem dX1_bring_38 : decode cX1_bring 38 = .ok (.iconst 1, 1) := dk_4 (dk_at dksX1_bring_1 14 rfl rfl)
theorem dX1_bring_39 : decode cX1_bring 39 = .ok (.iadd, 1) := dk_96 (dk_at dksX1_bring_1 15 rfl rfl)
theorem dX1_bring_40 : decode cX1_bring 40 = .ok (.putfield 80, 3) := dk_181 0 80 (dk_at dksX1_bring_1 16 rfl rfl)
theorem dX1_bring_43 : decode cX1_bring 43 = .ok (.iinc 2 (-8), 3) := dk_132 2 248 (dk_at dksX1_bring_1 19 rfl rfl)
theorem dX1_bring_46 : decode cX1_bring 46 = .ok (.goto (-43), 3) := dk_167 255 213 (dk_at dksX1_bring_2 0 rfl rfl)
theorem dX1_bring_49 : decode cX1_bring 49 = .ok (.return_, 1) := dk_177 (dk_at dksX1_bring_2 3 rfl rfl)
abbrev cX1_end : ByteArray := prog_1_method_6_code
def yX1_end : MethodName := ⟨RX1, "end", "(I)Z"⟩
def dkwX1_end_0 : List UInt8 := [27, 155, 0, 11, 27, 42, 180, 0, 80, 164, 0, 5, 3, 172, 42, 27, 181, 0, 80, 4, 172]
abbrev dktX1_end_0 : List UInt8 := dkwX1_end_0 ++ []
theorem dksX1_end_0 : cX1_end.data.toList.drop 0 = dktX1_end_0 := by decide +kernel
theorem dX1_end_0 : decode cX1_end 0 = .ok (.iload_n 1, 1) := dk_27 (dk_at dksX1_end_0 0 rfl rfl)
theorem dX1_end_1 : decode cX1_end 1 = .ok (.ifCond .lt 11, 3) := dk_155 0 11 (dk_at dksX1_end_0 1 rfl rfl)
theorem dX1_end_4 : decode cX1_end 4 = .ok (.iload_n 1, 1) := dk_27 (dk_at dksX1_end_0 4 rfl rfl)
theorem dX1_end_5 : decode cX1_end 5 = .ok (.aload_n 0, 1) := dk_42 (dk_at dksX1_end_0 5 rfl rfl)
theorem dX1_end_6 : decode cX1_end 6 = .ok (.getfield 80, 3) := dk_180 0 80 (dk_at dksX1_end_0 6 rfl rfl)
theorem dX1_end_9 : decode cX1_end 9 = .ok (.if_icmp .le 5, 3) := dk_164 0 5 (dk_at dksX1_end_0 9 rfl rfl)
theorem dX1_end_12 : decode cX1_end 12 = .ok (.iconst 0, 1) := dk_3 (dk_at dksX1_end_0 12 rfl rfl)
theorem dX1_end_13 : decode cX1_end 13 = .ok (.ireturn, 1) := dk_172 (dk_at dksX1_end_0 13 rfl rfl)
theorem dX1_end_14 : decode cX1_end 14 = .ok (.aload_n 0, 1) := dk_42 (dk_at dksX1_end_0 14 rfl rfl)
theorem dX1_end_15 : decode cX1_end 15 = .ok (.iload_n 1, 1) := dk_27 (dk_at dksX1_end_0 15 rfl rfl)
theorem dX1_end_16 : decode cX1_end 16 = .ok (.putfield 80, 3) := dk_181 0 80 (dk_at dksX1_end_0 16 rfl rfl)
theorem dX1_end_19 : decode cX1_end 19 = .ok (.iconst 1, 1) := dk_4 (dk_at dksX1_end_0 19 rfl rfl)
theorem dX1_end_20 : decode cX1_end 20 = .ok (.ireturn, 1) := dk_172 (dk_at dksX1_end_0 20 rfl rfl)
abbrev cX1_fault : ByteArray := prog_1_method_7_code
def yX1_fault : MethodName := ⟨RX1, "fault", "(I)I"⟩
def dkwX1_fault_2 : List UInt8 := [44, 182, 0, 104, 181, 0, 107, 2, 172, 77, 44, 180, 0, 112, 172]
abbrev dktX1_fault_2 : List UInt8 := dkwX1_fault_2 ++ []
def dkwX1_fault_1 : List UInt8 := [27, 154, 0, 10, 44, 182, 0, 98, 167, 0, 23, 27, 4, 160, 0, 10, 44, 182, 0, 101, 167, 0, 11, 42]
abbrev dktX1_fault_1 : List UInt8 := dkwX1_fault_1 ++ dktX1_fault_2
def dkwX1_fault_0 : List UInt8 := [27, 133, 9, 20, 0, 87, 184, 0, 89, 154, 0, 6, 16, 254, 172, 187, 0, 93, 89, 42, 183, 0, 95, 77]
abbrev dktX1_fault_0 : List UInt8 := dkwX1_fault_0 ++ dktX1_fault_1
theorem dksX1_fault_0 : cX1_fault.data.toList.drop 0 = dktX1_fault_0 := by decide +kernel
theorem dksX1_fault_1 : cX1_fault.data.toList.drop 24 = dktX1_fault_1 := dk_seg dksX1_fault_0 24 rfl rfl
theorem dksX1_fault_2 : cX1_fault.data.toList.drop 48 = dktX1_fault_2 := dk_seg dksX1_fault_1 24 rfl rfl
theorem dX1_fault_0 : decode cX1_fault 0 = .ok (.iload_n 1, 1) := dk_27 (dk_at dksX1_fault_0 0 rfl rfl)
theorem dX1_fault_1 : decode cX1_fault 1 = .ok (.i2l, 1) := dk_133 (dk_at dksX1_fault_0 1 rfl rfl)
theorem dX1_fault_2 : decode cX1_fault 2 = .ok (.lconst 0, 1) := dk_9 (dk_at dksX1_fault_0 2 rfl rfl)
theorem dX1_fault_3 : decode cX1_fault 3 = .ok (.ldc2_w 87, 3) := dk_20 0 87 (dk_at dksX1_fault_0 3 rfl rfl)
theorem dX1_fault_6 : decode cX1_fault 6 = .ok (.invokestatic 89, 3) := dk_184 0 89 (dk_at dksX1_fault_0 6 rfl rfl)
theorem dX1_fault_9 : decode cX1_fault 9 = .ok (.ifCond .ne 6, 3) := dk_154 0 6 (dk_at dksX1_fault_0 9 rfl rfl)
theorem dX1_fault_12 : decode cX1_fault 12 = .ok (.bipush (-2), 2) := dk_16 254 (dk_at dksX1_fault_0 12 rfl rfl)
theorem dX1_fault_14 : decode cX1_fault 14 = .ok (.ireturn, 1) := dk_172 (dk_at dksX1_fault_0 14 rfl rfl)
theorem dX1_fault_15 : decode cX1_fault 15 = .ok (.new 93, 3) := dk_187 0 93 (dk_at dksX1_fault_0 15 rfl rfl)
theorem dX1_fault_18 : decode cX1_fault 18 = .ok (.dup, 1) := dk_89 (dk_at dksX1_fault_0 18 rfl rfl)
theorem dX1_fault_19 : decode cX1_fault 19 = .ok (.aload_n 0, 1) := dk_42 (dk_at dksX1_fault_0 19 rfl rfl)
theorem dX1_fault_20 : decode cX1_fault 20 = .ok (.invokespecial 95, 3) := dk_183 0 95 (dk_at dksX1_fault_0 20 rfl rfl)
theorem dX1_fault_23 : decode cX1_fault 23 = .ok (.astore_n 2, 1) := dk_77 (dk_at dksX1_fault_0 23 rfl rfl)
theorem dX1_fault_24 : decode cX1_fault 24 = .ok (.iload_n 1, 1) := dk_27 (dk_at dksX1_fault_1 0 rfl rfl)
theorem dX1_fault_25 : decode cX1_fault 25 = .ok (.ifCond .ne 10, 3) := dk_154 0 10 (dk_at dksX1_fault_1 1 rfl rfl)
theorem dX1_fault_28 : decode cX1_fault 28 = .ok (.aload_n 2, 1) := dk_44 (dk_at dksX1_fault_1 4 rfl rfl)
theorem dX1_fault_29 : decode cX1_fault 29 = .ok (.invokevirtual 98, 3) := dk_182 0 98 (dk_at dksX1_fault_1 5 rfl rfl)
theorem dX1_fault_32 : decode cX1_fault 32 = .ok (.goto 23, 3) := dk_167 0 23 (dk_at dksX1_fault_1 8 rfl rfl)
theorem dX1_fault_35 : decode cX1_fault 35 = .ok (.iload_n 1, 1) := dk_27 (dk_at dksX1_fault_1 11 rfl rfl)
theorem dX1_fault_36 : decode cX1_fault 36 = .ok (.iconst 1, 1) := dk_4 (dk_at dksX1_fault_1 12 rfl rfl)
theorem dX1_fault_37 : decode cX1_fault 37 = .ok (.if_icmp .ne 10, 3) := dk_160 0 10 (dk_at dksX1_fault_1 13 rfl rfl)
theorem dX1_fault_40 : decode cX1_fault 40 = .ok (.aload_n 2, 1) := dk_44 (dk_at dksX1_fault_1 16 rfl rfl)
theorem dX1_fault_41 : decode cX1_fault 41 = .ok (.invokevirtual 101, 3) := dk_182 0 101 (dk_at dksX1_fault_1 17 rfl rfl)
theorem dX1_fault_44 : decode cX1_fault 44 = .ok (.goto 11, 3) := dk_167 0 11 (dk_at dksX1_fault_1 20 rfl rfl)
theorem dX1_fault_47 : decode cX1_fault 47 = .ok (.aload_n 0, 1) := dk_42 (dk_at dksX1_fault_1 23 rfl rfl)
theorem dX1_fault_48 : decode cX1_fault 48 = .ok (.aload_n 2, 1) := dk_44 (dk_at dksX1_fault_2 0 rfl rfl)
theorem dX1_fault_49 : decode cX1_fault 49 = .ok (.invokevirtual 104, 3) := dk_182 0 104 (dk_at dksX1_fault_2 1 rfl rfl)
theorem dX1_fault_52 : decode cX1_fault 52 = .ok (.putfield 107, 3) := dk_181 0 107 (dk_at dksX1_fault_2 4 rfl rfl)
theorem dX1_fault_55 : decode cX1_fault 55 = .ok (.iconst (-1), 1) := dk_2 (dk_at dksX1_fault_2 7 rfl rfl)
theorem dX1_fault_56 : decode cX1_fault 56 = .ok (.ireturn, 1) := dk_172 (dk_at dksX1_fault_2 8 rfl rfl)
theorem dX1_fault_57 : decode cX1_fault 57 = .ok (.astore_n 2, 1) := dk_77 (dk_at dksX1_fault_2 9 rfl rfl)
theorem dX1_fault_58 : decode cX1_fault 58 = .ok (.aload_n 2, 1) := dk_44 (dk_at dksX1_fault_2 10 rfl rfl)
theorem dX1_fault_59 : decode cX1_fault 59 = .ok (.getfield 112, 3) := dk_180 0 112 (dk_at dksX1_fault_2 11 rfl rfl)
theorem dX1_fault_62 : decode cX1_fault 62 = .ok (.ireturn, 1) := dk_172 (dk_at dksX1_fault_2 14 rfl rfl)
abbrev cX1_isIn : ByteArray := prog_1_method_2_code
def yX1_isIn : MethodName := ⟨RX1, "isIn", "(JJJ)Z"⟩
def dkwX1_isIn_0 : List UInt8 := [30, 32, 148, 155, 0, 14, 30, 22, 4, 148, 157, 0, 7, 4, 167, 0, 4, 3, 172]
abbrev dktX1_isIn_0 : List UInt8 := dkwX1_isIn_0 ++ []
theorem dksX1_isIn_0 : cX1_isIn.data.toList.drop 0 = dktX1_isIn_0 := by decide +kernel
theorem dX1_isIn_0 : decode cX1_isIn 0 = .ok (.lload_n 0, 1) := dk_30 (dk_at dksX1_isIn_0 0 rfl rfl)
theorem dX1_isIn_1 : decode cX1_isIn 1 = .ok (.lload_n 2, 1) := dk_32 (dk_at dksX1_isIn_0 1 rfl rfl)
theorem dX1_isIn_2 : decode cX1_isIn 2 = .ok (.lcmp, 1) := dk_148 (dk_at dksX1_isIn_0 2 rfl rfl)
theorem dX1_isIn_3 : decode cX1_isIn 3 = .ok (.ifCond .lt 14, 3) := dk_155 0 14 (dk_at dksX1_isIn_0 3 rfl rfl)
theorem dX1_isIn_6 : decode cX1_isIn 6 = .ok (.lload_n 0, 1) := dk_30 (dk_at dksX1_isIn_0 6 rfl rfl)
theorem dX1_isIn_7 : decode cX1_isIn 7 = .ok (.lload 4, 2) := dk_22 4 (dk_at dksX1_isIn_0 7 rfl rfl)
theorem dX1_isIn_9 : decode cX1_isIn 9 = .ok (.lcmp, 1) := dk_148 (dk_at dksX1_isIn_0 9 rfl rfl)
theorem dX1_isIn_10 : decode cX1_isIn 10 = .ok (.ifCond .gt 7, 3) := dk_157 0 7 (dk_at dksX1_isIn_0 10 rfl rfl)
theorem dX1_isIn_13 : decode cX1_isIn 13 = .ok (.iconst 1, 1) := dk_4 (dk_at dksX1_isIn_0 13 rfl rfl)
theorem dX1_isIn_14 : decode cX1_isIn 14 = .ok (.goto 4, 3) := dk_167 0 4 (dk_at dksX1_isIn_0 14 rfl rfl)
theorem dX1_isIn_17 : decode cX1_isIn 17 = .ok (.iconst 0, 1) := dk_3 (dk_at dksX1_isIn_0 17 rfl rfl)
theorem dX1_isIn_18 : decode cX1_isIn 18 = .ok (.ireturn, 1) := dk_172 (dk_at dksX1_isIn_0 18 rfl rfl)
abbrev cX1_text : ByteArray := prog_1_method_8_code
def yX1_text : MethodName := ⟨RX1, "text", "(I)I"⟩
def dkwX1_text_7 : List UInt8 := [181, 0, 23, 42, 89, 180, 0, 118, 4, 96, 181, 0, 118, 42, 180, 0, 118, 4, 100, 172]
abbrev dktX1_text_7 : List UInt8 := dkwX1_text_7 ++ []
def dkwX1_text_6 : List UInt8 := [42, 180, 0, 118, 42, 180, 0, 23, 83, 42, 180, 0, 23, 182, 0, 133, 42, 187, 0, 20, 89, 183, 0, 22]
abbrev dktX1_text_6 : List UInt8 := dkwX1_text_6 ++ dktX1_text_7
def dkwX1_text_5 : List UInt8 := [181, 0, 16, 42, 89, 180, 0, 115, 4, 96, 181, 0, 115, 42, 180, 0, 115, 4, 100, 172, 42, 180, 0, 31]
abbrev dktX1_text_5 : List UInt8 := dkwX1_text_5 ++ dktX1_text_6
def dkwX1_text_4 : List UInt8 := [154, 0, 44, 42, 180, 0, 27, 42, 180, 0, 115, 42, 180, 0, 16, 83, 42, 187, 0, 13, 89, 183, 0, 15]
abbrev dktX1_text_4 : List UInt8 := dkwX1_text_4 ++ dktX1_text_5
def dkwX1_text_3 : List UInt8 := [180, 0, 35, 3, 42, 180, 0, 39, 3, 6, 42, 180, 0, 124, 104, 184, 0, 127, 42, 180, 0, 124, 172, 27]
abbrev dktX1_text_3 : List UInt8 := dkwX1_text_3 ++ dktX1_text_4
def dkwX1_text_2 : List UInt8 := [159, 0, 5, 2, 172, 42, 3, 181, 0, 80, 27, 5, 160, 0, 35, 42, 42, 180, 0, 107, 181, 0, 124, 42]
abbrev dktX1_text_2 : List UInt8 := dkwX1_text_2 ++ dktX1_text_3
def dkwX1_text_1 : List UInt8 := [159, 0, 26, 27, 4, 160, 0, 12, 42, 180, 0, 118, 16, 8, 159, 0, 12, 42, 27, 182, 0, 121, 2]
abbrev dktX1_text_1 : List UInt8 := dkwX1_text_1 ++ dktX1_text_2
def dkwX1_text_0 : List UInt8 := [27, 133, 9, 20, 0, 87, 184, 0, 89, 153, 0, 39, 27, 154, 0, 12, 42, 180, 0, 115, 16, 6]
abbrev dktX1_text_0 : List UInt8 := dkwX1_text_0 ++ dktX1_text_1
theorem dksX1_text_0 : cX1_text.data.toList.drop 0 = dktX1_text_0 := by decide +kernel
theorem dksX1_text_1 : cX1_text.data.toList.drop 22 = dktX1_text_1 := dk_seg dksX1_text_0 22 rfl rfl
theorem dksX1_text_2 : cX1_text.data.toList.drop 45 = dktX1_text_2 := dk_seg dksX1_text_1 23 rfl rfl
theorem dksX1_text_3 : cX1_text.data.toList.drop 69 = dktX1_text_3 := dk_seg dksX1_text_2 24 rfl rfl
theorem dksX1_text_4 : cX1_text.data.toList.drop 93 = dktX1_text_4 := dk_seg dksX1_text_3 24 rfl rfl
theorem dksX1_text_5 : cX1_text.data.toList.drop 117 = dktX1_text_5 := dk_seg dksX1_text_4 24 rfl rfl
theorem dksX1_text_6 : cX1_text.data.toList.drop 141 = dktX1_text_6 := dk_seg dksX1_text_5 24 rfl rfl
theorem dksX1_text_7 : cX1_text.data.toList.drop 165 = dktX1_text_7 := dk_seg dksX1_text_6 24 rfl rfl
theorem dX1_text_0 : decode cX1_text 0 = .ok (.iload_n 1, 1) := dk_27 (dk_at dksX1_text_0 0 rfl rfl)
theorem dX1_text_1 : decode cX1_text 1 = .ok (.i2l, 1) := dk_133 (dk_at dksX1_text_0 1 rfl rfl)
theorem dX1_text_2 : decode cX1_text 2 = .ok (.lconst 0, 1) := dk_9 (dk_at dksX1_text_0 2 rfl rfl)
theorem dX1_text_3 : decode cX1_text 3 = .ok (.ldc2_w 87, 3) := dk_20 0 87 (dk_at dksX1_text_0 3 rfl rfl)
theorem dX1_text_6 : decode cX1_text 6 = .ok (.invokestatic 89, 3) := dk_184 0 89 (dk_at dksX1_text_0 6 rfl rfl)
theorem dX1_text_9 : decode cX1_text 9 = .ok (.ifCond .eq 39, 3) := dk_153 0 39 (dk_at dksX1_text_0 9 rfl rfl)
theorem dX1_text_12 : decode cX1_text 12 = .ok (.iload_n 1, 1) := dk_27 (dk_at dksX1_text_0 12 rfl rfl)
theorem dX1_text_13 : decode cX1_text 13 = .ok (.ifCond .ne 12, 3) := dk_154 0 12 (dk_at dksX1_text_0 13 rfl rfl)
theorem dX1_text_16 : decode cX1_text 16 = .ok (.aload_n 0, 1) := dk_42 (dk_at dksX1_text_0 16 rfl rfl)
theorem dX1_text_17 : decode cX1_text 17 = .ok (.getfield 115, 3) := dk_180 0 115 (dk_at dksX1_text_0 17 rfl rfl)
theorem dX1_text_20 : decode cX1_text 20 = .ok (.bipush 6, 2) := dk_16 6 (dk_at dksX1_text_0 20 rfl rfl)
theorem dX1_text_22 : decode cX1_text 22 = .ok (.if_icmp .eq 26, 3) := dk_159 0 26 (dk_at dksX1_text_1 0 rfl rfl)
theorem dX1_text_25 : decode cX1_text 25 = .ok (.iload_n 1, 1) := dk_27 (dk_at dksX1_text_1 3 rfl rfl)
theorem dX1_text_26 : decode cX1_text 26 = .ok (.iconst 1, 1) := dk_4 (dk_at dksX1_text_1 4 rfl rfl)
theorem dX1_text_27 : decode cX1_text 27 = .ok (.if_icmp .ne 12, 3) := dk_160 0 12 (dk_at dksX1_text_1 5 rfl rfl)
theorem dX1_text_30 : decode cX1_text 30 = .ok (.aload_n 0, 1) := dk_42 (dk_at dksX1_text_1 8 rfl rfl)
theorem dX1_text_31 : decode cX1_text 31 = .ok (.getfield 118, 3) := dk_180 0 118 (dk_at dksX1_text_1 9 rfl rfl)
theorem dX1_text_34 : decode cX1_text 34 = .ok (.bipush 8, 2) := dk_16 8 (dk_at dksX1_text_1 12 rfl rfl)
theorem dX1_text_36 : decode cX1_text 36 = .ok (.if_icmp .eq 12, 3) := dk_159 0 12 (dk_at dksX1_text_1 14 rfl rfl)
theorem dX1_text_39 : decode cX1_text 39 = .ok (.aload_n 0, 1) := dk_42 (dk_at dksX1_text_1 17 rfl rfl)
theorem dX1_text_40 : decode cX1_text 40 = .ok (.iload_n 1, 1) := dk_27 (dk_at dksX1_text_1 18 rfl rfl)
theorem dX1_text_41 : decode cX1_text 41 = .ok (.invokevirtual 121, 3) := dk_182 0 121 (dk_at dksX1_text_1 19 rfl rfl)
theorem dX1_text_44 : decode cX1_text 44 = .ok (.iconst (-1), 1) := dk_2 (dk_at dksX1_text_1 22 rfl rfl)
theorem dX1_text_45 : decode cX1_text 45 = .ok (.if_icmp .eq 5, 3) := dk_159 0 5 (dk_at dksX1_text_2 0 rfl rfl)
theorem dX1_text_48 : decode cX1_text 48 = .ok (.iconst (-1), 1) := dk_2 (dk_at dksX1_text_2 3 rfl rfl)
theorem dX1_text_49 : decode cX1_text 49 = .ok (.ireturn, 1) := dk_172 (dk_at dksX1_text_2 4 rfl rfl)
theorem dX1_text_50 : decode cX1_text 50 = .ok (.aload_n 0, 1) := dk_42 (dk_at dksX1_text_2 5 rfl rfl)
theorem dX1_text_51 : decode cX1_text 51 = .ok (.iconst 0, 1) := dk_3 (dk_at dksX1_text_2 6 rfl rfl)
theorem dX1_text_52 : decode cX1_text 52 = .ok (.putfield 80, 3) := dk_181 0 80 (dk_at dksX1_text_2 7 rfl rfl)
theorem dX1_text_55 : decode cX1_text 55 = .ok (.iload_n 1, 1) := dk_27 (dk_at dksX1_text_2 10 rfl rfl)
theorem dX1_text_56 : decode cX1_text 56 = .ok (.iconst 2, 1) := dk_5 (dk_at dksX1_text_2 11 rfl rfl)
theorem dX1_text_57 : decode cX1_text 57 = .ok (.if_icmp .ne 35, 3) := dk_160 0 35 (dk_at dksX1_text_2 12 rfl rfl)
theorem dX1_text_60 : decode cX1_text 60 = .ok (.aload_n 0, 1) := dk_42 (dk_at dksX1_text_2 15 rfl rfl)
theorem dX1_text_61 : decode cX1_text 61 = .ok (.aload_n 0, 1) := dk_42 (dk_at dksX1_text_2 16 rfl rfl)
theorem dX1_text_62 : decode cX1_text 62 = .ok (.getfield 107, 3) := dk_180 0 107 (dk_at dksX1_text_2 17 rfl rfl)
theorem dX1_text_65 : decode cX1_text 65 = .ok (.putfield 124, 3) := dk_181 0 124 (dk_at dksX1_text_2 20 rfl rfl)
theorem dX1_text_68 : decode cX1_text 68 = .ok (.aload_n 0, 1) := dk_42 (dk_at dksX1_text_2 23 rfl rfl)
theorem dX1_text_69 : decode cX1_text 69 = .ok (.getfield 35, 3) := dk_180 0 35 (dk_at dksX1_text_3 0 rfl rfl)
theorem dX1_text_72 : decode cX1_text 72 = .ok (.iconst 0, 1) := dk_3 (dk_at dksX1_text_3 3 rfl rfl)
theorem dX1_text_73 : decode cX1_text 73 = .ok (.aload_n 0, 1) := dk_42 (dk_at dksX1_text_3 4 rfl rfl)
theorem dX1_text_74 : decode cX1_text 74 = .ok (.getfield 39, 3) := dk_180 0 39 (dk_at dksX1_text_3 5 rfl rfl)
theorem dX1_text_77 : decode cX1_text 77 = .ok (.iconst 0, 1) := dk_3 (dk_at dksX1_text_3 8 rfl rfl)
theorem dX1_text_78 : decode cX1_text 78 = .ok (.iconst 3, 1) := dk_6 (dk_at dksX1_text_3 9 rfl rfl)
theorem dX1_text_79 : decode cX1_text 79 = .ok (.aload_n 0, 1) := dk_42 (dk_at dksX1_text_3 10 rfl rfl)
theorem dX1_text_80 : decode cX1_text 80 = .ok (.getfield 124, 3) := dk_180 0 124 (dk_at dksX1_text_3 11 rfl rfl)
theorem dX1_text_83 : decode cX1_text 83 = .ok (.imul, 1) := dk_104 (dk_at dksX1_text_3 14 rfl rfl)
theorem dX1_text_84 : decode cX1_text 84 = .ok (.invokestatic 127, 3) := dk_184 0 127 (dk_at dksX1_text_3 15 rfl rfl)
theorem dX1_text_87 : decode cX1_text 87 = .ok (.aload_n 0, 1) := dk_42 (dk_at dksX1_text_3 18 rfl rfl)
theorem dX1_text_88 : decode cX1_text 88 = .ok (.getfield 124, 3) := dk_180 0 124 (dk_at dksX1_text_3 19 rfl rfl)
theorem dX1_text_91 : decode cX1_text 91 = .ok (.ireturn, 1) := dk_172 (dk_at dksX1_text_3 22 rfl rfl)
theorem dX1_text_92 : decode cX1_text 92 = .ok (.iload_n 1, 1) := dk_27 (dk_at dksX1_text_3 23 rfl rfl)
theorem dX1_text_93 : decode cX1_text 93 = .ok (.ifCond .ne 44, 3) := dk_154 0 44 (dk_at dksX1_text_4 0 rfl rfl)
theorem dX1_text_96 : decode cX1_text 96 = .ok (.aload_n 0, 1) := dk_42 (dk_at dksX1_text_4 3 rfl rfl)
theorem dX1_text_97 : decode cX1_text 97 = .ok (.getfield 27, 3) := dk_180 0 27 (dk_at dksX1_text_4 4 rfl rfl)
theorem dX1_text_100 : decode cX1_text 100 = .ok (.aload_n 0, 1) := dk_42 (dk_at dksX1_text_4 7 rfl rfl)
theorem dX1_text_101 : decode cX1_text 101 = .ok (.getfield 115, 3) := dk_180 0 115 (dk_at dksX1_text_4 8 rfl rfl)
theorem dX1_text_104 : decode cX1_text 104 = .ok (.aload_n 0, 1) := dk_42 (dk_at dksX1_text_4 11 rfl rfl)
theorem dX1_text_105 : decode cX1_text 105 = .ok (.getfield 16, 3) := dk_180 0 16 (dk_at dksX1_text_4 12 rfl rfl)
theorem dX1_text_108 : decode cX1_text 108 = .ok (.aastore, 1) := dk_83 (dk_at dksX1_text_4 15 rfl rfl)
theorem dX1_text_109 : decode cX1_text 109 = .ok (.aload_n 0, 1) := dk_42 (dk_at dksX1_text_4 16 rfl rfl)
theorem dX1_text_110 : decode cX1_text 110 = .ok (.new 13, 3) := dk_187 0 13 (dk_at dksX1_text_4 17 rfl rfl)
theorem dX1_text_113 : decode cX1_text 113 = .ok (.dup, 1) := dk_89 (dk_at dksX1_text_4 20 rfl rfl)
theorem dX1_text_114 : decode cX1_text 114 = .ok (.invokespecial 15, 3) := dk_183 0 15 (dk_at dksX1_text_4 21 rfl rfl)
theorem dX1_text_117 : decode cX1_text 117 = .ok (.putfield 16, 3) := dk_181 0 16 (dk_at dksX1_text_5 0 rfl rfl)
theorem dX1_text_120 : decode cX1_text 120 = .ok (.aload_n 0, 1) := dk_42 (dk_at dksX1_text_5 3 rfl rfl)
theorem dX1_text_121 : decode cX1_text 121 = .ok (.dup, 1) := dk_89 (dk_at dksX1_text_5 4 rfl rfl)
theorem dX1_text_122 : decode cX1_text 122 = .ok (.getfield 115, 3) := dk_180 0 115 (dk_at dksX1_text_5 5 rfl rfl)
theorem dX1_text_125 : decode cX1_text 125 = .ok (.iconst 1, 1) := dk_4 (dk_at dksX1_text_5 8 rfl rfl)
theorem dX1_text_126 : decode cX1_text 126 = .ok (.iadd, 1) := dk_96 (dk_at dksX1_text_5 9 rfl rfl)
theorem dX1_text_127 : decode cX1_text 127 = .ok (.putfield 115, 3) := dk_181 0 115 (dk_at dksX1_text_5 10 rfl rfl)
theorem dX1_text_130 : decode cX1_text 130 = .ok (.aload_n 0, 1) := dk_42 (dk_at dksX1_text_5 13 rfl rfl)
theorem dX1_text_131 : decode cX1_text 131 = .ok (.getfield 115, 3) := dk_180 0 115 (dk_at dksX1_text_5 14 rfl rfl)
theorem dX1_text_134 : decode cX1_text 134 = .ok (.iconst 1, 1) := dk_4 (dk_at dksX1_text_5 17 rfl rfl)
theorem dX1_text_135 : decode cX1_text 135 = .ok (.isub, 1) := dk_100 (dk_at dksX1_text_5 18 rfl rfl)
theorem dX1_text_136 : decode cX1_text 136 = .ok (.ireturn, 1) := dk_172 (dk_at dksX1_text_5 19 rfl rfl)
theorem dX1_text_137 : decode cX1_text 137 = .ok (.aload_n 0, 1) := dk_42 (dk_at dksX1_text_5 20 rfl rfl)
theorem dX1_text_138 : decode cX1_text 138 = .ok (.getfield 31, 3) := dk_180 0 31 (dk_at dksX1_text_5 21 rfl rfl)
theorem dX1_text_141 : decode cX1_text 141 = .ok (.aload_n 0, 1) := dk_42 (dk_at dksX1_text_6 0 rfl rfl)
theorem dX1_text_142 : decode cX1_text 142 = .ok (.getfield 118, 3) := dk_180 0 118 (dk_at dksX1_text_6 1 rfl rfl)
theorem dX1_text_145 : decode cX1_text 145 = .ok (.aload_n 0, 1) := dk_42 (dk_at dksX1_text_6 4 rfl rfl)
theorem dX1_text_146 : decode cX1_text 146 = .ok (.getfield 23, 3) := dk_180 0 23 (dk_at dksX1_text_6 5 rfl rfl)
theorem dX1_text_149 : decode cX1_text 149 = .ok (.aastore, 1) := dk_83 (dk_at dksX1_text_6 8 rfl rfl)
theorem dX1_text_150 : decode cX1_text 150 = .ok (.aload_n 0, 1) := dk_42 (dk_at dksX1_text_6 9 rfl rfl)
theorem dX1_text_151 : decode cX1_text 151 = .ok (.getfield 23, 3) := dk_180 0 23 (dk_at dksX1_text_6 10 rfl rfl)
theorem dX1_text_154 : decode cX1_text 154 = .ok (.invokevirtual 133, 3) := dk_182 0 133 (dk_at dksX1_text_6 13 rfl rfl)
theorem dX1_text_157 : decode cX1_text 157 = .ok (.aload_n 0, 1) := dk_42 (dk_at dksX1_text_6 16 rfl rfl)
theorem dX1_text_158 : decode cX1_text 158 = .ok (.new 20, 3) := dk_187 0 20 (dk_at dksX1_text_6 17 rfl rfl)
theorem dX1_text_161 : decode cX1_text 161 = .ok (.dup, 1) := dk_89 (dk_at dksX1_text_6 20 rfl rfl)
theorem dX1_text_162 : decode cX1_text 162 = .ok (.invokespecial 22, 3) := dk_183 0 22 (dk_at dksX1_text_6 21 rfl rfl)
theorem dX1_text_165 : decode cX1_text 165 = .ok (.putfield 23, 3) := dk_181 0 23 (dk_at dksX1_text_7 0 rfl rfl)
theorem dX1_text_168 : decode cX1_text 168 = .ok (.aload_n 0, 1) := dk_42 (dk_at dksX1_text_7 3 rfl rfl)
theorem dX1_text_169 : decode cX1_text 169 = .ok (.dup, 1) := dk_89 (dk_at dksX1_text_7 4 rfl rfl)
theorem dX1_text_170 : decode cX1_text 170 = .ok (.getfield 118, 3) := dk_180 0 118 (dk_at dksX1_text_7 5 rfl rfl)
theorem dX1_text_173 : decode cX1_text 173 = .ok (.iconst 1, 1) := dk_4 (dk_at dksX1_text_7 8 rfl rfl)
theorem dX1_text_174 : decode cX1_text 174 = .ok (.iadd, 1) := dk_96 (dk_at dksX1_text_7 9 rfl rfl)
theorem dX1_text_175 : decode cX1_text 175 = .ok (.putfield 118, 3) := dk_181 0 118 (dk_at dksX1_text_7 10 rfl rfl)
theorem dX1_text_178 : decode cX1_text 178 = .ok (.aload_n 0, 1) := dk_42 (dk_at dksX1_text_7 13 rfl rfl)
theorem dX1_text_179 : decode cX1_text 179 = .ok (.getfield 118, 3) := dk_180 0 118 (dk_at dksX1_text_7 14 rfl rfl)
theorem dX1_text_182 : decode cX1_text 182 = .ok (.iconst 1, 1) := dk_4 (dk_at dksX1_text_7 17 rfl rfl)
theorem dX1_text_183 : decode cX1_text 183 = .ok (.isub, 1) := dk_100 (dk_at dksX1_text_7 18 rfl rfl)
theorem dX1_text_184 : decode cX1_text 184 = .ok (.ireturn, 1) := dk_172 (dk_at dksX1_text_7 19 rfl rfl)
abbrev cX1_date : ByteArray := prog_1_method_14_code
def yX1_date : MethodName := ⟨RX1, "date", "(III)I"⟩
def dkwX1_date_1 : List UInt8 := [42, 180, 0, 27, 27, 50, 28, 29, 182, 0, 159, 167, 0, 4, 2, 172]
abbrev dktX1_date_1 : List UInt8 := dkwX1_date_1 ++ []
def dkwX1_date_0 : List UInt8 := [42, 27, 182, 0, 136, 153, 0, 33, 28, 155, 0, 29, 29, 133, 9, 20, 0, 157, 184, 0, 89, 153, 0, 17]
abbrev dktX1_date_0 : List UInt8 := dkwX1_date_0 ++ dktX1_date_1
theorem dksX1_date_0 : cX1_date.data.toList.drop 0 = dktX1_date_0 := by decide +kernel
theorem dksX1_date_1 : cX1_date.data.toList.drop 24 = dktX1_date_1 := dk_seg dksX1_date_0 24 rfl rfl
theorem dX1_date_0 : decode cX1_date 0 = .ok (.aload_n 0, 1) := dk_42 (dk_at dksX1_date_0 0 rfl rfl)
theorem dX1_date_1 : decode cX1_date 1 = .ok (.iload_n 1, 1) := dk_27 (dk_at dksX1_date_0 1 rfl rfl)
theorem dX1_date_2 : decode cX1_date 2 = .ok (.invokevirtual 136, 3) := dk_182 0 136 (dk_at dksX1_date_0 2 rfl rfl)
theorem dX1_date_5 : decode cX1_date 5 = .ok (.ifCond .eq 33, 3) := dk_153 0 33 (dk_at dksX1_date_0 5 rfl rfl)
theorem dX1_date_8 : decode cX1_date 8 = .ok (.iload_n 2, 1) := dk_28 (dk_at dksX1_date_0 8 rfl rfl)
theorem dX1_date_9 : decode cX1_date 9 = .ok (.ifCond .lt 29, 3) := dk_155 0 29 (dk_at dksX1_date_0 9 rfl rfl)
theorem dX1_date_12 : decode cX1_date 12 = .ok (.iload_n 3, 1) := dk_29 (dk_at dksX1_date_0 12 rfl rfl)
theorem dX1_date_13 : decode cX1_date 13 = .ok (.i2l, 1) := dk_133 (dk_at dksX1_date_0 13 rfl rfl)
theorem dX1_date_14 : decode cX1_date 14 = .ok (.lconst 0, 1) := dk_9 (dk_at dksX1_date_0 14 rfl rfl)
theorem dX1_date_15 : decode cX1_date 15 = .ok (.ldc2_w 157, 3) := dk_20 0 157 (dk_at dksX1_date_0 15 rfl rfl)
theorem dX1_date_18 : decode cX1_date 18 = .ok (.invokestatic 89, 3) := dk_184 0 89 (dk_at dksX1_date_0 18 rfl rfl)
theorem dX1_date_21 : decode cX1_date 21 = .ok (.ifCond .eq 17, 3) := dk_153 0 17 (dk_at dksX1_date_0 21 rfl rfl)
theorem dX1_date_24 : decode cX1_date 24 = .ok (.aload_n 0, 1) := dk_42 (dk_at dksX1_date_1 0 rfl rfl)
theorem dX1_date_25 : decode cX1_date 25 = .ok (.getfield 27, 3) := dk_180 0 27 (dk_at dksX1_date_1 1 rfl rfl)
theorem dX1_date_28 : decode cX1_date 28 = .ok (.iload_n 1, 1) := dk_27 (dk_at dksX1_date_1 4 rfl rfl)
theorem dX1_date_29 : decode cX1_date 29 = .ok (.aaload, 1) := dk_50 (dk_at dksX1_date_1 5 rfl rfl)
theorem dX1_date_30 : decode cX1_date 30 = .ok (.iload_n 2, 1) := dk_28 (dk_at dksX1_date_1 6 rfl rfl)
theorem dX1_date_31 : decode cX1_date 31 = .ok (.iload_n 3, 1) := dk_29 (dk_at dksX1_date_1 7 rfl rfl)
theorem dX1_date_32 : decode cX1_date 32 = .ok (.invokevirtual 159, 3) := dk_182 0 159 (dk_at dksX1_date_1 8 rfl rfl)
theorem dX1_date_35 : decode cX1_date 35 = .ok (.goto 4, 3) := dk_167 0 4 (dk_at dksX1_date_1 11 rfl rfl)
theorem dX1_date_38 : decode cX1_date 38 = .ok (.iconst (-1), 1) := dk_2 (dk_at dksX1_date_1 14 rfl rfl)
theorem dX1_date_39 : decode cX1_date 39 = .ok (.ireturn, 1) := dk_172 (dk_at dksX1_date_1 15 rfl rfl)
abbrev cX1_isCalendar : ByteArray := prog_1_method_9_code
def yX1_isCalendar : MethodName := ⟨RX1, "isCalendar", "(I)Z"⟩
def dkwX1_isCalendar_0 : List UInt8 := [27, 155, 0, 15, 27, 42, 180, 0, 115, 162, 0, 7, 4, 167, 0, 4, 3, 172]
abbrev dktX1_isCalendar_0 : List UInt8 := dkwX1_isCalendar_0 ++ []
theorem dksX1_isCalendar_0 : cX1_isCalendar.data.toList.drop 0 = dktX1_isCalendar_0 := by decide +kernel
theorem dX1_isCalendar_0 : decode cX1_isCalendar 0 = .ok (.iload_n 1, 1) := dk_27 (dk_at dksX1_isCalendar_0 0 rfl rfl)
theorem dX1_isCalendar_1 : decode cX1_isCalendar 1 = .ok (.ifCond .lt 15, 3) := dk_155 0 15 (dk_at dksX1_isCalendar_0 1 rfl rfl)
theorem dX1_isCalendar_4 : decode cX1_isCalendar 4 = .ok (.iload_n 1, 1) := dk_27 (dk_at dksX1_isCalendar_0 4 rfl rfl)
theorem dX1_isCalendar_5 : decode cX1_isCalendar 5 = .ok (.aload_n 0, 1) := dk_42 (dk_at dksX1_isCalendar_0 5 rfl rfl)
theorem dX1_isCalendar_6 : decode cX1_isCalendar 6 = .ok (.getfield 115, 3) := dk_180 0 115 (dk_at dksX1_isCalendar_0 6 rfl rfl)
theorem dX1_isCalendar_9 : decode cX1_isCalendar 9 = .ok (.if_icmp .ge 7, 3) := dk_162 0 7 (dk_at dksX1_isCalendar_0 9 rfl rfl)
theorem dX1_isCalendar_12 : decode cX1_isCalendar 12 = .ok (.iconst 1, 1) := dk_4 (dk_at dksX1_isCalendar_0 12 rfl rfl)
theorem dX1_isCalendar_13 : decode cX1_isCalendar 13 = .ok (.goto 4, 3) := dk_167 0 4 (dk_at dksX1_isCalendar_0 13 rfl rfl)
theorem dX1_isCalendar_16 : decode cX1_isCalendar 16 = .ok (.iconst 0, 1) := dk_3 (dk_at dksX1_isCalendar_0 16 rfl rfl)
theorem dX1_isCalendar_17 : decode cX1_isCalendar 17 = .ok (.ireturn, 1) := dk_172 (dk_at dksX1_isCalendar_0 17 rfl rfl)
abbrev cX1_turned : ByteArray := prog_1_method_15_code
def yX1_turned : MethodName := ⟨RX1, "turned", "(IIIIII)I"⟩
def dkwX1_turned_2 : List UInt8 := [29, 21, 4, 182, 0, 153, 21, 6, 182, 0, 159, 167, 0, 4, 2, 172]
abbrev dktX1_turned_2 : List UInt8 := dkwX1_turned_2 ++ []
def dkwX1_turned_1 : List UInt8 := [9, 20, 0, 87, 184, 0, 89, 153, 0, 31, 42, 180, 0, 27, 21, 5, 50, 42, 180, 0, 27, 27, 50, 28]
abbrev dktX1_turned_1 : List UInt8 := dkwX1_turned_1 ++ dktX1_turned_2
def dkwX1_turned_0 : List UInt8 := [42, 27, 28, 29, 21, 4, 182, 0, 146, 153, 0, 53, 42, 21, 5, 182, 0, 136, 153, 0, 44, 21, 6, 133]
abbrev dktX1_turned_0 : List UInt8 := dkwX1_turned_0 ++ dktX1_turned_1
theorem dksX1_turned_0 : cX1_turned.data.toList.drop 0 = dktX1_turned_0 := by decide +kernel
theorem dksX1_turned_1 : cX1_turned.data.toList.drop 24 = dktX1_turned_1 := dk_seg dksX1_turned_0 24 rfl rfl
theorem dksX1_turned_2 : cX1_turned.data.toList.drop 48 = dktX1_turned_2 := dk_seg dksX1_turned_1 24 rfl rfl
theorem dX1_turned_0 : decode cX1_turned 0 = .ok (.aload_n 0, 1) := dk_42 (dk_at dksX1_turned_0 0 rfl rfl)
theorem dX1_turned_1 : decode cX1_turned 1 = .ok (.iload_n 1, 1) := dk_27 (dk_at dksX1_turned_0 1 rfl rfl)
theorem dX1_turned_2 : decode cX1_turned 2 = .ok (.iload_n 2, 1) := dk_28 (dk_at dksX1_turned_0 2 rfl rfl)
theorem dX1_turned_3 : decode cX1_turned 3 = .ok (.iload_n 3, 1) := dk_29 (dk_at dksX1_turned_0 3 rfl rfl)
theorem dX1_turned_4 : decode cX1_turned 4 = .ok (.iload 4, 2) := dk_21 4 (dk_at dksX1_turned_0 4 rfl rfl)
theorem dX1_turned_6 : decode cX1_turned 6 = .ok (.invokevirtual 146, 3) := dk_182 0 146 (dk_at dksX1_turned_0 6 rfl rfl)
theorem dX1_turned_9 : decode cX1_turned 9 = .ok (.ifCond .eq 53, 3) := dk_153 0 53 (dk_at dksX1_turned_0 9 rfl rfl)
theorem dX1_turned_12 : decode cX1_turned 12 = .ok (.aload_n 0, 1) := dk_42 (dk_at dksX1_turned_0 12 rfl rfl)
theorem dX1_turned_13 : decode cX1_turned 13 = .ok (.iload 5, 2) := dk_21 5 (dk_at dksX1_turned_0 13 rfl rfl)
theorem dX1_turned_15 : decode cX1_turned 15 = .ok (.invokevirtual 136, 3) := dk_182 0 136 (dk_at dksX1_turned_0 15 rfl rfl)
theorem dX1_turned_18 : decode cX1_turned 18 = .ok (.ifCond .eq 44, 3) := dk_153 0 44 (dk_at dksX1_turned_0 18 rfl rfl)
theorem dX1_turned_21 : decode cX1_turned 21 = .ok (.iload 6, 2) := dk_21 6 (dk_at dksX1_turned_0 21 rfl rfl)
theorem dX1_turned_23 : decode cX1_turned 23 = .ok (.i2l, 1) := dk_133 (dk_at dksX1_turned_0 23 rfl rfl)
theorem dX1_turned_24 : decode cX1_turned 24 = .ok (.lconst 0, 1) := dk_9 (dk_at dksX1_turned_1 0 rfl rfl)
theorem dX1_turned_25 : decode cX1_turned 25 = .ok (.ldc2_w 87, 3) := dk_20 0 87 (dk_at dksX1_turned_1 1 rfl rfl)
theorem dX1_turned_28 : decode cX1_turned 28 = .ok (.invokestatic 89, 3) := dk_184 0 89 (dk_at dksX1_turned_1 4 rfl rfl)
theorem dX1_turned_31 : decode cX1_turned 31 = .ok (.ifCond .eq 31, 3) := dk_153 0 31 (dk_at dksX1_turned_1 7 rfl rfl)
theorem dX1_turned_34 : decode cX1_turned 34 = .ok (.aload_n 0, 1) := dk_42 (dk_at dksX1_turned_1 10 rfl rfl)
theorem dX1_turned_35 : decode cX1_turned 35 = .ok (.getfield 27, 3) := dk_180 0 27 (dk_at dksX1_turned_1 11 rfl rfl)
theorem dX1_turned_38 : decode cX1_turned 38 = .ok (.iload 5, 2) := dk_21 5 (dk_at dksX1_turned_1 14 rfl rfl)
theorem dX1_turned_40 : decode cX1_turned 40 = .ok (.aaload, 1) := dk_50 (dk_at dksX1_turned_1 16 rfl rfl)
theorem dX1_turned_41 : decode cX1_turned 41 = .ok (.aload_n 0, 1) := dk_42 (dk_at dksX1_turned_1 17 rfl rfl)
theorem dX1_turned_42 : decode cX1_turned 42 = .ok (.getfield 27, 3) := dk_180 0 27 (dk_at dksX1_turned_1 18 rfl rfl)
theorem dX1_turned_45 : decode cX1_turned 45 = .ok (.iload_n 1, 1) := dk_27 (dk_at dksX1_turned_1 21 rfl rfl)
theorem dX1_turned_46 : decode cX1_turned 46 = .ok (.aaload, 1) := dk_50 (dk_at dksX1_turned_1 22 rfl rfl)
theorem dX1_turned_47 : decode cX1_turned 47 = .ok (.iload_n 2, 1) := dk_28 (dk_at dksX1_turned_1 23 rfl rfl)
theorem dX1_turned_48 : decode cX1_turned 48 = .ok (.iload_n 3, 1) := dk_29 (dk_at dksX1_turned_2 0 rfl rfl)
theorem dX1_turned_49 : decode cX1_turned 49 = .ok (.iload 4, 2) := dk_21 4 (dk_at dksX1_turned_2 1 rfl rfl)
theorem dX1_turned_51 : decode cX1_turned 51 = .ok (.invokevirtual 153, 3) := dk_182 0 153 (dk_at dksX1_turned_2 3 rfl rfl)
theorem dX1_turned_54 : decode cX1_turned 54 = .ok (.iload 6, 2) := dk_21 6 (dk_at dksX1_turned_2 6 rfl rfl)
theorem dX1_turned_56 : decode cX1_turned 56 = .ok (.invokevirtual 159, 3) := dk_182 0 159 (dk_at dksX1_turned_2 8 rfl rfl)
theorem dX1_turned_59 : decode cX1_turned 59 = .ok (.goto 4, 3) := dk_167 0 4 (dk_at dksX1_turned_2 11 rfl rfl)
theorem dX1_turned_62 : decode cX1_turned 62 = .ok (.iconst (-1), 1) := dk_2 (dk_at dksX1_turned_2 14 rfl rfl)
theorem dX1_turned_63 : decode cX1_turned 63 = .ok (.ireturn, 1) := dk_172 (dk_at dksX1_turned_2 15 rfl rfl)
abbrev cX1_isDate : ByteArray := prog_1_method_11_code
def yX1_isDate : MethodName := ⟨RX1, "isDate", "(IIII)Z"⟩
def dkwX1_isDate_1 : List UInt8 := [4, 167, 0, 4, 3, 172]
abbrev dktX1_isDate_1 : List UInt8 := dkwX1_isDate_1 ++ []
def dkwX1_isDate_0 : List UInt8 := [42, 27, 182, 0, 136, 153, 0, 23, 42, 180, 0, 27, 27, 50, 28, 29, 21, 4, 182, 0, 140, 153, 0, 7]
abbrev dktX1_isDate_0 : List UInt8 := dkwX1_isDate_0 ++ dktX1_isDate_1
theorem dksX1_isDate_0 : cX1_isDate.data.toList.drop 0 = dktX1_isDate_0 := by decide +kernel
theorem dksX1_isDate_1 : cX1_isDate.data.toList.drop 24 = dktX1_isDate_1 := dk_seg dksX1_isDate_0 24 rfl rfl
theorem dX1_isDate_0 : decode cX1_isDate 0 = .ok (.aload_n 0, 1) := dk_42 (dk_at dksX1_isDate_0 0 rfl rfl)
theorem dX1_isDate_1 : decode cX1_isDate 1 = .ok (.iload_n 1, 1) := dk_27 (dk_at dksX1_isDate_0 1 rfl rfl)
theorem dX1_isDate_2 : decode cX1_isDate 2 = .ok (.invokevirtual 136, 3) := dk_182 0 136 (dk_at dksX1_isDate_0 2 rfl rfl)
theorem dX1_isDate_5 : decode cX1_isDate 5 = .ok (.ifCond .eq 23, 3) := dk_153 0 23 (dk_at dksX1_isDate_0 5 rfl rfl)
theorem dX1_isDate_8 : decode cX1_isDate 8 = .ok (.aload_n 0, 1) := dk_42 (dk_at dksX1_isDate_0 8 rfl rfl)
theorem dX1_isDate_9 : decode cX1_isDate 9 = .ok (.getfield 27, 3) := dk_180 0 27 (dk_at dksX1_isDate_0 9 rfl rfl)
theorem dX1_isDate_12 : decode cX1_isDate 12 = .ok (.iload_n 1, 1) := dk_27 (dk_at dksX1_isDate_0 12 rfl rfl)
theorem dX1_isDate_13 : decode cX1_isDate 13 = .ok (.aaload, 1) := dk_50 (dk_at dksX1_isDate_0 13 rfl rfl)
theorem dX1_isDate_14 : decode cX1_isDate 14 = .ok (.iload_n 2, 1) := dk_28 (dk_at dksX1_isDate_0 14 rfl rfl)
theorem dX1_isDate_15 : decode cX1_isDate 15 = .ok (.iload_n 3, 1) := dk_29 (dk_at dksX1_isDate_0 15 rfl rfl)
theorem dX1_isDate_16 : decode cX1_isDate 16 = .ok (.iload 4, 2) := dk_21 4 (dk_at dksX1_isDate_0 16 rfl rfl)
theorem dX1_isDate_18 : decode cX1_isDate 18 = .ok (.invokevirtual 140, 3) := dk_182 0 140 (dk_at dksX1_isDate_0 18 rfl rfl)
theorem dX1_isDate_21 : decode cX1_isDate 21 = .ok (.ifCond .eq 7, 3) := dk_153 0 7 (dk_at dksX1_isDate_0 21 rfl rfl)
theorem dX1_isDate_24 : decode cX1_isDate 24 = .ok (.iconst 1, 1) := dk_4 (dk_at dksX1_isDate_1 0 rfl rfl)
theorem dX1_isDate_25 : decode cX1_isDate 25 = .ok (.goto 4, 3) := dk_167 0 4 (dk_at dksX1_isDate_1 1 rfl rfl)
theorem dX1_isDate_28 : decode cX1_isDate 28 = .ok (.iconst 0, 1) := dk_3 (dk_at dksX1_isDate_1 4 rfl rfl)
theorem dX1_isDate_29 : decode cX1_isDate 29 = .ok (.ireturn, 1) := dk_172 (dk_at dksX1_isDate_1 5 rfl rfl)
abbrev cX1_many : ByteArray := prog_1_method_16_code
def yX1_many : MethodName := ⟨RX1, "many", "(III)I"⟩
def dkwX1_many_3 : List UInt8 := [96, 54, 4, 132, 5, 1, 167, 255, 229, 21, 4, 172]
abbrev dktX1_many_3 : List UInt8 := dkwX1_many_3 ++ []
def dkwX1_many_2 : List UInt8 := [4, 54, 5, 21, 5, 16, 13, 162, 0, 26, 21, 4, 42, 180, 0, 27, 27, 50, 28, 21, 5, 182, 0, 168]
abbrev dktX1_many_2 : List UInt8 := dkwX1_many_2 ++ dktX1_many_3
def dkwX1_many_1 : List UInt8 := [154, 0, 5, 2, 172, 29, 158, 0, 15, 42, 180, 0, 27, 27, 50, 28, 29, 182, 0, 168, 172, 3, 54, 4]
abbrev dktX1_many_1 : List UInt8 := dkwX1_many_1 ++ dktX1_many_2
def dkwX1_many_0 : List UInt8 := [42, 27, 182, 0, 136, 153, 0, 22, 28, 184, 0, 163, 153, 0, 15, 29, 133, 9, 20, 0, 166, 184, 0, 89]
abbrev dktX1_many_0 : List UInt8 := dkwX1_many_0 ++ dktX1_many_1
theorem dksX1_many_0 : cX1_many.data.toList.drop 0 = dktX1_many_0 := by decide +kernel
theorem dksX1_many_1 : cX1_many.data.toList.drop 24 = dktX1_many_1 := dk_seg dksX1_many_0 24 rfl rfl
theorem dksX1_many_2 : cX1_many.data.toList.drop 48 = dktX1_many_2 := dk_seg dksX1_many_1 24 rfl rfl
theorem dksX1_many_3 : cX1_many.data.toList.drop 72 = dktX1_many_3 := dk_seg dksX1_many_2 24 rfl rfl
theorem dX1_many_0 : decode cX1_many 0 = .ok (.aload_n 0, 1) := dk_42 (dk_at dksX1_many_0 0 rfl rfl)
theorem dX1_many_1 : decode cX1_many 1 = .ok (.iload_n 1, 1) := dk_27 (dk_at dksX1_many_0 1 rfl rfl)
theorem dX1_many_2 : decode cX1_many 2 = .ok (.invokevirtual 136, 3) := dk_182 0 136 (dk_at dksX1_many_0 2 rfl rfl)
theorem dX1_many_5 : decode cX1_many 5 = .ok (.ifCond .eq 22, 3) := dk_153 0 22 (dk_at dksX1_many_0 5 rfl rfl)
theorem dX1_many_8 : decode cX1_many 8 = .ok (.iload_n 2, 1) := dk_28 (dk_at dksX1_many_0 8 rfl rfl)
theorem dX1_many_9 : decode cX1_many 9 = .ok (.invokestatic 163, 3) := dk_184 0 163 (dk_at dksX1_many_0 9 rfl rfl)
theorem dX1_many_12 : decode cX1_many 12 = .ok (.ifCond .eq 15, 3) := dk_153 0 15 (dk_at dksX1_many_0 12 rfl rfl)
theorem dX1_many_15 : decode cX1_many 15 = .ok (.iload_n 3, 1) := dk_29 (dk_at dksX1_many_0 15 rfl rfl)
theorem dX1_many_16 : decode cX1_many 16 = .ok (.i2l, 1) := dk_133 (dk_at dksX1_many_0 16 rfl rfl)
theorem dX1_many_17 : decode cX1_many 17 = .ok (.lconst 0, 1) := dk_9 (dk_at dksX1_many_0 17 rfl rfl)
theorem dX1_many_18 : decode cX1_many 18 = .ok (.ldc2_w 166, 3) := dk_20 0 166 (dk_at dksX1_many_0 18 rfl rfl)
theorem dX1_many_21 : decode cX1_many 21 = .ok (.invokestatic 89, 3) := dk_184 0 89 (dk_at dksX1_many_0 21 rfl rfl)
theorem dX1_many_24 : decode cX1_many 24 = .ok (.ifCond .ne 5, 3) := dk_154 0 5 (dk_at dksX1_many_1 0 rfl rfl)
theorem dX1_many_27 : decode cX1_many 27 = .ok (.iconst (-1), 1) := dk_2 (dk_at dksX1_many_1 3 rfl rfl)
theorem dX1_many_28 : decode cX1_many 28 = .ok (.ireturn, 1) := dk_172 (dk_at dksX1_many_1 4 rfl rfl)
theorem dX1_many_29 : decode cX1_many 29 = .ok (.iload_n 3, 1) := dk_29 (dk_at dksX1_many_1 5 rfl rfl)
theorem dX1_many_30 : decode cX1_many 30 = .ok (.ifCond .le 15, 3) := dk_158 0 15 (dk_at dksX1_many_1 6 rfl rfl)
theorem dX1_many_33 : decode cX1_many 33 = .ok (.aload_n 0, 1) := dk_42 (dk_at dksX1_many_1 9 rfl rfl)
theorem dX1_many_34 : decode cX1_many 34 = .ok (.getfield 27, 3) := dk_180 0 27 (dk_at dksX1_many_1 10 rfl rfl)
theorem dX1_many_37 : decode cX1_many 37 = .ok (.iload_n 1, 1) := dk_27 (dk_at dksX1_many_1 13 rfl rfl)
theorem dX1_many_38 : decode cX1_many 38 = .ok (.aaload, 1) := dk_50 (dk_at dksX1_many_1 14 rfl rfl)
theorem dX1_many_39 : decode cX1_many 39 = .ok (.iload_n 2, 1) := dk_28 (dk_at dksX1_many_1 15 rfl rfl)
theorem dX1_many_40 : decode cX1_many 40 = .ok (.iload_n 3, 1) := dk_29 (dk_at dksX1_many_1 16 rfl rfl)
theorem dX1_many_41 : decode cX1_many 41 = .ok (.invokevirtual 168, 3) := dk_182 0 168 (dk_at dksX1_many_1 17 rfl rfl)
theorem dX1_many_44 : decode cX1_many 44 = .ok (.ireturn, 1) := dk_172 (dk_at dksX1_many_1 20 rfl rfl)
theorem dX1_many_45 : decode cX1_many 45 = .ok (.iconst 0, 1) := dk_3 (dk_at dksX1_many_1 21 rfl rfl)
theorem dX1_many_46 : decode cX1_many 46 = .ok (.istore 4, 2) := dk_54 4 (dk_at dksX1_many_1 22 rfl rfl)
theorem dX1_many_48 : decode cX1_many 48 = .ok (.iconst 1, 1) := dk_4 (dk_at dksX1_many_2 0 rfl rfl)
theorem dX1_many_49 : decode cX1_many 49 = .ok (.istore 5, 2) := dk_54 5 (dk_at dksX1_many_2 1 rfl rfl)
theorem dX1_many_51 : decode cX1_many 51 = .ok (.iload 5, 2) := dk_21 5 (dk_at dksX1_many_2 3 rfl rfl)
theorem dX1_many_53 : decode cX1_many 53 = .ok (.bipush 13, 2) := dk_16 13 (dk_at dksX1_many_2 5 rfl rfl)
theorem dX1_many_55 : decode cX1_many 55 = .ok (.if_icmp .ge 26, 3) := dk_162 0 26 (dk_at dksX1_many_2 7 rfl rfl)
theorem dX1_many_58 : decode cX1_many 58 = .ok (.iload 4, 2) := dk_21 4 (dk_at dksX1_many_2 10 rfl rfl)
theorem dX1_many_60 : decode cX1_many 60 = .ok (.aload_n 0, 1) := dk_42 (dk_at dksX1_many_2 12 rfl rfl)
theorem dX1_many_61 : decode cX1_many 61 = .ok (.getfield 27, 3) := dk_180 0 27 (dk_at dksX1_many_2 13 rfl rfl)
theorem dX1_many_64 : decode cX1_many 64 = .ok (.iload_n 1, 1) := dk_27 (dk_at dksX1_many_2 16 rfl rfl)
theorem dX1_many_65 : decode cX1_many 65 = .ok (.aaload, 1) := dk_50 (dk_at dksX1_many_2 17 rfl rfl)
theorem dX1_many_66 : decode cX1_many 66 = .ok (.iload_n 2, 1) := dk_28 (dk_at dksX1_many_2 18 rfl rfl)
theorem dX1_many_67 : decode cX1_many 67 = .ok (.iload 5, 2) := dk_21 5 (dk_at dksX1_many_2 19 rfl rfl)
theorem dX1_many_69 : decode cX1_many 69 = .ok (.invokevirtual 168, 3) := dk_182 0 168 (dk_at dksX1_many_2 21 rfl rfl)
theorem dX1_many_72 : decode cX1_many 72 = .ok (.iadd, 1) := dk_96 (dk_at dksX1_many_3 0 rfl rfl)
theorem dX1_many_73 : decode cX1_many 73 = .ok (.istore 4, 2) := dk_54 4 (dk_at dksX1_many_3 1 rfl rfl)
theorem dX1_many_75 : decode cX1_many 75 = .ok (.iinc 5 1, 3) := dk_132 5 1 (dk_at dksX1_many_3 3 rfl rfl)
theorem dX1_many_78 : decode cX1_many 78 = .ok (.goto (-27), 3) := dk_167 255 229 (dk_at dksX1_many_3 6 rfl rfl)
theorem dX1_many_81 : decode cX1_many 81 = .ok (.iload 4, 2) := dk_21 4 (dk_at dksX1_many_3 9 rfl rfl)
theorem dX1_many_83 : decode cX1_many 83 = .ok (.ireturn, 1) := dk_172 (dk_at dksX1_many_3 11 rfl rfl)
abbrev cX1_isYear : ByteArray := prog_1_method_12_code
def yX1_isYear : MethodName := ⟨RX1, "isYear", "(I)Z"⟩
def dkwX1_isYear_0 : List UInt8 := [26, 133, 10, 20, 0, 144, 184, 0, 89, 172]
abbrev dktX1_isYear_0 : List UInt8 := dkwX1_isYear_0 ++ []
theorem dksX1_isYear_0 : cX1_isYear.data.toList.drop 0 = dktX1_isYear_0 := by decide +kernel
theorem dX1_isYear_0 : decode cX1_isYear 0 = .ok (.iload_n 0, 1) := dk_26 (dk_at dksX1_isYear_0 0 rfl rfl)
theorem dX1_isYear_1 : decode cX1_isYear 1 = .ok (.i2l, 1) := dk_133 (dk_at dksX1_isYear_0 1 rfl rfl)
theorem dX1_isYear_2 : decode cX1_isYear 2 = .ok (.lconst 1, 1) := dk_10 (dk_at dksX1_isYear_0 2 rfl rfl)
theorem dX1_isYear_3 : decode cX1_isYear 3 = .ok (.ldc2_w 144, 3) := dk_20 0 144 (dk_at dksX1_isYear_0 3 rfl rfl)
theorem dX1_isYear_6 : decode cX1_isYear 6 = .ok (.invokestatic 89, 3) := dk_184 0 89 (dk_at dksX1_isYear_0 6 rfl rfl)
theorem dX1_isYear_9 : decode cX1_isYear 9 = .ok (.ireturn, 1) := dk_172 (dk_at dksX1_isYear_0 9 rfl rfl)
abbrev cX1_kind : ByteArray := prog_1_method_17_code
def yX1_kind : MethodName := ⟨RX1, "kind", "(II)I"⟩
def dkwX1_kind_1 : List UInt8 := [182, 0, 171, 167, 0, 4, 2, 172]
abbrev dktX1_kind_1 : List UInt8 := dkwX1_kind_1 ++ []
def dkwX1_kind_0 : List UInt8 := [42, 27, 182, 0, 136, 153, 0, 23, 28, 184, 0, 163, 153, 0, 16, 42, 180, 0, 27, 27, 50, 28]
abbrev dktX1_kind_0 : List UInt8 := dkwX1_kind_0 ++ dktX1_kind_1
theorem dksX1_kind_0 : cX1_kind.data.toList.drop 0 = dktX1_kind_0 := by decide +kernel
theorem dksX1_kind_1 : cX1_kind.data.toList.drop 22 = dktX1_kind_1 := dk_seg dksX1_kind_0 22 rfl rfl
theorem dX1_kind_0 : decode cX1_kind 0 = .ok (.aload_n 0, 1) := dk_42 (dk_at dksX1_kind_0 0 rfl rfl)
theorem dX1_kind_1 : decode cX1_kind 1 = .ok (.iload_n 1, 1) := dk_27 (dk_at dksX1_kind_0 1 rfl rfl)
theorem dX1_kind_2 : decode cX1_kind 2 = .ok (.invokevirtual 136, 3) := dk_182 0 136 (dk_at dksX1_kind_0 2 rfl rfl)
theorem dX1_kind_5 : decode cX1_kind 5 = .ok (.ifCond .eq 23, 3) := dk_153 0 23 (dk_at dksX1_kind_0 5 rfl rfl)
theorem dX1_kind_8 : decode cX1_kind 8 = .ok (.iload_n 2, 1) := dk_28 (dk_at dksX1_kind_0 8 rfl rfl)
theorem dX1_kind_9 : decode cX1_kind 9 = .ok (.invokestatic 163, 3) := dk_184 0 163 (dk_at dksX1_kind_0 9 rfl rfl)
theorem dX1_kind_12 : decode cX1_kind 12 = .ok (.ifCond .eq 16, 3) := dk_153 0 16 (dk_at dksX1_kind_0 12 rfl rfl)
theorem dX1_kind_15 : decode cX1_kind 15 = .ok (.aload_n 0, 1) := dk_42 (dk_at dksX1_kind_0 15 rfl rfl)
theorem dX1_kind_16 : decode cX1_kind 16 = .ok (.getfield 27, 3) := dk_180 0 27 (dk_at dksX1_kind_0 16 rfl rfl)
theorem dX1_kind_19 : decode cX1_kind 19 = .ok (.iload_n 1, 1) := dk_27 (dk_at dksX1_kind_0 19 rfl rfl)
theorem dX1_kind_20 : decode cX1_kind 20 = .ok (.aaload, 1) := dk_50 (dk_at dksX1_kind_0 20 rfl rfl)
theorem dX1_kind_21 : decode cX1_kind 21 = .ok (.iload_n 2, 1) := dk_28 (dk_at dksX1_kind_0 21 rfl rfl)
theorem dX1_kind_22 : decode cX1_kind 22 = .ok (.invokevirtual 171, 3) := dk_182 0 171 (dk_at dksX1_kind_1 0 rfl rfl)
theorem dX1_kind_25 : decode cX1_kind 25 = .ok (.goto 4, 3) := dk_167 0 4 (dk_at dksX1_kind_1 3 rfl rfl)
theorem dX1_kind_28 : decode cX1_kind 28 = .ok (.iconst (-1), 1) := dk_2 (dk_at dksX1_kind_1 6 rfl rfl)
theorem dX1_kind_29 : decode cX1_kind 29 = .ok (.ireturn, 1) := dk_172 (dk_at dksX1_kind_1 7 rfl rfl)
abbrev cX1_way : ByteArray := prog_1_method_20_code
def yX1_way : MethodName := ⟨RX1, "way", "(IIIIIII)I"⟩
def dkwX1_way_5 : List UInt8 := [167, 0, 10, 25, 8, 21, 10, 182, 0, 204, 54, 10, 132, 11, 1, 167, 255, 222, 21, 10, 172]
abbrev dktX1_way_5 : List UInt8 := dkwX1_way_5 ++ []
def dkwX1_way_4 : List UInt8 := [54, 10, 3, 54, 11, 21, 11, 21, 7, 162, 0, 33, 21, 6, 154, 0, 13, 25, 8, 21, 10, 182, 0, 201]
abbrev dktX1_way_4 : List UInt8 := dkwX1_way_4 ++ dktX1_way_5
def dkwX1_way_3 : List UInt8 := [9, 21, 9, 133, 184, 0, 89, 154, 0, 5, 2, 172, 21, 6, 154, 0, 7, 29, 167, 0, 5, 21, 4]
abbrev dktX1_way_3 : List UInt8 := dkwX1_way_3 ++ dktX1_way_4
def dkwX1_way_2 : List UInt8 := [167, 0, 10, 25, 8, 21, 4, 182, 0, 198, 54, 9, 21, 7, 2, 160, 0, 6, 21, 9, 172, 21, 7, 133]
abbrev dktX1_way_2 : List UInt8 := dkwX1_way_2 ++ dktX1_way_3
def dkwX1_way_1 : List UInt8 := [154, 0, 5, 2, 172, 42, 180, 0, 31, 27, 50, 58, 8, 21, 6, 154, 0, 12, 25, 8, 29, 182, 0, 195]
abbrev dktX1_way_1 : List UInt8 := dkwX1_way_1 ++ dktX1_way_2
def dkwX1_way_0 : List UInt8 := [42, 27, 28, 29, 21, 4, 21, 5, 182, 0, 191, 153, 0, 14, 21, 6, 133, 9, 10, 184, 0, 89]
abbrev dktX1_way_0 : List UInt8 := dkwX1_way_0 ++ dktX1_way_1
theorem dksX1_way_0 : cX1_way.data.toList.drop 0 = dktX1_way_0 := by decide +kernel
theorem dksX1_way_1 : cX1_way.data.toList.drop 22 = dktX1_way_1 := dk_seg dksX1_way_0 22 rfl rfl
theorem dksX1_way_2 : cX1_way.data.toList.drop 46 = dktX1_way_2 := dk_seg dksX1_way_1 24 rfl rfl
theorem dksX1_way_3 : cX1_way.data.toList.drop 70 = dktX1_way_3 := dk_seg dksX1_way_2 24 rfl rfl
theorem dksX1_way_4 : cX1_way.data.toList.drop 93 = dktX1_way_4 := dk_seg dksX1_way_3 23 rfl rfl
theorem dksX1_way_5 : cX1_way.data.toList.drop 117 = dktX1_way_5 := dk_seg dksX1_way_4 24 rfl rfl
theorem dX1_way_0 : decode cX1_way 0 = .ok (.aload_n 0, 1) := dk_42 (dk_at dksX1_way_0 0 rfl rfl)
theorem dX1_way_1 : decode cX1_way 1 = .ok (.iload_n 1, 1) := dk_27 (dk_at dksX1_way_0 1 rfl rfl)
theorem dX1_way_2 : decode cX1_way 2 = .ok (.iload_n 2, 1) := dk_28 (dk_at dksX1_way_0 2 rfl rfl)
theorem dX1_way_3 : decode cX1_way 3 = .ok (.iload_n 3, 1) := dk_29 (dk_at dksX1_way_0 3 rfl rfl)
theorem dX1_way_4 : decode cX1_way 4 = .ok (.iload 4, 2) := dk_21 4 (dk_at dksX1_way_0 4 rfl rfl)
theorem dX1_way_6 : decode cX1_way 6 = .ok (.iload 5, 2) := dk_21 5 (dk_at dksX1_way_0 6 rfl rfl)
theorem dX1_way_8 : decode cX1_way 8 = .ok (.invokevirtual 191, 3) := dk_182 0 191 (dk_at dksX1_way_0 8 rfl rfl)
theorem dX1_way_11 : decode cX1_way 11 = .ok (.ifCond .eq 14, 3) := dk_153 0 14 (dk_at dksX1_way_0 11 rfl rfl)
theorem dX1_way_14 : decode cX1_way 14 = .ok (.iload 6, 2) := dk_21 6 (dk_at dksX1_way_0 14 rfl rfl)
theorem dX1_way_16 : decode cX1_way 16 = .ok (.i2l, 1) := dk_133 (dk_at dksX1_way_0 16 rfl rfl)
theorem dX1_way_17 : decode cX1_way 17 = .ok (.lconst 0, 1) := dk_9 (dk_at dksX1_way_0 17 rfl rfl)
theorem dX1_way_18 : decode cX1_way 18 = .ok (.lconst 1, 1) := dk_10 (dk_at dksX1_way_0 18 rfl rfl)
theorem dX1_way_19 : decode cX1_way 19 = .ok (.invokestatic 89, 3) := dk_184 0 89 (dk_at dksX1_way_0 19 rfl rfl)
theorem dX1_way_22 : decode cX1_way 22 = .ok (.ifCond .ne 5, 3) := dk_154 0 5 (dk_at dksX1_way_1 0 rfl rfl)
theorem dX1_way_25 : decode cX1_way 25 = .ok (.iconst (-1), 1) := dk_2 (dk_at dksX1_way_1 3 rfl rfl)
theorem dX1_way_26 : decode cX1_way 26 = .ok (.ireturn, 1) := dk_172 (dk_at dksX1_way_1 4 rfl rfl)
theorem dX1_way_27 : decode cX1_way 27 = .ok (.aload_n 0, 1) := dk_42 (dk_at dksX1_way_1 5 rfl rfl)
theorem dX1_way_28 : decode cX1_way 28 = .ok (.getfield 31, 3) := dk_180 0 31 (dk_at dksX1_way_1 6 rfl rfl)
theorem dX1_way_31 : decode cX1_way 31 = .ok (.iload_n 1, 1) := dk_27 (dk_at dksX1_way_1 9 rfl rfl)
theorem dX1_way_32 : decode cX1_way 32 = .ok (.aaload, 1) := dk_50 (dk_at dksX1_way_1 10 rfl rfl)
theorem dX1_way_33 : decode cX1_way 33 = .ok (.astore 8, 2) := dk_58 8 (dk_at dksX1_way_1 11 rfl rfl)
theorem dX1_way_35 : decode cX1_way 35 = .ok (.iload 6, 2) := dk_21 6 (dk_at dksX1_way_1 13 rfl rfl)
theorem dX1_way_37 : decode cX1_way 37 = .ok (.ifCond .ne 12, 3) := dk_154 0 12 (dk_at dksX1_way_1 15 rfl rfl)
theorem dX1_way_40 : decode cX1_way 40 = .ok (.aload 8, 2) := dk_25 8 (dk_at dksX1_way_1 18 rfl rfl)
theorem dX1_way_42 : decode cX1_way 42 = .ok (.iload_n 3, 1) := dk_29 (dk_at dksX1_way_1 20 rfl rfl)
theorem dX1_way_43 : decode cX1_way 43 = .ok (.invokevirtual 195, 3) := dk_182 0 195 (dk_at dksX1_way_1 21 rfl rfl)
theorem dX1_way_46 : decode cX1_way 46 = .ok (.goto 10, 3) := dk_167 0 10 (dk_at dksX1_way_2 0 rfl rfl)
theorem dX1_way_49 : decode cX1_way 49 = .ok (.aload 8, 2) := dk_25 8 (dk_at dksX1_way_2 3 rfl rfl)
theorem dX1_way_51 : decode cX1_way 51 = .ok (.iload 4, 2) := dk_21 4 (dk_at dksX1_way_2 5 rfl rfl)
theorem dX1_way_53 : decode cX1_way 53 = .ok (.invokevirtual 198, 3) := dk_182 0 198 (dk_at dksX1_way_2 7 rfl rfl)
theorem dX1_way_56 : decode cX1_way 56 = .ok (.istore 9, 2) := dk_54 9 (dk_at dksX1_way_2 10 rfl rfl)
theorem dX1_way_58 : decode cX1_way 58 = .ok (.iload 7, 2) := dk_21 7 (dk_at dksX1_way_2 12 rfl rfl)
theorem dX1_way_60 : decode cX1_way 60 = .ok (.iconst (-1), 1) := dk_2 (dk_at dksX1_way_2 14 rfl rfl)
theorem dX1_way_61 : decode cX1_way 61 = .ok (.if_icmp .ne 6, 3) := dk_160 0 6 (dk_at dksX1_way_2 15 rfl rfl)
theorem dX1_way_64 : decode cX1_way 64 = .ok (.iload 9, 2) := dk_21 9 (dk_at dksX1_way_2 18 rfl rfl)
theorem dX1_way_66 : decode cX1_way 66 = .ok (.ireturn, 1) := dk_172 (dk_at dksX1_way_2 20 rfl rfl)
theorem dX1_way_67 : decode cX1_way 67 = .ok (.iload 7, 2) := dk_21 7 (dk_at dksX1_way_2 21 rfl rfl)
theorem dX1_way_69 : decode cX1_way 69 = .ok (.i2l, 1) := dk_133 (dk_at dksX1_way_2 23 rfl rfl)
theorem dX1_way_70 : decode cX1_way 70 = .ok (.lconst 0, 1) := dk_9 (dk_at dksX1_way_3 0 rfl rfl)
theorem dX1_way_71 : decode cX1_way 71 = .ok (.iload 9, 2) := dk_21 9 (dk_at dksX1_way_3 1 rfl rfl)
theorem dX1_way_73 : decode cX1_way 73 = .ok (.i2l, 1) := dk_133 (dk_at dksX1_way_3 3 rfl rfl)
theorem dX1_way_74 : decode cX1_way 74 = .ok (.invokestatic 89, 3) := dk_184 0 89 (dk_at dksX1_way_3 4 rfl rfl)
theorem dX1_way_77 : decode cX1_way 77 = .ok (.ifCond .ne 5, 3) := dk_154 0 5 (dk_at dksX1_way_3 7 rfl rfl)
theorem dX1_way_80 : decode cX1_way 80 = .ok (.iconst (-1), 1) := dk_2 (dk_at dksX1_way_3 10 rfl rfl)
theorem dX1_way_81 : decode cX1_way 81 = .ok (.ireturn, 1) := dk_172 (dk_at dksX1_way_3 11 rfl rfl)
theorem dX1_way_82 : decode cX1_way 82 = .ok (.iload 6, 2) := dk_21 6 (dk_at dksX1_way_3 12 rfl rfl)
theorem dX1_way_84 : decode cX1_way 84 = .ok (.ifCond .ne 7, 3) := dk_154 0 7 (dk_at dksX1_way_3 14 rfl rfl)
theorem dX1_way_87 : decode cX1_way 87 = .ok (.iload_n 3, 1) := dk_29 (dk_at dksX1_way_3 17 rfl rfl)
theorem dX1_way_88 : decode cX1_way 88 = .ok (.goto 5, 3) := dk_167 0 5 (dk_at dksX1_way_3 18 rfl rfl)
theorem dX1_way_91 : decode cX1_way 91 = .ok (.iload 4, 2) := dk_21 4 (dk_at dksX1_way_3 21 rfl rfl)
theorem dX1_way_93 : decode cX1_way 93 = .ok (.istore 10, 2) := dk_54 10 (dk_at dksX1_way_4 0 rfl rfl)
theorem dX1_way_95 : decode cX1_way 95 = .ok (.iconst 0, 1) := dk_3 (dk_at dksX1_way_4 2 rfl rfl)
theorem dX1_way_96 : decode cX1_way 96 = .ok (.istore 11, 2) := dk_54 11 (dk_at dksX1_way_4 3 rfl rfl)
theorem dX1_way_98 : decode cX1_way 98 = .ok (.iload 11, 2) := dk_21 11 (dk_at dksX1_way_4 5 rfl rfl)
theorem dX1_way_100 : decode cX1_way 100 = .ok (.iload 7, 2) := dk_21 7 (dk_at dksX1_way_4 7 rfl rfl)
theorem dX1_way_102 : decode cX1_way 102 = .ok (.if_icmp .ge 33, 3) := dk_162 0 33 (dk_at dksX1_way_4 9 rfl rfl)
theorem dX1_way_105 : decode cX1_way 105 = .ok (.iload 6, 2) := dk_21 6 (dk_at dksX1_way_4 12 rfl rfl)
theorem dX1_way_107 : decode cX1_way 107 = .ok (.ifCond .ne 13, 3) := dk_154 0 13 (dk_at dksX1_way_4 14 rfl rfl)
theorem dX1_way_110 : decode cX1_way 110 = .ok (.aload 8, 2) := dk_25 8 (dk_at dksX1_way_4 17 rfl rfl)
theorem dX1_way_112 : decode cX1_way 112 = .ok (.iload 10, 2) := dk_21 10 (dk_at dksX1_way_4 19 rfl rfl)
theorem dX1_way_114 : decode cX1_way 114 = .ok (.invokevirtual 201, 3) := dk_182 0 201 (dk_at dksX1_way_4 21 rfl rfl)
theorem dX1_way_117 : decode cX1_way 117 = .ok (.goto 10, 3) := dk_167 0 10 (dk_at dksX1_way_5 0 rfl rfl)
theorem dX1_way_120 : decode cX1_way 120 = .ok (.aload 8, 2) := dk_25 8 (dk_at dksX1_way_5 3 rfl rfl)
theorem dX1_way_122 : decode cX1_way 122 = .ok (.iload 10, 2) := dk_21 10 (dk_at dksX1_way_5 5 rfl rfl)
theorem dX1_way_124 : decode cX1_way 124 = .ok (.invokevirtual 204, 3) := dk_182 0 204 (dk_at dksX1_way_5 7 rfl rfl)
theorem dX1_way_127 : decode cX1_way 127 = .ok (.istore 10, 2) := dk_54 10 (dk_at dksX1_way_5 10 rfl rfl)
theorem dX1_way_129 : decode cX1_way 129 = .ok (.iinc 11 1, 3) := dk_132 11 1 (dk_at dksX1_way_5 12 rfl rfl)
theorem dX1_way_132 : decode cX1_way 132 = .ok (.goto (-34), 3) := dk_167 255 222 (dk_at dksX1_way_5 15 rfl rfl)
theorem dX1_way_135 : decode cX1_way 135 = .ok (.iload 10, 2) := dk_21 10 (dk_at dksX1_way_5 18 rfl rfl)
theorem dX1_way_137 : decode cX1_way 137 = .ok (.ireturn, 1) := dk_172 (dk_at dksX1_way_5 20 rfl rfl)
abbrev cX1_isAnswered : ByteArray := prog_1_method_19_code
def yX1_isAnswered : MethodName := ⟨RX1, "isAnswered", "(IIIII)Z"⟩
def dkwX1_isAnswered_2 : List UInt8 := [3, 172]
abbrev dktX1_isAnswered_2 : List UInt8 := dkwX1_isAnswered_2 ++ []
def dkwX1_isAnswered_1 : List UInt8 := [180, 0, 31, 27, 50, 42, 180, 0, 27, 28, 50, 29, 21, 4, 182, 0, 187, 153, 0, 7, 4, 167, 0, 4]
abbrev dktX1_isAnswered_1 : List UInt8 := dkwX1_isAnswered_1 ++ dktX1_isAnswered_2
def dkwX1_isAnswered_0 : List UInt8 := [42, 27, 182, 0, 184, 153, 0, 42, 42, 28, 29, 21, 4, 21, 5, 182, 0, 146, 153, 0, 29, 42, 42]
abbrev dktX1_isAnswered_0 : List UInt8 := dkwX1_isAnswered_0 ++ dktX1_isAnswered_1
theorem dksX1_isAnswered_0 : cX1_isAnswered.data.toList.drop 0 = dktX1_isAnswered_0 := by decide +kernel
theorem dksX1_isAnswered_1 : cX1_isAnswered.data.toList.drop 23 = dktX1_isAnswered_1 := dk_seg dksX1_isAnswered_0 23 rfl rfl
theorem dksX1_isAnswered_2 : cX1_isAnswered.data.toList.drop 47 = dktX1_isAnswered_2 := dk_seg dksX1_isAnswered_1 24 rfl rfl
theorem dX1_isAnswered_0 : decode cX1_isAnswered 0 = .ok (.aload_n 0, 1) := dk_42 (dk_at dksX1_isAnswered_0 0 rfl rfl)
theorem dX1_isAnswered_1 : decode cX1_isAnswered 1 = .ok (.iload_n 1, 1) := dk_27 (dk_at dksX1_isAnswered_0 1 rfl rfl)
theorem dX1_isAnswered_2 : decode cX1_isAnswered 2 = .ok (.invokevirtual 184, 3) := dk_182 0 184 (dk_at dksX1_isAnswered_0 2 rfl rfl)
theorem dX1_isAnswered_5 : decode cX1_isAnswered 5 = .ok (.ifCond .eq 42, 3) := dk_153 0 42 (dk_at dksX1_isAnswered_0 5 rfl rfl)
theorem dX1_isAnswered_8 : decode cX1_isAnswered 8 = .ok (.aload_n 0, 1) := dk_42 (dk_at dksX1_isAnswered_0 8 rfl rfl)
theorem dX1_isAnswered_9 : decode cX1_isAnswered 9 = .ok (.iload_n 2, 1) := dk_28 (dk_at dksX1_isAnswered_0 9 rfl rfl)
theorem dX1_isAnswered_10 : decode cX1_isAnswered 10 = .ok (.iload_n 3, 1) := dk_29 (dk_at dksX1_isAnswered_0 10 rfl rfl)
theorem dX1_isAnswered_11 : decode cX1_isAnswered 11 = .ok (.iload 4, 2) := dk_21 4 (dk_at dksX1_isAnswered_0 11 rfl rfl)
theorem dX1_isAnswered_13 : decode cX1_isAnswered 13 = .ok (.iload 5, 2) := dk_21 5 (dk_at dksX1_isAnswered_0 13 rfl rfl)
theorem dX1_isAnswered_15 : decode cX1_isAnswered 15 = .ok (.invokevirtual 146, 3) := dk_182 0 146 (dk_at dksX1_isAnswered_0 15 rfl rfl)
theorem dX1_isAnswered_18 : decode cX1_isAnswered 18 = .ok (.ifCond .eq 29, 3) := dk_153 0 29 (dk_at dksX1_isAnswered_0 18 rfl rfl)
theorem dX1_isAnswered_21 : decode cX1_isAnswered 21 = .ok (.aload_n 0, 1) := dk_42 (dk_at dksX1_isAnswered_0 21 rfl rfl)
theorem dX1_isAnswered_22 : decode cX1_isAnswered 22 = .ok (.aload_n 0, 1) := dk_42 (dk_at dksX1_isAnswered_0 22 rfl rfl)
theorem dX1_isAnswered_23 : decode cX1_isAnswered 23 = .ok (.getfield 31, 3) := dk_180 0 31 (dk_at dksX1_isAnswered_1 0 rfl rfl)
theorem dX1_isAnswered_26 : decode cX1_isAnswered 26 = .ok (.iload_n 1, 1) := dk_27 (dk_at dksX1_isAnswered_1 3 rfl rfl)
theorem dX1_isAnswered_27 : decode cX1_isAnswered 27 = .ok (.aaload, 1) := dk_50 (dk_at dksX1_isAnswered_1 4 rfl rfl)
theorem dX1_isAnswered_28 : decode cX1_isAnswered 28 = .ok (.aload_n 0, 1) := dk_42 (dk_at dksX1_isAnswered_1 5 rfl rfl)
theorem dX1_isAnswered_29 : decode cX1_isAnswered 29 = .ok (.getfield 27, 3) := dk_180 0 27 (dk_at dksX1_isAnswered_1 6 rfl rfl)
theorem dX1_isAnswered_32 : decode cX1_isAnswered 32 = .ok (.iload_n 2, 1) := dk_28 (dk_at dksX1_isAnswered_1 9 rfl rfl)
theorem dX1_isAnswered_33 : decode cX1_isAnswered 33 = .ok (.aaload, 1) := dk_50 (dk_at dksX1_isAnswered_1 10 rfl rfl)
theorem dX1_isAnswered_34 : decode cX1_isAnswered 34 = .ok (.iload_n 3, 1) := dk_29 (dk_at dksX1_isAnswered_1 11 rfl rfl)
theorem dX1_isAnswered_35 : decode cX1_isAnswered 35 = .ok (.iload 4, 2) := dk_21 4 (dk_at dksX1_isAnswered_1 12 rfl rfl)
theorem dX1_isAnswered_37 : decode cX1_isAnswered 37 = .ok (.invokevirtual 187, 3) := dk_182 0 187 (dk_at dksX1_isAnswered_1 14 rfl rfl)
theorem dX1_isAnswered_40 : decode cX1_isAnswered 40 = .ok (.ifCond .eq 7, 3) := dk_153 0 7 (dk_at dksX1_isAnswered_1 17 rfl rfl)
theorem dX1_isAnswered_43 : decode cX1_isAnswered 43 = .ok (.iconst 1, 1) := dk_4 (dk_at dksX1_isAnswered_1 20 rfl rfl)
theorem dX1_isAnswered_44 : decode cX1_isAnswered 44 = .ok (.goto 4, 3) := dk_167 0 4 (dk_at dksX1_isAnswered_1 21 rfl rfl)
theorem dX1_isAnswered_47 : decode cX1_isAnswered 47 = .ok (.iconst 0, 1) := dk_3 (dk_at dksX1_isAnswered_2 0 rfl rfl)
theorem dX1_isAnswered_48 : decode cX1_isAnswered 48 = .ok (.ireturn, 1) := dk_172 (dk_at dksX1_isAnswered_2 1 rfl rfl)
abbrev cX1_isHead : ByteArray := prog_1_method_10_code
def yX1_isHead : MethodName := ⟨RX1, "isHead", "(I)Z"⟩
def dkwX1_isHead_0 : List UInt8 := [27, 155, 0, 15, 27, 42, 180, 0, 118, 162, 0, 7, 4, 167, 0, 4, 3, 172]
abbrev dktX1_isHead_0 : List UInt8 := dkwX1_isHead_0 ++ []
theorem dksX1_isHead_0 : cX1_isHead.data.toList.drop 0 = dktX1_isHead_0 := by decide +kernel
theorem dX1_isHead_0 : decode cX1_isHead 0 = .ok (.iload_n 1, 1) := dk_27 (dk_at dksX1_isHead_0 0 rfl rfl)
theorem dX1_isHead_1 : decode cX1_isHead 1 = .ok (.ifCond .lt 15, 3) := dk_155 0 15 (dk_at dksX1_isHead_0 1 rfl rfl)
theorem dX1_isHead_4 : decode cX1_isHead 4 = .ok (.iload_n 1, 1) := dk_27 (dk_at dksX1_isHead_0 4 rfl rfl)
theorem dX1_isHead_5 : decode cX1_isHead 5 = .ok (.aload_n 0, 1) := dk_42 (dk_at dksX1_isHead_0 5 rfl rfl)
theorem dX1_isHead_6 : decode cX1_isHead 6 = .ok (.getfield 118, 3) := dk_180 0 118 (dk_at dksX1_isHead_0 6 rfl rfl)
theorem dX1_isHead_9 : decode cX1_isHead 9 = .ok (.if_icmp .ge 7, 3) := dk_162 0 7 (dk_at dksX1_isHead_0 9 rfl rfl)
theorem dX1_isHead_12 : decode cX1_isHead 12 = .ok (.iconst 1, 1) := dk_4 (dk_at dksX1_isHead_0 12 rfl rfl)
theorem dX1_isHead_13 : decode cX1_isHead 13 = .ok (.goto 4, 3) := dk_167 0 4 (dk_at dksX1_isHead_0 13 rfl rfl)
theorem dX1_isHead_16 : decode cX1_isHead 16 = .ok (.iconst 0, 1) := dk_3 (dk_at dksX1_isHead_0 16 rfl rfl)
theorem dX1_isHead_17 : decode cX1_isHead 17 = .ok (.ireturn, 1) := dk_172 (dk_at dksX1_isHead_0 17 rfl rfl)
abbrev cX1_hasWay : ByteArray := prog_1_method_18_code
def yX1_hasWay : MethodName := ⟨RX1, "hasWay", "(LDayBoy$Head;LDayBoy$Almanac;II)Z"⟩
def dkwX1_hasWay_1 : List UInt8 := [182, 0, 140, 153, 0, 7, 4, 167, 0, 4, 3, 172]
abbrev dktX1_hasWay_1 : List UInt8 := dkwX1_hasWay_1 ++ []
def dkwX1_hasWay_0 : List UInt8 := [43, 29, 21, 4, 182, 0, 174, 153, 0, 26, 44, 43, 29, 182, 0, 178, 43, 21, 4, 182, 0, 181, 4]
abbrev dktX1_hasWay_0 : List UInt8 := dkwX1_hasWay_0 ++ dktX1_hasWay_1
theorem dksX1_hasWay_0 : cX1_hasWay.data.toList.drop 0 = dktX1_hasWay_0 := by decide +kernel
theorem dksX1_hasWay_1 : cX1_hasWay.data.toList.drop 23 = dktX1_hasWay_1 := dk_seg dksX1_hasWay_0 23 rfl rfl
theorem dX1_hasWay_0 : decode cX1_hasWay 0 = .ok (.aload_n 1, 1) := dk_43 (dk_at dksX1_hasWay_0 0 rfl rfl)
theorem dX1_hasWay_1 : decode cX1_hasWay 1 = .ok (.iload_n 3, 1) := dk_29 (dk_at dksX1_hasWay_0 1 rfl rfl)
theorem dX1_hasWay_2 : decode cX1_hasWay 2 = .ok (.iload 4, 2) := dk_21 4 (dk_at dksX1_hasWay_0 2 rfl rfl)
theorem dX1_hasWay_4 : decode cX1_hasWay 4 = .ok (.invokevirtual 174, 3) := dk_182 0 174 (dk_at dksX1_hasWay_0 4 rfl rfl)
theorem dX1_hasWay_7 : decode cX1_hasWay 7 = .ok (.ifCond .eq 26, 3) := dk_153 0 26 (dk_at dksX1_hasWay_0 7 rfl rfl)
theorem dX1_hasWay_10 : decode cX1_hasWay 10 = .ok (.aload_n 2, 1) := dk_44 (dk_at dksX1_hasWay_0 10 rfl rfl)
theorem dX1_hasWay_11 : decode cX1_hasWay 11 = .ok (.aload_n 1, 1) := dk_43 (dk_at dksX1_hasWay_0 11 rfl rfl)
theorem dX1_hasWay_12 : decode cX1_hasWay 12 = .ok (.iload_n 3, 1) := dk_29 (dk_at dksX1_hasWay_0 12 rfl rfl)
theorem dX1_hasWay_13 : decode cX1_hasWay 13 = .ok (.invokevirtual 178, 3) := dk_182 0 178 (dk_at dksX1_hasWay_0 13 rfl rfl)
theorem dX1_hasWay_16 : decode cX1_hasWay 16 = .ok (.aload_n 1, 1) := dk_43 (dk_at dksX1_hasWay_0 16 rfl rfl)
theorem dX1_hasWay_17 : decode cX1_hasWay 17 = .ok (.iload 4, 2) := dk_21 4 (dk_at dksX1_hasWay_0 17 rfl rfl)
theorem dX1_hasWay_19 : decode cX1_hasWay 19 = .ok (.invokevirtual 181, 3) := dk_182 0 181 (dk_at dksX1_hasWay_0 19 rfl rfl)
theorem dX1_hasWay_22 : decode cX1_hasWay 22 = .ok (.iconst 1, 1) := dk_4 (dk_at dksX1_hasWay_0 22 rfl rfl)
theorem dX1_hasWay_23 : decode cX1_hasWay 23 = .ok (.invokevirtual 140, 3) := dk_182 0 140 (dk_at dksX1_hasWay_1 0 rfl rfl)
theorem dX1_hasWay_26 : decode cX1_hasWay 26 = .ok (.ifCond .eq 7, 3) := dk_153 0 7 (dk_at dksX1_hasWay_1 3 rfl rfl)
theorem dX1_hasWay_29 : decode cX1_hasWay 29 = .ok (.iconst 1, 1) := dk_4 (dk_at dksX1_hasWay_1 6 rfl rfl)
theorem dX1_hasWay_30 : decode cX1_hasWay 30 = .ok (.goto 4, 3) := dk_167 0 4 (dk_at dksX1_hasWay_1 7 rfl rfl)
theorem dX1_hasWay_33 : decode cX1_hasWay 33 = .ok (.iconst 0, 1) := dk_3 (dk_at dksX1_hasWay_1 10 rfl rfl)
theorem dX1_hasWay_34 : decode cX1_hasWay 34 = .ok (.ireturn, 1) := dk_172 (dk_at dksX1_hasWay_1 11 rfl rfl)
abbrev cX1_answers : ByteArray := prog_1_method_26_code
def yX1_answers : MethodName := ⟨RX1, "answers", "(IIIIII)I"⟩
def dkwX1_answers_6 : List UInt8 := [182, 0, 207, 184, 0, 233, 172, 25, 7, 25, 8, 29, 21, 4, 184, 0, 236, 172]
abbrev dktX1_answers_6 : List UInt8 := dkwX1_answers_6 ++ []
def dkwX1_answers_5 : List UInt8 := [184, 0, 230, 172, 25, 7, 25, 8, 29, 21, 4, 21, 5, 184, 0, 226, 25, 8, 29, 21, 4, 21, 5]
abbrev dktX1_answers_5 : List UInt8 := dkwX1_answers_5 ++ dktX1_answers_6
def dkwX1_answers_4 : List UInt8 := [25, 7, 25, 8, 29, 21, 4, 21, 5, 184, 0, 226, 172, 25, 7, 25, 8, 29, 21, 4, 21, 5]
abbrev dktX1_answers_4 : List UInt8 := dkwX1_answers_4 ++ dktX1_answers_5
def dkwX1_answers_3 : List UInt8 := [170, 0, 0, 0, 0, 0, 79, 0, 0, 0, 0, 0, 0, 0, 2, 0, 0, 0, 27, 0, 0, 0, 40, 0, 0, 0, 53]
abbrev dktX1_answers_3 : List UInt8 := dkwX1_answers_3 ++ dktX1_answers_4
def dkwX1_answers_2 : List UInt8 := [21, 6]
abbrev dktX1_answers_2 : List UInt8 := dkwX1_answers_2 ++ dktX1_answers_3
def dkwX1_answers_1 : List UInt8 := [154, 0, 7, 17, 252, 24, 172, 42, 180, 0, 31, 27, 50, 58, 7, 42, 180, 0, 27, 28, 50, 58, 8]
abbrev dktX1_answers_1 : List UInt8 := dkwX1_answers_1 ++ dktX1_answers_2
def dkwX1_answers_0 : List UInt8 := [42, 27, 28, 29, 21, 4, 21, 5, 182, 0, 191, 153, 0, 16, 21, 6, 133, 9, 20, 0, 157, 184, 0, 89]
abbrev dktX1_answers_0 : List UInt8 := dkwX1_answers_0 ++ dktX1_answers_1
theorem dksX1_answers_0 : cX1_answers.data.toList.drop 0 = dktX1_answers_0 := by decide +kernel
theorem dksX1_answers_1 : cX1_answers.data.toList.drop 24 = dktX1_answers_1 := dk_seg dksX1_answers_0 24 rfl rfl
theorem dksX1_answers_2 : cX1_answers.data.toList.drop 47 = dktX1_answers_2 := dk_seg dksX1_answers_1 23 rfl rfl
theorem dksX1_answers_3 : cX1_answers.data.toList.drop 49 = dktX1_answers_3 := dk_seg dksX1_answers_2 2 rfl rfl
theorem dksX1_answers_4 : cX1_answers.data.toList.drop 76 = dktX1_answers_4 := dk_seg dksX1_answers_3 27 rfl rfl
theorem dksX1_answers_5 : cX1_answers.data.toList.drop 98 = dktX1_answers_5 := dk_seg dksX1_answers_4 22 rfl rfl
theorem dksX1_answers_6 : cX1_answers.data.toList.drop 121 = dktX1_answers_6 := dk_seg dksX1_answers_5 23 rfl rfl
theorem dX1_answers_0 : decode cX1_answers 0 = .ok (.aload_n 0, 1) := dk_42 (dk_at dksX1_answers_0 0 rfl rfl)
theorem dX1_answers_1 : decode cX1_answers 1 = .ok (.iload_n 1, 1) := dk_27 (dk_at dksX1_answers_0 1 rfl rfl)
theorem dX1_answers_2 : decode cX1_answers 2 = .ok (.iload_n 2, 1) := dk_28 (dk_at dksX1_answers_0 2 rfl rfl)
theorem dX1_answers_3 : decode cX1_answers 3 = .ok (.iload_n 3, 1) := dk_29 (dk_at dksX1_answers_0 3 rfl rfl)
theorem dX1_answers_4 : decode cX1_answers 4 = .ok (.iload 4, 2) := dk_21 4 (dk_at dksX1_answers_0 4 rfl rfl)
theorem dX1_answers_6 : decode cX1_answers 6 = .ok (.iload 5, 2) := dk_21 5 (dk_at dksX1_answers_0 6 rfl rfl)
theorem dX1_answers_8 : decode cX1_answers 8 = .ok (.invokevirtual 191, 3) := dk_182 0 191 (dk_at dksX1_answers_0 8 rfl rfl)
theorem dX1_answers_11 : decode cX1_answers 11 = .ok (.ifCond .eq 16, 3) := dk_153 0 16 (dk_at dksX1_answers_0 11 rfl rfl)
theorem dX1_answers_14 : decode cX1_answers 14 = .ok (.iload 6, 2) := dk_21 6 (dk_at dksX1_answers_0 14 rfl rfl)
theorem dX1_answers_16 : decode cX1_answers 16 = .ok (.i2l, 1) := dk_133 (dk_at dksX1_answers_0 16 rfl rfl)
theorem dX1_answers_17 : decode cX1_answers 17 = .ok (.lconst 0, 1) := dk_9 (dk_at dksX1_answers_0 17 rfl rfl)
theorem dX1_answers_18 : decode cX1_answers 18 = .ok (.ldc2_w 157, 3) := dk_20 0 157 (dk_at dksX1_answers_0 18 rfl rfl)
theorem dX1_answers_21 : decode cX1_answers 21 = .ok (.invokestatic 89, 3) := dk_184 0 89 (dk_at dksX1_answers_0 21 rfl rfl)
theorem dX1_answers_24 : decode cX1_answers 24 = .ok (.ifCond .ne 7, 3) := dk_154 0 7 (dk_at dksX1_answers_1 0 rfl rfl)
theorem dX1_answers_27 : decode cX1_answers 27 = .ok (.sipush (-1000), 3) := dk_17 252 24 (dk_at dksX1_answers_1 3 rfl rfl)
theorem dX1_answers_30 : decode cX1_answers 30 = .ok (.ireturn, 1) := dk_172 (dk_at dksX1_answers_1 6 rfl rfl)
theorem dX1_answers_31 : decode cX1_answers 31 = .ok (.aload_n 0, 1) := dk_42 (dk_at dksX1_answers_1 7 rfl rfl)
theorem dX1_answers_32 : decode cX1_answers 32 = .ok (.getfield 31, 3) := dk_180 0 31 (dk_at dksX1_answers_1 8 rfl rfl)
theorem dX1_answers_35 : decode cX1_answers 35 = .ok (.iload_n 1, 1) := dk_27 (dk_at dksX1_answers_1 11 rfl rfl)
theorem dX1_answers_36 : decode cX1_answers 36 = .ok (.aaload, 1) := dk_50 (dk_at dksX1_answers_1 12 rfl rfl)
theorem dX1_answers_37 : decode cX1_answers 37 = .ok (.astore 7, 2) := dk_58 7 (dk_at dksX1_answers_1 13 rfl rfl)
theorem dX1_answers_39 : decode cX1_answers 39 = .ok (.aload_n 0, 1) := dk_42 (dk_at dksX1_answers_1 15 rfl rfl)
theorem dX1_answers_40 : decode cX1_answers 40 = .ok (.getfield 27, 3) := dk_180 0 27 (dk_at dksX1_answers_1 16 rfl rfl)
theorem dX1_answers_43 : decode cX1_answers 43 = .ok (.iload_n 2, 1) := dk_28 (dk_at dksX1_answers_1 19 rfl rfl)
theorem dX1_answers_44 : decode cX1_answers 44 = .ok (.aaload, 1) := dk_50 (dk_at dksX1_answers_1 20 rfl rfl)
theorem dX1_answers_45 : decode cX1_answers 45 = .ok (.astore 8, 2) := dk_58 8 (dk_at dksX1_answers_1 21 rfl rfl)
theorem dX1_answers_47 : decode cX1_answers 47 = .ok (.iload 6, 2) := dk_21 6 (dk_at dksX1_answers_2 0 rfl rfl)
theorem dX1_answers_49 : decode cX1_answers 49 = .ok (.tableswitch 79 0 2 #[27, 40, 53], 27) := by decide +kernel
theorem dX1_answers_76 : decode cX1_answers 76 = .ok (.aload 7, 2) := dk_25 7 (dk_at dksX1_answers_4 0 rfl rfl)
theorem dX1_answers_78 : decode cX1_answers 78 = .ok (.aload 8, 2) := dk_25 8 (dk_at dksX1_answers_4 2 rfl rfl)
theorem dX1_answers_80 : decode cX1_answers 80 = .ok (.iload_n 3, 1) := dk_29 (dk_at dksX1_answers_4 4 rfl rfl)
theorem dX1_answers_81 : decode cX1_answers 81 = .ok (.iload 4, 2) := dk_21 4 (dk_at dksX1_answers_4 5 rfl rfl)
theorem dX1_answers_83 : decode cX1_answers 83 = .ok (.iload 5, 2) := dk_21 5 (dk_at dksX1_answers_4 7 rfl rfl)
theorem dX1_answers_85 : decode cX1_answers 85 = .ok (.invokestatic 226, 3) := dk_184 0 226 (dk_at dksX1_answers_4 9 rfl rfl)
theorem dX1_answers_88 : decode cX1_answers 88 = .ok (.ireturn, 1) := dk_172 (dk_at dksX1_answers_4 12 rfl rfl)
theorem dX1_answers_89 : decode cX1_answers 89 = .ok (.aload 7, 2) := dk_25 7 (dk_at dksX1_answers_4 13 rfl rfl)
theorem dX1_answers_91 : decode cX1_answers 91 = .ok (.aload 8, 2) := dk_25 8 (dk_at dksX1_answers_4 15 rfl rfl)
theorem dX1_answers_93 : decode cX1_answers 93 = .ok (.iload_n 3, 1) := dk_29 (dk_at dksX1_answers_4 17 rfl rfl)
theorem dX1_answers_94 : decode cX1_answers 94 = .ok (.iload 4, 2) := dk_21 4 (dk_at dksX1_answers_4 18 rfl rfl)
theorem dX1_answers_96 : decode cX1_answers 96 = .ok (.iload 5, 2) := dk_21 5 (dk_at dksX1_answers_4 20 rfl rfl)
theorem dX1_answers_98 : decode cX1_answers 98 = .ok (.invokestatic 230, 3) := dk_184 0 230 (dk_at dksX1_answers_5 0 rfl rfl)
theorem dX1_answers_101 : decode cX1_answers 101 = .ok (.ireturn, 1) := dk_172 (dk_at dksX1_answers_5 3 rfl rfl)
theorem dX1_answers_102 : decode cX1_answers 102 = .ok (.aload 7, 2) := dk_25 7 (dk_at dksX1_answers_5 4 rfl rfl)
theorem dX1_answers_104 : decode cX1_answers 104 = .ok (.aload 8, 2) := dk_25 8 (dk_at dksX1_answers_5 6 rfl rfl)
theorem dX1_answers_106 : decode cX1_answers 106 = .ok (.iload_n 3, 1) := dk_29 (dk_at dksX1_answers_5 8 rfl rfl)
theorem dX1_answers_107 : decode cX1_answers 107 = .ok (.iload 4, 2) := dk_21 4 (dk_at dksX1_answers_5 9 rfl rfl)
theorem dX1_answers_109 : decode cX1_answers 109 = .ok (.iload 5, 2) := dk_21 5 (dk_at dksX1_answers_5 11 rfl rfl)
theorem dX1_answers_111 : decode cX1_answers 111 = .ok (.invokestatic 226, 3) := dk_184 0 226 (dk_at dksX1_answers_5 13 rfl rfl)
theorem dX1_answers_114 : decode cX1_answers 114 = .ok (.aload 8, 2) := dk_25 8 (dk_at dksX1_answers_5 16 rfl rfl)
theorem dX1_answers_116 : decode cX1_answers 116 = .ok (.iload_n 3, 1) := dk_29 (dk_at dksX1_answers_5 18 rfl rfl)
theorem dX1_answers_117 : decode cX1_answers 117 = .ok (.iload 4, 2) := dk_21 4 (dk_at dksX1_answers_5 19 rfl rfl)
theorem dX1_answers_119 : decode cX1_answers 119 = .ok (.iload 5, 2) := dk_21 5 (dk_at dksX1_answers_5 21 rfl rfl)
theorem dX1_answers_121 : decode cX1_answers 121 = .ok (.invokevirtual 207, 3) := dk_182 0 207 (dk_at dksX1_answers_6 0 rfl rfl)
theorem dX1_answers_124 : decode cX1_answers 124 = .ok (.invokestatic 233, 3) := dk_184 0 233 (dk_at dksX1_answers_6 3 rfl rfl)
theorem dX1_answers_127 : decode cX1_answers 127 = .ok (.ireturn, 1) := dk_172 (dk_at dksX1_answers_6 6 rfl rfl)
theorem dX1_answers_128 : decode cX1_answers 128 = .ok (.aload 7, 2) := dk_25 7 (dk_at dksX1_answers_6 7 rfl rfl)
theorem dX1_answers_130 : decode cX1_answers 130 = .ok (.aload 8, 2) := dk_25 8 (dk_at dksX1_answers_6 9 rfl rfl)
theorem dX1_answers_132 : decode cX1_answers 132 = .ok (.iload_n 3, 1) := dk_29 (dk_at dksX1_answers_6 11 rfl rfl)
theorem dX1_answers_133 : decode cX1_answers 133 = .ok (.iload 4, 2) := dk_21 4 (dk_at dksX1_answers_6 12 rfl rfl)
theorem dX1_answers_135 : decode cX1_answers 135 = .ok (.invokestatic 236, 3) := dk_184 0 236 (dk_at dksX1_answers_6 14 rfl rfl)
theorem dX1_answers_138 : decode cX1_answers 138 = .ok (.ireturn, 1) := dk_172 (dk_at dksX1_answers_6 17 rfl rfl)
abbrev cX1_answerOf : ByteArray := prog_1_method_21_code
def yX1_answerOf : MethodName := ⟨RX1, "answerOf", "(LDayBoy$Head;LDayBoy$Almanac;III)I"⟩
def dkwX1_answerOf_0 : List UInt8 := [43, 42, 28, 182, 0, 178, 42, 29, 182, 0, 181, 4, 182, 0, 207, 21, 4, 96, 4, 100, 16, 7, 112, 172]
abbrev dktX1_answerOf_0 : List UInt8 := dkwX1_answerOf_0 ++ []
theorem dksX1_answerOf_0 : cX1_answerOf.data.toList.drop 0 = dktX1_answerOf_0 := by decide +kernel
theorem dX1_answerOf_0 : decode cX1_answerOf 0 = .ok (.aload_n 1, 1) := dk_43 (dk_at dksX1_answerOf_0 0 rfl rfl)
theorem dX1_answerOf_1 : decode cX1_answerOf 1 = .ok (.aload_n 0, 1) := dk_42 (dk_at dksX1_answerOf_0 1 rfl rfl)
theorem dX1_answerOf_2 : decode cX1_answerOf 2 = .ok (.iload_n 2, 1) := dk_28 (dk_at dksX1_answerOf_0 2 rfl rfl)
theorem dX1_answerOf_3 : decode cX1_answerOf 3 = .ok (.invokevirtual 178, 3) := dk_182 0 178 (dk_at dksX1_answerOf_0 3 rfl rfl)
theorem dX1_answerOf_6 : decode cX1_answerOf 6 = .ok (.aload_n 0, 1) := dk_42 (dk_at dksX1_answerOf_0 6 rfl rfl)
theorem dX1_answerOf_7 : decode cX1_answerOf 7 = .ok (.iload_n 3, 1) := dk_29 (dk_at dksX1_answerOf_0 7 rfl rfl)
theorem dX1_answerOf_8 : decode cX1_answerOf 8 = .ok (.invokevirtual 181, 3) := dk_182 0 181 (dk_at dksX1_answerOf_0 8 rfl rfl)
theorem dX1_answerOf_11 : decode cX1_answerOf 11 = .ok (.iconst 1, 1) := dk_4 (dk_at dksX1_answerOf_0 11 rfl rfl)
theorem dX1_answerOf_12 : decode cX1_answerOf 12 = .ok (.invokevirtual 207, 3) := dk_182 0 207 (dk_at dksX1_answerOf_0 12 rfl rfl)
theorem dX1_answerOf_15 : decode cX1_answerOf 15 = .ok (.iload 4, 2) := dk_21 4 (dk_at dksX1_answerOf_0 15 rfl rfl)
theorem dX1_answerOf_17 : decode cX1_answerOf 17 = .ok (.iadd, 1) := dk_96 (dk_at dksX1_answerOf_0 17 rfl rfl)
theorem dX1_answerOf_18 : decode cX1_answerOf 18 = .ok (.iconst 1, 1) := dk_4 (dk_at dksX1_answerOf_0 18 rfl rfl)
theorem dX1_answerOf_19 : decode cX1_answerOf 19 = .ok (.isub, 1) := dk_100 (dk_at dksX1_answerOf_0 19 rfl rfl)
theorem dX1_answerOf_20 : decode cX1_answerOf 20 = .ok (.bipush 7, 2) := dk_16 7 (dk_at dksX1_answerOf_0 20 rfl rfl)
theorem dX1_answerOf_22 : decode cX1_answerOf 22 = .ok (.irem, 1) := dk_112 (dk_at dksX1_answerOf_0 22 rfl rfl)
theorem dX1_answerOf_23 : decode cX1_answerOf 23 = .ok (.ireturn, 1) := dk_172 (dk_at dksX1_answerOf_0 23 rfl rfl)
abbrev cX1_tenthsOf : ByteArray := prog_1_method_22_code
def yX1_tenthsOf : MethodName := ⟨RX1, "tenthsOf", "(LDayBoy$Head;LDayBoy$Almanac;III)I"⟩
def dkwX1_tenthsOf_3 : List UInt8 := [5, 16, 29, 182, 0, 140, 153, 0, 12, 42, 180, 0, 210, 6, 46, 167, 0, 4, 3, 96, 172]
abbrev dktX1_tenthsOf_3 : List UInt8 := dkwX1_tenthsOf_3 ++ []
def dkwX1_tenthsOf_2 : List UInt8 := [180, 0, 210, 4, 46, 21, 4, 4, 100, 16, 7, 112, 104, 96, 54, 5, 21, 5, 43, 42, 28, 182, 0, 178]
abbrev dktX1_tenthsOf_2 : List UInt8 := dkwX1_tenthsOf_2 ++ dktX1_tenthsOf_3
def dkwX1_tenthsOf_1 : List UInt8 := [20, 0, 217, 109, 136, 96, 42, 180, 0, 210, 3, 46, 21, 4, 4, 100, 16, 7, 108, 104, 96, 42]
abbrev dktX1_tenthsOf_1 : List UInt8 := dkwX1_tenthsOf_1 ++ dktX1_tenthsOf_2
def dkwX1_tenthsOf_0 : List UInt8 := [42, 180, 0, 210, 5, 46, 42, 180, 0, 213, 28, 47, 20, 0, 217, 109, 136, 96, 42, 180, 0, 219, 29, 47]
abbrev dktX1_tenthsOf_0 : List UInt8 := dkwX1_tenthsOf_0 ++ dktX1_tenthsOf_1
theorem dksX1_tenthsOf_0 : cX1_tenthsOf.data.toList.drop 0 = dktX1_tenthsOf_0 := by decide +kernel
theorem dksX1_tenthsOf_1 : cX1_tenthsOf.data.toList.drop 24 = dktX1_tenthsOf_1 := dk_seg dksX1_tenthsOf_0 24 rfl rfl
theorem dksX1_tenthsOf_2 : cX1_tenthsOf.data.toList.drop 46 = dktX1_tenthsOf_2 := dk_seg dksX1_tenthsOf_1 22 rfl rfl
theorem dksX1_tenthsOf_3 : cX1_tenthsOf.data.toList.drop 70 = dktX1_tenthsOf_3 := dk_seg dksX1_tenthsOf_2 24 rfl rfl
theorem dX1_tenthsOf_0 : decode cX1_tenthsOf 0 = .ok (.aload_n 0, 1) := dk_42 (dk_at dksX1_tenthsOf_0 0 rfl rfl)
theorem dX1_tenthsOf_1 : decode cX1_tenthsOf 1 = .ok (.getfield 210, 3) := dk_180 0 210 (dk_at dksX1_tenthsOf_0 1 rfl rfl)
theorem dX1_tenthsOf_4 : decode cX1_tenthsOf 4 = .ok (.iconst 2, 1) := dk_5 (dk_at dksX1_tenthsOf_0 4 rfl rfl)
theorem dX1_tenthsOf_5 : decode cX1_tenthsOf 5 = .ok (.iaload, 1) := dk_46 (dk_at dksX1_tenthsOf_0 5 rfl rfl)
theorem dX1_tenthsOf_6 : decode cX1_tenthsOf 6 = .ok (.aload_n 0, 1) := dk_42 (dk_at dksX1_tenthsOf_0 6 rfl rfl)
theorem dX1_tenthsOf_7 : decode cX1_tenthsOf 7 = .ok (.getfield 213, 3) := dk_180 0 213 (dk_at dksX1_tenthsOf_0 7 rfl rfl)
theorem dX1_tenthsOf_10 : decode cX1_tenthsOf 10 = .ok (.iload_n 2, 1) := dk_28 (dk_at dksX1_tenthsOf_0 10 rfl rfl)
theorem dX1_tenthsOf_11 : decode cX1_tenthsOf 11 = .ok (.laload, 1) := dk_47 (dk_at dksX1_tenthsOf_0 11 rfl rfl)
theorem dX1_tenthsOf_12 : decode cX1_tenthsOf 12 = .ok (.ldc2_w 217, 3) := dk_20 0 217 (dk_at dksX1_tenthsOf_0 12 rfl rfl)
theorem dX1_tenthsOf_15 : decode cX1_tenthsOf 15 = .ok (.ldiv, 1) := dk_109 (dk_at dksX1_tenthsOf_0 15 rfl rfl)
theorem dX1_tenthsOf_16 : decode cX1_tenthsOf 16 = .ok (.l2i, 1) := dk_136 (dk_at dksX1_tenthsOf_0 16 rfl rfl)
theorem dX1_tenthsOf_17 : decode cX1_tenthsOf 17 = .ok (.iadd, 1) := dk_96 (dk_at dksX1_tenthsOf_0 17 rfl rfl)
theorem dX1_tenthsOf_18 : decode cX1_tenthsOf 18 = .ok (.aload_n 0, 1) := dk_42 (dk_at dksX1_tenthsOf_0 18 rfl rfl)
theorem dX1_tenthsOf_19 : decode cX1_tenthsOf 19 = .ok (.getfield 219, 3) := dk_180 0 219 (dk_at dksX1_tenthsOf_0 19 rfl rfl)
theorem dX1_tenthsOf_22 : decode cX1_tenthsOf 22 = .ok (.iload_n 3, 1) := dk_29 (dk_at dksX1_tenthsOf_0 22 rfl rfl)
theorem dX1_tenthsOf_23 : decode cX1_tenthsOf 23 = .ok (.laload, 1) := dk_47 (dk_at dksX1_tenthsOf_0 23 rfl rfl)
theorem dX1_tenthsOf_24 : decode cX1_tenthsOf 24 = .ok (.ldc2_w 217, 3) := dk_20 0 217 (dk_at dksX1_tenthsOf_1 0 rfl rfl)
theorem dX1_tenthsOf_27 : decode cX1_tenthsOf 27 = .ok (.ldiv, 1) := dk_109 (dk_at dksX1_tenthsOf_1 3 rfl rfl)
theorem dX1_tenthsOf_28 : decode cX1_tenthsOf 28 = .ok (.l2i, 1) := dk_136 (dk_at dksX1_tenthsOf_1 4 rfl rfl)
theorem dX1_tenthsOf_29 : decode cX1_tenthsOf 29 = .ok (.iadd, 1) := dk_96 (dk_at dksX1_tenthsOf_1 5 rfl rfl)
theorem dX1_tenthsOf_30 : decode cX1_tenthsOf 30 = .ok (.aload_n 0, 1) := dk_42 (dk_at dksX1_tenthsOf_1 6 rfl rfl)
theorem dX1_tenthsOf_31 : decode cX1_tenthsOf 31 = .ok (.getfield 210, 3) := dk_180 0 210 (dk_at dksX1_tenthsOf_1 7 rfl rfl)
theorem dX1_tenthsOf_34 : decode cX1_tenthsOf 34 = .ok (.iconst 0, 1) := dk_3 (dk_at dksX1_tenthsOf_1 10 rfl rfl)
theorem dX1_tenthsOf_35 : decode cX1_tenthsOf 35 = .ok (.iaload, 1) := dk_46 (dk_at dksX1_tenthsOf_1 11 rfl rfl)
theorem dX1_tenthsOf_36 : decode cX1_tenthsOf 36 = .ok (.iload 4, 2) := dk_21 4 (dk_at dksX1_tenthsOf_1 12 rfl rfl)
theorem dX1_tenthsOf_38 : decode cX1_tenthsOf 38 = .ok (.iconst 1, 1) := dk_4 (dk_at dksX1_tenthsOf_1 14 rfl rfl)
theorem dX1_tenthsOf_39 : decode cX1_tenthsOf 39 = .ok (.isub, 1) := dk_100 (dk_at dksX1_tenthsOf_1 15 rfl rfl)
theorem dX1_tenthsOf_40 : decode cX1_tenthsOf 40 = .ok (.bipush 7, 2) := dk_16 7 (dk_at dksX1_tenthsOf_1 16 rfl rfl)
theorem dX1_tenthsOf_42 : decode cX1_tenthsOf 42 = .ok (.idiv, 1) := dk_108 (dk_at dksX1_tenthsOf_1 18 rfl rfl)
theorem dX1_tenthsOf_43 : decode cX1_tenthsOf 43 = .ok (.imul, 1) := dk_104 (dk_at dksX1_tenthsOf_1 19 rfl rfl)
theorem dX1_tenthsOf_44 : decode cX1_tenthsOf 44 = .ok (.iadd, 1) := dk_96 (dk_at dksX1_tenthsOf_1 20 rfl rfl)
theorem dX1_tenthsOf_45 : decode cX1_tenthsOf 45 = .ok (.aload_n 0, 1) := dk_42 (dk_at dksX1_tenthsOf_1 21 rfl rfl)
theorem dX1_tenthsOf_46 : decode cX1_tenthsOf 46 = .ok (.getfield 210, 3) := dk_180 0 210 (dk_at dksX1_tenthsOf_2 0 rfl rfl)
theorem dX1_tenthsOf_49 : decode cX1_tenthsOf 49 = .ok (.iconst 1, 1) := dk_4 (dk_at dksX1_tenthsOf_2 3 rfl rfl)
theorem dX1_tenthsOf_50 : decode cX1_tenthsOf 50 = .ok (.iaload, 1) := dk_46 (dk_at dksX1_tenthsOf_2 4 rfl rfl)
theorem dX1_tenthsOf_51 : decode cX1_tenthsOf 51 = .ok (.iload 4, 2) := dk_21 4 (dk_at dksX1_tenthsOf_2 5 rfl rfl)
theorem dX1_tenthsOf_53 : decode cX1_tenthsOf 53 = .ok (.iconst 1, 1) := dk_4 (dk_at dksX1_tenthsOf_2 7 rfl rfl)
theorem dX1_tenthsOf_54 : decode cX1_tenthsOf 54 = .ok (.isub, 1) := dk_100 (dk_at dksX1_tenthsOf_2 8 rfl rfl)
theorem dX1_tenthsOf_55 : decode cX1_tenthsOf 55 = .ok (.bipush 7, 2) := dk_16 7 (dk_at dksX1_tenthsOf_2 9 rfl rfl)
theorem dX1_tenthsOf_57 : decode cX1_tenthsOf 57 = .ok (.irem, 1) := dk_112 (dk_at dksX1_tenthsOf_2 11 rfl rfl)
theorem dX1_tenthsOf_58 : decode cX1_tenthsOf 58 = .ok (.imul, 1) := dk_104 (dk_at dksX1_tenthsOf_2 12 rfl rfl)
theorem dX1_tenthsOf_59 : decode cX1_tenthsOf 59 = .ok (.iadd, 1) := dk_96 (dk_at dksX1_tenthsOf_2 13 rfl rfl)
theorem dX1_tenthsOf_60 : decode cX1_tenthsOf 60 = .ok (.istore 5, 2) := dk_54 5 (dk_at dksX1_tenthsOf_2 14 rfl rfl)
theorem dX1_tenthsOf_62 : decode cX1_tenthsOf 62 = .ok (.iload 5, 2) := dk_21 5 (dk_at dksX1_tenthsOf_2 16 rfl rfl)
theorem dX1_tenthsOf_64 : decode cX1_tenthsOf 64 = .ok (.aload_n 1, 1) := dk_43 (dk_at dksX1_tenthsOf_2 18 rfl rfl)
theorem dX1_tenthsOf_65 : decode cX1_tenthsOf 65 = .ok (.aload_n 0, 1) := dk_42 (dk_at dksX1_tenthsOf_2 19 rfl rfl)
theorem dX1_tenthsOf_66 : decode cX1_tenthsOf 66 = .ok (.iload_n 2, 1) := dk_28 (dk_at dksX1_tenthsOf_2 20 rfl rfl)
theorem dX1_tenthsOf_67 : decode cX1_tenthsOf 67 = .ok (.invokevirtual 178, 3) := dk_182 0 178 (dk_at dksX1_tenthsOf_2 21 rfl rfl)
theorem dX1_tenthsOf_70 : decode cX1_tenthsOf 70 = .ok (.iconst 2, 1) := dk_5 (dk_at dksX1_tenthsOf_3 0 rfl rfl)
theorem dX1_tenthsOf_71 : decode cX1_tenthsOf 71 = .ok (.bipush 29, 2) := dk_16 29 (dk_at dksX1_tenthsOf_3 1 rfl rfl)
theorem dX1_tenthsOf_73 : decode cX1_tenthsOf 73 = .ok (.invokevirtual 140, 3) := dk_182 0 140 (dk_at dksX1_tenthsOf_3 3 rfl rfl)
theorem dX1_tenthsOf_76 : decode cX1_tenthsOf 76 = .ok (.ifCond .eq 12, 3) := dk_153 0 12 (dk_at dksX1_tenthsOf_3 6 rfl rfl)
theorem dX1_tenthsOf_79 : decode cX1_tenthsOf 79 = .ok (.aload_n 0, 1) := dk_42 (dk_at dksX1_tenthsOf_3 9 rfl rfl)
theorem dX1_tenthsOf_80 : decode cX1_tenthsOf 80 = .ok (.getfield 210, 3) := dk_180 0 210 (dk_at dksX1_tenthsOf_3 10 rfl rfl)
theorem dX1_tenthsOf_83 : decode cX1_tenthsOf 83 = .ok (.iconst 3, 1) := dk_6 (dk_at dksX1_tenthsOf_3 13 rfl rfl)
theorem dX1_tenthsOf_84 : decode cX1_tenthsOf 84 = .ok (.iaload, 1) := dk_46 (dk_at dksX1_tenthsOf_3 14 rfl rfl)
theorem dX1_tenthsOf_85 : decode cX1_tenthsOf 85 = .ok (.goto 4, 3) := dk_167 0 4 (dk_at dksX1_tenthsOf_3 15 rfl rfl)
theorem dX1_tenthsOf_88 : decode cX1_tenthsOf 88 = .ok (.iconst 0, 1) := dk_3 (dk_at dksX1_tenthsOf_3 18 rfl rfl)
theorem dX1_tenthsOf_89 : decode cX1_tenthsOf 89 = .ok (.iadd, 1) := dk_96 (dk_at dksX1_tenthsOf_3 19 rfl rfl)
theorem dX1_tenthsOf_90 : decode cX1_tenthsOf 90 = .ok (.ireturn, 1) := dk_172 (dk_at dksX1_tenthsOf_3 20 rfl rfl)
abbrev cX1_slip : ByteArray := prog_1_method_23_code
def yX1_slip : MethodName := ⟨RX1, "slip", "(II)I"⟩
def dkwX1_slip_0 : List UInt8 := [26, 27, 100, 16, 10, 96, 16, 7, 112, 6, 100, 172]
abbrev dktX1_slip_0 : List UInt8 := dkwX1_slip_0 ++ []
theorem dksX1_slip_0 : cX1_slip.data.toList.drop 0 = dktX1_slip_0 := by decide +kernel
theorem dX1_slip_0 : decode cX1_slip 0 = .ok (.iload_n 0, 1) := dk_26 (dk_at dksX1_slip_0 0 rfl rfl)
theorem dX1_slip_1 : decode cX1_slip 1 = .ok (.iload_n 1, 1) := dk_27 (dk_at dksX1_slip_0 1 rfl rfl)
theorem dX1_slip_2 : decode cX1_slip 2 = .ok (.isub, 1) := dk_100 (dk_at dksX1_slip_0 2 rfl rfl)
theorem dX1_slip_3 : decode cX1_slip 3 = .ok (.bipush 10, 2) := dk_16 10 (dk_at dksX1_slip_0 3 rfl rfl)
theorem dX1_slip_5 : decode cX1_slip 5 = .ok (.iadd, 1) := dk_96 (dk_at dksX1_slip_0 5 rfl rfl)
theorem dX1_slip_6 : decode cX1_slip 6 = .ok (.bipush 7, 2) := dk_16 7 (dk_at dksX1_slip_0 6 rfl rfl)
theorem dX1_slip_8 : decode cX1_slip 8 = .ok (.irem, 1) := dk_112 (dk_at dksX1_slip_0 8 rfl rfl)
theorem dX1_slip_9 : decode cX1_slip 9 = .ok (.iconst 3, 1) := dk_6 (dk_at dksX1_slip_0 9 rfl rfl)
theorem dX1_slip_10 : decode cX1_slip 10 = .ok (.isub, 1) := dk_100 (dk_at dksX1_slip_0 10 rfl rfl)
theorem dX1_slip_11 : decode cX1_slip 11 = .ok (.ireturn, 1) := dk_172 (dk_at dksX1_slip_0 11 rfl rfl)
abbrev cX1_falseOf : ByteArray := prog_1_method_25_code
def yX1_falseOf : MethodName := ⟨RX1, "falseOf", "(LDayBoy$Head;LDayBoy$Almanac;II)I"⟩
def dkwX1_falseOf_5 : List UInt8 := [167, 255, 213, 2, 172]
abbrev dktX1_falseOf_5 : List UInt8 := dkwX1_falseOf_5 ++ []
def dkwX1_falseOf_4 : List UInt8 := [21, 5, 21, 6, 21, 7, 184, 0, 222, 154, 0, 6, 21, 4, 172, 21, 7, 54, 6, 132, 4, 1]
abbrev dktX1_falseOf_4 : List UInt8 := dkwX1_falseOf_4 ++ dktX1_falseOf_5
def dkwX1_falseOf_3 : List UInt8 := [54, 6, 42, 180, 0, 219, 21, 6, 47, 9, 148, 158, 0, 37, 42, 21, 6, 182, 0, 204, 54, 7, 43]
abbrev dktX1_falseOf_3 : List UInt8 := dkwX1_falseOf_3 ++ dktX1_falseOf_4
def dkwX1_falseOf_2 : List UInt8 := [159, 0, 6, 21, 4, 172, 21, 6, 54, 5, 132, 4, 1, 167, 255, 201, 42, 28, 182, 0, 178, 54, 5, 29]
abbrev dktX1_falseOf_2 : List UInt8 := dkwX1_falseOf_2 ++ dktX1_falseOf_3
def dkwX1_falseOf_1 : List UInt8 := [54, 6, 43, 21, 5, 182, 0, 171, 2, 159, 0, 18, 43, 21, 5, 182, 0, 171, 43, 21, 6, 182, 0, 171]
abbrev dktX1_falseOf_1 : List UInt8 := dkwX1_falseOf_1 ++ dktX1_falseOf_2
def dkwX1_falseOf_0 : List UInt8 := [3, 54, 4, 28, 54, 5, 42, 180, 0, 213, 21, 5, 47, 9, 148, 158, 0, 49, 42, 21, 5, 182, 0, 201]
abbrev dktX1_falseOf_0 : List UInt8 := dkwX1_falseOf_0 ++ dktX1_falseOf_1
theorem dksX1_falseOf_0 : cX1_falseOf.data.toList.drop 0 = dktX1_falseOf_0 := by decide +kernel
theorem dksX1_falseOf_1 : cX1_falseOf.data.toList.drop 24 = dktX1_falseOf_1 := dk_seg dksX1_falseOf_0 24 rfl rfl
theorem dksX1_falseOf_2 : cX1_falseOf.data.toList.drop 48 = dktX1_falseOf_2 := dk_seg dksX1_falseOf_1 24 rfl rfl
theorem dksX1_falseOf_3 : cX1_falseOf.data.toList.drop 72 = dktX1_falseOf_3 := dk_seg dksX1_falseOf_2 24 rfl rfl
theorem dksX1_falseOf_4 : cX1_falseOf.data.toList.drop 95 = dktX1_falseOf_4 := dk_seg dksX1_falseOf_3 23 rfl rfl
theorem dksX1_falseOf_5 : cX1_falseOf.data.toList.drop 117 = dktX1_falseOf_5 := dk_seg dksX1_falseOf_4 22 rfl rfl
theorem dX1_falseOf_0 : decode cX1_falseOf 0 = .ok (.iconst 0, 1) := dk_3 (dk_at dksX1_falseOf_0 0 rfl rfl)
theorem dX1_falseOf_1 : decode cX1_falseOf 1 = .ok (.istore 4, 2) := dk_54 4 (dk_at dksX1_falseOf_0 1 rfl rfl)
theorem dX1_falseOf_3 : decode cX1_falseOf 3 = .ok (.iload_n 2, 1) := dk_28 (dk_at dksX1_falseOf_0 3 rfl rfl)
theorem dX1_falseOf_4 : decode cX1_falseOf 4 = .ok (.istore 5, 2) := dk_54 5 (dk_at dksX1_falseOf_0 4 rfl rfl)
theorem dX1_falseOf_6 : decode cX1_falseOf 6 = .ok (.aload_n 0, 1) := dk_42 (dk_at dksX1_falseOf_0 6 rfl rfl)
theorem dX1_falseOf_7 : decode cX1_falseOf 7 = .ok (.getfield 213, 3) := dk_180 0 213 (dk_at dksX1_falseOf_0 7 rfl rfl)
theorem dX1_falseOf_10 : decode cX1_falseOf 10 = .ok (.iload 5, 2) := dk_21 5 (dk_at dksX1_falseOf_0 10 rfl rfl)
theorem dX1_falseOf_12 : decode cX1_falseOf 12 = .ok (.laload, 1) := dk_47 (dk_at dksX1_falseOf_0 12 rfl rfl)
theorem dX1_falseOf_13 : decode cX1_falseOf 13 = .ok (.lconst 0, 1) := dk_9 (dk_at dksX1_falseOf_0 13 rfl rfl)
theorem dX1_falseOf_14 : decode cX1_falseOf 14 = .ok (.lcmp, 1) := dk_148 (dk_at dksX1_falseOf_0 14 rfl rfl)
theorem dX1_falseOf_15 : decode cX1_falseOf 15 = .ok (.ifCond .le 49, 3) := dk_158 0 49 (dk_at dksX1_falseOf_0 15 rfl rfl)
theorem dX1_falseOf_18 : decode cX1_falseOf 18 = .ok (.aload_n 0, 1) := dk_42 (dk_at dksX1_falseOf_0 18 rfl rfl)
theorem dX1_falseOf_19 : decode cX1_falseOf 19 = .ok (.iload 5, 2) := dk_21 5 (dk_at dksX1_falseOf_0 19 rfl rfl)
theorem dX1_falseOf_21 : decode cX1_falseOf 21 = .ok (.invokevirtual 201, 3) := dk_182 0 201 (dk_at dksX1_falseOf_0 21 rfl rfl)
theorem dX1_falseOf_24 : decode cX1_falseOf 24 = .ok (.istore 6, 2) := dk_54 6 (dk_at dksX1_falseOf_1 0 rfl rfl)
theorem dX1_falseOf_26 : decode cX1_falseOf 26 = .ok (.aload_n 1, 1) := dk_43 (dk_at dksX1_falseOf_1 2 rfl rfl)
theorem dX1_falseOf_27 : decode cX1_falseOf 27 = .ok (.iload 5, 2) := dk_21 5 (dk_at dksX1_falseOf_1 3 rfl rfl)
theorem dX1_falseOf_29 : decode cX1_falseOf 29 = .ok (.invokevirtual 171, 3) := dk_182 0 171 (dk_at dksX1_falseOf_1 5 rfl rfl)
theorem dX1_falseOf_32 : decode cX1_falseOf 32 = .ok (.iconst (-1), 1) := dk_2 (dk_at dksX1_falseOf_1 8 rfl rfl)
theorem dX1_falseOf_33 : decode cX1_falseOf 33 = .ok (.if_icmp .eq 18, 3) := dk_159 0 18 (dk_at dksX1_falseOf_1 9 rfl rfl)
theorem dX1_falseOf_36 : decode cX1_falseOf 36 = .ok (.aload_n 1, 1) := dk_43 (dk_at dksX1_falseOf_1 12 rfl rfl)
theorem dX1_falseOf_37 : decode cX1_falseOf 37 = .ok (.iload 5, 2) := dk_21 5 (dk_at dksX1_falseOf_1 13 rfl rfl)
theorem dX1_falseOf_39 : decode cX1_falseOf 39 = .ok (.invokevirtual 171, 3) := dk_182 0 171 (dk_at dksX1_falseOf_1 15 rfl rfl)
theorem dX1_falseOf_42 : decode cX1_falseOf 42 = .ok (.aload_n 1, 1) := dk_43 (dk_at dksX1_falseOf_1 18 rfl rfl)
theorem dX1_falseOf_43 : decode cX1_falseOf 43 = .ok (.iload 6, 2) := dk_21 6 (dk_at dksX1_falseOf_1 19 rfl rfl)
theorem dX1_falseOf_45 : decode cX1_falseOf 45 = .ok (.invokevirtual 171, 3) := dk_182 0 171 (dk_at dksX1_falseOf_1 21 rfl rfl)
theorem dX1_falseOf_48 : decode cX1_falseOf 48 = .ok (.if_icmp .eq 6, 3) := dk_159 0 6 (dk_at dksX1_falseOf_2 0 rfl rfl)
theorem dX1_falseOf_51 : decode cX1_falseOf 51 = .ok (.iload 4, 2) := dk_21 4 (dk_at dksX1_falseOf_2 3 rfl rfl)
theorem dX1_falseOf_53 : decode cX1_falseOf 53 = .ok (.ireturn, 1) := dk_172 (dk_at dksX1_falseOf_2 5 rfl rfl)
theorem dX1_falseOf_54 : decode cX1_falseOf 54 = .ok (.iload 6, 2) := dk_21 6 (dk_at dksX1_falseOf_2 6 rfl rfl)
theorem dX1_falseOf_56 : decode cX1_falseOf 56 = .ok (.istore 5, 2) := dk_54 5 (dk_at dksX1_falseOf_2 8 rfl rfl)
theorem dX1_falseOf_58 : decode cX1_falseOf 58 = .ok (.iinc 4 1, 3) := dk_132 4 1 (dk_at dksX1_falseOf_2 10 rfl rfl)
theorem dX1_falseOf_61 : decode cX1_falseOf 61 = .ok (.goto (-55), 3) := dk_167 255 201 (dk_at dksX1_falseOf_2 13 rfl rfl)
theorem dX1_falseOf_64 : decode cX1_falseOf 64 = .ok (.aload_n 0, 1) := dk_42 (dk_at dksX1_falseOf_2 16 rfl rfl)
theorem dX1_falseOf_65 : decode cX1_falseOf 65 = .ok (.iload_n 2, 1) := dk_28 (dk_at dksX1_falseOf_2 17 rfl rfl)
theorem dX1_falseOf_66 : decode cX1_falseOf 66 = .ok (.invokevirtual 178, 3) := dk_182 0 178 (dk_at dksX1_falseOf_2 18 rfl rfl)
theorem dX1_falseOf_69 : decode cX1_falseOf 69 = .ok (.istore 5, 2) := dk_54 5 (dk_at dksX1_falseOf_2 21 rfl rfl)
theorem dX1_falseOf_71 : decode cX1_falseOf 71 = .ok (.iload_n 3, 1) := dk_29 (dk_at dksX1_falseOf_2 23 rfl rfl)
theorem dX1_falseOf_72 : decode cX1_falseOf 72 = .ok (.istore 6, 2) := dk_54 6 (dk_at dksX1_falseOf_3 0 rfl rfl)
theorem dX1_falseOf_74 : decode cX1_falseOf 74 = .ok (.aload_n 0, 1) := dk_42 (dk_at dksX1_falseOf_3 2 rfl rfl)
theorem dX1_falseOf_75 : decode cX1_falseOf 75 = .ok (.getfield 219, 3) := dk_180 0 219 (dk_at dksX1_falseOf_3 3 rfl rfl)
theorem dX1_falseOf_78 : decode cX1_falseOf 78 = .ok (.iload 6, 2) := dk_21 6 (dk_at dksX1_falseOf_3 6 rfl rfl)
theorem dX1_falseOf_80 : decode cX1_falseOf 80 = .ok (.laload, 1) := dk_47 (dk_at dksX1_falseOf_3 8 rfl rfl)
theorem dX1_falseOf_81 : decode cX1_falseOf 81 = .ok (.lconst 0, 1) := dk_9 (dk_at dksX1_falseOf_3 9 rfl rfl)
theorem dX1_falseOf_82 : decode cX1_falseOf 82 = .ok (.lcmp, 1) := dk_148 (dk_at dksX1_falseOf_3 10 rfl rfl)
theorem dX1_falseOf_83 : decode cX1_falseOf 83 = .ok (.ifCond .le 37, 3) := dk_158 0 37 (dk_at dksX1_falseOf_3 11 rfl rfl)
theorem dX1_falseOf_86 : decode cX1_falseOf 86 = .ok (.aload_n 0, 1) := dk_42 (dk_at dksX1_falseOf_3 14 rfl rfl)
theorem dX1_falseOf_87 : decode cX1_falseOf 87 = .ok (.iload 6, 2) := dk_21 6 (dk_at dksX1_falseOf_3 15 rfl rfl)
theorem dX1_falseOf_89 : decode cX1_falseOf 89 = .ok (.invokevirtual 204, 3) := dk_182 0 204 (dk_at dksX1_falseOf_3 17 rfl rfl)
theorem dX1_falseOf_92 : decode cX1_falseOf 92 = .ok (.istore 7, 2) := dk_54 7 (dk_at dksX1_falseOf_3 20 rfl rfl)
theorem dX1_falseOf_94 : decode cX1_falseOf 94 = .ok (.aload_n 1, 1) := dk_43 (dk_at dksX1_falseOf_3 22 rfl rfl)
theorem dX1_falseOf_95 : decode cX1_falseOf 95 = .ok (.iload 5, 2) := dk_21 5 (dk_at dksX1_falseOf_4 0 rfl rfl)
theorem dX1_falseOf_97 : decode cX1_falseOf 97 = .ok (.iload 6, 2) := dk_21 6 (dk_at dksX1_falseOf_4 2 rfl rfl)
theorem dX1_falseOf_99 : decode cX1_falseOf 99 = .ok (.iload 7, 2) := dk_21 7 (dk_at dksX1_falseOf_4 4 rfl rfl)
theorem dX1_falseOf_101 : decode cX1_falseOf 101 = .ok (.invokestatic 222, 3) := dk_184 0 222 (dk_at dksX1_falseOf_4 6 rfl rfl)
theorem dX1_falseOf_104 : decode cX1_falseOf 104 = .ok (.ifCond .ne 6, 3) := dk_154 0 6 (dk_at dksX1_falseOf_4 9 rfl rfl)
theorem dX1_falseOf_107 : decode cX1_falseOf 107 = .ok (.iload 4, 2) := dk_21 4 (dk_at dksX1_falseOf_4 12 rfl rfl)
theorem dX1_falseOf_109 : decode cX1_falseOf 109 = .ok (.ireturn, 1) := dk_172 (dk_at dksX1_falseOf_4 14 rfl rfl)
theorem dX1_falseOf_110 : decode cX1_falseOf 110 = .ok (.iload 7, 2) := dk_21 7 (dk_at dksX1_falseOf_4 15 rfl rfl)
theorem dX1_falseOf_112 : decode cX1_falseOf 112 = .ok (.istore 6, 2) := dk_54 6 (dk_at dksX1_falseOf_4 17 rfl rfl)
theorem dX1_falseOf_114 : decode cX1_falseOf 114 = .ok (.iinc 4 1, 3) := dk_132 4 1 (dk_at dksX1_falseOf_4 19 rfl rfl)
theorem dX1_falseOf_117 : decode cX1_falseOf 117 = .ok (.goto (-43), 3) := dk_167 255 213 (dk_at dksX1_falseOf_5 0 rfl rfl)
theorem dX1_falseOf_120 : decode cX1_falseOf 120 = .ok (.iconst (-1), 1) := dk_2 (dk_at dksX1_falseOf_5 3 rfl rfl)
theorem dX1_falseOf_121 : decode cX1_falseOf 121 = .ok (.ireturn, 1) := dk_172 (dk_at dksX1_falseOf_5 4 rfl rfl)
abbrev cX1_areAlike : ByteArray := prog_1_method_24_code
def yX1_areAlike : MethodName := ⟨RX1, "areAlike", "(LDayBoy$Almanac;III)Z"⟩
def dkwX1_areAlike_1 : List UInt8 := [182, 0, 207, 42, 27, 29, 4, 182, 0, 207, 160, 0, 7, 4, 167, 0, 4, 3, 172]
abbrev dktX1_areAlike_1 : List UInt8 := dkwX1_areAlike_1 ++ []
def dkwX1_areAlike_0 : List UInt8 := [42, 27, 28, 4, 182, 0, 140, 153, 0, 34, 42, 27, 29, 4, 182, 0, 140, 153, 0, 24, 42, 27, 28, 4]
abbrev dktX1_areAlike_0 : List UInt8 := dkwX1_areAlike_0 ++ dktX1_areAlike_1
theorem dksX1_areAlike_0 : cX1_areAlike.data.toList.drop 0 = dktX1_areAlike_0 := by decide +kernel
theorem dksX1_areAlike_1 : cX1_areAlike.data.toList.drop 24 = dktX1_areAlike_1 := dk_seg dksX1_areAlike_0 24 rfl rfl
theorem dX1_areAlike_0 : decode cX1_areAlike 0 = .ok (.aload_n 0, 1) := dk_42 (dk_at dksX1_areAlike_0 0 rfl rfl)
theorem dX1_areAlike_1 : decode cX1_areAlike 1 = .ok (.iload_n 1, 1) := dk_27 (dk_at dksX1_areAlike_0 1 rfl rfl)
theorem dX1_areAlike_2 : decode cX1_areAlike 2 = .ok (.iload_n 2, 1) := dk_28 (dk_at dksX1_areAlike_0 2 rfl rfl)
theorem dX1_areAlike_3 : decode cX1_areAlike 3 = .ok (.iconst 1, 1) := dk_4 (dk_at dksX1_areAlike_0 3 rfl rfl)
theorem dX1_areAlike_4 : decode cX1_areAlike 4 = .ok (.invokevirtual 140, 3) := dk_182 0 140 (dk_at dksX1_areAlike_0 4 rfl rfl)
theorem dX1_areAlike_7 : decode cX1_areAlike 7 = .ok (.ifCond .eq 34, 3) := dk_153 0 34 (dk_at dksX1_areAlike_0 7 rfl rfl)
theorem dX1_areAlike_10 : decode cX1_areAlike 10 = .ok (.aload_n 0, 1) := dk_42 (dk_at dksX1_areAlike_0 10 rfl rfl)
theorem dX1_areAlike_11 : decode cX1_areAlike 11 = .ok (.iload_n 1, 1) := dk_27 (dk_at dksX1_areAlike_0 11 rfl rfl)
theorem dX1_areAlike_12 : decode cX1_areAlike 12 = .ok (.iload_n 3, 1) := dk_29 (dk_at dksX1_areAlike_0 12 rfl rfl)
theorem dX1_areAlike_13 : decode cX1_areAlike 13 = .ok (.iconst 1, 1) := dk_4 (dk_at dksX1_areAlike_0 13 rfl rfl)
theorem dX1_areAlike_14 : decode cX1_areAlike 14 = .ok (.invokevirtual 140, 3) := dk_182 0 140 (dk_at dksX1_areAlike_0 14 rfl rfl)
theorem dX1_areAlike_17 : decode cX1_areAlike 17 = .ok (.ifCond .eq 24, 3) := dk_153 0 24 (dk_at dksX1_areAlike_0 17 rfl rfl)
theorem dX1_areAlike_20 : decode cX1_areAlike 20 = .ok (.aload_n 0, 1) := dk_42 (dk_at dksX1_areAlike_0 20 rfl rfl)
theorem dX1_areAlike_21 : decode cX1_areAlike 21 = .ok (.iload_n 1, 1) := dk_27 (dk_at dksX1_areAlike_0 21 rfl rfl)
theorem dX1_areAlike_22 : decode cX1_areAlike 22 = .ok (.iload_n 2, 1) := dk_28 (dk_at dksX1_areAlike_0 22 rfl rfl)
theorem dX1_areAlike_23 : decode cX1_areAlike 23 = .ok (.iconst 1, 1) := dk_4 (dk_at dksX1_areAlike_0 23 rfl rfl)
theorem dX1_areAlike_24 : decode cX1_areAlike 24 = .ok (.invokevirtual 207, 3) := dk_182 0 207 (dk_at dksX1_areAlike_1 0 rfl rfl)
theorem dX1_areAlike_27 : decode cX1_areAlike 27 = .ok (.aload_n 0, 1) := dk_42 (dk_at dksX1_areAlike_1 3 rfl rfl)
theorem dX1_areAlike_28 : decode cX1_areAlike 28 = .ok (.iload_n 1, 1) := dk_27 (dk_at dksX1_areAlike_1 4 rfl rfl)
theorem dX1_areAlike_29 : decode cX1_areAlike 29 = .ok (.iload_n 3, 1) := dk_29 (dk_at dksX1_areAlike_1 5 rfl rfl)
theorem dX1_areAlike_30 : decode cX1_areAlike 30 = .ok (.iconst 1, 1) := dk_4 (dk_at dksX1_areAlike_1 6 rfl rfl)
theorem dX1_areAlike_31 : decode cX1_areAlike 31 = .ok (.invokevirtual 207, 3) := dk_182 0 207 (dk_at dksX1_areAlike_1 7 rfl rfl)
theorem dX1_areAlike_34 : decode cX1_areAlike 34 = .ok (.if_icmp .ne 7, 3) := dk_160 0 7 (dk_at dksX1_areAlike_1 10 rfl rfl)
theorem dX1_areAlike_37 : decode cX1_areAlike 37 = .ok (.iconst 1, 1) := dk_4 (dk_at dksX1_areAlike_1 13 rfl rfl)
theorem dX1_areAlike_38 : decode cX1_areAlike 38 = .ok (.goto 4, 3) := dk_167 0 4 (dk_at dksX1_areAlike_1 14 rfl rfl)
theorem dX1_areAlike_41 : decode cX1_areAlike 41 = .ok (.iconst 0, 1) := dk_3 (dk_at dksX1_areAlike_1 17 rfl rfl)
theorem dX1_areAlike_42 : decode cX1_areAlike 42 = .ok (.ireturn, 1) := dk_172 (dk_at dksX1_areAlike_1 18 rfl rfl)
abbrev cX1_ask : ByteArray := prog_1_method_27_code
def yX1_ask : MethodName := ⟨RX1, "ask", "(IIIIIII)I"⟩
def dkwX1_ask_6 : List UInt8 := [180, 0, 240, 4, 100, 172]
abbrev dktX1_ask_6 : List UInt8 := dkwX1_ask_6 ++ []
def dkwX1_ask_5 : List UInt8 := [21, 5, 182, 0, 153, 21, 6, 21, 7, 183, 0, 250, 83, 42, 89, 180, 0, 240, 4, 96, 181, 0, 240, 42]
abbrev dktX1_ask_5 : List UInt8 := dkwX1_ask_5 ++ dktX1_ask_6
def dkwX1_ask_4 : List UInt8 := [180, 0, 240, 187, 0, 42, 89, 27, 28, 29, 21, 4, 21, 5, 42, 180, 0, 27, 28, 50, 29, 21, 4]
abbrev dktX1_ask_4 : List UInt8 := dkwX1_ask_4 ++ dktX1_ask_5
def dkwX1_ask_3 : List UInt8 := [180, 0, 44, 42, 180, 0, 240, 4, 100, 50, 180, 0, 247, 162, 0, 5, 2, 172, 42, 180, 0, 44, 42]
abbrev dktX1_ask_3 : List UInt8 := dkwX1_ask_3 ++ dktX1_ask_4
def dkwX1_ask_2 : List UInt8 := [21, 7, 133, 9, 20, 0, 144, 184, 0, 89, 154, 0, 5, 2, 172, 42, 180, 0, 240, 158, 0, 23, 27, 42]
abbrev dktX1_ask_2 : List UInt8 := dkwX1_ask_2 ++ dktX1_ask_3
def dkwX1_ask_1 : List UInt8 := [21, 4, 21, 5, 182, 0, 146, 153, 0, 29, 21, 6, 133, 9, 20, 0, 245, 184, 0, 89, 153, 0, 16]
abbrev dktX1_ask_1 : List UInt8 := dkwX1_ask_1 ++ dktX1_ask_2
def dkwX1_ask_0 : List UInt8 := [42, 180, 0, 240, 16, 60, 159, 0, 54, 27, 133, 9, 20, 0, 243, 184, 0, 89, 153, 0, 42, 42, 28, 29]
abbrev dktX1_ask_0 : List UInt8 := dkwX1_ask_0 ++ dktX1_ask_1
theorem dksX1_ask_0 : cX1_ask.data.toList.drop 0 = dktX1_ask_0 := by decide +kernel
theorem dksX1_ask_1 : cX1_ask.data.toList.drop 24 = dktX1_ask_1 := dk_seg dksX1_ask_0 24 rfl rfl
theorem dksX1_ask_2 : cX1_ask.data.toList.drop 47 = dktX1_ask_2 := dk_seg dksX1_ask_1 23 rfl rfl
theorem dksX1_ask_3 : cX1_ask.data.toList.drop 71 = dktX1_ask_3 := dk_seg dksX1_ask_2 24 rfl rfl
theorem dksX1_ask_4 : cX1_ask.data.toList.drop 94 = dktX1_ask_4 := dk_seg dksX1_ask_3 23 rfl rfl
theorem dksX1_ask_5 : cX1_ask.data.toList.drop 117 = dktX1_ask_5 := dk_seg dksX1_ask_4 23 rfl rfl
theorem dksX1_ask_6 : cX1_ask.data.toList.drop 141 = dktX1_ask_6 := dk_seg dksX1_ask_5 24 rfl rfl
theorem dX1_ask_0 : decode cX1_ask 0 = .ok (.aload_n 0, 1) := dk_42 (dk_at dksX1_ask_0 0 rfl rfl)
theorem dX1_ask_1 : decode cX1_ask 1 = .ok (.getfield 240, 3) := dk_180 0 240 (dk_at dksX1_ask_0 1 rfl rfl)
theorem dX1_ask_4 : decode cX1_ask 4 = .ok (.bipush 60, 2) := dk_16 60 (dk_at dksX1_ask_0 4 rfl rfl)
theorem dX1_ask_6 : decode cX1_ask 6 = .ok (.if_icmp .eq 54, 3) := dk_159 0 54 (dk_at dksX1_ask_0 6 rfl rfl)
theorem dX1_ask_9 : decode cX1_ask 9 = .ok (.iload_n 1, 1) := dk_27 (dk_at dksX1_ask_0 9 rfl rfl)
theorem dX1_ask_10 : decode cX1_ask 10 = .ok (.i2l, 1) := dk_133 (dk_at dksX1_ask_0 10 rfl rfl)
theorem dX1_ask_11 : decode cX1_ask 11 = .ok (.lconst 0, 1) := dk_9 (dk_at dksX1_ask_0 11 rfl rfl)
theorem dX1_ask_12 : decode cX1_ask 12 = .ok (.ldc2_w 243, 3) := dk_20 0 243 (dk_at dksX1_ask_0 12 rfl rfl)
theorem dX1_ask_15 : decode cX1_ask 15 = .ok (.invokestatic 89, 3) := dk_184 0 89 (dk_at dksX1_ask_0 15 rfl rfl)
theorem dX1_ask_18 : decode cX1_ask 18 = .ok (.ifCond .eq 42, 3) := dk_153 0 42 (dk_at dksX1_ask_0 18 rfl rfl)
theorem dX1_ask_21 : decode cX1_ask 21 = .ok (.aload_n 0, 1) := dk_42 (dk_at dksX1_ask_0 21 rfl rfl)
theorem dX1_ask_22 : decode cX1_ask 22 = .ok (.iload_n 2, 1) := dk_28 (dk_at dksX1_ask_0 22 rfl rfl)
theorem dX1_ask_23 : decode cX1_ask 23 = .ok (.iload_n 3, 1) := dk_29 (dk_at dksX1_ask_0 23 rfl rfl)
theorem dX1_ask_24 : decode cX1_ask 24 = .ok (.iload 4, 2) := dk_21 4 (dk_at dksX1_ask_1 0 rfl rfl)
theorem dX1_ask_26 : decode cX1_ask 26 = .ok (.iload 5, 2) := dk_21 5 (dk_at dksX1_ask_1 2 rfl rfl)
theorem dX1_ask_28 : decode cX1_ask 28 = .ok (.invokevirtual 146, 3) := dk_182 0 146 (dk_at dksX1_ask_1 4 rfl rfl)
theorem dX1_ask_31 : decode cX1_ask 31 = .ok (.ifCond .eq 29, 3) := dk_153 0 29 (dk_at dksX1_ask_1 7 rfl rfl)
theorem dX1_ask_34 : decode cX1_ask 34 = .ok (.iload 6, 2) := dk_21 6 (dk_at dksX1_ask_1 10 rfl rfl)
theorem dX1_ask_36 : decode cX1_ask 36 = .ok (.i2l, 1) := dk_133 (dk_at dksX1_ask_1 12 rfl rfl)
theorem dX1_ask_37 : decode cX1_ask 37 = .ok (.lconst 0, 1) := dk_9 (dk_at dksX1_ask_1 13 rfl rfl)
theorem dX1_ask_38 : decode cX1_ask 38 = .ok (.ldc2_w 245, 3) := dk_20 0 245 (dk_at dksX1_ask_1 14 rfl rfl)
theorem dX1_ask_41 : decode cX1_ask 41 = .ok (.invokestatic 89, 3) := dk_184 0 89 (dk_at dksX1_ask_1 17 rfl rfl)
theorem dX1_ask_44 : decode cX1_ask 44 = .ok (.ifCond .eq 16, 3) := dk_153 0 16 (dk_at dksX1_ask_1 20 rfl rfl)
theorem dX1_ask_47 : decode cX1_ask 47 = .ok (.iload 7, 2) := dk_21 7 (dk_at dksX1_ask_2 0 rfl rfl)
theorem dX1_ask_49 : decode cX1_ask 49 = .ok (.i2l, 1) := dk_133 (dk_at dksX1_ask_2 2 rfl rfl)
theorem dX1_ask_50 : decode cX1_ask 50 = .ok (.lconst 0, 1) := dk_9 (dk_at dksX1_ask_2 3 rfl rfl)
theorem dX1_ask_51 : decode cX1_ask 51 = .ok (.ldc2_w 144, 3) := dk_20 0 144 (dk_at dksX1_ask_2 4 rfl rfl)
theorem dX1_ask_54 : decode cX1_ask 54 = .ok (.invokestatic 89, 3) := dk_184 0 89 (dk_at dksX1_ask_2 7 rfl rfl)
theorem dX1_ask_57 : decode cX1_ask 57 = .ok (.ifCond .ne 5, 3) := dk_154 0 5 (dk_at dksX1_ask_2 10 rfl rfl)
theorem dX1_ask_60 : decode cX1_ask 60 = .ok (.iconst (-1), 1) := dk_2 (dk_at dksX1_ask_2 13 rfl rfl)
theorem dX1_ask_61 : decode cX1_ask 61 = .ok (.ireturn, 1) := dk_172 (dk_at dksX1_ask_2 14 rfl rfl)
theorem dX1_ask_62 : decode cX1_ask 62 = .ok (.aload_n 0, 1) := dk_42 (dk_at dksX1_ask_2 15 rfl rfl)
theorem dX1_ask_63 : decode cX1_ask 63 = .ok (.getfield 240, 3) := dk_180 0 240 (dk_at dksX1_ask_2 16 rfl rfl)
theorem dX1_ask_66 : decode cX1_ask 66 = .ok (.ifCond .le 23, 3) := dk_158 0 23 (dk_at dksX1_ask_2 19 rfl rfl)
theorem dX1_ask_69 : decode cX1_ask 69 = .ok (.iload_n 1, 1) := dk_27 (dk_at dksX1_ask_2 22 rfl rfl)
theorem dX1_ask_70 : decode cX1_ask 70 = .ok (.aload_n 0, 1) := dk_42 (dk_at dksX1_ask_2 23 rfl rfl)
theorem dX1_ask_71 : decode cX1_ask 71 = .ok (.getfield 44, 3) := dk_180 0 44 (dk_at dksX1_ask_3 0 rfl rfl)
theorem dX1_ask_74 : decode cX1_ask 74 = .ok (.aload_n 0, 1) := dk_42 (dk_at dksX1_ask_3 3 rfl rfl)
theorem dX1_ask_75 : decode cX1_ask 75 = .ok (.getfield 240, 3) := dk_180 0 240 (dk_at dksX1_ask_3 4 rfl rfl)
theorem dX1_ask_78 : decode cX1_ask 78 = .ok (.iconst 1, 1) := dk_4 (dk_at dksX1_ask_3 7 rfl rfl)
theorem dX1_ask_79 : decode cX1_ask 79 = .ok (.isub, 1) := dk_100 (dk_at dksX1_ask_3 8 rfl rfl)
theorem dX1_ask_80 : decode cX1_ask 80 = .ok (.aaload, 1) := dk_50 (dk_at dksX1_ask_3 9 rfl rfl)
theorem dX1_ask_81 : decode cX1_ask 81 = .ok (.getfield 247, 3) := dk_180 0 247 (dk_at dksX1_ask_3 10 rfl rfl)
theorem dX1_ask_84 : decode cX1_ask 84 = .ok (.if_icmp .ge 5, 3) := dk_162 0 5 (dk_at dksX1_ask_3 13 rfl rfl)
theorem dX1_ask_87 : decode cX1_ask 87 = .ok (.iconst (-1), 1) := dk_2 (dk_at dksX1_ask_3 16 rfl rfl)
theorem dX1_ask_88 : decode cX1_ask 88 = .ok (.ireturn, 1) := dk_172 (dk_at dksX1_ask_3 17 rfl rfl)
theorem dX1_ask_89 : decode cX1_ask 89 = .ok (.aload_n 0, 1) := dk_42 (dk_at dksX1_ask_3 18 rfl rfl)
theorem dX1_ask_90 : decode cX1_ask 90 = .ok (.getfield 44, 3) := dk_180 0 44 (dk_at dksX1_ask_3 19 rfl rfl)
theorem dX1_ask_93 : decode cX1_ask 93 = .ok (.aload_n 0, 1) := dk_42 (dk_at dksX1_ask_3 22 rfl rfl)
theorem dX1_ask_94 : decode cX1_ask 94 = .ok (.getfield 240, 3) := dk_180 0 240 (dk_at dksX1_ask_4 0 rfl rfl)
theorem dX1_ask_97 : decode cX1_ask 97 = .ok (.new 42, 3) := dk_187 0 42 (dk_at dksX1_ask_4 3 rfl rfl)
theorem dX1_ask_100 : decode cX1_ask 100 = .ok (.dup, 1) := dk_89 (dk_at dksX1_ask_4 6 rfl rfl)
theorem dX1_ask_101 : decode cX1_ask 101 = .ok (.iload_n 1, 1) := dk_27 (dk_at dksX1_ask_4 7 rfl rfl)
theorem dX1_ask_102 : decode cX1_ask 102 = .ok (.iload_n 2, 1) := dk_28 (dk_at dksX1_ask_4 8 rfl rfl)
theorem dX1_ask_103 : decode cX1_ask 103 = .ok (.iload_n 3, 1) := dk_29 (dk_at dksX1_ask_4 9 rfl rfl)
theorem dX1_ask_104 : decode cX1_ask 104 = .ok (.iload 4, 2) := dk_21 4 (dk_at dksX1_ask_4 10 rfl rfl)
theorem dX1_ask_106 : decode cX1_ask 106 = .ok (.iload 5, 2) := dk_21 5 (dk_at dksX1_ask_4 12 rfl rfl)
theorem dX1_ask_108 : decode cX1_ask 108 = .ok (.aload_n 0, 1) := dk_42 (dk_at dksX1_ask_4 14 rfl rfl)
theorem dX1_ask_109 : decode cX1_ask 109 = .ok (.getfield 27, 3) := dk_180 0 27 (dk_at dksX1_ask_4 15 rfl rfl)
theorem dX1_ask_112 : decode cX1_ask 112 = .ok (.iload_n 2, 1) := dk_28 (dk_at dksX1_ask_4 18 rfl rfl)
theorem dX1_ask_113 : decode cX1_ask 113 = .ok (.aaload, 1) := dk_50 (dk_at dksX1_ask_4 19 rfl rfl)
theorem dX1_ask_114 : decode cX1_ask 114 = .ok (.iload_n 3, 1) := dk_29 (dk_at dksX1_ask_4 20 rfl rfl)
theorem dX1_ask_115 : decode cX1_ask 115 = .ok (.iload 4, 2) := dk_21 4 (dk_at dksX1_ask_4 21 rfl rfl)
theorem dX1_ask_117 : decode cX1_ask 117 = .ok (.iload 5, 2) := dk_21 5 (dk_at dksX1_ask_5 0 rfl rfl)
theorem dX1_ask_119 : decode cX1_ask 119 = .ok (.invokevirtual 153, 3) := dk_182 0 153 (dk_at dksX1_ask_5 2 rfl rfl)
theorem dX1_ask_122 : decode cX1_ask 122 = .ok (.iload 6, 2) := dk_21 6 (dk_at dksX1_ask_5 5 rfl rfl)
theorem dX1_ask_124 : decode cX1_ask 124 = .ok (.iload 7, 2) := dk_21 7 (dk_at dksX1_ask_5 7 rfl rfl)
theorem dX1_ask_126 : decode cX1_ask 126 = .ok (.invokespecial 250, 3) := dk_183 0 250 (dk_at dksX1_ask_5 9 rfl rfl)
theorem dX1_ask_129 : decode cX1_ask 129 = .ok (.aastore, 1) := dk_83 (dk_at dksX1_ask_5 12 rfl rfl)
theorem dX1_ask_130 : decode cX1_ask 130 = .ok (.aload_n 0, 1) := dk_42 (dk_at dksX1_ask_5 13 rfl rfl)
theorem dX1_ask_131 : decode cX1_ask 131 = .ok (.dup, 1) := dk_89 (dk_at dksX1_ask_5 14 rfl rfl)
theorem dX1_ask_132 : decode cX1_ask 132 = .ok (.getfield 240, 3) := dk_180 0 240 (dk_at dksX1_ask_5 15 rfl rfl)
theorem dX1_ask_135 : decode cX1_ask 135 = .ok (.iconst 1, 1) := dk_4 (dk_at dksX1_ask_5 18 rfl rfl)
theorem dX1_ask_136 : decode cX1_ask 136 = .ok (.iadd, 1) := dk_96 (dk_at dksX1_ask_5 19 rfl rfl)
theorem dX1_ask_137 : decode cX1_ask 137 = .ok (.putfield 240, 3) := dk_181 0 240 (dk_at dksX1_ask_5 20 rfl rfl)
theorem dX1_ask_140 : decode cX1_ask 140 = .ok (.aload_n 0, 1) := dk_42 (dk_at dksX1_ask_5 23 rfl rfl)
theorem dX1_ask_141 : decode cX1_ask 141 = .ok (.getfield 240, 3) := dk_180 0 240 (dk_at dksX1_ask_6 0 rfl rfl)
theorem dX1_ask_144 : decode cX1_ask 144 = .ok (.iconst 1, 1) := dk_4 (dk_at dksX1_ask_6 3 rfl rfl)
theorem dX1_ask_145 : decode cX1_ask 145 = .ok (.isub, 1) := dk_100 (dk_at dksX1_ask_6 4 rfl rfl)
theorem dX1_ask_146 : decode cX1_ask 146 = .ok (.ireturn, 1) := dk_172 (dk_at dksX1_ask_6 5 rfl rfl)
abbrev cX1_asked : ByteArray := prog_1_method_28_code
def yX1_asked : MethodName := ⟨RX1, "asked", "(II)I"⟩
def dkwX1_asked_4 : List UInt8 := [172, 45, 180, 1, 3, 45, 180, 1, 1, 16, 7, 112, 184, 0, 233, 172]
abbrev dktX1_asked_4 : List UInt8 := dkwX1_asked_4 ++ []
def dkwX1_asked_3 : List UInt8 := [45, 180, 0, 247, 172, 45, 180, 0, 255, 172, 45, 180, 1, 1, 172, 45, 180, 1, 3, 172, 45, 180, 1, 6]
abbrev dktX1_asked_3 : List UInt8 := dkwX1_asked_3 ++ dktX1_asked_4
def dkwX1_asked_2 : List UInt8 := [170, 0, 0, 0, 0, 0, 0, 61, 0, 0, 0, 0, 0, 0, 0, 4, 0, 0, 0, 36, 0, 0, 0, 41, 0, 0, 0, 46, 0, 0, 0, 51, 0, 0, 0, 56]
abbrev dktX1_asked_2 : List UInt8 := dkwX1_asked_2 ++ dktX1_asked_3
def dkwX1_asked_1 : List UInt8 := [184, 0, 89, 154, 0, 7, 17, 252, 24, 172, 42, 180, 0, 44, 27, 50, 78, 28]
abbrev dktX1_asked_1 : List UInt8 := dkwX1_asked_1 ++ dktX1_asked_2
def dkwX1_asked_0 : List UInt8 := [27, 133, 9, 42, 180, 0, 240, 4, 100, 133, 184, 0, 89, 153, 0, 15, 28, 133, 9, 20, 0, 253]
abbrev dktX1_asked_0 : List UInt8 := dkwX1_asked_0 ++ dktX1_asked_1
theorem dksX1_asked_0 : cX1_asked.data.toList.drop 0 = dktX1_asked_0 := by decide +kernel
theorem dksX1_asked_1 : cX1_asked.data.toList.drop 22 = dktX1_asked_1 := dk_seg dksX1_asked_0 22 rfl rfl
theorem dksX1_asked_2 : cX1_asked.data.toList.drop 40 = dktX1_asked_2 := dk_seg dksX1_asked_1 18 rfl rfl
theorem dksX1_asked_3 : cX1_asked.data.toList.drop 76 = dktX1_asked_3 := dk_seg dksX1_asked_2 36 rfl rfl
theorem dksX1_asked_4 : cX1_asked.data.toList.drop 100 = dktX1_asked_4 := dk_seg dksX1_asked_3 24 rfl rfl
theorem dX1_asked_0 : decode cX1_asked 0 = .ok (.iload_n 1, 1) := dk_27 (dk_at dksX1_asked_0 0 rfl rfl)
theorem dX1_asked_1 : decode cX1_asked 1 = .ok (.i2l, 1) := dk_133 (dk_at dksX1_asked_0 1 rfl rfl)
theorem dX1_asked_2 : decode cX1_asked 2 = .ok (.lconst 0, 1) := dk_9 (dk_at dksX1_asked_0 2 rfl rfl)
theorem dX1_asked_3 : decode cX1_asked 3 = .ok (.aload_n 0, 1) := dk_42 (dk_at dksX1_asked_0 3 rfl rfl)
theorem dX1_asked_4 : decode cX1_asked 4 = .ok (.getfield 240, 3) := dk_180 0 240 (dk_at dksX1_asked_0 4 rfl rfl)
theorem dX1_asked_7 : decode cX1_asked 7 = .ok (.iconst 1, 1) := dk_4 (dk_at dksX1_asked_0 7 rfl rfl)
theorem dX1_asked_8 : decode cX1_asked 8 = .ok (.isub, 1) := dk_100 (dk_at dksX1_asked_0 8 rfl rfl)
theorem dX1_asked_9 : decode cX1_asked 9 = .ok (.i2l, 1) := dk_133 (dk_at dksX1_asked_0 9 rfl rfl)
theorem dX1_asked_10 : decode cX1_asked 10 = .ok (.invokestatic 89, 3) := dk_184 0 89 (dk_at dksX1_asked_0 10 rfl rfl)
theorem dX1_asked_13 : decode cX1_asked 13 = .ok (.ifCond .eq 15, 3) := dk_153 0 15 (dk_at dksX1_asked_0 13 rfl rfl)
theorem dX1_asked_16 : decode cX1_asked 16 = .ok (.iload_n 2, 1) := dk_28 (dk_at dksX1_asked_0 16 rfl rfl)
theorem dX1_asked_17 : decode cX1_asked 17 = .ok (.i2l, 1) := dk_133 (dk_at dksX1_asked_0 17 rfl rfl)
theorem dX1_asked_18 : decode cX1_asked 18 = .ok (.lconst 0, 1) := dk_9 (dk_at dksX1_asked_0 18 rfl rfl)
theorem dX1_asked_19 : decode cX1_asked 19 = .ok (.ldc2_w 253, 3) := dk_20 0 253 (dk_at dksX1_asked_0 19 rfl rfl)
theorem dX1_asked_22 : decode cX1_asked 22 = .ok (.invokestatic 89, 3) := dk_184 0 89 (dk_at dksX1_asked_1 0 rfl rfl)
theorem dX1_asked_25 : decode cX1_asked 25 = .ok (.ifCond .ne 7, 3) := dk_154 0 7 (dk_at dksX1_asked_1 3 rfl rfl)
theorem dX1_asked_28 : decode cX1_asked 28 = .ok (.sipush (-1000), 3) := dk_17 252 24 (dk_at dksX1_asked_1 6 rfl rfl)
theorem dX1_asked_31 : decode cX1_asked 31 = .ok (.ireturn, 1) := dk_172 (dk_at dksX1_asked_1 9 rfl rfl)
theorem dX1_asked_32 : decode cX1_asked 32 = .ok (.aload_n 0, 1) := dk_42 (dk_at dksX1_asked_1 10 rfl rfl)
theorem dX1_asked_33 : decode cX1_asked 33 = .ok (.getfield 44, 3) := dk_180 0 44 (dk_at dksX1_asked_1 11 rfl rfl)
theorem dX1_asked_36 : decode cX1_asked 36 = .ok (.iload_n 1, 1) := dk_27 (dk_at dksX1_asked_1 14 rfl rfl)
theorem dX1_asked_37 : decode cX1_asked 37 = .ok (.aaload, 1) := dk_50 (dk_at dksX1_asked_1 15 rfl rfl)
theorem dX1_asked_38 : decode cX1_asked 38 = .ok (.astore_n 3, 1) := dk_78 (dk_at dksX1_asked_1 16 rfl rfl)
theorem dX1_asked_39 : decode cX1_asked 39 = .ok (.iload_n 2, 1) := dk_28 (dk_at dksX1_asked_1 17 rfl rfl)
theorem dX1_asked_40 : decode cX1_asked 40 = .ok (.tableswitch 61 0 4 #[36, 41, 46, 51, 56], 36) := by decide +kernel
theorem dX1_asked_76 : decode cX1_asked 76 = .ok (.aload_n 3, 1) := dk_45 (dk_at dksX1_asked_3 0 rfl rfl)
theorem dX1_asked_77 : decode cX1_asked 77 = .ok (.getfield 247, 3) := dk_180 0 247 (dk_at dksX1_asked_3 1 rfl rfl)
theorem dX1_asked_80 : decode cX1_asked 80 = .ok (.ireturn, 1) := dk_172 (dk_at dksX1_asked_3 4 rfl rfl)
theorem dX1_asked_81 : decode cX1_asked 81 = .ok (.aload_n 3, 1) := dk_45 (dk_at dksX1_asked_3 5 rfl rfl)
theorem dX1_asked_82 : decode cX1_asked 82 = .ok (.getfield 255, 3) := dk_180 0 255 (dk_at dksX1_asked_3 6 rfl rfl)
theorem dX1_asked_85 : decode cX1_asked 85 = .ok (.ireturn, 1) := dk_172 (dk_at dksX1_asked_3 9 rfl rfl)
theorem dX1_asked_86 : decode cX1_asked 86 = .ok (.aload_n 3, 1) := dk_45 (dk_at dksX1_asked_3 10 rfl rfl)
theorem dX1_asked_87 : decode cX1_asked 87 = .ok (.getfield 257, 3) := dk_180 1 1 (dk_at dksX1_asked_3 11 rfl rfl)
theorem dX1_asked_90 : decode cX1_asked 90 = .ok (.ireturn, 1) := dk_172 (dk_at dksX1_asked_3 14 rfl rfl)
theorem dX1_asked_91 : decode cX1_asked 91 = .ok (.aload_n 3, 1) := dk_45 (dk_at dksX1_asked_3 15 rfl rfl)
theorem dX1_asked_92 : decode cX1_asked 92 = .ok (.getfield 259, 3) := dk_180 1 3 (dk_at dksX1_asked_3 16 rfl rfl)
theorem dX1_asked_95 : decode cX1_asked 95 = .ok (.ireturn, 1) := dk_172 (dk_at dksX1_asked_3 19 rfl rfl)
theorem dX1_asked_96 : decode cX1_asked 96 = .ok (.aload_n 3, 1) := dk_45 (dk_at dksX1_asked_3 20 rfl rfl)
theorem dX1_asked_97 : decode cX1_asked 97 = .ok (.getfield 262, 3) := dk_180 1 6 (dk_at dksX1_asked_3 21 rfl rfl)
theorem dX1_asked_100 : decode cX1_asked 100 = .ok (.ireturn, 1) := dk_172 (dk_at dksX1_asked_4 0 rfl rfl)
theorem dX1_asked_101 : decode cX1_asked 101 = .ok (.aload_n 3, 1) := dk_45 (dk_at dksX1_asked_4 1 rfl rfl)
theorem dX1_asked_102 : decode cX1_asked 102 = .ok (.getfield 259, 3) := dk_180 1 3 (dk_at dksX1_asked_4 2 rfl rfl)
theorem dX1_asked_105 : decode cX1_asked 105 = .ok (.aload_n 3, 1) := dk_45 (dk_at dksX1_asked_4 5 rfl rfl)
theorem dX1_asked_106 : decode cX1_asked 106 = .ok (.getfield 257, 3) := dk_180 1 1 (dk_at dksX1_asked_4 6 rfl rfl)
theorem dX1_asked_109 : decode cX1_asked 109 = .ok (.bipush 7, 2) := dk_16 7 (dk_at dksX1_asked_4 9 rfl rfl)
theorem dX1_asked_111 : decode cX1_asked 111 = .ok (.irem, 1) := dk_112 (dk_at dksX1_asked_4 11 rfl rfl)
theorem dX1_asked_112 : decode cX1_asked 112 = .ok (.invokestatic 233, 3) := dk_184 0 233 (dk_at dksX1_asked_4 12 rfl rfl)
theorem dX1_asked_115 : decode cX1_asked 115 = .ok (.ireturn, 1) := dk_172 (dk_at dksX1_asked_4 15 rfl rfl)
abbrev cX1_fits : ByteArray := prog_1_method_32_code
def yX1_fits : MethodName := ⟨RX1, "fits", "(I)I"⟩
def dkwX1_fits_2 : List UInt8 := [61, 132, 3, 1, 167, 255, 217, 28, 172]
abbrev dktX1_fits_2 : List UInt8 := dkwX1_fits_2 ++ []
def dkwX1_fits_1 : List UInt8 := [180, 0, 31, 29, 50, 27, 182, 1, 30, 42, 180, 0, 240, 160, 0, 9, 4, 29, 120, 167, 0, 4, 3, 128]
abbrev dktX1_fits_1 : List UInt8 := dkwX1_fits_1 ++ dktX1_fits_2
def dkwX1_fits_0 : List UInt8 := [27, 184, 1, 27, 154, 0, 5, 2, 172, 3, 61, 3, 62, 29, 42, 180, 0, 118, 162, 0, 37, 28, 42, 42]
abbrev dktX1_fits_0 : List UInt8 := dkwX1_fits_0 ++ dktX1_fits_1
theorem dksX1_fits_0 : cX1_fits.data.toList.drop 0 = dktX1_fits_0 := by decide +kernel
theorem dksX1_fits_1 : cX1_fits.data.toList.drop 24 = dktX1_fits_1 := dk_seg dksX1_fits_0 24 rfl rfl
theorem dksX1_fits_2 : cX1_fits.data.toList.drop 48 = dktX1_fits_2 := dk_seg dksX1_fits_1 24 rfl rfl
theorem dX1_fits_0 : decode cX1_fits 0 = .ok (.iload_n 1, 1) := dk_27 (dk_at dksX1_fits_0 0 rfl rfl)
theorem dX1_fits_1 : decode cX1_fits 1 = .ok (.invokestatic 283, 3) := dk_184 1 27 (dk_at dksX1_fits_0 1 rfl rfl)
theorem dX1_fits_4 : decode cX1_fits 4 = .ok (.ifCond .ne 5, 3) := dk_154 0 5 (dk_at dksX1_fits_0 4 rfl rfl)
theorem dX1_fits_7 : decode cX1_fits 7 = .ok (.iconst (-1), 1) := dk_2 (dk_at dksX1_fits_0 7 rfl rfl)
theorem dX1_fits_8 : decode cX1_fits 8 = .ok (.ireturn, 1) := dk_172 (dk_at dksX1_fits_0 8 rfl rfl)
theorem dX1_fits_9 : decode cX1_fits 9 = .ok (.iconst 0, 1) := dk_3 (dk_at dksX1_fits_0 9 rfl rfl)
theorem dX1_fits_10 : decode cX1_fits 10 = .ok (.istore_n 2, 1) := dk_61 (dk_at dksX1_fits_0 10 rfl rfl)
theorem dX1_fits_11 : decode cX1_fits 11 = .ok (.iconst 0, 1) := dk_3 (dk_at dksX1_fits_0 11 rfl rfl)
theorem dX1_fits_12 : decode cX1_fits 12 = .ok (.istore_n 3, 1) := dk_62 (dk_at dksX1_fits_0 12 rfl rfl)
theorem dX1_fits_13 : decode cX1_fits 13 = .ok (.iload_n 3, 1) := dk_29 (dk_at dksX1_fits_0 13 rfl rfl)
theorem dX1_fits_14 : decode cX1_fits 14 = .ok (.aload_n 0, 1) := dk_42 (dk_at dksX1_fits_0 14 rfl rfl)
theorem dX1_fits_15 : decode cX1_fits 15 = .ok (.getfield 118, 3) := dk_180 0 118 (dk_at dksX1_fits_0 15 rfl rfl)
theorem dX1_fits_18 : decode cX1_fits 18 = .ok (.if_icmp .ge 37, 3) := dk_162 0 37 (dk_at dksX1_fits_0 18 rfl rfl)
theorem dX1_fits_21 : decode cX1_fits 21 = .ok (.iload_n 2, 1) := dk_28 (dk_at dksX1_fits_0 21 rfl rfl)
theorem dX1_fits_22 : decode cX1_fits 22 = .ok (.aload_n 0, 1) := dk_42 (dk_at dksX1_fits_0 22 rfl rfl)
theorem dX1_fits_23 : decode cX1_fits 23 = .ok (.aload_n 0, 1) := dk_42 (dk_at dksX1_fits_0 23 rfl rfl)
theorem dX1_fits_24 : decode cX1_fits 24 = .ok (.getfield 31, 3) := dk_180 0 31 (dk_at dksX1_fits_1 0 rfl rfl)
theorem dX1_fits_27 : decode cX1_fits 27 = .ok (.iload_n 3, 1) := dk_29 (dk_at dksX1_fits_1 3 rfl rfl)
theorem dX1_fits_28 : decode cX1_fits 28 = .ok (.aaload, 1) := dk_50 (dk_at dksX1_fits_1 4 rfl rfl)
theorem dX1_fits_29 : decode cX1_fits 29 = .ok (.iload_n 1, 1) := dk_27 (dk_at dksX1_fits_1 5 rfl rfl)
theorem dX1_fits_30 : decode cX1_fits 30 = .ok (.invokevirtual 286, 3) := dk_182 1 30 (dk_at dksX1_fits_1 6 rfl rfl)
theorem dX1_fits_33 : decode cX1_fits 33 = .ok (.aload_n 0, 1) := dk_42 (dk_at dksX1_fits_1 9 rfl rfl)
theorem dX1_fits_34 : decode cX1_fits 34 = .ok (.getfield 240, 3) := dk_180 0 240 (dk_at dksX1_fits_1 10 rfl rfl)
theorem dX1_fits_37 : decode cX1_fits 37 = .ok (.if_icmp .ne 9, 3) := dk_160 0 9 (dk_at dksX1_fits_1 13 rfl rfl)
theorem dX1_fits_40 : decode cX1_fits 40 = .ok (.iconst 1, 1) := dk_4 (dk_at dksX1_fits_1 16 rfl rfl)
theorem dX1_fits_41 : decode cX1_fits 41 = .ok (.iload_n 3, 1) := dk_29 (dk_at dksX1_fits_1 17 rfl rfl)
theorem dX1_fits_42 : decode cX1_fits 42 = .ok (.ishl, 1) := dk_120 (dk_at dksX1_fits_1 18 rfl rfl)
theorem dX1_fits_43 : decode cX1_fits 43 = .ok (.goto 4, 3) := dk_167 0 4 (dk_at dksX1_fits_1 19 rfl rfl)
theorem dX1_fits_46 : decode cX1_fits 46 = .ok (.iconst 0, 1) := dk_3 (dk_at dksX1_fits_1 22 rfl rfl)
theorem dX1_fits_47 : decode cX1_fits 47 = .ok (.ior, 1) := dk_128 (dk_at dksX1_fits_1 23 rfl rfl)
theorem dX1_fits_48 : decode cX1_fits 48 = .ok (.istore_n 2, 1) := dk_61 (dk_at dksX1_fits_2 0 rfl rfl)
theorem dX1_fits_49 : decode cX1_fits 49 = .ok (.iinc 3 1, 3) := dk_132 3 1 (dk_at dksX1_fits_2 1 rfl rfl)
theorem dX1_fits_52 : decode cX1_fits 52 = .ok (.goto (-39), 3) := dk_167 255 217 (dk_at dksX1_fits_2 4 rfl rfl)
theorem dX1_fits_55 : decode cX1_fits 55 = .ok (.iload_n 2, 1) := dk_28 (dk_at dksX1_fits_2 7 rfl rfl)
theorem dX1_fits_56 : decode cX1_fits 56 = .ok (.ireturn, 1) := dk_172 (dk_at dksX1_fits_2 8 rfl rfl)
abbrev cX1_isSlack : ByteArray := prog_1_method_29_code
def yX1_isSlack : MethodName := ⟨RX1, "isSlack", "(I)Z"⟩
def dkwX1_isSlack_0 : List UInt8 := [26, 133, 9, 20, 0, 243, 184, 0, 89, 172]
abbrev dktX1_isSlack_0 : List UInt8 := dkwX1_isSlack_0 ++ []
theorem dksX1_isSlack_0 : cX1_isSlack.data.toList.drop 0 = dktX1_isSlack_0 := by decide +kernel
theorem dX1_isSlack_0 : decode cX1_isSlack 0 = .ok (.iload_n 0, 1) := dk_26 (dk_at dksX1_isSlack_0 0 rfl rfl)
theorem dX1_isSlack_1 : decode cX1_isSlack 1 = .ok (.i2l, 1) := dk_133 (dk_at dksX1_isSlack_0 1 rfl rfl)
theorem dX1_isSlack_2 : decode cX1_isSlack 2 = .ok (.lconst 0, 1) := dk_9 (dk_at dksX1_isSlack_0 2 rfl rfl)
theorem dX1_isSlack_3 : decode cX1_isSlack 3 = .ok (.ldc2_w 243, 3) := dk_20 0 243 (dk_at dksX1_isSlack_0 3 rfl rfl)
theorem dX1_isSlack_6 : decode cX1_isSlack 6 = .ok (.invokestatic 89, 3) := dk_184 0 89 (dk_at dksX1_isSlack_0 6 rfl rfl)
theorem dX1_isSlack_9 : decode cX1_isSlack 9 = .ok (.ireturn, 1) := dk_172 (dk_at dksX1_isSlack_0 9 rfl rfl)
abbrev cX1_soMany : ByteArray := prog_1_method_31_code
def yX1_soMany : MethodName := ⟨RX1, "soMany", "(LDayBoy$Head;I)I"⟩
def dkwX1_soMany_1 : List UInt8 := [28, 182, 1, 23, 153, 0, 7, 4, 167, 0, 4, 3, 96, 62, 132, 4, 1, 167, 255, 220, 29, 172]
abbrev dktX1_soMany_1 : List UInt8 := dkwX1_soMany_1 ++ []
def dkwX1_soMany_0 : List UInt8 := [3, 62, 3, 54, 4, 21, 4, 42, 180, 0, 240, 162, 0, 33, 29, 42, 43, 42, 180, 0, 44, 21, 4, 50]
abbrev dktX1_soMany_0 : List UInt8 := dkwX1_soMany_0 ++ dktX1_soMany_1
theorem dksX1_soMany_0 : cX1_soMany.data.toList.drop 0 = dktX1_soMany_0 := by decide +kernel
theorem dksX1_soMany_1 : cX1_soMany.data.toList.drop 24 = dktX1_soMany_1 := dk_seg dksX1_soMany_0 24 rfl rfl
theorem dX1_soMany_0 : decode cX1_soMany 0 = .ok (.iconst 0, 1) := dk_3 (dk_at dksX1_soMany_0 0 rfl rfl)
theorem dX1_soMany_1 : decode cX1_soMany 1 = .ok (.istore_n 3, 1) := dk_62 (dk_at dksX1_soMany_0 1 rfl rfl)
theorem dX1_soMany_2 : decode cX1_soMany 2 = .ok (.iconst 0, 1) := dk_3 (dk_at dksX1_soMany_0 2 rfl rfl)
theorem dX1_soMany_3 : decode cX1_soMany 3 = .ok (.istore 4, 2) := dk_54 4 (dk_at dksX1_soMany_0 3 rfl rfl)
theorem dX1_soMany_5 : decode cX1_soMany 5 = .ok (.iload 4, 2) := dk_21 4 (dk_at dksX1_soMany_0 5 rfl rfl)
theorem dX1_soMany_7 : decode cX1_soMany 7 = .ok (.aload_n 0, 1) := dk_42 (dk_at dksX1_soMany_0 7 rfl rfl)
theorem dX1_soMany_8 : decode cX1_soMany 8 = .ok (.getfield 240, 3) := dk_180 0 240 (dk_at dksX1_soMany_0 8 rfl rfl)
theorem dX1_soMany_11 : decode cX1_soMany 11 = .ok (.if_icmp .ge 33, 3) := dk_162 0 33 (dk_at dksX1_soMany_0 11 rfl rfl)
theorem dX1_soMany_14 : decode cX1_soMany 14 = .ok (.iload_n 3, 1) := dk_29 (dk_at dksX1_soMany_0 14 rfl rfl)
theorem dX1_soMany_15 : decode cX1_soMany 15 = .ok (.aload_n 0, 1) := dk_42 (dk_at dksX1_soMany_0 15 rfl rfl)
theorem dX1_soMany_16 : decode cX1_soMany 16 = .ok (.aload_n 1, 1) := dk_43 (dk_at dksX1_soMany_0 16 rfl rfl)
theorem dX1_soMany_17 : decode cX1_soMany 17 = .ok (.aload_n 0, 1) := dk_42 (dk_at dksX1_soMany_0 17 rfl rfl)
theorem dX1_soMany_18 : decode cX1_soMany 18 = .ok (.getfield 44, 3) := dk_180 0 44 (dk_at dksX1_soMany_0 18 rfl rfl)
theorem dX1_soMany_21 : decode cX1_soMany 21 = .ok (.iload 4, 2) := dk_21 4 (dk_at dksX1_soMany_0 21 rfl rfl)
theorem dX1_soMany_23 : decode cX1_soMany 23 = .ok (.aaload, 1) := dk_50 (dk_at dksX1_soMany_0 23 rfl rfl)
theorem dX1_soMany_24 : decode cX1_soMany 24 = .ok (.iload_n 2, 1) := dk_28 (dk_at dksX1_soMany_1 0 rfl rfl)
theorem dX1_soMany_25 : decode cX1_soMany 25 = .ok (.invokevirtual 279, 3) := dk_182 1 23 (dk_at dksX1_soMany_1 1 rfl rfl)
theorem dX1_soMany_28 : decode cX1_soMany 28 = .ok (.ifCond .eq 7, 3) := dk_153 0 7 (dk_at dksX1_soMany_1 4 rfl rfl)
theorem dX1_soMany_31 : decode cX1_soMany 31 = .ok (.iconst 1, 1) := dk_4 (dk_at dksX1_soMany_1 7 rfl rfl)
theorem dX1_soMany_32 : decode cX1_soMany 32 = .ok (.goto 4, 3) := dk_167 0 4 (dk_at dksX1_soMany_1 8 rfl rfl)
theorem dX1_soMany_35 : decode cX1_soMany 35 = .ok (.iconst 0, 1) := dk_3 (dk_at dksX1_soMany_1 11 rfl rfl)
theorem dX1_soMany_36 : decode cX1_soMany 36 = .ok (.iadd, 1) := dk_96 (dk_at dksX1_soMany_1 12 rfl rfl)
theorem dX1_soMany_37 : decode cX1_soMany 37 = .ok (.istore_n 3, 1) := dk_62 (dk_at dksX1_soMany_1 13 rfl rfl)
theorem dX1_soMany_38 : decode cX1_soMany 38 = .ok (.iinc 4 1, 3) := dk_132 4 1 (dk_at dksX1_soMany_1 14 rfl rfl)
theorem dX1_soMany_41 : decode cX1_soMany 41 = .ok (.goto (-36), 3) := dk_167 255 220 (dk_at dksX1_soMany_1 17 rfl rfl)
theorem dX1_soMany_44 : decode cX1_soMany 44 = .ok (.iload_n 3, 1) := dk_29 (dk_at dksX1_soMany_1 20 rfl rfl)
theorem dX1_soMany_45 : decode cX1_soMany 45 = .ok (.ireturn, 1) := dk_172 (dk_at dksX1_soMany_1 21 rfl rfl)
abbrev cX1_isSo : ByteArray := prog_1_method_30_code
def yX1_isSo : MethodName := ⟨RX1, "isSo", "(LDayBoy$Head;LDayBoy$Ask;I)Z"⟩
def dkwX1_isSo_3 : List UInt8 := [184, 0, 230, 44, 180, 1, 6, 100, 184, 1, 18, 29, 163, 0, 7, 4, 167, 0, 4, 3, 172]
abbrev dktX1_isSo_3 : List UInt8 := dkwX1_isSo_3 ++ []
def dkwX1_isSo_2 : List UInt8 := [44, 180, 1, 3, 159, 0, 5, 3, 172, 43, 25, 4, 44, 180, 1, 9, 44, 180, 1, 12, 44, 180, 1, 15]
abbrev dktX1_isSo_2 : List UInt8 := dkwX1_isSo_2 ++ dktX1_isSo_3
def dkwX1_isSo_1 : List UInt8 := [182, 0, 187, 153, 0, 28, 43, 25, 4, 44, 180, 1, 9, 44, 180, 1, 12, 44, 180, 1, 15, 184, 0, 226]
abbrev dktX1_isSo_1 : List UInt8 := dkwX1_isSo_1 ++ dktX1_isSo_2
def dkwX1_isSo_0 : List UInt8 := [42, 180, 0, 27, 44, 180, 0, 255, 50, 58, 4, 42, 43, 25, 4, 44, 180, 1, 9, 44, 180, 1, 12]
abbrev dktX1_isSo_0 : List UInt8 := dkwX1_isSo_0 ++ dktX1_isSo_1
theorem dksX1_isSo_0 : cX1_isSo.data.toList.drop 0 = dktX1_isSo_0 := by decide +kernel
theorem dksX1_isSo_1 : cX1_isSo.data.toList.drop 23 = dktX1_isSo_1 := dk_seg dksX1_isSo_0 23 rfl rfl
theorem dksX1_isSo_2 : cX1_isSo.data.toList.drop 47 = dktX1_isSo_2 := dk_seg dksX1_isSo_1 24 rfl rfl
theorem dksX1_isSo_3 : cX1_isSo.data.toList.drop 71 = dktX1_isSo_3 := dk_seg dksX1_isSo_2 24 rfl rfl
theorem dX1_isSo_0 : decode cX1_isSo 0 = .ok (.aload_n 0, 1) := dk_42 (dk_at dksX1_isSo_0 0 rfl rfl)
theorem dX1_isSo_1 : decode cX1_isSo 1 = .ok (.getfield 27, 3) := dk_180 0 27 (dk_at dksX1_isSo_0 1 rfl rfl)
theorem dX1_isSo_4 : decode cX1_isSo 4 = .ok (.aload_n 2, 1) := dk_44 (dk_at dksX1_isSo_0 4 rfl rfl)
theorem dX1_isSo_5 : decode cX1_isSo 5 = .ok (.getfield 255, 3) := dk_180 0 255 (dk_at dksX1_isSo_0 5 rfl rfl)
theorem dX1_isSo_8 : decode cX1_isSo 8 = .ok (.aaload, 1) := dk_50 (dk_at dksX1_isSo_0 8 rfl rfl)
theorem dX1_isSo_9 : decode cX1_isSo 9 = .ok (.astore 4, 2) := dk_58 4 (dk_at dksX1_isSo_0 9 rfl rfl)
theorem dX1_isSo_11 : decode cX1_isSo 11 = .ok (.aload_n 0, 1) := dk_42 (dk_at dksX1_isSo_0 11 rfl rfl)
theorem dX1_isSo_12 : decode cX1_isSo 12 = .ok (.aload_n 1, 1) := dk_43 (dk_at dksX1_isSo_0 12 rfl rfl)
theorem dX1_isSo_13 : decode cX1_isSo 13 = .ok (.aload 4, 2) := dk_25 4 (dk_at dksX1_isSo_0 13 rfl rfl)
theorem dX1_isSo_15 : decode cX1_isSo 15 = .ok (.aload_n 2, 1) := dk_44 (dk_at dksX1_isSo_0 15 rfl rfl)
theorem dX1_isSo_16 : decode cX1_isSo 16 = .ok (.getfield 265, 3) := dk_180 1 9 (dk_at dksX1_isSo_0 16 rfl rfl)
theorem dX1_isSo_19 : decode cX1_isSo 19 = .ok (.aload_n 2, 1) := dk_44 (dk_at dksX1_isSo_0 19 rfl rfl)
theorem dX1_isSo_20 : decode cX1_isSo 20 = .ok (.getfield 268, 3) := dk_180 1 12 (dk_at dksX1_isSo_0 20 rfl rfl)
theorem dX1_isSo_23 : decode cX1_isSo 23 = .ok (.invokevirtual 187, 3) := dk_182 0 187 (dk_at dksX1_isSo_1 0 rfl rfl)
theorem dX1_isSo_26 : decode cX1_isSo 26 = .ok (.ifCond .eq 28, 3) := dk_153 0 28 (dk_at dksX1_isSo_1 3 rfl rfl)
theorem dX1_isSo_29 : decode cX1_isSo 29 = .ok (.aload_n 1, 1) := dk_43 (dk_at dksX1_isSo_1 6 rfl rfl)
theorem dX1_isSo_30 : decode cX1_isSo 30 = .ok (.aload 4, 2) := dk_25 4 (dk_at dksX1_isSo_1 7 rfl rfl)
theorem dX1_isSo_32 : decode cX1_isSo 32 = .ok (.aload_n 2, 1) := dk_44 (dk_at dksX1_isSo_1 9 rfl rfl)
theorem dX1_isSo_33 : decode cX1_isSo 33 = .ok (.getfield 265, 3) := dk_180 1 9 (dk_at dksX1_isSo_1 10 rfl rfl)
theorem dX1_isSo_36 : decode cX1_isSo 36 = .ok (.aload_n 2, 1) := dk_44 (dk_at dksX1_isSo_1 13 rfl rfl)
theorem dX1_isSo_37 : decode cX1_isSo 37 = .ok (.getfield 268, 3) := dk_180 1 12 (dk_at dksX1_isSo_1 14 rfl rfl)
theorem dX1_isSo_40 : decode cX1_isSo 40 = .ok (.aload_n 2, 1) := dk_44 (dk_at dksX1_isSo_1 17 rfl rfl)
theorem dX1_isSo_41 : decode cX1_isSo 41 = .ok (.getfield 271, 3) := dk_180 1 15 (dk_at dksX1_isSo_1 18 rfl rfl)
theorem dX1_isSo_44 : decode cX1_isSo 44 = .ok (.invokestatic 226, 3) := dk_184 0 226 (dk_at dksX1_isSo_1 21 rfl rfl)
theorem dX1_isSo_47 : decode cX1_isSo 47 = .ok (.aload_n 2, 1) := dk_44 (dk_at dksX1_isSo_2 0 rfl rfl)
theorem dX1_isSo_48 : decode cX1_isSo 48 = .ok (.getfield 259, 3) := dk_180 1 3 (dk_at dksX1_isSo_2 1 rfl rfl)
theorem dX1_isSo_51 : decode cX1_isSo 51 = .ok (.if_icmp .eq 5, 3) := dk_159 0 5 (dk_at dksX1_isSo_2 4 rfl rfl)
theorem dX1_isSo_54 : decode cX1_isSo 54 = .ok (.iconst 0, 1) := dk_3 (dk_at dksX1_isSo_2 7 rfl rfl)
theorem dX1_isSo_55 : decode cX1_isSo 55 = .ok (.ireturn, 1) := dk_172 (dk_at dksX1_isSo_2 8 rfl rfl)
theorem dX1_isSo_56 : decode cX1_isSo 56 = .ok (.aload_n 1, 1) := dk_43 (dk_at dksX1_isSo_2 9 rfl rfl)
theorem dX1_isSo_57 : decode cX1_isSo 57 = .ok (.aload 4, 2) := dk_25 4 (dk_at dksX1_isSo_2 10 rfl rfl)
theorem dX1_isSo_59 : decode cX1_isSo 59 = .ok (.aload_n 2, 1) := dk_44 (dk_at dksX1_isSo_2 12 rfl rfl)
theorem dX1_isSo_60 : decode cX1_isSo 60 = .ok (.getfield 265, 3) := dk_180 1 9 (dk_at dksX1_isSo_2 13 rfl rfl)
theorem dX1_isSo_63 : decode cX1_isSo 63 = .ok (.aload_n 2, 1) := dk_44 (dk_at dksX1_isSo_2 16 rfl rfl)
theorem dX1_isSo_64 : decode cX1_isSo 64 = .ok (.getfield 268, 3) := dk_180 1 12 (dk_at dksX1_isSo_2 17 rfl rfl)
theorem dX1_isSo_67 : decode cX1_isSo 67 = .ok (.aload_n 2, 1) := dk_44 (dk_at dksX1_isSo_2 20 rfl rfl)
theorem dX1_isSo_68 : decode cX1_isSo 68 = .ok (.getfield 271, 3) := dk_180 1 15 (dk_at dksX1_isSo_2 21 rfl rfl)
theorem dX1_isSo_71 : decode cX1_isSo 71 = .ok (.invokestatic 230, 3) := dk_184 0 230 (dk_at dksX1_isSo_3 0 rfl rfl)
theorem dX1_isSo_74 : decode cX1_isSo 74 = .ok (.aload_n 2, 1) := dk_44 (dk_at dksX1_isSo_3 3 rfl rfl)
theorem dX1_isSo_75 : decode cX1_isSo 75 = .ok (.getfield 262, 3) := dk_180 1 6 (dk_at dksX1_isSo_3 4 rfl rfl)
theorem dX1_isSo_78 : decode cX1_isSo 78 = .ok (.isub, 1) := dk_100 (dk_at dksX1_isSo_3 7 rfl rfl)
theorem dX1_isSo_79 : decode cX1_isSo 79 = .ok (.invokestatic 274, 3) := dk_184 1 18 (dk_at dksX1_isSo_3 8 rfl rfl)
theorem dX1_isSo_82 : decode cX1_isSo 82 = .ok (.iload_n 3, 1) := dk_29 (dk_at dksX1_isSo_3 11 rfl rfl)
theorem dX1_isSo_83 : decode cX1_isSo 83 = .ok (.if_icmp .gt 7, 3) := dk_163 0 7 (dk_at dksX1_isSo_3 12 rfl rfl)
theorem dX1_isSo_86 : decode cX1_isSo 86 = .ok (.iconst 1, 1) := dk_4 (dk_at dksX1_isSo_3 15 rfl rfl)
theorem dX1_isSo_87 : decode cX1_isSo 87 = .ok (.goto 4, 3) := dk_167 0 4 (dk_at dksX1_isSo_3 16 rfl rfl)
theorem dX1_isSo_90 : decode cX1_isSo 90 = .ok (.iconst 0, 1) := dk_3 (dk_at dksX1_isSo_3 19 rfl rfl)
theorem dX1_isSo_91 : decode cX1_isSo 91 = .ok (.ireturn, 1) := dk_172 (dk_at dksX1_isSo_3 20 rfl rfl)
abbrev cX1_so : ByteArray := prog_1_method_33_code
def yX1_so : MethodName := ⟨RX1, "so", "(II)I"⟩
def dkwX1_so_1 : List UInt8 := [182, 1, 30, 167, 0, 4, 2, 172]
abbrev dktX1_so_1 : List UInt8 := dkwX1_so_1 ++ []
def dkwX1_so_0 : List UInt8 := [42, 27, 182, 0, 184, 153, 0, 24, 28, 184, 1, 27, 153, 0, 17, 42, 42, 180, 0, 31, 27, 50, 28]
abbrev dktX1_so_0 : List UInt8 := dkwX1_so_0 ++ dktX1_so_1
theorem dksX1_so_0 : cX1_so.data.toList.drop 0 = dktX1_so_0 := by decide +kernel
theorem dksX1_so_1 : cX1_so.data.toList.drop 23 = dktX1_so_1 := dk_seg dksX1_so_0 23 rfl rfl
theorem dX1_so_0 : decode cX1_so 0 = .ok (.aload_n 0, 1) := dk_42 (dk_at dksX1_so_0 0 rfl rfl)
theorem dX1_so_1 : decode cX1_so 1 = .ok (.iload_n 1, 1) := dk_27 (dk_at dksX1_so_0 1 rfl rfl)
theorem dX1_so_2 : decode cX1_so 2 = .ok (.invokevirtual 184, 3) := dk_182 0 184 (dk_at dksX1_so_0 2 rfl rfl)
theorem dX1_so_5 : decode cX1_so 5 = .ok (.ifCond .eq 24, 3) := dk_153 0 24 (dk_at dksX1_so_0 5 rfl rfl)
theorem dX1_so_8 : decode cX1_so 8 = .ok (.iload_n 2, 1) := dk_28 (dk_at dksX1_so_0 8 rfl rfl)
theorem dX1_so_9 : decode cX1_so 9 = .ok (.invokestatic 283, 3) := dk_184 1 27 (dk_at dksX1_so_0 9 rfl rfl)
theorem dX1_so_12 : decode cX1_so 12 = .ok (.ifCond .eq 17, 3) := dk_153 0 17 (dk_at dksX1_so_0 12 rfl rfl)
theorem dX1_so_15 : decode cX1_so 15 = .ok (.aload_n 0, 1) := dk_42 (dk_at dksX1_so_0 15 rfl rfl)
theorem dX1_so_16 : decode cX1_so 16 = .ok (.aload_n 0, 1) := dk_42 (dk_at dksX1_so_0 16 rfl rfl)
theorem dX1_so_17 : decode cX1_so 17 = .ok (.getfield 31, 3) := dk_180 0 31 (dk_at dksX1_so_0 17 rfl rfl)
theorem dX1_so_20 : decode cX1_so 20 = .ok (.iload_n 1, 1) := dk_27 (dk_at dksX1_so_0 20 rfl rfl)
theorem dX1_so_21 : decode cX1_so 21 = .ok (.aaload, 1) := dk_50 (dk_at dksX1_so_0 21 rfl rfl)
theorem dX1_so_22 : decode cX1_so 22 = .ok (.iload_n 2, 1) := dk_28 (dk_at dksX1_so_0 22 rfl rfl)
theorem dX1_so_23 : decode cX1_so 23 = .ok (.invokevirtual 286, 3) := dk_182 1 30 (dk_at dksX1_so_1 0 rfl rfl)
theorem dX1_so_26 : decode cX1_so 26 = .ok (.goto 4, 3) := dk_167 0 4 (dk_at dksX1_so_1 3 rfl rfl)
theorem dX1_so_29 : decode cX1_so 29 = .ok (.iconst (-1), 1) := dk_2 (dk_at dksX1_so_1 6 rfl rfl)
theorem dX1_so_30 : decode cX1_so 30 = .ok (.ireturn, 1) := dk_172 (dk_at dksX1_so_1 7 rfl rfl)
abbrev cX1_further : ByteArray := prog_1_method_34_code
def yX1_further : MethodName := ⟨RX1, "further", "(I)I"⟩
def dkwX1_further_4 : List UInt8 := [61, 132, 4, 1, 167, 255, 184, 132, 3, 1, 167, 255, 167, 28, 172]
abbrev dktX1_further_4 : List UInt8 := dkwX1_further_4 ++ []
def dkwX1_further_3 : List UInt8 := [28, 42, 180, 0, 44, 29, 50, 180, 1, 6, 42, 180, 0, 44, 21, 4, 50, 180, 1, 6, 184, 1, 34, 96]
abbrev dktX1_further_3 : List UInt8 := dkwX1_further_3 ++ dktX1_further_4
def dkwX1_further_2 : List UInt8 := [184, 1, 18, 42, 180, 0, 44, 21, 4, 50, 180, 1, 9, 27, 100, 184, 1, 18, 163, 0, 6, 167, 0, 28]
abbrev dktX1_further_2 : List UInt8 := dkwX1_further_2 ++ dktX1_further_3
def dkwX1_further_1 : List UInt8 := [54, 4, 21, 4, 42, 180, 0, 240, 162, 0, 69, 42, 180, 0, 44, 29, 50, 180, 1, 9, 27, 100]
abbrev dktX1_further_1 : List UInt8 := dkwX1_further_1 ++ dktX1_further_2
def dkwX1_further_0 : List UInt8 := [27, 184, 0, 163, 154, 0, 7, 17, 252, 24, 172, 3, 61, 3, 62, 29, 42, 180, 0, 240, 162, 0, 87, 3]
abbrev dktX1_further_0 : List UInt8 := dkwX1_further_0 ++ dktX1_further_1
theorem dksX1_further_0 : cX1_further.data.toList.drop 0 = dktX1_further_0 := by decide +kernel
theorem dksX1_further_1 : cX1_further.data.toList.drop 24 = dktX1_further_1 := dk_seg dksX1_further_0 24 rfl rfl
theorem dksX1_further_2 : cX1_further.data.toList.drop 46 = dktX1_further_2 := dk_seg dksX1_further_1 22 rfl rfl
theorem dksX1_further_3 : cX1_further.data.toList.drop 70 = dktX1_further_3 := dk_seg dksX1_further_2 24 rfl rfl
theorem dksX1_further_4 : cX1_further.data.toList.drop 94 = dktX1_further_4 := dk_seg dksX1_further_3 24 rfl rfl
theorem dX1_further_0 : decode cX1_further 0 = .ok (.iload_n 1, 1) := dk_27 (dk_at dksX1_further_0 0 rfl rfl)
theorem dX1_further_1 : decode cX1_further 1 = .ok (.invokestatic 163, 3) := dk_184 0 163 (dk_at dksX1_further_0 1 rfl rfl)
theorem dX1_further_4 : decode cX1_further 4 = .ok (.ifCond .ne 7, 3) := dk_154 0 7 (dk_at dksX1_further_0 4 rfl rfl)
theorem dX1_further_7 : decode cX1_further 7 = .ok (.sipush (-1000), 3) := dk_17 252 24 (dk_at dksX1_further_0 7 rfl rfl)
theorem dX1_further_10 : decode cX1_further 10 = .ok (.ireturn, 1) := dk_172 (dk_at dksX1_further_0 10 rfl rfl)
theorem dX1_further_11 : decode cX1_further 11 = .ok (.iconst 0, 1) := dk_3 (dk_at dksX1_further_0 11 rfl rfl)
theorem dX1_further_12 : decode cX1_further 12 = .ok (.istore_n 2, 1) := dk_61 (dk_at dksX1_further_0 12 rfl rfl)
theorem dX1_further_13 : decode cX1_further 13 = .ok (.iconst 0, 1) := dk_3 (dk_at dksX1_further_0 13 rfl rfl)
theorem dX1_further_14 : decode cX1_further 14 = .ok (.istore_n 3, 1) := dk_62 (dk_at dksX1_further_0 14 rfl rfl)
theorem dX1_further_15 : decode cX1_further 15 = .ok (.iload_n 3, 1) := dk_29 (dk_at dksX1_further_0 15 rfl rfl)
theorem dX1_further_16 : decode cX1_further 16 = .ok (.aload_n 0, 1) := dk_42 (dk_at dksX1_further_0 16 rfl rfl)
theorem dX1_further_17 : decode cX1_further 17 = .ok (.getfield 240, 3) := dk_180 0 240 (dk_at dksX1_further_0 17 rfl rfl)
theorem dX1_further_20 : decode cX1_further 20 = .ok (.if_icmp .ge 87, 3) := dk_162 0 87 (dk_at dksX1_further_0 20 rfl rfl)
theorem dX1_further_23 : decode cX1_further 23 = .ok (.iconst 0, 1) := dk_3 (dk_at dksX1_further_0 23 rfl rfl)
theorem dX1_further_24 : decode cX1_further 24 = .ok (.istore 4, 2) := dk_54 4 (dk_at dksX1_further_1 0 rfl rfl)
theorem dX1_further_26 : decode cX1_further 26 = .ok (.iload 4, 2) := dk_21 4 (dk_at dksX1_further_1 2 rfl rfl)
theorem dX1_further_28 : decode cX1_further 28 = .ok (.aload_n 0, 1) := dk_42 (dk_at dksX1_further_1 4 rfl rfl)
theorem dX1_further_29 : decode cX1_further 29 = .ok (.getfield 240, 3) := dk_180 0 240 (dk_at dksX1_further_1 5 rfl rfl)
theorem dX1_further_32 : decode cX1_further 32 = .ok (.if_icmp .ge 69, 3) := dk_162 0 69 (dk_at dksX1_further_1 8 rfl rfl)
theorem dX1_further_35 : decode cX1_further 35 = .ok (.aload_n 0, 1) := dk_42 (dk_at dksX1_further_1 11 rfl rfl)
theorem dX1_further_36 : decode cX1_further 36 = .ok (.getfield 44, 3) := dk_180 0 44 (dk_at dksX1_further_1 12 rfl rfl)
theorem dX1_further_39 : decode cX1_further 39 = .ok (.iload_n 3, 1) := dk_29 (dk_at dksX1_further_1 15 rfl rfl)
theorem dX1_further_40 : decode cX1_further 40 = .ok (.aaload, 1) := dk_50 (dk_at dksX1_further_1 16 rfl rfl)
theorem dX1_further_41 : decode cX1_further 41 = .ok (.getfield 265, 3) := dk_180 1 9 (dk_at dksX1_further_1 17 rfl rfl)
theorem dX1_further_44 : decode cX1_further 44 = .ok (.iload_n 1, 1) := dk_27 (dk_at dksX1_further_1 20 rfl rfl)
theorem dX1_further_45 : decode cX1_further 45 = .ok (.isub, 1) := dk_100 (dk_at dksX1_further_1 21 rfl rfl)
theorem dX1_further_46 : decode cX1_further 46 = .ok (.invokestatic 274, 3) := dk_184 1 18 (dk_at dksX1_further_2 0 rfl rfl)
theorem dX1_further_49 : decode cX1_further 49 = .ok (.aload_n 0, 1) := dk_42 (dk_at dksX1_further_2 3 rfl rfl)
theorem dX1_further_50 : decode cX1_further 50 = .ok (.getfield 44, 3) := dk_180 0 44 (dk_at dksX1_further_2 4 rfl rfl)
theorem dX1_further_53 : decode cX1_further 53 = .ok (.iload 4, 2) := dk_21 4 (dk_at dksX1_further_2 7 rfl rfl)
theorem dX1_further_55 : decode cX1_further 55 = .ok (.aaload, 1) := dk_50 (dk_at dksX1_further_2 9 rfl rfl)
theorem dX1_further_56 : decode cX1_further 56 = .ok (.getfield 265, 3) := dk_180 1 9 (dk_at dksX1_further_2 10 rfl rfl)
theorem dX1_further_59 : decode cX1_further 59 = .ok (.iload_n 1, 1) := dk_27 (dk_at dksX1_further_2 13 rfl rfl)
theorem dX1_further_60 : decode cX1_further 60 = .ok (.isub, 1) := dk_100 (dk_at dksX1_further_2 14 rfl rfl)
theorem dX1_further_61 : decode cX1_further 61 = .ok (.invokestatic 274, 3) := dk_184 1 18 (dk_at dksX1_further_2 15 rfl rfl)
theorem dX1_further_64 : decode cX1_further 64 = .ok (.if_icmp .gt 6, 3) := dk_163 0 6 (dk_at dksX1_further_2 18 rfl rfl)
theorem dX1_further_67 : decode cX1_further 67 = .ok (.goto 28, 3) := dk_167 0 28 (dk_at dksX1_further_2 21 rfl rfl)
theorem dX1_further_70 : decode cX1_further 70 = .ok (.iload_n 2, 1) := dk_28 (dk_at dksX1_further_3 0 rfl rfl)
theorem dX1_further_71 : decode cX1_further 71 = .ok (.aload_n 0, 1) := dk_42 (dk_at dksX1_further_3 1 rfl rfl)
theorem dX1_further_72 : decode cX1_further 72 = .ok (.getfield 44, 3) := dk_180 0 44 (dk_at dksX1_further_3 2 rfl rfl)
theorem dX1_further_75 : decode cX1_further 75 = .ok (.iload_n 3, 1) := dk_29 (dk_at dksX1_further_3 5 rfl rfl)
theorem dX1_further_76 : decode cX1_further 76 = .ok (.aaload, 1) := dk_50 (dk_at dksX1_further_3 6 rfl rfl)
theorem dX1_further_77 : decode cX1_further 77 = .ok (.getfield 262, 3) := dk_180 1 6 (dk_at dksX1_further_3 7 rfl rfl)
theorem dX1_further_80 : decode cX1_further 80 = .ok (.aload_n 0, 1) := dk_42 (dk_at dksX1_further_3 10 rfl rfl)
theorem dX1_further_81 : decode cX1_further 81 = .ok (.getfield 44, 3) := dk_180 0 44 (dk_at dksX1_further_3 11 rfl rfl)
theorem dX1_further_84 : decode cX1_further 84 = .ok (.iload 4, 2) := dk_21 4 (dk_at dksX1_further_3 14 rfl rfl)
theorem dX1_further_86 : decode cX1_further 86 = .ok (.aaload, 1) := dk_50 (dk_at dksX1_further_3 16 rfl rfl)
theorem dX1_further_87 : decode cX1_further 87 = .ok (.getfield 262, 3) := dk_180 1 6 (dk_at dksX1_further_3 17 rfl rfl)
theorem dX1_further_90 : decode cX1_further 90 = .ok (.invokestatic 290, 3) := dk_184 1 34 (dk_at dksX1_further_3 20 rfl rfl)
theorem dX1_further_93 : decode cX1_further 93 = .ok (.iadd, 1) := dk_96 (dk_at dksX1_further_3 23 rfl rfl)
theorem dX1_further_94 : decode cX1_further 94 = .ok (.istore_n 2, 1) := dk_61 (dk_at dksX1_further_4 0 rfl rfl)
theorem dX1_further_95 : decode cX1_further 95 = .ok (.iinc 4 1, 3) := dk_132 4 1 (dk_at dksX1_further_4 1 rfl rfl)
theorem dX1_further_98 : decode cX1_further 98 = .ok (.goto (-72), 3) := dk_167 255 184 (dk_at dksX1_further_4 4 rfl rfl)
theorem dX1_further_101 : decode cX1_further 101 = .ok (.iinc 3 1, 3) := dk_132 3 1 (dk_at dksX1_further_4 7 rfl rfl)
theorem dX1_further_104 : decode cX1_further 104 = .ok (.goto (-89), 3) := dk_167 255 167 (dk_at dksX1_further_4 10 rfl rfl)
theorem dX1_further_107 : decode cX1_further 107 = .ok (.iload_n 2, 1) := dk_28 (dk_at dksX1_further_4 13 rfl rfl)
theorem dX1_further_108 : decode cX1_further 108 = .ok (.ireturn, 1) := dk_172 (dk_at dksX1_further_4 14 rfl rfl)
abbrev cX1_born : ByteArray := prog_1_method_35_code
def yX1_born : MethodName := ⟨RX1, "born", "(IIII)Z"⟩
def dkwX1_born_1 : List UInt8 := [21, 4, 182, 0, 153, 181, 0, 48, 42, 27, 181, 1, 39, 4, 172]
abbrev dktX1_born_1 : List UInt8 := dkwX1_born_1 ++ []
def dkwX1_born_0 : List UInt8 := [42, 27, 28, 29, 21, 4, 182, 0, 146, 154, 0, 5, 3, 172, 42, 42, 180, 0, 27, 27, 50, 28, 29]
abbrev dktX1_born_0 : List UInt8 := dkwX1_born_0 ++ dktX1_born_1
theorem dksX1_born_0 : cX1_born.data.toList.drop 0 = dktX1_born_0 := by decide +kernel
theorem dksX1_born_1 : cX1_born.data.toList.drop 23 = dktX1_born_1 := dk_seg dksX1_born_0 23 rfl rfl
theorem dX1_born_0 : decode cX1_born 0 = .ok (.aload_n 0, 1) := dk_42 (dk_at dksX1_born_0 0 rfl rfl)
theorem dX1_born_1 : decode cX1_born 1 = .ok (.iload_n 1, 1) := dk_27 (dk_at dksX1_born_0 1 rfl rfl)
theorem dX1_born_2 : decode cX1_born 2 = .ok (.iload_n 2, 1) := dk_28 (dk_at dksX1_born_0 2 rfl rfl)
theorem dX1_born_3 : decode cX1_born 3 = .ok (.iload_n 3, 1) := dk_29 (dk_at dksX1_born_0 3 rfl rfl)
theorem dX1_born_4 : decode cX1_born 4 = .ok (.iload 4, 2) := dk_21 4 (dk_at dksX1_born_0 4 rfl rfl)
theorem dX1_born_6 : decode cX1_born 6 = .ok (.invokevirtual 146, 3) := dk_182 0 146 (dk_at dksX1_born_0 6 rfl rfl)
theorem dX1_born_9 : decode cX1_born 9 = .ok (.ifCond .ne 5, 3) := dk_154 0 5 (dk_at dksX1_born_0 9 rfl rfl)
theorem dX1_born_12 : decode cX1_born 12 = .ok (.iconst 0, 1) := dk_3 (dk_at dksX1_born_0 12 rfl rfl)
theorem dX1_born_13 : decode cX1_born 13 = .ok (.ireturn, 1) := dk_172 (dk_at dksX1_born_0 13 rfl rfl)
theorem dX1_born_14 : decode cX1_born 14 = .ok (.aload_n 0, 1) := dk_42 (dk_at dksX1_born_0 14 rfl rfl)
theorem dX1_born_15 : decode cX1_born 15 = .ok (.aload_n 0, 1) := dk_42 (dk_at dksX1_born_0 15 rfl rfl)
theorem dX1_born_16 : decode cX1_born 16 = .ok (.getfield 27, 3) := dk_180 0 27 (dk_at dksX1_born_0 16 rfl rfl)
theorem dX1_born_19 : decode cX1_born 19 = .ok (.iload_n 1, 1) := dk_27 (dk_at dksX1_born_0 19 rfl rfl)
theorem dX1_born_20 : decode cX1_born 20 = .ok (.aaload, 1) := dk_50 (dk_at dksX1_born_0 20 rfl rfl)
theorem dX1_born_21 : decode cX1_born 21 = .ok (.iload_n 2, 1) := dk_28 (dk_at dksX1_born_0 21 rfl rfl)
theorem dX1_born_22 : decode cX1_born 22 = .ok (.iload_n 3, 1) := dk_29 (dk_at dksX1_born_0 22 rfl rfl)
theorem dX1_born_23 : decode cX1_born 23 = .ok (.iload 4, 2) := dk_21 4 (dk_at dksX1_born_1 0 rfl rfl)
theorem dX1_born_25 : decode cX1_born 25 = .ok (.invokevirtual 153, 3) := dk_182 0 153 (dk_at dksX1_born_1 2 rfl rfl)
theorem dX1_born_28 : decode cX1_born 28 = .ok (.putfield 48, 3) := dk_181 0 48 (dk_at dksX1_born_1 5 rfl rfl)
theorem dX1_born_31 : decode cX1_born 31 = .ok (.aload_n 0, 1) := dk_42 (dk_at dksX1_born_1 8 rfl rfl)
theorem dX1_born_32 : decode cX1_born 32 = .ok (.iload_n 1, 1) := dk_27 (dk_at dksX1_born_1 9 rfl rfl)
theorem dX1_born_33 : decode cX1_born 33 = .ok (.putfield 295, 3) := dk_181 1 39 (dk_at dksX1_born_1 10 rfl rfl)
theorem dX1_born_36 : decode cX1_born 36 = .ok (.iconst 1, 1) := dk_4 (dk_at dksX1_born_1 13 rfl rfl)
theorem dX1_born_37 : decode cX1_born 37 = .ok (.ireturn, 1) := dk_172 (dk_at dksX1_born_1 14 rfl rfl)
abbrev cX1_age : ByteArray := prog_1_method_37_code
def yX1_age : MethodName := ⟨RX1, "age", "(IIII)I"⟩
def dkwX1_age_5 : List UInt8 := [167, 255, 216, 21, 6, 172]
abbrev dktX1_age_5 : List UInt8 := dkwX1_age_5 ++ []
def dkwX1_age_4 : List UInt8 := [21, 8, 2, 159, 0, 14, 21, 8, 21, 5, 163, 0, 7, 4, 167, 0, 4, 3, 96, 54, 6, 132, 7, 1]
abbrev dktX1_age_4 : List UInt8 := dkwX1_age_4 ++ dktX1_age_5
def dkwX1_age_3 : List UInt8 := [3, 182, 0, 159, 4, 96, 54, 7, 21, 7, 28, 163, 0, 40, 42, 21, 7, 182, 1, 45, 54, 8, 21, 6]
abbrev dktX1_age_3 : List UInt8 := dkwX1_age_3 ++ dktX1_age_4
def dkwX1_age_2 : List UInt8 := [21, 5, 42, 180, 0, 48, 162, 0, 5, 2, 172, 3, 54, 6, 42, 180, 0, 27, 27, 50, 42, 180, 0, 48]
abbrev dktX1_age_2 : List UInt8 := dkwX1_age_2 ++ dktX1_age_3
def dkwX1_age_1 : List UInt8 := [182, 0, 146, 154, 0, 5, 2, 172, 42, 180, 0, 27, 27, 50, 28, 29, 21, 4, 182, 0, 153, 54, 5]
abbrev dktX1_age_1 : List UInt8 := dkwX1_age_1 ++ dktX1_age_2
def dkwX1_age_0 : List UInt8 := [42, 180, 0, 48, 2, 159, 0, 23, 27, 42, 180, 1, 39, 160, 0, 15, 42, 27, 28, 29, 21, 4]
abbrev dktX1_age_0 : List UInt8 := dkwX1_age_0 ++ dktX1_age_1
theorem dksX1_age_0 : cX1_age.data.toList.drop 0 = dktX1_age_0 := by decide +kernel
theorem dksX1_age_1 : cX1_age.data.toList.drop 22 = dktX1_age_1 := dk_seg dksX1_age_0 22 rfl rfl
theorem dksX1_age_2 : cX1_age.data.toList.drop 45 = dktX1_age_2 := dk_seg dksX1_age_1 23 rfl rfl
theorem dksX1_age_3 : cX1_age.data.toList.drop 69 = dktX1_age_3 := dk_seg dksX1_age_2 24 rfl rfl
theorem dksX1_age_4 : cX1_age.data.toList.drop 93 = dktX1_age_4 := dk_seg dksX1_age_3 24 rfl rfl
theorem dksX1_age_5 : cX1_age.data.toList.drop 117 = dktX1_age_5 := dk_seg dksX1_age_4 24 rfl rfl
theorem dX1_age_0 : decode cX1_age 0 = .ok (.aload_n 0, 1) := dk_42 (dk_at dksX1_age_0 0 rfl rfl)
theorem dX1_age_1 : decode cX1_age 1 = .ok (.getfield 48, 3) := dk_180 0 48 (dk_at dksX1_age_0 1 rfl rfl)
theorem dX1_age_4 : decode cX1_age 4 = .ok (.iconst (-1), 1) := dk_2 (dk_at dksX1_age_0 4 rfl rfl)
theorem dX1_age_5 : decode cX1_age 5 = .ok (.if_icmp .eq 23, 3) := dk_159 0 23 (dk_at dksX1_age_0 5 rfl rfl)
theorem dX1_age_8 : decode cX1_age 8 = .ok (.iload_n 1, 1) := dk_27 (dk_at dksX1_age_0 8 rfl rfl)
theorem dX1_age_9 : decode cX1_age 9 = .ok (.aload_n 0, 1) := dk_42 (dk_at dksX1_age_0 9 rfl rfl)
theorem dX1_age_10 : decode cX1_age 10 = .ok (.getfield 295, 3) := dk_180 1 39 (dk_at dksX1_age_0 10 rfl rfl)
theorem dX1_age_13 : decode cX1_age 13 = .ok (.if_icmp .ne 15, 3) := dk_160 0 15 (dk_at dksX1_age_0 13 rfl rfl)
theorem dX1_age_16 : decode cX1_age 16 = .ok (.aload_n 0, 1) := dk_42 (dk_at dksX1_age_0 16 rfl rfl)
theorem dX1_age_17 : decode cX1_age 17 = .ok (.iload_n 1, 1) := dk_27 (dk_at dksX1_age_0 17 rfl rfl)
theorem dX1_age_18 : decode cX1_age 18 = .ok (.iload_n 2, 1) := dk_28 (dk_at dksX1_age_0 18 rfl rfl)
theorem dX1_age_19 : decode cX1_age 19 = .ok (.iload_n 3, 1) := dk_29 (dk_at dksX1_age_0 19 rfl rfl)
theorem dX1_age_20 : decode cX1_age 20 = .ok (.iload 4, 2) := dk_21 4 (dk_at dksX1_age_0 20 rfl rfl)
theorem dX1_age_22 : decode cX1_age 22 = .ok (.invokevirtual 146, 3) := dk_182 0 146 (dk_at dksX1_age_1 0 rfl rfl)
theorem dX1_age_25 : decode cX1_age 25 = .ok (.ifCond .ne 5, 3) := dk_154 0 5 (dk_at dksX1_age_1 3 rfl rfl)
theorem dX1_age_28 : decode cX1_age 28 = .ok (.iconst (-1), 1) := dk_2 (dk_at dksX1_age_1 6 rfl rfl)
theorem dX1_age_29 : decode cX1_age 29 = .ok (.ireturn, 1) := dk_172 (dk_at dksX1_age_1 7 rfl rfl)
theorem dX1_age_30 : decode cX1_age 30 = .ok (.aload_n 0, 1) := dk_42 (dk_at dksX1_age_1 8 rfl rfl)
theorem dX1_age_31 : decode cX1_age 31 = .ok (.getfield 27, 3) := dk_180 0 27 (dk_at dksX1_age_1 9 rfl rfl)
theorem dX1_age_34 : decode cX1_age 34 = .ok (.iload_n 1, 1) := dk_27 (dk_at dksX1_age_1 12 rfl rfl)
theorem dX1_age_35 : decode cX1_age 35 = .ok (.aaload, 1) := dk_50 (dk_at dksX1_age_1 13 rfl rfl)
theorem dX1_age_36 : decode cX1_age 36 = .ok (.iload_n 2, 1) := dk_28 (dk_at dksX1_age_1 14 rfl rfl)
theorem dX1_age_37 : decode cX1_age 37 = .ok (.iload_n 3, 1) := dk_29 (dk_at dksX1_age_1 15 rfl rfl)
theorem dX1_age_38 : decode cX1_age 38 = .ok (.iload 4, 2) := dk_21 4 (dk_at dksX1_age_1 16 rfl rfl)
theorem dX1_age_40 : decode cX1_age 40 = .ok (.invokevirtual 153, 3) := dk_182 0 153 (dk_at dksX1_age_1 18 rfl rfl)
theorem dX1_age_43 : decode cX1_age 43 = .ok (.istore 5, 2) := dk_54 5 (dk_at dksX1_age_1 21 rfl rfl)
theorem dX1_age_45 : decode cX1_age 45 = .ok (.iload 5, 2) := dk_21 5 (dk_at dksX1_age_2 0 rfl rfl)
theorem dX1_age_47 : decode cX1_age 47 = .ok (.aload_n 0, 1) := dk_42 (dk_at dksX1_age_2 2 rfl rfl)
theorem dX1_age_48 : decode cX1_age 48 = .ok (.getfield 48, 3) := dk_180 0 48 (dk_at dksX1_age_2 3 rfl rfl)
theorem dX1_age_51 : decode cX1_age 51 = .ok (.if_icmp .ge 5, 3) := dk_162 0 5 (dk_at dksX1_age_2 6 rfl rfl)
theorem dX1_age_54 : decode cX1_age 54 = .ok (.iconst (-1), 1) := dk_2 (dk_at dksX1_age_2 9 rfl rfl)
theorem dX1_age_55 : decode cX1_age 55 = .ok (.ireturn, 1) := dk_172 (dk_at dksX1_age_2 10 rfl rfl)
theorem dX1_age_56 : decode cX1_age 56 = .ok (.iconst 0, 1) := dk_3 (dk_at dksX1_age_2 11 rfl rfl)
theorem dX1_age_57 : decode cX1_age 57 = .ok (.istore 6, 2) := dk_54 6 (dk_at dksX1_age_2 12 rfl rfl)
theorem dX1_age_59 : decode cX1_age 59 = .ok (.aload_n 0, 1) := dk_42 (dk_at dksX1_age_2 14 rfl rfl)
theorem dX1_age_60 : decode cX1_age 60 = .ok (.getfield 27, 3) := dk_180 0 27 (dk_at dksX1_age_2 15 rfl rfl)
theorem dX1_age_63 : decode cX1_age 63 = .ok (.iload_n 1, 1) := dk_27 (dk_at dksX1_age_2 18 rfl rfl)
theorem dX1_age_64 : decode cX1_age 64 = .ok (.aaload, 1) := dk_50 (dk_at dksX1_age_2 19 rfl rfl)
theorem dX1_age_65 : decode cX1_age 65 = .ok (.aload_n 0, 1) := dk_42 (dk_at dksX1_age_2 20 rfl rfl)
theorem dX1_age_66 : decode cX1_age 66 = .ok (.getfield 48, 3) := dk_180 0 48 (dk_at dksX1_age_2 21 rfl rfl)
theorem dX1_age_69 : decode cX1_age 69 = .ok (.iconst 0, 1) := dk_3 (dk_at dksX1_age_3 0 rfl rfl)
theorem dX1_age_70 : decode cX1_age 70 = .ok (.invokevirtual 159, 3) := dk_182 0 159 (dk_at dksX1_age_3 1 rfl rfl)
theorem dX1_age_73 : decode cX1_age 73 = .ok (.iconst 1, 1) := dk_4 (dk_at dksX1_age_3 4 rfl rfl)
theorem dX1_age_74 : decode cX1_age 74 = .ok (.iadd, 1) := dk_96 (dk_at dksX1_age_3 5 rfl rfl)
theorem dX1_age_75 : decode cX1_age 75 = .ok (.istore 7, 2) := dk_54 7 (dk_at dksX1_age_3 6 rfl rfl)
theorem dX1_age_77 : decode cX1_age 77 = .ok (.iload 7, 2) := dk_21 7 (dk_at dksX1_age_3 8 rfl rfl)
theorem dX1_age_79 : decode cX1_age 79 = .ok (.iload_n 2, 1) := dk_28 (dk_at dksX1_age_3 10 rfl rfl)
theorem dX1_age_80 : decode cX1_age 80 = .ok (.if_icmp .gt 40, 3) := dk_163 0 40 (dk_at dksX1_age_3 11 rfl rfl)
theorem dX1_age_83 : decode cX1_age 83 = .ok (.aload_n 0, 1) := dk_42 (dk_at dksX1_age_3 14 rfl rfl)
theorem dX1_age_84 : decode cX1_age 84 = .ok (.iload 7, 2) := dk_21 7 (dk_at dksX1_age_3 15 rfl rfl)
theorem dX1_age_86 : decode cX1_age 86 = .ok (.invokevirtual 301, 3) := dk_182 1 45 (dk_at dksX1_age_3 17 rfl rfl)
theorem dX1_age_89 : decode cX1_age 89 = .ok (.istore 8, 2) := dk_54 8 (dk_at dksX1_age_3 20 rfl rfl)
theorem dX1_age_91 : decode cX1_age 91 = .ok (.iload 6, 2) := dk_21 6 (dk_at dksX1_age_3 22 rfl rfl)
theorem dX1_age_93 : decode cX1_age 93 = .ok (.iload 8, 2) := dk_21 8 (dk_at dksX1_age_4 0 rfl rfl)
theorem dX1_age_95 : decode cX1_age 95 = .ok (.iconst (-1), 1) := dk_2 (dk_at dksX1_age_4 2 rfl rfl)
theorem dX1_age_96 : decode cX1_age 96 = .ok (.if_icmp .eq 14, 3) := dk_159 0 14 (dk_at dksX1_age_4 3 rfl rfl)
theorem dX1_age_99 : decode cX1_age 99 = .ok (.iload 8, 2) := dk_21 8 (dk_at dksX1_age_4 6 rfl rfl)
theorem dX1_age_101 : decode cX1_age 101 = .ok (.iload 5, 2) := dk_21 5 (dk_at dksX1_age_4 8 rfl rfl)
theorem dX1_age_103 : decode cX1_age 103 = .ok (.if_icmp .gt 7, 3) := dk_163 0 7 (dk_at dksX1_age_4 10 rfl rfl)
theorem dX1_age_106 : decode cX1_age 106 = .ok (.iconst 1, 1) := dk_4 (dk_at dksX1_age_4 13 rfl rfl)
theorem dX1_age_107 : decode cX1_age 107 = .ok (.goto 4, 3) := dk_167 0 4 (dk_at dksX1_age_4 14 rfl rfl)
theorem dX1_age_110 : decode cX1_age 110 = .ok (.iconst 0, 1) := dk_3 (dk_at dksX1_age_4 17 rfl rfl)
theorem dX1_age_111 : decode cX1_age 111 = .ok (.iadd, 1) := dk_96 (dk_at dksX1_age_4 18 rfl rfl)
theorem dX1_age_112 : decode cX1_age 112 = .ok (.istore 6, 2) := dk_54 6 (dk_at dksX1_age_4 19 rfl rfl)
theorem dX1_age_114 : decode cX1_age 114 = .ok (.iinc 7 1, 3) := dk_132 7 1 (dk_at dksX1_age_4 21 rfl rfl)
theorem dX1_age_117 : decode cX1_age 117 = .ok (.goto (-40), 3) := dk_167 255 216 (dk_at dksX1_age_5 0 rfl rfl)
theorem dX1_age_120 : decode cX1_age 120 = .ok (.iload 6, 2) := dk_21 6 (dk_at dksX1_age_5 3 rfl rfl)
theorem dX1_age_122 : decode cX1_age 122 = .ok (.ireturn, 1) := dk_172 (dk_at dksX1_age_5 5 rfl rfl)
abbrev cX1_birthday : ByteArray := prog_1_method_36_code
def yX1_birthday : MethodName := ⟨RX1, "birthday", "(I)I"⟩
def dkwX1_birthday_5 : List UInt8 := [21, 4, 21, 5, 182, 0, 153, 167, 0, 4, 2, 172]
abbrev dktX1_birthday_5 : List UInt8 := dkwX1_birthday_5 ++ []
def dkwX1_birthday_4 : List UInt8 := [54, 4, 132, 3, 1, 167, 255, 190, 29, 17, 39, 15, 27, 4, 96, 184, 1, 42, 163, 0, 15, 44, 29]
abbrev dktX1_birthday_4 : List UInt8 := dkwX1_birthday_4 ++ dktX1_birthday_5
def dkwX1_birthday_3 : List UInt8 := [4, 160, 0, 7, 4, 167, 0, 4, 3, 96, 54, 4, 21, 4, 16, 13, 162, 0, 6, 167, 255, 199, 4]
abbrev dktX1_birthday_3 : List UInt8 := dkwX1_birthday_3 ++ dktX1_birthday_4
def dkwX1_birthday_2 : List UInt8 := [29, 21, 4, 21, 5, 182, 0, 140, 154, 0, 47, 21, 5, 16, 31, 112, 4, 96, 54, 5, 21, 4, 21, 5]
abbrev dktX1_birthday_2 : List UInt8 := dkwX1_birthday_2 ++ dktX1_birthday_3
def dkwX1_birthday_1 : List UInt8 := [42, 180, 0, 48, 5, 182, 0, 159, 54, 5, 29, 17, 39, 15, 27, 4, 96, 184, 1, 42, 163, 0, 59, 44]
abbrev dktX1_birthday_1 : List UInt8 := dkwX1_birthday_1 ++ dktX1_birthday_2
def dkwX1_birthday_0 : List UInt8 := [42, 180, 0, 27, 42, 180, 1, 39, 50, 77, 27, 62, 44, 42, 180, 0, 48, 4, 182, 0, 159, 54, 4, 44]
abbrev dktX1_birthday_0 : List UInt8 := dkwX1_birthday_0 ++ dktX1_birthday_1
theorem dksX1_birthday_0 : cX1_birthday.data.toList.drop 0 = dktX1_birthday_0 := by decide +kernel
theorem dksX1_birthday_1 : cX1_birthday.data.toList.drop 24 = dktX1_birthday_1 := dk_seg dksX1_birthday_0 24 rfl rfl
theorem dksX1_birthday_2 : cX1_birthday.data.toList.drop 48 = dktX1_birthday_2 := dk_seg dksX1_birthday_1 24 rfl rfl
theorem dksX1_birthday_3 : cX1_birthday.data.toList.drop 72 = dktX1_birthday_3 := dk_seg dksX1_birthday_2 24 rfl rfl
theorem dksX1_birthday_4 : cX1_birthday.data.toList.drop 95 = dktX1_birthday_4 := dk_seg dksX1_birthday_3 23 rfl rfl
theorem dksX1_birthday_5 : cX1_birthday.data.toList.drop 118 = dktX1_birthday_5 := dk_seg dksX1_birthday_4 23 rfl rfl
theorem dX1_birthday_0 : decode cX1_birthday 0 = .ok (.aload_n 0, 1) := dk_42 (dk_at dksX1_birthday_0 0 rfl rfl)
theorem dX1_birthday_1 : decode cX1_birthday 1 = .ok (.getfield 27, 3) := dk_180 0 27 (dk_at dksX1_birthday_0 1 rfl rfl)
theorem dX1_birthday_4 : decode cX1_birthday 4 = .ok (.aload_n 0, 1) := dk_42 (dk_at dksX1_birthday_0 4 rfl rfl)
theorem dX1_birthday_5 : decode cX1_birthday 5 = .ok (.getfield 295, 3) := dk_180 1 39 (dk_at dksX1_birthday_0 5 rfl rfl)
theorem dX1_birthday_8 : decode cX1_birthday 8 = .ok (.aaload, 1) := dk_50 (dk_at dksX1_birthday_0 8 rfl rfl)
theorem dX1_birthday_9 : decode cX1_birthday 9 = .ok (.astore_n 2, 1) := dk_77 (dk_at dksX1_birthday_0 9 rfl rfl)
theorem dX1_birthday_10 : decode cX1_birthday 10 = .ok (.iload_n 1, 1) := dk_27 (dk_at dksX1_birthday_0 10 rfl rfl)
theorem dX1_birthday_11 : decode cX1_birthday 11 = .ok (.istore_n 3, 1) := dk_62 (dk_at dksX1_birthday_0 11 rfl rfl)
theorem dX1_birthday_12 : decode cX1_birthday 12 = .ok (.aload_n 2, 1) := dk_44 (dk_at dksX1_birthday_0 12 rfl rfl)
theorem dX1_birthday_13 : decode cX1_birthday 13 = .ok (.aload_n 0, 1) := dk_42 (dk_at dksX1_birthday_0 13 rfl rfl)
theorem dX1_birthday_14 : decode cX1_birthday 14 = .ok (.getfield 48, 3) := dk_180 0 48 (dk_at dksX1_birthday_0 14 rfl rfl)
theorem dX1_birthday_17 : decode cX1_birthday 17 = .ok (.iconst 1, 1) := dk_4 (dk_at dksX1_birthday_0 17 rfl rfl)
theorem dX1_birthday_18 : decode cX1_birthday 18 = .ok (.invokevirtual 159, 3) := dk_182 0 159 (dk_at dksX1_birthday_0 18 rfl rfl)
theorem dX1_birthday_21 : decode cX1_birthday 21 = .ok (.istore 4, 2) := dk_54 4 (dk_at dksX1_birthday_0 21 rfl rfl)
theorem dX1_birthday_23 : decode cX1_birthday 23 = .ok (.aload_n 2, 1) := dk_44 (dk_at dksX1_birthday_0 23 rfl rfl)
theorem dX1_birthday_24 : decode cX1_birthday 24 = .ok (.aload_n 0, 1) := dk_42 (dk_at dksX1_birthday_1 0 rfl rfl)
theorem dX1_birthday_25 : decode cX1_birthday 25 = .ok (.getfield 48, 3) := dk_180 0 48 (dk_at dksX1_birthday_1 1 rfl rfl)
theorem dX1_birthday_28 : decode cX1_birthday 28 = .ok (.iconst 2, 1) := dk_5 (dk_at dksX1_birthday_1 4 rfl rfl)
theorem dX1_birthday_29 : decode cX1_birthday 29 = .ok (.invokevirtual 159, 3) := dk_182 0 159 (dk_at dksX1_birthday_1 5 rfl rfl)
theorem dX1_birthday_32 : decode cX1_birthday 32 = .ok (.istore 5, 2) := dk_54 5 (dk_at dksX1_birthday_1 8 rfl rfl)
theorem dX1_birthday_34 : decode cX1_birthday 34 = .ok (.iload_n 3, 1) := dk_29 (dk_at dksX1_birthday_1 10 rfl rfl)
theorem dX1_birthday_35 : decode cX1_birthday 35 = .ok (.sipush 9999, 3) := dk_17 39 15 (dk_at dksX1_birthday_1 11 rfl rfl)
theorem dX1_birthday_38 : decode cX1_birthday 38 = .ok (.iload_n 1, 1) := dk_27 (dk_at dksX1_birthday_1 14 rfl rfl)
theorem dX1_birthday_39 : decode cX1_birthday 39 = .ok (.iconst 1, 1) := dk_4 (dk_at dksX1_birthday_1 15 rfl rfl)
theorem dX1_birthday_40 : decode cX1_birthday 40 = .ok (.iadd, 1) := dk_96 (dk_at dksX1_birthday_1 16 rfl rfl)
theorem dX1_birthday_41 : decode cX1_birthday 41 = .ok (.invokestatic 298, 3) := dk_184 1 42 (dk_at dksX1_birthday_1 17 rfl rfl)
theorem dX1_birthday_44 : decode cX1_birthday 44 = .ok (.if_icmp .gt 59, 3) := dk_163 0 59 (dk_at dksX1_birthday_1 20 rfl rfl)
theorem dX1_birthday_47 : decode cX1_birthday 47 = .ok (.aload_n 2, 1) := dk_44 (dk_at dksX1_birthday_1 23 rfl rfl)
theorem dX1_birthday_48 : decode cX1_birthday 48 = .ok (.iload_n 3, 1) := dk_29 (dk_at dksX1_birthday_2 0 rfl rfl)
theorem dX1_birthday_49 : decode cX1_birthday 49 = .ok (.iload 4, 2) := dk_21 4 (dk_at dksX1_birthday_2 1 rfl rfl)
theorem dX1_birthday_51 : decode cX1_birthday 51 = .ok (.iload 5, 2) := dk_21 5 (dk_at dksX1_birthday_2 3 rfl rfl)
theorem dX1_birthday_53 : decode cX1_birthday 53 = .ok (.invokevirtual 140, 3) := dk_182 0 140 (dk_at dksX1_birthday_2 5 rfl rfl)
theorem dX1_birthday_56 : decode cX1_birthday 56 = .ok (.ifCond .ne 47, 3) := dk_154 0 47 (dk_at dksX1_birthday_2 8 rfl rfl)
theorem dX1_birthday_59 : decode cX1_birthday 59 = .ok (.iload 5, 2) := dk_21 5 (dk_at dksX1_birthday_2 11 rfl rfl)
theorem dX1_birthday_61 : decode cX1_birthday 61 = .ok (.bipush 31, 2) := dk_16 31 (dk_at dksX1_birthday_2 13 rfl rfl)
theorem dX1_birthday_63 : decode cX1_birthday 63 = .ok (.irem, 1) := dk_112 (dk_at dksX1_birthday_2 15 rfl rfl)
theorem dX1_birthday_64 : decode cX1_birthday 64 = .ok (.iconst 1, 1) := dk_4 (dk_at dksX1_birthday_2 16 rfl rfl)
theorem dX1_birthday_65 : decode cX1_birthday 65 = .ok (.iadd, 1) := dk_96 (dk_at dksX1_birthday_2 17 rfl rfl)
theorem dX1_birthday_66 : decode cX1_birthday 66 = .ok (.istore 5, 2) := dk_54 5 (dk_at dksX1_birthday_2 18 rfl rfl)
theorem dX1_birthday_68 : decode cX1_birthday 68 = .ok (.iload 4, 2) := dk_21 4 (dk_at dksX1_birthday_2 20 rfl rfl)
theorem dX1_birthday_70 : decode cX1_birthday 70 = .ok (.iload 5, 2) := dk_21 5 (dk_at dksX1_birthday_2 22 rfl rfl)
theorem dX1_birthday_72 : decode cX1_birthday 72 = .ok (.iconst 1, 1) := dk_4 (dk_at dksX1_birthday_3 0 rfl rfl)
theorem dX1_birthday_73 : decode cX1_birthday 73 = .ok (.if_icmp .ne 7, 3) := dk_160 0 7 (dk_at dksX1_birthday_3 1 rfl rfl)
theorem dX1_birthday_76 : decode cX1_birthday 76 = .ok (.iconst 1, 1) := dk_4 (dk_at dksX1_birthday_3 4 rfl rfl)
theorem dX1_birthday_77 : decode cX1_birthday 77 = .ok (.goto 4, 3) := dk_167 0 4 (dk_at dksX1_birthday_3 5 rfl rfl)
theorem dX1_birthday_80 : decode cX1_birthday 80 = .ok (.iconst 0, 1) := dk_3 (dk_at dksX1_birthday_3 8 rfl rfl)
theorem dX1_birthday_81 : decode cX1_birthday 81 = .ok (.iadd, 1) := dk_96 (dk_at dksX1_birthday_3 9 rfl rfl)
theorem dX1_birthday_82 : decode cX1_birthday 82 = .ok (.istore 4, 2) := dk_54 4 (dk_at dksX1_birthday_3 10 rfl rfl)
theorem dX1_birthday_84 : decode cX1_birthday 84 = .ok (.iload 4, 2) := dk_21 4 (dk_at dksX1_birthday_3 12 rfl rfl)
theorem dX1_birthday_86 : decode cX1_birthday 86 = .ok (.bipush 13, 2) := dk_16 13 (dk_at dksX1_birthday_3 14 rfl rfl)
theorem dX1_birthday_88 : decode cX1_birthday 88 = .ok (.if_icmp .ge 6, 3) := dk_162 0 6 (dk_at dksX1_birthday_3 16 rfl rfl)
theorem dX1_birthday_91 : decode cX1_birthday 91 = .ok (.goto (-57), 3) := dk_167 255 199 (dk_at dksX1_birthday_3 19 rfl rfl)
theorem dX1_birthday_94 : decode cX1_birthday 94 = .ok (.iconst 1, 1) := dk_4 (dk_at dksX1_birthday_3 22 rfl rfl)
theorem dX1_birthday_95 : decode cX1_birthday 95 = .ok (.istore 4, 2) := dk_54 4 (dk_at dksX1_birthday_4 0 rfl rfl)
theorem dX1_birthday_97 : decode cX1_birthday 97 = .ok (.iinc 3 1, 3) := dk_132 3 1 (dk_at dksX1_birthday_4 2 rfl rfl)
theorem dX1_birthday_100 : decode cX1_birthday 100 = .ok (.goto (-66), 3) := dk_167 255 190 (dk_at dksX1_birthday_4 5 rfl rfl)
theorem dX1_birthday_103 : decode cX1_birthday 103 = .ok (.iload_n 3, 1) := dk_29 (dk_at dksX1_birthday_4 8 rfl rfl)
theorem dX1_birthday_104 : decode cX1_birthday 104 = .ok (.sipush 9999, 3) := dk_17 39 15 (dk_at dksX1_birthday_4 9 rfl rfl)
theorem dX1_birthday_107 : decode cX1_birthday 107 = .ok (.iload_n 1, 1) := dk_27 (dk_at dksX1_birthday_4 12 rfl rfl)
theorem dX1_birthday_108 : decode cX1_birthday 108 = .ok (.iconst 1, 1) := dk_4 (dk_at dksX1_birthday_4 13 rfl rfl)
theorem dX1_birthday_109 : decode cX1_birthday 109 = .ok (.iadd, 1) := dk_96 (dk_at dksX1_birthday_4 14 rfl rfl)
theorem dX1_birthday_110 : decode cX1_birthday 110 = .ok (.invokestatic 298, 3) := dk_184 1 42 (dk_at dksX1_birthday_4 15 rfl rfl)
theorem dX1_birthday_113 : decode cX1_birthday 113 = .ok (.if_icmp .gt 15, 3) := dk_163 0 15 (dk_at dksX1_birthday_4 18 rfl rfl)
theorem dX1_birthday_116 : decode cX1_birthday 116 = .ok (.aload_n 2, 1) := dk_44 (dk_at dksX1_birthday_4 21 rfl rfl)
theorem dX1_birthday_117 : decode cX1_birthday 117 = .ok (.iload_n 3, 1) := dk_29 (dk_at dksX1_birthday_4 22 rfl rfl)
theorem dX1_birthday_118 : decode cX1_birthday 118 = .ok (.iload 4, 2) := dk_21 4 (dk_at dksX1_birthday_5 0 rfl rfl)
theorem dX1_birthday_120 : decode cX1_birthday 120 = .ok (.iload 5, 2) := dk_21 5 (dk_at dksX1_birthday_5 2 rfl rfl)
theorem dX1_birthday_122 : decode cX1_birthday 122 = .ok (.invokevirtual 153, 3) := dk_182 0 153 (dk_at dksX1_birthday_5 4 rfl rfl)
theorem dX1_birthday_125 : decode cX1_birthday 125 = .ok (.goto 4, 3) := dk_167 0 4 (dk_at dksX1_birthday_5 7 rfl rfl)
theorem dX1_birthday_128 : decode cX1_birthday 128 = .ok (.iconst (-1), 1) := dk_2 (dk_at dksX1_birthday_5 10 rfl rfl)
theorem dX1_birthday_129 : decode cX1_birthday 129 = .ok (.ireturn, 1) := dk_172 (dk_at dksX1_birthday_5 11 rfl rfl)
abbrev cX1_lived : ByteArray := prog_1_method_39_code
def yX1_lived : MethodName := ⟨RX1, "lived", "(I)I"⟩
def dkwX1_lived_4 : List UInt8 := [167, 255, 191, 28, 29, 184, 1, 48, 172]
abbrev dktX1_lived_4 : List UInt8 := dkwX1_lived_4 ++ []
def dkwX1_lived_3 : List UInt8 := [167, 0, 19, 28, 42, 180, 0, 44, 21, 4, 50, 180, 1, 6, 96, 61, 132, 3, 1, 132, 4, 1]
abbrev dktX1_lived_3 : List UInt8 := dkwX1_lived_3 ++ dktX1_lived_4
def dkwX1_lived_2 : List UInt8 := [180, 0, 48, 161, 0, 7, 4, 167, 0, 4, 3, 27, 154, 0, 7, 4, 167, 0, 4, 3, 159, 0, 6]
abbrev dktX1_lived_2 : List UInt8 := dkwX1_lived_2 ++ dktX1_lived_3
def dkwX1_lived_1 : List UInt8 := [3, 54, 4, 21, 4, 42, 180, 0, 240, 162, 0, 62, 42, 180, 0, 44, 21, 4, 50, 180, 1, 1, 42]
abbrev dktX1_lived_1 : List UInt8 := dkwX1_lived_1 ++ dktX1_lived_2
def dkwX1_lived_0 : List UInt8 := [42, 180, 0, 48, 2, 159, 0, 13, 27, 133, 9, 10, 184, 0, 89, 154, 0, 5, 2, 172, 3, 61, 3, 62]
abbrev dktX1_lived_0 : List UInt8 := dkwX1_lived_0 ++ dktX1_lived_1
theorem dksX1_lived_0 : cX1_lived.data.toList.drop 0 = dktX1_lived_0 := by decide +kernel
theorem dksX1_lived_1 : cX1_lived.data.toList.drop 24 = dktX1_lived_1 := dk_seg dksX1_lived_0 24 rfl rfl
theorem dksX1_lived_2 : cX1_lived.data.toList.drop 47 = dktX1_lived_2 := dk_seg dksX1_lived_1 23 rfl rfl
theorem dksX1_lived_3 : cX1_lived.data.toList.drop 70 = dktX1_lived_3 := dk_seg dksX1_lived_2 23 rfl rfl
theorem dksX1_lived_4 : cX1_lived.data.toList.drop 92 = dktX1_lived_4 := dk_seg dksX1_lived_3 22 rfl rfl
theorem dX1_lived_0 : decode cX1_lived 0 = .ok (.aload_n 0, 1) := dk_42 (dk_at dksX1_lived_0 0 rfl rfl)
theorem dX1_lived_1 : decode cX1_lived 1 = .ok (.getfield 48, 3) := dk_180 0 48 (dk_at dksX1_lived_0 1 rfl rfl)
theorem dX1_lived_4 : decode cX1_lived 4 = .ok (.iconst (-1), 1) := dk_2 (dk_at dksX1_lived_0 4 rfl rfl)
theorem dX1_lived_5 : decode cX1_lived 5 = .ok (.if_icmp .eq 13, 3) := dk_159 0 13 (dk_at dksX1_lived_0 5 rfl rfl)
theorem dX1_lived_8 : decode cX1_lived 8 = .ok (.iload_n 1, 1) := dk_27 (dk_at dksX1_lived_0 8 rfl rfl)
theorem dX1_lived_9 : decode cX1_lived 9 = .ok (.i2l, 1) := dk_133 (dk_at dksX1_lived_0 9 rfl rfl)
theorem dX1_lived_10 : decode cX1_lived 10 = .ok (.lconst 0, 1) := dk_9 (dk_at dksX1_lived_0 10 rfl rfl)
theorem dX1_lived_11 : decode cX1_lived 11 = .ok (.lconst 1, 1) := dk_10 (dk_at dksX1_lived_0 11 rfl rfl)
theorem dX1_lived_12 : decode cX1_lived 12 = .ok (.invokestatic 89, 3) := dk_184 0 89 (dk_at dksX1_lived_0 12 rfl rfl)
theorem dX1_lived_15 : decode cX1_lived 15 = .ok (.ifCond .ne 5, 3) := dk_154 0 5 (dk_at dksX1_lived_0 15 rfl rfl)
theorem dX1_lived_18 : decode cX1_lived 18 = .ok (.iconst (-1), 1) := dk_2 (dk_at dksX1_lived_0 18 rfl rfl)
theorem dX1_lived_19 : decode cX1_lived 19 = .ok (.ireturn, 1) := dk_172 (dk_at dksX1_lived_0 19 rfl rfl)
theorem dX1_lived_20 : decode cX1_lived 20 = .ok (.iconst 0, 1) := dk_3 (dk_at dksX1_lived_0 20 rfl rfl)
theorem dX1_lived_21 : decode cX1_lived 21 = .ok (.istore_n 2, 1) := dk_61 (dk_at dksX1_lived_0 21 rfl rfl)
theorem dX1_lived_22 : decode cX1_lived 22 = .ok (.iconst 0, 1) := dk_3 (dk_at dksX1_lived_0 22 rfl rfl)
theorem dX1_lived_23 : decode cX1_lived 23 = .ok (.istore_n 3, 1) := dk_62 (dk_at dksX1_lived_0 23 rfl rfl)
theorem dX1_lived_24 : decode cX1_lived 24 = .ok (.iconst 0, 1) := dk_3 (dk_at dksX1_lived_1 0 rfl rfl)
theorem dX1_lived_25 : decode cX1_lived 25 = .ok (.istore 4, 2) := dk_54 4 (dk_at dksX1_lived_1 1 rfl rfl)
theorem dX1_lived_27 : decode cX1_lived 27 = .ok (.iload 4, 2) := dk_21 4 (dk_at dksX1_lived_1 3 rfl rfl)
theorem dX1_lived_29 : decode cX1_lived 29 = .ok (.aload_n 0, 1) := dk_42 (dk_at dksX1_lived_1 5 rfl rfl)
theorem dX1_lived_30 : decode cX1_lived 30 = .ok (.getfield 240, 3) := dk_180 0 240 (dk_at dksX1_lived_1 6 rfl rfl)
theorem dX1_lived_33 : decode cX1_lived 33 = .ok (.if_icmp .ge 62, 3) := dk_162 0 62 (dk_at dksX1_lived_1 9 rfl rfl)
theorem dX1_lived_36 : decode cX1_lived 36 = .ok (.aload_n 0, 1) := dk_42 (dk_at dksX1_lived_1 12 rfl rfl)
theorem dX1_lived_37 : decode cX1_lived 37 = .ok (.getfield 44, 3) := dk_180 0 44 (dk_at dksX1_lived_1 13 rfl rfl)
theorem dX1_lived_40 : decode cX1_lived 40 = .ok (.iload 4, 2) := dk_21 4 (dk_at dksX1_lived_1 16 rfl rfl)
theorem dX1_lived_42 : decode cX1_lived 42 = .ok (.aaload, 1) := dk_50 (dk_at dksX1_lived_1 18 rfl rfl)
theorem dX1_lived_43 : decode cX1_lived 43 = .ok (.getfield 257, 3) := dk_180 1 1 (dk_at dksX1_lived_1 19 rfl rfl)
theorem dX1_lived_46 : decode cX1_lived 46 = .ok (.aload_n 0, 1) := dk_42 (dk_at dksX1_lived_1 22 rfl rfl)
theorem dX1_lived_47 : decode cX1_lived 47 = .ok (.getfield 48, 3) := dk_180 0 48 (dk_at dksX1_lived_2 0 rfl rfl)
theorem dX1_lived_50 : decode cX1_lived 50 = .ok (.if_icmp .lt 7, 3) := dk_161 0 7 (dk_at dksX1_lived_2 3 rfl rfl)
theorem dX1_lived_53 : decode cX1_lived 53 = .ok (.iconst 1, 1) := dk_4 (dk_at dksX1_lived_2 6 rfl rfl)
theorem dX1_lived_54 : decode cX1_lived 54 = .ok (.goto 4, 3) := dk_167 0 4 (dk_at dksX1_lived_2 7 rfl rfl)
theorem dX1_lived_57 : decode cX1_lived 57 = .ok (.iconst 0, 1) := dk_3 (dk_at dksX1_lived_2 10 rfl rfl)
theorem dX1_lived_58 : decode cX1_lived 58 = .ok (.iload_n 1, 1) := dk_27 (dk_at dksX1_lived_2 11 rfl rfl)
theorem dX1_lived_59 : decode cX1_lived 59 = .ok (.ifCond .ne 7, 3) := dk_154 0 7 (dk_at dksX1_lived_2 12 rfl rfl)
theorem dX1_lived_62 : decode cX1_lived 62 = .ok (.iconst 1, 1) := dk_4 (dk_at dksX1_lived_2 15 rfl rfl)
theorem dX1_lived_63 : decode cX1_lived 63 = .ok (.goto 4, 3) := dk_167 0 4 (dk_at dksX1_lived_2 16 rfl rfl)
theorem dX1_lived_66 : decode cX1_lived 66 = .ok (.iconst 0, 1) := dk_3 (dk_at dksX1_lived_2 19 rfl rfl)
theorem dX1_lived_67 : decode cX1_lived 67 = .ok (.if_icmp .eq 6, 3) := dk_159 0 6 (dk_at dksX1_lived_2 20 rfl rfl)
theorem dX1_lived_70 : decode cX1_lived 70 = .ok (.goto 19, 3) := dk_167 0 19 (dk_at dksX1_lived_3 0 rfl rfl)
theorem dX1_lived_73 : decode cX1_lived 73 = .ok (.iload_n 2, 1) := dk_28 (dk_at dksX1_lived_3 3 rfl rfl)
theorem dX1_lived_74 : decode cX1_lived 74 = .ok (.aload_n 0, 1) := dk_42 (dk_at dksX1_lived_3 4 rfl rfl)
theorem dX1_lived_75 : decode cX1_lived 75 = .ok (.getfield 44, 3) := dk_180 0 44 (dk_at dksX1_lived_3 5 rfl rfl)
theorem dX1_lived_78 : decode cX1_lived 78 = .ok (.iload 4, 2) := dk_21 4 (dk_at dksX1_lived_3 8 rfl rfl)
theorem dX1_lived_80 : decode cX1_lived 80 = .ok (.aaload, 1) := dk_50 (dk_at dksX1_lived_3 10 rfl rfl)
theorem dX1_lived_81 : decode cX1_lived 81 = .ok (.getfield 262, 3) := dk_180 1 6 (dk_at dksX1_lived_3 11 rfl rfl)
theorem dX1_lived_84 : decode cX1_lived 84 = .ok (.iadd, 1) := dk_96 (dk_at dksX1_lived_3 14 rfl rfl)
theorem dX1_lived_85 : decode cX1_lived 85 = .ok (.istore_n 2, 1) := dk_61 (dk_at dksX1_lived_3 15 rfl rfl)
theorem dX1_lived_86 : decode cX1_lived 86 = .ok (.iinc 3 1, 3) := dk_132 3 1 (dk_at dksX1_lived_3 16 rfl rfl)
theorem dX1_lived_89 : decode cX1_lived 89 = .ok (.iinc 4 1, 3) := dk_132 4 1 (dk_at dksX1_lived_3 19 rfl rfl)
theorem dX1_lived_92 : decode cX1_lived 92 = .ok (.goto (-65), 3) := dk_167 255 191 (dk_at dksX1_lived_4 0 rfl rfl)
theorem dX1_lived_95 : decode cX1_lived 95 = .ok (.iload_n 2, 1) := dk_28 (dk_at dksX1_lived_4 3 rfl rfl)
theorem dX1_lived_96 : decode cX1_lived 96 = .ok (.iload_n 3, 1) := dk_29 (dk_at dksX1_lived_4 4 rfl rfl)
theorem dX1_lived_97 : decode cX1_lived 97 = .ok (.invokestatic 304, 3) := dk_184 1 48 (dk_at dksX1_lived_4 5 rfl rfl)
theorem dX1_lived_100 : decode cX1_lived 100 = .ok (.ireturn, 1) := dk_172 (dk_at dksX1_lived_4 8 rfl rfl)
abbrev cX1_mean : ByteArray := prog_1_method_38_code
def yX1_mean : MethodName := ⟨RX1, "mean", "(II)I"⟩
def dkwX1_mean_0 : List UInt8 := [27, 154, 0, 7, 2, 167, 0, 6, 26, 27, 108, 172]
abbrev dktX1_mean_0 : List UInt8 := dkwX1_mean_0 ++ []
theorem dksX1_mean_0 : cX1_mean.data.toList.drop 0 = dktX1_mean_0 := by decide +kernel
theorem dX1_mean_0 : decode cX1_mean 0 = .ok (.iload_n 1, 1) := dk_27 (dk_at dksX1_mean_0 0 rfl rfl)
theorem dX1_mean_1 : decode cX1_mean 1 = .ok (.ifCond .ne 7, 3) := dk_154 0 7 (dk_at dksX1_mean_0 1 rfl rfl)
theorem dX1_mean_4 : decode cX1_mean 4 = .ok (.iconst (-1), 1) := dk_2 (dk_at dksX1_mean_0 4 rfl rfl)
theorem dX1_mean_5 : decode cX1_mean 5 = .ok (.goto 6, 3) := dk_167 0 6 (dk_at dksX1_mean_0 5 rfl rfl)
theorem dX1_mean_8 : decode cX1_mean 8 = .ok (.iload_n 0, 1) := dk_26 (dk_at dksX1_mean_0 8 rfl rfl)
theorem dX1_mean_9 : decode cX1_mean 9 = .ok (.iload_n 1, 1) := dk_27 (dk_at dksX1_mean_0 9 rfl rfl)
theorem dX1_mean_10 : decode cX1_mean 10 = .ok (.idiv, 1) := dk_108 (dk_at dksX1_mean_0 10 rfl rfl)
theorem dX1_mean_11 : decode cX1_mean 11 = .ok (.ireturn, 1) := dk_172 (dk_at dksX1_mean_0 11 rfl rfl)
abbrev cX1_after : ByteArray := prog_1_method_41_code
def yX1_after : MethodName := ⟨RX1, "after", "(I)I"⟩
def dkwX1_after_5 : List UInt8 := [167, 255, 162, 28, 29, 184, 1, 48, 172]
abbrev dktX1_after_5 : List UInt8 := dkwX1_after_5 ++ []
def dkwX1_after_4 : List UInt8 := [167, 0, 19, 28, 42, 180, 0, 44, 21, 4, 50, 180, 1, 6, 96, 61, 132, 3, 1, 132, 4, 1]
abbrev dktX1_after_4 : List UInt8 := dkwX1_after_4 ++ dktX1_after_5
def dkwX1_after_3 : List UInt8 := [160, 0, 7, 4, 167, 0, 4, 3, 54, 5, 21, 5, 27, 154, 0, 7, 4, 167, 0, 4, 3, 159, 0, 6]
abbrev dktX1_after_3 : List UInt8 := dkwX1_after_3 ++ dktX1_after_4
def dkwX1_after_2 : List UInt8 := [180, 0, 44, 21, 4, 50, 182, 1, 51, 42, 42, 180, 0, 44, 21, 4, 4, 100, 50, 182, 1, 51]
abbrev dktX1_after_2 : List UInt8 := dkwX1_after_2 ++ dktX1_after_3
def dkwX1_after_1 : List UInt8 := [180, 0, 240, 162, 0, 91, 42, 42, 180, 0, 44, 21, 4, 50, 182, 1, 51, 2, 159, 0, 34, 42, 42]
abbrev dktX1_after_1 : List UInt8 := dkwX1_after_1 ++ dktX1_after_2
def dkwX1_after_0 : List UInt8 := [27, 133, 9, 10, 184, 0, 89, 154, 0, 5, 2, 172, 3, 61, 3, 62, 4, 54, 4, 21, 4, 42]
abbrev dktX1_after_0 : List UInt8 := dkwX1_after_0 ++ dktX1_after_1
theorem dksX1_after_0 : cX1_after.data.toList.drop 0 = dktX1_after_0 := by decide +kernel
theorem dksX1_after_1 : cX1_after.data.toList.drop 22 = dktX1_after_1 := dk_seg dksX1_after_0 22 rfl rfl
theorem dksX1_after_2 : cX1_after.data.toList.drop 45 = dktX1_after_2 := dk_seg dksX1_after_1 23 rfl rfl
theorem dksX1_after_3 : cX1_after.data.toList.drop 67 = dktX1_after_3 := dk_seg dksX1_after_2 22 rfl rfl
theorem dksX1_after_4 : cX1_after.data.toList.drop 91 = dktX1_after_4 := dk_seg dksX1_after_3 24 rfl rfl
theorem dksX1_after_5 : cX1_after.data.toList.drop 113 = dktX1_after_5 := dk_seg dksX1_after_4 22 rfl rfl
theorem dX1_after_0 : decode cX1_after 0 = .ok (.iload_n 1, 1) := dk_27 (dk_at dksX1_after_0 0 rfl rfl)
theorem dX1_after_1 : decode cX1_after 1 = .ok (.i2l, 1) := dk_133 (dk_at dksX1_after_0 1 rfl rfl)
theorem dX1_after_2 : decode cX1_after 2 = .ok (.lconst 0, 1) := dk_9 (dk_at dksX1_after_0 2 rfl rfl)
theorem dX1_after_3 : decode cX1_after 3 = .ok (.lconst 1, 1) := dk_10 (dk_at dksX1_after_0 3 rfl rfl)
theorem dX1_after_4 : decode cX1_after 4 = .ok (.invokestatic 89, 3) := dk_184 0 89 (dk_at dksX1_after_0 4 rfl rfl)
theorem dX1_after_7 : decode cX1_after 7 = .ok (.ifCond .ne 5, 3) := dk_154 0 5 (dk_at dksX1_after_0 7 rfl rfl)
theorem dX1_after_10 : decode cX1_after 10 = .ok (.iconst (-1), 1) := dk_2 (dk_at dksX1_after_0 10 rfl rfl)
theorem dX1_after_11 : decode cX1_after 11 = .ok (.ireturn, 1) := dk_172 (dk_at dksX1_after_0 11 rfl rfl)
theorem dX1_after_12 : decode cX1_after 12 = .ok (.iconst 0, 1) := dk_3 (dk_at dksX1_after_0 12 rfl rfl)
theorem dX1_after_13 : decode cX1_after 13 = .ok (.istore_n 2, 1) := dk_61 (dk_at dksX1_after_0 13 rfl rfl)
theorem dX1_after_14 : decode cX1_after 14 = .ok (.iconst 0, 1) := dk_3 (dk_at dksX1_after_0 14 rfl rfl)
theorem dX1_after_15 : decode cX1_after 15 = .ok (.istore_n 3, 1) := dk_62 (dk_at dksX1_after_0 15 rfl rfl)
theorem dX1_after_16 : decode cX1_after 16 = .ok (.iconst 1, 1) := dk_4 (dk_at dksX1_after_0 16 rfl rfl)
theorem dX1_after_17 : decode cX1_after 17 = .ok (.istore 4, 2) := dk_54 4 (dk_at dksX1_after_0 17 rfl rfl)
theorem dX1_after_19 : decode cX1_after 19 = .ok (.iload 4, 2) := dk_21 4 (dk_at dksX1_after_0 19 rfl rfl)
theorem dX1_after_21 : decode cX1_after 21 = .ok (.aload_n 0, 1) := dk_42 (dk_at dksX1_after_0 21 rfl rfl)
theorem dX1_after_22 : decode cX1_after 22 = .ok (.getfield 240, 3) := dk_180 0 240 (dk_at dksX1_after_1 0 rfl rfl)
theorem dX1_after_25 : decode cX1_after 25 = .ok (.if_icmp .ge 91, 3) := dk_162 0 91 (dk_at dksX1_after_1 3 rfl rfl)
theorem dX1_after_28 : decode cX1_after 28 = .ok (.aload_n 0, 1) := dk_42 (dk_at dksX1_after_1 6 rfl rfl)
theorem dX1_after_29 : decode cX1_after 29 = .ok (.aload_n 0, 1) := dk_42 (dk_at dksX1_after_1 7 rfl rfl)
theorem dX1_after_30 : decode cX1_after 30 = .ok (.getfield 44, 3) := dk_180 0 44 (dk_at dksX1_after_1 8 rfl rfl)
theorem dX1_after_33 : decode cX1_after 33 = .ok (.iload 4, 2) := dk_21 4 (dk_at dksX1_after_1 11 rfl rfl)
theorem dX1_after_35 : decode cX1_after 35 = .ok (.aaload, 1) := dk_50 (dk_at dksX1_after_1 13 rfl rfl)
theorem dX1_after_36 : decode cX1_after 36 = .ok (.invokevirtual 307, 3) := dk_182 1 51 (dk_at dksX1_after_1 14 rfl rfl)
theorem dX1_after_39 : decode cX1_after 39 = .ok (.iconst (-1), 1) := dk_2 (dk_at dksX1_after_1 17 rfl rfl)
theorem dX1_after_40 : decode cX1_after 40 = .ok (.if_icmp .eq 34, 3) := dk_159 0 34 (dk_at dksX1_after_1 18 rfl rfl)
theorem dX1_after_43 : decode cX1_after 43 = .ok (.aload_n 0, 1) := dk_42 (dk_at dksX1_after_1 21 rfl rfl)
theorem dX1_after_44 : decode cX1_after 44 = .ok (.aload_n 0, 1) := dk_42 (dk_at dksX1_after_1 22 rfl rfl)
theorem dX1_after_45 : decode cX1_after 45 = .ok (.getfield 44, 3) := dk_180 0 44 (dk_at dksX1_after_2 0 rfl rfl)
theorem dX1_after_48 : decode cX1_after 48 = .ok (.iload 4, 2) := dk_21 4 (dk_at dksX1_after_2 3 rfl rfl)
theorem dX1_after_50 : decode cX1_after 50 = .ok (.aaload, 1) := dk_50 (dk_at dksX1_after_2 5 rfl rfl)
theorem dX1_after_51 : decode cX1_after 51 = .ok (.invokevirtual 307, 3) := dk_182 1 51 (dk_at dksX1_after_2 6 rfl rfl)
theorem dX1_after_54 : decode cX1_after 54 = .ok (.aload_n 0, 1) := dk_42 (dk_at dksX1_after_2 9 rfl rfl)
theorem dX1_after_55 : decode cX1_after 55 = .ok (.aload_n 0, 1) := dk_42 (dk_at dksX1_after_2 10 rfl rfl)
theorem dX1_after_56 : decode cX1_after 56 = .ok (.getfield 44, 3) := dk_180 0 44 (dk_at dksX1_after_2 11 rfl rfl)
theorem dX1_after_59 : decode cX1_after 59 = .ok (.iload 4, 2) := dk_21 4 (dk_at dksX1_after_2 14 rfl rfl)
theorem dX1_after_61 : decode cX1_after 61 = .ok (.iconst 1, 1) := dk_4 (dk_at dksX1_after_2 16 rfl rfl)
theorem dX1_after_62 : decode cX1_after 62 = .ok (.isub, 1) := dk_100 (dk_at dksX1_after_2 17 rfl rfl)
theorem dX1_after_63 : decode cX1_after 63 = .ok (.aaload, 1) := dk_50 (dk_at dksX1_after_2 18 rfl rfl)
theorem dX1_after_64 : decode cX1_after 64 = .ok (.invokevirtual 307, 3) := dk_182 1 51 (dk_at dksX1_after_2 19 rfl rfl)
theorem dX1_after_67 : decode cX1_after 67 = .ok (.if_icmp .ne 7, 3) := dk_160 0 7 (dk_at dksX1_after_3 0 rfl rfl)
theorem dX1_after_70 : decode cX1_after 70 = .ok (.iconst 1, 1) := dk_4 (dk_at dksX1_after_3 3 rfl rfl)
theorem dX1_after_71 : decode cX1_after 71 = .ok (.goto 4, 3) := dk_167 0 4 (dk_at dksX1_after_3 4 rfl rfl)
theorem dX1_after_74 : decode cX1_after 74 = .ok (.iconst 0, 1) := dk_3 (dk_at dksX1_after_3 7 rfl rfl)
theorem dX1_after_75 : decode cX1_after 75 = .ok (.istore 5, 2) := dk_54 5 (dk_at dksX1_after_3 8 rfl rfl)
theorem dX1_after_77 : decode cX1_after 77 = .ok (.iload 5, 2) := dk_21 5 (dk_at dksX1_after_3 10 rfl rfl)
theorem dX1_after_79 : decode cX1_after 79 = .ok (.iload_n 1, 1) := dk_27 (dk_at dksX1_after_3 12 rfl rfl)
theorem dX1_after_80 : decode cX1_after 80 = .ok (.ifCond .ne 7, 3) := dk_154 0 7 (dk_at dksX1_after_3 13 rfl rfl)
theorem dX1_after_83 : decode cX1_after 83 = .ok (.iconst 1, 1) := dk_4 (dk_at dksX1_after_3 16 rfl rfl)
theorem dX1_after_84 : decode cX1_after 84 = .ok (.goto 4, 3) := dk_167 0 4 (dk_at dksX1_after_3 17 rfl rfl)
theorem dX1_after_87 : decode cX1_after 87 = .ok (.iconst 0, 1) := dk_3 (dk_at dksX1_after_3 20 rfl rfl)
theorem dX1_after_88 : decode cX1_after 88 = .ok (.if_icmp .eq 6, 3) := dk_159 0 6 (dk_at dksX1_after_3 21 rfl rfl)
theorem dX1_after_91 : decode cX1_after 91 = .ok (.goto 19, 3) := dk_167 0 19 (dk_at dksX1_after_4 0 rfl rfl)
theorem dX1_after_94 : decode cX1_after 94 = .ok (.iload_n 2, 1) := dk_28 (dk_at dksX1_after_4 3 rfl rfl)
theorem dX1_after_95 : decode cX1_after 95 = .ok (.aload_n 0, 1) := dk_42 (dk_at dksX1_after_4 4 rfl rfl)
theorem dX1_after_96 : decode cX1_after 96 = .ok (.getfield 44, 3) := dk_180 0 44 (dk_at dksX1_after_4 5 rfl rfl)
theorem dX1_after_99 : decode cX1_after 99 = .ok (.iload 4, 2) := dk_21 4 (dk_at dksX1_after_4 8 rfl rfl)
theorem dX1_after_101 : decode cX1_after 101 = .ok (.aaload, 1) := dk_50 (dk_at dksX1_after_4 10 rfl rfl)
theorem dX1_after_102 : decode cX1_after 102 = .ok (.getfield 262, 3) := dk_180 1 6 (dk_at dksX1_after_4 11 rfl rfl)
theorem dX1_after_105 : decode cX1_after 105 = .ok (.iadd, 1) := dk_96 (dk_at dksX1_after_4 14 rfl rfl)
theorem dX1_after_106 : decode cX1_after 106 = .ok (.istore_n 2, 1) := dk_61 (dk_at dksX1_after_4 15 rfl rfl)
theorem dX1_after_107 : decode cX1_after 107 = .ok (.iinc 3 1, 3) := dk_132 3 1 (dk_at dksX1_after_4 16 rfl rfl)
theorem dX1_after_110 : decode cX1_after 110 = .ok (.iinc 4 1, 3) := dk_132 4 1 (dk_at dksX1_after_4 19 rfl rfl)
theorem dX1_after_113 : decode cX1_after 113 = .ok (.goto (-94), 3) := dk_167 255 162 (dk_at dksX1_after_5 0 rfl rfl)
theorem dX1_after_116 : decode cX1_after 116 = .ok (.iload_n 2, 1) := dk_28 (dk_at dksX1_after_5 3 rfl rfl)
theorem dX1_after_117 : decode cX1_after 117 = .ok (.iload_n 3, 1) := dk_29 (dk_at dksX1_after_5 4 rfl rfl)
theorem dX1_after_118 : decode cX1_after 118 = .ok (.invokestatic 304, 3) := dk_184 1 48 (dk_at dksX1_after_5 5 rfl rfl)
theorem dX1_after_121 : decode cX1_after 121 = .ok (.ireturn, 1) := dk_172 (dk_at dksX1_after_5 8 rfl rfl)
abbrev cX1_kindOf : ByteArray := prog_1_method_40_code
def yX1_kindOf : MethodName := ⟨RX1, "kindOf", "(LDayBoy$Ask;)I"⟩
def dkwX1_kindOf_0 : List UInt8 := [42, 180, 0, 27, 43, 180, 0, 255, 50, 43, 180, 1, 9, 182, 0, 171, 172]
abbrev dktX1_kindOf_0 : List UInt8 := dkwX1_kindOf_0 ++ []
theorem dksX1_kindOf_0 : cX1_kindOf.data.toList.drop 0 = dktX1_kindOf_0 := by decide +kernel
theorem dX1_kindOf_0 : decode cX1_kindOf 0 = .ok (.aload_n 0, 1) := dk_42 (dk_at dksX1_kindOf_0 0 rfl rfl)
theorem dX1_kindOf_1 : decode cX1_kindOf 1 = .ok (.getfield 27, 3) := dk_180 0 27 (dk_at dksX1_kindOf_0 1 rfl rfl)
theorem dX1_kindOf_4 : decode cX1_kindOf 4 = .ok (.aload_n 1, 1) := dk_43 (dk_at dksX1_kindOf_0 4 rfl rfl)
theorem dX1_kindOf_5 : decode cX1_kindOf 5 = .ok (.getfield 255, 3) := dk_180 0 255 (dk_at dksX1_kindOf_0 5 rfl rfl)
theorem dX1_kindOf_8 : decode cX1_kindOf 8 = .ok (.aaload, 1) := dk_50 (dk_at dksX1_kindOf_0 8 rfl rfl)
theorem dX1_kindOf_9 : decode cX1_kindOf 9 = .ok (.aload_n 1, 1) := dk_43 (dk_at dksX1_kindOf_0 9 rfl rfl)
theorem dX1_kindOf_10 : decode cX1_kindOf 10 = .ok (.getfield 265, 3) := dk_180 1 9 (dk_at dksX1_kindOf_0 10 rfl rfl)
theorem dX1_kindOf_13 : decode cX1_kindOf 13 = .ok (.invokevirtual 171, 3) := dk_182 0 171 (dk_at dksX1_kindOf_0 13 rfl rfl)
theorem dX1_kindOf_16 : decode cX1_kindOf 16 = .ok (.ireturn, 1) := dk_172 (dk_at dksX1_kindOf_0 16 rfl rfl)
abbrev cX1_learnt : ByteArray := prog_1_method_43_code
def yX1_learnt : MethodName := ⟨RX1, "learnt", "(IIII)I"⟩
def dkwX1_learnt_4 : List UInt8 := [21, 5, 172]
abbrev dktX1_learnt_4 : List UInt8 := dkwX1_learnt_4 ++ []
def dkwX1_learnt_3 : List UInt8 := [180, 0, 31, 28, 50, 29, 21, 6, 182, 1, 55, 153, 0, 7, 21, 6, 54, 5, 132, 6, 1, 167, 255, 207]
abbrev dktX1_learnt_3 : List UInt8 := dkwX1_learnt_3 ++ dktX1_learnt_4
def dkwX1_learnt_2 : List UInt8 := [163, 0, 47, 21, 4, 4, 159, 0, 9, 21, 5, 2, 160, 0, 35, 42, 42, 180, 0, 31, 27, 50, 42]
abbrev dktX1_learnt_2 : List UInt8 := dkwX1_learnt_2 ++ dktX1_learnt_3
def dkwX1_learnt_1 : List UInt8 := [21, 4, 133, 9, 10, 184, 0, 89, 154, 0, 5, 2, 172, 2, 54, 5, 3, 54, 6, 21, 6, 17, 3, 232]
abbrev dktX1_learnt_1 : List UInt8 := dkwX1_learnt_1 ++ dktX1_learnt_2
def dkwX1_learnt_0 : List UInt8 := [42, 27, 182, 0, 184, 153, 0, 29, 42, 28, 182, 0, 184, 153, 0, 21, 29, 184, 1, 27, 153, 0, 14]
abbrev dktX1_learnt_0 : List UInt8 := dkwX1_learnt_0 ++ dktX1_learnt_1
theorem dksX1_learnt_0 : cX1_learnt.data.toList.drop 0 = dktX1_learnt_0 := by decide +kernel
theorem dksX1_learnt_1 : cX1_learnt.data.toList.drop 23 = dktX1_learnt_1 := dk_seg dksX1_learnt_0 23 rfl rfl
theorem dksX1_learnt_2 : cX1_learnt.data.toList.drop 47 = dktX1_learnt_2 := dk_seg dksX1_learnt_1 24 rfl rfl
theorem dksX1_learnt_3 : cX1_learnt.data.toList.drop 70 = dktX1_learnt_3 := dk_seg dksX1_learnt_2 23 rfl rfl
theorem dksX1_learnt_4 : cX1_learnt.data.toList.drop 94 = dktX1_learnt_4 := dk_seg dksX1_learnt_3 24 rfl rfl
theorem dX1_learnt_0 : decode cX1_learnt 0 = .ok (.aload_n 0, 1) := dk_42 (dk_at dksX1_learnt_0 0 rfl rfl)
theorem dX1_learnt_1 : decode cX1_learnt 1 = .ok (.iload_n 1, 1) := dk_27 (dk_at dksX1_learnt_0 1 rfl rfl)
theorem dX1_learnt_2 : decode cX1_learnt 2 = .ok (.invokevirtual 184, 3) := dk_182 0 184 (dk_at dksX1_learnt_0 2 rfl rfl)
theorem dX1_learnt_5 : decode cX1_learnt 5 = .ok (.ifCond .eq 29, 3) := dk_153 0 29 (dk_at dksX1_learnt_0 5 rfl rfl)
theorem dX1_learnt_8 : decode cX1_learnt 8 = .ok (.aload_n 0, 1) := dk_42 (dk_at dksX1_learnt_0 8 rfl rfl)
theorem dX1_learnt_9 : decode cX1_learnt 9 = .ok (.iload_n 2, 1) := dk_28 (dk_at dksX1_learnt_0 9 rfl rfl)
theorem dX1_learnt_10 : decode cX1_learnt 10 = .ok (.invokevirtual 184, 3) := dk_182 0 184 (dk_at dksX1_learnt_0 10 rfl rfl)
theorem dX1_learnt_13 : decode cX1_learnt 13 = .ok (.ifCond .eq 21, 3) := dk_153 0 21 (dk_at dksX1_learnt_0 13 rfl rfl)
theorem dX1_learnt_16 : decode cX1_learnt 16 = .ok (.iload_n 3, 1) := dk_29 (dk_at dksX1_learnt_0 16 rfl rfl)
theorem dX1_learnt_17 : decode cX1_learnt 17 = .ok (.invokestatic 283, 3) := dk_184 1 27 (dk_at dksX1_learnt_0 17 rfl rfl)
theorem dX1_learnt_20 : decode cX1_learnt 20 = .ok (.ifCond .eq 14, 3) := dk_153 0 14 (dk_at dksX1_learnt_0 20 rfl rfl)
theorem dX1_learnt_23 : decode cX1_learnt 23 = .ok (.iload 4, 2) := dk_21 4 (dk_at dksX1_learnt_1 0 rfl rfl)
theorem dX1_learnt_25 : decode cX1_learnt 25 = .ok (.i2l, 1) := dk_133 (dk_at dksX1_learnt_1 2 rfl rfl)
theorem dX1_learnt_26 : decode cX1_learnt 26 = .ok (.lconst 0, 1) := dk_9 (dk_at dksX1_learnt_1 3 rfl rfl)
theorem dX1_learnt_27 : decode cX1_learnt 27 = .ok (.lconst 1, 1) := dk_10 (dk_at dksX1_learnt_1 4 rfl rfl)
theorem dX1_learnt_28 : decode cX1_learnt 28 = .ok (.invokestatic 89, 3) := dk_184 0 89 (dk_at dksX1_learnt_1 5 rfl rfl)
theorem dX1_learnt_31 : decode cX1_learnt 31 = .ok (.ifCond .ne 5, 3) := dk_154 0 5 (dk_at dksX1_learnt_1 8 rfl rfl)
theorem dX1_learnt_34 : decode cX1_learnt 34 = .ok (.iconst (-1), 1) := dk_2 (dk_at dksX1_learnt_1 11 rfl rfl)
theorem dX1_learnt_35 : decode cX1_learnt 35 = .ok (.ireturn, 1) := dk_172 (dk_at dksX1_learnt_1 12 rfl rfl)
theorem dX1_learnt_36 : decode cX1_learnt 36 = .ok (.iconst (-1), 1) := dk_2 (dk_at dksX1_learnt_1 13 rfl rfl)
theorem dX1_learnt_37 : decode cX1_learnt 37 = .ok (.istore 5, 2) := dk_54 5 (dk_at dksX1_learnt_1 14 rfl rfl)
theorem dX1_learnt_39 : decode cX1_learnt 39 = .ok (.iconst 0, 1) := dk_3 (dk_at dksX1_learnt_1 16 rfl rfl)
theorem dX1_learnt_40 : decode cX1_learnt 40 = .ok (.istore 6, 2) := dk_54 6 (dk_at dksX1_learnt_1 17 rfl rfl)
theorem dX1_learnt_42 : decode cX1_learnt 42 = .ok (.iload 6, 2) := dk_21 6 (dk_at dksX1_learnt_1 19 rfl rfl)
theorem dX1_learnt_44 : decode cX1_learnt 44 = .ok (.sipush 1000, 3) := dk_17 3 232 (dk_at dksX1_learnt_1 21 rfl rfl)
theorem dX1_learnt_47 : decode cX1_learnt 47 = .ok (.if_icmp .gt 47, 3) := dk_163 0 47 (dk_at dksX1_learnt_2 0 rfl rfl)
theorem dX1_learnt_50 : decode cX1_learnt 50 = .ok (.iload 4, 2) := dk_21 4 (dk_at dksX1_learnt_2 3 rfl rfl)
theorem dX1_learnt_52 : decode cX1_learnt 52 = .ok (.iconst 1, 1) := dk_4 (dk_at dksX1_learnt_2 5 rfl rfl)
theorem dX1_learnt_53 : decode cX1_learnt 53 = .ok (.if_icmp .eq 9, 3) := dk_159 0 9 (dk_at dksX1_learnt_2 6 rfl rfl)
theorem dX1_learnt_56 : decode cX1_learnt 56 = .ok (.iload 5, 2) := dk_21 5 (dk_at dksX1_learnt_2 9 rfl rfl)
theorem dX1_learnt_58 : decode cX1_learnt 58 = .ok (.iconst (-1), 1) := dk_2 (dk_at dksX1_learnt_2 11 rfl rfl)
theorem dX1_learnt_59 : decode cX1_learnt 59 = .ok (.if_icmp .ne 35, 3) := dk_160 0 35 (dk_at dksX1_learnt_2 12 rfl rfl)
theorem dX1_learnt_62 : decode cX1_learnt 62 = .ok (.aload_n 0, 1) := dk_42 (dk_at dksX1_learnt_2 15 rfl rfl)
theorem dX1_learnt_63 : decode cX1_learnt 63 = .ok (.aload_n 0, 1) := dk_42 (dk_at dksX1_learnt_2 16 rfl rfl)
theorem dX1_learnt_64 : decode cX1_learnt 64 = .ok (.getfield 31, 3) := dk_180 0 31 (dk_at dksX1_learnt_2 17 rfl rfl)
theorem dX1_learnt_67 : decode cX1_learnt 67 = .ok (.iload_n 1, 1) := dk_27 (dk_at dksX1_learnt_2 20 rfl rfl)
theorem dX1_learnt_68 : decode cX1_learnt 68 = .ok (.aaload, 1) := dk_50 (dk_at dksX1_learnt_2 21 rfl rfl)
theorem dX1_learnt_69 : decode cX1_learnt 69 = .ok (.aload_n 0, 1) := dk_42 (dk_at dksX1_learnt_2 22 rfl rfl)
theorem dX1_learnt_70 : decode cX1_learnt 70 = .ok (.getfield 31, 3) := dk_180 0 31 (dk_at dksX1_learnt_3 0 rfl rfl)
theorem dX1_learnt_73 : decode cX1_learnt 73 = .ok (.iload_n 2, 1) := dk_28 (dk_at dksX1_learnt_3 3 rfl rfl)
theorem dX1_learnt_74 : decode cX1_learnt 74 = .ok (.aaload, 1) := dk_50 (dk_at dksX1_learnt_3 4 rfl rfl)
theorem dX1_learnt_75 : decode cX1_learnt 75 = .ok (.iload_n 3, 1) := dk_29 (dk_at dksX1_learnt_3 5 rfl rfl)
theorem dX1_learnt_76 : decode cX1_learnt 76 = .ok (.iload 6, 2) := dk_21 6 (dk_at dksX1_learnt_3 6 rfl rfl)
theorem dX1_learnt_78 : decode cX1_learnt 78 = .ok (.invokevirtual 311, 3) := dk_182 1 55 (dk_at dksX1_learnt_3 8 rfl rfl)
theorem dX1_learnt_81 : decode cX1_learnt 81 = .ok (.ifCond .eq 7, 3) := dk_153 0 7 (dk_at dksX1_learnt_3 11 rfl rfl)
theorem dX1_learnt_84 : decode cX1_learnt 84 = .ok (.iload 6, 2) := dk_21 6 (dk_at dksX1_learnt_3 14 rfl rfl)
theorem dX1_learnt_86 : decode cX1_learnt 86 = .ok (.istore 5, 2) := dk_54 5 (dk_at dksX1_learnt_3 16 rfl rfl)
theorem dX1_learnt_88 : decode cX1_learnt 88 = .ok (.iinc 6 1, 3) := dk_132 6 1 (dk_at dksX1_learnt_3 18 rfl rfl)
theorem dX1_learnt_91 : decode cX1_learnt 91 = .ok (.goto (-49), 3) := dk_167 255 207 (dk_at dksX1_learnt_3 21 rfl rfl)
theorem dX1_learnt_94 : decode cX1_learnt 94 = .ok (.iload 5, 2) := dk_21 5 (dk_at dksX1_learnt_4 0 rfl rfl)
theorem dX1_learnt_96 : decode cX1_learnt 96 = .ok (.ireturn, 1) := dk_172 (dk_at dksX1_learnt_4 2 rfl rfl)
abbrev cX1_isLearnt : ByteArray := prog_1_method_42_code
def yX1_isLearnt : MethodName := ⟨RX1, "isLearnt", "(LDayBoy$Head;LDayBoy$Head;II)Z"⟩
def dkwX1_isLearnt_2 : List UInt8 := [3, 172, 132, 5, 1, 167, 255, 207, 4, 172]
abbrev dktX1_isLearnt_2 : List UInt8 := dkwX1_isLearnt_2 ++ []
def dkwX1_isLearnt_1 : List UInt8 := [21, 4, 162, 0, 7, 43, 167, 0, 4, 44, 42, 180, 0, 44, 21, 5, 50, 29, 182, 1, 23, 154, 0, 5]
abbrev dktX1_isLearnt_1 : List UInt8 := dkwX1_isLearnt_1 ++ dktX1_isLearnt_2
def dkwX1_isLearnt_0 : List UInt8 := [3, 54, 5, 21, 5, 42, 180, 0, 240, 162, 0, 46, 42, 42, 180, 0, 44, 21, 5, 50, 180, 0, 247]
abbrev dktX1_isLearnt_0 : List UInt8 := dkwX1_isLearnt_0 ++ dktX1_isLearnt_1
theorem dksX1_isLearnt_0 : cX1_isLearnt.data.toList.drop 0 = dktX1_isLearnt_0 := by decide +kernel
theorem dksX1_isLearnt_1 : cX1_isLearnt.data.toList.drop 23 = dktX1_isLearnt_1 := dk_seg dksX1_isLearnt_0 23 rfl rfl
theorem dksX1_isLearnt_2 : cX1_isLearnt.data.toList.drop 47 = dktX1_isLearnt_2 := dk_seg dksX1_isLearnt_1 24 rfl rfl
theorem dX1_isLearnt_0 : decode cX1_isLearnt 0 = .ok (.iconst 0, 1) := dk_3 (dk_at dksX1_isLearnt_0 0 rfl rfl)
theorem dX1_isLearnt_1 : decode cX1_isLearnt 1 = .ok (.istore 5, 2) := dk_54 5 (dk_at dksX1_isLearnt_0 1 rfl rfl)
theorem dX1_isLearnt_3 : decode cX1_isLearnt 3 = .ok (.iload 5, 2) := dk_21 5 (dk_at dksX1_isLearnt_0 3 rfl rfl)
theorem dX1_isLearnt_5 : decode cX1_isLearnt 5 = .ok (.aload_n 0, 1) := dk_42 (dk_at dksX1_isLearnt_0 5 rfl rfl)
theorem dX1_isLearnt_6 : decode cX1_isLearnt 6 = .ok (.getfield 240, 3) := dk_180 0 240 (dk_at dksX1_isLearnt_0 6 rfl rfl)
theorem dX1_isLearnt_9 : decode cX1_isLearnt 9 = .ok (.if_icmp .ge 46, 3) := dk_162 0 46 (dk_at dksX1_isLearnt_0 9 rfl rfl)
theorem dX1_isLearnt_12 : decode cX1_isLearnt 12 = .ok (.aload_n 0, 1) := dk_42 (dk_at dksX1_isLearnt_0 12 rfl rfl)
theorem dX1_isLearnt_13 : decode cX1_isLearnt 13 = .ok (.aload_n 0, 1) := dk_42 (dk_at dksX1_isLearnt_0 13 rfl rfl)
theorem dX1_isLearnt_14 : decode cX1_isLearnt 14 = .ok (.getfield 44, 3) := dk_180 0 44 (dk_at dksX1_isLearnt_0 14 rfl rfl)
theorem dX1_isLearnt_17 : decode cX1_isLearnt 17 = .ok (.iload 5, 2) := dk_21 5 (dk_at dksX1_isLearnt_0 17 rfl rfl)
theorem dX1_isLearnt_19 : decode cX1_isLearnt 19 = .ok (.aaload, 1) := dk_50 (dk_at dksX1_isLearnt_0 19 rfl rfl)
theorem dX1_isLearnt_20 : decode cX1_isLearnt 20 = .ok (.getfield 247, 3) := dk_180 0 247 (dk_at dksX1_isLearnt_0 20 rfl rfl)
theorem dX1_isLearnt_23 : decode cX1_isLearnt 23 = .ok (.iload 4, 2) := dk_21 4 (dk_at dksX1_isLearnt_1 0 rfl rfl)
theorem dX1_isLearnt_25 : decode cX1_isLearnt 25 = .ok (.if_icmp .ge 7, 3) := dk_162 0 7 (dk_at dksX1_isLearnt_1 2 rfl rfl)
theorem dX1_isLearnt_28 : decode cX1_isLearnt 28 = .ok (.aload_n 1, 1) := dk_43 (dk_at dksX1_isLearnt_1 5 rfl rfl)
theorem dX1_isLearnt_29 : decode cX1_isLearnt 29 = .ok (.goto 4, 3) := dk_167 0 4 (dk_at dksX1_isLearnt_1 6 rfl rfl)
theorem dX1_isLearnt_32 : decode cX1_isLearnt 32 = .ok (.aload_n 2, 1) := dk_44 (dk_at dksX1_isLearnt_1 9 rfl rfl)
theorem dX1_isLearnt_33 : decode cX1_isLearnt 33 = .ok (.aload_n 0, 1) := dk_42 (dk_at dksX1_isLearnt_1 10 rfl rfl)
theorem dX1_isLearnt_34 : decode cX1_isLearnt 34 = .ok (.getfield 44, 3) := dk_180 0 44 (dk_at dksX1_isLearnt_1 11 rfl rfl)
theorem dX1_isLearnt_37 : decode cX1_isLearnt 37 = .ok (.iload 5, 2) := dk_21 5 (dk_at dksX1_isLearnt_1 14 rfl rfl)
theorem dX1_isLearnt_39 : decode cX1_isLearnt 39 = .ok (.aaload, 1) := dk_50 (dk_at dksX1_isLearnt_1 16 rfl rfl)
theorem dX1_isLearnt_40 : decode cX1_isLearnt 40 = .ok (.iload_n 3, 1) := dk_29 (dk_at dksX1_isLearnt_1 17 rfl rfl)
theorem dX1_isLearnt_41 : decode cX1_isLearnt 41 = .ok (.invokevirtual 279, 3) := dk_182 1 23 (dk_at dksX1_isLearnt_1 18 rfl rfl)
theorem dX1_isLearnt_44 : decode cX1_isLearnt 44 = .ok (.ifCond .ne 5, 3) := dk_154 0 5 (dk_at dksX1_isLearnt_1 21 rfl rfl)
theorem dX1_isLearnt_47 : decode cX1_isLearnt 47 = .ok (.iconst 0, 1) := dk_3 (dk_at dksX1_isLearnt_2 0 rfl rfl)
theorem dX1_isLearnt_48 : decode cX1_isLearnt 48 = .ok (.ireturn, 1) := dk_172 (dk_at dksX1_isLearnt_2 1 rfl rfl)
theorem dX1_isLearnt_49 : decode cX1_isLearnt 49 = .ok (.iinc 5 1, 3) := dk_132 5 1 (dk_at dksX1_isLearnt_2 2 rfl rfl)
theorem dX1_isLearnt_52 : decode cX1_isLearnt 52 = .ok (.goto (-49), 3) := dk_167 255 207 (dk_at dksX1_isLearnt_2 5 rfl rfl)
theorem dX1_isLearnt_55 : decode cX1_isLearnt 55 = .ok (.iconst 1, 1) := dk_4 (dk_at dksX1_isLearnt_2 8 rfl rfl)
theorem dX1_isLearnt_56 : decode cX1_isLearnt 56 = .ok (.ireturn, 1) := dk_172 (dk_at dksX1_isLearnt_2 9 rfl rfl)
abbrev cX1_weigh : ByteArray := prog_1_method_44_code
def yX1_weigh : MethodName := ⟨RX1, "weigh", "(II)Z"⟩
def dkwX1_weigh_1 : List UInt8 := [180, 0, 31, 27, 50, 28, 181, 1, 61, 4, 172]
abbrev dktX1_weigh_1 : List UInt8 := dkwX1_weigh_1 ++ []
def dkwX1_weigh_0 : List UInt8 := [42, 27, 182, 0, 184, 153, 0, 15, 28, 133, 10, 20, 1, 59, 184, 0, 89, 154, 0, 5, 3, 172, 42]
abbrev dktX1_weigh_0 : List UInt8 := dkwX1_weigh_0 ++ dktX1_weigh_1
theorem dksX1_weigh_0 : cX1_weigh.data.toList.drop 0 = dktX1_weigh_0 := by decide +kernel
theorem dksX1_weigh_1 : cX1_weigh.data.toList.drop 23 = dktX1_weigh_1 := dk_seg dksX1_weigh_0 23 rfl rfl
theorem dX1_weigh_0 : decode cX1_weigh 0 = .ok (.aload_n 0, 1) := dk_42 (dk_at dksX1_weigh_0 0 rfl rfl)
theorem dX1_weigh_1 : decode cX1_weigh 1 = .ok (.iload_n 1, 1) := dk_27 (dk_at dksX1_weigh_0 1 rfl rfl)
theorem dX1_weigh_2 : decode cX1_weigh 2 = .ok (.invokevirtual 184, 3) := dk_182 0 184 (dk_at dksX1_weigh_0 2 rfl rfl)
theorem dX1_weigh_5 : decode cX1_weigh 5 = .ok (.ifCond .eq 15, 3) := dk_153 0 15 (dk_at dksX1_weigh_0 5 rfl rfl)
theorem dX1_weigh_8 : decode cX1_weigh 8 = .ok (.iload_n 2, 1) := dk_28 (dk_at dksX1_weigh_0 8 rfl rfl)
theorem dX1_weigh_9 : decode cX1_weigh 9 = .ok (.i2l, 1) := dk_133 (dk_at dksX1_weigh_0 9 rfl rfl)
theorem dX1_weigh_10 : decode cX1_weigh 10 = .ok (.lconst 1, 1) := dk_10 (dk_at dksX1_weigh_0 10 rfl rfl)
theorem dX1_weigh_11 : decode cX1_weigh 11 = .ok (.ldc2_w 315, 3) := dk_20 1 59 (dk_at dksX1_weigh_0 11 rfl rfl)
theorem dX1_weigh_14 : decode cX1_weigh 14 = .ok (.invokestatic 89, 3) := dk_184 0 89 (dk_at dksX1_weigh_0 14 rfl rfl)
theorem dX1_weigh_17 : decode cX1_weigh 17 = .ok (.ifCond .ne 5, 3) := dk_154 0 5 (dk_at dksX1_weigh_0 17 rfl rfl)
theorem dX1_weigh_20 : decode cX1_weigh 20 = .ok (.iconst 0, 1) := dk_3 (dk_at dksX1_weigh_0 20 rfl rfl)
theorem dX1_weigh_21 : decode cX1_weigh 21 = .ok (.ireturn, 1) := dk_172 (dk_at dksX1_weigh_0 21 rfl rfl)
theorem dX1_weigh_22 : decode cX1_weigh 22 = .ok (.aload_n 0, 1) := dk_42 (dk_at dksX1_weigh_0 22 rfl rfl)
theorem dX1_weigh_23 : decode cX1_weigh 23 = .ok (.getfield 31, 3) := dk_180 0 31 (dk_at dksX1_weigh_1 0 rfl rfl)
theorem dX1_weigh_26 : decode cX1_weigh 26 = .ok (.iload_n 1, 1) := dk_27 (dk_at dksX1_weigh_1 3 rfl rfl)
theorem dX1_weigh_27 : decode cX1_weigh 27 = .ok (.aaload, 1) := dk_50 (dk_at dksX1_weigh_1 4 rfl rfl)
theorem dX1_weigh_28 : decode cX1_weigh 28 = .ok (.iload_n 2, 1) := dk_28 (dk_at dksX1_weigh_1 5 rfl rfl)
theorem dX1_weigh_29 : decode cX1_weigh 29 = .ok (.putfield 317, 3) := dk_181 1 61 (dk_at dksX1_weigh_1 6 rfl rfl)
theorem dX1_weigh_32 : decode cX1_weigh 32 = .ok (.iconst 1, 1) := dk_4 (dk_at dksX1_weigh_1 9 rfl rfl)
theorem dX1_weigh_33 : decode cX1_weigh 33 = .ok (.ireturn, 1) := dk_172 (dk_at dksX1_weigh_1 10 rfl rfl)
abbrev cX1_odds : ByteArray := prog_1_method_45_code
def yX1_odds : MethodName := ⟨RX1, "odds", "(II)I"⟩
def dkwX1_odds_3 : List UInt8 := [21, 4, 50, 180, 1, 61, 167, 0, 4, 3, 96, 62, 132, 4, 1, 167, 255, 197, 29, 172]
abbrev dktX1_odds_3 : List UInt8 := dkwX1_odds_3 ++ []
def dkwX1_odds_2 : List UInt8 := [42, 42, 180, 0, 31, 21, 4, 50, 28, 182, 1, 30, 42, 180, 0, 240, 160, 0, 16, 42, 180, 0, 31]
abbrev dktX1_odds_2 : List UInt8 := dkwX1_odds_2 ++ dktX1_odds_3
def dkwX1_odds_1 : List UInt8 := [3, 54, 4, 21, 4, 42, 180, 0, 118, 162, 0, 56, 29, 27, 2, 159, 0, 9, 21, 4, 27, 160, 0, 35]
abbrev dktX1_odds_1 : List UInt8 := dkwX1_odds_1 ++ dktX1_odds_2
def dkwX1_odds_0 : List UInt8 := [27, 2, 159, 0, 11, 42, 27, 182, 0, 184, 153, 0, 10, 28, 184, 1, 27, 154, 0, 5, 2, 172, 3, 62]
abbrev dktX1_odds_0 : List UInt8 := dkwX1_odds_0 ++ dktX1_odds_1
theorem dksX1_odds_0 : cX1_odds.data.toList.drop 0 = dktX1_odds_0 := by decide +kernel
theorem dksX1_odds_1 : cX1_odds.data.toList.drop 24 = dktX1_odds_1 := dk_seg dksX1_odds_0 24 rfl rfl
theorem dksX1_odds_2 : cX1_odds.data.toList.drop 48 = dktX1_odds_2 := dk_seg dksX1_odds_1 24 rfl rfl
theorem dksX1_odds_3 : cX1_odds.data.toList.drop 71 = dktX1_odds_3 := dk_seg dksX1_odds_2 23 rfl rfl
theorem dX1_odds_0 : decode cX1_odds 0 = .ok (.iload_n 1, 1) := dk_27 (dk_at dksX1_odds_0 0 rfl rfl)
theorem dX1_odds_1 : decode cX1_odds 1 = .ok (.iconst (-1), 1) := dk_2 (dk_at dksX1_odds_0 1 rfl rfl)
theorem dX1_odds_2 : decode cX1_odds 2 = .ok (.if_icmp .eq 11, 3) := dk_159 0 11 (dk_at dksX1_odds_0 2 rfl rfl)
theorem dX1_odds_5 : decode cX1_odds 5 = .ok (.aload_n 0, 1) := dk_42 (dk_at dksX1_odds_0 5 rfl rfl)
theorem dX1_odds_6 : decode cX1_odds 6 = .ok (.iload_n 1, 1) := dk_27 (dk_at dksX1_odds_0 6 rfl rfl)
theorem dX1_odds_7 : decode cX1_odds 7 = .ok (.invokevirtual 184, 3) := dk_182 0 184 (dk_at dksX1_odds_0 7 rfl rfl)
theorem dX1_odds_10 : decode cX1_odds 10 = .ok (.ifCond .eq 10, 3) := dk_153 0 10 (dk_at dksX1_odds_0 10 rfl rfl)
theorem dX1_odds_13 : decode cX1_odds 13 = .ok (.iload_n 2, 1) := dk_28 (dk_at dksX1_odds_0 13 rfl rfl)
theorem dX1_odds_14 : decode cX1_odds 14 = .ok (.invokestatic 283, 3) := dk_184 1 27 (dk_at dksX1_odds_0 14 rfl rfl)
theorem dX1_odds_17 : decode cX1_odds 17 = .ok (.ifCond .ne 5, 3) := dk_154 0 5 (dk_at dksX1_odds_0 17 rfl rfl)
theorem dX1_odds_20 : decode cX1_odds 20 = .ok (.iconst (-1), 1) := dk_2 (dk_at dksX1_odds_0 20 rfl rfl)
theorem dX1_odds_21 : decode cX1_odds 21 = .ok (.ireturn, 1) := dk_172 (dk_at dksX1_odds_0 21 rfl rfl)
theorem dX1_odds_22 : decode cX1_odds 22 = .ok (.iconst 0, 1) := dk_3 (dk_at dksX1_odds_0 22 rfl rfl)
theorem dX1_odds_23 : decode cX1_odds 23 = .ok (.istore_n 3, 1) := dk_62 (dk_at dksX1_odds_0 23 rfl rfl)
theorem dX1_odds_24 : decode cX1_odds 24 = .ok (.iconst 0, 1) := dk_3 (dk_at dksX1_odds_1 0 rfl rfl)
theorem dX1_odds_25 : decode cX1_odds 25 = .ok (.istore 4, 2) := dk_54 4 (dk_at dksX1_odds_1 1 rfl rfl)
theorem dX1_odds_27 : decode cX1_odds 27 = .ok (.iload 4, 2) := dk_21 4 (dk_at dksX1_odds_1 3 rfl rfl)
theorem dX1_odds_29 : decode cX1_odds 29 = .ok (.aload_n 0, 1) := dk_42 (dk_at dksX1_odds_1 5 rfl rfl)
theorem dX1_odds_30 : decode cX1_odds 30 = .ok (.getfield 118, 3) := dk_180 0 118 (dk_at dksX1_odds_1 6 rfl rfl)
theorem dX1_odds_33 : decode cX1_odds 33 = .ok (.if_icmp .ge 56, 3) := dk_162 0 56 (dk_at dksX1_odds_1 9 rfl rfl)
theorem dX1_odds_36 : decode cX1_odds 36 = .ok (.iload_n 3, 1) := dk_29 (dk_at dksX1_odds_1 12 rfl rfl)
theorem dX1_odds_37 : decode cX1_odds 37 = .ok (.iload_n 1, 1) := dk_27 (dk_at dksX1_odds_1 13 rfl rfl)
theorem dX1_odds_38 : decode cX1_odds 38 = .ok (.iconst (-1), 1) := dk_2 (dk_at dksX1_odds_1 14 rfl rfl)
theorem dX1_odds_39 : decode cX1_odds 39 = .ok (.if_icmp .eq 9, 3) := dk_159 0 9 (dk_at dksX1_odds_1 15 rfl rfl)
theorem dX1_odds_42 : decode cX1_odds 42 = .ok (.iload 4, 2) := dk_21 4 (dk_at dksX1_odds_1 18 rfl rfl)
theorem dX1_odds_44 : decode cX1_odds 44 = .ok (.iload_n 1, 1) := dk_27 (dk_at dksX1_odds_1 20 rfl rfl)
theorem dX1_odds_45 : decode cX1_odds 45 = .ok (.if_icmp .ne 35, 3) := dk_160 0 35 (dk_at dksX1_odds_1 21 rfl rfl)
theorem dX1_odds_48 : decode cX1_odds 48 = .ok (.aload_n 0, 1) := dk_42 (dk_at dksX1_odds_2 0 rfl rfl)
theorem dX1_odds_49 : decode cX1_odds 49 = .ok (.aload_n 0, 1) := dk_42 (dk_at dksX1_odds_2 1 rfl rfl)
theorem dX1_odds_50 : decode cX1_odds 50 = .ok (.getfield 31, 3) := dk_180 0 31 (dk_at dksX1_odds_2 2 rfl rfl)
theorem dX1_odds_53 : decode cX1_odds 53 = .ok (.iload 4, 2) := dk_21 4 (dk_at dksX1_odds_2 5 rfl rfl)
theorem dX1_odds_55 : decode cX1_odds 55 = .ok (.aaload, 1) := dk_50 (dk_at dksX1_odds_2 7 rfl rfl)
theorem dX1_odds_56 : decode cX1_odds 56 = .ok (.iload_n 2, 1) := dk_28 (dk_at dksX1_odds_2 8 rfl rfl)
theorem dX1_odds_57 : decode cX1_odds 57 = .ok (.invokevirtual 286, 3) := dk_182 1 30 (dk_at dksX1_odds_2 9 rfl rfl)
theorem dX1_odds_60 : decode cX1_odds 60 = .ok (.aload_n 0, 1) := dk_42 (dk_at dksX1_odds_2 12 rfl rfl)
theorem dX1_odds_61 : decode cX1_odds 61 = .ok (.getfield 240, 3) := dk_180 0 240 (dk_at dksX1_odds_2 13 rfl rfl)
theorem dX1_odds_64 : decode cX1_odds 64 = .ok (.if_icmp .ne 16, 3) := dk_160 0 16 (dk_at dksX1_odds_2 16 rfl rfl)
theorem dX1_odds_67 : decode cX1_odds 67 = .ok (.aload_n 0, 1) := dk_42 (dk_at dksX1_odds_2 19 rfl rfl)
theorem dX1_odds_68 : decode cX1_odds 68 = .ok (.getfield 31, 3) := dk_180 0 31 (dk_at dksX1_odds_2 20 rfl rfl)
theorem dX1_odds_71 : decode cX1_odds 71 = .ok (.iload 4, 2) := dk_21 4 (dk_at dksX1_odds_3 0 rfl rfl)
theorem dX1_odds_73 : decode cX1_odds 73 = .ok (.aaload, 1) := dk_50 (dk_at dksX1_odds_3 2 rfl rfl)
theorem dX1_odds_74 : decode cX1_odds 74 = .ok (.getfield 317, 3) := dk_180 1 61 (dk_at dksX1_odds_3 3 rfl rfl)
theorem dX1_odds_77 : decode cX1_odds 77 = .ok (.goto 4, 3) := dk_167 0 4 (dk_at dksX1_odds_3 6 rfl rfl)
theorem dX1_odds_80 : decode cX1_odds 80 = .ok (.iconst 0, 1) := dk_3 (dk_at dksX1_odds_3 9 rfl rfl)
theorem dX1_odds_81 : decode cX1_odds 81 = .ok (.iadd, 1) := dk_96 (dk_at dksX1_odds_3 10 rfl rfl)
theorem dX1_odds_82 : decode cX1_odds 82 = .ok (.istore_n 3, 1) := dk_62 (dk_at dksX1_odds_3 11 rfl rfl)
theorem dX1_odds_83 : decode cX1_odds 83 = .ok (.iinc 4 1, 3) := dk_132 4 1 (dk_at dksX1_odds_3 12 rfl rfl)
theorem dX1_odds_86 : decode cX1_odds 86 = .ok (.goto (-59), 3) := dk_167 255 197 (dk_at dksX1_odds_3 15 rfl rfl)
theorem dX1_odds_89 : decode cX1_odds 89 = .ok (.iload_n 3, 1) := dk_29 (dk_at dksX1_odds_3 18 rfl rfl)
theorem dX1_odds_90 : decode cX1_odds 90 = .ok (.ireturn, 1) := dk_172 (dk_at dksX1_odds_3 19 rfl rfl)
abbrev cX1_plan : ByteArray := prog_1_method_46_code
def yX1_plan : MethodName := ⟨RX1, "plan", "(IIII)I"⟩
def dkwX1_plan_3 : List UInt8 := [181, 1, 64, 42, 180, 1, 64, 4, 100, 172]
abbrev dktX1_plan_3 : List UInt8 := dkwX1_plan_3 ++ []
def dkwX1_plan_2 : List UInt8 := [180, 1, 64, 29, 79, 42, 180, 0, 61, 42, 180, 1, 64, 21, 4, 79, 42, 89, 180, 1, 64, 4, 96]
abbrev dktX1_plan_2 : List UInt8 := dkwX1_plan_2 ++ dktX1_plan_3
def dkwX1_plan_1 : List UInt8 := [180, 0, 52, 42, 180, 1, 64, 27, 79, 42, 180, 0, 55, 42, 180, 1, 64, 28, 79, 42, 180, 0, 58, 42]
abbrev dktX1_plan_1 : List UInt8 := dkwX1_plan_1 ++ dktX1_plan_2
def dkwX1_plan_0 : List UInt8 := [42, 180, 1, 64, 16, 8, 159, 0, 15, 42, 27, 28, 29, 21, 4, 182, 0, 146, 154, 0, 5, 2, 172, 42]
abbrev dktX1_plan_0 : List UInt8 := dkwX1_plan_0 ++ dktX1_plan_1
theorem dksX1_plan_0 : cX1_plan.data.toList.drop 0 = dktX1_plan_0 := by decide +kernel
theorem dksX1_plan_1 : cX1_plan.data.toList.drop 24 = dktX1_plan_1 := dk_seg dksX1_plan_0 24 rfl rfl
theorem dksX1_plan_2 : cX1_plan.data.toList.drop 48 = dktX1_plan_2 := dk_seg dksX1_plan_1 24 rfl rfl
theorem dksX1_plan_3 : cX1_plan.data.toList.drop 71 = dktX1_plan_3 := dk_seg dksX1_plan_2 23 rfl rfl
theorem dX1_plan_0 : decode cX1_plan 0 = .ok (.aload_n 0, 1) := dk_42 (dk_at dksX1_plan_0 0 rfl rfl)
theorem dX1_plan_1 : decode cX1_plan 1 = .ok (.getfield 320, 3) := dk_180 1 64 (dk_at dksX1_plan_0 1 rfl rfl)
theorem dX1_plan_4 : decode cX1_plan 4 = .ok (.bipush 8, 2) := dk_16 8 (dk_at dksX1_plan_0 4 rfl rfl)
theorem dX1_plan_6 : decode cX1_plan 6 = .ok (.if_icmp .eq 15, 3) := dk_159 0 15 (dk_at dksX1_plan_0 6 rfl rfl)
theorem dX1_plan_9 : decode cX1_plan 9 = .ok (.aload_n 0, 1) := dk_42 (dk_at dksX1_plan_0 9 rfl rfl)
theorem dX1_plan_10 : decode cX1_plan 10 = .ok (.iload_n 1, 1) := dk_27 (dk_at dksX1_plan_0 10 rfl rfl)
theorem dX1_plan_11 : decode cX1_plan 11 = .ok (.iload_n 2, 1) := dk_28 (dk_at dksX1_plan_0 11 rfl rfl)
theorem dX1_plan_12 : decode cX1_plan 12 = .ok (.iload_n 3, 1) := dk_29 (dk_at dksX1_plan_0 12 rfl rfl)
theorem dX1_plan_13 : decode cX1_plan 13 = .ok (.iload 4, 2) := dk_21 4 (dk_at dksX1_plan_0 13 rfl rfl)
theorem dX1_plan_15 : decode cX1_plan 15 = .ok (.invokevirtual 146, 3) := dk_182 0 146 (dk_at dksX1_plan_0 15 rfl rfl)
theorem dX1_plan_18 : decode cX1_plan 18 = .ok (.ifCond .ne 5, 3) := dk_154 0 5 (dk_at dksX1_plan_0 18 rfl rfl)
theorem dX1_plan_21 : decode cX1_plan 21 = .ok (.iconst (-1), 1) := dk_2 (dk_at dksX1_plan_0 21 rfl rfl)
theorem dX1_plan_22 : decode cX1_plan 22 = .ok (.ireturn, 1) := dk_172 (dk_at dksX1_plan_0 22 rfl rfl)
theorem dX1_plan_23 : decode cX1_plan 23 = .ok (.aload_n 0, 1) := dk_42 (dk_at dksX1_plan_0 23 rfl rfl)
theorem dX1_plan_24 : decode cX1_plan 24 = .ok (.getfield 52, 3) := dk_180 0 52 (dk_at dksX1_plan_1 0 rfl rfl)
theorem dX1_plan_27 : decode cX1_plan 27 = .ok (.aload_n 0, 1) := dk_42 (dk_at dksX1_plan_1 3 rfl rfl)
theorem dX1_plan_28 : decode cX1_plan 28 = .ok (.getfield 320, 3) := dk_180 1 64 (dk_at dksX1_plan_1 4 rfl rfl)
theorem dX1_plan_31 : decode cX1_plan 31 = .ok (.iload_n 1, 1) := dk_27 (dk_at dksX1_plan_1 7 rfl rfl)
theorem dX1_plan_32 : decode cX1_plan 32 = .ok (.iastore, 1) := dk_79 (dk_at dksX1_plan_1 8 rfl rfl)
theorem dX1_plan_33 : decode cX1_plan 33 = .ok (.aload_n 0, 1) := dk_42 (dk_at dksX1_plan_1 9 rfl rfl)
theorem dX1_plan_34 : decode cX1_plan 34 = .ok (.getfield 55, 3) := dk_180 0 55 (dk_at dksX1_plan_1 10 rfl rfl)
theorem dX1_plan_37 : decode cX1_plan 37 = .ok (.aload_n 0, 1) := dk_42 (dk_at dksX1_plan_1 13 rfl rfl)
theorem dX1_plan_38 : decode cX1_plan 38 = .ok (.getfield 320, 3) := dk_180 1 64 (dk_at dksX1_plan_1 14 rfl rfl)
theorem dX1_plan_41 : decode cX1_plan 41 = .ok (.iload_n 2, 1) := dk_28 (dk_at dksX1_plan_1 17 rfl rfl)
theorem dX1_plan_42 : decode cX1_plan 42 = .ok (.iastore, 1) := dk_79 (dk_at dksX1_plan_1 18 rfl rfl)
theorem dX1_plan_43 : decode cX1_plan 43 = .ok (.aload_n 0, 1) := dk_42 (dk_at dksX1_plan_1 19 rfl rfl)
theorem dX1_plan_44 : decode cX1_plan 44 = .ok (.getfield 58, 3) := dk_180 0 58 (dk_at dksX1_plan_1 20 rfl rfl)
theorem dX1_plan_47 : decode cX1_plan 47 = .ok (.aload_n 0, 1) := dk_42 (dk_at dksX1_plan_1 23 rfl rfl)
theorem dX1_plan_48 : decode cX1_plan 48 = .ok (.getfield 320, 3) := dk_180 1 64 (dk_at dksX1_plan_2 0 rfl rfl)
theorem dX1_plan_51 : decode cX1_plan 51 = .ok (.iload_n 3, 1) := dk_29 (dk_at dksX1_plan_2 3 rfl rfl)
theorem dX1_plan_52 : decode cX1_plan 52 = .ok (.iastore, 1) := dk_79 (dk_at dksX1_plan_2 4 rfl rfl)
theorem dX1_plan_53 : decode cX1_plan 53 = .ok (.aload_n 0, 1) := dk_42 (dk_at dksX1_plan_2 5 rfl rfl)
theorem dX1_plan_54 : decode cX1_plan 54 = .ok (.getfield 61, 3) := dk_180 0 61 (dk_at dksX1_plan_2 6 rfl rfl)
theorem dX1_plan_57 : decode cX1_plan 57 = .ok (.aload_n 0, 1) := dk_42 (dk_at dksX1_plan_2 9 rfl rfl)
theorem dX1_plan_58 : decode cX1_plan 58 = .ok (.getfield 320, 3) := dk_180 1 64 (dk_at dksX1_plan_2 10 rfl rfl)
theorem dX1_plan_61 : decode cX1_plan 61 = .ok (.iload 4, 2) := dk_21 4 (dk_at dksX1_plan_2 13 rfl rfl)
theorem dX1_plan_63 : decode cX1_plan 63 = .ok (.iastore, 1) := dk_79 (dk_at dksX1_plan_2 15 rfl rfl)
theorem dX1_plan_64 : decode cX1_plan 64 = .ok (.aload_n 0, 1) := dk_42 (dk_at dksX1_plan_2 16 rfl rfl)
theorem dX1_plan_65 : decode cX1_plan 65 = .ok (.dup, 1) := dk_89 (dk_at dksX1_plan_2 17 rfl rfl)
theorem dX1_plan_66 : decode cX1_plan 66 = .ok (.getfield 320, 3) := dk_180 1 64 (dk_at dksX1_plan_2 18 rfl rfl)
theorem dX1_plan_69 : decode cX1_plan 69 = .ok (.iconst 1, 1) := dk_4 (dk_at dksX1_plan_2 21 rfl rfl)
theorem dX1_plan_70 : decode cX1_plan 70 = .ok (.iadd, 1) := dk_96 (dk_at dksX1_plan_2 22 rfl rfl)
theorem dX1_plan_71 : decode cX1_plan 71 = .ok (.putfield 320, 3) := dk_181 1 64 (dk_at dksX1_plan_3 0 rfl rfl)
theorem dX1_plan_74 : decode cX1_plan 74 = .ok (.aload_n 0, 1) := dk_42 (dk_at dksX1_plan_3 3 rfl rfl)
theorem dX1_plan_75 : decode cX1_plan 75 = .ok (.getfield 320, 3) := dk_180 1 64 (dk_at dksX1_plan_3 4 rfl rfl)
theorem dX1_plan_78 : decode cX1_plan 78 = .ok (.iconst 1, 1) := dk_4 (dk_at dksX1_plan_3 7 rfl rfl)
theorem dX1_plan_79 : decode cX1_plan 79 = .ok (.isub, 1) := dk_100 (dk_at dksX1_plan_3 8 rfl rfl)
theorem dX1_plan_80 : decode cX1_plan 80 = .ok (.ireturn, 1) := dk_172 (dk_at dksX1_plan_3 9 rfl rfl)
abbrev cX1_parted : ByteArray := prog_1_method_51_code
def yX1_parted : MethodName := ⟨RX1, "parted", "(II)I"⟩
def dkwX1_parted_1 : List UInt8 := [42, 27, 28, 182, 1, 78, 167, 0, 4, 2, 172]
abbrev dktX1_parted_1 : List UInt8 := dkwX1_parted_1 ++ []
def dkwX1_parted_0 : List UInt8 := [27, 133, 9, 42, 180, 1, 64, 4, 100, 133, 184, 0, 89, 153, 0, 20, 42, 28, 182, 1, 75, 153, 0, 12]
abbrev dktX1_parted_0 : List UInt8 := dkwX1_parted_0 ++ dktX1_parted_1
theorem dksX1_parted_0 : cX1_parted.data.toList.drop 0 = dktX1_parted_0 := by decide +kernel
theorem dksX1_parted_1 : cX1_parted.data.toList.drop 24 = dktX1_parted_1 := dk_seg dksX1_parted_0 24 rfl rfl
theorem dX1_parted_0 : decode cX1_parted 0 = .ok (.iload_n 1, 1) := dk_27 (dk_at dksX1_parted_0 0 rfl rfl)
theorem dX1_parted_1 : decode cX1_parted 1 = .ok (.i2l, 1) := dk_133 (dk_at dksX1_parted_0 1 rfl rfl)
theorem dX1_parted_2 : decode cX1_parted 2 = .ok (.lconst 0, 1) := dk_9 (dk_at dksX1_parted_0 2 rfl rfl)
theorem dX1_parted_3 : decode cX1_parted 3 = .ok (.aload_n 0, 1) := dk_42 (dk_at dksX1_parted_0 3 rfl rfl)
theorem dX1_parted_4 : decode cX1_parted 4 = .ok (.getfield 320, 3) := dk_180 1 64 (dk_at dksX1_parted_0 4 rfl rfl)
theorem dX1_parted_7 : decode cX1_parted 7 = .ok (.iconst 1, 1) := dk_4 (dk_at dksX1_parted_0 7 rfl rfl)
theorem dX1_parted_8 : decode cX1_parted 8 = .ok (.isub, 1) := dk_100 (dk_at dksX1_parted_0 8 rfl rfl)
theorem dX1_parted_9 : decode cX1_parted 9 = .ok (.i2l, 1) := dk_133 (dk_at dksX1_parted_0 9 rfl rfl)
theorem dX1_parted_10 : decode cX1_parted 10 = .ok (.invokestatic 89, 3) := dk_184 0 89 (dk_at dksX1_parted_0 10 rfl rfl)
theorem dX1_parted_13 : decode cX1_parted 13 = .ok (.ifCond .eq 20, 3) := dk_153 0 20 (dk_at dksX1_parted_0 13 rfl rfl)
theorem dX1_parted_16 : decode cX1_parted 16 = .ok (.aload_n 0, 1) := dk_42 (dk_at dksX1_parted_0 16 rfl rfl)
theorem dX1_parted_17 : decode cX1_parted 17 = .ok (.iload_n 2, 1) := dk_28 (dk_at dksX1_parted_0 17 rfl rfl)
theorem dX1_parted_18 : decode cX1_parted 18 = .ok (.invokevirtual 331, 3) := dk_182 1 75 (dk_at dksX1_parted_0 18 rfl rfl)
theorem dX1_parted_21 : decode cX1_parted 21 = .ok (.ifCond .eq 12, 3) := dk_153 0 12 (dk_at dksX1_parted_0 21 rfl rfl)
theorem dX1_parted_24 : decode cX1_parted 24 = .ok (.aload_n 0, 1) := dk_42 (dk_at dksX1_parted_1 0 rfl rfl)
theorem dX1_parted_25 : decode cX1_parted 25 = .ok (.iload_n 1, 1) := dk_27 (dk_at dksX1_parted_1 1 rfl rfl)
theorem dX1_parted_26 : decode cX1_parted 26 = .ok (.iload_n 2, 1) := dk_28 (dk_at dksX1_parted_1 2 rfl rfl)
theorem dX1_parted_27 : decode cX1_parted 27 = .ok (.invokevirtual 334, 3) := dk_182 1 78 (dk_at dksX1_parted_1 3 rfl rfl)
theorem dX1_parted_30 : decode cX1_parted 30 = .ok (.goto 4, 3) := dk_167 0 4 (dk_at dksX1_parted_1 6 rfl rfl)
theorem dX1_parted_33 : decode cX1_parted 33 = .ok (.iconst (-1), 1) := dk_2 (dk_at dksX1_parted_1 9 rfl rfl)
theorem dX1_parted_34 : decode cX1_parted 34 = .ok (.ireturn, 1) := dk_172 (dk_at dksX1_parted_1 10 rfl rfl)
abbrev cX1_areHeads : ByteArray := prog_1_method_50_code
def yX1_areHeads : MethodName := ⟨RX1, "areHeads", "(I)Z"⟩
def dkwX1_areHeads_0 : List UInt8 := [27, 155, 0, 17, 27, 4, 42, 180, 0, 118, 120, 162, 0, 7, 4, 167, 0, 4, 3, 172]
abbrev dktX1_areHeads_0 : List UInt8 := dkwX1_areHeads_0 ++ []
theorem dksX1_areHeads_0 : cX1_areHeads.data.toList.drop 0 = dktX1_areHeads_0 := by decide +kernel
theorem dX1_areHeads_0 : decode cX1_areHeads 0 = .ok (.iload_n 1, 1) := dk_27 (dk_at dksX1_areHeads_0 0 rfl rfl)
theorem dX1_areHeads_1 : decode cX1_areHeads 1 = .ok (.ifCond .lt 17, 3) := dk_155 0 17 (dk_at dksX1_areHeads_0 1 rfl rfl)
theorem dX1_areHeads_4 : decode cX1_areHeads 4 = .ok (.iload_n 1, 1) := dk_27 (dk_at dksX1_areHeads_0 4 rfl rfl)
theorem dX1_areHeads_5 : decode cX1_areHeads 5 = .ok (.iconst 1, 1) := dk_4 (dk_at dksX1_areHeads_0 5 rfl rfl)
theorem dX1_areHeads_6 : decode cX1_areHeads 6 = .ok (.aload_n 0, 1) := dk_42 (dk_at dksX1_areHeads_0 6 rfl rfl)
theorem dX1_areHeads_7 : decode cX1_areHeads 7 = .ok (.getfield 118, 3) := dk_180 0 118 (dk_at dksX1_areHeads_0 7 rfl rfl)
theorem dX1_areHeads_10 : decode cX1_areHeads 10 = .ok (.ishl, 1) := dk_120 (dk_at dksX1_areHeads_0 10 rfl rfl)
theorem dX1_areHeads_11 : decode cX1_areHeads 11 = .ok (.if_icmp .ge 7, 3) := dk_162 0 7 (dk_at dksX1_areHeads_0 11 rfl rfl)
theorem dX1_areHeads_14 : decode cX1_areHeads 14 = .ok (.iconst 1, 1) := dk_4 (dk_at dksX1_areHeads_0 14 rfl rfl)
theorem dX1_areHeads_15 : decode cX1_areHeads 15 = .ok (.goto 4, 3) := dk_167 0 4 (dk_at dksX1_areHeads_0 15 rfl rfl)
theorem dX1_areHeads_18 : decode cX1_areHeads 18 = .ok (.iconst 0, 1) := dk_3 (dk_at dksX1_areHeads_0 18 rfl rfl)
theorem dX1_areHeads_19 : decode cX1_areHeads 19 = .ok (.ireturn, 1) := dk_172 (dk_at dksX1_areHeads_0 19 rfl rfl)
abbrev cX1_partedBy : ByteArray := prog_1_method_49_code
def yX1_partedBy : MethodName := ⟨RX1, "partedBy", "(II)I"⟩
def dkwX1_partedBy_4 : List UInt8 := [62, 132, 5, 1, 167, 255, 173, 132, 4, 1, 167, 255, 155, 29, 172]
abbrev dktX1_partedBy_4 : List UInt8 := dkwX1_partedBy_4 ++ []
def dkwX1_partedBy_3 : List UInt8 := [42, 180, 0, 58, 27, 46, 42, 180, 0, 61, 27, 46, 182, 1, 71, 153, 0, 7, 4, 167, 0, 4, 3, 96]
abbrev dktX1_partedBy_3 : List UInt8 := dkwX1_partedBy_3 ++ dktX1_partedBy_4
def dkwX1_partedBy_2 : List UInt8 := [42, 180, 0, 31, 21, 5, 50, 42, 180, 0, 27, 42, 180, 0, 52, 27, 46, 50, 42, 180, 0, 55, 27, 46]
abbrev dktX1_partedBy_2 : List UInt8 := dkwX1_partedBy_2 ++ dktX1_partedBy_3
def dkwX1_partedBy_1 : List UInt8 := [29, 28, 21, 4, 122, 28, 21, 5, 122, 126, 4, 126, 4, 160, 0, 57, 42, 42, 180, 0, 31, 21, 4, 50]
abbrev dktX1_partedBy_1 : List UInt8 := dkwX1_partedBy_1 ++ dktX1_partedBy_2
def dkwX1_partedBy_0 : List UInt8 := [3, 62, 3, 54, 4, 21, 4, 42, 180, 0, 118, 162, 0, 98, 3, 54, 5, 21, 5, 21, 4, 162, 0, 82]
abbrev dktX1_partedBy_0 : List UInt8 := dkwX1_partedBy_0 ++ dktX1_partedBy_1
theorem dksX1_partedBy_0 : cX1_partedBy.data.toList.drop 0 = dktX1_partedBy_0 := by decide +kernel
theorem dksX1_partedBy_1 : cX1_partedBy.data.toList.drop 24 = dktX1_partedBy_1 := dk_seg dksX1_partedBy_0 24 rfl rfl
theorem dksX1_partedBy_2 : cX1_partedBy.data.toList.drop 48 = dktX1_partedBy_2 := dk_seg dksX1_partedBy_1 24 rfl rfl
theorem dksX1_partedBy_3 : cX1_partedBy.data.toList.drop 72 = dktX1_partedBy_3 := dk_seg dksX1_partedBy_2 24 rfl rfl
theorem dksX1_partedBy_4 : cX1_partedBy.data.toList.drop 96 = dktX1_partedBy_4 := dk_seg dksX1_partedBy_3 24 rfl rfl
theorem dX1_partedBy_0 : decode cX1_partedBy 0 = .ok (.iconst 0, 1) := dk_3 (dk_at dksX1_partedBy_0 0 rfl rfl)
theorem dX1_partedBy_1 : decode cX1_partedBy 1 = .ok (.istore_n 3, 1) := dk_62 (dk_at dksX1_partedBy_0 1 rfl rfl)
theorem dX1_partedBy_2 : decode cX1_partedBy 2 = .ok (.iconst 0, 1) := dk_3 (dk_at dksX1_partedBy_0 2 rfl rfl)
theorem dX1_partedBy_3 : decode cX1_partedBy 3 = .ok (.istore 4, 2) := dk_54 4 (dk_at dksX1_partedBy_0 3 rfl rfl)
theorem dX1_partedBy_5 : decode cX1_partedBy 5 = .ok (.iload 4, 2) := dk_21 4 (dk_at dksX1_partedBy_0 5 rfl rfl)
theorem dX1_partedBy_7 : decode cX1_partedBy 7 = .ok (.aload_n 0, 1) := dk_42 (dk_at dksX1_partedBy_0 7 rfl rfl)
theorem dX1_partedBy_8 : decode cX1_partedBy 8 = .ok (.getfield 118, 3) := dk_180 0 118 (dk_at dksX1_partedBy_0 8 rfl rfl)
theorem dX1_partedBy_11 : decode cX1_partedBy 11 = .ok (.if_icmp .ge 98, 3) := dk_162 0 98 (dk_at dksX1_partedBy_0 11 rfl rfl)
theorem dX1_partedBy_14 : decode cX1_partedBy 14 = .ok (.iconst 0, 1) := dk_3 (dk_at dksX1_partedBy_0 14 rfl rfl)
theorem dX1_partedBy_15 : decode cX1_partedBy 15 = .ok (.istore 5, 2) := dk_54 5 (dk_at dksX1_partedBy_0 15 rfl rfl)
theorem dX1_partedBy_17 : decode cX1_partedBy 17 = .ok (.iload 5, 2) := dk_21 5 (dk_at dksX1_partedBy_0 17 rfl rfl)
theorem dX1_partedBy_19 : decode cX1_partedBy 19 = .ok (.iload 4, 2) := dk_21 4 (dk_at dksX1_partedBy_0 19 rfl rfl)
theorem dX1_partedBy_21 : decode cX1_partedBy 21 = .ok (.if_icmp .ge 82, 3) := dk_162 0 82 (dk_at dksX1_partedBy_0 21 rfl rfl)
theorem dX1_partedBy_24 : decode cX1_partedBy 24 = .ok (.iload_n 3, 1) := dk_29 (dk_at dksX1_partedBy_1 0 rfl rfl)
theorem dX1_partedBy_25 : decode cX1_partedBy 25 = .ok (.iload_n 2, 1) := dk_28 (dk_at dksX1_partedBy_1 1 rfl rfl)
theorem dX1_partedBy_26 : decode cX1_partedBy 26 = .ok (.iload 4, 2) := dk_21 4 (dk_at dksX1_partedBy_1 2 rfl rfl)
theorem dX1_partedBy_28 : decode cX1_partedBy 28 = .ok (.ishr, 1) := dk_122 (dk_at dksX1_partedBy_1 4 rfl rfl)
theorem dX1_partedBy_29 : decode cX1_partedBy 29 = .ok (.iload_n 2, 1) := dk_28 (dk_at dksX1_partedBy_1 5 rfl rfl)
theorem dX1_partedBy_30 : decode cX1_partedBy 30 = .ok (.iload 5, 2) := dk_21 5 (dk_at dksX1_partedBy_1 6 rfl rfl)
theorem dX1_partedBy_32 : decode cX1_partedBy 32 = .ok (.ishr, 1) := dk_122 (dk_at dksX1_partedBy_1 8 rfl rfl)
theorem dX1_partedBy_33 : decode cX1_partedBy 33 = .ok (.iand, 1) := dk_126 (dk_at dksX1_partedBy_1 9 rfl rfl)
theorem dX1_partedBy_34 : decode cX1_partedBy 34 = .ok (.iconst 1, 1) := dk_4 (dk_at dksX1_partedBy_1 10 rfl rfl)
theorem dX1_partedBy_35 : decode cX1_partedBy 35 = .ok (.iand, 1) := dk_126 (dk_at dksX1_partedBy_1 11 rfl rfl)
theorem dX1_partedBy_36 : decode cX1_partedBy 36 = .ok (.iconst 1, 1) := dk_4 (dk_at dksX1_partedBy_1 12 rfl rfl)
theorem dX1_partedBy_37 : decode cX1_partedBy 37 = .ok (.if_icmp .ne 57, 3) := dk_160 0 57 (dk_at dksX1_partedBy_1 13 rfl rfl)
theorem dX1_partedBy_40 : decode cX1_partedBy 40 = .ok (.aload_n 0, 1) := dk_42 (dk_at dksX1_partedBy_1 16 rfl rfl)
theorem dX1_partedBy_41 : decode cX1_partedBy 41 = .ok (.aload_n 0, 1) := dk_42 (dk_at dksX1_partedBy_1 17 rfl rfl)
theorem dX1_partedBy_42 : decode cX1_partedBy 42 = .ok (.getfield 31, 3) := dk_180 0 31 (dk_at dksX1_partedBy_1 18 rfl rfl)
theorem dX1_partedBy_45 : decode cX1_partedBy 45 = .ok (.iload 4, 2) := dk_21 4 (dk_at dksX1_partedBy_1 21 rfl rfl)
theorem dX1_partedBy_47 : decode cX1_partedBy 47 = .ok (.aaload, 1) := dk_50 (dk_at dksX1_partedBy_1 23 rfl rfl)
theorem dX1_partedBy_48 : decode cX1_partedBy 48 = .ok (.aload_n 0, 1) := dk_42 (dk_at dksX1_partedBy_2 0 rfl rfl)
theorem dX1_partedBy_49 : decode cX1_partedBy 49 = .ok (.getfield 31, 3) := dk_180 0 31 (dk_at dksX1_partedBy_2 1 rfl rfl)
theorem dX1_partedBy_52 : decode cX1_partedBy 52 = .ok (.iload 5, 2) := dk_21 5 (dk_at dksX1_partedBy_2 4 rfl rfl)
theorem dX1_partedBy_54 : decode cX1_partedBy 54 = .ok (.aaload, 1) := dk_50 (dk_at dksX1_partedBy_2 6 rfl rfl)
theorem dX1_partedBy_55 : decode cX1_partedBy 55 = .ok (.aload_n 0, 1) := dk_42 (dk_at dksX1_partedBy_2 7 rfl rfl)
theorem dX1_partedBy_56 : decode cX1_partedBy 56 = .ok (.getfield 27, 3) := dk_180 0 27 (dk_at dksX1_partedBy_2 8 rfl rfl)
theorem dX1_partedBy_59 : decode cX1_partedBy 59 = .ok (.aload_n 0, 1) := dk_42 (dk_at dksX1_partedBy_2 11 rfl rfl)
theorem dX1_partedBy_60 : decode cX1_partedBy 60 = .ok (.getfield 52, 3) := dk_180 0 52 (dk_at dksX1_partedBy_2 12 rfl rfl)
theorem dX1_partedBy_63 : decode cX1_partedBy 63 = .ok (.iload_n 1, 1) := dk_27 (dk_at dksX1_partedBy_2 15 rfl rfl)
theorem dX1_partedBy_64 : decode cX1_partedBy 64 = .ok (.iaload, 1) := dk_46 (dk_at dksX1_partedBy_2 16 rfl rfl)
theorem dX1_partedBy_65 : decode cX1_partedBy 65 = .ok (.aaload, 1) := dk_50 (dk_at dksX1_partedBy_2 17 rfl rfl)
theorem dX1_partedBy_66 : decode cX1_partedBy 66 = .ok (.aload_n 0, 1) := dk_42 (dk_at dksX1_partedBy_2 18 rfl rfl)
theorem dX1_partedBy_67 : decode cX1_partedBy 67 = .ok (.getfield 55, 3) := dk_180 0 55 (dk_at dksX1_partedBy_2 19 rfl rfl)
theorem dX1_partedBy_70 : decode cX1_partedBy 70 = .ok (.iload_n 1, 1) := dk_27 (dk_at dksX1_partedBy_2 22 rfl rfl)
theorem dX1_partedBy_71 : decode cX1_partedBy 71 = .ok (.iaload, 1) := dk_46 (dk_at dksX1_partedBy_2 23 rfl rfl)
theorem dX1_partedBy_72 : decode cX1_partedBy 72 = .ok (.aload_n 0, 1) := dk_42 (dk_at dksX1_partedBy_3 0 rfl rfl)
theorem dX1_partedBy_73 : decode cX1_partedBy 73 = .ok (.getfield 58, 3) := dk_180 0 58 (dk_at dksX1_partedBy_3 1 rfl rfl)
theorem dX1_partedBy_76 : decode cX1_partedBy 76 = .ok (.iload_n 1, 1) := dk_27 (dk_at dksX1_partedBy_3 4 rfl rfl)
theorem dX1_partedBy_77 : decode cX1_partedBy 77 = .ok (.iaload, 1) := dk_46 (dk_at dksX1_partedBy_3 5 rfl rfl)
theorem dX1_partedBy_78 : decode cX1_partedBy 78 = .ok (.aload_n 0, 1) := dk_42 (dk_at dksX1_partedBy_3 6 rfl rfl)
theorem dX1_partedBy_79 : decode cX1_partedBy 79 = .ok (.getfield 61, 3) := dk_180 0 61 (dk_at dksX1_partedBy_3 7 rfl rfl)
theorem dX1_partedBy_82 : decode cX1_partedBy 82 = .ok (.iload_n 1, 1) := dk_27 (dk_at dksX1_partedBy_3 10 rfl rfl)
theorem dX1_partedBy_83 : decode cX1_partedBy 83 = .ok (.iaload, 1) := dk_46 (dk_at dksX1_partedBy_3 11 rfl rfl)
theorem dX1_partedBy_84 : decode cX1_partedBy 84 = .ok (.invokevirtual 327, 3) := dk_182 1 71 (dk_at dksX1_partedBy_3 12 rfl rfl)
theorem dX1_partedBy_87 : decode cX1_partedBy 87 = .ok (.ifCond .eq 7, 3) := dk_153 0 7 (dk_at dksX1_partedBy_3 15 rfl rfl)
theorem dX1_partedBy_90 : decode cX1_partedBy 90 = .ok (.iconst 1, 1) := dk_4 (dk_at dksX1_partedBy_3 18 rfl rfl)
theorem dX1_partedBy_91 : decode cX1_partedBy 91 = .ok (.goto 4, 3) := dk_167 0 4 (dk_at dksX1_partedBy_3 19 rfl rfl)
theorem dX1_partedBy_94 : decode cX1_partedBy 94 = .ok (.iconst 0, 1) := dk_3 (dk_at dksX1_partedBy_3 22 rfl rfl)
theorem dX1_partedBy_95 : decode cX1_partedBy 95 = .ok (.iadd, 1) := dk_96 (dk_at dksX1_partedBy_3 23 rfl rfl)
theorem dX1_partedBy_96 : decode cX1_partedBy 96 = .ok (.istore_n 3, 1) := dk_62 (dk_at dksX1_partedBy_4 0 rfl rfl)
theorem dX1_partedBy_97 : decode cX1_partedBy 97 = .ok (.iinc 5 1, 3) := dk_132 5 1 (dk_at dksX1_partedBy_4 1 rfl rfl)
theorem dX1_partedBy_100 : decode cX1_partedBy 100 = .ok (.goto (-83), 3) := dk_167 255 173 (dk_at dksX1_partedBy_4 4 rfl rfl)
theorem dX1_partedBy_103 : decode cX1_partedBy 103 = .ok (.iinc 4 1, 3) := dk_132 4 1 (dk_at dksX1_partedBy_4 7 rfl rfl)
theorem dX1_partedBy_106 : decode cX1_partedBy 106 = .ok (.goto (-101), 3) := dk_167 255 155 (dk_at dksX1_partedBy_4 10 rfl rfl)
theorem dX1_partedBy_109 : decode cX1_partedBy 109 = .ok (.iload_n 3, 1) := dk_29 (dk_at dksX1_partedBy_4 13 rfl rfl)
theorem dX1_partedBy_110 : decode cX1_partedBy 110 = .ok (.ireturn, 1) := dk_172 (dk_at dksX1_partedBy_4 14 rfl rfl)
abbrev cX1_partsAt : ByteArray := prog_1_method_48_code
def yX1_partsAt : MethodName := ⟨RX1, "partsAt", "(LDayBoy$Head;LDayBoy$Head;LDayBoy$Almanac;III)Z"⟩
def dkwX1_partsAt_1 : List UInt8 := [21, 5, 182, 0, 187, 184, 1, 67, 172]
abbrev dktX1_partsAt_1 : List UInt8 := dkwX1_partsAt_1 ++ []
def dkwX1_partsAt_0 : List UInt8 := [43, 44, 45, 21, 4, 21, 5, 21, 6, 42, 43, 45, 21, 4, 21, 5, 182, 0, 187, 42, 44, 45, 21, 4]
abbrev dktX1_partsAt_0 : List UInt8 := dkwX1_partsAt_0 ++ dktX1_partsAt_1
theorem dksX1_partsAt_0 : cX1_partsAt.data.toList.drop 0 = dktX1_partsAt_0 := by decide +kernel
theorem dksX1_partsAt_1 : cX1_partsAt.data.toList.drop 24 = dktX1_partsAt_1 := dk_seg dksX1_partsAt_0 24 rfl rfl
theorem dX1_partsAt_0 : decode cX1_partsAt 0 = .ok (.aload_n 1, 1) := dk_43 (dk_at dksX1_partsAt_0 0 rfl rfl)
theorem dX1_partsAt_1 : decode cX1_partsAt 1 = .ok (.aload_n 2, 1) := dk_44 (dk_at dksX1_partsAt_0 1 rfl rfl)
theorem dX1_partsAt_2 : decode cX1_partsAt 2 = .ok (.aload_n 3, 1) := dk_45 (dk_at dksX1_partsAt_0 2 rfl rfl)
theorem dX1_partsAt_3 : decode cX1_partsAt 3 = .ok (.iload 4, 2) := dk_21 4 (dk_at dksX1_partsAt_0 3 rfl rfl)
theorem dX1_partsAt_5 : decode cX1_partsAt 5 = .ok (.iload 5, 2) := dk_21 5 (dk_at dksX1_partsAt_0 5 rfl rfl)
theorem dX1_partsAt_7 : decode cX1_partsAt 7 = .ok (.iload 6, 2) := dk_21 6 (dk_at dksX1_partsAt_0 7 rfl rfl)
theorem dX1_partsAt_9 : decode cX1_partsAt 9 = .ok (.aload_n 0, 1) := dk_42 (dk_at dksX1_partsAt_0 9 rfl rfl)
theorem dX1_partsAt_10 : decode cX1_partsAt 10 = .ok (.aload_n 1, 1) := dk_43 (dk_at dksX1_partsAt_0 10 rfl rfl)
theorem dX1_partsAt_11 : decode cX1_partsAt 11 = .ok (.aload_n 3, 1) := dk_45 (dk_at dksX1_partsAt_0 11 rfl rfl)
theorem dX1_partsAt_12 : decode cX1_partsAt 12 = .ok (.iload 4, 2) := dk_21 4 (dk_at dksX1_partsAt_0 12 rfl rfl)
theorem dX1_partsAt_14 : decode cX1_partsAt 14 = .ok (.iload 5, 2) := dk_21 5 (dk_at dksX1_partsAt_0 14 rfl rfl)
theorem dX1_partsAt_16 : decode cX1_partsAt 16 = .ok (.invokevirtual 187, 3) := dk_182 0 187 (dk_at dksX1_partsAt_0 16 rfl rfl)
theorem dX1_partsAt_19 : decode cX1_partsAt 19 = .ok (.aload_n 0, 1) := dk_42 (dk_at dksX1_partsAt_0 19 rfl rfl)
theorem dX1_partsAt_20 : decode cX1_partsAt 20 = .ok (.aload_n 2, 1) := dk_44 (dk_at dksX1_partsAt_0 20 rfl rfl)
theorem dX1_partsAt_21 : decode cX1_partsAt 21 = .ok (.aload_n 3, 1) := dk_45 (dk_at dksX1_partsAt_0 21 rfl rfl)
theorem dX1_partsAt_22 : decode cX1_partsAt 22 = .ok (.iload 4, 2) := dk_21 4 (dk_at dksX1_partsAt_0 22 rfl rfl)
theorem dX1_partsAt_24 : decode cX1_partsAt 24 = .ok (.iload 5, 2) := dk_21 5 (dk_at dksX1_partsAt_1 0 rfl rfl)
theorem dX1_partsAt_26 : decode cX1_partsAt 26 = .ok (.invokevirtual 187, 3) := dk_182 0 187 (dk_at dksX1_partsAt_1 2 rfl rfl)
theorem dX1_partsAt_29 : decode cX1_partsAt 29 = .ok (.invokestatic 323, 3) := dk_184 1 67 (dk_at dksX1_partsAt_1 5 rfl rfl)
theorem dX1_partsAt_32 : decode cX1_partsAt 32 = .ok (.ireturn, 1) := dk_172 (dk_at dksX1_partsAt_1 8 rfl rfl)
abbrev cX1_parts : ByteArray := prog_1_method_47_code
def yX1_parts : MethodName := ⟨RX1, "parts", "(LDayBoy$Head;LDayBoy$Head;LDayBoy$Almanac;IIIZZ)Z"⟩
def dkwX1_parts_3 : List UInt8 := [167, 0, 4, 3, 172]
abbrev dktX1_parts_3 : List UInt8 := dkwX1_parts_3 ++ []
def dkwX1_parts_2 : List UInt8 := [29, 21, 4, 21, 5, 184, 0, 230, 43, 44, 29, 21, 4, 21, 5, 184, 0, 230, 159, 0, 7, 4]
abbrev dktX1_parts_2 : List UInt8 := dkwX1_parts_2 ++ dktX1_parts_3
def dkwX1_parts_1 : List UInt8 := [44, 29, 21, 4, 21, 5, 184, 0, 226, 43, 44, 29, 21, 4, 21, 5, 184, 0, 226, 160, 0, 26, 42, 44]
abbrev dktX1_parts_1 : List UInt8 := dkwX1_parts_1 ++ dktX1_parts_2
def dkwX1_parts_0 : List UInt8 := [21, 6, 153, 0, 8, 21, 7, 154, 0, 16, 21, 6, 21, 7, 159, 0, 7, 4, 167, 0, 4, 3, 172, 42]
abbrev dktX1_parts_0 : List UInt8 := dkwX1_parts_0 ++ dktX1_parts_1
theorem dksX1_parts_0 : cX1_parts.data.toList.drop 0 = dktX1_parts_0 := by decide +kernel
theorem dksX1_parts_1 : cX1_parts.data.toList.drop 24 = dktX1_parts_1 := dk_seg dksX1_parts_0 24 rfl rfl
theorem dksX1_parts_2 : cX1_parts.data.toList.drop 48 = dktX1_parts_2 := dk_seg dksX1_parts_1 24 rfl rfl
theorem dksX1_parts_3 : cX1_parts.data.toList.drop 70 = dktX1_parts_3 := dk_seg dksX1_parts_2 22 rfl rfl
theorem dX1_parts_0 : decode cX1_parts 0 = .ok (.iload 6, 2) := dk_21 6 (dk_at dksX1_parts_0 0 rfl rfl)
theorem dX1_parts_2 : decode cX1_parts 2 = .ok (.ifCond .eq 8, 3) := dk_153 0 8 (dk_at dksX1_parts_0 2 rfl rfl)
theorem dX1_parts_5 : decode cX1_parts 5 = .ok (.iload 7, 2) := dk_21 7 (dk_at dksX1_parts_0 5 rfl rfl)
theorem dX1_parts_7 : decode cX1_parts 7 = .ok (.ifCond .ne 16, 3) := dk_154 0 16 (dk_at dksX1_parts_0 7 rfl rfl)
theorem dX1_parts_10 : decode cX1_parts 10 = .ok (.iload 6, 2) := dk_21 6 (dk_at dksX1_parts_0 10 rfl rfl)
theorem dX1_parts_12 : decode cX1_parts 12 = .ok (.iload 7, 2) := dk_21 7 (dk_at dksX1_parts_0 12 rfl rfl)
theorem dX1_parts_14 : decode cX1_parts 14 = .ok (.if_icmp .eq 7, 3) := dk_159 0 7 (dk_at dksX1_parts_0 14 rfl rfl)
theorem dX1_parts_17 : decode cX1_parts 17 = .ok (.iconst 1, 1) := dk_4 (dk_at dksX1_parts_0 17 rfl rfl)
theorem dX1_parts_18 : decode cX1_parts 18 = .ok (.goto 4, 3) := dk_167 0 4 (dk_at dksX1_parts_0 18 rfl rfl)
theorem dX1_parts_21 : decode cX1_parts 21 = .ok (.iconst 0, 1) := dk_3 (dk_at dksX1_parts_0 21 rfl rfl)
theorem dX1_parts_22 : decode cX1_parts 22 = .ok (.ireturn, 1) := dk_172 (dk_at dksX1_parts_0 22 rfl rfl)
theorem dX1_parts_23 : decode cX1_parts 23 = .ok (.aload_n 0, 1) := dk_42 (dk_at dksX1_parts_0 23 rfl rfl)
theorem dX1_parts_24 : decode cX1_parts 24 = .ok (.aload_n 2, 1) := dk_44 (dk_at dksX1_parts_1 0 rfl rfl)
theorem dX1_parts_25 : decode cX1_parts 25 = .ok (.iload_n 3, 1) := dk_29 (dk_at dksX1_parts_1 1 rfl rfl)
theorem dX1_parts_26 : decode cX1_parts 26 = .ok (.iload 4, 2) := dk_21 4 (dk_at dksX1_parts_1 2 rfl rfl)
theorem dX1_parts_28 : decode cX1_parts 28 = .ok (.iload 5, 2) := dk_21 5 (dk_at dksX1_parts_1 4 rfl rfl)
theorem dX1_parts_30 : decode cX1_parts 30 = .ok (.invokestatic 226, 3) := dk_184 0 226 (dk_at dksX1_parts_1 6 rfl rfl)
theorem dX1_parts_33 : decode cX1_parts 33 = .ok (.aload_n 1, 1) := dk_43 (dk_at dksX1_parts_1 9 rfl rfl)
theorem dX1_parts_34 : decode cX1_parts 34 = .ok (.aload_n 2, 1) := dk_44 (dk_at dksX1_parts_1 10 rfl rfl)
theorem dX1_parts_35 : decode cX1_parts 35 = .ok (.iload_n 3, 1) := dk_29 (dk_at dksX1_parts_1 11 rfl rfl)
theorem dX1_parts_36 : decode cX1_parts 36 = .ok (.iload 4, 2) := dk_21 4 (dk_at dksX1_parts_1 12 rfl rfl)
theorem dX1_parts_38 : decode cX1_parts 38 = .ok (.iload 5, 2) := dk_21 5 (dk_at dksX1_parts_1 14 rfl rfl)
theorem dX1_parts_40 : decode cX1_parts 40 = .ok (.invokestatic 226, 3) := dk_184 0 226 (dk_at dksX1_parts_1 16 rfl rfl)
theorem dX1_parts_43 : decode cX1_parts 43 = .ok (.if_icmp .ne 26, 3) := dk_160 0 26 (dk_at dksX1_parts_1 19 rfl rfl)
theorem dX1_parts_46 : decode cX1_parts 46 = .ok (.aload_n 0, 1) := dk_42 (dk_at dksX1_parts_1 22 rfl rfl)
theorem dX1_parts_47 : decode cX1_parts 47 = .ok (.aload_n 2, 1) := dk_44 (dk_at dksX1_parts_1 23 rfl rfl)
theorem dX1_parts_48 : decode cX1_parts 48 = .ok (.iload_n 3, 1) := dk_29 (dk_at dksX1_parts_2 0 rfl rfl)
theorem dX1_parts_49 : decode cX1_parts 49 = .ok (.iload 4, 2) := dk_21 4 (dk_at dksX1_parts_2 1 rfl rfl)
theorem dX1_parts_51 : decode cX1_parts 51 = .ok (.iload 5, 2) := dk_21 5 (dk_at dksX1_parts_2 3 rfl rfl)
theorem dX1_parts_53 : decode cX1_parts 53 = .ok (.invokestatic 230, 3) := dk_184 0 230 (dk_at dksX1_parts_2 5 rfl rfl)
theorem dX1_parts_56 : decode cX1_parts 56 = .ok (.aload_n 1, 1) := dk_43 (dk_at dksX1_parts_2 8 rfl rfl)
theorem dX1_parts_57 : decode cX1_parts 57 = .ok (.aload_n 2, 1) := dk_44 (dk_at dksX1_parts_2 9 rfl rfl)
theorem dX1_parts_58 : decode cX1_parts 58 = .ok (.iload_n 3, 1) := dk_29 (dk_at dksX1_parts_2 10 rfl rfl)
theorem dX1_parts_59 : decode cX1_parts 59 = .ok (.iload 4, 2) := dk_21 4 (dk_at dksX1_parts_2 11 rfl rfl)
theorem dX1_parts_61 : decode cX1_parts 61 = .ok (.iload 5, 2) := dk_21 5 (dk_at dksX1_parts_2 13 rfl rfl)
theorem dX1_parts_63 : decode cX1_parts 63 = .ok (.invokestatic 230, 3) := dk_184 0 230 (dk_at dksX1_parts_2 15 rfl rfl)
theorem dX1_parts_66 : decode cX1_parts 66 = .ok (.if_icmp .eq 7, 3) := dk_159 0 7 (dk_at dksX1_parts_2 18 rfl rfl)
theorem dX1_parts_69 : decode cX1_parts 69 = .ok (.iconst 1, 1) := dk_4 (dk_at dksX1_parts_2 21 rfl rfl)
theorem dX1_parts_70 : decode cX1_parts 70 = .ok (.goto 4, 3) := dk_167 0 4 (dk_at dksX1_parts_3 0 rfl rfl)
theorem dX1_parts_73 : decode cX1_parts 73 = .ok (.iconst 0, 1) := dk_3 (dk_at dksX1_parts_3 3 rfl rfl)
theorem dX1_parts_74 : decode cX1_parts 74 = .ok (.ireturn, 1) := dk_172 (dk_at dksX1_parts_3 4 rfl rfl)
abbrev cX1_next : ByteArray := prog_1_method_52_code
def yX1_next : MethodName := ⟨RX1, "next", "(I)I"⟩
def dkwX1_next_2 : List UInt8 := [132, 3, 1, 167, 255, 228, 28, 172]
abbrev dktX1_next_2 : List UInt8 := dkwX1_next_2 ++ []
def dkwX1_next_1 : List UInt8 := [180, 1, 64, 162, 0, 26, 42, 29, 27, 182, 1, 78, 42, 28, 27, 182, 1, 78, 164, 0, 5, 29, 61]
abbrev dktX1_next_1 : List UInt8 := dkwX1_next_1 ++ dktX1_next_2
def dkwX1_next_0 : List UInt8 := [42, 180, 1, 64, 153, 0, 11, 42, 27, 182, 1, 75, 154, 0, 5, 2, 172, 3, 61, 4, 62, 29, 42]
abbrev dktX1_next_0 : List UInt8 := dkwX1_next_0 ++ dktX1_next_1
theorem dksX1_next_0 : cX1_next.data.toList.drop 0 = dktX1_next_0 := by decide +kernel
theorem dksX1_next_1 : cX1_next.data.toList.drop 23 = dktX1_next_1 := dk_seg dksX1_next_0 23 rfl rfl
theorem dksX1_next_2 : cX1_next.data.toList.drop 46 = dktX1_next_2 := dk_seg dksX1_next_1 23 rfl rfl
theorem dX1_next_0 : decode cX1_next 0 = .ok (.aload_n 0, 1) := dk_42 (dk_at dksX1_next_0 0 rfl rfl)
theorem dX1_next_1 : decode cX1_next 1 = .ok (.getfield 320, 3) := dk_180 1 64 (dk_at dksX1_next_0 1 rfl rfl)
theorem dX1_next_4 : decode cX1_next 4 = .ok (.ifCond .eq 11, 3) := dk_153 0 11 (dk_at dksX1_next_0 4 rfl rfl)
theorem dX1_next_7 : decode cX1_next 7 = .ok (.aload_n 0, 1) := dk_42 (dk_at dksX1_next_0 7 rfl rfl)
theorem dX1_next_8 : decode cX1_next 8 = .ok (.iload_n 1, 1) := dk_27 (dk_at dksX1_next_0 8 rfl rfl)
theorem dX1_next_9 : decode cX1_next 9 = .ok (.invokevirtual 331, 3) := dk_182 1 75 (dk_at dksX1_next_0 9 rfl rfl)
theorem dX1_next_12 : decode cX1_next 12 = .ok (.ifCond .ne 5, 3) := dk_154 0 5 (dk_at dksX1_next_0 12 rfl rfl)
theorem dX1_next_15 : decode cX1_next 15 = .ok (.iconst (-1), 1) := dk_2 (dk_at dksX1_next_0 15 rfl rfl)
theorem dX1_next_16 : decode cX1_next 16 = .ok (.ireturn, 1) := dk_172 (dk_at dksX1_next_0 16 rfl rfl)
theorem dX1_next_17 : decode cX1_next 17 = .ok (.iconst 0, 1) := dk_3 (dk_at dksX1_next_0 17 rfl rfl)
theorem dX1_next_18 : decode cX1_next 18 = .ok (.istore_n 2, 1) := dk_61 (dk_at dksX1_next_0 18 rfl rfl)
theorem dX1_next_19 : decode cX1_next 19 = .ok (.iconst 1, 1) := dk_4 (dk_at dksX1_next_0 19 rfl rfl)
theorem dX1_next_20 : decode cX1_next 20 = .ok (.istore_n 3, 1) := dk_62 (dk_at dksX1_next_0 20 rfl rfl)
theorem dX1_next_21 : decode cX1_next 21 = .ok (.iload_n 3, 1) := dk_29 (dk_at dksX1_next_0 21 rfl rfl)
theorem dX1_next_22 : decode cX1_next 22 = .ok (.aload_n 0, 1) := dk_42 (dk_at dksX1_next_0 22 rfl rfl)
theorem dX1_next_23 : decode cX1_next 23 = .ok (.getfield 320, 3) := dk_180 1 64 (dk_at dksX1_next_1 0 rfl rfl)
theorem dX1_next_26 : decode cX1_next 26 = .ok (.if_icmp .ge 26, 3) := dk_162 0 26 (dk_at dksX1_next_1 3 rfl rfl)
theorem dX1_next_29 : decode cX1_next 29 = .ok (.aload_n 0, 1) := dk_42 (dk_at dksX1_next_1 6 rfl rfl)
theorem dX1_next_30 : decode cX1_next 30 = .ok (.iload_n 3, 1) := dk_29 (dk_at dksX1_next_1 7 rfl rfl)
theorem dX1_next_31 : decode cX1_next 31 = .ok (.iload_n 1, 1) := dk_27 (dk_at dksX1_next_1 8 rfl rfl)
theorem dX1_next_32 : decode cX1_next 32 = .ok (.invokevirtual 334, 3) := dk_182 1 78 (dk_at dksX1_next_1 9 rfl rfl)
theorem dX1_next_35 : decode cX1_next 35 = .ok (.aload_n 0, 1) := dk_42 (dk_at dksX1_next_1 12 rfl rfl)
theorem dX1_next_36 : decode cX1_next 36 = .ok (.iload_n 2, 1) := dk_28 (dk_at dksX1_next_1 13 rfl rfl)
theorem dX1_next_37 : decode cX1_next 37 = .ok (.iload_n 1, 1) := dk_27 (dk_at dksX1_next_1 14 rfl rfl)
theorem dX1_next_38 : decode cX1_next 38 = .ok (.invokevirtual 334, 3) := dk_182 1 78 (dk_at dksX1_next_1 15 rfl rfl)
theorem dX1_next_41 : decode cX1_next 41 = .ok (.if_icmp .le 5, 3) := dk_164 0 5 (dk_at dksX1_next_1 18 rfl rfl)
theorem dX1_next_44 : decode cX1_next 44 = .ok (.iload_n 3, 1) := dk_29 (dk_at dksX1_next_1 21 rfl rfl)
theorem dX1_next_45 : decode cX1_next 45 = .ok (.istore_n 2, 1) := dk_61 (dk_at dksX1_next_1 22 rfl rfl)
theorem dX1_next_46 : decode cX1_next 46 = .ok (.iinc 3 1, 3) := dk_132 3 1 (dk_at dksX1_next_2 0 rfl rfl)
theorem dX1_next_49 : decode cX1_next 49 = .ok (.goto (-28), 3) := dk_167 255 228 (dk_at dksX1_next_2 3 rfl rfl)
theorem dX1_next_52 : decode cX1_next 52 = .ok (.iload_n 2, 1) := dk_28 (dk_at dksX1_next_2 6 rfl rfl)
theorem dX1_next_53 : decode cX1_next 53 = .ok (.ireturn, 1) := dk_172 (dk_at dksX1_next_2 7 rfl rfl)
abbrev cX1_part : ByteArray := prog_1_method_53_code
def yX1_part : MethodName := ⟨RX1, "part", "(IIIII)I"⟩
def dkwX1_part_6 : List UInt8 := [132, 9, 1, 167, 255, 193, 132, 8, 1, 167, 255, 177, 132, 7, 1, 167, 255, 158, 2, 172]
abbrev dktX1_part_6 : List UInt8 := dkwX1_part_6 ++ []
def dkwX1_part_5 : List UInt8 := [21, 7, 21, 8, 21, 9, 182, 1, 71, 153, 0, 15, 25, 6, 21, 7, 21, 8, 21, 9, 182, 0, 153, 172]
abbrev dktX1_part_5 : List UInt8 := dkwX1_part_5 ++ dktX1_part_6
def dkwX1_part_4 : List UInt8 := [21, 9, 182, 0, 140, 153, 0, 42, 42, 42, 180, 0, 31, 27, 50, 42, 180, 0, 31, 28, 50, 25, 6]
abbrev dktX1_part_4 : List UInt8 := dkwX1_part_4 ++ dktX1_part_5
def dkwX1_part_3 : List UInt8 := [21, 8, 16, 13, 162, 0, 78, 4, 54, 9, 21, 9, 16, 32, 162, 0, 62, 25, 6, 21, 7, 21, 8]
abbrev dktX1_part_3 : List UInt8 := dkwX1_part_3 ++ dktX1_part_4
def dkwX1_part_2 : List UInt8 := [180, 0, 27, 29, 50, 58, 6, 21, 4, 54, 7, 21, 7, 21, 4, 21, 5, 96, 162, 0, 94, 4, 54, 8]
abbrev dktX1_part_2 : List UInt8 := dkwX1_part_2 ++ dktX1_part_3
def dkwX1_part_1 : List UInt8 := [21, 4, 184, 0, 163, 153, 0, 16, 21, 5, 133, 10, 20, 1, 81, 184, 0, 89, 154, 0, 5, 2, 172, 42]
abbrev dktX1_part_1 : List UInt8 := dkwX1_part_1 ++ dktX1_part_2
def dkwX1_part_0 : List UInt8 := [42, 27, 182, 0, 184, 153, 0, 40, 42, 28, 182, 0, 184, 153, 0, 32, 42, 29, 182, 0, 136, 153, 0, 24]
abbrev dktX1_part_0 : List UInt8 := dkwX1_part_0 ++ dktX1_part_1
theorem dksX1_part_0 : cX1_part.data.toList.drop 0 = dktX1_part_0 := by decide +kernel
theorem dksX1_part_1 : cX1_part.data.toList.drop 24 = dktX1_part_1 := dk_seg dksX1_part_0 24 rfl rfl
theorem dksX1_part_2 : cX1_part.data.toList.drop 48 = dktX1_part_2 := dk_seg dksX1_part_1 24 rfl rfl
theorem dksX1_part_3 : cX1_part.data.toList.drop 72 = dktX1_part_3 := dk_seg dksX1_part_2 24 rfl rfl
theorem dksX1_part_4 : cX1_part.data.toList.drop 95 = dktX1_part_4 := dk_seg dksX1_part_3 23 rfl rfl
theorem dksX1_part_5 : cX1_part.data.toList.drop 118 = dktX1_part_5 := dk_seg dksX1_part_4 23 rfl rfl
theorem dksX1_part_6 : cX1_part.data.toList.drop 142 = dktX1_part_6 := dk_seg dksX1_part_5 24 rfl rfl
theorem dX1_part_0 : decode cX1_part 0 = .ok (.aload_n 0, 1) := dk_42 (dk_at dksX1_part_0 0 rfl rfl)
theorem dX1_part_1 : decode cX1_part 1 = .ok (.iload_n 1, 1) := dk_27 (dk_at dksX1_part_0 1 rfl rfl)
theorem dX1_part_2 : decode cX1_part 2 = .ok (.invokevirtual 184, 3) := dk_182 0 184 (dk_at dksX1_part_0 2 rfl rfl)
theorem dX1_part_5 : decode cX1_part 5 = .ok (.ifCond .eq 40, 3) := dk_153 0 40 (dk_at dksX1_part_0 5 rfl rfl)
theorem dX1_part_8 : decode cX1_part 8 = .ok (.aload_n 0, 1) := dk_42 (dk_at dksX1_part_0 8 rfl rfl)
theorem dX1_part_9 : decode cX1_part 9 = .ok (.iload_n 2, 1) := dk_28 (dk_at dksX1_part_0 9 rfl rfl)
theorem dX1_part_10 : decode cX1_part 10 = .ok (.invokevirtual 184, 3) := dk_182 0 184 (dk_at dksX1_part_0 10 rfl rfl)
theorem dX1_part_13 : decode cX1_part 13 = .ok (.ifCond .eq 32, 3) := dk_153 0 32 (dk_at dksX1_part_0 13 rfl rfl)
theorem dX1_part_16 : decode cX1_part 16 = .ok (.aload_n 0, 1) := dk_42 (dk_at dksX1_part_0 16 rfl rfl)
theorem dX1_part_17 : decode cX1_part 17 = .ok (.iload_n 3, 1) := dk_29 (dk_at dksX1_part_0 17 rfl rfl)
theorem dX1_part_18 : decode cX1_part 18 = .ok (.invokevirtual 136, 3) := dk_182 0 136 (dk_at dksX1_part_0 18 rfl rfl)
theorem dX1_part_21 : decode cX1_part 21 = .ok (.ifCond .eq 24, 3) := dk_153 0 24 (dk_at dksX1_part_0 21 rfl rfl)
theorem dX1_part_24 : decode cX1_part 24 = .ok (.iload 4, 2) := dk_21 4 (dk_at dksX1_part_1 0 rfl rfl)
theorem dX1_part_26 : decode cX1_part 26 = .ok (.invokestatic 163, 3) := dk_184 0 163 (dk_at dksX1_part_1 2 rfl rfl)
theorem dX1_part_29 : decode cX1_part 29 = .ok (.ifCond .eq 16, 3) := dk_153 0 16 (dk_at dksX1_part_1 5 rfl rfl)
theorem dX1_part_32 : decode cX1_part 32 = .ok (.iload 5, 2) := dk_21 5 (dk_at dksX1_part_1 8 rfl rfl)
theorem dX1_part_34 : decode cX1_part 34 = .ok (.i2l, 1) := dk_133 (dk_at dksX1_part_1 10 rfl rfl)
theorem dX1_part_35 : decode cX1_part 35 = .ok (.lconst 1, 1) := dk_10 (dk_at dksX1_part_1 11 rfl rfl)
theorem dX1_part_36 : decode cX1_part 36 = .ok (.ldc2_w 337, 3) := dk_20 1 81 (dk_at dksX1_part_1 12 rfl rfl)
theorem dX1_part_39 : decode cX1_part 39 = .ok (.invokestatic 89, 3) := dk_184 0 89 (dk_at dksX1_part_1 15 rfl rfl)
theorem dX1_part_42 : decode cX1_part 42 = .ok (.ifCond .ne 5, 3) := dk_154 0 5 (dk_at dksX1_part_1 18 rfl rfl)
theorem dX1_part_45 : decode cX1_part 45 = .ok (.iconst (-1), 1) := dk_2 (dk_at dksX1_part_1 21 rfl rfl)
theorem dX1_part_46 : decode cX1_part 46 = .ok (.ireturn, 1) := dk_172 (dk_at dksX1_part_1 22 rfl rfl)
theorem dX1_part_47 : decode cX1_part 47 = .ok (.aload_n 0, 1) := dk_42 (dk_at dksX1_part_1 23 rfl rfl)
theorem dX1_part_48 : decode cX1_part 48 = .ok (.getfield 27, 3) := dk_180 0 27 (dk_at dksX1_part_2 0 rfl rfl)
theorem dX1_part_51 : decode cX1_part 51 = .ok (.iload_n 3, 1) := dk_29 (dk_at dksX1_part_2 3 rfl rfl)
theorem dX1_part_52 : decode cX1_part 52 = .ok (.aaload, 1) := dk_50 (dk_at dksX1_part_2 4 rfl rfl)
theorem dX1_part_53 : decode cX1_part 53 = .ok (.astore 6, 2) := dk_58 6 (dk_at dksX1_part_2 5 rfl rfl)
theorem dX1_part_55 : decode cX1_part 55 = .ok (.iload 4, 2) := dk_21 4 (dk_at dksX1_part_2 7 rfl rfl)
theorem dX1_part_57 : decode cX1_part 57 = .ok (.istore 7, 2) := dk_54 7 (dk_at dksX1_part_2 9 rfl rfl)
theorem dX1_part_59 : decode cX1_part 59 = .ok (.iload 7, 2) := dk_21 7 (dk_at dksX1_part_2 11 rfl rfl)
theorem dX1_part_61 : decode cX1_part 61 = .ok (.iload 4, 2) := dk_21 4 (dk_at dksX1_part_2 13 rfl rfl)
theorem dX1_part_63 : decode cX1_part 63 = .ok (.iload 5, 2) := dk_21 5 (dk_at dksX1_part_2 15 rfl rfl)
theorem dX1_part_65 : decode cX1_part 65 = .ok (.iadd, 1) := dk_96 (dk_at dksX1_part_2 17 rfl rfl)
theorem dX1_part_66 : decode cX1_part 66 = .ok (.if_icmp .ge 94, 3) := dk_162 0 94 (dk_at dksX1_part_2 18 rfl rfl)
theorem dX1_part_69 : decode cX1_part 69 = .ok (.iconst 1, 1) := dk_4 (dk_at dksX1_part_2 21 rfl rfl)
theorem dX1_part_70 : decode cX1_part 70 = .ok (.istore 8, 2) := dk_54 8 (dk_at dksX1_part_2 22 rfl rfl)
theorem dX1_part_72 : decode cX1_part 72 = .ok (.iload 8, 2) := dk_21 8 (dk_at dksX1_part_3 0 rfl rfl)
theorem dX1_part_74 : decode cX1_part 74 = .ok (.bipush 13, 2) := dk_16 13 (dk_at dksX1_part_3 2 rfl rfl)
theorem dX1_part_76 : decode cX1_part 76 = .ok (.if_icmp .ge 78, 3) := dk_162 0 78 (dk_at dksX1_part_3 4 rfl rfl)
theorem dX1_part_79 : decode cX1_part 79 = .ok (.iconst 1, 1) := dk_4 (dk_at dksX1_part_3 7 rfl rfl)
theorem dX1_part_80 : decode cX1_part 80 = .ok (.istore 9, 2) := dk_54 9 (dk_at dksX1_part_3 8 rfl rfl)
theorem dX1_part_82 : decode cX1_part 82 = .ok (.iload 9, 2) := dk_21 9 (dk_at dksX1_part_3 10 rfl rfl)
theorem dX1_part_84 : decode cX1_part 84 = .ok (.bipush 32, 2) := dk_16 32 (dk_at dksX1_part_3 12 rfl rfl)
theorem dX1_part_86 : decode cX1_part 86 = .ok (.if_icmp .ge 62, 3) := dk_162 0 62 (dk_at dksX1_part_3 14 rfl rfl)
theorem dX1_part_89 : decode cX1_part 89 = .ok (.aload 6, 2) := dk_25 6 (dk_at dksX1_part_3 17 rfl rfl)
theorem dX1_part_91 : decode cX1_part 91 = .ok (.iload 7, 2) := dk_21 7 (dk_at dksX1_part_3 19 rfl rfl)
theorem dX1_part_93 : decode cX1_part 93 = .ok (.iload 8, 2) := dk_21 8 (dk_at dksX1_part_3 21 rfl rfl)
theorem dX1_part_95 : decode cX1_part 95 = .ok (.iload 9, 2) := dk_21 9 (dk_at dksX1_part_4 0 rfl rfl)
theorem dX1_part_97 : decode cX1_part 97 = .ok (.invokevirtual 140, 3) := dk_182 0 140 (dk_at dksX1_part_4 2 rfl rfl)
theorem dX1_part_100 : decode cX1_part 100 = .ok (.ifCond .eq 42, 3) := dk_153 0 42 (dk_at dksX1_part_4 5 rfl rfl)
theorem dX1_part_103 : decode cX1_part 103 = .ok (.aload_n 0, 1) := dk_42 (dk_at dksX1_part_4 8 rfl rfl)
theorem dX1_part_104 : decode cX1_part 104 = .ok (.aload_n 0, 1) := dk_42 (dk_at dksX1_part_4 9 rfl rfl)
theorem dX1_part_105 : decode cX1_part 105 = .ok (.getfield 31, 3) := dk_180 0 31 (dk_at dksX1_part_4 10 rfl rfl)
theorem dX1_part_108 : decode cX1_part 108 = .ok (.iload_n 1, 1) := dk_27 (dk_at dksX1_part_4 13 rfl rfl)
theorem dX1_part_109 : decode cX1_part 109 = .ok (.aaload, 1) := dk_50 (dk_at dksX1_part_4 14 rfl rfl)
theorem dX1_part_110 : decode cX1_part 110 = .ok (.aload_n 0, 1) := dk_42 (dk_at dksX1_part_4 15 rfl rfl)
theorem dX1_part_111 : decode cX1_part 111 = .ok (.getfield 31, 3) := dk_180 0 31 (dk_at dksX1_part_4 16 rfl rfl)
theorem dX1_part_114 : decode cX1_part 114 = .ok (.iload_n 2, 1) := dk_28 (dk_at dksX1_part_4 19 rfl rfl)
theorem dX1_part_115 : decode cX1_part 115 = .ok (.aaload, 1) := dk_50 (dk_at dksX1_part_4 20 rfl rfl)
theorem dX1_part_116 : decode cX1_part 116 = .ok (.aload 6, 2) := dk_25 6 (dk_at dksX1_part_4 21 rfl rfl)
theorem dX1_part_118 : decode cX1_part 118 = .ok (.iload 7, 2) := dk_21 7 (dk_at dksX1_part_5 0 rfl rfl)
theorem dX1_part_120 : decode cX1_part 120 = .ok (.iload 8, 2) := dk_21 8 (dk_at dksX1_part_5 2 rfl rfl)
theorem dX1_part_122 : decode cX1_part 122 = .ok (.iload 9, 2) := dk_21 9 (dk_at dksX1_part_5 4 rfl rfl)
theorem dX1_part_124 : decode cX1_part 124 = .ok (.invokevirtual 327, 3) := dk_182 1 71 (dk_at dksX1_part_5 6 rfl rfl)
theorem dX1_part_127 : decode cX1_part 127 = .ok (.ifCond .eq 15, 3) := dk_153 0 15 (dk_at dksX1_part_5 9 rfl rfl)
theorem dX1_part_130 : decode cX1_part 130 = .ok (.aload 6, 2) := dk_25 6 (dk_at dksX1_part_5 12 rfl rfl)
theorem dX1_part_132 : decode cX1_part 132 = .ok (.iload 7, 2) := dk_21 7 (dk_at dksX1_part_5 14 rfl rfl)
theorem dX1_part_134 : decode cX1_part 134 = .ok (.iload 8, 2) := dk_21 8 (dk_at dksX1_part_5 16 rfl rfl)
theorem dX1_part_136 : decode cX1_part 136 = .ok (.iload 9, 2) := dk_21 9 (dk_at dksX1_part_5 18 rfl rfl)
theorem dX1_part_138 : decode cX1_part 138 = .ok (.invokevirtual 153, 3) := dk_182 0 153 (dk_at dksX1_part_5 20 rfl rfl)
theorem dX1_part_141 : decode cX1_part 141 = .ok (.ireturn, 1) := dk_172 (dk_at dksX1_part_5 23 rfl rfl)
theorem dX1_part_142 : decode cX1_part 142 = .ok (.iinc 9 1, 3) := dk_132 9 1 (dk_at dksX1_part_6 0 rfl rfl)
theorem dX1_part_145 : decode cX1_part 145 = .ok (.goto (-63), 3) := dk_167 255 193 (dk_at dksX1_part_6 3 rfl rfl)
theorem dX1_part_148 : decode cX1_part 148 = .ok (.iinc 8 1, 3) := dk_132 8 1 (dk_at dksX1_part_6 6 rfl rfl)
theorem dX1_part_151 : decode cX1_part 151 = .ok (.goto (-79), 3) := dk_167 255 177 (dk_at dksX1_part_6 9 rfl rfl)
theorem dX1_part_154 : decode cX1_part 154 = .ok (.iinc 7 1, 3) := dk_132 7 1 (dk_at dksX1_part_6 12 rfl rfl)
theorem dX1_part_157 : decode cX1_part 157 = .ok (.goto (-98), 3) := dk_167 255 158 (dk_at dksX1_part_6 15 rfl rfl)
theorem dX1_part_160 : decode cX1_part 160 = .ok (.iconst (-1), 1) := dk_2 (dk_at dksX1_part_6 18 rfl rfl)
theorem dX1_part_161 : decode cX1_part 161 = .ok (.ireturn, 1) := dk_172 (dk_at dksX1_part_6 19 rfl rfl)
abbrev cX1_least : ByteArray := prog_1_method_57_code
def yX1_least : MethodName := ⟨RX1, "least", "(IIIII)I"⟩
def dkwX1_least_5 : List UInt8 := [132, 7, 1, 167, 255, 219, 21, 5, 154, 0, 11, 21, 6, 184, 1, 118, 167, 0, 5, 21, 6, 172]
abbrev dktX1_least_5 : List UInt8 := dkwX1_least_5 ++ []
def dkwX1_least_4 : List UInt8 := [21, 6, 184, 1, 127, 153, 0, 19, 42, 21, 7, 29, 21, 4, 182, 1, 130, 153, 0, 7, 21, 7, 54, 6]
abbrev dktX1_least_4 : List UInt8 := dkwX1_least_4 ++ dktX1_least_5
def dkwX1_least_3 : List UInt8 := [29, 182, 1, 123, 4, 29, 120, 4, 100, 54, 6, 4, 54, 7, 21, 7, 4, 29, 120, 162, 0, 35, 21, 7]
abbrev dktX1_least_3 : List UInt8 := dkwX1_least_3 ++ dktX1_least_4
def dkwX1_least_2 : List UInt8 := [153, 0, 14, 21, 5, 133, 9, 10, 184, 0, 89, 154, 0, 5, 2, 172, 42, 42, 180, 0, 31, 27, 50, 28]
abbrev dktX1_least_2 : List UInt8 := dkwX1_least_2 ++ dktX1_least_3
def dkwX1_least_1 : List UInt8 := [153, 0, 38, 28, 29, 96, 4, 100, 17, 39, 15, 163, 0, 27, 21, 4, 133, 9, 20, 0, 243, 184, 0, 89]
abbrev dktX1_least_1 : List UInt8 := dkwX1_least_1 ++ dktX1_least_2
def dkwX1_least_0 : List UInt8 := [42, 27, 182, 0, 184, 153, 0, 57, 28, 184, 0, 163, 153, 0, 50, 29, 133, 10, 20, 1, 121, 184, 0, 89]
abbrev dktX1_least_0 : List UInt8 := dkwX1_least_0 ++ dktX1_least_1
theorem dksX1_least_0 : cX1_least.data.toList.drop 0 = dktX1_least_0 := by decide +kernel
theorem dksX1_least_1 : cX1_least.data.toList.drop 24 = dktX1_least_1 := dk_seg dksX1_least_0 24 rfl rfl
theorem dksX1_least_2 : cX1_least.data.toList.drop 48 = dktX1_least_2 := dk_seg dksX1_least_1 24 rfl rfl
theorem dksX1_least_3 : cX1_least.data.toList.drop 72 = dktX1_least_3 := dk_seg dksX1_least_2 24 rfl rfl
theorem dksX1_least_4 : cX1_least.data.toList.drop 96 = dktX1_least_4 := dk_seg dksX1_least_3 24 rfl rfl
theorem dksX1_least_5 : cX1_least.data.toList.drop 120 = dktX1_least_5 := dk_seg dksX1_least_4 24 rfl rfl
theorem dX1_least_0 : decode cX1_least 0 = .ok (.aload_n 0, 1) := dk_42 (dk_at dksX1_least_0 0 rfl rfl)
theorem dX1_least_1 : decode cX1_least 1 = .ok (.iload_n 1, 1) := dk_27 (dk_at dksX1_least_0 1 rfl rfl)
theorem dX1_least_2 : decode cX1_least 2 = .ok (.invokevirtual 184, 3) := dk_182 0 184 (dk_at dksX1_least_0 2 rfl rfl)
theorem dX1_least_5 : decode cX1_least 5 = .ok (.ifCond .eq 57, 3) := dk_153 0 57 (dk_at dksX1_least_0 5 rfl rfl)
theorem dX1_least_8 : decode cX1_least 8 = .ok (.iload_n 2, 1) := dk_28 (dk_at dksX1_least_0 8 rfl rfl)
theorem dX1_least_9 : decode cX1_least 9 = .ok (.invokestatic 163, 3) := dk_184 0 163 (dk_at dksX1_least_0 9 rfl rfl)
theorem dX1_least_12 : decode cX1_least 12 = .ok (.ifCond .eq 50, 3) := dk_153 0 50 (dk_at dksX1_least_0 12 rfl rfl)
theorem dX1_least_15 : decode cX1_least 15 = .ok (.iload_n 3, 1) := dk_29 (dk_at dksX1_least_0 15 rfl rfl)
theorem dX1_least_16 : decode cX1_least 16 = .ok (.i2l, 1) := dk_133 (dk_at dksX1_least_0 16 rfl rfl)
theorem dX1_least_17 : decode cX1_least 17 = .ok (.lconst 1, 1) := dk_10 (dk_at dksX1_least_0 17 rfl rfl)
theorem dX1_least_18 : decode cX1_least 18 = .ok (.ldc2_w 377, 3) := dk_20 1 121 (dk_at dksX1_least_0 18 rfl rfl)
theorem dX1_least_21 : decode cX1_least 21 = .ok (.invokestatic 89, 3) := dk_184 0 89 (dk_at dksX1_least_0 21 rfl rfl)
theorem dX1_least_24 : decode cX1_least 24 = .ok (.ifCond .eq 38, 3) := dk_153 0 38 (dk_at dksX1_least_1 0 rfl rfl)
theorem dX1_least_27 : decode cX1_least 27 = .ok (.iload_n 2, 1) := dk_28 (dk_at dksX1_least_1 3 rfl rfl)
theorem dX1_least_28 : decode cX1_least 28 = .ok (.iload_n 3, 1) := dk_29 (dk_at dksX1_least_1 4 rfl rfl)
theorem dX1_least_29 : decode cX1_least 29 = .ok (.iadd, 1) := dk_96 (dk_at dksX1_least_1 5 rfl rfl)
theorem dX1_least_30 : decode cX1_least 30 = .ok (.iconst 1, 1) := dk_4 (dk_at dksX1_least_1 6 rfl rfl)
theorem dX1_least_31 : decode cX1_least 31 = .ok (.isub, 1) := dk_100 (dk_at dksX1_least_1 7 rfl rfl)
theorem dX1_least_32 : decode cX1_least 32 = .ok (.sipush 9999, 3) := dk_17 39 15 (dk_at dksX1_least_1 8 rfl rfl)
theorem dX1_least_35 : decode cX1_least 35 = .ok (.if_icmp .gt 27, 3) := dk_163 0 27 (dk_at dksX1_least_1 11 rfl rfl)
theorem dX1_least_38 : decode cX1_least 38 = .ok (.iload 4, 2) := dk_21 4 (dk_at dksX1_least_1 14 rfl rfl)
theorem dX1_least_40 : decode cX1_least 40 = .ok (.i2l, 1) := dk_133 (dk_at dksX1_least_1 16 rfl rfl)
theorem dX1_least_41 : decode cX1_least 41 = .ok (.lconst 0, 1) := dk_9 (dk_at dksX1_least_1 17 rfl rfl)
theorem dX1_least_42 : decode cX1_least 42 = .ok (.ldc2_w 243, 3) := dk_20 0 243 (dk_at dksX1_least_1 18 rfl rfl)
theorem dX1_least_45 : decode cX1_least 45 = .ok (.invokestatic 89, 3) := dk_184 0 89 (dk_at dksX1_least_1 21 rfl rfl)
theorem dX1_least_48 : decode cX1_least 48 = .ok (.ifCond .eq 14, 3) := dk_153 0 14 (dk_at dksX1_least_2 0 rfl rfl)
theorem dX1_least_51 : decode cX1_least 51 = .ok (.iload 5, 2) := dk_21 5 (dk_at dksX1_least_2 3 rfl rfl)
theorem dX1_least_53 : decode cX1_least 53 = .ok (.i2l, 1) := dk_133 (dk_at dksX1_least_2 5 rfl rfl)
theorem dX1_least_54 : decode cX1_least 54 = .ok (.lconst 0, 1) := dk_9 (dk_at dksX1_least_2 6 rfl rfl)
theorem dX1_least_55 : decode cX1_least 55 = .ok (.lconst 1, 1) := dk_10 (dk_at dksX1_least_2 7 rfl rfl)
theorem dX1_least_56 : decode cX1_least 56 = .ok (.invokestatic 89, 3) := dk_184 0 89 (dk_at dksX1_least_2 8 rfl rfl)
theorem dX1_least_59 : decode cX1_least 59 = .ok (.ifCond .ne 5, 3) := dk_154 0 5 (dk_at dksX1_least_2 11 rfl rfl)
theorem dX1_least_62 : decode cX1_least 62 = .ok (.iconst (-1), 1) := dk_2 (dk_at dksX1_least_2 14 rfl rfl)
theorem dX1_least_63 : decode cX1_least 63 = .ok (.ireturn, 1) := dk_172 (dk_at dksX1_least_2 15 rfl rfl)
theorem dX1_least_64 : decode cX1_least 64 = .ok (.aload_n 0, 1) := dk_42 (dk_at dksX1_least_2 16 rfl rfl)
theorem dX1_least_65 : decode cX1_least 65 = .ok (.aload_n 0, 1) := dk_42 (dk_at dksX1_least_2 17 rfl rfl)
theorem dX1_least_66 : decode cX1_least 66 = .ok (.getfield 31, 3) := dk_180 0 31 (dk_at dksX1_least_2 18 rfl rfl)
theorem dX1_least_69 : decode cX1_least 69 = .ok (.iload_n 1, 1) := dk_27 (dk_at dksX1_least_2 21 rfl rfl)
theorem dX1_least_70 : decode cX1_least 70 = .ok (.aaload, 1) := dk_50 (dk_at dksX1_least_2 22 rfl rfl)
theorem dX1_least_71 : decode cX1_least 71 = .ok (.iload_n 2, 1) := dk_28 (dk_at dksX1_least_2 23 rfl rfl)
theorem dX1_least_72 : decode cX1_least 72 = .ok (.iload_n 3, 1) := dk_29 (dk_at dksX1_least_3 0 rfl rfl)
theorem dX1_least_73 : decode cX1_least 73 = .ok (.invokevirtual 379, 3) := dk_182 1 123 (dk_at dksX1_least_3 1 rfl rfl)
theorem dX1_least_76 : decode cX1_least 76 = .ok (.iconst 1, 1) := dk_4 (dk_at dksX1_least_3 4 rfl rfl)
theorem dX1_least_77 : decode cX1_least 77 = .ok (.iload_n 3, 1) := dk_29 (dk_at dksX1_least_3 5 rfl rfl)
theorem dX1_least_78 : decode cX1_least 78 = .ok (.ishl, 1) := dk_120 (dk_at dksX1_least_3 6 rfl rfl)
theorem dX1_least_79 : decode cX1_least 79 = .ok (.iconst 1, 1) := dk_4 (dk_at dksX1_least_3 7 rfl rfl)
theorem dX1_least_80 : decode cX1_least 80 = .ok (.isub, 1) := dk_100 (dk_at dksX1_least_3 8 rfl rfl)
theorem dX1_least_81 : decode cX1_least 81 = .ok (.istore 6, 2) := dk_54 6 (dk_at dksX1_least_3 9 rfl rfl)
theorem dX1_least_83 : decode cX1_least 83 = .ok (.iconst 1, 1) := dk_4 (dk_at dksX1_least_3 11 rfl rfl)
theorem dX1_least_84 : decode cX1_least 84 = .ok (.istore 7, 2) := dk_54 7 (dk_at dksX1_least_3 12 rfl rfl)
theorem dX1_least_86 : decode cX1_least 86 = .ok (.iload 7, 2) := dk_21 7 (dk_at dksX1_least_3 14 rfl rfl)
theorem dX1_least_88 : decode cX1_least 88 = .ok (.iconst 1, 1) := dk_4 (dk_at dksX1_least_3 16 rfl rfl)
theorem dX1_least_89 : decode cX1_least 89 = .ok (.iload_n 3, 1) := dk_29 (dk_at dksX1_least_3 17 rfl rfl)
theorem dX1_least_90 : decode cX1_least 90 = .ok (.ishl, 1) := dk_120 (dk_at dksX1_least_3 18 rfl rfl)
theorem dX1_least_91 : decode cX1_least 91 = .ok (.if_icmp .ge 35, 3) := dk_162 0 35 (dk_at dksX1_least_3 19 rfl rfl)
theorem dX1_least_94 : decode cX1_least 94 = .ok (.iload 7, 2) := dk_21 7 (dk_at dksX1_least_3 22 rfl rfl)
theorem dX1_least_96 : decode cX1_least 96 = .ok (.iload 6, 2) := dk_21 6 (dk_at dksX1_least_4 0 rfl rfl)
theorem dX1_least_98 : decode cX1_least 98 = .ok (.invokestatic 383, 3) := dk_184 1 127 (dk_at dksX1_least_4 2 rfl rfl)
theorem dX1_least_101 : decode cX1_least 101 = .ok (.ifCond .eq 19, 3) := dk_153 0 19 (dk_at dksX1_least_4 5 rfl rfl)
theorem dX1_least_104 : decode cX1_least 104 = .ok (.aload_n 0, 1) := dk_42 (dk_at dksX1_least_4 8 rfl rfl)
theorem dX1_least_105 : decode cX1_least 105 = .ok (.iload 7, 2) := dk_21 7 (dk_at dksX1_least_4 9 rfl rfl)
theorem dX1_least_107 : decode cX1_least 107 = .ok (.iload_n 3, 1) := dk_29 (dk_at dksX1_least_4 11 rfl rfl)
theorem dX1_least_108 : decode cX1_least 108 = .ok (.iload 4, 2) := dk_21 4 (dk_at dksX1_least_4 12 rfl rfl)
theorem dX1_least_110 : decode cX1_least 110 = .ok (.invokevirtual 386, 3) := dk_182 1 130 (dk_at dksX1_least_4 14 rfl rfl)
theorem dX1_least_113 : decode cX1_least 113 = .ok (.ifCond .eq 7, 3) := dk_153 0 7 (dk_at dksX1_least_4 17 rfl rfl)
theorem dX1_least_116 : decode cX1_least 116 = .ok (.iload 7, 2) := dk_21 7 (dk_at dksX1_least_4 20 rfl rfl)
theorem dX1_least_118 : decode cX1_least 118 = .ok (.istore 6, 2) := dk_54 6 (dk_at dksX1_least_4 22 rfl rfl)
theorem dX1_least_120 : decode cX1_least 120 = .ok (.iinc 7 1, 3) := dk_132 7 1 (dk_at dksX1_least_5 0 rfl rfl)
theorem dX1_least_123 : decode cX1_least 123 = .ok (.goto (-37), 3) := dk_167 255 219 (dk_at dksX1_least_5 3 rfl rfl)
theorem dX1_least_126 : decode cX1_least 126 = .ok (.iload 5, 2) := dk_21 5 (dk_at dksX1_least_5 6 rfl rfl)
theorem dX1_least_128 : decode cX1_least 128 = .ok (.ifCond .ne 11, 3) := dk_154 0 11 (dk_at dksX1_least_5 8 rfl rfl)
theorem dX1_least_131 : decode cX1_least 131 = .ok (.iload 6, 2) := dk_21 6 (dk_at dksX1_least_5 11 rfl rfl)
theorem dX1_least_133 : decode cX1_least 133 = .ok (.invokestatic 374, 3) := dk_184 1 118 (dk_at dksX1_least_5 13 rfl rfl)
theorem dX1_least_136 : decode cX1_least 136 = .ok (.goto 5, 3) := dk_167 0 5 (dk_at dksX1_least_5 16 rfl rfl)
theorem dX1_least_139 : decode cX1_least 139 = .ok (.iload 6, 2) := dk_21 6 (dk_at dksX1_least_5 19 rfl rfl)
theorem dX1_least_141 : decode cX1_least 141 = .ok (.ireturn, 1) := dk_172 (dk_at dksX1_least_5 21 rfl rfl)
abbrev cX1_layGets : ByteArray := prog_1_method_54_code
def yX1_layGets : MethodName := ⟨RX1, "layGets", "(LDayBoy$Head;II)V"⟩
def dkwX1_layGets_6 : List UInt8 := [132, 4, 1, 167, 255, 170, 177]
abbrev dktX1_layGets_6 : List UInt8 := dkwX1_layGets_6 ++ []
def dkwX1_layGets_5 : List UInt8 := [180, 0, 213, 28, 21, 5, 96, 47, 20, 0, 217, 109, 184, 1, 115, 136, 79, 132, 5, 1, 167, 255, 211]
abbrev dktX1_layGets_5 : List UInt8 := dkwX1_layGets_5 ++ dktX1_layGets_6
def dkwX1_layGets_4 : List UInt8 := [162, 0, 45, 42, 180, 0, 64, 16, 14, 21, 5, 104, 21, 4, 96, 20, 1, 113, 42, 180, 0, 67]
abbrev dktX1_layGets_4 : List UInt8 := dkwX1_layGets_4 ++ dktX1_layGets_5
def dkwX1_layGets_3 : List UInt8 := [180, 0, 67, 28, 21, 4, 96, 9, 182, 1, 106, 42, 180, 0, 67, 182, 1, 110, 3, 54, 5, 21, 5, 29]
abbrev dktX1_layGets_3 : List UInt8 := dkwX1_layGets_3 ++ dktX1_layGets_4
def dkwX1_layGets_2 : List UInt8 := [132, 4, 1, 167, 255, 216, 3, 54, 4, 21, 4, 29, 162, 0, 86, 42, 180, 0, 67, 182, 1, 103, 42]
abbrev dktX1_layGets_2 : List UInt8 := dkwX1_layGets_2 ++ dktX1_layGets_3
def dkwX1_layGets_1 : List UInt8 := [180, 1, 91, 21, 4, 46, 43, 180, 1, 93, 21, 4, 46, 183, 1, 96, 42, 180, 0, 67, 182, 1, 99]
abbrev dktX1_layGets_1 : List UInt8 := dkwX1_layGets_1 ++ dktX1_layGets_2
def dkwX1_layGets_0 : List UInt8 := [42, 180, 0, 67, 182, 1, 83, 3, 54, 4, 21, 4, 43, 180, 1, 86, 162, 0, 37, 187, 1, 89, 89, 43]
abbrev dktX1_layGets_0 : List UInt8 := dkwX1_layGets_0 ++ dktX1_layGets_1
theorem dksX1_layGets_0 : cX1_layGets.data.toList.drop 0 = dktX1_layGets_0 := by decide +kernel
theorem dksX1_layGets_1 : cX1_layGets.data.toList.drop 24 = dktX1_layGets_1 := dk_seg dksX1_layGets_0 24 rfl rfl
theorem dksX1_layGets_2 : cX1_layGets.data.toList.drop 47 = dktX1_layGets_2 := dk_seg dksX1_layGets_1 23 rfl rfl
theorem dksX1_layGets_3 : cX1_layGets.data.toList.drop 70 = dktX1_layGets_3 := dk_seg dksX1_layGets_2 23 rfl rfl
theorem dksX1_layGets_4 : cX1_layGets.data.toList.drop 94 = dktX1_layGets_4 := dk_seg dksX1_layGets_3 24 rfl rfl
theorem dksX1_layGets_5 : cX1_layGets.data.toList.drop 116 = dktX1_layGets_5 := dk_seg dksX1_layGets_4 22 rfl rfl
theorem dksX1_layGets_6 : cX1_layGets.data.toList.drop 139 = dktX1_layGets_6 := dk_seg dksX1_layGets_5 23 rfl rfl
theorem dX1_layGets_0 : decode cX1_layGets 0 = .ok (.aload_n 0, 1) := dk_42 (dk_at dksX1_layGets_0 0 rfl rfl)
theorem dX1_layGets_1 : decode cX1_layGets 1 = .ok (.getfield 67, 3) := dk_180 0 67 (dk_at dksX1_layGets_0 1 rfl rfl)
theorem dX1_layGets_4 : decode cX1_layGets 4 = .ok (.invokevirtual 339, 3) := dk_182 1 83 (dk_at dksX1_layGets_0 4 rfl rfl)
theorem dX1_layGets_7 : decode cX1_layGets 7 = .ok (.iconst 0, 1) := dk_3 (dk_at dksX1_layGets_0 7 rfl rfl)
theorem dX1_layGets_8 : decode cX1_layGets 8 = .ok (.istore 4, 2) := dk_54 4 (dk_at dksX1_layGets_0 8 rfl rfl)
theorem dX1_layGets_10 : decode cX1_layGets 10 = .ok (.iload 4, 2) := dk_21 4 (dk_at dksX1_layGets_0 10 rfl rfl)
theorem dX1_layGets_12 : decode cX1_layGets 12 = .ok (.aload_n 1, 1) := dk_43 (dk_at dksX1_layGets_0 12 rfl rfl)
theorem dX1_layGets_13 : decode cX1_layGets 13 = .ok (.getfield 342, 3) := dk_180 1 86 (dk_at dksX1_layGets_0 13 rfl rfl)
theorem dX1_layGets_16 : decode cX1_layGets 16 = .ok (.if_icmp .ge 37, 3) := dk_162 0 37 (dk_at dksX1_layGets_0 16 rfl rfl)
theorem dX1_layGets_19 : decode cX1_layGets 19 = .ok (.new 345, 3) := dk_187 1 89 (dk_at dksX1_layGets_0 19 rfl rfl)
theorem dX1_layGets_22 : decode cX1_layGets 22 = .ok (.dup, 1) := dk_89 (dk_at dksX1_layGets_0 22 rfl rfl)
theorem dX1_layGets_23 : decode cX1_layGets 23 = .ok (.aload_n 1, 1) := dk_43 (dk_at dksX1_layGets_0 23 rfl rfl)
theorem dX1_layGets_24 : decode cX1_layGets 24 = .ok (.getfield 347, 3) := dk_180 1 91 (dk_at dksX1_layGets_1 0 rfl rfl)
theorem dX1_layGets_27 : decode cX1_layGets 27 = .ok (.iload 4, 2) := dk_21 4 (dk_at dksX1_layGets_1 3 rfl rfl)
theorem dX1_layGets_29 : decode cX1_layGets 29 = .ok (.iaload, 1) := dk_46 (dk_at dksX1_layGets_1 5 rfl rfl)
theorem dX1_layGets_30 : decode cX1_layGets 30 = .ok (.aload_n 1, 1) := dk_43 (dk_at dksX1_layGets_1 6 rfl rfl)
theorem dX1_layGets_31 : decode cX1_layGets 31 = .ok (.getfield 349, 3) := dk_180 1 93 (dk_at dksX1_layGets_1 7 rfl rfl)
theorem dX1_layGets_34 : decode cX1_layGets 34 = .ok (.iload 4, 2) := dk_21 4 (dk_at dksX1_layGets_1 10 rfl rfl)
theorem dX1_layGets_36 : decode cX1_layGets 36 = .ok (.iaload, 1) := dk_46 (dk_at dksX1_layGets_1 12 rfl rfl)
theorem dX1_layGets_37 : decode cX1_layGets 37 = .ok (.invokespecial 352, 3) := dk_183 1 96 (dk_at dksX1_layGets_1 13 rfl rfl)
theorem dX1_layGets_40 : decode cX1_layGets 40 = .ok (.aload_n 0, 1) := dk_42 (dk_at dksX1_layGets_1 16 rfl rfl)
theorem dX1_layGets_41 : decode cX1_layGets 41 = .ok (.getfield 67, 3) := dk_180 0 67 (dk_at dksX1_layGets_1 17 rfl rfl)
theorem dX1_layGets_44 : decode cX1_layGets 44 = .ok (.invokevirtual 355, 3) := dk_182 1 99 (dk_at dksX1_layGets_1 20 rfl rfl)
theorem dX1_layGets_47 : decode cX1_layGets 47 = .ok (.iinc 4 1, 3) := dk_132 4 1 (dk_at dksX1_layGets_2 0 rfl rfl)
theorem dX1_layGets_50 : decode cX1_layGets 50 = .ok (.goto (-40), 3) := dk_167 255 216 (dk_at dksX1_layGets_2 3 rfl rfl)
theorem dX1_layGets_53 : decode cX1_layGets 53 = .ok (.iconst 0, 1) := dk_3 (dk_at dksX1_layGets_2 6 rfl rfl)
theorem dX1_layGets_54 : decode cX1_layGets 54 = .ok (.istore 4, 2) := dk_54 4 (dk_at dksX1_layGets_2 7 rfl rfl)
theorem dX1_layGets_56 : decode cX1_layGets 56 = .ok (.iload 4, 2) := dk_21 4 (dk_at dksX1_layGets_2 9 rfl rfl)
theorem dX1_layGets_58 : decode cX1_layGets 58 = .ok (.iload_n 3, 1) := dk_29 (dk_at dksX1_layGets_2 11 rfl rfl)
theorem dX1_layGets_59 : decode cX1_layGets 59 = .ok (.if_icmp .ge 86, 3) := dk_162 0 86 (dk_at dksX1_layGets_2 12 rfl rfl)
theorem dX1_layGets_62 : decode cX1_layGets 62 = .ok (.aload_n 0, 1) := dk_42 (dk_at dksX1_layGets_2 15 rfl rfl)
theorem dX1_layGets_63 : decode cX1_layGets 63 = .ok (.getfield 67, 3) := dk_180 0 67 (dk_at dksX1_layGets_2 16 rfl rfl)
theorem dX1_layGets_66 : decode cX1_layGets 66 = .ok (.invokevirtual 359, 3) := dk_182 1 103 (dk_at dksX1_layGets_2 19 rfl rfl)
theorem dX1_layGets_69 : decode cX1_layGets 69 = .ok (.aload_n 0, 1) := dk_42 (dk_at dksX1_layGets_2 22 rfl rfl)
theorem dX1_layGets_70 : decode cX1_layGets 70 = .ok (.getfield 67, 3) := dk_180 0 67 (dk_at dksX1_layGets_3 0 rfl rfl)
theorem dX1_layGets_73 : decode cX1_layGets 73 = .ok (.iload_n 2, 1) := dk_28 (dk_at dksX1_layGets_3 3 rfl rfl)
theorem dX1_layGets_74 : decode cX1_layGets 74 = .ok (.iload 4, 2) := dk_21 4 (dk_at dksX1_layGets_3 4 rfl rfl)
theorem dX1_layGets_76 : decode cX1_layGets 76 = .ok (.iadd, 1) := dk_96 (dk_at dksX1_layGets_3 6 rfl rfl)
theorem dX1_layGets_77 : decode cX1_layGets 77 = .ok (.lconst 0, 1) := dk_9 (dk_at dksX1_layGets_3 7 rfl rfl)
theorem dX1_layGets_78 : decode cX1_layGets 78 = .ok (.invokevirtual 362, 3) := dk_182 1 106 (dk_at dksX1_layGets_3 8 rfl rfl)
theorem dX1_layGets_81 : decode cX1_layGets 81 = .ok (.aload_n 0, 1) := dk_42 (dk_at dksX1_layGets_3 11 rfl rfl)
theorem dX1_layGets_82 : decode cX1_layGets 82 = .ok (.getfield 67, 3) := dk_180 0 67 (dk_at dksX1_layGets_3 12 rfl rfl)
theorem dX1_layGets_85 : decode cX1_layGets 85 = .ok (.invokevirtual 366, 3) := dk_182 1 110 (dk_at dksX1_layGets_3 15 rfl rfl)
theorem dX1_layGets_88 : decode cX1_layGets 88 = .ok (.iconst 0, 1) := dk_3 (dk_at dksX1_layGets_3 18 rfl rfl)
theorem dX1_layGets_89 : decode cX1_layGets 89 = .ok (.istore 5, 2) := dk_54 5 (dk_at dksX1_layGets_3 19 rfl rfl)
theorem dX1_layGets_91 : decode cX1_layGets 91 = .ok (.iload 5, 2) := dk_21 5 (dk_at dksX1_layGets_3 21 rfl rfl)
theorem dX1_layGets_93 : decode cX1_layGets 93 = .ok (.iload_n 3, 1) := dk_29 (dk_at dksX1_layGets_3 23 rfl rfl)
theorem dX1_layGets_94 : decode cX1_layGets 94 = .ok (.if_icmp .ge 45, 3) := dk_162 0 45 (dk_at dksX1_layGets_4 0 rfl rfl)
theorem dX1_layGets_97 : decode cX1_layGets 97 = .ok (.aload_n 0, 1) := dk_42 (dk_at dksX1_layGets_4 3 rfl rfl)
theorem dX1_layGets_98 : decode cX1_layGets 98 = .ok (.getfield 64, 3) := dk_180 0 64 (dk_at dksX1_layGets_4 4 rfl rfl)
theorem dX1_layGets_101 : decode cX1_layGets 101 = .ok (.bipush 14, 2) := dk_16 14 (dk_at dksX1_layGets_4 7 rfl rfl)
theorem dX1_layGets_103 : decode cX1_layGets 103 = .ok (.iload 5, 2) := dk_21 5 (dk_at dksX1_layGets_4 9 rfl rfl)
theorem dX1_layGets_105 : decode cX1_layGets 105 = .ok (.imul, 1) := dk_104 (dk_at dksX1_layGets_4 11 rfl rfl)
theorem dX1_layGets_106 : decode cX1_layGets 106 = .ok (.iload 4, 2) := dk_21 4 (dk_at dksX1_layGets_4 12 rfl rfl)
theorem dX1_layGets_108 : decode cX1_layGets 108 = .ok (.iadd, 1) := dk_96 (dk_at dksX1_layGets_4 14 rfl rfl)
theorem dX1_layGets_109 : decode cX1_layGets 109 = .ok (.ldc2_w 369, 3) := dk_20 1 113 (dk_at dksX1_layGets_4 15 rfl rfl)
theorem dX1_layGets_112 : decode cX1_layGets 112 = .ok (.aload_n 0, 1) := dk_42 (dk_at dksX1_layGets_4 18 rfl rfl)
theorem dX1_layGets_113 : decode cX1_layGets 113 = .ok (.getfield 67, 3) := dk_180 0 67 (dk_at dksX1_layGets_4 19 rfl rfl)
theorem dX1_layGets_116 : decode cX1_layGets 116 = .ok (.getfield 213, 3) := dk_180 0 213 (dk_at dksX1_layGets_5 0 rfl rfl)
theorem dX1_layGets_119 : decode cX1_layGets 119 = .ok (.iload_n 2, 1) := dk_28 (dk_at dksX1_layGets_5 3 rfl rfl)
theorem dX1_layGets_120 : decode cX1_layGets 120 = .ok (.iload 5, 2) := dk_21 5 (dk_at dksX1_layGets_5 4 rfl rfl)
theorem dX1_layGets_122 : decode cX1_layGets 122 = .ok (.iadd, 1) := dk_96 (dk_at dksX1_layGets_5 6 rfl rfl)
theorem dX1_layGets_123 : decode cX1_layGets 123 = .ok (.laload, 1) := dk_47 (dk_at dksX1_layGets_5 7 rfl rfl)
theorem dX1_layGets_124 : decode cX1_layGets 124 = .ok (.ldc2_w 217, 3) := dk_20 0 217 (dk_at dksX1_layGets_5 8 rfl rfl)
theorem dX1_layGets_127 : decode cX1_layGets 127 = .ok (.ldiv, 1) := dk_109 (dk_at dksX1_layGets_5 11 rfl rfl)
theorem dX1_layGets_128 : decode cX1_layGets 128 = .ok (.invokestatic 371, 3) := dk_184 1 115 (dk_at dksX1_layGets_5 12 rfl rfl)
theorem dX1_layGets_131 : decode cX1_layGets 131 = .ok (.l2i, 1) := dk_136 (dk_at dksX1_layGets_5 15 rfl rfl)
theorem dX1_layGets_132 : decode cX1_layGets 132 = .ok (.iastore, 1) := dk_79 (dk_at dksX1_layGets_5 16 rfl rfl)
theorem dX1_layGets_133 : decode cX1_layGets 133 = .ok (.iinc 5 1, 3) := dk_132 5 1 (dk_at dksX1_layGets_5 17 rfl rfl)
theorem dX1_layGets_136 : decode cX1_layGets 136 = .ok (.goto (-45), 3) := dk_167 255 211 (dk_at dksX1_layGets_5 20 rfl rfl)
theorem dX1_layGets_139 : decode cX1_layGets 139 = .ok (.iinc 4 1, 3) := dk_132 4 1 (dk_at dksX1_layGets_6 0 rfl rfl)
theorem dX1_layGets_142 : decode cX1_layGets 142 = .ok (.goto (-86), 3) := dk_167 255 170 (dk_at dksX1_layGets_6 3 rfl rfl)
theorem dX1_layGets_145 : decode cX1_layGets 145 = .ok (.return_, 1) := dk_177 (dk_at dksX1_layGets_6 6 rfl rfl)
abbrev cX1_isBefore : ByteArray := prog_1_method_56_code
def yX1_isBefore : MethodName := ⟨RX1, "isBefore", "(II)Z"⟩
def dkwX1_isBefore_2 : List UInt8 := [167, 0, 4, 3, 172]
abbrev dktX1_isBefore_2 : List UInt8 := dkwX1_isBefore_2 ++ []
def dkwX1_isBefore_1 : List UInt8 := [162, 0, 7, 4, 167, 0, 23, 3, 167, 0, 19, 26, 21, 4, 126, 21, 4, 116, 126, 153, 0, 7, 4]
abbrev dktX1_isBefore_1 : List UInt8 := dkwX1_isBefore_1 ++ dktX1_isBefore_2
def dkwX1_isBefore_0 : List UInt8 := [26, 184, 1, 118, 61, 27, 184, 1, 118, 62, 26, 27, 130, 54, 4, 28, 29, 159, 0, 16, 28, 29]
abbrev dktX1_isBefore_0 : List UInt8 := dkwX1_isBefore_0 ++ dktX1_isBefore_1
theorem dksX1_isBefore_0 : cX1_isBefore.data.toList.drop 0 = dktX1_isBefore_0 := by decide +kernel
theorem dksX1_isBefore_1 : cX1_isBefore.data.toList.drop 22 = dktX1_isBefore_1 := dk_seg dksX1_isBefore_0 22 rfl rfl
theorem dksX1_isBefore_2 : cX1_isBefore.data.toList.drop 45 = dktX1_isBefore_2 := dk_seg dksX1_isBefore_1 23 rfl rfl
theorem dX1_isBefore_0 : decode cX1_isBefore 0 = .ok (.iload_n 0, 1) := dk_26 (dk_at dksX1_isBefore_0 0 rfl rfl)
theorem dX1_isBefore_1 : decode cX1_isBefore 1 = .ok (.invokestatic 374, 3) := dk_184 1 118 (dk_at dksX1_isBefore_0 1 rfl rfl)
theorem dX1_isBefore_4 : decode cX1_isBefore 4 = .ok (.istore_n 2, 1) := dk_61 (dk_at dksX1_isBefore_0 4 rfl rfl)
theorem dX1_isBefore_5 : decode cX1_isBefore 5 = .ok (.iload_n 1, 1) := dk_27 (dk_at dksX1_isBefore_0 5 rfl rfl)
theorem dX1_isBefore_6 : decode cX1_isBefore 6 = .ok (.invokestatic 374, 3) := dk_184 1 118 (dk_at dksX1_isBefore_0 6 rfl rfl)
theorem dX1_isBefore_9 : decode cX1_isBefore 9 = .ok (.istore_n 3, 1) := dk_62 (dk_at dksX1_isBefore_0 9 rfl rfl)
theorem dX1_isBefore_10 : decode cX1_isBefore 10 = .ok (.iload_n 0, 1) := dk_26 (dk_at dksX1_isBefore_0 10 rfl rfl)
theorem dX1_isBefore_11 : decode cX1_isBefore 11 = .ok (.iload_n 1, 1) := dk_27 (dk_at dksX1_isBefore_0 11 rfl rfl)
theorem dX1_isBefore_12 : decode cX1_isBefore 12 = .ok (.ixor, 1) := dk_130 (dk_at dksX1_isBefore_0 12 rfl rfl)
theorem dX1_isBefore_13 : decode cX1_isBefore 13 = .ok (.istore 4, 2) := dk_54 4 (dk_at dksX1_isBefore_0 13 rfl rfl)
theorem dX1_isBefore_15 : decode cX1_isBefore 15 = .ok (.iload_n 2, 1) := dk_28 (dk_at dksX1_isBefore_0 15 rfl rfl)
theorem dX1_isBefore_16 : decode cX1_isBefore 16 = .ok (.iload_n 3, 1) := dk_29 (dk_at dksX1_isBefore_0 16 rfl rfl)
theorem dX1_isBefore_17 : decode cX1_isBefore 17 = .ok (.if_icmp .eq 16, 3) := dk_159 0 16 (dk_at dksX1_isBefore_0 17 rfl rfl)
theorem dX1_isBefore_20 : decode cX1_isBefore 20 = .ok (.iload_n 2, 1) := dk_28 (dk_at dksX1_isBefore_0 20 rfl rfl)
theorem dX1_isBefore_21 : decode cX1_isBefore 21 = .ok (.iload_n 3, 1) := dk_29 (dk_at dksX1_isBefore_0 21 rfl rfl)
theorem dX1_isBefore_22 : decode cX1_isBefore 22 = .ok (.if_icmp .ge 7, 3) := dk_162 0 7 (dk_at dksX1_isBefore_1 0 rfl rfl)
theorem dX1_isBefore_25 : decode cX1_isBefore 25 = .ok (.iconst 1, 1) := dk_4 (dk_at dksX1_isBefore_1 3 rfl rfl)
theorem dX1_isBefore_26 : decode cX1_isBefore 26 = .ok (.goto 23, 3) := dk_167 0 23 (dk_at dksX1_isBefore_1 4 rfl rfl)
theorem dX1_isBefore_29 : decode cX1_isBefore 29 = .ok (.iconst 0, 1) := dk_3 (dk_at dksX1_isBefore_1 7 rfl rfl)
theorem dX1_isBefore_30 : decode cX1_isBefore 30 = .ok (.goto 19, 3) := dk_167 0 19 (dk_at dksX1_isBefore_1 8 rfl rfl)
theorem dX1_isBefore_33 : decode cX1_isBefore 33 = .ok (.iload_n 0, 1) := dk_26 (dk_at dksX1_isBefore_1 11 rfl rfl)
theorem dX1_isBefore_34 : decode cX1_isBefore 34 = .ok (.iload 4, 2) := dk_21 4 (dk_at dksX1_isBefore_1 12 rfl rfl)
theorem dX1_isBefore_36 : decode cX1_isBefore 36 = .ok (.iand, 1) := dk_126 (dk_at dksX1_isBefore_1 14 rfl rfl)
theorem dX1_isBefore_37 : decode cX1_isBefore 37 = .ok (.iload 4, 2) := dk_21 4 (dk_at dksX1_isBefore_1 15 rfl rfl)
theorem dX1_isBefore_39 : decode cX1_isBefore 39 = .ok (.ineg, 1) := dk_116 (dk_at dksX1_isBefore_1 17 rfl rfl)
theorem dX1_isBefore_40 : decode cX1_isBefore 40 = .ok (.iand, 1) := dk_126 (dk_at dksX1_isBefore_1 18 rfl rfl)
theorem dX1_isBefore_41 : decode cX1_isBefore 41 = .ok (.ifCond .eq 7, 3) := dk_153 0 7 (dk_at dksX1_isBefore_1 19 rfl rfl)
theorem dX1_isBefore_44 : decode cX1_isBefore 44 = .ok (.iconst 1, 1) := dk_4 (dk_at dksX1_isBefore_1 22 rfl rfl)
theorem dX1_isBefore_45 : decode cX1_isBefore 45 = .ok (.goto 4, 3) := dk_167 0 4 (dk_at dksX1_isBefore_2 0 rfl rfl)
theorem dX1_isBefore_48 : decode cX1_isBefore 48 = .ok (.iconst 0, 1) := dk_3 (dk_at dksX1_isBefore_2 3 rfl rfl)
theorem dX1_isBefore_49 : decode cX1_isBefore 49 = .ok (.ireturn, 1) := dk_172 (dk_at dksX1_isBefore_2 4 rfl rfl)
abbrev cX1_isCovered : ByteArray := prog_1_method_55_code
def yX1_isCovered : MethodName := ⟨RX1, "isCovered", "(III)Z"⟩
def dkwX1_isCovered_3 : List UInt8 := [3, 172, 132, 4, 1, 167, 255, 183, 4, 172]
abbrev dktX1_isCovered_3 : List UInt8 := dkwX1_isCovered_3 ++ []
def dkwX1_isCovered_2 : List UInt8 := [96, 46, 29, 163, 0, 7, 4, 167, 0, 4, 3, 54, 5, 132, 6, 1, 167, 255, 208, 21, 5, 154, 0, 5]
abbrev dktX1_isCovered_2 : List UInt8 := dkwX1_isCovered_2 ++ dktX1_isCovered_3
def dkwX1_isCovered_1 : List UInt8 := [154, 0, 30, 27, 21, 6, 122, 4, 126, 4, 160, 0, 24, 42, 180, 0, 64, 16, 14, 21, 4, 104, 21, 6]
abbrev dktX1_isCovered_1 : List UInt8 := dkwX1_isCovered_1 ++ dktX1_isCovered_2
def dkwX1_isCovered_0 : List UInt8 := [3, 54, 4, 21, 4, 28, 162, 0, 73, 3, 54, 5, 3, 54, 6, 21, 6, 28, 162, 0, 48, 21, 5]
abbrev dktX1_isCovered_0 : List UInt8 := dkwX1_isCovered_0 ++ dktX1_isCovered_1
theorem dksX1_isCovered_0 : cX1_isCovered.data.toList.drop 0 = dktX1_isCovered_0 := by decide +kernel
theorem dksX1_isCovered_1 : cX1_isCovered.data.toList.drop 23 = dktX1_isCovered_1 := dk_seg dksX1_isCovered_0 23 rfl rfl
theorem dksX1_isCovered_2 : cX1_isCovered.data.toList.drop 47 = dktX1_isCovered_2 := dk_seg dksX1_isCovered_1 24 rfl rfl
theorem dksX1_isCovered_3 : cX1_isCovered.data.toList.drop 71 = dktX1_isCovered_3 := dk_seg dksX1_isCovered_2 24 rfl rfl
theorem dX1_isCovered_0 : decode cX1_isCovered 0 = .ok (.iconst 0, 1) := dk_3 (dk_at dksX1_isCovered_0 0 rfl rfl)
theorem dX1_isCovered_1 : decode cX1_isCovered 1 = .ok (.istore 4, 2) := dk_54 4 (dk_at dksX1_isCovered_0 1 rfl rfl)
theorem dX1_isCovered_3 : decode cX1_isCovered 3 = .ok (.iload 4, 2) := dk_21 4 (dk_at dksX1_isCovered_0 3 rfl rfl)
theorem dX1_isCovered_5 : decode cX1_isCovered 5 = .ok (.iload_n 2, 1) := dk_28 (dk_at dksX1_isCovered_0 5 rfl rfl)
theorem dX1_isCovered_6 : decode cX1_isCovered 6 = .ok (.if_icmp .ge 73, 3) := dk_162 0 73 (dk_at dksX1_isCovered_0 6 rfl rfl)
theorem dX1_isCovered_9 : decode cX1_isCovered 9 = .ok (.iconst 0, 1) := dk_3 (dk_at dksX1_isCovered_0 9 rfl rfl)
theorem dX1_isCovered_10 : decode cX1_isCovered 10 = .ok (.istore 5, 2) := dk_54 5 (dk_at dksX1_isCovered_0 10 rfl rfl)
theorem dX1_isCovered_12 : decode cX1_isCovered 12 = .ok (.iconst 0, 1) := dk_3 (dk_at dksX1_isCovered_0 12 rfl rfl)
theorem dX1_isCovered_13 : decode cX1_isCovered 13 = .ok (.istore 6, 2) := dk_54 6 (dk_at dksX1_isCovered_0 13 rfl rfl)
theorem dX1_isCovered_15 : decode cX1_isCovered 15 = .ok (.iload 6, 2) := dk_21 6 (dk_at dksX1_isCovered_0 15 rfl rfl)
theorem dX1_isCovered_17 : decode cX1_isCovered 17 = .ok (.iload_n 2, 1) := dk_28 (dk_at dksX1_isCovered_0 17 rfl rfl)
theorem dX1_isCovered_18 : decode cX1_isCovered 18 = .ok (.if_icmp .ge 48, 3) := dk_162 0 48 (dk_at dksX1_isCovered_0 18 rfl rfl)
theorem dX1_isCovered_21 : decode cX1_isCovered 21 = .ok (.iload 5, 2) := dk_21 5 (dk_at dksX1_isCovered_0 21 rfl rfl)
theorem dX1_isCovered_23 : decode cX1_isCovered 23 = .ok (.ifCond .ne 30, 3) := dk_154 0 30 (dk_at dksX1_isCovered_1 0 rfl rfl)
theorem dX1_isCovered_26 : decode cX1_isCovered 26 = .ok (.iload_n 1, 1) := dk_27 (dk_at dksX1_isCovered_1 3 rfl rfl)
theorem dX1_isCovered_27 : decode cX1_isCovered 27 = .ok (.iload 6, 2) := dk_21 6 (dk_at dksX1_isCovered_1 4 rfl rfl)
theorem dX1_isCovered_29 : decode cX1_isCovered 29 = .ok (.ishr, 1) := dk_122 (dk_at dksX1_isCovered_1 6 rfl rfl)
theorem dX1_isCovered_30 : decode cX1_isCovered 30 = .ok (.iconst 1, 1) := dk_4 (dk_at dksX1_isCovered_1 7 rfl rfl)
theorem dX1_isCovered_31 : decode cX1_isCovered 31 = .ok (.iand, 1) := dk_126 (dk_at dksX1_isCovered_1 8 rfl rfl)
theorem dX1_isCovered_32 : decode cX1_isCovered 32 = .ok (.iconst 1, 1) := dk_4 (dk_at dksX1_isCovered_1 9 rfl rfl)
theorem dX1_isCovered_33 : decode cX1_isCovered 33 = .ok (.if_icmp .ne 24, 3) := dk_160 0 24 (dk_at dksX1_isCovered_1 10 rfl rfl)
theorem dX1_isCovered_36 : decode cX1_isCovered 36 = .ok (.aload_n 0, 1) := dk_42 (dk_at dksX1_isCovered_1 13 rfl rfl)
theorem dX1_isCovered_37 : decode cX1_isCovered 37 = .ok (.getfield 64, 3) := dk_180 0 64 (dk_at dksX1_isCovered_1 14 rfl rfl)
theorem dX1_isCovered_40 : decode cX1_isCovered 40 = .ok (.bipush 14, 2) := dk_16 14 (dk_at dksX1_isCovered_1 17 rfl rfl)
theorem dX1_isCovered_42 : decode cX1_isCovered 42 = .ok (.iload 4, 2) := dk_21 4 (dk_at dksX1_isCovered_1 19 rfl rfl)
theorem dX1_isCovered_44 : decode cX1_isCovered 44 = .ok (.imul, 1) := dk_104 (dk_at dksX1_isCovered_1 21 rfl rfl)
theorem dX1_isCovered_45 : decode cX1_isCovered 45 = .ok (.iload 6, 2) := dk_21 6 (dk_at dksX1_isCovered_1 22 rfl rfl)
theorem dX1_isCovered_47 : decode cX1_isCovered 47 = .ok (.iadd, 1) := dk_96 (dk_at dksX1_isCovered_2 0 rfl rfl)
theorem dX1_isCovered_48 : decode cX1_isCovered 48 = .ok (.iaload, 1) := dk_46 (dk_at dksX1_isCovered_2 1 rfl rfl)
theorem dX1_isCovered_49 : decode cX1_isCovered 49 = .ok (.iload_n 3, 1) := dk_29 (dk_at dksX1_isCovered_2 2 rfl rfl)
theorem dX1_isCovered_50 : decode cX1_isCovered 50 = .ok (.if_icmp .gt 7, 3) := dk_163 0 7 (dk_at dksX1_isCovered_2 3 rfl rfl)
theorem dX1_isCovered_53 : decode cX1_isCovered 53 = .ok (.iconst 1, 1) := dk_4 (dk_at dksX1_isCovered_2 6 rfl rfl)
theorem dX1_isCovered_54 : decode cX1_isCovered 54 = .ok (.goto 4, 3) := dk_167 0 4 (dk_at dksX1_isCovered_2 7 rfl rfl)
theorem dX1_isCovered_57 : decode cX1_isCovered 57 = .ok (.iconst 0, 1) := dk_3 (dk_at dksX1_isCovered_2 10 rfl rfl)
theorem dX1_isCovered_58 : decode cX1_isCovered 58 = .ok (.istore 5, 2) := dk_54 5 (dk_at dksX1_isCovered_2 11 rfl rfl)
theorem dX1_isCovered_60 : decode cX1_isCovered 60 = .ok (.iinc 6 1, 3) := dk_132 6 1 (dk_at dksX1_isCovered_2 13 rfl rfl)
theorem dX1_isCovered_63 : decode cX1_isCovered 63 = .ok (.goto (-48), 3) := dk_167 255 208 (dk_at dksX1_isCovered_2 16 rfl rfl)
theorem dX1_isCovered_66 : decode cX1_isCovered 66 = .ok (.iload 5, 2) := dk_21 5 (dk_at dksX1_isCovered_2 19 rfl rfl)
theorem dX1_isCovered_68 : decode cX1_isCovered 68 = .ok (.ifCond .ne 5, 3) := dk_154 0 5 (dk_at dksX1_isCovered_2 21 rfl rfl)
theorem dX1_isCovered_71 : decode cX1_isCovered 71 = .ok (.iconst 0, 1) := dk_3 (dk_at dksX1_isCovered_3 0 rfl rfl)
theorem dX1_isCovered_72 : decode cX1_isCovered 72 = .ok (.ireturn, 1) := dk_172 (dk_at dksX1_isCovered_3 1 rfl rfl)
theorem dX1_isCovered_73 : decode cX1_isCovered 73 = .ok (.iinc 4 1, 3) := dk_132 4 1 (dk_at dksX1_isCovered_3 2 rfl rfl)
theorem dX1_isCovered_76 : decode cX1_isCovered 76 = .ok (.goto (-73), 3) := dk_167 255 183 (dk_at dksX1_isCovered_3 5 rfl rfl)
theorem dX1_isCovered_79 : decode cX1_isCovered 79 = .ok (.iconst 1, 1) := dk_4 (dk_at dksX1_isCovered_3 8 rfl rfl)
theorem dX1_isCovered_80 : decode cX1_isCovered 80 = .ok (.ireturn, 1) := dk_172 (dk_at dksX1_isCovered_3 9 rfl rfl)
abbrev cX1_like : ByteArray := prog_1_method_58_code
def yX1_like : MethodName := ⟨RX1, "like", "(III)I"⟩
def dkwX1_like_4 : List UInt8 := [2, 172]
abbrev dktX1_like_4 : List UInt8 := dkwX1_like_4 ++ []
def dkwX1_like_3 : List UInt8 := [159, 0, 6, 167, 0, 15, 21, 6, 29, 160, 0, 6, 21, 7, 172, 132, 6, 1, 132, 7, 1, 167, 255, 212]
abbrev dktX1_like_3 : List UInt8 := dkwX1_like_3 ++ dktX1_like_4
def dkwX1_like_2 : List UInt8 := [21, 7, 17, 39, 15, 163, 0, 42, 21, 5, 2, 159, 0, 36, 25, 4, 21, 7, 182, 0, 171, 21, 5]
abbrev dktX1_like_2 : List UInt8 := dkwX1_like_2 ++ dktX1_like_3
def dkwX1_like_1 : List UInt8 := [180, 0, 27, 27, 50, 58, 4, 25, 4, 28, 182, 0, 171, 54, 5, 3, 54, 6, 28, 4, 96, 54, 7]
abbrev dktX1_like_1 : List UInt8 := dkwX1_like_1 ++ dktX1_like_2
def dkwX1_like_0 : List UInt8 := [42, 27, 182, 0, 136, 153, 0, 14, 28, 184, 0, 163, 153, 0, 7, 29, 156, 0, 5, 2, 172, 42]
abbrev dktX1_like_0 : List UInt8 := dkwX1_like_0 ++ dktX1_like_1
theorem dksX1_like_0 : cX1_like.data.toList.drop 0 = dktX1_like_0 := by decide +kernel
theorem dksX1_like_1 : cX1_like.data.toList.drop 22 = dktX1_like_1 := dk_seg dksX1_like_0 22 rfl rfl
theorem dksX1_like_2 : cX1_like.data.toList.drop 45 = dktX1_like_2 := dk_seg dksX1_like_1 23 rfl rfl
theorem dksX1_like_3 : cX1_like.data.toList.drop 68 = dktX1_like_3 := dk_seg dksX1_like_2 23 rfl rfl
theorem dksX1_like_4 : cX1_like.data.toList.drop 92 = dktX1_like_4 := dk_seg dksX1_like_3 24 rfl rfl
theorem dX1_like_0 : decode cX1_like 0 = .ok (.aload_n 0, 1) := dk_42 (dk_at dksX1_like_0 0 rfl rfl)
theorem dX1_like_1 : decode cX1_like 1 = .ok (.iload_n 1, 1) := dk_27 (dk_at dksX1_like_0 1 rfl rfl)
theorem dX1_like_2 : decode cX1_like 2 = .ok (.invokevirtual 136, 3) := dk_182 0 136 (dk_at dksX1_like_0 2 rfl rfl)
theorem dX1_like_5 : decode cX1_like 5 = .ok (.ifCond .eq 14, 3) := dk_153 0 14 (dk_at dksX1_like_0 5 rfl rfl)
theorem dX1_like_8 : decode cX1_like 8 = .ok (.iload_n 2, 1) := dk_28 (dk_at dksX1_like_0 8 rfl rfl)
theorem dX1_like_9 : decode cX1_like 9 = .ok (.invokestatic 163, 3) := dk_184 0 163 (dk_at dksX1_like_0 9 rfl rfl)
theorem dX1_like_12 : decode cX1_like 12 = .ok (.ifCond .eq 7, 3) := dk_153 0 7 (dk_at dksX1_like_0 12 rfl rfl)
theorem dX1_like_15 : decode cX1_like 15 = .ok (.iload_n 3, 1) := dk_29 (dk_at dksX1_like_0 15 rfl rfl)
theorem dX1_like_16 : decode cX1_like 16 = .ok (.ifCond .ge 5, 3) := dk_156 0 5 (dk_at dksX1_like_0 16 rfl rfl)
theorem dX1_like_19 : decode cX1_like 19 = .ok (.iconst (-1), 1) := dk_2 (dk_at dksX1_like_0 19 rfl rfl)
theorem dX1_like_20 : decode cX1_like 20 = .ok (.ireturn, 1) := dk_172 (dk_at dksX1_like_0 20 rfl rfl)
theorem dX1_like_21 : decode cX1_like 21 = .ok (.aload_n 0, 1) := dk_42 (dk_at dksX1_like_0 21 rfl rfl)
theorem dX1_like_22 : decode cX1_like 22 = .ok (.getfield 27, 3) := dk_180 0 27 (dk_at dksX1_like_1 0 rfl rfl)
theorem dX1_like_25 : decode cX1_like 25 = .ok (.iload_n 1, 1) := dk_27 (dk_at dksX1_like_1 3 rfl rfl)
theorem dX1_like_26 : decode cX1_like 26 = .ok (.aaload, 1) := dk_50 (dk_at dksX1_like_1 4 rfl rfl)
theorem dX1_like_27 : decode cX1_like 27 = .ok (.astore 4, 2) := dk_58 4 (dk_at dksX1_like_1 5 rfl rfl)
theorem dX1_like_29 : decode cX1_like 29 = .ok (.aload 4, 2) := dk_25 4 (dk_at dksX1_like_1 7 rfl rfl)
theorem dX1_like_31 : decode cX1_like 31 = .ok (.iload_n 2, 1) := dk_28 (dk_at dksX1_like_1 9 rfl rfl)
theorem dX1_like_32 : decode cX1_like 32 = .ok (.invokevirtual 171, 3) := dk_182 0 171 (dk_at dksX1_like_1 10 rfl rfl)
theorem dX1_like_35 : decode cX1_like 35 = .ok (.istore 5, 2) := dk_54 5 (dk_at dksX1_like_1 13 rfl rfl)
theorem dX1_like_37 : decode cX1_like 37 = .ok (.iconst 0, 1) := dk_3 (dk_at dksX1_like_1 15 rfl rfl)
theorem dX1_like_38 : decode cX1_like 38 = .ok (.istore 6, 2) := dk_54 6 (dk_at dksX1_like_1 16 rfl rfl)
theorem dX1_like_40 : decode cX1_like 40 = .ok (.iload_n 2, 1) := dk_28 (dk_at dksX1_like_1 18 rfl rfl)
theorem dX1_like_41 : decode cX1_like 41 = .ok (.iconst 1, 1) := dk_4 (dk_at dksX1_like_1 19 rfl rfl)
theorem dX1_like_42 : decode cX1_like 42 = .ok (.iadd, 1) := dk_96 (dk_at dksX1_like_1 20 rfl rfl)
theorem dX1_like_43 : decode cX1_like 43 = .ok (.istore 7, 2) := dk_54 7 (dk_at dksX1_like_1 21 rfl rfl)
theorem dX1_like_45 : decode cX1_like 45 = .ok (.iload 7, 2) := dk_21 7 (dk_at dksX1_like_2 0 rfl rfl)
theorem dX1_like_47 : decode cX1_like 47 = .ok (.sipush 9999, 3) := dk_17 39 15 (dk_at dksX1_like_2 2 rfl rfl)
theorem dX1_like_50 : decode cX1_like 50 = .ok (.if_icmp .gt 42, 3) := dk_163 0 42 (dk_at dksX1_like_2 5 rfl rfl)
theorem dX1_like_53 : decode cX1_like 53 = .ok (.iload 5, 2) := dk_21 5 (dk_at dksX1_like_2 8 rfl rfl)
theorem dX1_like_55 : decode cX1_like 55 = .ok (.iconst (-1), 1) := dk_2 (dk_at dksX1_like_2 10 rfl rfl)
theorem dX1_like_56 : decode cX1_like 56 = .ok (.if_icmp .eq 36, 3) := dk_159 0 36 (dk_at dksX1_like_2 11 rfl rfl)
theorem dX1_like_59 : decode cX1_like 59 = .ok (.aload 4, 2) := dk_25 4 (dk_at dksX1_like_2 14 rfl rfl)
theorem dX1_like_61 : decode cX1_like 61 = .ok (.iload 7, 2) := dk_21 7 (dk_at dksX1_like_2 16 rfl rfl)
theorem dX1_like_63 : decode cX1_like 63 = .ok (.invokevirtual 171, 3) := dk_182 0 171 (dk_at dksX1_like_2 18 rfl rfl)
theorem dX1_like_66 : decode cX1_like 66 = .ok (.iload 5, 2) := dk_21 5 (dk_at dksX1_like_2 21 rfl rfl)
theorem dX1_like_68 : decode cX1_like 68 = .ok (.if_icmp .eq 6, 3) := dk_159 0 6 (dk_at dksX1_like_3 0 rfl rfl)
theorem dX1_like_71 : decode cX1_like 71 = .ok (.goto 15, 3) := dk_167 0 15 (dk_at dksX1_like_3 3 rfl rfl)
theorem dX1_like_74 : decode cX1_like 74 = .ok (.iload 6, 2) := dk_21 6 (dk_at dksX1_like_3 6 rfl rfl)
theorem dX1_like_76 : decode cX1_like 76 = .ok (.iload_n 3, 1) := dk_29 (dk_at dksX1_like_3 8 rfl rfl)
theorem dX1_like_77 : decode cX1_like 77 = .ok (.if_icmp .ne 6, 3) := dk_160 0 6 (dk_at dksX1_like_3 9 rfl rfl)
theorem dX1_like_80 : decode cX1_like 80 = .ok (.iload 7, 2) := dk_21 7 (dk_at dksX1_like_3 12 rfl rfl)
theorem dX1_like_82 : decode cX1_like 82 = .ok (.ireturn, 1) := dk_172 (dk_at dksX1_like_3 14 rfl rfl)
theorem dX1_like_83 : decode cX1_like 83 = .ok (.iinc 6 1, 3) := dk_132 6 1 (dk_at dksX1_like_3 15 rfl rfl)
theorem dX1_like_86 : decode cX1_like 86 = .ok (.iinc 7 1, 3) := dk_132 7 1 (dk_at dksX1_like_3 18 rfl rfl)
theorem dX1_like_89 : decode cX1_like 89 = .ok (.goto (-44), 3) := dk_167 255 212 (dk_at dksX1_like_3 21 rfl rfl)
theorem dX1_like_92 : decode cX1_like 92 = .ok (.iconst (-1), 1) := dk_2 (dk_at dksX1_like_4 0 rfl rfl)
theorem dX1_like_93 : decode cX1_like 93 = .ok (.ireturn, 1) := dk_172 (dk_at dksX1_like_4 1 rfl rfl)
abbrev cX1_thirteenths : ByteArray := prog_1_method_59_code
def yX1_thirteenths : MethodName := ⟨RX1, "thirteenths", "(IIII)I"⟩
def dkwX1_thirteenths_5 : List UInt8 := [132, 7, 1, 167, 255, 198, 132, 6, 1, 167, 255, 183, 21, 5, 172]
abbrev dktX1_thirteenths_5 : List UInt8 := dkwX1_thirteenths_5 ++ []
def dkwX1_thirteenths_4 : List UInt8 := [21, 6, 21, 7, 16, 13, 182, 0, 207, 21, 4, 160, 0, 7, 4, 167, 0, 4, 3, 96, 54, 5]
abbrev dktX1_thirteenths_4 : List UInt8 := dkwX1_thirteenths_4 ++ dktX1_thirteenths_5
def dkwX1_thirteenths_3 : List UInt8 := [180, 0, 27, 27, 50, 21, 6, 21, 7, 16, 13, 182, 0, 140, 153, 0, 27, 42, 180, 0, 27, 27, 50]
abbrev dktX1_thirteenths_3 : List UInt8 := dkwX1_thirteenths_3 ++ dktX1_thirteenths_4
def dkwX1_thirteenths_2 : List UInt8 := [28, 54, 6, 21, 6, 29, 163, 0, 73, 4, 54, 7, 21, 7, 16, 13, 162, 0, 57, 21, 5, 42]
abbrev dktX1_thirteenths_2 : List UInt8 := dkwX1_thirteenths_2 ++ dktX1_thirteenths_3
def dkwX1_thirteenths_1 : List UInt8 := [184, 0, 89, 153, 0, 16, 21, 4, 133, 9, 20, 0, 245, 184, 0, 89, 154, 0, 5, 2, 172, 3, 54, 5]
abbrev dktX1_thirteenths_1 : List UInt8 := dkwX1_thirteenths_1 ++ dktX1_thirteenths_2
def dkwX1_thirteenths_0 : List UInt8 := [42, 27, 182, 0, 136, 153, 0, 36, 28, 184, 0, 163, 153, 0, 29, 29, 133, 28, 133, 20, 0, 144]
abbrev dktX1_thirteenths_0 : List UInt8 := dkwX1_thirteenths_0 ++ dktX1_thirteenths_1
theorem dksX1_thirteenths_0 : cX1_thirteenths.data.toList.drop 0 = dktX1_thirteenths_0 := by decide +kernel
theorem dksX1_thirteenths_1 : cX1_thirteenths.data.toList.drop 22 = dktX1_thirteenths_1 := dk_seg dksX1_thirteenths_0 22 rfl rfl
theorem dksX1_thirteenths_2 : cX1_thirteenths.data.toList.drop 46 = dktX1_thirteenths_2 := dk_seg dksX1_thirteenths_1 24 rfl rfl
theorem dksX1_thirteenths_3 : cX1_thirteenths.data.toList.drop 68 = dktX1_thirteenths_3 := dk_seg dksX1_thirteenths_2 22 rfl rfl
theorem dksX1_thirteenths_4 : cX1_thirteenths.data.toList.drop 91 = dktX1_thirteenths_4 := dk_seg dksX1_thirteenths_3 23 rfl rfl
theorem dksX1_thirteenths_5 : cX1_thirteenths.data.toList.drop 113 = dktX1_thirteenths_5 := dk_seg dksX1_thirteenths_4 22 rfl rfl
theorem dX1_thirteenths_0 : decode cX1_thirteenths 0 = .ok (.aload_n 0, 1) := dk_42 (dk_at dksX1_thirteenths_0 0 rfl rfl)
theorem dX1_thirteenths_1 : decode cX1_thirteenths 1 = .ok (.iload_n 1, 1) := dk_27 (dk_at dksX1_thirteenths_0 1 rfl rfl)
theorem dX1_thirteenths_2 : decode cX1_thirteenths 2 = .ok (.invokevirtual 136, 3) := dk_182 0 136 (dk_at dksX1_thirteenths_0 2 rfl rfl)
theorem dX1_thirteenths_5 : decode cX1_thirteenths 5 = .ok (.ifCond .eq 36, 3) := dk_153 0 36 (dk_at dksX1_thirteenths_0 5 rfl rfl)
theorem dX1_thirteenths_8 : decode cX1_thirteenths 8 = .ok (.iload_n 2, 1) := dk_28 (dk_at dksX1_thirteenths_0 8 rfl rfl)
theorem dX1_thirteenths_9 : decode cX1_thirteenths 9 = .ok (.invokestatic 163, 3) := dk_184 0 163 (dk_at dksX1_thirteenths_0 9 rfl rfl)
theorem dX1_thirteenths_12 : decode cX1_thirteenths 12 = .ok (.ifCond .eq 29, 3) := dk_153 0 29 (dk_at dksX1_thirteenths_0 12 rfl rfl)
theorem dX1_thirteenths_15 : decode cX1_thirteenths 15 = .ok (.iload_n 3, 1) := dk_29 (dk_at dksX1_thirteenths_0 15 rfl rfl)
theorem dX1_thirteenths_16 : decode cX1_thirteenths 16 = .ok (.i2l, 1) := dk_133 (dk_at dksX1_thirteenths_0 16 rfl rfl)
theorem dX1_thirteenths_17 : decode cX1_thirteenths 17 = .ok (.iload_n 2, 1) := dk_28 (dk_at dksX1_thirteenths_0 17 rfl rfl)
theorem dX1_thirteenths_18 : decode cX1_thirteenths 18 = .ok (.i2l, 1) := dk_133 (dk_at dksX1_thirteenths_0 18 rfl rfl)
theorem dX1_thirteenths_19 : decode cX1_thirteenths 19 = .ok (.ldc2_w 144, 3) := dk_20 0 144 (dk_at dksX1_thirteenths_0 19 rfl rfl)
theorem dX1_thirteenths_22 : decode cX1_thirteenths 22 = .ok (.invokestatic 89, 3) := dk_184 0 89 (dk_at dksX1_thirteenths_1 0 rfl rfl)
theorem dX1_thirteenths_25 : decode cX1_thirteenths 25 = .ok (.ifCond .eq 16, 3) := dk_153 0 16 (dk_at dksX1_thirteenths_1 3 rfl rfl)
theorem dX1_thirteenths_28 : decode cX1_thirteenths 28 = .ok (.iload 4, 2) := dk_21 4 (dk_at dksX1_thirteenths_1 6 rfl rfl)
theorem dX1_thirteenths_30 : decode cX1_thirteenths 30 = .ok (.i2l, 1) := dk_133 (dk_at dksX1_thirteenths_1 8 rfl rfl)
theorem dX1_thirteenths_31 : decode cX1_thirteenths 31 = .ok (.lconst 0, 1) := dk_9 (dk_at dksX1_thirteenths_1 9 rfl rfl)
theorem dX1_thirteenths_32 : decode cX1_thirteenths 32 = .ok (.ldc2_w 245, 3) := dk_20 0 245 (dk_at dksX1_thirteenths_1 10 rfl rfl)
theorem dX1_thirteenths_35 : decode cX1_thirteenths 35 = .ok (.invokestatic 89, 3) := dk_184 0 89 (dk_at dksX1_thirteenths_1 13 rfl rfl)
theorem dX1_thirteenths_38 : decode cX1_thirteenths 38 = .ok (.ifCond .ne 5, 3) := dk_154 0 5 (dk_at dksX1_thirteenths_1 16 rfl rfl)
theorem dX1_thirteenths_41 : decode cX1_thirteenths 41 = .ok (.iconst (-1), 1) := dk_2 (dk_at dksX1_thirteenths_1 19 rfl rfl)
theorem dX1_thirteenths_42 : decode cX1_thirteenths 42 = .ok (.ireturn, 1) := dk_172 (dk_at dksX1_thirteenths_1 20 rfl rfl)
theorem dX1_thirteenths_43 : decode cX1_thirteenths 43 = .ok (.iconst 0, 1) := dk_3 (dk_at dksX1_thirteenths_1 21 rfl rfl)
theorem dX1_thirteenths_44 : decode cX1_thirteenths 44 = .ok (.istore 5, 2) := dk_54 5 (dk_at dksX1_thirteenths_1 22 rfl rfl)
theorem dX1_thirteenths_46 : decode cX1_thirteenths 46 = .ok (.iload_n 2, 1) := dk_28 (dk_at dksX1_thirteenths_2 0 rfl rfl)
theorem dX1_thirteenths_47 : decode cX1_thirteenths 47 = .ok (.istore 6, 2) := dk_54 6 (dk_at dksX1_thirteenths_2 1 rfl rfl)
theorem dX1_thirteenths_49 : decode cX1_thirteenths 49 = .ok (.iload 6, 2) := dk_21 6 (dk_at dksX1_thirteenths_2 3 rfl rfl)
theorem dX1_thirteenths_51 : decode cX1_thirteenths 51 = .ok (.iload_n 3, 1) := dk_29 (dk_at dksX1_thirteenths_2 5 rfl rfl)
theorem dX1_thirteenths_52 : decode cX1_thirteenths 52 = .ok (.if_icmp .gt 73, 3) := dk_163 0 73 (dk_at dksX1_thirteenths_2 6 rfl rfl)
theorem dX1_thirteenths_55 : decode cX1_thirteenths 55 = .ok (.iconst 1, 1) := dk_4 (dk_at dksX1_thirteenths_2 9 rfl rfl)
theorem dX1_thirteenths_56 : decode cX1_thirteenths 56 = .ok (.istore 7, 2) := dk_54 7 (dk_at dksX1_thirteenths_2 10 rfl rfl)
theorem dX1_thirteenths_58 : decode cX1_thirteenths 58 = .ok (.iload 7, 2) := dk_21 7 (dk_at dksX1_thirteenths_2 12 rfl rfl)
theorem dX1_thirteenths_60 : decode cX1_thirteenths 60 = .ok (.bipush 13, 2) := dk_16 13 (dk_at dksX1_thirteenths_2 14 rfl rfl)
theorem dX1_thirteenths_62 : decode cX1_thirteenths 62 = .ok (.if_icmp .ge 57, 3) := dk_162 0 57 (dk_at dksX1_thirteenths_2 16 rfl rfl)
theorem dX1_thirteenths_65 : decode cX1_thirteenths 65 = .ok (.iload 5, 2) := dk_21 5 (dk_at dksX1_thirteenths_2 19 rfl rfl)
theorem dX1_thirteenths_67 : decode cX1_thirteenths 67 = .ok (.aload_n 0, 1) := dk_42 (dk_at dksX1_thirteenths_2 21 rfl rfl)
theorem dX1_thirteenths_68 : decode cX1_thirteenths 68 = .ok (.getfield 27, 3) := dk_180 0 27 (dk_at dksX1_thirteenths_3 0 rfl rfl)
theorem dX1_thirteenths_71 : decode cX1_thirteenths 71 = .ok (.iload_n 1, 1) := dk_27 (dk_at dksX1_thirteenths_3 3 rfl rfl)
theorem dX1_thirteenths_72 : decode cX1_thirteenths 72 = .ok (.aaload, 1) := dk_50 (dk_at dksX1_thirteenths_3 4 rfl rfl)
theorem dX1_thirteenths_73 : decode cX1_thirteenths 73 = .ok (.iload 6, 2) := dk_21 6 (dk_at dksX1_thirteenths_3 5 rfl rfl)
theorem dX1_thirteenths_75 : decode cX1_thirteenths 75 = .ok (.iload 7, 2) := dk_21 7 (dk_at dksX1_thirteenths_3 7 rfl rfl)
theorem dX1_thirteenths_77 : decode cX1_thirteenths 77 = .ok (.bipush 13, 2) := dk_16 13 (dk_at dksX1_thirteenths_3 9 rfl rfl)
theorem dX1_thirteenths_79 : decode cX1_thirteenths 79 = .ok (.invokevirtual 140, 3) := dk_182 0 140 (dk_at dksX1_thirteenths_3 11 rfl rfl)
theorem dX1_thirteenths_82 : decode cX1_thirteenths 82 = .ok (.ifCond .eq 27, 3) := dk_153 0 27 (dk_at dksX1_thirteenths_3 14 rfl rfl)
theorem dX1_thirteenths_85 : decode cX1_thirteenths 85 = .ok (.aload_n 0, 1) := dk_42 (dk_at dksX1_thirteenths_3 17 rfl rfl)
theorem dX1_thirteenths_86 : decode cX1_thirteenths 86 = .ok (.getfield 27, 3) := dk_180 0 27 (dk_at dksX1_thirteenths_3 18 rfl rfl)
theorem dX1_thirteenths_89 : decode cX1_thirteenths 89 = .ok (.iload_n 1, 1) := dk_27 (dk_at dksX1_thirteenths_3 21 rfl rfl)
theorem dX1_thirteenths_90 : decode cX1_thirteenths 90 = .ok (.aaload, 1) := dk_50 (dk_at dksX1_thirteenths_3 22 rfl rfl)
theorem dX1_thirteenths_91 : decode cX1_thirteenths 91 = .ok (.iload 6, 2) := dk_21 6 (dk_at dksX1_thirteenths_4 0 rfl rfl)
theorem dX1_thirteenths_93 : decode cX1_thirteenths 93 = .ok (.iload 7, 2) := dk_21 7 (dk_at dksX1_thirteenths_4 2 rfl rfl)
theorem dX1_thirteenths_95 : decode cX1_thirteenths 95 = .ok (.bipush 13, 2) := dk_16 13 (dk_at dksX1_thirteenths_4 4 rfl rfl)
theorem dX1_thirteenths_97 : decode cX1_thirteenths 97 = .ok (.invokevirtual 207, 3) := dk_182 0 207 (dk_at dksX1_thirteenths_4 6 rfl rfl)
theorem dX1_thirteenths_100 : decode cX1_thirteenths 100 = .ok (.iload 4, 2) := dk_21 4 (dk_at dksX1_thirteenths_4 9 rfl rfl)
theorem dX1_thirteenths_102 : decode cX1_thirteenths 102 = .ok (.if_icmp .ne 7, 3) := dk_160 0 7 (dk_at dksX1_thirteenths_4 11 rfl rfl)
theorem dX1_thirteenths_105 : decode cX1_thirteenths 105 = .ok (.iconst 1, 1) := dk_4 (dk_at dksX1_thirteenths_4 14 rfl rfl)
theorem dX1_thirteenths_106 : decode cX1_thirteenths 106 = .ok (.goto 4, 3) := dk_167 0 4 (dk_at dksX1_thirteenths_4 15 rfl rfl)
theorem dX1_thirteenths_109 : decode cX1_thirteenths 109 = .ok (.iconst 0, 1) := dk_3 (dk_at dksX1_thirteenths_4 18 rfl rfl)
theorem dX1_thirteenths_110 : decode cX1_thirteenths 110 = .ok (.iadd, 1) := dk_96 (dk_at dksX1_thirteenths_4 19 rfl rfl)
theorem dX1_thirteenths_111 : decode cX1_thirteenths 111 = .ok (.istore 5, 2) := dk_54 5 (dk_at dksX1_thirteenths_4 20 rfl rfl)
theorem dX1_thirteenths_113 : decode cX1_thirteenths 113 = .ok (.iinc 7 1, 3) := dk_132 7 1 (dk_at dksX1_thirteenths_5 0 rfl rfl)
theorem dX1_thirteenths_116 : decode cX1_thirteenths 116 = .ok (.goto (-58), 3) := dk_167 255 198 (dk_at dksX1_thirteenths_5 3 rfl rfl)
theorem dX1_thirteenths_119 : decode cX1_thirteenths 119 = .ok (.iinc 6 1, 3) := dk_132 6 1 (dk_at dksX1_thirteenths_5 6 rfl rfl)
theorem dX1_thirteenths_122 : decode cX1_thirteenths 122 = .ok (.goto (-73), 3) := dk_167 255 183 (dk_at dksX1_thirteenths_5 9 rfl rfl)
theorem dX1_thirteenths_125 : decode cX1_thirteenths 125 = .ok (.iload 5, 2) := dk_21 5 (dk_at dksX1_thirteenths_5 12 rfl rfl)
theorem dX1_thirteenths_127 : decode cX1_thirteenths 127 = .ok (.ireturn, 1) := dk_172 (dk_at dksX1_thirteenths_5 14 rfl rfl)
abbrev cX1_mates : ByteArray := prog_1_method_60_code
def yX1_mates : MethodName := ⟨RX1, "mates", "(III)I"⟩
def dkwX1_mates_2 : List UInt8 := [4, 100, 120, 167, 0, 4, 3, 128, 54, 4, 132, 5, 1, 167, 255, 215, 21, 4, 172]
abbrev dktX1_mates_2 : List UInt8 := dkwX1_mates_2 ++ []
def dkwX1_mates_1 : List UInt8 := [162, 0, 40, 21, 4, 42, 180, 0, 27, 27, 50, 28, 29, 21, 5, 184, 0, 222, 153, 0, 12, 4, 21, 5]
abbrev dktX1_mates_1 : List UInt8 := dkwX1_mates_1 ++ dktX1_mates_2
def dkwX1_mates_0 : List UInt8 := [42, 27, 28, 29, 4, 182, 0, 146, 154, 0, 5, 2, 172, 3, 54, 4, 4, 54, 5, 21, 5, 16, 13]
abbrev dktX1_mates_0 : List UInt8 := dkwX1_mates_0 ++ dktX1_mates_1
theorem dksX1_mates_0 : cX1_mates.data.toList.drop 0 = dktX1_mates_0 := by decide +kernel
theorem dksX1_mates_1 : cX1_mates.data.toList.drop 23 = dktX1_mates_1 := dk_seg dksX1_mates_0 23 rfl rfl
theorem dksX1_mates_2 : cX1_mates.data.toList.drop 47 = dktX1_mates_2 := dk_seg dksX1_mates_1 24 rfl rfl
theorem dX1_mates_0 : decode cX1_mates 0 = .ok (.aload_n 0, 1) := dk_42 (dk_at dksX1_mates_0 0 rfl rfl)
theorem dX1_mates_1 : decode cX1_mates 1 = .ok (.iload_n 1, 1) := dk_27 (dk_at dksX1_mates_0 1 rfl rfl)
theorem dX1_mates_2 : decode cX1_mates 2 = .ok (.iload_n 2, 1) := dk_28 (dk_at dksX1_mates_0 2 rfl rfl)
theorem dX1_mates_3 : decode cX1_mates 3 = .ok (.iload_n 3, 1) := dk_29 (dk_at dksX1_mates_0 3 rfl rfl)
theorem dX1_mates_4 : decode cX1_mates 4 = .ok (.iconst 1, 1) := dk_4 (dk_at dksX1_mates_0 4 rfl rfl)
theorem dX1_mates_5 : decode cX1_mates 5 = .ok (.invokevirtual 146, 3) := dk_182 0 146 (dk_at dksX1_mates_0 5 rfl rfl)
theorem dX1_mates_8 : decode cX1_mates 8 = .ok (.ifCond .ne 5, 3) := dk_154 0 5 (dk_at dksX1_mates_0 8 rfl rfl)
theorem dX1_mates_11 : decode cX1_mates 11 = .ok (.iconst (-1), 1) := dk_2 (dk_at dksX1_mates_0 11 rfl rfl)
theorem dX1_mates_12 : decode cX1_mates 12 = .ok (.ireturn, 1) := dk_172 (dk_at dksX1_mates_0 12 rfl rfl)
theorem dX1_mates_13 : decode cX1_mates 13 = .ok (.iconst 0, 1) := dk_3 (dk_at dksX1_mates_0 13 rfl rfl)
theorem dX1_mates_14 : decode cX1_mates 14 = .ok (.istore 4, 2) := dk_54 4 (dk_at dksX1_mates_0 14 rfl rfl)
theorem dX1_mates_16 : decode cX1_mates 16 = .ok (.iconst 1, 1) := dk_4 (dk_at dksX1_mates_0 16 rfl rfl)
theorem dX1_mates_17 : decode cX1_mates 17 = .ok (.istore 5, 2) := dk_54 5 (dk_at dksX1_mates_0 17 rfl rfl)
theorem dX1_mates_19 : decode cX1_mates 19 = .ok (.iload 5, 2) := dk_21 5 (dk_at dksX1_mates_0 19 rfl rfl)
theorem dX1_mates_21 : decode cX1_mates 21 = .ok (.bipush 13, 2) := dk_16 13 (dk_at dksX1_mates_0 21 rfl rfl)
theorem dX1_mates_23 : decode cX1_mates 23 = .ok (.if_icmp .ge 40, 3) := dk_162 0 40 (dk_at dksX1_mates_1 0 rfl rfl)
theorem dX1_mates_26 : decode cX1_mates 26 = .ok (.iload 4, 2) := dk_21 4 (dk_at dksX1_mates_1 3 rfl rfl)
theorem dX1_mates_28 : decode cX1_mates 28 = .ok (.aload_n 0, 1) := dk_42 (dk_at dksX1_mates_1 5 rfl rfl)
theorem dX1_mates_29 : decode cX1_mates 29 = .ok (.getfield 27, 3) := dk_180 0 27 (dk_at dksX1_mates_1 6 rfl rfl)
theorem dX1_mates_32 : decode cX1_mates 32 = .ok (.iload_n 1, 1) := dk_27 (dk_at dksX1_mates_1 9 rfl rfl)
theorem dX1_mates_33 : decode cX1_mates 33 = .ok (.aaload, 1) := dk_50 (dk_at dksX1_mates_1 10 rfl rfl)
theorem dX1_mates_34 : decode cX1_mates 34 = .ok (.iload_n 2, 1) := dk_28 (dk_at dksX1_mates_1 11 rfl rfl)
theorem dX1_mates_35 : decode cX1_mates 35 = .ok (.iload_n 3, 1) := dk_29 (dk_at dksX1_mates_1 12 rfl rfl)
theorem dX1_mates_36 : decode cX1_mates 36 = .ok (.iload 5, 2) := dk_21 5 (dk_at dksX1_mates_1 13 rfl rfl)
theorem dX1_mates_38 : decode cX1_mates 38 = .ok (.invokestatic 222, 3) := dk_184 0 222 (dk_at dksX1_mates_1 15 rfl rfl)
theorem dX1_mates_41 : decode cX1_mates 41 = .ok (.ifCond .eq 12, 3) := dk_153 0 12 (dk_at dksX1_mates_1 18 rfl rfl)
theorem dX1_mates_44 : decode cX1_mates 44 = .ok (.iconst 1, 1) := dk_4 (dk_at dksX1_mates_1 21 rfl rfl)
theorem dX1_mates_45 : decode cX1_mates 45 = .ok (.iload 5, 2) := dk_21 5 (dk_at dksX1_mates_1 22 rfl rfl)
theorem dX1_mates_47 : decode cX1_mates 47 = .ok (.iconst 1, 1) := dk_4 (dk_at dksX1_mates_2 0 rfl rfl)
theorem dX1_mates_48 : decode cX1_mates 48 = .ok (.isub, 1) := dk_100 (dk_at dksX1_mates_2 1 rfl rfl)
theorem dX1_mates_49 : decode cX1_mates 49 = .ok (.ishl, 1) := dk_120 (dk_at dksX1_mates_2 2 rfl rfl)
theorem dX1_mates_50 : decode cX1_mates 50 = .ok (.goto 4, 3) := dk_167 0 4 (dk_at dksX1_mates_2 3 rfl rfl)
theorem dX1_mates_53 : decode cX1_mates 53 = .ok (.iconst 0, 1) := dk_3 (dk_at dksX1_mates_2 6 rfl rfl)
theorem dX1_mates_54 : decode cX1_mates 54 = .ok (.ior, 1) := dk_128 (dk_at dksX1_mates_2 7 rfl rfl)
theorem dX1_mates_55 : decode cX1_mates 55 = .ok (.istore 4, 2) := dk_54 4 (dk_at dksX1_mates_2 8 rfl rfl)
theorem dX1_mates_57 : decode cX1_mates 57 = .ok (.iinc 5 1, 3) := dk_132 5 1 (dk_at dksX1_mates_2 10 rfl rfl)
theorem dX1_mates_60 : decode cX1_mates 60 = .ok (.goto (-41), 3) := dk_167 255 215 (dk_at dksX1_mates_2 13 rfl rfl)
theorem dX1_mates_63 : decode cX1_mates 63 = .ok (.iload 4, 2) := dk_21 4 (dk_at dksX1_mates_2 16 rfl rfl)
theorem dX1_mates_65 : decode cX1_mates 65 = .ok (.ireturn, 1) := dk_172 (dk_at dksX1_mates_2 18 rfl rfl)
abbrev cX1_event : ByteArray := prog_1_method_61_code
def yX1_event : MethodName := ⟨RX1, "event", "(IIIII)I"⟩
def dkwX1_event_3 : List UInt8 := [180, 1, 133, 4, 96, 181, 1, 133, 42, 180, 1, 133, 172]
abbrev dktX1_event_3 : List UInt8 := dkwX1_event_3 ++ []
def dkwX1_event_2 : List UInt8 := [27, 50, 28, 29, 21, 4, 182, 0, 153, 79, 42, 180, 0, 73, 42, 180, 1, 133, 21, 5, 79, 42, 89]
abbrev dktX1_event_2 : List UInt8 := dkwX1_event_2 ++ dktX1_event_3
def dkwX1_event_1 : List UInt8 := [9, 20, 0, 157, 184, 0, 89, 154, 0, 5, 2, 172, 42, 180, 0, 70, 42, 180, 1, 133, 42, 180, 0, 27]
abbrev dktX1_event_1 : List UInt8 := dkwX1_event_1 ++ dktX1_event_2
def dkwX1_event_0 : List UInt8 := [42, 180, 1, 133, 16, 30, 159, 0, 28, 42, 27, 28, 29, 21, 4, 182, 0, 146, 153, 0, 16, 21, 5, 133]
abbrev dktX1_event_0 : List UInt8 := dkwX1_event_0 ++ dktX1_event_1
theorem dksX1_event_0 : cX1_event.data.toList.drop 0 = dktX1_event_0 := by decide +kernel
theorem dksX1_event_1 : cX1_event.data.toList.drop 24 = dktX1_event_1 := dk_seg dksX1_event_0 24 rfl rfl
theorem dksX1_event_2 : cX1_event.data.toList.drop 48 = dktX1_event_2 := dk_seg dksX1_event_1 24 rfl rfl
theorem dksX1_event_3 : cX1_event.data.toList.drop 71 = dktX1_event_3 := dk_seg dksX1_event_2 23 rfl rfl
theorem dX1_event_0 : decode cX1_event 0 = .ok (.aload_n 0, 1) := dk_42 (dk_at dksX1_event_0 0 rfl rfl)
theorem dX1_event_1 : decode cX1_event 1 = .ok (.getfield 389, 3) := dk_180 1 133 (dk_at dksX1_event_0 1 rfl rfl)
theorem dX1_event_4 : decode cX1_event 4 = .ok (.bipush 30, 2) := dk_16 30 (dk_at dksX1_event_0 4 rfl rfl)
theorem dX1_event_6 : decode cX1_event 6 = .ok (.if_icmp .eq 28, 3) := dk_159 0 28 (dk_at dksX1_event_0 6 rfl rfl)
theorem dX1_event_9 : decode cX1_event 9 = .ok (.aload_n 0, 1) := dk_42 (dk_at dksX1_event_0 9 rfl rfl)
theorem dX1_event_10 : decode cX1_event 10 = .ok (.iload_n 1, 1) := dk_27 (dk_at dksX1_event_0 10 rfl rfl)
theorem dX1_event_11 : decode cX1_event 11 = .ok (.iload_n 2, 1) := dk_28 (dk_at dksX1_event_0 11 rfl rfl)
theorem dX1_event_12 : decode cX1_event 12 = .ok (.iload_n 3, 1) := dk_29 (dk_at dksX1_event_0 12 rfl rfl)
theorem dX1_event_13 : decode cX1_event 13 = .ok (.iload 4, 2) := dk_21 4 (dk_at dksX1_event_0 13 rfl rfl)
theorem dX1_event_15 : decode cX1_event 15 = .ok (.invokevirtual 146, 3) := dk_182 0 146 (dk_at dksX1_event_0 15 rfl rfl)
theorem dX1_event_18 : decode cX1_event 18 = .ok (.ifCond .eq 16, 3) := dk_153 0 16 (dk_at dksX1_event_0 18 rfl rfl)
theorem dX1_event_21 : decode cX1_event 21 = .ok (.iload 5, 2) := dk_21 5 (dk_at dksX1_event_0 21 rfl rfl)
theorem dX1_event_23 : decode cX1_event 23 = .ok (.i2l, 1) := dk_133 (dk_at dksX1_event_0 23 rfl rfl)
theorem dX1_event_24 : decode cX1_event 24 = .ok (.lconst 0, 1) := dk_9 (dk_at dksX1_event_1 0 rfl rfl)
theorem dX1_event_25 : decode cX1_event 25 = .ok (.ldc2_w 157, 3) := dk_20 0 157 (dk_at dksX1_event_1 1 rfl rfl)
theorem dX1_event_28 : decode cX1_event 28 = .ok (.invokestatic 89, 3) := dk_184 0 89 (dk_at dksX1_event_1 4 rfl rfl)
theorem dX1_event_31 : decode cX1_event 31 = .ok (.ifCond .ne 5, 3) := dk_154 0 5 (dk_at dksX1_event_1 7 rfl rfl)
theorem dX1_event_34 : decode cX1_event 34 = .ok (.iconst (-1), 1) := dk_2 (dk_at dksX1_event_1 10 rfl rfl)
theorem dX1_event_35 : decode cX1_event 35 = .ok (.ireturn, 1) := dk_172 (dk_at dksX1_event_1 11 rfl rfl)
theorem dX1_event_36 : decode cX1_event 36 = .ok (.aload_n 0, 1) := dk_42 (dk_at dksX1_event_1 12 rfl rfl)
theorem dX1_event_37 : decode cX1_event 37 = .ok (.getfield 70, 3) := dk_180 0 70 (dk_at dksX1_event_1 13 rfl rfl)
theorem dX1_event_40 : decode cX1_event 40 = .ok (.aload_n 0, 1) := dk_42 (dk_at dksX1_event_1 16 rfl rfl)
theorem dX1_event_41 : decode cX1_event 41 = .ok (.getfield 389, 3) := dk_180 1 133 (dk_at dksX1_event_1 17 rfl rfl)
theorem dX1_event_44 : decode cX1_event 44 = .ok (.aload_n 0, 1) := dk_42 (dk_at dksX1_event_1 20 rfl rfl)
theorem dX1_event_45 : decode cX1_event 45 = .ok (.getfield 27, 3) := dk_180 0 27 (dk_at dksX1_event_1 21 rfl rfl)
theorem dX1_event_48 : decode cX1_event 48 = .ok (.iload_n 1, 1) := dk_27 (dk_at dksX1_event_2 0 rfl rfl)
theorem dX1_event_49 : decode cX1_event 49 = .ok (.aaload, 1) := dk_50 (dk_at dksX1_event_2 1 rfl rfl)
theorem dX1_event_50 : decode cX1_event 50 = .ok (.iload_n 2, 1) := dk_28 (dk_at dksX1_event_2 2 rfl rfl)
theorem dX1_event_51 : decode cX1_event 51 = .ok (.iload_n 3, 1) := dk_29 (dk_at dksX1_event_2 3 rfl rfl)
theorem dX1_event_52 : decode cX1_event 52 = .ok (.iload 4, 2) := dk_21 4 (dk_at dksX1_event_2 4 rfl rfl)
theorem dX1_event_54 : decode cX1_event 54 = .ok (.invokevirtual 153, 3) := dk_182 0 153 (dk_at dksX1_event_2 6 rfl rfl)
theorem dX1_event_57 : decode cX1_event 57 = .ok (.iastore, 1) := dk_79 (dk_at dksX1_event_2 9 rfl rfl)
theorem dX1_event_58 : decode cX1_event 58 = .ok (.aload_n 0, 1) := dk_42 (dk_at dksX1_event_2 10 rfl rfl)
theorem dX1_event_59 : decode cX1_event 59 = .ok (.getfield 73, 3) := dk_180 0 73 (dk_at dksX1_event_2 11 rfl rfl)
theorem dX1_event_62 : decode cX1_event 62 = .ok (.aload_n 0, 1) := dk_42 (dk_at dksX1_event_2 14 rfl rfl)
theorem dX1_event_63 : decode cX1_event 63 = .ok (.getfield 389, 3) := dk_180 1 133 (dk_at dksX1_event_2 15 rfl rfl)
theorem dX1_event_66 : decode cX1_event 66 = .ok (.iload 5, 2) := dk_21 5 (dk_at dksX1_event_2 18 rfl rfl)
theorem dX1_event_68 : decode cX1_event 68 = .ok (.iastore, 1) := dk_79 (dk_at dksX1_event_2 20 rfl rfl)
theorem dX1_event_69 : decode cX1_event 69 = .ok (.aload_n 0, 1) := dk_42 (dk_at dksX1_event_2 21 rfl rfl)
theorem dX1_event_70 : decode cX1_event 70 = .ok (.dup, 1) := dk_89 (dk_at dksX1_event_2 22 rfl rfl)
theorem dX1_event_71 : decode cX1_event 71 = .ok (.getfield 389, 3) := dk_180 1 133 (dk_at dksX1_event_3 0 rfl rfl)
theorem dX1_event_74 : decode cX1_event 74 = .ok (.iconst 1, 1) := dk_4 (dk_at dksX1_event_3 3 rfl rfl)
theorem dX1_event_75 : decode cX1_event 75 = .ok (.iadd, 1) := dk_96 (dk_at dksX1_event_3 4 rfl rfl)
theorem dX1_event_76 : decode cX1_event 76 = .ok (.putfield 389, 3) := dk_181 1 133 (dk_at dksX1_event_3 5 rfl rfl)
theorem dX1_event_79 : decode cX1_event 79 = .ok (.aload_n 0, 1) := dk_42 (dk_at dksX1_event_3 8 rfl rfl)
theorem dX1_event_80 : decode cX1_event 80 = .ok (.getfield 389, 3) := dk_180 1 133 (dk_at dksX1_event_3 9 rfl rfl)
theorem dX1_event_83 : decode cX1_event 83 = .ok (.ireturn, 1) := dk_172 (dk_at dksX1_event_3 12 rfl rfl)
abbrev cX1_held : ByteArray := prog_1_method_63_code
def yX1_held : MethodName := ⟨RX1, "held", "(IIII)I"⟩
def dkwX1_held_2 : List UInt8 := [153, 0, 10, 4, 21, 6, 120, 167, 0, 4, 3, 128, 54, 5, 132, 6, 1, 167, 255, 212, 21, 5, 172]
abbrev dktX1_held_2 : List UInt8 := dkwX1_held_2 ++ []
def dkwX1_held_1 : List UInt8 := [162, 0, 44, 21, 5, 42, 42, 180, 0, 27, 27, 50, 28, 29, 21, 4, 182, 0, 153, 21, 6, 182, 1, 136]
abbrev dktX1_held_1 : List UInt8 := dkwX1_held_1 ++ dktX1_held_2
def dkwX1_held_0 : List UInt8 := [42, 27, 28, 29, 21, 4, 182, 0, 146, 154, 0, 5, 2, 172, 3, 54, 5, 3, 54, 6, 21, 6, 7]
abbrev dktX1_held_0 : List UInt8 := dkwX1_held_0 ++ dktX1_held_1
theorem dksX1_held_0 : cX1_held.data.toList.drop 0 = dktX1_held_0 := by decide +kernel
theorem dksX1_held_1 : cX1_held.data.toList.drop 23 = dktX1_held_1 := dk_seg dksX1_held_0 23 rfl rfl
theorem dksX1_held_2 : cX1_held.data.toList.drop 47 = dktX1_held_2 := dk_seg dksX1_held_1 24 rfl rfl
theorem dX1_held_0 : decode cX1_held 0 = .ok (.aload_n 0, 1) := dk_42 (dk_at dksX1_held_0 0 rfl rfl)
theorem dX1_held_1 : decode cX1_held 1 = .ok (.iload_n 1, 1) := dk_27 (dk_at dksX1_held_0 1 rfl rfl)
theorem dX1_held_2 : decode cX1_held 2 = .ok (.iload_n 2, 1) := dk_28 (dk_at dksX1_held_0 2 rfl rfl)
theorem dX1_held_3 : decode cX1_held 3 = .ok (.iload_n 3, 1) := dk_29 (dk_at dksX1_held_0 3 rfl rfl)
theorem dX1_held_4 : decode cX1_held 4 = .ok (.iload 4, 2) := dk_21 4 (dk_at dksX1_held_0 4 rfl rfl)
theorem dX1_held_6 : decode cX1_held 6 = .ok (.invokevirtual 146, 3) := dk_182 0 146 (dk_at dksX1_held_0 6 rfl rfl)
theorem dX1_held_9 : decode cX1_held 9 = .ok (.ifCond .ne 5, 3) := dk_154 0 5 (dk_at dksX1_held_0 9 rfl rfl)
theorem dX1_held_12 : decode cX1_held 12 = .ok (.iconst (-1), 1) := dk_2 (dk_at dksX1_held_0 12 rfl rfl)
theorem dX1_held_13 : decode cX1_held 13 = .ok (.ireturn, 1) := dk_172 (dk_at dksX1_held_0 13 rfl rfl)
theorem dX1_held_14 : decode cX1_held 14 = .ok (.iconst 0, 1) := dk_3 (dk_at dksX1_held_0 14 rfl rfl)
theorem dX1_held_15 : decode cX1_held 15 = .ok (.istore 5, 2) := dk_54 5 (dk_at dksX1_held_0 15 rfl rfl)
theorem dX1_held_17 : decode cX1_held 17 = .ok (.iconst 0, 1) := dk_3 (dk_at dksX1_held_0 17 rfl rfl)
theorem dX1_held_18 : decode cX1_held 18 = .ok (.istore 6, 2) := dk_54 6 (dk_at dksX1_held_0 18 rfl rfl)
theorem dX1_held_20 : decode cX1_held 20 = .ok (.iload 6, 2) := dk_21 6 (dk_at dksX1_held_0 20 rfl rfl)
theorem dX1_held_22 : decode cX1_held 22 = .ok (.iconst 4, 1) := dk_7 (dk_at dksX1_held_0 22 rfl rfl)
theorem dX1_held_23 : decode cX1_held 23 = .ok (.if_icmp .ge 44, 3) := dk_162 0 44 (dk_at dksX1_held_1 0 rfl rfl)
theorem dX1_held_26 : decode cX1_held 26 = .ok (.iload 5, 2) := dk_21 5 (dk_at dksX1_held_1 3 rfl rfl)
theorem dX1_held_28 : decode cX1_held 28 = .ok (.aload_n 0, 1) := dk_42 (dk_at dksX1_held_1 5 rfl rfl)
theorem dX1_held_29 : decode cX1_held 29 = .ok (.aload_n 0, 1) := dk_42 (dk_at dksX1_held_1 6 rfl rfl)
theorem dX1_held_30 : decode cX1_held 30 = .ok (.getfield 27, 3) := dk_180 0 27 (dk_at dksX1_held_1 7 rfl rfl)
theorem dX1_held_33 : decode cX1_held 33 = .ok (.iload_n 1, 1) := dk_27 (dk_at dksX1_held_1 10 rfl rfl)
theorem dX1_held_34 : decode cX1_held 34 = .ok (.aaload, 1) := dk_50 (dk_at dksX1_held_1 11 rfl rfl)
theorem dX1_held_35 : decode cX1_held 35 = .ok (.iload_n 2, 1) := dk_28 (dk_at dksX1_held_1 12 rfl rfl)
theorem dX1_held_36 : decode cX1_held 36 = .ok (.iload_n 3, 1) := dk_29 (dk_at dksX1_held_1 13 rfl rfl)
theorem dX1_held_37 : decode cX1_held 37 = .ok (.iload 4, 2) := dk_21 4 (dk_at dksX1_held_1 14 rfl rfl)
theorem dX1_held_39 : decode cX1_held 39 = .ok (.invokevirtual 153, 3) := dk_182 0 153 (dk_at dksX1_held_1 16 rfl rfl)
theorem dX1_held_42 : decode cX1_held 42 = .ok (.iload 6, 2) := dk_21 6 (dk_at dksX1_held_1 19 rfl rfl)
theorem dX1_held_44 : decode cX1_held 44 = .ok (.invokevirtual 392, 3) := dk_182 1 136 (dk_at dksX1_held_1 21 rfl rfl)
theorem dX1_held_47 : decode cX1_held 47 = .ok (.ifCond .eq 10, 3) := dk_153 0 10 (dk_at dksX1_held_2 0 rfl rfl)
theorem dX1_held_50 : decode cX1_held 50 = .ok (.iconst 1, 1) := dk_4 (dk_at dksX1_held_2 3 rfl rfl)
theorem dX1_held_51 : decode cX1_held 51 = .ok (.iload 6, 2) := dk_21 6 (dk_at dksX1_held_2 4 rfl rfl)
theorem dX1_held_53 : decode cX1_held 53 = .ok (.ishl, 1) := dk_120 (dk_at dksX1_held_2 6 rfl rfl)
theorem dX1_held_54 : decode cX1_held 54 = .ok (.goto 4, 3) := dk_167 0 4 (dk_at dksX1_held_2 7 rfl rfl)
theorem dX1_held_57 : decode cX1_held 57 = .ok (.iconst 0, 1) := dk_3 (dk_at dksX1_held_2 10 rfl rfl)
theorem dX1_held_58 : decode cX1_held 58 = .ok (.ior, 1) := dk_128 (dk_at dksX1_held_2 11 rfl rfl)
theorem dX1_held_59 : decode cX1_held 59 = .ok (.istore 5, 2) := dk_54 5 (dk_at dksX1_held_2 12 rfl rfl)
theorem dX1_held_61 : decode cX1_held 61 = .ok (.iinc 6 1, 3) := dk_132 6 1 (dk_at dksX1_held_2 14 rfl rfl)
theorem dX1_held_64 : decode cX1_held 64 = .ok (.goto (-44), 3) := dk_167 255 212 (dk_at dksX1_held_2 17 rfl rfl)
theorem dX1_held_67 : decode cX1_held 67 = .ok (.iload 5, 2) := dk_21 5 (dk_at dksX1_held_2 20 rfl rfl)
theorem dX1_held_69 : decode cX1_held 69 = .ok (.ireturn, 1) := dk_172 (dk_at dksX1_held_2 22 rfl rfl)
abbrev cX1_holds : ByteArray := prog_1_method_62_code
def yX1_holds : MethodName := ⟨RX1, "holds", "(II)Z"⟩
def dkwX1_holds_1 : List UInt8 := [29, 46, 28, 160, 0, 5, 4, 172, 132, 3, 1, 167, 255, 223, 3, 172]
abbrev dktX1_holds_1 : List UInt8 := dkwX1_holds_1 ++ []
def dkwX1_holds_0 : List UInt8 := [3, 62, 29, 42, 180, 1, 133, 162, 0, 31, 42, 180, 0, 70, 29, 46, 27, 160, 0, 15, 42, 180, 0, 73]
abbrev dktX1_holds_0 : List UInt8 := dkwX1_holds_0 ++ dktX1_holds_1
theorem dksX1_holds_0 : cX1_holds.data.toList.drop 0 = dktX1_holds_0 := by decide +kernel
theorem dksX1_holds_1 : cX1_holds.data.toList.drop 24 = dktX1_holds_1 := dk_seg dksX1_holds_0 24 rfl rfl
theorem dX1_holds_0 : decode cX1_holds 0 = .ok (.iconst 0, 1) := dk_3 (dk_at dksX1_holds_0 0 rfl rfl)
theorem dX1_holds_1 : decode cX1_holds 1 = .ok (.istore_n 3, 1) := dk_62 (dk_at dksX1_holds_0 1 rfl rfl)
theorem dX1_holds_2 : decode cX1_holds 2 = .ok (.iload_n 3, 1) := dk_29 (dk_at dksX1_holds_0 2 rfl rfl)
theorem dX1_holds_3 : decode cX1_holds 3 = .ok (.aload_n 0, 1) := dk_42 (dk_at dksX1_holds_0 3 rfl rfl)
theorem dX1_holds_4 : decode cX1_holds 4 = .ok (.getfield 389, 3) := dk_180 1 133 (dk_at dksX1_holds_0 4 rfl rfl)
theorem dX1_holds_7 : decode cX1_holds 7 = .ok (.if_icmp .ge 31, 3) := dk_162 0 31 (dk_at dksX1_holds_0 7 rfl rfl)
theorem dX1_holds_10 : decode cX1_holds 10 = .ok (.aload_n 0, 1) := dk_42 (dk_at dksX1_holds_0 10 rfl rfl)
theorem dX1_holds_11 : decode cX1_holds 11 = .ok (.getfield 70, 3) := dk_180 0 70 (dk_at dksX1_holds_0 11 rfl rfl)
theorem dX1_holds_14 : decode cX1_holds 14 = .ok (.iload_n 3, 1) := dk_29 (dk_at dksX1_holds_0 14 rfl rfl)
theorem dX1_holds_15 : decode cX1_holds 15 = .ok (.iaload, 1) := dk_46 (dk_at dksX1_holds_0 15 rfl rfl)
theorem dX1_holds_16 : decode cX1_holds 16 = .ok (.iload_n 1, 1) := dk_27 (dk_at dksX1_holds_0 16 rfl rfl)
theorem dX1_holds_17 : decode cX1_holds 17 = .ok (.if_icmp .ne 15, 3) := dk_160 0 15 (dk_at dksX1_holds_0 17 rfl rfl)
theorem dX1_holds_20 : decode cX1_holds 20 = .ok (.aload_n 0, 1) := dk_42 (dk_at dksX1_holds_0 20 rfl rfl)
theorem dX1_holds_21 : decode cX1_holds 21 = .ok (.getfield 73, 3) := dk_180 0 73 (dk_at dksX1_holds_0 21 rfl rfl)
theorem dX1_holds_24 : decode cX1_holds 24 = .ok (.iload_n 3, 1) := dk_29 (dk_at dksX1_holds_1 0 rfl rfl)
theorem dX1_holds_25 : decode cX1_holds 25 = .ok (.iaload, 1) := dk_46 (dk_at dksX1_holds_1 1 rfl rfl)
theorem dX1_holds_26 : decode cX1_holds 26 = .ok (.iload_n 2, 1) := dk_28 (dk_at dksX1_holds_1 2 rfl rfl)
theorem dX1_holds_27 : decode cX1_holds 27 = .ok (.if_icmp .ne 5, 3) := dk_160 0 5 (dk_at dksX1_holds_1 3 rfl rfl)
theorem dX1_holds_30 : decode cX1_holds 30 = .ok (.iconst 1, 1) := dk_4 (dk_at dksX1_holds_1 6 rfl rfl)
theorem dX1_holds_31 : decode cX1_holds 31 = .ok (.ireturn, 1) := dk_172 (dk_at dksX1_holds_1 7 rfl rfl)
theorem dX1_holds_32 : decode cX1_holds 32 = .ok (.iinc 3 1, 3) := dk_132 3 1 (dk_at dksX1_holds_1 8 rfl rfl)
theorem dX1_holds_35 : decode cX1_holds 35 = .ok (.goto (-33), 3) := dk_167 255 223 (dk_at dksX1_holds_1 11 rfl rfl)
theorem dX1_holds_38 : decode cX1_holds 38 = .ok (.iconst 0, 1) := dk_3 (dk_at dksX1_holds_1 14 rfl rfl)
theorem dX1_holds_39 : decode cX1_holds 39 = .ok (.ireturn, 1) := dk_172 (dk_at dksX1_holds_1 15 rfl rfl)
abbrev cX1_spell : ByteArray := prog_1_method_64_code
def yX1_spell : MethodName := ⟨RX1, "spell", "(I)I"⟩
def dkwX1_spell_2 : List UInt8 := [132, 4, 1, 167, 255, 236, 28, 21, 4, 184, 1, 139, 61, 132, 3, 1, 167, 255, 212, 28, 172]
abbrev dktX1_spell_2 : List UInt8 := dkwX1_spell_2 ++ []
def dkwX1_spell_1 : List UInt8 := [162, 0, 42, 3, 54, 4, 42, 42, 180, 0, 70, 29, 46, 21, 4, 96, 27, 182, 1, 136, 153, 0, 9]
abbrev dktX1_spell_1 : List UInt8 := dkwX1_spell_1 ++ dktX1_spell_2
def dkwX1_spell_0 : List UInt8 := [27, 133, 9, 20, 0, 157, 184, 0, 89, 154, 0, 5, 2, 172, 3, 61, 3, 62, 29, 42, 180, 1, 133]
abbrev dktX1_spell_0 : List UInt8 := dkwX1_spell_0 ++ dktX1_spell_1
theorem dksX1_spell_0 : cX1_spell.data.toList.drop 0 = dktX1_spell_0 := by decide +kernel
theorem dksX1_spell_1 : cX1_spell.data.toList.drop 23 = dktX1_spell_1 := dk_seg dksX1_spell_0 23 rfl rfl
theorem dksX1_spell_2 : cX1_spell.data.toList.drop 46 = dktX1_spell_2 := dk_seg dksX1_spell_1 23 rfl rfl
theorem dX1_spell_0 : decode cX1_spell 0 = .ok (.iload_n 1, 1) := dk_27 (dk_at dksX1_spell_0 0 rfl rfl)
theorem dX1_spell_1 : decode cX1_spell 1 = .ok (.i2l, 1) := dk_133 (dk_at dksX1_spell_0 1 rfl rfl)
theorem dX1_spell_2 : decode cX1_spell 2 = .ok (.lconst 0, 1) := dk_9 (dk_at dksX1_spell_0 2 rfl rfl)
theorem dX1_spell_3 : decode cX1_spell 3 = .ok (.ldc2_w 157, 3) := dk_20 0 157 (dk_at dksX1_spell_0 3 rfl rfl)
theorem dX1_spell_6 : decode cX1_spell 6 = .ok (.invokestatic 89, 3) := dk_184 0 89 (dk_at dksX1_spell_0 6 rfl rfl)
theorem dX1_spell_9 : decode cX1_spell 9 = .ok (.ifCond .ne 5, 3) := dk_154 0 5 (dk_at dksX1_spell_0 9 rfl rfl)
theorem dX1_spell_12 : decode cX1_spell 12 = .ok (.iconst (-1), 1) := dk_2 (dk_at dksX1_spell_0 12 rfl rfl)
theorem dX1_spell_13 : decode cX1_spell 13 = .ok (.ireturn, 1) := dk_172 (dk_at dksX1_spell_0 13 rfl rfl)
theorem dX1_spell_14 : decode cX1_spell 14 = .ok (.iconst 0, 1) := dk_3 (dk_at dksX1_spell_0 14 rfl rfl)
theorem dX1_spell_15 : decode cX1_spell 15 = .ok (.istore_n 2, 1) := dk_61 (dk_at dksX1_spell_0 15 rfl rfl)
theorem dX1_spell_16 : decode cX1_spell 16 = .ok (.iconst 0, 1) := dk_3 (dk_at dksX1_spell_0 16 rfl rfl)
theorem dX1_spell_17 : decode cX1_spell 17 = .ok (.istore_n 3, 1) := dk_62 (dk_at dksX1_spell_0 17 rfl rfl)
theorem dX1_spell_18 : decode cX1_spell 18 = .ok (.iload_n 3, 1) := dk_29 (dk_at dksX1_spell_0 18 rfl rfl)
theorem dX1_spell_19 : decode cX1_spell 19 = .ok (.aload_n 0, 1) := dk_42 (dk_at dksX1_spell_0 19 rfl rfl)
theorem dX1_spell_20 : decode cX1_spell 20 = .ok (.getfield 389, 3) := dk_180 1 133 (dk_at dksX1_spell_0 20 rfl rfl)
theorem dX1_spell_23 : decode cX1_spell 23 = .ok (.if_icmp .ge 42, 3) := dk_162 0 42 (dk_at dksX1_spell_1 0 rfl rfl)
theorem dX1_spell_26 : decode cX1_spell 26 = .ok (.iconst 0, 1) := dk_3 (dk_at dksX1_spell_1 3 rfl rfl)
theorem dX1_spell_27 : decode cX1_spell 27 = .ok (.istore 4, 2) := dk_54 4 (dk_at dksX1_spell_1 4 rfl rfl)
theorem dX1_spell_29 : decode cX1_spell 29 = .ok (.aload_n 0, 1) := dk_42 (dk_at dksX1_spell_1 6 rfl rfl)
theorem dX1_spell_30 : decode cX1_spell 30 = .ok (.aload_n 0, 1) := dk_42 (dk_at dksX1_spell_1 7 rfl rfl)
theorem dX1_spell_31 : decode cX1_spell 31 = .ok (.getfield 70, 3) := dk_180 0 70 (dk_at dksX1_spell_1 8 rfl rfl)
theorem dX1_spell_34 : decode cX1_spell 34 = .ok (.iload_n 3, 1) := dk_29 (dk_at dksX1_spell_1 11 rfl rfl)
theorem dX1_spell_35 : decode cX1_spell 35 = .ok (.iaload, 1) := dk_46 (dk_at dksX1_spell_1 12 rfl rfl)
theorem dX1_spell_36 : decode cX1_spell 36 = .ok (.iload 4, 2) := dk_21 4 (dk_at dksX1_spell_1 13 rfl rfl)
theorem dX1_spell_38 : decode cX1_spell 38 = .ok (.iadd, 1) := dk_96 (dk_at dksX1_spell_1 15 rfl rfl)
theorem dX1_spell_39 : decode cX1_spell 39 = .ok (.iload_n 1, 1) := dk_27 (dk_at dksX1_spell_1 16 rfl rfl)
theorem dX1_spell_40 : decode cX1_spell 40 = .ok (.invokevirtual 392, 3) := dk_182 1 136 (dk_at dksX1_spell_1 17 rfl rfl)
theorem dX1_spell_43 : decode cX1_spell 43 = .ok (.ifCond .eq 9, 3) := dk_153 0 9 (dk_at dksX1_spell_1 20 rfl rfl)
theorem dX1_spell_46 : decode cX1_spell 46 = .ok (.iinc 4 1, 3) := dk_132 4 1 (dk_at dksX1_spell_2 0 rfl rfl)
theorem dX1_spell_49 : decode cX1_spell 49 = .ok (.goto (-20), 3) := dk_167 255 236 (dk_at dksX1_spell_2 3 rfl rfl)
theorem dX1_spell_52 : decode cX1_spell 52 = .ok (.iload_n 2, 1) := dk_28 (dk_at dksX1_spell_2 6 rfl rfl)
theorem dX1_spell_53 : decode cX1_spell 53 = .ok (.iload 4, 2) := dk_21 4 (dk_at dksX1_spell_2 7 rfl rfl)
theorem dX1_spell_55 : decode cX1_spell 55 = .ok (.invokestatic 395, 3) := dk_184 1 139 (dk_at dksX1_spell_2 9 rfl rfl)
theorem dX1_spell_58 : decode cX1_spell 58 = .ok (.istore_n 2, 1) := dk_61 (dk_at dksX1_spell_2 12 rfl rfl)
theorem dX1_spell_59 : decode cX1_spell 59 = .ok (.iinc 3 1, 3) := dk_132 3 1 (dk_at dksX1_spell_2 13 rfl rfl)
theorem dX1_spell_62 : decode cX1_spell 62 = .ok (.goto (-44), 3) := dk_167 255 212 (dk_at dksX1_spell_2 16 rfl rfl)
theorem dX1_spell_65 : decode cX1_spell 65 = .ok (.iload_n 2, 1) := dk_28 (dk_at dksX1_spell_2 19 rfl rfl)
theorem dX1_spell_66 : decode cX1_spell 66 = .ok (.ireturn, 1) := dk_172 (dk_at dksX1_spell_2 20 rfl rfl)
abbrev cX1_row : ByteArray := prog_1_method_66_code
def yX1_row : MethodName := ⟨RX1, "row", "(III)I"⟩
def dkwX1_row_5 : List UInt8 := [182, 1, 142, 172]
abbrev dktX1_row_5 : List UInt8 := dkwX1_row_5 ++ []
def dkwX1_row_4 : List UInt8 := [160, 0, 8, 16, 8, 167, 0, 20, 42, 42, 180, 0, 31, 27, 50, 42, 180, 0, 27, 28, 50, 29]
abbrev dktX1_row_4 : List UInt8 := dkwX1_row_4 ++ dktX1_row_5
def dkwX1_row_3 : List UInt8 := [160, 0, 10, 21, 4, 4, 96, 167, 0, 4, 3, 54, 4, 132, 5, 1, 167, 255, 208, 21, 4, 6]
abbrev dktX1_row_3 : List UInt8 := dkwX1_row_3 ++ dktX1_row_4
def dkwX1_row_2 : List UInt8 := [6, 162, 0, 42, 42, 42, 180, 0, 31, 27, 50, 42, 180, 0, 27, 28, 50, 21, 5, 182, 1, 142, 16, 7]
abbrev dktX1_row_2 : List UInt8 := dkwX1_row_2 ++ dktX1_row_3
def dkwX1_row_1 : List UInt8 := [100, 133, 184, 0, 89, 154, 0, 5, 2, 172, 3, 54, 4, 3, 54, 5, 21, 5, 29, 162, 0, 48, 21, 4]
abbrev dktX1_row_1 : List UInt8 := dkwX1_row_1 ++ dktX1_row_2
def dkwX1_row_0 : List UInt8 := [42, 27, 182, 0, 184, 153, 0, 27, 42, 28, 182, 0, 136, 153, 0, 19, 29, 133, 9, 42, 180, 0, 124, 4]
abbrev dktX1_row_0 : List UInt8 := dkwX1_row_0 ++ dktX1_row_1
theorem dksX1_row_0 : cX1_row.data.toList.drop 0 = dktX1_row_0 := by decide +kernel
theorem dksX1_row_1 : cX1_row.data.toList.drop 24 = dktX1_row_1 := dk_seg dksX1_row_0 24 rfl rfl
theorem dksX1_row_2 : cX1_row.data.toList.drop 48 = dktX1_row_2 := dk_seg dksX1_row_1 24 rfl rfl
theorem dksX1_row_3 : cX1_row.data.toList.drop 72 = dktX1_row_3 := dk_seg dksX1_row_2 24 rfl rfl
theorem dksX1_row_4 : cX1_row.data.toList.drop 94 = dktX1_row_4 := dk_seg dksX1_row_3 22 rfl rfl
theorem dksX1_row_5 : cX1_row.data.toList.drop 116 = dktX1_row_5 := dk_seg dksX1_row_4 22 rfl rfl
theorem dX1_row_0 : decode cX1_row 0 = .ok (.aload_n 0, 1) := dk_42 (dk_at dksX1_row_0 0 rfl rfl)
theorem dX1_row_1 : decode cX1_row 1 = .ok (.iload_n 1, 1) := dk_27 (dk_at dksX1_row_0 1 rfl rfl)
theorem dX1_row_2 : decode cX1_row 2 = .ok (.invokevirtual 184, 3) := dk_182 0 184 (dk_at dksX1_row_0 2 rfl rfl)
theorem dX1_row_5 : decode cX1_row 5 = .ok (.ifCond .eq 27, 3) := dk_153 0 27 (dk_at dksX1_row_0 5 rfl rfl)
theorem dX1_row_8 : decode cX1_row 8 = .ok (.aload_n 0, 1) := dk_42 (dk_at dksX1_row_0 8 rfl rfl)
theorem dX1_row_9 : decode cX1_row 9 = .ok (.iload_n 2, 1) := dk_28 (dk_at dksX1_row_0 9 rfl rfl)
theorem dX1_row_10 : decode cX1_row 10 = .ok (.invokevirtual 136, 3) := dk_182 0 136 (dk_at dksX1_row_0 10 rfl rfl)
theorem dX1_row_13 : decode cX1_row 13 = .ok (.ifCond .eq 19, 3) := dk_153 0 19 (dk_at dksX1_row_0 13 rfl rfl)
theorem dX1_row_16 : decode cX1_row 16 = .ok (.iload_n 3, 1) := dk_29 (dk_at dksX1_row_0 16 rfl rfl)
theorem dX1_row_17 : decode cX1_row 17 = .ok (.i2l, 1) := dk_133 (dk_at dksX1_row_0 17 rfl rfl)
theorem dX1_row_18 : decode cX1_row 18 = .ok (.lconst 0, 1) := dk_9 (dk_at dksX1_row_0 18 rfl rfl)
theorem dX1_row_19 : decode cX1_row 19 = .ok (.aload_n 0, 1) := dk_42 (dk_at dksX1_row_0 19 rfl rfl)
theorem dX1_row_20 : decode cX1_row 20 = .ok (.getfield 124, 3) := dk_180 0 124 (dk_at dksX1_row_0 20 rfl rfl)
theorem dX1_row_23 : decode cX1_row 23 = .ok (.iconst 1, 1) := dk_4 (dk_at dksX1_row_0 23 rfl rfl)
theorem dX1_row_24 : decode cX1_row 24 = .ok (.isub, 1) := dk_100 (dk_at dksX1_row_1 0 rfl rfl)
theorem dX1_row_25 : decode cX1_row 25 = .ok (.i2l, 1) := dk_133 (dk_at dksX1_row_1 1 rfl rfl)
theorem dX1_row_26 : decode cX1_row 26 = .ok (.invokestatic 89, 3) := dk_184 0 89 (dk_at dksX1_row_1 2 rfl rfl)
theorem dX1_row_29 : decode cX1_row 29 = .ok (.ifCond .ne 5, 3) := dk_154 0 5 (dk_at dksX1_row_1 5 rfl rfl)
theorem dX1_row_32 : decode cX1_row 32 = .ok (.iconst (-1), 1) := dk_2 (dk_at dksX1_row_1 8 rfl rfl)
theorem dX1_row_33 : decode cX1_row 33 = .ok (.ireturn, 1) := dk_172 (dk_at dksX1_row_1 9 rfl rfl)
theorem dX1_row_34 : decode cX1_row 34 = .ok (.iconst 0, 1) := dk_3 (dk_at dksX1_row_1 10 rfl rfl)
theorem dX1_row_35 : decode cX1_row 35 = .ok (.istore 4, 2) := dk_54 4 (dk_at dksX1_row_1 11 rfl rfl)
theorem dX1_row_37 : decode cX1_row 37 = .ok (.iconst 0, 1) := dk_3 (dk_at dksX1_row_1 13 rfl rfl)
theorem dX1_row_38 : decode cX1_row 38 = .ok (.istore 5, 2) := dk_54 5 (dk_at dksX1_row_1 14 rfl rfl)
theorem dX1_row_40 : decode cX1_row 40 = .ok (.iload 5, 2) := dk_21 5 (dk_at dksX1_row_1 16 rfl rfl)
theorem dX1_row_42 : decode cX1_row 42 = .ok (.iload_n 3, 1) := dk_29 (dk_at dksX1_row_1 18 rfl rfl)
theorem dX1_row_43 : decode cX1_row 43 = .ok (.if_icmp .ge 48, 3) := dk_162 0 48 (dk_at dksX1_row_1 19 rfl rfl)
theorem dX1_row_46 : decode cX1_row 46 = .ok (.iload 4, 2) := dk_21 4 (dk_at dksX1_row_1 22 rfl rfl)
theorem dX1_row_48 : decode cX1_row 48 = .ok (.iconst 3, 1) := dk_6 (dk_at dksX1_row_2 0 rfl rfl)
theorem dX1_row_49 : decode cX1_row 49 = .ok (.if_icmp .ge 42, 3) := dk_162 0 42 (dk_at dksX1_row_2 1 rfl rfl)
theorem dX1_row_52 : decode cX1_row 52 = .ok (.aload_n 0, 1) := dk_42 (dk_at dksX1_row_2 4 rfl rfl)
theorem dX1_row_53 : decode cX1_row 53 = .ok (.aload_n 0, 1) := dk_42 (dk_at dksX1_row_2 5 rfl rfl)
theorem dX1_row_54 : decode cX1_row 54 = .ok (.getfield 31, 3) := dk_180 0 31 (dk_at dksX1_row_2 6 rfl rfl)
theorem dX1_row_57 : decode cX1_row 57 = .ok (.iload_n 1, 1) := dk_27 (dk_at dksX1_row_2 9 rfl rfl)
theorem dX1_row_58 : decode cX1_row 58 = .ok (.aaload, 1) := dk_50 (dk_at dksX1_row_2 10 rfl rfl)
theorem dX1_row_59 : decode cX1_row 59 = .ok (.aload_n 0, 1) := dk_42 (dk_at dksX1_row_2 11 rfl rfl)
theorem dX1_row_60 : decode cX1_row 60 = .ok (.getfield 27, 3) := dk_180 0 27 (dk_at dksX1_row_2 12 rfl rfl)
theorem dX1_row_63 : decode cX1_row 63 = .ok (.iload_n 2, 1) := dk_28 (dk_at dksX1_row_2 15 rfl rfl)
theorem dX1_row_64 : decode cX1_row 64 = .ok (.aaload, 1) := dk_50 (dk_at dksX1_row_2 16 rfl rfl)
theorem dX1_row_65 : decode cX1_row 65 = .ok (.iload 5, 2) := dk_21 5 (dk_at dksX1_row_2 17 rfl rfl)
theorem dX1_row_67 : decode cX1_row 67 = .ok (.invokevirtual 398, 3) := dk_182 1 142 (dk_at dksX1_row_2 19 rfl rfl)
theorem dX1_row_70 : decode cX1_row 70 = .ok (.bipush 7, 2) := dk_16 7 (dk_at dksX1_row_2 22 rfl rfl)
theorem dX1_row_72 : decode cX1_row 72 = .ok (.if_icmp .ne 10, 3) := dk_160 0 10 (dk_at dksX1_row_3 0 rfl rfl)
theorem dX1_row_75 : decode cX1_row 75 = .ok (.iload 4, 2) := dk_21 4 (dk_at dksX1_row_3 3 rfl rfl)
theorem dX1_row_77 : decode cX1_row 77 = .ok (.iconst 1, 1) := dk_4 (dk_at dksX1_row_3 5 rfl rfl)
theorem dX1_row_78 : decode cX1_row 78 = .ok (.iadd, 1) := dk_96 (dk_at dksX1_row_3 6 rfl rfl)
theorem dX1_row_79 : decode cX1_row 79 = .ok (.goto 4, 3) := dk_167 0 4 (dk_at dksX1_row_3 7 rfl rfl)
theorem dX1_row_82 : decode cX1_row 82 = .ok (.iconst 0, 1) := dk_3 (dk_at dksX1_row_3 10 rfl rfl)
theorem dX1_row_83 : decode cX1_row 83 = .ok (.istore 4, 2) := dk_54 4 (dk_at dksX1_row_3 11 rfl rfl)
theorem dX1_row_85 : decode cX1_row 85 = .ok (.iinc 5 1, 3) := dk_132 5 1 (dk_at dksX1_row_3 13 rfl rfl)
theorem dX1_row_88 : decode cX1_row 88 = .ok (.goto (-48), 3) := dk_167 255 208 (dk_at dksX1_row_3 16 rfl rfl)
theorem dX1_row_91 : decode cX1_row 91 = .ok (.iload 4, 2) := dk_21 4 (dk_at dksX1_row_3 19 rfl rfl)
theorem dX1_row_93 : decode cX1_row 93 = .ok (.iconst 3, 1) := dk_6 (dk_at dksX1_row_3 21 rfl rfl)
theorem dX1_row_94 : decode cX1_row 94 = .ok (.if_icmp .ne 8, 3) := dk_160 0 8 (dk_at dksX1_row_4 0 rfl rfl)
theorem dX1_row_97 : decode cX1_row 97 = .ok (.bipush 8, 2) := dk_16 8 (dk_at dksX1_row_4 3 rfl rfl)
theorem dX1_row_99 : decode cX1_row 99 = .ok (.goto 20, 3) := dk_167 0 20 (dk_at dksX1_row_4 5 rfl rfl)
theorem dX1_row_102 : decode cX1_row 102 = .ok (.aload_n 0, 1) := dk_42 (dk_at dksX1_row_4 8 rfl rfl)
theorem dX1_row_103 : decode cX1_row 103 = .ok (.aload_n 0, 1) := dk_42 (dk_at dksX1_row_4 9 rfl rfl)
theorem dX1_row_104 : decode cX1_row 104 = .ok (.getfield 31, 3) := dk_180 0 31 (dk_at dksX1_row_4 10 rfl rfl)
theorem dX1_row_107 : decode cX1_row 107 = .ok (.iload_n 1, 1) := dk_27 (dk_at dksX1_row_4 13 rfl rfl)
theorem dX1_row_108 : decode cX1_row 108 = .ok (.aaload, 1) := dk_50 (dk_at dksX1_row_4 14 rfl rfl)
theorem dX1_row_109 : decode cX1_row 109 = .ok (.aload_n 0, 1) := dk_42 (dk_at dksX1_row_4 15 rfl rfl)
theorem dX1_row_110 : decode cX1_row 110 = .ok (.getfield 27, 3) := dk_180 0 27 (dk_at dksX1_row_4 16 rfl rfl)
theorem dX1_row_113 : decode cX1_row 113 = .ok (.iload_n 2, 1) := dk_28 (dk_at dksX1_row_4 19 rfl rfl)
theorem dX1_row_114 : decode cX1_row 114 = .ok (.aaload, 1) := dk_50 (dk_at dksX1_row_4 20 rfl rfl)
theorem dX1_row_115 : decode cX1_row 115 = .ok (.iload_n 3, 1) := dk_29 (dk_at dksX1_row_4 21 rfl rfl)
theorem dX1_row_116 : decode cX1_row 116 = .ok (.invokevirtual 398, 3) := dk_182 1 142 (dk_at dksX1_row_5 0 rfl rfl)
theorem dX1_row_119 : decode cX1_row 119 = .ok (.ireturn, 1) := dk_172 (dk_at dksX1_row_5 3 rfl rfl)
abbrev cX1_answerTo : ByteArray := prog_1_method_65_code
def yX1_answerTo : MethodName := ⟨RX1, "answerTo", "(LDayBoy$Head;LDayBoy$Almanac;I)I"⟩
def dkwX1_answerTo_3 : List UInt8 := [21, 5, 21, 6, 184, 0, 226, 167, 0, 5, 16, 7, 172]
abbrev dktX1_answerTo_3 : List UInt8 := dkwX1_answerTo_3 ++ []
def dkwX1_answerTo_2 : List UInt8 := [182, 0, 140, 153, 0, 30, 42, 43, 44, 21, 4, 21, 5, 182, 0, 187, 153, 0, 17, 43, 44, 21, 4]
abbrev dktX1_answerTo_2 : List UInt8 := dkwX1_answerTo_2 ++ dktX1_answerTo_3
def dkwX1_answerTo_1 : List UInt8 := [180, 0, 39, 6, 29, 104, 5, 96, 46, 54, 6, 21, 4, 2, 159, 0, 43, 44, 21, 4, 21, 5, 21, 6]
abbrev dktX1_answerTo_1 : List UInt8 := dkwX1_answerTo_1 ++ dktX1_answerTo_2
def dkwX1_answerTo_0 : List UInt8 := [42, 180, 0, 39, 6, 29, 104, 46, 54, 4, 42, 180, 0, 39, 6, 29, 104, 4, 96, 46, 54, 5, 42]
abbrev dktX1_answerTo_0 : List UInt8 := dkwX1_answerTo_0 ++ dktX1_answerTo_1
theorem dksX1_answerTo_0 : cX1_answerTo.data.toList.drop 0 = dktX1_answerTo_0 := by decide +kernel
theorem dksX1_answerTo_1 : cX1_answerTo.data.toList.drop 23 = dktX1_answerTo_1 := dk_seg dksX1_answerTo_0 23 rfl rfl
theorem dksX1_answerTo_2 : cX1_answerTo.data.toList.drop 47 = dktX1_answerTo_2 := dk_seg dksX1_answerTo_1 24 rfl rfl
theorem dksX1_answerTo_3 : cX1_answerTo.data.toList.drop 70 = dktX1_answerTo_3 := dk_seg dksX1_answerTo_2 23 rfl rfl
theorem dX1_answerTo_0 : decode cX1_answerTo 0 = .ok (.aload_n 0, 1) := dk_42 (dk_at dksX1_answerTo_0 0 rfl rfl)
theorem dX1_answerTo_1 : decode cX1_answerTo 1 = .ok (.getfield 39, 3) := dk_180 0 39 (dk_at dksX1_answerTo_0 1 rfl rfl)
theorem dX1_answerTo_4 : decode cX1_answerTo 4 = .ok (.iconst 3, 1) := dk_6 (dk_at dksX1_answerTo_0 4 rfl rfl)
theorem dX1_answerTo_5 : decode cX1_answerTo 5 = .ok (.iload_n 3, 1) := dk_29 (dk_at dksX1_answerTo_0 5 rfl rfl)
theorem dX1_answerTo_6 : decode cX1_answerTo 6 = .ok (.imul, 1) := dk_104 (dk_at dksX1_answerTo_0 6 rfl rfl)
theorem dX1_answerTo_7 : decode cX1_answerTo 7 = .ok (.iaload, 1) := dk_46 (dk_at dksX1_answerTo_0 7 rfl rfl)
theorem dX1_answerTo_8 : decode cX1_answerTo 8 = .ok (.istore 4, 2) := dk_54 4 (dk_at dksX1_answerTo_0 8 rfl rfl)
theorem dX1_answerTo_10 : decode cX1_answerTo 10 = .ok (.aload_n 0, 1) := dk_42 (dk_at dksX1_answerTo_0 10 rfl rfl)
theorem dX1_answerTo_11 : decode cX1_answerTo 11 = .ok (.getfield 39, 3) := dk_180 0 39 (dk_at dksX1_answerTo_0 11 rfl rfl)
theorem dX1_answerTo_14 : decode cX1_answerTo 14 = .ok (.iconst 3, 1) := dk_6 (dk_at dksX1_answerTo_0 14 rfl rfl)
theorem dX1_answerTo_15 : decode cX1_answerTo 15 = .ok (.iload_n 3, 1) := dk_29 (dk_at dksX1_answerTo_0 15 rfl rfl)
theorem dX1_answerTo_16 : decode cX1_answerTo 16 = .ok (.imul, 1) := dk_104 (dk_at dksX1_answerTo_0 16 rfl rfl)
theorem dX1_answerTo_17 : decode cX1_answerTo 17 = .ok (.iconst 1, 1) := dk_4 (dk_at dksX1_answerTo_0 17 rfl rfl)
theorem dX1_answerTo_18 : decode cX1_answerTo 18 = .ok (.iadd, 1) := dk_96 (dk_at dksX1_answerTo_0 18 rfl rfl)
theorem dX1_answerTo_19 : decode cX1_answerTo 19 = .ok (.iaload, 1) := dk_46 (dk_at dksX1_answerTo_0 19 rfl rfl)
theorem dX1_answerTo_20 : decode cX1_answerTo 20 = .ok (.istore 5, 2) := dk_54 5 (dk_at dksX1_answerTo_0 20 rfl rfl)
theorem dX1_answerTo_22 : decode cX1_answerTo 22 = .ok (.aload_n 0, 1) := dk_42 (dk_at dksX1_answerTo_0 22 rfl rfl)
theorem dX1_answerTo_23 : decode cX1_answerTo 23 = .ok (.getfield 39, 3) := dk_180 0 39 (dk_at dksX1_answerTo_1 0 rfl rfl)
theorem dX1_answerTo_26 : decode cX1_answerTo 26 = .ok (.iconst 3, 1) := dk_6 (dk_at dksX1_answerTo_1 3 rfl rfl)
theorem dX1_answerTo_27 : decode cX1_answerTo 27 = .ok (.iload_n 3, 1) := dk_29 (dk_at dksX1_answerTo_1 4 rfl rfl)
theorem dX1_answerTo_28 : decode cX1_answerTo 28 = .ok (.imul, 1) := dk_104 (dk_at dksX1_answerTo_1 5 rfl rfl)
theorem dX1_answerTo_29 : decode cX1_answerTo 29 = .ok (.iconst 2, 1) := dk_5 (dk_at dksX1_answerTo_1 6 rfl rfl)
theorem dX1_answerTo_30 : decode cX1_answerTo 30 = .ok (.iadd, 1) := dk_96 (dk_at dksX1_answerTo_1 7 rfl rfl)
theorem dX1_answerTo_31 : decode cX1_answerTo 31 = .ok (.iaload, 1) := dk_46 (dk_at dksX1_answerTo_1 8 rfl rfl)
theorem dX1_answerTo_32 : decode cX1_answerTo 32 = .ok (.istore 6, 2) := dk_54 6 (dk_at dksX1_answerTo_1 9 rfl rfl)
theorem dX1_answerTo_34 : decode cX1_answerTo 34 = .ok (.iload 4, 2) := dk_21 4 (dk_at dksX1_answerTo_1 11 rfl rfl)
theorem dX1_answerTo_36 : decode cX1_answerTo 36 = .ok (.iconst (-1), 1) := dk_2 (dk_at dksX1_answerTo_1 13 rfl rfl)
theorem dX1_answerTo_37 : decode cX1_answerTo 37 = .ok (.if_icmp .eq 43, 3) := dk_159 0 43 (dk_at dksX1_answerTo_1 14 rfl rfl)
theorem dX1_answerTo_40 : decode cX1_answerTo 40 = .ok (.aload_n 2, 1) := dk_44 (dk_at dksX1_answerTo_1 17 rfl rfl)
theorem dX1_answerTo_41 : decode cX1_answerTo 41 = .ok (.iload 4, 2) := dk_21 4 (dk_at dksX1_answerTo_1 18 rfl rfl)
theorem dX1_answerTo_43 : decode cX1_answerTo 43 = .ok (.iload 5, 2) := dk_21 5 (dk_at dksX1_answerTo_1 20 rfl rfl)
theorem dX1_answerTo_45 : decode cX1_answerTo 45 = .ok (.iload 6, 2) := dk_21 6 (dk_at dksX1_answerTo_1 22 rfl rfl)
theorem dX1_answerTo_47 : decode cX1_answerTo 47 = .ok (.invokevirtual 140, 3) := dk_182 0 140 (dk_at dksX1_answerTo_2 0 rfl rfl)
theorem dX1_answerTo_50 : decode cX1_answerTo 50 = .ok (.ifCond .eq 30, 3) := dk_153 0 30 (dk_at dksX1_answerTo_2 3 rfl rfl)
theorem dX1_answerTo_53 : decode cX1_answerTo 53 = .ok (.aload_n 0, 1) := dk_42 (dk_at dksX1_answerTo_2 6 rfl rfl)
theorem dX1_answerTo_54 : decode cX1_answerTo 54 = .ok (.aload_n 1, 1) := dk_43 (dk_at dksX1_answerTo_2 7 rfl rfl)
theorem dX1_answerTo_55 : decode cX1_answerTo 55 = .ok (.aload_n 2, 1) := dk_44 (dk_at dksX1_answerTo_2 8 rfl rfl)
theorem dX1_answerTo_56 : decode cX1_answerTo 56 = .ok (.iload 4, 2) := dk_21 4 (dk_at dksX1_answerTo_2 9 rfl rfl)
theorem dX1_answerTo_58 : decode cX1_answerTo 58 = .ok (.iload 5, 2) := dk_21 5 (dk_at dksX1_answerTo_2 11 rfl rfl)
theorem dX1_answerTo_60 : decode cX1_answerTo 60 = .ok (.invokevirtual 187, 3) := dk_182 0 187 (dk_at dksX1_answerTo_2 13 rfl rfl)
theorem dX1_answerTo_63 : decode cX1_answerTo 63 = .ok (.ifCond .eq 17, 3) := dk_153 0 17 (dk_at dksX1_answerTo_2 16 rfl rfl)
theorem dX1_answerTo_66 : decode cX1_answerTo 66 = .ok (.aload_n 1, 1) := dk_43 (dk_at dksX1_answerTo_2 19 rfl rfl)
theorem dX1_answerTo_67 : decode cX1_answerTo 67 = .ok (.aload_n 2, 1) := dk_44 (dk_at dksX1_answerTo_2 20 rfl rfl)
theorem dX1_answerTo_68 : decode cX1_answerTo 68 = .ok (.iload 4, 2) := dk_21 4 (dk_at dksX1_answerTo_2 21 rfl rfl)
theorem dX1_answerTo_70 : decode cX1_answerTo 70 = .ok (.iload 5, 2) := dk_21 5 (dk_at dksX1_answerTo_3 0 rfl rfl)
theorem dX1_answerTo_72 : decode cX1_answerTo 72 = .ok (.iload 6, 2) := dk_21 6 (dk_at dksX1_answerTo_3 2 rfl rfl)
theorem dX1_answerTo_74 : decode cX1_answerTo 74 = .ok (.invokestatic 226, 3) := dk_184 0 226 (dk_at dksX1_answerTo_3 4 rfl rfl)
theorem dX1_answerTo_77 : decode cX1_answerTo 77 = .ok (.goto 5, 3) := dk_167 0 5 (dk_at dksX1_answerTo_3 7 rfl rfl)
theorem dX1_answerTo_80 : decode cX1_answerTo 80 = .ok (.bipush 7, 2) := dk_16 7 (dk_at dksX1_answerTo_3 10 rfl rfl)
theorem dX1_answerTo_82 : decode cX1_answerTo 82 = .ok (.ireturn, 1) := dk_172 (dk_at dksX1_answerTo_3 12 rfl rfl)
abbrev cX1_run : ByteArray := prog_1_method_69_code
def yX1_run : MethodName := ⟨RX1, "run", "(IJIII)I"⟩
def dkwX1_run_8 : List UInt8 := [21, 10, 172]
abbrev dktX1_run_8 : List UInt8 := dkwX1_run_8 ++ []
def dkwX1_run_7 : List UInt8 := [160, 0, 6, 21, 12, 172, 21, 10, 3, 21, 12, 184, 1, 139, 96, 54, 10, 132, 11, 1, 167, 255, 149]
abbrev dktX1_run_7 : List UInt8 := dkwX1_run_7 ++ dktX1_run_8
def dkwX1_run_6 : List UInt8 := [22, 8, 16, 33, 125, 21, 4, 4, 96, 133, 113, 136, 21, 5, 182, 1, 155, 54, 12, 21, 11, 21, 6]
abbrev dktX1_run_6 : List UInt8 := dkwX1_run_6 ++ dktX1_run_7
def dkwX1_run_5 : List UInt8 := [182, 0, 187, 153, 0, 39, 22, 8, 20, 1, 151, 105, 20, 1, 153, 97, 55, 8, 42, 25, 7, 21, 11]
abbrev dktX1_run_5 : List UInt8 := dkwX1_run_5 ++ dktX1_run_6
def dkwX1_run_4 : List UInt8 := [42, 180, 0, 52, 21, 11, 46, 50, 42, 180, 0, 55, 21, 11, 46, 42, 180, 0, 58, 21, 11, 46]
abbrev dktX1_run_4 : List UInt8 := dkwX1_run_4 ++ dktX1_run_5
def dkwX1_run_3 : List UInt8 := [54, 10, 3, 54, 11, 21, 11, 42, 180, 1, 64, 162, 0, 104, 2, 54, 12, 42, 25, 7, 42, 180, 0, 27]
abbrev dktX1_run_3 : List UInt8 := dkwX1_run_3 ++ dktX1_run_4
def dkwX1_run_2 : List UInt8 := [4, 100, 133, 184, 0, 89, 154, 0, 5, 2, 172, 42, 180, 0, 31, 27, 50, 58, 7, 32, 55, 8, 3]
abbrev dktX1_run_2 : List UInt8 := dkwX1_run_2 ++ dktX1_run_3
def dkwX1_run_1 : List UInt8 := [9, 20, 1, 149, 184, 0, 89, 153, 0, 26, 21, 6, 2, 159, 0, 22, 21, 6, 133, 9, 42, 180, 1, 64]
abbrev dktX1_run_1 : List UInt8 := dkwX1_run_1 ++ dktX1_run_2
def dkwX1_run_0 : List UInt8 := [42, 27, 182, 0, 184, 153, 0, 52, 21, 4, 133, 9, 20, 1, 149, 184, 0, 89, 153, 0, 39, 21, 5, 133]
abbrev dktX1_run_0 : List UInt8 := dkwX1_run_0 ++ dktX1_run_1
theorem dksX1_run_0 : cX1_run.data.toList.drop 0 = dktX1_run_0 := by decide +kernel
theorem dksX1_run_1 : cX1_run.data.toList.drop 24 = dktX1_run_1 := dk_seg dksX1_run_0 24 rfl rfl
theorem dksX1_run_2 : cX1_run.data.toList.drop 48 = dktX1_run_2 := dk_seg dksX1_run_1 24 rfl rfl
theorem dksX1_run_3 : cX1_run.data.toList.drop 71 = dktX1_run_3 := dk_seg dksX1_run_2 23 rfl rfl
theorem dksX1_run_4 : cX1_run.data.toList.drop 95 = dktX1_run_4 := dk_seg dksX1_run_3 24 rfl rfl
theorem dksX1_run_5 : cX1_run.data.toList.drop 117 = dktX1_run_5 := dk_seg dksX1_run_4 22 rfl rfl
theorem dksX1_run_6 : cX1_run.data.toList.drop 140 = dktX1_run_6 := dk_seg dksX1_run_5 23 rfl rfl
theorem dksX1_run_7 : cX1_run.data.toList.drop 163 = dktX1_run_7 := dk_seg dksX1_run_6 23 rfl rfl
theorem dksX1_run_8 : cX1_run.data.toList.drop 186 = dktX1_run_8 := dk_seg dksX1_run_7 23 rfl rfl
theorem dX1_run_0 : decode cX1_run 0 = .ok (.aload_n 0, 1) := dk_42 (dk_at dksX1_run_0 0 rfl rfl)
theorem dX1_run_1 : decode cX1_run 1 = .ok (.iload_n 1, 1) := dk_27 (dk_at dksX1_run_0 1 rfl rfl)
theorem dX1_run_2 : decode cX1_run 2 = .ok (.invokevirtual 184, 3) := dk_182 0 184 (dk_at dksX1_run_0 2 rfl rfl)
theorem dX1_run_5 : decode cX1_run 5 = .ok (.ifCond .eq 52, 3) := dk_153 0 52 (dk_at dksX1_run_0 5 rfl rfl)
theorem dX1_run_8 : decode cX1_run 8 = .ok (.iload 4, 2) := dk_21 4 (dk_at dksX1_run_0 8 rfl rfl)
theorem dX1_run_10 : decode cX1_run 10 = .ok (.i2l, 1) := dk_133 (dk_at dksX1_run_0 10 rfl rfl)
theorem dX1_run_11 : decode cX1_run 11 = .ok (.lconst 0, 1) := dk_9 (dk_at dksX1_run_0 11 rfl rfl)
theorem dX1_run_12 : decode cX1_run 12 = .ok (.ldc2_w 405, 3) := dk_20 1 149 (dk_at dksX1_run_0 12 rfl rfl)
theorem dX1_run_15 : decode cX1_run 15 = .ok (.invokestatic 89, 3) := dk_184 0 89 (dk_at dksX1_run_0 15 rfl rfl)
theorem dX1_run_18 : decode cX1_run 18 = .ok (.ifCond .eq 39, 3) := dk_153 0 39 (dk_at dksX1_run_0 18 rfl rfl)
theorem dX1_run_21 : decode cX1_run 21 = .ok (.iload 5, 2) := dk_21 5 (dk_at dksX1_run_0 21 rfl rfl)
theorem dX1_run_23 : decode cX1_run 23 = .ok (.i2l, 1) := dk_133 (dk_at dksX1_run_0 23 rfl rfl)
theorem dX1_run_24 : decode cX1_run 24 = .ok (.lconst 0, 1) := dk_9 (dk_at dksX1_run_1 0 rfl rfl)
theorem dX1_run_25 : decode cX1_run 25 = .ok (.ldc2_w 405, 3) := dk_20 1 149 (dk_at dksX1_run_1 1 rfl rfl)
theorem dX1_run_28 : decode cX1_run 28 = .ok (.invokestatic 89, 3) := dk_184 0 89 (dk_at dksX1_run_1 4 rfl rfl)
theorem dX1_run_31 : decode cX1_run 31 = .ok (.ifCond .eq 26, 3) := dk_153 0 26 (dk_at dksX1_run_1 7 rfl rfl)
theorem dX1_run_34 : decode cX1_run 34 = .ok (.iload 6, 2) := dk_21 6 (dk_at dksX1_run_1 10 rfl rfl)
theorem dX1_run_36 : decode cX1_run 36 = .ok (.iconst (-1), 1) := dk_2 (dk_at dksX1_run_1 12 rfl rfl)
theorem dX1_run_37 : decode cX1_run 37 = .ok (.if_icmp .eq 22, 3) := dk_159 0 22 (dk_at dksX1_run_1 13 rfl rfl)
theorem dX1_run_40 : decode cX1_run 40 = .ok (.iload 6, 2) := dk_21 6 (dk_at dksX1_run_1 16 rfl rfl)
theorem dX1_run_42 : decode cX1_run 42 = .ok (.i2l, 1) := dk_133 (dk_at dksX1_run_1 18 rfl rfl)
theorem dX1_run_43 : decode cX1_run 43 = .ok (.lconst 0, 1) := dk_9 (dk_at dksX1_run_1 19 rfl rfl)
theorem dX1_run_44 : decode cX1_run 44 = .ok (.aload_n 0, 1) := dk_42 (dk_at dksX1_run_1 20 rfl rfl)
theorem dX1_run_45 : decode cX1_run 45 = .ok (.getfield 320, 3) := dk_180 1 64 (dk_at dksX1_run_1 21 rfl rfl)
theorem dX1_run_48 : decode cX1_run 48 = .ok (.iconst 1, 1) := dk_4 (dk_at dksX1_run_2 0 rfl rfl)
theorem dX1_run_49 : decode cX1_run 49 = .ok (.isub, 1) := dk_100 (dk_at dksX1_run_2 1 rfl rfl)
theorem dX1_run_50 : decode cX1_run 50 = .ok (.i2l, 1) := dk_133 (dk_at dksX1_run_2 2 rfl rfl)
theorem dX1_run_51 : decode cX1_run 51 = .ok (.invokestatic 89, 3) := dk_184 0 89 (dk_at dksX1_run_2 3 rfl rfl)
theorem dX1_run_54 : decode cX1_run 54 = .ok (.ifCond .ne 5, 3) := dk_154 0 5 (dk_at dksX1_run_2 6 rfl rfl)
theorem dX1_run_57 : decode cX1_run 57 = .ok (.iconst (-1), 1) := dk_2 (dk_at dksX1_run_2 9 rfl rfl)
theorem dX1_run_58 : decode cX1_run 58 = .ok (.ireturn, 1) := dk_172 (dk_at dksX1_run_2 10 rfl rfl)
theorem dX1_run_59 : decode cX1_run 59 = .ok (.aload_n 0, 1) := dk_42 (dk_at dksX1_run_2 11 rfl rfl)
theorem dX1_run_60 : decode cX1_run 60 = .ok (.getfield 31, 3) := dk_180 0 31 (dk_at dksX1_run_2 12 rfl rfl)
theorem dX1_run_63 : decode cX1_run 63 = .ok (.iload_n 1, 1) := dk_27 (dk_at dksX1_run_2 15 rfl rfl)
theorem dX1_run_64 : decode cX1_run 64 = .ok (.aaload, 1) := dk_50 (dk_at dksX1_run_2 16 rfl rfl)
theorem dX1_run_65 : decode cX1_run 65 = .ok (.astore 7, 2) := dk_58 7 (dk_at dksX1_run_2 17 rfl rfl)
theorem dX1_run_67 : decode cX1_run 67 = .ok (.lload_n 2, 1) := dk_32 (dk_at dksX1_run_2 19 rfl rfl)
theorem dX1_run_68 : decode cX1_run 68 = .ok (.lstore 8, 2) := dk_55 8 (dk_at dksX1_run_2 20 rfl rfl)
theorem dX1_run_70 : decode cX1_run 70 = .ok (.iconst 0, 1) := dk_3 (dk_at dksX1_run_2 22 rfl rfl)
theorem dX1_run_71 : decode cX1_run 71 = .ok (.istore 10, 2) := dk_54 10 (dk_at dksX1_run_3 0 rfl rfl)
theorem dX1_run_73 : decode cX1_run 73 = .ok (.iconst 0, 1) := dk_3 (dk_at dksX1_run_3 2 rfl rfl)
theorem dX1_run_74 : decode cX1_run 74 = .ok (.istore 11, 2) := dk_54 11 (dk_at dksX1_run_3 3 rfl rfl)
theorem dX1_run_76 : decode cX1_run 76 = .ok (.iload 11, 2) := dk_21 11 (dk_at dksX1_run_3 5 rfl rfl)
theorem dX1_run_78 : decode cX1_run 78 = .ok (.aload_n 0, 1) := dk_42 (dk_at dksX1_run_3 7 rfl rfl)
theorem dX1_run_79 : decode cX1_run 79 = .ok (.getfield 320, 3) := dk_180 1 64 (dk_at dksX1_run_3 8 rfl rfl)
theorem dX1_run_82 : decode cX1_run 82 = .ok (.if_icmp .ge 104, 3) := dk_162 0 104 (dk_at dksX1_run_3 11 rfl rfl)
theorem dX1_run_85 : decode cX1_run 85 = .ok (.iconst (-1), 1) := dk_2 (dk_at dksX1_run_3 14 rfl rfl)
theorem dX1_run_86 : decode cX1_run 86 = .ok (.istore 12, 2) := dk_54 12 (dk_at dksX1_run_3 15 rfl rfl)
theorem dX1_run_88 : decode cX1_run 88 = .ok (.aload_n 0, 1) := dk_42 (dk_at dksX1_run_3 17 rfl rfl)
theorem dX1_run_89 : decode cX1_run 89 = .ok (.aload 7, 2) := dk_25 7 (dk_at dksX1_run_3 18 rfl rfl)
theorem dX1_run_91 : decode cX1_run 91 = .ok (.aload_n 0, 1) := dk_42 (dk_at dksX1_run_3 20 rfl rfl)
theorem dX1_run_92 : decode cX1_run 92 = .ok (.getfield 27, 3) := dk_180 0 27 (dk_at dksX1_run_3 21 rfl rfl)
theorem dX1_run_95 : decode cX1_run 95 = .ok (.aload_n 0, 1) := dk_42 (dk_at dksX1_run_4 0 rfl rfl)
theorem dX1_run_96 : decode cX1_run 96 = .ok (.getfield 52, 3) := dk_180 0 52 (dk_at dksX1_run_4 1 rfl rfl)
theorem dX1_run_99 : decode cX1_run 99 = .ok (.iload 11, 2) := dk_21 11 (dk_at dksX1_run_4 4 rfl rfl)
theorem dX1_run_101 : decode cX1_run 101 = .ok (.iaload, 1) := dk_46 (dk_at dksX1_run_4 6 rfl rfl)
theorem dX1_run_102 : decode cX1_run 102 = .ok (.aaload, 1) := dk_50 (dk_at dksX1_run_4 7 rfl rfl)
theorem dX1_run_103 : decode cX1_run 103 = .ok (.aload_n 0, 1) := dk_42 (dk_at dksX1_run_4 8 rfl rfl)
theorem dX1_run_104 : decode cX1_run 104 = .ok (.getfield 55, 3) := dk_180 0 55 (dk_at dksX1_run_4 9 rfl rfl)
theorem dX1_run_107 : decode cX1_run 107 = .ok (.iload 11, 2) := dk_21 11 (dk_at dksX1_run_4 12 rfl rfl)
theorem dX1_run_109 : decode cX1_run 109 = .ok (.iaload, 1) := dk_46 (dk_at dksX1_run_4 14 rfl rfl)
theorem dX1_run_110 : decode cX1_run 110 = .ok (.aload_n 0, 1) := dk_42 (dk_at dksX1_run_4 15 rfl rfl)
theorem dX1_run_111 : decode cX1_run 111 = .ok (.getfield 58, 3) := dk_180 0 58 (dk_at dksX1_run_4 16 rfl rfl)
theorem dX1_run_114 : decode cX1_run 114 = .ok (.iload 11, 2) := dk_21 11 (dk_at dksX1_run_4 19 rfl rfl)
theorem dX1_run_116 : decode cX1_run 116 = .ok (.iaload, 1) := dk_46 (dk_at dksX1_run_4 21 rfl rfl)
theorem dX1_run_117 : decode cX1_run 117 = .ok (.invokevirtual 187, 3) := dk_182 0 187 (dk_at dksX1_run_5 0 rfl rfl)
theorem dX1_run_120 : decode cX1_run 120 = .ok (.ifCond .eq 39, 3) := dk_153 0 39 (dk_at dksX1_run_5 3 rfl rfl)
theorem dX1_run_123 : decode cX1_run 123 = .ok (.lload 8, 2) := dk_22 8 (dk_at dksX1_run_5 6 rfl rfl)
theorem dX1_run_125 : decode cX1_run 125 = .ok (.ldc2_w 407, 3) := dk_20 1 151 (dk_at dksX1_run_5 8 rfl rfl)
theorem dX1_run_128 : decode cX1_run 128 = .ok (.lmul, 1) := dk_105 (dk_at dksX1_run_5 11 rfl rfl)
theorem dX1_run_129 : decode cX1_run 129 = .ok (.ldc2_w 409, 3) := dk_20 1 153 (dk_at dksX1_run_5 12 rfl rfl)
theorem dX1_run_132 : decode cX1_run 132 = .ok (.ladd, 1) := dk_97 (dk_at dksX1_run_5 15 rfl rfl)
theorem dX1_run_133 : decode cX1_run 133 = .ok (.lstore 8, 2) := dk_55 8 (dk_at dksX1_run_5 16 rfl rfl)
theorem dX1_run_135 : decode cX1_run 135 = .ok (.aload_n 0, 1) := dk_42 (dk_at dksX1_run_5 18 rfl rfl)
theorem dX1_run_136 : decode cX1_run 136 = .ok (.aload 7, 2) := dk_25 7 (dk_at dksX1_run_5 19 rfl rfl)
theorem dX1_run_138 : decode cX1_run 138 = .ok (.iload 11, 2) := dk_21 11 (dk_at dksX1_run_5 21 rfl rfl)
theorem dX1_run_140 : decode cX1_run 140 = .ok (.lload 8, 2) := dk_22 8 (dk_at dksX1_run_6 0 rfl rfl)
theorem dX1_run_142 : decode cX1_run 142 = .ok (.bipush 33, 2) := dk_16 33 (dk_at dksX1_run_6 2 rfl rfl)
theorem dX1_run_144 : decode cX1_run 144 = .ok (.lushr, 1) := dk_125 (dk_at dksX1_run_6 4 rfl rfl)
theorem dX1_run_145 : decode cX1_run 145 = .ok (.iload 4, 2) := dk_21 4 (dk_at dksX1_run_6 5 rfl rfl)
theorem dX1_run_147 : decode cX1_run 147 = .ok (.iconst 1, 1) := dk_4 (dk_at dksX1_run_6 7 rfl rfl)
theorem dX1_run_148 : decode cX1_run 148 = .ok (.iadd, 1) := dk_96 (dk_at dksX1_run_6 8 rfl rfl)
theorem dX1_run_149 : decode cX1_run 149 = .ok (.i2l, 1) := dk_133 (dk_at dksX1_run_6 9 rfl rfl)
theorem dX1_run_150 : decode cX1_run 150 = .ok (.lrem, 1) := dk_113 (dk_at dksX1_run_6 10 rfl rfl)
theorem dX1_run_151 : decode cX1_run 151 = .ok (.l2i, 1) := dk_136 (dk_at dksX1_run_6 11 rfl rfl)
theorem dX1_run_152 : decode cX1_run 152 = .ok (.iload 5, 2) := dk_21 5 (dk_at dksX1_run_6 12 rfl rfl)
theorem dX1_run_154 : decode cX1_run 154 = .ok (.invokevirtual 411, 3) := dk_182 1 155 (dk_at dksX1_run_6 14 rfl rfl)
theorem dX1_run_157 : decode cX1_run 157 = .ok (.istore 12, 2) := dk_54 12 (dk_at dksX1_run_6 17 rfl rfl)
theorem dX1_run_159 : decode cX1_run 159 = .ok (.iload 11, 2) := dk_21 11 (dk_at dksX1_run_6 19 rfl rfl)
theorem dX1_run_161 : decode cX1_run 161 = .ok (.iload 6, 2) := dk_21 6 (dk_at dksX1_run_6 21 rfl rfl)
theorem dX1_run_163 : decode cX1_run 163 = .ok (.if_icmp .ne 6, 3) := dk_160 0 6 (dk_at dksX1_run_7 0 rfl rfl)
theorem dX1_run_166 : decode cX1_run 166 = .ok (.iload 12, 2) := dk_21 12 (dk_at dksX1_run_7 3 rfl rfl)
theorem dX1_run_168 : decode cX1_run 168 = .ok (.ireturn, 1) := dk_172 (dk_at dksX1_run_7 5 rfl rfl)
theorem dX1_run_169 : decode cX1_run 169 = .ok (.iload 10, 2) := dk_21 10 (dk_at dksX1_run_7 6 rfl rfl)
theorem dX1_run_171 : decode cX1_run 171 = .ok (.iconst 0, 1) := dk_3 (dk_at dksX1_run_7 8 rfl rfl)
theorem dX1_run_172 : decode cX1_run 172 = .ok (.iload 12, 2) := dk_21 12 (dk_at dksX1_run_7 9 rfl rfl)
theorem dX1_run_174 : decode cX1_run 174 = .ok (.invokestatic 395, 3) := dk_184 1 139 (dk_at dksX1_run_7 11 rfl rfl)
theorem dX1_run_177 : decode cX1_run 177 = .ok (.iadd, 1) := dk_96 (dk_at dksX1_run_7 14 rfl rfl)
theorem dX1_run_178 : decode cX1_run 178 = .ok (.istore 10, 2) := dk_54 10 (dk_at dksX1_run_7 15 rfl rfl)
theorem dX1_run_180 : decode cX1_run 180 = .ok (.iinc 11 1, 3) := dk_132 11 1 (dk_at dksX1_run_7 17 rfl rfl)
theorem dX1_run_183 : decode cX1_run 183 = .ok (.goto (-107), 3) := dk_167 255 149 (dk_at dksX1_run_7 20 rfl rfl)
theorem dX1_run_186 : decode cX1_run 186 = .ok (.iload 10, 2) := dk_21 10 (dk_at dksX1_run_8 0 rfl rfl)
theorem dX1_run_188 : decode cX1_run 188 = .ok (.ireturn, 1) := dk_172 (dk_at dksX1_run_8 2 rfl rfl)
abbrev cX1_tenthsOfPlan : ByteArray := prog_1_method_68_code
def yX1_tenthsOfPlan : MethodName := ⟨RX1, "tenthsOfPlan", "(LDayBoy$Head;III)I"⟩
def dkwX1_tenthsOfPlan_3 : List UInt8 := [96, 21, 5, 153, 0, 8, 21, 4, 167, 0, 4, 3, 100, 184, 1, 139, 172]
abbrev dktX1_tenthsOfPlan_3 : List UInt8 := dkwX1_tenthsOfPlan_3 ++ []
def dkwX1_tenthsOfPlan_2 : List UInt8 := [46, 50, 42, 180, 0, 55, 28, 46, 42, 180, 0, 58, 28, 46, 42, 180, 0, 61, 28, 46, 184, 0, 230, 29]
abbrev dktX1_tenthsOfPlan_2 : List UInt8 := dkwX1_tenthsOfPlan_2 ++ dktX1_tenthsOfPlan_3
def dkwX1_tenthsOfPlan_1 : List UInt8 := [182, 1, 146, 160, 0, 7, 4, 167, 0, 4, 3, 54, 5, 3, 43, 42, 180, 0, 27, 42, 180, 0, 52, 28]
abbrev dktX1_tenthsOfPlan_1 : List UInt8 := dkwX1_tenthsOfPlan_1 ++ dktX1_tenthsOfPlan_2
def dkwX1_tenthsOfPlan_0 : List UInt8 := [28, 158, 0, 31, 42, 28, 182, 1, 146, 2, 159, 0, 22, 42, 28, 182, 1, 146, 42, 28, 4, 100]
abbrev dktX1_tenthsOfPlan_0 : List UInt8 := dkwX1_tenthsOfPlan_0 ++ dktX1_tenthsOfPlan_1
theorem dksX1_tenthsOfPlan_0 : cX1_tenthsOfPlan.data.toList.drop 0 = dktX1_tenthsOfPlan_0 := by decide +kernel
theorem dksX1_tenthsOfPlan_1 : cX1_tenthsOfPlan.data.toList.drop 22 = dktX1_tenthsOfPlan_1 := dk_seg dksX1_tenthsOfPlan_0 22 rfl rfl
theorem dksX1_tenthsOfPlan_2 : cX1_tenthsOfPlan.data.toList.drop 46 = dktX1_tenthsOfPlan_2 := dk_seg dksX1_tenthsOfPlan_1 24 rfl rfl
theorem dksX1_tenthsOfPlan_3 : cX1_tenthsOfPlan.data.toList.drop 70 = dktX1_tenthsOfPlan_3 := dk_seg dksX1_tenthsOfPlan_2 24 rfl rfl
theorem dX1_tenthsOfPlan_0 : decode cX1_tenthsOfPlan 0 = .ok (.iload_n 2, 1) := dk_28 (dk_at dksX1_tenthsOfPlan_0 0 rfl rfl)
theorem dX1_tenthsOfPlan_1 : decode cX1_tenthsOfPlan 1 = .ok (.ifCond .le 31, 3) := dk_158 0 31 (dk_at dksX1_tenthsOfPlan_0 1 rfl rfl)
theorem dX1_tenthsOfPlan_4 : decode cX1_tenthsOfPlan 4 = .ok (.aload_n 0, 1) := dk_42 (dk_at dksX1_tenthsOfPlan_0 4 rfl rfl)
theorem dX1_tenthsOfPlan_5 : decode cX1_tenthsOfPlan 5 = .ok (.iload_n 2, 1) := dk_28 (dk_at dksX1_tenthsOfPlan_0 5 rfl rfl)
theorem dX1_tenthsOfPlan_6 : decode cX1_tenthsOfPlan 6 = .ok (.invokevirtual 402, 3) := dk_182 1 146 (dk_at dksX1_tenthsOfPlan_0 6 rfl rfl)
theorem dX1_tenthsOfPlan_9 : decode cX1_tenthsOfPlan 9 = .ok (.iconst (-1), 1) := dk_2 (dk_at dksX1_tenthsOfPlan_0 9 rfl rfl)
theorem dX1_tenthsOfPlan_10 : decode cX1_tenthsOfPlan 10 = .ok (.if_icmp .eq 22, 3) := dk_159 0 22 (dk_at dksX1_tenthsOfPlan_0 10 rfl rfl)
theorem dX1_tenthsOfPlan_13 : decode cX1_tenthsOfPlan 13 = .ok (.aload_n 0, 1) := dk_42 (dk_at dksX1_tenthsOfPlan_0 13 rfl rfl)
theorem dX1_tenthsOfPlan_14 : decode cX1_tenthsOfPlan 14 = .ok (.iload_n 2, 1) := dk_28 (dk_at dksX1_tenthsOfPlan_0 14 rfl rfl)
theorem dX1_tenthsOfPlan_15 : decode cX1_tenthsOfPlan 15 = .ok (.invokevirtual 402, 3) := dk_182 1 146 (dk_at dksX1_tenthsOfPlan_0 15 rfl rfl)
theorem dX1_tenthsOfPlan_18 : decode cX1_tenthsOfPlan 18 = .ok (.aload_n 0, 1) := dk_42 (dk_at dksX1_tenthsOfPlan_0 18 rfl rfl)
theorem dX1_tenthsOfPlan_19 : decode cX1_tenthsOfPlan 19 = .ok (.iload_n 2, 1) := dk_28 (dk_at dksX1_tenthsOfPlan_0 19 rfl rfl)
theorem dX1_tenthsOfPlan_20 : decode cX1_tenthsOfPlan 20 = .ok (.iconst 1, 1) := dk_4 (dk_at dksX1_tenthsOfPlan_0 20 rfl rfl)
theorem dX1_tenthsOfPlan_21 : decode cX1_tenthsOfPlan 21 = .ok (.isub, 1) := dk_100 (dk_at dksX1_tenthsOfPlan_0 21 rfl rfl)
theorem dX1_tenthsOfPlan_22 : decode cX1_tenthsOfPlan 22 = .ok (.invokevirtual 402, 3) := dk_182 1 146 (dk_at dksX1_tenthsOfPlan_1 0 rfl rfl)
theorem dX1_tenthsOfPlan_25 : decode cX1_tenthsOfPlan 25 = .ok (.if_icmp .ne 7, 3) := dk_160 0 7 (dk_at dksX1_tenthsOfPlan_1 3 rfl rfl)
theorem dX1_tenthsOfPlan_28 : decode cX1_tenthsOfPlan 28 = .ok (.iconst 1, 1) := dk_4 (dk_at dksX1_tenthsOfPlan_1 6 rfl rfl)
theorem dX1_tenthsOfPlan_29 : decode cX1_tenthsOfPlan 29 = .ok (.goto 4, 3) := dk_167 0 4 (dk_at dksX1_tenthsOfPlan_1 7 rfl rfl)
theorem dX1_tenthsOfPlan_32 : decode cX1_tenthsOfPlan 32 = .ok (.iconst 0, 1) := dk_3 (dk_at dksX1_tenthsOfPlan_1 10 rfl rfl)
theorem dX1_tenthsOfPlan_33 : decode cX1_tenthsOfPlan 33 = .ok (.istore 5, 2) := dk_54 5 (dk_at dksX1_tenthsOfPlan_1 11 rfl rfl)
theorem dX1_tenthsOfPlan_35 : decode cX1_tenthsOfPlan 35 = .ok (.iconst 0, 1) := dk_3 (dk_at dksX1_tenthsOfPlan_1 13 rfl rfl)
theorem dX1_tenthsOfPlan_36 : decode cX1_tenthsOfPlan 36 = .ok (.aload_n 1, 1) := dk_43 (dk_at dksX1_tenthsOfPlan_1 14 rfl rfl)
theorem dX1_tenthsOfPlan_37 : decode cX1_tenthsOfPlan 37 = .ok (.aload_n 0, 1) := dk_42 (dk_at dksX1_tenthsOfPlan_1 15 rfl rfl)
theorem dX1_tenthsOfPlan_38 : decode cX1_tenthsOfPlan 38 = .ok (.getfield 27, 3) := dk_180 0 27 (dk_at dksX1_tenthsOfPlan_1 16 rfl rfl)
theorem dX1_tenthsOfPlan_41 : decode cX1_tenthsOfPlan 41 = .ok (.aload_n 0, 1) := dk_42 (dk_at dksX1_tenthsOfPlan_1 19 rfl rfl)
theorem dX1_tenthsOfPlan_42 : decode cX1_tenthsOfPlan 42 = .ok (.getfield 52, 3) := dk_180 0 52 (dk_at dksX1_tenthsOfPlan_1 20 rfl rfl)
theorem dX1_tenthsOfPlan_45 : decode cX1_tenthsOfPlan 45 = .ok (.iload_n 2, 1) := dk_28 (dk_at dksX1_tenthsOfPlan_1 23 rfl rfl)
theorem dX1_tenthsOfPlan_46 : decode cX1_tenthsOfPlan 46 = .ok (.iaload, 1) := dk_46 (dk_at dksX1_tenthsOfPlan_2 0 rfl rfl)
theorem dX1_tenthsOfPlan_47 : decode cX1_tenthsOfPlan 47 = .ok (.aaload, 1) := dk_50 (dk_at dksX1_tenthsOfPlan_2 1 rfl rfl)
theorem dX1_tenthsOfPlan_48 : decode cX1_tenthsOfPlan 48 = .ok (.aload_n 0, 1) := dk_42 (dk_at dksX1_tenthsOfPlan_2 2 rfl rfl)
theorem dX1_tenthsOfPlan_49 : decode cX1_tenthsOfPlan 49 = .ok (.getfield 55, 3) := dk_180 0 55 (dk_at dksX1_tenthsOfPlan_2 3 rfl rfl)
theorem dX1_tenthsOfPlan_52 : decode cX1_tenthsOfPlan 52 = .ok (.iload_n 2, 1) := dk_28 (dk_at dksX1_tenthsOfPlan_2 6 rfl rfl)
theorem dX1_tenthsOfPlan_53 : decode cX1_tenthsOfPlan 53 = .ok (.iaload, 1) := dk_46 (dk_at dksX1_tenthsOfPlan_2 7 rfl rfl)
theorem dX1_tenthsOfPlan_54 : decode cX1_tenthsOfPlan 54 = .ok (.aload_n 0, 1) := dk_42 (dk_at dksX1_tenthsOfPlan_2 8 rfl rfl)
theorem dX1_tenthsOfPlan_55 : decode cX1_tenthsOfPlan 55 = .ok (.getfield 58, 3) := dk_180 0 58 (dk_at dksX1_tenthsOfPlan_2 9 rfl rfl)
theorem dX1_tenthsOfPlan_58 : decode cX1_tenthsOfPlan 58 = .ok (.iload_n 2, 1) := dk_28 (dk_at dksX1_tenthsOfPlan_2 12 rfl rfl)
theorem dX1_tenthsOfPlan_59 : decode cX1_tenthsOfPlan 59 = .ok (.iaload, 1) := dk_46 (dk_at dksX1_tenthsOfPlan_2 13 rfl rfl)
theorem dX1_tenthsOfPlan_60 : decode cX1_tenthsOfPlan 60 = .ok (.aload_n 0, 1) := dk_42 (dk_at dksX1_tenthsOfPlan_2 14 rfl rfl)
theorem dX1_tenthsOfPlan_61 : decode cX1_tenthsOfPlan 61 = .ok (.getfield 61, 3) := dk_180 0 61 (dk_at dksX1_tenthsOfPlan_2 15 rfl rfl)
theorem dX1_tenthsOfPlan_64 : decode cX1_tenthsOfPlan 64 = .ok (.iload_n 2, 1) := dk_28 (dk_at dksX1_tenthsOfPlan_2 18 rfl rfl)
theorem dX1_tenthsOfPlan_65 : decode cX1_tenthsOfPlan 65 = .ok (.iaload, 1) := dk_46 (dk_at dksX1_tenthsOfPlan_2 19 rfl rfl)
theorem dX1_tenthsOfPlan_66 : decode cX1_tenthsOfPlan 66 = .ok (.invokestatic 230, 3) := dk_184 0 230 (dk_at dksX1_tenthsOfPlan_2 20 rfl rfl)
theorem dX1_tenthsOfPlan_69 : decode cX1_tenthsOfPlan 69 = .ok (.iload_n 3, 1) := dk_29 (dk_at dksX1_tenthsOfPlan_2 23 rfl rfl)
theorem dX1_tenthsOfPlan_70 : decode cX1_tenthsOfPlan 70 = .ok (.iadd, 1) := dk_96 (dk_at dksX1_tenthsOfPlan_3 0 rfl rfl)
theorem dX1_tenthsOfPlan_71 : decode cX1_tenthsOfPlan 71 = .ok (.iload 5, 2) := dk_21 5 (dk_at dksX1_tenthsOfPlan_3 1 rfl rfl)
theorem dX1_tenthsOfPlan_73 : decode cX1_tenthsOfPlan 73 = .ok (.ifCond .eq 8, 3) := dk_153 0 8 (dk_at dksX1_tenthsOfPlan_3 3 rfl rfl)
theorem dX1_tenthsOfPlan_76 : decode cX1_tenthsOfPlan 76 = .ok (.iload 4, 2) := dk_21 4 (dk_at dksX1_tenthsOfPlan_3 6 rfl rfl)
theorem dX1_tenthsOfPlan_78 : decode cX1_tenthsOfPlan 78 = .ok (.goto 4, 3) := dk_167 0 4 (dk_at dksX1_tenthsOfPlan_3 8 rfl rfl)
theorem dX1_tenthsOfPlan_81 : decode cX1_tenthsOfPlan 81 = .ok (.iconst 0, 1) := dk_3 (dk_at dksX1_tenthsOfPlan_3 11 rfl rfl)
theorem dX1_tenthsOfPlan_82 : decode cX1_tenthsOfPlan 82 = .ok (.isub, 1) := dk_100 (dk_at dksX1_tenthsOfPlan_3 12 rfl rfl)
theorem dX1_tenthsOfPlan_83 : decode cX1_tenthsOfPlan 83 = .ok (.invokestatic 395, 3) := dk_184 1 139 (dk_at dksX1_tenthsOfPlan_3 13 rfl rfl)
theorem dX1_tenthsOfPlan_86 : decode cX1_tenthsOfPlan 86 = .ok (.ireturn, 1) := dk_172 (dk_at dksX1_tenthsOfPlan_3 16 rfl rfl)
abbrev cX1_planKind : ByteArray := prog_1_method_67_code
def yX1_planKind : MethodName := ⟨RX1, "planKind", "(I)I"⟩
def dkwX1_planKind_0 : List UInt8 := [42, 180, 0, 27, 42, 180, 0, 52, 27, 46, 50, 42, 180, 0, 55, 27, 46, 182, 0, 171, 172]
abbrev dktX1_planKind_0 : List UInt8 := dkwX1_planKind_0 ++ []
theorem dksX1_planKind_0 : cX1_planKind.data.toList.drop 0 = dktX1_planKind_0 := by decide +kernel
theorem dX1_planKind_0 : decode cX1_planKind 0 = .ok (.aload_n 0, 1) := dk_42 (dk_at dksX1_planKind_0 0 rfl rfl)
theorem dX1_planKind_1 : decode cX1_planKind 1 = .ok (.getfield 27, 3) := dk_180 0 27 (dk_at dksX1_planKind_0 1 rfl rfl)
theorem dX1_planKind_4 : decode cX1_planKind 4 = .ok (.aload_n 0, 1) := dk_42 (dk_at dksX1_planKind_0 4 rfl rfl)
theorem dX1_planKind_5 : decode cX1_planKind 5 = .ok (.getfield 52, 3) := dk_180 0 52 (dk_at dksX1_planKind_0 5 rfl rfl)
theorem dX1_planKind_8 : decode cX1_planKind 8 = .ok (.iload_n 1, 1) := dk_27 (dk_at dksX1_planKind_0 8 rfl rfl)
theorem dX1_planKind_9 : decode cX1_planKind 9 = .ok (.iaload, 1) := dk_46 (dk_at dksX1_planKind_0 9 rfl rfl)
theorem dX1_planKind_10 : decode cX1_planKind 10 = .ok (.aaload, 1) := dk_50 (dk_at dksX1_planKind_0 10 rfl rfl)
theorem dX1_planKind_11 : decode cX1_planKind 11 = .ok (.aload_n 0, 1) := dk_42 (dk_at dksX1_planKind_0 11 rfl rfl)
theorem dX1_planKind_12 : decode cX1_planKind 12 = .ok (.getfield 55, 3) := dk_180 0 55 (dk_at dksX1_planKind_0 12 rfl rfl)
theorem dX1_planKind_15 : decode cX1_planKind 15 = .ok (.iload_n 1, 1) := dk_27 (dk_at dksX1_planKind_0 15 rfl rfl)
theorem dX1_planKind_16 : decode cX1_planKind 16 = .ok (.iaload, 1) := dk_46 (dk_at dksX1_planKind_0 16 rfl rfl)
theorem dX1_planKind_17 : decode cX1_planKind 17 = .ok (.invokevirtual 171, 3) := dk_182 0 171 (dk_at dksX1_planKind_0 17 rfl rfl)
theorem dX1_planKind_20 : decode cX1_planKind 20 = .ok (.ireturn, 1) := dk_172 (dk_at dksX1_planKind_0 20 rfl rfl)
abbrev cX1_holds_2 : ByteArray := prog_1_method_71_code
def yX1_holds_2 : MethodName := ⟨RX1, "holds", "(IIIIII)I"⟩
def dkwX1_holds_2_9 : List UInt8 := [21, 9, 172]
abbrev dktX1_holds_2_9 : List UInt8 := dkwX1_holds_2_9 ++ []
def dkwX1_holds_2_8 : List UInt8 := [21, 4, 46, 96, 182, 0, 171, 160, 0, 7, 4, 167, 0, 4, 3, 96, 54, 9, 132, 10, 1, 167, 255, 139]
abbrev dktX1_holds_2_8 : List UInt8 := dkwX1_holds_2_8 ++ dktX1_holds_2_9
def dkwX1_holds_2_7 : List UInt8 := [182, 0, 171, 2, 159, 0, 33, 25, 8, 21, 10, 182, 0, 171, 25, 8, 21, 10, 25, 7, 180, 1, 91]
abbrev dktX1_holds_2_7 : List UInt8 := dkwX1_holds_2_7 ++ dktX1_holds_2_8
def dkwX1_holds_2_6 : List UInt8 := [21, 10, 25, 7, 180, 1, 91, 21, 4, 46, 96, 21, 6, 163, 0, 50, 21, 9, 25, 8, 21, 10]
abbrev dktX1_holds_2_6 : List UInt8 := dkwX1_holds_2_6 ++ dktX1_holds_2_7
def dkwX1_holds_2_5 : List UInt8 := [180, 1, 168, 21, 4, 46, 184, 0, 222, 153, 0, 7, 4, 167, 0, 4, 3, 96, 54, 9, 167, 0, 66]
abbrev dktX1_holds_2_5 : List UInt8 := dkwX1_holds_2_5 ++ dktX1_holds_2_6
def dkwX1_holds_2_4 : List UInt8 := [163, 0, 116, 29, 4, 160, 0, 42, 21, 9, 25, 8, 21, 10, 25, 7, 180, 1, 165, 21, 4, 46, 25, 7]
abbrev dktX1_holds_2_4 : List UInt8 := dkwX1_holds_2_4 ++ dktX1_holds_2_5
def dkwX1_holds_2_3 : List UInt8 := [167, 0, 8, 25, 7, 180, 1, 162, 161, 0, 5, 2, 172, 3, 54, 9, 21, 5, 54, 10, 21, 10, 21, 6]
abbrev dktX1_holds_2_3 : List UInt8 := dkwX1_holds_2_3 ++ dktX1_holds_2_4
def dkwX1_holds_2_2 : List UInt8 := [27, 50, 58, 7, 42, 180, 0, 27, 28, 50, 58, 8, 21, 4, 29, 154, 0, 11, 25, 7, 180, 1, 86]
abbrev dktX1_holds_2_2 : List UInt8 := dkwX1_holds_2_2 ++ dktX1_holds_2_3
def dkwX1_holds_2_1 : List UInt8 := [153, 0, 18, 29, 133, 9, 10, 184, 0, 89, 153, 0, 8, 21, 4, 156, 0, 5, 2, 172, 42, 180, 0, 31]
abbrev dktX1_holds_2_1 : List UInt8 := dkwX1_holds_2_1 ++ dktX1_holds_2_2
def dkwX1_holds_2_0 : List UInt8 := [42, 27, 182, 0, 184, 153, 0, 36, 42, 28, 182, 0, 136, 153, 0, 28, 21, 5, 21, 6, 184, 1, 159]
abbrev dktX1_holds_2_0 : List UInt8 := dkwX1_holds_2_0 ++ dktX1_holds_2_1
theorem dksX1_holds_2_0 : cX1_holds_2.data.toList.drop 0 = dktX1_holds_2_0 := by decide +kernel
theorem dksX1_holds_2_1 : cX1_holds_2.data.toList.drop 23 = dktX1_holds_2_1 := dk_seg dksX1_holds_2_0 23 rfl rfl
theorem dksX1_holds_2_2 : cX1_holds_2.data.toList.drop 47 = dktX1_holds_2_2 := dk_seg dksX1_holds_2_1 24 rfl rfl
theorem dksX1_holds_2_3 : cX1_holds_2.data.toList.drop 70 = dktX1_holds_2_3 := dk_seg dksX1_holds_2_2 23 rfl rfl
theorem dksX1_holds_2_4 : cX1_holds_2.data.toList.drop 94 = dktX1_holds_2_4 := dk_seg dksX1_holds_2_3 24 rfl rfl
theorem dksX1_holds_2_5 : cX1_holds_2.data.toList.drop 118 = dktX1_holds_2_5 := dk_seg dksX1_holds_2_4 24 rfl rfl
theorem dksX1_holds_2_6 : cX1_holds_2.data.toList.drop 141 = dktX1_holds_2_6 := dk_seg dksX1_holds_2_5 23 rfl rfl
theorem dksX1_holds_2_7 : cX1_holds_2.data.toList.drop 163 = dktX1_holds_2_7 := dk_seg dksX1_holds_2_6 22 rfl rfl
theorem dksX1_holds_2_8 : cX1_holds_2.data.toList.drop 186 = dktX1_holds_2_8 := dk_seg dksX1_holds_2_7 23 rfl rfl
theorem dksX1_holds_2_9 : cX1_holds_2.data.toList.drop 210 = dktX1_holds_2_9 := dk_seg dksX1_holds_2_8 24 rfl rfl
theorem dX1_holds_2_0 : decode cX1_holds_2 0 = .ok (.aload_n 0, 1) := dk_42 (dk_at dksX1_holds_2_0 0 rfl rfl)
theorem dX1_holds_2_1 : decode cX1_holds_2 1 = .ok (.iload_n 1, 1) := dk_27 (dk_at dksX1_holds_2_0 1 rfl rfl)
theorem dX1_holds_2_2 : decode cX1_holds_2 2 = .ok (.invokevirtual 184, 3) := dk_182 0 184 (dk_at dksX1_holds_2_0 2 rfl rfl)
theorem dX1_holds_2_5 : decode cX1_holds_2 5 = .ok (.ifCond .eq 36, 3) := dk_153 0 36 (dk_at dksX1_holds_2_0 5 rfl rfl)
theorem dX1_holds_2_8 : decode cX1_holds_2 8 = .ok (.aload_n 0, 1) := dk_42 (dk_at dksX1_holds_2_0 8 rfl rfl)
theorem dX1_holds_2_9 : decode cX1_holds_2 9 = .ok (.iload_n 2, 1) := dk_28 (dk_at dksX1_holds_2_0 9 rfl rfl)
theorem dX1_holds_2_10 : decode cX1_holds_2 10 = .ok (.invokevirtual 136, 3) := dk_182 0 136 (dk_at dksX1_holds_2_0 10 rfl rfl)
theorem dX1_holds_2_13 : decode cX1_holds_2 13 = .ok (.ifCond .eq 28, 3) := dk_153 0 28 (dk_at dksX1_holds_2_0 13 rfl rfl)
theorem dX1_holds_2_16 : decode cX1_holds_2 16 = .ok (.iload 5, 2) := dk_21 5 (dk_at dksX1_holds_2_0 16 rfl rfl)
theorem dX1_holds_2_18 : decode cX1_holds_2 18 = .ok (.iload 6, 2) := dk_21 6 (dk_at dksX1_holds_2_0 18 rfl rfl)
theorem dX1_holds_2_20 : decode cX1_holds_2 20 = .ok (.invokestatic 415, 3) := dk_184 1 159 (dk_at dksX1_holds_2_0 20 rfl rfl)
theorem dX1_holds_2_23 : decode cX1_holds_2 23 = .ok (.ifCond .eq 18, 3) := dk_153 0 18 (dk_at dksX1_holds_2_1 0 rfl rfl)
theorem dX1_holds_2_26 : decode cX1_holds_2 26 = .ok (.iload_n 3, 1) := dk_29 (dk_at dksX1_holds_2_1 3 rfl rfl)
theorem dX1_holds_2_27 : decode cX1_holds_2 27 = .ok (.i2l, 1) := dk_133 (dk_at dksX1_holds_2_1 4 rfl rfl)
theorem dX1_holds_2_28 : decode cX1_holds_2 28 = .ok (.lconst 0, 1) := dk_9 (dk_at dksX1_holds_2_1 5 rfl rfl)
theorem dX1_holds_2_29 : decode cX1_holds_2 29 = .ok (.lconst 1, 1) := dk_10 (dk_at dksX1_holds_2_1 6 rfl rfl)
theorem dX1_holds_2_30 : decode cX1_holds_2 30 = .ok (.invokestatic 89, 3) := dk_184 0 89 (dk_at dksX1_holds_2_1 7 rfl rfl)
theorem dX1_holds_2_33 : decode cX1_holds_2 33 = .ok (.ifCond .eq 8, 3) := dk_153 0 8 (dk_at dksX1_holds_2_1 10 rfl rfl)
theorem dX1_holds_2_36 : decode cX1_holds_2 36 = .ok (.iload 4, 2) := dk_21 4 (dk_at dksX1_holds_2_1 13 rfl rfl)
theorem dX1_holds_2_38 : decode cX1_holds_2 38 = .ok (.ifCond .ge 5, 3) := dk_156 0 5 (dk_at dksX1_holds_2_1 15 rfl rfl)
theorem dX1_holds_2_41 : decode cX1_holds_2 41 = .ok (.iconst (-1), 1) := dk_2 (dk_at dksX1_holds_2_1 18 rfl rfl)
theorem dX1_holds_2_42 : decode cX1_holds_2 42 = .ok (.ireturn, 1) := dk_172 (dk_at dksX1_holds_2_1 19 rfl rfl)
theorem dX1_holds_2_43 : decode cX1_holds_2 43 = .ok (.aload_n 0, 1) := dk_42 (dk_at dksX1_holds_2_1 20 rfl rfl)
theorem dX1_holds_2_44 : decode cX1_holds_2 44 = .ok (.getfield 31, 3) := dk_180 0 31 (dk_at dksX1_holds_2_1 21 rfl rfl)
theorem dX1_holds_2_47 : decode cX1_holds_2 47 = .ok (.iload_n 1, 1) := dk_27 (dk_at dksX1_holds_2_2 0 rfl rfl)
theorem dX1_holds_2_48 : decode cX1_holds_2 48 = .ok (.aaload, 1) := dk_50 (dk_at dksX1_holds_2_2 1 rfl rfl)
theorem dX1_holds_2_49 : decode cX1_holds_2 49 = .ok (.astore 7, 2) := dk_58 7 (dk_at dksX1_holds_2_2 2 rfl rfl)
theorem dX1_holds_2_51 : decode cX1_holds_2 51 = .ok (.aload_n 0, 1) := dk_42 (dk_at dksX1_holds_2_2 4 rfl rfl)
theorem dX1_holds_2_52 : decode cX1_holds_2 52 = .ok (.getfield 27, 3) := dk_180 0 27 (dk_at dksX1_holds_2_2 5 rfl rfl)
theorem dX1_holds_2_55 : decode cX1_holds_2 55 = .ok (.iload_n 2, 1) := dk_28 (dk_at dksX1_holds_2_2 8 rfl rfl)
theorem dX1_holds_2_56 : decode cX1_holds_2 56 = .ok (.aaload, 1) := dk_50 (dk_at dksX1_holds_2_2 9 rfl rfl)
theorem dX1_holds_2_57 : decode cX1_holds_2 57 = .ok (.astore 8, 2) := dk_58 8 (dk_at dksX1_holds_2_2 10 rfl rfl)
theorem dX1_holds_2_59 : decode cX1_holds_2 59 = .ok (.iload 4, 2) := dk_21 4 (dk_at dksX1_holds_2_2 12 rfl rfl)
theorem dX1_holds_2_61 : decode cX1_holds_2 61 = .ok (.iload_n 3, 1) := dk_29 (dk_at dksX1_holds_2_2 14 rfl rfl)
theorem dX1_holds_2_62 : decode cX1_holds_2 62 = .ok (.ifCond .ne 11, 3) := dk_154 0 11 (dk_at dksX1_holds_2_2 15 rfl rfl)
theorem dX1_holds_2_65 : decode cX1_holds_2 65 = .ok (.aload 7, 2) := dk_25 7 (dk_at dksX1_holds_2_2 18 rfl rfl)
theorem dX1_holds_2_67 : decode cX1_holds_2 67 = .ok (.getfield 342, 3) := dk_180 1 86 (dk_at dksX1_holds_2_2 20 rfl rfl)
theorem dX1_holds_2_70 : decode cX1_holds_2 70 = .ok (.goto 8, 3) := dk_167 0 8 (dk_at dksX1_holds_2_3 0 rfl rfl)
theorem dX1_holds_2_73 : decode cX1_holds_2 73 = .ok (.aload 7, 2) := dk_25 7 (dk_at dksX1_holds_2_3 3 rfl rfl)
theorem dX1_holds_2_75 : decode cX1_holds_2 75 = .ok (.getfield 418, 3) := dk_180 1 162 (dk_at dksX1_holds_2_3 5 rfl rfl)
theorem dX1_holds_2_78 : decode cX1_holds_2 78 = .ok (.if_icmp .lt 5, 3) := dk_161 0 5 (dk_at dksX1_holds_2_3 8 rfl rfl)
theorem dX1_holds_2_81 : decode cX1_holds_2 81 = .ok (.iconst (-1), 1) := dk_2 (dk_at dksX1_holds_2_3 11 rfl rfl)
theorem dX1_holds_2_82 : decode cX1_holds_2 82 = .ok (.ireturn, 1) := dk_172 (dk_at dksX1_holds_2_3 12 rfl rfl)
theorem dX1_holds_2_83 : decode cX1_holds_2 83 = .ok (.iconst 0, 1) := dk_3 (dk_at dksX1_holds_2_3 13 rfl rfl)
theorem dX1_holds_2_84 : decode cX1_holds_2 84 = .ok (.istore 9, 2) := dk_54 9 (dk_at dksX1_holds_2_3 14 rfl rfl)
theorem dX1_holds_2_86 : decode cX1_holds_2 86 = .ok (.iload 5, 2) := dk_21 5 (dk_at dksX1_holds_2_3 16 rfl rfl)
theorem dX1_holds_2_88 : decode cX1_holds_2 88 = .ok (.istore 10, 2) := dk_54 10 (dk_at dksX1_holds_2_3 18 rfl rfl)
theorem dX1_holds_2_90 : decode cX1_holds_2 90 = .ok (.iload 10, 2) := dk_21 10 (dk_at dksX1_holds_2_3 20 rfl rfl)
theorem dX1_holds_2_92 : decode cX1_holds_2 92 = .ok (.iload 6, 2) := dk_21 6 (dk_at dksX1_holds_2_3 22 rfl rfl)
theorem dX1_holds_2_94 : decode cX1_holds_2 94 = .ok (.if_icmp .gt 116, 3) := dk_163 0 116 (dk_at dksX1_holds_2_4 0 rfl rfl)
theorem dX1_holds_2_97 : decode cX1_holds_2 97 = .ok (.iload_n 3, 1) := dk_29 (dk_at dksX1_holds_2_4 3 rfl rfl)
theorem dX1_holds_2_98 : decode cX1_holds_2 98 = .ok (.iconst 1, 1) := dk_4 (dk_at dksX1_holds_2_4 4 rfl rfl)
theorem dX1_holds_2_99 : decode cX1_holds_2 99 = .ok (.if_icmp .ne 42, 3) := dk_160 0 42 (dk_at dksX1_holds_2_4 5 rfl rfl)
theorem dX1_holds_2_102 : decode cX1_holds_2 102 = .ok (.iload 9, 2) := dk_21 9 (dk_at dksX1_holds_2_4 8 rfl rfl)
theorem dX1_holds_2_104 : decode cX1_holds_2 104 = .ok (.aload 8, 2) := dk_25 8 (dk_at dksX1_holds_2_4 10 rfl rfl)
theorem dX1_holds_2_106 : decode cX1_holds_2 106 = .ok (.iload 10, 2) := dk_21 10 (dk_at dksX1_holds_2_4 12 rfl rfl)
theorem dX1_holds_2_108 : decode cX1_holds_2 108 = .ok (.aload 7, 2) := dk_25 7 (dk_at dksX1_holds_2_4 14 rfl rfl)
theorem dX1_holds_2_110 : decode cX1_holds_2 110 = .ok (.getfield 421, 3) := dk_180 1 165 (dk_at dksX1_holds_2_4 16 rfl rfl)
theorem dX1_holds_2_113 : decode cX1_holds_2 113 = .ok (.iload 4, 2) := dk_21 4 (dk_at dksX1_holds_2_4 19 rfl rfl)
theorem dX1_holds_2_115 : decode cX1_holds_2 115 = .ok (.iaload, 1) := dk_46 (dk_at dksX1_holds_2_4 21 rfl rfl)
theorem dX1_holds_2_116 : decode cX1_holds_2 116 = .ok (.aload 7, 2) := dk_25 7 (dk_at dksX1_holds_2_4 22 rfl rfl)
theorem dX1_holds_2_118 : decode cX1_holds_2 118 = .ok (.getfield 424, 3) := dk_180 1 168 (dk_at dksX1_holds_2_5 0 rfl rfl)
theorem dX1_holds_2_121 : decode cX1_holds_2 121 = .ok (.iload 4, 2) := dk_21 4 (dk_at dksX1_holds_2_5 3 rfl rfl)
theorem dX1_holds_2_123 : decode cX1_holds_2 123 = .ok (.iaload, 1) := dk_46 (dk_at dksX1_holds_2_5 5 rfl rfl)
theorem dX1_holds_2_124 : decode cX1_holds_2 124 = .ok (.invokestatic 222, 3) := dk_184 0 222 (dk_at dksX1_holds_2_5 6 rfl rfl)
theorem dX1_holds_2_127 : decode cX1_holds_2 127 = .ok (.ifCond .eq 7, 3) := dk_153 0 7 (dk_at dksX1_holds_2_5 9 rfl rfl)
theorem dX1_holds_2_130 : decode cX1_holds_2 130 = .ok (.iconst 1, 1) := dk_4 (dk_at dksX1_holds_2_5 12 rfl rfl)
theorem dX1_holds_2_131 : decode cX1_holds_2 131 = .ok (.goto 4, 3) := dk_167 0 4 (dk_at dksX1_holds_2_5 13 rfl rfl)
theorem dX1_holds_2_134 : decode cX1_holds_2 134 = .ok (.iconst 0, 1) := dk_3 (dk_at dksX1_holds_2_5 16 rfl rfl)
theorem dX1_holds_2_135 : decode cX1_holds_2 135 = .ok (.iadd, 1) := dk_96 (dk_at dksX1_holds_2_5 17 rfl rfl)
theorem dX1_holds_2_136 : decode cX1_holds_2 136 = .ok (.istore 9, 2) := dk_54 9 (dk_at dksX1_holds_2_5 18 rfl rfl)
theorem dX1_holds_2_138 : decode cX1_holds_2 138 = .ok (.goto 66, 3) := dk_167 0 66 (dk_at dksX1_holds_2_5 20 rfl rfl)
theorem dX1_holds_2_141 : decode cX1_holds_2 141 = .ok (.iload 10, 2) := dk_21 10 (dk_at dksX1_holds_2_6 0 rfl rfl)
theorem dX1_holds_2_143 : decode cX1_holds_2 143 = .ok (.aload 7, 2) := dk_25 7 (dk_at dksX1_holds_2_6 2 rfl rfl)
theorem dX1_holds_2_145 : decode cX1_holds_2 145 = .ok (.getfield 347, 3) := dk_180 1 91 (dk_at dksX1_holds_2_6 4 rfl rfl)
theorem dX1_holds_2_148 : decode cX1_holds_2 148 = .ok (.iload 4, 2) := dk_21 4 (dk_at dksX1_holds_2_6 7 rfl rfl)
theorem dX1_holds_2_150 : decode cX1_holds_2 150 = .ok (.iaload, 1) := dk_46 (dk_at dksX1_holds_2_6 9 rfl rfl)
theorem dX1_holds_2_151 : decode cX1_holds_2 151 = .ok (.iadd, 1) := dk_96 (dk_at dksX1_holds_2_6 10 rfl rfl)
theorem dX1_holds_2_152 : decode cX1_holds_2 152 = .ok (.iload 6, 2) := dk_21 6 (dk_at dksX1_holds_2_6 11 rfl rfl)
theorem dX1_holds_2_154 : decode cX1_holds_2 154 = .ok (.if_icmp .gt 50, 3) := dk_163 0 50 (dk_at dksX1_holds_2_6 13 rfl rfl)
theorem dX1_holds_2_157 : decode cX1_holds_2 157 = .ok (.iload 9, 2) := dk_21 9 (dk_at dksX1_holds_2_6 16 rfl rfl)
theorem dX1_holds_2_159 : decode cX1_holds_2 159 = .ok (.aload 8, 2) := dk_25 8 (dk_at dksX1_holds_2_6 18 rfl rfl)
theorem dX1_holds_2_161 : decode cX1_holds_2 161 = .ok (.iload 10, 2) := dk_21 10 (dk_at dksX1_holds_2_6 20 rfl rfl)
theorem dX1_holds_2_163 : decode cX1_holds_2 163 = .ok (.invokevirtual 171, 3) := dk_182 0 171 (dk_at dksX1_holds_2_7 0 rfl rfl)
theorem dX1_holds_2_166 : decode cX1_holds_2 166 = .ok (.iconst (-1), 1) := dk_2 (dk_at dksX1_holds_2_7 3 rfl rfl)
theorem dX1_holds_2_167 : decode cX1_holds_2 167 = .ok (.if_icmp .eq 33, 3) := dk_159 0 33 (dk_at dksX1_holds_2_7 4 rfl rfl)
theorem dX1_holds_2_170 : decode cX1_holds_2 170 = .ok (.aload 8, 2) := dk_25 8 (dk_at dksX1_holds_2_7 7 rfl rfl)
theorem dX1_holds_2_172 : decode cX1_holds_2 172 = .ok (.iload 10, 2) := dk_21 10 (dk_at dksX1_holds_2_7 9 rfl rfl)
theorem dX1_holds_2_174 : decode cX1_holds_2 174 = .ok (.invokevirtual 171, 3) := dk_182 0 171 (dk_at dksX1_holds_2_7 11 rfl rfl)
theorem dX1_holds_2_177 : decode cX1_holds_2 177 = .ok (.aload 8, 2) := dk_25 8 (dk_at dksX1_holds_2_7 14 rfl rfl)
theorem dX1_holds_2_179 : decode cX1_holds_2 179 = .ok (.iload 10, 2) := dk_21 10 (dk_at dksX1_holds_2_7 16 rfl rfl)
theorem dX1_holds_2_181 : decode cX1_holds_2 181 = .ok (.aload 7, 2) := dk_25 7 (dk_at dksX1_holds_2_7 18 rfl rfl)
theorem dX1_holds_2_183 : decode cX1_holds_2 183 = .ok (.getfield 347, 3) := dk_180 1 91 (dk_at dksX1_holds_2_7 20 rfl rfl)
theorem dX1_holds_2_186 : decode cX1_holds_2 186 = .ok (.iload 4, 2) := dk_21 4 (dk_at dksX1_holds_2_8 0 rfl rfl)
theorem dX1_holds_2_188 : decode cX1_holds_2 188 = .ok (.iaload, 1) := dk_46 (dk_at dksX1_holds_2_8 2 rfl rfl)
theorem dX1_holds_2_189 : decode cX1_holds_2 189 = .ok (.iadd, 1) := dk_96 (dk_at dksX1_holds_2_8 3 rfl rfl)
theorem dX1_holds_2_190 : decode cX1_holds_2 190 = .ok (.invokevirtual 171, 3) := dk_182 0 171 (dk_at dksX1_holds_2_8 4 rfl rfl)
theorem dX1_holds_2_193 : decode cX1_holds_2 193 = .ok (.if_icmp .ne 7, 3) := dk_160 0 7 (dk_at dksX1_holds_2_8 7 rfl rfl)
theorem dX1_holds_2_196 : decode cX1_holds_2 196 = .ok (.iconst 1, 1) := dk_4 (dk_at dksX1_holds_2_8 10 rfl rfl)
theorem dX1_holds_2_197 : decode cX1_holds_2 197 = .ok (.goto 4, 3) := dk_167 0 4 (dk_at dksX1_holds_2_8 11 rfl rfl)
theorem dX1_holds_2_200 : decode cX1_holds_2 200 = .ok (.iconst 0, 1) := dk_3 (dk_at dksX1_holds_2_8 14 rfl rfl)
theorem dX1_holds_2_201 : decode cX1_holds_2 201 = .ok (.iadd, 1) := dk_96 (dk_at dksX1_holds_2_8 15 rfl rfl)
theorem dX1_holds_2_202 : decode cX1_holds_2 202 = .ok (.istore 9, 2) := dk_54 9 (dk_at dksX1_holds_2_8 16 rfl rfl)
theorem dX1_holds_2_204 : decode cX1_holds_2 204 = .ok (.iinc 10 1, 3) := dk_132 10 1 (dk_at dksX1_holds_2_8 18 rfl rfl)
theorem dX1_holds_2_207 : decode cX1_holds_2 207 = .ok (.goto (-117), 3) := dk_167 255 139 (dk_at dksX1_holds_2_8 21 rfl rfl)
theorem dX1_holds_2_210 : decode cX1_holds_2 210 = .ok (.iload 9, 2) := dk_21 9 (dk_at dksX1_holds_2_9 0 rfl rfl)
theorem dX1_holds_2_212 : decode cX1_holds_2 212 = .ok (.ireturn, 1) := dk_172 (dk_at dksX1_holds_2_9 2 rfl rfl)
abbrev cX1_areYears : ByteArray := prog_1_method_70_code
def yX1_areYears : MethodName := ⟨RX1, "areYears", "(II)Z"⟩
def dkwX1_areYears_1 : List UInt8 := [3, 172]
abbrev dktX1_areYears_1 : List UInt8 := dkwX1_areYears_1 ++ []
def dkwX1_areYears_0 : List UInt8 := [26, 184, 0, 163, 153, 0, 20, 27, 133, 26, 133, 20, 0, 144, 184, 0, 89, 153, 0, 7, 4, 167, 0, 4]
abbrev dktX1_areYears_0 : List UInt8 := dkwX1_areYears_0 ++ dktX1_areYears_1
theorem dksX1_areYears_0 : cX1_areYears.data.toList.drop 0 = dktX1_areYears_0 := by decide +kernel
theorem dksX1_areYears_1 : cX1_areYears.data.toList.drop 24 = dktX1_areYears_1 := dk_seg dksX1_areYears_0 24 rfl rfl
theorem dX1_areYears_0 : decode cX1_areYears 0 = .ok (.iload_n 0, 1) := dk_26 (dk_at dksX1_areYears_0 0 rfl rfl)
theorem dX1_areYears_1 : decode cX1_areYears 1 = .ok (.invokestatic 163, 3) := dk_184 0 163 (dk_at dksX1_areYears_0 1 rfl rfl)
theorem dX1_areYears_4 : decode cX1_areYears 4 = .ok (.ifCond .eq 20, 3) := dk_153 0 20 (dk_at dksX1_areYears_0 4 rfl rfl)
theorem dX1_areYears_7 : decode cX1_areYears 7 = .ok (.iload_n 1, 1) := dk_27 (dk_at dksX1_areYears_0 7 rfl rfl)
theorem dX1_areYears_8 : decode cX1_areYears 8 = .ok (.i2l, 1) := dk_133 (dk_at dksX1_areYears_0 8 rfl rfl)
theorem dX1_areYears_9 : decode cX1_areYears 9 = .ok (.iload_n 0, 1) := dk_26 (dk_at dksX1_areYears_0 9 rfl rfl)
theorem dX1_areYears_10 : decode cX1_areYears 10 = .ok (.i2l, 1) := dk_133 (dk_at dksX1_areYears_0 10 rfl rfl)
theorem dX1_areYears_11 : decode cX1_areYears 11 = .ok (.ldc2_w 144, 3) := dk_20 0 144 (dk_at dksX1_areYears_0 11 rfl rfl)
theorem dX1_areYears_14 : decode cX1_areYears 14 = .ok (.invokestatic 89, 3) := dk_184 0 89 (dk_at dksX1_areYears_0 14 rfl rfl)
theorem dX1_areYears_17 : decode cX1_areYears 17 = .ok (.ifCond .eq 7, 3) := dk_153 0 7 (dk_at dksX1_areYears_0 17 rfl rfl)
theorem dX1_areYears_20 : decode cX1_areYears 20 = .ok (.iconst 1, 1) := dk_4 (dk_at dksX1_areYears_0 20 rfl rfl)
theorem dX1_areYears_21 : decode cX1_areYears 21 = .ok (.goto 4, 3) := dk_167 0 4 (dk_at dksX1_areYears_0 21 rfl rfl)
theorem dX1_areYears_24 : decode cX1_areYears 24 = .ok (.iconst 0, 1) := dk_3 (dk_at dksX1_areYears_1 0 rfl rfl)
theorem dX1_areYears_25 : decode cX1_areYears 25 = .ok (.ireturn, 1) := dk_172 (dk_at dksX1_areYears_1 1 rfl rfl)
abbrev cX1_right : ByteArray := prog_1_method_72_code
def yX1_right : MethodName := ⟨RX1, "right", "(IIII)I"⟩
def dkwX1_right_7 : List UInt8 := [167, 255, 180, 132, 8, 1, 167, 255, 147, 21, 7, 172]
abbrev dktX1_right_7 : List UInt8 := dkwX1_right_7 ++ []
def dkwX1_right_6 : List UInt8 := [154, 0, 7, 4, 167, 0, 4, 3, 160, 0, 7, 4, 167, 0, 4, 3, 96, 54, 7, 132, 9, 1]
abbrev dktX1_right_6 : List UInt8 := dkwX1_right_6 ++ dktX1_right_7
def dkwX1_right_5 : List UInt8 := [184, 0, 226, 25, 6, 29, 21, 8, 21, 9, 182, 0, 207, 160, 0, 7, 4, 167, 0, 4, 3, 21, 4]
abbrev dktX1_right_5 : List UInt8 := dkwX1_right_5 ++ dktX1_right_6
def dkwX1_right_4 : List UInt8 := [21, 7, 25, 6, 29, 21, 8, 21, 9, 182, 0, 140, 153, 0, 50, 25, 5, 25, 6, 29, 21, 8, 21, 9]
abbrev dktX1_right_4 : List UInt8 := dkwX1_right_4 ++ dktX1_right_5
def dkwX1_right_3 : List UInt8 := [25, 6, 29, 21, 8, 182, 0, 187, 154, 0, 6, 167, 0, 85, 4, 54, 9, 21, 9, 16, 32, 162, 0, 75]
abbrev dktX1_right_3 : List UInt8 := dkwX1_right_3 ++ dktX1_right_4
def dkwX1_right_2 : List UInt8 := [180, 0, 27, 28, 50, 58, 6, 3, 54, 7, 4, 54, 8, 21, 8, 16, 13, 162, 0, 108, 42, 25, 5]
abbrev dktX1_right_2 : List UInt8 := dkwX1_right_2 ++ dktX1_right_3
def dkwX1_right_1 : List UInt8 := [21, 4, 133, 9, 10, 184, 0, 89, 154, 0, 5, 2, 172, 42, 180, 0, 31, 27, 50, 58, 5, 42]
abbrev dktX1_right_1 : List UInt8 := dkwX1_right_1 ++ dktX1_right_2
def dkwX1_right_0 : List UInt8 := [42, 27, 182, 0, 184, 153, 0, 29, 42, 28, 182, 0, 136, 153, 0, 21, 29, 184, 0, 163, 153, 0, 14]
abbrev dktX1_right_0 : List UInt8 := dkwX1_right_0 ++ dktX1_right_1
theorem dksX1_right_0 : cX1_right.data.toList.drop 0 = dktX1_right_0 := by decide +kernel
theorem dksX1_right_1 : cX1_right.data.toList.drop 23 = dktX1_right_1 := dk_seg dksX1_right_0 23 rfl rfl
theorem dksX1_right_2 : cX1_right.data.toList.drop 45 = dktX1_right_2 := dk_seg dksX1_right_1 22 rfl rfl
theorem dksX1_right_3 : cX1_right.data.toList.drop 68 = dktX1_right_3 := dk_seg dksX1_right_2 23 rfl rfl
theorem dksX1_right_4 : cX1_right.data.toList.drop 92 = dktX1_right_4 := dk_seg dksX1_right_3 24 rfl rfl
theorem dksX1_right_5 : cX1_right.data.toList.drop 116 = dktX1_right_5 := dk_seg dksX1_right_4 24 rfl rfl
theorem dksX1_right_6 : cX1_right.data.toList.drop 139 = dktX1_right_6 := dk_seg dksX1_right_5 23 rfl rfl
theorem dksX1_right_7 : cX1_right.data.toList.drop 161 = dktX1_right_7 := dk_seg dksX1_right_6 22 rfl rfl
theorem dX1_right_0 : decode cX1_right 0 = .ok (.aload_n 0, 1) := dk_42 (dk_at dksX1_right_0 0 rfl rfl)
theorem dX1_right_1 : decode cX1_right 1 = .ok (.iload_n 1, 1) := dk_27 (dk_at dksX1_right_0 1 rfl rfl)
theorem dX1_right_2 : decode cX1_right 2 = .ok (.invokevirtual 184, 3) := dk_182 0 184 (dk_at dksX1_right_0 2 rfl rfl)
theorem dX1_right_5 : decode cX1_right 5 = .ok (.ifCond .eq 29, 3) := dk_153 0 29 (dk_at dksX1_right_0 5 rfl rfl)
theorem dX1_right_8 : decode cX1_right 8 = .ok (.aload_n 0, 1) := dk_42 (dk_at dksX1_right_0 8 rfl rfl)
theorem dX1_right_9 : decode cX1_right 9 = .ok (.iload_n 2, 1) := dk_28 (dk_at dksX1_right_0 9 rfl rfl)
theorem dX1_right_10 : decode cX1_right 10 = .ok (.invokevirtual 136, 3) := dk_182 0 136 (dk_at dksX1_right_0 10 rfl rfl)
theorem dX1_right_13 : decode cX1_right 13 = .ok (.ifCond .eq 21, 3) := dk_153 0 21 (dk_at dksX1_right_0 13 rfl rfl)
theorem dX1_right_16 : decode cX1_right 16 = .ok (.iload_n 3, 1) := dk_29 (dk_at dksX1_right_0 16 rfl rfl)
theorem dX1_right_17 : decode cX1_right 17 = .ok (.invokestatic 163, 3) := dk_184 0 163 (dk_at dksX1_right_0 17 rfl rfl)
theorem dX1_right_20 : decode cX1_right 20 = .ok (.ifCond .eq 14, 3) := dk_153 0 14 (dk_at dksX1_right_0 20 rfl rfl)
theorem dX1_right_23 : decode cX1_right 23 = .ok (.iload 4, 2) := dk_21 4 (dk_at dksX1_right_1 0 rfl rfl)
theorem dX1_right_25 : decode cX1_right 25 = .ok (.i2l, 1) := dk_133 (dk_at dksX1_right_1 2 rfl rfl)
theorem dX1_right_26 : decode cX1_right 26 = .ok (.lconst 0, 1) := dk_9 (dk_at dksX1_right_1 3 rfl rfl)
theorem dX1_right_27 : decode cX1_right 27 = .ok (.lconst 1, 1) := dk_10 (dk_at dksX1_right_1 4 rfl rfl)
theorem dX1_right_28 : decode cX1_right 28 = .ok (.invokestatic 89, 3) := dk_184 0 89 (dk_at dksX1_right_1 5 rfl rfl)
theorem dX1_right_31 : decode cX1_right 31 = .ok (.ifCond .ne 5, 3) := dk_154 0 5 (dk_at dksX1_right_1 8 rfl rfl)
theorem dX1_right_34 : decode cX1_right 34 = .ok (.iconst (-1), 1) := dk_2 (dk_at dksX1_right_1 11 rfl rfl)
theorem dX1_right_35 : decode cX1_right 35 = .ok (.ireturn, 1) := dk_172 (dk_at dksX1_right_1 12 rfl rfl)
theorem dX1_right_36 : decode cX1_right 36 = .ok (.aload_n 0, 1) := dk_42 (dk_at dksX1_right_1 13 rfl rfl)
theorem dX1_right_37 : decode cX1_right 37 = .ok (.getfield 31, 3) := dk_180 0 31 (dk_at dksX1_right_1 14 rfl rfl)
theorem dX1_right_40 : decode cX1_right 40 = .ok (.iload_n 1, 1) := dk_27 (dk_at dksX1_right_1 17 rfl rfl)
theorem dX1_right_41 : decode cX1_right 41 = .ok (.aaload, 1) := dk_50 (dk_at dksX1_right_1 18 rfl rfl)
theorem dX1_right_42 : decode cX1_right 42 = .ok (.astore 5, 2) := dk_58 5 (dk_at dksX1_right_1 19 rfl rfl)
theorem dX1_right_44 : decode cX1_right 44 = .ok (.aload_n 0, 1) := dk_42 (dk_at dksX1_right_1 21 rfl rfl)
theorem dX1_right_45 : decode cX1_right 45 = .ok (.getfield 27, 3) := dk_180 0 27 (dk_at dksX1_right_2 0 rfl rfl)
theorem dX1_right_48 : decode cX1_right 48 = .ok (.iload_n 2, 1) := dk_28 (dk_at dksX1_right_2 3 rfl rfl)
theorem dX1_right_49 : decode cX1_right 49 = .ok (.aaload, 1) := dk_50 (dk_at dksX1_right_2 4 rfl rfl)
theorem dX1_right_50 : decode cX1_right 50 = .ok (.astore 6, 2) := dk_58 6 (dk_at dksX1_right_2 5 rfl rfl)
theorem dX1_right_52 : decode cX1_right 52 = .ok (.iconst 0, 1) := dk_3 (dk_at dksX1_right_2 7 rfl rfl)
theorem dX1_right_53 : decode cX1_right 53 = .ok (.istore 7, 2) := dk_54 7 (dk_at dksX1_right_2 8 rfl rfl)
theorem dX1_right_55 : decode cX1_right 55 = .ok (.iconst 1, 1) := dk_4 (dk_at dksX1_right_2 10 rfl rfl)
theorem dX1_right_56 : decode cX1_right 56 = .ok (.istore 8, 2) := dk_54 8 (dk_at dksX1_right_2 11 rfl rfl)
theorem dX1_right_58 : decode cX1_right 58 = .ok (.iload 8, 2) := dk_21 8 (dk_at dksX1_right_2 13 rfl rfl)
theorem dX1_right_60 : decode cX1_right 60 = .ok (.bipush 13, 2) := dk_16 13 (dk_at dksX1_right_2 15 rfl rfl)
theorem dX1_right_62 : decode cX1_right 62 = .ok (.if_icmp .ge 108, 3) := dk_162 0 108 (dk_at dksX1_right_2 17 rfl rfl)
theorem dX1_right_65 : decode cX1_right 65 = .ok (.aload_n 0, 1) := dk_42 (dk_at dksX1_right_2 20 rfl rfl)
theorem dX1_right_66 : decode cX1_right 66 = .ok (.aload 5, 2) := dk_25 5 (dk_at dksX1_right_2 21 rfl rfl)
theorem dX1_right_68 : decode cX1_right 68 = .ok (.aload 6, 2) := dk_25 6 (dk_at dksX1_right_3 0 rfl rfl)
theorem dX1_right_70 : decode cX1_right 70 = .ok (.iload_n 3, 1) := dk_29 (dk_at dksX1_right_3 2 rfl rfl)
theorem dX1_right_71 : decode cX1_right 71 = .ok (.iload 8, 2) := dk_21 8 (dk_at dksX1_right_3 3 rfl rfl)
theorem dX1_right_73 : decode cX1_right 73 = .ok (.invokevirtual 187, 3) := dk_182 0 187 (dk_at dksX1_right_3 5 rfl rfl)
theorem dX1_right_76 : decode cX1_right 76 = .ok (.ifCond .ne 6, 3) := dk_154 0 6 (dk_at dksX1_right_3 8 rfl rfl)
theorem dX1_right_79 : decode cX1_right 79 = .ok (.goto 85, 3) := dk_167 0 85 (dk_at dksX1_right_3 11 rfl rfl)
theorem dX1_right_82 : decode cX1_right 82 = .ok (.iconst 1, 1) := dk_4 (dk_at dksX1_right_3 14 rfl rfl)
theorem dX1_right_83 : decode cX1_right 83 = .ok (.istore 9, 2) := dk_54 9 (dk_at dksX1_right_3 15 rfl rfl)
theorem dX1_right_85 : decode cX1_right 85 = .ok (.iload 9, 2) := dk_21 9 (dk_at dksX1_right_3 17 rfl rfl)
theorem dX1_right_87 : decode cX1_right 87 = .ok (.bipush 32, 2) := dk_16 32 (dk_at dksX1_right_3 19 rfl rfl)
theorem dX1_right_89 : decode cX1_right 89 = .ok (.if_icmp .ge 75, 3) := dk_162 0 75 (dk_at dksX1_right_3 21 rfl rfl)
theorem dX1_right_92 : decode cX1_right 92 = .ok (.iload 7, 2) := dk_21 7 (dk_at dksX1_right_4 0 rfl rfl)
theorem dX1_right_94 : decode cX1_right 94 = .ok (.aload 6, 2) := dk_25 6 (dk_at dksX1_right_4 2 rfl rfl)
theorem dX1_right_96 : decode cX1_right 96 = .ok (.iload_n 3, 1) := dk_29 (dk_at dksX1_right_4 4 rfl rfl)
theorem dX1_right_97 : decode cX1_right 97 = .ok (.iload 8, 2) := dk_21 8 (dk_at dksX1_right_4 5 rfl rfl)
theorem dX1_right_99 : decode cX1_right 99 = .ok (.iload 9, 2) := dk_21 9 (dk_at dksX1_right_4 7 rfl rfl)
theorem dX1_right_101 : decode cX1_right 101 = .ok (.invokevirtual 140, 3) := dk_182 0 140 (dk_at dksX1_right_4 9 rfl rfl)
theorem dX1_right_104 : decode cX1_right 104 = .ok (.ifCond .eq 50, 3) := dk_153 0 50 (dk_at dksX1_right_4 12 rfl rfl)
theorem dX1_right_107 : decode cX1_right 107 = .ok (.aload 5, 2) := dk_25 5 (dk_at dksX1_right_4 15 rfl rfl)
theorem dX1_right_109 : decode cX1_right 109 = .ok (.aload 6, 2) := dk_25 6 (dk_at dksX1_right_4 17 rfl rfl)
theorem dX1_right_111 : decode cX1_right 111 = .ok (.iload_n 3, 1) := dk_29 (dk_at dksX1_right_4 19 rfl rfl)
theorem dX1_right_112 : decode cX1_right 112 = .ok (.iload 8, 2) := dk_21 8 (dk_at dksX1_right_4 20 rfl rfl)
theorem dX1_right_114 : decode cX1_right 114 = .ok (.iload 9, 2) := dk_21 9 (dk_at dksX1_right_4 22 rfl rfl)
theorem dX1_right_116 : decode cX1_right 116 = .ok (.invokestatic 226, 3) := dk_184 0 226 (dk_at dksX1_right_5 0 rfl rfl)
theorem dX1_right_119 : decode cX1_right 119 = .ok (.aload 6, 2) := dk_25 6 (dk_at dksX1_right_5 3 rfl rfl)
theorem dX1_right_121 : decode cX1_right 121 = .ok (.iload_n 3, 1) := dk_29 (dk_at dksX1_right_5 5 rfl rfl)
theorem dX1_right_122 : decode cX1_right 122 = .ok (.iload 8, 2) := dk_21 8 (dk_at dksX1_right_5 6 rfl rfl)
theorem dX1_right_124 : decode cX1_right 124 = .ok (.iload 9, 2) := dk_21 9 (dk_at dksX1_right_5 8 rfl rfl)
theorem dX1_right_126 : decode cX1_right 126 = .ok (.invokevirtual 207, 3) := dk_182 0 207 (dk_at dksX1_right_5 10 rfl rfl)
theorem dX1_right_129 : decode cX1_right 129 = .ok (.if_icmp .ne 7, 3) := dk_160 0 7 (dk_at dksX1_right_5 13 rfl rfl)
theorem dX1_right_132 : decode cX1_right 132 = .ok (.iconst 1, 1) := dk_4 (dk_at dksX1_right_5 16 rfl rfl)
theorem dX1_right_133 : decode cX1_right 133 = .ok (.goto 4, 3) := dk_167 0 4 (dk_at dksX1_right_5 17 rfl rfl)
theorem dX1_right_136 : decode cX1_right 136 = .ok (.iconst 0, 1) := dk_3 (dk_at dksX1_right_5 20 rfl rfl)
theorem dX1_right_137 : decode cX1_right 137 = .ok (.iload 4, 2) := dk_21 4 (dk_at dksX1_right_5 21 rfl rfl)
theorem dX1_right_139 : decode cX1_right 139 = .ok (.ifCond .ne 7, 3) := dk_154 0 7 (dk_at dksX1_right_6 0 rfl rfl)
theorem dX1_right_142 : decode cX1_right 142 = .ok (.iconst 1, 1) := dk_4 (dk_at dksX1_right_6 3 rfl rfl)
theorem dX1_right_143 : decode cX1_right 143 = .ok (.goto 4, 3) := dk_167 0 4 (dk_at dksX1_right_6 4 rfl rfl)
theorem dX1_right_146 : decode cX1_right 146 = .ok (.iconst 0, 1) := dk_3 (dk_at dksX1_right_6 7 rfl rfl)
theorem dX1_right_147 : decode cX1_right 147 = .ok (.if_icmp .ne 7, 3) := dk_160 0 7 (dk_at dksX1_right_6 8 rfl rfl)
theorem dX1_right_150 : decode cX1_right 150 = .ok (.iconst 1, 1) := dk_4 (dk_at dksX1_right_6 11 rfl rfl)
theorem dX1_right_151 : decode cX1_right 151 = .ok (.goto 4, 3) := dk_167 0 4 (dk_at dksX1_right_6 12 rfl rfl)
theorem dX1_right_154 : decode cX1_right 154 = .ok (.iconst 0, 1) := dk_3 (dk_at dksX1_right_6 15 rfl rfl)
theorem dX1_right_155 : decode cX1_right 155 = .ok (.iadd, 1) := dk_96 (dk_at dksX1_right_6 16 rfl rfl)
theorem dX1_right_156 : decode cX1_right 156 = .ok (.istore 7, 2) := dk_54 7 (dk_at dksX1_right_6 17 rfl rfl)
theorem dX1_right_158 : decode cX1_right 158 = .ok (.iinc 9 1, 3) := dk_132 9 1 (dk_at dksX1_right_6 19 rfl rfl)
theorem dX1_right_161 : decode cX1_right 161 = .ok (.goto (-76), 3) := dk_167 255 180 (dk_at dksX1_right_7 0 rfl rfl)
theorem dX1_right_164 : decode cX1_right 164 = .ok (.iinc 8 1, 3) := dk_132 8 1 (dk_at dksX1_right_7 3 rfl rfl)
theorem dX1_right_167 : decode cX1_right 167 = .ok (.goto (-109), 3) := dk_167 255 147 (dk_at dksX1_right_7 6 rfl rfl)
theorem dX1_right_170 : decode cX1_right 170 = .ok (.iload 7, 2) := dk_21 7 (dk_at dksX1_right_7 9 rfl rfl)
theorem dX1_right_172 : decode cX1_right 172 = .ok (.ireturn, 1) := dk_172 (dk_at dksX1_right_7 11 rfl rfl)
abbrev cX1_lacks : ByteArray := prog_1_method_74_code
def yX1_lacks : MethodName := ⟨RX1, "lacks", "(IIII)I"⟩
def dkwX1_lacks_7 : List UInt8 := [180, 0, 213, 21, 7, 47, 20, 0, 217, 109, 136, 172]
abbrev dktX1_lacks_7 : List UInt8 := dkwX1_lacks_7 ++ []
def dkwX1_lacks_6 : List UInt8 := [21, 6, 167, 0, 33, 21, 4, 4, 159, 0, 9, 21, 7, 2, 160, 0, 8, 21, 7, 167, 0, 16, 25, 5]
abbrev dktX1_lacks_6 : List UInt8 := dkwX1_lacks_6 ++ dktX1_lacks_7
def dkwX1_lacks_5 : List UInt8 := [20, 0, 217, 109, 148, 158, 0, 7, 21, 8, 54, 7, 132, 8, 1, 167, 255, 188, 21, 4, 154, 0, 8]
abbrev dktX1_lacks_5 : List UInt8 := dkwX1_lacks_5 ++ dktX1_lacks_6
def dkwX1_lacks_4 : List UInt8 := [159, 0, 31, 25, 5, 180, 0, 213, 21, 8, 47, 20, 0, 217, 109, 25, 5, 180, 0, 213, 21, 7, 47]
abbrev dktX1_lacks_4 : List UInt8 := dkwX1_lacks_4 ++ dktX1_lacks_5
def dkwX1_lacks_3 : List UInt8 := [25, 5, 180, 0, 213, 21, 8, 47, 20, 1, 171, 148, 155, 0, 9, 132, 6, 1, 167, 0, 41, 21, 7, 2]
abbrev dktX1_lacks_3 : List UInt8 := dkwX1_lacks_3 ++ dktX1_lacks_4
def dkwX1_lacks_2 : List UInt8 := [160, 0, 9, 25, 5, 184, 1, 173, 172, 3, 54, 6, 2, 54, 7, 28, 54, 8, 21, 8, 29, 163, 0, 68]
abbrev dktX1_lacks_2 : List UInt8 := dkwX1_lacks_2 ++ dktX1_lacks_3
def dkwX1_lacks_1 : List UInt8 := [162, 0, 13, 28, 29, 184, 1, 159, 154, 0, 5, 2, 172, 42, 180, 0, 31, 27, 50, 58, 5, 21, 4, 6]
abbrev dktX1_lacks_1 : List UInt8 := dkwX1_lacks_1 ++ dktX1_lacks_2
def dkwX1_lacks_0 : List UInt8 := [42, 27, 182, 0, 184, 153, 0, 30, 21, 4, 133, 9, 20, 0, 157, 184, 0, 89, 153, 0, 17, 21, 4, 6]
abbrev dktX1_lacks_0 : List UInt8 := dkwX1_lacks_0 ++ dktX1_lacks_1
theorem dksX1_lacks_0 : cX1_lacks.data.toList.drop 0 = dktX1_lacks_0 := by decide +kernel
theorem dksX1_lacks_1 : cX1_lacks.data.toList.drop 24 = dktX1_lacks_1 := dk_seg dksX1_lacks_0 24 rfl rfl
theorem dksX1_lacks_2 : cX1_lacks.data.toList.drop 48 = dktX1_lacks_2 := dk_seg dksX1_lacks_1 24 rfl rfl
theorem dksX1_lacks_3 : cX1_lacks.data.toList.drop 72 = dktX1_lacks_3 := dk_seg dksX1_lacks_2 24 rfl rfl
theorem dksX1_lacks_4 : cX1_lacks.data.toList.drop 96 = dktX1_lacks_4 := dk_seg dksX1_lacks_3 24 rfl rfl
theorem dksX1_lacks_5 : cX1_lacks.data.toList.drop 119 = dktX1_lacks_5 := dk_seg dksX1_lacks_4 23 rfl rfl
theorem dksX1_lacks_6 : cX1_lacks.data.toList.drop 142 = dktX1_lacks_6 := dk_seg dksX1_lacks_5 23 rfl rfl
theorem dksX1_lacks_7 : cX1_lacks.data.toList.drop 166 = dktX1_lacks_7 := dk_seg dksX1_lacks_6 24 rfl rfl
theorem dX1_lacks_0 : decode cX1_lacks 0 = .ok (.aload_n 0, 1) := dk_42 (dk_at dksX1_lacks_0 0 rfl rfl)
theorem dX1_lacks_1 : decode cX1_lacks 1 = .ok (.iload_n 1, 1) := dk_27 (dk_at dksX1_lacks_0 1 rfl rfl)
theorem dX1_lacks_2 : decode cX1_lacks 2 = .ok (.invokevirtual 184, 3) := dk_182 0 184 (dk_at dksX1_lacks_0 2 rfl rfl)
theorem dX1_lacks_5 : decode cX1_lacks 5 = .ok (.ifCond .eq 30, 3) := dk_153 0 30 (dk_at dksX1_lacks_0 5 rfl rfl)
theorem dX1_lacks_8 : decode cX1_lacks 8 = .ok (.iload 4, 2) := dk_21 4 (dk_at dksX1_lacks_0 8 rfl rfl)
theorem dX1_lacks_10 : decode cX1_lacks 10 = .ok (.i2l, 1) := dk_133 (dk_at dksX1_lacks_0 10 rfl rfl)
theorem dX1_lacks_11 : decode cX1_lacks 11 = .ok (.lconst 0, 1) := dk_9 (dk_at dksX1_lacks_0 11 rfl rfl)
theorem dX1_lacks_12 : decode cX1_lacks 12 = .ok (.ldc2_w 157, 3) := dk_20 0 157 (dk_at dksX1_lacks_0 12 rfl rfl)
theorem dX1_lacks_15 : decode cX1_lacks 15 = .ok (.invokestatic 89, 3) := dk_184 0 89 (dk_at dksX1_lacks_0 15 rfl rfl)
theorem dX1_lacks_18 : decode cX1_lacks 18 = .ok (.ifCond .eq 17, 3) := dk_153 0 17 (dk_at dksX1_lacks_0 18 rfl rfl)
theorem dX1_lacks_21 : decode cX1_lacks 21 = .ok (.iload 4, 2) := dk_21 4 (dk_at dksX1_lacks_0 21 rfl rfl)
theorem dX1_lacks_23 : decode cX1_lacks 23 = .ok (.iconst 3, 1) := dk_6 (dk_at dksX1_lacks_0 23 rfl rfl)
theorem dX1_lacks_24 : decode cX1_lacks 24 = .ok (.if_icmp .ge 13, 3) := dk_162 0 13 (dk_at dksX1_lacks_1 0 rfl rfl)
theorem dX1_lacks_27 : decode cX1_lacks 27 = .ok (.iload_n 2, 1) := dk_28 (dk_at dksX1_lacks_1 3 rfl rfl)
theorem dX1_lacks_28 : decode cX1_lacks 28 = .ok (.iload_n 3, 1) := dk_29 (dk_at dksX1_lacks_1 4 rfl rfl)
theorem dX1_lacks_29 : decode cX1_lacks 29 = .ok (.invokestatic 415, 3) := dk_184 1 159 (dk_at dksX1_lacks_1 5 rfl rfl)
theorem dX1_lacks_32 : decode cX1_lacks 32 = .ok (.ifCond .ne 5, 3) := dk_154 0 5 (dk_at dksX1_lacks_1 8 rfl rfl)
theorem dX1_lacks_35 : decode cX1_lacks 35 = .ok (.iconst (-1), 1) := dk_2 (dk_at dksX1_lacks_1 11 rfl rfl)
theorem dX1_lacks_36 : decode cX1_lacks 36 = .ok (.ireturn, 1) := dk_172 (dk_at dksX1_lacks_1 12 rfl rfl)
theorem dX1_lacks_37 : decode cX1_lacks 37 = .ok (.aload_n 0, 1) := dk_42 (dk_at dksX1_lacks_1 13 rfl rfl)
theorem dX1_lacks_38 : decode cX1_lacks 38 = .ok (.getfield 31, 3) := dk_180 0 31 (dk_at dksX1_lacks_1 14 rfl rfl)
theorem dX1_lacks_41 : decode cX1_lacks 41 = .ok (.iload_n 1, 1) := dk_27 (dk_at dksX1_lacks_1 17 rfl rfl)
theorem dX1_lacks_42 : decode cX1_lacks 42 = .ok (.aaload, 1) := dk_50 (dk_at dksX1_lacks_1 18 rfl rfl)
theorem dX1_lacks_43 : decode cX1_lacks 43 = .ok (.astore 5, 2) := dk_58 5 (dk_at dksX1_lacks_1 19 rfl rfl)
theorem dX1_lacks_45 : decode cX1_lacks 45 = .ok (.iload 4, 2) := dk_21 4 (dk_at dksX1_lacks_1 21 rfl rfl)
theorem dX1_lacks_47 : decode cX1_lacks 47 = .ok (.iconst 3, 1) := dk_6 (dk_at dksX1_lacks_1 23 rfl rfl)
theorem dX1_lacks_48 : decode cX1_lacks 48 = .ok (.if_icmp .ne 9, 3) := dk_160 0 9 (dk_at dksX1_lacks_2 0 rfl rfl)
theorem dX1_lacks_51 : decode cX1_lacks 51 = .ok (.aload 5, 2) := dk_25 5 (dk_at dksX1_lacks_2 3 rfl rfl)
theorem dX1_lacks_53 : decode cX1_lacks 53 = .ok (.invokestatic 429, 3) := dk_184 1 173 (dk_at dksX1_lacks_2 5 rfl rfl)
theorem dX1_lacks_56 : decode cX1_lacks 56 = .ok (.ireturn, 1) := dk_172 (dk_at dksX1_lacks_2 8 rfl rfl)
theorem dX1_lacks_57 : decode cX1_lacks 57 = .ok (.iconst 0, 1) := dk_3 (dk_at dksX1_lacks_2 9 rfl rfl)
theorem dX1_lacks_58 : decode cX1_lacks 58 = .ok (.istore 6, 2) := dk_54 6 (dk_at dksX1_lacks_2 10 rfl rfl)
theorem dX1_lacks_60 : decode cX1_lacks 60 = .ok (.iconst (-1), 1) := dk_2 (dk_at dksX1_lacks_2 12 rfl rfl)
theorem dX1_lacks_61 : decode cX1_lacks 61 = .ok (.istore 7, 2) := dk_54 7 (dk_at dksX1_lacks_2 13 rfl rfl)
theorem dX1_lacks_63 : decode cX1_lacks 63 = .ok (.iload_n 2, 1) := dk_28 (dk_at dksX1_lacks_2 15 rfl rfl)
theorem dX1_lacks_64 : decode cX1_lacks 64 = .ok (.istore 8, 2) := dk_54 8 (dk_at dksX1_lacks_2 16 rfl rfl)
theorem dX1_lacks_66 : decode cX1_lacks 66 = .ok (.iload 8, 2) := dk_21 8 (dk_at dksX1_lacks_2 18 rfl rfl)
theorem dX1_lacks_68 : decode cX1_lacks 68 = .ok (.iload_n 3, 1) := dk_29 (dk_at dksX1_lacks_2 20 rfl rfl)
theorem dX1_lacks_69 : decode cX1_lacks 69 = .ok (.if_icmp .gt 68, 3) := dk_163 0 68 (dk_at dksX1_lacks_2 21 rfl rfl)
theorem dX1_lacks_72 : decode cX1_lacks 72 = .ok (.aload 5, 2) := dk_25 5 (dk_at dksX1_lacks_3 0 rfl rfl)
theorem dX1_lacks_74 : decode cX1_lacks 74 = .ok (.getfield 213, 3) := dk_180 0 213 (dk_at dksX1_lacks_3 2 rfl rfl)
theorem dX1_lacks_77 : decode cX1_lacks 77 = .ok (.iload 8, 2) := dk_21 8 (dk_at dksX1_lacks_3 5 rfl rfl)
theorem dX1_lacks_79 : decode cX1_lacks 79 = .ok (.laload, 1) := dk_47 (dk_at dksX1_lacks_3 7 rfl rfl)
theorem dX1_lacks_80 : decode cX1_lacks 80 = .ok (.ldc2_w 427, 3) := dk_20 1 171 (dk_at dksX1_lacks_3 8 rfl rfl)
theorem dX1_lacks_83 : decode cX1_lacks 83 = .ok (.lcmp, 1) := dk_148 (dk_at dksX1_lacks_3 11 rfl rfl)
theorem dX1_lacks_84 : decode cX1_lacks 84 = .ok (.ifCond .lt 9, 3) := dk_155 0 9 (dk_at dksX1_lacks_3 12 rfl rfl)
theorem dX1_lacks_87 : decode cX1_lacks 87 = .ok (.iinc 6 1, 3) := dk_132 6 1 (dk_at dksX1_lacks_3 15 rfl rfl)
theorem dX1_lacks_90 : decode cX1_lacks 90 = .ok (.goto 41, 3) := dk_167 0 41 (dk_at dksX1_lacks_3 18 rfl rfl)
theorem dX1_lacks_93 : decode cX1_lacks 93 = .ok (.iload 7, 2) := dk_21 7 (dk_at dksX1_lacks_3 21 rfl rfl)
theorem dX1_lacks_95 : decode cX1_lacks 95 = .ok (.iconst (-1), 1) := dk_2 (dk_at dksX1_lacks_3 23 rfl rfl)
theorem dX1_lacks_96 : decode cX1_lacks 96 = .ok (.if_icmp .eq 31, 3) := dk_159 0 31 (dk_at dksX1_lacks_4 0 rfl rfl)
theorem dX1_lacks_99 : decode cX1_lacks 99 = .ok (.aload 5, 2) := dk_25 5 (dk_at dksX1_lacks_4 3 rfl rfl)
theorem dX1_lacks_101 : decode cX1_lacks 101 = .ok (.getfield 213, 3) := dk_180 0 213 (dk_at dksX1_lacks_4 5 rfl rfl)
theorem dX1_lacks_104 : decode cX1_lacks 104 = .ok (.iload 8, 2) := dk_21 8 (dk_at dksX1_lacks_4 8 rfl rfl)
theorem dX1_lacks_106 : decode cX1_lacks 106 = .ok (.laload, 1) := dk_47 (dk_at dksX1_lacks_4 10 rfl rfl)
theorem dX1_lacks_107 : decode cX1_lacks 107 = .ok (.ldc2_w 217, 3) := dk_20 0 217 (dk_at dksX1_lacks_4 11 rfl rfl)
theorem dX1_lacks_110 : decode cX1_lacks 110 = .ok (.ldiv, 1) := dk_109 (dk_at dksX1_lacks_4 14 rfl rfl)
theorem dX1_lacks_111 : decode cX1_lacks 111 = .ok (.aload 5, 2) := dk_25 5 (dk_at dksX1_lacks_4 15 rfl rfl)
theorem dX1_lacks_113 : decode cX1_lacks 113 = .ok (.getfield 213, 3) := dk_180 0 213 (dk_at dksX1_lacks_4 17 rfl rfl)
theorem dX1_lacks_116 : decode cX1_lacks 116 = .ok (.iload 7, 2) := dk_21 7 (dk_at dksX1_lacks_4 20 rfl rfl)
theorem dX1_lacks_118 : decode cX1_lacks 118 = .ok (.laload, 1) := dk_47 (dk_at dksX1_lacks_4 22 rfl rfl)
theorem dX1_lacks_119 : decode cX1_lacks 119 = .ok (.ldc2_w 217, 3) := dk_20 0 217 (dk_at dksX1_lacks_5 0 rfl rfl)
theorem dX1_lacks_122 : decode cX1_lacks 122 = .ok (.ldiv, 1) := dk_109 (dk_at dksX1_lacks_5 3 rfl rfl)
theorem dX1_lacks_123 : decode cX1_lacks 123 = .ok (.lcmp, 1) := dk_148 (dk_at dksX1_lacks_5 4 rfl rfl)
theorem dX1_lacks_124 : decode cX1_lacks 124 = .ok (.ifCond .le 7, 3) := dk_158 0 7 (dk_at dksX1_lacks_5 5 rfl rfl)
theorem dX1_lacks_127 : decode cX1_lacks 127 = .ok (.iload 8, 2) := dk_21 8 (dk_at dksX1_lacks_5 8 rfl rfl)
theorem dX1_lacks_129 : decode cX1_lacks 129 = .ok (.istore 7, 2) := dk_54 7 (dk_at dksX1_lacks_5 10 rfl rfl)
theorem dX1_lacks_131 : decode cX1_lacks 131 = .ok (.iinc 8 1, 3) := dk_132 8 1 (dk_at dksX1_lacks_5 12 rfl rfl)
theorem dX1_lacks_134 : decode cX1_lacks 134 = .ok (.goto (-68), 3) := dk_167 255 188 (dk_at dksX1_lacks_5 15 rfl rfl)
theorem dX1_lacks_137 : decode cX1_lacks 137 = .ok (.iload 4, 2) := dk_21 4 (dk_at dksX1_lacks_5 18 rfl rfl)
theorem dX1_lacks_139 : decode cX1_lacks 139 = .ok (.ifCond .ne 8, 3) := dk_154 0 8 (dk_at dksX1_lacks_5 20 rfl rfl)
theorem dX1_lacks_142 : decode cX1_lacks 142 = .ok (.iload 6, 2) := dk_21 6 (dk_at dksX1_lacks_6 0 rfl rfl)
theorem dX1_lacks_144 : decode cX1_lacks 144 = .ok (.goto 33, 3) := dk_167 0 33 (dk_at dksX1_lacks_6 2 rfl rfl)
theorem dX1_lacks_147 : decode cX1_lacks 147 = .ok (.iload 4, 2) := dk_21 4 (dk_at dksX1_lacks_6 5 rfl rfl)
theorem dX1_lacks_149 : decode cX1_lacks 149 = .ok (.iconst 1, 1) := dk_4 (dk_at dksX1_lacks_6 7 rfl rfl)
theorem dX1_lacks_150 : decode cX1_lacks 150 = .ok (.if_icmp .eq 9, 3) := dk_159 0 9 (dk_at dksX1_lacks_6 8 rfl rfl)
theorem dX1_lacks_153 : decode cX1_lacks 153 = .ok (.iload 7, 2) := dk_21 7 (dk_at dksX1_lacks_6 11 rfl rfl)
theorem dX1_lacks_155 : decode cX1_lacks 155 = .ok (.iconst (-1), 1) := dk_2 (dk_at dksX1_lacks_6 13 rfl rfl)
theorem dX1_lacks_156 : decode cX1_lacks 156 = .ok (.if_icmp .ne 8, 3) := dk_160 0 8 (dk_at dksX1_lacks_6 14 rfl rfl)
theorem dX1_lacks_159 : decode cX1_lacks 159 = .ok (.iload 7, 2) := dk_21 7 (dk_at dksX1_lacks_6 17 rfl rfl)
theorem dX1_lacks_161 : decode cX1_lacks 161 = .ok (.goto 16, 3) := dk_167 0 16 (dk_at dksX1_lacks_6 19 rfl rfl)
theorem dX1_lacks_164 : decode cX1_lacks 164 = .ok (.aload 5, 2) := dk_25 5 (dk_at dksX1_lacks_6 22 rfl rfl)
theorem dX1_lacks_166 : decode cX1_lacks 166 = .ok (.getfield 213, 3) := dk_180 0 213 (dk_at dksX1_lacks_7 0 rfl rfl)
theorem dX1_lacks_169 : decode cX1_lacks 169 = .ok (.iload 7, 2) := dk_21 7 (dk_at dksX1_lacks_7 3 rfl rfl)
theorem dX1_lacks_171 : decode cX1_lacks 171 = .ok (.laload, 1) := dk_47 (dk_at dksX1_lacks_7 5 rfl rfl)
theorem dX1_lacks_172 : decode cX1_lacks 172 = .ok (.ldc2_w 217, 3) := dk_20 0 217 (dk_at dksX1_lacks_7 6 rfl rfl)
theorem dX1_lacks_175 : decode cX1_lacks 175 = .ok (.ldiv, 1) := dk_109 (dk_at dksX1_lacks_7 9 rfl rfl)
theorem dX1_lacks_176 : decode cX1_lacks 176 = .ok (.l2i, 1) := dk_136 (dk_at dksX1_lacks_7 10 rfl rfl)
theorem dX1_lacks_177 : decode cX1_lacks 177 = .ok (.ireturn, 1) := dk_172 (dk_at dksX1_lacks_7 11 rfl rfl)
abbrev cX1_lackingMonths : ByteArray := prog_1_method_73_code
def yX1_lackingMonths : MethodName := ⟨RX1, "lackingMonths", "(LDayBoy$Head;)I"⟩
def dkwX1_lackingMonths_1 : List UInt8 := [4, 28, 4, 100, 120, 167, 0, 4, 3, 128, 60, 132, 2, 1, 167, 255, 222, 27, 172]
abbrev dktX1_lackingMonths_1 : List UInt8 := dkwX1_lackingMonths_1 ++ []
def dkwX1_lackingMonths_0 : List UInt8 := [3, 60, 4, 61, 28, 16, 13, 162, 0, 34, 27, 42, 180, 0, 219, 28, 47, 20, 1, 171, 148, 155, 0, 11]
abbrev dktX1_lackingMonths_0 : List UInt8 := dkwX1_lackingMonths_0 ++ dktX1_lackingMonths_1
theorem dksX1_lackingMonths_0 : cX1_lackingMonths.data.toList.drop 0 = dktX1_lackingMonths_0 := by decide +kernel
theorem dksX1_lackingMonths_1 : cX1_lackingMonths.data.toList.drop 24 = dktX1_lackingMonths_1 := dk_seg dksX1_lackingMonths_0 24 rfl rfl
theorem dX1_lackingMonths_0 : decode cX1_lackingMonths 0 = .ok (.iconst 0, 1) := dk_3 (dk_at dksX1_lackingMonths_0 0 rfl rfl)
theorem dX1_lackingMonths_1 : decode cX1_lackingMonths 1 = .ok (.istore_n 1, 1) := dk_60 (dk_at dksX1_lackingMonths_0 1 rfl rfl)
theorem dX1_lackingMonths_2 : decode cX1_lackingMonths 2 = .ok (.iconst 1, 1) := dk_4 (dk_at dksX1_lackingMonths_0 2 rfl rfl)
theorem dX1_lackingMonths_3 : decode cX1_lackingMonths 3 = .ok (.istore_n 2, 1) := dk_61 (dk_at dksX1_lackingMonths_0 3 rfl rfl)
theorem dX1_lackingMonths_4 : decode cX1_lackingMonths 4 = .ok (.iload_n 2, 1) := dk_28 (dk_at dksX1_lackingMonths_0 4 rfl rfl)
theorem dX1_lackingMonths_5 : decode cX1_lackingMonths 5 = .ok (.bipush 13, 2) := dk_16 13 (dk_at dksX1_lackingMonths_0 5 rfl rfl)
theorem dX1_lackingMonths_7 : decode cX1_lackingMonths 7 = .ok (.if_icmp .ge 34, 3) := dk_162 0 34 (dk_at dksX1_lackingMonths_0 7 rfl rfl)
theorem dX1_lackingMonths_10 : decode cX1_lackingMonths 10 = .ok (.iload_n 1, 1) := dk_27 (dk_at dksX1_lackingMonths_0 10 rfl rfl)
theorem dX1_lackingMonths_11 : decode cX1_lackingMonths 11 = .ok (.aload_n 0, 1) := dk_42 (dk_at dksX1_lackingMonths_0 11 rfl rfl)
theorem dX1_lackingMonths_12 : decode cX1_lackingMonths 12 = .ok (.getfield 219, 3) := dk_180 0 219 (dk_at dksX1_lackingMonths_0 12 rfl rfl)
theorem dX1_lackingMonths_15 : decode cX1_lackingMonths 15 = .ok (.iload_n 2, 1) := dk_28 (dk_at dksX1_lackingMonths_0 15 rfl rfl)
theorem dX1_lackingMonths_16 : decode cX1_lackingMonths 16 = .ok (.laload, 1) := dk_47 (dk_at dksX1_lackingMonths_0 16 rfl rfl)
theorem dX1_lackingMonths_17 : decode cX1_lackingMonths 17 = .ok (.ldc2_w 427, 3) := dk_20 1 171 (dk_at dksX1_lackingMonths_0 17 rfl rfl)
theorem dX1_lackingMonths_20 : decode cX1_lackingMonths 20 = .ok (.lcmp, 1) := dk_148 (dk_at dksX1_lackingMonths_0 20 rfl rfl)
theorem dX1_lackingMonths_21 : decode cX1_lackingMonths 21 = .ok (.ifCond .lt 11, 3) := dk_155 0 11 (dk_at dksX1_lackingMonths_0 21 rfl rfl)
theorem dX1_lackingMonths_24 : decode cX1_lackingMonths 24 = .ok (.iconst 1, 1) := dk_4 (dk_at dksX1_lackingMonths_1 0 rfl rfl)
theorem dX1_lackingMonths_25 : decode cX1_lackingMonths 25 = .ok (.iload_n 2, 1) := dk_28 (dk_at dksX1_lackingMonths_1 1 rfl rfl)
theorem dX1_lackingMonths_26 : decode cX1_lackingMonths 26 = .ok (.iconst 1, 1) := dk_4 (dk_at dksX1_lackingMonths_1 2 rfl rfl)
theorem dX1_lackingMonths_27 : decode cX1_lackingMonths 27 = .ok (.isub, 1) := dk_100 (dk_at dksX1_lackingMonths_1 3 rfl rfl)
theorem dX1_lackingMonths_28 : decode cX1_lackingMonths 28 = .ok (.ishl, 1) := dk_120 (dk_at dksX1_lackingMonths_1 4 rfl rfl)
theorem dX1_lackingMonths_29 : decode cX1_lackingMonths 29 = .ok (.goto 4, 3) := dk_167 0 4 (dk_at dksX1_lackingMonths_1 5 rfl rfl)
theorem dX1_lackingMonths_32 : decode cX1_lackingMonths 32 = .ok (.iconst 0, 1) := dk_3 (dk_at dksX1_lackingMonths_1 8 rfl rfl)
theorem dX1_lackingMonths_33 : decode cX1_lackingMonths 33 = .ok (.ior, 1) := dk_128 (dk_at dksX1_lackingMonths_1 9 rfl rfl)
theorem dX1_lackingMonths_34 : decode cX1_lackingMonths 34 = .ok (.istore_n 1, 1) := dk_60 (dk_at dksX1_lackingMonths_1 10 rfl rfl)
theorem dX1_lackingMonths_35 : decode cX1_lackingMonths 35 = .ok (.iinc 2 1, 3) := dk_132 2 1 (dk_at dksX1_lackingMonths_1 11 rfl rfl)
theorem dX1_lackingMonths_38 : decode cX1_lackingMonths 38 = .ok (.goto (-34), 3) := dk_167 255 222 (dk_at dksX1_lackingMonths_1 14 rfl rfl)
theorem dX1_lackingMonths_41 : decode cX1_lackingMonths 41 = .ok (.iload_n 1, 1) := dk_27 (dk_at dksX1_lackingMonths_1 17 rfl rfl)
theorem dX1_lackingMonths_42 : decode cX1_lackingMonths 42 = .ok (.ireturn, 1) := dk_172 (dk_at dksX1_lackingMonths_1 18 rfl rfl)
abbrev cX1_spare : ByteArray := prog_1_method_75_code
def yX1_spare : MethodName := ⟨RX1, "spare", "(II)I"⟩
def dkwX1_spare_3 : List UInt8 := [167, 255, 212, 29, 172]
abbrev dktX1_spare_3 : List UInt8 := dkwX1_spare_3 ++ []
def dkwX1_spare_2 : List UInt8 := [27, 182, 1, 30, 100, 28, 163, 0, 10, 4, 21, 4, 120, 167, 0, 4, 3, 128, 62, 132, 4, 1]
abbrev dktX1_spare_2 : List UInt8 := dkwX1_spare_2 ++ dktX1_spare_3
def dkwX1_spare_1 : List UInt8 := [54, 4, 21, 4, 42, 180, 0, 118, 162, 0, 41, 29, 42, 180, 0, 240, 42, 42, 180, 0, 31, 21, 4, 50]
abbrev dktX1_spare_1 : List UInt8 := dkwX1_spare_1 ++ dktX1_spare_2
def dkwX1_spare_0 : List UInt8 := [27, 184, 1, 27, 153, 0, 15, 28, 133, 9, 20, 1, 177, 184, 0, 89, 154, 0, 5, 2, 172, 3, 62, 3]
abbrev dktX1_spare_0 : List UInt8 := dkwX1_spare_0 ++ dktX1_spare_1
theorem dksX1_spare_0 : cX1_spare.data.toList.drop 0 = dktX1_spare_0 := by decide +kernel
theorem dksX1_spare_1 : cX1_spare.data.toList.drop 24 = dktX1_spare_1 := dk_seg dksX1_spare_0 24 rfl rfl
theorem dksX1_spare_2 : cX1_spare.data.toList.drop 48 = dktX1_spare_2 := dk_seg dksX1_spare_1 24 rfl rfl
theorem dksX1_spare_3 : cX1_spare.data.toList.drop 70 = dktX1_spare_3 := dk_seg dksX1_spare_2 22 rfl rfl
theorem dX1_spare_0 : decode cX1_spare 0 = .ok (.iload_n 1, 1) := dk_27 (dk_at dksX1_spare_0 0 rfl rfl)
theorem dX1_spare_1 : decode cX1_spare 1 = .ok (.invokestatic 283, 3) := dk_184 1 27 (dk_at dksX1_spare_0 1 rfl rfl)
theorem dX1_spare_4 : decode cX1_spare 4 = .ok (.ifCond .eq 15, 3) := dk_153 0 15 (dk_at dksX1_spare_0 4 rfl rfl)
theorem dX1_spare_7 : decode cX1_spare 7 = .ok (.iload_n 2, 1) := dk_28 (dk_at dksX1_spare_0 7 rfl rfl)
theorem dX1_spare_8 : decode cX1_spare 8 = .ok (.i2l, 1) := dk_133 (dk_at dksX1_spare_0 8 rfl rfl)
theorem dX1_spare_9 : decode cX1_spare 9 = .ok (.lconst 0, 1) := dk_9 (dk_at dksX1_spare_0 9 rfl rfl)
theorem dX1_spare_10 : decode cX1_spare 10 = .ok (.ldc2_w 433, 3) := dk_20 1 177 (dk_at dksX1_spare_0 10 rfl rfl)
theorem dX1_spare_13 : decode cX1_spare 13 = .ok (.invokestatic 89, 3) := dk_184 0 89 (dk_at dksX1_spare_0 13 rfl rfl)
theorem dX1_spare_16 : decode cX1_spare 16 = .ok (.ifCond .ne 5, 3) := dk_154 0 5 (dk_at dksX1_spare_0 16 rfl rfl)
theorem dX1_spare_19 : decode cX1_spare 19 = .ok (.iconst (-1), 1) := dk_2 (dk_at dksX1_spare_0 19 rfl rfl)
theorem dX1_spare_20 : decode cX1_spare 20 = .ok (.ireturn, 1) := dk_172 (dk_at dksX1_spare_0 20 rfl rfl)
theorem dX1_spare_21 : decode cX1_spare 21 = .ok (.iconst 0, 1) := dk_3 (dk_at dksX1_spare_0 21 rfl rfl)
theorem dX1_spare_22 : decode cX1_spare 22 = .ok (.istore_n 3, 1) := dk_62 (dk_at dksX1_spare_0 22 rfl rfl)
theorem dX1_spare_23 : decode cX1_spare 23 = .ok (.iconst 0, 1) := dk_3 (dk_at dksX1_spare_0 23 rfl rfl)
theorem dX1_spare_24 : decode cX1_spare 24 = .ok (.istore 4, 2) := dk_54 4 (dk_at dksX1_spare_1 0 rfl rfl)
theorem dX1_spare_26 : decode cX1_spare 26 = .ok (.iload 4, 2) := dk_21 4 (dk_at dksX1_spare_1 2 rfl rfl)
theorem dX1_spare_28 : decode cX1_spare 28 = .ok (.aload_n 0, 1) := dk_42 (dk_at dksX1_spare_1 4 rfl rfl)
theorem dX1_spare_29 : decode cX1_spare 29 = .ok (.getfield 118, 3) := dk_180 0 118 (dk_at dksX1_spare_1 5 rfl rfl)
theorem dX1_spare_32 : decode cX1_spare 32 = .ok (.if_icmp .ge 41, 3) := dk_162 0 41 (dk_at dksX1_spare_1 8 rfl rfl)
theorem dX1_spare_35 : decode cX1_spare 35 = .ok (.iload_n 3, 1) := dk_29 (dk_at dksX1_spare_1 11 rfl rfl)
theorem dX1_spare_36 : decode cX1_spare 36 = .ok (.aload_n 0, 1) := dk_42 (dk_at dksX1_spare_1 12 rfl rfl)
theorem dX1_spare_37 : decode cX1_spare 37 = .ok (.getfield 240, 3) := dk_180 0 240 (dk_at dksX1_spare_1 13 rfl rfl)
theorem dX1_spare_40 : decode cX1_spare 40 = .ok (.aload_n 0, 1) := dk_42 (dk_at dksX1_spare_1 16 rfl rfl)
theorem dX1_spare_41 : decode cX1_spare 41 = .ok (.aload_n 0, 1) := dk_42 (dk_at dksX1_spare_1 17 rfl rfl)
theorem dX1_spare_42 : decode cX1_spare 42 = .ok (.getfield 31, 3) := dk_180 0 31 (dk_at dksX1_spare_1 18 rfl rfl)
theorem dX1_spare_45 : decode cX1_spare 45 = .ok (.iload 4, 2) := dk_21 4 (dk_at dksX1_spare_1 21 rfl rfl)
theorem dX1_spare_47 : decode cX1_spare 47 = .ok (.aaload, 1) := dk_50 (dk_at dksX1_spare_1 23 rfl rfl)
theorem dX1_spare_48 : decode cX1_spare 48 = .ok (.iload_n 1, 1) := dk_27 (dk_at dksX1_spare_2 0 rfl rfl)
theorem dX1_spare_49 : decode cX1_spare 49 = .ok (.invokevirtual 286, 3) := dk_182 1 30 (dk_at dksX1_spare_2 1 rfl rfl)
theorem dX1_spare_52 : decode cX1_spare 52 = .ok (.isub, 1) := dk_100 (dk_at dksX1_spare_2 4 rfl rfl)
theorem dX1_spare_53 : decode cX1_spare 53 = .ok (.iload_n 2, 1) := dk_28 (dk_at dksX1_spare_2 5 rfl rfl)
theorem dX1_spare_54 : decode cX1_spare 54 = .ok (.if_icmp .gt 10, 3) := dk_163 0 10 (dk_at dksX1_spare_2 6 rfl rfl)
theorem dX1_spare_57 : decode cX1_spare 57 = .ok (.iconst 1, 1) := dk_4 (dk_at dksX1_spare_2 9 rfl rfl)
theorem dX1_spare_58 : decode cX1_spare 58 = .ok (.iload 4, 2) := dk_21 4 (dk_at dksX1_spare_2 10 rfl rfl)
theorem dX1_spare_60 : decode cX1_spare 60 = .ok (.ishl, 1) := dk_120 (dk_at dksX1_spare_2 12 rfl rfl)
theorem dX1_spare_61 : decode cX1_spare 61 = .ok (.goto 4, 3) := dk_167 0 4 (dk_at dksX1_spare_2 13 rfl rfl)
theorem dX1_spare_64 : decode cX1_spare 64 = .ok (.iconst 0, 1) := dk_3 (dk_at dksX1_spare_2 16 rfl rfl)
theorem dX1_spare_65 : decode cX1_spare 65 = .ok (.ior, 1) := dk_128 (dk_at dksX1_spare_2 17 rfl rfl)
theorem dX1_spare_66 : decode cX1_spare 66 = .ok (.istore_n 3, 1) := dk_62 (dk_at dksX1_spare_2 18 rfl rfl)
theorem dX1_spare_67 : decode cX1_spare 67 = .ok (.iinc 4 1, 3) := dk_132 4 1 (dk_at dksX1_spare_2 19 rfl rfl)
theorem dX1_spare_70 : decode cX1_spare 70 = .ok (.goto (-44), 3) := dk_167 255 212 (dk_at dksX1_spare_3 0 rfl rfl)
theorem dX1_spare_73 : decode cX1_spare 73 = .ok (.iload_n 3, 1) := dk_29 (dk_at dksX1_spare_3 3 rfl rfl)
theorem dX1_spare_74 : decode cX1_spare 74 = .ok (.ireturn, 1) := dk_172 (dk_at dksX1_spare_3 4 rfl rfl)
abbrev cX1_unlike : ByteArray := prog_1_method_77_code
def yX1_unlike : MethodName := ⟨RX1, "unlike", "(III)I"⟩
def dkwX1_unlike_3 : List UInt8 := [132, 4, 1, 167, 255, 220, 2, 172]
abbrev dktX1_unlike_3 : List UInt8 := dkwX1_unlike_3 ++ []
def dkwX1_unlike_2 : List UInt8 := [180, 0, 27, 27, 50, 42, 180, 0, 27, 28, 50, 21, 4, 184, 1, 181, 153, 0, 6, 21, 4, 172]
abbrev dktX1_unlike_2 : List UInt8 := dkwX1_unlike_2 ++ dktX1_unlike_3
def dkwX1_unlike_1 : List UInt8 := [184, 0, 89, 154, 0, 5, 2, 172, 29, 54, 4, 21, 4, 29, 17, 19, 136, 96, 162, 0, 32, 42]
abbrev dktX1_unlike_1 : List UInt8 := dkwX1_unlike_1 ++ dktX1_unlike_2
def dkwX1_unlike_0 : List UInt8 := [42, 27, 182, 0, 136, 153, 0, 23, 42, 28, 182, 0, 136, 153, 0, 15, 29, 133, 9, 20, 1, 179]
abbrev dktX1_unlike_0 : List UInt8 := dkwX1_unlike_0 ++ dktX1_unlike_1
theorem dksX1_unlike_0 : cX1_unlike.data.toList.drop 0 = dktX1_unlike_0 := by decide +kernel
theorem dksX1_unlike_1 : cX1_unlike.data.toList.drop 22 = dktX1_unlike_1 := dk_seg dksX1_unlike_0 22 rfl rfl
theorem dksX1_unlike_2 : cX1_unlike.data.toList.drop 44 = dktX1_unlike_2 := dk_seg dksX1_unlike_1 22 rfl rfl
theorem dksX1_unlike_3 : cX1_unlike.data.toList.drop 66 = dktX1_unlike_3 := dk_seg dksX1_unlike_2 22 rfl rfl
theorem dX1_unlike_0 : decode cX1_unlike 0 = .ok (.aload_n 0, 1) := dk_42 (dk_at dksX1_unlike_0 0 rfl rfl)
theorem dX1_unlike_1 : decode cX1_unlike 1 = .ok (.iload_n 1, 1) := dk_27 (dk_at dksX1_unlike_0 1 rfl rfl)
theorem dX1_unlike_2 : decode cX1_unlike 2 = .ok (.invokevirtual 136, 3) := dk_182 0 136 (dk_at dksX1_unlike_0 2 rfl rfl)
theorem dX1_unlike_5 : decode cX1_unlike 5 = .ok (.ifCond .eq 23, 3) := dk_153 0 23 (dk_at dksX1_unlike_0 5 rfl rfl)
theorem dX1_unlike_8 : decode cX1_unlike 8 = .ok (.aload_n 0, 1) := dk_42 (dk_at dksX1_unlike_0 8 rfl rfl)
theorem dX1_unlike_9 : decode cX1_unlike 9 = .ok (.iload_n 2, 1) := dk_28 (dk_at dksX1_unlike_0 9 rfl rfl)
theorem dX1_unlike_10 : decode cX1_unlike 10 = .ok (.invokevirtual 136, 3) := dk_182 0 136 (dk_at dksX1_unlike_0 10 rfl rfl)
theorem dX1_unlike_13 : decode cX1_unlike 13 = .ok (.ifCond .eq 15, 3) := dk_153 0 15 (dk_at dksX1_unlike_0 13 rfl rfl)
theorem dX1_unlike_16 : decode cX1_unlike 16 = .ok (.iload_n 3, 1) := dk_29 (dk_at dksX1_unlike_0 16 rfl rfl)
theorem dX1_unlike_17 : decode cX1_unlike 17 = .ok (.i2l, 1) := dk_133 (dk_at dksX1_unlike_0 17 rfl rfl)
theorem dX1_unlike_18 : decode cX1_unlike 18 = .ok (.lconst 0, 1) := dk_9 (dk_at dksX1_unlike_0 18 rfl rfl)
theorem dX1_unlike_19 : decode cX1_unlike 19 = .ok (.ldc2_w 435, 3) := dk_20 1 179 (dk_at dksX1_unlike_0 19 rfl rfl)
theorem dX1_unlike_22 : decode cX1_unlike 22 = .ok (.invokestatic 89, 3) := dk_184 0 89 (dk_at dksX1_unlike_1 0 rfl rfl)
theorem dX1_unlike_25 : decode cX1_unlike 25 = .ok (.ifCond .ne 5, 3) := dk_154 0 5 (dk_at dksX1_unlike_1 3 rfl rfl)
theorem dX1_unlike_28 : decode cX1_unlike 28 = .ok (.iconst (-1), 1) := dk_2 (dk_at dksX1_unlike_1 6 rfl rfl)
theorem dX1_unlike_29 : decode cX1_unlike 29 = .ok (.ireturn, 1) := dk_172 (dk_at dksX1_unlike_1 7 rfl rfl)
theorem dX1_unlike_30 : decode cX1_unlike 30 = .ok (.iload_n 3, 1) := dk_29 (dk_at dksX1_unlike_1 8 rfl rfl)
theorem dX1_unlike_31 : decode cX1_unlike 31 = .ok (.istore 4, 2) := dk_54 4 (dk_at dksX1_unlike_1 9 rfl rfl)
theorem dX1_unlike_33 : decode cX1_unlike 33 = .ok (.iload 4, 2) := dk_21 4 (dk_at dksX1_unlike_1 11 rfl rfl)
theorem dX1_unlike_35 : decode cX1_unlike 35 = .ok (.iload_n 3, 1) := dk_29 (dk_at dksX1_unlike_1 13 rfl rfl)
theorem dX1_unlike_36 : decode cX1_unlike 36 = .ok (.sipush 5000, 3) := dk_17 19 136 (dk_at dksX1_unlike_1 14 rfl rfl)
theorem dX1_unlike_39 : decode cX1_unlike 39 = .ok (.iadd, 1) := dk_96 (dk_at dksX1_unlike_1 17 rfl rfl)
theorem dX1_unlike_40 : decode cX1_unlike 40 = .ok (.if_icmp .ge 32, 3) := dk_162 0 32 (dk_at dksX1_unlike_1 18 rfl rfl)
theorem dX1_unlike_43 : decode cX1_unlike 43 = .ok (.aload_n 0, 1) := dk_42 (dk_at dksX1_unlike_1 21 rfl rfl)
theorem dX1_unlike_44 : decode cX1_unlike 44 = .ok (.getfield 27, 3) := dk_180 0 27 (dk_at dksX1_unlike_2 0 rfl rfl)
theorem dX1_unlike_47 : decode cX1_unlike 47 = .ok (.iload_n 1, 1) := dk_27 (dk_at dksX1_unlike_2 3 rfl rfl)
theorem dX1_unlike_48 : decode cX1_unlike 48 = .ok (.aaload, 1) := dk_50 (dk_at dksX1_unlike_2 4 rfl rfl)
theorem dX1_unlike_49 : decode cX1_unlike 49 = .ok (.aload_n 0, 1) := dk_42 (dk_at dksX1_unlike_2 5 rfl rfl)
theorem dX1_unlike_50 : decode cX1_unlike 50 = .ok (.getfield 27, 3) := dk_180 0 27 (dk_at dksX1_unlike_2 6 rfl rfl)
theorem dX1_unlike_53 : decode cX1_unlike 53 = .ok (.iload_n 2, 1) := dk_28 (dk_at dksX1_unlike_2 9 rfl rfl)
theorem dX1_unlike_54 : decode cX1_unlike 54 = .ok (.aaload, 1) := dk_50 (dk_at dksX1_unlike_2 10 rfl rfl)
theorem dX1_unlike_55 : decode cX1_unlike 55 = .ok (.iload 4, 2) := dk_21 4 (dk_at dksX1_unlike_2 11 rfl rfl)
theorem dX1_unlike_57 : decode cX1_unlike 57 = .ok (.invokestatic 437, 3) := dk_184 1 181 (dk_at dksX1_unlike_2 13 rfl rfl)
theorem dX1_unlike_60 : decode cX1_unlike 60 = .ok (.ifCond .eq 6, 3) := dk_153 0 6 (dk_at dksX1_unlike_2 16 rfl rfl)
theorem dX1_unlike_63 : decode cX1_unlike 63 = .ok (.iload 4, 2) := dk_21 4 (dk_at dksX1_unlike_2 19 rfl rfl)
theorem dX1_unlike_65 : decode cX1_unlike 65 = .ok (.ireturn, 1) := dk_172 (dk_at dksX1_unlike_2 21 rfl rfl)
theorem dX1_unlike_66 : decode cX1_unlike 66 = .ok (.iinc 4 1, 3) := dk_132 4 1 (dk_at dksX1_unlike_3 0 rfl rfl)
theorem dX1_unlike_69 : decode cX1_unlike 69 = .ok (.goto (-36), 3) := dk_167 255 220 (dk_at dksX1_unlike_3 3 rfl rfl)
theorem dX1_unlike_72 : decode cX1_unlike 72 = .ok (.iconst (-1), 1) := dk_2 (dk_at dksX1_unlike_3 6 rfl rfl)
theorem dX1_unlike_73 : decode cX1_unlike 73 = .ok (.ireturn, 1) := dk_172 (dk_at dksX1_unlike_3 7 rfl rfl)
abbrev cX1_isUnlike : ByteArray := prog_1_method_76_code
def yX1_isUnlike : MethodName := ⟨RX1, "isUnlike", "(LDayBoy$Almanac;LDayBoy$Almanac;I)Z"⟩
def dkwX1_isUnlike_1 : List UInt8 := [132, 3, 1, 167, 255, 231, 3, 172]
abbrev dktX1_isUnlike_1 : List UInt8 := dkwX1_isUnlike_1 ++ []
def dkwX1_isUnlike_0 : List UInt8 := [3, 62, 29, 6, 162, 0, 26, 42, 28, 29, 182, 0, 159, 43, 28, 29, 182, 0, 159, 159, 0, 5, 4, 172]
abbrev dktX1_isUnlike_0 : List UInt8 := dkwX1_isUnlike_0 ++ dktX1_isUnlike_1
theorem dksX1_isUnlike_0 : cX1_isUnlike.data.toList.drop 0 = dktX1_isUnlike_0 := by decide +kernel
theorem dksX1_isUnlike_1 : cX1_isUnlike.data.toList.drop 24 = dktX1_isUnlike_1 := dk_seg dksX1_isUnlike_0 24 rfl rfl
theorem dX1_isUnlike_0 : decode cX1_isUnlike 0 = .ok (.iconst 0, 1) := dk_3 (dk_at dksX1_isUnlike_0 0 rfl rfl)
theorem dX1_isUnlike_1 : decode cX1_isUnlike 1 = .ok (.istore_n 3, 1) := dk_62 (dk_at dksX1_isUnlike_0 1 rfl rfl)
theorem dX1_isUnlike_2 : decode cX1_isUnlike 2 = .ok (.iload_n 3, 1) := dk_29 (dk_at dksX1_isUnlike_0 2 rfl rfl)
theorem dX1_isUnlike_3 : decode cX1_isUnlike 3 = .ok (.iconst 3, 1) := dk_6 (dk_at dksX1_isUnlike_0 3 rfl rfl)
theorem dX1_isUnlike_4 : decode cX1_isUnlike 4 = .ok (.if_icmp .ge 26, 3) := dk_162 0 26 (dk_at dksX1_isUnlike_0 4 rfl rfl)
theorem dX1_isUnlike_7 : decode cX1_isUnlike 7 = .ok (.aload_n 0, 1) := dk_42 (dk_at dksX1_isUnlike_0 7 rfl rfl)
theorem dX1_isUnlike_8 : decode cX1_isUnlike 8 = .ok (.iload_n 2, 1) := dk_28 (dk_at dksX1_isUnlike_0 8 rfl rfl)
theorem dX1_isUnlike_9 : decode cX1_isUnlike 9 = .ok (.iload_n 3, 1) := dk_29 (dk_at dksX1_isUnlike_0 9 rfl rfl)
theorem dX1_isUnlike_10 : decode cX1_isUnlike 10 = .ok (.invokevirtual 159, 3) := dk_182 0 159 (dk_at dksX1_isUnlike_0 10 rfl rfl)
theorem dX1_isUnlike_13 : decode cX1_isUnlike 13 = .ok (.aload_n 1, 1) := dk_43 (dk_at dksX1_isUnlike_0 13 rfl rfl)
theorem dX1_isUnlike_14 : decode cX1_isUnlike 14 = .ok (.iload_n 2, 1) := dk_28 (dk_at dksX1_isUnlike_0 14 rfl rfl)
theorem dX1_isUnlike_15 : decode cX1_isUnlike 15 = .ok (.iload_n 3, 1) := dk_29 (dk_at dksX1_isUnlike_0 15 rfl rfl)
theorem dX1_isUnlike_16 : decode cX1_isUnlike 16 = .ok (.invokevirtual 159, 3) := dk_182 0 159 (dk_at dksX1_isUnlike_0 16 rfl rfl)
theorem dX1_isUnlike_19 : decode cX1_isUnlike 19 = .ok (.if_icmp .eq 5, 3) := dk_159 0 5 (dk_at dksX1_isUnlike_0 19 rfl rfl)
theorem dX1_isUnlike_22 : decode cX1_isUnlike 22 = .ok (.iconst 1, 1) := dk_4 (dk_at dksX1_isUnlike_0 22 rfl rfl)
theorem dX1_isUnlike_23 : decode cX1_isUnlike 23 = .ok (.ireturn, 1) := dk_172 (dk_at dksX1_isUnlike_0 23 rfl rfl)
theorem dX1_isUnlike_24 : decode cX1_isUnlike 24 = .ok (.iinc 3 1, 3) := dk_132 3 1 (dk_at dksX1_isUnlike_1 0 rfl rfl)
theorem dX1_isUnlike_27 : decode cX1_isUnlike 27 = .ok (.goto (-25), 3) := dk_167 255 231 (dk_at dksX1_isUnlike_1 3 rfl rfl)
theorem dX1_isUnlike_30 : decode cX1_isUnlike 30 = .ok (.iconst 0, 1) := dk_3 (dk_at dksX1_isUnlike_1 6 rfl rfl)
theorem dX1_isUnlike_31 : decode cX1_isUnlike 31 = .ok (.ireturn, 1) := dk_172 (dk_at dksX1_isUnlike_1 7 rfl rfl)
abbrev cX1_rises : ByteArray := prog_1_method_78_code
def yX1_rises : MethodName := ⟨RX1, "rises", "(IIII)I"⟩
def dkwX1_rises_5 : List UInt8 := [184, 1, 185, 167, 0, 4, 3, 96, 54, 7, 132, 8, 1, 167, 255, 180, 21, 7, 172]
abbrev dktX1_rises_5 : List UInt8 := dkwX1_rises_5 ++ []
def dkwX1_rises_4 : List UInt8 := [180, 0, 213, 21, 8, 47, 20, 0, 217, 109, 25, 6, 180, 0, 213, 21, 8, 47, 20, 0, 217, 109]
abbrev dktX1_rises_4 : List UInt8 := dkwX1_rises_4 ++ dktX1_rises_5
def dkwX1_rises_3 : List UInt8 := [20, 1, 171, 148, 156, 0, 48, 25, 6, 180, 0, 213, 21, 8, 47, 20, 1, 171, 148, 156, 0, 33, 25, 5]
abbrev dktX1_rises_3 : List UInt8 := dkwX1_rises_3 ++ dktX1_rises_4
def dkwX1_rises_2 : List UInt8 := [54, 7, 29, 54, 8, 21, 8, 21, 4, 163, 0, 75, 21, 7, 25, 5, 180, 0, 213, 21, 8, 47]
abbrev dktX1_rises_2 : List UInt8 := dkwX1_rises_2 ++ dktX1_rises_3
def dkwX1_rises_1 : List UInt8 := [154, 0, 7, 17, 252, 24, 172, 42, 180, 0, 31, 27, 50, 58, 5, 42, 180, 0, 31, 28, 50, 58, 6, 3]
abbrev dktX1_rises_1 : List UInt8 := dkwX1_rises_1 ++ dktX1_rises_2
def dkwX1_rises_0 : List UInt8 := [42, 27, 182, 0, 184, 153, 0, 20, 42, 28, 182, 0, 184, 153, 0, 12, 29, 21, 4, 184, 1, 159]
abbrev dktX1_rises_0 : List UInt8 := dkwX1_rises_0 ++ dktX1_rises_1
theorem dksX1_rises_0 : cX1_rises.data.toList.drop 0 = dktX1_rises_0 := by decide +kernel
theorem dksX1_rises_1 : cX1_rises.data.toList.drop 22 = dktX1_rises_1 := dk_seg dksX1_rises_0 22 rfl rfl
theorem dksX1_rises_2 : cX1_rises.data.toList.drop 46 = dktX1_rises_2 := dk_seg dksX1_rises_1 24 rfl rfl
theorem dksX1_rises_3 : cX1_rises.data.toList.drop 68 = dktX1_rises_3 := dk_seg dksX1_rises_2 22 rfl rfl
theorem dksX1_rises_4 : cX1_rises.data.toList.drop 92 = dktX1_rises_4 := dk_seg dksX1_rises_3 24 rfl rfl
theorem dksX1_rises_5 : cX1_rises.data.toList.drop 114 = dktX1_rises_5 := dk_seg dksX1_rises_4 22 rfl rfl
theorem dX1_rises_0 : decode cX1_rises 0 = .ok (.aload_n 0, 1) := dk_42 (dk_at dksX1_rises_0 0 rfl rfl)
theorem dX1_rises_1 : decode cX1_rises 1 = .ok (.iload_n 1, 1) := dk_27 (dk_at dksX1_rises_0 1 rfl rfl)
theorem dX1_rises_2 : decode cX1_rises 2 = .ok (.invokevirtual 184, 3) := dk_182 0 184 (dk_at dksX1_rises_0 2 rfl rfl)
theorem dX1_rises_5 : decode cX1_rises 5 = .ok (.ifCond .eq 20, 3) := dk_153 0 20 (dk_at dksX1_rises_0 5 rfl rfl)
theorem dX1_rises_8 : decode cX1_rises 8 = .ok (.aload_n 0, 1) := dk_42 (dk_at dksX1_rises_0 8 rfl rfl)
theorem dX1_rises_9 : decode cX1_rises 9 = .ok (.iload_n 2, 1) := dk_28 (dk_at dksX1_rises_0 9 rfl rfl)
theorem dX1_rises_10 : decode cX1_rises 10 = .ok (.invokevirtual 184, 3) := dk_182 0 184 (dk_at dksX1_rises_0 10 rfl rfl)
theorem dX1_rises_13 : decode cX1_rises 13 = .ok (.ifCond .eq 12, 3) := dk_153 0 12 (dk_at dksX1_rises_0 13 rfl rfl)
theorem dX1_rises_16 : decode cX1_rises 16 = .ok (.iload_n 3, 1) := dk_29 (dk_at dksX1_rises_0 16 rfl rfl)
theorem dX1_rises_17 : decode cX1_rises 17 = .ok (.iload 4, 2) := dk_21 4 (dk_at dksX1_rises_0 17 rfl rfl)
theorem dX1_rises_19 : decode cX1_rises 19 = .ok (.invokestatic 415, 3) := dk_184 1 159 (dk_at dksX1_rises_0 19 rfl rfl)
theorem dX1_rises_22 : decode cX1_rises 22 = .ok (.ifCond .ne 7, 3) := dk_154 0 7 (dk_at dksX1_rises_1 0 rfl rfl)
theorem dX1_rises_25 : decode cX1_rises 25 = .ok (.sipush (-1000), 3) := dk_17 252 24 (dk_at dksX1_rises_1 3 rfl rfl)
theorem dX1_rises_28 : decode cX1_rises 28 = .ok (.ireturn, 1) := dk_172 (dk_at dksX1_rises_1 6 rfl rfl)
theorem dX1_rises_29 : decode cX1_rises 29 = .ok (.aload_n 0, 1) := dk_42 (dk_at dksX1_rises_1 7 rfl rfl)
theorem dX1_rises_30 : decode cX1_rises 30 = .ok (.getfield 31, 3) := dk_180 0 31 (dk_at dksX1_rises_1 8 rfl rfl)
theorem dX1_rises_33 : decode cX1_rises 33 = .ok (.iload_n 1, 1) := dk_27 (dk_at dksX1_rises_1 11 rfl rfl)
theorem dX1_rises_34 : decode cX1_rises 34 = .ok (.aaload, 1) := dk_50 (dk_at dksX1_rises_1 12 rfl rfl)
theorem dX1_rises_35 : decode cX1_rises 35 = .ok (.astore 5, 2) := dk_58 5 (dk_at dksX1_rises_1 13 rfl rfl)
theorem dX1_rises_37 : decode cX1_rises 37 = .ok (.aload_n 0, 1) := dk_42 (dk_at dksX1_rises_1 15 rfl rfl)
theorem dX1_rises_38 : decode cX1_rises 38 = .ok (.getfield 31, 3) := dk_180 0 31 (dk_at dksX1_rises_1 16 rfl rfl)
theorem dX1_rises_41 : decode cX1_rises 41 = .ok (.iload_n 2, 1) := dk_28 (dk_at dksX1_rises_1 19 rfl rfl)
theorem dX1_rises_42 : decode cX1_rises 42 = .ok (.aaload, 1) := dk_50 (dk_at dksX1_rises_1 20 rfl rfl)
theorem dX1_rises_43 : decode cX1_rises 43 = .ok (.astore 6, 2) := dk_58 6 (dk_at dksX1_rises_1 21 rfl rfl)
theorem dX1_rises_45 : decode cX1_rises 45 = .ok (.iconst 0, 1) := dk_3 (dk_at dksX1_rises_1 23 rfl rfl)
theorem dX1_rises_46 : decode cX1_rises 46 = .ok (.istore 7, 2) := dk_54 7 (dk_at dksX1_rises_2 0 rfl rfl)
theorem dX1_rises_48 : decode cX1_rises 48 = .ok (.iload_n 3, 1) := dk_29 (dk_at dksX1_rises_2 2 rfl rfl)
theorem dX1_rises_49 : decode cX1_rises 49 = .ok (.istore 8, 2) := dk_54 8 (dk_at dksX1_rises_2 3 rfl rfl)
theorem dX1_rises_51 : decode cX1_rises 51 = .ok (.iload 8, 2) := dk_21 8 (dk_at dksX1_rises_2 5 rfl rfl)
theorem dX1_rises_53 : decode cX1_rises 53 = .ok (.iload 4, 2) := dk_21 4 (dk_at dksX1_rises_2 7 rfl rfl)
theorem dX1_rises_55 : decode cX1_rises 55 = .ok (.if_icmp .gt 75, 3) := dk_163 0 75 (dk_at dksX1_rises_2 9 rfl rfl)
theorem dX1_rises_58 : decode cX1_rises 58 = .ok (.iload 7, 2) := dk_21 7 (dk_at dksX1_rises_2 12 rfl rfl)
theorem dX1_rises_60 : decode cX1_rises 60 = .ok (.aload 5, 2) := dk_25 5 (dk_at dksX1_rises_2 14 rfl rfl)
theorem dX1_rises_62 : decode cX1_rises 62 = .ok (.getfield 213, 3) := dk_180 0 213 (dk_at dksX1_rises_2 16 rfl rfl)
theorem dX1_rises_65 : decode cX1_rises 65 = .ok (.iload 8, 2) := dk_21 8 (dk_at dksX1_rises_2 19 rfl rfl)
theorem dX1_rises_67 : decode cX1_rises 67 = .ok (.laload, 1) := dk_47 (dk_at dksX1_rises_2 21 rfl rfl)
theorem dX1_rises_68 : decode cX1_rises 68 = .ok (.ldc2_w 427, 3) := dk_20 1 171 (dk_at dksX1_rises_3 0 rfl rfl)
theorem dX1_rises_71 : decode cX1_rises 71 = .ok (.lcmp, 1) := dk_148 (dk_at dksX1_rises_3 3 rfl rfl)
theorem dX1_rises_72 : decode cX1_rises 72 = .ok (.ifCond .ge 48, 3) := dk_156 0 48 (dk_at dksX1_rises_3 4 rfl rfl)
theorem dX1_rises_75 : decode cX1_rises 75 = .ok (.aload 6, 2) := dk_25 6 (dk_at dksX1_rises_3 7 rfl rfl)
theorem dX1_rises_77 : decode cX1_rises 77 = .ok (.getfield 213, 3) := dk_180 0 213 (dk_at dksX1_rises_3 9 rfl rfl)
theorem dX1_rises_80 : decode cX1_rises 80 = .ok (.iload 8, 2) := dk_21 8 (dk_at dksX1_rises_3 12 rfl rfl)
theorem dX1_rises_82 : decode cX1_rises 82 = .ok (.laload, 1) := dk_47 (dk_at dksX1_rises_3 14 rfl rfl)
theorem dX1_rises_83 : decode cX1_rises 83 = .ok (.ldc2_w 427, 3) := dk_20 1 171 (dk_at dksX1_rises_3 15 rfl rfl)
theorem dX1_rises_86 : decode cX1_rises 86 = .ok (.lcmp, 1) := dk_148 (dk_at dksX1_rises_3 18 rfl rfl)
theorem dX1_rises_87 : decode cX1_rises 87 = .ok (.ifCond .ge 33, 3) := dk_156 0 33 (dk_at dksX1_rises_3 19 rfl rfl)
theorem dX1_rises_90 : decode cX1_rises 90 = .ok (.aload 5, 2) := dk_25 5 (dk_at dksX1_rises_3 22 rfl rfl)
theorem dX1_rises_92 : decode cX1_rises 92 = .ok (.getfield 213, 3) := dk_180 0 213 (dk_at dksX1_rises_4 0 rfl rfl)
theorem dX1_rises_95 : decode cX1_rises 95 = .ok (.iload 8, 2) := dk_21 8 (dk_at dksX1_rises_4 3 rfl rfl)
theorem dX1_rises_97 : decode cX1_rises 97 = .ok (.laload, 1) := dk_47 (dk_at dksX1_rises_4 5 rfl rfl)
theorem dX1_rises_98 : decode cX1_rises 98 = .ok (.ldc2_w 217, 3) := dk_20 0 217 (dk_at dksX1_rises_4 6 rfl rfl)
theorem dX1_rises_101 : decode cX1_rises 101 = .ok (.ldiv, 1) := dk_109 (dk_at dksX1_rises_4 9 rfl rfl)
theorem dX1_rises_102 : decode cX1_rises 102 = .ok (.aload 6, 2) := dk_25 6 (dk_at dksX1_rises_4 10 rfl rfl)
theorem dX1_rises_104 : decode cX1_rises 104 = .ok (.getfield 213, 3) := dk_180 0 213 (dk_at dksX1_rises_4 12 rfl rfl)
theorem dX1_rises_107 : decode cX1_rises 107 = .ok (.iload 8, 2) := dk_21 8 (dk_at dksX1_rises_4 15 rfl rfl)
theorem dX1_rises_109 : decode cX1_rises 109 = .ok (.laload, 1) := dk_47 (dk_at dksX1_rises_4 17 rfl rfl)
theorem dX1_rises_110 : decode cX1_rises 110 = .ok (.ldc2_w 217, 3) := dk_20 0 217 (dk_at dksX1_rises_4 18 rfl rfl)
theorem dX1_rises_113 : decode cX1_rises 113 = .ok (.ldiv, 1) := dk_109 (dk_at dksX1_rises_4 21 rfl rfl)
theorem dX1_rises_114 : decode cX1_rises 114 = .ok (.invokestatic 441, 3) := dk_184 1 185 (dk_at dksX1_rises_5 0 rfl rfl)
theorem dX1_rises_117 : decode cX1_rises 117 = .ok (.goto 4, 3) := dk_167 0 4 (dk_at dksX1_rises_5 3 rfl rfl)
theorem dX1_rises_120 : decode cX1_rises 120 = .ok (.iconst 0, 1) := dk_3 (dk_at dksX1_rises_5 6 rfl rfl)
theorem dX1_rises_121 : decode cX1_rises 121 = .ok (.iadd, 1) := dk_96 (dk_at dksX1_rises_5 7 rfl rfl)
theorem dX1_rises_122 : decode cX1_rises 122 = .ok (.istore 7, 2) := dk_54 7 (dk_at dksX1_rises_5 8 rfl rfl)
theorem dX1_rises_124 : decode cX1_rises 124 = .ok (.iinc 8 1, 3) := dk_132 8 1 (dk_at dksX1_rises_5 10 rfl rfl)
theorem dX1_rises_127 : decode cX1_rises 127 = .ok (.goto (-76), 3) := dk_167 255 180 (dk_at dksX1_rises_5 13 rfl rfl)
theorem dX1_rises_130 : decode cX1_rises 130 = .ok (.iload 7, 2) := dk_21 7 (dk_at dksX1_rises_5 16 rfl rfl)
theorem dX1_rises_132 : decode cX1_rises 132 = .ok (.ireturn, 1) := dk_172 (dk_at dksX1_rises_5 18 rfl rfl)
abbrev cX1_keep : ByteArray := prog_1_method_79_code
def yX1_keep : MethodName := ⟨RX1, "keep", "()I"⟩
def dkwX1_keep_1 : List UInt8 := [96, 172]
abbrev dktX1_keep_1 : List UInt8 := dkwX1_keep_1 ++ []
def dkwX1_keep_0 : List UInt8 := [42, 42, 180, 0, 240, 181, 1, 190, 42, 42, 180, 1, 133, 181, 1, 193, 42, 180, 0, 240, 42, 180, 1, 133]
abbrev dktX1_keep_0 : List UInt8 := dkwX1_keep_0 ++ dktX1_keep_1
theorem dksX1_keep_0 : cX1_keep.data.toList.drop 0 = dktX1_keep_0 := by decide +kernel
theorem dksX1_keep_1 : cX1_keep.data.toList.drop 24 = dktX1_keep_1 := dk_seg dksX1_keep_0 24 rfl rfl
theorem dX1_keep_0 : decode cX1_keep 0 = .ok (.aload_n 0, 1) := dk_42 (dk_at dksX1_keep_0 0 rfl rfl)
theorem dX1_keep_1 : decode cX1_keep 1 = .ok (.aload_n 0, 1) := dk_42 (dk_at dksX1_keep_0 1 rfl rfl)
theorem dX1_keep_2 : decode cX1_keep 2 = .ok (.getfield 240, 3) := dk_180 0 240 (dk_at dksX1_keep_0 2 rfl rfl)
theorem dX1_keep_5 : decode cX1_keep 5 = .ok (.putfield 446, 3) := dk_181 1 190 (dk_at dksX1_keep_0 5 rfl rfl)
theorem dX1_keep_8 : decode cX1_keep 8 = .ok (.aload_n 0, 1) := dk_42 (dk_at dksX1_keep_0 8 rfl rfl)
theorem dX1_keep_9 : decode cX1_keep 9 = .ok (.aload_n 0, 1) := dk_42 (dk_at dksX1_keep_0 9 rfl rfl)
theorem dX1_keep_10 : decode cX1_keep 10 = .ok (.getfield 389, 3) := dk_180 1 133 (dk_at dksX1_keep_0 10 rfl rfl)
theorem dX1_keep_13 : decode cX1_keep 13 = .ok (.putfield 449, 3) := dk_181 1 193 (dk_at dksX1_keep_0 13 rfl rfl)
theorem dX1_keep_16 : decode cX1_keep 16 = .ok (.aload_n 0, 1) := dk_42 (dk_at dksX1_keep_0 16 rfl rfl)
theorem dX1_keep_17 : decode cX1_keep 17 = .ok (.getfield 240, 3) := dk_180 0 240 (dk_at dksX1_keep_0 17 rfl rfl)
theorem dX1_keep_20 : decode cX1_keep 20 = .ok (.aload_n 0, 1) := dk_42 (dk_at dksX1_keep_0 20 rfl rfl)
theorem dX1_keep_21 : decode cX1_keep 21 = .ok (.getfield 389, 3) := dk_180 1 133 (dk_at dksX1_keep_0 21 rfl rfl)
theorem dX1_keep_24 : decode cX1_keep 24 = .ok (.iadd, 1) := dk_96 (dk_at dksX1_keep_1 0 rfl rfl)
theorem dX1_keep_25 : decode cX1_keep 25 = .ok (.ireturn, 1) := dk_172 (dk_at dksX1_keep_1 1 rfl rfl)
abbrev cX1_back : ByteArray := prog_1_method_80_code
def yX1_back : MethodName := ⟨RX1, "back", "()I"⟩
def dkwX1_back_1 : List UInt8 := [96, 172]
abbrev dktX1_back_1 : List UInt8 := dkwX1_back_1 ++ []
def dkwX1_back_0 : List UInt8 := [42, 42, 180, 1, 190, 181, 0, 240, 42, 42, 180, 1, 193, 181, 1, 133, 42, 180, 0, 240, 42, 180, 1, 133]
abbrev dktX1_back_0 : List UInt8 := dkwX1_back_0 ++ dktX1_back_1
theorem dksX1_back_0 : cX1_back.data.toList.drop 0 = dktX1_back_0 := by decide +kernel
theorem dksX1_back_1 : cX1_back.data.toList.drop 24 = dktX1_back_1 := dk_seg dksX1_back_0 24 rfl rfl
theorem dX1_back_0 : decode cX1_back 0 = .ok (.aload_n 0, 1) := dk_42 (dk_at dksX1_back_0 0 rfl rfl)
theorem dX1_back_1 : decode cX1_back 1 = .ok (.aload_n 0, 1) := dk_42 (dk_at dksX1_back_0 1 rfl rfl)
theorem dX1_back_2 : decode cX1_back 2 = .ok (.getfield 446, 3) := dk_180 1 190 (dk_at dksX1_back_0 2 rfl rfl)
theorem dX1_back_5 : decode cX1_back 5 = .ok (.putfield 240, 3) := dk_181 0 240 (dk_at dksX1_back_0 5 rfl rfl)
theorem dX1_back_8 : decode cX1_back 8 = .ok (.aload_n 0, 1) := dk_42 (dk_at dksX1_back_0 8 rfl rfl)
theorem dX1_back_9 : decode cX1_back 9 = .ok (.aload_n 0, 1) := dk_42 (dk_at dksX1_back_0 9 rfl rfl)
theorem dX1_back_10 : decode cX1_back 10 = .ok (.getfield 449, 3) := dk_180 1 193 (dk_at dksX1_back_0 10 rfl rfl)
theorem dX1_back_13 : decode cX1_back 13 = .ok (.putfield 389, 3) := dk_181 1 133 (dk_at dksX1_back_0 13 rfl rfl)
theorem dX1_back_16 : decode cX1_back 16 = .ok (.aload_n 0, 1) := dk_42 (dk_at dksX1_back_0 16 rfl rfl)
theorem dX1_back_17 : decode cX1_back 17 = .ok (.getfield 240, 3) := dk_180 0 240 (dk_at dksX1_back_0 17 rfl rfl)
theorem dX1_back_20 : decode cX1_back 20 = .ok (.aload_n 0, 1) := dk_42 (dk_at dksX1_back_0 20 rfl rfl)
theorem dX1_back_21 : decode cX1_back 21 = .ok (.getfield 389, 3) := dk_180 1 133 (dk_at dksX1_back_0 21 rfl rfl)
theorem dX1_back_24 : decode cX1_back 24 = .ok (.iadd, 1) := dk_96 (dk_at dksX1_back_1 0 rfl rfl)
theorem dX1_back_25 : decode cX1_back 25 = .ok (.ireturn, 1) := dk_172 (dk_at dksX1_back_1 1 rfl rfl)
abbrev cX1_count : ByteArray := prog_1_method_81_code
def yX1_count : MethodName := ⟨RX1, "count", "(I)I"⟩
def dkwX1_count_3 : List UInt8 := [172, 42, 180, 0, 80, 172, 42, 180, 0, 48, 172, 42, 180, 0, 124, 172, 17, 252, 24, 172]
abbrev dktX1_count_3 : List UInt8 := dkwX1_count_3 ++ []
def dkwX1_count_2 : List UInt8 := [42, 180, 0, 115, 172, 42, 180, 0, 118, 172, 42, 180, 0, 240, 172, 42, 180, 1, 64, 172, 42, 180, 1, 133]
abbrev dktX1_count_2 : List UInt8 := dkwX1_count_2 ++ dktX1_count_3
def dkwX1_count_1 : List UInt8 := [170, 0, 0, 0, 0, 0, 87, 0, 0, 0, 0, 0, 0, 0, 7, 0, 0, 0, 47, 0, 0, 0, 52, 0, 0, 0, 57, 0, 0, 0, 62, 0, 0, 0, 67, 0, 0, 0, 72, 0, 0, 0, 77, 0, 0, 0, 82]
abbrev dktX1_count_1 : List UInt8 := dkwX1_count_1 ++ dktX1_count_2
def dkwX1_count_0 : List UInt8 := [27]
abbrev dktX1_count_0 : List UInt8 := dkwX1_count_0 ++ dktX1_count_1
theorem dksX1_count_0 : cX1_count.data.toList.drop 0 = dktX1_count_0 := by decide +kernel
theorem dksX1_count_1 : cX1_count.data.toList.drop 1 = dktX1_count_1 := dk_seg dksX1_count_0 1 rfl rfl
theorem dksX1_count_2 : cX1_count.data.toList.drop 48 = dktX1_count_2 := dk_seg dksX1_count_1 47 rfl rfl
theorem dksX1_count_3 : cX1_count.data.toList.drop 72 = dktX1_count_3 := dk_seg dksX1_count_2 24 rfl rfl
theorem dX1_count_0 : decode cX1_count 0 = .ok (.iload_n 1, 1) := dk_27 (dk_at dksX1_count_0 0 rfl rfl)
theorem dX1_count_1 : decode cX1_count 1 = .ok (.tableswitch 87 0 7 #[47, 52, 57, 62, 67, 72, 77, 82], 47) := by decide +kernel
theorem dX1_count_48 : decode cX1_count 48 = .ok (.aload_n 0, 1) := dk_42 (dk_at dksX1_count_2 0 rfl rfl)
theorem dX1_count_49 : decode cX1_count 49 = .ok (.getfield 115, 3) := dk_180 0 115 (dk_at dksX1_count_2 1 rfl rfl)
theorem dX1_count_52 : decode cX1_count 52 = .ok (.ireturn, 1) := dk_172 (dk_at dksX1_count_2 4 rfl rfl)
theorem dX1_count_53 : decode cX1_count 53 = .ok (.aload_n 0, 1) := dk_42 (dk_at dksX1_count_2 5 rfl rfl)
theorem dX1_count_54 : decode cX1_count 54 = .ok (.getfield 118, 3) := dk_180 0 118 (dk_at dksX1_count_2 6 rfl rfl)
theorem dX1_count_57 : decode cX1_count 57 = .ok (.ireturn, 1) := dk_172 (dk_at dksX1_count_2 9 rfl rfl)
theorem dX1_count_58 : decode cX1_count 58 = .ok (.aload_n 0, 1) := dk_42 (dk_at dksX1_count_2 10 rfl rfl)
theorem dX1_count_59 : decode cX1_count 59 = .ok (.getfield 240, 3) := dk_180 0 240 (dk_at dksX1_count_2 11 rfl rfl)
theorem dX1_count_62 : decode cX1_count 62 = .ok (.ireturn, 1) := dk_172 (dk_at dksX1_count_2 14 rfl rfl)
theorem dX1_count_63 : decode cX1_count 63 = .ok (.aload_n 0, 1) := dk_42 (dk_at dksX1_count_2 15 rfl rfl)
theorem dX1_count_64 : decode cX1_count 64 = .ok (.getfield 320, 3) := dk_180 1 64 (dk_at dksX1_count_2 16 rfl rfl)
theorem dX1_count_67 : decode cX1_count 67 = .ok (.ireturn, 1) := dk_172 (dk_at dksX1_count_2 19 rfl rfl)
theorem dX1_count_68 : decode cX1_count 68 = .ok (.aload_n 0, 1) := dk_42 (dk_at dksX1_count_2 20 rfl rfl)
theorem dX1_count_69 : decode cX1_count 69 = .ok (.getfield 389, 3) := dk_180 1 133 (dk_at dksX1_count_2 21 rfl rfl)
theorem dX1_count_72 : decode cX1_count 72 = .ok (.ireturn, 1) := dk_172 (dk_at dksX1_count_3 0 rfl rfl)
theorem dX1_count_73 : decode cX1_count 73 = .ok (.aload_n 0, 1) := dk_42 (dk_at dksX1_count_3 1 rfl rfl)
theorem dX1_count_74 : decode cX1_count 74 = .ok (.getfield 80, 3) := dk_180 0 80 (dk_at dksX1_count_3 2 rfl rfl)
theorem dX1_count_77 : decode cX1_count 77 = .ok (.ireturn, 1) := dk_172 (dk_at dksX1_count_3 5 rfl rfl)
theorem dX1_count_78 : decode cX1_count 78 = .ok (.aload_n 0, 1) := dk_42 (dk_at dksX1_count_3 6 rfl rfl)
theorem dX1_count_79 : decode cX1_count 79 = .ok (.getfield 48, 3) := dk_180 0 48 (dk_at dksX1_count_3 7 rfl rfl)
theorem dX1_count_82 : decode cX1_count 82 = .ok (.ireturn, 1) := dk_172 (dk_at dksX1_count_3 10 rfl rfl)
theorem dX1_count_83 : decode cX1_count 83 = .ok (.aload_n 0, 1) := dk_42 (dk_at dksX1_count_3 11 rfl rfl)
theorem dX1_count_84 : decode cX1_count 84 = .ok (.getfield 124, 3) := dk_180 0 124 (dk_at dksX1_count_3 12 rfl rfl)
theorem dX1_count_87 : decode cX1_count 87 = .ok (.ireturn, 1) := dk_172 (dk_at dksX1_count_3 15 rfl rfl)
theorem dX1_count_88 : decode cX1_count 88 = .ok (.sipush (-1000), 3) := dk_17 252 24 (dk_at dksX1_count_3 16 rfl rfl)
theorem dX1_count_91 : decode cX1_count 91 = .ok (.ireturn, 1) := dk_172 (dk_at dksX1_count_3 19 rfl rfl)
abbrev cX1_day : ByteArray := prog_1_method_13_code
def yX1_day : MethodName := ⟨RX1, "day", "(IIII)I"⟩
def dkwX1_day_1 : List UInt8 := [27, 50, 28, 29, 21, 4, 182, 0, 153, 172]
abbrev dktX1_day_1 : List UInt8 := dkwX1_day_1 ++ []
def dkwX1_day_0 : List UInt8 := [42, 27, 28, 29, 21, 4, 182, 0, 146, 154, 0, 11, 187, 0, 150, 89, 183, 0, 152, 191, 42, 180, 0, 27]
abbrev dktX1_day_0 : List UInt8 := dkwX1_day_0 ++ dktX1_day_1
theorem dksX1_day_0 : cX1_day.data.toList.drop 0 = dktX1_day_0 := by decide +kernel
theorem dksX1_day_1 : cX1_day.data.toList.drop 24 = dktX1_day_1 := dk_seg dksX1_day_0 24 rfl rfl
theorem dX1_day_0 : decode cX1_day 0 = .ok (.aload_n 0, 1) := dk_42 (dk_at dksX1_day_0 0 rfl rfl)
theorem dX1_day_1 : decode cX1_day 1 = .ok (.iload_n 1, 1) := dk_27 (dk_at dksX1_day_0 1 rfl rfl)
theorem dX1_day_2 : decode cX1_day 2 = .ok (.iload_n 2, 1) := dk_28 (dk_at dksX1_day_0 2 rfl rfl)
theorem dX1_day_3 : decode cX1_day 3 = .ok (.iload_n 3, 1) := dk_29 (dk_at dksX1_day_0 3 rfl rfl)
theorem dX1_day_4 : decode cX1_day 4 = .ok (.iload 4, 2) := dk_21 4 (dk_at dksX1_day_0 4 rfl rfl)
theorem dX1_day_6 : decode cX1_day 6 = .ok (.invokevirtual 146, 3) := dk_182 0 146 (dk_at dksX1_day_0 6 rfl rfl)
theorem dX1_day_9 : decode cX1_day 9 = .ok (.ifCond .ne 11, 3) := dk_154 0 11 (dk_at dksX1_day_0 9 rfl rfl)
theorem dX1_day_12 : decode cX1_day 12 = .ok (.new 150, 3) := dk_187 0 150 (dk_at dksX1_day_0 12 rfl rfl)
theorem dX1_day_15 : decode cX1_day 15 = .ok (.dup, 1) := dk_89 (dk_at dksX1_day_0 15 rfl rfl)
theorem dX1_day_16 : decode cX1_day 16 = .ok (.invokespecial 152, 3) := dk_183 0 152 (dk_at dksX1_day_0 16 rfl rfl)
theorem dX1_day_19 : decode cX1_day 19 = .ok (.athrow, 1) := dk_191 (dk_at dksX1_day_0 19 rfl rfl)
theorem dX1_day_20 : decode cX1_day 20 = .ok (.aload_n 0, 1) := dk_42 (dk_at dksX1_day_0 20 rfl rfl)
theorem dX1_day_21 : decode cX1_day 21 = .ok (.getfield 27, 3) := dk_180 0 27 (dk_at dksX1_day_0 21 rfl rfl)
theorem dX1_day_24 : decode cX1_day 24 = .ok (.iload_n 1, 1) := dk_27 (dk_at dksX1_day_1 0 rfl rfl)
theorem dX1_day_25 : decode cX1_day 25 = .ok (.aaload, 1) := dk_50 (dk_at dksX1_day_1 1 rfl rfl)
theorem dX1_day_26 : decode cX1_day 26 = .ok (.iload_n 2, 1) := dk_28 (dk_at dksX1_day_1 2 rfl rfl)
theorem dX1_day_27 : decode cX1_day 27 = .ok (.iload_n 3, 1) := dk_29 (dk_at dksX1_day_1 3 rfl rfl)
theorem dX1_day_28 : decode cX1_day 28 = .ok (.iload 4, 2) := dk_21 4 (dk_at dksX1_day_1 4 rfl rfl)
theorem dX1_day_30 : decode cX1_day 30 = .ok (.invokevirtual 153, 3) := dk_182 0 153 (dk_at dksX1_day_1 6 rfl rfl)
theorem dX1_day_33 : decode cX1_day 33 = .ok (.ireturn, 1) := dk_172 (dk_at dksX1_day_1 9 rfl rfl)
theorem q104 : (Jvm.Cond.initialized "DayBoy") ∈ lw_all := lw_g (lw_at lw_m1 1 rfl) rfl
theorem q128 : (Jvm.Cond.instantiable "DayBoy" (28 : Nat)) ∈ lw_all := lw_g (lw_at lw_m1 25 rfl) rfl
theorem q130 : (Jvm.Cond.instanceMethod ({ cls := "DayBoy", name := "<init>", desc := "()V" } : Jvm.MethodName)) ∈ lw_all := lw_g (lw_at lw_m1 27 rfl) rfl
theorem q131 : (Jvm.Cond.code ({ cls := "DayBoy", name := "<init>", desc := "()V" } : Jvm.MethodName) prog_1_method_1_code (1 : Nat) (Option.none : Option Jvm.ClassFile.FieldType)) ∈ lw_all := lw_g (lw_at lw_m1 28 rfl) rfl
theorem q132 : (Jvm.Cond.methodLink "DayBoy" (1 : Nat) ({ cls := "java/lang/Object", name := "<init>", desc := "()V" } : Jvm.MethodName)) ∈ lw_all := lw_g (lw_at lw_m1 29 rfl) rfl
theorem q135 : (Jvm.Cond.classLink "DayBoy" (13 : Nat) "DayBoy$Almanac") ∈ lw_all := lw_g (lw_at lw_m1 32 rfl) rfl
theorem q137 : (Jvm.Cond.methodLink "DayBoy" (15 : Nat) ({ cls := "DayBoy$Almanac", name := "<init>", desc := "()V" } : Jvm.MethodName)) ∈ lw_all := lw_g (lw_at lw_m1 34 rfl) rfl
theorem q197 : (Jvm.Cond.classLink "DayBoy" (20 : Nat) "DayBoy$Head") ∈ lw_all := lw_g (lw_at lw_m1 94 rfl) rfl
theorem q199 : (Jvm.Cond.methodLinkNest "DayBoy" (22 : Nat) ({ cls := "DayBoy$Head", name := "<init>", desc := "()V" } : Jvm.MethodName) "DayBoy") ∈ lw_tbl := lw_at lw_m1 96 rfl
theorem q210 : (Jvm.Cond.fieldLinkNest "DayBoy" (347 : Nat) "DayBoy$Head" "steps" "[I" "DayBoy") ∈ lw_tbl := lw_at lw_m1 107 rfl
theorem q213 : (Jvm.Cond.fieldLinkNest "DayBoy" (349 : Nat) "DayBoy$Head" "stepCosts" "[I" "DayBoy") ∈ lw_tbl := lw_at lw_m1 110 rfl
theorem q216 : (Jvm.Cond.fieldLinkNest "DayBoy" (421 : Nat) "DayBoy$Head" "one" "[I" "DayBoy") ∈ lw_tbl := lw_at lw_m1 113 rfl
theorem q219 : (Jvm.Cond.fieldLinkNest "DayBoy" (424 : Nat) "DayBoy$Head" "other" "[I" "DayBoy") ∈ lw_tbl := lw_at lw_m1 116 rfl
theorem q224 : (Jvm.Cond.fieldLinkNest "DayBoy" (210 : Nat) "DayBoy$Head" "costs" "[I" "DayBoy") ∈ lw_tbl := lw_at lw_m1 121 rfl
theorem q229 : (Jvm.Cond.fieldLinkNest "DayBoy" (213 : Nat) "DayBoy$Head" "left" "[J" "DayBoy") ∈ lw_tbl := lw_at lw_m1 126 rfl
theorem q231 : (Jvm.Cond.fieldLinkNest "DayBoy" (219 : Nat) "DayBoy$Head" "monthLeft" "[J" "DayBoy") ∈ lw_tbl := lw_at lw_m1 128 rfl
theorem q240 : (Jvm.Cond.fieldLinkNest "DayBoy" (342 : Nat) "DayBoy$Head" "stepMany" "I" "DayBoy") ∈ lw_tbl := lw_at lw_m1 137 rfl
theorem q244 : (Jvm.Cond.fieldLinkNest "DayBoy" (418 : Nat) "DayBoy$Head" "mateMany" "I" "DayBoy") ∈ lw_tbl := lw_at lw_m1 141 rfl
theorem q246 : (Jvm.Cond.fieldLinkNest "DayBoy" (317 : Nat) "DayBoy$Head" "weight" "I" "DayBoy") ∈ lw_tbl := lw_at lw_m1 143 rfl
theorem q300 : (Jvm.Cond.classLink "DayBoy" (42 : Nat) "DayBoy$Ask") ∈ lw_all := lw_g (lw_at lw_m1 197 rfl) rfl
theorem q302 : (Jvm.Cond.fieldLink "DayBoy" (9 : Nat) "DayBoy" "tape" "[B") ∈ lw_all := lw_g (lw_at lw_m1 199 rfl) rfl
theorem q305 : (Jvm.Cond.fieldLink "DayBoy" (80 : Nat) "DayBoy" "length" "I") ∈ lw_all := lw_g (lw_at lw_m1 202 rfl) rfl
theorem q306 : (Jvm.Cond.fieldLink "DayBoy" (16 : Nat) "DayBoy" "draft" "LDayBoy$Almanac;") ∈ lw_all := lw_g (lw_at lw_m1 203 rfl) rfl
theorem q308 : (Jvm.Cond.fieldLink "DayBoy" (23 : Nat) "DayBoy" "draftHead" "LDayBoy$Head;") ∈ lw_all := lw_g (lw_at lw_m1 205 rfl) rfl
theorem q310 : (Jvm.Cond.fieldLink "DayBoy" (27 : Nat) "DayBoy" "calendars" "[LDayBoy$Almanac;") ∈ lw_all := lw_g (lw_at lw_m1 207 rfl) rfl
theorem q311 : (Jvm.Cond.fieldLink "DayBoy" (31 : Nat) "DayBoy" "heads" "[LDayBoy$Head;") ∈ lw_all := lw_g (lw_at lw_m1 208 rfl) rfl
theorem q312 : (Jvm.Cond.fieldLink "DayBoy" (115 : Nat) "DayBoy" "calendarMany" "I") ∈ lw_all := lw_g (lw_at lw_m1 209 rfl) rfl
theorem q313 : (Jvm.Cond.fieldLink "DayBoy" (118 : Nat) "DayBoy" "headMany" "I") ∈ lw_all := lw_g (lw_at lw_m1 210 rfl) rfl
theorem q314 : (Jvm.Cond.fieldLink "DayBoy" (35 : Nat) "DayBoy" "rowDraft" "[I") ∈ lw_all := lw_g (lw_at lw_m1 211 rfl) rfl
theorem q316 : (Jvm.Cond.fieldLink "DayBoy" (39 : Nat) "DayBoy" "row" "[I") ∈ lw_all := lw_g (lw_at lw_m1 213 rfl) rfl
theorem q317 : (Jvm.Cond.fieldLink "DayBoy" (124 : Nat) "DayBoy" "rowMany" "I") ∈ lw_all := lw_g (lw_at lw_m1 214 rfl) rfl
theorem q318 : (Jvm.Cond.fieldLink "DayBoy" (107 : Nat) "DayBoy" "rowRead" "I") ∈ lw_all := lw_g (lw_at lw_m1 215 rfl) rfl
theorem q319 : (Jvm.Cond.fieldLink "DayBoy" (44 : Nat) "DayBoy" "asks" "[LDayBoy$Ask;") ∈ lw_all := lw_g (lw_at lw_m1 216 rfl) rfl
theorem q320 : (Jvm.Cond.fieldLink "DayBoy" (240 : Nat) "DayBoy" "askMany" "I") ∈ lw_all := lw_g (lw_at lw_m1 217 rfl) rfl
theorem q321 : (Jvm.Cond.fieldLink "DayBoy" (48 : Nat) "DayBoy" "birth" "I") ∈ lw_all := lw_g (lw_at lw_m1 218 rfl) rfl
theorem q322 : (Jvm.Cond.fieldLink "DayBoy" (295 : Nat) "DayBoy" "birthCalendar" "I") ∈ lw_all := lw_g (lw_at lw_m1 219 rfl) rfl
theorem q323 : (Jvm.Cond.fieldLink "DayBoy" (52 : Nat) "DayBoy" "planCalendar" "[I") ∈ lw_all := lw_g (lw_at lw_m1 220 rfl) rfl
theorem q324 : (Jvm.Cond.fieldLink "DayBoy" (55 : Nat) "DayBoy" "planY" "[I") ∈ lw_all := lw_g (lw_at lw_m1 221 rfl) rfl
theorem q325 : (Jvm.Cond.fieldLink "DayBoy" (58 : Nat) "DayBoy" "planM" "[I") ∈ lw_all := lw_g (lw_at lw_m1 222 rfl) rfl
theorem q326 : (Jvm.Cond.fieldLink "DayBoy" (61 : Nat) "DayBoy" "planD" "[I") ∈ lw_all := lw_g (lw_at lw_m1 223 rfl) rfl
theorem q327 : (Jvm.Cond.fieldLink "DayBoy" (320 : Nat) "DayBoy" "planMany" "I") ∈ lw_all := lw_g (lw_at lw_m1 224 rfl) rfl
theorem q328 : (Jvm.Cond.fieldLink "DayBoy" (64 : Nat) "DayBoy" "gets" "[I") ∈ lw_all := lw_g (lw_at lw_m1 225 rfl) rfl
theorem q329 : (Jvm.Cond.fieldLink "DayBoy" (67 : Nat) "DayBoy" "seeker" "LDayBoy$Head;") ∈ lw_all := lw_g (lw_at lw_m1 226 rfl) rfl
theorem q330 : (Jvm.Cond.fieldLink "DayBoy" (70 : Nat) "DayBoy" "eventDay" "[I") ∈ lw_all := lw_g (lw_at lw_m1 227 rfl) rfl
theorem q331 : (Jvm.Cond.fieldLink "DayBoy" (73 : Nat) "DayBoy" "eventSort" "[I") ∈ lw_all := lw_g (lw_at lw_m1 228 rfl) rfl
theorem q332 : (Jvm.Cond.fieldLink "DayBoy" (389 : Nat) "DayBoy" "eventMany" "I") ∈ lw_all := lw_g (lw_at lw_m1 229 rfl) rfl
theorem q333 : (Jvm.Cond.fieldLink "DayBoy" (446 : Nat) "DayBoy" "keptAsks" "I") ∈ lw_all := lw_g (lw_at lw_m1 230 rfl) rfl
theorem q334 : (Jvm.Cond.fieldLink "DayBoy" (449 : Nat) "DayBoy" "keptEvents" "I") ∈ lw_all := lw_g (lw_at lw_m1 231 rfl) rfl
theorem q335 : (Jvm.Cond.laysFinal "DayBoy" "DayBoy" "tape" "[B") ∈ lw_all := lw_g (lw_at lw_m1 232 rfl) rfl
theorem q336 : (Jvm.Cond.soleField "DayBoy" "tape") ∈ lw_all := lw_g (lw_at lw_m1 233 rfl) rfl
theorem q337 : (Jvm.Cond.lays "DayBoy" "DayBoy" "length" "I") ∈ lw_all := lw_g (lw_at lw_m1 234 rfl) rfl
theorem q338 : (Jvm.Cond.soleField "DayBoy" "length") ∈ lw_all := lw_g (lw_at lw_m1 235 rfl) rfl
theorem q339 : (Jvm.Cond.lays "DayBoy" "DayBoy" "draft" "LDayBoy$Almanac;") ∈ lw_all := lw_g (lw_at lw_m1 236 rfl) rfl
theorem q340 : (Jvm.Cond.soleField "DayBoy" "draft") ∈ lw_all := lw_g (lw_at lw_m1 237 rfl) rfl
theorem q341 : (Jvm.Cond.lays "DayBoy" "DayBoy" "draftHead" "LDayBoy$Head;") ∈ lw_all := lw_g (lw_at lw_m1 238 rfl) rfl
theorem q342 : (Jvm.Cond.soleField "DayBoy" "draftHead") ∈ lw_all := lw_g (lw_at lw_m1 239 rfl) rfl
theorem q343 : (Jvm.Cond.laysFinal "DayBoy" "DayBoy" "calendars" "[LDayBoy$Almanac;") ∈ lw_all := lw_g (lw_at lw_m2 0 rfl) rfl
theorem q344 : (Jvm.Cond.soleField "DayBoy" "calendars") ∈ lw_all := lw_g (lw_at lw_m2 1 rfl) rfl
theorem q345 : (Jvm.Cond.laysFinal "DayBoy" "DayBoy" "heads" "[LDayBoy$Head;") ∈ lw_all := lw_g (lw_at lw_m2 2 rfl) rfl
theorem q346 : (Jvm.Cond.soleField "DayBoy" "heads") ∈ lw_all := lw_g (lw_at lw_m2 3 rfl) rfl
theorem q347 : (Jvm.Cond.lays "DayBoy" "DayBoy" "calendarMany" "I") ∈ lw_all := lw_g (lw_at lw_m2 4 rfl) rfl
theorem q348 : (Jvm.Cond.soleField "DayBoy" "calendarMany") ∈ lw_all := lw_g (lw_at lw_m2 5 rfl) rfl
theorem q349 : (Jvm.Cond.lays "DayBoy" "DayBoy" "headMany" "I") ∈ lw_all := lw_g (lw_at lw_m2 6 rfl) rfl
theorem q350 : (Jvm.Cond.soleField "DayBoy" "headMany") ∈ lw_all := lw_g (lw_at lw_m2 7 rfl) rfl
theorem q351 : (Jvm.Cond.laysFinal "DayBoy" "DayBoy" "rowDraft" "[I") ∈ lw_all := lw_g (lw_at lw_m2 8 rfl) rfl
theorem q352 : (Jvm.Cond.soleField "DayBoy" "rowDraft") ∈ lw_all := lw_g (lw_at lw_m2 9 rfl) rfl
theorem q353 : (Jvm.Cond.laysFinal "DayBoy" "DayBoy" "row" "[I") ∈ lw_all := lw_g (lw_at lw_m2 10 rfl) rfl
theorem q354 : (Jvm.Cond.soleField "DayBoy" "row") ∈ lw_all := lw_g (lw_at lw_m2 11 rfl) rfl
theorem q355 : (Jvm.Cond.lays "DayBoy" "DayBoy" "rowMany" "I") ∈ lw_all := lw_g (lw_at lw_m2 12 rfl) rfl
theorem q356 : (Jvm.Cond.soleField "DayBoy" "rowMany") ∈ lw_all := lw_g (lw_at lw_m2 13 rfl) rfl
theorem q357 : (Jvm.Cond.lays "DayBoy" "DayBoy" "rowRead" "I") ∈ lw_all := lw_g (lw_at lw_m2 14 rfl) rfl
theorem q358 : (Jvm.Cond.soleField "DayBoy" "rowRead") ∈ lw_all := lw_g (lw_at lw_m2 15 rfl) rfl
theorem q359 : (Jvm.Cond.laysFinal "DayBoy" "DayBoy" "asks" "[LDayBoy$Ask;") ∈ lw_all := lw_g (lw_at lw_m2 16 rfl) rfl
theorem q360 : (Jvm.Cond.soleField "DayBoy" "asks") ∈ lw_all := lw_g (lw_at lw_m2 17 rfl) rfl
theorem q361 : (Jvm.Cond.lays "DayBoy" "DayBoy" "askMany" "I") ∈ lw_all := lw_g (lw_at lw_m2 18 rfl) rfl
theorem q362 : (Jvm.Cond.soleField "DayBoy" "askMany") ∈ lw_all := lw_g (lw_at lw_m2 19 rfl) rfl
theorem q363 : (Jvm.Cond.lays "DayBoy" "DayBoy" "birth" "I") ∈ lw_all := lw_g (lw_at lw_m2 20 rfl) rfl
theorem q364 : (Jvm.Cond.soleField "DayBoy" "birth") ∈ lw_all := lw_g (lw_at lw_m2 21 rfl) rfl
theorem q365 : (Jvm.Cond.lays "DayBoy" "DayBoy" "birthCalendar" "I") ∈ lw_all := lw_g (lw_at lw_m2 22 rfl) rfl
theorem q366 : (Jvm.Cond.soleField "DayBoy" "birthCalendar") ∈ lw_all := lw_g (lw_at lw_m2 23 rfl) rfl
theorem q367 : (Jvm.Cond.laysFinal "DayBoy" "DayBoy" "planCalendar" "[I") ∈ lw_all := lw_g (lw_at lw_m2 24 rfl) rfl
theorem q368 : (Jvm.Cond.soleField "DayBoy" "planCalendar") ∈ lw_all := lw_g (lw_at lw_m2 25 rfl) rfl
theorem q369 : (Jvm.Cond.laysFinal "DayBoy" "DayBoy" "planY" "[I") ∈ lw_all := lw_g (lw_at lw_m2 26 rfl) rfl
theorem q370 : (Jvm.Cond.soleField "DayBoy" "planY") ∈ lw_all := lw_g (lw_at lw_m2 27 rfl) rfl
theorem q371 : (Jvm.Cond.laysFinal "DayBoy" "DayBoy" "planM" "[I") ∈ lw_all := lw_g (lw_at lw_m2 28 rfl) rfl
theorem q372 : (Jvm.Cond.soleField "DayBoy" "planM") ∈ lw_all := lw_g (lw_at lw_m2 29 rfl) rfl
theorem q373 : (Jvm.Cond.laysFinal "DayBoy" "DayBoy" "planD" "[I") ∈ lw_all := lw_g (lw_at lw_m2 30 rfl) rfl
theorem q374 : (Jvm.Cond.soleField "DayBoy" "planD") ∈ lw_all := lw_g (lw_at lw_m2 31 rfl) rfl
theorem q375 : (Jvm.Cond.lays "DayBoy" "DayBoy" "planMany" "I") ∈ lw_all := lw_g (lw_at lw_m2 32 rfl) rfl
theorem q376 : (Jvm.Cond.soleField "DayBoy" "planMany") ∈ lw_all := lw_g (lw_at lw_m2 33 rfl) rfl
theorem q377 : (Jvm.Cond.laysFinal "DayBoy" "DayBoy" "gets" "[I") ∈ lw_all := lw_g (lw_at lw_m2 34 rfl) rfl
theorem q378 : (Jvm.Cond.soleField "DayBoy" "gets") ∈ lw_all := lw_g (lw_at lw_m2 35 rfl) rfl
theorem q379 : (Jvm.Cond.laysFinal "DayBoy" "DayBoy" "seeker" "LDayBoy$Head;") ∈ lw_all := lw_g (lw_at lw_m2 36 rfl) rfl
theorem q380 : (Jvm.Cond.soleField "DayBoy" "seeker") ∈ lw_all := lw_g (lw_at lw_m2 37 rfl) rfl
theorem q381 : (Jvm.Cond.laysFinal "DayBoy" "DayBoy" "eventDay" "[I") ∈ lw_all := lw_g (lw_at lw_m2 38 rfl) rfl
theorem q382 : (Jvm.Cond.soleField "DayBoy" "eventDay") ∈ lw_all := lw_g (lw_at lw_m2 39 rfl) rfl
theorem q383 : (Jvm.Cond.laysFinal "DayBoy" "DayBoy" "eventSort" "[I") ∈ lw_all := lw_g (lw_at lw_m2 40 rfl) rfl
theorem q384 : (Jvm.Cond.soleField "DayBoy" "eventSort") ∈ lw_all := lw_g (lw_at lw_m2 41 rfl) rfl
theorem q385 : (Jvm.Cond.lays "DayBoy" "DayBoy" "eventMany" "I") ∈ lw_all := lw_g (lw_at lw_m2 42 rfl) rfl
theorem q386 : (Jvm.Cond.soleField "DayBoy" "eventMany") ∈ lw_all := lw_g (lw_at lw_m2 43 rfl) rfl
theorem q387 : (Jvm.Cond.lays "DayBoy" "DayBoy" "keptAsks" "I") ∈ lw_all := lw_g (lw_at lw_m2 44 rfl) rfl
theorem q388 : (Jvm.Cond.soleField "DayBoy" "keptAsks") ∈ lw_all := lw_g (lw_at lw_m2 45 rfl) rfl
theorem q389 : (Jvm.Cond.lays "DayBoy" "DayBoy" "keptEvents" "I") ∈ lw_all := lw_g (lw_at lw_m2 46 rfl) rfl
theorem q390 : (Jvm.Cond.soleField "DayBoy" "keptEvents") ∈ lw_all := lw_g (lw_at lw_m2 47 rfl) rfl
theorem q391 : (Jvm.Cond.superclass "DayBoy" "java/lang/Object") ∈ lw_all := lw_g (lw_at lw_m2 48 rfl) rfl
theorem q393 : (Jvm.Cond.instanceMethod ({ cls := "DayBoy", name := "feed", desc := "(IIIII)I" } : Jvm.MethodName)) ∈ lw_all := lw_g (lw_at lw_m2 50 rfl) rfl
theorem q394 : (Jvm.Cond.selects "DayBoy" ({ cls := "DayBoy", name := "feed", desc := "(IIIII)I" } : Jvm.MethodName) ({ cls := "DayBoy", name := "feed", desc := "(IIIII)I" } : Jvm.MethodName)) ∈ lw_all := lw_g (lw_at lw_m2 51 rfl) rfl
theorem q395 : (Jvm.Cond.code ({ cls := "DayBoy", name := "feed", desc := "(IIIII)I" } : Jvm.MethodName) prog_1_method_3_code (7 : Nat) (Option.some Jvm.ClassFile.FieldType.int)) ∈ lw_all := lw_g (lw_at lw_m2 52 rfl) rfl
theorem q396 : (Jvm.Cond.methodLink "DayBoy" (76 : Nat) ({ cls := "DayBoy", name := "bytes", desc := "(I)I" } : Jvm.MethodName)) ∈ lw_all := lw_g (lw_at lw_m2 53 rfl) rfl
theorem q397 : (Jvm.Cond.static ({ cls := "DayBoy", name := "bytes", desc := "(I)I" } : Jvm.MethodName)) ∈ lw_all := lw_g (lw_at lw_m2 54 rfl) rfl
theorem q398 : (Jvm.Cond.code ({ cls := "DayBoy", name := "bytes", desc := "(I)I" } : Jvm.MethodName) prog_1_method_4_code (3 : Nat) (Option.some Jvm.ClassFile.FieldType.int)) ∈ lw_all := lw_g (lw_at lw_m2 55 rfl) rfl
theorem q399 : (Jvm.Cond.methodLink "DayBoy" (83 : Nat) ({ cls := "DayBoy", name := "bring", desc := "(I)V" } : Jvm.MethodName)) ∈ lw_all := lw_g (lw_at lw_m2 56 rfl) rfl
theorem q400 : (Jvm.Cond.privateMethod ({ cls := "DayBoy", name := "bring", desc := "(I)V" } : Jvm.MethodName)) ∈ lw_tbl := lw_at lw_m2 57 rfl
theorem q401 : (Jvm.Cond.instanceMethod ({ cls := "DayBoy", name := "bring", desc := "(I)V" } : Jvm.MethodName)) ∈ lw_all := lw_g (lw_at lw_m2 58 rfl) rfl
theorem q402 : (Jvm.Cond.code ({ cls := "DayBoy", name := "bring", desc := "(I)V" } : Jvm.MethodName) prog_1_method_5_code (3 : Nat) (Option.none : Option Jvm.ClassFile.FieldType)) ∈ lw_all := lw_g (lw_at lw_m2 59 rfl) rfl
theorem q404 : (Jvm.Cond.instanceMethod ({ cls := "DayBoy", name := "end", desc := "(I)Z" } : Jvm.MethodName)) ∈ lw_all := lw_g (lw_at lw_m2 61 rfl) rfl
theorem q405 : (Jvm.Cond.selects "DayBoy" ({ cls := "DayBoy", name := "end", desc := "(I)Z" } : Jvm.MethodName) ({ cls := "DayBoy", name := "end", desc := "(I)Z" } : Jvm.MethodName)) ∈ lw_all := lw_g (lw_at lw_m2 62 rfl) rfl
theorem q406 : (Jvm.Cond.code ({ cls := "DayBoy", name := "end", desc := "(I)Z" } : Jvm.MethodName) prog_1_method_6_code (2 : Nat) (Option.some Jvm.ClassFile.FieldType.boolean)) ∈ lw_all := lw_g (lw_at lw_m2 63 rfl) rfl
theorem q408 : (Jvm.Cond.instanceMethod ({ cls := "DayBoy", name := "fault", desc := "(I)I" } : Jvm.MethodName)) ∈ lw_all := lw_g (lw_at lw_m2 65 rfl) rfl
theorem q409 : (Jvm.Cond.selects "DayBoy" ({ cls := "DayBoy", name := "fault", desc := "(I)I" } : Jvm.MethodName) ({ cls := "DayBoy", name := "fault", desc := "(I)I" } : Jvm.MethodName)) ∈ lw_all := lw_g (lw_at lw_m2 66 rfl) rfl
theorem q410 : (Jvm.Cond.codeWith ({ cls := "DayBoy", name := "fault", desc := "(I)I" } : Jvm.MethodName) prog_1_method_7_code (3 : Nat) (Option.some Jvm.ClassFile.FieldType.int) [((15 : Nat), (56 : Nat), (57 : Nat), (110 : Nat))]) ∈ lw_all := lw_g (lw_at lw_m2 67 rfl) rfl
theorem q411 : (Jvm.Cond.classLink "DayBoy" (110 : Nat) "DayBoy$Wrong") ∈ lw_all := lw_g (lw_at lw_m2 68 rfl) rfl
theorem q412 : (Jvm.Cond.constantLong "DayBoy" (87 : Nat) (2 : Int64)) ∈ lw_all := lw_g (lw_at lw_m2 69 rfl) rfl
theorem q413 : (Jvm.Cond.methodLink "DayBoy" (89 : Nat) ({ cls := "DayBoy", name := "isIn", desc := "(JJJ)Z" } : Jvm.MethodName)) ∈ lw_all := lw_g (lw_at lw_m2 70 rfl) rfl
theorem q414 : (Jvm.Cond.static ({ cls := "DayBoy", name := "isIn", desc := "(JJJ)Z" } : Jvm.MethodName)) ∈ lw_all := lw_g (lw_at lw_m2 71 rfl) rfl
theorem q415 : (Jvm.Cond.code ({ cls := "DayBoy", name := "isIn", desc := "(JJJ)Z" } : Jvm.MethodName) prog_1_method_2_code (6 : Nat) (Option.some Jvm.ClassFile.FieldType.boolean)) ∈ lw_all := lw_g (lw_at lw_m2 72 rfl) rfl
theorem q416 : (Jvm.Cond.classLink "DayBoy" (93 : Nat) "DayBoy$Reader") ∈ lw_all := lw_g (lw_at lw_m2 73 rfl) rfl
theorem q418 : (Jvm.Cond.methodLinkNest "DayBoy" (95 : Nat) ({ cls := "DayBoy$Reader", name := "<init>", desc := "(LDayBoy;)V" } : Jvm.MethodName) "DayBoy") ∈ lw_tbl := lw_at lw_m2 75 rfl
theorem q432 : (Jvm.Cond.methodLink "DayBoy" (98 : Nat) ({ cls := "DayBoy$Reader", name := "calendar", desc := "()V" } : Jvm.MethodName)) ∈ lw_all := lw_g (lw_at lw_m2 89 rfl) rfl
theorem q509 : (Jvm.Cond.fieldLinkNest "DayBoy" (112 : Nat) "DayBoy$Wrong" "at" "I" "DayBoy") ∈ lw_tbl := lw_at lw_m2 166 rfl
theorem q596 : (Jvm.Cond.methodLink "DayBoy" (101 : Nat) ({ cls := "DayBoy$Reader", name := "head", desc := "()V" } : Jvm.MethodName)) ∈ lw_all := lw_g (lw_at lw_m3 13 rfl) rfl
theorem q710 : (Jvm.Cond.methodLink "DayBoy" (104 : Nat) ({ cls := "DayBoy$Reader", name := "row", desc := "()I" } : Jvm.MethodName)) ∈ lw_all := lw_g (lw_at lw_m3 127 rfl) rfl
theorem q715 : (Jvm.Cond.instanceMethod ({ cls := "DayBoy", name := "text", desc := "(I)I" } : Jvm.MethodName)) ∈ lw_all := lw_g (lw_at lw_m3 132 rfl) rfl
theorem q716 : (Jvm.Cond.selects "DayBoy" ({ cls := "DayBoy", name := "text", desc := "(I)I" } : Jvm.MethodName) ({ cls := "DayBoy", name := "text", desc := "(I)I" } : Jvm.MethodName)) ∈ lw_all := lw_g (lw_at lw_m3 133 rfl) rfl
theorem q717 : (Jvm.Cond.code ({ cls := "DayBoy", name := "text", desc := "(I)I" } : Jvm.MethodName) prog_1_method_8_code (2 : Nat) (Option.some Jvm.ClassFile.FieldType.int)) ∈ lw_all := lw_g (lw_at lw_m3 134 rfl) rfl
theorem q718 : (Jvm.Cond.methodLink "DayBoy" (121 : Nat) ({ cls := "DayBoy", name := "fault", desc := "(I)I" } : Jvm.MethodName)) ∈ lw_all := lw_g (lw_at lw_m3 135 rfl) rfl
theorem q719 : (Jvm.Cond.methodLink "DayBoy" (127 : Nat) ({ cls := "java/lang/System", name := "arraycopy", desc := "(Ljava/lang/Object;ILjava/lang/Object;II)V" } : Jvm.MethodName)) ∈ lw_all := lw_g (lw_at lw_m3 136 rfl) rfl
theorem q722 : (Jvm.Cond.methodLink "DayBoy" (133 : Nat) ({ cls := "DayBoy$Head", name := "learn", desc := "()V" } : Jvm.MethodName)) ∈ lw_all := lw_g (lw_at lw_m3 139 rfl) rfl
theorem q746 : (Jvm.Cond.instanceMethod ({ cls := "DayBoy", name := "date", desc := "(III)I" } : Jvm.MethodName)) ∈ lw_all := lw_g (lw_at lw_m3 163 rfl) rfl
theorem q747 : (Jvm.Cond.selects "DayBoy" ({ cls := "DayBoy", name := "date", desc := "(III)I" } : Jvm.MethodName) ({ cls := "DayBoy", name := "date", desc := "(III)I" } : Jvm.MethodName)) ∈ lw_all := lw_g (lw_at lw_m3 164 rfl) rfl
theorem q748 : (Jvm.Cond.code ({ cls := "DayBoy", name := "date", desc := "(III)I" } : Jvm.MethodName) prog_1_method_14_code (4 : Nat) (Option.some Jvm.ClassFile.FieldType.int)) ∈ lw_all := lw_g (lw_at lw_m3 165 rfl) rfl
theorem q749 : (Jvm.Cond.methodLink "DayBoy" (136 : Nat) ({ cls := "DayBoy", name := "isCalendar", desc := "(I)Z" } : Jvm.MethodName)) ∈ lw_all := lw_g (lw_at lw_m3 166 rfl) rfl
theorem q750 : (Jvm.Cond.privateMethod ({ cls := "DayBoy", name := "isCalendar", desc := "(I)Z" } : Jvm.MethodName)) ∈ lw_tbl := lw_at lw_m3 167 rfl
theorem q751 : (Jvm.Cond.instanceMethod ({ cls := "DayBoy", name := "isCalendar", desc := "(I)Z" } : Jvm.MethodName)) ∈ lw_all := lw_g (lw_at lw_m3 168 rfl) rfl
theorem q752 : (Jvm.Cond.code ({ cls := "DayBoy", name := "isCalendar", desc := "(I)Z" } : Jvm.MethodName) prog_1_method_9_code (2 : Nat) (Option.some Jvm.ClassFile.FieldType.boolean)) ∈ lw_all := lw_g (lw_at lw_m3 169 rfl) rfl
theorem q753 : (Jvm.Cond.constantLong "DayBoy" (157 : Nat) (3 : Int64)) ∈ lw_all := lw_g (lw_at lw_m3 170 rfl) rfl
theorem q754 : (Jvm.Cond.methodLink "DayBoy" (159 : Nat) ({ cls := "DayBoy$Almanac", name := "date", desc := "(II)I" } : Jvm.MethodName)) ∈ lw_all := lw_g (lw_at lw_m3 171 rfl) rfl
theorem q785 : (Jvm.Cond.instanceMethod ({ cls := "DayBoy", name := "turned", desc := "(IIIIII)I" } : Jvm.MethodName)) ∈ lw_all := lw_g (lw_at lw_m3 202 rfl) rfl
theorem q786 : (Jvm.Cond.selects "DayBoy" ({ cls := "DayBoy", name := "turned", desc := "(IIIIII)I" } : Jvm.MethodName) ({ cls := "DayBoy", name := "turned", desc := "(IIIIII)I" } : Jvm.MethodName)) ∈ lw_all := lw_g (lw_at lw_m3 203 rfl) rfl
theorem q787 : (Jvm.Cond.code ({ cls := "DayBoy", name := "turned", desc := "(IIIIII)I" } : Jvm.MethodName) prog_1_method_15_code (7 : Nat) (Option.some Jvm.ClassFile.FieldType.int)) ∈ lw_all := lw_g (lw_at lw_m3 204 rfl) rfl
theorem q788 : (Jvm.Cond.methodLink "DayBoy" (146 : Nat) ({ cls := "DayBoy", name := "isDate", desc := "(IIII)Z" } : Jvm.MethodName)) ∈ lw_all := lw_g (lw_at lw_m3 205 rfl) rfl
theorem q789 : (Jvm.Cond.privateMethod ({ cls := "DayBoy", name := "isDate", desc := "(IIII)Z" } : Jvm.MethodName)) ∈ lw_tbl := lw_at lw_m3 206 rfl
theorem q790 : (Jvm.Cond.instanceMethod ({ cls := "DayBoy", name := "isDate", desc := "(IIII)Z" } : Jvm.MethodName)) ∈ lw_all := lw_g (lw_at lw_m3 207 rfl) rfl
theorem q791 : (Jvm.Cond.code ({ cls := "DayBoy", name := "isDate", desc := "(IIII)Z" } : Jvm.MethodName) prog_1_method_11_code (5 : Nat) (Option.some Jvm.ClassFile.FieldType.boolean)) ∈ lw_all := lw_g (lw_at lw_m3 208 rfl) rfl
theorem q792 : (Jvm.Cond.methodLink "DayBoy" (140 : Nat) ({ cls := "DayBoy$Almanac", name := "has", desc := "(III)Z" } : Jvm.MethodName)) ∈ lw_all := lw_g (lw_at lw_m3 209 rfl) rfl
theorem q810 : (Jvm.Cond.methodLink "DayBoy" (153 : Nat) ({ cls := "DayBoy$Almanac", name := "day", desc := "(III)I" } : Jvm.MethodName)) ∈ lw_all := lw_g (lw_at lw_m3 227 rfl) rfl
theorem q816 : (Jvm.Cond.instanceMethod ({ cls := "DayBoy", name := "many", desc := "(III)I" } : Jvm.MethodName)) ∈ lw_all := lw_g (lw_at lw_m3 233 rfl) rfl
theorem q817 : (Jvm.Cond.selects "DayBoy" ({ cls := "DayBoy", name := "many", desc := "(III)I" } : Jvm.MethodName) ({ cls := "DayBoy", name := "many", desc := "(III)I" } : Jvm.MethodName)) ∈ lw_all := lw_g (lw_at lw_m3 234 rfl) rfl
theorem q818 : (Jvm.Cond.code ({ cls := "DayBoy", name := "many", desc := "(III)I" } : Jvm.MethodName) prog_1_method_16_code (6 : Nat) (Option.some Jvm.ClassFile.FieldType.int)) ∈ lw_all := lw_g (lw_at lw_m3 235 rfl) rfl
theorem q819 : (Jvm.Cond.methodLink "DayBoy" (163 : Nat) ({ cls := "DayBoy", name := "isYear", desc := "(I)Z" } : Jvm.MethodName)) ∈ lw_all := lw_g (lw_at lw_m3 236 rfl) rfl
theorem q820 : (Jvm.Cond.static ({ cls := "DayBoy", name := "isYear", desc := "(I)Z" } : Jvm.MethodName)) ∈ lw_all := lw_g (lw_at lw_m3 237 rfl) rfl
theorem q821 : (Jvm.Cond.code ({ cls := "DayBoy", name := "isYear", desc := "(I)Z" } : Jvm.MethodName) prog_1_method_12_code (1 : Nat) (Option.some Jvm.ClassFile.FieldType.boolean)) ∈ lw_all := lw_g (lw_at lw_m3 238 rfl) rfl
theorem q822 : (Jvm.Cond.constantLong "DayBoy" (144 : Nat) (9999 : Int64)) ∈ lw_all := lw_g (lw_at lw_m3 239 rfl) rfl
theorem q823 : (Jvm.Cond.constantLong "DayBoy" (166 : Nat) (12 : Int64)) ∈ lw_all := lw_g (lw_at lw_m4 0 rfl) rfl
theorem q824 : (Jvm.Cond.methodLink "DayBoy" (168 : Nat) ({ cls := "DayBoy$Almanac", name := "manyIn", desc := "(II)I" } : Jvm.MethodName)) ∈ lw_all := lw_g (lw_at lw_m4 1 rfl) rfl
theorem q830 : (Jvm.Cond.instanceMethod ({ cls := "DayBoy", name := "kind", desc := "(II)I" } : Jvm.MethodName)) ∈ lw_all := lw_g (lw_at lw_m4 7 rfl) rfl
theorem q831 : (Jvm.Cond.selects "DayBoy" ({ cls := "DayBoy", name := "kind", desc := "(II)I" } : Jvm.MethodName) ({ cls := "DayBoy", name := "kind", desc := "(II)I" } : Jvm.MethodName)) ∈ lw_all := lw_g (lw_at lw_m4 8 rfl) rfl
theorem q832 : (Jvm.Cond.code ({ cls := "DayBoy", name := "kind", desc := "(II)I" } : Jvm.MethodName) prog_1_method_17_code (3 : Nat) (Option.some Jvm.ClassFile.FieldType.int)) ∈ lw_all := lw_g (lw_at lw_m4 9 rfl) rfl
theorem q833 : (Jvm.Cond.methodLink "DayBoy" (171 : Nat) ({ cls := "DayBoy$Almanac", name := "kind", desc := "(I)I" } : Jvm.MethodName)) ∈ lw_all := lw_g (lw_at lw_m4 10 rfl) rfl
theorem q843 : (Jvm.Cond.instanceMethod ({ cls := "DayBoy", name := "way", desc := "(IIIIIII)I" } : Jvm.MethodName)) ∈ lw_all := lw_g (lw_at lw_m4 20 rfl) rfl
theorem q844 : (Jvm.Cond.selects "DayBoy" ({ cls := "DayBoy", name := "way", desc := "(IIIIIII)I" } : Jvm.MethodName) ({ cls := "DayBoy", name := "way", desc := "(IIIIIII)I" } : Jvm.MethodName)) ∈ lw_all := lw_g (lw_at lw_m4 21 rfl) rfl
theorem q845 : (Jvm.Cond.code ({ cls := "DayBoy", name := "way", desc := "(IIIIIII)I" } : Jvm.MethodName) prog_1_method_20_code (12 : Nat) (Option.some Jvm.ClassFile.FieldType.int)) ∈ lw_all := lw_g (lw_at lw_m4 22 rfl) rfl
theorem q846 : (Jvm.Cond.methodLink "DayBoy" (191 : Nat) ({ cls := "DayBoy", name := "isAnswered", desc := "(IIIII)Z" } : Jvm.MethodName)) ∈ lw_all := lw_g (lw_at lw_m4 23 rfl) rfl
theorem q847 : (Jvm.Cond.privateMethod ({ cls := "DayBoy", name := "isAnswered", desc := "(IIIII)Z" } : Jvm.MethodName)) ∈ lw_tbl := lw_at lw_m4 24 rfl
theorem q848 : (Jvm.Cond.instanceMethod ({ cls := "DayBoy", name := "isAnswered", desc := "(IIIII)Z" } : Jvm.MethodName)) ∈ lw_all := lw_g (lw_at lw_m4 25 rfl) rfl
theorem q849 : (Jvm.Cond.code ({ cls := "DayBoy", name := "isAnswered", desc := "(IIIII)Z" } : Jvm.MethodName) prog_1_method_19_code (6 : Nat) (Option.some Jvm.ClassFile.FieldType.boolean)) ∈ lw_all := lw_g (lw_at lw_m4 26 rfl) rfl
theorem q850 : (Jvm.Cond.methodLink "DayBoy" (184 : Nat) ({ cls := "DayBoy", name := "isHead", desc := "(I)Z" } : Jvm.MethodName)) ∈ lw_all := lw_g (lw_at lw_m4 27 rfl) rfl
theorem q851 : (Jvm.Cond.privateMethod ({ cls := "DayBoy", name := "isHead", desc := "(I)Z" } : Jvm.MethodName)) ∈ lw_tbl := lw_at lw_m4 28 rfl
theorem q852 : (Jvm.Cond.instanceMethod ({ cls := "DayBoy", name := "isHead", desc := "(I)Z" } : Jvm.MethodName)) ∈ lw_all := lw_g (lw_at lw_m4 29 rfl) rfl
theorem q853 : (Jvm.Cond.code ({ cls := "DayBoy", name := "isHead", desc := "(I)Z" } : Jvm.MethodName) prog_1_method_10_code (2 : Nat) (Option.some Jvm.ClassFile.FieldType.boolean)) ∈ lw_all := lw_g (lw_at lw_m4 30 rfl) rfl
theorem q854 : (Jvm.Cond.methodLink "DayBoy" (187 : Nat) ({ cls := "DayBoy", name := "hasWay", desc := "(LDayBoy$Head;LDayBoy$Almanac;II)Z" } : Jvm.MethodName)) ∈ lw_all := lw_g (lw_at lw_m4 31 rfl) rfl
theorem q855 : (Jvm.Cond.privateMethod ({ cls := "DayBoy", name := "hasWay", desc := "(LDayBoy$Head;LDayBoy$Almanac;II)Z" } : Jvm.MethodName)) ∈ lw_tbl := lw_at lw_m4 32 rfl
theorem q856 : (Jvm.Cond.instanceMethod ({ cls := "DayBoy", name := "hasWay", desc := "(LDayBoy$Head;LDayBoy$Almanac;II)Z" } : Jvm.MethodName)) ∈ lw_all := lw_g (lw_at lw_m4 33 rfl) rfl
theorem q857 : (Jvm.Cond.code ({ cls := "DayBoy", name := "hasWay", desc := "(LDayBoy$Head;LDayBoy$Almanac;II)Z" } : Jvm.MethodName) prog_1_method_18_code (5 : Nat) (Option.some Jvm.ClassFile.FieldType.boolean)) ∈ lw_all := lw_g (lw_at lw_m4 34 rfl) rfl
theorem q858 : (Jvm.Cond.methodLink "DayBoy" (174 : Nat) ({ cls := "DayBoy$Head", name := "hasRows", desc := "(II)Z" } : Jvm.MethodName)) ∈ lw_all := lw_g (lw_at lw_m4 35 rfl) rfl
theorem q862 : (Jvm.Cond.methodLink "DayBoy" (178 : Nat) ({ cls := "DayBoy$Head", name := "knownYear", desc := "(I)I" } : Jvm.MethodName)) ∈ lw_all := lw_g (lw_at lw_m4 39 rfl) rfl
theorem q874 : (Jvm.Cond.methodLink "DayBoy" (181 : Nat) ({ cls := "DayBoy$Head", name := "knownMonth", desc := "(I)I" } : Jvm.MethodName)) ∈ lw_all := lw_g (lw_at lw_m4 51 rfl) rfl
theorem q882 : (Jvm.Cond.methodLink "DayBoy" (195 : Nat) ({ cls := "DayBoy$Head", name := "steps", desc := "(I)I" } : Jvm.MethodName)) ∈ lw_all := lw_g (lw_at lw_m4 59 rfl) rfl
theorem q886 : (Jvm.Cond.methodLink "DayBoy" (198 : Nat) ({ cls := "DayBoy$Head", name := "monthSteps", desc := "(I)I" } : Jvm.MethodName)) ∈ lw_all := lw_g (lw_at lw_m4 63 rfl) rfl
theorem q890 : (Jvm.Cond.methodLink "DayBoy" (201 : Nat) ({ cls := "DayBoy$Head", name := "nextYear", desc := "(I)I" } : Jvm.MethodName)) ∈ lw_all := lw_g (lw_at lw_m4 67 rfl) rfl
theorem q891 : (Jvm.Cond.methodLink "DayBoy" (204 : Nat) ({ cls := "DayBoy$Head", name := "nextMonth", desc := "(I)I" } : Jvm.MethodName)) ∈ lw_all := lw_g (lw_at lw_m4 68 rfl) rfl
theorem q893 : (Jvm.Cond.instanceMethod ({ cls := "DayBoy", name := "answers", desc := "(IIIIII)I" } : Jvm.MethodName)) ∈ lw_all := lw_g (lw_at lw_m4 70 rfl) rfl
theorem q894 : (Jvm.Cond.selects "DayBoy" ({ cls := "DayBoy", name := "answers", desc := "(IIIIII)I" } : Jvm.MethodName) ({ cls := "DayBoy", name := "answers", desc := "(IIIIII)I" } : Jvm.MethodName)) ∈ lw_all := lw_g (lw_at lw_m4 71 rfl) rfl
theorem q895 : (Jvm.Cond.code ({ cls := "DayBoy", name := "answers", desc := "(IIIIII)I" } : Jvm.MethodName) prog_1_method_26_code (9 : Nat) (Option.some Jvm.ClassFile.FieldType.int)) ∈ lw_all := lw_g (lw_at lw_m4 72 rfl) rfl
theorem q896 : (Jvm.Cond.methodLink "DayBoy" (226 : Nat) ({ cls := "DayBoy", name := "answerOf", desc := "(LDayBoy$Head;LDayBoy$Almanac;III)I" } : Jvm.MethodName)) ∈ lw_all := lw_g (lw_at lw_m4 73 rfl) rfl
theorem q897 : (Jvm.Cond.static ({ cls := "DayBoy", name := "answerOf", desc := "(LDayBoy$Head;LDayBoy$Almanac;III)I" } : Jvm.MethodName)) ∈ lw_all := lw_g (lw_at lw_m4 74 rfl) rfl
theorem q898 : (Jvm.Cond.code ({ cls := "DayBoy", name := "answerOf", desc := "(LDayBoy$Head;LDayBoy$Almanac;III)I" } : Jvm.MethodName) prog_1_method_21_code (5 : Nat) (Option.some Jvm.ClassFile.FieldType.int)) ∈ lw_all := lw_g (lw_at lw_m4 75 rfl) rfl
theorem q899 : (Jvm.Cond.methodLink "DayBoy" (207 : Nat) ({ cls := "DayBoy$Almanac", name := "week", desc := "(III)I" } : Jvm.MethodName)) ∈ lw_all := lw_g (lw_at lw_m4 76 rfl) rfl
theorem q900 : (Jvm.Cond.methodLink "DayBoy" (230 : Nat) ({ cls := "DayBoy", name := "tenthsOf", desc := "(LDayBoy$Head;LDayBoy$Almanac;III)I" } : Jvm.MethodName)) ∈ lw_all := lw_g (lw_at lw_m4 77 rfl) rfl
theorem q901 : (Jvm.Cond.static ({ cls := "DayBoy", name := "tenthsOf", desc := "(LDayBoy$Head;LDayBoy$Almanac;III)I" } : Jvm.MethodName)) ∈ lw_all := lw_g (lw_at lw_m4 78 rfl) rfl
theorem q902 : (Jvm.Cond.code ({ cls := "DayBoy", name := "tenthsOf", desc := "(LDayBoy$Head;LDayBoy$Almanac;III)I" } : Jvm.MethodName) prog_1_method_22_code (6 : Nat) (Option.some Jvm.ClassFile.FieldType.int)) ∈ lw_all := lw_g (lw_at lw_m4 79 rfl) rfl
theorem q903 : (Jvm.Cond.constantLong "DayBoy" (217 : Nat) (20000 : Int64)) ∈ lw_all := lw_g (lw_at lw_m4 80 rfl) rfl
theorem q904 : (Jvm.Cond.methodLink "DayBoy" (233 : Nat) ({ cls := "DayBoy", name := "slip", desc := "(II)I" } : Jvm.MethodName)) ∈ lw_all := lw_g (lw_at lw_m4 81 rfl) rfl
theorem q905 : (Jvm.Cond.static ({ cls := "DayBoy", name := "slip", desc := "(II)I" } : Jvm.MethodName)) ∈ lw_all := lw_g (lw_at lw_m4 82 rfl) rfl
theorem q906 : (Jvm.Cond.code ({ cls := "DayBoy", name := "slip", desc := "(II)I" } : Jvm.MethodName) prog_1_method_23_code (2 : Nat) (Option.some Jvm.ClassFile.FieldType.int)) ∈ lw_all := lw_g (lw_at lw_m4 83 rfl) rfl
theorem q907 : (Jvm.Cond.methodLink "DayBoy" (236 : Nat) ({ cls := "DayBoy", name := "falseOf", desc := "(LDayBoy$Head;LDayBoy$Almanac;II)I" } : Jvm.MethodName)) ∈ lw_all := lw_g (lw_at lw_m4 84 rfl) rfl
theorem q908 : (Jvm.Cond.static ({ cls := "DayBoy", name := "falseOf", desc := "(LDayBoy$Head;LDayBoy$Almanac;II)I" } : Jvm.MethodName)) ∈ lw_all := lw_g (lw_at lw_m4 85 rfl) rfl
theorem q909 : (Jvm.Cond.code ({ cls := "DayBoy", name := "falseOf", desc := "(LDayBoy$Head;LDayBoy$Almanac;II)I" } : Jvm.MethodName) prog_1_method_25_code (8 : Nat) (Option.some Jvm.ClassFile.FieldType.int)) ∈ lw_all := lw_g (lw_at lw_m4 86 rfl) rfl
theorem q910 : (Jvm.Cond.methodLink "DayBoy" (222 : Nat) ({ cls := "DayBoy", name := "areAlike", desc := "(LDayBoy$Almanac;III)Z" } : Jvm.MethodName)) ∈ lw_all := lw_g (lw_at lw_m4 87 rfl) rfl
theorem q911 : (Jvm.Cond.static ({ cls := "DayBoy", name := "areAlike", desc := "(LDayBoy$Almanac;III)Z" } : Jvm.MethodName)) ∈ lw_all := lw_g (lw_at lw_m4 88 rfl) rfl
theorem q912 : (Jvm.Cond.code ({ cls := "DayBoy", name := "areAlike", desc := "(LDayBoy$Almanac;III)Z" } : Jvm.MethodName) prog_1_method_24_code (4 : Nat) (Option.some Jvm.ClassFile.FieldType.boolean)) ∈ lw_all := lw_g (lw_at lw_m4 89 rfl) rfl
theorem q914 : (Jvm.Cond.instanceMethod ({ cls := "DayBoy", name := "ask", desc := "(IIIIIII)I" } : Jvm.MethodName)) ∈ lw_all := lw_g (lw_at lw_m4 91 rfl) rfl
theorem q915 : (Jvm.Cond.selects "DayBoy" ({ cls := "DayBoy", name := "ask", desc := "(IIIIIII)I" } : Jvm.MethodName) ({ cls := "DayBoy", name := "ask", desc := "(IIIIIII)I" } : Jvm.MethodName)) ∈ lw_all := lw_g (lw_at lw_m4 92 rfl) rfl
theorem q916 : (Jvm.Cond.code ({ cls := "DayBoy", name := "ask", desc := "(IIIIIII)I" } : Jvm.MethodName) prog_1_method_27_code (8 : Nat) (Option.some Jvm.ClassFile.FieldType.int)) ∈ lw_all := lw_g (lw_at lw_m4 93 rfl) rfl
theorem q917 : (Jvm.Cond.constantLong "DayBoy" (243 : Nat) (999 : Int64)) ∈ lw_all := lw_g (lw_at lw_m4 94 rfl) rfl
theorem q918 : (Jvm.Cond.constantLong "DayBoy" (245 : Nat) (6 : Int64)) ∈ lw_all := lw_g (lw_at lw_m4 95 rfl) rfl
theorem q920 : (Jvm.Cond.methodLink "DayBoy" (250 : Nat) ({ cls := "DayBoy$Ask", name := "<init>", desc := "(IIIIIIII)V" } : Jvm.MethodName)) ∈ lw_all := lw_g (lw_at lw_m4 97 rfl) rfl
theorem q925 : (Jvm.Cond.fieldLinkNest "DayBoy" (247 : Nat) "DayBoy$Ask" "month" "I" "DayBoy") ∈ lw_tbl := lw_at lw_m4 102 rfl
theorem q927 : (Jvm.Cond.fieldLinkNest "DayBoy" (255 : Nat) "DayBoy$Ask" "calendar" "I" "DayBoy") ∈ lw_tbl := lw_at lw_m4 104 rfl
theorem q929 : (Jvm.Cond.fieldLinkNest "DayBoy" (265 : Nat) "DayBoy$Ask" "y" "I" "DayBoy") ∈ lw_tbl := lw_at lw_m4 106 rfl
theorem q931 : (Jvm.Cond.fieldLinkNest "DayBoy" (268 : Nat) "DayBoy$Ask" "m" "I" "DayBoy") ∈ lw_tbl := lw_at lw_m4 108 rfl
theorem q933 : (Jvm.Cond.fieldLinkNest "DayBoy" (271 : Nat) "DayBoy$Ask" "d" "I" "DayBoy") ∈ lw_tbl := lw_at lw_m4 110 rfl
theorem q935 : (Jvm.Cond.fieldLinkNest "DayBoy" (257 : Nat) "DayBoy$Ask" "day" "I" "DayBoy") ∈ lw_tbl := lw_at lw_m4 112 rfl
theorem q937 : (Jvm.Cond.fieldLinkNest "DayBoy" (259 : Nat) "DayBoy$Ask" "answer" "I" "DayBoy") ∈ lw_tbl := lw_at lw_m4 114 rfl
theorem q939 : (Jvm.Cond.fieldLinkNest "DayBoy" (262 : Nat) "DayBoy$Ask" "tenths" "I" "DayBoy") ∈ lw_tbl := lw_at lw_m4 116 rfl
theorem q958 : (Jvm.Cond.instanceMethod ({ cls := "DayBoy", name := "asked", desc := "(II)I" } : Jvm.MethodName)) ∈ lw_all := lw_g (lw_at lw_m4 135 rfl) rfl
theorem q959 : (Jvm.Cond.selects "DayBoy" ({ cls := "DayBoy", name := "asked", desc := "(II)I" } : Jvm.MethodName) ({ cls := "DayBoy", name := "asked", desc := "(II)I" } : Jvm.MethodName)) ∈ lw_all := lw_g (lw_at lw_m4 136 rfl) rfl
theorem q960 : (Jvm.Cond.code ({ cls := "DayBoy", name := "asked", desc := "(II)I" } : Jvm.MethodName) prog_1_method_28_code (4 : Nat) (Option.some Jvm.ClassFile.FieldType.int)) ∈ lw_all := lw_g (lw_at lw_m4 137 rfl) rfl
theorem q961 : (Jvm.Cond.constantLong "DayBoy" (253 : Nat) (5 : Int64)) ∈ lw_all := lw_g (lw_at lw_m4 138 rfl) rfl
theorem q963 : (Jvm.Cond.instanceMethod ({ cls := "DayBoy", name := "fits", desc := "(I)I" } : Jvm.MethodName)) ∈ lw_all := lw_g (lw_at lw_m4 140 rfl) rfl
theorem q964 : (Jvm.Cond.selects "DayBoy" ({ cls := "DayBoy", name := "fits", desc := "(I)I" } : Jvm.MethodName) ({ cls := "DayBoy", name := "fits", desc := "(I)I" } : Jvm.MethodName)) ∈ lw_all := lw_g (lw_at lw_m4 141 rfl) rfl
theorem q965 : (Jvm.Cond.code ({ cls := "DayBoy", name := "fits", desc := "(I)I" } : Jvm.MethodName) prog_1_method_32_code (4 : Nat) (Option.some Jvm.ClassFile.FieldType.int)) ∈ lw_all := lw_g (lw_at lw_m4 142 rfl) rfl
theorem q966 : (Jvm.Cond.methodLink "DayBoy" (283 : Nat) ({ cls := "DayBoy", name := "isSlack", desc := "(I)Z" } : Jvm.MethodName)) ∈ lw_all := lw_g (lw_at lw_m4 143 rfl) rfl
theorem q967 : (Jvm.Cond.static ({ cls := "DayBoy", name := "isSlack", desc := "(I)Z" } : Jvm.MethodName)) ∈ lw_all := lw_g (lw_at lw_m4 144 rfl) rfl
theorem q968 : (Jvm.Cond.code ({ cls := "DayBoy", name := "isSlack", desc := "(I)Z" } : Jvm.MethodName) prog_1_method_29_code (1 : Nat) (Option.some Jvm.ClassFile.FieldType.boolean)) ∈ lw_all := lw_g (lw_at lw_m4 145 rfl) rfl
theorem q969 : (Jvm.Cond.methodLink "DayBoy" (286 : Nat) ({ cls := "DayBoy", name := "soMany", desc := "(LDayBoy$Head;I)I" } : Jvm.MethodName)) ∈ lw_all := lw_g (lw_at lw_m4 146 rfl) rfl
theorem q970 : (Jvm.Cond.privateMethod ({ cls := "DayBoy", name := "soMany", desc := "(LDayBoy$Head;I)I" } : Jvm.MethodName)) ∈ lw_tbl := lw_at lw_m4 147 rfl
theorem q971 : (Jvm.Cond.instanceMethod ({ cls := "DayBoy", name := "soMany", desc := "(LDayBoy$Head;I)I" } : Jvm.MethodName)) ∈ lw_all := lw_g (lw_at lw_m4 148 rfl) rfl
theorem q972 : (Jvm.Cond.code ({ cls := "DayBoy", name := "soMany", desc := "(LDayBoy$Head;I)I" } : Jvm.MethodName) prog_1_method_31_code (5 : Nat) (Option.some Jvm.ClassFile.FieldType.int)) ∈ lw_all := lw_g (lw_at lw_m4 149 rfl) rfl
theorem q973 : (Jvm.Cond.methodLink "DayBoy" (279 : Nat) ({ cls := "DayBoy", name := "isSo", desc := "(LDayBoy$Head;LDayBoy$Ask;I)Z" } : Jvm.MethodName)) ∈ lw_all := lw_g (lw_at lw_m4 150 rfl) rfl
theorem q974 : (Jvm.Cond.privateMethod ({ cls := "DayBoy", name := "isSo", desc := "(LDayBoy$Head;LDayBoy$Ask;I)Z" } : Jvm.MethodName)) ∈ lw_tbl := lw_at lw_m4 151 rfl
theorem q975 : (Jvm.Cond.instanceMethod ({ cls := "DayBoy", name := "isSo", desc := "(LDayBoy$Head;LDayBoy$Ask;I)Z" } : Jvm.MethodName)) ∈ lw_all := lw_g (lw_at lw_m4 152 rfl) rfl
theorem q976 : (Jvm.Cond.code ({ cls := "DayBoy", name := "isSo", desc := "(LDayBoy$Head;LDayBoy$Ask;I)Z" } : Jvm.MethodName) prog_1_method_30_code (5 : Nat) (Option.some Jvm.ClassFile.FieldType.boolean)) ∈ lw_all := lw_g (lw_at lw_m4 153 rfl) rfl
theorem q977 : (Jvm.Cond.methodLink "DayBoy" (274 : Nat) ({ cls := "java/lang/Math", name := "abs", desc := "(I)I" } : Jvm.MethodName)) ∈ lw_all := lw_g (lw_at lw_m4 154 rfl) rfl
theorem q981 : (Jvm.Cond.instanceMethod ({ cls := "DayBoy", name := "so", desc := "(II)I" } : Jvm.MethodName)) ∈ lw_all := lw_g (lw_at lw_m4 158 rfl) rfl
theorem q982 : (Jvm.Cond.selects "DayBoy" ({ cls := "DayBoy", name := "so", desc := "(II)I" } : Jvm.MethodName) ({ cls := "DayBoy", name := "so", desc := "(II)I" } : Jvm.MethodName)) ∈ lw_all := lw_g (lw_at lw_m4 159 rfl) rfl
theorem q983 : (Jvm.Cond.code ({ cls := "DayBoy", name := "so", desc := "(II)I" } : Jvm.MethodName) prog_1_method_33_code (3 : Nat) (Option.some Jvm.ClassFile.FieldType.int)) ∈ lw_all := lw_g (lw_at lw_m4 160 rfl) rfl
theorem q985 : (Jvm.Cond.instanceMethod ({ cls := "DayBoy", name := "further", desc := "(I)I" } : Jvm.MethodName)) ∈ lw_all := lw_g (lw_at lw_m4 162 rfl) rfl
theorem q986 : (Jvm.Cond.selects "DayBoy" ({ cls := "DayBoy", name := "further", desc := "(I)I" } : Jvm.MethodName) ({ cls := "DayBoy", name := "further", desc := "(I)I" } : Jvm.MethodName)) ∈ lw_all := lw_g (lw_at lw_m4 163 rfl) rfl
theorem q987 : (Jvm.Cond.code ({ cls := "DayBoy", name := "further", desc := "(I)I" } : Jvm.MethodName) prog_1_method_34_code (5 : Nat) (Option.some Jvm.ClassFile.FieldType.int)) ∈ lw_all := lw_g (lw_at lw_m4 164 rfl) rfl
theorem q988 : (Jvm.Cond.methodLink "DayBoy" (290 : Nat) ({ cls := "java/lang/Integer", name := "compare", desc := "(II)I" } : Jvm.MethodName)) ∈ lw_all := lw_g (lw_at lw_m4 165 rfl) rfl
theorem q992 : (Jvm.Cond.instanceMethod ({ cls := "DayBoy", name := "born", desc := "(IIII)Z" } : Jvm.MethodName)) ∈ lw_all := lw_g (lw_at lw_m4 169 rfl) rfl
theorem q993 : (Jvm.Cond.selects "DayBoy" ({ cls := "DayBoy", name := "born", desc := "(IIII)Z" } : Jvm.MethodName) ({ cls := "DayBoy", name := "born", desc := "(IIII)Z" } : Jvm.MethodName)) ∈ lw_all := lw_g (lw_at lw_m4 170 rfl) rfl
theorem q994 : (Jvm.Cond.code ({ cls := "DayBoy", name := "born", desc := "(IIII)Z" } : Jvm.MethodName) prog_1_method_35_code (5 : Nat) (Option.some Jvm.ClassFile.FieldType.boolean)) ∈ lw_all := lw_g (lw_at lw_m4 171 rfl) rfl
theorem q996 : (Jvm.Cond.instanceMethod ({ cls := "DayBoy", name := "age", desc := "(IIII)I" } : Jvm.MethodName)) ∈ lw_all := lw_g (lw_at lw_m4 173 rfl) rfl
theorem q997 : (Jvm.Cond.selects "DayBoy" ({ cls := "DayBoy", name := "age", desc := "(IIII)I" } : Jvm.MethodName) ({ cls := "DayBoy", name := "age", desc := "(IIII)I" } : Jvm.MethodName)) ∈ lw_all := lw_g (lw_at lw_m4 174 rfl) rfl
theorem q998 : (Jvm.Cond.code ({ cls := "DayBoy", name := "age", desc := "(IIII)I" } : Jvm.MethodName) prog_1_method_37_code (9 : Nat) (Option.some Jvm.ClassFile.FieldType.int)) ∈ lw_all := lw_g (lw_at lw_m4 175 rfl) rfl
theorem q999 : (Jvm.Cond.methodLink "DayBoy" (301 : Nat) ({ cls := "DayBoy", name := "birthday", desc := "(I)I" } : Jvm.MethodName)) ∈ lw_all := lw_g (lw_at lw_m4 176 rfl) rfl
theorem q1000 : (Jvm.Cond.privateMethod ({ cls := "DayBoy", name := "birthday", desc := "(I)I" } : Jvm.MethodName)) ∈ lw_tbl := lw_at lw_m4 177 rfl
theorem q1001 : (Jvm.Cond.instanceMethod ({ cls := "DayBoy", name := "birthday", desc := "(I)I" } : Jvm.MethodName)) ∈ lw_all := lw_g (lw_at lw_m4 178 rfl) rfl
theorem q1002 : (Jvm.Cond.code ({ cls := "DayBoy", name := "birthday", desc := "(I)I" } : Jvm.MethodName) prog_1_method_36_code (6 : Nat) (Option.some Jvm.ClassFile.FieldType.int)) ∈ lw_all := lw_g (lw_at lw_m4 179 rfl) rfl
theorem q1003 : (Jvm.Cond.methodLink "DayBoy" (298 : Nat) ({ cls := "java/lang/Math", name := "min", desc := "(II)I" } : Jvm.MethodName)) ∈ lw_all := lw_g (lw_at lw_m4 180 rfl) rfl
theorem q1005 : (Jvm.Cond.instanceMethod ({ cls := "DayBoy", name := "lived", desc := "(I)I" } : Jvm.MethodName)) ∈ lw_all := lw_g (lw_at lw_m4 182 rfl) rfl
theorem q1006 : (Jvm.Cond.selects "DayBoy" ({ cls := "DayBoy", name := "lived", desc := "(I)I" } : Jvm.MethodName) ({ cls := "DayBoy", name := "lived", desc := "(I)I" } : Jvm.MethodName)) ∈ lw_all := lw_g (lw_at lw_m4 183 rfl) rfl
theorem q1007 : (Jvm.Cond.code ({ cls := "DayBoy", name := "lived", desc := "(I)I" } : Jvm.MethodName) prog_1_method_39_code (5 : Nat) (Option.some Jvm.ClassFile.FieldType.int)) ∈ lw_all := lw_g (lw_at lw_m4 184 rfl) rfl
theorem q1008 : (Jvm.Cond.methodLink "DayBoy" (304 : Nat) ({ cls := "DayBoy", name := "mean", desc := "(II)I" } : Jvm.MethodName)) ∈ lw_all := lw_g (lw_at lw_m4 185 rfl) rfl
theorem q1009 : (Jvm.Cond.static ({ cls := "DayBoy", name := "mean", desc := "(II)I" } : Jvm.MethodName)) ∈ lw_all := lw_g (lw_at lw_m4 186 rfl) rfl
theorem q1010 : (Jvm.Cond.code ({ cls := "DayBoy", name := "mean", desc := "(II)I" } : Jvm.MethodName) prog_1_method_38_code (2 : Nat) (Option.some Jvm.ClassFile.FieldType.int)) ∈ lw_all := lw_g (lw_at lw_m4 187 rfl) rfl
theorem q1012 : (Jvm.Cond.instanceMethod ({ cls := "DayBoy", name := "after", desc := "(I)I" } : Jvm.MethodName)) ∈ lw_all := lw_g (lw_at lw_m4 189 rfl) rfl
theorem q1013 : (Jvm.Cond.selects "DayBoy" ({ cls := "DayBoy", name := "after", desc := "(I)I" } : Jvm.MethodName) ({ cls := "DayBoy", name := "after", desc := "(I)I" } : Jvm.MethodName)) ∈ lw_all := lw_g (lw_at lw_m4 190 rfl) rfl
theorem q1014 : (Jvm.Cond.code ({ cls := "DayBoy", name := "after", desc := "(I)I" } : Jvm.MethodName) prog_1_method_41_code (6 : Nat) (Option.some Jvm.ClassFile.FieldType.int)) ∈ lw_all := lw_g (lw_at lw_m4 191 rfl) rfl
theorem q1015 : (Jvm.Cond.methodLink "DayBoy" (307 : Nat) ({ cls := "DayBoy", name := "kindOf", desc := "(LDayBoy$Ask;)I" } : Jvm.MethodName)) ∈ lw_all := lw_g (lw_at lw_m4 192 rfl) rfl
theorem q1016 : (Jvm.Cond.privateMethod ({ cls := "DayBoy", name := "kindOf", desc := "(LDayBoy$Ask;)I" } : Jvm.MethodName)) ∈ lw_tbl := lw_at lw_m4 193 rfl
theorem q1017 : (Jvm.Cond.instanceMethod ({ cls := "DayBoy", name := "kindOf", desc := "(LDayBoy$Ask;)I" } : Jvm.MethodName)) ∈ lw_all := lw_g (lw_at lw_m4 194 rfl) rfl
theorem q1018 : (Jvm.Cond.code ({ cls := "DayBoy", name := "kindOf", desc := "(LDayBoy$Ask;)I" } : Jvm.MethodName) prog_1_method_40_code (2 : Nat) (Option.some Jvm.ClassFile.FieldType.int)) ∈ lw_all := lw_g (lw_at lw_m4 195 rfl) rfl
theorem q1020 : (Jvm.Cond.instanceMethod ({ cls := "DayBoy", name := "learnt", desc := "(IIII)I" } : Jvm.MethodName)) ∈ lw_all := lw_g (lw_at lw_m4 197 rfl) rfl
theorem q1021 : (Jvm.Cond.selects "DayBoy" ({ cls := "DayBoy", name := "learnt", desc := "(IIII)I" } : Jvm.MethodName) ({ cls := "DayBoy", name := "learnt", desc := "(IIII)I" } : Jvm.MethodName)) ∈ lw_all := lw_g (lw_at lw_m4 198 rfl) rfl
theorem q1022 : (Jvm.Cond.code ({ cls := "DayBoy", name := "learnt", desc := "(IIII)I" } : Jvm.MethodName) prog_1_method_43_code (7 : Nat) (Option.some Jvm.ClassFile.FieldType.int)) ∈ lw_all := lw_g (lw_at lw_m4 199 rfl) rfl
theorem q1023 : (Jvm.Cond.methodLink "DayBoy" (311 : Nat) ({ cls := "DayBoy", name := "isLearnt", desc := "(LDayBoy$Head;LDayBoy$Head;II)Z" } : Jvm.MethodName)) ∈ lw_all := lw_g (lw_at lw_m4 200 rfl) rfl
theorem q1024 : (Jvm.Cond.privateMethod ({ cls := "DayBoy", name := "isLearnt", desc := "(LDayBoy$Head;LDayBoy$Head;II)Z" } : Jvm.MethodName)) ∈ lw_tbl := lw_at lw_m4 201 rfl
theorem q1025 : (Jvm.Cond.instanceMethod ({ cls := "DayBoy", name := "isLearnt", desc := "(LDayBoy$Head;LDayBoy$Head;II)Z" } : Jvm.MethodName)) ∈ lw_all := lw_g (lw_at lw_m4 202 rfl) rfl
theorem q1026 : (Jvm.Cond.code ({ cls := "DayBoy", name := "isLearnt", desc := "(LDayBoy$Head;LDayBoy$Head;II)Z" } : Jvm.MethodName) prog_1_method_42_code (6 : Nat) (Option.some Jvm.ClassFile.FieldType.boolean)) ∈ lw_all := lw_g (lw_at lw_m4 203 rfl) rfl
theorem q1028 : (Jvm.Cond.instanceMethod ({ cls := "DayBoy", name := "weigh", desc := "(II)Z" } : Jvm.MethodName)) ∈ lw_all := lw_g (lw_at lw_m4 205 rfl) rfl
theorem q1029 : (Jvm.Cond.selects "DayBoy" ({ cls := "DayBoy", name := "weigh", desc := "(II)Z" } : Jvm.MethodName) ({ cls := "DayBoy", name := "weigh", desc := "(II)Z" } : Jvm.MethodName)) ∈ lw_all := lw_g (lw_at lw_m4 206 rfl) rfl
theorem q1030 : (Jvm.Cond.code ({ cls := "DayBoy", name := "weigh", desc := "(II)Z" } : Jvm.MethodName) prog_1_method_44_code (3 : Nat) (Option.some Jvm.ClassFile.FieldType.boolean)) ∈ lw_all := lw_g (lw_at lw_m4 207 rfl) rfl
theorem q1031 : (Jvm.Cond.constantLong "DayBoy" (315 : Nat) (9 : Int64)) ∈ lw_all := lw_g (lw_at lw_m4 208 rfl) rfl
theorem q1033 : (Jvm.Cond.instanceMethod ({ cls := "DayBoy", name := "odds", desc := "(II)I" } : Jvm.MethodName)) ∈ lw_all := lw_g (lw_at lw_m4 210 rfl) rfl
theorem q1034 : (Jvm.Cond.selects "DayBoy" ({ cls := "DayBoy", name := "odds", desc := "(II)I" } : Jvm.MethodName) ({ cls := "DayBoy", name := "odds", desc := "(II)I" } : Jvm.MethodName)) ∈ lw_all := lw_g (lw_at lw_m4 211 rfl) rfl
theorem q1035 : (Jvm.Cond.code ({ cls := "DayBoy", name := "odds", desc := "(II)I" } : Jvm.MethodName) prog_1_method_45_code (5 : Nat) (Option.some Jvm.ClassFile.FieldType.int)) ∈ lw_all := lw_g (lw_at lw_m4 212 rfl) rfl
theorem q1037 : (Jvm.Cond.instanceMethod ({ cls := "DayBoy", name := "plan", desc := "(IIII)I" } : Jvm.MethodName)) ∈ lw_all := lw_g (lw_at lw_m4 214 rfl) rfl
theorem q1038 : (Jvm.Cond.selects "DayBoy" ({ cls := "DayBoy", name := "plan", desc := "(IIII)I" } : Jvm.MethodName) ({ cls := "DayBoy", name := "plan", desc := "(IIII)I" } : Jvm.MethodName)) ∈ lw_all := lw_g (lw_at lw_m4 215 rfl) rfl
theorem q1039 : (Jvm.Cond.code ({ cls := "DayBoy", name := "plan", desc := "(IIII)I" } : Jvm.MethodName) prog_1_method_46_code (5 : Nat) (Option.some Jvm.ClassFile.FieldType.int)) ∈ lw_all := lw_g (lw_at lw_m4 216 rfl) rfl
theorem q1041 : (Jvm.Cond.instanceMethod ({ cls := "DayBoy", name := "parted", desc := "(II)I" } : Jvm.MethodName)) ∈ lw_all := lw_g (lw_at lw_m4 218 rfl) rfl
theorem q1042 : (Jvm.Cond.selects "DayBoy" ({ cls := "DayBoy", name := "parted", desc := "(II)I" } : Jvm.MethodName) ({ cls := "DayBoy", name := "parted", desc := "(II)I" } : Jvm.MethodName)) ∈ lw_all := lw_g (lw_at lw_m4 219 rfl) rfl
theorem q1043 : (Jvm.Cond.code ({ cls := "DayBoy", name := "parted", desc := "(II)I" } : Jvm.MethodName) prog_1_method_51_code (3 : Nat) (Option.some Jvm.ClassFile.FieldType.int)) ∈ lw_all := lw_g (lw_at lw_m4 220 rfl) rfl
theorem q1044 : (Jvm.Cond.methodLink "DayBoy" (331 : Nat) ({ cls := "DayBoy", name := "areHeads", desc := "(I)Z" } : Jvm.MethodName)) ∈ lw_all := lw_g (lw_at lw_m4 221 rfl) rfl
theorem q1045 : (Jvm.Cond.privateMethod ({ cls := "DayBoy", name := "areHeads", desc := "(I)Z" } : Jvm.MethodName)) ∈ lw_tbl := lw_at lw_m4 222 rfl
theorem q1046 : (Jvm.Cond.instanceMethod ({ cls := "DayBoy", name := "areHeads", desc := "(I)Z" } : Jvm.MethodName)) ∈ lw_all := lw_g (lw_at lw_m4 223 rfl) rfl
theorem q1047 : (Jvm.Cond.code ({ cls := "DayBoy", name := "areHeads", desc := "(I)Z" } : Jvm.MethodName) prog_1_method_50_code (2 : Nat) (Option.some Jvm.ClassFile.FieldType.boolean)) ∈ lw_all := lw_g (lw_at lw_m4 224 rfl) rfl
theorem q1048 : (Jvm.Cond.methodLink "DayBoy" (334 : Nat) ({ cls := "DayBoy", name := "partedBy", desc := "(II)I" } : Jvm.MethodName)) ∈ lw_all := lw_g (lw_at lw_m4 225 rfl) rfl
theorem q1049 : (Jvm.Cond.privateMethod ({ cls := "DayBoy", name := "partedBy", desc := "(II)I" } : Jvm.MethodName)) ∈ lw_tbl := lw_at lw_m4 226 rfl
theorem q1050 : (Jvm.Cond.instanceMethod ({ cls := "DayBoy", name := "partedBy", desc := "(II)I" } : Jvm.MethodName)) ∈ lw_all := lw_g (lw_at lw_m4 227 rfl) rfl
theorem q1051 : (Jvm.Cond.code ({ cls := "DayBoy", name := "partedBy", desc := "(II)I" } : Jvm.MethodName) prog_1_method_49_code (6 : Nat) (Option.some Jvm.ClassFile.FieldType.int)) ∈ lw_all := lw_g (lw_at lw_m4 228 rfl) rfl
theorem q1052 : (Jvm.Cond.methodLink "DayBoy" (327 : Nat) ({ cls := "DayBoy", name := "partsAt", desc := "(LDayBoy$Head;LDayBoy$Head;LDayBoy$Almanac;III)Z" } : Jvm.MethodName)) ∈ lw_all := lw_g (lw_at lw_m4 229 rfl) rfl
theorem q1053 : (Jvm.Cond.privateMethod ({ cls := "DayBoy", name := "partsAt", desc := "(LDayBoy$Head;LDayBoy$Head;LDayBoy$Almanac;III)Z" } : Jvm.MethodName)) ∈ lw_tbl := lw_at lw_m4 230 rfl
theorem q1054 : (Jvm.Cond.instanceMethod ({ cls := "DayBoy", name := "partsAt", desc := "(LDayBoy$Head;LDayBoy$Head;LDayBoy$Almanac;III)Z" } : Jvm.MethodName)) ∈ lw_all := lw_g (lw_at lw_m4 231 rfl) rfl
theorem q1055 : (Jvm.Cond.code ({ cls := "DayBoy", name := "partsAt", desc := "(LDayBoy$Head;LDayBoy$Head;LDayBoy$Almanac;III)Z" } : Jvm.MethodName) prog_1_method_48_code (7 : Nat) (Option.some Jvm.ClassFile.FieldType.boolean)) ∈ lw_all := lw_g (lw_at lw_m4 232 rfl) rfl
theorem q1056 : (Jvm.Cond.methodLink "DayBoy" (323 : Nat) ({ cls := "DayBoy", name := "parts", desc := "(LDayBoy$Head;LDayBoy$Head;LDayBoy$Almanac;IIIZZ)Z" } : Jvm.MethodName)) ∈ lw_all := lw_g (lw_at lw_m4 233 rfl) rfl
theorem q1057 : (Jvm.Cond.static ({ cls := "DayBoy", name := "parts", desc := "(LDayBoy$Head;LDayBoy$Head;LDayBoy$Almanac;IIIZZ)Z" } : Jvm.MethodName)) ∈ lw_all := lw_g (lw_at lw_m4 234 rfl) rfl
theorem q1058 : (Jvm.Cond.code ({ cls := "DayBoy", name := "parts", desc := "(LDayBoy$Head;LDayBoy$Head;LDayBoy$Almanac;IIIZZ)Z" } : Jvm.MethodName) prog_1_method_47_code (8 : Nat) (Option.some Jvm.ClassFile.FieldType.boolean)) ∈ lw_all := lw_g (lw_at lw_m4 235 rfl) rfl
theorem q1060 : (Jvm.Cond.instanceMethod ({ cls := "DayBoy", name := "next", desc := "(I)I" } : Jvm.MethodName)) ∈ lw_all := lw_g (lw_at lw_m4 237 rfl) rfl
theorem q1061 : (Jvm.Cond.selects "DayBoy" ({ cls := "DayBoy", name := "next", desc := "(I)I" } : Jvm.MethodName) ({ cls := "DayBoy", name := "next", desc := "(I)I" } : Jvm.MethodName)) ∈ lw_all := lw_g (lw_at lw_m4 238 rfl) rfl
theorem q1062 : (Jvm.Cond.code ({ cls := "DayBoy", name := "next", desc := "(I)I" } : Jvm.MethodName) prog_1_method_52_code (4 : Nat) (Option.some Jvm.ClassFile.FieldType.int)) ∈ lw_all := lw_g (lw_at lw_m4 239 rfl) rfl
theorem q1064 : (Jvm.Cond.instanceMethod ({ cls := "DayBoy", name := "part", desc := "(IIIII)I" } : Jvm.MethodName)) ∈ lw_all := lw_g (lw_at lw_m5 1 rfl) rfl
theorem q1065 : (Jvm.Cond.selects "DayBoy" ({ cls := "DayBoy", name := "part", desc := "(IIIII)I" } : Jvm.MethodName) ({ cls := "DayBoy", name := "part", desc := "(IIIII)I" } : Jvm.MethodName)) ∈ lw_all := lw_g (lw_at lw_m5 2 rfl) rfl
theorem q1066 : (Jvm.Cond.code ({ cls := "DayBoy", name := "part", desc := "(IIIII)I" } : Jvm.MethodName) prog_1_method_53_code (10 : Nat) (Option.some Jvm.ClassFile.FieldType.int)) ∈ lw_all := lw_g (lw_at lw_m5 3 rfl) rfl
theorem q1067 : (Jvm.Cond.constantLong "DayBoy" (337 : Nat) (20 : Int64)) ∈ lw_all := lw_g (lw_at lw_m5 4 rfl) rfl
theorem q1069 : (Jvm.Cond.instanceMethod ({ cls := "DayBoy", name := "least", desc := "(IIIII)I" } : Jvm.MethodName)) ∈ lw_all := lw_g (lw_at lw_m5 6 rfl) rfl
theorem q1070 : (Jvm.Cond.selects "DayBoy" ({ cls := "DayBoy", name := "least", desc := "(IIIII)I" } : Jvm.MethodName) ({ cls := "DayBoy", name := "least", desc := "(IIIII)I" } : Jvm.MethodName)) ∈ lw_all := lw_g (lw_at lw_m5 7 rfl) rfl
theorem q1071 : (Jvm.Cond.code ({ cls := "DayBoy", name := "least", desc := "(IIIII)I" } : Jvm.MethodName) prog_1_method_57_code (8 : Nat) (Option.some Jvm.ClassFile.FieldType.int)) ∈ lw_all := lw_g (lw_at lw_m5 8 rfl) rfl
theorem q1072 : (Jvm.Cond.constantLong "DayBoy" (377 : Nat) (14 : Int64)) ∈ lw_all := lw_g (lw_at lw_m5 9 rfl) rfl
theorem q1073 : (Jvm.Cond.methodLink "DayBoy" (379 : Nat) ({ cls := "DayBoy", name := "layGets", desc := "(LDayBoy$Head;II)V" } : Jvm.MethodName)) ∈ lw_all := lw_g (lw_at lw_m5 10 rfl) rfl
theorem q1074 : (Jvm.Cond.privateMethod ({ cls := "DayBoy", name := "layGets", desc := "(LDayBoy$Head;II)V" } : Jvm.MethodName)) ∈ lw_tbl := lw_at lw_m5 11 rfl
theorem q1075 : (Jvm.Cond.instanceMethod ({ cls := "DayBoy", name := "layGets", desc := "(LDayBoy$Head;II)V" } : Jvm.MethodName)) ∈ lw_all := lw_g (lw_at lw_m5 12 rfl) rfl
theorem q1076 : (Jvm.Cond.code ({ cls := "DayBoy", name := "layGets", desc := "(LDayBoy$Head;II)V" } : Jvm.MethodName) prog_1_method_54_code (6 : Nat) (Option.none : Option Jvm.ClassFile.FieldType)) ∈ lw_all := lw_g (lw_at lw_m5 13 rfl) rfl
theorem q1077 : (Jvm.Cond.methodLink "DayBoy" (339 : Nat) ({ cls := "DayBoy$Head", name := "empty", desc := "()V" } : Jvm.MethodName)) ∈ lw_all := lw_g (lw_at lw_m5 14 rfl) rfl
theorem q1078 : (Jvm.Cond.classLink "DayBoy" (345 : Nat) "DayBoy$Step") ∈ lw_all := lw_g (lw_at lw_m5 15 rfl) rfl
theorem q1079 : (Jvm.Cond.methodLink "DayBoy" (352 : Nat) ({ cls := "DayBoy$Step", name := "<init>", desc := "(II)V" } : Jvm.MethodName)) ∈ lw_all := lw_g (lw_at lw_m5 16 rfl) rfl
theorem q1080 : (Jvm.Cond.methodLink "DayBoy" (355 : Nat) ({ cls := "DayBoy$Step", name := "joins", desc := "(LDayBoy$Head;)V" } : Jvm.MethodName)) ∈ lw_all := lw_g (lw_at lw_m5 17 rfl) rfl
theorem q1081 : (Jvm.Cond.methodLinkNest "DayBoy" (359 : Nat) ({ cls := "DayBoy$Head", name := "clear", desc := "()V" } : Jvm.MethodName) "DayBoy") ∈ lw_tbl := lw_at lw_m5 18 rfl
theorem q1082 : (Jvm.Cond.methodLinkNest "DayBoy" (362 : Nat) ({ cls := "DayBoy$Head", name := "improve", desc := "(IJ)V" } : Jvm.MethodName) "DayBoy") ∈ lw_tbl := lw_at lw_m5 19 rfl
theorem q1083 : (Jvm.Cond.methodLinkNest "DayBoy" (366 : Nat) ({ cls := "DayBoy$Head", name := "spread", desc := "()V" } : Jvm.MethodName) "DayBoy") ∈ lw_tbl := lw_at lw_m5 20 rfl
theorem q1084 : (Jvm.Cond.constantLong "DayBoy" (369 : Nat) (999900 : Int64)) ∈ lw_all := lw_g (lw_at lw_m5 21 rfl) rfl
theorem q1085 : (Jvm.Cond.methodLink "DayBoy" (371 : Nat) ({ cls := "java/lang/Math", name := "min", desc := "(JJ)J" } : Jvm.MethodName)) ∈ lw_all := lw_g (lw_at lw_m5 22 rfl) rfl
theorem q1086 : (Jvm.Cond.methodLink "DayBoy" (383 : Nat) ({ cls := "DayBoy", name := "isBefore", desc := "(II)Z" } : Jvm.MethodName)) ∈ lw_all := lw_g (lw_at lw_m5 23 rfl) rfl
theorem q1087 : (Jvm.Cond.static ({ cls := "DayBoy", name := "isBefore", desc := "(II)Z" } : Jvm.MethodName)) ∈ lw_all := lw_g (lw_at lw_m5 24 rfl) rfl
theorem q1088 : (Jvm.Cond.code ({ cls := "DayBoy", name := "isBefore", desc := "(II)Z" } : Jvm.MethodName) prog_1_method_56_code (5 : Nat) (Option.some Jvm.ClassFile.FieldType.boolean)) ∈ lw_all := lw_g (lw_at lw_m5 25 rfl) rfl
theorem q1089 : (Jvm.Cond.methodLink "DayBoy" (374 : Nat) ({ cls := "java/lang/Integer", name := "bitCount", desc := "(I)I" } : Jvm.MethodName)) ∈ lw_all := lw_g (lw_at lw_m5 26 rfl) rfl
theorem q1095 : (Jvm.Cond.methodLink "DayBoy" (386 : Nat) ({ cls := "DayBoy", name := "isCovered", desc := "(III)Z" } : Jvm.MethodName)) ∈ lw_all := lw_g (lw_at lw_m5 32 rfl) rfl
theorem q1096 : (Jvm.Cond.privateMethod ({ cls := "DayBoy", name := "isCovered", desc := "(III)Z" } : Jvm.MethodName)) ∈ lw_tbl := lw_at lw_m5 33 rfl
theorem q1097 : (Jvm.Cond.instanceMethod ({ cls := "DayBoy", name := "isCovered", desc := "(III)Z" } : Jvm.MethodName)) ∈ lw_all := lw_g (lw_at lw_m5 34 rfl) rfl
theorem q1098 : (Jvm.Cond.code ({ cls := "DayBoy", name := "isCovered", desc := "(III)Z" } : Jvm.MethodName) prog_1_method_55_code (7 : Nat) (Option.some Jvm.ClassFile.FieldType.boolean)) ∈ lw_all := lw_g (lw_at lw_m5 35 rfl) rfl
theorem q1100 : (Jvm.Cond.instanceMethod ({ cls := "DayBoy", name := "like", desc := "(III)I" } : Jvm.MethodName)) ∈ lw_all := lw_g (lw_at lw_m5 37 rfl) rfl
theorem q1101 : (Jvm.Cond.selects "DayBoy" ({ cls := "DayBoy", name := "like", desc := "(III)I" } : Jvm.MethodName) ({ cls := "DayBoy", name := "like", desc := "(III)I" } : Jvm.MethodName)) ∈ lw_all := lw_g (lw_at lw_m5 38 rfl) rfl
theorem q1102 : (Jvm.Cond.code ({ cls := "DayBoy", name := "like", desc := "(III)I" } : Jvm.MethodName) prog_1_method_58_code (8 : Nat) (Option.some Jvm.ClassFile.FieldType.int)) ∈ lw_all := lw_g (lw_at lw_m5 39 rfl) rfl
theorem q1104 : (Jvm.Cond.instanceMethod ({ cls := "DayBoy", name := "thirteenths", desc := "(IIII)I" } : Jvm.MethodName)) ∈ lw_all := lw_g (lw_at lw_m5 41 rfl) rfl
theorem q1105 : (Jvm.Cond.selects "DayBoy" ({ cls := "DayBoy", name := "thirteenths", desc := "(IIII)I" } : Jvm.MethodName) ({ cls := "DayBoy", name := "thirteenths", desc := "(IIII)I" } : Jvm.MethodName)) ∈ lw_all := lw_g (lw_at lw_m5 42 rfl) rfl
theorem q1106 : (Jvm.Cond.code ({ cls := "DayBoy", name := "thirteenths", desc := "(IIII)I" } : Jvm.MethodName) prog_1_method_59_code (8 : Nat) (Option.some Jvm.ClassFile.FieldType.int)) ∈ lw_all := lw_g (lw_at lw_m5 43 rfl) rfl
theorem q1108 : (Jvm.Cond.instanceMethod ({ cls := "DayBoy", name := "mates", desc := "(III)I" } : Jvm.MethodName)) ∈ lw_all := lw_g (lw_at lw_m5 45 rfl) rfl
theorem q1109 : (Jvm.Cond.selects "DayBoy" ({ cls := "DayBoy", name := "mates", desc := "(III)I" } : Jvm.MethodName) ({ cls := "DayBoy", name := "mates", desc := "(III)I" } : Jvm.MethodName)) ∈ lw_all := lw_g (lw_at lw_m5 46 rfl) rfl
theorem q1110 : (Jvm.Cond.code ({ cls := "DayBoy", name := "mates", desc := "(III)I" } : Jvm.MethodName) prog_1_method_60_code (6 : Nat) (Option.some Jvm.ClassFile.FieldType.int)) ∈ lw_all := lw_g (lw_at lw_m5 47 rfl) rfl
theorem q1112 : (Jvm.Cond.instanceMethod ({ cls := "DayBoy", name := "event", desc := "(IIIII)I" } : Jvm.MethodName)) ∈ lw_all := lw_g (lw_at lw_m5 49 rfl) rfl
theorem q1113 : (Jvm.Cond.selects "DayBoy" ({ cls := "DayBoy", name := "event", desc := "(IIIII)I" } : Jvm.MethodName) ({ cls := "DayBoy", name := "event", desc := "(IIIII)I" } : Jvm.MethodName)) ∈ lw_all := lw_g (lw_at lw_m5 50 rfl) rfl
theorem q1114 : (Jvm.Cond.code ({ cls := "DayBoy", name := "event", desc := "(IIIII)I" } : Jvm.MethodName) prog_1_method_61_code (6 : Nat) (Option.some Jvm.ClassFile.FieldType.int)) ∈ lw_all := lw_g (lw_at lw_m5 51 rfl) rfl
theorem q1116 : (Jvm.Cond.instanceMethod ({ cls := "DayBoy", name := "held", desc := "(IIII)I" } : Jvm.MethodName)) ∈ lw_all := lw_g (lw_at lw_m5 53 rfl) rfl
theorem q1117 : (Jvm.Cond.selects "DayBoy" ({ cls := "DayBoy", name := "held", desc := "(IIII)I" } : Jvm.MethodName) ({ cls := "DayBoy", name := "held", desc := "(IIII)I" } : Jvm.MethodName)) ∈ lw_all := lw_g (lw_at lw_m5 54 rfl) rfl
theorem q1118 : (Jvm.Cond.code ({ cls := "DayBoy", name := "held", desc := "(IIII)I" } : Jvm.MethodName) prog_1_method_63_code (7 : Nat) (Option.some Jvm.ClassFile.FieldType.int)) ∈ lw_all := lw_g (lw_at lw_m5 55 rfl) rfl
theorem q1119 : (Jvm.Cond.methodLink "DayBoy" (392 : Nat) ({ cls := "DayBoy", name := "holds", desc := "(II)Z" } : Jvm.MethodName)) ∈ lw_all := lw_g (lw_at lw_m5 56 rfl) rfl
theorem q1120 : (Jvm.Cond.privateMethod ({ cls := "DayBoy", name := "holds", desc := "(II)Z" } : Jvm.MethodName)) ∈ lw_tbl := lw_at lw_m5 57 rfl
theorem q1121 : (Jvm.Cond.instanceMethod ({ cls := "DayBoy", name := "holds", desc := "(II)Z" } : Jvm.MethodName)) ∈ lw_all := lw_g (lw_at lw_m5 58 rfl) rfl
theorem q1122 : (Jvm.Cond.code ({ cls := "DayBoy", name := "holds", desc := "(II)Z" } : Jvm.MethodName) prog_1_method_62_code (4 : Nat) (Option.some Jvm.ClassFile.FieldType.boolean)) ∈ lw_all := lw_g (lw_at lw_m5 59 rfl) rfl
theorem q1124 : (Jvm.Cond.instanceMethod ({ cls := "DayBoy", name := "spell", desc := "(I)I" } : Jvm.MethodName)) ∈ lw_all := lw_g (lw_at lw_m5 61 rfl) rfl
theorem q1125 : (Jvm.Cond.selects "DayBoy" ({ cls := "DayBoy", name := "spell", desc := "(I)I" } : Jvm.MethodName) ({ cls := "DayBoy", name := "spell", desc := "(I)I" } : Jvm.MethodName)) ∈ lw_all := lw_g (lw_at lw_m5 62 rfl) rfl
theorem q1126 : (Jvm.Cond.code ({ cls := "DayBoy", name := "spell", desc := "(I)I" } : Jvm.MethodName) prog_1_method_64_code (5 : Nat) (Option.some Jvm.ClassFile.FieldType.int)) ∈ lw_all := lw_g (lw_at lw_m5 63 rfl) rfl
theorem q1127 : (Jvm.Cond.methodLink "DayBoy" (395 : Nat) ({ cls := "java/lang/Math", name := "max", desc := "(II)I" } : Jvm.MethodName)) ∈ lw_all := lw_g (lw_at lw_m5 64 rfl) rfl
theorem q1131 : (Jvm.Cond.instanceMethod ({ cls := "DayBoy", name := "row", desc := "(III)I" } : Jvm.MethodName)) ∈ lw_all := lw_g (lw_at lw_m5 68 rfl) rfl
theorem q1132 : (Jvm.Cond.selects "DayBoy" ({ cls := "DayBoy", name := "row", desc := "(III)I" } : Jvm.MethodName) ({ cls := "DayBoy", name := "row", desc := "(III)I" } : Jvm.MethodName)) ∈ lw_all := lw_g (lw_at lw_m5 69 rfl) rfl
theorem q1133 : (Jvm.Cond.code ({ cls := "DayBoy", name := "row", desc := "(III)I" } : Jvm.MethodName) prog_1_method_66_code (6 : Nat) (Option.some Jvm.ClassFile.FieldType.int)) ∈ lw_all := lw_g (lw_at lw_m5 70 rfl) rfl
theorem q1134 : (Jvm.Cond.methodLink "DayBoy" (398 : Nat) ({ cls := "DayBoy", name := "answerTo", desc := "(LDayBoy$Head;LDayBoy$Almanac;I)I" } : Jvm.MethodName)) ∈ lw_all := lw_g (lw_at lw_m5 71 rfl) rfl
theorem q1135 : (Jvm.Cond.privateMethod ({ cls := "DayBoy", name := "answerTo", desc := "(LDayBoy$Head;LDayBoy$Almanac;I)I" } : Jvm.MethodName)) ∈ lw_tbl := lw_at lw_m5 72 rfl
theorem q1136 : (Jvm.Cond.instanceMethod ({ cls := "DayBoy", name := "answerTo", desc := "(LDayBoy$Head;LDayBoy$Almanac;I)I" } : Jvm.MethodName)) ∈ lw_all := lw_g (lw_at lw_m5 73 rfl) rfl
theorem q1137 : (Jvm.Cond.code ({ cls := "DayBoy", name := "answerTo", desc := "(LDayBoy$Head;LDayBoy$Almanac;I)I" } : Jvm.MethodName) prog_1_method_65_code (7 : Nat) (Option.some Jvm.ClassFile.FieldType.int)) ∈ lw_all := lw_g (lw_at lw_m5 74 rfl) rfl
theorem q1139 : (Jvm.Cond.instanceMethod ({ cls := "DayBoy", name := "run", desc := "(IJIII)I" } : Jvm.MethodName)) ∈ lw_all := lw_g (lw_at lw_m5 76 rfl) rfl
theorem q1140 : (Jvm.Cond.selects "DayBoy" ({ cls := "DayBoy", name := "run", desc := "(IJIII)I" } : Jvm.MethodName) ({ cls := "DayBoy", name := "run", desc := "(IJIII)I" } : Jvm.MethodName)) ∈ lw_all := lw_g (lw_at lw_m5 77 rfl) rfl
theorem q1141 : (Jvm.Cond.code ({ cls := "DayBoy", name := "run", desc := "(IJIII)I" } : Jvm.MethodName) prog_1_method_69_code (13 : Nat) (Option.some Jvm.ClassFile.FieldType.int)) ∈ lw_all := lw_g (lw_at lw_m5 78 rfl) rfl
theorem q1142 : (Jvm.Cond.constantLong "DayBoy" (405 : Nat) (99 : Int64)) ∈ lw_all := lw_g (lw_at lw_m5 79 rfl) rfl
theorem q1143 : (Jvm.Cond.constantLong "DayBoy" (407 : Nat) (6364136223846793005 : Int64)) ∈ lw_all := lw_g (lw_at lw_m5 80 rfl) rfl
theorem q1144 : (Jvm.Cond.constantLong "DayBoy" (409 : Nat) (1442695040888963407 : Int64)) ∈ lw_all := lw_g (lw_at lw_m5 81 rfl) rfl
theorem q1145 : (Jvm.Cond.methodLink "DayBoy" (411 : Nat) ({ cls := "DayBoy", name := "tenthsOfPlan", desc := "(LDayBoy$Head;III)I" } : Jvm.MethodName)) ∈ lw_all := lw_g (lw_at lw_m5 82 rfl) rfl
theorem q1146 : (Jvm.Cond.privateMethod ({ cls := "DayBoy", name := "tenthsOfPlan", desc := "(LDayBoy$Head;III)I" } : Jvm.MethodName)) ∈ lw_tbl := lw_at lw_m5 83 rfl
theorem q1147 : (Jvm.Cond.instanceMethod ({ cls := "DayBoy", name := "tenthsOfPlan", desc := "(LDayBoy$Head;III)I" } : Jvm.MethodName)) ∈ lw_all := lw_g (lw_at lw_m5 84 rfl) rfl
theorem q1148 : (Jvm.Cond.code ({ cls := "DayBoy", name := "tenthsOfPlan", desc := "(LDayBoy$Head;III)I" } : Jvm.MethodName) prog_1_method_68_code (6 : Nat) (Option.some Jvm.ClassFile.FieldType.int)) ∈ lw_all := lw_g (lw_at lw_m5 85 rfl) rfl
theorem q1149 : (Jvm.Cond.methodLink "DayBoy" (402 : Nat) ({ cls := "DayBoy", name := "planKind", desc := "(I)I" } : Jvm.MethodName)) ∈ lw_all := lw_g (lw_at lw_m5 86 rfl) rfl
theorem q1150 : (Jvm.Cond.privateMethod ({ cls := "DayBoy", name := "planKind", desc := "(I)I" } : Jvm.MethodName)) ∈ lw_tbl := lw_at lw_m5 87 rfl
theorem q1151 : (Jvm.Cond.instanceMethod ({ cls := "DayBoy", name := "planKind", desc := "(I)I" } : Jvm.MethodName)) ∈ lw_all := lw_g (lw_at lw_m5 88 rfl) rfl
theorem q1152 : (Jvm.Cond.code ({ cls := "DayBoy", name := "planKind", desc := "(I)I" } : Jvm.MethodName) prog_1_method_67_code (2 : Nat) (Option.some Jvm.ClassFile.FieldType.int)) ∈ lw_all := lw_g (lw_at lw_m5 89 rfl) rfl
theorem q1154 : (Jvm.Cond.instanceMethod ({ cls := "DayBoy", name := "holds", desc := "(IIIIII)I" } : Jvm.MethodName)) ∈ lw_all := lw_g (lw_at lw_m5 91 rfl) rfl
theorem q1155 : (Jvm.Cond.selects "DayBoy" ({ cls := "DayBoy", name := "holds", desc := "(IIIIII)I" } : Jvm.MethodName) ({ cls := "DayBoy", name := "holds", desc := "(IIIIII)I" } : Jvm.MethodName)) ∈ lw_all := lw_g (lw_at lw_m5 92 rfl) rfl
theorem q1156 : (Jvm.Cond.code ({ cls := "DayBoy", name := "holds", desc := "(IIIIII)I" } : Jvm.MethodName) prog_1_method_71_code (11 : Nat) (Option.some Jvm.ClassFile.FieldType.int)) ∈ lw_all := lw_g (lw_at lw_m5 93 rfl) rfl
theorem q1157 : (Jvm.Cond.methodLink "DayBoy" (415 : Nat) ({ cls := "DayBoy", name := "areYears", desc := "(II)Z" } : Jvm.MethodName)) ∈ lw_all := lw_g (lw_at lw_m5 94 rfl) rfl
theorem q1158 : (Jvm.Cond.static ({ cls := "DayBoy", name := "areYears", desc := "(II)Z" } : Jvm.MethodName)) ∈ lw_all := lw_g (lw_at lw_m5 95 rfl) rfl
theorem q1159 : (Jvm.Cond.code ({ cls := "DayBoy", name := "areYears", desc := "(II)Z" } : Jvm.MethodName) prog_1_method_70_code (2 : Nat) (Option.some Jvm.ClassFile.FieldType.boolean)) ∈ lw_all := lw_g (lw_at lw_m5 96 rfl) rfl
theorem q1161 : (Jvm.Cond.instanceMethod ({ cls := "DayBoy", name := "right", desc := "(IIII)I" } : Jvm.MethodName)) ∈ lw_all := lw_g (lw_at lw_m5 98 rfl) rfl
theorem q1162 : (Jvm.Cond.selects "DayBoy" ({ cls := "DayBoy", name := "right", desc := "(IIII)I" } : Jvm.MethodName) ({ cls := "DayBoy", name := "right", desc := "(IIII)I" } : Jvm.MethodName)) ∈ lw_all := lw_g (lw_at lw_m5 99 rfl) rfl
theorem q1163 : (Jvm.Cond.code ({ cls := "DayBoy", name := "right", desc := "(IIII)I" } : Jvm.MethodName) prog_1_method_72_code (10 : Nat) (Option.some Jvm.ClassFile.FieldType.int)) ∈ lw_all := lw_g (lw_at lw_m5 100 rfl) rfl
theorem q1165 : (Jvm.Cond.instanceMethod ({ cls := "DayBoy", name := "lacks", desc := "(IIII)I" } : Jvm.MethodName)) ∈ lw_all := lw_g (lw_at lw_m5 102 rfl) rfl
theorem q1166 : (Jvm.Cond.selects "DayBoy" ({ cls := "DayBoy", name := "lacks", desc := "(IIII)I" } : Jvm.MethodName) ({ cls := "DayBoy", name := "lacks", desc := "(IIII)I" } : Jvm.MethodName)) ∈ lw_all := lw_g (lw_at lw_m5 103 rfl) rfl
theorem q1167 : (Jvm.Cond.code ({ cls := "DayBoy", name := "lacks", desc := "(IIII)I" } : Jvm.MethodName) prog_1_method_74_code (9 : Nat) (Option.some Jvm.ClassFile.FieldType.int)) ∈ lw_all := lw_g (lw_at lw_m5 104 rfl) rfl
theorem q1168 : (Jvm.Cond.methodLink "DayBoy" (429 : Nat) ({ cls := "DayBoy", name := "lackingMonths", desc := "(LDayBoy$Head;)I" } : Jvm.MethodName)) ∈ lw_all := lw_g (lw_at lw_m5 105 rfl) rfl
theorem q1169 : (Jvm.Cond.static ({ cls := "DayBoy", name := "lackingMonths", desc := "(LDayBoy$Head;)I" } : Jvm.MethodName)) ∈ lw_all := lw_g (lw_at lw_m5 106 rfl) rfl
theorem q1170 : (Jvm.Cond.code ({ cls := "DayBoy", name := "lackingMonths", desc := "(LDayBoy$Head;)I" } : Jvm.MethodName) prog_1_method_73_code (3 : Nat) (Option.some Jvm.ClassFile.FieldType.int)) ∈ lw_all := lw_g (lw_at lw_m5 107 rfl) rfl
theorem q1171 : (Jvm.Cond.constantLong "DayBoy" (427 : Nat) (1000000000000 : Int64)) ∈ lw_all := lw_g (lw_at lw_m5 108 rfl) rfl
theorem q1173 : (Jvm.Cond.instanceMethod ({ cls := "DayBoy", name := "spare", desc := "(II)I" } : Jvm.MethodName)) ∈ lw_all := lw_g (lw_at lw_m5 110 rfl) rfl
theorem q1174 : (Jvm.Cond.selects "DayBoy" ({ cls := "DayBoy", name := "spare", desc := "(II)I" } : Jvm.MethodName) ({ cls := "DayBoy", name := "spare", desc := "(II)I" } : Jvm.MethodName)) ∈ lw_all := lw_g (lw_at lw_m5 111 rfl) rfl
theorem q1175 : (Jvm.Cond.code ({ cls := "DayBoy", name := "spare", desc := "(II)I" } : Jvm.MethodName) prog_1_method_75_code (5 : Nat) (Option.some Jvm.ClassFile.FieldType.int)) ∈ lw_all := lw_g (lw_at lw_m5 112 rfl) rfl
theorem q1176 : (Jvm.Cond.constantLong "DayBoy" (433 : Nat) (60 : Int64)) ∈ lw_all := lw_g (lw_at lw_m5 113 rfl) rfl
theorem q1178 : (Jvm.Cond.instanceMethod ({ cls := "DayBoy", name := "unlike", desc := "(III)I" } : Jvm.MethodName)) ∈ lw_all := lw_g (lw_at lw_m5 115 rfl) rfl
theorem q1179 : (Jvm.Cond.selects "DayBoy" ({ cls := "DayBoy", name := "unlike", desc := "(III)I" } : Jvm.MethodName) ({ cls := "DayBoy", name := "unlike", desc := "(III)I" } : Jvm.MethodName)) ∈ lw_all := lw_g (lw_at lw_m5 116 rfl) rfl
theorem q1180 : (Jvm.Cond.code ({ cls := "DayBoy", name := "unlike", desc := "(III)I" } : Jvm.MethodName) prog_1_method_77_code (5 : Nat) (Option.some Jvm.ClassFile.FieldType.int)) ∈ lw_all := lw_g (lw_at lw_m5 117 rfl) rfl
theorem q1181 : (Jvm.Cond.constantLong "DayBoy" (435 : Nat) (4000000 : Int64)) ∈ lw_all := lw_g (lw_at lw_m5 118 rfl) rfl
theorem q1182 : (Jvm.Cond.methodLink "DayBoy" (437 : Nat) ({ cls := "DayBoy", name := "isUnlike", desc := "(LDayBoy$Almanac;LDayBoy$Almanac;I)Z" } : Jvm.MethodName)) ∈ lw_all := lw_g (lw_at lw_m5 119 rfl) rfl
theorem q1183 : (Jvm.Cond.static ({ cls := "DayBoy", name := "isUnlike", desc := "(LDayBoy$Almanac;LDayBoy$Almanac;I)Z" } : Jvm.MethodName)) ∈ lw_all := lw_g (lw_at lw_m5 120 rfl) rfl
theorem q1184 : (Jvm.Cond.code ({ cls := "DayBoy", name := "isUnlike", desc := "(LDayBoy$Almanac;LDayBoy$Almanac;I)Z" } : Jvm.MethodName) prog_1_method_76_code (4 : Nat) (Option.some Jvm.ClassFile.FieldType.boolean)) ∈ lw_all := lw_g (lw_at lw_m5 121 rfl) rfl
theorem q1186 : (Jvm.Cond.instanceMethod ({ cls := "DayBoy", name := "rises", desc := "(IIII)I" } : Jvm.MethodName)) ∈ lw_all := lw_g (lw_at lw_m5 123 rfl) rfl
theorem q1187 : (Jvm.Cond.selects "DayBoy" ({ cls := "DayBoy", name := "rises", desc := "(IIII)I" } : Jvm.MethodName) ({ cls := "DayBoy", name := "rises", desc := "(IIII)I" } : Jvm.MethodName)) ∈ lw_all := lw_g (lw_at lw_m5 124 rfl) rfl
theorem q1188 : (Jvm.Cond.code ({ cls := "DayBoy", name := "rises", desc := "(IIII)I" } : Jvm.MethodName) prog_1_method_78_code (9 : Nat) (Option.some Jvm.ClassFile.FieldType.int)) ∈ lw_all := lw_g (lw_at lw_m5 125 rfl) rfl
theorem q1189 : (Jvm.Cond.methodLink "DayBoy" (441 : Nat) ({ cls := "java/lang/Long", name := "compare", desc := "(JJ)I" } : Jvm.MethodName)) ∈ lw_all := lw_g (lw_at lw_m5 126 rfl) rfl
theorem q1193 : (Jvm.Cond.instanceMethod ({ cls := "DayBoy", name := "keep", desc := "()I" } : Jvm.MethodName)) ∈ lw_all := lw_g (lw_at lw_m5 130 rfl) rfl
theorem q1194 : (Jvm.Cond.selects "DayBoy" ({ cls := "DayBoy", name := "keep", desc := "()I" } : Jvm.MethodName) ({ cls := "DayBoy", name := "keep", desc := "()I" } : Jvm.MethodName)) ∈ lw_all := lw_g (lw_at lw_m5 131 rfl) rfl
theorem q1195 : (Jvm.Cond.code ({ cls := "DayBoy", name := "keep", desc := "()I" } : Jvm.MethodName) prog_1_method_79_code (1 : Nat) (Option.some Jvm.ClassFile.FieldType.int)) ∈ lw_all := lw_g (lw_at lw_m5 132 rfl) rfl
theorem q1197 : (Jvm.Cond.instanceMethod ({ cls := "DayBoy", name := "back", desc := "()I" } : Jvm.MethodName)) ∈ lw_all := lw_g (lw_at lw_m5 134 rfl) rfl
theorem q1198 : (Jvm.Cond.selects "DayBoy" ({ cls := "DayBoy", name := "back", desc := "()I" } : Jvm.MethodName) ({ cls := "DayBoy", name := "back", desc := "()I" } : Jvm.MethodName)) ∈ lw_all := lw_g (lw_at lw_m5 135 rfl) rfl
theorem q1199 : (Jvm.Cond.code ({ cls := "DayBoy", name := "back", desc := "()I" } : Jvm.MethodName) prog_1_method_80_code (1 : Nat) (Option.some Jvm.ClassFile.FieldType.int)) ∈ lw_all := lw_g (lw_at lw_m5 136 rfl) rfl
theorem q1201 : (Jvm.Cond.instanceMethod ({ cls := "DayBoy", name := "count", desc := "(I)I" } : Jvm.MethodName)) ∈ lw_all := lw_g (lw_at lw_m5 138 rfl) rfl
theorem q1202 : (Jvm.Cond.selects "DayBoy" ({ cls := "DayBoy", name := "count", desc := "(I)I" } : Jvm.MethodName) ({ cls := "DayBoy", name := "count", desc := "(I)I" } : Jvm.MethodName)) ∈ lw_all := lw_g (lw_at lw_m5 139 rfl) rfl
theorem q1203 : (Jvm.Cond.code ({ cls := "DayBoy", name := "count", desc := "(I)I" } : Jvm.MethodName) prog_1_method_81_code (2 : Nat) (Option.some Jvm.ClassFile.FieldType.int)) ∈ lw_all := lw_g (lw_at lw_m5 140 rfl) rfl
theorem q1209 : (Jvm.Cond.instanceMethod ({ cls := "DayBoy", name := "day", desc := "(IIII)I" } : Jvm.MethodName)) ∈ lw_all := lw_g (lw_at lw_m5 146 rfl) rfl
theorem q1210 : (Jvm.Cond.selects "DayBoy" ({ cls := "DayBoy", name := "day", desc := "(IIII)I" } : Jvm.MethodName) ({ cls := "DayBoy", name := "day", desc := "(IIII)I" } : Jvm.MethodName)) ∈ lw_all := lw_g (lw_at lw_m5 147 rfl) rfl
theorem q1211 : (Jvm.Cond.code ({ cls := "DayBoy", name := "day", desc := "(IIII)I" } : Jvm.MethodName) prog_1_method_13_code (5 : Nat) (Option.some Jvm.ClassFile.FieldType.int)) ∈ lw_all := lw_g (lw_at lw_m5 148 rfl) rfl
theorem q1212 : (Jvm.Cond.classLink "DayBoy" (150 : Nat) "java/util/NoSuchElementException") ∈ lw_all := lw_g (lw_at lw_m5 149 rfl) rfl
theorem q1221 : (Jvm.Cond.methodLink "DayBoy" (152 : Nat) ({ cls := "java/util/NoSuchElementException", name := "<init>", desc := "()V" } : Jvm.MethodName)) ∈ lw_all := lw_g (lw_at lw_m5 158 rfl) rfl
theorem q1912 : (Jvm.Cond.castable "DayBoy" "java/lang/Object") ∈ lw_tbl := lw_at lw_m8 129 rfl
theorem in_X1 : ∀ w ∈ wsX10, w ∈ lw_all := lw_in wsX10 [335, 337, 339, 341, 343, 345, 347, 349, 351, 353, 355, 357, 359, 361, 363, 365, 367, 369, 371, 373, 375, 377, 379, 381, 383, 385, 387, 389] (by decide +kernel) (by decide +kernel)

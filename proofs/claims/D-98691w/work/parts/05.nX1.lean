/-! PulseRent -/
set_option maxRecDepth 100000
def RX1 : String := "PulseRent"
def TX1 : u_T := fun k => match k with
  | 0 => ("PulseRent", "tape", "[B", true)
  | 1 => ("PulseRent", "reader", "LPulseRent$Reader;", true)
  | 2 => ("PulseRent", "house", "LPulseRent$House;", false)
  | 3 => ("PulseRent", "lines", "Ljava/util/ArrayList;", false)
  | 4 => ("PulseRent", "state", "LPulseRent$State;", true)
  | 5 => ("PulseRent", "trial", "LPulseRent$State;", true)
  | 6 => ("PulseRent", "facts", "[I", true)
  | 7 => ("PulseRent", "taped", "I", false)
  | 8 => ("PulseRent", "undone", "[LPulseRent$State;", true)
  | 9 => ("PulseRent", "done", "I", false)
  | 10 => ("PulseRent", "order", "[I", true)
  | 11 => ("PulseRent", "bestOrder", "[I", true)
  | 12 => ("PulseRent", "bestBeats", "I", false)
  | 13 => ("PulseRent", "asked", "[I", true)
  | 14 => ("PulseRent", "keeper", "[I", true)
  | 15 => ("PulseRent", "matched", "[I", true)
  | 16 => ("PulseRent", "sampleMinute", "[I", true)
  | 17 => ("PulseRent", "sampleBeats", "[I", true)
  | 18 => ("PulseRent", "samples", "I", false)
  | 19 => ("PulseRent", "beatsIn", "[I", true)
  | 20 => ("PulseRent", "alike", "[[I", true)
  | 21 => ("PulseRent", "fitDays", "I", false)
  | 22 => ("PulseRent", "firstDay", "I", false)
  | 23 => ("PulseRent", "g", "J", false)
  | _ => ("PulseRent", "marks", "[LPulseRent$Mark;", true)
def tyX1 : Nat → FieldType := fun k => match k with
  | 0 => .array .byte
  | 1 => .object "PulseRent$Reader"
  | 2 => .object "PulseRent$House"
  | 3 => .object "java/util/ArrayList"
  | 4 => .object "PulseRent$State"
  | 5 => .object "PulseRent$State"
  | 6 => .array .int
  | 7 => .int
  | 8 => .array (.object "PulseRent$State")
  | 9 => .int
  | 10 => .array .int
  | 11 => .array .int
  | 12 => .int
  | 13 => .array .int
  | 14 => .array .int
  | 15 => .array .int
  | 16 => .array .int
  | 17 => .array .int
  | 18 => .int
  | 19 => .array .int
  | 20 => .array (.array .int)
  | 21 => .int
  | 22 => .int
  | 23 => .long
  | _ => .array (.object "PulseRent$Mark")
abbrev wsX10 : List Cond := u_ws RX1 TX1 25
set_option maxRecDepth 100000 in
theorem nmX1 : ∀ a, a < 25 → ∀ b, b < 25 → a ≠ b → (TX1 a).2.1 ≠ (TX1 b).2.1 := by decide +kernel
set_option maxRecDepth 100000 in
theorem tyX1_ok : ∀ k, k < 25 → parseFieldDescriptor (TX1 k).2.2.1 = some (tyX1 k) := by decide +kernel
abbrev cX1_init : ByteArray := prog_1_method_6_code
def yX1_init : MethodName := ⟨RX1, "<init>", "()V"⟩
def dkwX1_init_7 : List UInt8 := [189, 0, 95, 181, 0, 97, 42, 180, 0, 51, 42, 180, 0, 35, 182, 0, 101, 177]
abbrev dktX1_init_7 : List UInt8 := dkwX1_init_7 ++ []
def dkwX1_init_6 : List UInt8 := [16, 6, 188, 10, 181, 0, 87, 42, 16, 6, 17, 0, 241, 197, 0, 90, 2, 181, 0, 92, 42, 7]
abbrev dktX1_init_6 : List UInt8 := dkwX1_init_6 ++ dktX1_init_7
def dkwX1_init_5 : List UInt8 := [16, 6, 188, 10, 181, 0, 78, 42, 16, 6, 188, 10, 181, 0, 81, 42, 16, 6, 188, 10, 181, 0, 84, 42]
abbrev dktX1_init_5 : List UInt8 := dkwX1_init_5 ++ dktX1_init_6
def dkwX1_init_4 : List UInt8 := [16, 6, 188, 10, 181, 0, 69, 42, 16, 6, 188, 10, 181, 0, 72, 42, 16, 6, 188, 10, 181, 0, 75, 42]
abbrev dktX1_init_4 : List UInt8 := dkwX1_init_4 ++ dktX1_init_5
def dkwX1_init_3 : List UInt8 := [188, 10, 181, 0, 58, 42, 16, 16, 189, 0, 48, 181, 0, 62, 42, 16, 6, 188, 10, 181, 0, 66, 42]
abbrev dktX1_init_3 : List UInt8 := dkwX1_init_3 ++ dktX1_init_4
def dkwX1_init_2 : List UInt8 := [187, 0, 48, 89, 183, 0, 50, 181, 0, 51, 42, 187, 0, 48, 89, 183, 0, 50, 181, 0, 55, 42, 7]
abbrev dktX1_init_2 : List UInt8 := dkwX1_init_2 ++ dktX1_init_3
def dkwX1_init_1 : List UInt8 := [42, 187, 0, 32, 89, 183, 0, 34, 181, 0, 35, 42, 187, 0, 39, 89, 3, 183, 0, 41, 181, 0, 44, 42]
abbrev dktX1_init_1 : List UInt8 := dkwX1_init_1 ++ dktX1_init_2
def dkwX1_init_0 : List UInt8 := [42, 183, 0, 16, 42, 17, 3, 232, 188, 8, 181, 0, 21, 42, 187, 0, 25, 89, 183, 0, 27, 181, 0, 28]
abbrev dktX1_init_0 : List UInt8 := dkwX1_init_0 ++ dktX1_init_1
theorem dksX1_init_0 : cX1_init.data.toList.drop 0 = dktX1_init_0 := by decide +kernel
theorem dksX1_init_1 : cX1_init.data.toList.drop 24 = dktX1_init_1 := dk_seg dksX1_init_0 24 rfl rfl
theorem dksX1_init_2 : cX1_init.data.toList.drop 48 = dktX1_init_2 := dk_seg dksX1_init_1 24 rfl rfl
theorem dksX1_init_3 : cX1_init.data.toList.drop 71 = dktX1_init_3 := dk_seg dksX1_init_2 23 rfl rfl
theorem dksX1_init_4 : cX1_init.data.toList.drop 94 = dktX1_init_4 := dk_seg dksX1_init_3 23 rfl rfl
theorem dksX1_init_5 : cX1_init.data.toList.drop 118 = dktX1_init_5 := dk_seg dksX1_init_4 24 rfl rfl
theorem dksX1_init_6 : cX1_init.data.toList.drop 142 = dktX1_init_6 := dk_seg dksX1_init_5 24 rfl rfl
theorem dksX1_init_7 : cX1_init.data.toList.drop 164 = dktX1_init_7 := dk_seg dksX1_init_6 22 rfl rfl
theorem dX1_init_0 : decode cX1_init 0 = .ok (.aload_n 0, 1) := dk_42 (dk_at dksX1_init_0 0 rfl rfl)
theorem dX1_init_1 : decode cX1_init 1 = .ok (.invokespecial 16, 3) := dk_183 0 16 (dk_at dksX1_init_0 1 rfl rfl)
theorem dX1_init_4 : decode cX1_init 4 = .ok (.aload_n 0, 1) := dk_42 (dk_at dksX1_init_0 4 rfl rfl)
theorem dX1_init_5 : decode cX1_init 5 = .ok (.sipush 1000, 3) := dk_17 3 232 (dk_at dksX1_init_0 5 rfl rfl)
theorem dX1_init_8 : decode cX1_init 8 = .ok (.newarray .byte, 2) := dk_188_8 (dk_at dksX1_init_0 8 rfl rfl)
theorem dX1_init_10 : decode cX1_init 10 = .ok (.putfield 21, 3) := dk_181 0 21 (dk_at dksX1_init_0 10 rfl rfl)
theorem dX1_init_13 : decode cX1_init 13 = .ok (.aload_n 0, 1) := dk_42 (dk_at dksX1_init_0 13 rfl rfl)
theorem dX1_init_14 : decode cX1_init 14 = .ok (.new 25, 3) := dk_187 0 25 (dk_at dksX1_init_0 14 rfl rfl)
theorem dX1_init_17 : decode cX1_init 17 = .ok (.dup, 1) := dk_89 (dk_at dksX1_init_0 17 rfl rfl)
theorem dX1_init_18 : decode cX1_init 18 = .ok (.invokespecial 27, 3) := dk_183 0 27 (dk_at dksX1_init_0 18 rfl rfl)
theorem dX1_init_21 : decode cX1_init 21 = .ok (.putfield 28, 3) := dk_181 0 28 (dk_at dksX1_init_0 21 rfl rfl)
theorem dX1_init_24 : decode cX1_init 24 = .ok (.aload_n 0, 1) := dk_42 (dk_at dksX1_init_1 0 rfl rfl)
theorem dX1_init_25 : decode cX1_init 25 = .ok (.new 32, 3) := dk_187 0 32 (dk_at dksX1_init_1 1 rfl rfl)
theorem dX1_init_28 : decode cX1_init 28 = .ok (.dup, 1) := dk_89 (dk_at dksX1_init_1 4 rfl rfl)
theorem dX1_init_29 : decode cX1_init 29 = .ok (.invokespecial 34, 3) := dk_183 0 34 (dk_at dksX1_init_1 5 rfl rfl)
theorem dX1_init_32 : decode cX1_init 32 = .ok (.putfield 35, 3) := dk_181 0 35 (dk_at dksX1_init_1 8 rfl rfl)
theorem dX1_init_35 : decode cX1_init 35 = .ok (.aload_n 0, 1) := dk_42 (dk_at dksX1_init_1 11 rfl rfl)
theorem dX1_init_36 : decode cX1_init 36 = .ok (.new 39, 3) := dk_187 0 39 (dk_at dksX1_init_1 12 rfl rfl)
theorem dX1_init_39 : decode cX1_init 39 = .ok (.dup, 1) := dk_89 (dk_at dksX1_init_1 15 rfl rfl)
theorem dX1_init_40 : decode cX1_init 40 = .ok (.iconst 0, 1) := dk_3 (dk_at dksX1_init_1 16 rfl rfl)
theorem dX1_init_41 : decode cX1_init 41 = .ok (.invokespecial 41, 3) := dk_183 0 41 (dk_at dksX1_init_1 17 rfl rfl)
theorem dX1_init_44 : decode cX1_init 44 = .ok (.putfield 44, 3) := dk_181 0 44 (dk_at dksX1_init_1 20 rfl rfl)
theorem dX1_init_47 : decode cX1_init 47 = .ok (.aload_n 0, 1) := dk_42 (dk_at dksX1_init_1 23 rfl rfl)
theorem dX1_init_48 : decode cX1_init 48 = .ok (.new 48, 3) := dk_187 0 48 (dk_at dksX1_init_2 0 rfl rfl)
theorem dX1_init_51 : decode cX1_init 51 = .ok (.dup, 1) := dk_89 (dk_at dksX1_init_2 3 rfl rfl)
theorem dX1_init_52 : decode cX1_init 52 = .ok (.invokespecial 50, 3) := dk_183 0 50 (dk_at dksX1_init_2 4 rfl rfl)
theorem dX1_init_55 : decode cX1_init 55 = .ok (.putfield 51, 3) := dk_181 0 51 (dk_at dksX1_init_2 7 rfl rfl)
theorem dX1_init_58 : decode cX1_init 58 = .ok (.aload_n 0, 1) := dk_42 (dk_at dksX1_init_2 10 rfl rfl)
theorem dX1_init_59 : decode cX1_init 59 = .ok (.new 48, 3) := dk_187 0 48 (dk_at dksX1_init_2 11 rfl rfl)
theorem dX1_init_62 : decode cX1_init 62 = .ok (.dup, 1) := dk_89 (dk_at dksX1_init_2 14 rfl rfl)
theorem dX1_init_63 : decode cX1_init 63 = .ok (.invokespecial 50, 3) := dk_183 0 50 (dk_at dksX1_init_2 15 rfl rfl)
theorem dX1_init_66 : decode cX1_init 66 = .ok (.putfield 55, 3) := dk_181 0 55 (dk_at dksX1_init_2 18 rfl rfl)
theorem dX1_init_69 : decode cX1_init 69 = .ok (.aload_n 0, 1) := dk_42 (dk_at dksX1_init_2 21 rfl rfl)
theorem dX1_init_70 : decode cX1_init 70 = .ok (.iconst 4, 1) := dk_7 (dk_at dksX1_init_2 22 rfl rfl)
theorem dX1_init_71 : decode cX1_init 71 = .ok (.newarray .int, 2) := dk_188_10 (dk_at dksX1_init_3 0 rfl rfl)
theorem dX1_init_73 : decode cX1_init 73 = .ok (.putfield 58, 3) := dk_181 0 58 (dk_at dksX1_init_3 2 rfl rfl)
theorem dX1_init_76 : decode cX1_init 76 = .ok (.aload_n 0, 1) := dk_42 (dk_at dksX1_init_3 5 rfl rfl)
theorem dX1_init_77 : decode cX1_init 77 = .ok (.bipush 16, 2) := dk_16 16 (dk_at dksX1_init_3 6 rfl rfl)
theorem dX1_init_79 : decode cX1_init 79 = .ok (.anewarray 48, 3) := dk_189 0 48 (dk_at dksX1_init_3 8 rfl rfl)
theorem dX1_init_82 : decode cX1_init 82 = .ok (.putfield 62, 3) := dk_181 0 62 (dk_at dksX1_init_3 11 rfl rfl)
theorem dX1_init_85 : decode cX1_init 85 = .ok (.aload_n 0, 1) := dk_42 (dk_at dksX1_init_3 14 rfl rfl)
theorem dX1_init_86 : decode cX1_init 86 = .ok (.bipush 6, 2) := dk_16 6 (dk_at dksX1_init_3 15 rfl rfl)
theorem dX1_init_88 : decode cX1_init 88 = .ok (.newarray .int, 2) := dk_188_10 (dk_at dksX1_init_3 17 rfl rfl)
theorem dX1_init_90 : decode cX1_init 90 = .ok (.putfield 66, 3) := dk_181 0 66 (dk_at dksX1_init_3 19 rfl rfl)
theorem dX1_init_93 : decode cX1_init 93 = .ok (.aload_n 0, 1) := dk_42 (dk_at dksX1_init_3 22 rfl rfl)
theorem dX1_init_94 : decode cX1_init 94 = .ok (.bipush 6, 2) := dk_16 6 (dk_at dksX1_init_4 0 rfl rfl)
theorem dX1_init_96 : decode cX1_init 96 = .ok (.newarray .int, 2) := dk_188_10 (dk_at dksX1_init_4 2 rfl rfl)
theorem dX1_init_98 : decode cX1_init 98 = .ok (.putfield 69, 3) := dk_181 0 69 (dk_at dksX1_init_4 4 rfl rfl)
theorem dX1_init_101 : decode cX1_init 101 = .ok (.aload_n 0, 1) := dk_42 (dk_at dksX1_init_4 7 rfl rfl)
theorem dX1_init_102 : decode cX1_init 102 = .ok (.bipush 6, 2) := dk_16 6 (dk_at dksX1_init_4 8 rfl rfl)
theorem dX1_init_104 : decode cX1_init 104 = .ok (.newarray .int, 2) := dk_188_10 (dk_at dksX1_init_4 10 rfl rfl)
theorem dX1_init_106 : decode cX1_init 106 = .ok (.putfield 72, 3) := dk_181 0 72 (dk_at dksX1_init_4 12 rfl rfl)
theorem dX1_init_109 : decode cX1_init 109 = .ok (.aload_n 0, 1) := dk_42 (dk_at dksX1_init_4 15 rfl rfl)
theorem dX1_init_110 : decode cX1_init 110 = .ok (.bipush 6, 2) := dk_16 6 (dk_at dksX1_init_4 16 rfl rfl)
theorem dX1_init_112 : decode cX1_init 112 = .ok (.newarray .int, 2) := dk_188_10 (dk_at dksX1_init_4 18 rfl rfl)
theorem dX1_init_114 : decode cX1_init 114 = .ok (.putfield 75, 3) := dk_181 0 75 (dk_at dksX1_init_4 20 rfl rfl)
theorem dX1_init_117 : decode cX1_init 117 = .ok (.aload_n 0, 1) := dk_42 (dk_at dksX1_init_4 23 rfl rfl)
theorem dX1_init_118 : decode cX1_init 118 = .ok (.bipush 6, 2) := dk_16 6 (dk_at dksX1_init_5 0 rfl rfl)
theorem dX1_init_120 : decode cX1_init 120 = .ok (.newarray .int, 2) := dk_188_10 (dk_at dksX1_init_5 2 rfl rfl)
theorem dX1_init_122 : decode cX1_init 122 = .ok (.putfield 78, 3) := dk_181 0 78 (dk_at dksX1_init_5 4 rfl rfl)
theorem dX1_init_125 : decode cX1_init 125 = .ok (.aload_n 0, 1) := dk_42 (dk_at dksX1_init_5 7 rfl rfl)
theorem dX1_init_126 : decode cX1_init 126 = .ok (.bipush 6, 2) := dk_16 6 (dk_at dksX1_init_5 8 rfl rfl)
theorem dX1_init_128 : decode cX1_init 128 = .ok (.newarray .int, 2) := dk_188_10 (dk_at dksX1_init_5 10 rfl rfl)
theorem dX1_init_130 : decode cX1_init 130 = .ok (.putfield 81, 3) := dk_181 0 81 (dk_at dksX1_init_5 12 rfl rfl)
theorem dX1_init_133 : decode cX1_init 133 = .ok (.aload_n 0, 1) := dk_42 (dk_at dksX1_init_5 15 rfl rfl)
theorem dX1_init_134 : decode cX1_init 134 = .ok (.bipush 6, 2) := dk_16 6 (dk_at dksX1_init_5 16 rfl rfl)
theorem dX1_init_136 : decode cX1_init 136 = .ok (.newarray .int, 2) := dk_188_10 (dk_at dksX1_init_5 18 rfl rfl)
theorem dX1_init_138 : decode cX1_init 138 = .ok (.putfield 84, 3) := dk_181 0 84 (dk_at dksX1_init_5 20 rfl rfl)
theorem dX1_init_141 : decode cX1_init 141 = .ok (.aload_n 0, 1) := dk_42 (dk_at dksX1_init_5 23 rfl rfl)
theorem dX1_init_142 : decode cX1_init 142 = .ok (.bipush 6, 2) := dk_16 6 (dk_at dksX1_init_6 0 rfl rfl)
theorem dX1_init_144 : decode cX1_init 144 = .ok (.newarray .int, 2) := dk_188_10 (dk_at dksX1_init_6 2 rfl rfl)
theorem dX1_init_146 : decode cX1_init 146 = .ok (.putfield 87, 3) := dk_181 0 87 (dk_at dksX1_init_6 4 rfl rfl)
theorem dX1_init_149 : decode cX1_init 149 = .ok (.aload_n 0, 1) := dk_42 (dk_at dksX1_init_6 7 rfl rfl)
theorem dX1_init_150 : decode cX1_init 150 = .ok (.bipush 6, 2) := dk_16 6 (dk_at dksX1_init_6 8 rfl rfl)
theorem dX1_init_152 : decode cX1_init 152 = .ok (.sipush 241, 3) := dk_17 0 241 (dk_at dksX1_init_6 10 rfl rfl)
theorem dX1_init_155 : decode cX1_init 155 = .ok (.multianewarray 90 2, 4) := by decide +kernel
theorem dX1_init_159 : decode cX1_init 159 = .ok (.putfield 92, 3) := dk_181 0 92 (dk_at dksX1_init_6 17 rfl rfl)
theorem dX1_init_162 : decode cX1_init 162 = .ok (.aload_n 0, 1) := dk_42 (dk_at dksX1_init_6 20 rfl rfl)
theorem dX1_init_163 : decode cX1_init 163 = .ok (.iconst 4, 1) := dk_7 (dk_at dksX1_init_6 21 rfl rfl)
theorem dX1_init_164 : decode cX1_init 164 = .ok (.anewarray 95, 3) := dk_189 0 95 (dk_at dksX1_init_7 0 rfl rfl)
theorem dX1_init_167 : decode cX1_init 167 = .ok (.putfield 97, 3) := dk_181 0 97 (dk_at dksX1_init_7 3 rfl rfl)
theorem dX1_init_170 : decode cX1_init 170 = .ok (.aload_n 0, 1) := dk_42 (dk_at dksX1_init_7 6 rfl rfl)
theorem dX1_init_171 : decode cX1_init 171 = .ok (.getfield 51, 3) := dk_180 0 51 (dk_at dksX1_init_7 7 rfl rfl)
theorem dX1_init_174 : decode cX1_init 174 = .ok (.aload_n 0, 1) := dk_42 (dk_at dksX1_init_7 10 rfl rfl)
theorem dX1_init_175 : decode cX1_init 175 = .ok (.getfield 35, 3) := dk_180 0 35 (dk_at dksX1_init_7 11 rfl rfl)
theorem dX1_init_178 : decode cX1_init 178 = .ok (.invokevirtual 101, 3) := dk_182 0 101 (dk_at dksX1_init_7 14 rfl rfl)
theorem dX1_init_181 : decode cX1_init 181 = .ok (.return_, 1) := dk_177 (dk_at dksX1_init_7 17 rfl rfl)
abbrev cX1_feed : ByteArray := prog_1_method_7_code
def yX1_feed : MethodName := ⟨RX1, "feed", "(JJJ)I"⟩
def dkwX1_feed_4 : List UInt8 := [96, 181, 0, 105, 21, 8, 145, 84, 132, 7, 1, 167, 255, 153, 42, 180, 0, 105, 172]
abbrev dktX1_feed_4 : List UInt8 := dkwX1_feed_4 ++ []
def dkwX1_feed_3 : List UInt8 := [163, 0, 32, 42, 180, 0, 105, 17, 3, 232, 162, 0, 22, 42, 180, 0, 21, 42, 89, 180, 0, 105, 90, 4]
abbrev dktX1_feed_3 : List UInt8 := dkwX1_feed_3 ++ dktX1_feed_4
def dkwX1_feed_2 : List UInt8 := [17, 0, 255, 126, 54, 8, 21, 8, 16, 10, 159, 0, 17, 21, 8, 16, 32, 161, 0, 39, 21, 8, 16, 126]
abbrev dktX1_feed_2 : List UInt8 := dkwX1_feed_2 ++ dktX1_feed_3
def dkwX1_feed_1 : List UInt8 := [16, 16, 162, 0, 7, 33, 167, 0, 5, 22, 5, 16, 56, 16, 8, 21, 7, 16, 8, 112, 104, 100, 123, 136]
abbrev dktX1_feed_1 : List UInt8 := dkwX1_feed_1 ++ dktX1_feed_2
def dkwX1_feed_0 : List UInt8 := [3, 54, 7, 21, 7, 16, 24, 162, 0, 102, 21, 7, 16, 8, 162, 0, 7, 31, 167, 0, 16, 21, 7]
abbrev dktX1_feed_0 : List UInt8 := dkwX1_feed_0 ++ dktX1_feed_1
theorem dksX1_feed_0 : cX1_feed.data.toList.drop 0 = dktX1_feed_0 := by decide +kernel
theorem dksX1_feed_1 : cX1_feed.data.toList.drop 23 = dktX1_feed_1 := dk_seg dksX1_feed_0 23 rfl rfl
theorem dksX1_feed_2 : cX1_feed.data.toList.drop 47 = dktX1_feed_2 := dk_seg dksX1_feed_1 24 rfl rfl
theorem dksX1_feed_3 : cX1_feed.data.toList.drop 71 = dktX1_feed_3 := dk_seg dksX1_feed_2 24 rfl rfl
theorem dksX1_feed_4 : cX1_feed.data.toList.drop 95 = dktX1_feed_4 := dk_seg dksX1_feed_3 24 rfl rfl
theorem dX1_feed_0 : decode cX1_feed 0 = .ok (.iconst 0, 1) := dk_3 (dk_at dksX1_feed_0 0 rfl rfl)
theorem dX1_feed_1 : decode cX1_feed 1 = .ok (.istore 7, 2) := dk_54 7 (dk_at dksX1_feed_0 1 rfl rfl)
theorem dX1_feed_3 : decode cX1_feed 3 = .ok (.iload 7, 2) := dk_21 7 (dk_at dksX1_feed_0 3 rfl rfl)
theorem dX1_feed_5 : decode cX1_feed 5 = .ok (.bipush 24, 2) := dk_16 24 (dk_at dksX1_feed_0 5 rfl rfl)
theorem dX1_feed_7 : decode cX1_feed 7 = .ok (.if_icmp .ge 102, 3) := dk_162 0 102 (dk_at dksX1_feed_0 7 rfl rfl)
theorem dX1_feed_10 : decode cX1_feed 10 = .ok (.iload 7, 2) := dk_21 7 (dk_at dksX1_feed_0 10 rfl rfl)
theorem dX1_feed_12 : decode cX1_feed 12 = .ok (.bipush 8, 2) := dk_16 8 (dk_at dksX1_feed_0 12 rfl rfl)
theorem dX1_feed_14 : decode cX1_feed 14 = .ok (.if_icmp .ge 7, 3) := dk_162 0 7 (dk_at dksX1_feed_0 14 rfl rfl)
theorem dX1_feed_17 : decode cX1_feed 17 = .ok (.lload_n 1, 1) := dk_31 (dk_at dksX1_feed_0 17 rfl rfl)
theorem dX1_feed_18 : decode cX1_feed 18 = .ok (.goto 16, 3) := dk_167 0 16 (dk_at dksX1_feed_0 18 rfl rfl)
theorem dX1_feed_21 : decode cX1_feed 21 = .ok (.iload 7, 2) := dk_21 7 (dk_at dksX1_feed_0 21 rfl rfl)
theorem dX1_feed_23 : decode cX1_feed 23 = .ok (.bipush 16, 2) := dk_16 16 (dk_at dksX1_feed_1 0 rfl rfl)
theorem dX1_feed_25 : decode cX1_feed 25 = .ok (.if_icmp .ge 7, 3) := dk_162 0 7 (dk_at dksX1_feed_1 2 rfl rfl)
theorem dX1_feed_28 : decode cX1_feed 28 = .ok (.lload_n 3, 1) := dk_33 (dk_at dksX1_feed_1 5 rfl rfl)
theorem dX1_feed_29 : decode cX1_feed 29 = .ok (.goto 5, 3) := dk_167 0 5 (dk_at dksX1_feed_1 6 rfl rfl)
theorem dX1_feed_32 : decode cX1_feed 32 = .ok (.lload 5, 2) := dk_22 5 (dk_at dksX1_feed_1 9 rfl rfl)
theorem dX1_feed_34 : decode cX1_feed 34 = .ok (.bipush 56, 2) := dk_16 56 (dk_at dksX1_feed_1 11 rfl rfl)
theorem dX1_feed_36 : decode cX1_feed 36 = .ok (.bipush 8, 2) := dk_16 8 (dk_at dksX1_feed_1 13 rfl rfl)
theorem dX1_feed_38 : decode cX1_feed 38 = .ok (.iload 7, 2) := dk_21 7 (dk_at dksX1_feed_1 15 rfl rfl)
theorem dX1_feed_40 : decode cX1_feed 40 = .ok (.bipush 8, 2) := dk_16 8 (dk_at dksX1_feed_1 17 rfl rfl)
theorem dX1_feed_42 : decode cX1_feed 42 = .ok (.irem, 1) := dk_112 (dk_at dksX1_feed_1 19 rfl rfl)
theorem dX1_feed_43 : decode cX1_feed 43 = .ok (.imul, 1) := dk_104 (dk_at dksX1_feed_1 20 rfl rfl)
theorem dX1_feed_44 : decode cX1_feed 44 = .ok (.isub, 1) := dk_100 (dk_at dksX1_feed_1 21 rfl rfl)
theorem dX1_feed_45 : decode cX1_feed 45 = .ok (.lshr, 1) := dk_123 (dk_at dksX1_feed_1 22 rfl rfl)
theorem dX1_feed_46 : decode cX1_feed 46 = .ok (.l2i, 1) := dk_136 (dk_at dksX1_feed_1 23 rfl rfl)
theorem dX1_feed_47 : decode cX1_feed 47 = .ok (.sipush 255, 3) := dk_17 0 255 (dk_at dksX1_feed_2 0 rfl rfl)
theorem dX1_feed_50 : decode cX1_feed 50 = .ok (.iand, 1) := dk_126 (dk_at dksX1_feed_2 3 rfl rfl)
theorem dX1_feed_51 : decode cX1_feed 51 = .ok (.istore 8, 2) := dk_54 8 (dk_at dksX1_feed_2 4 rfl rfl)
theorem dX1_feed_53 : decode cX1_feed 53 = .ok (.iload 8, 2) := dk_21 8 (dk_at dksX1_feed_2 6 rfl rfl)
theorem dX1_feed_55 : decode cX1_feed 55 = .ok (.bipush 10, 2) := dk_16 10 (dk_at dksX1_feed_2 8 rfl rfl)
theorem dX1_feed_57 : decode cX1_feed 57 = .ok (.if_icmp .eq 17, 3) := dk_159 0 17 (dk_at dksX1_feed_2 10 rfl rfl)
theorem dX1_feed_60 : decode cX1_feed 60 = .ok (.iload 8, 2) := dk_21 8 (dk_at dksX1_feed_2 13 rfl rfl)
theorem dX1_feed_62 : decode cX1_feed 62 = .ok (.bipush 32, 2) := dk_16 32 (dk_at dksX1_feed_2 15 rfl rfl)
theorem dX1_feed_64 : decode cX1_feed 64 = .ok (.if_icmp .lt 39, 3) := dk_161 0 39 (dk_at dksX1_feed_2 17 rfl rfl)
theorem dX1_feed_67 : decode cX1_feed 67 = .ok (.iload 8, 2) := dk_21 8 (dk_at dksX1_feed_2 20 rfl rfl)
theorem dX1_feed_69 : decode cX1_feed 69 = .ok (.bipush 126, 2) := dk_16 126 (dk_at dksX1_feed_2 22 rfl rfl)
theorem dX1_feed_71 : decode cX1_feed 71 = .ok (.if_icmp .gt 32, 3) := dk_163 0 32 (dk_at dksX1_feed_3 0 rfl rfl)
theorem dX1_feed_74 : decode cX1_feed 74 = .ok (.aload_n 0, 1) := dk_42 (dk_at dksX1_feed_3 3 rfl rfl)
theorem dX1_feed_75 : decode cX1_feed 75 = .ok (.getfield 105, 3) := dk_180 0 105 (dk_at dksX1_feed_3 4 rfl rfl)
theorem dX1_feed_78 : decode cX1_feed 78 = .ok (.sipush 1000, 3) := dk_17 3 232 (dk_at dksX1_feed_3 7 rfl rfl)
theorem dX1_feed_81 : decode cX1_feed 81 = .ok (.if_icmp .ge 22, 3) := dk_162 0 22 (dk_at dksX1_feed_3 10 rfl rfl)
theorem dX1_feed_84 : decode cX1_feed 84 = .ok (.aload_n 0, 1) := dk_42 (dk_at dksX1_feed_3 13 rfl rfl)
theorem dX1_feed_85 : decode cX1_feed 85 = .ok (.getfield 21, 3) := dk_180 0 21 (dk_at dksX1_feed_3 14 rfl rfl)
theorem dX1_feed_88 : decode cX1_feed 88 = .ok (.aload_n 0, 1) := dk_42 (dk_at dksX1_feed_3 17 rfl rfl)
theorem dX1_feed_89 : decode cX1_feed 89 = .ok (.dup, 1) := dk_89 (dk_at dksX1_feed_3 18 rfl rfl)
theorem dX1_feed_90 : decode cX1_feed 90 = .ok (.getfield 105, 3) := dk_180 0 105 (dk_at dksX1_feed_3 19 rfl rfl)
theorem dX1_feed_93 : decode cX1_feed 93 = .ok (.dup_x1, 1) := dk_90 (dk_at dksX1_feed_3 22 rfl rfl)
theorem dX1_feed_94 : decode cX1_feed 94 = .ok (.iconst 1, 1) := dk_4 (dk_at dksX1_feed_3 23 rfl rfl)
theorem dX1_feed_95 : decode cX1_feed 95 = .ok (.iadd, 1) := dk_96 (dk_at dksX1_feed_4 0 rfl rfl)
theorem dX1_feed_96 : decode cX1_feed 96 = .ok (.putfield 105, 3) := dk_181 0 105 (dk_at dksX1_feed_4 1 rfl rfl)
theorem dX1_feed_99 : decode cX1_feed 99 = .ok (.iload 8, 2) := dk_21 8 (dk_at dksX1_feed_4 4 rfl rfl)
theorem dX1_feed_101 : decode cX1_feed 101 = .ok (.i2b, 1) := dk_145 (dk_at dksX1_feed_4 6 rfl rfl)
theorem dX1_feed_102 : decode cX1_feed 102 = .ok (.bastore, 1) := dk_84 (dk_at dksX1_feed_4 7 rfl rfl)
theorem dX1_feed_103 : decode cX1_feed 103 = .ok (.iinc 7 1, 3) := dk_132 7 1 (dk_at dksX1_feed_4 8 rfl rfl)
theorem dX1_feed_106 : decode cX1_feed 106 = .ok (.goto (-103), 3) := dk_167 255 153 (dk_at dksX1_feed_4 11 rfl rfl)
theorem dX1_feed_109 : decode cX1_feed 109 = .ok (.aload_n 0, 1) := dk_42 (dk_at dksX1_feed_4 14 rfl rfl)
theorem dX1_feed_110 : decode cX1_feed 110 = .ok (.getfield 105, 3) := dk_180 0 105 (dk_at dksX1_feed_4 15 rfl rfl)
theorem dX1_feed_113 : decode cX1_feed 113 = .ok (.ireturn, 1) := dk_172 (dk_at dksX1_feed_4 18 rfl rfl)
abbrev cX1_house : ByteArray := prog_1_method_9_code
def yX1_house : MethodName := ⟨RX1, "house", "()I"⟩
def dkwX1_house_3 : List UInt8 := [132, 1, 1, 167, 255, 241, 3, 172]
abbrev dktX1_house_3 : List UInt8 := dkwX1_house_3 ++ []
def dkwX1_house_2 : List UInt8 := [3, 181, 0, 123, 42, 3, 181, 0, 126, 3, 60, 27, 7, 162, 0, 16, 42, 180, 0, 97, 27, 1, 83]
abbrev dktX1_house_2 : List UInt8 := dkwX1_house_2 ++ dktX1_house_3
def dkwX1_house_1 : List UInt8 := [42, 180, 0, 51, 42, 180, 0, 35, 182, 0, 101, 42, 187, 0, 39, 89, 3, 183, 0, 41, 181, 0, 44, 42]
abbrev dktX1_house_1 : List UInt8 := dkwX1_house_1 ++ dktX1_house_2
def dkwX1_house_0 : List UInt8 := [42, 182, 0, 112, 42, 42, 180, 0, 28, 182, 0, 115, 181, 0, 35, 167, 0, 9, 76, 43, 180, 0, 120, 172]
abbrev dktX1_house_0 : List UInt8 := dkwX1_house_0 ++ dktX1_house_1
theorem dksX1_house_0 : cX1_house.data.toList.drop 0 = dktX1_house_0 := by decide +kernel
theorem dksX1_house_1 : cX1_house.data.toList.drop 24 = dktX1_house_1 := dk_seg dksX1_house_0 24 rfl rfl
theorem dksX1_house_2 : cX1_house.data.toList.drop 48 = dktX1_house_2 := dk_seg dksX1_house_1 24 rfl rfl
theorem dksX1_house_3 : cX1_house.data.toList.drop 71 = dktX1_house_3 := dk_seg dksX1_house_2 23 rfl rfl
theorem dX1_house_0 : decode cX1_house 0 = .ok (.aload_n 0, 1) := dk_42 (dk_at dksX1_house_0 0 rfl rfl)
theorem dX1_house_1 : decode cX1_house 1 = .ok (.invokevirtual 112, 3) := dk_182 0 112 (dk_at dksX1_house_0 1 rfl rfl)
theorem dX1_house_4 : decode cX1_house 4 = .ok (.aload_n 0, 1) := dk_42 (dk_at dksX1_house_0 4 rfl rfl)
theorem dX1_house_5 : decode cX1_house 5 = .ok (.aload_n 0, 1) := dk_42 (dk_at dksX1_house_0 5 rfl rfl)
theorem dX1_house_6 : decode cX1_house 6 = .ok (.getfield 28, 3) := dk_180 0 28 (dk_at dksX1_house_0 6 rfl rfl)
theorem dX1_house_9 : decode cX1_house 9 = .ok (.invokevirtual 115, 3) := dk_182 0 115 (dk_at dksX1_house_0 9 rfl rfl)
theorem dX1_house_12 : decode cX1_house 12 = .ok (.putfield 35, 3) := dk_181 0 35 (dk_at dksX1_house_0 12 rfl rfl)
theorem dX1_house_15 : decode cX1_house 15 = .ok (.goto 9, 3) := dk_167 0 9 (dk_at dksX1_house_0 15 rfl rfl)
theorem dX1_house_18 : decode cX1_house 18 = .ok (.astore_n 1, 1) := dk_76 (dk_at dksX1_house_0 18 rfl rfl)
theorem dX1_house_19 : decode cX1_house 19 = .ok (.aload_n 1, 1) := dk_43 (dk_at dksX1_house_0 19 rfl rfl)
theorem dX1_house_20 : decode cX1_house 20 = .ok (.getfield 120, 3) := dk_180 0 120 (dk_at dksX1_house_0 20 rfl rfl)
theorem dX1_house_23 : decode cX1_house 23 = .ok (.ireturn, 1) := dk_172 (dk_at dksX1_house_0 23 rfl rfl)
theorem dX1_house_24 : decode cX1_house 24 = .ok (.aload_n 0, 1) := dk_42 (dk_at dksX1_house_1 0 rfl rfl)
theorem dX1_house_25 : decode cX1_house 25 = .ok (.getfield 51, 3) := dk_180 0 51 (dk_at dksX1_house_1 1 rfl rfl)
theorem dX1_house_28 : decode cX1_house 28 = .ok (.aload_n 0, 1) := dk_42 (dk_at dksX1_house_1 4 rfl rfl)
theorem dX1_house_29 : decode cX1_house 29 = .ok (.getfield 35, 3) := dk_180 0 35 (dk_at dksX1_house_1 5 rfl rfl)
theorem dX1_house_32 : decode cX1_house 32 = .ok (.invokevirtual 101, 3) := dk_182 0 101 (dk_at dksX1_house_1 8 rfl rfl)
theorem dX1_house_35 : decode cX1_house 35 = .ok (.aload_n 0, 1) := dk_42 (dk_at dksX1_house_1 11 rfl rfl)
theorem dX1_house_36 : decode cX1_house 36 = .ok (.new 39, 3) := dk_187 0 39 (dk_at dksX1_house_1 12 rfl rfl)
theorem dX1_house_39 : decode cX1_house 39 = .ok (.dup, 1) := dk_89 (dk_at dksX1_house_1 15 rfl rfl)
theorem dX1_house_40 : decode cX1_house 40 = .ok (.iconst 0, 1) := dk_3 (dk_at dksX1_house_1 16 rfl rfl)
theorem dX1_house_41 : decode cX1_house 41 = .ok (.invokespecial 41, 3) := dk_183 0 41 (dk_at dksX1_house_1 17 rfl rfl)
theorem dX1_house_44 : decode cX1_house 44 = .ok (.putfield 44, 3) := dk_181 0 44 (dk_at dksX1_house_1 20 rfl rfl)
theorem dX1_house_47 : decode cX1_house 47 = .ok (.aload_n 0, 1) := dk_42 (dk_at dksX1_house_1 23 rfl rfl)
theorem dX1_house_48 : decode cX1_house 48 = .ok (.iconst 0, 1) := dk_3 (dk_at dksX1_house_2 0 rfl rfl)
theorem dX1_house_49 : decode cX1_house 49 = .ok (.putfield 123, 3) := dk_181 0 123 (dk_at dksX1_house_2 1 rfl rfl)
theorem dX1_house_52 : decode cX1_house 52 = .ok (.aload_n 0, 1) := dk_42 (dk_at dksX1_house_2 4 rfl rfl)
theorem dX1_house_53 : decode cX1_house 53 = .ok (.iconst 0, 1) := dk_3 (dk_at dksX1_house_2 5 rfl rfl)
theorem dX1_house_54 : decode cX1_house 54 = .ok (.putfield 126, 3) := dk_181 0 126 (dk_at dksX1_house_2 6 rfl rfl)
theorem dX1_house_57 : decode cX1_house 57 = .ok (.iconst 0, 1) := dk_3 (dk_at dksX1_house_2 9 rfl rfl)
theorem dX1_house_58 : decode cX1_house 58 = .ok (.istore_n 1, 1) := dk_60 (dk_at dksX1_house_2 10 rfl rfl)
theorem dX1_house_59 : decode cX1_house 59 = .ok (.iload_n 1, 1) := dk_27 (dk_at dksX1_house_2 11 rfl rfl)
theorem dX1_house_60 : decode cX1_house 60 = .ok (.iconst 4, 1) := dk_7 (dk_at dksX1_house_2 12 rfl rfl)
theorem dX1_house_61 : decode cX1_house 61 = .ok (.if_icmp .ge 16, 3) := dk_162 0 16 (dk_at dksX1_house_2 13 rfl rfl)
theorem dX1_house_64 : decode cX1_house 64 = .ok (.aload_n 0, 1) := dk_42 (dk_at dksX1_house_2 16 rfl rfl)
theorem dX1_house_65 : decode cX1_house 65 = .ok (.getfield 97, 3) := dk_180 0 97 (dk_at dksX1_house_2 17 rfl rfl)
theorem dX1_house_68 : decode cX1_house 68 = .ok (.iload_n 1, 1) := dk_27 (dk_at dksX1_house_2 20 rfl rfl)
theorem dX1_house_69 : decode cX1_house 69 = .ok (.aconst_null, 1) := dk_1 (dk_at dksX1_house_2 21 rfl rfl)
theorem dX1_house_70 : decode cX1_house 70 = .ok (.aastore, 1) := dk_83 (dk_at dksX1_house_2 22 rfl rfl)
theorem dX1_house_71 : decode cX1_house 71 = .ok (.iinc 1 1, 3) := dk_132 1 1 (dk_at dksX1_house_3 0 rfl rfl)
theorem dX1_house_74 : decode cX1_house 74 = .ok (.goto (-15), 3) := dk_167 255 241 (dk_at dksX1_house_3 3 rfl rfl)
theorem dX1_house_77 : decode cX1_house 77 = .ok (.iconst 0, 1) := dk_3 (dk_at dksX1_house_3 6 rfl rfl)
theorem dX1_house_78 : decode cX1_house 78 = .ok (.ireturn, 1) := dk_172 (dk_at dksX1_house_3 7 rfl rfl)
abbrev cX1_reads : ByteArray := prog_1_method_8_code
def yX1_reads : MethodName := ⟨RX1, "reads", "()V"⟩
def dkwX1_reads_0 : List UInt8 := [42, 180, 0, 28, 42, 180, 0, 21, 42, 180, 0, 105, 182, 0, 109, 42, 3, 181, 0, 105, 177]
abbrev dktX1_reads_0 : List UInt8 := dkwX1_reads_0 ++ []
theorem dksX1_reads_0 : cX1_reads.data.toList.drop 0 = dktX1_reads_0 := by decide +kernel
theorem dX1_reads_0 : decode cX1_reads 0 = .ok (.aload_n 0, 1) := dk_42 (dk_at dksX1_reads_0 0 rfl rfl)
theorem dX1_reads_1 : decode cX1_reads 1 = .ok (.getfield 28, 3) := dk_180 0 28 (dk_at dksX1_reads_0 1 rfl rfl)
theorem dX1_reads_4 : decode cX1_reads 4 = .ok (.aload_n 0, 1) := dk_42 (dk_at dksX1_reads_0 4 rfl rfl)
theorem dX1_reads_5 : decode cX1_reads 5 = .ok (.getfield 21, 3) := dk_180 0 21 (dk_at dksX1_reads_0 5 rfl rfl)
theorem dX1_reads_8 : decode cX1_reads 8 = .ok (.aload_n 0, 1) := dk_42 (dk_at dksX1_reads_0 8 rfl rfl)
theorem dX1_reads_9 : decode cX1_reads 9 = .ok (.getfield 105, 3) := dk_180 0 105 (dk_at dksX1_reads_0 9 rfl rfl)
theorem dX1_reads_12 : decode cX1_reads 12 = .ok (.invokevirtual 109, 3) := dk_182 0 109 (dk_at dksX1_reads_0 12 rfl rfl)
theorem dX1_reads_15 : decode cX1_reads 15 = .ok (.aload_n 0, 1) := dk_42 (dk_at dksX1_reads_0 15 rfl rfl)
theorem dX1_reads_16 : decode cX1_reads 16 = .ok (.iconst 0, 1) := dk_3 (dk_at dksX1_reads_0 16 rfl rfl)
theorem dX1_reads_17 : decode cX1_reads 17 = .ok (.putfield 105, 3) := dk_181 0 105 (dk_at dksX1_reads_0 17 rfl rfl)
theorem dX1_reads_20 : decode cX1_reads 20 = .ok (.return_, 1) := dk_177 (dk_at dksX1_reads_0 20 rfl rfl)
abbrev cX1_isIn : ByteArray := prog_1_method_3_code
def yX1_isIn : MethodName := ⟨RX1, "isIn", "(II)Z"⟩
def dkwX1_isIn_0 : List UInt8 := [26, 27, 122, 4, 126, 4, 160, 0, 7, 4, 167, 0, 4, 3, 172]
abbrev dktX1_isIn_0 : List UInt8 := dkwX1_isIn_0 ++ []
theorem dksX1_isIn_0 : cX1_isIn.data.toList.drop 0 = dktX1_isIn_0 := by decide +kernel
theorem dX1_isIn_0 : decode cX1_isIn 0 = .ok (.iload_n 0, 1) := dk_26 (dk_at dksX1_isIn_0 0 rfl rfl)
theorem dX1_isIn_1 : decode cX1_isIn 1 = .ok (.iload_n 1, 1) := dk_27 (dk_at dksX1_isIn_0 1 rfl rfl)
theorem dX1_isIn_2 : decode cX1_isIn 2 = .ok (.ishr, 1) := dk_122 (dk_at dksX1_isIn_0 2 rfl rfl)
theorem dX1_isIn_3 : decode cX1_isIn 3 = .ok (.iconst 1, 1) := dk_4 (dk_at dksX1_isIn_0 3 rfl rfl)
theorem dX1_isIn_4 : decode cX1_isIn 4 = .ok (.iand, 1) := dk_126 (dk_at dksX1_isIn_0 4 rfl rfl)
theorem dX1_isIn_5 : decode cX1_isIn 5 = .ok (.iconst 1, 1) := dk_4 (dk_at dksX1_isIn_0 5 rfl rfl)
theorem dX1_isIn_6 : decode cX1_isIn 6 = .ok (.if_icmp .ne 7, 3) := dk_160 0 7 (dk_at dksX1_isIn_0 6 rfl rfl)
theorem dX1_isIn_9 : decode cX1_isIn 9 = .ok (.iconst 1, 1) := dk_4 (dk_at dksX1_isIn_0 9 rfl rfl)
theorem dX1_isIn_10 : decode cX1_isIn 10 = .ok (.goto 4, 3) := dk_167 0 4 (dk_at dksX1_isIn_0 10 rfl rfl)
theorem dX1_isIn_13 : decode cX1_isIn 13 = .ok (.iconst 0, 1) := dk_3 (dk_at dksX1_isIn_0 13 rfl rfl)
theorem dX1_isIn_14 : decode cX1_isIn 14 = .ok (.ireturn, 1) := dk_172 (dk_at dksX1_isIn_0 14 rfl rfl)
abbrev cX1_months : ByteArray := prog_1_method_10_code
def yX1_months : MethodName := ⟨RX1, "months", "()I"⟩
def dkwX1_months_1 : List UInt8 := [180, 0, 120, 172, 3, 172]
abbrev dktX1_months_1 : List UInt8 := dkwX1_months_1 ++ []
def dkwX1_months_0 : List UInt8 := [42, 182, 0, 112, 42, 42, 180, 0, 28, 42, 180, 0, 35, 182, 0, 129, 181, 0, 44, 167, 0, 9, 76, 43]
abbrev dktX1_months_0 : List UInt8 := dkwX1_months_0 ++ dktX1_months_1
theorem dksX1_months_0 : cX1_months.data.toList.drop 0 = dktX1_months_0 := by decide +kernel
theorem dksX1_months_1 : cX1_months.data.toList.drop 24 = dktX1_months_1 := dk_seg dksX1_months_0 24 rfl rfl
theorem dX1_months_0 : decode cX1_months 0 = .ok (.aload_n 0, 1) := dk_42 (dk_at dksX1_months_0 0 rfl rfl)
theorem dX1_months_1 : decode cX1_months 1 = .ok (.invokevirtual 112, 3) := dk_182 0 112 (dk_at dksX1_months_0 1 rfl rfl)
theorem dX1_months_4 : decode cX1_months 4 = .ok (.aload_n 0, 1) := dk_42 (dk_at dksX1_months_0 4 rfl rfl)
theorem dX1_months_5 : decode cX1_months 5 = .ok (.aload_n 0, 1) := dk_42 (dk_at dksX1_months_0 5 rfl rfl)
theorem dX1_months_6 : decode cX1_months 6 = .ok (.getfield 28, 3) := dk_180 0 28 (dk_at dksX1_months_0 6 rfl rfl)
theorem dX1_months_9 : decode cX1_months 9 = .ok (.aload_n 0, 1) := dk_42 (dk_at dksX1_months_0 9 rfl rfl)
theorem dX1_months_10 : decode cX1_months 10 = .ok (.getfield 35, 3) := dk_180 0 35 (dk_at dksX1_months_0 10 rfl rfl)
theorem dX1_months_13 : decode cX1_months 13 = .ok (.invokevirtual 129, 3) := dk_182 0 129 (dk_at dksX1_months_0 13 rfl rfl)
theorem dX1_months_16 : decode cX1_months 16 = .ok (.putfield 44, 3) := dk_181 0 44 (dk_at dksX1_months_0 16 rfl rfl)
theorem dX1_months_19 : decode cX1_months 19 = .ok (.goto 9, 3) := dk_167 0 9 (dk_at dksX1_months_0 19 rfl rfl)
theorem dX1_months_22 : decode cX1_months 22 = .ok (.astore_n 1, 1) := dk_76 (dk_at dksX1_months_0 22 rfl rfl)
theorem dX1_months_23 : decode cX1_months 23 = .ok (.aload_n 1, 1) := dk_43 (dk_at dksX1_months_0 23 rfl rfl)
theorem dX1_months_24 : decode cX1_months 24 = .ok (.getfield 120, 3) := dk_180 0 120 (dk_at dksX1_months_1 0 rfl rfl)
theorem dX1_months_27 : decode cX1_months 27 = .ok (.ireturn, 1) := dk_172 (dk_at dksX1_months_1 3 rfl rfl)
theorem dX1_months_28 : decode cX1_months 28 = .ok (.iconst 0, 1) := dk_3 (dk_at dksX1_months_1 4 rfl rfl)
theorem dX1_months_29 : decode cX1_months 29 = .ok (.ireturn, 1) := dk_172 (dk_at dksX1_months_1 5 rfl rfl)
abbrev cX1_room : ByteArray := prog_1_method_24_code
def yX1_room : MethodName := ⟨RX1, "room", "(II)I"⟩
def dkwX1_room_3 : List UInt8 := [172, 2, 172]
abbrev dktX1_room_3 : List UInt8 := dkwX1_room_3 ++ []
def dkwX1_room_2 : List UInt8 := [45, 180, 1, 2, 172, 45, 180, 0, 182, 172, 45, 180, 0, 231, 172, 42, 42, 180, 0, 51, 27, 182, 1, 5]
abbrev dktX1_room_2 : List UInt8 := dkwX1_room_2 ++ dktX1_room_3
def dkwX1_room_1 : List UInt8 := [170, 0, 0, 0, 0, 0, 56, 0, 0, 0, 0, 0, 0, 0, 3, 0, 0, 0, 31, 0, 0, 0, 36, 0, 0, 0, 41, 0, 0, 0, 46]
abbrev dktX1_room_1 : List UInt8 := dkwX1_room_1 ++ dktX1_room_2
def dkwX1_room_0 : List UInt8 := [42, 27, 182, 0, 255, 154, 0, 5, 2, 172, 42, 27, 182, 0, 179, 78, 28]
abbrev dktX1_room_0 : List UInt8 := dkwX1_room_0 ++ dktX1_room_1
theorem dksX1_room_0 : cX1_room.data.toList.drop 0 = dktX1_room_0 := by decide +kernel
theorem dksX1_room_1 : cX1_room.data.toList.drop 17 = dktX1_room_1 := dk_seg dksX1_room_0 17 rfl rfl
theorem dksX1_room_2 : cX1_room.data.toList.drop 48 = dktX1_room_2 := dk_seg dksX1_room_1 31 rfl rfl
theorem dksX1_room_3 : cX1_room.data.toList.drop 72 = dktX1_room_3 := dk_seg dksX1_room_2 24 rfl rfl
theorem dX1_room_0 : decode cX1_room 0 = .ok (.aload_n 0, 1) := dk_42 (dk_at dksX1_room_0 0 rfl rfl)
theorem dX1_room_1 : decode cX1_room 1 = .ok (.iload_n 1, 1) := dk_27 (dk_at dksX1_room_0 1 rfl rfl)
theorem dX1_room_2 : decode cX1_room 2 = .ok (.invokevirtual 255, 3) := dk_182 0 255 (dk_at dksX1_room_0 2 rfl rfl)
theorem dX1_room_5 : decode cX1_room 5 = .ok (.ifCond .ne 5, 3) := dk_154 0 5 (dk_at dksX1_room_0 5 rfl rfl)
theorem dX1_room_8 : decode cX1_room 8 = .ok (.iconst (-1), 1) := dk_2 (dk_at dksX1_room_0 8 rfl rfl)
theorem dX1_room_9 : decode cX1_room 9 = .ok (.ireturn, 1) := dk_172 (dk_at dksX1_room_0 9 rfl rfl)
theorem dX1_room_10 : decode cX1_room 10 = .ok (.aload_n 0, 1) := dk_42 (dk_at dksX1_room_0 10 rfl rfl)
theorem dX1_room_11 : decode cX1_room 11 = .ok (.iload_n 1, 1) := dk_27 (dk_at dksX1_room_0 11 rfl rfl)
theorem dX1_room_12 : decode cX1_room 12 = .ok (.invokevirtual 179, 3) := dk_182 0 179 (dk_at dksX1_room_0 12 rfl rfl)
theorem dX1_room_15 : decode cX1_room 15 = .ok (.astore_n 3, 1) := dk_78 (dk_at dksX1_room_0 15 rfl rfl)
theorem dX1_room_16 : decode cX1_room 16 = .ok (.iload_n 2, 1) := dk_28 (dk_at dksX1_room_0 16 rfl rfl)
theorem dX1_room_17 : decode cX1_room 17 = .ok (.tableswitch 56 0 3 #[31, 36, 41, 46], 31) := by decide +kernel
theorem dX1_room_48 : decode cX1_room 48 = .ok (.aload_n 3, 1) := dk_45 (dk_at dksX1_room_2 0 rfl rfl)
theorem dX1_room_49 : decode cX1_room 49 = .ok (.getfield 258, 3) := dk_180 1 2 (dk_at dksX1_room_2 1 rfl rfl)
theorem dX1_room_52 : decode cX1_room 52 = .ok (.ireturn, 1) := dk_172 (dk_at dksX1_room_2 4 rfl rfl)
theorem dX1_room_53 : decode cX1_room 53 = .ok (.aload_n 3, 1) := dk_45 (dk_at dksX1_room_2 5 rfl rfl)
theorem dX1_room_54 : decode cX1_room 54 = .ok (.getfield 182, 3) := dk_180 0 182 (dk_at dksX1_room_2 6 rfl rfl)
theorem dX1_room_57 : decode cX1_room 57 = .ok (.ireturn, 1) := dk_172 (dk_at dksX1_room_2 9 rfl rfl)
theorem dX1_room_58 : decode cX1_room 58 = .ok (.aload_n 3, 1) := dk_45 (dk_at dksX1_room_2 10 rfl rfl)
theorem dX1_room_59 : decode cX1_room 59 = .ok (.getfield 231, 3) := dk_180 0 231 (dk_at dksX1_room_2 11 rfl rfl)
theorem dX1_room_62 : decode cX1_room 62 = .ok (.ireturn, 1) := dk_172 (dk_at dksX1_room_2 14 rfl rfl)
theorem dX1_room_63 : decode cX1_room 63 = .ok (.aload_n 0, 1) := dk_42 (dk_at dksX1_room_2 15 rfl rfl)
theorem dX1_room_64 : decode cX1_room 64 = .ok (.aload_n 0, 1) := dk_42 (dk_at dksX1_room_2 16 rfl rfl)
theorem dX1_room_65 : decode cX1_room 65 = .ok (.getfield 51, 3) := dk_180 0 51 (dk_at dksX1_room_2 17 rfl rfl)
theorem dX1_room_68 : decode cX1_room 68 = .ok (.iload_n 1, 1) := dk_27 (dk_at dksX1_room_2 20 rfl rfl)
theorem dX1_room_69 : decode cX1_room 69 = .ok (.invokevirtual 261, 3) := dk_182 1 5 (dk_at dksX1_room_2 21 rfl rfl)
theorem dX1_room_72 : decode cX1_room 72 = .ok (.ireturn, 1) := dk_172 (dk_at dksX1_room_3 0 rfl rfl)
theorem dX1_room_73 : decode cX1_room 73 = .ok (.iconst (-1), 1) := dk_2 (dk_at dksX1_room_3 1 rfl rfl)
theorem dX1_room_74 : decode cX1_room 74 = .ok (.ireturn, 1) := dk_172 (dk_at dksX1_room_3 2 rfl rfl)
abbrev cX1_isRoom : ByteArray := prog_1_method_15_code
def yX1_isRoom : MethodName := ⟨RX1, "isRoom", "(I)Z"⟩
def dkwX1_isRoom_0 : List UInt8 := [27, 3, 42, 182, 0, 151, 4, 100, 184, 0, 153, 172]
abbrev dktX1_isRoom_0 : List UInt8 := dkwX1_isRoom_0 ++ []
theorem dksX1_isRoom_0 : cX1_isRoom.data.toList.drop 0 = dktX1_isRoom_0 := by decide +kernel
theorem dX1_isRoom_0 : decode cX1_isRoom 0 = .ok (.iload_n 1, 1) := dk_27 (dk_at dksX1_isRoom_0 0 rfl rfl)
theorem dX1_isRoom_1 : decode cX1_isRoom 1 = .ok (.iconst 0, 1) := dk_3 (dk_at dksX1_isRoom_0 1 rfl rfl)
theorem dX1_isRoom_2 : decode cX1_isRoom 2 = .ok (.aload_n 0, 1) := dk_42 (dk_at dksX1_isRoom_0 2 rfl rfl)
theorem dX1_isRoom_3 : decode cX1_isRoom 3 = .ok (.invokevirtual 151, 3) := dk_182 0 151 (dk_at dksX1_isRoom_0 3 rfl rfl)
theorem dX1_isRoom_6 : decode cX1_isRoom 6 = .ok (.iconst 1, 1) := dk_4 (dk_at dksX1_isRoom_0 6 rfl rfl)
theorem dX1_isRoom_7 : decode cX1_isRoom 7 = .ok (.isub, 1) := dk_100 (dk_at dksX1_isRoom_0 7 rfl rfl)
theorem dX1_isRoom_8 : decode cX1_isRoom 8 = .ok (.invokestatic 153, 3) := dk_184 0 153 (dk_at dksX1_isRoom_0 8 rfl rfl)
theorem dX1_isRoom_11 : decode cX1_isRoom 11 = .ok (.ireturn, 1) := dk_172 (dk_at dksX1_isRoom_0 11 rfl rfl)
abbrev cX1_rooms : ByteArray := prog_1_method_11_code
def yX1_rooms : MethodName := ⟨RX1, "rooms", "()I"⟩
def dkwX1_rooms_0 : List UInt8 := [42, 180, 0, 35, 180, 0, 133, 182, 0, 136, 172]
abbrev dktX1_rooms_0 : List UInt8 := dkwX1_rooms_0 ++ []
theorem dksX1_rooms_0 : cX1_rooms.data.toList.drop 0 = dktX1_rooms_0 := by decide +kernel
theorem dX1_rooms_0 : decode cX1_rooms 0 = .ok (.aload_n 0, 1) := dk_42 (dk_at dksX1_rooms_0 0 rfl rfl)
theorem dX1_rooms_1 : decode cX1_rooms 1 = .ok (.getfield 35, 3) := dk_180 0 35 (dk_at dksX1_rooms_0 1 rfl rfl)
theorem dX1_rooms_4 : decode cX1_rooms 4 = .ok (.getfield 133, 3) := dk_180 0 133 (dk_at dksX1_rooms_0 4 rfl rfl)
theorem dX1_rooms_7 : decode cX1_rooms 7 = .ok (.invokevirtual 136, 3) := dk_182 0 136 (dk_at dksX1_rooms_0 7 rfl rfl)
theorem dX1_rooms_10 : decode cX1_rooms 10 = .ok (.ireturn, 1) := dk_172 (dk_at dksX1_rooms_0 10 rfl rfl)
abbrev cX1_in : ByteArray := prog_1_method_1_code
def yX1_in : MethodName := ⟨RX1, "in", "(III)Z"⟩
def dkwX1_in_0 : List UInt8 := [26, 27, 161, 0, 12, 26, 28, 163, 0, 7, 4, 167, 0, 4, 3, 172]
abbrev dktX1_in_0 : List UInt8 := dkwX1_in_0 ++ []
theorem dksX1_in_0 : cX1_in.data.toList.drop 0 = dktX1_in_0 := by decide +kernel
theorem dX1_in_0 : decode cX1_in 0 = .ok (.iload_n 0, 1) := dk_26 (dk_at dksX1_in_0 0 rfl rfl)
theorem dX1_in_1 : decode cX1_in 1 = .ok (.iload_n 1, 1) := dk_27 (dk_at dksX1_in_0 1 rfl rfl)
theorem dX1_in_2 : decode cX1_in 2 = .ok (.if_icmp .lt 12, 3) := dk_161 0 12 (dk_at dksX1_in_0 2 rfl rfl)
theorem dX1_in_5 : decode cX1_in 5 = .ok (.iload_n 0, 1) := dk_26 (dk_at dksX1_in_0 5 rfl rfl)
theorem dX1_in_6 : decode cX1_in 6 = .ok (.iload_n 2, 1) := dk_28 (dk_at dksX1_in_0 6 rfl rfl)
theorem dX1_in_7 : decode cX1_in 7 = .ok (.if_icmp .gt 7, 3) := dk_163 0 7 (dk_at dksX1_in_0 7 rfl rfl)
theorem dX1_in_10 : decode cX1_in 10 = .ok (.iconst 1, 1) := dk_4 (dk_at dksX1_in_0 10 rfl rfl)
theorem dX1_in_11 : decode cX1_in 11 = .ok (.goto 4, 3) := dk_167 0 4 (dk_at dksX1_in_0 11 rfl rfl)
theorem dX1_in_14 : decode cX1_in 14 = .ok (.iconst 0, 1) := dk_3 (dk_at dksX1_in_0 14 rfl rfl)
theorem dX1_in_15 : decode cX1_in 15 = .ok (.ireturn, 1) := dk_172 (dk_at dksX1_in_0 15 rfl rfl)
abbrev cX1_room_2 : ByteArray := prog_1_method_12_code
def yX1_room_2 : MethodName := ⟨RX1, "room", "(I)LPulseRent$Room;"⟩
def dkwX1_room_2_0 : List UInt8 := [42, 180, 0, 35, 180, 0, 133, 27, 182, 0, 140, 192, 0, 144, 176]
abbrev dktX1_room_2_0 : List UInt8 := dkwX1_room_2_0 ++ []
theorem dksX1_room_2_0 : cX1_room_2.data.toList.drop 0 = dktX1_room_2_0 := by decide +kernel
theorem dX1_room_2_0 : decode cX1_room_2 0 = .ok (.aload_n 0, 1) := dk_42 (dk_at dksX1_room_2_0 0 rfl rfl)
theorem dX1_room_2_1 : decode cX1_room_2 1 = .ok (.getfield 35, 3) := dk_180 0 35 (dk_at dksX1_room_2_0 1 rfl rfl)
theorem dX1_room_2_4 : decode cX1_room_2 4 = .ok (.getfield 133, 3) := dk_180 0 133 (dk_at dksX1_room_2_0 4 rfl rfl)
theorem dX1_room_2_7 : decode cX1_room_2 7 = .ok (.iload_n 1, 1) := dk_27 (dk_at dksX1_room_2_0 7 rfl rfl)
theorem dX1_room_2_8 : decode cX1_room_2 8 = .ok (.invokevirtual 140, 3) := dk_182 0 140 (dk_at dksX1_room_2_0 8 rfl rfl)
theorem dX1_room_2_11 : decode cX1_room_2 11 = .ok (.checkcast 144, 3) := dk_192 0 144 (dk_at dksX1_room_2_0 11 rfl rfl)
theorem dX1_room_2_14 : decode cX1_room_2 14 = .ok (.areturn, 1) := dk_176 (dk_at dksX1_room_2_0 14 rfl rfl)
abbrev cX1_whoIn : ByteArray := prog_1_method_25_code
def yX1_whoIn : MethodName := ⟨RX1, "whoIn", "(LPulseRent$State;I)I"⟩
def dkwX1_whoIn_1 : List UInt8 := [132, 3, 1, 167, 255, 233, 2, 172]
abbrev dktX1_whoIn_1 : List UInt8 := dkwX1_whoIn_1 ++ []
def dkwX1_whoIn_0 : List UInt8 := [3, 62, 29, 42, 182, 0, 157, 162, 0, 21, 43, 180, 0, 176, 29, 46, 28, 160, 0, 5, 29, 172]
abbrev dktX1_whoIn_0 : List UInt8 := dkwX1_whoIn_0 ++ dktX1_whoIn_1
theorem dksX1_whoIn_0 : cX1_whoIn.data.toList.drop 0 = dktX1_whoIn_0 := by decide +kernel
theorem dksX1_whoIn_1 : cX1_whoIn.data.toList.drop 22 = dktX1_whoIn_1 := dk_seg dksX1_whoIn_0 22 rfl rfl
theorem dX1_whoIn_0 : decode cX1_whoIn 0 = .ok (.iconst 0, 1) := dk_3 (dk_at dksX1_whoIn_0 0 rfl rfl)
theorem dX1_whoIn_1 : decode cX1_whoIn 1 = .ok (.istore_n 3, 1) := dk_62 (dk_at dksX1_whoIn_0 1 rfl rfl)
theorem dX1_whoIn_2 : decode cX1_whoIn 2 = .ok (.iload_n 3, 1) := dk_29 (dk_at dksX1_whoIn_0 2 rfl rfl)
theorem dX1_whoIn_3 : decode cX1_whoIn 3 = .ok (.aload_n 0, 1) := dk_42 (dk_at dksX1_whoIn_0 3 rfl rfl)
theorem dX1_whoIn_4 : decode cX1_whoIn 4 = .ok (.invokevirtual 157, 3) := dk_182 0 157 (dk_at dksX1_whoIn_0 4 rfl rfl)
theorem dX1_whoIn_7 : decode cX1_whoIn 7 = .ok (.if_icmp .ge 21, 3) := dk_162 0 21 (dk_at dksX1_whoIn_0 7 rfl rfl)
theorem dX1_whoIn_10 : decode cX1_whoIn 10 = .ok (.aload_n 1, 1) := dk_43 (dk_at dksX1_whoIn_0 10 rfl rfl)
theorem dX1_whoIn_11 : decode cX1_whoIn 11 = .ok (.getfield 176, 3) := dk_180 0 176 (dk_at dksX1_whoIn_0 11 rfl rfl)
theorem dX1_whoIn_14 : decode cX1_whoIn 14 = .ok (.iload_n 3, 1) := dk_29 (dk_at dksX1_whoIn_0 14 rfl rfl)
theorem dX1_whoIn_15 : decode cX1_whoIn 15 = .ok (.iaload, 1) := dk_46 (dk_at dksX1_whoIn_0 15 rfl rfl)
theorem dX1_whoIn_16 : decode cX1_whoIn 16 = .ok (.iload_n 2, 1) := dk_28 (dk_at dksX1_whoIn_0 16 rfl rfl)
theorem dX1_whoIn_17 : decode cX1_whoIn 17 = .ok (.if_icmp .ne 5, 3) := dk_160 0 5 (dk_at dksX1_whoIn_0 17 rfl rfl)
theorem dX1_whoIn_20 : decode cX1_whoIn 20 = .ok (.iload_n 3, 1) := dk_29 (dk_at dksX1_whoIn_0 20 rfl rfl)
theorem dX1_whoIn_21 : decode cX1_whoIn 21 = .ok (.ireturn, 1) := dk_172 (dk_at dksX1_whoIn_0 21 rfl rfl)
theorem dX1_whoIn_22 : decode cX1_whoIn 22 = .ok (.iinc 3 1, 3) := dk_132 3 1 (dk_at dksX1_whoIn_1 0 rfl rfl)
theorem dX1_whoIn_25 : decode cX1_whoIn 25 = .ok (.goto (-23), 3) := dk_167 255 233 (dk_at dksX1_whoIn_1 3 rfl rfl)
theorem dX1_whoIn_28 : decode cX1_whoIn 28 = .ok (.iconst (-1), 1) := dk_2 (dk_at dksX1_whoIn_1 6 rfl rfl)
theorem dX1_whoIn_29 : decode cX1_whoIn 29 = .ok (.ireturn, 1) := dk_172 (dk_at dksX1_whoIn_1 7 rfl rfl)
abbrev cX1_tenants : ByteArray := prog_1_method_13_code
def yX1_tenants : MethodName := ⟨RX1, "tenants", "()I"⟩
def dkwX1_tenants_0 : List UInt8 := [42, 180, 0, 35, 180, 0, 146, 182, 0, 136, 172]
abbrev dktX1_tenants_0 : List UInt8 := dkwX1_tenants_0 ++ []
theorem dksX1_tenants_0 : cX1_tenants.data.toList.drop 0 = dktX1_tenants_0 := by decide +kernel
theorem dX1_tenants_0 : decode cX1_tenants 0 = .ok (.aload_n 0, 1) := dk_42 (dk_at dksX1_tenants_0 0 rfl rfl)
theorem dX1_tenants_1 : decode cX1_tenants 1 = .ok (.getfield 35, 3) := dk_180 0 35 (dk_at dksX1_tenants_0 1 rfl rfl)
theorem dX1_tenants_4 : decode cX1_tenants 4 = .ok (.getfield 146, 3) := dk_180 0 146 (dk_at dksX1_tenants_0 4 rfl rfl)
theorem dX1_tenants_7 : decode cX1_tenants 7 = .ok (.invokevirtual 136, 3) := dk_182 0 136 (dk_at dksX1_tenants_0 7 rfl rfl)
theorem dX1_tenants_10 : decode cX1_tenants 10 = .ok (.ireturn, 1) := dk_172 (dk_at dksX1_tenants_0 10 rfl rfl)
abbrev cX1_tenant : ByteArray := prog_1_method_26_code
def yX1_tenant : MethodName := ⟨RX1, "tenant", "(II)I"⟩
def dkwX1_tenant_6 : List UInt8 := [184, 0, 252, 153, 0, 7, 4, 167, 0, 4, 3, 172, 2, 172]
abbrev dktX1_tenant_6 : List UInt8 := dkwX1_tenant_6 ++ []
def dkwX1_tenant_5 : List UInt8 := [180, 1, 14, 27, 46, 172, 42, 180, 0, 51, 180, 0, 199, 27, 46, 172, 42, 180, 0, 51, 180, 0, 249, 27]
abbrev dktX1_tenant_5 : List UInt8 := dkwX1_tenant_5 ++ dktX1_tenant_6
def dkwX1_tenant_4 : List UInt8 := [42, 180, 0, 51, 180, 0, 173, 27, 46, 172, 42, 180, 0, 51, 180, 0, 185, 27, 46, 172, 42, 180, 0, 51]
abbrev dktX1_tenant_4 : List UInt8 := dkwX1_tenant_4 ++ dktX1_tenant_5
def dkwX1_tenant_3 : List UInt8 := [180, 1, 11, 172, 42, 180, 0, 51, 180, 0, 243, 27, 46, 172, 42, 180, 0, 51, 180, 0, 176, 27, 46, 172]
abbrev dktX1_tenant_3 : List UInt8 := dkwX1_tenant_3 ++ dktX1_tenant_4
def dkwX1_tenant_2 : List UInt8 := [42, 27, 182, 0, 166, 182, 0, 234, 172, 42, 27, 182, 0, 166, 180, 1, 8, 172, 42, 27, 182, 0, 166]
abbrev dktX1_tenant_2 : List UInt8 := dkwX1_tenant_2 ++ dktX1_tenant_3
def dkwX1_tenant_1 : List UInt8 := [170, 0, 0, 0, 160, 0, 0, 0, 0, 0, 0, 0, 9, 0, 0, 0, 53, 0, 0, 0, 62, 0, 0, 0, 71, 0, 0, 0, 80, 0, 0, 0, 90, 0, 0, 0, 100, 0, 0, 0, 110, 0, 0, 0, 120, 0, 0, 0, 130, 0, 0, 0, 140]
abbrev dktX1_tenant_1 : List UInt8 := dkwX1_tenant_1 ++ dktX1_tenant_2
def dkwX1_tenant_0 : List UInt8 := [42, 27, 182, 0, 159, 154, 0, 5, 2, 172, 28]
abbrev dktX1_tenant_0 : List UInt8 := dkwX1_tenant_0 ++ dktX1_tenant_1
theorem dksX1_tenant_0 : cX1_tenant.data.toList.drop 0 = dktX1_tenant_0 := by decide +kernel
theorem dksX1_tenant_1 : cX1_tenant.data.toList.drop 11 = dktX1_tenant_1 := dk_seg dksX1_tenant_0 11 rfl rfl
theorem dksX1_tenant_2 : cX1_tenant.data.toList.drop 64 = dktX1_tenant_2 := dk_seg dksX1_tenant_1 53 rfl rfl
theorem dksX1_tenant_3 : cX1_tenant.data.toList.drop 87 = dktX1_tenant_3 := dk_seg dksX1_tenant_2 23 rfl rfl
theorem dksX1_tenant_4 : cX1_tenant.data.toList.drop 111 = dktX1_tenant_4 := dk_seg dksX1_tenant_3 24 rfl rfl
theorem dksX1_tenant_5 : cX1_tenant.data.toList.drop 135 = dktX1_tenant_5 := dk_seg dksX1_tenant_4 24 rfl rfl
theorem dksX1_tenant_6 : cX1_tenant.data.toList.drop 159 = dktX1_tenant_6 := dk_seg dksX1_tenant_5 24 rfl rfl
theorem dX1_tenant_0 : decode cX1_tenant 0 = .ok (.aload_n 0, 1) := dk_42 (dk_at dksX1_tenant_0 0 rfl rfl)
theorem dX1_tenant_1 : decode cX1_tenant 1 = .ok (.iload_n 1, 1) := dk_27 (dk_at dksX1_tenant_0 1 rfl rfl)
theorem dX1_tenant_2 : decode cX1_tenant 2 = .ok (.invokevirtual 159, 3) := dk_182 0 159 (dk_at dksX1_tenant_0 2 rfl rfl)
theorem dX1_tenant_5 : decode cX1_tenant 5 = .ok (.ifCond .ne 5, 3) := dk_154 0 5 (dk_at dksX1_tenant_0 5 rfl rfl)
theorem dX1_tenant_8 : decode cX1_tenant 8 = .ok (.iconst (-1), 1) := dk_2 (dk_at dksX1_tenant_0 8 rfl rfl)
theorem dX1_tenant_9 : decode cX1_tenant 9 = .ok (.ireturn, 1) := dk_172 (dk_at dksX1_tenant_0 9 rfl rfl)
theorem dX1_tenant_10 : decode cX1_tenant 10 = .ok (.iload_n 2, 1) := dk_28 (dk_at dksX1_tenant_0 10 rfl rfl)
theorem dX1_tenant_11 : decode cX1_tenant 11 = .ok (.tableswitch 160 0 9 #[53, 62, 71, 80, 90, 100, 110, 120, 130, 140], 53) := by decide +kernel
theorem dX1_tenant_64 : decode cX1_tenant 64 = .ok (.aload_n 0, 1) := dk_42 (dk_at dksX1_tenant_2 0 rfl rfl)
theorem dX1_tenant_65 : decode cX1_tenant 65 = .ok (.iload_n 1, 1) := dk_27 (dk_at dksX1_tenant_2 1 rfl rfl)
theorem dX1_tenant_66 : decode cX1_tenant 66 = .ok (.invokevirtual 166, 3) := dk_182 0 166 (dk_at dksX1_tenant_2 2 rfl rfl)
theorem dX1_tenant_69 : decode cX1_tenant 69 = .ok (.invokevirtual 234, 3) := dk_182 0 234 (dk_at dksX1_tenant_2 5 rfl rfl)
theorem dX1_tenant_72 : decode cX1_tenant 72 = .ok (.ireturn, 1) := dk_172 (dk_at dksX1_tenant_2 8 rfl rfl)
theorem dX1_tenant_73 : decode cX1_tenant 73 = .ok (.aload_n 0, 1) := dk_42 (dk_at dksX1_tenant_2 9 rfl rfl)
theorem dX1_tenant_74 : decode cX1_tenant 74 = .ok (.iload_n 1, 1) := dk_27 (dk_at dksX1_tenant_2 10 rfl rfl)
theorem dX1_tenant_75 : decode cX1_tenant 75 = .ok (.invokevirtual 166, 3) := dk_182 0 166 (dk_at dksX1_tenant_2 11 rfl rfl)
theorem dX1_tenant_78 : decode cX1_tenant 78 = .ok (.getfield 264, 3) := dk_180 1 8 (dk_at dksX1_tenant_2 14 rfl rfl)
theorem dX1_tenant_81 : decode cX1_tenant 81 = .ok (.ireturn, 1) := dk_172 (dk_at dksX1_tenant_2 17 rfl rfl)
theorem dX1_tenant_82 : decode cX1_tenant 82 = .ok (.aload_n 0, 1) := dk_42 (dk_at dksX1_tenant_2 18 rfl rfl)
theorem dX1_tenant_83 : decode cX1_tenant 83 = .ok (.iload_n 1, 1) := dk_27 (dk_at dksX1_tenant_2 19 rfl rfl)
theorem dX1_tenant_84 : decode cX1_tenant 84 = .ok (.invokevirtual 166, 3) := dk_182 0 166 (dk_at dksX1_tenant_2 20 rfl rfl)
theorem dX1_tenant_87 : decode cX1_tenant 87 = .ok (.getfield 267, 3) := dk_180 1 11 (dk_at dksX1_tenant_3 0 rfl rfl)
theorem dX1_tenant_90 : decode cX1_tenant 90 = .ok (.ireturn, 1) := dk_172 (dk_at dksX1_tenant_3 3 rfl rfl)
theorem dX1_tenant_91 : decode cX1_tenant 91 = .ok (.aload_n 0, 1) := dk_42 (dk_at dksX1_tenant_3 4 rfl rfl)
theorem dX1_tenant_92 : decode cX1_tenant 92 = .ok (.getfield 51, 3) := dk_180 0 51 (dk_at dksX1_tenant_3 5 rfl rfl)
theorem dX1_tenant_95 : decode cX1_tenant 95 = .ok (.getfield 243, 3) := dk_180 0 243 (dk_at dksX1_tenant_3 8 rfl rfl)
theorem dX1_tenant_98 : decode cX1_tenant 98 = .ok (.iload_n 1, 1) := dk_27 (dk_at dksX1_tenant_3 11 rfl rfl)
theorem dX1_tenant_99 : decode cX1_tenant 99 = .ok (.iaload, 1) := dk_46 (dk_at dksX1_tenant_3 12 rfl rfl)
theorem dX1_tenant_100 : decode cX1_tenant 100 = .ok (.ireturn, 1) := dk_172 (dk_at dksX1_tenant_3 13 rfl rfl)
theorem dX1_tenant_101 : decode cX1_tenant 101 = .ok (.aload_n 0, 1) := dk_42 (dk_at dksX1_tenant_3 14 rfl rfl)
theorem dX1_tenant_102 : decode cX1_tenant 102 = .ok (.getfield 51, 3) := dk_180 0 51 (dk_at dksX1_tenant_3 15 rfl rfl)
theorem dX1_tenant_105 : decode cX1_tenant 105 = .ok (.getfield 176, 3) := dk_180 0 176 (dk_at dksX1_tenant_3 18 rfl rfl)
theorem dX1_tenant_108 : decode cX1_tenant 108 = .ok (.iload_n 1, 1) := dk_27 (dk_at dksX1_tenant_3 21 rfl rfl)
theorem dX1_tenant_109 : decode cX1_tenant 109 = .ok (.iaload, 1) := dk_46 (dk_at dksX1_tenant_3 22 rfl rfl)
theorem dX1_tenant_110 : decode cX1_tenant 110 = .ok (.ireturn, 1) := dk_172 (dk_at dksX1_tenant_3 23 rfl rfl)
theorem dX1_tenant_111 : decode cX1_tenant 111 = .ok (.aload_n 0, 1) := dk_42 (dk_at dksX1_tenant_4 0 rfl rfl)
theorem dX1_tenant_112 : decode cX1_tenant 112 = .ok (.getfield 51, 3) := dk_180 0 51 (dk_at dksX1_tenant_4 1 rfl rfl)
theorem dX1_tenant_115 : decode cX1_tenant 115 = .ok (.getfield 173, 3) := dk_180 0 173 (dk_at dksX1_tenant_4 4 rfl rfl)
theorem dX1_tenant_118 : decode cX1_tenant 118 = .ok (.iload_n 1, 1) := dk_27 (dk_at dksX1_tenant_4 7 rfl rfl)
theorem dX1_tenant_119 : decode cX1_tenant 119 = .ok (.iaload, 1) := dk_46 (dk_at dksX1_tenant_4 8 rfl rfl)
theorem dX1_tenant_120 : decode cX1_tenant 120 = .ok (.ireturn, 1) := dk_172 (dk_at dksX1_tenant_4 9 rfl rfl)
theorem dX1_tenant_121 : decode cX1_tenant 121 = .ok (.aload_n 0, 1) := dk_42 (dk_at dksX1_tenant_4 10 rfl rfl)
theorem dX1_tenant_122 : decode cX1_tenant 122 = .ok (.getfield 51, 3) := dk_180 0 51 (dk_at dksX1_tenant_4 11 rfl rfl)
theorem dX1_tenant_125 : decode cX1_tenant 125 = .ok (.getfield 185, 3) := dk_180 0 185 (dk_at dksX1_tenant_4 14 rfl rfl)
theorem dX1_tenant_128 : decode cX1_tenant 128 = .ok (.iload_n 1, 1) := dk_27 (dk_at dksX1_tenant_4 17 rfl rfl)
theorem dX1_tenant_129 : decode cX1_tenant 129 = .ok (.iaload, 1) := dk_46 (dk_at dksX1_tenant_4 18 rfl rfl)
theorem dX1_tenant_130 : decode cX1_tenant 130 = .ok (.ireturn, 1) := dk_172 (dk_at dksX1_tenant_4 19 rfl rfl)
theorem dX1_tenant_131 : decode cX1_tenant 131 = .ok (.aload_n 0, 1) := dk_42 (dk_at dksX1_tenant_4 20 rfl rfl)
theorem dX1_tenant_132 : decode cX1_tenant 132 = .ok (.getfield 51, 3) := dk_180 0 51 (dk_at dksX1_tenant_4 21 rfl rfl)
theorem dX1_tenant_135 : decode cX1_tenant 135 = .ok (.getfield 270, 3) := dk_180 1 14 (dk_at dksX1_tenant_5 0 rfl rfl)
theorem dX1_tenant_138 : decode cX1_tenant 138 = .ok (.iload_n 1, 1) := dk_27 (dk_at dksX1_tenant_5 3 rfl rfl)
theorem dX1_tenant_139 : decode cX1_tenant 139 = .ok (.iaload, 1) := dk_46 (dk_at dksX1_tenant_5 4 rfl rfl)
theorem dX1_tenant_140 : decode cX1_tenant 140 = .ok (.ireturn, 1) := dk_172 (dk_at dksX1_tenant_5 5 rfl rfl)
theorem dX1_tenant_141 : decode cX1_tenant 141 = .ok (.aload_n 0, 1) := dk_42 (dk_at dksX1_tenant_5 6 rfl rfl)
theorem dX1_tenant_142 : decode cX1_tenant 142 = .ok (.getfield 51, 3) := dk_180 0 51 (dk_at dksX1_tenant_5 7 rfl rfl)
theorem dX1_tenant_145 : decode cX1_tenant 145 = .ok (.getfield 199, 3) := dk_180 0 199 (dk_at dksX1_tenant_5 10 rfl rfl)
theorem dX1_tenant_148 : decode cX1_tenant 148 = .ok (.iload_n 1, 1) := dk_27 (dk_at dksX1_tenant_5 13 rfl rfl)
theorem dX1_tenant_149 : decode cX1_tenant 149 = .ok (.iaload, 1) := dk_46 (dk_at dksX1_tenant_5 14 rfl rfl)
theorem dX1_tenant_150 : decode cX1_tenant 150 = .ok (.ireturn, 1) := dk_172 (dk_at dksX1_tenant_5 15 rfl rfl)
theorem dX1_tenant_151 : decode cX1_tenant 151 = .ok (.aload_n 0, 1) := dk_42 (dk_at dksX1_tenant_5 16 rfl rfl)
theorem dX1_tenant_152 : decode cX1_tenant 152 = .ok (.getfield 51, 3) := dk_180 0 51 (dk_at dksX1_tenant_5 17 rfl rfl)
theorem dX1_tenant_155 : decode cX1_tenant 155 = .ok (.getfield 249, 3) := dk_180 0 249 (dk_at dksX1_tenant_5 20 rfl rfl)
theorem dX1_tenant_158 : decode cX1_tenant 158 = .ok (.iload_n 1, 1) := dk_27 (dk_at dksX1_tenant_5 23 rfl rfl)
theorem dX1_tenant_159 : decode cX1_tenant 159 = .ok (.invokestatic 252, 3) := dk_184 0 252 (dk_at dksX1_tenant_6 0 rfl rfl)
theorem dX1_tenant_162 : decode cX1_tenant 162 = .ok (.ifCond .eq 7, 3) := dk_153 0 7 (dk_at dksX1_tenant_6 3 rfl rfl)
theorem dX1_tenant_165 : decode cX1_tenant 165 = .ok (.iconst 1, 1) := dk_4 (dk_at dksX1_tenant_6 6 rfl rfl)
theorem dX1_tenant_166 : decode cX1_tenant 166 = .ok (.goto 4, 3) := dk_167 0 4 (dk_at dksX1_tenant_6 7 rfl rfl)
theorem dX1_tenant_169 : decode cX1_tenant 169 = .ok (.iconst 0, 1) := dk_3 (dk_at dksX1_tenant_6 10 rfl rfl)
theorem dX1_tenant_170 : decode cX1_tenant 170 = .ok (.ireturn, 1) := dk_172 (dk_at dksX1_tenant_6 11 rfl rfl)
theorem dX1_tenant_171 : decode cX1_tenant 171 = .ok (.iconst (-1), 1) := dk_2 (dk_at dksX1_tenant_6 12 rfl rfl)
theorem dX1_tenant_172 : decode cX1_tenant 172 = .ok (.ireturn, 1) := dk_172 (dk_at dksX1_tenant_6 13 rfl rfl)
abbrev cX1_isTenant : ByteArray := prog_1_method_16_code
def yX1_isTenant : MethodName := ⟨RX1, "isTenant", "(I)Z"⟩
def dkwX1_isTenant_0 : List UInt8 := [27, 3, 42, 182, 0, 157, 4, 100, 184, 0, 153, 172]
abbrev dktX1_isTenant_0 : List UInt8 := dkwX1_isTenant_0 ++ []
theorem dksX1_isTenant_0 : cX1_isTenant.data.toList.drop 0 = dktX1_isTenant_0 := by decide +kernel
theorem dX1_isTenant_0 : decode cX1_isTenant 0 = .ok (.iload_n 1, 1) := dk_27 (dk_at dksX1_isTenant_0 0 rfl rfl)
theorem dX1_isTenant_1 : decode cX1_isTenant 1 = .ok (.iconst 0, 1) := dk_3 (dk_at dksX1_isTenant_0 1 rfl rfl)
theorem dX1_isTenant_2 : decode cX1_isTenant 2 = .ok (.aload_n 0, 1) := dk_42 (dk_at dksX1_isTenant_0 2 rfl rfl)
theorem dX1_isTenant_3 : decode cX1_isTenant 3 = .ok (.invokevirtual 157, 3) := dk_182 0 157 (dk_at dksX1_isTenant_0 3 rfl rfl)
theorem dX1_isTenant_6 : decode cX1_isTenant 6 = .ok (.iconst 1, 1) := dk_4 (dk_at dksX1_isTenant_0 6 rfl rfl)
theorem dX1_isTenant_7 : decode cX1_isTenant 7 = .ok (.isub, 1) := dk_100 (dk_at dksX1_isTenant_0 7 rfl rfl)
theorem dX1_isTenant_8 : decode cX1_isTenant 8 = .ok (.invokestatic 153, 3) := dk_184 0 153 (dk_at dksX1_isTenant_0 8 rfl rfl)
theorem dX1_isTenant_11 : decode cX1_isTenant 11 = .ok (.ireturn, 1) := dk_172 (dk_at dksX1_isTenant_0 11 rfl rfl)
abbrev cX1_tenant_2 : ByteArray := prog_1_method_14_code
def yX1_tenant_2 : MethodName := ⟨RX1, "tenant", "(I)LPulseRent$Tenant;"⟩
def dkwX1_tenant_2_0 : List UInt8 := [42, 180, 0, 35, 180, 0, 146, 27, 182, 0, 140, 192, 0, 149, 176]
abbrev dktX1_tenant_2_0 : List UInt8 := dkwX1_tenant_2_0 ++ []
theorem dksX1_tenant_2_0 : cX1_tenant_2.data.toList.drop 0 = dktX1_tenant_2_0 := by decide +kernel
theorem dX1_tenant_2_0 : decode cX1_tenant_2 0 = .ok (.aload_n 0, 1) := dk_42 (dk_at dksX1_tenant_2_0 0 rfl rfl)
theorem dX1_tenant_2_1 : decode cX1_tenant_2 1 = .ok (.getfield 35, 3) := dk_180 0 35 (dk_at dksX1_tenant_2_0 1 rfl rfl)
theorem dX1_tenant_2_4 : decode cX1_tenant_2 4 = .ok (.getfield 146, 3) := dk_180 0 146 (dk_at dksX1_tenant_2_0 4 rfl rfl)
theorem dX1_tenant_2_7 : decode cX1_tenant_2 7 = .ok (.iload_n 1, 1) := dk_27 (dk_at dksX1_tenant_2_0 7 rfl rfl)
theorem dX1_tenant_2_8 : decode cX1_tenant_2 8 = .ok (.invokevirtual 140, 3) := dk_182 0 140 (dk_at dksX1_tenant_2_0 8 rfl rfl)
theorem dX1_tenant_2_11 : decode cX1_tenant_2 11 = .ok (.checkcast 149, 3) := dk_192 0 149 (dk_at dksX1_tenant_2_0 11 rfl rfl)
theorem dX1_tenant_2_14 : decode cX1_tenant_2 14 = .ok (.areturn, 1) := dk_176 (dk_at dksX1_tenant_2_0 14 rfl rfl)
abbrev cX1_pulse : ByteArray := prog_1_method_27_code
def yX1_pulse : MethodName := ⟨RX1, "pulse", "(I)I"⟩
def dkwX1_pulse_1 : List UInt8 := [167, 0, 4, 2, 172]
abbrev dktX1_pulse_1 : List UInt8 := dkwX1_pulse_1 ++ []
def dkwX1_pulse_0 : List UInt8 := [42, 27, 182, 1, 17, 153, 0, 22, 42, 42, 180, 0, 51, 27, 42, 180, 0, 35, 182, 0, 210, 182, 0, 202]
abbrev dktX1_pulse_0 : List UInt8 := dkwX1_pulse_0 ++ dktX1_pulse_1
theorem dksX1_pulse_0 : cX1_pulse.data.toList.drop 0 = dktX1_pulse_0 := by decide +kernel
theorem dksX1_pulse_1 : cX1_pulse.data.toList.drop 24 = dktX1_pulse_1 := dk_seg dksX1_pulse_0 24 rfl rfl
theorem dX1_pulse_0 : decode cX1_pulse 0 = .ok (.aload_n 0, 1) := dk_42 (dk_at dksX1_pulse_0 0 rfl rfl)
theorem dX1_pulse_1 : decode cX1_pulse 1 = .ok (.iload_n 1, 1) := dk_27 (dk_at dksX1_pulse_0 1 rfl rfl)
theorem dX1_pulse_2 : decode cX1_pulse 2 = .ok (.invokevirtual 273, 3) := dk_182 1 17 (dk_at dksX1_pulse_0 2 rfl rfl)
theorem dX1_pulse_5 : decode cX1_pulse 5 = .ok (.ifCond .eq 22, 3) := dk_153 0 22 (dk_at dksX1_pulse_0 5 rfl rfl)
theorem dX1_pulse_8 : decode cX1_pulse 8 = .ok (.aload_n 0, 1) := dk_42 (dk_at dksX1_pulse_0 8 rfl rfl)
theorem dX1_pulse_9 : decode cX1_pulse 9 = .ok (.aload_n 0, 1) := dk_42 (dk_at dksX1_pulse_0 9 rfl rfl)
theorem dX1_pulse_10 : decode cX1_pulse 10 = .ok (.getfield 51, 3) := dk_180 0 51 (dk_at dksX1_pulse_0 10 rfl rfl)
theorem dX1_pulse_13 : decode cX1_pulse 13 = .ok (.iload_n 1, 1) := dk_27 (dk_at dksX1_pulse_0 13 rfl rfl)
theorem dX1_pulse_14 : decode cX1_pulse 14 = .ok (.aload_n 0, 1) := dk_42 (dk_at dksX1_pulse_0 14 rfl rfl)
theorem dX1_pulse_15 : decode cX1_pulse 15 = .ok (.getfield 35, 3) := dk_180 0 35 (dk_at dksX1_pulse_0 15 rfl rfl)
theorem dX1_pulse_18 : decode cX1_pulse 18 = .ok (.invokevirtual 210, 3) := dk_182 0 210 (dk_at dksX1_pulse_0 18 rfl rfl)
theorem dX1_pulse_21 : decode cX1_pulse 21 = .ok (.invokevirtual 202, 3) := dk_182 0 202 (dk_at dksX1_pulse_0 21 rfl rfl)
theorem dX1_pulse_24 : decode cX1_pulse 24 = .ok (.goto 4, 3) := dk_167 0 4 (dk_at dksX1_pulse_1 0 rfl rfl)
theorem dX1_pulse_27 : decode cX1_pulse 27 = .ok (.iconst (-1), 1) := dk_2 (dk_at dksX1_pulse_1 3 rfl rfl)
theorem dX1_pulse_28 : decode cX1_pulse 28 = .ok (.ireturn, 1) := dk_172 (dk_at dksX1_pulse_1 4 rfl rfl)
abbrev cX1_isHome : ByteArray := prog_1_method_17_code
def yX1_isHome : MethodName := ⟨RX1, "isHome", "(I)Z"⟩
def dkwX1_isHome_1 : List UInt8 := [172]
abbrev dktX1_isHome_1 : List UInt8 := dkwX1_isHome_1 ++ []
def dkwX1_isHome_0 : List UInt8 := [42, 27, 182, 0, 159, 153, 0, 18, 42, 180, 0, 51, 27, 182, 0, 163, 153, 0, 7, 4, 167, 0, 4, 3]
abbrev dktX1_isHome_0 : List UInt8 := dkwX1_isHome_0 ++ dktX1_isHome_1
theorem dksX1_isHome_0 : cX1_isHome.data.toList.drop 0 = dktX1_isHome_0 := by decide +kernel
theorem dksX1_isHome_1 : cX1_isHome.data.toList.drop 24 = dktX1_isHome_1 := dk_seg dksX1_isHome_0 24 rfl rfl
theorem dX1_isHome_0 : decode cX1_isHome 0 = .ok (.aload_n 0, 1) := dk_42 (dk_at dksX1_isHome_0 0 rfl rfl)
theorem dX1_isHome_1 : decode cX1_isHome 1 = .ok (.iload_n 1, 1) := dk_27 (dk_at dksX1_isHome_0 1 rfl rfl)
theorem dX1_isHome_2 : decode cX1_isHome 2 = .ok (.invokevirtual 159, 3) := dk_182 0 159 (dk_at dksX1_isHome_0 2 rfl rfl)
theorem dX1_isHome_5 : decode cX1_isHome 5 = .ok (.ifCond .eq 18, 3) := dk_153 0 18 (dk_at dksX1_isHome_0 5 rfl rfl)
theorem dX1_isHome_8 : decode cX1_isHome 8 = .ok (.aload_n 0, 1) := dk_42 (dk_at dksX1_isHome_0 8 rfl rfl)
theorem dX1_isHome_9 : decode cX1_isHome 9 = .ok (.getfield 51, 3) := dk_180 0 51 (dk_at dksX1_isHome_0 9 rfl rfl)
theorem dX1_isHome_12 : decode cX1_isHome 12 = .ok (.iload_n 1, 1) := dk_27 (dk_at dksX1_isHome_0 12 rfl rfl)
theorem dX1_isHome_13 : decode cX1_isHome 13 = .ok (.invokevirtual 163, 3) := dk_182 0 163 (dk_at dksX1_isHome_0 13 rfl rfl)
theorem dX1_isHome_16 : decode cX1_isHome 16 = .ok (.ifCond .eq 7, 3) := dk_153 0 7 (dk_at dksX1_isHome_0 16 rfl rfl)
theorem dX1_isHome_19 : decode cX1_isHome 19 = .ok (.iconst 1, 1) := dk_4 (dk_at dksX1_isHome_0 19 rfl rfl)
theorem dX1_isHome_20 : decode cX1_isHome 20 = .ok (.goto 4, 3) := dk_167 0 4 (dk_at dksX1_isHome_0 20 rfl rfl)
theorem dX1_isHome_23 : decode cX1_isHome 23 = .ok (.iconst 0, 1) := dk_3 (dk_at dksX1_isHome_0 23 rfl rfl)
theorem dX1_isHome_24 : decode cX1_isHome 24 = .ok (.ireturn, 1) := dk_172 (dk_at dksX1_isHome_1 0 rfl rfl)
abbrev cX1_pulse_2 : ByteArray := prog_1_method_18_code
def yX1_pulse_2 : MethodName := ⟨RX1, "pulse", "(LPulseRent$State;II)I"⟩
def dkwX1_pulse_2_3 : List UInt8 := [184, 0, 1, 172]
abbrev dktX1_pulse_2_3 : List UInt8 := dkwX1_pulse_2_3 ++ []
def dkwX1_pulse_2_2 : List UInt8 := [54, 5, 25, 4, 180, 0, 188, 43, 182, 0, 191, 126, 153, 0, 6, 132, 5, 8, 17, 0, 240, 21, 5]
abbrev dktX1_pulse_2_2 : List UInt8 := dkwX1_pulse_2_2 ++ dktX1_pulse_2_3
def dkwX1_pulse_2_1 : List UInt8 := [28, 46, 182, 0, 179, 180, 0, 182, 96, 54, 5, 43, 180, 0, 185, 28, 46, 158, 0, 9, 21, 5, 29, 96]
abbrev dktX1_pulse_2_1 : List UInt8 := dkwX1_pulse_2_1 ++ dktX1_pulse_2_2
def dkwX1_pulse_2_0 : List UInt8 := [42, 28, 182, 0, 166, 58, 4, 25, 4, 182, 0, 170, 43, 180, 0, 173, 28, 46, 96, 42, 43, 180, 0, 176]
abbrev dktX1_pulse_2_0 : List UInt8 := dkwX1_pulse_2_0 ++ dktX1_pulse_2_1
theorem dksX1_pulse_2_0 : cX1_pulse_2.data.toList.drop 0 = dktX1_pulse_2_0 := by decide +kernel
theorem dksX1_pulse_2_1 : cX1_pulse_2.data.toList.drop 24 = dktX1_pulse_2_1 := dk_seg dksX1_pulse_2_0 24 rfl rfl
theorem dksX1_pulse_2_2 : cX1_pulse_2.data.toList.drop 48 = dktX1_pulse_2_2 := dk_seg dksX1_pulse_2_1 24 rfl rfl
theorem dksX1_pulse_2_3 : cX1_pulse_2.data.toList.drop 71 = dktX1_pulse_2_3 := dk_seg dksX1_pulse_2_2 23 rfl rfl
theorem dX1_pulse_2_0 : decode cX1_pulse_2 0 = .ok (.aload_n 0, 1) := dk_42 (dk_at dksX1_pulse_2_0 0 rfl rfl)
theorem dX1_pulse_2_1 : decode cX1_pulse_2 1 = .ok (.iload_n 2, 1) := dk_28 (dk_at dksX1_pulse_2_0 1 rfl rfl)
theorem dX1_pulse_2_2 : decode cX1_pulse_2 2 = .ok (.invokevirtual 166, 3) := dk_182 0 166 (dk_at dksX1_pulse_2_0 2 rfl rfl)
theorem dX1_pulse_2_5 : decode cX1_pulse_2 5 = .ok (.astore 4, 2) := dk_58 4 (dk_at dksX1_pulse_2_0 5 rfl rfl)
theorem dX1_pulse_2_7 : decode cX1_pulse_2 7 = .ok (.aload 4, 2) := dk_25 4 (dk_at dksX1_pulse_2_0 7 rfl rfl)
theorem dX1_pulse_2_9 : decode cX1_pulse_2 9 = .ok (.invokevirtual 170, 3) := dk_182 0 170 (dk_at dksX1_pulse_2_0 9 rfl rfl)
theorem dX1_pulse_2_12 : decode cX1_pulse_2 12 = .ok (.aload_n 1, 1) := dk_43 (dk_at dksX1_pulse_2_0 12 rfl rfl)
theorem dX1_pulse_2_13 : decode cX1_pulse_2 13 = .ok (.getfield 173, 3) := dk_180 0 173 (dk_at dksX1_pulse_2_0 13 rfl rfl)
theorem dX1_pulse_2_16 : decode cX1_pulse_2 16 = .ok (.iload_n 2, 1) := dk_28 (dk_at dksX1_pulse_2_0 16 rfl rfl)
theorem dX1_pulse_2_17 : decode cX1_pulse_2 17 = .ok (.iaload, 1) := dk_46 (dk_at dksX1_pulse_2_0 17 rfl rfl)
theorem dX1_pulse_2_18 : decode cX1_pulse_2 18 = .ok (.iadd, 1) := dk_96 (dk_at dksX1_pulse_2_0 18 rfl rfl)
theorem dX1_pulse_2_19 : decode cX1_pulse_2 19 = .ok (.aload_n 0, 1) := dk_42 (dk_at dksX1_pulse_2_0 19 rfl rfl)
theorem dX1_pulse_2_20 : decode cX1_pulse_2 20 = .ok (.aload_n 1, 1) := dk_43 (dk_at dksX1_pulse_2_0 20 rfl rfl)
theorem dX1_pulse_2_21 : decode cX1_pulse_2 21 = .ok (.getfield 176, 3) := dk_180 0 176 (dk_at dksX1_pulse_2_0 21 rfl rfl)
theorem dX1_pulse_2_24 : decode cX1_pulse_2 24 = .ok (.iload_n 2, 1) := dk_28 (dk_at dksX1_pulse_2_1 0 rfl rfl)
theorem dX1_pulse_2_25 : decode cX1_pulse_2 25 = .ok (.iaload, 1) := dk_46 (dk_at dksX1_pulse_2_1 1 rfl rfl)
theorem dX1_pulse_2_26 : decode cX1_pulse_2 26 = .ok (.invokevirtual 179, 3) := dk_182 0 179 (dk_at dksX1_pulse_2_1 2 rfl rfl)
theorem dX1_pulse_2_29 : decode cX1_pulse_2 29 = .ok (.getfield 182, 3) := dk_180 0 182 (dk_at dksX1_pulse_2_1 5 rfl rfl)
theorem dX1_pulse_2_32 : decode cX1_pulse_2 32 = .ok (.iadd, 1) := dk_96 (dk_at dksX1_pulse_2_1 8 rfl rfl)
theorem dX1_pulse_2_33 : decode cX1_pulse_2 33 = .ok (.istore 5, 2) := dk_54 5 (dk_at dksX1_pulse_2_1 9 rfl rfl)
theorem dX1_pulse_2_35 : decode cX1_pulse_2 35 = .ok (.aload_n 1, 1) := dk_43 (dk_at dksX1_pulse_2_1 11 rfl rfl)
theorem dX1_pulse_2_36 : decode cX1_pulse_2 36 = .ok (.getfield 185, 3) := dk_180 0 185 (dk_at dksX1_pulse_2_1 12 rfl rfl)
theorem dX1_pulse_2_39 : decode cX1_pulse_2 39 = .ok (.iload_n 2, 1) := dk_28 (dk_at dksX1_pulse_2_1 15 rfl rfl)
theorem dX1_pulse_2_40 : decode cX1_pulse_2 40 = .ok (.iaload, 1) := dk_46 (dk_at dksX1_pulse_2_1 16 rfl rfl)
theorem dX1_pulse_2_41 : decode cX1_pulse_2 41 = .ok (.ifCond .le 9, 3) := dk_158 0 9 (dk_at dksX1_pulse_2_1 17 rfl rfl)
theorem dX1_pulse_2_44 : decode cX1_pulse_2 44 = .ok (.iload 5, 2) := dk_21 5 (dk_at dksX1_pulse_2_1 20 rfl rfl)
theorem dX1_pulse_2_46 : decode cX1_pulse_2 46 = .ok (.iload_n 3, 1) := dk_29 (dk_at dksX1_pulse_2_1 22 rfl rfl)
theorem dX1_pulse_2_47 : decode cX1_pulse_2 47 = .ok (.iadd, 1) := dk_96 (dk_at dksX1_pulse_2_1 23 rfl rfl)
theorem dX1_pulse_2_48 : decode cX1_pulse_2 48 = .ok (.istore 5, 2) := dk_54 5 (dk_at dksX1_pulse_2_2 0 rfl rfl)
theorem dX1_pulse_2_50 : decode cX1_pulse_2 50 = .ok (.aload 4, 2) := dk_25 4 (dk_at dksX1_pulse_2_2 2 rfl rfl)
theorem dX1_pulse_2_52 : decode cX1_pulse_2 52 = .ok (.getfield 188, 3) := dk_180 0 188 (dk_at dksX1_pulse_2_2 4 rfl rfl)
theorem dX1_pulse_2_55 : decode cX1_pulse_2 55 = .ok (.aload_n 1, 1) := dk_43 (dk_at dksX1_pulse_2_2 7 rfl rfl)
theorem dX1_pulse_2_56 : decode cX1_pulse_2 56 = .ok (.invokevirtual 191, 3) := dk_182 0 191 (dk_at dksX1_pulse_2_2 8 rfl rfl)
theorem dX1_pulse_2_59 : decode cX1_pulse_2 59 = .ok (.iand, 1) := dk_126 (dk_at dksX1_pulse_2_2 11 rfl rfl)
theorem dX1_pulse_2_60 : decode cX1_pulse_2 60 = .ok (.ifCond .eq 6, 3) := dk_153 0 6 (dk_at dksX1_pulse_2_2 12 rfl rfl)
theorem dX1_pulse_2_63 : decode cX1_pulse_2 63 = .ok (.iinc 5 8, 3) := dk_132 5 8 (dk_at dksX1_pulse_2_2 15 rfl rfl)
theorem dX1_pulse_2_66 : decode cX1_pulse_2 66 = .ok (.sipush 240, 3) := dk_17 0 240 (dk_at dksX1_pulse_2_2 18 rfl rfl)
theorem dX1_pulse_2_69 : decode cX1_pulse_2 69 = .ok (.iload 5, 2) := dk_21 5 (dk_at dksX1_pulse_2_2 21 rfl rfl)
theorem dX1_pulse_2_71 : decode cX1_pulse_2 71 = .ok (.invokestatic 1, 3) := dk_184 0 1 (dk_at dksX1_pulse_2_3 0 rfl rfl)
theorem dX1_pulse_2_74 : decode cX1_pulse_2 74 = .ok (.ireturn, 1) := dk_172 (dk_at dksX1_pulse_2_3 3 rfl rfl)
abbrev cX1_climb : ByteArray := prog_1_method_31_code
def yX1_climb : MethodName := ⟨RX1, "climb", "(I)I"⟩
def dkwX1_climb_1 : List UInt8 := [180, 0, 51, 180, 0, 173, 27, 46, 172]
abbrev dktX1_climb_1 : List UInt8 := dkwX1_climb_1 ++ []
def dkwX1_climb_0 : List UInt8 := [42, 27, 182, 1, 17, 154, 0, 5, 2, 172, 42, 182, 1, 27, 42, 42, 180, 0, 51, 27, 182, 1, 30, 42]
abbrev dktX1_climb_0 : List UInt8 := dkwX1_climb_0 ++ dktX1_climb_1
theorem dksX1_climb_0 : cX1_climb.data.toList.drop 0 = dktX1_climb_0 := by decide +kernel
theorem dksX1_climb_1 : cX1_climb.data.toList.drop 24 = dktX1_climb_1 := dk_seg dksX1_climb_0 24 rfl rfl
theorem dX1_climb_0 : decode cX1_climb 0 = .ok (.aload_n 0, 1) := dk_42 (dk_at dksX1_climb_0 0 rfl rfl)
theorem dX1_climb_1 : decode cX1_climb 1 = .ok (.iload_n 1, 1) := dk_27 (dk_at dksX1_climb_0 1 rfl rfl)
theorem dX1_climb_2 : decode cX1_climb 2 = .ok (.invokevirtual 273, 3) := dk_182 1 17 (dk_at dksX1_climb_0 2 rfl rfl)
theorem dX1_climb_5 : decode cX1_climb 5 = .ok (.ifCond .ne 5, 3) := dk_154 0 5 (dk_at dksX1_climb_0 5 rfl rfl)
theorem dX1_climb_8 : decode cX1_climb 8 = .ok (.iconst (-1), 1) := dk_2 (dk_at dksX1_climb_0 8 rfl rfl)
theorem dX1_climb_9 : decode cX1_climb 9 = .ok (.ireturn, 1) := dk_172 (dk_at dksX1_climb_0 9 rfl rfl)
theorem dX1_climb_10 : decode cX1_climb 10 = .ok (.aload_n 0, 1) := dk_42 (dk_at dksX1_climb_0 10 rfl rfl)
theorem dX1_climb_11 : decode cX1_climb 11 = .ok (.invokevirtual 283, 3) := dk_182 1 27 (dk_at dksX1_climb_0 11 rfl rfl)
theorem dX1_climb_14 : decode cX1_climb 14 = .ok (.aload_n 0, 1) := dk_42 (dk_at dksX1_climb_0 14 rfl rfl)
theorem dX1_climb_15 : decode cX1_climb 15 = .ok (.aload_n 0, 1) := dk_42 (dk_at dksX1_climb_0 15 rfl rfl)
theorem dX1_climb_16 : decode cX1_climb 16 = .ok (.getfield 51, 3) := dk_180 0 51 (dk_at dksX1_climb_0 16 rfl rfl)
theorem dX1_climb_19 : decode cX1_climb 19 = .ok (.iload_n 1, 1) := dk_27 (dk_at dksX1_climb_0 19 rfl rfl)
theorem dX1_climb_20 : decode cX1_climb 20 = .ok (.invokevirtual 286, 3) := dk_182 1 30 (dk_at dksX1_climb_0 20 rfl rfl)
theorem dX1_climb_23 : decode cX1_climb 23 = .ok (.aload_n 0, 1) := dk_42 (dk_at dksX1_climb_0 23 rfl rfl)
theorem dX1_climb_24 : decode cX1_climb 24 = .ok (.getfield 51, 3) := dk_180 0 51 (dk_at dksX1_climb_1 0 rfl rfl)
theorem dX1_climb_27 : decode cX1_climb 27 = .ok (.getfield 173, 3) := dk_180 0 173 (dk_at dksX1_climb_1 3 rfl rfl)
theorem dX1_climb_30 : decode cX1_climb 30 = .ok (.iload_n 1, 1) := dk_27 (dk_at dksX1_climb_1 6 rfl rfl)
theorem dX1_climb_31 : decode cX1_climb 31 = .ok (.iaload, 1) := dk_46 (dk_at dksX1_climb_1 7 rfl rfl)
theorem dX1_climb_32 : decode cX1_climb 32 = .ok (.ireturn, 1) := dk_172 (dk_at dksX1_climb_1 8 rfl rfl)
abbrev cX1_keeps : ByteArray := prog_1_method_28_code
def yX1_keeps : MethodName := ⟨RX1, "keeps", "()V"⟩
def dkwX1_keeps_4 : List UInt8 := [180, 0, 62, 42, 89, 180, 0, 126, 90, 4, 96, 181, 0, 126, 50, 42, 180, 0, 51, 182, 1, 20, 177]
abbrev dktX1_keeps_4 : List UInt8 := dkwX1_keeps_4 ++ []
def dkwX1_keeps_3 : List UInt8 := [180, 0, 126, 50, 199, 0, 19, 42, 180, 0, 62, 42, 180, 0, 126, 187, 0, 48, 89, 183, 0, 50, 83, 42]
abbrev dktX1_keeps_3 : List UInt8 := dkwX1_keeps_3 ++ dktX1_keeps_4
def dkwX1_keeps_2 : List UInt8 := [180, 0, 62, 16, 15, 43, 83, 42, 89, 180, 0, 126, 4, 100, 181, 0, 126, 42, 180, 0, 62, 42]
abbrev dktX1_keeps_2 : List UInt8 := dkwX1_keeps_2 ++ dktX1_keeps_3
def dkwX1_keeps_1 : List UInt8 := [162, 0, 23, 42, 180, 0, 62, 28, 42, 180, 0, 62, 28, 4, 96, 50, 83, 132, 2, 1, 167, 255, 231, 42]
abbrev dktX1_keeps_1 : List UInt8 := dkwX1_keeps_1 ++ dktX1_keeps_2
def dkwX1_keeps_0 : List UInt8 := [42, 180, 0, 126, 16, 16, 160, 0, 58, 42, 180, 0, 62, 3, 50, 76, 3, 61, 28, 4, 96, 16, 16]
abbrev dktX1_keeps_0 : List UInt8 := dkwX1_keeps_0 ++ dktX1_keeps_1
theorem dksX1_keeps_0 : cX1_keeps.data.toList.drop 0 = dktX1_keeps_0 := by decide +kernel
theorem dksX1_keeps_1 : cX1_keeps.data.toList.drop 23 = dktX1_keeps_1 := dk_seg dksX1_keeps_0 23 rfl rfl
theorem dksX1_keeps_2 : cX1_keeps.data.toList.drop 47 = dktX1_keeps_2 := dk_seg dksX1_keeps_1 24 rfl rfl
theorem dksX1_keeps_3 : cX1_keeps.data.toList.drop 69 = dktX1_keeps_3 := dk_seg dksX1_keeps_2 22 rfl rfl
theorem dksX1_keeps_4 : cX1_keeps.data.toList.drop 93 = dktX1_keeps_4 := dk_seg dksX1_keeps_3 24 rfl rfl
theorem dX1_keeps_0 : decode cX1_keeps 0 = .ok (.aload_n 0, 1) := dk_42 (dk_at dksX1_keeps_0 0 rfl rfl)
theorem dX1_keeps_1 : decode cX1_keeps 1 = .ok (.getfield 126, 3) := dk_180 0 126 (dk_at dksX1_keeps_0 1 rfl rfl)
theorem dX1_keeps_4 : decode cX1_keeps 4 = .ok (.bipush 16, 2) := dk_16 16 (dk_at dksX1_keeps_0 4 rfl rfl)
theorem dX1_keeps_6 : decode cX1_keeps 6 = .ok (.if_icmp .ne 58, 3) := dk_160 0 58 (dk_at dksX1_keeps_0 6 rfl rfl)
theorem dX1_keeps_9 : decode cX1_keeps 9 = .ok (.aload_n 0, 1) := dk_42 (dk_at dksX1_keeps_0 9 rfl rfl)
theorem dX1_keeps_10 : decode cX1_keeps 10 = .ok (.getfield 62, 3) := dk_180 0 62 (dk_at dksX1_keeps_0 10 rfl rfl)
theorem dX1_keeps_13 : decode cX1_keeps 13 = .ok (.iconst 0, 1) := dk_3 (dk_at dksX1_keeps_0 13 rfl rfl)
theorem dX1_keeps_14 : decode cX1_keeps 14 = .ok (.aaload, 1) := dk_50 (dk_at dksX1_keeps_0 14 rfl rfl)
theorem dX1_keeps_15 : decode cX1_keeps 15 = .ok (.astore_n 1, 1) := dk_76 (dk_at dksX1_keeps_0 15 rfl rfl)
theorem dX1_keeps_16 : decode cX1_keeps 16 = .ok (.iconst 0, 1) := dk_3 (dk_at dksX1_keeps_0 16 rfl rfl)
theorem dX1_keeps_17 : decode cX1_keeps 17 = .ok (.istore_n 2, 1) := dk_61 (dk_at dksX1_keeps_0 17 rfl rfl)
theorem dX1_keeps_18 : decode cX1_keeps 18 = .ok (.iload_n 2, 1) := dk_28 (dk_at dksX1_keeps_0 18 rfl rfl)
theorem dX1_keeps_19 : decode cX1_keeps 19 = .ok (.iconst 1, 1) := dk_4 (dk_at dksX1_keeps_0 19 rfl rfl)
theorem dX1_keeps_20 : decode cX1_keeps 20 = .ok (.iadd, 1) := dk_96 (dk_at dksX1_keeps_0 20 rfl rfl)
theorem dX1_keeps_21 : decode cX1_keeps 21 = .ok (.bipush 16, 2) := dk_16 16 (dk_at dksX1_keeps_0 21 rfl rfl)
theorem dX1_keeps_23 : decode cX1_keeps 23 = .ok (.if_icmp .ge 23, 3) := dk_162 0 23 (dk_at dksX1_keeps_1 0 rfl rfl)
theorem dX1_keeps_26 : decode cX1_keeps 26 = .ok (.aload_n 0, 1) := dk_42 (dk_at dksX1_keeps_1 3 rfl rfl)
theorem dX1_keeps_27 : decode cX1_keeps 27 = .ok (.getfield 62, 3) := dk_180 0 62 (dk_at dksX1_keeps_1 4 rfl rfl)
theorem dX1_keeps_30 : decode cX1_keeps 30 = .ok (.iload_n 2, 1) := dk_28 (dk_at dksX1_keeps_1 7 rfl rfl)
theorem dX1_keeps_31 : decode cX1_keeps 31 = .ok (.aload_n 0, 1) := dk_42 (dk_at dksX1_keeps_1 8 rfl rfl)
theorem dX1_keeps_32 : decode cX1_keeps 32 = .ok (.getfield 62, 3) := dk_180 0 62 (dk_at dksX1_keeps_1 9 rfl rfl)
theorem dX1_keeps_35 : decode cX1_keeps 35 = .ok (.iload_n 2, 1) := dk_28 (dk_at dksX1_keeps_1 12 rfl rfl)
theorem dX1_keeps_36 : decode cX1_keeps 36 = .ok (.iconst 1, 1) := dk_4 (dk_at dksX1_keeps_1 13 rfl rfl)
theorem dX1_keeps_37 : decode cX1_keeps 37 = .ok (.iadd, 1) := dk_96 (dk_at dksX1_keeps_1 14 rfl rfl)
theorem dX1_keeps_38 : decode cX1_keeps 38 = .ok (.aaload, 1) := dk_50 (dk_at dksX1_keeps_1 15 rfl rfl)
theorem dX1_keeps_39 : decode cX1_keeps 39 = .ok (.aastore, 1) := dk_83 (dk_at dksX1_keeps_1 16 rfl rfl)
theorem dX1_keeps_40 : decode cX1_keeps 40 = .ok (.iinc 2 1, 3) := dk_132 2 1 (dk_at dksX1_keeps_1 17 rfl rfl)
theorem dX1_keeps_43 : decode cX1_keeps 43 = .ok (.goto (-25), 3) := dk_167 255 231 (dk_at dksX1_keeps_1 20 rfl rfl)
theorem dX1_keeps_46 : decode cX1_keeps 46 = .ok (.aload_n 0, 1) := dk_42 (dk_at dksX1_keeps_1 23 rfl rfl)
theorem dX1_keeps_47 : decode cX1_keeps 47 = .ok (.getfield 62, 3) := dk_180 0 62 (dk_at dksX1_keeps_2 0 rfl rfl)
theorem dX1_keeps_50 : decode cX1_keeps 50 = .ok (.bipush 15, 2) := dk_16 15 (dk_at dksX1_keeps_2 3 rfl rfl)
theorem dX1_keeps_52 : decode cX1_keeps 52 = .ok (.aload_n 1, 1) := dk_43 (dk_at dksX1_keeps_2 5 rfl rfl)
theorem dX1_keeps_53 : decode cX1_keeps 53 = .ok (.aastore, 1) := dk_83 (dk_at dksX1_keeps_2 6 rfl rfl)
theorem dX1_keeps_54 : decode cX1_keeps 54 = .ok (.aload_n 0, 1) := dk_42 (dk_at dksX1_keeps_2 7 rfl rfl)
theorem dX1_keeps_55 : decode cX1_keeps 55 = .ok (.dup, 1) := dk_89 (dk_at dksX1_keeps_2 8 rfl rfl)
theorem dX1_keeps_56 : decode cX1_keeps 56 = .ok (.getfield 126, 3) := dk_180 0 126 (dk_at dksX1_keeps_2 9 rfl rfl)
theorem dX1_keeps_59 : decode cX1_keeps 59 = .ok (.iconst 1, 1) := dk_4 (dk_at dksX1_keeps_2 12 rfl rfl)
theorem dX1_keeps_60 : decode cX1_keeps 60 = .ok (.isub, 1) := dk_100 (dk_at dksX1_keeps_2 13 rfl rfl)
theorem dX1_keeps_61 : decode cX1_keeps 61 = .ok (.putfield 126, 3) := dk_181 0 126 (dk_at dksX1_keeps_2 14 rfl rfl)
theorem dX1_keeps_64 : decode cX1_keeps 64 = .ok (.aload_n 0, 1) := dk_42 (dk_at dksX1_keeps_2 17 rfl rfl)
theorem dX1_keeps_65 : decode cX1_keeps 65 = .ok (.getfield 62, 3) := dk_180 0 62 (dk_at dksX1_keeps_2 18 rfl rfl)
theorem dX1_keeps_68 : decode cX1_keeps 68 = .ok (.aload_n 0, 1) := dk_42 (dk_at dksX1_keeps_2 21 rfl rfl)
theorem dX1_keeps_69 : decode cX1_keeps 69 = .ok (.getfield 126, 3) := dk_180 0 126 (dk_at dksX1_keeps_3 0 rfl rfl)
theorem dX1_keeps_72 : decode cX1_keeps 72 = .ok (.aaload, 1) := dk_50 (dk_at dksX1_keeps_3 3 rfl rfl)
theorem dX1_keeps_73 : decode cX1_keeps 73 = .ok (.ifnonnull 19, 3) := dk_199 0 19 (dk_at dksX1_keeps_3 4 rfl rfl)
theorem dX1_keeps_76 : decode cX1_keeps 76 = .ok (.aload_n 0, 1) := dk_42 (dk_at dksX1_keeps_3 7 rfl rfl)
theorem dX1_keeps_77 : decode cX1_keeps 77 = .ok (.getfield 62, 3) := dk_180 0 62 (dk_at dksX1_keeps_3 8 rfl rfl)
theorem dX1_keeps_80 : decode cX1_keeps 80 = .ok (.aload_n 0, 1) := dk_42 (dk_at dksX1_keeps_3 11 rfl rfl)
theorem dX1_keeps_81 : decode cX1_keeps 81 = .ok (.getfield 126, 3) := dk_180 0 126 (dk_at dksX1_keeps_3 12 rfl rfl)
theorem dX1_keeps_84 : decode cX1_keeps 84 = .ok (.new 48, 3) := dk_187 0 48 (dk_at dksX1_keeps_3 15 rfl rfl)
theorem dX1_keeps_87 : decode cX1_keeps 87 = .ok (.dup, 1) := dk_89 (dk_at dksX1_keeps_3 18 rfl rfl)
theorem dX1_keeps_88 : decode cX1_keeps 88 = .ok (.invokespecial 50, 3) := dk_183 0 50 (dk_at dksX1_keeps_3 19 rfl rfl)
theorem dX1_keeps_91 : decode cX1_keeps 91 = .ok (.aastore, 1) := dk_83 (dk_at dksX1_keeps_3 22 rfl rfl)
theorem dX1_keeps_92 : decode cX1_keeps 92 = .ok (.aload_n 0, 1) := dk_42 (dk_at dksX1_keeps_3 23 rfl rfl)
theorem dX1_keeps_93 : decode cX1_keeps 93 = .ok (.getfield 62, 3) := dk_180 0 62 (dk_at dksX1_keeps_4 0 rfl rfl)
theorem dX1_keeps_96 : decode cX1_keeps 96 = .ok (.aload_n 0, 1) := dk_42 (dk_at dksX1_keeps_4 3 rfl rfl)
theorem dX1_keeps_97 : decode cX1_keeps 97 = .ok (.dup, 1) := dk_89 (dk_at dksX1_keeps_4 4 rfl rfl)
theorem dX1_keeps_98 : decode cX1_keeps 98 = .ok (.getfield 126, 3) := dk_180 0 126 (dk_at dksX1_keeps_4 5 rfl rfl)
theorem dX1_keeps_101 : decode cX1_keeps 101 = .ok (.dup_x1, 1) := dk_90 (dk_at dksX1_keeps_4 8 rfl rfl)
theorem dX1_keeps_102 : decode cX1_keeps 102 = .ok (.iconst 1, 1) := dk_4 (dk_at dksX1_keeps_4 9 rfl rfl)
theorem dX1_keeps_103 : decode cX1_keeps 103 = .ok (.iadd, 1) := dk_96 (dk_at dksX1_keeps_4 10 rfl rfl)
theorem dX1_keeps_104 : decode cX1_keeps 104 = .ok (.putfield 126, 3) := dk_181 0 126 (dk_at dksX1_keeps_4 11 rfl rfl)
theorem dX1_keeps_107 : decode cX1_keeps 107 = .ok (.aaload, 1) := dk_50 (dk_at dksX1_keeps_4 14 rfl rfl)
theorem dX1_keeps_108 : decode cX1_keeps 108 = .ok (.aload_n 0, 1) := dk_42 (dk_at dksX1_keeps_4 15 rfl rfl)
theorem dX1_keeps_109 : decode cX1_keeps 109 = .ok (.getfield 51, 3) := dk_180 0 51 (dk_at dksX1_keeps_4 16 rfl rfl)
theorem dX1_keeps_112 : decode cX1_keeps 112 = .ok (.invokevirtual 276, 3) := dk_182 1 20 (dk_at dksX1_keeps_4 19 rfl rfl)
theorem dX1_keeps_115 : decode cX1_keeps 115 = .ok (.return_, 1) := dk_177 (dk_at dksX1_keeps_4 22 rfl rfl)
abbrev cX1_copies : ByteArray := prog_1_method_5_code
def yX1_copies : MethodName := ⟨RX1, "copies", "([I[I)V"⟩
def dkwX1_copies_0 : List UInt8 := [3, 61, 28, 43, 190, 162, 0, 15, 43, 28, 42, 28, 46, 79, 132, 2, 1, 167, 255, 241, 177]
abbrev dktX1_copies_0 : List UInt8 := dkwX1_copies_0 ++ []
theorem dksX1_copies_0 : cX1_copies.data.toList.drop 0 = dktX1_copies_0 := by decide +kernel
theorem dX1_copies_0 : decode cX1_copies 0 = .ok (.iconst 0, 1) := dk_3 (dk_at dksX1_copies_0 0 rfl rfl)
theorem dX1_copies_1 : decode cX1_copies 1 = .ok (.istore_n 2, 1) := dk_61 (dk_at dksX1_copies_0 1 rfl rfl)
theorem dX1_copies_2 : decode cX1_copies 2 = .ok (.iload_n 2, 1) := dk_28 (dk_at dksX1_copies_0 2 rfl rfl)
theorem dX1_copies_3 : decode cX1_copies 3 = .ok (.aload_n 1, 1) := dk_43 (dk_at dksX1_copies_0 3 rfl rfl)
theorem dX1_copies_4 : decode cX1_copies 4 = .ok (.arraylength, 1) := dk_190 (dk_at dksX1_copies_0 4 rfl rfl)
theorem dX1_copies_5 : decode cX1_copies 5 = .ok (.if_icmp .ge 15, 3) := dk_162 0 15 (dk_at dksX1_copies_0 5 rfl rfl)
theorem dX1_copies_8 : decode cX1_copies 8 = .ok (.aload_n 1, 1) := dk_43 (dk_at dksX1_copies_0 8 rfl rfl)
theorem dX1_copies_9 : decode cX1_copies 9 = .ok (.iload_n 2, 1) := dk_28 (dk_at dksX1_copies_0 9 rfl rfl)
theorem dX1_copies_10 : decode cX1_copies 10 = .ok (.aload_n 0, 1) := dk_42 (dk_at dksX1_copies_0 10 rfl rfl)
theorem dX1_copies_11 : decode cX1_copies 11 = .ok (.iload_n 2, 1) := dk_28 (dk_at dksX1_copies_0 11 rfl rfl)
theorem dX1_copies_12 : decode cX1_copies 12 = .ok (.iaload, 1) := dk_46 (dk_at dksX1_copies_0 12 rfl rfl)
theorem dX1_copies_13 : decode cX1_copies 13 = .ok (.iastore, 1) := dk_79 (dk_at dksX1_copies_0 13 rfl rfl)
theorem dX1_copies_14 : decode cX1_copies 14 = .ok (.iinc 2 1, 3) := dk_132 2 1 (dk_at dksX1_copies_0 14 rfl rfl)
theorem dX1_copies_17 : decode cX1_copies 17 = .ok (.goto (-15), 3) := dk_167 255 241 (dk_at dksX1_copies_0 17 rfl rfl)
theorem dX1_copies_20 : decode cX1_copies 20 = .ok (.return_, 1) := dk_177 (dk_at dksX1_copies_0 20 rfl rfl)
abbrev cX1_climbs : ByteArray := prog_1_method_29_code
def yX1_climbs : MethodName := ⟨RX1, "climbs", "(LPulseRent$State;I)V"⟩
def dkwX1_climbs_1 : List UInt8 := [180, 1, 2, 182, 1, 24, 96, 79, 177]
abbrev dktX1_climbs_1 : List UInt8 := dkwX1_climbs_1 ++ []
def dkwX1_climbs_0 : List UInt8 := [43, 180, 0, 173, 28, 92, 46, 42, 28, 182, 0, 166, 42, 43, 180, 0, 176, 28, 46, 182, 0, 179]
abbrev dktX1_climbs_0 : List UInt8 := dkwX1_climbs_0 ++ dktX1_climbs_1
theorem dksX1_climbs_0 : cX1_climbs.data.toList.drop 0 = dktX1_climbs_0 := by decide +kernel
theorem dksX1_climbs_1 : cX1_climbs.data.toList.drop 22 = dktX1_climbs_1 := dk_seg dksX1_climbs_0 22 rfl rfl
theorem dX1_climbs_0 : decode cX1_climbs 0 = .ok (.aload_n 1, 1) := dk_43 (dk_at dksX1_climbs_0 0 rfl rfl)
theorem dX1_climbs_1 : decode cX1_climbs 1 = .ok (.getfield 173, 3) := dk_180 0 173 (dk_at dksX1_climbs_0 1 rfl rfl)
theorem dX1_climbs_4 : decode cX1_climbs 4 = .ok (.iload_n 2, 1) := dk_28 (dk_at dksX1_climbs_0 4 rfl rfl)
theorem dX1_climbs_5 : decode cX1_climbs 5 = .ok (.dup2, 1) := dk_92 (dk_at dksX1_climbs_0 5 rfl rfl)
theorem dX1_climbs_6 : decode cX1_climbs 6 = .ok (.iaload, 1) := dk_46 (dk_at dksX1_climbs_0 6 rfl rfl)
theorem dX1_climbs_7 : decode cX1_climbs 7 = .ok (.aload_n 0, 1) := dk_42 (dk_at dksX1_climbs_0 7 rfl rfl)
theorem dX1_climbs_8 : decode cX1_climbs 8 = .ok (.iload_n 2, 1) := dk_28 (dk_at dksX1_climbs_0 8 rfl rfl)
theorem dX1_climbs_9 : decode cX1_climbs 9 = .ok (.invokevirtual 166, 3) := dk_182 0 166 (dk_at dksX1_climbs_0 9 rfl rfl)
theorem dX1_climbs_12 : decode cX1_climbs 12 = .ok (.aload_n 0, 1) := dk_42 (dk_at dksX1_climbs_0 12 rfl rfl)
theorem dX1_climbs_13 : decode cX1_climbs 13 = .ok (.aload_n 1, 1) := dk_43 (dk_at dksX1_climbs_0 13 rfl rfl)
theorem dX1_climbs_14 : decode cX1_climbs 14 = .ok (.getfield 176, 3) := dk_180 0 176 (dk_at dksX1_climbs_0 14 rfl rfl)
theorem dX1_climbs_17 : decode cX1_climbs 17 = .ok (.iload_n 2, 1) := dk_28 (dk_at dksX1_climbs_0 17 rfl rfl)
theorem dX1_climbs_18 : decode cX1_climbs 18 = .ok (.iaload, 1) := dk_46 (dk_at dksX1_climbs_0 18 rfl rfl)
theorem dX1_climbs_19 : decode cX1_climbs 19 = .ok (.invokevirtual 179, 3) := dk_182 0 179 (dk_at dksX1_climbs_0 19 rfl rfl)
theorem dX1_climbs_22 : decode cX1_climbs 22 = .ok (.getfield 258, 3) := dk_180 1 2 (dk_at dksX1_climbs_1 0 rfl rfl)
theorem dX1_climbs_25 : decode cX1_climbs 25 = .ok (.invokevirtual 280, 3) := dk_182 1 24 (dk_at dksX1_climbs_1 3 rfl rfl)
theorem dX1_climbs_28 : decode cX1_climbs 28 = .ok (.iadd, 1) := dk_96 (dk_at dksX1_climbs_1 6 rfl rfl)
theorem dX1_climbs_29 : decode cX1_climbs 29 = .ok (.iastore, 1) := dk_79 (dk_at dksX1_climbs_1 7 rfl rfl)
theorem dX1_climbs_30 : decode cX1_climbs 30 = .ok (.return_, 1) := dk_177 (dk_at dksX1_climbs_1 8 rfl rfl)
abbrev cX1_fright : ByteArray := prog_1_method_32_code
def yX1_fright : MethodName := ⟨RX1, "fright", "(II)I"⟩
def dkwX1_fright_1 : List UInt8 := [42, 42, 180, 0, 51, 27, 28, 182, 1, 32, 42, 180, 0, 51, 180, 0, 173, 27, 46, 172]
abbrev dktX1_fright_1 : List UInt8 := dkwX1_fright_1 ++ []
def dkwX1_fright_0 : List UInt8 := [42, 27, 182, 1, 17, 153, 0, 13, 28, 4, 16, 99, 184, 0, 153, 154, 0, 5, 2, 172, 42, 182, 1, 27]
abbrev dktX1_fright_0 : List UInt8 := dkwX1_fright_0 ++ dktX1_fright_1
theorem dksX1_fright_0 : cX1_fright.data.toList.drop 0 = dktX1_fright_0 := by decide +kernel
theorem dksX1_fright_1 : cX1_fright.data.toList.drop 24 = dktX1_fright_1 := dk_seg dksX1_fright_0 24 rfl rfl
theorem dX1_fright_0 : decode cX1_fright 0 = .ok (.aload_n 0, 1) := dk_42 (dk_at dksX1_fright_0 0 rfl rfl)
theorem dX1_fright_1 : decode cX1_fright 1 = .ok (.iload_n 1, 1) := dk_27 (dk_at dksX1_fright_0 1 rfl rfl)
theorem dX1_fright_2 : decode cX1_fright 2 = .ok (.invokevirtual 273, 3) := dk_182 1 17 (dk_at dksX1_fright_0 2 rfl rfl)
theorem dX1_fright_5 : decode cX1_fright 5 = .ok (.ifCond .eq 13, 3) := dk_153 0 13 (dk_at dksX1_fright_0 5 rfl rfl)
theorem dX1_fright_8 : decode cX1_fright 8 = .ok (.iload_n 2, 1) := dk_28 (dk_at dksX1_fright_0 8 rfl rfl)
theorem dX1_fright_9 : decode cX1_fright 9 = .ok (.iconst 1, 1) := dk_4 (dk_at dksX1_fright_0 9 rfl rfl)
theorem dX1_fright_10 : decode cX1_fright 10 = .ok (.bipush 99, 2) := dk_16 99 (dk_at dksX1_fright_0 10 rfl rfl)
theorem dX1_fright_12 : decode cX1_fright 12 = .ok (.invokestatic 153, 3) := dk_184 0 153 (dk_at dksX1_fright_0 12 rfl rfl)
theorem dX1_fright_15 : decode cX1_fright 15 = .ok (.ifCond .ne 5, 3) := dk_154 0 5 (dk_at dksX1_fright_0 15 rfl rfl)
theorem dX1_fright_18 : decode cX1_fright 18 = .ok (.iconst (-1), 1) := dk_2 (dk_at dksX1_fright_0 18 rfl rfl)
theorem dX1_fright_19 : decode cX1_fright 19 = .ok (.ireturn, 1) := dk_172 (dk_at dksX1_fright_0 19 rfl rfl)
theorem dX1_fright_20 : decode cX1_fright 20 = .ok (.aload_n 0, 1) := dk_42 (dk_at dksX1_fright_0 20 rfl rfl)
theorem dX1_fright_21 : decode cX1_fright 21 = .ok (.invokevirtual 283, 3) := dk_182 1 27 (dk_at dksX1_fright_0 21 rfl rfl)
theorem dX1_fright_24 : decode cX1_fright 24 = .ok (.aload_n 0, 1) := dk_42 (dk_at dksX1_fright_1 0 rfl rfl)
theorem dX1_fright_25 : decode cX1_fright 25 = .ok (.aload_n 0, 1) := dk_42 (dk_at dksX1_fright_1 1 rfl rfl)
theorem dX1_fright_26 : decode cX1_fright 26 = .ok (.getfield 51, 3) := dk_180 0 51 (dk_at dksX1_fright_1 2 rfl rfl)
theorem dX1_fright_29 : decode cX1_fright 29 = .ok (.iload_n 1, 1) := dk_27 (dk_at dksX1_fright_1 5 rfl rfl)
theorem dX1_fright_30 : decode cX1_fright 30 = .ok (.iload_n 2, 1) := dk_28 (dk_at dksX1_fright_1 6 rfl rfl)
theorem dX1_fright_31 : decode cX1_fright 31 = .ok (.invokevirtual 288, 3) := dk_182 1 32 (dk_at dksX1_fright_1 7 rfl rfl)
theorem dX1_fright_34 : decode cX1_fright 34 = .ok (.aload_n 0, 1) := dk_42 (dk_at dksX1_fright_1 10 rfl rfl)
theorem dX1_fright_35 : decode cX1_fright 35 = .ok (.getfield 51, 3) := dk_180 0 51 (dk_at dksX1_fright_1 11 rfl rfl)
theorem dX1_fright_38 : decode cX1_fright 38 = .ok (.getfield 173, 3) := dk_180 0 173 (dk_at dksX1_fright_1 14 rfl rfl)
theorem dX1_fright_41 : decode cX1_fright 41 = .ok (.iload_n 1, 1) := dk_27 (dk_at dksX1_fright_1 17 rfl rfl)
theorem dX1_fright_42 : decode cX1_fright 42 = .ok (.iaload, 1) := dk_46 (dk_at dksX1_fright_1 18 rfl rfl)
theorem dX1_fright_43 : decode cX1_fright 43 = .ok (.ireturn, 1) := dk_172 (dk_at dksX1_fright_1 19 rfl rfl)
abbrev cX1_frightens : ByteArray := prog_1_method_30_code
def yX1_frightens : MethodName := ⟨RX1, "frightens", "(LPulseRent$State;II)V"⟩
def dkwX1_frightens_1 : List UInt8 := [180, 1, 14, 28, 46, 96, 108, 96, 79, 43, 180, 1, 14, 28, 92, 46, 4, 96, 79, 177]
abbrev dktX1_frightens_1 : List UInt8 := dkwX1_frightens_1 ++ []
def dkwX1_frightens_0 : List UInt8 := [43, 180, 0, 173, 28, 92, 46, 3, 29, 42, 28, 182, 0, 166, 180, 1, 11, 100, 184, 0, 7, 4, 43]
abbrev dktX1_frightens_0 : List UInt8 := dkwX1_frightens_0 ++ dktX1_frightens_1
theorem dksX1_frightens_0 : cX1_frightens.data.toList.drop 0 = dktX1_frightens_0 := by decide +kernel
theorem dksX1_frightens_1 : cX1_frightens.data.toList.drop 23 = dktX1_frightens_1 := dk_seg dksX1_frightens_0 23 rfl rfl
theorem dX1_frightens_0 : decode cX1_frightens 0 = .ok (.aload_n 1, 1) := dk_43 (dk_at dksX1_frightens_0 0 rfl rfl)
theorem dX1_frightens_1 : decode cX1_frightens 1 = .ok (.getfield 173, 3) := dk_180 0 173 (dk_at dksX1_frightens_0 1 rfl rfl)
theorem dX1_frightens_4 : decode cX1_frightens 4 = .ok (.iload_n 2, 1) := dk_28 (dk_at dksX1_frightens_0 4 rfl rfl)
theorem dX1_frightens_5 : decode cX1_frightens 5 = .ok (.dup2, 1) := dk_92 (dk_at dksX1_frightens_0 5 rfl rfl)
theorem dX1_frightens_6 : decode cX1_frightens 6 = .ok (.iaload, 1) := dk_46 (dk_at dksX1_frightens_0 6 rfl rfl)
theorem dX1_frightens_7 : decode cX1_frightens 7 = .ok (.iconst 0, 1) := dk_3 (dk_at dksX1_frightens_0 7 rfl rfl)
theorem dX1_frightens_8 : decode cX1_frightens 8 = .ok (.iload_n 3, 1) := dk_29 (dk_at dksX1_frightens_0 8 rfl rfl)
theorem dX1_frightens_9 : decode cX1_frightens 9 = .ok (.aload_n 0, 1) := dk_42 (dk_at dksX1_frightens_0 9 rfl rfl)
theorem dX1_frightens_10 : decode cX1_frightens 10 = .ok (.iload_n 2, 1) := dk_28 (dk_at dksX1_frightens_0 10 rfl rfl)
theorem dX1_frightens_11 : decode cX1_frightens 11 = .ok (.invokevirtual 166, 3) := dk_182 0 166 (dk_at dksX1_frightens_0 11 rfl rfl)
theorem dX1_frightens_14 : decode cX1_frightens 14 = .ok (.getfield 267, 3) := dk_180 1 11 (dk_at dksX1_frightens_0 14 rfl rfl)
theorem dX1_frightens_17 : decode cX1_frightens 17 = .ok (.isub, 1) := dk_100 (dk_at dksX1_frightens_0 17 rfl rfl)
theorem dX1_frightens_18 : decode cX1_frightens 18 = .ok (.invokestatic 7, 3) := dk_184 0 7 (dk_at dksX1_frightens_0 18 rfl rfl)
theorem dX1_frightens_21 : decode cX1_frightens 21 = .ok (.iconst 1, 1) := dk_4 (dk_at dksX1_frightens_0 21 rfl rfl)
theorem dX1_frightens_22 : decode cX1_frightens 22 = .ok (.aload_n 1, 1) := dk_43 (dk_at dksX1_frightens_0 22 rfl rfl)
theorem dX1_frightens_23 : decode cX1_frightens 23 = .ok (.getfield 270, 3) := dk_180 1 14 (dk_at dksX1_frightens_1 0 rfl rfl)
theorem dX1_frightens_26 : decode cX1_frightens 26 = .ok (.iload_n 2, 1) := dk_28 (dk_at dksX1_frightens_1 3 rfl rfl)
theorem dX1_frightens_27 : decode cX1_frightens 27 = .ok (.iaload, 1) := dk_46 (dk_at dksX1_frightens_1 4 rfl rfl)
theorem dX1_frightens_28 : decode cX1_frightens 28 = .ok (.iadd, 1) := dk_96 (dk_at dksX1_frightens_1 5 rfl rfl)
theorem dX1_frightens_29 : decode cX1_frightens 29 = .ok (.idiv, 1) := dk_108 (dk_at dksX1_frightens_1 6 rfl rfl)
theorem dX1_frightens_30 : decode cX1_frightens 30 = .ok (.iadd, 1) := dk_96 (dk_at dksX1_frightens_1 7 rfl rfl)
theorem dX1_frightens_31 : decode cX1_frightens 31 = .ok (.iastore, 1) := dk_79 (dk_at dksX1_frightens_1 8 rfl rfl)
theorem dX1_frightens_32 : decode cX1_frightens 32 = .ok (.aload_n 1, 1) := dk_43 (dk_at dksX1_frightens_1 9 rfl rfl)
theorem dX1_frightens_33 : decode cX1_frightens 33 = .ok (.getfield 270, 3) := dk_180 1 14 (dk_at dksX1_frightens_1 10 rfl rfl)
theorem dX1_frightens_36 : decode cX1_frightens 36 = .ok (.iload_n 2, 1) := dk_28 (dk_at dksX1_frightens_1 13 rfl rfl)
theorem dX1_frightens_37 : decode cX1_frightens 37 = .ok (.dup2, 1) := dk_92 (dk_at dksX1_frightens_1 14 rfl rfl)
theorem dX1_frightens_38 : decode cX1_frightens 38 = .ok (.iaload, 1) := dk_46 (dk_at dksX1_frightens_1 15 rfl rfl)
theorem dX1_frightens_39 : decode cX1_frightens 39 = .ok (.iconst 1, 1) := dk_4 (dk_at dksX1_frightens_1 16 rfl rfl)
theorem dX1_frightens_40 : decode cX1_frightens 40 = .ok (.iadd, 1) := dk_96 (dk_at dksX1_frightens_1 17 rfl rfl)
theorem dX1_frightens_41 : decode cX1_frightens 41 = .ok (.iastore, 1) := dk_79 (dk_at dksX1_frightens_1 18 rfl rfl)
theorem dX1_frightens_42 : decode cX1_frightens 42 = .ok (.return_, 1) := dk_177 (dk_at dksX1_frightens_1 19 rfl rfl)
abbrev cX1_drink : ByteArray := prog_1_method_33_code
def yX1_drink : MethodName := ⟨RX1, "drink", "(I)Z"⟩
def dkwX1_drink_1 : List UInt8 := [180, 0, 35, 180, 1, 36, 79, 4, 172]
abbrev dktX1_drink_1 : List UInt8 := dkwX1_drink_1 ++ []
def dkwX1_drink_0 : List UInt8 := [42, 27, 182, 1, 17, 154, 0, 5, 3, 172, 42, 182, 1, 27, 42, 180, 0, 51, 180, 0, 185, 27, 42]
abbrev dktX1_drink_0 : List UInt8 := dkwX1_drink_0 ++ dktX1_drink_1
theorem dksX1_drink_0 : cX1_drink.data.toList.drop 0 = dktX1_drink_0 := by decide +kernel
theorem dksX1_drink_1 : cX1_drink.data.toList.drop 23 = dktX1_drink_1 := dk_seg dksX1_drink_0 23 rfl rfl
theorem dX1_drink_0 : decode cX1_drink 0 = .ok (.aload_n 0, 1) := dk_42 (dk_at dksX1_drink_0 0 rfl rfl)
theorem dX1_drink_1 : decode cX1_drink 1 = .ok (.iload_n 1, 1) := dk_27 (dk_at dksX1_drink_0 1 rfl rfl)
theorem dX1_drink_2 : decode cX1_drink 2 = .ok (.invokevirtual 273, 3) := dk_182 1 17 (dk_at dksX1_drink_0 2 rfl rfl)
theorem dX1_drink_5 : decode cX1_drink 5 = .ok (.ifCond .ne 5, 3) := dk_154 0 5 (dk_at dksX1_drink_0 5 rfl rfl)
theorem dX1_drink_8 : decode cX1_drink 8 = .ok (.iconst 0, 1) := dk_3 (dk_at dksX1_drink_0 8 rfl rfl)
theorem dX1_drink_9 : decode cX1_drink 9 = .ok (.ireturn, 1) := dk_172 (dk_at dksX1_drink_0 9 rfl rfl)
theorem dX1_drink_10 : decode cX1_drink 10 = .ok (.aload_n 0, 1) := dk_42 (dk_at dksX1_drink_0 10 rfl rfl)
theorem dX1_drink_11 : decode cX1_drink 11 = .ok (.invokevirtual 283, 3) := dk_182 1 27 (dk_at dksX1_drink_0 11 rfl rfl)
theorem dX1_drink_14 : decode cX1_drink 14 = .ok (.aload_n 0, 1) := dk_42 (dk_at dksX1_drink_0 14 rfl rfl)
theorem dX1_drink_15 : decode cX1_drink 15 = .ok (.getfield 51, 3) := dk_180 0 51 (dk_at dksX1_drink_0 15 rfl rfl)
theorem dX1_drink_18 : decode cX1_drink 18 = .ok (.getfield 185, 3) := dk_180 0 185 (dk_at dksX1_drink_0 18 rfl rfl)
theorem dX1_drink_21 : decode cX1_drink 21 = .ok (.iload_n 1, 1) := dk_27 (dk_at dksX1_drink_0 21 rfl rfl)
theorem dX1_drink_22 : decode cX1_drink 22 = .ok (.aload_n 0, 1) := dk_42 (dk_at dksX1_drink_0 22 rfl rfl)
theorem dX1_drink_23 : decode cX1_drink 23 = .ok (.getfield 35, 3) := dk_180 0 35 (dk_at dksX1_drink_1 0 rfl rfl)
theorem dX1_drink_26 : decode cX1_drink 26 = .ok (.getfield 292, 3) := dk_180 1 36 (dk_at dksX1_drink_1 3 rfl rfl)
theorem dX1_drink_29 : decode cX1_drink 29 = .ok (.iastore, 1) := dk_79 (dk_at dksX1_drink_1 6 rfl rfl)
theorem dX1_drink_30 : decode cX1_drink 30 = .ok (.iconst 1, 1) := dk_4 (dk_at dksX1_drink_1 7 rfl rfl)
theorem dX1_drink_31 : decode cX1_drink 31 = .ok (.ireturn, 1) := dk_172 (dk_at dksX1_drink_1 8 rfl rfl)
abbrev cX1_minutes : ByteArray := prog_1_method_34_code
def yX1_minutes : MethodName := ⟨RX1, "minutes", "(I)I"⟩
def dkwX1_minutes_1 : List UInt8 := [182, 1, 39, 42, 180, 0, 51, 180, 0, 193, 172]
abbrev dktX1_minutes_1 : List UInt8 := dkwX1_minutes_1 ++ []
def dkwX1_minutes_0 : List UInt8 := [27, 4, 16, 120, 184, 0, 153, 154, 0, 5, 2, 172, 42, 182, 1, 27, 42, 42, 180, 0, 51, 27]
abbrev dktX1_minutes_0 : List UInt8 := dkwX1_minutes_0 ++ dktX1_minutes_1
theorem dksX1_minutes_0 : cX1_minutes.data.toList.drop 0 = dktX1_minutes_0 := by decide +kernel
theorem dksX1_minutes_1 : cX1_minutes.data.toList.drop 22 = dktX1_minutes_1 := dk_seg dksX1_minutes_0 22 rfl rfl
theorem dX1_minutes_0 : decode cX1_minutes 0 = .ok (.iload_n 1, 1) := dk_27 (dk_at dksX1_minutes_0 0 rfl rfl)
theorem dX1_minutes_1 : decode cX1_minutes 1 = .ok (.iconst 1, 1) := dk_4 (dk_at dksX1_minutes_0 1 rfl rfl)
theorem dX1_minutes_2 : decode cX1_minutes 2 = .ok (.bipush 120, 2) := dk_16 120 (dk_at dksX1_minutes_0 2 rfl rfl)
theorem dX1_minutes_4 : decode cX1_minutes 4 = .ok (.invokestatic 153, 3) := dk_184 0 153 (dk_at dksX1_minutes_0 4 rfl rfl)
theorem dX1_minutes_7 : decode cX1_minutes 7 = .ok (.ifCond .ne 5, 3) := dk_154 0 5 (dk_at dksX1_minutes_0 7 rfl rfl)
theorem dX1_minutes_10 : decode cX1_minutes 10 = .ok (.iconst (-1), 1) := dk_2 (dk_at dksX1_minutes_0 10 rfl rfl)
theorem dX1_minutes_11 : decode cX1_minutes 11 = .ok (.ireturn, 1) := dk_172 (dk_at dksX1_minutes_0 11 rfl rfl)
theorem dX1_minutes_12 : decode cX1_minutes 12 = .ok (.aload_n 0, 1) := dk_42 (dk_at dksX1_minutes_0 12 rfl rfl)
theorem dX1_minutes_13 : decode cX1_minutes 13 = .ok (.invokevirtual 283, 3) := dk_182 1 27 (dk_at dksX1_minutes_0 13 rfl rfl)
theorem dX1_minutes_16 : decode cX1_minutes 16 = .ok (.aload_n 0, 1) := dk_42 (dk_at dksX1_minutes_0 16 rfl rfl)
theorem dX1_minutes_17 : decode cX1_minutes 17 = .ok (.aload_n 0, 1) := dk_42 (dk_at dksX1_minutes_0 17 rfl rfl)
theorem dX1_minutes_18 : decode cX1_minutes 18 = .ok (.getfield 51, 3) := dk_180 0 51 (dk_at dksX1_minutes_0 18 rfl rfl)
theorem dX1_minutes_21 : decode cX1_minutes 21 = .ok (.iload_n 1, 1) := dk_27 (dk_at dksX1_minutes_0 21 rfl rfl)
theorem dX1_minutes_22 : decode cX1_minutes 22 = .ok (.invokevirtual 295, 3) := dk_182 1 39 (dk_at dksX1_minutes_1 0 rfl rfl)
theorem dX1_minutes_25 : decode cX1_minutes 25 = .ok (.aload_n 0, 1) := dk_42 (dk_at dksX1_minutes_1 3 rfl rfl)
theorem dX1_minutes_26 : decode cX1_minutes 26 = .ok (.getfield 51, 3) := dk_180 0 51 (dk_at dksX1_minutes_1 4 rfl rfl)
theorem dX1_minutes_29 : decode cX1_minutes 29 = .ok (.getfield 193, 3) := dk_180 0 193 (dk_at dksX1_minutes_1 7 rfl rfl)
theorem dX1_minutes_32 : decode cX1_minutes 32 = .ok (.ireturn, 1) := dk_172 (dk_at dksX1_minutes_1 10 rfl rfl)
abbrev cX1_pass : ByteArray := prog_1_method_20_code
def yX1_pass : MethodName := ⟨RX1, "pass", "(LPulseRent$State;I)V"⟩
def dkwX1_pass_1 : List UInt8 := [167, 255, 236, 177]
abbrev dktX1_pass_1 : List UInt8 := dkwX1_pass_1 ++ []
def dkwX1_pass_0 : List UInt8 := [3, 62, 29, 28, 162, 0, 21, 42, 43, 42, 180, 0, 35, 182, 0, 210, 182, 0, 213, 132, 3, 1]
abbrev dktX1_pass_0 : List UInt8 := dkwX1_pass_0 ++ dktX1_pass_1
theorem dksX1_pass_0 : cX1_pass.data.toList.drop 0 = dktX1_pass_0 := by decide +kernel
theorem dksX1_pass_1 : cX1_pass.data.toList.drop 22 = dktX1_pass_1 := dk_seg dksX1_pass_0 22 rfl rfl
theorem dX1_pass_0 : decode cX1_pass 0 = .ok (.iconst 0, 1) := dk_3 (dk_at dksX1_pass_0 0 rfl rfl)
theorem dX1_pass_1 : decode cX1_pass 1 = .ok (.istore_n 3, 1) := dk_62 (dk_at dksX1_pass_0 1 rfl rfl)
theorem dX1_pass_2 : decode cX1_pass 2 = .ok (.iload_n 3, 1) := dk_29 (dk_at dksX1_pass_0 2 rfl rfl)
theorem dX1_pass_3 : decode cX1_pass 3 = .ok (.iload_n 2, 1) := dk_28 (dk_at dksX1_pass_0 3 rfl rfl)
theorem dX1_pass_4 : decode cX1_pass 4 = .ok (.if_icmp .ge 21, 3) := dk_162 0 21 (dk_at dksX1_pass_0 4 rfl rfl)
theorem dX1_pass_7 : decode cX1_pass 7 = .ok (.aload_n 0, 1) := dk_42 (dk_at dksX1_pass_0 7 rfl rfl)
theorem dX1_pass_8 : decode cX1_pass 8 = .ok (.aload_n 1, 1) := dk_43 (dk_at dksX1_pass_0 8 rfl rfl)
theorem dX1_pass_9 : decode cX1_pass 9 = .ok (.aload_n 0, 1) := dk_42 (dk_at dksX1_pass_0 9 rfl rfl)
theorem dX1_pass_10 : decode cX1_pass 10 = .ok (.getfield 35, 3) := dk_180 0 35 (dk_at dksX1_pass_0 10 rfl rfl)
theorem dX1_pass_13 : decode cX1_pass 13 = .ok (.invokevirtual 210, 3) := dk_182 0 210 (dk_at dksX1_pass_0 13 rfl rfl)
theorem dX1_pass_16 : decode cX1_pass 16 = .ok (.invokevirtual 213, 3) := dk_182 0 213 (dk_at dksX1_pass_0 16 rfl rfl)
theorem dX1_pass_19 : decode cX1_pass 19 = .ok (.iinc 3 1, 3) := dk_132 3 1 (dk_at dksX1_pass_0 19 rfl rfl)
theorem dX1_pass_22 : decode cX1_pass 22 = .ok (.goto (-20), 3) := dk_167 255 236 (dk_at dksX1_pass_1 0 rfl rfl)
theorem dX1_pass_25 : decode cX1_pass 25 = .ok (.return_, 1) := dk_177 (dk_at dksX1_pass_1 3 rfl rfl)
abbrev cX1_passesOne : ByteArray := prog_1_method_19_code
def yX1_passesOne : MethodName := ⟨RX1, "passesOne", "(LPulseRent$State;I)V"⟩
def dkwX1_passesOne_6 : List UInt8 := [180, 0, 193, 4, 96, 181, 0, 193, 177]
abbrev dktX1_passesOne_6 : List UInt8 := dkwX1_passesOne_6 ++ []
def dkwX1_passesOne_5 : List UInt8 := [21, 4, 3, 43, 180, 0, 185, 21, 4, 46, 4, 100, 184, 0, 7, 79, 132, 4, 1, 167, 255, 201, 43, 89]
abbrev dktX1_passesOne_5 : List UInt8 := dkwX1_passesOne_5 ++ dktX1_passesOne_6
def dkwX1_passesOne_4 : List UInt8 := [21, 4, 42, 21, 4, 182, 0, 166, 43, 180, 0, 173, 21, 4, 46, 182, 0, 206, 79, 43, 180, 0, 185]
abbrev dktX1_passesOne_4 : List UInt8 := dkwX1_passesOne_4 ++ dktX1_passesOne_5
def dkwX1_passesOne_3 : List UInt8 := [79, 132, 4, 1, 167, 255, 205, 3, 54, 4, 21, 4, 42, 182, 0, 157, 162, 0, 52, 43, 180, 0, 173]
abbrev dktX1_passesOne_3 : List UInt8 := dkwX1_passesOne_3 ++ dktX1_passesOne_4
def dkwX1_passesOne_2 : List UInt8 := [180, 0, 199, 21, 4, 92, 46, 42, 43, 21, 4, 28, 182, 0, 202, 42, 180, 0, 35, 182, 0, 196, 104, 96]
abbrev dktX1_passesOne_2 : List UInt8 := dkwX1_passesOne_2 ++ dktX1_passesOne_3
def dkwX1_passesOne_1 : List UInt8 := [21, 4, 42, 182, 0, 157, 162, 0, 48, 29, 153, 0, 44, 43, 21, 4, 182, 0, 163, 153, 0, 29, 43]
abbrev dktX1_passesOne_1 : List UInt8 := dkwX1_passesOne_1 ++ dktX1_passesOne_2
def dkwX1_passesOne_0 : List UInt8 := [43, 180, 0, 193, 42, 180, 0, 35, 182, 0, 196, 112, 154, 0, 7, 4, 167, 0, 4, 3, 62, 3, 54, 4]
abbrev dktX1_passesOne_0 : List UInt8 := dkwX1_passesOne_0 ++ dktX1_passesOne_1
theorem dksX1_passesOne_0 : cX1_passesOne.data.toList.drop 0 = dktX1_passesOne_0 := by decide +kernel
theorem dksX1_passesOne_1 : cX1_passesOne.data.toList.drop 24 = dktX1_passesOne_1 := dk_seg dksX1_passesOne_0 24 rfl rfl
theorem dksX1_passesOne_2 : cX1_passesOne.data.toList.drop 47 = dktX1_passesOne_2 := dk_seg dksX1_passesOne_1 23 rfl rfl
theorem dksX1_passesOne_3 : cX1_passesOne.data.toList.drop 71 = dktX1_passesOne_3 := dk_seg dksX1_passesOne_2 24 rfl rfl
theorem dksX1_passesOne_4 : cX1_passesOne.data.toList.drop 94 = dktX1_passesOne_4 := dk_seg dksX1_passesOne_3 23 rfl rfl
theorem dksX1_passesOne_5 : cX1_passesOne.data.toList.drop 117 = dktX1_passesOne_5 := dk_seg dksX1_passesOne_4 23 rfl rfl
theorem dksX1_passesOne_6 : cX1_passesOne.data.toList.drop 141 = dktX1_passesOne_6 := dk_seg dksX1_passesOne_5 24 rfl rfl
theorem dX1_passesOne_0 : decode cX1_passesOne 0 = .ok (.aload_n 1, 1) := dk_43 (dk_at dksX1_passesOne_0 0 rfl rfl)
theorem dX1_passesOne_1 : decode cX1_passesOne 1 = .ok (.getfield 193, 3) := dk_180 0 193 (dk_at dksX1_passesOne_0 1 rfl rfl)
theorem dX1_passesOne_4 : decode cX1_passesOne 4 = .ok (.aload_n 0, 1) := dk_42 (dk_at dksX1_passesOne_0 4 rfl rfl)
theorem dX1_passesOne_5 : decode cX1_passesOne 5 = .ok (.getfield 35, 3) := dk_180 0 35 (dk_at dksX1_passesOne_0 5 rfl rfl)
theorem dX1_passesOne_8 : decode cX1_passesOne 8 = .ok (.invokevirtual 196, 3) := dk_182 0 196 (dk_at dksX1_passesOne_0 8 rfl rfl)
theorem dX1_passesOne_11 : decode cX1_passesOne 11 = .ok (.irem, 1) := dk_112 (dk_at dksX1_passesOne_0 11 rfl rfl)
theorem dX1_passesOne_12 : decode cX1_passesOne 12 = .ok (.ifCond .ne 7, 3) := dk_154 0 7 (dk_at dksX1_passesOne_0 12 rfl rfl)
theorem dX1_passesOne_15 : decode cX1_passesOne 15 = .ok (.iconst 1, 1) := dk_4 (dk_at dksX1_passesOne_0 15 rfl rfl)
theorem dX1_passesOne_16 : decode cX1_passesOne 16 = .ok (.goto 4, 3) := dk_167 0 4 (dk_at dksX1_passesOne_0 16 rfl rfl)
theorem dX1_passesOne_19 : decode cX1_passesOne 19 = .ok (.iconst 0, 1) := dk_3 (dk_at dksX1_passesOne_0 19 rfl rfl)
theorem dX1_passesOne_20 : decode cX1_passesOne 20 = .ok (.istore_n 3, 1) := dk_62 (dk_at dksX1_passesOne_0 20 rfl rfl)
theorem dX1_passesOne_21 : decode cX1_passesOne 21 = .ok (.iconst 0, 1) := dk_3 (dk_at dksX1_passesOne_0 21 rfl rfl)
theorem dX1_passesOne_22 : decode cX1_passesOne 22 = .ok (.istore 4, 2) := dk_54 4 (dk_at dksX1_passesOne_0 22 rfl rfl)
theorem dX1_passesOne_24 : decode cX1_passesOne 24 = .ok (.iload 4, 2) := dk_21 4 (dk_at dksX1_passesOne_1 0 rfl rfl)
theorem dX1_passesOne_26 : decode cX1_passesOne 26 = .ok (.aload_n 0, 1) := dk_42 (dk_at dksX1_passesOne_1 2 rfl rfl)
theorem dX1_passesOne_27 : decode cX1_passesOne 27 = .ok (.invokevirtual 157, 3) := dk_182 0 157 (dk_at dksX1_passesOne_1 3 rfl rfl)
theorem dX1_passesOne_30 : decode cX1_passesOne 30 = .ok (.if_icmp .ge 48, 3) := dk_162 0 48 (dk_at dksX1_passesOne_1 6 rfl rfl)
theorem dX1_passesOne_33 : decode cX1_passesOne 33 = .ok (.iload_n 3, 1) := dk_29 (dk_at dksX1_passesOne_1 9 rfl rfl)
theorem dX1_passesOne_34 : decode cX1_passesOne 34 = .ok (.ifCond .eq 44, 3) := dk_153 0 44 (dk_at dksX1_passesOne_1 10 rfl rfl)
theorem dX1_passesOne_37 : decode cX1_passesOne 37 = .ok (.aload_n 1, 1) := dk_43 (dk_at dksX1_passesOne_1 13 rfl rfl)
theorem dX1_passesOne_38 : decode cX1_passesOne 38 = .ok (.iload 4, 2) := dk_21 4 (dk_at dksX1_passesOne_1 14 rfl rfl)
theorem dX1_passesOne_40 : decode cX1_passesOne 40 = .ok (.invokevirtual 163, 3) := dk_182 0 163 (dk_at dksX1_passesOne_1 16 rfl rfl)
theorem dX1_passesOne_43 : decode cX1_passesOne 43 = .ok (.ifCond .eq 29, 3) := dk_153 0 29 (dk_at dksX1_passesOne_1 19 rfl rfl)
theorem dX1_passesOne_46 : decode cX1_passesOne 46 = .ok (.aload_n 1, 1) := dk_43 (dk_at dksX1_passesOne_1 22 rfl rfl)
theorem dX1_passesOne_47 : decode cX1_passesOne 47 = .ok (.getfield 199, 3) := dk_180 0 199 (dk_at dksX1_passesOne_2 0 rfl rfl)
theorem dX1_passesOne_50 : decode cX1_passesOne 50 = .ok (.iload 4, 2) := dk_21 4 (dk_at dksX1_passesOne_2 3 rfl rfl)
theorem dX1_passesOne_52 : decode cX1_passesOne 52 = .ok (.dup2, 1) := dk_92 (dk_at dksX1_passesOne_2 5 rfl rfl)
theorem dX1_passesOne_53 : decode cX1_passesOne 53 = .ok (.iaload, 1) := dk_46 (dk_at dksX1_passesOne_2 6 rfl rfl)
theorem dX1_passesOne_54 : decode cX1_passesOne 54 = .ok (.aload_n 0, 1) := dk_42 (dk_at dksX1_passesOne_2 7 rfl rfl)
theorem dX1_passesOne_55 : decode cX1_passesOne 55 = .ok (.aload_n 1, 1) := dk_43 (dk_at dksX1_passesOne_2 8 rfl rfl)
theorem dX1_passesOne_56 : decode cX1_passesOne 56 = .ok (.iload 4, 2) := dk_21 4 (dk_at dksX1_passesOne_2 9 rfl rfl)
theorem dX1_passesOne_58 : decode cX1_passesOne 58 = .ok (.iload_n 2, 1) := dk_28 (dk_at dksX1_passesOne_2 11 rfl rfl)
theorem dX1_passesOne_59 : decode cX1_passesOne 59 = .ok (.invokevirtual 202, 3) := dk_182 0 202 (dk_at dksX1_passesOne_2 12 rfl rfl)
theorem dX1_passesOne_62 : decode cX1_passesOne 62 = .ok (.aload_n 0, 1) := dk_42 (dk_at dksX1_passesOne_2 15 rfl rfl)
theorem dX1_passesOne_63 : decode cX1_passesOne 63 = .ok (.getfield 35, 3) := dk_180 0 35 (dk_at dksX1_passesOne_2 16 rfl rfl)
theorem dX1_passesOne_66 : decode cX1_passesOne 66 = .ok (.invokevirtual 196, 3) := dk_182 0 196 (dk_at dksX1_passesOne_2 19 rfl rfl)
theorem dX1_passesOne_69 : decode cX1_passesOne 69 = .ok (.imul, 1) := dk_104 (dk_at dksX1_passesOne_2 22 rfl rfl)
theorem dX1_passesOne_70 : decode cX1_passesOne 70 = .ok (.iadd, 1) := dk_96 (dk_at dksX1_passesOne_2 23 rfl rfl)
theorem dX1_passesOne_71 : decode cX1_passesOne 71 = .ok (.iastore, 1) := dk_79 (dk_at dksX1_passesOne_3 0 rfl rfl)
theorem dX1_passesOne_72 : decode cX1_passesOne 72 = .ok (.iinc 4 1, 3) := dk_132 4 1 (dk_at dksX1_passesOne_3 1 rfl rfl)
theorem dX1_passesOne_75 : decode cX1_passesOne 75 = .ok (.goto (-51), 3) := dk_167 255 205 (dk_at dksX1_passesOne_3 4 rfl rfl)
theorem dX1_passesOne_78 : decode cX1_passesOne 78 = .ok (.iconst 0, 1) := dk_3 (dk_at dksX1_passesOne_3 7 rfl rfl)
theorem dX1_passesOne_79 : decode cX1_passesOne 79 = .ok (.istore 4, 2) := dk_54 4 (dk_at dksX1_passesOne_3 8 rfl rfl)
theorem dX1_passesOne_81 : decode cX1_passesOne 81 = .ok (.iload 4, 2) := dk_21 4 (dk_at dksX1_passesOne_3 10 rfl rfl)
theorem dX1_passesOne_83 : decode cX1_passesOne 83 = .ok (.aload_n 0, 1) := dk_42 (dk_at dksX1_passesOne_3 12 rfl rfl)
theorem dX1_passesOne_84 : decode cX1_passesOne 84 = .ok (.invokevirtual 157, 3) := dk_182 0 157 (dk_at dksX1_passesOne_3 13 rfl rfl)
theorem dX1_passesOne_87 : decode cX1_passesOne 87 = .ok (.if_icmp .ge 52, 3) := dk_162 0 52 (dk_at dksX1_passesOne_3 16 rfl rfl)
theorem dX1_passesOne_90 : decode cX1_passesOne 90 = .ok (.aload_n 1, 1) := dk_43 (dk_at dksX1_passesOne_3 19 rfl rfl)
theorem dX1_passesOne_91 : decode cX1_passesOne 91 = .ok (.getfield 173, 3) := dk_180 0 173 (dk_at dksX1_passesOne_3 20 rfl rfl)
theorem dX1_passesOne_94 : decode cX1_passesOne 94 = .ok (.iload 4, 2) := dk_21 4 (dk_at dksX1_passesOne_4 0 rfl rfl)
theorem dX1_passesOne_96 : decode cX1_passesOne 96 = .ok (.aload_n 0, 1) := dk_42 (dk_at dksX1_passesOne_4 2 rfl rfl)
theorem dX1_passesOne_97 : decode cX1_passesOne 97 = .ok (.iload 4, 2) := dk_21 4 (dk_at dksX1_passesOne_4 3 rfl rfl)
theorem dX1_passesOne_99 : decode cX1_passesOne 99 = .ok (.invokevirtual 166, 3) := dk_182 0 166 (dk_at dksX1_passesOne_4 5 rfl rfl)
theorem dX1_passesOne_102 : decode cX1_passesOne 102 = .ok (.aload_n 1, 1) := dk_43 (dk_at dksX1_passesOne_4 8 rfl rfl)
theorem dX1_passesOne_103 : decode cX1_passesOne 103 = .ok (.getfield 173, 3) := dk_180 0 173 (dk_at dksX1_passesOne_4 9 rfl rfl)
theorem dX1_passesOne_106 : decode cX1_passesOne 106 = .ok (.iload 4, 2) := dk_21 4 (dk_at dksX1_passesOne_4 12 rfl rfl)
theorem dX1_passesOne_108 : decode cX1_passesOne 108 = .ok (.iaload, 1) := dk_46 (dk_at dksX1_passesOne_4 14 rfl rfl)
theorem dX1_passesOne_109 : decode cX1_passesOne 109 = .ok (.invokevirtual 206, 3) := dk_182 0 206 (dk_at dksX1_passesOne_4 15 rfl rfl)
theorem dX1_passesOne_112 : decode cX1_passesOne 112 = .ok (.iastore, 1) := dk_79 (dk_at dksX1_passesOne_4 18 rfl rfl)
theorem dX1_passesOne_113 : decode cX1_passesOne 113 = .ok (.aload_n 1, 1) := dk_43 (dk_at dksX1_passesOne_4 19 rfl rfl)
theorem dX1_passesOne_114 : decode cX1_passesOne 114 = .ok (.getfield 185, 3) := dk_180 0 185 (dk_at dksX1_passesOne_4 20 rfl rfl)
theorem dX1_passesOne_117 : decode cX1_passesOne 117 = .ok (.iload 4, 2) := dk_21 4 (dk_at dksX1_passesOne_5 0 rfl rfl)
theorem dX1_passesOne_119 : decode cX1_passesOne 119 = .ok (.iconst 0, 1) := dk_3 (dk_at dksX1_passesOne_5 2 rfl rfl)
theorem dX1_passesOne_120 : decode cX1_passesOne 120 = .ok (.aload_n 1, 1) := dk_43 (dk_at dksX1_passesOne_5 3 rfl rfl)
theorem dX1_passesOne_121 : decode cX1_passesOne 121 = .ok (.getfield 185, 3) := dk_180 0 185 (dk_at dksX1_passesOne_5 4 rfl rfl)
theorem dX1_passesOne_124 : decode cX1_passesOne 124 = .ok (.iload 4, 2) := dk_21 4 (dk_at dksX1_passesOne_5 7 rfl rfl)
theorem dX1_passesOne_126 : decode cX1_passesOne 126 = .ok (.iaload, 1) := dk_46 (dk_at dksX1_passesOne_5 9 rfl rfl)
theorem dX1_passesOne_127 : decode cX1_passesOne 127 = .ok (.iconst 1, 1) := dk_4 (dk_at dksX1_passesOne_5 10 rfl rfl)
theorem dX1_passesOne_128 : decode cX1_passesOne 128 = .ok (.isub, 1) := dk_100 (dk_at dksX1_passesOne_5 11 rfl rfl)
theorem dX1_passesOne_129 : decode cX1_passesOne 129 = .ok (.invokestatic 7, 3) := dk_184 0 7 (dk_at dksX1_passesOne_5 12 rfl rfl)
theorem dX1_passesOne_132 : decode cX1_passesOne 132 = .ok (.iastore, 1) := dk_79 (dk_at dksX1_passesOne_5 15 rfl rfl)
theorem dX1_passesOne_133 : decode cX1_passesOne 133 = .ok (.iinc 4 1, 3) := dk_132 4 1 (dk_at dksX1_passesOne_5 16 rfl rfl)
theorem dX1_passesOne_136 : decode cX1_passesOne 136 = .ok (.goto (-55), 3) := dk_167 255 201 (dk_at dksX1_passesOne_5 19 rfl rfl)
theorem dX1_passesOne_139 : decode cX1_passesOne 139 = .ok (.aload_n 1, 1) := dk_43 (dk_at dksX1_passesOne_5 22 rfl rfl)
theorem dX1_passesOne_140 : decode cX1_passesOne 140 = .ok (.dup, 1) := dk_89 (dk_at dksX1_passesOne_5 23 rfl rfl)
theorem dX1_passesOne_141 : decode cX1_passesOne 141 = .ok (.getfield 193, 3) := dk_180 0 193 (dk_at dksX1_passesOne_6 0 rfl rfl)
theorem dX1_passesOne_144 : decode cX1_passesOne 144 = .ok (.iconst 1, 1) := dk_4 (dk_at dksX1_passesOne_6 3 rfl rfl)
theorem dX1_passesOne_145 : decode cX1_passesOne 145 = .ok (.iadd, 1) := dk_96 (dk_at dksX1_passesOne_6 4 rfl rfl)
theorem dX1_passesOne_146 : decode cX1_passesOne 146 = .ok (.putfield 193, 3) := dk_181 0 193 (dk_at dksX1_passesOne_6 5 rfl rfl)
theorem dX1_passesOne_149 : decode cX1_passesOne 149 = .ok (.return_, 1) := dk_177 (dk_at dksX1_passesOne_6 8 rfl rfl)
abbrev cX1_noon : ByteArray := prog_1_method_35_code
def yX1_noon : MethodName := ⟨RX1, "noon", "()I"⟩
def dkwX1_noon_0 : List UInt8 := [42, 182, 1, 27, 42, 42, 180, 0, 51, 182, 1, 42, 172]
abbrev dktX1_noon_0 : List UInt8 := dkwX1_noon_0 ++ []
theorem dksX1_noon_0 : cX1_noon.data.toList.drop 0 = dktX1_noon_0 := by decide +kernel
theorem dX1_noon_0 : decode cX1_noon 0 = .ok (.aload_n 0, 1) := dk_42 (dk_at dksX1_noon_0 0 rfl rfl)
theorem dX1_noon_1 : decode cX1_noon 1 = .ok (.invokevirtual 283, 3) := dk_182 1 27 (dk_at dksX1_noon_0 1 rfl rfl)
theorem dX1_noon_4 : decode cX1_noon 4 = .ok (.aload_n 0, 1) := dk_42 (dk_at dksX1_noon_0 4 rfl rfl)
theorem dX1_noon_5 : decode cX1_noon 5 = .ok (.aload_n 0, 1) := dk_42 (dk_at dksX1_noon_0 5 rfl rfl)
theorem dX1_noon_6 : decode cX1_noon 6 = .ok (.getfield 51, 3) := dk_180 0 51 (dk_at dksX1_noon_0 6 rfl rfl)
theorem dX1_noon_9 : decode cX1_noon 9 = .ok (.invokevirtual 298, 3) := dk_182 1 42 (dk_at dksX1_noon_0 9 rfl rfl)
theorem dX1_noon_12 : decode cX1_noon 12 = .ok (.ireturn, 1) := dk_172 (dk_at dksX1_noon_0 12 rfl rfl)
abbrev cX1_collects : ByteArray := prog_1_method_23_code
def yX1_collects : MethodName := ⟨RX1, "collects", "(LPulseRent$State;)I"⟩
def dkwX1_collects_6 : List UInt8 := [172]
abbrev dktX1_collects_6 : List UInt8 := dkwX1_collects_6 ++ []
def dkwX1_collects_5 : List UInt8 := [153, 0, 10, 43, 180, 0, 176, 29, 2, 79, 43, 180, 0, 199, 29, 3, 79, 132, 3, 1, 167, 255, 220, 28]
abbrev dktX1_collects_5 : List UInt8 := dkwX1_collects_5 ++ dktX1_collects_6
def dkwX1_collects_4 : List UInt8 := [132, 3, 1, 167, 255, 162, 3, 62, 29, 42, 182, 0, 157, 162, 0, 34, 43, 180, 0, 249, 29, 184, 0, 252]
abbrev dktX1_collects_4 : List UInt8 := dkwX1_collects_4 ++ dktX1_collects_5
def dkwX1_collects_3 : List UInt8 := [29, 46, 184, 0, 1, 54, 5, 43, 180, 0, 243, 29, 92, 46, 21, 5, 100, 79, 28, 21, 5, 96, 61]
abbrev dktX1_collects_3 : List UInt8 := dkwX1_collects_3 ++ dktX1_collects_4
def dkwX1_collects_2 : List UInt8 := [164, 0, 18, 43, 89, 180, 0, 249, 4, 29, 120, 128, 181, 0, 249, 167, 0, 32, 21, 4, 43, 180, 0, 243]
abbrev dktX1_collects_2 : List UInt8 := dkwX1_collects_2 ++ dktX1_collects_3
def dkwX1_collects_1 : List UInt8 := [43, 29, 182, 0, 240, 54, 4, 21, 4, 43, 180, 0, 243, 29, 46, 100, 42, 29, 182, 0, 166, 182, 0, 246]
abbrev dktX1_collects_1 : List UInt8 := dkwX1_collects_1 ++ dktX1_collects_2
def dkwX1_collects_0 : List UInt8 := [3, 61, 3, 62, 29, 42, 182, 0, 157, 162, 0, 92, 43, 29, 182, 0, 163, 154, 0, 6, 167, 0, 75, 42]
abbrev dktX1_collects_0 : List UInt8 := dkwX1_collects_0 ++ dktX1_collects_1
theorem dksX1_collects_0 : cX1_collects.data.toList.drop 0 = dktX1_collects_0 := by decide +kernel
theorem dksX1_collects_1 : cX1_collects.data.toList.drop 24 = dktX1_collects_1 := dk_seg dksX1_collects_0 24 rfl rfl
theorem dksX1_collects_2 : cX1_collects.data.toList.drop 48 = dktX1_collects_2 := dk_seg dksX1_collects_1 24 rfl rfl
theorem dksX1_collects_3 : cX1_collects.data.toList.drop 72 = dktX1_collects_3 := dk_seg dksX1_collects_2 24 rfl rfl
theorem dksX1_collects_4 : cX1_collects.data.toList.drop 95 = dktX1_collects_4 := dk_seg dksX1_collects_3 23 rfl rfl
theorem dksX1_collects_5 : cX1_collects.data.toList.drop 119 = dktX1_collects_5 := dk_seg dksX1_collects_4 24 rfl rfl
theorem dksX1_collects_6 : cX1_collects.data.toList.drop 143 = dktX1_collects_6 := dk_seg dksX1_collects_5 24 rfl rfl
theorem dX1_collects_0 : decode cX1_collects 0 = .ok (.iconst 0, 1) := dk_3 (dk_at dksX1_collects_0 0 rfl rfl)
theorem dX1_collects_1 : decode cX1_collects 1 = .ok (.istore_n 2, 1) := dk_61 (dk_at dksX1_collects_0 1 rfl rfl)
theorem dX1_collects_2 : decode cX1_collects 2 = .ok (.iconst 0, 1) := dk_3 (dk_at dksX1_collects_0 2 rfl rfl)
theorem dX1_collects_3 : decode cX1_collects 3 = .ok (.istore_n 3, 1) := dk_62 (dk_at dksX1_collects_0 3 rfl rfl)
theorem dX1_collects_4 : decode cX1_collects 4 = .ok (.iload_n 3, 1) := dk_29 (dk_at dksX1_collects_0 4 rfl rfl)
theorem dX1_collects_5 : decode cX1_collects 5 = .ok (.aload_n 0, 1) := dk_42 (dk_at dksX1_collects_0 5 rfl rfl)
theorem dX1_collects_6 : decode cX1_collects 6 = .ok (.invokevirtual 157, 3) := dk_182 0 157 (dk_at dksX1_collects_0 6 rfl rfl)
theorem dX1_collects_9 : decode cX1_collects 9 = .ok (.if_icmp .ge 92, 3) := dk_162 0 92 (dk_at dksX1_collects_0 9 rfl rfl)
theorem dX1_collects_12 : decode cX1_collects 12 = .ok (.aload_n 1, 1) := dk_43 (dk_at dksX1_collects_0 12 rfl rfl)
theorem dX1_collects_13 : decode cX1_collects 13 = .ok (.iload_n 3, 1) := dk_29 (dk_at dksX1_collects_0 13 rfl rfl)
theorem dX1_collects_14 : decode cX1_collects 14 = .ok (.invokevirtual 163, 3) := dk_182 0 163 (dk_at dksX1_collects_0 14 rfl rfl)
theorem dX1_collects_17 : decode cX1_collects 17 = .ok (.ifCond .ne 6, 3) := dk_154 0 6 (dk_at dksX1_collects_0 17 rfl rfl)
theorem dX1_collects_20 : decode cX1_collects 20 = .ok (.goto 75, 3) := dk_167 0 75 (dk_at dksX1_collects_0 20 rfl rfl)
theorem dX1_collects_23 : decode cX1_collects 23 = .ok (.aload_n 0, 1) := dk_42 (dk_at dksX1_collects_0 23 rfl rfl)
theorem dX1_collects_24 : decode cX1_collects 24 = .ok (.aload_n 1, 1) := dk_43 (dk_at dksX1_collects_1 0 rfl rfl)
theorem dX1_collects_25 : decode cX1_collects 25 = .ok (.iload_n 3, 1) := dk_29 (dk_at dksX1_collects_1 1 rfl rfl)
theorem dX1_collects_26 : decode cX1_collects 26 = .ok (.invokevirtual 240, 3) := dk_182 0 240 (dk_at dksX1_collects_1 2 rfl rfl)
theorem dX1_collects_29 : decode cX1_collects 29 = .ok (.istore 4, 2) := dk_54 4 (dk_at dksX1_collects_1 5 rfl rfl)
theorem dX1_collects_31 : decode cX1_collects 31 = .ok (.iload 4, 2) := dk_21 4 (dk_at dksX1_collects_1 7 rfl rfl)
theorem dX1_collects_33 : decode cX1_collects 33 = .ok (.aload_n 1, 1) := dk_43 (dk_at dksX1_collects_1 9 rfl rfl)
theorem dX1_collects_34 : decode cX1_collects 34 = .ok (.getfield 243, 3) := dk_180 0 243 (dk_at dksX1_collects_1 10 rfl rfl)
theorem dX1_collects_37 : decode cX1_collects 37 = .ok (.iload_n 3, 1) := dk_29 (dk_at dksX1_collects_1 13 rfl rfl)
theorem dX1_collects_38 : decode cX1_collects 38 = .ok (.iaload, 1) := dk_46 (dk_at dksX1_collects_1 14 rfl rfl)
theorem dX1_collects_39 : decode cX1_collects 39 = .ok (.isub, 1) := dk_100 (dk_at dksX1_collects_1 15 rfl rfl)
theorem dX1_collects_40 : decode cX1_collects 40 = .ok (.aload_n 0, 1) := dk_42 (dk_at dksX1_collects_1 16 rfl rfl)
theorem dX1_collects_41 : decode cX1_collects 41 = .ok (.iload_n 3, 1) := dk_29 (dk_at dksX1_collects_1 17 rfl rfl)
theorem dX1_collects_42 : decode cX1_collects 42 = .ok (.invokevirtual 166, 3) := dk_182 0 166 (dk_at dksX1_collects_1 18 rfl rfl)
theorem dX1_collects_45 : decode cX1_collects 45 = .ok (.invokevirtual 246, 3) := dk_182 0 246 (dk_at dksX1_collects_1 21 rfl rfl)
theorem dX1_collects_48 : decode cX1_collects 48 = .ok (.if_icmp .le 18, 3) := dk_164 0 18 (dk_at dksX1_collects_2 0 rfl rfl)
theorem dX1_collects_51 : decode cX1_collects 51 = .ok (.aload_n 1, 1) := dk_43 (dk_at dksX1_collects_2 3 rfl rfl)
theorem dX1_collects_52 : decode cX1_collects 52 = .ok (.dup, 1) := dk_89 (dk_at dksX1_collects_2 4 rfl rfl)
theorem dX1_collects_53 : decode cX1_collects 53 = .ok (.getfield 249, 3) := dk_180 0 249 (dk_at dksX1_collects_2 5 rfl rfl)
theorem dX1_collects_56 : decode cX1_collects 56 = .ok (.iconst 1, 1) := dk_4 (dk_at dksX1_collects_2 8 rfl rfl)
theorem dX1_collects_57 : decode cX1_collects 57 = .ok (.iload_n 3, 1) := dk_29 (dk_at dksX1_collects_2 9 rfl rfl)
theorem dX1_collects_58 : decode cX1_collects 58 = .ok (.ishl, 1) := dk_120 (dk_at dksX1_collects_2 10 rfl rfl)
theorem dX1_collects_59 : decode cX1_collects 59 = .ok (.ior, 1) := dk_128 (dk_at dksX1_collects_2 11 rfl rfl)
theorem dX1_collects_60 : decode cX1_collects 60 = .ok (.putfield 249, 3) := dk_181 0 249 (dk_at dksX1_collects_2 12 rfl rfl)
theorem dX1_collects_63 : decode cX1_collects 63 = .ok (.goto 32, 3) := dk_167 0 32 (dk_at dksX1_collects_2 15 rfl rfl)
theorem dX1_collects_66 : decode cX1_collects 66 = .ok (.iload 4, 2) := dk_21 4 (dk_at dksX1_collects_2 18 rfl rfl)
theorem dX1_collects_68 : decode cX1_collects 68 = .ok (.aload_n 1, 1) := dk_43 (dk_at dksX1_collects_2 20 rfl rfl)
theorem dX1_collects_69 : decode cX1_collects 69 = .ok (.getfield 243, 3) := dk_180 0 243 (dk_at dksX1_collects_2 21 rfl rfl)
theorem dX1_collects_72 : decode cX1_collects 72 = .ok (.iload_n 3, 1) := dk_29 (dk_at dksX1_collects_3 0 rfl rfl)
theorem dX1_collects_73 : decode cX1_collects 73 = .ok (.iaload, 1) := dk_46 (dk_at dksX1_collects_3 1 rfl rfl)
theorem dX1_collects_74 : decode cX1_collects 74 = .ok (.invokestatic 1, 3) := dk_184 0 1 (dk_at dksX1_collects_3 2 rfl rfl)
theorem dX1_collects_77 : decode cX1_collects 77 = .ok (.istore 5, 2) := dk_54 5 (dk_at dksX1_collects_3 5 rfl rfl)
theorem dX1_collects_79 : decode cX1_collects 79 = .ok (.aload_n 1, 1) := dk_43 (dk_at dksX1_collects_3 7 rfl rfl)
theorem dX1_collects_80 : decode cX1_collects 80 = .ok (.getfield 243, 3) := dk_180 0 243 (dk_at dksX1_collects_3 8 rfl rfl)
theorem dX1_collects_83 : decode cX1_collects 83 = .ok (.iload_n 3, 1) := dk_29 (dk_at dksX1_collects_3 11 rfl rfl)
theorem dX1_collects_84 : decode cX1_collects 84 = .ok (.dup2, 1) := dk_92 (dk_at dksX1_collects_3 12 rfl rfl)
theorem dX1_collects_85 : decode cX1_collects 85 = .ok (.iaload, 1) := dk_46 (dk_at dksX1_collects_3 13 rfl rfl)
theorem dX1_collects_86 : decode cX1_collects 86 = .ok (.iload 5, 2) := dk_21 5 (dk_at dksX1_collects_3 14 rfl rfl)
theorem dX1_collects_88 : decode cX1_collects 88 = .ok (.isub, 1) := dk_100 (dk_at dksX1_collects_3 16 rfl rfl)
theorem dX1_collects_89 : decode cX1_collects 89 = .ok (.iastore, 1) := dk_79 (dk_at dksX1_collects_3 17 rfl rfl)
theorem dX1_collects_90 : decode cX1_collects 90 = .ok (.iload_n 2, 1) := dk_28 (dk_at dksX1_collects_3 18 rfl rfl)
theorem dX1_collects_91 : decode cX1_collects 91 = .ok (.iload 5, 2) := dk_21 5 (dk_at dksX1_collects_3 19 rfl rfl)
theorem dX1_collects_93 : decode cX1_collects 93 = .ok (.iadd, 1) := dk_96 (dk_at dksX1_collects_3 21 rfl rfl)
theorem dX1_collects_94 : decode cX1_collects 94 = .ok (.istore_n 2, 1) := dk_61 (dk_at dksX1_collects_3 22 rfl rfl)
theorem dX1_collects_95 : decode cX1_collects 95 = .ok (.iinc 3 1, 3) := dk_132 3 1 (dk_at dksX1_collects_4 0 rfl rfl)
theorem dX1_collects_98 : decode cX1_collects 98 = .ok (.goto (-94), 3) := dk_167 255 162 (dk_at dksX1_collects_4 3 rfl rfl)
theorem dX1_collects_101 : decode cX1_collects 101 = .ok (.iconst 0, 1) := dk_3 (dk_at dksX1_collects_4 6 rfl rfl)
theorem dX1_collects_102 : decode cX1_collects 102 = .ok (.istore_n 3, 1) := dk_62 (dk_at dksX1_collects_4 7 rfl rfl)
theorem dX1_collects_103 : decode cX1_collects 103 = .ok (.iload_n 3, 1) := dk_29 (dk_at dksX1_collects_4 8 rfl rfl)
theorem dX1_collects_104 : decode cX1_collects 104 = .ok (.aload_n 0, 1) := dk_42 (dk_at dksX1_collects_4 9 rfl rfl)
theorem dX1_collects_105 : decode cX1_collects 105 = .ok (.invokevirtual 157, 3) := dk_182 0 157 (dk_at dksX1_collects_4 10 rfl rfl)
theorem dX1_collects_108 : decode cX1_collects 108 = .ok (.if_icmp .ge 34, 3) := dk_162 0 34 (dk_at dksX1_collects_4 13 rfl rfl)
theorem dX1_collects_111 : decode cX1_collects 111 = .ok (.aload_n 1, 1) := dk_43 (dk_at dksX1_collects_4 16 rfl rfl)
theorem dX1_collects_112 : decode cX1_collects 112 = .ok (.getfield 249, 3) := dk_180 0 249 (dk_at dksX1_collects_4 17 rfl rfl)
theorem dX1_collects_115 : decode cX1_collects 115 = .ok (.iload_n 3, 1) := dk_29 (dk_at dksX1_collects_4 20 rfl rfl)
theorem dX1_collects_116 : decode cX1_collects 116 = .ok (.invokestatic 252, 3) := dk_184 0 252 (dk_at dksX1_collects_4 21 rfl rfl)
theorem dX1_collects_119 : decode cX1_collects 119 = .ok (.ifCond .eq 10, 3) := dk_153 0 10 (dk_at dksX1_collects_5 0 rfl rfl)
theorem dX1_collects_122 : decode cX1_collects 122 = .ok (.aload_n 1, 1) := dk_43 (dk_at dksX1_collects_5 3 rfl rfl)
theorem dX1_collects_123 : decode cX1_collects 123 = .ok (.getfield 176, 3) := dk_180 0 176 (dk_at dksX1_collects_5 4 rfl rfl)
theorem dX1_collects_126 : decode cX1_collects 126 = .ok (.iload_n 3, 1) := dk_29 (dk_at dksX1_collects_5 7 rfl rfl)
theorem dX1_collects_127 : decode cX1_collects 127 = .ok (.iconst (-1), 1) := dk_2 (dk_at dksX1_collects_5 8 rfl rfl)
theorem dX1_collects_128 : decode cX1_collects 128 = .ok (.iastore, 1) := dk_79 (dk_at dksX1_collects_5 9 rfl rfl)
theorem dX1_collects_129 : decode cX1_collects 129 = .ok (.aload_n 1, 1) := dk_43 (dk_at dksX1_collects_5 10 rfl rfl)
theorem dX1_collects_130 : decode cX1_collects 130 = .ok (.getfield 199, 3) := dk_180 0 199 (dk_at dksX1_collects_5 11 rfl rfl)
theorem dX1_collects_133 : decode cX1_collects 133 = .ok (.iload_n 3, 1) := dk_29 (dk_at dksX1_collects_5 14 rfl rfl)
theorem dX1_collects_134 : decode cX1_collects 134 = .ok (.iconst 0, 1) := dk_3 (dk_at dksX1_collects_5 15 rfl rfl)
theorem dX1_collects_135 : decode cX1_collects 135 = .ok (.iastore, 1) := dk_79 (dk_at dksX1_collects_5 16 rfl rfl)
theorem dX1_collects_136 : decode cX1_collects 136 = .ok (.iinc 3 1, 3) := dk_132 3 1 (dk_at dksX1_collects_5 17 rfl rfl)
theorem dX1_collects_139 : decode cX1_collects 139 = .ok (.goto (-36), 3) := dk_167 255 220 (dk_at dksX1_collects_5 20 rfl rfl)
theorem dX1_collects_142 : decode cX1_collects 142 = .ok (.iload_n 2, 1) := dk_28 (dk_at dksX1_collects_5 23 rfl rfl)
theorem dX1_collects_143 : decode cX1_collects 143 = .ok (.ireturn, 1) := dk_172 (dk_at dksX1_collects_6 0 rfl rfl)
abbrev cX1_due : ByteArray := prog_1_method_22_code
def yX1_due : MethodName := ⟨RX1, "due", "(LPulseRent$State;I)I"⟩
def dkwX1_due_1 : List UInt8 := [182, 0, 166, 182, 0, 234, 182, 0, 237, 172]
abbrev dktX1_due_1 : List UInt8 := dkwX1_due_1 ++ []
def dkwX1_due_0 : List UInt8 := [42, 43, 180, 0, 199, 28, 46, 42, 43, 180, 0, 176, 28, 46, 182, 0, 179, 180, 0, 231, 42, 28]
abbrev dktX1_due_0 : List UInt8 := dkwX1_due_0 ++ dktX1_due_1
theorem dksX1_due_0 : cX1_due.data.toList.drop 0 = dktX1_due_0 := by decide +kernel
theorem dksX1_due_1 : cX1_due.data.toList.drop 22 = dktX1_due_1 := dk_seg dksX1_due_0 22 rfl rfl
theorem dX1_due_0 : decode cX1_due 0 = .ok (.aload_n 0, 1) := dk_42 (dk_at dksX1_due_0 0 rfl rfl)
theorem dX1_due_1 : decode cX1_due 1 = .ok (.aload_n 1, 1) := dk_43 (dk_at dksX1_due_0 1 rfl rfl)
theorem dX1_due_2 : decode cX1_due 2 = .ok (.getfield 199, 3) := dk_180 0 199 (dk_at dksX1_due_0 2 rfl rfl)
theorem dX1_due_5 : decode cX1_due 5 = .ok (.iload_n 2, 1) := dk_28 (dk_at dksX1_due_0 5 rfl rfl)
theorem dX1_due_6 : decode cX1_due 6 = .ok (.iaload, 1) := dk_46 (dk_at dksX1_due_0 6 rfl rfl)
theorem dX1_due_7 : decode cX1_due 7 = .ok (.aload_n 0, 1) := dk_42 (dk_at dksX1_due_0 7 rfl rfl)
theorem dX1_due_8 : decode cX1_due 8 = .ok (.aload_n 1, 1) := dk_43 (dk_at dksX1_due_0 8 rfl rfl)
theorem dX1_due_9 : decode cX1_due 9 = .ok (.getfield 176, 3) := dk_180 0 176 (dk_at dksX1_due_0 9 rfl rfl)
theorem dX1_due_12 : decode cX1_due 12 = .ok (.iload_n 2, 1) := dk_28 (dk_at dksX1_due_0 12 rfl rfl)
theorem dX1_due_13 : decode cX1_due 13 = .ok (.iaload, 1) := dk_46 (dk_at dksX1_due_0 13 rfl rfl)
theorem dX1_due_14 : decode cX1_due 14 = .ok (.invokevirtual 179, 3) := dk_182 0 179 (dk_at dksX1_due_0 14 rfl rfl)
theorem dX1_due_17 : decode cX1_due 17 = .ok (.getfield 231, 3) := dk_180 0 231 (dk_at dksX1_due_0 17 rfl rfl)
theorem dX1_due_20 : decode cX1_due 20 = .ok (.aload_n 0, 1) := dk_42 (dk_at dksX1_due_0 20 rfl rfl)
theorem dX1_due_21 : decode cX1_due 21 = .ok (.iload_n 2, 1) := dk_28 (dk_at dksX1_due_0 21 rfl rfl)
theorem dX1_due_22 : decode cX1_due 22 = .ok (.invokevirtual 166, 3) := dk_182 0 166 (dk_at dksX1_due_1 0 rfl rfl)
theorem dX1_due_25 : decode cX1_due 25 = .ok (.invokevirtual 234, 3) := dk_182 0 234 (dk_at dksX1_due_1 3 rfl rfl)
theorem dX1_due_28 : decode cX1_due 28 = .ok (.invokevirtual 237, 3) := dk_182 0 237 (dk_at dksX1_due_1 6 rfl rfl)
theorem dX1_due_31 : decode cX1_due 31 = .ok (.ireturn, 1) := dk_172 (dk_at dksX1_due_1 9 rfl rfl)
abbrev cX1_dueBy : ByteArray := prog_1_method_21_code
def yX1_dueBy : MethodName := ⟨RX1, "dueBy", "(III)I"⟩
def dkwX1_dueBy_2 : List UInt8 := [180, 0, 217, 42, 180, 0, 58, 182, 0, 225, 3, 17, 39, 15, 184, 0, 221, 172]
abbrev dktX1_dueBy_2 : List UInt8 := dkwX1_dueBy_2 ++ []
def dkwX1_dueBy_1 : List UInt8 := [180, 0, 58, 3, 27, 79, 42, 180, 0, 58, 4, 28, 79, 42, 180, 0, 58, 5, 29, 79, 42, 180, 0, 35]
abbrev dktX1_dueBy_1 : List UInt8 := dkwX1_dueBy_1 ++ dktX1_dueBy_2
def dkwX1_dueBy_0 : List UInt8 := [42, 180, 0, 35, 180, 0, 217, 199, 0, 14, 27, 28, 96, 3, 17, 39, 15, 184, 0, 221, 172, 42]
abbrev dktX1_dueBy_0 : List UInt8 := dkwX1_dueBy_0 ++ dktX1_dueBy_1
theorem dksX1_dueBy_0 : cX1_dueBy.data.toList.drop 0 = dktX1_dueBy_0 := by decide +kernel
theorem dksX1_dueBy_1 : cX1_dueBy.data.toList.drop 22 = dktX1_dueBy_1 := dk_seg dksX1_dueBy_0 22 rfl rfl
theorem dksX1_dueBy_2 : cX1_dueBy.data.toList.drop 46 = dktX1_dueBy_2 := dk_seg dksX1_dueBy_1 24 rfl rfl
theorem dX1_dueBy_0 : decode cX1_dueBy 0 = .ok (.aload_n 0, 1) := dk_42 (dk_at dksX1_dueBy_0 0 rfl rfl)
theorem dX1_dueBy_1 : decode cX1_dueBy 1 = .ok (.getfield 35, 3) := dk_180 0 35 (dk_at dksX1_dueBy_0 1 rfl rfl)
theorem dX1_dueBy_4 : decode cX1_dueBy 4 = .ok (.getfield 217, 3) := dk_180 0 217 (dk_at dksX1_dueBy_0 4 rfl rfl)
theorem dX1_dueBy_7 : decode cX1_dueBy 7 = .ok (.ifnonnull 14, 3) := dk_199 0 14 (dk_at dksX1_dueBy_0 7 rfl rfl)
theorem dX1_dueBy_10 : decode cX1_dueBy 10 = .ok (.iload_n 1, 1) := dk_27 (dk_at dksX1_dueBy_0 10 rfl rfl)
theorem dX1_dueBy_11 : decode cX1_dueBy 11 = .ok (.iload_n 2, 1) := dk_28 (dk_at dksX1_dueBy_0 11 rfl rfl)
theorem dX1_dueBy_12 : decode cX1_dueBy 12 = .ok (.iadd, 1) := dk_96 (dk_at dksX1_dueBy_0 12 rfl rfl)
theorem dX1_dueBy_13 : decode cX1_dueBy 13 = .ok (.iconst 0, 1) := dk_3 (dk_at dksX1_dueBy_0 13 rfl rfl)
theorem dX1_dueBy_14 : decode cX1_dueBy 14 = .ok (.sipush 9999, 3) := dk_17 39 15 (dk_at dksX1_dueBy_0 14 rfl rfl)
theorem dX1_dueBy_17 : decode cX1_dueBy 17 = .ok (.invokestatic 221, 3) := dk_184 0 221 (dk_at dksX1_dueBy_0 17 rfl rfl)
theorem dX1_dueBy_20 : decode cX1_dueBy 20 = .ok (.ireturn, 1) := dk_172 (dk_at dksX1_dueBy_0 20 rfl rfl)
theorem dX1_dueBy_21 : decode cX1_dueBy 21 = .ok (.aload_n 0, 1) := dk_42 (dk_at dksX1_dueBy_0 21 rfl rfl)
theorem dX1_dueBy_22 : decode cX1_dueBy 22 = .ok (.getfield 58, 3) := dk_180 0 58 (dk_at dksX1_dueBy_1 0 rfl rfl)
theorem dX1_dueBy_25 : decode cX1_dueBy 25 = .ok (.iconst 0, 1) := dk_3 (dk_at dksX1_dueBy_1 3 rfl rfl)
theorem dX1_dueBy_26 : decode cX1_dueBy 26 = .ok (.iload_n 1, 1) := dk_27 (dk_at dksX1_dueBy_1 4 rfl rfl)
theorem dX1_dueBy_27 : decode cX1_dueBy 27 = .ok (.iastore, 1) := dk_79 (dk_at dksX1_dueBy_1 5 rfl rfl)
theorem dX1_dueBy_28 : decode cX1_dueBy 28 = .ok (.aload_n 0, 1) := dk_42 (dk_at dksX1_dueBy_1 6 rfl rfl)
theorem dX1_dueBy_29 : decode cX1_dueBy 29 = .ok (.getfield 58, 3) := dk_180 0 58 (dk_at dksX1_dueBy_1 7 rfl rfl)
theorem dX1_dueBy_32 : decode cX1_dueBy 32 = .ok (.iconst 1, 1) := dk_4 (dk_at dksX1_dueBy_1 10 rfl rfl)
theorem dX1_dueBy_33 : decode cX1_dueBy 33 = .ok (.iload_n 2, 1) := dk_28 (dk_at dksX1_dueBy_1 11 rfl rfl)
theorem dX1_dueBy_34 : decode cX1_dueBy 34 = .ok (.iastore, 1) := dk_79 (dk_at dksX1_dueBy_1 12 rfl rfl)
theorem dX1_dueBy_35 : decode cX1_dueBy 35 = .ok (.aload_n 0, 1) := dk_42 (dk_at dksX1_dueBy_1 13 rfl rfl)
theorem dX1_dueBy_36 : decode cX1_dueBy 36 = .ok (.getfield 58, 3) := dk_180 0 58 (dk_at dksX1_dueBy_1 14 rfl rfl)
theorem dX1_dueBy_39 : decode cX1_dueBy 39 = .ok (.iconst 2, 1) := dk_5 (dk_at dksX1_dueBy_1 17 rfl rfl)
theorem dX1_dueBy_40 : decode cX1_dueBy 40 = .ok (.iload_n 3, 1) := dk_29 (dk_at dksX1_dueBy_1 18 rfl rfl)
theorem dX1_dueBy_41 : decode cX1_dueBy 41 = .ok (.iastore, 1) := dk_79 (dk_at dksX1_dueBy_1 19 rfl rfl)
theorem dX1_dueBy_42 : decode cX1_dueBy 42 = .ok (.aload_n 0, 1) := dk_42 (dk_at dksX1_dueBy_1 20 rfl rfl)
theorem dX1_dueBy_43 : decode cX1_dueBy 43 = .ok (.getfield 35, 3) := dk_180 0 35 (dk_at dksX1_dueBy_1 21 rfl rfl)
theorem dX1_dueBy_46 : decode cX1_dueBy 46 = .ok (.getfield 217, 3) := dk_180 0 217 (dk_at dksX1_dueBy_2 0 rfl rfl)
theorem dX1_dueBy_49 : decode cX1_dueBy 49 = .ok (.aload_n 0, 1) := dk_42 (dk_at dksX1_dueBy_2 3 rfl rfl)
theorem dX1_dueBy_50 : decode cX1_dueBy 50 = .ok (.getfield 58, 3) := dk_180 0 58 (dk_at dksX1_dueBy_2 4 rfl rfl)
theorem dX1_dueBy_53 : decode cX1_dueBy 53 = .ok (.invokevirtual 225, 3) := dk_182 0 225 (dk_at dksX1_dueBy_2 7 rfl rfl)
theorem dX1_dueBy_56 : decode cX1_dueBy 56 = .ok (.iconst 0, 1) := dk_3 (dk_at dksX1_dueBy_2 10 rfl rfl)
theorem dX1_dueBy_57 : decode cX1_dueBy 57 = .ok (.sipush 9999, 3) := dk_17 39 15 (dk_at dksX1_dueBy_2 11 rfl rfl)
theorem dX1_dueBy_60 : decode cX1_dueBy 60 = .ok (.invokestatic 221, 3) := dk_184 0 221 (dk_at dksX1_dueBy_2 14 rfl rfl)
theorem dX1_dueBy_63 : decode cX1_dueBy 63 = .ok (.ireturn, 1) := dk_172 (dk_at dksX1_dueBy_2 17 rfl rfl)
abbrev cX1_between : ByteArray := prog_1_method_2_code
def yX1_between : MethodName := ⟨RX1, "between", "(III)I"⟩
def dkwX1_between_0 : List UInt8 := [27, 28, 26, 184, 0, 1, 184, 0, 7, 172]
abbrev dktX1_between_0 : List UInt8 := dkwX1_between_0 ++ []
theorem dksX1_between_0 : cX1_between.data.toList.drop 0 = dktX1_between_0 := by decide +kernel
theorem dX1_between_0 : decode cX1_between 0 = .ok (.iload_n 1, 1) := dk_27 (dk_at dksX1_between_0 0 rfl rfl)
theorem dX1_between_1 : decode cX1_between 1 = .ok (.iload_n 2, 1) := dk_28 (dk_at dksX1_between_0 1 rfl rfl)
theorem dX1_between_2 : decode cX1_between 2 = .ok (.iload_n 0, 1) := dk_26 (dk_at dksX1_between_0 2 rfl rfl)
theorem dX1_between_3 : decode cX1_between 3 = .ok (.invokestatic 1, 3) := dk_184 0 1 (dk_at dksX1_between_0 3 rfl rfl)
theorem dX1_between_6 : decode cX1_between 6 = .ok (.invokestatic 7, 3) := dk_184 0 7 (dk_at dksX1_between_0 6 rfl rfl)
theorem dX1_between_9 : decode cX1_between 9 = .ok (.ireturn, 1) := dk_172 (dk_at dksX1_between_0 9 rfl rfl)
abbrev cX1_move : ByteArray := prog_1_method_37_code
def yX1_move : MethodName := ⟨RX1, "move", "(II)Z"⟩
def dkwX1_move_1 : List UInt8 := [182, 1, 46, 154, 0, 5, 3, 172, 42, 182, 1, 27, 42, 180, 0, 51, 180, 0, 176, 27, 28, 79, 4, 172]
abbrev dktX1_move_1 : List UInt8 := dkwX1_move_1 ++ []
def dkwX1_move_0 : List UInt8 := [42, 27, 182, 0, 159, 153, 0, 24, 42, 28, 182, 0, 255, 153, 0, 16, 42, 42, 180, 0, 51, 27, 28]
abbrev dktX1_move_0 : List UInt8 := dkwX1_move_0 ++ dktX1_move_1
theorem dksX1_move_0 : cX1_move.data.toList.drop 0 = dktX1_move_0 := by decide +kernel
theorem dksX1_move_1 : cX1_move.data.toList.drop 23 = dktX1_move_1 := dk_seg dksX1_move_0 23 rfl rfl
theorem dX1_move_0 : decode cX1_move 0 = .ok (.aload_n 0, 1) := dk_42 (dk_at dksX1_move_0 0 rfl rfl)
theorem dX1_move_1 : decode cX1_move 1 = .ok (.iload_n 1, 1) := dk_27 (dk_at dksX1_move_0 1 rfl rfl)
theorem dX1_move_2 : decode cX1_move 2 = .ok (.invokevirtual 159, 3) := dk_182 0 159 (dk_at dksX1_move_0 2 rfl rfl)
theorem dX1_move_5 : decode cX1_move 5 = .ok (.ifCond .eq 24, 3) := dk_153 0 24 (dk_at dksX1_move_0 5 rfl rfl)
theorem dX1_move_8 : decode cX1_move 8 = .ok (.aload_n 0, 1) := dk_42 (dk_at dksX1_move_0 8 rfl rfl)
theorem dX1_move_9 : decode cX1_move 9 = .ok (.iload_n 2, 1) := dk_28 (dk_at dksX1_move_0 9 rfl rfl)
theorem dX1_move_10 : decode cX1_move 10 = .ok (.invokevirtual 255, 3) := dk_182 0 255 (dk_at dksX1_move_0 10 rfl rfl)
theorem dX1_move_13 : decode cX1_move 13 = .ok (.ifCond .eq 16, 3) := dk_153 0 16 (dk_at dksX1_move_0 13 rfl rfl)
theorem dX1_move_16 : decode cX1_move 16 = .ok (.aload_n 0, 1) := dk_42 (dk_at dksX1_move_0 16 rfl rfl)
theorem dX1_move_17 : decode cX1_move 17 = .ok (.aload_n 0, 1) := dk_42 (dk_at dksX1_move_0 17 rfl rfl)
theorem dX1_move_18 : decode cX1_move 18 = .ok (.getfield 51, 3) := dk_180 0 51 (dk_at dksX1_move_0 18 rfl rfl)
theorem dX1_move_21 : decode cX1_move 21 = .ok (.iload_n 1, 1) := dk_27 (dk_at dksX1_move_0 21 rfl rfl)
theorem dX1_move_22 : decode cX1_move 22 = .ok (.iload_n 2, 1) := dk_28 (dk_at dksX1_move_0 22 rfl rfl)
theorem dX1_move_23 : decode cX1_move 23 = .ok (.invokevirtual 302, 3) := dk_182 1 46 (dk_at dksX1_move_1 0 rfl rfl)
theorem dX1_move_26 : decode cX1_move 26 = .ok (.ifCond .ne 5, 3) := dk_154 0 5 (dk_at dksX1_move_1 3 rfl rfl)
theorem dX1_move_29 : decode cX1_move 29 = .ok (.iconst 0, 1) := dk_3 (dk_at dksX1_move_1 6 rfl rfl)
theorem dX1_move_30 : decode cX1_move 30 = .ok (.ireturn, 1) := dk_172 (dk_at dksX1_move_1 7 rfl rfl)
theorem dX1_move_31 : decode cX1_move 31 = .ok (.aload_n 0, 1) := dk_42 (dk_at dksX1_move_1 8 rfl rfl)
theorem dX1_move_32 : decode cX1_move 32 = .ok (.invokevirtual 283, 3) := dk_182 1 27 (dk_at dksX1_move_1 9 rfl rfl)
theorem dX1_move_35 : decode cX1_move 35 = .ok (.aload_n 0, 1) := dk_42 (dk_at dksX1_move_1 12 rfl rfl)
theorem dX1_move_36 : decode cX1_move 36 = .ok (.getfield 51, 3) := dk_180 0 51 (dk_at dksX1_move_1 13 rfl rfl)
theorem dX1_move_39 : decode cX1_move 39 = .ok (.getfield 176, 3) := dk_180 0 176 (dk_at dksX1_move_1 16 rfl rfl)
theorem dX1_move_42 : decode cX1_move 42 = .ok (.iload_n 1, 1) := dk_27 (dk_at dksX1_move_1 19 rfl rfl)
theorem dX1_move_43 : decode cX1_move 43 = .ok (.iload_n 2, 1) := dk_28 (dk_at dksX1_move_1 20 rfl rfl)
theorem dX1_move_44 : decode cX1_move 44 = .ok (.iastore, 1) := dk_79 (dk_at dksX1_move_1 21 rfl rfl)
theorem dX1_move_45 : decode cX1_move 45 = .ok (.iconst 1, 1) := dk_4 (dk_at dksX1_move_1 22 rfl rfl)
theorem dX1_move_46 : decode cX1_move 46 = .ok (.ireturn, 1) := dk_172 (dk_at dksX1_move_1 23 rfl rfl)
abbrev cX1_canMove : ByteArray := prog_1_method_36_code
def yX1_canMove : MethodName := ⟨RX1, "canMove", "(LPulseRent$State;II)Z"⟩
def dkwX1_canMove_1 : List UInt8 := [3, 172]
abbrev dktX1_canMove_1 : List UInt8 := dkwX1_canMove_1 ++ []
def dkwX1_canMove_0 : List UInt8 := [43, 180, 0, 249, 28, 184, 0, 252, 154, 0, 16, 42, 43, 29, 182, 1, 5, 156, 0, 7, 4, 167, 0, 4]
abbrev dktX1_canMove_0 : List UInt8 := dkwX1_canMove_0 ++ dktX1_canMove_1
theorem dksX1_canMove_0 : cX1_canMove.data.toList.drop 0 = dktX1_canMove_0 := by decide +kernel
theorem dksX1_canMove_1 : cX1_canMove.data.toList.drop 24 = dktX1_canMove_1 := dk_seg dksX1_canMove_0 24 rfl rfl
theorem dX1_canMove_0 : decode cX1_canMove 0 = .ok (.aload_n 1, 1) := dk_43 (dk_at dksX1_canMove_0 0 rfl rfl)
theorem dX1_canMove_1 : decode cX1_canMove 1 = .ok (.getfield 249, 3) := dk_180 0 249 (dk_at dksX1_canMove_0 1 rfl rfl)
theorem dX1_canMove_4 : decode cX1_canMove 4 = .ok (.iload_n 2, 1) := dk_28 (dk_at dksX1_canMove_0 4 rfl rfl)
theorem dX1_canMove_5 : decode cX1_canMove 5 = .ok (.invokestatic 252, 3) := dk_184 0 252 (dk_at dksX1_canMove_0 5 rfl rfl)
theorem dX1_canMove_8 : decode cX1_canMove 8 = .ok (.ifCond .ne 16, 3) := dk_154 0 16 (dk_at dksX1_canMove_0 8 rfl rfl)
theorem dX1_canMove_11 : decode cX1_canMove 11 = .ok (.aload_n 0, 1) := dk_42 (dk_at dksX1_canMove_0 11 rfl rfl)
theorem dX1_canMove_12 : decode cX1_canMove 12 = .ok (.aload_n 1, 1) := dk_43 (dk_at dksX1_canMove_0 12 rfl rfl)
theorem dX1_canMove_13 : decode cX1_canMove 13 = .ok (.iload_n 3, 1) := dk_29 (dk_at dksX1_canMove_0 13 rfl rfl)
theorem dX1_canMove_14 : decode cX1_canMove 14 = .ok (.invokevirtual 261, 3) := dk_182 1 5 (dk_at dksX1_canMove_0 14 rfl rfl)
theorem dX1_canMove_17 : decode cX1_canMove 17 = .ok (.ifCond .ge 7, 3) := dk_156 0 7 (dk_at dksX1_canMove_0 17 rfl rfl)
theorem dX1_canMove_20 : decode cX1_canMove 20 = .ok (.iconst 1, 1) := dk_4 (dk_at dksX1_canMove_0 20 rfl rfl)
theorem dX1_canMove_21 : decode cX1_canMove 21 = .ok (.goto 4, 3) := dk_167 0 4 (dk_at dksX1_canMove_0 21 rfl rfl)
theorem dX1_canMove_24 : decode cX1_canMove 24 = .ok (.iconst 0, 1) := dk_3 (dk_at dksX1_canMove_1 0 rfl rfl)
theorem dX1_canMove_25 : decode cX1_canMove 25 = .ok (.ireturn, 1) := dk_172 (dk_at dksX1_canMove_1 1 rfl rfl)
abbrev cX1_undo : ByteArray := prog_1_method_38_code
def yX1_undo : MethodName := ⟨RX1, "undo", "()Z"⟩
def dkwX1_undo_1 : List UInt8 := [90, 181, 0, 126, 50, 182, 1, 20, 4, 172]
abbrev dktX1_undo_1 : List UInt8 := dkwX1_undo_1 ++ []
def dkwX1_undo_0 : List UInt8 := [42, 180, 0, 126, 154, 0, 5, 3, 172, 42, 180, 0, 51, 42, 180, 0, 62, 42, 89, 180, 0, 126, 4, 100]
abbrev dktX1_undo_0 : List UInt8 := dkwX1_undo_0 ++ dktX1_undo_1
theorem dksX1_undo_0 : cX1_undo.data.toList.drop 0 = dktX1_undo_0 := by decide +kernel
theorem dksX1_undo_1 : cX1_undo.data.toList.drop 24 = dktX1_undo_1 := dk_seg dksX1_undo_0 24 rfl rfl
theorem dX1_undo_0 : decode cX1_undo 0 = .ok (.aload_n 0, 1) := dk_42 (dk_at dksX1_undo_0 0 rfl rfl)
theorem dX1_undo_1 : decode cX1_undo 1 = .ok (.getfield 126, 3) := dk_180 0 126 (dk_at dksX1_undo_0 1 rfl rfl)
theorem dX1_undo_4 : decode cX1_undo 4 = .ok (.ifCond .ne 5, 3) := dk_154 0 5 (dk_at dksX1_undo_0 4 rfl rfl)
theorem dX1_undo_7 : decode cX1_undo 7 = .ok (.iconst 0, 1) := dk_3 (dk_at dksX1_undo_0 7 rfl rfl)
theorem dX1_undo_8 : decode cX1_undo 8 = .ok (.ireturn, 1) := dk_172 (dk_at dksX1_undo_0 8 rfl rfl)
theorem dX1_undo_9 : decode cX1_undo 9 = .ok (.aload_n 0, 1) := dk_42 (dk_at dksX1_undo_0 9 rfl rfl)
theorem dX1_undo_10 : decode cX1_undo 10 = .ok (.getfield 51, 3) := dk_180 0 51 (dk_at dksX1_undo_0 10 rfl rfl)
theorem dX1_undo_13 : decode cX1_undo 13 = .ok (.aload_n 0, 1) := dk_42 (dk_at dksX1_undo_0 13 rfl rfl)
theorem dX1_undo_14 : decode cX1_undo 14 = .ok (.getfield 62, 3) := dk_180 0 62 (dk_at dksX1_undo_0 14 rfl rfl)
theorem dX1_undo_17 : decode cX1_undo 17 = .ok (.aload_n 0, 1) := dk_42 (dk_at dksX1_undo_0 17 rfl rfl)
theorem dX1_undo_18 : decode cX1_undo 18 = .ok (.dup, 1) := dk_89 (dk_at dksX1_undo_0 18 rfl rfl)
theorem dX1_undo_19 : decode cX1_undo 19 = .ok (.getfield 126, 3) := dk_180 0 126 (dk_at dksX1_undo_0 19 rfl rfl)
theorem dX1_undo_22 : decode cX1_undo 22 = .ok (.iconst 1, 1) := dk_4 (dk_at dksX1_undo_0 22 rfl rfl)
theorem dX1_undo_23 : decode cX1_undo 23 = .ok (.isub, 1) := dk_100 (dk_at dksX1_undo_0 23 rfl rfl)
theorem dX1_undo_24 : decode cX1_undo 24 = .ok (.dup_x1, 1) := dk_90 (dk_at dksX1_undo_1 0 rfl rfl)
theorem dX1_undo_25 : decode cX1_undo 25 = .ok (.putfield 126, 3) := dk_181 0 126 (dk_at dksX1_undo_1 1 rfl rfl)
theorem dX1_undo_28 : decode cX1_undo 28 = .ok (.aaload, 1) := dk_50 (dk_at dksX1_undo_1 4 rfl rfl)
theorem dX1_undo_29 : decode cX1_undo 29 = .ok (.invokevirtual 276, 3) := dk_182 1 20 (dk_at dksX1_undo_1 5 rfl rfl)
theorem dX1_undo_32 : decode cX1_undo 32 = .ok (.iconst 1, 1) := dk_4 (dk_at dksX1_undo_1 8 rfl rfl)
theorem dX1_undo_33 : decode cX1_undo 33 = .ok (.ireturn, 1) := dk_172 (dk_at dksX1_undo_1 9 rfl rfl)
abbrev cX1_judged : ByteArray := prog_1_method_39_code
def yX1_judged : MethodName := ⟨RX1, "judged", "(I)I"⟩
def dkwX1_judged_5 : List UInt8 := [184, 1, 56, 172]
abbrev dktX1_judged_5 : List UInt8 := dkwX1_judged_5 ++ []
def dkwX1_judged_4 : List UInt8 := [154, 0, 7, 28, 167, 0, 22, 27, 4, 160, 0, 7, 29, 167, 0, 13, 42, 180, 0, 55, 180, 0, 249]
abbrev dktX1_judged_4 : List UInt8 := dkwX1_judged_4 ++ dktX1_judged_5
def dkwX1_judged_3 : List UInt8 := [42, 180, 0, 55, 180, 0, 249, 153, 0, 10, 29, 156, 0, 6, 21, 4, 62, 132, 4, 1, 167, 255, 194, 27]
abbrev dktX1_judged_3 : List UInt8 := dkwX1_judged_3 ++ dktX1_judged_4
def dkwX1_judged_2 : List UInt8 := [182, 0, 140, 192, 1, 50, 42, 42, 180, 0, 55, 182, 1, 52, 154, 0, 10, 28, 156, 0, 6, 21, 4, 61]
abbrev dktX1_judged_2 : List UInt8 := dkwX1_judged_2 ++ dktX1_judged_3
def dkwX1_judged_1 : List UInt8 := [61, 2, 62, 3, 54, 4, 21, 4, 42, 180, 0, 44, 182, 0, 136, 162, 0, 56, 42, 180, 0, 44, 21, 4]
abbrev dktX1_judged_1 : List UInt8 := dkwX1_judged_1 ++ dktX1_judged_2
def dkwX1_judged_0 : List UInt8 := [27, 3, 5, 184, 0, 153, 154, 0, 6, 16, 254, 172, 42, 180, 0, 55, 42, 180, 0, 35, 182, 0, 101, 2]
abbrev dktX1_judged_0 : List UInt8 := dkwX1_judged_0 ++ dktX1_judged_1
theorem dksX1_judged_0 : cX1_judged.data.toList.drop 0 = dktX1_judged_0 := by decide +kernel
theorem dksX1_judged_1 : cX1_judged.data.toList.drop 24 = dktX1_judged_1 := dk_seg dksX1_judged_0 24 rfl rfl
theorem dksX1_judged_2 : cX1_judged.data.toList.drop 48 = dktX1_judged_2 := dk_seg dksX1_judged_1 24 rfl rfl
theorem dksX1_judged_3 : cX1_judged.data.toList.drop 72 = dktX1_judged_3 := dk_seg dksX1_judged_2 24 rfl rfl
theorem dksX1_judged_4 : cX1_judged.data.toList.drop 96 = dktX1_judged_4 := dk_seg dksX1_judged_3 24 rfl rfl
theorem dksX1_judged_5 : cX1_judged.data.toList.drop 119 = dktX1_judged_5 := dk_seg dksX1_judged_4 23 rfl rfl
theorem dX1_judged_0 : decode cX1_judged 0 = .ok (.iload_n 1, 1) := dk_27 (dk_at dksX1_judged_0 0 rfl rfl)
theorem dX1_judged_1 : decode cX1_judged 1 = .ok (.iconst 0, 1) := dk_3 (dk_at dksX1_judged_0 1 rfl rfl)
theorem dX1_judged_2 : decode cX1_judged 2 = .ok (.iconst 2, 1) := dk_5 (dk_at dksX1_judged_0 2 rfl rfl)
theorem dX1_judged_3 : decode cX1_judged 3 = .ok (.invokestatic 153, 3) := dk_184 0 153 (dk_at dksX1_judged_0 3 rfl rfl)
theorem dX1_judged_6 : decode cX1_judged 6 = .ok (.ifCond .ne 6, 3) := dk_154 0 6 (dk_at dksX1_judged_0 6 rfl rfl)
theorem dX1_judged_9 : decode cX1_judged 9 = .ok (.bipush (-2), 2) := dk_16 254 (dk_at dksX1_judged_0 9 rfl rfl)
theorem dX1_judged_11 : decode cX1_judged 11 = .ok (.ireturn, 1) := dk_172 (dk_at dksX1_judged_0 11 rfl rfl)
theorem dX1_judged_12 : decode cX1_judged 12 = .ok (.aload_n 0, 1) := dk_42 (dk_at dksX1_judged_0 12 rfl rfl)
theorem dX1_judged_13 : decode cX1_judged 13 = .ok (.getfield 55, 3) := dk_180 0 55 (dk_at dksX1_judged_0 13 rfl rfl)
theorem dX1_judged_16 : decode cX1_judged 16 = .ok (.aload_n 0, 1) := dk_42 (dk_at dksX1_judged_0 16 rfl rfl)
theorem dX1_judged_17 : decode cX1_judged 17 = .ok (.getfield 35, 3) := dk_180 0 35 (dk_at dksX1_judged_0 17 rfl rfl)
theorem dX1_judged_20 : decode cX1_judged 20 = .ok (.invokevirtual 101, 3) := dk_182 0 101 (dk_at dksX1_judged_0 20 rfl rfl)
theorem dX1_judged_23 : decode cX1_judged 23 = .ok (.iconst (-1), 1) := dk_2 (dk_at dksX1_judged_0 23 rfl rfl)
theorem dX1_judged_24 : decode cX1_judged 24 = .ok (.istore_n 2, 1) := dk_61 (dk_at dksX1_judged_1 0 rfl rfl)
theorem dX1_judged_25 : decode cX1_judged 25 = .ok (.iconst (-1), 1) := dk_2 (dk_at dksX1_judged_1 1 rfl rfl)
theorem dX1_judged_26 : decode cX1_judged 26 = .ok (.istore_n 3, 1) := dk_62 (dk_at dksX1_judged_1 2 rfl rfl)
theorem dX1_judged_27 : decode cX1_judged 27 = .ok (.iconst 0, 1) := dk_3 (dk_at dksX1_judged_1 3 rfl rfl)
theorem dX1_judged_28 : decode cX1_judged 28 = .ok (.istore 4, 2) := dk_54 4 (dk_at dksX1_judged_1 4 rfl rfl)
theorem dX1_judged_30 : decode cX1_judged 30 = .ok (.iload 4, 2) := dk_21 4 (dk_at dksX1_judged_1 6 rfl rfl)
theorem dX1_judged_32 : decode cX1_judged 32 = .ok (.aload_n 0, 1) := dk_42 (dk_at dksX1_judged_1 8 rfl rfl)
theorem dX1_judged_33 : decode cX1_judged 33 = .ok (.getfield 44, 3) := dk_180 0 44 (dk_at dksX1_judged_1 9 rfl rfl)
theorem dX1_judged_36 : decode cX1_judged 36 = .ok (.invokevirtual 136, 3) := dk_182 0 136 (dk_at dksX1_judged_1 12 rfl rfl)
theorem dX1_judged_39 : decode cX1_judged 39 = .ok (.if_icmp .ge 56, 3) := dk_162 0 56 (dk_at dksX1_judged_1 15 rfl rfl)
theorem dX1_judged_42 : decode cX1_judged 42 = .ok (.aload_n 0, 1) := dk_42 (dk_at dksX1_judged_1 18 rfl rfl)
theorem dX1_judged_43 : decode cX1_judged 43 = .ok (.getfield 44, 3) := dk_180 0 44 (dk_at dksX1_judged_1 19 rfl rfl)
theorem dX1_judged_46 : decode cX1_judged 46 = .ok (.iload 4, 2) := dk_21 4 (dk_at dksX1_judged_1 22 rfl rfl)
theorem dX1_judged_48 : decode cX1_judged 48 = .ok (.invokevirtual 140, 3) := dk_182 0 140 (dk_at dksX1_judged_2 0 rfl rfl)
theorem dX1_judged_51 : decode cX1_judged 51 = .ok (.checkcast 306, 3) := dk_192 1 50 (dk_at dksX1_judged_2 3 rfl rfl)
theorem dX1_judged_54 : decode cX1_judged 54 = .ok (.aload_n 0, 1) := dk_42 (dk_at dksX1_judged_2 6 rfl rfl)
theorem dX1_judged_55 : decode cX1_judged 55 = .ok (.aload_n 0, 1) := dk_42 (dk_at dksX1_judged_2 7 rfl rfl)
theorem dX1_judged_56 : decode cX1_judged 56 = .ok (.getfield 55, 3) := dk_180 0 55 (dk_at dksX1_judged_2 8 rfl rfl)
theorem dX1_judged_59 : decode cX1_judged 59 = .ok (.invokevirtual 308, 3) := dk_182 1 52 (dk_at dksX1_judged_2 11 rfl rfl)
theorem dX1_judged_62 : decode cX1_judged 62 = .ok (.ifCond .ne 10, 3) := dk_154 0 10 (dk_at dksX1_judged_2 14 rfl rfl)
theorem dX1_judged_65 : decode cX1_judged 65 = .ok (.iload_n 2, 1) := dk_28 (dk_at dksX1_judged_2 17 rfl rfl)
theorem dX1_judged_66 : decode cX1_judged 66 = .ok (.ifCond .ge 6, 3) := dk_156 0 6 (dk_at dksX1_judged_2 18 rfl rfl)
theorem dX1_judged_69 : decode cX1_judged 69 = .ok (.iload 4, 2) := dk_21 4 (dk_at dksX1_judged_2 21 rfl rfl)
theorem dX1_judged_71 : decode cX1_judged 71 = .ok (.istore_n 2, 1) := dk_61 (dk_at dksX1_judged_2 23 rfl rfl)
theorem dX1_judged_72 : decode cX1_judged 72 = .ok (.aload_n 0, 1) := dk_42 (dk_at dksX1_judged_3 0 rfl rfl)
theorem dX1_judged_73 : decode cX1_judged 73 = .ok (.getfield 55, 3) := dk_180 0 55 (dk_at dksX1_judged_3 1 rfl rfl)
theorem dX1_judged_76 : decode cX1_judged 76 = .ok (.getfield 249, 3) := dk_180 0 249 (dk_at dksX1_judged_3 4 rfl rfl)
theorem dX1_judged_79 : decode cX1_judged 79 = .ok (.ifCond .eq 10, 3) := dk_153 0 10 (dk_at dksX1_judged_3 7 rfl rfl)
theorem dX1_judged_82 : decode cX1_judged 82 = .ok (.iload_n 3, 1) := dk_29 (dk_at dksX1_judged_3 10 rfl rfl)
theorem dX1_judged_83 : decode cX1_judged 83 = .ok (.ifCond .ge 6, 3) := dk_156 0 6 (dk_at dksX1_judged_3 11 rfl rfl)
theorem dX1_judged_86 : decode cX1_judged 86 = .ok (.iload 4, 2) := dk_21 4 (dk_at dksX1_judged_3 14 rfl rfl)
theorem dX1_judged_88 : decode cX1_judged 88 = .ok (.istore_n 3, 1) := dk_62 (dk_at dksX1_judged_3 16 rfl rfl)
theorem dX1_judged_89 : decode cX1_judged 89 = .ok (.iinc 4 1, 3) := dk_132 4 1 (dk_at dksX1_judged_3 17 rfl rfl)
theorem dX1_judged_92 : decode cX1_judged 92 = .ok (.goto (-62), 3) := dk_167 255 194 (dk_at dksX1_judged_3 20 rfl rfl)
theorem dX1_judged_95 : decode cX1_judged 95 = .ok (.iload_n 1, 1) := dk_27 (dk_at dksX1_judged_3 23 rfl rfl)
theorem dX1_judged_96 : decode cX1_judged 96 = .ok (.ifCond .ne 7, 3) := dk_154 0 7 (dk_at dksX1_judged_4 0 rfl rfl)
theorem dX1_judged_99 : decode cX1_judged 99 = .ok (.iload_n 2, 1) := dk_28 (dk_at dksX1_judged_4 3 rfl rfl)
theorem dX1_judged_100 : decode cX1_judged 100 = .ok (.goto 22, 3) := dk_167 0 22 (dk_at dksX1_judged_4 4 rfl rfl)
theorem dX1_judged_103 : decode cX1_judged 103 = .ok (.iload_n 1, 1) := dk_27 (dk_at dksX1_judged_4 7 rfl rfl)
theorem dX1_judged_104 : decode cX1_judged 104 = .ok (.iconst 1, 1) := dk_4 (dk_at dksX1_judged_4 8 rfl rfl)
theorem dX1_judged_105 : decode cX1_judged 105 = .ok (.if_icmp .ne 7, 3) := dk_160 0 7 (dk_at dksX1_judged_4 9 rfl rfl)
theorem dX1_judged_108 : decode cX1_judged 108 = .ok (.iload_n 3, 1) := dk_29 (dk_at dksX1_judged_4 12 rfl rfl)
theorem dX1_judged_109 : decode cX1_judged 109 = .ok (.goto 13, 3) := dk_167 0 13 (dk_at dksX1_judged_4 13 rfl rfl)
theorem dX1_judged_112 : decode cX1_judged 112 = .ok (.aload_n 0, 1) := dk_42 (dk_at dksX1_judged_4 16 rfl rfl)
theorem dX1_judged_113 : decode cX1_judged 113 = .ok (.getfield 55, 3) := dk_180 0 55 (dk_at dksX1_judged_4 17 rfl rfl)
theorem dX1_judged_116 : decode cX1_judged 116 = .ok (.getfield 249, 3) := dk_180 0 249 (dk_at dksX1_judged_4 20 rfl rfl)
theorem dX1_judged_119 : decode cX1_judged 119 = .ok (.invokestatic 312, 3) := dk_184 1 56 (dk_at dksX1_judged_5 0 rfl rfl)
theorem dX1_judged_122 : decode cX1_judged 122 = .ok (.ireturn, 1) := dk_172 (dk_at dksX1_judged_5 3 rfl rfl)
abbrev cX1_owed : ByteArray := prog_1_method_40_code
def yX1_owed : MethodName := ⟨RX1, "owed", "(I)I"⟩
def dkwX1_owed_0 : List UInt8 := [42, 27, 182, 1, 17, 153, 0, 15, 42, 42, 180, 0, 51, 27, 182, 0, 240, 167, 0, 4, 2, 172]
abbrev dktX1_owed_0 : List UInt8 := dkwX1_owed_0 ++ []
theorem dksX1_owed_0 : cX1_owed.data.toList.drop 0 = dktX1_owed_0 := by decide +kernel
theorem dX1_owed_0 : decode cX1_owed 0 = .ok (.aload_n 0, 1) := dk_42 (dk_at dksX1_owed_0 0 rfl rfl)
theorem dX1_owed_1 : decode cX1_owed 1 = .ok (.iload_n 1, 1) := dk_27 (dk_at dksX1_owed_0 1 rfl rfl)
theorem dX1_owed_2 : decode cX1_owed 2 = .ok (.invokevirtual 273, 3) := dk_182 1 17 (dk_at dksX1_owed_0 2 rfl rfl)
theorem dX1_owed_5 : decode cX1_owed 5 = .ok (.ifCond .eq 15, 3) := dk_153 0 15 (dk_at dksX1_owed_0 5 rfl rfl)
theorem dX1_owed_8 : decode cX1_owed 8 = .ok (.aload_n 0, 1) := dk_42 (dk_at dksX1_owed_0 8 rfl rfl)
theorem dX1_owed_9 : decode cX1_owed 9 = .ok (.aload_n 0, 1) := dk_42 (dk_at dksX1_owed_0 9 rfl rfl)
theorem dX1_owed_10 : decode cX1_owed 10 = .ok (.getfield 51, 3) := dk_180 0 51 (dk_at dksX1_owed_0 10 rfl rfl)
theorem dX1_owed_13 : decode cX1_owed 13 = .ok (.iload_n 1, 1) := dk_27 (dk_at dksX1_owed_0 13 rfl rfl)
theorem dX1_owed_14 : decode cX1_owed 14 = .ok (.invokevirtual 240, 3) := dk_182 0 240 (dk_at dksX1_owed_0 14 rfl rfl)
theorem dX1_owed_17 : decode cX1_owed 17 = .ok (.goto 4, 3) := dk_167 0 4 (dk_at dksX1_owed_0 17 rfl rfl)
theorem dX1_owed_20 : decode cX1_owed 20 = .ok (.iconst (-1), 1) := dk_2 (dk_at dksX1_owed_0 20 rfl rfl)
theorem dX1_owed_21 : decode cX1_owed 21 = .ok (.ireturn, 1) := dk_172 (dk_at dksX1_owed_0 21 rfl rfl)
abbrev cX1_will : ByteArray := prog_1_method_41_code
def yX1_will : MethodName := ⟨RX1, "will", "(II)I"⟩
def dkwX1_will_2 : List UInt8 := [180, 0, 199, 27, 46, 172]
abbrev dktX1_will_2 : List UInt8 := dkwX1_will_2 ++ []
def dkwX1_will_1 : List UInt8 := [180, 0, 55, 42, 180, 0, 51, 182, 1, 20, 42, 42, 180, 0, 55, 28, 182, 1, 39, 42, 180, 0, 55]
abbrev dktX1_will_1 : List UInt8 := dkwX1_will_1 ++ dktX1_will_2
def dkwX1_will_0 : List UInt8 := [42, 27, 182, 1, 17, 153, 0, 14, 28, 3, 17, 0, 240, 184, 0, 153, 154, 0, 5, 2, 172, 42]
abbrev dktX1_will_0 : List UInt8 := dkwX1_will_0 ++ dktX1_will_1
theorem dksX1_will_0 : cX1_will.data.toList.drop 0 = dktX1_will_0 := by decide +kernel
theorem dksX1_will_1 : cX1_will.data.toList.drop 22 = dktX1_will_1 := dk_seg dksX1_will_0 22 rfl rfl
theorem dksX1_will_2 : cX1_will.data.toList.drop 45 = dktX1_will_2 := dk_seg dksX1_will_1 23 rfl rfl
theorem dX1_will_0 : decode cX1_will 0 = .ok (.aload_n 0, 1) := dk_42 (dk_at dksX1_will_0 0 rfl rfl)
theorem dX1_will_1 : decode cX1_will 1 = .ok (.iload_n 1, 1) := dk_27 (dk_at dksX1_will_0 1 rfl rfl)
theorem dX1_will_2 : decode cX1_will 2 = .ok (.invokevirtual 273, 3) := dk_182 1 17 (dk_at dksX1_will_0 2 rfl rfl)
theorem dX1_will_5 : decode cX1_will 5 = .ok (.ifCond .eq 14, 3) := dk_153 0 14 (dk_at dksX1_will_0 5 rfl rfl)
theorem dX1_will_8 : decode cX1_will 8 = .ok (.iload_n 2, 1) := dk_28 (dk_at dksX1_will_0 8 rfl rfl)
theorem dX1_will_9 : decode cX1_will 9 = .ok (.iconst 0, 1) := dk_3 (dk_at dksX1_will_0 9 rfl rfl)
theorem dX1_will_10 : decode cX1_will 10 = .ok (.sipush 240, 3) := dk_17 0 240 (dk_at dksX1_will_0 10 rfl rfl)
theorem dX1_will_13 : decode cX1_will 13 = .ok (.invokestatic 153, 3) := dk_184 0 153 (dk_at dksX1_will_0 13 rfl rfl)
theorem dX1_will_16 : decode cX1_will 16 = .ok (.ifCond .ne 5, 3) := dk_154 0 5 (dk_at dksX1_will_0 16 rfl rfl)
theorem dX1_will_19 : decode cX1_will 19 = .ok (.iconst (-1), 1) := dk_2 (dk_at dksX1_will_0 19 rfl rfl)
theorem dX1_will_20 : decode cX1_will 20 = .ok (.ireturn, 1) := dk_172 (dk_at dksX1_will_0 20 rfl rfl)
theorem dX1_will_21 : decode cX1_will 21 = .ok (.aload_n 0, 1) := dk_42 (dk_at dksX1_will_0 21 rfl rfl)
theorem dX1_will_22 : decode cX1_will 22 = .ok (.getfield 55, 3) := dk_180 0 55 (dk_at dksX1_will_1 0 rfl rfl)
theorem dX1_will_25 : decode cX1_will 25 = .ok (.aload_n 0, 1) := dk_42 (dk_at dksX1_will_1 3 rfl rfl)
theorem dX1_will_26 : decode cX1_will 26 = .ok (.getfield 51, 3) := dk_180 0 51 (dk_at dksX1_will_1 4 rfl rfl)
theorem dX1_will_29 : decode cX1_will 29 = .ok (.invokevirtual 276, 3) := dk_182 1 20 (dk_at dksX1_will_1 7 rfl rfl)
theorem dX1_will_32 : decode cX1_will 32 = .ok (.aload_n 0, 1) := dk_42 (dk_at dksX1_will_1 10 rfl rfl)
theorem dX1_will_33 : decode cX1_will 33 = .ok (.aload_n 0, 1) := dk_42 (dk_at dksX1_will_1 11 rfl rfl)
theorem dX1_will_34 : decode cX1_will 34 = .ok (.getfield 55, 3) := dk_180 0 55 (dk_at dksX1_will_1 12 rfl rfl)
theorem dX1_will_37 : decode cX1_will 37 = .ok (.iload_n 2, 1) := dk_28 (dk_at dksX1_will_1 15 rfl rfl)
theorem dX1_will_38 : decode cX1_will 38 = .ok (.invokevirtual 295, 3) := dk_182 1 39 (dk_at dksX1_will_1 16 rfl rfl)
theorem dX1_will_41 : decode cX1_will 41 = .ok (.aload_n 0, 1) := dk_42 (dk_at dksX1_will_1 19 rfl rfl)
theorem dX1_will_42 : decode cX1_will 42 = .ok (.getfield 55, 3) := dk_180 0 55 (dk_at dksX1_will_1 20 rfl rfl)
theorem dX1_will_45 : decode cX1_will 45 = .ok (.getfield 199, 3) := dk_180 0 199 (dk_at dksX1_will_2 0 rfl rfl)
theorem dX1_will_48 : decode cX1_will 48 = .ok (.iload_n 1, 1) := dk_27 (dk_at dksX1_will_2 3 rfl rfl)
theorem dX1_will_49 : decode cX1_will 49 = .ok (.iaload, 1) := dk_46 (dk_at dksX1_will_2 4 rfl rfl)
theorem dX1_will_50 : decode cX1_will 50 = .ok (.ireturn, 1) := dk_172 (dk_at dksX1_will_2 5 rfl rfl)
abbrev cX1_last : ByteArray := prog_1_method_42_code
def yX1_last : MethodName := ⟨RX1, "last", "(II)I"⟩
def dkwX1_last_3 : List UInt8 := [172, 132, 3, 1, 167, 255, 216, 29, 172]
abbrev dktX1_last_3 : List UInt8 := dkwX1_last_3 ++ []
def dkwX1_last_2 : List UInt8 := [182, 1, 39, 42, 42, 180, 0, 55, 182, 1, 42, 87, 42, 180, 0, 55, 27, 182, 0, 163, 154, 0, 5, 29]
abbrev dktX1_last_2 : List UInt8 := dkwX1_last_2 ++ dktX1_last_3
def dkwX1_last_1 : List UInt8 := [180, 0, 55, 42, 180, 0, 51, 182, 1, 20, 3, 62, 29, 16, 20, 162, 0, 40, 42, 42, 180, 0, 55, 28]
abbrev dktX1_last_1 : List UInt8 := dkwX1_last_1 ++ dktX1_last_2
def dkwX1_last_0 : List UInt8 := [42, 27, 182, 1, 17, 153, 0, 14, 28, 4, 17, 0, 240, 184, 0, 153, 154, 0, 5, 2, 172, 42]
abbrev dktX1_last_0 : List UInt8 := dkwX1_last_0 ++ dktX1_last_1
theorem dksX1_last_0 : cX1_last.data.toList.drop 0 = dktX1_last_0 := by decide +kernel
theorem dksX1_last_1 : cX1_last.data.toList.drop 22 = dktX1_last_1 := dk_seg dksX1_last_0 22 rfl rfl
theorem dksX1_last_2 : cX1_last.data.toList.drop 46 = dktX1_last_2 := dk_seg dksX1_last_1 24 rfl rfl
theorem dksX1_last_3 : cX1_last.data.toList.drop 70 = dktX1_last_3 := dk_seg dksX1_last_2 24 rfl rfl
theorem dX1_last_0 : decode cX1_last 0 = .ok (.aload_n 0, 1) := dk_42 (dk_at dksX1_last_0 0 rfl rfl)
theorem dX1_last_1 : decode cX1_last 1 = .ok (.iload_n 1, 1) := dk_27 (dk_at dksX1_last_0 1 rfl rfl)
theorem dX1_last_2 : decode cX1_last 2 = .ok (.invokevirtual 273, 3) := dk_182 1 17 (dk_at dksX1_last_0 2 rfl rfl)
theorem dX1_last_5 : decode cX1_last 5 = .ok (.ifCond .eq 14, 3) := dk_153 0 14 (dk_at dksX1_last_0 5 rfl rfl)
theorem dX1_last_8 : decode cX1_last 8 = .ok (.iload_n 2, 1) := dk_28 (dk_at dksX1_last_0 8 rfl rfl)
theorem dX1_last_9 : decode cX1_last 9 = .ok (.iconst 1, 1) := dk_4 (dk_at dksX1_last_0 9 rfl rfl)
theorem dX1_last_10 : decode cX1_last 10 = .ok (.sipush 240, 3) := dk_17 0 240 (dk_at dksX1_last_0 10 rfl rfl)
theorem dX1_last_13 : decode cX1_last 13 = .ok (.invokestatic 153, 3) := dk_184 0 153 (dk_at dksX1_last_0 13 rfl rfl)
theorem dX1_last_16 : decode cX1_last 16 = .ok (.ifCond .ne 5, 3) := dk_154 0 5 (dk_at dksX1_last_0 16 rfl rfl)
theorem dX1_last_19 : decode cX1_last 19 = .ok (.iconst (-1), 1) := dk_2 (dk_at dksX1_last_0 19 rfl rfl)
theorem dX1_last_20 : decode cX1_last 20 = .ok (.ireturn, 1) := dk_172 (dk_at dksX1_last_0 20 rfl rfl)
theorem dX1_last_21 : decode cX1_last 21 = .ok (.aload_n 0, 1) := dk_42 (dk_at dksX1_last_0 21 rfl rfl)
theorem dX1_last_22 : decode cX1_last 22 = .ok (.getfield 55, 3) := dk_180 0 55 (dk_at dksX1_last_1 0 rfl rfl)
theorem dX1_last_25 : decode cX1_last 25 = .ok (.aload_n 0, 1) := dk_42 (dk_at dksX1_last_1 3 rfl rfl)
theorem dX1_last_26 : decode cX1_last 26 = .ok (.getfield 51, 3) := dk_180 0 51 (dk_at dksX1_last_1 4 rfl rfl)
theorem dX1_last_29 : decode cX1_last 29 = .ok (.invokevirtual 276, 3) := dk_182 1 20 (dk_at dksX1_last_1 7 rfl rfl)
theorem dX1_last_32 : decode cX1_last 32 = .ok (.iconst 0, 1) := dk_3 (dk_at dksX1_last_1 10 rfl rfl)
theorem dX1_last_33 : decode cX1_last 33 = .ok (.istore_n 3, 1) := dk_62 (dk_at dksX1_last_1 11 rfl rfl)
theorem dX1_last_34 : decode cX1_last 34 = .ok (.iload_n 3, 1) := dk_29 (dk_at dksX1_last_1 12 rfl rfl)
theorem dX1_last_35 : decode cX1_last 35 = .ok (.bipush 20, 2) := dk_16 20 (dk_at dksX1_last_1 13 rfl rfl)
theorem dX1_last_37 : decode cX1_last 37 = .ok (.if_icmp .ge 40, 3) := dk_162 0 40 (dk_at dksX1_last_1 15 rfl rfl)
theorem dX1_last_40 : decode cX1_last 40 = .ok (.aload_n 0, 1) := dk_42 (dk_at dksX1_last_1 18 rfl rfl)
theorem dX1_last_41 : decode cX1_last 41 = .ok (.aload_n 0, 1) := dk_42 (dk_at dksX1_last_1 19 rfl rfl)
theorem dX1_last_42 : decode cX1_last 42 = .ok (.getfield 55, 3) := dk_180 0 55 (dk_at dksX1_last_1 20 rfl rfl)
theorem dX1_last_45 : decode cX1_last 45 = .ok (.iload_n 2, 1) := dk_28 (dk_at dksX1_last_1 23 rfl rfl)
theorem dX1_last_46 : decode cX1_last 46 = .ok (.invokevirtual 295, 3) := dk_182 1 39 (dk_at dksX1_last_2 0 rfl rfl)
theorem dX1_last_49 : decode cX1_last 49 = .ok (.aload_n 0, 1) := dk_42 (dk_at dksX1_last_2 3 rfl rfl)
theorem dX1_last_50 : decode cX1_last 50 = .ok (.aload_n 0, 1) := dk_42 (dk_at dksX1_last_2 4 rfl rfl)
theorem dX1_last_51 : decode cX1_last 51 = .ok (.getfield 55, 3) := dk_180 0 55 (dk_at dksX1_last_2 5 rfl rfl)
theorem dX1_last_54 : decode cX1_last 54 = .ok (.invokevirtual 298, 3) := dk_182 1 42 (dk_at dksX1_last_2 8 rfl rfl)
theorem dX1_last_57 : decode cX1_last 57 = .ok (.pop, 1) := dk_87 (dk_at dksX1_last_2 11 rfl rfl)
theorem dX1_last_58 : decode cX1_last 58 = .ok (.aload_n 0, 1) := dk_42 (dk_at dksX1_last_2 12 rfl rfl)
theorem dX1_last_59 : decode cX1_last 59 = .ok (.getfield 55, 3) := dk_180 0 55 (dk_at dksX1_last_2 13 rfl rfl)
theorem dX1_last_62 : decode cX1_last 62 = .ok (.iload_n 1, 1) := dk_27 (dk_at dksX1_last_2 16 rfl rfl)
theorem dX1_last_63 : decode cX1_last 63 = .ok (.invokevirtual 163, 3) := dk_182 0 163 (dk_at dksX1_last_2 17 rfl rfl)
theorem dX1_last_66 : decode cX1_last 66 = .ok (.ifCond .ne 5, 3) := dk_154 0 5 (dk_at dksX1_last_2 20 rfl rfl)
theorem dX1_last_69 : decode cX1_last 69 = .ok (.iload_n 3, 1) := dk_29 (dk_at dksX1_last_2 23 rfl rfl)
theorem dX1_last_70 : decode cX1_last 70 = .ok (.ireturn, 1) := dk_172 (dk_at dksX1_last_3 0 rfl rfl)
theorem dX1_last_71 : decode cX1_last 71 = .ok (.iinc 3 1, 3) := dk_132 3 1 (dk_at dksX1_last_3 1 rfl rfl)
theorem dX1_last_74 : decode cX1_last 74 = .ok (.goto (-40), 3) := dk_167 255 216 (dk_at dksX1_last_3 4 rfl rfl)
theorem dX1_last_77 : decode cX1_last 77 = .ok (.iload_n 3, 1) := dk_29 (dk_at dksX1_last_3 7 rfl rfl)
theorem dX1_last_78 : decode cX1_last 78 = .ok (.ireturn, 1) := dk_172 (dk_at dksX1_last_3 8 rfl rfl)
abbrev cX1_errands : ByteArray := prog_1_method_44_code
def yX1_errands : MethodName := ⟨RX1, "errands", "(II)I"⟩
def dkwX1_errands_2 : List UInt8 := [28, 154, 0, 10, 42, 180, 1, 61, 167, 0, 11, 42, 180, 0, 69, 28, 4, 100, 46, 172]
abbrev dktX1_errands_2 : List UInt8 := dkwX1_errands_2 ++ []
def dkwX1_errands_1 : List UInt8 := [154, 0, 5, 2, 172, 42, 2, 181, 1, 61, 42, 42, 27, 182, 0, 166, 3, 3, 3, 3, 3, 182, 1, 82]
abbrev dktX1_errands_1 : List UInt8 := dkwX1_errands_1 ++ dktX1_errands_2
def dkwX1_errands_0 : List UInt8 := [42, 27, 182, 0, 159, 153, 0, 21, 28, 3, 42, 180, 0, 35, 180, 1, 64, 182, 0, 136, 184, 0, 153]
abbrev dktX1_errands_0 : List UInt8 := dkwX1_errands_0 ++ dktX1_errands_1
theorem dksX1_errands_0 : cX1_errands.data.toList.drop 0 = dktX1_errands_0 := by decide +kernel
theorem dksX1_errands_1 : cX1_errands.data.toList.drop 23 = dktX1_errands_1 := dk_seg dksX1_errands_0 23 rfl rfl
theorem dksX1_errands_2 : cX1_errands.data.toList.drop 47 = dktX1_errands_2 := dk_seg dksX1_errands_1 24 rfl rfl
theorem dX1_errands_0 : decode cX1_errands 0 = .ok (.aload_n 0, 1) := dk_42 (dk_at dksX1_errands_0 0 rfl rfl)
theorem dX1_errands_1 : decode cX1_errands 1 = .ok (.iload_n 1, 1) := dk_27 (dk_at dksX1_errands_0 1 rfl rfl)
theorem dX1_errands_2 : decode cX1_errands 2 = .ok (.invokevirtual 159, 3) := dk_182 0 159 (dk_at dksX1_errands_0 2 rfl rfl)
theorem dX1_errands_5 : decode cX1_errands 5 = .ok (.ifCond .eq 21, 3) := dk_153 0 21 (dk_at dksX1_errands_0 5 rfl rfl)
theorem dX1_errands_8 : decode cX1_errands 8 = .ok (.iload_n 2, 1) := dk_28 (dk_at dksX1_errands_0 8 rfl rfl)
theorem dX1_errands_9 : decode cX1_errands 9 = .ok (.iconst 0, 1) := dk_3 (dk_at dksX1_errands_0 9 rfl rfl)
theorem dX1_errands_10 : decode cX1_errands 10 = .ok (.aload_n 0, 1) := dk_42 (dk_at dksX1_errands_0 10 rfl rfl)
theorem dX1_errands_11 : decode cX1_errands 11 = .ok (.getfield 35, 3) := dk_180 0 35 (dk_at dksX1_errands_0 11 rfl rfl)
theorem dX1_errands_14 : decode cX1_errands 14 = .ok (.getfield 320, 3) := dk_180 1 64 (dk_at dksX1_errands_0 14 rfl rfl)
theorem dX1_errands_17 : decode cX1_errands 17 = .ok (.invokevirtual 136, 3) := dk_182 0 136 (dk_at dksX1_errands_0 17 rfl rfl)
theorem dX1_errands_20 : decode cX1_errands 20 = .ok (.invokestatic 153, 3) := dk_184 0 153 (dk_at dksX1_errands_0 20 rfl rfl)
theorem dX1_errands_23 : decode cX1_errands 23 = .ok (.ifCond .ne 5, 3) := dk_154 0 5 (dk_at dksX1_errands_1 0 rfl rfl)
theorem dX1_errands_26 : decode cX1_errands 26 = .ok (.iconst (-1), 1) := dk_2 (dk_at dksX1_errands_1 3 rfl rfl)
theorem dX1_errands_27 : decode cX1_errands 27 = .ok (.ireturn, 1) := dk_172 (dk_at dksX1_errands_1 4 rfl rfl)
theorem dX1_errands_28 : decode cX1_errands 28 = .ok (.aload_n 0, 1) := dk_42 (dk_at dksX1_errands_1 5 rfl rfl)
theorem dX1_errands_29 : decode cX1_errands 29 = .ok (.iconst (-1), 1) := dk_2 (dk_at dksX1_errands_1 6 rfl rfl)
theorem dX1_errands_30 : decode cX1_errands 30 = .ok (.putfield 317, 3) := dk_181 1 61 (dk_at dksX1_errands_1 7 rfl rfl)
theorem dX1_errands_33 : decode cX1_errands 33 = .ok (.aload_n 0, 1) := dk_42 (dk_at dksX1_errands_1 10 rfl rfl)
theorem dX1_errands_34 : decode cX1_errands 34 = .ok (.aload_n 0, 1) := dk_42 (dk_at dksX1_errands_1 11 rfl rfl)
theorem dX1_errands_35 : decode cX1_errands 35 = .ok (.iload_n 1, 1) := dk_27 (dk_at dksX1_errands_1 12 rfl rfl)
theorem dX1_errands_36 : decode cX1_errands 36 = .ok (.invokevirtual 166, 3) := dk_182 0 166 (dk_at dksX1_errands_1 13 rfl rfl)
theorem dX1_errands_39 : decode cX1_errands 39 = .ok (.iconst 0, 1) := dk_3 (dk_at dksX1_errands_1 16 rfl rfl)
theorem dX1_errands_40 : decode cX1_errands 40 = .ok (.iconst 0, 1) := dk_3 (dk_at dksX1_errands_1 17 rfl rfl)
theorem dX1_errands_41 : decode cX1_errands 41 = .ok (.iconst 0, 1) := dk_3 (dk_at dksX1_errands_1 18 rfl rfl)
theorem dX1_errands_42 : decode cX1_errands 42 = .ok (.iconst 0, 1) := dk_3 (dk_at dksX1_errands_1 19 rfl rfl)
theorem dX1_errands_43 : decode cX1_errands 43 = .ok (.iconst 0, 1) := dk_3 (dk_at dksX1_errands_1 20 rfl rfl)
theorem dX1_errands_44 : decode cX1_errands 44 = .ok (.invokevirtual 338, 3) := dk_182 1 82 (dk_at dksX1_errands_1 21 rfl rfl)
theorem dX1_errands_47 : decode cX1_errands 47 = .ok (.iload_n 2, 1) := dk_28 (dk_at dksX1_errands_2 0 rfl rfl)
theorem dX1_errands_48 : decode cX1_errands 48 = .ok (.ifCond .ne 10, 3) := dk_154 0 10 (dk_at dksX1_errands_2 1 rfl rfl)
theorem dX1_errands_51 : decode cX1_errands 51 = .ok (.aload_n 0, 1) := dk_42 (dk_at dksX1_errands_2 4 rfl rfl)
theorem dX1_errands_52 : decode cX1_errands 52 = .ok (.getfield 317, 3) := dk_180 1 61 (dk_at dksX1_errands_2 5 rfl rfl)
theorem dX1_errands_55 : decode cX1_errands 55 = .ok (.goto 11, 3) := dk_167 0 11 (dk_at dksX1_errands_2 8 rfl rfl)
theorem dX1_errands_58 : decode cX1_errands 58 = .ok (.aload_n 0, 1) := dk_42 (dk_at dksX1_errands_2 11 rfl rfl)
theorem dX1_errands_59 : decode cX1_errands 59 = .ok (.getfield 69, 3) := dk_180 0 69 (dk_at dksX1_errands_2 12 rfl rfl)
theorem dX1_errands_62 : decode cX1_errands 62 = .ok (.iload_n 2, 1) := dk_28 (dk_at dksX1_errands_2 15 rfl rfl)
theorem dX1_errands_63 : decode cX1_errands 63 = .ok (.iconst 1, 1) := dk_4 (dk_at dksX1_errands_2 16 rfl rfl)
theorem dX1_errands_64 : decode cX1_errands 64 = .ok (.isub, 1) := dk_100 (dk_at dksX1_errands_2 17 rfl rfl)
theorem dX1_errands_65 : decode cX1_errands 65 = .ok (.iaload, 1) := dk_46 (dk_at dksX1_errands_2 18 rfl rfl)
theorem dX1_errands_66 : decode cX1_errands 66 = .ok (.ireturn, 1) := dk_172 (dk_at dksX1_errands_2 19 rfl rfl)
abbrev cX1_goes : ByteArray := prog_1_method_43_code
def yX1_goes : MethodName := ⟨RX1, "goes", "(LPulseRent$Tenant;IIIII)V"⟩
def dkwX1_goes_10 : List UInt8 := [132, 7, 1, 167, 255, 74, 177]
abbrev dktX1_goes_10 : List UInt8 := dkwX1_goes_10 ++ []
def dkwX1_goes_9 : List UInt8 := [128, 21, 9, 25, 8, 180, 1, 76, 96, 21, 10, 25, 8, 180, 1, 79, 184, 0, 7, 21, 11, 182, 1, 82]
abbrev dktX1_goes_9 : List UInt8 := dkwX1_goes_9 ++ dktX1_goes_10
def dkwX1_goes_8 : List UInt8 := [132, 12, 1, 167, 255, 217, 42, 180, 0, 66, 28, 21, 7, 79, 42, 43, 28, 4, 96, 29, 4, 21, 7, 120]
abbrev dktX1_goes_8 : List UInt8 := dkwX1_goes_8 ++ dktX1_goes_9
def dkwX1_goes_7 : List UInt8 := [182, 0, 170, 21, 10, 96, 25, 8, 180, 1, 79, 96, 96, 54, 11, 43, 21, 10, 182, 0, 206, 54, 10]
abbrev dktX1_goes_7 : List UInt8 := dkwX1_goes_7 ++ dktX1_goes_8
def dkwX1_goes_6 : List UInt8 := [132, 9, 1, 167, 255, 223, 3, 54, 12, 21, 12, 25, 8, 180, 1, 76, 162, 0, 35, 21, 11, 43]
abbrev dktX1_goes_6 : List UInt8 := dkwX1_goes_6 ++ dktX1_goes_7
def dkwX1_goes_5 : List UInt8 := [162, 0, 29, 21, 11, 43, 182, 0, 170, 21, 10, 96, 96, 54, 11, 43, 21, 10, 182, 0, 206, 54, 10]
abbrev dktX1_goes_5 : List UInt8 := dkwX1_goes_5 ++ dktX1_goes_6
def dkwX1_goes_4 : List UInt8 := [192, 1, 71, 58, 8, 21, 4, 54, 9, 21, 5, 54, 10, 21, 6, 54, 11, 21, 9, 25, 8, 180, 1, 73]
abbrev dktX1_goes_4 : List UInt8 := dkwX1_goes_4 ++ dktX1_goes_5
def dkwX1_goes_3 : List UInt8 := [21, 7, 184, 0, 252, 153, 0, 6, 167, 0, 155, 42, 180, 0, 35, 180, 1, 64, 21, 7, 182, 0, 140]
abbrev dktX1_goes_3 : List UInt8 := dkwX1_goes_3 ++ dktX1_goes_4
def dkwX1_goes_2 : List UInt8 := [184, 1, 67, 177, 3, 54, 7, 21, 7, 42, 180, 0, 35, 180, 1, 64, 182, 0, 136, 162, 0, 173, 29]
abbrev dktX1_goes_2 : List UInt8 := dkwX1_goes_2 ++ dktX1_goes_3
def dkwX1_goes_1 : List UInt8 := [180, 1, 64, 182, 0, 136, 160, 0, 21, 42, 21, 6, 181, 1, 61, 42, 180, 0, 66, 42, 180, 0, 69]
abbrev dktX1_goes_1 : List UInt8 := dkwX1_goes_1 ++ dktX1_goes_2
def dkwX1_goes_0 : List UInt8 := [42, 180, 1, 61, 155, 0, 13, 21, 6, 42, 180, 1, 61, 161, 0, 4, 177, 28, 42, 180, 0, 35]
abbrev dktX1_goes_0 : List UInt8 := dkwX1_goes_0 ++ dktX1_goes_1
theorem dksX1_goes_0 : cX1_goes.data.toList.drop 0 = dktX1_goes_0 := by decide +kernel
theorem dksX1_goes_1 : cX1_goes.data.toList.drop 22 = dktX1_goes_1 := dk_seg dksX1_goes_0 22 rfl rfl
theorem dksX1_goes_2 : cX1_goes.data.toList.drop 45 = dktX1_goes_2 := dk_seg dksX1_goes_1 23 rfl rfl
theorem dksX1_goes_3 : cX1_goes.data.toList.drop 68 = dktX1_goes_3 := dk_seg dksX1_goes_2 23 rfl rfl
theorem dksX1_goes_4 : cX1_goes.data.toList.drop 91 = dktX1_goes_4 := dk_seg dksX1_goes_3 23 rfl rfl
theorem dksX1_goes_5 : cX1_goes.data.toList.drop 115 = dktX1_goes_5 := dk_seg dksX1_goes_4 24 rfl rfl
theorem dksX1_goes_6 : cX1_goes.data.toList.drop 138 = dktX1_goes_6 := dk_seg dksX1_goes_5 23 rfl rfl
theorem dksX1_goes_7 : cX1_goes.data.toList.drop 160 = dktX1_goes_7 := dk_seg dksX1_goes_6 22 rfl rfl
theorem dksX1_goes_8 : cX1_goes.data.toList.drop 183 = dktX1_goes_8 := dk_seg dksX1_goes_7 23 rfl rfl
theorem dksX1_goes_9 : cX1_goes.data.toList.drop 207 = dktX1_goes_9 := dk_seg dksX1_goes_8 24 rfl rfl
theorem dksX1_goes_10 : cX1_goes.data.toList.drop 231 = dktX1_goes_10 := dk_seg dksX1_goes_9 24 rfl rfl
theorem dX1_goes_0 : decode cX1_goes 0 = .ok (.aload_n 0, 1) := dk_42 (dk_at dksX1_goes_0 0 rfl rfl)
theorem dX1_goes_1 : decode cX1_goes 1 = .ok (.getfield 317, 3) := dk_180 1 61 (dk_at dksX1_goes_0 1 rfl rfl)
theorem dX1_goes_4 : decode cX1_goes 4 = .ok (.ifCond .lt 13, 3) := dk_155 0 13 (dk_at dksX1_goes_0 4 rfl rfl)
theorem dX1_goes_7 : decode cX1_goes 7 = .ok (.iload 6, 2) := dk_21 6 (dk_at dksX1_goes_0 7 rfl rfl)
theorem dX1_goes_9 : decode cX1_goes 9 = .ok (.aload_n 0, 1) := dk_42 (dk_at dksX1_goes_0 9 rfl rfl)
theorem dX1_goes_10 : decode cX1_goes 10 = .ok (.getfield 317, 3) := dk_180 1 61 (dk_at dksX1_goes_0 10 rfl rfl)
theorem dX1_goes_13 : decode cX1_goes 13 = .ok (.if_icmp .lt 4, 3) := dk_161 0 4 (dk_at dksX1_goes_0 13 rfl rfl)
theorem dX1_goes_16 : decode cX1_goes 16 = .ok (.return_, 1) := dk_177 (dk_at dksX1_goes_0 16 rfl rfl)
theorem dX1_goes_17 : decode cX1_goes 17 = .ok (.iload_n 2, 1) := dk_28 (dk_at dksX1_goes_0 17 rfl rfl)
theorem dX1_goes_18 : decode cX1_goes 18 = .ok (.aload_n 0, 1) := dk_42 (dk_at dksX1_goes_0 18 rfl rfl)
theorem dX1_goes_19 : decode cX1_goes 19 = .ok (.getfield 35, 3) := dk_180 0 35 (dk_at dksX1_goes_0 19 rfl rfl)
theorem dX1_goes_22 : decode cX1_goes 22 = .ok (.getfield 320, 3) := dk_180 1 64 (dk_at dksX1_goes_1 0 rfl rfl)
theorem dX1_goes_25 : decode cX1_goes 25 = .ok (.invokevirtual 136, 3) := dk_182 0 136 (dk_at dksX1_goes_1 3 rfl rfl)
theorem dX1_goes_28 : decode cX1_goes 28 = .ok (.if_icmp .ne 21, 3) := dk_160 0 21 (dk_at dksX1_goes_1 6 rfl rfl)
theorem dX1_goes_31 : decode cX1_goes 31 = .ok (.aload_n 0, 1) := dk_42 (dk_at dksX1_goes_1 9 rfl rfl)
theorem dX1_goes_32 : decode cX1_goes 32 = .ok (.iload 6, 2) := dk_21 6 (dk_at dksX1_goes_1 10 rfl rfl)
theorem dX1_goes_34 : decode cX1_goes 34 = .ok (.putfield 317, 3) := dk_181 1 61 (dk_at dksX1_goes_1 12 rfl rfl)
theorem dX1_goes_37 : decode cX1_goes 37 = .ok (.aload_n 0, 1) := dk_42 (dk_at dksX1_goes_1 15 rfl rfl)
theorem dX1_goes_38 : decode cX1_goes 38 = .ok (.getfield 66, 3) := dk_180 0 66 (dk_at dksX1_goes_1 16 rfl rfl)
theorem dX1_goes_41 : decode cX1_goes 41 = .ok (.aload_n 0, 1) := dk_42 (dk_at dksX1_goes_1 19 rfl rfl)
theorem dX1_goes_42 : decode cX1_goes 42 = .ok (.getfield 69, 3) := dk_180 0 69 (dk_at dksX1_goes_1 20 rfl rfl)
theorem dX1_goes_45 : decode cX1_goes 45 = .ok (.invokestatic 323, 3) := dk_184 1 67 (dk_at dksX1_goes_2 0 rfl rfl)
theorem dX1_goes_48 : decode cX1_goes 48 = .ok (.return_, 1) := dk_177 (dk_at dksX1_goes_2 3 rfl rfl)
theorem dX1_goes_49 : decode cX1_goes 49 = .ok (.iconst 0, 1) := dk_3 (dk_at dksX1_goes_2 4 rfl rfl)
theorem dX1_goes_50 : decode cX1_goes 50 = .ok (.istore 7, 2) := dk_54 7 (dk_at dksX1_goes_2 5 rfl rfl)
theorem dX1_goes_52 : decode cX1_goes 52 = .ok (.iload 7, 2) := dk_21 7 (dk_at dksX1_goes_2 7 rfl rfl)
theorem dX1_goes_54 : decode cX1_goes 54 = .ok (.aload_n 0, 1) := dk_42 (dk_at dksX1_goes_2 9 rfl rfl)
theorem dX1_goes_55 : decode cX1_goes 55 = .ok (.getfield 35, 3) := dk_180 0 35 (dk_at dksX1_goes_2 10 rfl rfl)
theorem dX1_goes_58 : decode cX1_goes 58 = .ok (.getfield 320, 3) := dk_180 1 64 (dk_at dksX1_goes_2 13 rfl rfl)
theorem dX1_goes_61 : decode cX1_goes 61 = .ok (.invokevirtual 136, 3) := dk_182 0 136 (dk_at dksX1_goes_2 16 rfl rfl)
theorem dX1_goes_64 : decode cX1_goes 64 = .ok (.if_icmp .ge 173, 3) := dk_162 0 173 (dk_at dksX1_goes_2 19 rfl rfl)
theorem dX1_goes_67 : decode cX1_goes 67 = .ok (.iload_n 3, 1) := dk_29 (dk_at dksX1_goes_2 22 rfl rfl)
theorem dX1_goes_68 : decode cX1_goes 68 = .ok (.iload 7, 2) := dk_21 7 (dk_at dksX1_goes_3 0 rfl rfl)
theorem dX1_goes_70 : decode cX1_goes 70 = .ok (.invokestatic 252, 3) := dk_184 0 252 (dk_at dksX1_goes_3 2 rfl rfl)
theorem dX1_goes_73 : decode cX1_goes 73 = .ok (.ifCond .eq 6, 3) := dk_153 0 6 (dk_at dksX1_goes_3 5 rfl rfl)
theorem dX1_goes_76 : decode cX1_goes 76 = .ok (.goto 155, 3) := dk_167 0 155 (dk_at dksX1_goes_3 8 rfl rfl)
theorem dX1_goes_79 : decode cX1_goes 79 = .ok (.aload_n 0, 1) := dk_42 (dk_at dksX1_goes_3 11 rfl rfl)
theorem dX1_goes_80 : decode cX1_goes 80 = .ok (.getfield 35, 3) := dk_180 0 35 (dk_at dksX1_goes_3 12 rfl rfl)
theorem dX1_goes_83 : decode cX1_goes 83 = .ok (.getfield 320, 3) := dk_180 1 64 (dk_at dksX1_goes_3 15 rfl rfl)
theorem dX1_goes_86 : decode cX1_goes 86 = .ok (.iload 7, 2) := dk_21 7 (dk_at dksX1_goes_3 18 rfl rfl)
theorem dX1_goes_88 : decode cX1_goes 88 = .ok (.invokevirtual 140, 3) := dk_182 0 140 (dk_at dksX1_goes_3 20 rfl rfl)
theorem dX1_goes_91 : decode cX1_goes 91 = .ok (.checkcast 327, 3) := dk_192 1 71 (dk_at dksX1_goes_4 0 rfl rfl)
theorem dX1_goes_94 : decode cX1_goes 94 = .ok (.astore 8, 2) := dk_58 8 (dk_at dksX1_goes_4 3 rfl rfl)
theorem dX1_goes_96 : decode cX1_goes 96 = .ok (.iload 4, 2) := dk_21 4 (dk_at dksX1_goes_4 5 rfl rfl)
theorem dX1_goes_98 : decode cX1_goes 98 = .ok (.istore 9, 2) := dk_54 9 (dk_at dksX1_goes_4 7 rfl rfl)
theorem dX1_goes_100 : decode cX1_goes 100 = .ok (.iload 5, 2) := dk_21 5 (dk_at dksX1_goes_4 9 rfl rfl)
theorem dX1_goes_102 : decode cX1_goes 102 = .ok (.istore 10, 2) := dk_54 10 (dk_at dksX1_goes_4 11 rfl rfl)
theorem dX1_goes_104 : decode cX1_goes 104 = .ok (.iload 6, 2) := dk_21 6 (dk_at dksX1_goes_4 13 rfl rfl)
theorem dX1_goes_106 : decode cX1_goes 106 = .ok (.istore 11, 2) := dk_54 11 (dk_at dksX1_goes_4 15 rfl rfl)
theorem dX1_goes_108 : decode cX1_goes 108 = .ok (.iload 9, 2) := dk_21 9 (dk_at dksX1_goes_4 17 rfl rfl)
theorem dX1_goes_110 : decode cX1_goes 110 = .ok (.aload 8, 2) := dk_25 8 (dk_at dksX1_goes_4 19 rfl rfl)
theorem dX1_goes_112 : decode cX1_goes 112 = .ok (.getfield 329, 3) := dk_180 1 73 (dk_at dksX1_goes_4 21 rfl rfl)
theorem dX1_goes_115 : decode cX1_goes 115 = .ok (.if_icmp .ge 29, 3) := dk_162 0 29 (dk_at dksX1_goes_5 0 rfl rfl)
theorem dX1_goes_118 : decode cX1_goes 118 = .ok (.iload 11, 2) := dk_21 11 (dk_at dksX1_goes_5 3 rfl rfl)
theorem dX1_goes_120 : decode cX1_goes 120 = .ok (.aload_n 1, 1) := dk_43 (dk_at dksX1_goes_5 5 rfl rfl)
theorem dX1_goes_121 : decode cX1_goes 121 = .ok (.invokevirtual 170, 3) := dk_182 0 170 (dk_at dksX1_goes_5 6 rfl rfl)
theorem dX1_goes_124 : decode cX1_goes 124 = .ok (.iload 10, 2) := dk_21 10 (dk_at dksX1_goes_5 9 rfl rfl)
theorem dX1_goes_126 : decode cX1_goes 126 = .ok (.iadd, 1) := dk_96 (dk_at dksX1_goes_5 11 rfl rfl)
theorem dX1_goes_127 : decode cX1_goes 127 = .ok (.iadd, 1) := dk_96 (dk_at dksX1_goes_5 12 rfl rfl)
theorem dX1_goes_128 : decode cX1_goes 128 = .ok (.istore 11, 2) := dk_54 11 (dk_at dksX1_goes_5 13 rfl rfl)
theorem dX1_goes_130 : decode cX1_goes 130 = .ok (.aload_n 1, 1) := dk_43 (dk_at dksX1_goes_5 15 rfl rfl)
theorem dX1_goes_131 : decode cX1_goes 131 = .ok (.iload 10, 2) := dk_21 10 (dk_at dksX1_goes_5 16 rfl rfl)
theorem dX1_goes_133 : decode cX1_goes 133 = .ok (.invokevirtual 206, 3) := dk_182 0 206 (dk_at dksX1_goes_5 18 rfl rfl)
theorem dX1_goes_136 : decode cX1_goes 136 = .ok (.istore 10, 2) := dk_54 10 (dk_at dksX1_goes_5 21 rfl rfl)
theorem dX1_goes_138 : decode cX1_goes 138 = .ok (.iinc 9 1, 3) := dk_132 9 1 (dk_at dksX1_goes_6 0 rfl rfl)
theorem dX1_goes_141 : decode cX1_goes 141 = .ok (.goto (-33), 3) := dk_167 255 223 (dk_at dksX1_goes_6 3 rfl rfl)
theorem dX1_goes_144 : decode cX1_goes 144 = .ok (.iconst 0, 1) := dk_3 (dk_at dksX1_goes_6 6 rfl rfl)
theorem dX1_goes_145 : decode cX1_goes 145 = .ok (.istore 12, 2) := dk_54 12 (dk_at dksX1_goes_6 7 rfl rfl)
theorem dX1_goes_147 : decode cX1_goes 147 = .ok (.iload 12, 2) := dk_21 12 (dk_at dksX1_goes_6 9 rfl rfl)
theorem dX1_goes_149 : decode cX1_goes 149 = .ok (.aload 8, 2) := dk_25 8 (dk_at dksX1_goes_6 11 rfl rfl)
theorem dX1_goes_151 : decode cX1_goes 151 = .ok (.getfield 332, 3) := dk_180 1 76 (dk_at dksX1_goes_6 13 rfl rfl)
theorem dX1_goes_154 : decode cX1_goes 154 = .ok (.if_icmp .ge 35, 3) := dk_162 0 35 (dk_at dksX1_goes_6 16 rfl rfl)
theorem dX1_goes_157 : decode cX1_goes 157 = .ok (.iload 11, 2) := dk_21 11 (dk_at dksX1_goes_6 19 rfl rfl)
theorem dX1_goes_159 : decode cX1_goes 159 = .ok (.aload_n 1, 1) := dk_43 (dk_at dksX1_goes_6 21 rfl rfl)
theorem dX1_goes_160 : decode cX1_goes 160 = .ok (.invokevirtual 170, 3) := dk_182 0 170 (dk_at dksX1_goes_7 0 rfl rfl)
theorem dX1_goes_163 : decode cX1_goes 163 = .ok (.iload 10, 2) := dk_21 10 (dk_at dksX1_goes_7 3 rfl rfl)
theorem dX1_goes_165 : decode cX1_goes 165 = .ok (.iadd, 1) := dk_96 (dk_at dksX1_goes_7 5 rfl rfl)
theorem dX1_goes_166 : decode cX1_goes 166 = .ok (.aload 8, 2) := dk_25 8 (dk_at dksX1_goes_7 6 rfl rfl)
theorem dX1_goes_168 : decode cX1_goes 168 = .ok (.getfield 335, 3) := dk_180 1 79 (dk_at dksX1_goes_7 8 rfl rfl)
theorem dX1_goes_171 : decode cX1_goes 171 = .ok (.iadd, 1) := dk_96 (dk_at dksX1_goes_7 11 rfl rfl)
theorem dX1_goes_172 : decode cX1_goes 172 = .ok (.iadd, 1) := dk_96 (dk_at dksX1_goes_7 12 rfl rfl)
theorem dX1_goes_173 : decode cX1_goes 173 = .ok (.istore 11, 2) := dk_54 11 (dk_at dksX1_goes_7 13 rfl rfl)
theorem dX1_goes_175 : decode cX1_goes 175 = .ok (.aload_n 1, 1) := dk_43 (dk_at dksX1_goes_7 15 rfl rfl)
theorem dX1_goes_176 : decode cX1_goes 176 = .ok (.iload 10, 2) := dk_21 10 (dk_at dksX1_goes_7 16 rfl rfl)
theorem dX1_goes_178 : decode cX1_goes 178 = .ok (.invokevirtual 206, 3) := dk_182 0 206 (dk_at dksX1_goes_7 18 rfl rfl)
theorem dX1_goes_181 : decode cX1_goes 181 = .ok (.istore 10, 2) := dk_54 10 (dk_at dksX1_goes_7 21 rfl rfl)
theorem dX1_goes_183 : decode cX1_goes 183 = .ok (.iinc 12 1, 3) := dk_132 12 1 (dk_at dksX1_goes_8 0 rfl rfl)
theorem dX1_goes_186 : decode cX1_goes 186 = .ok (.goto (-39), 3) := dk_167 255 217 (dk_at dksX1_goes_8 3 rfl rfl)
theorem dX1_goes_189 : decode cX1_goes 189 = .ok (.aload_n 0, 1) := dk_42 (dk_at dksX1_goes_8 6 rfl rfl)
theorem dX1_goes_190 : decode cX1_goes 190 = .ok (.getfield 66, 3) := dk_180 0 66 (dk_at dksX1_goes_8 7 rfl rfl)
theorem dX1_goes_193 : decode cX1_goes 193 = .ok (.iload_n 2, 1) := dk_28 (dk_at dksX1_goes_8 10 rfl rfl)
theorem dX1_goes_194 : decode cX1_goes 194 = .ok (.iload 7, 2) := dk_21 7 (dk_at dksX1_goes_8 11 rfl rfl)
theorem dX1_goes_196 : decode cX1_goes 196 = .ok (.iastore, 1) := dk_79 (dk_at dksX1_goes_8 13 rfl rfl)
theorem dX1_goes_197 : decode cX1_goes 197 = .ok (.aload_n 0, 1) := dk_42 (dk_at dksX1_goes_8 14 rfl rfl)
theorem dX1_goes_198 : decode cX1_goes 198 = .ok (.aload_n 1, 1) := dk_43 (dk_at dksX1_goes_8 15 rfl rfl)
theorem dX1_goes_199 : decode cX1_goes 199 = .ok (.iload_n 2, 1) := dk_28 (dk_at dksX1_goes_8 16 rfl rfl)
theorem dX1_goes_200 : decode cX1_goes 200 = .ok (.iconst 1, 1) := dk_4 (dk_at dksX1_goes_8 17 rfl rfl)
theorem dX1_goes_201 : decode cX1_goes 201 = .ok (.iadd, 1) := dk_96 (dk_at dksX1_goes_8 18 rfl rfl)
theorem dX1_goes_202 : decode cX1_goes 202 = .ok (.iload_n 3, 1) := dk_29 (dk_at dksX1_goes_8 19 rfl rfl)
theorem dX1_goes_203 : decode cX1_goes 203 = .ok (.iconst 1, 1) := dk_4 (dk_at dksX1_goes_8 20 rfl rfl)
theorem dX1_goes_204 : decode cX1_goes 204 = .ok (.iload 7, 2) := dk_21 7 (dk_at dksX1_goes_8 21 rfl rfl)
theorem dX1_goes_206 : decode cX1_goes 206 = .ok (.ishl, 1) := dk_120 (dk_at dksX1_goes_8 23 rfl rfl)
theorem dX1_goes_207 : decode cX1_goes 207 = .ok (.ior, 1) := dk_128 (dk_at dksX1_goes_9 0 rfl rfl)
theorem dX1_goes_208 : decode cX1_goes 208 = .ok (.iload 9, 2) := dk_21 9 (dk_at dksX1_goes_9 1 rfl rfl)
theorem dX1_goes_210 : decode cX1_goes 210 = .ok (.aload 8, 2) := dk_25 8 (dk_at dksX1_goes_9 3 rfl rfl)
theorem dX1_goes_212 : decode cX1_goes 212 = .ok (.getfield 332, 3) := dk_180 1 76 (dk_at dksX1_goes_9 5 rfl rfl)
theorem dX1_goes_215 : decode cX1_goes 215 = .ok (.iadd, 1) := dk_96 (dk_at dksX1_goes_9 8 rfl rfl)
theorem dX1_goes_216 : decode cX1_goes 216 = .ok (.iload 10, 2) := dk_21 10 (dk_at dksX1_goes_9 9 rfl rfl)
theorem dX1_goes_218 : decode cX1_goes 218 = .ok (.aload 8, 2) := dk_25 8 (dk_at dksX1_goes_9 11 rfl rfl)
theorem dX1_goes_220 : decode cX1_goes 220 = .ok (.getfield 335, 3) := dk_180 1 79 (dk_at dksX1_goes_9 13 rfl rfl)
theorem dX1_goes_223 : decode cX1_goes 223 = .ok (.invokestatic 7, 3) := dk_184 0 7 (dk_at dksX1_goes_9 16 rfl rfl)
theorem dX1_goes_226 : decode cX1_goes 226 = .ok (.iload 11, 2) := dk_21 11 (dk_at dksX1_goes_9 19 rfl rfl)
theorem dX1_goes_228 : decode cX1_goes 228 = .ok (.invokevirtual 338, 3) := dk_182 1 82 (dk_at dksX1_goes_9 21 rfl rfl)
theorem dX1_goes_231 : decode cX1_goes 231 = .ok (.iinc 7 1, 3) := dk_132 7 1 (dk_at dksX1_goes_10 0 rfl rfl)
theorem dX1_goes_234 : decode cX1_goes 234 = .ok (.goto (-182), 3) := dk_167 255 74 (dk_at dksX1_goes_10 3 rfl rfl)
theorem dX1_goes_237 : decode cX1_goes 237 = .ok (.return_, 1) := dk_177 (dk_at dksX1_goes_10 6 rfl rfl)
abbrev cX1_match : ByteArray := prog_1_method_49_code
def yX1_match : MethodName := ⟨RX1, "match", "(I)I"⟩
def dkwX1_match_0 : List UInt8 := [42, 27, 182, 0, 159, 154, 0, 6, 16, 254, 172, 42, 182, 1, 100, 42, 180, 0, 78, 27, 46, 172]
abbrev dktX1_match_0 : List UInt8 := dkwX1_match_0 ++ []
theorem dksX1_match_0 : cX1_match.data.toList.drop 0 = dktX1_match_0 := by decide +kernel
theorem dX1_match_0 : decode cX1_match 0 = .ok (.aload_n 0, 1) := dk_42 (dk_at dksX1_match_0 0 rfl rfl)
theorem dX1_match_1 : decode cX1_match 1 = .ok (.iload_n 1, 1) := dk_27 (dk_at dksX1_match_0 1 rfl rfl)
theorem dX1_match_2 : decode cX1_match 2 = .ok (.invokevirtual 159, 3) := dk_182 0 159 (dk_at dksX1_match_0 2 rfl rfl)
theorem dX1_match_5 : decode cX1_match 5 = .ok (.ifCond .ne 6, 3) := dk_154 0 6 (dk_at dksX1_match_0 5 rfl rfl)
theorem dX1_match_8 : decode cX1_match 8 = .ok (.bipush (-2), 2) := dk_16 254 (dk_at dksX1_match_0 8 rfl rfl)
theorem dX1_match_10 : decode cX1_match 10 = .ok (.ireturn, 1) := dk_172 (dk_at dksX1_match_0 10 rfl rfl)
theorem dX1_match_11 : decode cX1_match 11 = .ok (.aload_n 0, 1) := dk_42 (dk_at dksX1_match_0 11 rfl rfl)
theorem dX1_match_12 : decode cX1_match 12 = .ok (.invokevirtual 356, 3) := dk_182 1 100 (dk_at dksX1_match_0 12 rfl rfl)
theorem dX1_match_15 : decode cX1_match 15 = .ok (.aload_n 0, 1) := dk_42 (dk_at dksX1_match_0 15 rfl rfl)
theorem dX1_match_16 : decode cX1_match 16 = .ok (.getfield 78, 3) := dk_180 0 78 (dk_at dksX1_match_0 16 rfl rfl)
theorem dX1_match_19 : decode cX1_match 19 = .ok (.iload_n 1, 1) := dk_27 (dk_at dksX1_match_0 19 rfl rfl)
theorem dX1_match_20 : decode cX1_match 20 = .ok (.iaload, 1) := dk_46 (dk_at dksX1_match_0 20 rfl rfl)
theorem dX1_match_21 : decode cX1_match 21 = .ok (.ireturn, 1) := dk_172 (dk_at dksX1_match_0 21 rfl rfl)
abbrev cX1_matches : ByteArray := prog_1_method_47_code
def yX1_matches : MethodName := ⟨RX1, "matches", "()V"⟩
def dkwX1_matches_9 : List UInt8 := [167, 255, 224, 177]
abbrev dktX1_matches_9 : List UInt8 := dkwX1_matches_9 ++ []
def dkwX1_matches_8 : List UInt8 := [180, 0, 75, 27, 46, 155, 0, 15, 42, 180, 0, 78, 42, 180, 0, 75, 27, 46, 27, 79, 132, 1, 1]
abbrev dktX1_matches_8 : List UInt8 := dkwX1_matches_8 ++ dktX1_matches_9
def dkwX1_matches_7 : List UInt8 := [180, 0, 78, 27, 2, 79, 132, 1, 1, 167, 255, 240, 3, 60, 27, 42, 182, 0, 151, 162, 0, 30, 42]
abbrev dktX1_matches_7 : List UInt8 := dkwX1_matches_7 ++ dktX1_matches_8
def dkwX1_matches_6 : List UInt8 := [79, 21, 4, 61, 167, 255, 185, 132, 1, 1, 167, 255, 151, 3, 60, 27, 16, 6, 162, 0, 16, 42]
abbrev dktX1_matches_6 : List UInt8 := dkwX1_matches_6 ++ dktX1_matches_7
def dkwX1_matches_5 : List UInt8 := [21, 4, 155, 0, 16, 42, 28, 21, 4, 182, 1, 97, 154, 0, 6, 167, 255, 198, 42, 180, 0, 75, 29, 28]
abbrev dktX1_matches_5 : List UInt8 := dkwX1_matches_5 ++ dktX1_matches_6
def dkwX1_matches_4 : List UInt8 := [167, 0, 54, 42, 180, 0, 72, 28, 92, 46, 4, 29, 120, 128, 79, 42, 180, 0, 75, 29, 46, 54, 4]
abbrev dktX1_matches_4 : List UInt8 := dkwX1_matches_4 ++ dktX1_matches_5
def dkwX1_matches_3 : List UInt8 := [27, 61, 28, 155, 0, 73, 42, 28, 42, 180, 0, 72, 28, 46, 182, 1, 94, 62, 29, 156, 0, 6]
abbrev dktX1_matches_3 : List UInt8 := dkwX1_matches_3 ++ dktX1_matches_4
def dkwX1_matches_2 : List UInt8 := [182, 0, 157, 162, 0, 103, 42, 180, 0, 51, 180, 0, 249, 27, 184, 0, 252, 153, 0, 7, 2, 167, 0, 4]
abbrev dktX1_matches_2 : List UInt8 := dkwX1_matches_2 ++ dktX1_matches_3
def dkwX1_matches_1 : List UInt8 := [16, 6, 162, 0, 16, 42, 180, 0, 72, 27, 3, 79, 132, 1, 1, 167, 255, 240, 3, 60, 27, 42]
abbrev dktX1_matches_1 : List UInt8 := dkwX1_matches_1 ++ dktX1_matches_2
def dkwX1_matches_0 : List UInt8 := [3, 60, 27, 16, 6, 162, 0, 16, 42, 180, 0, 75, 27, 2, 79, 132, 1, 1, 167, 255, 240, 3, 60, 27]
abbrev dktX1_matches_0 : List UInt8 := dkwX1_matches_0 ++ dktX1_matches_1
theorem dksX1_matches_0 : cX1_matches.data.toList.drop 0 = dktX1_matches_0 := by decide +kernel
theorem dksX1_matches_1 : cX1_matches.data.toList.drop 24 = dktX1_matches_1 := dk_seg dksX1_matches_0 24 rfl rfl
theorem dksX1_matches_2 : cX1_matches.data.toList.drop 46 = dktX1_matches_2 := dk_seg dksX1_matches_1 22 rfl rfl
theorem dksX1_matches_3 : cX1_matches.data.toList.drop 70 = dktX1_matches_3 := dk_seg dksX1_matches_2 24 rfl rfl
theorem dksX1_matches_4 : cX1_matches.data.toList.drop 92 = dktX1_matches_4 := dk_seg dksX1_matches_3 22 rfl rfl
theorem dksX1_matches_5 : cX1_matches.data.toList.drop 115 = dktX1_matches_5 := dk_seg dksX1_matches_4 23 rfl rfl
theorem dksX1_matches_6 : cX1_matches.data.toList.drop 139 = dktX1_matches_6 := dk_seg dksX1_matches_5 24 rfl rfl
theorem dksX1_matches_7 : cX1_matches.data.toList.drop 161 = dktX1_matches_7 := dk_seg dksX1_matches_6 22 rfl rfl
theorem dksX1_matches_8 : cX1_matches.data.toList.drop 184 = dktX1_matches_8 := dk_seg dksX1_matches_7 23 rfl rfl
theorem dksX1_matches_9 : cX1_matches.data.toList.drop 207 = dktX1_matches_9 := dk_seg dksX1_matches_8 23 rfl rfl
theorem dX1_matches_0 : decode cX1_matches 0 = .ok (.iconst 0, 1) := dk_3 (dk_at dksX1_matches_0 0 rfl rfl)
theorem dX1_matches_1 : decode cX1_matches 1 = .ok (.istore_n 1, 1) := dk_60 (dk_at dksX1_matches_0 1 rfl rfl)
theorem dX1_matches_2 : decode cX1_matches 2 = .ok (.iload_n 1, 1) := dk_27 (dk_at dksX1_matches_0 2 rfl rfl)
theorem dX1_matches_3 : decode cX1_matches 3 = .ok (.bipush 6, 2) := dk_16 6 (dk_at dksX1_matches_0 3 rfl rfl)
theorem dX1_matches_5 : decode cX1_matches 5 = .ok (.if_icmp .ge 16, 3) := dk_162 0 16 (dk_at dksX1_matches_0 5 rfl rfl)
theorem dX1_matches_8 : decode cX1_matches 8 = .ok (.aload_n 0, 1) := dk_42 (dk_at dksX1_matches_0 8 rfl rfl)
theorem dX1_matches_9 : decode cX1_matches 9 = .ok (.getfield 75, 3) := dk_180 0 75 (dk_at dksX1_matches_0 9 rfl rfl)
theorem dX1_matches_12 : decode cX1_matches 12 = .ok (.iload_n 1, 1) := dk_27 (dk_at dksX1_matches_0 12 rfl rfl)
theorem dX1_matches_13 : decode cX1_matches 13 = .ok (.iconst (-1), 1) := dk_2 (dk_at dksX1_matches_0 13 rfl rfl)
theorem dX1_matches_14 : decode cX1_matches 14 = .ok (.iastore, 1) := dk_79 (dk_at dksX1_matches_0 14 rfl rfl)
theorem dX1_matches_15 : decode cX1_matches 15 = .ok (.iinc 1 1, 3) := dk_132 1 1 (dk_at dksX1_matches_0 15 rfl rfl)
theorem dX1_matches_18 : decode cX1_matches 18 = .ok (.goto (-16), 3) := dk_167 255 240 (dk_at dksX1_matches_0 18 rfl rfl)
theorem dX1_matches_21 : decode cX1_matches 21 = .ok (.iconst 0, 1) := dk_3 (dk_at dksX1_matches_0 21 rfl rfl)
theorem dX1_matches_22 : decode cX1_matches 22 = .ok (.istore_n 1, 1) := dk_60 (dk_at dksX1_matches_0 22 rfl rfl)
theorem dX1_matches_23 : decode cX1_matches 23 = .ok (.iload_n 1, 1) := dk_27 (dk_at dksX1_matches_0 23 rfl rfl)
theorem dX1_matches_24 : decode cX1_matches 24 = .ok (.bipush 6, 2) := dk_16 6 (dk_at dksX1_matches_1 0 rfl rfl)
theorem dX1_matches_26 : decode cX1_matches 26 = .ok (.if_icmp .ge 16, 3) := dk_162 0 16 (dk_at dksX1_matches_1 2 rfl rfl)
theorem dX1_matches_29 : decode cX1_matches 29 = .ok (.aload_n 0, 1) := dk_42 (dk_at dksX1_matches_1 5 rfl rfl)
theorem dX1_matches_30 : decode cX1_matches 30 = .ok (.getfield 72, 3) := dk_180 0 72 (dk_at dksX1_matches_1 6 rfl rfl)
theorem dX1_matches_33 : decode cX1_matches 33 = .ok (.iload_n 1, 1) := dk_27 (dk_at dksX1_matches_1 9 rfl rfl)
theorem dX1_matches_34 : decode cX1_matches 34 = .ok (.iconst 0, 1) := dk_3 (dk_at dksX1_matches_1 10 rfl rfl)
theorem dX1_matches_35 : decode cX1_matches 35 = .ok (.iastore, 1) := dk_79 (dk_at dksX1_matches_1 11 rfl rfl)
theorem dX1_matches_36 : decode cX1_matches 36 = .ok (.iinc 1 1, 3) := dk_132 1 1 (dk_at dksX1_matches_1 12 rfl rfl)
theorem dX1_matches_39 : decode cX1_matches 39 = .ok (.goto (-16), 3) := dk_167 255 240 (dk_at dksX1_matches_1 15 rfl rfl)
theorem dX1_matches_42 : decode cX1_matches 42 = .ok (.iconst 0, 1) := dk_3 (dk_at dksX1_matches_1 18 rfl rfl)
theorem dX1_matches_43 : decode cX1_matches 43 = .ok (.istore_n 1, 1) := dk_60 (dk_at dksX1_matches_1 19 rfl rfl)
theorem dX1_matches_44 : decode cX1_matches 44 = .ok (.iload_n 1, 1) := dk_27 (dk_at dksX1_matches_1 20 rfl rfl)
theorem dX1_matches_45 : decode cX1_matches 45 = .ok (.aload_n 0, 1) := dk_42 (dk_at dksX1_matches_1 21 rfl rfl)
theorem dX1_matches_46 : decode cX1_matches 46 = .ok (.invokevirtual 157, 3) := dk_182 0 157 (dk_at dksX1_matches_2 0 rfl rfl)
theorem dX1_matches_49 : decode cX1_matches 49 = .ok (.if_icmp .ge 103, 3) := dk_162 0 103 (dk_at dksX1_matches_2 3 rfl rfl)
theorem dX1_matches_52 : decode cX1_matches 52 = .ok (.aload_n 0, 1) := dk_42 (dk_at dksX1_matches_2 6 rfl rfl)
theorem dX1_matches_53 : decode cX1_matches 53 = .ok (.getfield 51, 3) := dk_180 0 51 (dk_at dksX1_matches_2 7 rfl rfl)
theorem dX1_matches_56 : decode cX1_matches 56 = .ok (.getfield 249, 3) := dk_180 0 249 (dk_at dksX1_matches_2 10 rfl rfl)
theorem dX1_matches_59 : decode cX1_matches 59 = .ok (.iload_n 1, 1) := dk_27 (dk_at dksX1_matches_2 13 rfl rfl)
theorem dX1_matches_60 : decode cX1_matches 60 = .ok (.invokestatic 252, 3) := dk_184 0 252 (dk_at dksX1_matches_2 14 rfl rfl)
theorem dX1_matches_63 : decode cX1_matches 63 = .ok (.ifCond .eq 7, 3) := dk_153 0 7 (dk_at dksX1_matches_2 17 rfl rfl)
theorem dX1_matches_66 : decode cX1_matches 66 = .ok (.iconst (-1), 1) := dk_2 (dk_at dksX1_matches_2 20 rfl rfl)
theorem dX1_matches_67 : decode cX1_matches 67 = .ok (.goto 4, 3) := dk_167 0 4 (dk_at dksX1_matches_2 21 rfl rfl)
theorem dX1_matches_70 : decode cX1_matches 70 = .ok (.iload_n 1, 1) := dk_27 (dk_at dksX1_matches_3 0 rfl rfl)
theorem dX1_matches_71 : decode cX1_matches 71 = .ok (.istore_n 2, 1) := dk_61 (dk_at dksX1_matches_3 1 rfl rfl)
theorem dX1_matches_72 : decode cX1_matches 72 = .ok (.iload_n 2, 1) := dk_28 (dk_at dksX1_matches_3 2 rfl rfl)
theorem dX1_matches_73 : decode cX1_matches 73 = .ok (.ifCond .lt 73, 3) := dk_155 0 73 (dk_at dksX1_matches_3 3 rfl rfl)
theorem dX1_matches_76 : decode cX1_matches 76 = .ok (.aload_n 0, 1) := dk_42 (dk_at dksX1_matches_3 6 rfl rfl)
theorem dX1_matches_77 : decode cX1_matches 77 = .ok (.iload_n 2, 1) := dk_28 (dk_at dksX1_matches_3 7 rfl rfl)
theorem dX1_matches_78 : decode cX1_matches 78 = .ok (.aload_n 0, 1) := dk_42 (dk_at dksX1_matches_3 8 rfl rfl)
theorem dX1_matches_79 : decode cX1_matches 79 = .ok (.getfield 72, 3) := dk_180 0 72 (dk_at dksX1_matches_3 9 rfl rfl)
theorem dX1_matches_82 : decode cX1_matches 82 = .ok (.iload_n 2, 1) := dk_28 (dk_at dksX1_matches_3 12 rfl rfl)
theorem dX1_matches_83 : decode cX1_matches 83 = .ok (.iaload, 1) := dk_46 (dk_at dksX1_matches_3 13 rfl rfl)
theorem dX1_matches_84 : decode cX1_matches 84 = .ok (.invokevirtual 350, 3) := dk_182 1 94 (dk_at dksX1_matches_3 14 rfl rfl)
theorem dX1_matches_87 : decode cX1_matches 87 = .ok (.istore_n 3, 1) := dk_62 (dk_at dksX1_matches_3 17 rfl rfl)
theorem dX1_matches_88 : decode cX1_matches 88 = .ok (.iload_n 3, 1) := dk_29 (dk_at dksX1_matches_3 18 rfl rfl)
theorem dX1_matches_89 : decode cX1_matches 89 = .ok (.ifCond .ge 6, 3) := dk_156 0 6 (dk_at dksX1_matches_3 19 rfl rfl)
theorem dX1_matches_92 : decode cX1_matches 92 = .ok (.goto 54, 3) := dk_167 0 54 (dk_at dksX1_matches_4 0 rfl rfl)
theorem dX1_matches_95 : decode cX1_matches 95 = .ok (.aload_n 0, 1) := dk_42 (dk_at dksX1_matches_4 3 rfl rfl)
theorem dX1_matches_96 : decode cX1_matches 96 = .ok (.getfield 72, 3) := dk_180 0 72 (dk_at dksX1_matches_4 4 rfl rfl)
theorem dX1_matches_99 : decode cX1_matches 99 = .ok (.iload_n 2, 1) := dk_28 (dk_at dksX1_matches_4 7 rfl rfl)
theorem dX1_matches_100 : decode cX1_matches 100 = .ok (.dup2, 1) := dk_92 (dk_at dksX1_matches_4 8 rfl rfl)
theorem dX1_matches_101 : decode cX1_matches 101 = .ok (.iaload, 1) := dk_46 (dk_at dksX1_matches_4 9 rfl rfl)
theorem dX1_matches_102 : decode cX1_matches 102 = .ok (.iconst 1, 1) := dk_4 (dk_at dksX1_matches_4 10 rfl rfl)
theorem dX1_matches_103 : decode cX1_matches 103 = .ok (.iload_n 3, 1) := dk_29 (dk_at dksX1_matches_4 11 rfl rfl)
theorem dX1_matches_104 : decode cX1_matches 104 = .ok (.ishl, 1) := dk_120 (dk_at dksX1_matches_4 12 rfl rfl)
theorem dX1_matches_105 : decode cX1_matches 105 = .ok (.ior, 1) := dk_128 (dk_at dksX1_matches_4 13 rfl rfl)
theorem dX1_matches_106 : decode cX1_matches 106 = .ok (.iastore, 1) := dk_79 (dk_at dksX1_matches_4 14 rfl rfl)
theorem dX1_matches_107 : decode cX1_matches 107 = .ok (.aload_n 0, 1) := dk_42 (dk_at dksX1_matches_4 15 rfl rfl)
theorem dX1_matches_108 : decode cX1_matches 108 = .ok (.getfield 75, 3) := dk_180 0 75 (dk_at dksX1_matches_4 16 rfl rfl)
theorem dX1_matches_111 : decode cX1_matches 111 = .ok (.iload_n 3, 1) := dk_29 (dk_at dksX1_matches_4 19 rfl rfl)
theorem dX1_matches_112 : decode cX1_matches 112 = .ok (.iaload, 1) := dk_46 (dk_at dksX1_matches_4 20 rfl rfl)
theorem dX1_matches_113 : decode cX1_matches 113 = .ok (.istore 4, 2) := dk_54 4 (dk_at dksX1_matches_4 21 rfl rfl)
theorem dX1_matches_115 : decode cX1_matches 115 = .ok (.iload 4, 2) := dk_21 4 (dk_at dksX1_matches_5 0 rfl rfl)
theorem dX1_matches_117 : decode cX1_matches 117 = .ok (.ifCond .lt 16, 3) := dk_155 0 16 (dk_at dksX1_matches_5 2 rfl rfl)
theorem dX1_matches_120 : decode cX1_matches 120 = .ok (.aload_n 0, 1) := dk_42 (dk_at dksX1_matches_5 5 rfl rfl)
theorem dX1_matches_121 : decode cX1_matches 121 = .ok (.iload_n 2, 1) := dk_28 (dk_at dksX1_matches_5 6 rfl rfl)
theorem dX1_matches_122 : decode cX1_matches 122 = .ok (.iload 4, 2) := dk_21 4 (dk_at dksX1_matches_5 7 rfl rfl)
theorem dX1_matches_124 : decode cX1_matches 124 = .ok (.invokevirtual 353, 3) := dk_182 1 97 (dk_at dksX1_matches_5 9 rfl rfl)
theorem dX1_matches_127 : decode cX1_matches 127 = .ok (.ifCond .ne 6, 3) := dk_154 0 6 (dk_at dksX1_matches_5 12 rfl rfl)
theorem dX1_matches_130 : decode cX1_matches 130 = .ok (.goto (-58), 3) := dk_167 255 198 (dk_at dksX1_matches_5 15 rfl rfl)
theorem dX1_matches_133 : decode cX1_matches 133 = .ok (.aload_n 0, 1) := dk_42 (dk_at dksX1_matches_5 18 rfl rfl)
theorem dX1_matches_134 : decode cX1_matches 134 = .ok (.getfield 75, 3) := dk_180 0 75 (dk_at dksX1_matches_5 19 rfl rfl)
theorem dX1_matches_137 : decode cX1_matches 137 = .ok (.iload_n 3, 1) := dk_29 (dk_at dksX1_matches_5 22 rfl rfl)
theorem dX1_matches_138 : decode cX1_matches 138 = .ok (.iload_n 2, 1) := dk_28 (dk_at dksX1_matches_5 23 rfl rfl)
theorem dX1_matches_139 : decode cX1_matches 139 = .ok (.iastore, 1) := dk_79 (dk_at dksX1_matches_6 0 rfl rfl)
theorem dX1_matches_140 : decode cX1_matches 140 = .ok (.iload 4, 2) := dk_21 4 (dk_at dksX1_matches_6 1 rfl rfl)
theorem dX1_matches_142 : decode cX1_matches 142 = .ok (.istore_n 2, 1) := dk_61 (dk_at dksX1_matches_6 3 rfl rfl)
theorem dX1_matches_143 : decode cX1_matches 143 = .ok (.goto (-71), 3) := dk_167 255 185 (dk_at dksX1_matches_6 4 rfl rfl)
theorem dX1_matches_146 : decode cX1_matches 146 = .ok (.iinc 1 1, 3) := dk_132 1 1 (dk_at dksX1_matches_6 7 rfl rfl)
theorem dX1_matches_149 : decode cX1_matches 149 = .ok (.goto (-105), 3) := dk_167 255 151 (dk_at dksX1_matches_6 10 rfl rfl)
theorem dX1_matches_152 : decode cX1_matches 152 = .ok (.iconst 0, 1) := dk_3 (dk_at dksX1_matches_6 13 rfl rfl)
theorem dX1_matches_153 : decode cX1_matches 153 = .ok (.istore_n 1, 1) := dk_60 (dk_at dksX1_matches_6 14 rfl rfl)
theorem dX1_matches_154 : decode cX1_matches 154 = .ok (.iload_n 1, 1) := dk_27 (dk_at dksX1_matches_6 15 rfl rfl)
theorem dX1_matches_155 : decode cX1_matches 155 = .ok (.bipush 6, 2) := dk_16 6 (dk_at dksX1_matches_6 16 rfl rfl)
theorem dX1_matches_157 : decode cX1_matches 157 = .ok (.if_icmp .ge 16, 3) := dk_162 0 16 (dk_at dksX1_matches_6 18 rfl rfl)
theorem dX1_matches_160 : decode cX1_matches 160 = .ok (.aload_n 0, 1) := dk_42 (dk_at dksX1_matches_6 21 rfl rfl)
theorem dX1_matches_161 : decode cX1_matches 161 = .ok (.getfield 78, 3) := dk_180 0 78 (dk_at dksX1_matches_7 0 rfl rfl)
theorem dX1_matches_164 : decode cX1_matches 164 = .ok (.iload_n 1, 1) := dk_27 (dk_at dksX1_matches_7 3 rfl rfl)
theorem dX1_matches_165 : decode cX1_matches 165 = .ok (.iconst (-1), 1) := dk_2 (dk_at dksX1_matches_7 4 rfl rfl)
theorem dX1_matches_166 : decode cX1_matches 166 = .ok (.iastore, 1) := dk_79 (dk_at dksX1_matches_7 5 rfl rfl)
theorem dX1_matches_167 : decode cX1_matches 167 = .ok (.iinc 1 1, 3) := dk_132 1 1 (dk_at dksX1_matches_7 6 rfl rfl)
theorem dX1_matches_170 : decode cX1_matches 170 = .ok (.goto (-16), 3) := dk_167 255 240 (dk_at dksX1_matches_7 9 rfl rfl)
theorem dX1_matches_173 : decode cX1_matches 173 = .ok (.iconst 0, 1) := dk_3 (dk_at dksX1_matches_7 12 rfl rfl)
theorem dX1_matches_174 : decode cX1_matches 174 = .ok (.istore_n 1, 1) := dk_60 (dk_at dksX1_matches_7 13 rfl rfl)
theorem dX1_matches_175 : decode cX1_matches 175 = .ok (.iload_n 1, 1) := dk_27 (dk_at dksX1_matches_7 14 rfl rfl)
theorem dX1_matches_176 : decode cX1_matches 176 = .ok (.aload_n 0, 1) := dk_42 (dk_at dksX1_matches_7 15 rfl rfl)
theorem dX1_matches_177 : decode cX1_matches 177 = .ok (.invokevirtual 151, 3) := dk_182 0 151 (dk_at dksX1_matches_7 16 rfl rfl)
theorem dX1_matches_180 : decode cX1_matches 180 = .ok (.if_icmp .ge 30, 3) := dk_162 0 30 (dk_at dksX1_matches_7 19 rfl rfl)
theorem dX1_matches_183 : decode cX1_matches 183 = .ok (.aload_n 0, 1) := dk_42 (dk_at dksX1_matches_7 22 rfl rfl)
theorem dX1_matches_184 : decode cX1_matches 184 = .ok (.getfield 75, 3) := dk_180 0 75 (dk_at dksX1_matches_8 0 rfl rfl)
theorem dX1_matches_187 : decode cX1_matches 187 = .ok (.iload_n 1, 1) := dk_27 (dk_at dksX1_matches_8 3 rfl rfl)
theorem dX1_matches_188 : decode cX1_matches 188 = .ok (.iaload, 1) := dk_46 (dk_at dksX1_matches_8 4 rfl rfl)
theorem dX1_matches_189 : decode cX1_matches 189 = .ok (.ifCond .lt 15, 3) := dk_155 0 15 (dk_at dksX1_matches_8 5 rfl rfl)
theorem dX1_matches_192 : decode cX1_matches 192 = .ok (.aload_n 0, 1) := dk_42 (dk_at dksX1_matches_8 8 rfl rfl)
theorem dX1_matches_193 : decode cX1_matches 193 = .ok (.getfield 78, 3) := dk_180 0 78 (dk_at dksX1_matches_8 9 rfl rfl)
theorem dX1_matches_196 : decode cX1_matches 196 = .ok (.aload_n 0, 1) := dk_42 (dk_at dksX1_matches_8 12 rfl rfl)
theorem dX1_matches_197 : decode cX1_matches 197 = .ok (.getfield 75, 3) := dk_180 0 75 (dk_at dksX1_matches_8 13 rfl rfl)
theorem dX1_matches_200 : decode cX1_matches 200 = .ok (.iload_n 1, 1) := dk_27 (dk_at dksX1_matches_8 16 rfl rfl)
theorem dX1_matches_201 : decode cX1_matches 201 = .ok (.iaload, 1) := dk_46 (dk_at dksX1_matches_8 17 rfl rfl)
theorem dX1_matches_202 : decode cX1_matches 202 = .ok (.iload_n 1, 1) := dk_27 (dk_at dksX1_matches_8 18 rfl rfl)
theorem dX1_matches_203 : decode cX1_matches 203 = .ok (.iastore, 1) := dk_79 (dk_at dksX1_matches_8 19 rfl rfl)
theorem dX1_matches_204 : decode cX1_matches 204 = .ok (.iinc 1 1, 3) := dk_132 1 1 (dk_at dksX1_matches_8 20 rfl rfl)
theorem dX1_matches_207 : decode cX1_matches 207 = .ok (.goto (-32), 3) := dk_167 255 224 (dk_at dksX1_matches_9 0 rfl rfl)
theorem dX1_matches_210 : decode cX1_matches 210 = .ok (.return_, 1) := dk_177 (dk_at dksX1_matches_9 3 rfl rfl)
abbrev cX1_wishes : ByteArray := prog_1_method_46_code
def yX1_wishes : MethodName := ⟨RX1, "wishes", "(II)I"⟩
def dkwX1_wishes_2 : List UInt8 := [132, 4, 1, 167, 255, 212, 29, 172]
abbrev dktX1_wishes_2 : List UInt8 := dkwX1_wishes_2 ++ []
def dkwX1_wishes_1 : List UInt8 := [155, 0, 19, 42, 27, 21, 4, 182, 1, 92, 42, 27, 29, 182, 1, 92, 164, 0, 6, 21, 4, 62]
abbrev dktX1_wishes_1 : List UInt8 := dkwX1_wishes_1 ++ dktX1_wishes_2
def dkwX1_wishes_0 : List UInt8 := [2, 62, 3, 54, 4, 21, 4, 42, 182, 0, 151, 162, 0, 41, 28, 21, 4, 184, 0, 252, 154, 0, 26, 29]
abbrev dktX1_wishes_0 : List UInt8 := dkwX1_wishes_0 ++ dktX1_wishes_1
theorem dksX1_wishes_0 : cX1_wishes.data.toList.drop 0 = dktX1_wishes_0 := by decide +kernel
theorem dksX1_wishes_1 : cX1_wishes.data.toList.drop 24 = dktX1_wishes_1 := dk_seg dksX1_wishes_0 24 rfl rfl
theorem dksX1_wishes_2 : cX1_wishes.data.toList.drop 46 = dktX1_wishes_2 := dk_seg dksX1_wishes_1 22 rfl rfl
theorem dX1_wishes_0 : decode cX1_wishes 0 = .ok (.iconst (-1), 1) := dk_2 (dk_at dksX1_wishes_0 0 rfl rfl)
theorem dX1_wishes_1 : decode cX1_wishes 1 = .ok (.istore_n 3, 1) := dk_62 (dk_at dksX1_wishes_0 1 rfl rfl)
theorem dX1_wishes_2 : decode cX1_wishes 2 = .ok (.iconst 0, 1) := dk_3 (dk_at dksX1_wishes_0 2 rfl rfl)
theorem dX1_wishes_3 : decode cX1_wishes 3 = .ok (.istore 4, 2) := dk_54 4 (dk_at dksX1_wishes_0 3 rfl rfl)
theorem dX1_wishes_5 : decode cX1_wishes 5 = .ok (.iload 4, 2) := dk_21 4 (dk_at dksX1_wishes_0 5 rfl rfl)
theorem dX1_wishes_7 : decode cX1_wishes 7 = .ok (.aload_n 0, 1) := dk_42 (dk_at dksX1_wishes_0 7 rfl rfl)
theorem dX1_wishes_8 : decode cX1_wishes 8 = .ok (.invokevirtual 151, 3) := dk_182 0 151 (dk_at dksX1_wishes_0 8 rfl rfl)
theorem dX1_wishes_11 : decode cX1_wishes 11 = .ok (.if_icmp .ge 41, 3) := dk_162 0 41 (dk_at dksX1_wishes_0 11 rfl rfl)
theorem dX1_wishes_14 : decode cX1_wishes 14 = .ok (.iload_n 2, 1) := dk_28 (dk_at dksX1_wishes_0 14 rfl rfl)
theorem dX1_wishes_15 : decode cX1_wishes 15 = .ok (.iload 4, 2) := dk_21 4 (dk_at dksX1_wishes_0 15 rfl rfl)
theorem dX1_wishes_17 : decode cX1_wishes 17 = .ok (.invokestatic 252, 3) := dk_184 0 252 (dk_at dksX1_wishes_0 17 rfl rfl)
theorem dX1_wishes_20 : decode cX1_wishes 20 = .ok (.ifCond .ne 26, 3) := dk_154 0 26 (dk_at dksX1_wishes_0 20 rfl rfl)
theorem dX1_wishes_23 : decode cX1_wishes 23 = .ok (.iload_n 3, 1) := dk_29 (dk_at dksX1_wishes_0 23 rfl rfl)
theorem dX1_wishes_24 : decode cX1_wishes 24 = .ok (.ifCond .lt 19, 3) := dk_155 0 19 (dk_at dksX1_wishes_1 0 rfl rfl)
theorem dX1_wishes_27 : decode cX1_wishes 27 = .ok (.aload_n 0, 1) := dk_42 (dk_at dksX1_wishes_1 3 rfl rfl)
theorem dX1_wishes_28 : decode cX1_wishes 28 = .ok (.iload_n 1, 1) := dk_27 (dk_at dksX1_wishes_1 4 rfl rfl)
theorem dX1_wishes_29 : decode cX1_wishes 29 = .ok (.iload 4, 2) := dk_21 4 (dk_at dksX1_wishes_1 5 rfl rfl)
theorem dX1_wishes_31 : decode cX1_wishes 31 = .ok (.invokevirtual 348, 3) := dk_182 1 92 (dk_at dksX1_wishes_1 7 rfl rfl)
theorem dX1_wishes_34 : decode cX1_wishes 34 = .ok (.aload_n 0, 1) := dk_42 (dk_at dksX1_wishes_1 10 rfl rfl)
theorem dX1_wishes_35 : decode cX1_wishes 35 = .ok (.iload_n 1, 1) := dk_27 (dk_at dksX1_wishes_1 11 rfl rfl)
theorem dX1_wishes_36 : decode cX1_wishes 36 = .ok (.iload_n 3, 1) := dk_29 (dk_at dksX1_wishes_1 12 rfl rfl)
theorem dX1_wishes_37 : decode cX1_wishes 37 = .ok (.invokevirtual 348, 3) := dk_182 1 92 (dk_at dksX1_wishes_1 13 rfl rfl)
theorem dX1_wishes_40 : decode cX1_wishes 40 = .ok (.if_icmp .le 6, 3) := dk_164 0 6 (dk_at dksX1_wishes_1 16 rfl rfl)
theorem dX1_wishes_43 : decode cX1_wishes 43 = .ok (.iload 4, 2) := dk_21 4 (dk_at dksX1_wishes_1 19 rfl rfl)
theorem dX1_wishes_45 : decode cX1_wishes 45 = .ok (.istore_n 3, 1) := dk_62 (dk_at dksX1_wishes_1 21 rfl rfl)
theorem dX1_wishes_46 : decode cX1_wishes 46 = .ok (.iinc 4 1, 3) := dk_132 4 1 (dk_at dksX1_wishes_2 0 rfl rfl)
theorem dX1_wishes_49 : decode cX1_wishes 49 = .ok (.goto (-44), 3) := dk_167 255 212 (dk_at dksX1_wishes_2 3 rfl rfl)
theorem dX1_wishes_52 : decode cX1_wishes 52 = .ok (.iload_n 3, 1) := dk_29 (dk_at dksX1_wishes_2 6 rfl rfl)
theorem dX1_wishes_53 : decode cX1_wishes 53 = .ok (.ireturn, 1) := dk_172 (dk_at dksX1_wishes_2 7 rfl rfl)
abbrev cX1_wish : ByteArray := prog_1_method_45_code
def yX1_wish : MethodName := ⟨RX1, "wish", "(II)I"⟩
def dkwX1_wish_3 : List UInt8 := [27, 182, 0, 166, 182, 0, 234, 79, 42, 180, 0, 35, 180, 1, 86, 42, 180, 0, 58, 182, 0, 225, 172]
abbrev dktX1_wish_3 : List UInt8 := dkwX1_wish_3 ++ []
def dkwX1_wish_2 : List UInt8 := [180, 0, 182, 79, 42, 180, 0, 58, 5, 42, 28, 182, 0, 179, 180, 0, 231, 79, 42, 180, 0, 58, 6, 42]
abbrev dktX1_wish_2 : List UInt8 := dkwX1_wish_2 ++ dktX1_wish_3
def dkwX1_wish_1 : List UInt8 := [42, 180, 0, 58, 3, 42, 28, 182, 0, 179, 180, 1, 2, 79, 42, 180, 0, 58, 4, 42, 28, 182, 0, 179]
abbrev dktX1_wish_1 : List UInt8 := dkwX1_wish_1 ++ dktX1_wish_2
def dkwX1_wish_0 : List UInt8 := [42, 180, 0, 35, 180, 1, 86, 199, 0, 17, 42, 27, 182, 0, 166, 42, 28, 182, 0, 179, 182, 1, 89, 172]
abbrev dktX1_wish_0 : List UInt8 := dkwX1_wish_0 ++ dktX1_wish_1
theorem dksX1_wish_0 : cX1_wish.data.toList.drop 0 = dktX1_wish_0 := by decide +kernel
theorem dksX1_wish_1 : cX1_wish.data.toList.drop 24 = dktX1_wish_1 := dk_seg dksX1_wish_0 24 rfl rfl
theorem dksX1_wish_2 : cX1_wish.data.toList.drop 48 = dktX1_wish_2 := dk_seg dksX1_wish_1 24 rfl rfl
theorem dksX1_wish_3 : cX1_wish.data.toList.drop 72 = dktX1_wish_3 := dk_seg dksX1_wish_2 24 rfl rfl
theorem dX1_wish_0 : decode cX1_wish 0 = .ok (.aload_n 0, 1) := dk_42 (dk_at dksX1_wish_0 0 rfl rfl)
theorem dX1_wish_1 : decode cX1_wish 1 = .ok (.getfield 35, 3) := dk_180 0 35 (dk_at dksX1_wish_0 1 rfl rfl)
theorem dX1_wish_4 : decode cX1_wish 4 = .ok (.getfield 342, 3) := dk_180 1 86 (dk_at dksX1_wish_0 4 rfl rfl)
theorem dX1_wish_7 : decode cX1_wish 7 = .ok (.ifnonnull 17, 3) := dk_199 0 17 (dk_at dksX1_wish_0 7 rfl rfl)
theorem dX1_wish_10 : decode cX1_wish 10 = .ok (.aload_n 0, 1) := dk_42 (dk_at dksX1_wish_0 10 rfl rfl)
theorem dX1_wish_11 : decode cX1_wish 11 = .ok (.iload_n 1, 1) := dk_27 (dk_at dksX1_wish_0 11 rfl rfl)
theorem dX1_wish_12 : decode cX1_wish 12 = .ok (.invokevirtual 166, 3) := dk_182 0 166 (dk_at dksX1_wish_0 12 rfl rfl)
theorem dX1_wish_15 : decode cX1_wish 15 = .ok (.aload_n 0, 1) := dk_42 (dk_at dksX1_wish_0 15 rfl rfl)
theorem dX1_wish_16 : decode cX1_wish 16 = .ok (.iload_n 2, 1) := dk_28 (dk_at dksX1_wish_0 16 rfl rfl)
theorem dX1_wish_17 : decode cX1_wish 17 = .ok (.invokevirtual 179, 3) := dk_182 0 179 (dk_at dksX1_wish_0 17 rfl rfl)
theorem dX1_wish_20 : decode cX1_wish 20 = .ok (.invokevirtual 345, 3) := dk_182 1 89 (dk_at dksX1_wish_0 20 rfl rfl)
theorem dX1_wish_23 : decode cX1_wish 23 = .ok (.ireturn, 1) := dk_172 (dk_at dksX1_wish_0 23 rfl rfl)
theorem dX1_wish_24 : decode cX1_wish 24 = .ok (.aload_n 0, 1) := dk_42 (dk_at dksX1_wish_1 0 rfl rfl)
theorem dX1_wish_25 : decode cX1_wish 25 = .ok (.getfield 58, 3) := dk_180 0 58 (dk_at dksX1_wish_1 1 rfl rfl)
theorem dX1_wish_28 : decode cX1_wish 28 = .ok (.iconst 0, 1) := dk_3 (dk_at dksX1_wish_1 4 rfl rfl)
theorem dX1_wish_29 : decode cX1_wish 29 = .ok (.aload_n 0, 1) := dk_42 (dk_at dksX1_wish_1 5 rfl rfl)
theorem dX1_wish_30 : decode cX1_wish 30 = .ok (.iload_n 2, 1) := dk_28 (dk_at dksX1_wish_1 6 rfl rfl)
theorem dX1_wish_31 : decode cX1_wish 31 = .ok (.invokevirtual 179, 3) := dk_182 0 179 (dk_at dksX1_wish_1 7 rfl rfl)
theorem dX1_wish_34 : decode cX1_wish 34 = .ok (.getfield 258, 3) := dk_180 1 2 (dk_at dksX1_wish_1 10 rfl rfl)
theorem dX1_wish_37 : decode cX1_wish 37 = .ok (.iastore, 1) := dk_79 (dk_at dksX1_wish_1 13 rfl rfl)
theorem dX1_wish_38 : decode cX1_wish 38 = .ok (.aload_n 0, 1) := dk_42 (dk_at dksX1_wish_1 14 rfl rfl)
theorem dX1_wish_39 : decode cX1_wish 39 = .ok (.getfield 58, 3) := dk_180 0 58 (dk_at dksX1_wish_1 15 rfl rfl)
theorem dX1_wish_42 : decode cX1_wish 42 = .ok (.iconst 1, 1) := dk_4 (dk_at dksX1_wish_1 18 rfl rfl)
theorem dX1_wish_43 : decode cX1_wish 43 = .ok (.aload_n 0, 1) := dk_42 (dk_at dksX1_wish_1 19 rfl rfl)
theorem dX1_wish_44 : decode cX1_wish 44 = .ok (.iload_n 2, 1) := dk_28 (dk_at dksX1_wish_1 20 rfl rfl)
theorem dX1_wish_45 : decode cX1_wish 45 = .ok (.invokevirtual 179, 3) := dk_182 0 179 (dk_at dksX1_wish_1 21 rfl rfl)
theorem dX1_wish_48 : decode cX1_wish 48 = .ok (.getfield 182, 3) := dk_180 0 182 (dk_at dksX1_wish_2 0 rfl rfl)
theorem dX1_wish_51 : decode cX1_wish 51 = .ok (.iastore, 1) := dk_79 (dk_at dksX1_wish_2 3 rfl rfl)
theorem dX1_wish_52 : decode cX1_wish 52 = .ok (.aload_n 0, 1) := dk_42 (dk_at dksX1_wish_2 4 rfl rfl)
theorem dX1_wish_53 : decode cX1_wish 53 = .ok (.getfield 58, 3) := dk_180 0 58 (dk_at dksX1_wish_2 5 rfl rfl)
theorem dX1_wish_56 : decode cX1_wish 56 = .ok (.iconst 2, 1) := dk_5 (dk_at dksX1_wish_2 8 rfl rfl)
theorem dX1_wish_57 : decode cX1_wish 57 = .ok (.aload_n 0, 1) := dk_42 (dk_at dksX1_wish_2 9 rfl rfl)
theorem dX1_wish_58 : decode cX1_wish 58 = .ok (.iload_n 2, 1) := dk_28 (dk_at dksX1_wish_2 10 rfl rfl)
theorem dX1_wish_59 : decode cX1_wish 59 = .ok (.invokevirtual 179, 3) := dk_182 0 179 (dk_at dksX1_wish_2 11 rfl rfl)
theorem dX1_wish_62 : decode cX1_wish 62 = .ok (.getfield 231, 3) := dk_180 0 231 (dk_at dksX1_wish_2 14 rfl rfl)
theorem dX1_wish_65 : decode cX1_wish 65 = .ok (.iastore, 1) := dk_79 (dk_at dksX1_wish_2 17 rfl rfl)
theorem dX1_wish_66 : decode cX1_wish 66 = .ok (.aload_n 0, 1) := dk_42 (dk_at dksX1_wish_2 18 rfl rfl)
theorem dX1_wish_67 : decode cX1_wish 67 = .ok (.getfield 58, 3) := dk_180 0 58 (dk_at dksX1_wish_2 19 rfl rfl)
theorem dX1_wish_70 : decode cX1_wish 70 = .ok (.iconst 3, 1) := dk_6 (dk_at dksX1_wish_2 22 rfl rfl)
theorem dX1_wish_71 : decode cX1_wish 71 = .ok (.aload_n 0, 1) := dk_42 (dk_at dksX1_wish_2 23 rfl rfl)
theorem dX1_wish_72 : decode cX1_wish 72 = .ok (.iload_n 1, 1) := dk_27 (dk_at dksX1_wish_3 0 rfl rfl)
theorem dX1_wish_73 : decode cX1_wish 73 = .ok (.invokevirtual 166, 3) := dk_182 0 166 (dk_at dksX1_wish_3 1 rfl rfl)
theorem dX1_wish_76 : decode cX1_wish 76 = .ok (.invokevirtual 234, 3) := dk_182 0 234 (dk_at dksX1_wish_3 4 rfl rfl)
theorem dX1_wish_79 : decode cX1_wish 79 = .ok (.iastore, 1) := dk_79 (dk_at dksX1_wish_3 7 rfl rfl)
theorem dX1_wish_80 : decode cX1_wish 80 = .ok (.aload_n 0, 1) := dk_42 (dk_at dksX1_wish_3 8 rfl rfl)
theorem dX1_wish_81 : decode cX1_wish 81 = .ok (.getfield 35, 3) := dk_180 0 35 (dk_at dksX1_wish_3 9 rfl rfl)
theorem dX1_wish_84 : decode cX1_wish 84 = .ok (.getfield 342, 3) := dk_180 1 86 (dk_at dksX1_wish_3 12 rfl rfl)
theorem dX1_wish_87 : decode cX1_wish 87 = .ok (.aload_n 0, 1) := dk_42 (dk_at dksX1_wish_3 15 rfl rfl)
theorem dX1_wish_88 : decode cX1_wish 88 = .ok (.getfield 58, 3) := dk_180 0 58 (dk_at dksX1_wish_3 16 rfl rfl)
theorem dX1_wish_91 : decode cX1_wish 91 = .ok (.invokevirtual 225, 3) := dk_182 0 225 (dk_at dksX1_wish_3 19 rfl rfl)
theorem dX1_wish_94 : decode cX1_wish 94 = .ok (.ireturn, 1) := dk_172 (dk_at dksX1_wish_3 22 rfl rfl)
abbrev cX1_isAhead : ByteArray := prog_1_method_48_code
def yX1_isAhead : MethodName := ⟨RX1, "isAhead", "(II)Z"⟩
def dkwX1_isAhead_2 : List UInt8 := [172]
abbrev dktX1_isAhead_2 : List UInt8 := dkwX1_isAhead_2 ++ []
def dkwX1_isAhead_1 : List UInt8 := [180, 1, 8, 42, 28, 182, 0, 166, 180, 1, 8, 160, 0, 12, 27, 28, 162, 0, 7, 4, 167, 0, 4, 3]
abbrev dktX1_isAhead_1 : List UInt8 := dkwX1_isAhead_1 ++ dktX1_isAhead_2
def dkwX1_isAhead_0 : List UInt8 := [42, 27, 182, 0, 166, 180, 1, 8, 42, 28, 182, 0, 166, 180, 1, 8, 163, 0, 27, 42, 27, 182, 0, 166]
abbrev dktX1_isAhead_0 : List UInt8 := dkwX1_isAhead_0 ++ dktX1_isAhead_1
theorem dksX1_isAhead_0 : cX1_isAhead.data.toList.drop 0 = dktX1_isAhead_0 := by decide +kernel
theorem dksX1_isAhead_1 : cX1_isAhead.data.toList.drop 24 = dktX1_isAhead_1 := dk_seg dksX1_isAhead_0 24 rfl rfl
theorem dksX1_isAhead_2 : cX1_isAhead.data.toList.drop 48 = dktX1_isAhead_2 := dk_seg dksX1_isAhead_1 24 rfl rfl
theorem dX1_isAhead_0 : decode cX1_isAhead 0 = .ok (.aload_n 0, 1) := dk_42 (dk_at dksX1_isAhead_0 0 rfl rfl)
theorem dX1_isAhead_1 : decode cX1_isAhead 1 = .ok (.iload_n 1, 1) := dk_27 (dk_at dksX1_isAhead_0 1 rfl rfl)
theorem dX1_isAhead_2 : decode cX1_isAhead 2 = .ok (.invokevirtual 166, 3) := dk_182 0 166 (dk_at dksX1_isAhead_0 2 rfl rfl)
theorem dX1_isAhead_5 : decode cX1_isAhead 5 = .ok (.getfield 264, 3) := dk_180 1 8 (dk_at dksX1_isAhead_0 5 rfl rfl)
theorem dX1_isAhead_8 : decode cX1_isAhead 8 = .ok (.aload_n 0, 1) := dk_42 (dk_at dksX1_isAhead_0 8 rfl rfl)
theorem dX1_isAhead_9 : decode cX1_isAhead 9 = .ok (.iload_n 2, 1) := dk_28 (dk_at dksX1_isAhead_0 9 rfl rfl)
theorem dX1_isAhead_10 : decode cX1_isAhead 10 = .ok (.invokevirtual 166, 3) := dk_182 0 166 (dk_at dksX1_isAhead_0 10 rfl rfl)
theorem dX1_isAhead_13 : decode cX1_isAhead 13 = .ok (.getfield 264, 3) := dk_180 1 8 (dk_at dksX1_isAhead_0 13 rfl rfl)
theorem dX1_isAhead_16 : decode cX1_isAhead 16 = .ok (.if_icmp .gt 27, 3) := dk_163 0 27 (dk_at dksX1_isAhead_0 16 rfl rfl)
theorem dX1_isAhead_19 : decode cX1_isAhead 19 = .ok (.aload_n 0, 1) := dk_42 (dk_at dksX1_isAhead_0 19 rfl rfl)
theorem dX1_isAhead_20 : decode cX1_isAhead 20 = .ok (.iload_n 1, 1) := dk_27 (dk_at dksX1_isAhead_0 20 rfl rfl)
theorem dX1_isAhead_21 : decode cX1_isAhead 21 = .ok (.invokevirtual 166, 3) := dk_182 0 166 (dk_at dksX1_isAhead_0 21 rfl rfl)
theorem dX1_isAhead_24 : decode cX1_isAhead 24 = .ok (.getfield 264, 3) := dk_180 1 8 (dk_at dksX1_isAhead_1 0 rfl rfl)
theorem dX1_isAhead_27 : decode cX1_isAhead 27 = .ok (.aload_n 0, 1) := dk_42 (dk_at dksX1_isAhead_1 3 rfl rfl)
theorem dX1_isAhead_28 : decode cX1_isAhead 28 = .ok (.iload_n 2, 1) := dk_28 (dk_at dksX1_isAhead_1 4 rfl rfl)
theorem dX1_isAhead_29 : decode cX1_isAhead 29 = .ok (.invokevirtual 166, 3) := dk_182 0 166 (dk_at dksX1_isAhead_1 5 rfl rfl)
theorem dX1_isAhead_32 : decode cX1_isAhead 32 = .ok (.getfield 264, 3) := dk_180 1 8 (dk_at dksX1_isAhead_1 8 rfl rfl)
theorem dX1_isAhead_35 : decode cX1_isAhead 35 = .ok (.if_icmp .ne 12, 3) := dk_160 0 12 (dk_at dksX1_isAhead_1 11 rfl rfl)
theorem dX1_isAhead_38 : decode cX1_isAhead 38 = .ok (.iload_n 1, 1) := dk_27 (dk_at dksX1_isAhead_1 14 rfl rfl)
theorem dX1_isAhead_39 : decode cX1_isAhead 39 = .ok (.iload_n 2, 1) := dk_28 (dk_at dksX1_isAhead_1 15 rfl rfl)
theorem dX1_isAhead_40 : decode cX1_isAhead 40 = .ok (.if_icmp .ge 7, 3) := dk_162 0 7 (dk_at dksX1_isAhead_1 16 rfl rfl)
theorem dX1_isAhead_43 : decode cX1_isAhead 43 = .ok (.iconst 1, 1) := dk_4 (dk_at dksX1_isAhead_1 19 rfl rfl)
theorem dX1_isAhead_44 : decode cX1_isAhead 44 = .ok (.goto 4, 3) := dk_167 0 4 (dk_at dksX1_isAhead_1 20 rfl rfl)
theorem dX1_isAhead_47 : decode cX1_isAhead 47 = .ok (.iconst 0, 1) := dk_3 (dk_at dksX1_isAhead_1 23 rfl rfl)
theorem dX1_isAhead_48 : decode cX1_isAhead 48 = .ok (.ireturn, 1) := dk_172 (dk_at dksX1_isAhead_2 0 rfl rfl)
abbrev cX1_spare : ByteArray := prog_1_method_50_code
def yX1_spare : MethodName := ⟨RX1, "spare", "(II)I"⟩
def dkwX1_spare_3 : List UInt8 := [182, 1, 92, 42, 28, 21, 4, 182, 1, 92, 164, 0, 7, 4, 167, 0, 4, 3, 172]
abbrev dktX1_spare_3 : List UInt8 := dkwX1_spare_3 ++ []
def dkwX1_spare_2 : List UInt8 := [156, 0, 5, 2, 172, 42, 27, 21, 4, 182, 1, 92, 42, 27, 29, 182, 1, 92, 164, 0, 23, 42, 28, 29]
abbrev dktX1_spare_2 : List UInt8 := dkwX1_spare_2 ++ dktX1_spare_3
def dkwX1_spare_1 : List UInt8 := [182, 1, 100, 42, 180, 0, 78, 27, 46, 62, 42, 180, 0, 78, 28, 46, 54, 4, 29, 155, 0, 8, 21, 4]
abbrev dktX1_spare_1 : List UInt8 := dkwX1_spare_1 ++ dktX1_spare_2
def dkwX1_spare_0 : List UInt8 := [42, 27, 182, 0, 159, 153, 0, 16, 42, 28, 182, 0, 159, 153, 0, 8, 27, 28, 160, 0, 5, 2, 172, 42]
abbrev dktX1_spare_0 : List UInt8 := dkwX1_spare_0 ++ dktX1_spare_1
theorem dksX1_spare_0 : cX1_spare.data.toList.drop 0 = dktX1_spare_0 := by decide +kernel
theorem dksX1_spare_1 : cX1_spare.data.toList.drop 24 = dktX1_spare_1 := dk_seg dksX1_spare_0 24 rfl rfl
theorem dksX1_spare_2 : cX1_spare.data.toList.drop 48 = dktX1_spare_2 := dk_seg dksX1_spare_1 24 rfl rfl
theorem dksX1_spare_3 : cX1_spare.data.toList.drop 72 = dktX1_spare_3 := dk_seg dksX1_spare_2 24 rfl rfl
theorem dX1_spare_0 : decode cX1_spare 0 = .ok (.aload_n 0, 1) := dk_42 (dk_at dksX1_spare_0 0 rfl rfl)
theorem dX1_spare_1 : decode cX1_spare 1 = .ok (.iload_n 1, 1) := dk_27 (dk_at dksX1_spare_0 1 rfl rfl)
theorem dX1_spare_2 : decode cX1_spare 2 = .ok (.invokevirtual 159, 3) := dk_182 0 159 (dk_at dksX1_spare_0 2 rfl rfl)
theorem dX1_spare_5 : decode cX1_spare 5 = .ok (.ifCond .eq 16, 3) := dk_153 0 16 (dk_at dksX1_spare_0 5 rfl rfl)
theorem dX1_spare_8 : decode cX1_spare 8 = .ok (.aload_n 0, 1) := dk_42 (dk_at dksX1_spare_0 8 rfl rfl)
theorem dX1_spare_9 : decode cX1_spare 9 = .ok (.iload_n 2, 1) := dk_28 (dk_at dksX1_spare_0 9 rfl rfl)
theorem dX1_spare_10 : decode cX1_spare 10 = .ok (.invokevirtual 159, 3) := dk_182 0 159 (dk_at dksX1_spare_0 10 rfl rfl)
theorem dX1_spare_13 : decode cX1_spare 13 = .ok (.ifCond .eq 8, 3) := dk_153 0 8 (dk_at dksX1_spare_0 13 rfl rfl)
theorem dX1_spare_16 : decode cX1_spare 16 = .ok (.iload_n 1, 1) := dk_27 (dk_at dksX1_spare_0 16 rfl rfl)
theorem dX1_spare_17 : decode cX1_spare 17 = .ok (.iload_n 2, 1) := dk_28 (dk_at dksX1_spare_0 17 rfl rfl)
theorem dX1_spare_18 : decode cX1_spare 18 = .ok (.if_icmp .ne 5, 3) := dk_160 0 5 (dk_at dksX1_spare_0 18 rfl rfl)
theorem dX1_spare_21 : decode cX1_spare 21 = .ok (.iconst (-1), 1) := dk_2 (dk_at dksX1_spare_0 21 rfl rfl)
theorem dX1_spare_22 : decode cX1_spare 22 = .ok (.ireturn, 1) := dk_172 (dk_at dksX1_spare_0 22 rfl rfl)
theorem dX1_spare_23 : decode cX1_spare 23 = .ok (.aload_n 0, 1) := dk_42 (dk_at dksX1_spare_0 23 rfl rfl)
theorem dX1_spare_24 : decode cX1_spare 24 = .ok (.invokevirtual 356, 3) := dk_182 1 100 (dk_at dksX1_spare_1 0 rfl rfl)
theorem dX1_spare_27 : decode cX1_spare 27 = .ok (.aload_n 0, 1) := dk_42 (dk_at dksX1_spare_1 3 rfl rfl)
theorem dX1_spare_28 : decode cX1_spare 28 = .ok (.getfield 78, 3) := dk_180 0 78 (dk_at dksX1_spare_1 4 rfl rfl)
theorem dX1_spare_31 : decode cX1_spare 31 = .ok (.iload_n 1, 1) := dk_27 (dk_at dksX1_spare_1 7 rfl rfl)
theorem dX1_spare_32 : decode cX1_spare 32 = .ok (.iaload, 1) := dk_46 (dk_at dksX1_spare_1 8 rfl rfl)
theorem dX1_spare_33 : decode cX1_spare 33 = .ok (.istore_n 3, 1) := dk_62 (dk_at dksX1_spare_1 9 rfl rfl)
theorem dX1_spare_34 : decode cX1_spare 34 = .ok (.aload_n 0, 1) := dk_42 (dk_at dksX1_spare_1 10 rfl rfl)
theorem dX1_spare_35 : decode cX1_spare 35 = .ok (.getfield 78, 3) := dk_180 0 78 (dk_at dksX1_spare_1 11 rfl rfl)
theorem dX1_spare_38 : decode cX1_spare 38 = .ok (.iload_n 2, 1) := dk_28 (dk_at dksX1_spare_1 14 rfl rfl)
theorem dX1_spare_39 : decode cX1_spare 39 = .ok (.iaload, 1) := dk_46 (dk_at dksX1_spare_1 15 rfl rfl)
theorem dX1_spare_40 : decode cX1_spare 40 = .ok (.istore 4, 2) := dk_54 4 (dk_at dksX1_spare_1 16 rfl rfl)
theorem dX1_spare_42 : decode cX1_spare 42 = .ok (.iload_n 3, 1) := dk_29 (dk_at dksX1_spare_1 18 rfl rfl)
theorem dX1_spare_43 : decode cX1_spare 43 = .ok (.ifCond .lt 8, 3) := dk_155 0 8 (dk_at dksX1_spare_1 19 rfl rfl)
theorem dX1_spare_46 : decode cX1_spare 46 = .ok (.iload 4, 2) := dk_21 4 (dk_at dksX1_spare_1 22 rfl rfl)
theorem dX1_spare_48 : decode cX1_spare 48 = .ok (.ifCond .ge 5, 3) := dk_156 0 5 (dk_at dksX1_spare_2 0 rfl rfl)
theorem dX1_spare_51 : decode cX1_spare 51 = .ok (.iconst (-1), 1) := dk_2 (dk_at dksX1_spare_2 3 rfl rfl)
theorem dX1_spare_52 : decode cX1_spare 52 = .ok (.ireturn, 1) := dk_172 (dk_at dksX1_spare_2 4 rfl rfl)
theorem dX1_spare_53 : decode cX1_spare 53 = .ok (.aload_n 0, 1) := dk_42 (dk_at dksX1_spare_2 5 rfl rfl)
theorem dX1_spare_54 : decode cX1_spare 54 = .ok (.iload_n 1, 1) := dk_27 (dk_at dksX1_spare_2 6 rfl rfl)
theorem dX1_spare_55 : decode cX1_spare 55 = .ok (.iload 4, 2) := dk_21 4 (dk_at dksX1_spare_2 7 rfl rfl)
theorem dX1_spare_57 : decode cX1_spare 57 = .ok (.invokevirtual 348, 3) := dk_182 1 92 (dk_at dksX1_spare_2 9 rfl rfl)
theorem dX1_spare_60 : decode cX1_spare 60 = .ok (.aload_n 0, 1) := dk_42 (dk_at dksX1_spare_2 12 rfl rfl)
theorem dX1_spare_61 : decode cX1_spare 61 = .ok (.iload_n 1, 1) := dk_27 (dk_at dksX1_spare_2 13 rfl rfl)
theorem dX1_spare_62 : decode cX1_spare 62 = .ok (.iload_n 3, 1) := dk_29 (dk_at dksX1_spare_2 14 rfl rfl)
theorem dX1_spare_63 : decode cX1_spare 63 = .ok (.invokevirtual 348, 3) := dk_182 1 92 (dk_at dksX1_spare_2 15 rfl rfl)
theorem dX1_spare_66 : decode cX1_spare 66 = .ok (.if_icmp .le 23, 3) := dk_164 0 23 (dk_at dksX1_spare_2 18 rfl rfl)
theorem dX1_spare_69 : decode cX1_spare 69 = .ok (.aload_n 0, 1) := dk_42 (dk_at dksX1_spare_2 21 rfl rfl)
theorem dX1_spare_70 : decode cX1_spare 70 = .ok (.iload_n 2, 1) := dk_28 (dk_at dksX1_spare_2 22 rfl rfl)
theorem dX1_spare_71 : decode cX1_spare 71 = .ok (.iload_n 3, 1) := dk_29 (dk_at dksX1_spare_2 23 rfl rfl)
theorem dX1_spare_72 : decode cX1_spare 72 = .ok (.invokevirtual 348, 3) := dk_182 1 92 (dk_at dksX1_spare_3 0 rfl rfl)
theorem dX1_spare_75 : decode cX1_spare 75 = .ok (.aload_n 0, 1) := dk_42 (dk_at dksX1_spare_3 3 rfl rfl)
theorem dX1_spare_76 : decode cX1_spare 76 = .ok (.iload_n 2, 1) := dk_28 (dk_at dksX1_spare_3 4 rfl rfl)
theorem dX1_spare_77 : decode cX1_spare 77 = .ok (.iload 4, 2) := dk_21 4 (dk_at dksX1_spare_3 5 rfl rfl)
theorem dX1_spare_79 : decode cX1_spare 79 = .ok (.invokevirtual 348, 3) := dk_182 1 92 (dk_at dksX1_spare_3 7 rfl rfl)
theorem dX1_spare_82 : decode cX1_spare 82 = .ok (.if_icmp .le 7, 3) := dk_164 0 7 (dk_at dksX1_spare_3 10 rfl rfl)
theorem dX1_spare_85 : decode cX1_spare 85 = .ok (.iconst 1, 1) := dk_4 (dk_at dksX1_spare_3 13 rfl rfl)
theorem dX1_spare_86 : decode cX1_spare 86 = .ok (.goto 4, 3) := dk_167 0 4 (dk_at dksX1_spare_3 14 rfl rfl)
theorem dX1_spare_89 : decode cX1_spare 89 = .ok (.iconst 0, 1) := dk_3 (dk_at dksX1_spare_3 17 rfl rfl)
theorem dX1_spare_90 : decode cX1_spare 90 = .ok (.ireturn, 1) := dk_172 (dk_at dksX1_spare_3 18 rfl rfl)
abbrev cX1_sampled : ByteArray := prog_1_method_52_code
def yX1_sampled : MethodName := ⟨RX1, "sampled", "(IIII)I"⟩
def dkwX1_sampled_4 : List UInt8 := [109, 136, 172]
abbrev dktX1_sampled_4 : List UInt8 := dkwX1_sampled_4 ++ []
def dkwX1_sampled_3 : List UInt8 := [184, 1, 103, 105, 97, 55, 5, 132, 7, 1, 167, 255, 225, 22, 5, 20, 1, 107, 105, 27, 29, 184, 1, 103]
abbrev dktX1_sampled_3 : List UInt8 := dkwX1_sampled_3 ++ dktX1_sampled_4
def dkwX1_sampled_2 : List UInt8 := [54, 7, 21, 7, 29, 163, 0, 31, 22, 5, 28, 21, 7, 184, 1, 103, 27, 28, 100, 29, 21, 7, 100]
abbrev dktX1_sampled_2 : List UInt8 := dkwX1_sampled_2 ++ dktX1_sampled_3
def dkwX1_sampled_1 : List UInt8 := [184, 0, 153, 153, 0, 13, 21, 4, 3, 29, 184, 0, 153, 154, 0, 5, 2, 172, 9, 55, 5, 21, 4]
abbrev dktX1_sampled_1 : List UInt8 := dkwX1_sampled_1 ++ dktX1_sampled_2
def dkwX1_sampled_0 : List UInt8 := [27, 4, 16, 30, 184, 0, 153, 153, 0, 31, 28, 3, 27, 184, 0, 153, 153, 0, 22, 29, 3, 27]
abbrev dktX1_sampled_0 : List UInt8 := dkwX1_sampled_0 ++ dktX1_sampled_1
theorem dksX1_sampled_0 : cX1_sampled.data.toList.drop 0 = dktX1_sampled_0 := by decide +kernel
theorem dksX1_sampled_1 : cX1_sampled.data.toList.drop 22 = dktX1_sampled_1 := dk_seg dksX1_sampled_0 22 rfl rfl
theorem dksX1_sampled_2 : cX1_sampled.data.toList.drop 45 = dktX1_sampled_2 := dk_seg dksX1_sampled_1 23 rfl rfl
theorem dksX1_sampled_3 : cX1_sampled.data.toList.drop 68 = dktX1_sampled_3 := dk_seg dksX1_sampled_2 23 rfl rfl
theorem dksX1_sampled_4 : cX1_sampled.data.toList.drop 92 = dktX1_sampled_4 := dk_seg dksX1_sampled_3 24 rfl rfl
theorem dX1_sampled_0 : decode cX1_sampled 0 = .ok (.iload_n 1, 1) := dk_27 (dk_at dksX1_sampled_0 0 rfl rfl)
theorem dX1_sampled_1 : decode cX1_sampled 1 = .ok (.iconst 1, 1) := dk_4 (dk_at dksX1_sampled_0 1 rfl rfl)
theorem dX1_sampled_2 : decode cX1_sampled 2 = .ok (.bipush 30, 2) := dk_16 30 (dk_at dksX1_sampled_0 2 rfl rfl)
theorem dX1_sampled_4 : decode cX1_sampled 4 = .ok (.invokestatic 153, 3) := dk_184 0 153 (dk_at dksX1_sampled_0 4 rfl rfl)
theorem dX1_sampled_7 : decode cX1_sampled 7 = .ok (.ifCond .eq 31, 3) := dk_153 0 31 (dk_at dksX1_sampled_0 7 rfl rfl)
theorem dX1_sampled_10 : decode cX1_sampled 10 = .ok (.iload_n 2, 1) := dk_28 (dk_at dksX1_sampled_0 10 rfl rfl)
theorem dX1_sampled_11 : decode cX1_sampled 11 = .ok (.iconst 0, 1) := dk_3 (dk_at dksX1_sampled_0 11 rfl rfl)
theorem dX1_sampled_12 : decode cX1_sampled 12 = .ok (.iload_n 1, 1) := dk_27 (dk_at dksX1_sampled_0 12 rfl rfl)
theorem dX1_sampled_13 : decode cX1_sampled 13 = .ok (.invokestatic 153, 3) := dk_184 0 153 (dk_at dksX1_sampled_0 13 rfl rfl)
theorem dX1_sampled_16 : decode cX1_sampled 16 = .ok (.ifCond .eq 22, 3) := dk_153 0 22 (dk_at dksX1_sampled_0 16 rfl rfl)
theorem dX1_sampled_19 : decode cX1_sampled 19 = .ok (.iload_n 3, 1) := dk_29 (dk_at dksX1_sampled_0 19 rfl rfl)
theorem dX1_sampled_20 : decode cX1_sampled 20 = .ok (.iconst 0, 1) := dk_3 (dk_at dksX1_sampled_0 20 rfl rfl)
theorem dX1_sampled_21 : decode cX1_sampled 21 = .ok (.iload_n 1, 1) := dk_27 (dk_at dksX1_sampled_0 21 rfl rfl)
theorem dX1_sampled_22 : decode cX1_sampled 22 = .ok (.invokestatic 153, 3) := dk_184 0 153 (dk_at dksX1_sampled_1 0 rfl rfl)
theorem dX1_sampled_25 : decode cX1_sampled 25 = .ok (.ifCond .eq 13, 3) := dk_153 0 13 (dk_at dksX1_sampled_1 3 rfl rfl)
theorem dX1_sampled_28 : decode cX1_sampled 28 = .ok (.iload 4, 2) := dk_21 4 (dk_at dksX1_sampled_1 6 rfl rfl)
theorem dX1_sampled_30 : decode cX1_sampled 30 = .ok (.iconst 0, 1) := dk_3 (dk_at dksX1_sampled_1 8 rfl rfl)
theorem dX1_sampled_31 : decode cX1_sampled 31 = .ok (.iload_n 3, 1) := dk_29 (dk_at dksX1_sampled_1 9 rfl rfl)
theorem dX1_sampled_32 : decode cX1_sampled 32 = .ok (.invokestatic 153, 3) := dk_184 0 153 (dk_at dksX1_sampled_1 10 rfl rfl)
theorem dX1_sampled_35 : decode cX1_sampled 35 = .ok (.ifCond .ne 5, 3) := dk_154 0 5 (dk_at dksX1_sampled_1 13 rfl rfl)
theorem dX1_sampled_38 : decode cX1_sampled 38 = .ok (.iconst (-1), 1) := dk_2 (dk_at dksX1_sampled_1 16 rfl rfl)
theorem dX1_sampled_39 : decode cX1_sampled 39 = .ok (.ireturn, 1) := dk_172 (dk_at dksX1_sampled_1 17 rfl rfl)
theorem dX1_sampled_40 : decode cX1_sampled 40 = .ok (.lconst 0, 1) := dk_9 (dk_at dksX1_sampled_1 18 rfl rfl)
theorem dX1_sampled_41 : decode cX1_sampled 41 = .ok (.lstore 5, 2) := dk_55 5 (dk_at dksX1_sampled_1 19 rfl rfl)
theorem dX1_sampled_43 : decode cX1_sampled 43 = .ok (.iload 4, 2) := dk_21 4 (dk_at dksX1_sampled_1 21 rfl rfl)
theorem dX1_sampled_45 : decode cX1_sampled 45 = .ok (.istore 7, 2) := dk_54 7 (dk_at dksX1_sampled_2 0 rfl rfl)
theorem dX1_sampled_47 : decode cX1_sampled 47 = .ok (.iload 7, 2) := dk_21 7 (dk_at dksX1_sampled_2 2 rfl rfl)
theorem dX1_sampled_49 : decode cX1_sampled 49 = .ok (.iload_n 3, 1) := dk_29 (dk_at dksX1_sampled_2 4 rfl rfl)
theorem dX1_sampled_50 : decode cX1_sampled 50 = .ok (.if_icmp .gt 31, 3) := dk_163 0 31 (dk_at dksX1_sampled_2 5 rfl rfl)
theorem dX1_sampled_53 : decode cX1_sampled 53 = .ok (.lload 5, 2) := dk_22 5 (dk_at dksX1_sampled_2 8 rfl rfl)
theorem dX1_sampled_55 : decode cX1_sampled 55 = .ok (.iload_n 2, 1) := dk_28 (dk_at dksX1_sampled_2 10 rfl rfl)
theorem dX1_sampled_56 : decode cX1_sampled 56 = .ok (.iload 7, 2) := dk_21 7 (dk_at dksX1_sampled_2 11 rfl rfl)
theorem dX1_sampled_58 : decode cX1_sampled 58 = .ok (.invokestatic 359, 3) := dk_184 1 103 (dk_at dksX1_sampled_2 13 rfl rfl)
theorem dX1_sampled_61 : decode cX1_sampled 61 = .ok (.iload_n 1, 1) := dk_27 (dk_at dksX1_sampled_2 16 rfl rfl)
theorem dX1_sampled_62 : decode cX1_sampled 62 = .ok (.iload_n 2, 1) := dk_28 (dk_at dksX1_sampled_2 17 rfl rfl)
theorem dX1_sampled_63 : decode cX1_sampled 63 = .ok (.isub, 1) := dk_100 (dk_at dksX1_sampled_2 18 rfl rfl)
theorem dX1_sampled_64 : decode cX1_sampled 64 = .ok (.iload_n 3, 1) := dk_29 (dk_at dksX1_sampled_2 19 rfl rfl)
theorem dX1_sampled_65 : decode cX1_sampled 65 = .ok (.iload 7, 2) := dk_21 7 (dk_at dksX1_sampled_2 20 rfl rfl)
theorem dX1_sampled_67 : decode cX1_sampled 67 = .ok (.isub, 1) := dk_100 (dk_at dksX1_sampled_2 22 rfl rfl)
theorem dX1_sampled_68 : decode cX1_sampled 68 = .ok (.invokestatic 359, 3) := dk_184 1 103 (dk_at dksX1_sampled_3 0 rfl rfl)
theorem dX1_sampled_71 : decode cX1_sampled 71 = .ok (.lmul, 1) := dk_105 (dk_at dksX1_sampled_3 3 rfl rfl)
theorem dX1_sampled_72 : decode cX1_sampled 72 = .ok (.ladd, 1) := dk_97 (dk_at dksX1_sampled_3 4 rfl rfl)
theorem dX1_sampled_73 : decode cX1_sampled 73 = .ok (.lstore 5, 2) := dk_55 5 (dk_at dksX1_sampled_3 5 rfl rfl)
theorem dX1_sampled_75 : decode cX1_sampled 75 = .ok (.iinc 7 1, 3) := dk_132 7 1 (dk_at dksX1_sampled_3 7 rfl rfl)
theorem dX1_sampled_78 : decode cX1_sampled 78 = .ok (.goto (-31), 3) := dk_167 255 225 (dk_at dksX1_sampled_3 10 rfl rfl)
theorem dX1_sampled_81 : decode cX1_sampled 81 = .ok (.lload 5, 2) := dk_22 5 (dk_at dksX1_sampled_3 13 rfl rfl)
theorem dX1_sampled_83 : decode cX1_sampled 83 = .ok (.ldc2_w 363, 3) := dk_20 1 107 (dk_at dksX1_sampled_3 15 rfl rfl)
theorem dX1_sampled_86 : decode cX1_sampled 86 = .ok (.lmul, 1) := dk_105 (dk_at dksX1_sampled_3 18 rfl rfl)
theorem dX1_sampled_87 : decode cX1_sampled 87 = .ok (.iload_n 1, 1) := dk_27 (dk_at dksX1_sampled_3 19 rfl rfl)
theorem dX1_sampled_88 : decode cX1_sampled 88 = .ok (.iload_n 3, 1) := dk_29 (dk_at dksX1_sampled_3 20 rfl rfl)
theorem dX1_sampled_89 : decode cX1_sampled 89 = .ok (.invokestatic 359, 3) := dk_184 1 103 (dk_at dksX1_sampled_3 21 rfl rfl)
theorem dX1_sampled_92 : decode cX1_sampled 92 = .ok (.ldiv, 1) := dk_109 (dk_at dksX1_sampled_4 0 rfl rfl)
theorem dX1_sampled_93 : decode cX1_sampled 93 = .ok (.l2i, 1) := dk_136 (dk_at dksX1_sampled_4 1 rfl rfl)
theorem dX1_sampled_94 : decode cX1_sampled 94 = .ok (.ireturn, 1) := dk_172 (dk_at dksX1_sampled_4 2 rfl rfl)
abbrev cX1_choices : ByteArray := prog_1_method_51_code
def yX1_choices : MethodName := ⟨RX1, "choices", "(II)J"⟩
def dkwX1_choices_2 : List UInt8 := [173]
abbrev dktX1_choices_2 : List UInt8 := dkwX1_choices_2 ++ []
def dkwX1_choices_1 : List UInt8 := [158, 0, 23, 32, 26, 21, 4, 100, 133, 105, 21, 4, 4, 96, 133, 109, 65, 132, 4, 1, 167, 255, 227, 32]
abbrev dktX1_choices_1 : List UInt8 := dkwX1_choices_1 ++ dktX1_choices_2
def dkwX1_choices_0 : List UInt8 := [27, 26, 164, 0, 7, 9, 167, 0, 4, 10, 65, 3, 54, 4, 21, 4, 27, 162, 0, 29, 32, 9, 148]
abbrev dktX1_choices_0 : List UInt8 := dkwX1_choices_0 ++ dktX1_choices_1
theorem dksX1_choices_0 : cX1_choices.data.toList.drop 0 = dktX1_choices_0 := by decide +kernel
theorem dksX1_choices_1 : cX1_choices.data.toList.drop 23 = dktX1_choices_1 := dk_seg dksX1_choices_0 23 rfl rfl
theorem dksX1_choices_2 : cX1_choices.data.toList.drop 47 = dktX1_choices_2 := dk_seg dksX1_choices_1 24 rfl rfl
theorem dX1_choices_0 : decode cX1_choices 0 = .ok (.iload_n 1, 1) := dk_27 (dk_at dksX1_choices_0 0 rfl rfl)
theorem dX1_choices_1 : decode cX1_choices 1 = .ok (.iload_n 0, 1) := dk_26 (dk_at dksX1_choices_0 1 rfl rfl)
theorem dX1_choices_2 : decode cX1_choices 2 = .ok (.if_icmp .le 7, 3) := dk_164 0 7 (dk_at dksX1_choices_0 2 rfl rfl)
theorem dX1_choices_5 : decode cX1_choices 5 = .ok (.lconst 0, 1) := dk_9 (dk_at dksX1_choices_0 5 rfl rfl)
theorem dX1_choices_6 : decode cX1_choices 6 = .ok (.goto 4, 3) := dk_167 0 4 (dk_at dksX1_choices_0 6 rfl rfl)
theorem dX1_choices_9 : decode cX1_choices 9 = .ok (.lconst 1, 1) := dk_10 (dk_at dksX1_choices_0 9 rfl rfl)
theorem dX1_choices_10 : decode cX1_choices 10 = .ok (.lstore_n 2, 1) := dk_65 (dk_at dksX1_choices_0 10 rfl rfl)
theorem dX1_choices_11 : decode cX1_choices 11 = .ok (.iconst 0, 1) := dk_3 (dk_at dksX1_choices_0 11 rfl rfl)
theorem dX1_choices_12 : decode cX1_choices 12 = .ok (.istore 4, 2) := dk_54 4 (dk_at dksX1_choices_0 12 rfl rfl)
theorem dX1_choices_14 : decode cX1_choices 14 = .ok (.iload 4, 2) := dk_21 4 (dk_at dksX1_choices_0 14 rfl rfl)
theorem dX1_choices_16 : decode cX1_choices 16 = .ok (.iload_n 1, 1) := dk_27 (dk_at dksX1_choices_0 16 rfl rfl)
theorem dX1_choices_17 : decode cX1_choices 17 = .ok (.if_icmp .ge 29, 3) := dk_162 0 29 (dk_at dksX1_choices_0 17 rfl rfl)
theorem dX1_choices_20 : decode cX1_choices 20 = .ok (.lload_n 2, 1) := dk_32 (dk_at dksX1_choices_0 20 rfl rfl)
theorem dX1_choices_21 : decode cX1_choices 21 = .ok (.lconst 0, 1) := dk_9 (dk_at dksX1_choices_0 21 rfl rfl)
theorem dX1_choices_22 : decode cX1_choices 22 = .ok (.lcmp, 1) := dk_148 (dk_at dksX1_choices_0 22 rfl rfl)
theorem dX1_choices_23 : decode cX1_choices 23 = .ok (.ifCond .le 23, 3) := dk_158 0 23 (dk_at dksX1_choices_1 0 rfl rfl)
theorem dX1_choices_26 : decode cX1_choices 26 = .ok (.lload_n 2, 1) := dk_32 (dk_at dksX1_choices_1 3 rfl rfl)
theorem dX1_choices_27 : decode cX1_choices 27 = .ok (.iload_n 0, 1) := dk_26 (dk_at dksX1_choices_1 4 rfl rfl)
theorem dX1_choices_28 : decode cX1_choices 28 = .ok (.iload 4, 2) := dk_21 4 (dk_at dksX1_choices_1 5 rfl rfl)
theorem dX1_choices_30 : decode cX1_choices 30 = .ok (.isub, 1) := dk_100 (dk_at dksX1_choices_1 7 rfl rfl)
theorem dX1_choices_31 : decode cX1_choices 31 = .ok (.i2l, 1) := dk_133 (dk_at dksX1_choices_1 8 rfl rfl)
theorem dX1_choices_32 : decode cX1_choices 32 = .ok (.lmul, 1) := dk_105 (dk_at dksX1_choices_1 9 rfl rfl)
theorem dX1_choices_33 : decode cX1_choices 33 = .ok (.iload 4, 2) := dk_21 4 (dk_at dksX1_choices_1 10 rfl rfl)
theorem dX1_choices_35 : decode cX1_choices 35 = .ok (.iconst 1, 1) := dk_4 (dk_at dksX1_choices_1 12 rfl rfl)
theorem dX1_choices_36 : decode cX1_choices 36 = .ok (.iadd, 1) := dk_96 (dk_at dksX1_choices_1 13 rfl rfl)
theorem dX1_choices_37 : decode cX1_choices 37 = .ok (.i2l, 1) := dk_133 (dk_at dksX1_choices_1 14 rfl rfl)
theorem dX1_choices_38 : decode cX1_choices 38 = .ok (.ldiv, 1) := dk_109 (dk_at dksX1_choices_1 15 rfl rfl)
theorem dX1_choices_39 : decode cX1_choices 39 = .ok (.lstore_n 2, 1) := dk_65 (dk_at dksX1_choices_1 16 rfl rfl)
theorem dX1_choices_40 : decode cX1_choices 40 = .ok (.iinc 4 1, 3) := dk_132 4 1 (dk_at dksX1_choices_1 17 rfl rfl)
theorem dX1_choices_43 : decode cX1_choices 43 = .ok (.goto (-29), 3) := dk_167 255 227 (dk_at dksX1_choices_1 20 rfl rfl)
theorem dX1_choices_46 : decode cX1_choices 46 = .ok (.lload_n 2, 1) := dk_32 (dk_at dksX1_choices_1 23 rfl rfl)
theorem dX1_choices_47 : decode cX1_choices 47 = .ok (.lreturn, 1) := dk_173 (dk_at dksX1_choices_2 0 rfl rfl)
abbrev cX1_haunt : ByteArray := prog_1_method_53_code
def yX1_haunt : MethodName := ⟨RX1, "haunt", "(IIII)I"⟩
def dkwX1_haunt_8 : List UInt8 := [172]
abbrev dktX1_haunt_8 : List UInt8 := dkwX1_haunt_8 ++ []
def dkwX1_haunt_7 : List UInt8 := [54, 6, 21, 7, 54, 5, 132, 7, 1, 167, 255, 132, 21, 4, 154, 0, 8, 21, 6, 167, 0, 5, 21, 5]
abbrev dktX1_haunt_7 : List UInt8 := dkwX1_haunt_7 ++ dktX1_haunt_8
def dkwX1_haunt_6 : List UInt8 := [180, 0, 51, 180, 0, 199, 27, 46, 100, 54, 8, 21, 8, 21, 6, 163, 0, 6, 167, 0, 11, 21, 8]
abbrev dktX1_haunt_6 : List UInt8 := dkwX1_haunt_6 ++ dktX1_haunt_7
def dkwX1_haunt_5 : List UInt8 := [182, 0, 210, 182, 0, 213, 132, 8, 1, 167, 255, 211, 42, 180, 0, 55, 180, 0, 199, 27, 46, 42]
abbrev dktX1_haunt_5 : List UInt8 := dkwX1_haunt_5 ++ dktX1_haunt_6
def dkwX1_haunt_4 : List UInt8 := [153, 0, 13, 42, 42, 180, 0, 55, 27, 29, 182, 1, 32, 42, 42, 180, 0, 55, 42, 180, 0, 35]
abbrev dktX1_haunt_4 : List UInt8 := dkwX1_haunt_4 ++ dktX1_haunt_5
def dkwX1_haunt_3 : List UInt8 := [42, 180, 0, 51, 182, 1, 20, 3, 54, 8, 21, 8, 16, 12, 162, 0, 44, 21, 7, 21, 8, 184, 0, 252]
abbrev dktX1_haunt_3 : List UInt8 := dkwX1_haunt_3 ++ dktX1_haunt_4
def dkwX1_haunt_2 : List UInt8 := [21, 7, 17, 16, 0, 162, 0, 122, 21, 7, 184, 1, 56, 28, 159, 0, 6, 167, 0, 104, 42, 180, 0, 55]
abbrev dktX1_haunt_2 : List UInt8 := dkwX1_haunt_2 ++ dktX1_haunt_3
def dkwX1_haunt_1 : List UInt8 := [153, 0, 13, 21, 4, 3, 4, 184, 0, 153, 154, 0, 5, 2, 172, 3, 54, 5, 2, 54, 6, 3, 54, 7]
abbrev dktX1_haunt_1 : List UInt8 := dkwX1_haunt_1 ++ dktX1_haunt_2
def dkwX1_haunt_0 : List UInt8 := [42, 27, 182, 1, 17, 153, 0, 32, 28, 4, 6, 184, 0, 153, 153, 0, 23, 29, 4, 16, 99, 184, 0, 153]
abbrev dktX1_haunt_0 : List UInt8 := dkwX1_haunt_0 ++ dktX1_haunt_1
theorem dksX1_haunt_0 : cX1_haunt.data.toList.drop 0 = dktX1_haunt_0 := by decide +kernel
theorem dksX1_haunt_1 : cX1_haunt.data.toList.drop 24 = dktX1_haunt_1 := dk_seg dksX1_haunt_0 24 rfl rfl
theorem dksX1_haunt_2 : cX1_haunt.data.toList.drop 48 = dktX1_haunt_2 := dk_seg dksX1_haunt_1 24 rfl rfl
theorem dksX1_haunt_3 : cX1_haunt.data.toList.drop 72 = dktX1_haunt_3 := dk_seg dksX1_haunt_2 24 rfl rfl
theorem dksX1_haunt_4 : cX1_haunt.data.toList.drop 96 = dktX1_haunt_4 := dk_seg dksX1_haunt_3 24 rfl rfl
theorem dksX1_haunt_5 : cX1_haunt.data.toList.drop 118 = dktX1_haunt_5 := dk_seg dksX1_haunt_4 22 rfl rfl
theorem dksX1_haunt_6 : cX1_haunt.data.toList.drop 140 = dktX1_haunt_6 := dk_seg dksX1_haunt_5 22 rfl rfl
theorem dksX1_haunt_7 : cX1_haunt.data.toList.drop 163 = dktX1_haunt_7 := dk_seg dksX1_haunt_6 23 rfl rfl
theorem dksX1_haunt_8 : cX1_haunt.data.toList.drop 187 = dktX1_haunt_8 := dk_seg dksX1_haunt_7 24 rfl rfl
theorem dX1_haunt_0 : decode cX1_haunt 0 = .ok (.aload_n 0, 1) := dk_42 (dk_at dksX1_haunt_0 0 rfl rfl)
theorem dX1_haunt_1 : decode cX1_haunt 1 = .ok (.iload_n 1, 1) := dk_27 (dk_at dksX1_haunt_0 1 rfl rfl)
theorem dX1_haunt_2 : decode cX1_haunt 2 = .ok (.invokevirtual 273, 3) := dk_182 1 17 (dk_at dksX1_haunt_0 2 rfl rfl)
theorem dX1_haunt_5 : decode cX1_haunt 5 = .ok (.ifCond .eq 32, 3) := dk_153 0 32 (dk_at dksX1_haunt_0 5 rfl rfl)
theorem dX1_haunt_8 : decode cX1_haunt 8 = .ok (.iload_n 2, 1) := dk_28 (dk_at dksX1_haunt_0 8 rfl rfl)
theorem dX1_haunt_9 : decode cX1_haunt 9 = .ok (.iconst 1, 1) := dk_4 (dk_at dksX1_haunt_0 9 rfl rfl)
theorem dX1_haunt_10 : decode cX1_haunt 10 = .ok (.iconst 3, 1) := dk_6 (dk_at dksX1_haunt_0 10 rfl rfl)
theorem dX1_haunt_11 : decode cX1_haunt 11 = .ok (.invokestatic 153, 3) := dk_184 0 153 (dk_at dksX1_haunt_0 11 rfl rfl)
theorem dX1_haunt_14 : decode cX1_haunt 14 = .ok (.ifCond .eq 23, 3) := dk_153 0 23 (dk_at dksX1_haunt_0 14 rfl rfl)
theorem dX1_haunt_17 : decode cX1_haunt 17 = .ok (.iload_n 3, 1) := dk_29 (dk_at dksX1_haunt_0 17 rfl rfl)
theorem dX1_haunt_18 : decode cX1_haunt 18 = .ok (.iconst 1, 1) := dk_4 (dk_at dksX1_haunt_0 18 rfl rfl)
theorem dX1_haunt_19 : decode cX1_haunt 19 = .ok (.bipush 99, 2) := dk_16 99 (dk_at dksX1_haunt_0 19 rfl rfl)
theorem dX1_haunt_21 : decode cX1_haunt 21 = .ok (.invokestatic 153, 3) := dk_184 0 153 (dk_at dksX1_haunt_0 21 rfl rfl)
theorem dX1_haunt_24 : decode cX1_haunt 24 = .ok (.ifCond .eq 13, 3) := dk_153 0 13 (dk_at dksX1_haunt_1 0 rfl rfl)
theorem dX1_haunt_27 : decode cX1_haunt 27 = .ok (.iload 4, 2) := dk_21 4 (dk_at dksX1_haunt_1 3 rfl rfl)
theorem dX1_haunt_29 : decode cX1_haunt 29 = .ok (.iconst 0, 1) := dk_3 (dk_at dksX1_haunt_1 5 rfl rfl)
theorem dX1_haunt_30 : decode cX1_haunt 30 = .ok (.iconst 1, 1) := dk_4 (dk_at dksX1_haunt_1 6 rfl rfl)
theorem dX1_haunt_31 : decode cX1_haunt 31 = .ok (.invokestatic 153, 3) := dk_184 0 153 (dk_at dksX1_haunt_1 7 rfl rfl)
theorem dX1_haunt_34 : decode cX1_haunt 34 = .ok (.ifCond .ne 5, 3) := dk_154 0 5 (dk_at dksX1_haunt_1 10 rfl rfl)
theorem dX1_haunt_37 : decode cX1_haunt 37 = .ok (.iconst (-1), 1) := dk_2 (dk_at dksX1_haunt_1 13 rfl rfl)
theorem dX1_haunt_38 : decode cX1_haunt 38 = .ok (.ireturn, 1) := dk_172 (dk_at dksX1_haunt_1 14 rfl rfl)
theorem dX1_haunt_39 : decode cX1_haunt 39 = .ok (.iconst 0, 1) := dk_3 (dk_at dksX1_haunt_1 15 rfl rfl)
theorem dX1_haunt_40 : decode cX1_haunt 40 = .ok (.istore 5, 2) := dk_54 5 (dk_at dksX1_haunt_1 16 rfl rfl)
theorem dX1_haunt_42 : decode cX1_haunt 42 = .ok (.iconst (-1), 1) := dk_2 (dk_at dksX1_haunt_1 18 rfl rfl)
theorem dX1_haunt_43 : decode cX1_haunt 43 = .ok (.istore 6, 2) := dk_54 6 (dk_at dksX1_haunt_1 19 rfl rfl)
theorem dX1_haunt_45 : decode cX1_haunt 45 = .ok (.iconst 0, 1) := dk_3 (dk_at dksX1_haunt_1 21 rfl rfl)
theorem dX1_haunt_46 : decode cX1_haunt 46 = .ok (.istore 7, 2) := dk_54 7 (dk_at dksX1_haunt_1 22 rfl rfl)
theorem dX1_haunt_48 : decode cX1_haunt 48 = .ok (.iload 7, 2) := dk_21 7 (dk_at dksX1_haunt_2 0 rfl rfl)
theorem dX1_haunt_50 : decode cX1_haunt 50 = .ok (.sipush 4096, 3) := dk_17 16 0 (dk_at dksX1_haunt_2 2 rfl rfl)
theorem dX1_haunt_53 : decode cX1_haunt 53 = .ok (.if_icmp .ge 122, 3) := dk_162 0 122 (dk_at dksX1_haunt_2 5 rfl rfl)
theorem dX1_haunt_56 : decode cX1_haunt 56 = .ok (.iload 7, 2) := dk_21 7 (dk_at dksX1_haunt_2 8 rfl rfl)
theorem dX1_haunt_58 : decode cX1_haunt 58 = .ok (.invokestatic 312, 3) := dk_184 1 56 (dk_at dksX1_haunt_2 10 rfl rfl)
theorem dX1_haunt_61 : decode cX1_haunt 61 = .ok (.iload_n 2, 1) := dk_28 (dk_at dksX1_haunt_2 13 rfl rfl)
theorem dX1_haunt_62 : decode cX1_haunt 62 = .ok (.if_icmp .eq 6, 3) := dk_159 0 6 (dk_at dksX1_haunt_2 14 rfl rfl)
theorem dX1_haunt_65 : decode cX1_haunt 65 = .ok (.goto 104, 3) := dk_167 0 104 (dk_at dksX1_haunt_2 17 rfl rfl)
theorem dX1_haunt_68 : decode cX1_haunt 68 = .ok (.aload_n 0, 1) := dk_42 (dk_at dksX1_haunt_2 20 rfl rfl)
theorem dX1_haunt_69 : decode cX1_haunt 69 = .ok (.getfield 55, 3) := dk_180 0 55 (dk_at dksX1_haunt_2 21 rfl rfl)
theorem dX1_haunt_72 : decode cX1_haunt 72 = .ok (.aload_n 0, 1) := dk_42 (dk_at dksX1_haunt_3 0 rfl rfl)
theorem dX1_haunt_73 : decode cX1_haunt 73 = .ok (.getfield 51, 3) := dk_180 0 51 (dk_at dksX1_haunt_3 1 rfl rfl)
theorem dX1_haunt_76 : decode cX1_haunt 76 = .ok (.invokevirtual 276, 3) := dk_182 1 20 (dk_at dksX1_haunt_3 4 rfl rfl)
theorem dX1_haunt_79 : decode cX1_haunt 79 = .ok (.iconst 0, 1) := dk_3 (dk_at dksX1_haunt_3 7 rfl rfl)
theorem dX1_haunt_80 : decode cX1_haunt 80 = .ok (.istore 8, 2) := dk_54 8 (dk_at dksX1_haunt_3 8 rfl rfl)
theorem dX1_haunt_82 : decode cX1_haunt 82 = .ok (.iload 8, 2) := dk_21 8 (dk_at dksX1_haunt_3 10 rfl rfl)
theorem dX1_haunt_84 : decode cX1_haunt 84 = .ok (.bipush 12, 2) := dk_16 12 (dk_at dksX1_haunt_3 12 rfl rfl)
theorem dX1_haunt_86 : decode cX1_haunt 86 = .ok (.if_icmp .ge 44, 3) := dk_162 0 44 (dk_at dksX1_haunt_3 14 rfl rfl)
theorem dX1_haunt_89 : decode cX1_haunt 89 = .ok (.iload 7, 2) := dk_21 7 (dk_at dksX1_haunt_3 17 rfl rfl)
theorem dX1_haunt_91 : decode cX1_haunt 91 = .ok (.iload 8, 2) := dk_21 8 (dk_at dksX1_haunt_3 19 rfl rfl)
theorem dX1_haunt_93 : decode cX1_haunt 93 = .ok (.invokestatic 252, 3) := dk_184 0 252 (dk_at dksX1_haunt_3 21 rfl rfl)
theorem dX1_haunt_96 : decode cX1_haunt 96 = .ok (.ifCond .eq 13, 3) := dk_153 0 13 (dk_at dksX1_haunt_4 0 rfl rfl)
theorem dX1_haunt_99 : decode cX1_haunt 99 = .ok (.aload_n 0, 1) := dk_42 (dk_at dksX1_haunt_4 3 rfl rfl)
theorem dX1_haunt_100 : decode cX1_haunt 100 = .ok (.aload_n 0, 1) := dk_42 (dk_at dksX1_haunt_4 4 rfl rfl)
theorem dX1_haunt_101 : decode cX1_haunt 101 = .ok (.getfield 55, 3) := dk_180 0 55 (dk_at dksX1_haunt_4 5 rfl rfl)
theorem dX1_haunt_104 : decode cX1_haunt 104 = .ok (.iload_n 1, 1) := dk_27 (dk_at dksX1_haunt_4 8 rfl rfl)
theorem dX1_haunt_105 : decode cX1_haunt 105 = .ok (.iload_n 3, 1) := dk_29 (dk_at dksX1_haunt_4 9 rfl rfl)
theorem dX1_haunt_106 : decode cX1_haunt 106 = .ok (.invokevirtual 288, 3) := dk_182 1 32 (dk_at dksX1_haunt_4 10 rfl rfl)
theorem dX1_haunt_109 : decode cX1_haunt 109 = .ok (.aload_n 0, 1) := dk_42 (dk_at dksX1_haunt_4 13 rfl rfl)
theorem dX1_haunt_110 : decode cX1_haunt 110 = .ok (.aload_n 0, 1) := dk_42 (dk_at dksX1_haunt_4 14 rfl rfl)
theorem dX1_haunt_111 : decode cX1_haunt 111 = .ok (.getfield 55, 3) := dk_180 0 55 (dk_at dksX1_haunt_4 15 rfl rfl)
theorem dX1_haunt_114 : decode cX1_haunt 114 = .ok (.aload_n 0, 1) := dk_42 (dk_at dksX1_haunt_4 18 rfl rfl)
theorem dX1_haunt_115 : decode cX1_haunt 115 = .ok (.getfield 35, 3) := dk_180 0 35 (dk_at dksX1_haunt_4 19 rfl rfl)
theorem dX1_haunt_118 : decode cX1_haunt 118 = .ok (.invokevirtual 210, 3) := dk_182 0 210 (dk_at dksX1_haunt_5 0 rfl rfl)
theorem dX1_haunt_121 : decode cX1_haunt 121 = .ok (.invokevirtual 213, 3) := dk_182 0 213 (dk_at dksX1_haunt_5 3 rfl rfl)
theorem dX1_haunt_124 : decode cX1_haunt 124 = .ok (.iinc 8 1, 3) := dk_132 8 1 (dk_at dksX1_haunt_5 6 rfl rfl)
theorem dX1_haunt_127 : decode cX1_haunt 127 = .ok (.goto (-45), 3) := dk_167 255 211 (dk_at dksX1_haunt_5 9 rfl rfl)
theorem dX1_haunt_130 : decode cX1_haunt 130 = .ok (.aload_n 0, 1) := dk_42 (dk_at dksX1_haunt_5 12 rfl rfl)
theorem dX1_haunt_131 : decode cX1_haunt 131 = .ok (.getfield 55, 3) := dk_180 0 55 (dk_at dksX1_haunt_5 13 rfl rfl)
theorem dX1_haunt_134 : decode cX1_haunt 134 = .ok (.getfield 199, 3) := dk_180 0 199 (dk_at dksX1_haunt_5 16 rfl rfl)
theorem dX1_haunt_137 : decode cX1_haunt 137 = .ok (.iload_n 1, 1) := dk_27 (dk_at dksX1_haunt_5 19 rfl rfl)
theorem dX1_haunt_138 : decode cX1_haunt 138 = .ok (.iaload, 1) := dk_46 (dk_at dksX1_haunt_5 20 rfl rfl)
theorem dX1_haunt_139 : decode cX1_haunt 139 = .ok (.aload_n 0, 1) := dk_42 (dk_at dksX1_haunt_5 21 rfl rfl)
theorem dX1_haunt_140 : decode cX1_haunt 140 = .ok (.getfield 51, 3) := dk_180 0 51 (dk_at dksX1_haunt_6 0 rfl rfl)
theorem dX1_haunt_143 : decode cX1_haunt 143 = .ok (.getfield 199, 3) := dk_180 0 199 (dk_at dksX1_haunt_6 3 rfl rfl)
theorem dX1_haunt_146 : decode cX1_haunt 146 = .ok (.iload_n 1, 1) := dk_27 (dk_at dksX1_haunt_6 6 rfl rfl)
theorem dX1_haunt_147 : decode cX1_haunt 147 = .ok (.iaload, 1) := dk_46 (dk_at dksX1_haunt_6 7 rfl rfl)
theorem dX1_haunt_148 : decode cX1_haunt 148 = .ok (.isub, 1) := dk_100 (dk_at dksX1_haunt_6 8 rfl rfl)
theorem dX1_haunt_149 : decode cX1_haunt 149 = .ok (.istore 8, 2) := dk_54 8 (dk_at dksX1_haunt_6 9 rfl rfl)
theorem dX1_haunt_151 : decode cX1_haunt 151 = .ok (.iload 8, 2) := dk_21 8 (dk_at dksX1_haunt_6 11 rfl rfl)
theorem dX1_haunt_153 : decode cX1_haunt 153 = .ok (.iload 6, 2) := dk_21 6 (dk_at dksX1_haunt_6 13 rfl rfl)
theorem dX1_haunt_155 : decode cX1_haunt 155 = .ok (.if_icmp .gt 6, 3) := dk_163 0 6 (dk_at dksX1_haunt_6 15 rfl rfl)
theorem dX1_haunt_158 : decode cX1_haunt 158 = .ok (.goto 11, 3) := dk_167 0 11 (dk_at dksX1_haunt_6 18 rfl rfl)
theorem dX1_haunt_161 : decode cX1_haunt 161 = .ok (.iload 8, 2) := dk_21 8 (dk_at dksX1_haunt_6 21 rfl rfl)
theorem dX1_haunt_163 : decode cX1_haunt 163 = .ok (.istore 6, 2) := dk_54 6 (dk_at dksX1_haunt_7 0 rfl rfl)
theorem dX1_haunt_165 : decode cX1_haunt 165 = .ok (.iload 7, 2) := dk_21 7 (dk_at dksX1_haunt_7 2 rfl rfl)
theorem dX1_haunt_167 : decode cX1_haunt 167 = .ok (.istore 5, 2) := dk_54 5 (dk_at dksX1_haunt_7 4 rfl rfl)
theorem dX1_haunt_169 : decode cX1_haunt 169 = .ok (.iinc 7 1, 3) := dk_132 7 1 (dk_at dksX1_haunt_7 6 rfl rfl)
theorem dX1_haunt_172 : decode cX1_haunt 172 = .ok (.goto (-124), 3) := dk_167 255 132 (dk_at dksX1_haunt_7 9 rfl rfl)
theorem dX1_haunt_175 : decode cX1_haunt 175 = .ok (.iload 4, 2) := dk_21 4 (dk_at dksX1_haunt_7 12 rfl rfl)
theorem dX1_haunt_177 : decode cX1_haunt 177 = .ok (.ifCond .ne 8, 3) := dk_154 0 8 (dk_at dksX1_haunt_7 14 rfl rfl)
theorem dX1_haunt_180 : decode cX1_haunt 180 = .ok (.iload 6, 2) := dk_21 6 (dk_at dksX1_haunt_7 17 rfl rfl)
theorem dX1_haunt_182 : decode cX1_haunt 182 = .ok (.goto 5, 3) := dk_167 0 5 (dk_at dksX1_haunt_7 19 rfl rfl)
theorem dX1_haunt_185 : decode cX1_haunt 185 = .ok (.iload 5, 2) := dk_21 5 (dk_at dksX1_haunt_7 22 rfl rfl)
theorem dX1_haunt_187 : decode cX1_haunt 187 = .ok (.ireturn, 1) := dk_172 (dk_at dksX1_haunt_8 0 rfl rfl)
abbrev cX1_law : ByteArray := prog_1_method_57_code
def yX1_law : MethodName := ⟨RX1, "law", "(II)I"⟩
def dkwX1_law_5 : List UInt8 := [180, 0, 51, 180, 0, 249, 2, 130, 126, 172]
abbrev dktX1_law_5 : List UInt8 := dkwX1_law_5 ++ []
def dkwX1_law_4 : List UInt8 := [132, 3, 1, 167, 255, 239, 42, 42, 180, 0, 55, 182, 1, 42, 87, 42, 180, 0, 55, 180, 0, 249, 42]
abbrev dktX1_law_4 : List UInt8 := dkwX1_law_4 ++ dktX1_law_5
def dkwX1_law_3 : List UInt8 := [132, 3, 1, 167, 255, 218, 3, 62, 29, 28, 162, 0, 18, 42, 42, 180, 0, 55, 27, 182, 0, 213]
abbrev dktX1_law_3 : List UInt8 := dkwX1_law_3 ++ dktX1_law_4
def dkwX1_law_2 : List UInt8 := [29, 182, 0, 163, 153, 0, 19, 42, 180, 0, 55, 180, 0, 185, 29, 42, 180, 0, 35, 180, 1, 36, 79]
abbrev dktX1_law_2 : List UInt8 := dkwX1_law_2 ++ dktX1_law_3
def dkwX1_law_1 : List UInt8 := [180, 0, 55, 42, 180, 0, 51, 182, 1, 20, 3, 62, 29, 42, 182, 0, 157, 162, 0, 36, 42, 180, 0, 55]
abbrev dktX1_law_1 : List UInt8 := dkwX1_law_1 ++ dktX1_law_2
def dkwX1_law_0 : List UInt8 := [27, 3, 16, 60, 184, 0, 153, 153, 0, 14, 28, 4, 17, 0, 240, 184, 0, 153, 154, 0, 5, 2, 172, 42]
abbrev dktX1_law_0 : List UInt8 := dkwX1_law_0 ++ dktX1_law_1
theorem dksX1_law_0 : cX1_law.data.toList.drop 0 = dktX1_law_0 := by decide +kernel
theorem dksX1_law_1 : cX1_law.data.toList.drop 24 = dktX1_law_1 := dk_seg dksX1_law_0 24 rfl rfl
theorem dksX1_law_2 : cX1_law.data.toList.drop 48 = dktX1_law_2 := dk_seg dksX1_law_1 24 rfl rfl
theorem dksX1_law_3 : cX1_law.data.toList.drop 71 = dktX1_law_3 := dk_seg dksX1_law_2 23 rfl rfl
theorem dksX1_law_4 : cX1_law.data.toList.drop 93 = dktX1_law_4 := dk_seg dksX1_law_3 22 rfl rfl
theorem dksX1_law_5 : cX1_law.data.toList.drop 116 = dktX1_law_5 := dk_seg dksX1_law_4 23 rfl rfl
theorem dX1_law_0 : decode cX1_law 0 = .ok (.iload_n 1, 1) := dk_27 (dk_at dksX1_law_0 0 rfl rfl)
theorem dX1_law_1 : decode cX1_law 1 = .ok (.iconst 0, 1) := dk_3 (dk_at dksX1_law_0 1 rfl rfl)
theorem dX1_law_2 : decode cX1_law 2 = .ok (.bipush 60, 2) := dk_16 60 (dk_at dksX1_law_0 2 rfl rfl)
theorem dX1_law_4 : decode cX1_law 4 = .ok (.invokestatic 153, 3) := dk_184 0 153 (dk_at dksX1_law_0 4 rfl rfl)
theorem dX1_law_7 : decode cX1_law 7 = .ok (.ifCond .eq 14, 3) := dk_153 0 14 (dk_at dksX1_law_0 7 rfl rfl)
theorem dX1_law_10 : decode cX1_law 10 = .ok (.iload_n 2, 1) := dk_28 (dk_at dksX1_law_0 10 rfl rfl)
theorem dX1_law_11 : decode cX1_law 11 = .ok (.iconst 1, 1) := dk_4 (dk_at dksX1_law_0 11 rfl rfl)
theorem dX1_law_12 : decode cX1_law 12 = .ok (.sipush 240, 3) := dk_17 0 240 (dk_at dksX1_law_0 12 rfl rfl)
theorem dX1_law_15 : decode cX1_law 15 = .ok (.invokestatic 153, 3) := dk_184 0 153 (dk_at dksX1_law_0 15 rfl rfl)
theorem dX1_law_18 : decode cX1_law 18 = .ok (.ifCond .ne 5, 3) := dk_154 0 5 (dk_at dksX1_law_0 18 rfl rfl)
theorem dX1_law_21 : decode cX1_law 21 = .ok (.iconst (-1), 1) := dk_2 (dk_at dksX1_law_0 21 rfl rfl)
theorem dX1_law_22 : decode cX1_law 22 = .ok (.ireturn, 1) := dk_172 (dk_at dksX1_law_0 22 rfl rfl)
theorem dX1_law_23 : decode cX1_law 23 = .ok (.aload_n 0, 1) := dk_42 (dk_at dksX1_law_0 23 rfl rfl)
theorem dX1_law_24 : decode cX1_law 24 = .ok (.getfield 55, 3) := dk_180 0 55 (dk_at dksX1_law_1 0 rfl rfl)
theorem dX1_law_27 : decode cX1_law 27 = .ok (.aload_n 0, 1) := dk_42 (dk_at dksX1_law_1 3 rfl rfl)
theorem dX1_law_28 : decode cX1_law 28 = .ok (.getfield 51, 3) := dk_180 0 51 (dk_at dksX1_law_1 4 rfl rfl)
theorem dX1_law_31 : decode cX1_law 31 = .ok (.invokevirtual 276, 3) := dk_182 1 20 (dk_at dksX1_law_1 7 rfl rfl)
theorem dX1_law_34 : decode cX1_law 34 = .ok (.iconst 0, 1) := dk_3 (dk_at dksX1_law_1 10 rfl rfl)
theorem dX1_law_35 : decode cX1_law 35 = .ok (.istore_n 3, 1) := dk_62 (dk_at dksX1_law_1 11 rfl rfl)
theorem dX1_law_36 : decode cX1_law 36 = .ok (.iload_n 3, 1) := dk_29 (dk_at dksX1_law_1 12 rfl rfl)
theorem dX1_law_37 : decode cX1_law 37 = .ok (.aload_n 0, 1) := dk_42 (dk_at dksX1_law_1 13 rfl rfl)
theorem dX1_law_38 : decode cX1_law 38 = .ok (.invokevirtual 157, 3) := dk_182 0 157 (dk_at dksX1_law_1 14 rfl rfl)
theorem dX1_law_41 : decode cX1_law 41 = .ok (.if_icmp .ge 36, 3) := dk_162 0 36 (dk_at dksX1_law_1 17 rfl rfl)
theorem dX1_law_44 : decode cX1_law 44 = .ok (.aload_n 0, 1) := dk_42 (dk_at dksX1_law_1 20 rfl rfl)
theorem dX1_law_45 : decode cX1_law 45 = .ok (.getfield 55, 3) := dk_180 0 55 (dk_at dksX1_law_1 21 rfl rfl)
theorem dX1_law_48 : decode cX1_law 48 = .ok (.iload_n 3, 1) := dk_29 (dk_at dksX1_law_2 0 rfl rfl)
theorem dX1_law_49 : decode cX1_law 49 = .ok (.invokevirtual 163, 3) := dk_182 0 163 (dk_at dksX1_law_2 1 rfl rfl)
theorem dX1_law_52 : decode cX1_law 52 = .ok (.ifCond .eq 19, 3) := dk_153 0 19 (dk_at dksX1_law_2 4 rfl rfl)
theorem dX1_law_55 : decode cX1_law 55 = .ok (.aload_n 0, 1) := dk_42 (dk_at dksX1_law_2 7 rfl rfl)
theorem dX1_law_56 : decode cX1_law 56 = .ok (.getfield 55, 3) := dk_180 0 55 (dk_at dksX1_law_2 8 rfl rfl)
theorem dX1_law_59 : decode cX1_law 59 = .ok (.getfield 185, 3) := dk_180 0 185 (dk_at dksX1_law_2 11 rfl rfl)
theorem dX1_law_62 : decode cX1_law 62 = .ok (.iload_n 3, 1) := dk_29 (dk_at dksX1_law_2 14 rfl rfl)
theorem dX1_law_63 : decode cX1_law 63 = .ok (.aload_n 0, 1) := dk_42 (dk_at dksX1_law_2 15 rfl rfl)
theorem dX1_law_64 : decode cX1_law 64 = .ok (.getfield 35, 3) := dk_180 0 35 (dk_at dksX1_law_2 16 rfl rfl)
theorem dX1_law_67 : decode cX1_law 67 = .ok (.getfield 292, 3) := dk_180 1 36 (dk_at dksX1_law_2 19 rfl rfl)
theorem dX1_law_70 : decode cX1_law 70 = .ok (.iastore, 1) := dk_79 (dk_at dksX1_law_2 22 rfl rfl)
theorem dX1_law_71 : decode cX1_law 71 = .ok (.iinc 3 1, 3) := dk_132 3 1 (dk_at dksX1_law_3 0 rfl rfl)
theorem dX1_law_74 : decode cX1_law 74 = .ok (.goto (-38), 3) := dk_167 255 218 (dk_at dksX1_law_3 3 rfl rfl)
theorem dX1_law_77 : decode cX1_law 77 = .ok (.iconst 0, 1) := dk_3 (dk_at dksX1_law_3 6 rfl rfl)
theorem dX1_law_78 : decode cX1_law 78 = .ok (.istore_n 3, 1) := dk_62 (dk_at dksX1_law_3 7 rfl rfl)
theorem dX1_law_79 : decode cX1_law 79 = .ok (.iload_n 3, 1) := dk_29 (dk_at dksX1_law_3 8 rfl rfl)
theorem dX1_law_80 : decode cX1_law 80 = .ok (.iload_n 2, 1) := dk_28 (dk_at dksX1_law_3 9 rfl rfl)
theorem dX1_law_81 : decode cX1_law 81 = .ok (.if_icmp .ge 18, 3) := dk_162 0 18 (dk_at dksX1_law_3 10 rfl rfl)
theorem dX1_law_84 : decode cX1_law 84 = .ok (.aload_n 0, 1) := dk_42 (dk_at dksX1_law_3 13 rfl rfl)
theorem dX1_law_85 : decode cX1_law 85 = .ok (.aload_n 0, 1) := dk_42 (dk_at dksX1_law_3 14 rfl rfl)
theorem dX1_law_86 : decode cX1_law 86 = .ok (.getfield 55, 3) := dk_180 0 55 (dk_at dksX1_law_3 15 rfl rfl)
theorem dX1_law_89 : decode cX1_law 89 = .ok (.iload_n 1, 1) := dk_27 (dk_at dksX1_law_3 18 rfl rfl)
theorem dX1_law_90 : decode cX1_law 90 = .ok (.invokevirtual 213, 3) := dk_182 0 213 (dk_at dksX1_law_3 19 rfl rfl)
theorem dX1_law_93 : decode cX1_law 93 = .ok (.iinc 3 1, 3) := dk_132 3 1 (dk_at dksX1_law_4 0 rfl rfl)
theorem dX1_law_96 : decode cX1_law 96 = .ok (.goto (-17), 3) := dk_167 255 239 (dk_at dksX1_law_4 3 rfl rfl)
theorem dX1_law_99 : decode cX1_law 99 = .ok (.aload_n 0, 1) := dk_42 (dk_at dksX1_law_4 6 rfl rfl)
theorem dX1_law_100 : decode cX1_law 100 = .ok (.aload_n 0, 1) := dk_42 (dk_at dksX1_law_4 7 rfl rfl)
theorem dX1_law_101 : decode cX1_law 101 = .ok (.getfield 55, 3) := dk_180 0 55 (dk_at dksX1_law_4 8 rfl rfl)
theorem dX1_law_104 : decode cX1_law 104 = .ok (.invokevirtual 298, 3) := dk_182 1 42 (dk_at dksX1_law_4 11 rfl rfl)
theorem dX1_law_107 : decode cX1_law 107 = .ok (.pop, 1) := dk_87 (dk_at dksX1_law_4 14 rfl rfl)
theorem dX1_law_108 : decode cX1_law 108 = .ok (.aload_n 0, 1) := dk_42 (dk_at dksX1_law_4 15 rfl rfl)
theorem dX1_law_109 : decode cX1_law 109 = .ok (.getfield 55, 3) := dk_180 0 55 (dk_at dksX1_law_4 16 rfl rfl)
theorem dX1_law_112 : decode cX1_law 112 = .ok (.getfield 249, 3) := dk_180 0 249 (dk_at dksX1_law_4 19 rfl rfl)
theorem dX1_law_115 : decode cX1_law 115 = .ok (.aload_n 0, 1) := dk_42 (dk_at dksX1_law_4 22 rfl rfl)
theorem dX1_law_116 : decode cX1_law 116 = .ok (.getfield 51, 3) := dk_180 0 51 (dk_at dksX1_law_5 0 rfl rfl)
theorem dX1_law_119 : decode cX1_law 119 = .ok (.getfield 249, 3) := dk_180 0 249 (dk_at dksX1_law_5 3 rfl rfl)
theorem dX1_law_122 : decode cX1_law 122 = .ok (.iconst (-1), 1) := dk_2 (dk_at dksX1_law_5 6 rfl rfl)
theorem dX1_law_123 : decode cX1_law 123 = .ok (.ixor, 1) := dk_130 (dk_at dksX1_law_5 7 rfl rfl)
theorem dX1_law_124 : decode cX1_law 124 = .ok (.iand, 1) := dk_126 (dk_at dksX1_law_5 8 rfl rfl)
theorem dX1_law_125 : decode cX1_law 125 = .ok (.ireturn, 1) := dk_172 (dk_at dksX1_law_5 9 rfl rfl)
abbrev cX1_sample : ByteArray := prog_1_method_58_code
def yX1_sample : MethodName := ⟨RX1, "sample", "(II)Z"⟩
def dkwX1_sample_2 : List UInt8 := [180, 0, 123, 90, 4, 96, 181, 0, 123, 28, 79, 4, 172]
abbrev dktX1_sample_2 : List UInt8 := dkwX1_sample_2 ++ []
def dkwX1_sample_1 : List UInt8 := [16, 6, 160, 0, 5, 3, 172, 42, 180, 0, 81, 42, 180, 0, 123, 27, 79, 42, 180, 0, 84, 42, 89]
abbrev dktX1_sample_1 : List UInt8 := dkwX1_sample_1 ++ dktX1_sample_2
def dkwX1_sample_0 : List UInt8 := [27, 3, 8, 184, 0, 153, 153, 0, 23, 28, 3, 17, 0, 240, 184, 0, 153, 153, 0, 12, 42, 180, 0, 123]
abbrev dktX1_sample_0 : List UInt8 := dkwX1_sample_0 ++ dktX1_sample_1
theorem dksX1_sample_0 : cX1_sample.data.toList.drop 0 = dktX1_sample_0 := by decide +kernel
theorem dksX1_sample_1 : cX1_sample.data.toList.drop 24 = dktX1_sample_1 := dk_seg dksX1_sample_0 24 rfl rfl
theorem dksX1_sample_2 : cX1_sample.data.toList.drop 47 = dktX1_sample_2 := dk_seg dksX1_sample_1 23 rfl rfl
theorem dX1_sample_0 : decode cX1_sample 0 = .ok (.iload_n 1, 1) := dk_27 (dk_at dksX1_sample_0 0 rfl rfl)
theorem dX1_sample_1 : decode cX1_sample 1 = .ok (.iconst 0, 1) := dk_3 (dk_at dksX1_sample_0 1 rfl rfl)
theorem dX1_sample_2 : decode cX1_sample 2 = .ok (.iconst 5, 1) := dk_8 (dk_at dksX1_sample_0 2 rfl rfl)
theorem dX1_sample_3 : decode cX1_sample 3 = .ok (.invokestatic 153, 3) := dk_184 0 153 (dk_at dksX1_sample_0 3 rfl rfl)
theorem dX1_sample_6 : decode cX1_sample 6 = .ok (.ifCond .eq 23, 3) := dk_153 0 23 (dk_at dksX1_sample_0 6 rfl rfl)
theorem dX1_sample_9 : decode cX1_sample 9 = .ok (.iload_n 2, 1) := dk_28 (dk_at dksX1_sample_0 9 rfl rfl)
theorem dX1_sample_10 : decode cX1_sample 10 = .ok (.iconst 0, 1) := dk_3 (dk_at dksX1_sample_0 10 rfl rfl)
theorem dX1_sample_11 : decode cX1_sample 11 = .ok (.sipush 240, 3) := dk_17 0 240 (dk_at dksX1_sample_0 11 rfl rfl)
theorem dX1_sample_14 : decode cX1_sample 14 = .ok (.invokestatic 153, 3) := dk_184 0 153 (dk_at dksX1_sample_0 14 rfl rfl)
theorem dX1_sample_17 : decode cX1_sample 17 = .ok (.ifCond .eq 12, 3) := dk_153 0 12 (dk_at dksX1_sample_0 17 rfl rfl)
theorem dX1_sample_20 : decode cX1_sample 20 = .ok (.aload_n 0, 1) := dk_42 (dk_at dksX1_sample_0 20 rfl rfl)
theorem dX1_sample_21 : decode cX1_sample 21 = .ok (.getfield 123, 3) := dk_180 0 123 (dk_at dksX1_sample_0 21 rfl rfl)
theorem dX1_sample_24 : decode cX1_sample 24 = .ok (.bipush 6, 2) := dk_16 6 (dk_at dksX1_sample_1 0 rfl rfl)
theorem dX1_sample_26 : decode cX1_sample 26 = .ok (.if_icmp .ne 5, 3) := dk_160 0 5 (dk_at dksX1_sample_1 2 rfl rfl)
theorem dX1_sample_29 : decode cX1_sample 29 = .ok (.iconst 0, 1) := dk_3 (dk_at dksX1_sample_1 5 rfl rfl)
theorem dX1_sample_30 : decode cX1_sample 30 = .ok (.ireturn, 1) := dk_172 (dk_at dksX1_sample_1 6 rfl rfl)
theorem dX1_sample_31 : decode cX1_sample 31 = .ok (.aload_n 0, 1) := dk_42 (dk_at dksX1_sample_1 7 rfl rfl)
theorem dX1_sample_32 : decode cX1_sample 32 = .ok (.getfield 81, 3) := dk_180 0 81 (dk_at dksX1_sample_1 8 rfl rfl)
theorem dX1_sample_35 : decode cX1_sample 35 = .ok (.aload_n 0, 1) := dk_42 (dk_at dksX1_sample_1 11 rfl rfl)
theorem dX1_sample_36 : decode cX1_sample 36 = .ok (.getfield 123, 3) := dk_180 0 123 (dk_at dksX1_sample_1 12 rfl rfl)
theorem dX1_sample_39 : decode cX1_sample 39 = .ok (.iload_n 1, 1) := dk_27 (dk_at dksX1_sample_1 15 rfl rfl)
theorem dX1_sample_40 : decode cX1_sample 40 = .ok (.iastore, 1) := dk_79 (dk_at dksX1_sample_1 16 rfl rfl)
theorem dX1_sample_41 : decode cX1_sample 41 = .ok (.aload_n 0, 1) := dk_42 (dk_at dksX1_sample_1 17 rfl rfl)
theorem dX1_sample_42 : decode cX1_sample 42 = .ok (.getfield 84, 3) := dk_180 0 84 (dk_at dksX1_sample_1 18 rfl rfl)
theorem dX1_sample_45 : decode cX1_sample 45 = .ok (.aload_n 0, 1) := dk_42 (dk_at dksX1_sample_1 21 rfl rfl)
theorem dX1_sample_46 : decode cX1_sample 46 = .ok (.dup, 1) := dk_89 (dk_at dksX1_sample_1 22 rfl rfl)
theorem dX1_sample_47 : decode cX1_sample 47 = .ok (.getfield 123, 3) := dk_180 0 123 (dk_at dksX1_sample_2 0 rfl rfl)
theorem dX1_sample_50 : decode cX1_sample 50 = .ok (.dup_x1, 1) := dk_90 (dk_at dksX1_sample_2 3 rfl rfl)
theorem dX1_sample_51 : decode cX1_sample 51 = .ok (.iconst 1, 1) := dk_4 (dk_at dksX1_sample_2 4 rfl rfl)
theorem dX1_sample_52 : decode cX1_sample 52 = .ok (.iadd, 1) := dk_96 (dk_at dksX1_sample_2 5 rfl rfl)
theorem dX1_sample_53 : decode cX1_sample 53 = .ok (.putfield 123, 3) := dk_181 0 123 (dk_at dksX1_sample_2 6 rfl rfl)
theorem dX1_sample_56 : decode cX1_sample 56 = .ok (.iload_n 2, 1) := dk_28 (dk_at dksX1_sample_2 9 rfl rfl)
theorem dX1_sample_57 : decode cX1_sample 57 = .ok (.iastore, 1) := dk_79 (dk_at dksX1_sample_2 10 rfl rfl)
theorem dX1_sample_58 : decode cX1_sample 58 = .ok (.iconst 1, 1) := dk_4 (dk_at dksX1_sample_2 11 rfl rfl)
theorem dX1_sample_59 : decode cX1_sample 59 = .ok (.ireturn, 1) := dk_172 (dk_at dksX1_sample_2 12 rfl rfl)
abbrev cX1_days : ByteArray := prog_1_method_63_code
def yX1_days : MethodName := ⟨RX1, "days", "(I)I"⟩
def dkwX1_days_0 : List UInt8 := [42, 27, 182, 0, 159, 154, 0, 5, 2, 172, 42, 42, 27, 182, 0, 166, 182, 1, 133, 42, 180, 1, 119, 172]
abbrev dktX1_days_0 : List UInt8 := dkwX1_days_0 ++ []
theorem dksX1_days_0 : cX1_days.data.toList.drop 0 = dktX1_days_0 := by decide +kernel
theorem dX1_days_0 : decode cX1_days 0 = .ok (.aload_n 0, 1) := dk_42 (dk_at dksX1_days_0 0 rfl rfl)
theorem dX1_days_1 : decode cX1_days 1 = .ok (.iload_n 1, 1) := dk_27 (dk_at dksX1_days_0 1 rfl rfl)
theorem dX1_days_2 : decode cX1_days 2 = .ok (.invokevirtual 159, 3) := dk_182 0 159 (dk_at dksX1_days_0 2 rfl rfl)
theorem dX1_days_5 : decode cX1_days 5 = .ok (.ifCond .ne 5, 3) := dk_154 0 5 (dk_at dksX1_days_0 5 rfl rfl)
theorem dX1_days_8 : decode cX1_days 8 = .ok (.iconst (-1), 1) := dk_2 (dk_at dksX1_days_0 8 rfl rfl)
theorem dX1_days_9 : decode cX1_days 9 = .ok (.ireturn, 1) := dk_172 (dk_at dksX1_days_0 9 rfl rfl)
theorem dX1_days_10 : decode cX1_days 10 = .ok (.aload_n 0, 1) := dk_42 (dk_at dksX1_days_0 10 rfl rfl)
theorem dX1_days_11 : decode cX1_days 11 = .ok (.aload_n 0, 1) := dk_42 (dk_at dksX1_days_0 11 rfl rfl)
theorem dX1_days_12 : decode cX1_days 12 = .ok (.iload_n 1, 1) := dk_27 (dk_at dksX1_days_0 12 rfl rfl)
theorem dX1_days_13 : decode cX1_days 13 = .ok (.invokevirtual 166, 3) := dk_182 0 166 (dk_at dksX1_days_0 13 rfl rfl)
theorem dX1_days_16 : decode cX1_days 16 = .ok (.invokevirtual 389, 3) := dk_182 1 133 (dk_at dksX1_days_0 16 rfl rfl)
theorem dX1_days_19 : decode cX1_days 19 = .ok (.aload_n 0, 1) := dk_42 (dk_at dksX1_days_0 19 rfl rfl)
theorem dX1_days_20 : decode cX1_days 20 = .ok (.getfield 375, 3) := dk_180 1 119 (dk_at dksX1_days_0 20 rfl rfl)
theorem dX1_days_23 : decode cX1_days 23 = .ok (.ireturn, 1) := dk_172 (dk_at dksX1_days_0 23 rfl rfl)
abbrev cX1_looks : ByteArray := prog_1_method_62_code
def yX1_looks : MethodName := ⟨RX1, "looks", "(LPulseRent$Tenant;)V"⟩
def dkwX1_looks_5 : List UInt8 := [132, 3, 1, 167, 255, 230, 132, 2, 1, 167, 255, 180, 177]
abbrev dktX1_looks_5 : List UInt8 := dkwX1_looks_5 ++ []
def dkwX1_looks_4 : List UInt8 := [29, 16, 6, 162, 0, 26, 42, 180, 0, 92, 29, 50, 42, 180, 0, 87, 29, 46, 92, 46, 4, 96, 79]
abbrev dktX1_looks_4 : List UInt8 := dkwX1_looks_4 ++ dktX1_looks_5
def dkwX1_looks_3 : List UInt8 := [167, 0, 53, 42, 89, 180, 1, 119, 90, 4, 96, 181, 1, 119, 154, 0, 8, 42, 28, 181, 1, 122, 3, 62]
abbrev dktX1_looks_3 : List UInt8 := dkwX1_looks_3 ++ dktX1_looks_4
def dkwX1_looks_2 : List UInt8 := [3, 61, 28, 17, 2, 217, 162, 0, 75, 42, 43, 28, 182, 1, 125, 42, 182, 1, 129, 154, 0, 6]
abbrev dktX1_looks_2 : List UInt8 := dkwX1_looks_2 ++ dktX1_looks_3
def dkwX1_looks_1 : List UInt8 := [3, 79, 132, 3, 1, 167, 255, 237, 132, 2, 1, 167, 255, 223, 42, 3, 181, 1, 119, 42, 2, 181, 1, 122]
abbrev dktX1_looks_1 : List UInt8 := dkwX1_looks_1 ++ dktX1_looks_2
def dkwX1_looks_0 : List UInt8 := [3, 61, 28, 16, 6, 162, 0, 33, 3, 62, 29, 17, 0, 240, 163, 0, 18, 42, 180, 0, 92, 28, 50, 29]
abbrev dktX1_looks_0 : List UInt8 := dkwX1_looks_0 ++ dktX1_looks_1
theorem dksX1_looks_0 : cX1_looks.data.toList.drop 0 = dktX1_looks_0 := by decide +kernel
theorem dksX1_looks_1 : cX1_looks.data.toList.drop 24 = dktX1_looks_1 := dk_seg dksX1_looks_0 24 rfl rfl
theorem dksX1_looks_2 : cX1_looks.data.toList.drop 48 = dktX1_looks_2 := dk_seg dksX1_looks_1 24 rfl rfl
theorem dksX1_looks_3 : cX1_looks.data.toList.drop 70 = dktX1_looks_3 := dk_seg dksX1_looks_2 22 rfl rfl
theorem dksX1_looks_4 : cX1_looks.data.toList.drop 94 = dktX1_looks_4 := dk_seg dksX1_looks_3 24 rfl rfl
theorem dksX1_looks_5 : cX1_looks.data.toList.drop 117 = dktX1_looks_5 := dk_seg dksX1_looks_4 23 rfl rfl
theorem dX1_looks_0 : decode cX1_looks 0 = .ok (.iconst 0, 1) := dk_3 (dk_at dksX1_looks_0 0 rfl rfl)
theorem dX1_looks_1 : decode cX1_looks 1 = .ok (.istore_n 2, 1) := dk_61 (dk_at dksX1_looks_0 1 rfl rfl)
theorem dX1_looks_2 : decode cX1_looks 2 = .ok (.iload_n 2, 1) := dk_28 (dk_at dksX1_looks_0 2 rfl rfl)
theorem dX1_looks_3 : decode cX1_looks 3 = .ok (.bipush 6, 2) := dk_16 6 (dk_at dksX1_looks_0 3 rfl rfl)
theorem dX1_looks_5 : decode cX1_looks 5 = .ok (.if_icmp .ge 33, 3) := dk_162 0 33 (dk_at dksX1_looks_0 5 rfl rfl)
theorem dX1_looks_8 : decode cX1_looks 8 = .ok (.iconst 0, 1) := dk_3 (dk_at dksX1_looks_0 8 rfl rfl)
theorem dX1_looks_9 : decode cX1_looks 9 = .ok (.istore_n 3, 1) := dk_62 (dk_at dksX1_looks_0 9 rfl rfl)
theorem dX1_looks_10 : decode cX1_looks 10 = .ok (.iload_n 3, 1) := dk_29 (dk_at dksX1_looks_0 10 rfl rfl)
theorem dX1_looks_11 : decode cX1_looks 11 = .ok (.sipush 240, 3) := dk_17 0 240 (dk_at dksX1_looks_0 11 rfl rfl)
theorem dX1_looks_14 : decode cX1_looks 14 = .ok (.if_icmp .gt 18, 3) := dk_163 0 18 (dk_at dksX1_looks_0 14 rfl rfl)
theorem dX1_looks_17 : decode cX1_looks 17 = .ok (.aload_n 0, 1) := dk_42 (dk_at dksX1_looks_0 17 rfl rfl)
theorem dX1_looks_18 : decode cX1_looks 18 = .ok (.getfield 92, 3) := dk_180 0 92 (dk_at dksX1_looks_0 18 rfl rfl)
theorem dX1_looks_21 : decode cX1_looks 21 = .ok (.iload_n 2, 1) := dk_28 (dk_at dksX1_looks_0 21 rfl rfl)
theorem dX1_looks_22 : decode cX1_looks 22 = .ok (.aaload, 1) := dk_50 (dk_at dksX1_looks_0 22 rfl rfl)
theorem dX1_looks_23 : decode cX1_looks 23 = .ok (.iload_n 3, 1) := dk_29 (dk_at dksX1_looks_0 23 rfl rfl)
theorem dX1_looks_24 : decode cX1_looks 24 = .ok (.iconst 0, 1) := dk_3 (dk_at dksX1_looks_1 0 rfl rfl)
theorem dX1_looks_25 : decode cX1_looks 25 = .ok (.iastore, 1) := dk_79 (dk_at dksX1_looks_1 1 rfl rfl)
theorem dX1_looks_26 : decode cX1_looks 26 = .ok (.iinc 3 1, 3) := dk_132 3 1 (dk_at dksX1_looks_1 2 rfl rfl)
theorem dX1_looks_29 : decode cX1_looks 29 = .ok (.goto (-19), 3) := dk_167 255 237 (dk_at dksX1_looks_1 5 rfl rfl)
theorem dX1_looks_32 : decode cX1_looks 32 = .ok (.iinc 2 1, 3) := dk_132 2 1 (dk_at dksX1_looks_1 8 rfl rfl)
theorem dX1_looks_35 : decode cX1_looks 35 = .ok (.goto (-33), 3) := dk_167 255 223 (dk_at dksX1_looks_1 11 rfl rfl)
theorem dX1_looks_38 : decode cX1_looks 38 = .ok (.aload_n 0, 1) := dk_42 (dk_at dksX1_looks_1 14 rfl rfl)
theorem dX1_looks_39 : decode cX1_looks 39 = .ok (.iconst 0, 1) := dk_3 (dk_at dksX1_looks_1 15 rfl rfl)
theorem dX1_looks_40 : decode cX1_looks 40 = .ok (.putfield 375, 3) := dk_181 1 119 (dk_at dksX1_looks_1 16 rfl rfl)
theorem dX1_looks_43 : decode cX1_looks 43 = .ok (.aload_n 0, 1) := dk_42 (dk_at dksX1_looks_1 19 rfl rfl)
theorem dX1_looks_44 : decode cX1_looks 44 = .ok (.iconst (-1), 1) := dk_2 (dk_at dksX1_looks_1 20 rfl rfl)
theorem dX1_looks_45 : decode cX1_looks 45 = .ok (.putfield 378, 3) := dk_181 1 122 (dk_at dksX1_looks_1 21 rfl rfl)
theorem dX1_looks_48 : decode cX1_looks 48 = .ok (.iconst 0, 1) := dk_3 (dk_at dksX1_looks_2 0 rfl rfl)
theorem dX1_looks_49 : decode cX1_looks 49 = .ok (.istore_n 2, 1) := dk_61 (dk_at dksX1_looks_2 1 rfl rfl)
theorem dX1_looks_50 : decode cX1_looks 50 = .ok (.iload_n 2, 1) := dk_28 (dk_at dksX1_looks_2 2 rfl rfl)
theorem dX1_looks_51 : decode cX1_looks 51 = .ok (.sipush 729, 3) := dk_17 2 217 (dk_at dksX1_looks_2 3 rfl rfl)
theorem dX1_looks_54 : decode cX1_looks 54 = .ok (.if_icmp .ge 75, 3) := dk_162 0 75 (dk_at dksX1_looks_2 6 rfl rfl)
theorem dX1_looks_57 : decode cX1_looks 57 = .ok (.aload_n 0, 1) := dk_42 (dk_at dksX1_looks_2 9 rfl rfl)
theorem dX1_looks_58 : decode cX1_looks 58 = .ok (.aload_n 1, 1) := dk_43 (dk_at dksX1_looks_2 10 rfl rfl)
theorem dX1_looks_59 : decode cX1_looks 59 = .ok (.iload_n 2, 1) := dk_28 (dk_at dksX1_looks_2 11 rfl rfl)
theorem dX1_looks_60 : decode cX1_looks 60 = .ok (.invokevirtual 381, 3) := dk_182 1 125 (dk_at dksX1_looks_2 12 rfl rfl)
theorem dX1_looks_63 : decode cX1_looks 63 = .ok (.aload_n 0, 1) := dk_42 (dk_at dksX1_looks_2 15 rfl rfl)
theorem dX1_looks_64 : decode cX1_looks 64 = .ok (.invokevirtual 385, 3) := dk_182 1 129 (dk_at dksX1_looks_2 16 rfl rfl)
theorem dX1_looks_67 : decode cX1_looks 67 = .ok (.ifCond .ne 6, 3) := dk_154 0 6 (dk_at dksX1_looks_2 19 rfl rfl)
theorem dX1_looks_70 : decode cX1_looks 70 = .ok (.goto 53, 3) := dk_167 0 53 (dk_at dksX1_looks_3 0 rfl rfl)
theorem dX1_looks_73 : decode cX1_looks 73 = .ok (.aload_n 0, 1) := dk_42 (dk_at dksX1_looks_3 3 rfl rfl)
theorem dX1_looks_74 : decode cX1_looks 74 = .ok (.dup, 1) := dk_89 (dk_at dksX1_looks_3 4 rfl rfl)
theorem dX1_looks_75 : decode cX1_looks 75 = .ok (.getfield 375, 3) := dk_180 1 119 (dk_at dksX1_looks_3 5 rfl rfl)
theorem dX1_looks_78 : decode cX1_looks 78 = .ok (.dup_x1, 1) := dk_90 (dk_at dksX1_looks_3 8 rfl rfl)
theorem dX1_looks_79 : decode cX1_looks 79 = .ok (.iconst 1, 1) := dk_4 (dk_at dksX1_looks_3 9 rfl rfl)
theorem dX1_looks_80 : decode cX1_looks 80 = .ok (.iadd, 1) := dk_96 (dk_at dksX1_looks_3 10 rfl rfl)
theorem dX1_looks_81 : decode cX1_looks 81 = .ok (.putfield 375, 3) := dk_181 1 119 (dk_at dksX1_looks_3 11 rfl rfl)
theorem dX1_looks_84 : decode cX1_looks 84 = .ok (.ifCond .ne 8, 3) := dk_154 0 8 (dk_at dksX1_looks_3 14 rfl rfl)
theorem dX1_looks_87 : decode cX1_looks 87 = .ok (.aload_n 0, 1) := dk_42 (dk_at dksX1_looks_3 17 rfl rfl)
theorem dX1_looks_88 : decode cX1_looks 88 = .ok (.iload_n 2, 1) := dk_28 (dk_at dksX1_looks_3 18 rfl rfl)
theorem dX1_looks_89 : decode cX1_looks 89 = .ok (.putfield 378, 3) := dk_181 1 122 (dk_at dksX1_looks_3 19 rfl rfl)
theorem dX1_looks_92 : decode cX1_looks 92 = .ok (.iconst 0, 1) := dk_3 (dk_at dksX1_looks_3 22 rfl rfl)
theorem dX1_looks_93 : decode cX1_looks 93 = .ok (.istore_n 3, 1) := dk_62 (dk_at dksX1_looks_3 23 rfl rfl)
theorem dX1_looks_94 : decode cX1_looks 94 = .ok (.iload_n 3, 1) := dk_29 (dk_at dksX1_looks_4 0 rfl rfl)
theorem dX1_looks_95 : decode cX1_looks 95 = .ok (.bipush 6, 2) := dk_16 6 (dk_at dksX1_looks_4 1 rfl rfl)
theorem dX1_looks_97 : decode cX1_looks 97 = .ok (.if_icmp .ge 26, 3) := dk_162 0 26 (dk_at dksX1_looks_4 3 rfl rfl)
theorem dX1_looks_100 : decode cX1_looks 100 = .ok (.aload_n 0, 1) := dk_42 (dk_at dksX1_looks_4 6 rfl rfl)
theorem dX1_looks_101 : decode cX1_looks 101 = .ok (.getfield 92, 3) := dk_180 0 92 (dk_at dksX1_looks_4 7 rfl rfl)
theorem dX1_looks_104 : decode cX1_looks 104 = .ok (.iload_n 3, 1) := dk_29 (dk_at dksX1_looks_4 10 rfl rfl)
theorem dX1_looks_105 : decode cX1_looks 105 = .ok (.aaload, 1) := dk_50 (dk_at dksX1_looks_4 11 rfl rfl)
theorem dX1_looks_106 : decode cX1_looks 106 = .ok (.aload_n 0, 1) := dk_42 (dk_at dksX1_looks_4 12 rfl rfl)
theorem dX1_looks_107 : decode cX1_looks 107 = .ok (.getfield 87, 3) := dk_180 0 87 (dk_at dksX1_looks_4 13 rfl rfl)
theorem dX1_looks_110 : decode cX1_looks 110 = .ok (.iload_n 3, 1) := dk_29 (dk_at dksX1_looks_4 16 rfl rfl)
theorem dX1_looks_111 : decode cX1_looks 111 = .ok (.iaload, 1) := dk_46 (dk_at dksX1_looks_4 17 rfl rfl)
theorem dX1_looks_112 : decode cX1_looks 112 = .ok (.dup2, 1) := dk_92 (dk_at dksX1_looks_4 18 rfl rfl)
theorem dX1_looks_113 : decode cX1_looks 113 = .ok (.iaload, 1) := dk_46 (dk_at dksX1_looks_4 19 rfl rfl)
theorem dX1_looks_114 : decode cX1_looks 114 = .ok (.iconst 1, 1) := dk_4 (dk_at dksX1_looks_4 20 rfl rfl)
theorem dX1_looks_115 : decode cX1_looks 115 = .ok (.iadd, 1) := dk_96 (dk_at dksX1_looks_4 21 rfl rfl)
theorem dX1_looks_116 : decode cX1_looks 116 = .ok (.iastore, 1) := dk_79 (dk_at dksX1_looks_4 22 rfl rfl)
theorem dX1_looks_117 : decode cX1_looks 117 = .ok (.iinc 3 1, 3) := dk_132 3 1 (dk_at dksX1_looks_5 0 rfl rfl)
theorem dX1_looks_120 : decode cX1_looks 120 = .ok (.goto (-26), 3) := dk_167 255 230 (dk_at dksX1_looks_5 3 rfl rfl)
theorem dX1_looks_123 : decode cX1_looks 123 = .ok (.iinc 2 1, 3) := dk_132 2 1 (dk_at dksX1_looks_5 6 rfl rfl)
theorem dX1_looks_126 : decode cX1_looks 126 = .ok (.goto (-76), 3) := dk_167 255 180 (dk_at dksX1_looks_5 9 rfl rfl)
theorem dX1_looks_129 : decode cX1_looks 129 = .ok (.return_, 1) := dk_177 (dk_at dksX1_looks_5 12 rfl rfl)
abbrev cX1_lives : ByteArray := prog_1_method_60_code
def yX1_lives : MethodName := ⟨RX1, "lives", "(LPulseRent$Tenant;I)V"⟩
def dkwX1_lives_4 : List UInt8 := [167, 255, 170, 177]
abbrev dktX1_lives_4 : List UInt8 := dkwX1_lives_4 ++ []
def dkwX1_lives_3 : List UInt8 := [21, 5, 17, 0, 240, 43, 182, 0, 170, 29, 96, 184, 0, 1, 79, 43, 29, 182, 0, 206, 62, 132, 5, 1]
abbrev dktX1_lives_3 : List UInt8 := dkwX1_lives_3 ++ dktX1_lives_4
def dkwX1_lives_2 : List UInt8 := [16, 40, 43, 180, 1, 11, 100, 184, 0, 7, 4, 21, 4, 132, 4, 1, 96, 108, 96, 62, 42, 180, 0, 87]
abbrev dktX1_lives_2 : List UInt8 := dkwX1_lives_2 ++ dktX1_lives_3
def dkwX1_lives_1 : List UInt8 := [21, 6, 4, 160, 0, 12, 29, 43, 16, 20, 182, 1, 24, 96, 62, 21, 6, 5, 160, 0, 25, 29, 3]
abbrev dktX1_lives_1 : List UInt8 := dkwX1_lives_1 ++ dktX1_lives_2
def dkwX1_lives_0 : List UInt8 := [3, 62, 3, 54, 4, 3, 54, 5, 21, 5, 16, 6, 162, 0, 85, 28, 21, 5, 184, 1, 116, 54, 6]
abbrev dktX1_lives_0 : List UInt8 := dkwX1_lives_0 ++ dktX1_lives_1
theorem dksX1_lives_0 : cX1_lives.data.toList.drop 0 = dktX1_lives_0 := by decide +kernel
theorem dksX1_lives_1 : cX1_lives.data.toList.drop 23 = dktX1_lives_1 := dk_seg dksX1_lives_0 23 rfl rfl
theorem dksX1_lives_2 : cX1_lives.data.toList.drop 46 = dktX1_lives_2 := dk_seg dksX1_lives_1 23 rfl rfl
theorem dksX1_lives_3 : cX1_lives.data.toList.drop 70 = dktX1_lives_3 := dk_seg dksX1_lives_2 24 rfl rfl
theorem dksX1_lives_4 : cX1_lives.data.toList.drop 94 = dktX1_lives_4 := dk_seg dksX1_lives_3 24 rfl rfl
theorem dX1_lives_0 : decode cX1_lives 0 = .ok (.iconst 0, 1) := dk_3 (dk_at dksX1_lives_0 0 rfl rfl)
theorem dX1_lives_1 : decode cX1_lives 1 = .ok (.istore_n 3, 1) := dk_62 (dk_at dksX1_lives_0 1 rfl rfl)
theorem dX1_lives_2 : decode cX1_lives 2 = .ok (.iconst 0, 1) := dk_3 (dk_at dksX1_lives_0 2 rfl rfl)
theorem dX1_lives_3 : decode cX1_lives 3 = .ok (.istore 4, 2) := dk_54 4 (dk_at dksX1_lives_0 3 rfl rfl)
theorem dX1_lives_5 : decode cX1_lives 5 = .ok (.iconst 0, 1) := dk_3 (dk_at dksX1_lives_0 5 rfl rfl)
theorem dX1_lives_6 : decode cX1_lives 6 = .ok (.istore 5, 2) := dk_54 5 (dk_at dksX1_lives_0 6 rfl rfl)
theorem dX1_lives_8 : decode cX1_lives 8 = .ok (.iload 5, 2) := dk_21 5 (dk_at dksX1_lives_0 8 rfl rfl)
theorem dX1_lives_10 : decode cX1_lives 10 = .ok (.bipush 6, 2) := dk_16 6 (dk_at dksX1_lives_0 10 rfl rfl)
theorem dX1_lives_12 : decode cX1_lives 12 = .ok (.if_icmp .ge 85, 3) := dk_162 0 85 (dk_at dksX1_lives_0 12 rfl rfl)
theorem dX1_lives_15 : decode cX1_lives 15 = .ok (.iload_n 2, 1) := dk_28 (dk_at dksX1_lives_0 15 rfl rfl)
theorem dX1_lives_16 : decode cX1_lives 16 = .ok (.iload 5, 2) := dk_21 5 (dk_at dksX1_lives_0 16 rfl rfl)
theorem dX1_lives_18 : decode cX1_lives 18 = .ok (.invokestatic 372, 3) := dk_184 1 116 (dk_at dksX1_lives_0 18 rfl rfl)
theorem dX1_lives_21 : decode cX1_lives 21 = .ok (.istore 6, 2) := dk_54 6 (dk_at dksX1_lives_0 21 rfl rfl)
theorem dX1_lives_23 : decode cX1_lives 23 = .ok (.iload 6, 2) := dk_21 6 (dk_at dksX1_lives_1 0 rfl rfl)
theorem dX1_lives_25 : decode cX1_lives 25 = .ok (.iconst 1, 1) := dk_4 (dk_at dksX1_lives_1 2 rfl rfl)
theorem dX1_lives_26 : decode cX1_lives 26 = .ok (.if_icmp .ne 12, 3) := dk_160 0 12 (dk_at dksX1_lives_1 3 rfl rfl)
theorem dX1_lives_29 : decode cX1_lives 29 = .ok (.iload_n 3, 1) := dk_29 (dk_at dksX1_lives_1 6 rfl rfl)
theorem dX1_lives_30 : decode cX1_lives 30 = .ok (.aload_n 1, 1) := dk_43 (dk_at dksX1_lives_1 7 rfl rfl)
theorem dX1_lives_31 : decode cX1_lives 31 = .ok (.bipush 20, 2) := dk_16 20 (dk_at dksX1_lives_1 8 rfl rfl)
theorem dX1_lives_33 : decode cX1_lives 33 = .ok (.invokevirtual 280, 3) := dk_182 1 24 (dk_at dksX1_lives_1 10 rfl rfl)
theorem dX1_lives_36 : decode cX1_lives 36 = .ok (.iadd, 1) := dk_96 (dk_at dksX1_lives_1 13 rfl rfl)
theorem dX1_lives_37 : decode cX1_lives 37 = .ok (.istore_n 3, 1) := dk_62 (dk_at dksX1_lives_1 14 rfl rfl)
theorem dX1_lives_38 : decode cX1_lives 38 = .ok (.iload 6, 2) := dk_21 6 (dk_at dksX1_lives_1 15 rfl rfl)
theorem dX1_lives_40 : decode cX1_lives 40 = .ok (.iconst 2, 1) := dk_5 (dk_at dksX1_lives_1 17 rfl rfl)
theorem dX1_lives_41 : decode cX1_lives 41 = .ok (.if_icmp .ne 25, 3) := dk_160 0 25 (dk_at dksX1_lives_1 18 rfl rfl)
theorem dX1_lives_44 : decode cX1_lives 44 = .ok (.iload_n 3, 1) := dk_29 (dk_at dksX1_lives_1 21 rfl rfl)
theorem dX1_lives_45 : decode cX1_lives 45 = .ok (.iconst 0, 1) := dk_3 (dk_at dksX1_lives_1 22 rfl rfl)
theorem dX1_lives_46 : decode cX1_lives 46 = .ok (.bipush 40, 2) := dk_16 40 (dk_at dksX1_lives_2 0 rfl rfl)
theorem dX1_lives_48 : decode cX1_lives 48 = .ok (.aload_n 1, 1) := dk_43 (dk_at dksX1_lives_2 2 rfl rfl)
theorem dX1_lives_49 : decode cX1_lives 49 = .ok (.getfield 267, 3) := dk_180 1 11 (dk_at dksX1_lives_2 3 rfl rfl)
theorem dX1_lives_52 : decode cX1_lives 52 = .ok (.isub, 1) := dk_100 (dk_at dksX1_lives_2 6 rfl rfl)
theorem dX1_lives_53 : decode cX1_lives 53 = .ok (.invokestatic 7, 3) := dk_184 0 7 (dk_at dksX1_lives_2 7 rfl rfl)
theorem dX1_lives_56 : decode cX1_lives 56 = .ok (.iconst 1, 1) := dk_4 (dk_at dksX1_lives_2 10 rfl rfl)
theorem dX1_lives_57 : decode cX1_lives 57 = .ok (.iload 4, 2) := dk_21 4 (dk_at dksX1_lives_2 11 rfl rfl)
theorem dX1_lives_59 : decode cX1_lives 59 = .ok (.iinc 4 1, 3) := dk_132 4 1 (dk_at dksX1_lives_2 13 rfl rfl)
theorem dX1_lives_62 : decode cX1_lives 62 = .ok (.iadd, 1) := dk_96 (dk_at dksX1_lives_2 16 rfl rfl)
theorem dX1_lives_63 : decode cX1_lives 63 = .ok (.idiv, 1) := dk_108 (dk_at dksX1_lives_2 17 rfl rfl)
theorem dX1_lives_64 : decode cX1_lives 64 = .ok (.iadd, 1) := dk_96 (dk_at dksX1_lives_2 18 rfl rfl)
theorem dX1_lives_65 : decode cX1_lives 65 = .ok (.istore_n 3, 1) := dk_62 (dk_at dksX1_lives_2 19 rfl rfl)
theorem dX1_lives_66 : decode cX1_lives 66 = .ok (.aload_n 0, 1) := dk_42 (dk_at dksX1_lives_2 20 rfl rfl)
theorem dX1_lives_67 : decode cX1_lives 67 = .ok (.getfield 87, 3) := dk_180 0 87 (dk_at dksX1_lives_2 21 rfl rfl)
theorem dX1_lives_70 : decode cX1_lives 70 = .ok (.iload 5, 2) := dk_21 5 (dk_at dksX1_lives_3 0 rfl rfl)
theorem dX1_lives_72 : decode cX1_lives 72 = .ok (.sipush 240, 3) := dk_17 0 240 (dk_at dksX1_lives_3 2 rfl rfl)
theorem dX1_lives_75 : decode cX1_lives 75 = .ok (.aload_n 1, 1) := dk_43 (dk_at dksX1_lives_3 5 rfl rfl)
theorem dX1_lives_76 : decode cX1_lives 76 = .ok (.invokevirtual 170, 3) := dk_182 0 170 (dk_at dksX1_lives_3 6 rfl rfl)
theorem dX1_lives_79 : decode cX1_lives 79 = .ok (.iload_n 3, 1) := dk_29 (dk_at dksX1_lives_3 9 rfl rfl)
theorem dX1_lives_80 : decode cX1_lives 80 = .ok (.iadd, 1) := dk_96 (dk_at dksX1_lives_3 10 rfl rfl)
theorem dX1_lives_81 : decode cX1_lives 81 = .ok (.invokestatic 1, 3) := dk_184 0 1 (dk_at dksX1_lives_3 11 rfl rfl)
theorem dX1_lives_84 : decode cX1_lives 84 = .ok (.iastore, 1) := dk_79 (dk_at dksX1_lives_3 14 rfl rfl)
theorem dX1_lives_85 : decode cX1_lives 85 = .ok (.aload_n 1, 1) := dk_43 (dk_at dksX1_lives_3 15 rfl rfl)
theorem dX1_lives_86 : decode cX1_lives 86 = .ok (.iload_n 3, 1) := dk_29 (dk_at dksX1_lives_3 16 rfl rfl)
theorem dX1_lives_87 : decode cX1_lives 87 = .ok (.invokevirtual 206, 3) := dk_182 0 206 (dk_at dksX1_lives_3 17 rfl rfl)
theorem dX1_lives_90 : decode cX1_lives 90 = .ok (.istore_n 3, 1) := dk_62 (dk_at dksX1_lives_3 20 rfl rfl)
theorem dX1_lives_91 : decode cX1_lives 91 = .ok (.iinc 5 1, 3) := dk_132 5 1 (dk_at dksX1_lives_3 21 rfl rfl)
theorem dX1_lives_94 : decode cX1_lives 94 = .ok (.goto (-86), 3) := dk_167 255 170 (dk_at dksX1_lives_4 0 rfl rfl)
theorem dX1_lives_97 : decode cX1_lives 97 = .ok (.return_, 1) := dk_177 (dk_at dksX1_lives_4 3 rfl rfl)
abbrev cX1_didIn : ByteArray := prog_1_method_59_code
def yX1_didIn : MethodName := ⟨RX1, "didIn", "(II)I"⟩
def dkwX1_didIn_1 : List UInt8 := [112, 172]
abbrev dktX1_didIn_1 : List UInt8 := dkwX1_didIn_1 ++ []
def dkwX1_didIn_0 : List UInt8 := [26, 61, 27, 4, 96, 62, 29, 16, 6, 162, 0, 13, 28, 6, 108, 61, 132, 3, 1, 167, 255, 243, 28, 6]
abbrev dktX1_didIn_0 : List UInt8 := dkwX1_didIn_0 ++ dktX1_didIn_1
theorem dksX1_didIn_0 : cX1_didIn.data.toList.drop 0 = dktX1_didIn_0 := by decide +kernel
theorem dksX1_didIn_1 : cX1_didIn.data.toList.drop 24 = dktX1_didIn_1 := dk_seg dksX1_didIn_0 24 rfl rfl
theorem dX1_didIn_0 : decode cX1_didIn 0 = .ok (.iload_n 0, 1) := dk_26 (dk_at dksX1_didIn_0 0 rfl rfl)
theorem dX1_didIn_1 : decode cX1_didIn 1 = .ok (.istore_n 2, 1) := dk_61 (dk_at dksX1_didIn_0 1 rfl rfl)
theorem dX1_didIn_2 : decode cX1_didIn 2 = .ok (.iload_n 1, 1) := dk_27 (dk_at dksX1_didIn_0 2 rfl rfl)
theorem dX1_didIn_3 : decode cX1_didIn 3 = .ok (.iconst 1, 1) := dk_4 (dk_at dksX1_didIn_0 3 rfl rfl)
theorem dX1_didIn_4 : decode cX1_didIn 4 = .ok (.iadd, 1) := dk_96 (dk_at dksX1_didIn_0 4 rfl rfl)
theorem dX1_didIn_5 : decode cX1_didIn 5 = .ok (.istore_n 3, 1) := dk_62 (dk_at dksX1_didIn_0 5 rfl rfl)
theorem dX1_didIn_6 : decode cX1_didIn 6 = .ok (.iload_n 3, 1) := dk_29 (dk_at dksX1_didIn_0 6 rfl rfl)
theorem dX1_didIn_7 : decode cX1_didIn 7 = .ok (.bipush 6, 2) := dk_16 6 (dk_at dksX1_didIn_0 7 rfl rfl)
theorem dX1_didIn_9 : decode cX1_didIn 9 = .ok (.if_icmp .ge 13, 3) := dk_162 0 13 (dk_at dksX1_didIn_0 9 rfl rfl)
theorem dX1_didIn_12 : decode cX1_didIn 12 = .ok (.iload_n 2, 1) := dk_28 (dk_at dksX1_didIn_0 12 rfl rfl)
theorem dX1_didIn_13 : decode cX1_didIn 13 = .ok (.iconst 3, 1) := dk_6 (dk_at dksX1_didIn_0 13 rfl rfl)
theorem dX1_didIn_14 : decode cX1_didIn 14 = .ok (.idiv, 1) := dk_108 (dk_at dksX1_didIn_0 14 rfl rfl)
theorem dX1_didIn_15 : decode cX1_didIn 15 = .ok (.istore_n 2, 1) := dk_61 (dk_at dksX1_didIn_0 15 rfl rfl)
theorem dX1_didIn_16 : decode cX1_didIn 16 = .ok (.iinc 3 1, 3) := dk_132 3 1 (dk_at dksX1_didIn_0 16 rfl rfl)
theorem dX1_didIn_19 : decode cX1_didIn 19 = .ok (.goto (-13), 3) := dk_167 255 243 (dk_at dksX1_didIn_0 19 rfl rfl)
theorem dX1_didIn_22 : decode cX1_didIn 22 = .ok (.iload_n 2, 1) := dk_28 (dk_at dksX1_didIn_0 22 rfl rfl)
theorem dX1_didIn_23 : decode cX1_didIn 23 = .ok (.iconst 3, 1) := dk_6 (dk_at dksX1_didIn_0 23 rfl rfl)
theorem dX1_didIn_24 : decode cX1_didIn 24 = .ok (.irem, 1) := dk_112 (dk_at dksX1_didIn_1 0 rfl rfl)
theorem dX1_didIn_25 : decode cX1_didIn 25 = .ok (.ireturn, 1) := dk_172 (dk_at dksX1_didIn_1 1 rfl rfl)
abbrev cX1_isSampled : ByteArray := prog_1_method_61_code
def yX1_isSampled : MethodName := ⟨RX1, "isSampled", "()Z"⟩
def dkwX1_isSampled_1 : List UInt8 := [180, 0, 84, 27, 46, 159, 0, 5, 3, 172, 132, 1, 1, 167, 255, 223, 4, 172]
abbrev dktX1_isSampled_1 : List UInt8 := dkwX1_isSampled_1 ++ []
def dkwX1_isSampled_0 : List UInt8 := [3, 60, 27, 42, 180, 0, 123, 162, 0, 31, 42, 180, 0, 87, 42, 180, 0, 81, 27, 46, 46, 42]
abbrev dktX1_isSampled_0 : List UInt8 := dkwX1_isSampled_0 ++ dktX1_isSampled_1
theorem dksX1_isSampled_0 : cX1_isSampled.data.toList.drop 0 = dktX1_isSampled_0 := by decide +kernel
theorem dksX1_isSampled_1 : cX1_isSampled.data.toList.drop 22 = dktX1_isSampled_1 := dk_seg dksX1_isSampled_0 22 rfl rfl
theorem dX1_isSampled_0 : decode cX1_isSampled 0 = .ok (.iconst 0, 1) := dk_3 (dk_at dksX1_isSampled_0 0 rfl rfl)
theorem dX1_isSampled_1 : decode cX1_isSampled 1 = .ok (.istore_n 1, 1) := dk_60 (dk_at dksX1_isSampled_0 1 rfl rfl)
theorem dX1_isSampled_2 : decode cX1_isSampled 2 = .ok (.iload_n 1, 1) := dk_27 (dk_at dksX1_isSampled_0 2 rfl rfl)
theorem dX1_isSampled_3 : decode cX1_isSampled 3 = .ok (.aload_n 0, 1) := dk_42 (dk_at dksX1_isSampled_0 3 rfl rfl)
theorem dX1_isSampled_4 : decode cX1_isSampled 4 = .ok (.getfield 123, 3) := dk_180 0 123 (dk_at dksX1_isSampled_0 4 rfl rfl)
theorem dX1_isSampled_7 : decode cX1_isSampled 7 = .ok (.if_icmp .ge 31, 3) := dk_162 0 31 (dk_at dksX1_isSampled_0 7 rfl rfl)
theorem dX1_isSampled_10 : decode cX1_isSampled 10 = .ok (.aload_n 0, 1) := dk_42 (dk_at dksX1_isSampled_0 10 rfl rfl)
theorem dX1_isSampled_11 : decode cX1_isSampled 11 = .ok (.getfield 87, 3) := dk_180 0 87 (dk_at dksX1_isSampled_0 11 rfl rfl)
theorem dX1_isSampled_14 : decode cX1_isSampled 14 = .ok (.aload_n 0, 1) := dk_42 (dk_at dksX1_isSampled_0 14 rfl rfl)
theorem dX1_isSampled_15 : decode cX1_isSampled 15 = .ok (.getfield 81, 3) := dk_180 0 81 (dk_at dksX1_isSampled_0 15 rfl rfl)
theorem dX1_isSampled_18 : decode cX1_isSampled 18 = .ok (.iload_n 1, 1) := dk_27 (dk_at dksX1_isSampled_0 18 rfl rfl)
theorem dX1_isSampled_19 : decode cX1_isSampled 19 = .ok (.iaload, 1) := dk_46 (dk_at dksX1_isSampled_0 19 rfl rfl)
theorem dX1_isSampled_20 : decode cX1_isSampled 20 = .ok (.iaload, 1) := dk_46 (dk_at dksX1_isSampled_0 20 rfl rfl)
theorem dX1_isSampled_21 : decode cX1_isSampled 21 = .ok (.aload_n 0, 1) := dk_42 (dk_at dksX1_isSampled_0 21 rfl rfl)
theorem dX1_isSampled_22 : decode cX1_isSampled 22 = .ok (.getfield 84, 3) := dk_180 0 84 (dk_at dksX1_isSampled_1 0 rfl rfl)
theorem dX1_isSampled_25 : decode cX1_isSampled 25 = .ok (.iload_n 1, 1) := dk_27 (dk_at dksX1_isSampled_1 3 rfl rfl)
theorem dX1_isSampled_26 : decode cX1_isSampled 26 = .ok (.iaload, 1) := dk_46 (dk_at dksX1_isSampled_1 4 rfl rfl)
theorem dX1_isSampled_27 : decode cX1_isSampled 27 = .ok (.if_icmp .eq 5, 3) := dk_159 0 5 (dk_at dksX1_isSampled_1 5 rfl rfl)
theorem dX1_isSampled_30 : decode cX1_isSampled 30 = .ok (.iconst 0, 1) := dk_3 (dk_at dksX1_isSampled_1 8 rfl rfl)
theorem dX1_isSampled_31 : decode cX1_isSampled 31 = .ok (.ireturn, 1) := dk_172 (dk_at dksX1_isSampled_1 9 rfl rfl)
theorem dX1_isSampled_32 : decode cX1_isSampled 32 = .ok (.iinc 1 1, 3) := dk_132 1 1 (dk_at dksX1_isSampled_1 10 rfl rfl)
theorem dX1_isSampled_35 : decode cX1_isSampled 35 = .ok (.goto (-33), 3) := dk_167 255 223 (dk_at dksX1_isSampled_1 13 rfl rfl)
theorem dX1_isSampled_38 : decode cX1_isSampled 38 = .ok (.iconst 1, 1) := dk_4 (dk_at dksX1_isSampled_1 16 rfl rfl)
theorem dX1_isSampled_39 : decode cX1_isSampled 39 = .ok (.ireturn, 1) := dk_172 (dk_at dksX1_isSampled_1 17 rfl rfl)
abbrev cX1_did : ByteArray := prog_1_method_64_code
def yX1_did : MethodName := ⟨RX1, "did", "(II)I"⟩
def dkwX1_did_2 : List UInt8 := [184, 1, 116, 172]
abbrev dktX1_did_2 : List UInt8 := dkwX1_did_2 ++ []
def dkwX1_did_1 : List UInt8 := [182, 0, 166, 182, 1, 133, 42, 180, 1, 119, 154, 0, 7, 2, 167, 0, 11, 42, 180, 1, 122, 28]
abbrev dktX1_did_1 : List UInt8 := dkwX1_did_1 ++ dktX1_did_2
def dkwX1_did_0 : List UInt8 := [42, 27, 182, 0, 159, 153, 0, 12, 28, 3, 8, 184, 0, 153, 154, 0, 5, 2, 172, 42, 42, 27]
abbrev dktX1_did_0 : List UInt8 := dkwX1_did_0 ++ dktX1_did_1
theorem dksX1_did_0 : cX1_did.data.toList.drop 0 = dktX1_did_0 := by decide +kernel
theorem dksX1_did_1 : cX1_did.data.toList.drop 22 = dktX1_did_1 := dk_seg dksX1_did_0 22 rfl rfl
theorem dksX1_did_2 : cX1_did.data.toList.drop 44 = dktX1_did_2 := dk_seg dksX1_did_1 22 rfl rfl
theorem dX1_did_0 : decode cX1_did 0 = .ok (.aload_n 0, 1) := dk_42 (dk_at dksX1_did_0 0 rfl rfl)
theorem dX1_did_1 : decode cX1_did 1 = .ok (.iload_n 1, 1) := dk_27 (dk_at dksX1_did_0 1 rfl rfl)
theorem dX1_did_2 : decode cX1_did 2 = .ok (.invokevirtual 159, 3) := dk_182 0 159 (dk_at dksX1_did_0 2 rfl rfl)
theorem dX1_did_5 : decode cX1_did 5 = .ok (.ifCond .eq 12, 3) := dk_153 0 12 (dk_at dksX1_did_0 5 rfl rfl)
theorem dX1_did_8 : decode cX1_did 8 = .ok (.iload_n 2, 1) := dk_28 (dk_at dksX1_did_0 8 rfl rfl)
theorem dX1_did_9 : decode cX1_did 9 = .ok (.iconst 0, 1) := dk_3 (dk_at dksX1_did_0 9 rfl rfl)
theorem dX1_did_10 : decode cX1_did 10 = .ok (.iconst 5, 1) := dk_8 (dk_at dksX1_did_0 10 rfl rfl)
theorem dX1_did_11 : decode cX1_did 11 = .ok (.invokestatic 153, 3) := dk_184 0 153 (dk_at dksX1_did_0 11 rfl rfl)
theorem dX1_did_14 : decode cX1_did 14 = .ok (.ifCond .ne 5, 3) := dk_154 0 5 (dk_at dksX1_did_0 14 rfl rfl)
theorem dX1_did_17 : decode cX1_did 17 = .ok (.iconst (-1), 1) := dk_2 (dk_at dksX1_did_0 17 rfl rfl)
theorem dX1_did_18 : decode cX1_did 18 = .ok (.ireturn, 1) := dk_172 (dk_at dksX1_did_0 18 rfl rfl)
theorem dX1_did_19 : decode cX1_did 19 = .ok (.aload_n 0, 1) := dk_42 (dk_at dksX1_did_0 19 rfl rfl)
theorem dX1_did_20 : decode cX1_did 20 = .ok (.aload_n 0, 1) := dk_42 (dk_at dksX1_did_0 20 rfl rfl)
theorem dX1_did_21 : decode cX1_did 21 = .ok (.iload_n 1, 1) := dk_27 (dk_at dksX1_did_0 21 rfl rfl)
theorem dX1_did_22 : decode cX1_did 22 = .ok (.invokevirtual 166, 3) := dk_182 0 166 (dk_at dksX1_did_1 0 rfl rfl)
theorem dX1_did_25 : decode cX1_did 25 = .ok (.invokevirtual 389, 3) := dk_182 1 133 (dk_at dksX1_did_1 3 rfl rfl)
theorem dX1_did_28 : decode cX1_did 28 = .ok (.aload_n 0, 1) := dk_42 (dk_at dksX1_did_1 6 rfl rfl)
theorem dX1_did_29 : decode cX1_did 29 = .ok (.getfield 375, 3) := dk_180 1 119 (dk_at dksX1_did_1 7 rfl rfl)
theorem dX1_did_32 : decode cX1_did 32 = .ok (.ifCond .ne 7, 3) := dk_154 0 7 (dk_at dksX1_did_1 10 rfl rfl)
theorem dX1_did_35 : decode cX1_did 35 = .ok (.iconst (-1), 1) := dk_2 (dk_at dksX1_did_1 13 rfl rfl)
theorem dX1_did_36 : decode cX1_did 36 = .ok (.goto 11, 3) := dk_167 0 11 (dk_at dksX1_did_1 14 rfl rfl)
theorem dX1_did_39 : decode cX1_did 39 = .ok (.aload_n 0, 1) := dk_42 (dk_at dksX1_did_1 17 rfl rfl)
theorem dX1_did_40 : decode cX1_did 40 = .ok (.getfield 378, 3) := dk_180 1 122 (dk_at dksX1_did_1 18 rfl rfl)
theorem dX1_did_43 : decode cX1_did 43 = .ok (.iload_n 2, 1) := dk_28 (dk_at dksX1_did_1 21 rfl rfl)
theorem dX1_did_44 : decode cX1_did 44 = .ok (.invokestatic 372, 3) := dk_184 1 116 (dk_at dksX1_did_2 0 rfl rfl)
theorem dX1_did_47 : decode cX1_did 47 = .ok (.ireturn, 1) := dk_172 (dk_at dksX1_did_2 3 rfl rfl)
abbrev cX1_next : ByteArray := prog_1_method_65_code
def yX1_next : MethodName := ⟨RX1, "next", "(I)I"⟩
def dkwX1_next_4 : List UInt8 := [167, 255, 194, 28, 172]
abbrev dktX1_next_4 : List UInt8 := dkwX1_next_4 ++ []
def dkwX1_next_3 : List UInt8 := [132, 6, 1, 167, 255, 228, 21, 5, 29, 161, 0, 6, 167, 0, 9, 21, 5, 62, 21, 4, 61, 132, 4, 1]
abbrev dktX1_next_3 : List UInt8 := dkwX1_next_3 ++ dktX1_next_4
def dkwX1_next_2 : List UInt8 := [17, 0, 240, 163, 0, 26, 21, 5, 42, 180, 0, 92, 21, 4, 50, 21, 6, 46, 184, 0, 7, 54, 5]
abbrev dktX1_next_2 : List UInt8 := dkwX1_next_2 ++ dktX1_next_3
def dkwX1_next_1 : List UInt8 := [180, 1, 119, 62, 3, 54, 4, 21, 4, 16, 6, 162, 0, 61, 3, 54, 5, 3, 54, 6, 21, 6]
abbrev dktX1_next_1 : List UInt8 := dkwX1_next_1 ++ dktX1_next_2
def dkwX1_next_0 : List UInt8 := [42, 27, 182, 0, 159, 154, 0, 5, 2, 172, 42, 42, 27, 182, 0, 166, 182, 1, 133, 2, 61, 42]
abbrev dktX1_next_0 : List UInt8 := dkwX1_next_0 ++ dktX1_next_1
theorem dksX1_next_0 : cX1_next.data.toList.drop 0 = dktX1_next_0 := by decide +kernel
theorem dksX1_next_1 : cX1_next.data.toList.drop 22 = dktX1_next_1 := dk_seg dksX1_next_0 22 rfl rfl
theorem dksX1_next_2 : cX1_next.data.toList.drop 44 = dktX1_next_2 := dk_seg dksX1_next_1 22 rfl rfl
theorem dksX1_next_3 : cX1_next.data.toList.drop 67 = dktX1_next_3 := dk_seg dksX1_next_2 23 rfl rfl
theorem dksX1_next_4 : cX1_next.data.toList.drop 91 = dktX1_next_4 := dk_seg dksX1_next_3 24 rfl rfl
theorem dX1_next_0 : decode cX1_next 0 = .ok (.aload_n 0, 1) := dk_42 (dk_at dksX1_next_0 0 rfl rfl)
theorem dX1_next_1 : decode cX1_next 1 = .ok (.iload_n 1, 1) := dk_27 (dk_at dksX1_next_0 1 rfl rfl)
theorem dX1_next_2 : decode cX1_next 2 = .ok (.invokevirtual 159, 3) := dk_182 0 159 (dk_at dksX1_next_0 2 rfl rfl)
theorem dX1_next_5 : decode cX1_next 5 = .ok (.ifCond .ne 5, 3) := dk_154 0 5 (dk_at dksX1_next_0 5 rfl rfl)
theorem dX1_next_8 : decode cX1_next 8 = .ok (.iconst (-1), 1) := dk_2 (dk_at dksX1_next_0 8 rfl rfl)
theorem dX1_next_9 : decode cX1_next 9 = .ok (.ireturn, 1) := dk_172 (dk_at dksX1_next_0 9 rfl rfl)
theorem dX1_next_10 : decode cX1_next 10 = .ok (.aload_n 0, 1) := dk_42 (dk_at dksX1_next_0 10 rfl rfl)
theorem dX1_next_11 : decode cX1_next 11 = .ok (.aload_n 0, 1) := dk_42 (dk_at dksX1_next_0 11 rfl rfl)
theorem dX1_next_12 : decode cX1_next 12 = .ok (.iload_n 1, 1) := dk_27 (dk_at dksX1_next_0 12 rfl rfl)
theorem dX1_next_13 : decode cX1_next 13 = .ok (.invokevirtual 166, 3) := dk_182 0 166 (dk_at dksX1_next_0 13 rfl rfl)
theorem dX1_next_16 : decode cX1_next 16 = .ok (.invokevirtual 389, 3) := dk_182 1 133 (dk_at dksX1_next_0 16 rfl rfl)
theorem dX1_next_19 : decode cX1_next 19 = .ok (.iconst (-1), 1) := dk_2 (dk_at dksX1_next_0 19 rfl rfl)
theorem dX1_next_20 : decode cX1_next 20 = .ok (.istore_n 2, 1) := dk_61 (dk_at dksX1_next_0 20 rfl rfl)
theorem dX1_next_21 : decode cX1_next 21 = .ok (.aload_n 0, 1) := dk_42 (dk_at dksX1_next_0 21 rfl rfl)
theorem dX1_next_22 : decode cX1_next 22 = .ok (.getfield 375, 3) := dk_180 1 119 (dk_at dksX1_next_1 0 rfl rfl)
theorem dX1_next_25 : decode cX1_next 25 = .ok (.istore_n 3, 1) := dk_62 (dk_at dksX1_next_1 3 rfl rfl)
theorem dX1_next_26 : decode cX1_next 26 = .ok (.iconst 0, 1) := dk_3 (dk_at dksX1_next_1 4 rfl rfl)
theorem dX1_next_27 : decode cX1_next 27 = .ok (.istore 4, 2) := dk_54 4 (dk_at dksX1_next_1 5 rfl rfl)
theorem dX1_next_29 : decode cX1_next 29 = .ok (.iload 4, 2) := dk_21 4 (dk_at dksX1_next_1 7 rfl rfl)
theorem dX1_next_31 : decode cX1_next 31 = .ok (.bipush 6, 2) := dk_16 6 (dk_at dksX1_next_1 9 rfl rfl)
theorem dX1_next_33 : decode cX1_next 33 = .ok (.if_icmp .ge 61, 3) := dk_162 0 61 (dk_at dksX1_next_1 11 rfl rfl)
theorem dX1_next_36 : decode cX1_next 36 = .ok (.iconst 0, 1) := dk_3 (dk_at dksX1_next_1 14 rfl rfl)
theorem dX1_next_37 : decode cX1_next 37 = .ok (.istore 5, 2) := dk_54 5 (dk_at dksX1_next_1 15 rfl rfl)
theorem dX1_next_39 : decode cX1_next 39 = .ok (.iconst 0, 1) := dk_3 (dk_at dksX1_next_1 17 rfl rfl)
theorem dX1_next_40 : decode cX1_next 40 = .ok (.istore 6, 2) := dk_54 6 (dk_at dksX1_next_1 18 rfl rfl)
theorem dX1_next_42 : decode cX1_next 42 = .ok (.iload 6, 2) := dk_21 6 (dk_at dksX1_next_1 20 rfl rfl)
theorem dX1_next_44 : decode cX1_next 44 = .ok (.sipush 240, 3) := dk_17 0 240 (dk_at dksX1_next_2 0 rfl rfl)
theorem dX1_next_47 : decode cX1_next 47 = .ok (.if_icmp .gt 26, 3) := dk_163 0 26 (dk_at dksX1_next_2 3 rfl rfl)
theorem dX1_next_50 : decode cX1_next 50 = .ok (.iload 5, 2) := dk_21 5 (dk_at dksX1_next_2 6 rfl rfl)
theorem dX1_next_52 : decode cX1_next 52 = .ok (.aload_n 0, 1) := dk_42 (dk_at dksX1_next_2 8 rfl rfl)
theorem dX1_next_53 : decode cX1_next 53 = .ok (.getfield 92, 3) := dk_180 0 92 (dk_at dksX1_next_2 9 rfl rfl)
theorem dX1_next_56 : decode cX1_next 56 = .ok (.iload 4, 2) := dk_21 4 (dk_at dksX1_next_2 12 rfl rfl)
theorem dX1_next_58 : decode cX1_next 58 = .ok (.aaload, 1) := dk_50 (dk_at dksX1_next_2 14 rfl rfl)
theorem dX1_next_59 : decode cX1_next 59 = .ok (.iload 6, 2) := dk_21 6 (dk_at dksX1_next_2 15 rfl rfl)
theorem dX1_next_61 : decode cX1_next 61 = .ok (.iaload, 1) := dk_46 (dk_at dksX1_next_2 17 rfl rfl)
theorem dX1_next_62 : decode cX1_next 62 = .ok (.invokestatic 7, 3) := dk_184 0 7 (dk_at dksX1_next_2 18 rfl rfl)
theorem dX1_next_65 : decode cX1_next 65 = .ok (.istore 5, 2) := dk_54 5 (dk_at dksX1_next_2 21 rfl rfl)
theorem dX1_next_67 : decode cX1_next 67 = .ok (.iinc 6 1, 3) := dk_132 6 1 (dk_at dksX1_next_3 0 rfl rfl)
theorem dX1_next_70 : decode cX1_next 70 = .ok (.goto (-28), 3) := dk_167 255 228 (dk_at dksX1_next_3 3 rfl rfl)
theorem dX1_next_73 : decode cX1_next 73 = .ok (.iload 5, 2) := dk_21 5 (dk_at dksX1_next_3 6 rfl rfl)
theorem dX1_next_75 : decode cX1_next 75 = .ok (.iload_n 3, 1) := dk_29 (dk_at dksX1_next_3 8 rfl rfl)
theorem dX1_next_76 : decode cX1_next 76 = .ok (.if_icmp .lt 6, 3) := dk_161 0 6 (dk_at dksX1_next_3 9 rfl rfl)
theorem dX1_next_79 : decode cX1_next 79 = .ok (.goto 9, 3) := dk_167 0 9 (dk_at dksX1_next_3 12 rfl rfl)
theorem dX1_next_82 : decode cX1_next 82 = .ok (.iload 5, 2) := dk_21 5 (dk_at dksX1_next_3 15 rfl rfl)
theorem dX1_next_84 : decode cX1_next 84 = .ok (.istore_n 3, 1) := dk_62 (dk_at dksX1_next_3 17 rfl rfl)
theorem dX1_next_85 : decode cX1_next 85 = .ok (.iload 4, 2) := dk_21 4 (dk_at dksX1_next_3 18 rfl rfl)
theorem dX1_next_87 : decode cX1_next 87 = .ok (.istore_n 2, 1) := dk_61 (dk_at dksX1_next_3 20 rfl rfl)
theorem dX1_next_88 : decode cX1_next 88 = .ok (.iinc 4 1, 3) := dk_132 4 1 (dk_at dksX1_next_3 21 rfl rfl)
theorem dX1_next_91 : decode cX1_next 91 = .ok (.goto (-62), 3) := dk_167 255 194 (dk_at dksX1_next_4 0 rfl rfl)
theorem dX1_next_94 : decode cX1_next 94 = .ok (.iload_n 2, 1) := dk_28 (dk_at dksX1_next_4 3 rfl rfl)
theorem dX1_next_95 : decode cX1_next 95 = .ok (.ireturn, 1) := dk_172 (dk_at dksX1_next_4 4 rfl rfl)
abbrev cX1_years : ByteArray := prog_1_method_68_code
def yX1_years : MethodName := ⟨RX1, "years", "(III)I"⟩
def dkwX1_years_10 : List UInt8 := [160, 0, 16, 42, 180, 0, 55, 182, 0, 191, 184, 1, 56, 167, 0, 5, 21, 5, 172]
abbrev dktX1_years_10 : List UInt8 := dkwX1_years_10 ++ []
def dkwX1_years_9 : List UInt8 := [182, 1, 42, 96, 54, 4, 132, 6, 1, 167, 255, 96, 29, 154, 0, 8, 21, 4, 167, 0, 23, 29, 4]
abbrev dktX1_years_9 : List UInt8 := dkwX1_years_9 ++ dktX1_years_10
def dkwX1_years_8 : List UInt8 := [180, 0, 55, 180, 0, 199, 184, 1, 152, 21, 7, 100, 96, 54, 5, 21, 4, 42, 42, 180, 0, 55]
abbrev dktX1_years_8 : List UInt8 := dkwX1_years_8 ++ dktX1_years_9
def dkwX1_years_7 : List UInt8 := [180, 0, 55, 180, 0, 199, 184, 1, 152, 54, 7, 42, 42, 180, 0, 55, 16, 10, 182, 1, 39, 21, 5, 42]
abbrev dktX1_years_7 : List UInt8 := dkwX1_years_7 ++ dktX1_years_8
def dkwX1_years_6 : List UInt8 := [180, 0, 55, 180, 0, 185, 21, 7, 42, 180, 0, 35, 180, 1, 36, 79, 132, 7, 1, 167, 255, 164, 42]
abbrev dktX1_years_6 : List UInt8 := dkwX1_years_6 ++ dktX1_years_7
def dkwX1_years_5 : List UInt8 := [160, 0, 15, 42, 42, 180, 0, 55, 21, 7, 16, 30, 182, 1, 32, 21, 8, 5, 160, 0, 20, 42]
abbrev dktX1_years_5 : List UInt8 := dkwX1_years_5 ++ dktX1_years_6
def dkwX1_years_4 : List UInt8 := [167, 0, 4, 2, 54, 8, 21, 8, 154, 0, 13, 42, 42, 180, 0, 55, 21, 7, 182, 1, 30, 21, 8, 4]
abbrev dktX1_years_4 : List UInt8 := dkwX1_years_4 ++ dktX1_years_5
def dkwX1_years_3 : List UInt8 := [182, 0, 157, 162, 0, 89, 42, 180, 0, 55, 21, 7, 182, 0, 163, 153, 0, 12, 42, 16, 6, 182, 1, 149]
abbrev dktX1_years_3 : List UInt8 := dkwX1_years_3 ++ dktX1_years_4
def dkwX1_years_2 : List UInt8 := [182, 1, 20, 3, 54, 4, 3, 54, 5, 3, 54, 6, 21, 6, 28, 162, 0, 160, 3, 54, 7, 21, 7, 42]
abbrev dktX1_years_2 : List UInt8 := dkwX1_years_2 ++ dktX1_years_3
def dkwX1_years_1 : List UInt8 := [184, 0, 153, 154, 0, 5, 2, 172, 42, 27, 133, 181, 1, 137, 42, 180, 0, 55, 42, 180, 0, 51]
abbrev dktX1_years_1 : List UInt8 := dkwX1_years_1 ++ dktX1_years_2
def dkwX1_years_0 : List UInt8 := [27, 3, 17, 39, 15, 184, 0, 153, 153, 0, 22, 28, 4, 16, 30, 184, 0, 153, 153, 0, 12, 29, 3, 5]
abbrev dktX1_years_0 : List UInt8 := dkwX1_years_0 ++ dktX1_years_1
theorem dksX1_years_0 : cX1_years.data.toList.drop 0 = dktX1_years_0 := by decide +kernel
theorem dksX1_years_1 : cX1_years.data.toList.drop 24 = dktX1_years_1 := dk_seg dksX1_years_0 24 rfl rfl
theorem dksX1_years_2 : cX1_years.data.toList.drop 46 = dktX1_years_2 := dk_seg dksX1_years_1 22 rfl rfl
theorem dksX1_years_3 : cX1_years.data.toList.drop 70 = dktX1_years_3 := dk_seg dksX1_years_2 24 rfl rfl
theorem dksX1_years_4 : cX1_years.data.toList.drop 94 = dktX1_years_4 := dk_seg dksX1_years_3 24 rfl rfl
theorem dksX1_years_5 : cX1_years.data.toList.drop 118 = dktX1_years_5 := dk_seg dksX1_years_4 24 rfl rfl
theorem dksX1_years_6 : cX1_years.data.toList.drop 140 = dktX1_years_6 := dk_seg dksX1_years_5 22 rfl rfl
theorem dksX1_years_7 : cX1_years.data.toList.drop 163 = dktX1_years_7 := dk_seg dksX1_years_6 23 rfl rfl
theorem dksX1_years_8 : cX1_years.data.toList.drop 187 = dktX1_years_8 := dk_seg dksX1_years_7 24 rfl rfl
theorem dksX1_years_9 : cX1_years.data.toList.drop 209 = dktX1_years_9 := dk_seg dksX1_years_8 22 rfl rfl
theorem dksX1_years_10 : cX1_years.data.toList.drop 232 = dktX1_years_10 := dk_seg dksX1_years_9 23 rfl rfl
theorem dX1_years_0 : decode cX1_years 0 = .ok (.iload_n 1, 1) := dk_27 (dk_at dksX1_years_0 0 rfl rfl)
theorem dX1_years_1 : decode cX1_years 1 = .ok (.iconst 0, 1) := dk_3 (dk_at dksX1_years_0 1 rfl rfl)
theorem dX1_years_2 : decode cX1_years 2 = .ok (.sipush 9999, 3) := dk_17 39 15 (dk_at dksX1_years_0 2 rfl rfl)
theorem dX1_years_5 : decode cX1_years 5 = .ok (.invokestatic 153, 3) := dk_184 0 153 (dk_at dksX1_years_0 5 rfl rfl)
theorem dX1_years_8 : decode cX1_years 8 = .ok (.ifCond .eq 22, 3) := dk_153 0 22 (dk_at dksX1_years_0 8 rfl rfl)
theorem dX1_years_11 : decode cX1_years 11 = .ok (.iload_n 2, 1) := dk_28 (dk_at dksX1_years_0 11 rfl rfl)
theorem dX1_years_12 : decode cX1_years 12 = .ok (.iconst 1, 1) := dk_4 (dk_at dksX1_years_0 12 rfl rfl)
theorem dX1_years_13 : decode cX1_years 13 = .ok (.bipush 30, 2) := dk_16 30 (dk_at dksX1_years_0 13 rfl rfl)
theorem dX1_years_15 : decode cX1_years 15 = .ok (.invokestatic 153, 3) := dk_184 0 153 (dk_at dksX1_years_0 15 rfl rfl)
theorem dX1_years_18 : decode cX1_years 18 = .ok (.ifCond .eq 12, 3) := dk_153 0 12 (dk_at dksX1_years_0 18 rfl rfl)
theorem dX1_years_21 : decode cX1_years 21 = .ok (.iload_n 3, 1) := dk_29 (dk_at dksX1_years_0 21 rfl rfl)
theorem dX1_years_22 : decode cX1_years 22 = .ok (.iconst 0, 1) := dk_3 (dk_at dksX1_years_0 22 rfl rfl)
theorem dX1_years_23 : decode cX1_years 23 = .ok (.iconst 2, 1) := dk_5 (dk_at dksX1_years_0 23 rfl rfl)
theorem dX1_years_24 : decode cX1_years 24 = .ok (.invokestatic 153, 3) := dk_184 0 153 (dk_at dksX1_years_1 0 rfl rfl)
theorem dX1_years_27 : decode cX1_years 27 = .ok (.ifCond .ne 5, 3) := dk_154 0 5 (dk_at dksX1_years_1 3 rfl rfl)
theorem dX1_years_30 : decode cX1_years 30 = .ok (.iconst (-1), 1) := dk_2 (dk_at dksX1_years_1 6 rfl rfl)
theorem dX1_years_31 : decode cX1_years 31 = .ok (.ireturn, 1) := dk_172 (dk_at dksX1_years_1 7 rfl rfl)
theorem dX1_years_32 : decode cX1_years 32 = .ok (.aload_n 0, 1) := dk_42 (dk_at dksX1_years_1 8 rfl rfl)
theorem dX1_years_33 : decode cX1_years 33 = .ok (.iload_n 1, 1) := dk_27 (dk_at dksX1_years_1 9 rfl rfl)
theorem dX1_years_34 : decode cX1_years 34 = .ok (.i2l, 1) := dk_133 (dk_at dksX1_years_1 10 rfl rfl)
theorem dX1_years_35 : decode cX1_years 35 = .ok (.putfield 393, 3) := dk_181 1 137 (dk_at dksX1_years_1 11 rfl rfl)
theorem dX1_years_38 : decode cX1_years 38 = .ok (.aload_n 0, 1) := dk_42 (dk_at dksX1_years_1 14 rfl rfl)
theorem dX1_years_39 : decode cX1_years 39 = .ok (.getfield 55, 3) := dk_180 0 55 (dk_at dksX1_years_1 15 rfl rfl)
theorem dX1_years_42 : decode cX1_years 42 = .ok (.aload_n 0, 1) := dk_42 (dk_at dksX1_years_1 18 rfl rfl)
theorem dX1_years_43 : decode cX1_years 43 = .ok (.getfield 51, 3) := dk_180 0 51 (dk_at dksX1_years_1 19 rfl rfl)
theorem dX1_years_46 : decode cX1_years 46 = .ok (.invokevirtual 276, 3) := dk_182 1 20 (dk_at dksX1_years_2 0 rfl rfl)
theorem dX1_years_49 : decode cX1_years 49 = .ok (.iconst 0, 1) := dk_3 (dk_at dksX1_years_2 3 rfl rfl)
theorem dX1_years_50 : decode cX1_years 50 = .ok (.istore 4, 2) := dk_54 4 (dk_at dksX1_years_2 4 rfl rfl)
theorem dX1_years_52 : decode cX1_years 52 = .ok (.iconst 0, 1) := dk_3 (dk_at dksX1_years_2 6 rfl rfl)
theorem dX1_years_53 : decode cX1_years 53 = .ok (.istore 5, 2) := dk_54 5 (dk_at dksX1_years_2 7 rfl rfl)
theorem dX1_years_55 : decode cX1_years 55 = .ok (.iconst 0, 1) := dk_3 (dk_at dksX1_years_2 9 rfl rfl)
theorem dX1_years_56 : decode cX1_years 56 = .ok (.istore 6, 2) := dk_54 6 (dk_at dksX1_years_2 10 rfl rfl)
theorem dX1_years_58 : decode cX1_years 58 = .ok (.iload 6, 2) := dk_21 6 (dk_at dksX1_years_2 12 rfl rfl)
theorem dX1_years_60 : decode cX1_years 60 = .ok (.iload_n 2, 1) := dk_28 (dk_at dksX1_years_2 14 rfl rfl)
theorem dX1_years_61 : decode cX1_years 61 = .ok (.if_icmp .ge 160, 3) := dk_162 0 160 (dk_at dksX1_years_2 15 rfl rfl)
theorem dX1_years_64 : decode cX1_years 64 = .ok (.iconst 0, 1) := dk_3 (dk_at dksX1_years_2 18 rfl rfl)
theorem dX1_years_65 : decode cX1_years 65 = .ok (.istore 7, 2) := dk_54 7 (dk_at dksX1_years_2 19 rfl rfl)
theorem dX1_years_67 : decode cX1_years 67 = .ok (.iload 7, 2) := dk_21 7 (dk_at dksX1_years_2 21 rfl rfl)
theorem dX1_years_69 : decode cX1_years 69 = .ok (.aload_n 0, 1) := dk_42 (dk_at dksX1_years_2 23 rfl rfl)
theorem dX1_years_70 : decode cX1_years 70 = .ok (.invokevirtual 157, 3) := dk_182 0 157 (dk_at dksX1_years_3 0 rfl rfl)
theorem dX1_years_73 : decode cX1_years 73 = .ok (.if_icmp .ge 89, 3) := dk_162 0 89 (dk_at dksX1_years_3 3 rfl rfl)
theorem dX1_years_76 : decode cX1_years 76 = .ok (.aload_n 0, 1) := dk_42 (dk_at dksX1_years_3 6 rfl rfl)
theorem dX1_years_77 : decode cX1_years 77 = .ok (.getfield 55, 3) := dk_180 0 55 (dk_at dksX1_years_3 7 rfl rfl)
theorem dX1_years_80 : decode cX1_years 80 = .ok (.iload 7, 2) := dk_21 7 (dk_at dksX1_years_3 10 rfl rfl)
theorem dX1_years_82 : decode cX1_years 82 = .ok (.invokevirtual 163, 3) := dk_182 0 163 (dk_at dksX1_years_3 12 rfl rfl)
theorem dX1_years_85 : decode cX1_years 85 = .ok (.ifCond .eq 12, 3) := dk_153 0 12 (dk_at dksX1_years_3 15 rfl rfl)
theorem dX1_years_88 : decode cX1_years 88 = .ok (.aload_n 0, 1) := dk_42 (dk_at dksX1_years_3 18 rfl rfl)
theorem dX1_years_89 : decode cX1_years 89 = .ok (.bipush 6, 2) := dk_16 6 (dk_at dksX1_years_3 19 rfl rfl)
theorem dX1_years_91 : decode cX1_years 91 = .ok (.invokevirtual 405, 3) := dk_182 1 149 (dk_at dksX1_years_3 21 rfl rfl)
theorem dX1_years_94 : decode cX1_years 94 = .ok (.goto 4, 3) := dk_167 0 4 (dk_at dksX1_years_4 0 rfl rfl)
theorem dX1_years_97 : decode cX1_years 97 = .ok (.iconst (-1), 1) := dk_2 (dk_at dksX1_years_4 3 rfl rfl)
theorem dX1_years_98 : decode cX1_years 98 = .ok (.istore 8, 2) := dk_54 8 (dk_at dksX1_years_4 4 rfl rfl)
theorem dX1_years_100 : decode cX1_years 100 = .ok (.iload 8, 2) := dk_21 8 (dk_at dksX1_years_4 6 rfl rfl)
theorem dX1_years_102 : decode cX1_years 102 = .ok (.ifCond .ne 13, 3) := dk_154 0 13 (dk_at dksX1_years_4 8 rfl rfl)
theorem dX1_years_105 : decode cX1_years 105 = .ok (.aload_n 0, 1) := dk_42 (dk_at dksX1_years_4 11 rfl rfl)
theorem dX1_years_106 : decode cX1_years 106 = .ok (.aload_n 0, 1) := dk_42 (dk_at dksX1_years_4 12 rfl rfl)
theorem dX1_years_107 : decode cX1_years 107 = .ok (.getfield 55, 3) := dk_180 0 55 (dk_at dksX1_years_4 13 rfl rfl)
theorem dX1_years_110 : decode cX1_years 110 = .ok (.iload 7, 2) := dk_21 7 (dk_at dksX1_years_4 16 rfl rfl)
theorem dX1_years_112 : decode cX1_years 112 = .ok (.invokevirtual 286, 3) := dk_182 1 30 (dk_at dksX1_years_4 18 rfl rfl)
theorem dX1_years_115 : decode cX1_years 115 = .ok (.iload 8, 2) := dk_21 8 (dk_at dksX1_years_4 21 rfl rfl)
theorem dX1_years_117 : decode cX1_years 117 = .ok (.iconst 1, 1) := dk_4 (dk_at dksX1_years_4 23 rfl rfl)
theorem dX1_years_118 : decode cX1_years 118 = .ok (.if_icmp .ne 15, 3) := dk_160 0 15 (dk_at dksX1_years_5 0 rfl rfl)
theorem dX1_years_121 : decode cX1_years 121 = .ok (.aload_n 0, 1) := dk_42 (dk_at dksX1_years_5 3 rfl rfl)
theorem dX1_years_122 : decode cX1_years 122 = .ok (.aload_n 0, 1) := dk_42 (dk_at dksX1_years_5 4 rfl rfl)
theorem dX1_years_123 : decode cX1_years 123 = .ok (.getfield 55, 3) := dk_180 0 55 (dk_at dksX1_years_5 5 rfl rfl)
theorem dX1_years_126 : decode cX1_years 126 = .ok (.iload 7, 2) := dk_21 7 (dk_at dksX1_years_5 8 rfl rfl)
theorem dX1_years_128 : decode cX1_years 128 = .ok (.bipush 30, 2) := dk_16 30 (dk_at dksX1_years_5 10 rfl rfl)
theorem dX1_years_130 : decode cX1_years 130 = .ok (.invokevirtual 288, 3) := dk_182 1 32 (dk_at dksX1_years_5 12 rfl rfl)
theorem dX1_years_133 : decode cX1_years 133 = .ok (.iload 8, 2) := dk_21 8 (dk_at dksX1_years_5 15 rfl rfl)
theorem dX1_years_135 : decode cX1_years 135 = .ok (.iconst 2, 1) := dk_5 (dk_at dksX1_years_5 17 rfl rfl)
theorem dX1_years_136 : decode cX1_years 136 = .ok (.if_icmp .ne 20, 3) := dk_160 0 20 (dk_at dksX1_years_5 18 rfl rfl)
theorem dX1_years_139 : decode cX1_years 139 = .ok (.aload_n 0, 1) := dk_42 (dk_at dksX1_years_5 21 rfl rfl)
theorem dX1_years_140 : decode cX1_years 140 = .ok (.getfield 55, 3) := dk_180 0 55 (dk_at dksX1_years_6 0 rfl rfl)
theorem dX1_years_143 : decode cX1_years 143 = .ok (.getfield 185, 3) := dk_180 0 185 (dk_at dksX1_years_6 3 rfl rfl)
theorem dX1_years_146 : decode cX1_years 146 = .ok (.iload 7, 2) := dk_21 7 (dk_at dksX1_years_6 6 rfl rfl)
theorem dX1_years_148 : decode cX1_years 148 = .ok (.aload_n 0, 1) := dk_42 (dk_at dksX1_years_6 8 rfl rfl)
theorem dX1_years_149 : decode cX1_years 149 = .ok (.getfield 35, 3) := dk_180 0 35 (dk_at dksX1_years_6 9 rfl rfl)
theorem dX1_years_152 : decode cX1_years 152 = .ok (.getfield 292, 3) := dk_180 1 36 (dk_at dksX1_years_6 12 rfl rfl)
theorem dX1_years_155 : decode cX1_years 155 = .ok (.iastore, 1) := dk_79 (dk_at dksX1_years_6 15 rfl rfl)
theorem dX1_years_156 : decode cX1_years 156 = .ok (.iinc 7 1, 3) := dk_132 7 1 (dk_at dksX1_years_6 16 rfl rfl)
theorem dX1_years_159 : decode cX1_years 159 = .ok (.goto (-92), 3) := dk_167 255 164 (dk_at dksX1_years_6 19 rfl rfl)
theorem dX1_years_162 : decode cX1_years 162 = .ok (.aload_n 0, 1) := dk_42 (dk_at dksX1_years_6 22 rfl rfl)
theorem dX1_years_163 : decode cX1_years 163 = .ok (.getfield 55, 3) := dk_180 0 55 (dk_at dksX1_years_7 0 rfl rfl)
theorem dX1_years_166 : decode cX1_years 166 = .ok (.getfield 199, 3) := dk_180 0 199 (dk_at dksX1_years_7 3 rfl rfl)
theorem dX1_years_169 : decode cX1_years 169 = .ok (.invokestatic 408, 3) := dk_184 1 152 (dk_at dksX1_years_7 6 rfl rfl)
theorem dX1_years_172 : decode cX1_years 172 = .ok (.istore 7, 2) := dk_54 7 (dk_at dksX1_years_7 9 rfl rfl)
theorem dX1_years_174 : decode cX1_years 174 = .ok (.aload_n 0, 1) := dk_42 (dk_at dksX1_years_7 11 rfl rfl)
theorem dX1_years_175 : decode cX1_years 175 = .ok (.aload_n 0, 1) := dk_42 (dk_at dksX1_years_7 12 rfl rfl)
theorem dX1_years_176 : decode cX1_years 176 = .ok (.getfield 55, 3) := dk_180 0 55 (dk_at dksX1_years_7 13 rfl rfl)
theorem dX1_years_179 : decode cX1_years 179 = .ok (.bipush 10, 2) := dk_16 10 (dk_at dksX1_years_7 16 rfl rfl)
theorem dX1_years_181 : decode cX1_years 181 = .ok (.invokevirtual 295, 3) := dk_182 1 39 (dk_at dksX1_years_7 18 rfl rfl)
theorem dX1_years_184 : decode cX1_years 184 = .ok (.iload 5, 2) := dk_21 5 (dk_at dksX1_years_7 21 rfl rfl)
theorem dX1_years_186 : decode cX1_years 186 = .ok (.aload_n 0, 1) := dk_42 (dk_at dksX1_years_7 23 rfl rfl)
theorem dX1_years_187 : decode cX1_years 187 = .ok (.getfield 55, 3) := dk_180 0 55 (dk_at dksX1_years_8 0 rfl rfl)
theorem dX1_years_190 : decode cX1_years 190 = .ok (.getfield 199, 3) := dk_180 0 199 (dk_at dksX1_years_8 3 rfl rfl)
theorem dX1_years_193 : decode cX1_years 193 = .ok (.invokestatic 408, 3) := dk_184 1 152 (dk_at dksX1_years_8 6 rfl rfl)
theorem dX1_years_196 : decode cX1_years 196 = .ok (.iload 7, 2) := dk_21 7 (dk_at dksX1_years_8 9 rfl rfl)
theorem dX1_years_198 : decode cX1_years 198 = .ok (.isub, 1) := dk_100 (dk_at dksX1_years_8 11 rfl rfl)
theorem dX1_years_199 : decode cX1_years 199 = .ok (.iadd, 1) := dk_96 (dk_at dksX1_years_8 12 rfl rfl)
theorem dX1_years_200 : decode cX1_years 200 = .ok (.istore 5, 2) := dk_54 5 (dk_at dksX1_years_8 13 rfl rfl)
theorem dX1_years_202 : decode cX1_years 202 = .ok (.iload 4, 2) := dk_21 4 (dk_at dksX1_years_8 15 rfl rfl)
theorem dX1_years_204 : decode cX1_years 204 = .ok (.aload_n 0, 1) := dk_42 (dk_at dksX1_years_8 17 rfl rfl)
theorem dX1_years_205 : decode cX1_years 205 = .ok (.aload_n 0, 1) := dk_42 (dk_at dksX1_years_8 18 rfl rfl)
theorem dX1_years_206 : decode cX1_years 206 = .ok (.getfield 55, 3) := dk_180 0 55 (dk_at dksX1_years_8 19 rfl rfl)
theorem dX1_years_209 : decode cX1_years 209 = .ok (.invokevirtual 298, 3) := dk_182 1 42 (dk_at dksX1_years_9 0 rfl rfl)
theorem dX1_years_212 : decode cX1_years 212 = .ok (.iadd, 1) := dk_96 (dk_at dksX1_years_9 3 rfl rfl)
theorem dX1_years_213 : decode cX1_years 213 = .ok (.istore 4, 2) := dk_54 4 (dk_at dksX1_years_9 4 rfl rfl)
theorem dX1_years_215 : decode cX1_years 215 = .ok (.iinc 6 1, 3) := dk_132 6 1 (dk_at dksX1_years_9 6 rfl rfl)
theorem dX1_years_218 : decode cX1_years 218 = .ok (.goto (-160), 3) := dk_167 255 96 (dk_at dksX1_years_9 9 rfl rfl)
theorem dX1_years_221 : decode cX1_years 221 = .ok (.iload_n 3, 1) := dk_29 (dk_at dksX1_years_9 12 rfl rfl)
theorem dX1_years_222 : decode cX1_years 222 = .ok (.ifCond .ne 8, 3) := dk_154 0 8 (dk_at dksX1_years_9 13 rfl rfl)
theorem dX1_years_225 : decode cX1_years 225 = .ok (.iload 4, 2) := dk_21 4 (dk_at dksX1_years_9 16 rfl rfl)
theorem dX1_years_227 : decode cX1_years 227 = .ok (.goto 23, 3) := dk_167 0 23 (dk_at dksX1_years_9 18 rfl rfl)
theorem dX1_years_230 : decode cX1_years 230 = .ok (.iload_n 3, 1) := dk_29 (dk_at dksX1_years_9 21 rfl rfl)
theorem dX1_years_231 : decode cX1_years 231 = .ok (.iconst 1, 1) := dk_4 (dk_at dksX1_years_9 22 rfl rfl)
theorem dX1_years_232 : decode cX1_years 232 = .ok (.if_icmp .ne 16, 3) := dk_160 0 16 (dk_at dksX1_years_10 0 rfl rfl)
theorem dX1_years_235 : decode cX1_years 235 = .ok (.aload_n 0, 1) := dk_42 (dk_at dksX1_years_10 3 rfl rfl)
theorem dX1_years_236 : decode cX1_years 236 = .ok (.getfield 55, 3) := dk_180 0 55 (dk_at dksX1_years_10 4 rfl rfl)
theorem dX1_years_239 : decode cX1_years 239 = .ok (.invokevirtual 191, 3) := dk_182 0 191 (dk_at dksX1_years_10 7 rfl rfl)
theorem dX1_years_242 : decode cX1_years 242 = .ok (.invokestatic 312, 3) := dk_184 1 56 (dk_at dksX1_years_10 10 rfl rfl)
theorem dX1_years_245 : decode cX1_years 245 = .ok (.goto 5, 3) := dk_167 0 5 (dk_at dksX1_years_10 13 rfl rfl)
theorem dX1_years_248 : decode cX1_years 248 = .ok (.iload 5, 2) := dk_21 5 (dk_at dksX1_years_10 16 rfl rfl)
theorem dX1_years_250 : decode cX1_years 250 = .ok (.ireturn, 1) := dk_172 (dk_at dksX1_years_10 18 rfl rfl)
abbrev cX1_draws : ByteArray := prog_1_method_66_code
def yX1_draws : MethodName := ⟨RX1, "draws", "(I)I"⟩
def dkwX1_draws_1 : List UInt8 := [20, 1, 147, 109, 27, 133, 113, 136, 172]
abbrev dktX1_draws_1 : List UInt8 := dkwX1_draws_1 ++ []
def dkwX1_draws_0 : List UInt8 := [42, 42, 180, 1, 137, 20, 1, 141, 105, 20, 1, 143, 97, 20, 1, 145, 113, 181, 1, 137, 42, 180, 1, 137]
abbrev dktX1_draws_0 : List UInt8 := dkwX1_draws_0 ++ dktX1_draws_1
theorem dksX1_draws_0 : cX1_draws.data.toList.drop 0 = dktX1_draws_0 := by decide +kernel
theorem dksX1_draws_1 : cX1_draws.data.toList.drop 24 = dktX1_draws_1 := dk_seg dksX1_draws_0 24 rfl rfl
theorem dX1_draws_0 : decode cX1_draws 0 = .ok (.aload_n 0, 1) := dk_42 (dk_at dksX1_draws_0 0 rfl rfl)
theorem dX1_draws_1 : decode cX1_draws 1 = .ok (.aload_n 0, 1) := dk_42 (dk_at dksX1_draws_0 1 rfl rfl)
theorem dX1_draws_2 : decode cX1_draws 2 = .ok (.getfield 393, 3) := dk_180 1 137 (dk_at dksX1_draws_0 2 rfl rfl)
theorem dX1_draws_5 : decode cX1_draws 5 = .ok (.ldc2_w 397, 3) := dk_20 1 141 (dk_at dksX1_draws_0 5 rfl rfl)
theorem dX1_draws_8 : decode cX1_draws 8 = .ok (.lmul, 1) := dk_105 (dk_at dksX1_draws_0 8 rfl rfl)
theorem dX1_draws_9 : decode cX1_draws 9 = .ok (.ldc2_w 399, 3) := dk_20 1 143 (dk_at dksX1_draws_0 9 rfl rfl)
theorem dX1_draws_12 : decode cX1_draws 12 = .ok (.ladd, 1) := dk_97 (dk_at dksX1_draws_0 12 rfl rfl)
theorem dX1_draws_13 : decode cX1_draws 13 = .ok (.ldc2_w 401, 3) := dk_20 1 145 (dk_at dksX1_draws_0 13 rfl rfl)
theorem dX1_draws_16 : decode cX1_draws 16 = .ok (.lrem, 1) := dk_113 (dk_at dksX1_draws_0 16 rfl rfl)
theorem dX1_draws_17 : decode cX1_draws 17 = .ok (.putfield 393, 3) := dk_181 1 137 (dk_at dksX1_draws_0 17 rfl rfl)
theorem dX1_draws_20 : decode cX1_draws 20 = .ok (.aload_n 0, 1) := dk_42 (dk_at dksX1_draws_0 20 rfl rfl)
theorem dX1_draws_21 : decode cX1_draws 21 = .ok (.getfield 393, 3) := dk_180 1 137 (dk_at dksX1_draws_0 21 rfl rfl)
theorem dX1_draws_24 : decode cX1_draws 24 = .ok (.ldc2_w 403, 3) := dk_20 1 147 (dk_at dksX1_draws_1 0 rfl rfl)
theorem dX1_draws_27 : decode cX1_draws 27 = .ok (.ldiv, 1) := dk_109 (dk_at dksX1_draws_1 3 rfl rfl)
theorem dX1_draws_28 : decode cX1_draws 28 = .ok (.iload_n 1, 1) := dk_27 (dk_at dksX1_draws_1 4 rfl rfl)
theorem dX1_draws_29 : decode cX1_draws 29 = .ok (.i2l, 1) := dk_133 (dk_at dksX1_draws_1 5 rfl rfl)
theorem dX1_draws_30 : decode cX1_draws 30 = .ok (.lrem, 1) := dk_113 (dk_at dksX1_draws_1 6 rfl rfl)
theorem dX1_draws_31 : decode cX1_draws 31 = .ok (.l2i, 1) := dk_136 (dk_at dksX1_draws_1 7 rfl rfl)
theorem dX1_draws_32 : decode cX1_draws 32 = .ok (.ireturn, 1) := dk_172 (dk_at dksX1_draws_1 8 rfl rfl)
abbrev cX1_sum : ByteArray := prog_1_method_67_code
def yX1_sum : MethodName := ⟨RX1, "sum", "([I)I"⟩
def dkwX1_sum_0 : List UInt8 := [3, 60, 3, 61, 28, 42, 190, 162, 0, 15, 27, 42, 28, 46, 96, 60, 132, 2, 1, 167, 255, 241, 27, 172]
abbrev dktX1_sum_0 : List UInt8 := dkwX1_sum_0 ++ []
theorem dksX1_sum_0 : cX1_sum.data.toList.drop 0 = dktX1_sum_0 := by decide +kernel
theorem dX1_sum_0 : decode cX1_sum 0 = .ok (.iconst 0, 1) := dk_3 (dk_at dksX1_sum_0 0 rfl rfl)
theorem dX1_sum_1 : decode cX1_sum 1 = .ok (.istore_n 1, 1) := dk_60 (dk_at dksX1_sum_0 1 rfl rfl)
theorem dX1_sum_2 : decode cX1_sum 2 = .ok (.iconst 0, 1) := dk_3 (dk_at dksX1_sum_0 2 rfl rfl)
theorem dX1_sum_3 : decode cX1_sum 3 = .ok (.istore_n 2, 1) := dk_61 (dk_at dksX1_sum_0 3 rfl rfl)
theorem dX1_sum_4 : decode cX1_sum 4 = .ok (.iload_n 2, 1) := dk_28 (dk_at dksX1_sum_0 4 rfl rfl)
theorem dX1_sum_5 : decode cX1_sum 5 = .ok (.aload_n 0, 1) := dk_42 (dk_at dksX1_sum_0 5 rfl rfl)
theorem dX1_sum_6 : decode cX1_sum 6 = .ok (.arraylength, 1) := dk_190 (dk_at dksX1_sum_0 6 rfl rfl)
theorem dX1_sum_7 : decode cX1_sum 7 = .ok (.if_icmp .ge 15, 3) := dk_162 0 15 (dk_at dksX1_sum_0 7 rfl rfl)
theorem dX1_sum_10 : decode cX1_sum 10 = .ok (.iload_n 1, 1) := dk_27 (dk_at dksX1_sum_0 10 rfl rfl)
theorem dX1_sum_11 : decode cX1_sum 11 = .ok (.aload_n 0, 1) := dk_42 (dk_at dksX1_sum_0 11 rfl rfl)
theorem dX1_sum_12 : decode cX1_sum 12 = .ok (.iload_n 2, 1) := dk_28 (dk_at dksX1_sum_0 12 rfl rfl)
theorem dX1_sum_13 : decode cX1_sum 13 = .ok (.iaload, 1) := dk_46 (dk_at dksX1_sum_0 13 rfl rfl)
theorem dX1_sum_14 : decode cX1_sum 14 = .ok (.iadd, 1) := dk_96 (dk_at dksX1_sum_0 14 rfl rfl)
theorem dX1_sum_15 : decode cX1_sum 15 = .ok (.istore_n 1, 1) := dk_60 (dk_at dksX1_sum_0 15 rfl rfl)
theorem dX1_sum_16 : decode cX1_sum 16 = .ok (.iinc 2 1, 3) := dk_132 2 1 (dk_at dksX1_sum_0 16 rfl rfl)
theorem dX1_sum_19 : decode cX1_sum 19 = .ok (.goto (-15), 3) := dk_167 255 241 (dk_at dksX1_sum_0 19 rfl rfl)
theorem dX1_sum_22 : decode cX1_sum 22 = .ok (.iload_n 1, 1) := dk_27 (dk_at dksX1_sum_0 22 rfl rfl)
theorem dX1_sum_23 : decode cX1_sum 23 = .ok (.ireturn, 1) := dk_172 (dk_at dksX1_sum_0 23 rfl rfl)
abbrev cX1_mark : ByteArray := prog_1_method_69_code
def yX1_mark : MethodName := ⟨RX1, "mark", "(IZ)Z"⟩
def dkwX1_mark_6 : List UInt8 := [184, 1, 67, 45, 42, 180, 0, 123, 181, 1, 162, 4, 172]
abbrev dktX1_mark_6 : List UInt8 := dkwX1_mark_6 ++ []
def dkwX1_mark_5 : List UInt8 := [182, 1, 20, 42, 180, 0, 81, 45, 180, 1, 157, 184, 1, 67, 42, 180, 0, 84, 45, 180, 1, 159]
abbrev dktX1_mark_5 : List UInt8 := dkwX1_mark_5 ++ dktX1_mark_6
def dkwX1_mark_4 : List UInt8 := [180, 1, 162, 181, 0, 123, 42, 3, 181, 0, 126, 167, 0, 44, 45, 180, 1, 156, 42, 180, 0, 51]
abbrev dktX1_mark_4 : List UInt8 := dkwX1_mark_4 ++ dktX1_mark_5
def dkwX1_mark_3 : List UInt8 := [180, 1, 157, 42, 180, 0, 81, 184, 1, 67, 45, 180, 1, 159, 42, 180, 0, 84, 184, 1, 67, 42, 45]
abbrev dktX1_mark_3 : List UInt8 := dkwX1_mark_3 ++ dktX1_mark_4
def dkwX1_mark_2 : List UInt8 := [180, 0, 97, 27, 50, 78, 28, 153, 0, 52, 42, 180, 0, 51, 45, 180, 1, 156, 182, 1, 20, 45]
abbrev dktX1_mark_2 : List UInt8 := dkwX1_mark_2 ++ dktX1_mark_3
def dkwX1_mark_1 : List UInt8 := [42, 180, 0, 97, 27, 50, 199, 0, 16, 42, 180, 0, 97, 27, 187, 0, 95, 89, 183, 1, 155, 83, 42]
abbrev dktX1_mark_1 : List UInt8 := dkwX1_mark_1 ++ dktX1_mark_2
def dkwX1_mark_0 : List UInt8 := [27, 3, 6, 184, 0, 153, 153, 0, 16, 28, 153, 0, 14, 42, 180, 0, 97, 27, 50, 199, 0, 5, 3, 172]
abbrev dktX1_mark_0 : List UInt8 := dkwX1_mark_0 ++ dktX1_mark_1
theorem dksX1_mark_0 : cX1_mark.data.toList.drop 0 = dktX1_mark_0 := by decide +kernel
theorem dksX1_mark_1 : cX1_mark.data.toList.drop 24 = dktX1_mark_1 := dk_seg dksX1_mark_0 24 rfl rfl
theorem dksX1_mark_2 : cX1_mark.data.toList.drop 47 = dktX1_mark_2 := dk_seg dksX1_mark_1 23 rfl rfl
theorem dksX1_mark_3 : cX1_mark.data.toList.drop 69 = dktX1_mark_3 := dk_seg dksX1_mark_2 22 rfl rfl
theorem dksX1_mark_4 : cX1_mark.data.toList.drop 92 = dktX1_mark_4 := dk_seg dksX1_mark_3 23 rfl rfl
theorem dksX1_mark_5 : cX1_mark.data.toList.drop 114 = dktX1_mark_5 := dk_seg dksX1_mark_4 22 rfl rfl
theorem dksX1_mark_6 : cX1_mark.data.toList.drop 136 = dktX1_mark_6 := dk_seg dksX1_mark_5 22 rfl rfl
theorem dX1_mark_0 : decode cX1_mark 0 = .ok (.iload_n 1, 1) := dk_27 (dk_at dksX1_mark_0 0 rfl rfl)
theorem dX1_mark_1 : decode cX1_mark 1 = .ok (.iconst 0, 1) := dk_3 (dk_at dksX1_mark_0 1 rfl rfl)
theorem dX1_mark_2 : decode cX1_mark 2 = .ok (.iconst 3, 1) := dk_6 (dk_at dksX1_mark_0 2 rfl rfl)
theorem dX1_mark_3 : decode cX1_mark 3 = .ok (.invokestatic 153, 3) := dk_184 0 153 (dk_at dksX1_mark_0 3 rfl rfl)
theorem dX1_mark_6 : decode cX1_mark 6 = .ok (.ifCond .eq 16, 3) := dk_153 0 16 (dk_at dksX1_mark_0 6 rfl rfl)
theorem dX1_mark_9 : decode cX1_mark 9 = .ok (.iload_n 2, 1) := dk_28 (dk_at dksX1_mark_0 9 rfl rfl)
theorem dX1_mark_10 : decode cX1_mark 10 = .ok (.ifCond .eq 14, 3) := dk_153 0 14 (dk_at dksX1_mark_0 10 rfl rfl)
theorem dX1_mark_13 : decode cX1_mark 13 = .ok (.aload_n 0, 1) := dk_42 (dk_at dksX1_mark_0 13 rfl rfl)
theorem dX1_mark_14 : decode cX1_mark 14 = .ok (.getfield 97, 3) := dk_180 0 97 (dk_at dksX1_mark_0 14 rfl rfl)
theorem dX1_mark_17 : decode cX1_mark 17 = .ok (.iload_n 1, 1) := dk_27 (dk_at dksX1_mark_0 17 rfl rfl)
theorem dX1_mark_18 : decode cX1_mark 18 = .ok (.aaload, 1) := dk_50 (dk_at dksX1_mark_0 18 rfl rfl)
theorem dX1_mark_19 : decode cX1_mark 19 = .ok (.ifnonnull 5, 3) := dk_199 0 5 (dk_at dksX1_mark_0 19 rfl rfl)
theorem dX1_mark_22 : decode cX1_mark 22 = .ok (.iconst 0, 1) := dk_3 (dk_at dksX1_mark_0 22 rfl rfl)
theorem dX1_mark_23 : decode cX1_mark 23 = .ok (.ireturn, 1) := dk_172 (dk_at dksX1_mark_0 23 rfl rfl)
theorem dX1_mark_24 : decode cX1_mark 24 = .ok (.aload_n 0, 1) := dk_42 (dk_at dksX1_mark_1 0 rfl rfl)
theorem dX1_mark_25 : decode cX1_mark 25 = .ok (.getfield 97, 3) := dk_180 0 97 (dk_at dksX1_mark_1 1 rfl rfl)
theorem dX1_mark_28 : decode cX1_mark 28 = .ok (.iload_n 1, 1) := dk_27 (dk_at dksX1_mark_1 4 rfl rfl)
theorem dX1_mark_29 : decode cX1_mark 29 = .ok (.aaload, 1) := dk_50 (dk_at dksX1_mark_1 5 rfl rfl)
theorem dX1_mark_30 : decode cX1_mark 30 = .ok (.ifnonnull 16, 3) := dk_199 0 16 (dk_at dksX1_mark_1 6 rfl rfl)
theorem dX1_mark_33 : decode cX1_mark 33 = .ok (.aload_n 0, 1) := dk_42 (dk_at dksX1_mark_1 9 rfl rfl)
theorem dX1_mark_34 : decode cX1_mark 34 = .ok (.getfield 97, 3) := dk_180 0 97 (dk_at dksX1_mark_1 10 rfl rfl)
theorem dX1_mark_37 : decode cX1_mark 37 = .ok (.iload_n 1, 1) := dk_27 (dk_at dksX1_mark_1 13 rfl rfl)
theorem dX1_mark_38 : decode cX1_mark 38 = .ok (.new 95, 3) := dk_187 0 95 (dk_at dksX1_mark_1 14 rfl rfl)
theorem dX1_mark_41 : decode cX1_mark 41 = .ok (.dup, 1) := dk_89 (dk_at dksX1_mark_1 17 rfl rfl)
theorem dX1_mark_42 : decode cX1_mark 42 = .ok (.invokespecial 411, 3) := dk_183 1 155 (dk_at dksX1_mark_1 18 rfl rfl)
theorem dX1_mark_45 : decode cX1_mark 45 = .ok (.aastore, 1) := dk_83 (dk_at dksX1_mark_1 21 rfl rfl)
theorem dX1_mark_46 : decode cX1_mark 46 = .ok (.aload_n 0, 1) := dk_42 (dk_at dksX1_mark_1 22 rfl rfl)
theorem dX1_mark_47 : decode cX1_mark 47 = .ok (.getfield 97, 3) := dk_180 0 97 (dk_at dksX1_mark_2 0 rfl rfl)
theorem dX1_mark_50 : decode cX1_mark 50 = .ok (.iload_n 1, 1) := dk_27 (dk_at dksX1_mark_2 3 rfl rfl)
theorem dX1_mark_51 : decode cX1_mark 51 = .ok (.aaload, 1) := dk_50 (dk_at dksX1_mark_2 4 rfl rfl)
theorem dX1_mark_52 : decode cX1_mark 52 = .ok (.astore_n 3, 1) := dk_78 (dk_at dksX1_mark_2 5 rfl rfl)
theorem dX1_mark_53 : decode cX1_mark 53 = .ok (.iload_n 2, 1) := dk_28 (dk_at dksX1_mark_2 6 rfl rfl)
theorem dX1_mark_54 : decode cX1_mark 54 = .ok (.ifCond .eq 52, 3) := dk_153 0 52 (dk_at dksX1_mark_2 7 rfl rfl)
theorem dX1_mark_57 : decode cX1_mark 57 = .ok (.aload_n 0, 1) := dk_42 (dk_at dksX1_mark_2 10 rfl rfl)
theorem dX1_mark_58 : decode cX1_mark 58 = .ok (.getfield 51, 3) := dk_180 0 51 (dk_at dksX1_mark_2 11 rfl rfl)
theorem dX1_mark_61 : decode cX1_mark 61 = .ok (.aload_n 3, 1) := dk_45 (dk_at dksX1_mark_2 14 rfl rfl)
theorem dX1_mark_62 : decode cX1_mark 62 = .ok (.getfield 412, 3) := dk_180 1 156 (dk_at dksX1_mark_2 15 rfl rfl)
theorem dX1_mark_65 : decode cX1_mark 65 = .ok (.invokevirtual 276, 3) := dk_182 1 20 (dk_at dksX1_mark_2 18 rfl rfl)
theorem dX1_mark_68 : decode cX1_mark 68 = .ok (.aload_n 3, 1) := dk_45 (dk_at dksX1_mark_2 21 rfl rfl)
theorem dX1_mark_69 : decode cX1_mark 69 = .ok (.getfield 413, 3) := dk_180 1 157 (dk_at dksX1_mark_3 0 rfl rfl)
theorem dX1_mark_72 : decode cX1_mark 72 = .ok (.aload_n 0, 1) := dk_42 (dk_at dksX1_mark_3 3 rfl rfl)
theorem dX1_mark_73 : decode cX1_mark 73 = .ok (.getfield 81, 3) := dk_180 0 81 (dk_at dksX1_mark_3 4 rfl rfl)
theorem dX1_mark_76 : decode cX1_mark 76 = .ok (.invokestatic 323, 3) := dk_184 1 67 (dk_at dksX1_mark_3 7 rfl rfl)
theorem dX1_mark_79 : decode cX1_mark 79 = .ok (.aload_n 3, 1) := dk_45 (dk_at dksX1_mark_3 10 rfl rfl)
theorem dX1_mark_80 : decode cX1_mark 80 = .ok (.getfield 415, 3) := dk_180 1 159 (dk_at dksX1_mark_3 11 rfl rfl)
theorem dX1_mark_83 : decode cX1_mark 83 = .ok (.aload_n 0, 1) := dk_42 (dk_at dksX1_mark_3 14 rfl rfl)
theorem dX1_mark_84 : decode cX1_mark 84 = .ok (.getfield 84, 3) := dk_180 0 84 (dk_at dksX1_mark_3 15 rfl rfl)
theorem dX1_mark_87 : decode cX1_mark 87 = .ok (.invokestatic 323, 3) := dk_184 1 67 (dk_at dksX1_mark_3 18 rfl rfl)
theorem dX1_mark_90 : decode cX1_mark 90 = .ok (.aload_n 0, 1) := dk_42 (dk_at dksX1_mark_3 21 rfl rfl)
theorem dX1_mark_91 : decode cX1_mark 91 = .ok (.aload_n 3, 1) := dk_45 (dk_at dksX1_mark_3 22 rfl rfl)
theorem dX1_mark_92 : decode cX1_mark 92 = .ok (.getfield 418, 3) := dk_180 1 162 (dk_at dksX1_mark_4 0 rfl rfl)
theorem dX1_mark_95 : decode cX1_mark 95 = .ok (.putfield 123, 3) := dk_181 0 123 (dk_at dksX1_mark_4 3 rfl rfl)
theorem dX1_mark_98 : decode cX1_mark 98 = .ok (.aload_n 0, 1) := dk_42 (dk_at dksX1_mark_4 6 rfl rfl)
theorem dX1_mark_99 : decode cX1_mark 99 = .ok (.iconst 0, 1) := dk_3 (dk_at dksX1_mark_4 7 rfl rfl)
theorem dX1_mark_100 : decode cX1_mark 100 = .ok (.putfield 126, 3) := dk_181 0 126 (dk_at dksX1_mark_4 8 rfl rfl)
theorem dX1_mark_103 : decode cX1_mark 103 = .ok (.goto 44, 3) := dk_167 0 44 (dk_at dksX1_mark_4 11 rfl rfl)
theorem dX1_mark_106 : decode cX1_mark 106 = .ok (.aload_n 3, 1) := dk_45 (dk_at dksX1_mark_4 14 rfl rfl)
theorem dX1_mark_107 : decode cX1_mark 107 = .ok (.getfield 412, 3) := dk_180 1 156 (dk_at dksX1_mark_4 15 rfl rfl)
theorem dX1_mark_110 : decode cX1_mark 110 = .ok (.aload_n 0, 1) := dk_42 (dk_at dksX1_mark_4 18 rfl rfl)
theorem dX1_mark_111 : decode cX1_mark 111 = .ok (.getfield 51, 3) := dk_180 0 51 (dk_at dksX1_mark_4 19 rfl rfl)
theorem dX1_mark_114 : decode cX1_mark 114 = .ok (.invokevirtual 276, 3) := dk_182 1 20 (dk_at dksX1_mark_5 0 rfl rfl)
theorem dX1_mark_117 : decode cX1_mark 117 = .ok (.aload_n 0, 1) := dk_42 (dk_at dksX1_mark_5 3 rfl rfl)
theorem dX1_mark_118 : decode cX1_mark 118 = .ok (.getfield 81, 3) := dk_180 0 81 (dk_at dksX1_mark_5 4 rfl rfl)
theorem dX1_mark_121 : decode cX1_mark 121 = .ok (.aload_n 3, 1) := dk_45 (dk_at dksX1_mark_5 7 rfl rfl)
theorem dX1_mark_122 : decode cX1_mark 122 = .ok (.getfield 413, 3) := dk_180 1 157 (dk_at dksX1_mark_5 8 rfl rfl)
theorem dX1_mark_125 : decode cX1_mark 125 = .ok (.invokestatic 323, 3) := dk_184 1 67 (dk_at dksX1_mark_5 11 rfl rfl)
theorem dX1_mark_128 : decode cX1_mark 128 = .ok (.aload_n 0, 1) := dk_42 (dk_at dksX1_mark_5 14 rfl rfl)
theorem dX1_mark_129 : decode cX1_mark 129 = .ok (.getfield 84, 3) := dk_180 0 84 (dk_at dksX1_mark_5 15 rfl rfl)
theorem dX1_mark_132 : decode cX1_mark 132 = .ok (.aload_n 3, 1) := dk_45 (dk_at dksX1_mark_5 18 rfl rfl)
theorem dX1_mark_133 : decode cX1_mark 133 = .ok (.getfield 415, 3) := dk_180 1 159 (dk_at dksX1_mark_5 19 rfl rfl)
theorem dX1_mark_136 : decode cX1_mark 136 = .ok (.invokestatic 323, 3) := dk_184 1 67 (dk_at dksX1_mark_6 0 rfl rfl)
theorem dX1_mark_139 : decode cX1_mark 139 = .ok (.aload_n 3, 1) := dk_45 (dk_at dksX1_mark_6 3 rfl rfl)
theorem dX1_mark_140 : decode cX1_mark 140 = .ok (.aload_n 0, 1) := dk_42 (dk_at dksX1_mark_6 4 rfl rfl)
theorem dX1_mark_141 : decode cX1_mark 141 = .ok (.getfield 123, 3) := dk_180 0 123 (dk_at dksX1_mark_6 5 rfl rfl)
theorem dX1_mark_144 : decode cX1_mark 144 = .ok (.putfield 418, 3) := dk_181 1 162 (dk_at dksX1_mark_6 8 rfl rfl)
theorem dX1_mark_147 : decode cX1_mark 147 = .ok (.iconst 1, 1) := dk_4 (dk_at dksX1_mark_6 11 rfl rfl)
theorem dX1_mark_148 : decode cX1_mark 148 = .ok (.ireturn, 1) := dk_172 (dk_at dksX1_mark_6 12 rfl rfl)
abbrev cX1_count : ByteArray := prog_1_method_70_code
def yX1_count : MethodName := ⟨RX1, "count", "(I)I"⟩
def dkwX1_count_6 : List UInt8 := [172, 42, 180, 0, 126, 172, 42, 180, 0, 105, 172, 2, 172]
abbrev dktX1_count_6 : List UInt8 := dkwX1_count_6 ++ []
def dkwX1_count_5 : List UInt8 := [182, 0, 210, 172, 42, 180, 0, 35, 182, 0, 196, 172, 42, 180, 0, 44, 182, 0, 136, 172, 42, 180, 0, 123]
abbrev dktX1_count_5 : List UInt8 := dkwX1_count_5 ++ dktX1_count_6
def dkwX1_count_4 : List UInt8 := [182, 0, 191, 184, 1, 56, 172, 42, 180, 0, 51, 180, 0, 249, 184, 1, 56, 172, 42, 180, 0, 35]
abbrev dktX1_count_4 : List UInt8 := dkwX1_count_4 ++ dktX1_count_5
def dkwX1_count_3 : List UInt8 := [180, 0, 51, 180, 0, 193, 172, 42, 180, 0, 51, 180, 0, 243, 184, 1, 152, 172, 42, 180, 0, 51]
abbrev dktX1_count_3 : List UInt8 := dkwX1_count_3 ++ dktX1_count_4
def dkwX1_count_2 : List UInt8 := [42, 182, 0, 151, 172, 42, 182, 0, 157, 172, 42, 180, 0, 35, 180, 1, 64, 182, 0, 136, 172, 42]
abbrev dktX1_count_2 : List UInt8 := dkwX1_count_2 ++ dktX1_count_3
def dkwX1_count_1 : List UInt8 := [170, 0, 0, 0, 0, 0, 168, 0, 0, 0, 0, 0, 0, 0, 12, 0, 0, 0, 67, 0, 0, 0, 72, 0, 0, 0, 77, 0, 0, 0, 88, 0, 0, 0, 96, 0, 0, 0, 107, 0, 0, 0, 118, 0, 0, 0, 129, 0, 0, 0, 137, 0, 0, 0, 145, 0, 0, 0, 153, 0, 0, 0, 158, 0, 0, 0, 163]
abbrev dktX1_count_1 : List UInt8 := dkwX1_count_1 ++ dktX1_count_2
def dkwX1_count_0 : List UInt8 := [27]
abbrev dktX1_count_0 : List UInt8 := dkwX1_count_0 ++ dktX1_count_1
theorem dksX1_count_0 : cX1_count.data.toList.drop 0 = dktX1_count_0 := by decide +kernel
theorem dksX1_count_1 : cX1_count.data.toList.drop 1 = dktX1_count_1 := dk_seg dksX1_count_0 1 rfl rfl
theorem dksX1_count_2 : cX1_count.data.toList.drop 68 = dktX1_count_2 := dk_seg dksX1_count_1 67 rfl rfl
theorem dksX1_count_3 : cX1_count.data.toList.drop 90 = dktX1_count_3 := dk_seg dksX1_count_2 22 rfl rfl
theorem dksX1_count_4 : cX1_count.data.toList.drop 112 = dktX1_count_4 := dk_seg dksX1_count_3 22 rfl rfl
theorem dksX1_count_5 : cX1_count.data.toList.drop 134 = dktX1_count_5 := dk_seg dksX1_count_4 22 rfl rfl
theorem dksX1_count_6 : cX1_count.data.toList.drop 158 = dktX1_count_6 := dk_seg dksX1_count_5 24 rfl rfl
theorem dX1_count_0 : decode cX1_count 0 = .ok (.iload_n 1, 1) := dk_27 (dk_at dksX1_count_0 0 rfl rfl)
theorem dX1_count_1 : decode cX1_count 1 = .ok (.tableswitch 168 0 12 #[67, 72, 77, 88, 96, 107, 118, 129, 137, 145, 153, 158, 163], 67) := by decide +kernel
theorem dX1_count_68 : decode cX1_count 68 = .ok (.aload_n 0, 1) := dk_42 (dk_at dksX1_count_2 0 rfl rfl)
theorem dX1_count_69 : decode cX1_count 69 = .ok (.invokevirtual 151, 3) := dk_182 0 151 (dk_at dksX1_count_2 1 rfl rfl)
theorem dX1_count_72 : decode cX1_count 72 = .ok (.ireturn, 1) := dk_172 (dk_at dksX1_count_2 4 rfl rfl)
theorem dX1_count_73 : decode cX1_count 73 = .ok (.aload_n 0, 1) := dk_42 (dk_at dksX1_count_2 5 rfl rfl)
theorem dX1_count_74 : decode cX1_count 74 = .ok (.invokevirtual 157, 3) := dk_182 0 157 (dk_at dksX1_count_2 6 rfl rfl)
theorem dX1_count_77 : decode cX1_count 77 = .ok (.ireturn, 1) := dk_172 (dk_at dksX1_count_2 9 rfl rfl)
theorem dX1_count_78 : decode cX1_count 78 = .ok (.aload_n 0, 1) := dk_42 (dk_at dksX1_count_2 10 rfl rfl)
theorem dX1_count_79 : decode cX1_count 79 = .ok (.getfield 35, 3) := dk_180 0 35 (dk_at dksX1_count_2 11 rfl rfl)
theorem dX1_count_82 : decode cX1_count 82 = .ok (.getfield 320, 3) := dk_180 1 64 (dk_at dksX1_count_2 14 rfl rfl)
theorem dX1_count_85 : decode cX1_count 85 = .ok (.invokevirtual 136, 3) := dk_182 0 136 (dk_at dksX1_count_2 17 rfl rfl)
theorem dX1_count_88 : decode cX1_count 88 = .ok (.ireturn, 1) := dk_172 (dk_at dksX1_count_2 20 rfl rfl)
theorem dX1_count_89 : decode cX1_count 89 = .ok (.aload_n 0, 1) := dk_42 (dk_at dksX1_count_2 21 rfl rfl)
theorem dX1_count_90 : decode cX1_count 90 = .ok (.getfield 51, 3) := dk_180 0 51 (dk_at dksX1_count_3 0 rfl rfl)
theorem dX1_count_93 : decode cX1_count 93 = .ok (.getfield 193, 3) := dk_180 0 193 (dk_at dksX1_count_3 3 rfl rfl)
theorem dX1_count_96 : decode cX1_count 96 = .ok (.ireturn, 1) := dk_172 (dk_at dksX1_count_3 6 rfl rfl)
theorem dX1_count_97 : decode cX1_count 97 = .ok (.aload_n 0, 1) := dk_42 (dk_at dksX1_count_3 7 rfl rfl)
theorem dX1_count_98 : decode cX1_count 98 = .ok (.getfield 51, 3) := dk_180 0 51 (dk_at dksX1_count_3 8 rfl rfl)
theorem dX1_count_101 : decode cX1_count 101 = .ok (.getfield 243, 3) := dk_180 0 243 (dk_at dksX1_count_3 11 rfl rfl)
theorem dX1_count_104 : decode cX1_count 104 = .ok (.invokestatic 408, 3) := dk_184 1 152 (dk_at dksX1_count_3 14 rfl rfl)
theorem dX1_count_107 : decode cX1_count 107 = .ok (.ireturn, 1) := dk_172 (dk_at dksX1_count_3 17 rfl rfl)
theorem dX1_count_108 : decode cX1_count 108 = .ok (.aload_n 0, 1) := dk_42 (dk_at dksX1_count_3 18 rfl rfl)
theorem dX1_count_109 : decode cX1_count 109 = .ok (.getfield 51, 3) := dk_180 0 51 (dk_at dksX1_count_3 19 rfl rfl)
theorem dX1_count_112 : decode cX1_count 112 = .ok (.invokevirtual 191, 3) := dk_182 0 191 (dk_at dksX1_count_4 0 rfl rfl)
theorem dX1_count_115 : decode cX1_count 115 = .ok (.invokestatic 312, 3) := dk_184 1 56 (dk_at dksX1_count_4 3 rfl rfl)
theorem dX1_count_118 : decode cX1_count 118 = .ok (.ireturn, 1) := dk_172 (dk_at dksX1_count_4 6 rfl rfl)
theorem dX1_count_119 : decode cX1_count 119 = .ok (.aload_n 0, 1) := dk_42 (dk_at dksX1_count_4 7 rfl rfl)
theorem dX1_count_120 : decode cX1_count 120 = .ok (.getfield 51, 3) := dk_180 0 51 (dk_at dksX1_count_4 8 rfl rfl)
theorem dX1_count_123 : decode cX1_count 123 = .ok (.getfield 249, 3) := dk_180 0 249 (dk_at dksX1_count_4 11 rfl rfl)
theorem dX1_count_126 : decode cX1_count 126 = .ok (.invokestatic 312, 3) := dk_184 1 56 (dk_at dksX1_count_4 14 rfl rfl)
theorem dX1_count_129 : decode cX1_count 129 = .ok (.ireturn, 1) := dk_172 (dk_at dksX1_count_4 17 rfl rfl)
theorem dX1_count_130 : decode cX1_count 130 = .ok (.aload_n 0, 1) := dk_42 (dk_at dksX1_count_4 18 rfl rfl)
theorem dX1_count_131 : decode cX1_count 131 = .ok (.getfield 35, 3) := dk_180 0 35 (dk_at dksX1_count_4 19 rfl rfl)
theorem dX1_count_134 : decode cX1_count 134 = .ok (.invokevirtual 210, 3) := dk_182 0 210 (dk_at dksX1_count_5 0 rfl rfl)
theorem dX1_count_137 : decode cX1_count 137 = .ok (.ireturn, 1) := dk_172 (dk_at dksX1_count_5 3 rfl rfl)
theorem dX1_count_138 : decode cX1_count 138 = .ok (.aload_n 0, 1) := dk_42 (dk_at dksX1_count_5 4 rfl rfl)
theorem dX1_count_139 : decode cX1_count 139 = .ok (.getfield 35, 3) := dk_180 0 35 (dk_at dksX1_count_5 5 rfl rfl)
theorem dX1_count_142 : decode cX1_count 142 = .ok (.invokevirtual 196, 3) := dk_182 0 196 (dk_at dksX1_count_5 8 rfl rfl)
theorem dX1_count_145 : decode cX1_count 145 = .ok (.ireturn, 1) := dk_172 (dk_at dksX1_count_5 11 rfl rfl)
theorem dX1_count_146 : decode cX1_count 146 = .ok (.aload_n 0, 1) := dk_42 (dk_at dksX1_count_5 12 rfl rfl)
theorem dX1_count_147 : decode cX1_count 147 = .ok (.getfield 44, 3) := dk_180 0 44 (dk_at dksX1_count_5 13 rfl rfl)
theorem dX1_count_150 : decode cX1_count 150 = .ok (.invokevirtual 136, 3) := dk_182 0 136 (dk_at dksX1_count_5 16 rfl rfl)
theorem dX1_count_153 : decode cX1_count 153 = .ok (.ireturn, 1) := dk_172 (dk_at dksX1_count_5 19 rfl rfl)
theorem dX1_count_154 : decode cX1_count 154 = .ok (.aload_n 0, 1) := dk_42 (dk_at dksX1_count_5 20 rfl rfl)
theorem dX1_count_155 : decode cX1_count 155 = .ok (.getfield 123, 3) := dk_180 0 123 (dk_at dksX1_count_5 21 rfl rfl)
theorem dX1_count_158 : decode cX1_count 158 = .ok (.ireturn, 1) := dk_172 (dk_at dksX1_count_6 0 rfl rfl)
theorem dX1_count_159 : decode cX1_count 159 = .ok (.aload_n 0, 1) := dk_42 (dk_at dksX1_count_6 1 rfl rfl)
theorem dX1_count_160 : decode cX1_count 160 = .ok (.getfield 126, 3) := dk_180 0 126 (dk_at dksX1_count_6 2 rfl rfl)
theorem dX1_count_163 : decode cX1_count 163 = .ok (.ireturn, 1) := dk_172 (dk_at dksX1_count_6 5 rfl rfl)
theorem dX1_count_164 : decode cX1_count 164 = .ok (.aload_n 0, 1) := dk_42 (dk_at dksX1_count_6 6 rfl rfl)
theorem dX1_count_165 : decode cX1_count 165 = .ok (.getfield 105, 3) := dk_180 0 105 (dk_at dksX1_count_6 7 rfl rfl)
theorem dX1_count_168 : decode cX1_count 168 = .ok (.ireturn, 1) := dk_172 (dk_at dksX1_count_6 10 rfl rfl)
theorem dX1_count_169 : decode cX1_count 169 = .ok (.iconst (-1), 1) := dk_2 (dk_at dksX1_count_6 11 rfl rfl)
theorem dX1_count_170 : decode cX1_count 170 = .ok (.ireturn, 1) := dk_172 (dk_at dksX1_count_6 12 rfl rfl)
abbrev cX1_lease : ByteArray := prog_1_method_55_code
def yX1_lease : MethodName := ⟨RX1, "lease", "(II)I"⟩
def dkwX1_lease_1 : List UInt8 := [167, 0, 4, 3, 184, 1, 109, 42, 27, 28, 182, 1, 113, 172]
abbrev dktX1_lease_1 : List UInt8 := dkwX1_lease_1 ++ []
def dkwX1_lease_0 : List UInt8 := [42, 27, 182, 1, 17, 153, 0, 20, 42, 28, 182, 1, 17, 153, 0, 12, 27, 28, 159, 0, 7, 4]
abbrev dktX1_lease_0 : List UInt8 := dkwX1_lease_0 ++ dktX1_lease_1
theorem dksX1_lease_0 : cX1_lease.data.toList.drop 0 = dktX1_lease_0 := by decide +kernel
theorem dksX1_lease_1 : cX1_lease.data.toList.drop 22 = dktX1_lease_1 := dk_seg dksX1_lease_0 22 rfl rfl
theorem dX1_lease_0 : decode cX1_lease 0 = .ok (.aload_n 0, 1) := dk_42 (dk_at dksX1_lease_0 0 rfl rfl)
theorem dX1_lease_1 : decode cX1_lease 1 = .ok (.iload_n 1, 1) := dk_27 (dk_at dksX1_lease_0 1 rfl rfl)
theorem dX1_lease_2 : decode cX1_lease 2 = .ok (.invokevirtual 273, 3) := dk_182 1 17 (dk_at dksX1_lease_0 2 rfl rfl)
theorem dX1_lease_5 : decode cX1_lease 5 = .ok (.ifCond .eq 20, 3) := dk_153 0 20 (dk_at dksX1_lease_0 5 rfl rfl)
theorem dX1_lease_8 : decode cX1_lease 8 = .ok (.aload_n 0, 1) := dk_42 (dk_at dksX1_lease_0 8 rfl rfl)
theorem dX1_lease_9 : decode cX1_lease 9 = .ok (.iload_n 2, 1) := dk_28 (dk_at dksX1_lease_0 9 rfl rfl)
theorem dX1_lease_10 : decode cX1_lease 10 = .ok (.invokevirtual 273, 3) := dk_182 1 17 (dk_at dksX1_lease_0 10 rfl rfl)
theorem dX1_lease_13 : decode cX1_lease 13 = .ok (.ifCond .eq 12, 3) := dk_153 0 12 (dk_at dksX1_lease_0 13 rfl rfl)
theorem dX1_lease_16 : decode cX1_lease 16 = .ok (.iload_n 1, 1) := dk_27 (dk_at dksX1_lease_0 16 rfl rfl)
theorem dX1_lease_17 : decode cX1_lease 17 = .ok (.iload_n 2, 1) := dk_28 (dk_at dksX1_lease_0 17 rfl rfl)
theorem dX1_lease_18 : decode cX1_lease 18 = .ok (.if_icmp .eq 7, 3) := dk_159 0 7 (dk_at dksX1_lease_0 18 rfl rfl)
theorem dX1_lease_21 : decode cX1_lease 21 = .ok (.iconst 1, 1) := dk_4 (dk_at dksX1_lease_0 21 rfl rfl)
theorem dX1_lease_22 : decode cX1_lease 22 = .ok (.goto 4, 3) := dk_167 0 4 (dk_at dksX1_lease_1 0 rfl rfl)
theorem dX1_lease_25 : decode cX1_lease 25 = .ok (.iconst 0, 1) := dk_3 (dk_at dksX1_lease_1 3 rfl rfl)
theorem dX1_lease_26 : decode cX1_lease 26 = .ok (.invokestatic 365, 3) := dk_184 1 109 (dk_at dksX1_lease_1 4 rfl rfl)
theorem dX1_lease_29 : decode cX1_lease 29 = .ok (.aload_n 0, 1) := dk_42 (dk_at dksX1_lease_1 7 rfl rfl)
theorem dX1_lease_30 : decode cX1_lease 30 = .ok (.iload_n 1, 1) := dk_27 (dk_at dksX1_lease_1 8 rfl rfl)
theorem dX1_lease_31 : decode cX1_lease 31 = .ok (.iload_n 2, 1) := dk_28 (dk_at dksX1_lease_1 9 rfl rfl)
theorem dX1_lease_32 : decode cX1_lease 32 = .ok (.invokevirtual 369, 3) := dk_182 1 113 (dk_at dksX1_lease_1 10 rfl rfl)
theorem dX1_lease_35 : decode cX1_lease 35 = .ok (.ireturn, 1) := dk_172 (dk_at dksX1_lease_1 13 rfl rfl)
abbrev cX1_need : ByteArray := prog_1_method_4_code
def yX1_need : MethodName := ⟨RX1, "need", "(Z)V"⟩
def dkwX1_need_0 : List UInt8 := [26, 154, 0, 11, 187, 0, 10, 89, 183, 0, 12, 191, 177]
abbrev dktX1_need_0 : List UInt8 := dkwX1_need_0 ++ []
theorem dksX1_need_0 : cX1_need.data.toList.drop 0 = dktX1_need_0 := by decide +kernel
theorem dX1_need_0 : decode cX1_need 0 = .ok (.iload_n 0, 1) := dk_26 (dk_at dksX1_need_0 0 rfl rfl)
theorem dX1_need_1 : decode cX1_need 1 = .ok (.ifCond .ne 11, 3) := dk_154 0 11 (dk_at dksX1_need_0 1 rfl rfl)
theorem dX1_need_4 : decode cX1_need 4 = .ok (.new 10, 3) := dk_187 0 10 (dk_at dksX1_need_0 4 rfl rfl)
theorem dX1_need_7 : decode cX1_need 7 = .ok (.dup, 1) := dk_89 (dk_at dksX1_need_0 7 rfl rfl)
theorem dX1_need_8 : decode cX1_need 8 = .ok (.invokespecial 12, 3) := dk_183 0 12 (dk_at dksX1_need_0 8 rfl rfl)
theorem dX1_need_11 : decode cX1_need 11 = .ok (.athrow, 1) := dk_191 (dk_at dksX1_need_0 11 rfl rfl)
theorem dX1_need_12 : decode cX1_need 12 = .ok (.return_, 1) := dk_177 (dk_at dksX1_need_0 12 rfl rfl)
abbrev cX1_saved : ByteArray := prog_1_method_54_code
def yX1_saved : MethodName := ⟨RX1, "saved", "(II)I"⟩
def dkwX1_saved_3 : List UInt8 := [180, 0, 199, 28, 46, 96, 29, 42, 27, 182, 0, 166, 182, 0, 234, 182, 0, 237, 100, 172]
abbrev dktX1_saved_3 : List UInt8 := dkwX1_saved_3 ++ []
def dkwX1_saved_2 : List UInt8 := [180, 0, 51, 28, 182, 0, 240, 96, 42, 42, 180, 0, 51, 180, 0, 199, 27, 46, 42, 180, 0, 51]
abbrev dktX1_saved_2 : List UInt8 := dkwX1_saved_2 ++ dktX1_saved_3
def dkwX1_saved_1 : List UInt8 := [28, 46, 182, 0, 179, 180, 0, 231, 184, 0, 1, 62, 42, 42, 180, 0, 51, 27, 182, 0, 240, 42, 42]
abbrev dktX1_saved_1 : List UInt8 := dkwX1_saved_1 ++ dktX1_saved_2
def dkwX1_saved_0 : List UInt8 := [42, 42, 180, 0, 51, 180, 0, 176, 27, 46, 182, 0, 179, 180, 0, 231, 42, 42, 180, 0, 51, 180, 0, 176]
abbrev dktX1_saved_0 : List UInt8 := dkwX1_saved_0 ++ dktX1_saved_1
theorem dksX1_saved_0 : cX1_saved.data.toList.drop 0 = dktX1_saved_0 := by decide +kernel
theorem dksX1_saved_1 : cX1_saved.data.toList.drop 24 = dktX1_saved_1 := dk_seg dksX1_saved_0 24 rfl rfl
theorem dksX1_saved_2 : cX1_saved.data.toList.drop 47 = dktX1_saved_2 := dk_seg dksX1_saved_1 23 rfl rfl
theorem dksX1_saved_3 : cX1_saved.data.toList.drop 69 = dktX1_saved_3 := dk_seg dksX1_saved_2 22 rfl rfl
theorem dX1_saved_0 : decode cX1_saved 0 = .ok (.aload_n 0, 1) := dk_42 (dk_at dksX1_saved_0 0 rfl rfl)
theorem dX1_saved_1 : decode cX1_saved 1 = .ok (.aload_n 0, 1) := dk_42 (dk_at dksX1_saved_0 1 rfl rfl)
theorem dX1_saved_2 : decode cX1_saved 2 = .ok (.getfield 51, 3) := dk_180 0 51 (dk_at dksX1_saved_0 2 rfl rfl)
theorem dX1_saved_5 : decode cX1_saved 5 = .ok (.getfield 176, 3) := dk_180 0 176 (dk_at dksX1_saved_0 5 rfl rfl)
theorem dX1_saved_8 : decode cX1_saved 8 = .ok (.iload_n 1, 1) := dk_27 (dk_at dksX1_saved_0 8 rfl rfl)
theorem dX1_saved_9 : decode cX1_saved 9 = .ok (.iaload, 1) := dk_46 (dk_at dksX1_saved_0 9 rfl rfl)
theorem dX1_saved_10 : decode cX1_saved 10 = .ok (.invokevirtual 179, 3) := dk_182 0 179 (dk_at dksX1_saved_0 10 rfl rfl)
theorem dX1_saved_13 : decode cX1_saved 13 = .ok (.getfield 231, 3) := dk_180 0 231 (dk_at dksX1_saved_0 13 rfl rfl)
theorem dX1_saved_16 : decode cX1_saved 16 = .ok (.aload_n 0, 1) := dk_42 (dk_at dksX1_saved_0 16 rfl rfl)
theorem dX1_saved_17 : decode cX1_saved 17 = .ok (.aload_n 0, 1) := dk_42 (dk_at dksX1_saved_0 17 rfl rfl)
theorem dX1_saved_18 : decode cX1_saved 18 = .ok (.getfield 51, 3) := dk_180 0 51 (dk_at dksX1_saved_0 18 rfl rfl)
theorem dX1_saved_21 : decode cX1_saved 21 = .ok (.getfield 176, 3) := dk_180 0 176 (dk_at dksX1_saved_0 21 rfl rfl)
theorem dX1_saved_24 : decode cX1_saved 24 = .ok (.iload_n 2, 1) := dk_28 (dk_at dksX1_saved_1 0 rfl rfl)
theorem dX1_saved_25 : decode cX1_saved 25 = .ok (.iaload, 1) := dk_46 (dk_at dksX1_saved_1 1 rfl rfl)
theorem dX1_saved_26 : decode cX1_saved 26 = .ok (.invokevirtual 179, 3) := dk_182 0 179 (dk_at dksX1_saved_1 2 rfl rfl)
theorem dX1_saved_29 : decode cX1_saved 29 = .ok (.getfield 231, 3) := dk_180 0 231 (dk_at dksX1_saved_1 5 rfl rfl)
theorem dX1_saved_32 : decode cX1_saved 32 = .ok (.invokestatic 1, 3) := dk_184 0 1 (dk_at dksX1_saved_1 8 rfl rfl)
theorem dX1_saved_35 : decode cX1_saved 35 = .ok (.istore_n 3, 1) := dk_62 (dk_at dksX1_saved_1 11 rfl rfl)
theorem dX1_saved_36 : decode cX1_saved 36 = .ok (.aload_n 0, 1) := dk_42 (dk_at dksX1_saved_1 12 rfl rfl)
theorem dX1_saved_37 : decode cX1_saved 37 = .ok (.aload_n 0, 1) := dk_42 (dk_at dksX1_saved_1 13 rfl rfl)
theorem dX1_saved_38 : decode cX1_saved 38 = .ok (.getfield 51, 3) := dk_180 0 51 (dk_at dksX1_saved_1 14 rfl rfl)
theorem dX1_saved_41 : decode cX1_saved 41 = .ok (.iload_n 1, 1) := dk_27 (dk_at dksX1_saved_1 17 rfl rfl)
theorem dX1_saved_42 : decode cX1_saved 42 = .ok (.invokevirtual 240, 3) := dk_182 0 240 (dk_at dksX1_saved_1 18 rfl rfl)
theorem dX1_saved_45 : decode cX1_saved 45 = .ok (.aload_n 0, 1) := dk_42 (dk_at dksX1_saved_1 21 rfl rfl)
theorem dX1_saved_46 : decode cX1_saved 46 = .ok (.aload_n 0, 1) := dk_42 (dk_at dksX1_saved_1 22 rfl rfl)
theorem dX1_saved_47 : decode cX1_saved 47 = .ok (.getfield 51, 3) := dk_180 0 51 (dk_at dksX1_saved_2 0 rfl rfl)
theorem dX1_saved_50 : decode cX1_saved 50 = .ok (.iload_n 2, 1) := dk_28 (dk_at dksX1_saved_2 3 rfl rfl)
theorem dX1_saved_51 : decode cX1_saved 51 = .ok (.invokevirtual 240, 3) := dk_182 0 240 (dk_at dksX1_saved_2 4 rfl rfl)
theorem dX1_saved_54 : decode cX1_saved 54 = .ok (.iadd, 1) := dk_96 (dk_at dksX1_saved_2 7 rfl rfl)
theorem dX1_saved_55 : decode cX1_saved 55 = .ok (.aload_n 0, 1) := dk_42 (dk_at dksX1_saved_2 8 rfl rfl)
theorem dX1_saved_56 : decode cX1_saved 56 = .ok (.aload_n 0, 1) := dk_42 (dk_at dksX1_saved_2 9 rfl rfl)
theorem dX1_saved_57 : decode cX1_saved 57 = .ok (.getfield 51, 3) := dk_180 0 51 (dk_at dksX1_saved_2 10 rfl rfl)
theorem dX1_saved_60 : decode cX1_saved 60 = .ok (.getfield 199, 3) := dk_180 0 199 (dk_at dksX1_saved_2 13 rfl rfl)
theorem dX1_saved_63 : decode cX1_saved 63 = .ok (.iload_n 1, 1) := dk_27 (dk_at dksX1_saved_2 16 rfl rfl)
theorem dX1_saved_64 : decode cX1_saved 64 = .ok (.iaload, 1) := dk_46 (dk_at dksX1_saved_2 17 rfl rfl)
theorem dX1_saved_65 : decode cX1_saved 65 = .ok (.aload_n 0, 1) := dk_42 (dk_at dksX1_saved_2 18 rfl rfl)
theorem dX1_saved_66 : decode cX1_saved 66 = .ok (.getfield 51, 3) := dk_180 0 51 (dk_at dksX1_saved_2 19 rfl rfl)
theorem dX1_saved_69 : decode cX1_saved 69 = .ok (.getfield 199, 3) := dk_180 0 199 (dk_at dksX1_saved_3 0 rfl rfl)
theorem dX1_saved_72 : decode cX1_saved 72 = .ok (.iload_n 2, 1) := dk_28 (dk_at dksX1_saved_3 3 rfl rfl)
theorem dX1_saved_73 : decode cX1_saved 73 = .ok (.iaload, 1) := dk_46 (dk_at dksX1_saved_3 4 rfl rfl)
theorem dX1_saved_74 : decode cX1_saved 74 = .ok (.iadd, 1) := dk_96 (dk_at dksX1_saved_3 5 rfl rfl)
theorem dX1_saved_75 : decode cX1_saved 75 = .ok (.iload_n 3, 1) := dk_29 (dk_at dksX1_saved_3 6 rfl rfl)
theorem dX1_saved_76 : decode cX1_saved 76 = .ok (.aload_n 0, 1) := dk_42 (dk_at dksX1_saved_3 7 rfl rfl)
theorem dX1_saved_77 : decode cX1_saved 77 = .ok (.iload_n 1, 1) := dk_27 (dk_at dksX1_saved_3 8 rfl rfl)
theorem dX1_saved_78 : decode cX1_saved 78 = .ok (.invokevirtual 166, 3) := dk_182 0 166 (dk_at dksX1_saved_3 9 rfl rfl)
theorem dX1_saved_81 : decode cX1_saved 81 = .ok (.invokevirtual 234, 3) := dk_182 0 234 (dk_at dksX1_saved_3 12 rfl rfl)
theorem dX1_saved_84 : decode cX1_saved 84 = .ok (.invokevirtual 237, 3) := dk_182 0 237 (dk_at dksX1_saved_3 15 rfl rfl)
theorem dX1_saved_87 : decode cX1_saved 87 = .ok (.isub, 1) := dk_100 (dk_at dksX1_saved_3 18 rfl rfl)
theorem dX1_saved_88 : decode cX1_saved 88 = .ok (.ireturn, 1) := dk_172 (dk_at dksX1_saved_3 19 rfl rfl)
abbrev cX1_share : ByteArray := prog_1_method_56_code
def yX1_share : MethodName := ⟨RX1, "share", "(II)I"⟩
def dkwX1_share_2 : List UInt8 := [100, 172]
abbrev dktX1_share_2 : List UInt8 := dkwX1_share_2 ++ []
def dkwX1_share_1 : List UInt8 := [167, 0, 4, 3, 184, 1, 109, 42, 42, 180, 0, 51, 27, 182, 0, 240, 42, 27, 28, 182, 1, 113, 5, 108]
abbrev dktX1_share_1 : List UInt8 := dkwX1_share_1 ++ dktX1_share_2
def dkwX1_share_0 : List UInt8 := [42, 27, 182, 1, 17, 153, 0, 20, 42, 28, 182, 1, 17, 153, 0, 12, 27, 28, 159, 0, 7, 4]
abbrev dktX1_share_0 : List UInt8 := dkwX1_share_0 ++ dktX1_share_1
theorem dksX1_share_0 : cX1_share.data.toList.drop 0 = dktX1_share_0 := by decide +kernel
theorem dksX1_share_1 : cX1_share.data.toList.drop 22 = dktX1_share_1 := dk_seg dksX1_share_0 22 rfl rfl
theorem dksX1_share_2 : cX1_share.data.toList.drop 46 = dktX1_share_2 := dk_seg dksX1_share_1 24 rfl rfl
theorem dX1_share_0 : decode cX1_share 0 = .ok (.aload_n 0, 1) := dk_42 (dk_at dksX1_share_0 0 rfl rfl)
theorem dX1_share_1 : decode cX1_share 1 = .ok (.iload_n 1, 1) := dk_27 (dk_at dksX1_share_0 1 rfl rfl)
theorem dX1_share_2 : decode cX1_share 2 = .ok (.invokevirtual 273, 3) := dk_182 1 17 (dk_at dksX1_share_0 2 rfl rfl)
theorem dX1_share_5 : decode cX1_share 5 = .ok (.ifCond .eq 20, 3) := dk_153 0 20 (dk_at dksX1_share_0 5 rfl rfl)
theorem dX1_share_8 : decode cX1_share 8 = .ok (.aload_n 0, 1) := dk_42 (dk_at dksX1_share_0 8 rfl rfl)
theorem dX1_share_9 : decode cX1_share 9 = .ok (.iload_n 2, 1) := dk_28 (dk_at dksX1_share_0 9 rfl rfl)
theorem dX1_share_10 : decode cX1_share 10 = .ok (.invokevirtual 273, 3) := dk_182 1 17 (dk_at dksX1_share_0 10 rfl rfl)
theorem dX1_share_13 : decode cX1_share 13 = .ok (.ifCond .eq 12, 3) := dk_153 0 12 (dk_at dksX1_share_0 13 rfl rfl)
theorem dX1_share_16 : decode cX1_share 16 = .ok (.iload_n 1, 1) := dk_27 (dk_at dksX1_share_0 16 rfl rfl)
theorem dX1_share_17 : decode cX1_share 17 = .ok (.iload_n 2, 1) := dk_28 (dk_at dksX1_share_0 17 rfl rfl)
theorem dX1_share_18 : decode cX1_share 18 = .ok (.if_icmp .eq 7, 3) := dk_159 0 7 (dk_at dksX1_share_0 18 rfl rfl)
theorem dX1_share_21 : decode cX1_share 21 = .ok (.iconst 1, 1) := dk_4 (dk_at dksX1_share_0 21 rfl rfl)
theorem dX1_share_22 : decode cX1_share 22 = .ok (.goto 4, 3) := dk_167 0 4 (dk_at dksX1_share_1 0 rfl rfl)
theorem dX1_share_25 : decode cX1_share 25 = .ok (.iconst 0, 1) := dk_3 (dk_at dksX1_share_1 3 rfl rfl)
theorem dX1_share_26 : decode cX1_share 26 = .ok (.invokestatic 365, 3) := dk_184 1 109 (dk_at dksX1_share_1 4 rfl rfl)
theorem dX1_share_29 : decode cX1_share 29 = .ok (.aload_n 0, 1) := dk_42 (dk_at dksX1_share_1 7 rfl rfl)
theorem dX1_share_30 : decode cX1_share 30 = .ok (.aload_n 0, 1) := dk_42 (dk_at dksX1_share_1 8 rfl rfl)
theorem dX1_share_31 : decode cX1_share 31 = .ok (.getfield 51, 3) := dk_180 0 51 (dk_at dksX1_share_1 9 rfl rfl)
theorem dX1_share_34 : decode cX1_share 34 = .ok (.iload_n 1, 1) := dk_27 (dk_at dksX1_share_1 12 rfl rfl)
theorem dX1_share_35 : decode cX1_share 35 = .ok (.invokevirtual 240, 3) := dk_182 0 240 (dk_at dksX1_share_1 13 rfl rfl)
theorem dX1_share_38 : decode cX1_share 38 = .ok (.aload_n 0, 1) := dk_42 (dk_at dksX1_share_1 16 rfl rfl)
theorem dX1_share_39 : decode cX1_share 39 = .ok (.iload_n 1, 1) := dk_27 (dk_at dksX1_share_1 17 rfl rfl)
theorem dX1_share_40 : decode cX1_share 40 = .ok (.iload_n 2, 1) := dk_28 (dk_at dksX1_share_1 18 rfl rfl)
theorem dX1_share_41 : decode cX1_share 41 = .ok (.invokevirtual 369, 3) := dk_182 1 113 (dk_at dksX1_share_1 19 rfl rfl)
theorem dX1_share_44 : decode cX1_share 44 = .ok (.iconst 2, 1) := dk_5 (dk_at dksX1_share_1 22 rfl rfl)
theorem dX1_share_45 : decode cX1_share 45 = .ok (.idiv, 1) := dk_108 (dk_at dksX1_share_1 23 rfl rfl)
theorem dX1_share_46 : decode cX1_share 46 = .ok (.isub, 1) := dk_100 (dk_at dksX1_share_2 0 rfl rfl)
theorem dX1_share_47 : decode cX1_share 47 = .ok (.ireturn, 1) := dk_172 (dk_at dksX1_share_2 1 rfl rfl)
theorem q135 : (Jvm.Cond.initialized "PulseRent") ∈ lw_all := lw_g (lw_at lw_m1 1 rfl) rfl
theorem q181 : (Jvm.Cond.instantiable "PulseRent" (25 : Nat)) ∈ lw_all := lw_g (lw_at lw_m1 47 rfl) rfl
theorem q183 : (Jvm.Cond.instanceMethod ({ cls := "PulseRent", name := "<init>", desc := "()V" } : Jvm.MethodName)) ∈ lw_all := lw_g (lw_at lw_m1 49 rfl) rfl
theorem q184 : (Jvm.Cond.code ({ cls := "PulseRent", name := "<init>", desc := "()V" } : Jvm.MethodName) prog_1_method_6_code (1 : Nat) (Option.none : Option Jvm.ClassFile.FieldType)) ∈ lw_all := lw_g (lw_at lw_m1 50 rfl) rfl
theorem q185 : (Jvm.Cond.methodLink "PulseRent" (16 : Nat) ({ cls := "java/lang/Object", name := "<init>", desc := "()V" } : Jvm.MethodName)) ∈ lw_all := lw_g (lw_at lw_m1 51 rfl) rfl
theorem q188 : (Jvm.Cond.classLink "PulseRent" (25 : Nat) "PulseRent$Reader") ∈ lw_all := lw_g (lw_at lw_m1 54 rfl) rfl
theorem q190 : (Jvm.Cond.methodLinkNest "PulseRent" (27 : Nat) ({ cls := "PulseRent$Reader", name := "<init>", desc := "()V" } : Jvm.MethodName) "PulseRent") ∈ lw_tbl := lw_at lw_m1 56 rfl
theorem q223 : (Jvm.Cond.classLink "PulseRent" (32 : Nat) "PulseRent$House") ∈ lw_all := lw_g (lw_at lw_m1 89 rfl) rfl
theorem q225 : (Jvm.Cond.methodLinkNest "PulseRent" (34 : Nat) ({ cls := "PulseRent$House", name := "<init>", desc := "()V" } : Jvm.MethodName) "PulseRent") ∈ lw_tbl := lw_at lw_m1 91 rfl
theorem q258 : (Jvm.Cond.fieldLinkNest "PulseRent" (133 : Nat) "PulseRent$House" "rooms" "Ljava/util/ArrayList;" "PulseRent") ∈ lw_tbl := lw_at lw_m1 124 rfl
theorem q262 : (Jvm.Cond.fieldLinkNest "PulseRent" (146 : Nat) "PulseRent$House" "tenants" "Ljava/util/ArrayList;" "PulseRent") ∈ lw_tbl := lw_at lw_m1 128 rfl
theorem q266 : (Jvm.Cond.fieldLinkNest "PulseRent" (320 : Nat) "PulseRent$House" "errands" "Ljava/util/ArrayList;" "PulseRent") ∈ lw_tbl := lw_at lw_m1 132 rfl
theorem q272 : (Jvm.Cond.fieldLinkNest "PulseRent" (292 : Nat) "PulseRent$House" "lasts" "I" "PulseRent") ∈ lw_tbl := lw_at lw_m1 138 rfl
theorem q276 : (Jvm.Cond.fieldLinkNest "PulseRent" (217 : Nat) "PulseRent$House" "due" "LPulseRent$Expression;" "PulseRent") ∈ lw_tbl := lw_at lw_m1 142 rfl
theorem q278 : (Jvm.Cond.fieldLinkNest "PulseRent" (342 : Nat) "PulseRent$House" "wish" "LPulseRent$Expression;" "PulseRent") ∈ lw_tbl := lw_at lw_m1 144 rfl
theorem q296 : (Jvm.Cond.classLink "PulseRent" (39 : Nat) "java/util/ArrayList") ∈ lw_all := lw_g (lw_at lw_m1 162 rfl) rfl
theorem q297 : (Jvm.Cond.methodLink "PulseRent" (41 : Nat) ({ cls := "java/util/ArrayList", name := "<init>", desc := "(I)V" } : Jvm.MethodName)) ∈ lw_all := lw_g (lw_at lw_m1 163 rfl) rfl
theorem q298 : (Jvm.Cond.classLink "PulseRent" (48 : Nat) "PulseRent$State") ∈ lw_all := lw_g (lw_at lw_m1 164 rfl) rfl
theorem q300 : (Jvm.Cond.methodLinkNest "PulseRent" (50 : Nat) ({ cls := "PulseRent$State", name := "<init>", desc := "()V" } : Jvm.MethodName) "PulseRent") ∈ lw_tbl := lw_at lw_m1 166 rfl
theorem q306 : (Jvm.Cond.fieldLinkNest "PulseRent" (176 : Nat) "PulseRent$State" "room" "[I" "PulseRent") ∈ lw_tbl := lw_at lw_m1 172 rfl
theorem q308 : (Jvm.Cond.fieldLinkNest "PulseRent" (173 : Nat) "PulseRent$State" "stirred" "[I" "PulseRent") ∈ lw_tbl := lw_at lw_m1 174 rfl
theorem q311 : (Jvm.Cond.fieldLinkNest "PulseRent" (185 : Nat) "PulseRent$State" "coffee" "[I" "PulseRent") ∈ lw_tbl := lw_at lw_m1 177 rfl
theorem q313 : (Jvm.Cond.fieldLinkNest "PulseRent" (270 : Nat) "PulseRent$State" "habit" "[I" "PulseRent") ∈ lw_tbl := lw_at lw_m1 179 rfl
theorem q315 : (Jvm.Cond.fieldLinkNest "PulseRent" (199 : Nat) "PulseRent$State" "counted" "[I" "PulseRent") ∈ lw_tbl := lw_at lw_m1 181 rfl
theorem q317 : (Jvm.Cond.fieldLinkNest "PulseRent" (243 : Nat) "PulseRent$State" "coins" "[I" "PulseRent") ∈ lw_tbl := lw_at lw_m1 183 rfl
theorem q319 : (Jvm.Cond.fieldLinkNest "PulseRent" (193 : Nat) "PulseRent$State" "minute" "I" "PulseRent") ∈ lw_tbl := lw_at lw_m1 185 rfl
theorem q321 : (Jvm.Cond.fieldLinkNest "PulseRent" (249 : Nat) "PulseRent$State" "evicted" "I" "PulseRent") ∈ lw_tbl := lw_at lw_m1 187 rfl
theorem q341 : (Jvm.Cond.classLink "PulseRent" (90 : Nat) "[[I") ∈ lw_all := lw_g (lw_at lw_m1 207 rfl) rfl
theorem q343 : (Jvm.Cond.classLink "PulseRent" (95 : Nat) "PulseRent$Mark") ∈ lw_all := lw_g (lw_at lw_m1 209 rfl) rfl
theorem q345 : (Jvm.Cond.methodLink "PulseRent" (101 : Nat) ({ cls := "PulseRent$State", name := "begin", desc := "(LPulseRent$House;)V" } : Jvm.MethodName)) ∈ lw_all := lw_g (lw_at lw_m1 211 rfl) rfl
theorem q368 : (Jvm.Cond.fieldLink "PulseRent" (21 : Nat) "PulseRent" "tape" "[B") ∈ lw_all := lw_g (lw_at lw_m1 234 rfl) rfl
theorem q369 : (Jvm.Cond.fieldLink "PulseRent" (28 : Nat) "PulseRent" "reader" "LPulseRent$Reader;") ∈ lw_all := lw_g (lw_at lw_m1 235 rfl) rfl
theorem q371 : (Jvm.Cond.fieldLink "PulseRent" (35 : Nat) "PulseRent" "house" "LPulseRent$House;") ∈ lw_all := lw_g (lw_at lw_m1 237 rfl) rfl
theorem q372 : (Jvm.Cond.fieldLink "PulseRent" (44 : Nat) "PulseRent" "lines" "Ljava/util/ArrayList;") ∈ lw_all := lw_g (lw_at lw_m1 238 rfl) rfl
theorem q373 : (Jvm.Cond.fieldLink "PulseRent" (51 : Nat) "PulseRent" "state" "LPulseRent$State;") ∈ lw_all := lw_g (lw_at lw_m1 239 rfl) rfl
theorem q374 : (Jvm.Cond.fieldLink "PulseRent" (55 : Nat) "PulseRent" "trial" "LPulseRent$State;") ∈ lw_all := lw_g (lw_at lw_m2 0 rfl) rfl
theorem q375 : (Jvm.Cond.fieldLink "PulseRent" (58 : Nat) "PulseRent" "facts" "[I") ∈ lw_all := lw_g (lw_at lw_m2 1 rfl) rfl
theorem q376 : (Jvm.Cond.fieldLink "PulseRent" (105 : Nat) "PulseRent" "taped" "I") ∈ lw_all := lw_g (lw_at lw_m2 2 rfl) rfl
theorem q377 : (Jvm.Cond.fieldLink "PulseRent" (62 : Nat) "PulseRent" "undone" "[LPulseRent$State;") ∈ lw_all := lw_g (lw_at lw_m2 3 rfl) rfl
theorem q378 : (Jvm.Cond.fieldLink "PulseRent" (126 : Nat) "PulseRent" "done" "I") ∈ lw_all := lw_g (lw_at lw_m2 4 rfl) rfl
theorem q379 : (Jvm.Cond.fieldLink "PulseRent" (66 : Nat) "PulseRent" "order" "[I") ∈ lw_all := lw_g (lw_at lw_m2 5 rfl) rfl
theorem q380 : (Jvm.Cond.fieldLink "PulseRent" (69 : Nat) "PulseRent" "bestOrder" "[I") ∈ lw_all := lw_g (lw_at lw_m2 6 rfl) rfl
theorem q381 : (Jvm.Cond.fieldLink "PulseRent" (317 : Nat) "PulseRent" "bestBeats" "I") ∈ lw_all := lw_g (lw_at lw_m2 7 rfl) rfl
theorem q382 : (Jvm.Cond.fieldLink "PulseRent" (72 : Nat) "PulseRent" "asked" "[I") ∈ lw_all := lw_g (lw_at lw_m2 8 rfl) rfl
theorem q383 : (Jvm.Cond.fieldLink "PulseRent" (75 : Nat) "PulseRent" "keeper" "[I") ∈ lw_all := lw_g (lw_at lw_m2 9 rfl) rfl
theorem q384 : (Jvm.Cond.fieldLink "PulseRent" (78 : Nat) "PulseRent" "matched" "[I") ∈ lw_all := lw_g (lw_at lw_m2 10 rfl) rfl
theorem q385 : (Jvm.Cond.fieldLink "PulseRent" (81 : Nat) "PulseRent" "sampleMinute" "[I") ∈ lw_all := lw_g (lw_at lw_m2 11 rfl) rfl
theorem q386 : (Jvm.Cond.fieldLink "PulseRent" (84 : Nat) "PulseRent" "sampleBeats" "[I") ∈ lw_all := lw_g (lw_at lw_m2 12 rfl) rfl
theorem q387 : (Jvm.Cond.fieldLink "PulseRent" (123 : Nat) "PulseRent" "samples" "I") ∈ lw_all := lw_g (lw_at lw_m2 13 rfl) rfl
theorem q388 : (Jvm.Cond.fieldLink "PulseRent" (87 : Nat) "PulseRent" "beatsIn" "[I") ∈ lw_all := lw_g (lw_at lw_m2 14 rfl) rfl
theorem q389 : (Jvm.Cond.fieldLink "PulseRent" (92 : Nat) "PulseRent" "alike" "[[I") ∈ lw_all := lw_g (lw_at lw_m2 15 rfl) rfl
theorem q390 : (Jvm.Cond.fieldLink "PulseRent" (375 : Nat) "PulseRent" "fitDays" "I") ∈ lw_all := lw_g (lw_at lw_m2 16 rfl) rfl
theorem q391 : (Jvm.Cond.fieldLink "PulseRent" (378 : Nat) "PulseRent" "firstDay" "I") ∈ lw_all := lw_g (lw_at lw_m2 17 rfl) rfl
theorem q392 : (Jvm.Cond.fieldLink "PulseRent" (393 : Nat) "PulseRent" "g" "J") ∈ lw_all := lw_g (lw_at lw_m2 18 rfl) rfl
theorem q393 : (Jvm.Cond.fieldLink "PulseRent" (97 : Nat) "PulseRent" "marks" "[LPulseRent$Mark;") ∈ lw_all := lw_g (lw_at lw_m2 19 rfl) rfl
theorem q394 : (Jvm.Cond.laysFinal "PulseRent" "PulseRent" "tape" "[B") ∈ lw_all := lw_g (lw_at lw_m2 20 rfl) rfl
theorem q395 : (Jvm.Cond.soleField "PulseRent" "tape") ∈ lw_all := lw_g (lw_at lw_m2 21 rfl) rfl
theorem q396 : (Jvm.Cond.laysFinal "PulseRent" "PulseRent" "reader" "LPulseRent$Reader;") ∈ lw_all := lw_g (lw_at lw_m2 22 rfl) rfl
theorem q397 : (Jvm.Cond.soleField "PulseRent" "reader") ∈ lw_all := lw_g (lw_at lw_m2 23 rfl) rfl
theorem q398 : (Jvm.Cond.lays "PulseRent" "PulseRent" "house" "LPulseRent$House;") ∈ lw_all := lw_g (lw_at lw_m2 24 rfl) rfl
theorem q399 : (Jvm.Cond.soleField "PulseRent" "house") ∈ lw_all := lw_g (lw_at lw_m2 25 rfl) rfl
theorem q400 : (Jvm.Cond.lays "PulseRent" "PulseRent" "lines" "Ljava/util/ArrayList;") ∈ lw_all := lw_g (lw_at lw_m2 26 rfl) rfl
theorem q401 : (Jvm.Cond.soleField "PulseRent" "lines") ∈ lw_all := lw_g (lw_at lw_m2 27 rfl) rfl
theorem q402 : (Jvm.Cond.laysFinal "PulseRent" "PulseRent" "state" "LPulseRent$State;") ∈ lw_all := lw_g (lw_at lw_m2 28 rfl) rfl
theorem q403 : (Jvm.Cond.soleField "PulseRent" "state") ∈ lw_all := lw_g (lw_at lw_m2 29 rfl) rfl
theorem q404 : (Jvm.Cond.laysFinal "PulseRent" "PulseRent" "trial" "LPulseRent$State;") ∈ lw_all := lw_g (lw_at lw_m2 30 rfl) rfl
theorem q405 : (Jvm.Cond.soleField "PulseRent" "trial") ∈ lw_all := lw_g (lw_at lw_m2 31 rfl) rfl
theorem q406 : (Jvm.Cond.laysFinal "PulseRent" "PulseRent" "facts" "[I") ∈ lw_all := lw_g (lw_at lw_m2 32 rfl) rfl
theorem q407 : (Jvm.Cond.soleField "PulseRent" "facts") ∈ lw_all := lw_g (lw_at lw_m2 33 rfl) rfl
theorem q408 : (Jvm.Cond.lays "PulseRent" "PulseRent" "taped" "I") ∈ lw_all := lw_g (lw_at lw_m2 34 rfl) rfl
theorem q409 : (Jvm.Cond.soleField "PulseRent" "taped") ∈ lw_all := lw_g (lw_at lw_m2 35 rfl) rfl
theorem q410 : (Jvm.Cond.laysFinal "PulseRent" "PulseRent" "undone" "[LPulseRent$State;") ∈ lw_all := lw_g (lw_at lw_m2 36 rfl) rfl
theorem q411 : (Jvm.Cond.soleField "PulseRent" "undone") ∈ lw_all := lw_g (lw_at lw_m2 37 rfl) rfl
theorem q412 : (Jvm.Cond.lays "PulseRent" "PulseRent" "done" "I") ∈ lw_all := lw_g (lw_at lw_m2 38 rfl) rfl
theorem q413 : (Jvm.Cond.soleField "PulseRent" "done") ∈ lw_all := lw_g (lw_at lw_m2 39 rfl) rfl
theorem q414 : (Jvm.Cond.laysFinal "PulseRent" "PulseRent" "order" "[I") ∈ lw_all := lw_g (lw_at lw_m2 40 rfl) rfl
theorem q415 : (Jvm.Cond.soleField "PulseRent" "order") ∈ lw_all := lw_g (lw_at lw_m2 41 rfl) rfl
theorem q416 : (Jvm.Cond.laysFinal "PulseRent" "PulseRent" "bestOrder" "[I") ∈ lw_all := lw_g (lw_at lw_m2 42 rfl) rfl
theorem q417 : (Jvm.Cond.soleField "PulseRent" "bestOrder") ∈ lw_all := lw_g (lw_at lw_m2 43 rfl) rfl
theorem q418 : (Jvm.Cond.lays "PulseRent" "PulseRent" "bestBeats" "I") ∈ lw_all := lw_g (lw_at lw_m2 44 rfl) rfl
theorem q419 : (Jvm.Cond.soleField "PulseRent" "bestBeats") ∈ lw_all := lw_g (lw_at lw_m2 45 rfl) rfl
theorem q420 : (Jvm.Cond.laysFinal "PulseRent" "PulseRent" "asked" "[I") ∈ lw_all := lw_g (lw_at lw_m2 46 rfl) rfl
theorem q421 : (Jvm.Cond.soleField "PulseRent" "asked") ∈ lw_all := lw_g (lw_at lw_m2 47 rfl) rfl
theorem q422 : (Jvm.Cond.laysFinal "PulseRent" "PulseRent" "keeper" "[I") ∈ lw_all := lw_g (lw_at lw_m2 48 rfl) rfl
theorem q423 : (Jvm.Cond.soleField "PulseRent" "keeper") ∈ lw_all := lw_g (lw_at lw_m2 49 rfl) rfl
theorem q424 : (Jvm.Cond.laysFinal "PulseRent" "PulseRent" "matched" "[I") ∈ lw_all := lw_g (lw_at lw_m2 50 rfl) rfl
theorem q425 : (Jvm.Cond.soleField "PulseRent" "matched") ∈ lw_all := lw_g (lw_at lw_m2 51 rfl) rfl
theorem q426 : (Jvm.Cond.laysFinal "PulseRent" "PulseRent" "sampleMinute" "[I") ∈ lw_all := lw_g (lw_at lw_m2 52 rfl) rfl
theorem q427 : (Jvm.Cond.soleField "PulseRent" "sampleMinute") ∈ lw_all := lw_g (lw_at lw_m2 53 rfl) rfl
theorem q428 : (Jvm.Cond.laysFinal "PulseRent" "PulseRent" "sampleBeats" "[I") ∈ lw_all := lw_g (lw_at lw_m2 54 rfl) rfl
theorem q429 : (Jvm.Cond.soleField "PulseRent" "sampleBeats") ∈ lw_all := lw_g (lw_at lw_m2 55 rfl) rfl
theorem q430 : (Jvm.Cond.lays "PulseRent" "PulseRent" "samples" "I") ∈ lw_all := lw_g (lw_at lw_m2 56 rfl) rfl
theorem q431 : (Jvm.Cond.soleField "PulseRent" "samples") ∈ lw_all := lw_g (lw_at lw_m2 57 rfl) rfl
theorem q432 : (Jvm.Cond.laysFinal "PulseRent" "PulseRent" "beatsIn" "[I") ∈ lw_all := lw_g (lw_at lw_m2 58 rfl) rfl
theorem q433 : (Jvm.Cond.soleField "PulseRent" "beatsIn") ∈ lw_all := lw_g (lw_at lw_m2 59 rfl) rfl
theorem q434 : (Jvm.Cond.laysFinal "PulseRent" "PulseRent" "alike" "[[I") ∈ lw_all := lw_g (lw_at lw_m2 60 rfl) rfl
theorem q435 : (Jvm.Cond.soleField "PulseRent" "alike") ∈ lw_all := lw_g (lw_at lw_m2 61 rfl) rfl
theorem q436 : (Jvm.Cond.lays "PulseRent" "PulseRent" "fitDays" "I") ∈ lw_all := lw_g (lw_at lw_m2 62 rfl) rfl
theorem q437 : (Jvm.Cond.soleField "PulseRent" "fitDays") ∈ lw_all := lw_g (lw_at lw_m2 63 rfl) rfl
theorem q438 : (Jvm.Cond.lays "PulseRent" "PulseRent" "firstDay" "I") ∈ lw_all := lw_g (lw_at lw_m2 64 rfl) rfl
theorem q439 : (Jvm.Cond.soleField "PulseRent" "firstDay") ∈ lw_all := lw_g (lw_at lw_m2 65 rfl) rfl
theorem q440 : (Jvm.Cond.lays "PulseRent" "PulseRent" "g" "J") ∈ lw_all := lw_g (lw_at lw_m2 66 rfl) rfl
theorem q441 : (Jvm.Cond.soleField "PulseRent" "g") ∈ lw_all := lw_g (lw_at lw_m2 67 rfl) rfl
theorem q442 : (Jvm.Cond.laysFinal "PulseRent" "PulseRent" "marks" "[LPulseRent$Mark;") ∈ lw_all := lw_g (lw_at lw_m2 68 rfl) rfl
theorem q443 : (Jvm.Cond.soleField "PulseRent" "marks") ∈ lw_all := lw_g (lw_at lw_m2 69 rfl) rfl
theorem q444 : (Jvm.Cond.superclass "PulseRent" "java/lang/Object") ∈ lw_all := lw_g (lw_at lw_m2 70 rfl) rfl
theorem q446 : (Jvm.Cond.instanceMethod ({ cls := "PulseRent", name := "feed", desc := "(JJJ)I" } : Jvm.MethodName)) ∈ lw_all := lw_g (lw_at lw_m2 72 rfl) rfl
theorem q447 : (Jvm.Cond.selects "PulseRent" ({ cls := "PulseRent", name := "feed", desc := "(JJJ)I" } : Jvm.MethodName) ({ cls := "PulseRent", name := "feed", desc := "(JJJ)I" } : Jvm.MethodName)) ∈ lw_all := lw_g (lw_at lw_m2 73 rfl) rfl
theorem q448 : (Jvm.Cond.code ({ cls := "PulseRent", name := "feed", desc := "(JJJ)I" } : Jvm.MethodName) prog_1_method_7_code (9 : Nat) (Option.some Jvm.ClassFile.FieldType.int)) ∈ lw_all := lw_g (lw_at lw_m2 74 rfl) rfl
theorem q450 : (Jvm.Cond.instanceMethod ({ cls := "PulseRent", name := "house", desc := "()I" } : Jvm.MethodName)) ∈ lw_all := lw_g (lw_at lw_m2 76 rfl) rfl
theorem q451 : (Jvm.Cond.selects "PulseRent" ({ cls := "PulseRent", name := "house", desc := "()I" } : Jvm.MethodName) ({ cls := "PulseRent", name := "house", desc := "()I" } : Jvm.MethodName)) ∈ lw_all := lw_g (lw_at lw_m2 77 rfl) rfl
theorem q452 : (Jvm.Cond.codeWith ({ cls := "PulseRent", name := "house", desc := "()I" } : Jvm.MethodName) prog_1_method_9_code (2 : Nat) (Option.some Jvm.ClassFile.FieldType.int) [((4 : Nat), (15 : Nat), (18 : Nat), (118 : Nat))]) ∈ lw_all := lw_g (lw_at lw_m2 78 rfl) rfl
theorem q453 : (Jvm.Cond.classLink "PulseRent" (118 : Nat) "PulseRent$Wrong") ∈ lw_all := lw_g (lw_at lw_m2 79 rfl) rfl
theorem q454 : (Jvm.Cond.methodLink "PulseRent" (112 : Nat) ({ cls := "PulseRent", name := "reads", desc := "()V" } : Jvm.MethodName)) ∈ lw_all := lw_g (lw_at lw_m2 80 rfl) rfl
theorem q455 : (Jvm.Cond.privateMethod ({ cls := "PulseRent", name := "reads", desc := "()V" } : Jvm.MethodName)) ∈ lw_tbl := lw_at lw_m2 81 rfl
theorem q456 : (Jvm.Cond.instanceMethod ({ cls := "PulseRent", name := "reads", desc := "()V" } : Jvm.MethodName)) ∈ lw_all := lw_g (lw_at lw_m2 82 rfl) rfl
theorem q457 : (Jvm.Cond.code ({ cls := "PulseRent", name := "reads", desc := "()V" } : Jvm.MethodName) prog_1_method_8_code (1 : Nat) (Option.none : Option Jvm.ClassFile.FieldType)) ∈ lw_all := lw_g (lw_at lw_m2 83 rfl) rfl
theorem q458 : (Jvm.Cond.methodLink "PulseRent" (109 : Nat) ({ cls := "PulseRent$Reader", name := "begin", desc := "([BI)V" } : Jvm.MethodName)) ∈ lw_all := lw_g (lw_at lw_m2 84 rfl) rfl
theorem q563 : (Jvm.Cond.methodLink "PulseRent" (115 : Nat) ({ cls := "PulseRent$Reader", name := "house", desc := "()LPulseRent$House;" } : Jvm.MethodName)) ∈ lw_all := lw_g (lw_at lw_m2 189 rfl) rfl
theorem q651 : (Jvm.Cond.fieldLinkNest "PulseRent" (120 : Nat) "PulseRent$Wrong" "fault" "I" "PulseRent") ∈ lw_tbl := lw_at lw_m3 37 rfl
theorem q889 : (Jvm.Cond.fieldLinkNest "PulseRent" (258 : Nat) "PulseRent$Room" "stairs" "I" "PulseRent") ∈ lw_tbl := lw_at lw_m4 35 rfl
theorem q893 : (Jvm.Cond.fieldLinkNest "PulseRent" (182 : Nat) "PulseRent$Room" "noise" "I" "PulseRent") ∈ lw_tbl := lw_at lw_m4 39 rfl
theorem q897 : (Jvm.Cond.fieldLinkNest "PulseRent" (231 : Nat) "PulseRent$Room" "base" "I" "PulseRent") ∈ lw_tbl := lw_at lw_m4 43 rfl
theorem q932 : (Jvm.Cond.selects "PulseRent" ({ cls := "java/lang/Object", name := "getClass", desc := "()Ljava/lang/Class;" } : Jvm.MethodName) ({ cls := "java/lang/Object", name := "getClass", desc := "()Ljava/lang/Class;" } : Jvm.MethodName)) ∈ lw_all := lw_g (lw_at lw_m4 78 rfl) rfl
theorem q987 : (Jvm.Cond.fieldLink "PulseRent" (264 : Nat) "PulseRent$Tenant" "told" "I") ∈ lw_all := lw_g (lw_at lw_m4 133 rfl) rfl
theorem q989 : (Jvm.Cond.fieldLink "PulseRent" (267 : Nat) "PulseRent$Tenant" "calm" "I") ∈ lw_all := lw_g (lw_at lw_m4 135 rfl) rfl
theorem q996 : (Jvm.Cond.fieldLink "PulseRent" (188 : Nat) "PulseRent$Tenant" "loves" "I") ∈ lw_all := lw_g (lw_at lw_m4 142 rfl) rfl
theorem q1072 : (Jvm.Cond.static ({ cls := "PulseRent", name := "isIn", desc := "(II)Z" } : Jvm.MethodName)) ∈ lw_all := lw_g (lw_at lw_m4 218 rfl) rfl
theorem q1073 : (Jvm.Cond.code ({ cls := "PulseRent", name := "isIn", desc := "(II)Z" } : Jvm.MethodName) prog_1_method_3_code (2 : Nat) (Option.some Jvm.ClassFile.FieldType.boolean)) ∈ lw_all := lw_g (lw_at lw_m4 219 rfl) rfl
theorem q1086 : (Jvm.Cond.fieldLinkNest "PulseRent" (329 : Nat) "PulseRent$Errand" "opens" "I" "PulseRent") ∈ lw_tbl := lw_at lw_m4 232 rfl
theorem q1088 : (Jvm.Cond.fieldLinkNest "PulseRent" (332 : Nat) "PulseRent$Errand" "takes" "I" "PulseRent") ∈ lw_tbl := lw_at lw_m4 234 rfl
theorem q1090 : (Jvm.Cond.fieldLinkNest "PulseRent" (335 : Nat) "PulseRent$Errand" "adds" "I" "PulseRent") ∈ lw_tbl := lw_at lw_m4 236 rfl
theorem q1187 : (Jvm.Cond.instanceMethod ({ cls := "PulseRent", name := "months", desc := "()I" } : Jvm.MethodName)) ∈ lw_all := lw_g (lw_at lw_m5 93 rfl) rfl
theorem q1188 : (Jvm.Cond.selects "PulseRent" ({ cls := "PulseRent", name := "months", desc := "()I" } : Jvm.MethodName) ({ cls := "PulseRent", name := "months", desc := "()I" } : Jvm.MethodName)) ∈ lw_all := lw_g (lw_at lw_m5 94 rfl) rfl
theorem q1189 : (Jvm.Cond.codeWith ({ cls := "PulseRent", name := "months", desc := "()I" } : Jvm.MethodName) prog_1_method_10_code (2 : Nat) (Option.some Jvm.ClassFile.FieldType.int) [((4 : Nat), (19 : Nat), (22 : Nat), (118 : Nat))]) ∈ lw_all := lw_g (lw_at lw_m5 95 rfl) rfl
theorem q1190 : (Jvm.Cond.methodLink "PulseRent" (129 : Nat) ({ cls := "PulseRent$Reader", name := "months", desc := "(LPulseRent$House;)Ljava/util/ArrayList;" } : Jvm.MethodName)) ∈ lw_all := lw_g (lw_at lw_m5 96 rfl) rfl
theorem q1268 : (Jvm.Cond.instanceMethod ({ cls := "PulseRent", name := "room", desc := "(II)I" } : Jvm.MethodName)) ∈ lw_all := lw_g (lw_at lw_m5 174 rfl) rfl
theorem q1269 : (Jvm.Cond.selects "PulseRent" ({ cls := "PulseRent", name := "room", desc := "(II)I" } : Jvm.MethodName) ({ cls := "PulseRent", name := "room", desc := "(II)I" } : Jvm.MethodName)) ∈ lw_all := lw_g (lw_at lw_m5 175 rfl) rfl
theorem q1270 : (Jvm.Cond.code ({ cls := "PulseRent", name := "room", desc := "(II)I" } : Jvm.MethodName) prog_1_method_24_code (4 : Nat) (Option.some Jvm.ClassFile.FieldType.int)) ∈ lw_all := lw_g (lw_at lw_m5 176 rfl) rfl
theorem q1271 : (Jvm.Cond.methodLink "PulseRent" (255 : Nat) ({ cls := "PulseRent", name := "isRoom", desc := "(I)Z" } : Jvm.MethodName)) ∈ lw_all := lw_g (lw_at lw_m5 177 rfl) rfl
theorem q1272 : (Jvm.Cond.privateMethod ({ cls := "PulseRent", name := "isRoom", desc := "(I)Z" } : Jvm.MethodName)) ∈ lw_tbl := lw_at lw_m5 178 rfl
theorem q1273 : (Jvm.Cond.instanceMethod ({ cls := "PulseRent", name := "isRoom", desc := "(I)Z" } : Jvm.MethodName)) ∈ lw_all := lw_g (lw_at lw_m5 179 rfl) rfl
theorem q1274 : (Jvm.Cond.code ({ cls := "PulseRent", name := "isRoom", desc := "(I)Z" } : Jvm.MethodName) prog_1_method_15_code (2 : Nat) (Option.some Jvm.ClassFile.FieldType.boolean)) ∈ lw_all := lw_g (lw_at lw_m5 180 rfl) rfl
theorem q1275 : (Jvm.Cond.methodLink "PulseRent" (151 : Nat) ({ cls := "PulseRent", name := "rooms", desc := "()I" } : Jvm.MethodName)) ∈ lw_all := lw_g (lw_at lw_m5 181 rfl) rfl
theorem q1276 : (Jvm.Cond.privateMethod ({ cls := "PulseRent", name := "rooms", desc := "()I" } : Jvm.MethodName)) ∈ lw_tbl := lw_at lw_m5 182 rfl
theorem q1277 : (Jvm.Cond.instanceMethod ({ cls := "PulseRent", name := "rooms", desc := "()I" } : Jvm.MethodName)) ∈ lw_all := lw_g (lw_at lw_m5 183 rfl) rfl
theorem q1278 : (Jvm.Cond.code ({ cls := "PulseRent", name := "rooms", desc := "()I" } : Jvm.MethodName) prog_1_method_11_code (1 : Nat) (Option.some Jvm.ClassFile.FieldType.int)) ∈ lw_all := lw_g (lw_at lw_m5 184 rfl) rfl
theorem q1279 : (Jvm.Cond.methodLink "PulseRent" (136 : Nat) ({ cls := "java/util/ArrayList", name := "size", desc := "()I" } : Jvm.MethodName)) ∈ lw_all := lw_g (lw_at lw_m5 185 rfl) rfl
theorem q1280 : (Jvm.Cond.methodLink "PulseRent" (153 : Nat) ({ cls := "PulseRent", name := "in", desc := "(III)Z" } : Jvm.MethodName)) ∈ lw_all := lw_g (lw_at lw_m5 186 rfl) rfl
theorem q1281 : (Jvm.Cond.static ({ cls := "PulseRent", name := "in", desc := "(III)Z" } : Jvm.MethodName)) ∈ lw_all := lw_g (lw_at lw_m5 187 rfl) rfl
theorem q1282 : (Jvm.Cond.code ({ cls := "PulseRent", name := "in", desc := "(III)Z" } : Jvm.MethodName) prog_1_method_1_code (3 : Nat) (Option.some Jvm.ClassFile.FieldType.boolean)) ∈ lw_all := lw_g (lw_at lw_m5 188 rfl) rfl
theorem q1283 : (Jvm.Cond.methodLink "PulseRent" (179 : Nat) ({ cls := "PulseRent", name := "room", desc := "(I)LPulseRent$Room;" } : Jvm.MethodName)) ∈ lw_all := lw_g (lw_at lw_m5 189 rfl) rfl
theorem q1284 : (Jvm.Cond.privateMethod ({ cls := "PulseRent", name := "room", desc := "(I)LPulseRent$Room;" } : Jvm.MethodName)) ∈ lw_tbl := lw_at lw_m5 190 rfl
theorem q1285 : (Jvm.Cond.instanceMethod ({ cls := "PulseRent", name := "room", desc := "(I)LPulseRent$Room;" } : Jvm.MethodName)) ∈ lw_all := lw_g (lw_at lw_m5 191 rfl) rfl
theorem q1286 : (Jvm.Cond.code ({ cls := "PulseRent", name := "room", desc := "(I)LPulseRent$Room;" } : Jvm.MethodName) prog_1_method_12_code (2 : Nat) (Option.some (Jvm.ClassFile.FieldType.object "PulseRent$Room"))) ∈ lw_all := lw_g (lw_at lw_m5 192 rfl) rfl
theorem q1287 : (Jvm.Cond.methodLink "PulseRent" (140 : Nat) ({ cls := "java/util/ArrayList", name := "get", desc := "(I)Ljava/lang/Object;" } : Jvm.MethodName)) ∈ lw_all := lw_g (lw_at lw_m5 193 rfl) rfl
theorem q1288 : (Jvm.Cond.classLink "PulseRent" (144 : Nat) "PulseRent$Room") ∈ lw_all := lw_g (lw_at lw_m5 194 rfl) rfl
theorem q1289 : (Jvm.Cond.methodLink "PulseRent" (261 : Nat) ({ cls := "PulseRent", name := "whoIn", desc := "(LPulseRent$State;I)I" } : Jvm.MethodName)) ∈ lw_all := lw_g (lw_at lw_m5 195 rfl) rfl
theorem q1290 : (Jvm.Cond.privateMethod ({ cls := "PulseRent", name := "whoIn", desc := "(LPulseRent$State;I)I" } : Jvm.MethodName)) ∈ lw_tbl := lw_at lw_m5 196 rfl
theorem q1291 : (Jvm.Cond.instanceMethod ({ cls := "PulseRent", name := "whoIn", desc := "(LPulseRent$State;I)I" } : Jvm.MethodName)) ∈ lw_all := lw_g (lw_at lw_m5 197 rfl) rfl
theorem q1292 : (Jvm.Cond.code ({ cls := "PulseRent", name := "whoIn", desc := "(LPulseRent$State;I)I" } : Jvm.MethodName) prog_1_method_25_code (4 : Nat) (Option.some Jvm.ClassFile.FieldType.int)) ∈ lw_all := lw_g (lw_at lw_m5 198 rfl) rfl
theorem q1293 : (Jvm.Cond.methodLink "PulseRent" (157 : Nat) ({ cls := "PulseRent", name := "tenants", desc := "()I" } : Jvm.MethodName)) ∈ lw_all := lw_g (lw_at lw_m5 199 rfl) rfl
theorem q1294 : (Jvm.Cond.privateMethod ({ cls := "PulseRent", name := "tenants", desc := "()I" } : Jvm.MethodName)) ∈ lw_tbl := lw_at lw_m5 200 rfl
theorem q1295 : (Jvm.Cond.instanceMethod ({ cls := "PulseRent", name := "tenants", desc := "()I" } : Jvm.MethodName)) ∈ lw_all := lw_g (lw_at lw_m5 201 rfl) rfl
theorem q1296 : (Jvm.Cond.code ({ cls := "PulseRent", name := "tenants", desc := "()I" } : Jvm.MethodName) prog_1_method_13_code (1 : Nat) (Option.some Jvm.ClassFile.FieldType.int)) ∈ lw_all := lw_g (lw_at lw_m5 202 rfl) rfl
theorem q1298 : (Jvm.Cond.instanceMethod ({ cls := "PulseRent", name := "tenant", desc := "(II)I" } : Jvm.MethodName)) ∈ lw_all := lw_g (lw_at lw_m5 204 rfl) rfl
theorem q1299 : (Jvm.Cond.selects "PulseRent" ({ cls := "PulseRent", name := "tenant", desc := "(II)I" } : Jvm.MethodName) ({ cls := "PulseRent", name := "tenant", desc := "(II)I" } : Jvm.MethodName)) ∈ lw_all := lw_g (lw_at lw_m5 205 rfl) rfl
theorem q1300 : (Jvm.Cond.code ({ cls := "PulseRent", name := "tenant", desc := "(II)I" } : Jvm.MethodName) prog_1_method_26_code (3 : Nat) (Option.some Jvm.ClassFile.FieldType.int)) ∈ lw_all := lw_g (lw_at lw_m5 206 rfl) rfl
theorem q1301 : (Jvm.Cond.methodLink "PulseRent" (159 : Nat) ({ cls := "PulseRent", name := "isTenant", desc := "(I)Z" } : Jvm.MethodName)) ∈ lw_all := lw_g (lw_at lw_m5 207 rfl) rfl
theorem q1302 : (Jvm.Cond.privateMethod ({ cls := "PulseRent", name := "isTenant", desc := "(I)Z" } : Jvm.MethodName)) ∈ lw_tbl := lw_at lw_m5 208 rfl
theorem q1303 : (Jvm.Cond.instanceMethod ({ cls := "PulseRent", name := "isTenant", desc := "(I)Z" } : Jvm.MethodName)) ∈ lw_all := lw_g (lw_at lw_m5 209 rfl) rfl
theorem q1304 : (Jvm.Cond.code ({ cls := "PulseRent", name := "isTenant", desc := "(I)Z" } : Jvm.MethodName) prog_1_method_16_code (2 : Nat) (Option.some Jvm.ClassFile.FieldType.boolean)) ∈ lw_all := lw_g (lw_at lw_m5 210 rfl) rfl
theorem q1305 : (Jvm.Cond.methodLink "PulseRent" (166 : Nat) ({ cls := "PulseRent", name := "tenant", desc := "(I)LPulseRent$Tenant;" } : Jvm.MethodName)) ∈ lw_all := lw_g (lw_at lw_m5 211 rfl) rfl
theorem q1306 : (Jvm.Cond.privateMethod ({ cls := "PulseRent", name := "tenant", desc := "(I)LPulseRent$Tenant;" } : Jvm.MethodName)) ∈ lw_tbl := lw_at lw_m5 212 rfl
theorem q1307 : (Jvm.Cond.instanceMethod ({ cls := "PulseRent", name := "tenant", desc := "(I)LPulseRent$Tenant;" } : Jvm.MethodName)) ∈ lw_all := lw_g (lw_at lw_m5 213 rfl) rfl
theorem q1308 : (Jvm.Cond.code ({ cls := "PulseRent", name := "tenant", desc := "(I)LPulseRent$Tenant;" } : Jvm.MethodName) prog_1_method_14_code (2 : Nat) (Option.some (Jvm.ClassFile.FieldType.object "PulseRent$Tenant"))) ∈ lw_all := lw_g (lw_at lw_m5 214 rfl) rfl
theorem q1309 : (Jvm.Cond.classLink "PulseRent" (149 : Nat) "PulseRent$Tenant") ∈ lw_all := lw_g (lw_at lw_m5 215 rfl) rfl
theorem q1310 : (Jvm.Cond.methodLink "PulseRent" (234 : Nat) ({ cls := "PulseRent$Tenant", name := "kind", desc := "()I" } : Jvm.MethodName)) ∈ lw_all := lw_g (lw_at lw_m5 216 rfl) rfl
theorem q1324 : (Jvm.Cond.methodLink "PulseRent" (252 : Nat) ({ cls := "PulseRent", name := "isIn", desc := "(II)Z" } : Jvm.MethodName)) ∈ lw_all := lw_g (lw_at lw_m5 230 rfl) rfl
theorem q1326 : (Jvm.Cond.instanceMethod ({ cls := "PulseRent", name := "pulse", desc := "(I)I" } : Jvm.MethodName)) ∈ lw_all := lw_g (lw_at lw_m5 232 rfl) rfl
theorem q1327 : (Jvm.Cond.selects "PulseRent" ({ cls := "PulseRent", name := "pulse", desc := "(I)I" } : Jvm.MethodName) ({ cls := "PulseRent", name := "pulse", desc := "(I)I" } : Jvm.MethodName)) ∈ lw_all := lw_g (lw_at lw_m5 233 rfl) rfl
theorem q1328 : (Jvm.Cond.code ({ cls := "PulseRent", name := "pulse", desc := "(I)I" } : Jvm.MethodName) prog_1_method_27_code (2 : Nat) (Option.some Jvm.ClassFile.FieldType.int)) ∈ lw_all := lw_g (lw_at lw_m5 234 rfl) rfl
theorem q1329 : (Jvm.Cond.methodLink "PulseRent" (273 : Nat) ({ cls := "PulseRent", name := "isHome", desc := "(I)Z" } : Jvm.MethodName)) ∈ lw_all := lw_g (lw_at lw_m5 235 rfl) rfl
theorem q1330 : (Jvm.Cond.privateMethod ({ cls := "PulseRent", name := "isHome", desc := "(I)Z" } : Jvm.MethodName)) ∈ lw_tbl := lw_at lw_m5 236 rfl
theorem q1331 : (Jvm.Cond.instanceMethod ({ cls := "PulseRent", name := "isHome", desc := "(I)Z" } : Jvm.MethodName)) ∈ lw_all := lw_g (lw_at lw_m5 237 rfl) rfl
theorem q1332 : (Jvm.Cond.code ({ cls := "PulseRent", name := "isHome", desc := "(I)Z" } : Jvm.MethodName) prog_1_method_17_code (2 : Nat) (Option.some Jvm.ClassFile.FieldType.boolean)) ∈ lw_all := lw_g (lw_at lw_m5 238 rfl) rfl
theorem q1333 : (Jvm.Cond.methodLink "PulseRent" (163 : Nat) ({ cls := "PulseRent$State", name := "isIn", desc := "(I)Z" } : Jvm.MethodName)) ∈ lw_all := lw_g (lw_at lw_m5 239 rfl) rfl
theorem q1337 : (Jvm.Cond.methodLink "PulseRent" (210 : Nat) ({ cls := "PulseRent$House", name := "brew", desc := "()I" } : Jvm.MethodName)) ∈ lw_all := lw_g (lw_at lw_m6 3 rfl) rfl
theorem q1341 : (Jvm.Cond.methodLink "PulseRent" (202 : Nat) ({ cls := "PulseRent", name := "pulse", desc := "(LPulseRent$State;II)I" } : Jvm.MethodName)) ∈ lw_all := lw_g (lw_at lw_m6 7 rfl) rfl
theorem q1342 : (Jvm.Cond.privateMethod ({ cls := "PulseRent", name := "pulse", desc := "(LPulseRent$State;II)I" } : Jvm.MethodName)) ∈ lw_tbl := lw_at lw_m6 8 rfl
theorem q1343 : (Jvm.Cond.instanceMethod ({ cls := "PulseRent", name := "pulse", desc := "(LPulseRent$State;II)I" } : Jvm.MethodName)) ∈ lw_all := lw_g (lw_at lw_m6 9 rfl) rfl
theorem q1344 : (Jvm.Cond.code ({ cls := "PulseRent", name := "pulse", desc := "(LPulseRent$State;II)I" } : Jvm.MethodName) prog_1_method_18_code (6 : Nat) (Option.some Jvm.ClassFile.FieldType.int)) ∈ lw_all := lw_g (lw_at lw_m6 10 rfl) rfl
theorem q1345 : (Jvm.Cond.methodLink "PulseRent" (170 : Nat) ({ cls := "PulseRent$Tenant", name := "rest", desc := "()I" } : Jvm.MethodName)) ∈ lw_all := lw_g (lw_at lw_m6 11 rfl) rfl
theorem q1355 : (Jvm.Cond.methodLink "PulseRent" (191 : Nat) ({ cls := "PulseRent$State", name := "in", desc := "()I" } : Jvm.MethodName)) ∈ lw_all := lw_g (lw_at lw_m6 21 rfl) rfl
theorem q1360 : (Jvm.Cond.methodLink "PulseRent" (1 : Nat) ({ cls := "java/lang/Math", name := "min", desc := "(II)I" } : Jvm.MethodName)) ∈ lw_all := lw_g (lw_at lw_m6 26 rfl) rfl
theorem q1362 : (Jvm.Cond.instanceMethod ({ cls := "PulseRent", name := "climb", desc := "(I)I" } : Jvm.MethodName)) ∈ lw_all := lw_g (lw_at lw_m6 28 rfl) rfl
theorem q1363 : (Jvm.Cond.selects "PulseRent" ({ cls := "PulseRent", name := "climb", desc := "(I)I" } : Jvm.MethodName) ({ cls := "PulseRent", name := "climb", desc := "(I)I" } : Jvm.MethodName)) ∈ lw_all := lw_g (lw_at lw_m6 29 rfl) rfl
theorem q1364 : (Jvm.Cond.code ({ cls := "PulseRent", name := "climb", desc := "(I)I" } : Jvm.MethodName) prog_1_method_31_code (2 : Nat) (Option.some Jvm.ClassFile.FieldType.int)) ∈ lw_all := lw_g (lw_at lw_m6 30 rfl) rfl
theorem q1365 : (Jvm.Cond.methodLink "PulseRent" (283 : Nat) ({ cls := "PulseRent", name := "keeps", desc := "()V" } : Jvm.MethodName)) ∈ lw_all := lw_g (lw_at lw_m6 31 rfl) rfl
theorem q1366 : (Jvm.Cond.privateMethod ({ cls := "PulseRent", name := "keeps", desc := "()V" } : Jvm.MethodName)) ∈ lw_tbl := lw_at lw_m6 32 rfl
theorem q1367 : (Jvm.Cond.instanceMethod ({ cls := "PulseRent", name := "keeps", desc := "()V" } : Jvm.MethodName)) ∈ lw_all := lw_g (lw_at lw_m6 33 rfl) rfl
theorem q1368 : (Jvm.Cond.code ({ cls := "PulseRent", name := "keeps", desc := "()V" } : Jvm.MethodName) prog_1_method_28_code (3 : Nat) (Option.none : Option Jvm.ClassFile.FieldType)) ∈ lw_all := lw_g (lw_at lw_m6 34 rfl) rfl
theorem q1369 : (Jvm.Cond.methodLink "PulseRent" (276 : Nat) ({ cls := "PulseRent$State", name := "be", desc := "(LPulseRent$State;)V" } : Jvm.MethodName)) ∈ lw_all := lw_g (lw_at lw_m6 35 rfl) rfl
theorem q1374 : (Jvm.Cond.static ({ cls := "PulseRent", name := "copies", desc := "([I[I)V" } : Jvm.MethodName)) ∈ lw_all := lw_g (lw_at lw_m6 40 rfl) rfl
theorem q1375 : (Jvm.Cond.code ({ cls := "PulseRent", name := "copies", desc := "([I[I)V" } : Jvm.MethodName) prog_1_method_5_code (3 : Nat) (Option.none : Option Jvm.ClassFile.FieldType)) ∈ lw_all := lw_g (lw_at lw_m6 41 rfl) rfl
theorem q1376 : (Jvm.Cond.methodLink "PulseRent" (286 : Nat) ({ cls := "PulseRent", name := "climbs", desc := "(LPulseRent$State;I)V" } : Jvm.MethodName)) ∈ lw_all := lw_g (lw_at lw_m6 42 rfl) rfl
theorem q1377 : (Jvm.Cond.privateMethod ({ cls := "PulseRent", name := "climbs", desc := "(LPulseRent$State;I)V" } : Jvm.MethodName)) ∈ lw_tbl := lw_at lw_m6 43 rfl
theorem q1378 : (Jvm.Cond.instanceMethod ({ cls := "PulseRent", name := "climbs", desc := "(LPulseRent$State;I)V" } : Jvm.MethodName)) ∈ lw_all := lw_g (lw_at lw_m6 44 rfl) rfl
theorem q1379 : (Jvm.Cond.code ({ cls := "PulseRent", name := "climbs", desc := "(LPulseRent$State;I)V" } : Jvm.MethodName) prog_1_method_29_code (3 : Nat) (Option.none : Option Jvm.ClassFile.FieldType)) ∈ lw_all := lw_g (lw_at lw_m6 45 rfl) rfl
theorem q1380 : (Jvm.Cond.methodLink "PulseRent" (280 : Nat) ({ cls := "PulseRent$Tenant", name := "climbs", desc := "(I)I" } : Jvm.MethodName)) ∈ lw_all := lw_g (lw_at lw_m6 46 rfl) rfl
theorem q1391 : (Jvm.Cond.instanceMethod ({ cls := "PulseRent", name := "fright", desc := "(II)I" } : Jvm.MethodName)) ∈ lw_all := lw_g (lw_at lw_m6 57 rfl) rfl
theorem q1392 : (Jvm.Cond.selects "PulseRent" ({ cls := "PulseRent", name := "fright", desc := "(II)I" } : Jvm.MethodName) ({ cls := "PulseRent", name := "fright", desc := "(II)I" } : Jvm.MethodName)) ∈ lw_all := lw_g (lw_at lw_m6 58 rfl) rfl
theorem q1393 : (Jvm.Cond.code ({ cls := "PulseRent", name := "fright", desc := "(II)I" } : Jvm.MethodName) prog_1_method_32_code (3 : Nat) (Option.some Jvm.ClassFile.FieldType.int)) ∈ lw_all := lw_g (lw_at lw_m6 59 rfl) rfl
theorem q1394 : (Jvm.Cond.methodLink "PulseRent" (288 : Nat) ({ cls := "PulseRent", name := "frightens", desc := "(LPulseRent$State;II)V" } : Jvm.MethodName)) ∈ lw_all := lw_g (lw_at lw_m6 60 rfl) rfl
theorem q1395 : (Jvm.Cond.privateMethod ({ cls := "PulseRent", name := "frightens", desc := "(LPulseRent$State;II)V" } : Jvm.MethodName)) ∈ lw_tbl := lw_at lw_m6 61 rfl
theorem q1396 : (Jvm.Cond.instanceMethod ({ cls := "PulseRent", name := "frightens", desc := "(LPulseRent$State;II)V" } : Jvm.MethodName)) ∈ lw_all := lw_g (lw_at lw_m6 62 rfl) rfl
theorem q1397 : (Jvm.Cond.code ({ cls := "PulseRent", name := "frightens", desc := "(LPulseRent$State;II)V" } : Jvm.MethodName) prog_1_method_30_code (4 : Nat) (Option.none : Option Jvm.ClassFile.FieldType)) ∈ lw_all := lw_g (lw_at lw_m6 63 rfl) rfl
theorem q1398 : (Jvm.Cond.methodLink "PulseRent" (7 : Nat) ({ cls := "java/lang/Math", name := "max", desc := "(II)I" } : Jvm.MethodName)) ∈ lw_all := lw_g (lw_at lw_m6 64 rfl) rfl
theorem q1400 : (Jvm.Cond.instanceMethod ({ cls := "PulseRent", name := "drink", desc := "(I)Z" } : Jvm.MethodName)) ∈ lw_all := lw_g (lw_at lw_m6 66 rfl) rfl
theorem q1401 : (Jvm.Cond.selects "PulseRent" ({ cls := "PulseRent", name := "drink", desc := "(I)Z" } : Jvm.MethodName) ({ cls := "PulseRent", name := "drink", desc := "(I)Z" } : Jvm.MethodName)) ∈ lw_all := lw_g (lw_at lw_m6 67 rfl) rfl
theorem q1402 : (Jvm.Cond.code ({ cls := "PulseRent", name := "drink", desc := "(I)Z" } : Jvm.MethodName) prog_1_method_33_code (2 : Nat) (Option.some Jvm.ClassFile.FieldType.boolean)) ∈ lw_all := lw_g (lw_at lw_m6 68 rfl) rfl
theorem q1404 : (Jvm.Cond.instanceMethod ({ cls := "PulseRent", name := "minutes", desc := "(I)I" } : Jvm.MethodName)) ∈ lw_all := lw_g (lw_at lw_m6 70 rfl) rfl
theorem q1405 : (Jvm.Cond.selects "PulseRent" ({ cls := "PulseRent", name := "minutes", desc := "(I)I" } : Jvm.MethodName) ({ cls := "PulseRent", name := "minutes", desc := "(I)I" } : Jvm.MethodName)) ∈ lw_all := lw_g (lw_at lw_m6 71 rfl) rfl
theorem q1406 : (Jvm.Cond.code ({ cls := "PulseRent", name := "minutes", desc := "(I)I" } : Jvm.MethodName) prog_1_method_34_code (2 : Nat) (Option.some Jvm.ClassFile.FieldType.int)) ∈ lw_all := lw_g (lw_at lw_m6 72 rfl) rfl
theorem q1407 : (Jvm.Cond.methodLink "PulseRent" (295 : Nat) ({ cls := "PulseRent", name := "pass", desc := "(LPulseRent$State;I)V" } : Jvm.MethodName)) ∈ lw_all := lw_g (lw_at lw_m6 73 rfl) rfl
theorem q1408 : (Jvm.Cond.privateMethod ({ cls := "PulseRent", name := "pass", desc := "(LPulseRent$State;I)V" } : Jvm.MethodName)) ∈ lw_tbl := lw_at lw_m6 74 rfl
theorem q1409 : (Jvm.Cond.instanceMethod ({ cls := "PulseRent", name := "pass", desc := "(LPulseRent$State;I)V" } : Jvm.MethodName)) ∈ lw_all := lw_g (lw_at lw_m6 75 rfl) rfl
theorem q1410 : (Jvm.Cond.code ({ cls := "PulseRent", name := "pass", desc := "(LPulseRent$State;I)V" } : Jvm.MethodName) prog_1_method_20_code (4 : Nat) (Option.none : Option Jvm.ClassFile.FieldType)) ∈ lw_all := lw_g (lw_at lw_m6 76 rfl) rfl
theorem q1411 : (Jvm.Cond.methodLink "PulseRent" (213 : Nat) ({ cls := "PulseRent", name := "passesOne", desc := "(LPulseRent$State;I)V" } : Jvm.MethodName)) ∈ lw_all := lw_g (lw_at lw_m6 77 rfl) rfl
theorem q1412 : (Jvm.Cond.privateMethod ({ cls := "PulseRent", name := "passesOne", desc := "(LPulseRent$State;I)V" } : Jvm.MethodName)) ∈ lw_tbl := lw_at lw_m6 78 rfl
theorem q1413 : (Jvm.Cond.instanceMethod ({ cls := "PulseRent", name := "passesOne", desc := "(LPulseRent$State;I)V" } : Jvm.MethodName)) ∈ lw_all := lw_g (lw_at lw_m6 79 rfl) rfl
theorem q1414 : (Jvm.Cond.code ({ cls := "PulseRent", name := "passesOne", desc := "(LPulseRent$State;I)V" } : Jvm.MethodName) prog_1_method_19_code (5 : Nat) (Option.none : Option Jvm.ClassFile.FieldType)) ∈ lw_all := lw_g (lw_at lw_m6 80 rfl) rfl
theorem q1415 : (Jvm.Cond.methodLink "PulseRent" (196 : Nat) ({ cls := "PulseRent$House", name := "every", desc := "()I" } : Jvm.MethodName)) ∈ lw_all := lw_g (lw_at lw_m6 81 rfl) rfl
theorem q1419 : (Jvm.Cond.methodLink "PulseRent" (206 : Nat) ({ cls := "PulseRent$Tenant", name := "settles", desc := "(I)I" } : Jvm.MethodName)) ∈ lw_all := lw_g (lw_at lw_m6 85 rfl) rfl
theorem q1430 : (Jvm.Cond.instanceMethod ({ cls := "PulseRent", name := "noon", desc := "()I" } : Jvm.MethodName)) ∈ lw_all := lw_g (lw_at lw_m6 96 rfl) rfl
theorem q1431 : (Jvm.Cond.selects "PulseRent" ({ cls := "PulseRent", name := "noon", desc := "()I" } : Jvm.MethodName) ({ cls := "PulseRent", name := "noon", desc := "()I" } : Jvm.MethodName)) ∈ lw_all := lw_g (lw_at lw_m6 97 rfl) rfl
theorem q1432 : (Jvm.Cond.code ({ cls := "PulseRent", name := "noon", desc := "()I" } : Jvm.MethodName) prog_1_method_35_code (1 : Nat) (Option.some Jvm.ClassFile.FieldType.int)) ∈ lw_all := lw_g (lw_at lw_m6 98 rfl) rfl
theorem q1433 : (Jvm.Cond.methodLink "PulseRent" (298 : Nat) ({ cls := "PulseRent", name := "collects", desc := "(LPulseRent$State;)I" } : Jvm.MethodName)) ∈ lw_all := lw_g (lw_at lw_m6 99 rfl) rfl
theorem q1434 : (Jvm.Cond.privateMethod ({ cls := "PulseRent", name := "collects", desc := "(LPulseRent$State;)I" } : Jvm.MethodName)) ∈ lw_tbl := lw_at lw_m6 100 rfl
theorem q1435 : (Jvm.Cond.instanceMethod ({ cls := "PulseRent", name := "collects", desc := "(LPulseRent$State;)I" } : Jvm.MethodName)) ∈ lw_all := lw_g (lw_at lw_m6 101 rfl) rfl
theorem q1436 : (Jvm.Cond.code ({ cls := "PulseRent", name := "collects", desc := "(LPulseRent$State;)I" } : Jvm.MethodName) prog_1_method_23_code (6 : Nat) (Option.some Jvm.ClassFile.FieldType.int)) ∈ lw_all := lw_g (lw_at lw_m6 102 rfl) rfl
theorem q1437 : (Jvm.Cond.methodLink "PulseRent" (240 : Nat) ({ cls := "PulseRent", name := "due", desc := "(LPulseRent$State;I)I" } : Jvm.MethodName)) ∈ lw_all := lw_g (lw_at lw_m6 103 rfl) rfl
theorem q1438 : (Jvm.Cond.privateMethod ({ cls := "PulseRent", name := "due", desc := "(LPulseRent$State;I)I" } : Jvm.MethodName)) ∈ lw_tbl := lw_at lw_m6 104 rfl
theorem q1439 : (Jvm.Cond.instanceMethod ({ cls := "PulseRent", name := "due", desc := "(LPulseRent$State;I)I" } : Jvm.MethodName)) ∈ lw_all := lw_g (lw_at lw_m6 105 rfl) rfl
theorem q1440 : (Jvm.Cond.code ({ cls := "PulseRent", name := "due", desc := "(LPulseRent$State;I)I" } : Jvm.MethodName) prog_1_method_22_code (3 : Nat) (Option.some Jvm.ClassFile.FieldType.int)) ∈ lw_all := lw_g (lw_at lw_m6 106 rfl) rfl
theorem q1441 : (Jvm.Cond.methodLink "PulseRent" (237 : Nat) ({ cls := "PulseRent", name := "dueBy", desc := "(III)I" } : Jvm.MethodName)) ∈ lw_all := lw_g (lw_at lw_m6 107 rfl) rfl
theorem q1442 : (Jvm.Cond.privateMethod ({ cls := "PulseRent", name := "dueBy", desc := "(III)I" } : Jvm.MethodName)) ∈ lw_tbl := lw_at lw_m6 108 rfl
theorem q1443 : (Jvm.Cond.instanceMethod ({ cls := "PulseRent", name := "dueBy", desc := "(III)I" } : Jvm.MethodName)) ∈ lw_all := lw_g (lw_at lw_m6 109 rfl) rfl
theorem q1444 : (Jvm.Cond.code ({ cls := "PulseRent", name := "dueBy", desc := "(III)I" } : Jvm.MethodName) prog_1_method_21_code (4 : Nat) (Option.some Jvm.ClassFile.FieldType.int)) ∈ lw_all := lw_g (lw_at lw_m6 110 rfl) rfl
theorem q1445 : (Jvm.Cond.methodLink "PulseRent" (221 : Nat) ({ cls := "PulseRent", name := "between", desc := "(III)I" } : Jvm.MethodName)) ∈ lw_all := lw_g (lw_at lw_m6 111 rfl) rfl
theorem q1446 : (Jvm.Cond.static ({ cls := "PulseRent", name := "between", desc := "(III)I" } : Jvm.MethodName)) ∈ lw_all := lw_g (lw_at lw_m6 112 rfl) rfl
theorem q1447 : (Jvm.Cond.code ({ cls := "PulseRent", name := "between", desc := "(III)I" } : Jvm.MethodName) prog_1_method_2_code (3 : Nat) (Option.some Jvm.ClassFile.FieldType.int)) ∈ lw_all := lw_g (lw_at lw_m6 113 rfl) rfl
theorem q1448 : (Jvm.Cond.methodLink "PulseRent" (225 : Nat) ({ cls := "PulseRent$Expression", name := "worked", desc := "([I)I" } : Jvm.MethodName)) ∈ lw_all := lw_g (lw_at lw_m6 114 rfl) rfl
theorem q1465 : (Jvm.Cond.methodLink "PulseRent" (246 : Nat) ({ cls := "PulseRent$Tenant", name := "mayLack", desc := "()I" } : Jvm.MethodName)) ∈ lw_all := lw_g (lw_at lw_m6 131 rfl) rfl
theorem q1476 : (Jvm.Cond.instanceMethod ({ cls := "PulseRent", name := "move", desc := "(II)Z" } : Jvm.MethodName)) ∈ lw_all := lw_g (lw_at lw_m6 142 rfl) rfl
theorem q1477 : (Jvm.Cond.selects "PulseRent" ({ cls := "PulseRent", name := "move", desc := "(II)Z" } : Jvm.MethodName) ({ cls := "PulseRent", name := "move", desc := "(II)Z" } : Jvm.MethodName)) ∈ lw_all := lw_g (lw_at lw_m6 143 rfl) rfl
theorem q1478 : (Jvm.Cond.code ({ cls := "PulseRent", name := "move", desc := "(II)Z" } : Jvm.MethodName) prog_1_method_37_code (3 : Nat) (Option.some Jvm.ClassFile.FieldType.boolean)) ∈ lw_all := lw_g (lw_at lw_m6 144 rfl) rfl
theorem q1479 : (Jvm.Cond.methodLink "PulseRent" (302 : Nat) ({ cls := "PulseRent", name := "canMove", desc := "(LPulseRent$State;II)Z" } : Jvm.MethodName)) ∈ lw_all := lw_g (lw_at lw_m6 145 rfl) rfl
theorem q1480 : (Jvm.Cond.privateMethod ({ cls := "PulseRent", name := "canMove", desc := "(LPulseRent$State;II)Z" } : Jvm.MethodName)) ∈ lw_tbl := lw_at lw_m6 146 rfl
theorem q1481 : (Jvm.Cond.instanceMethod ({ cls := "PulseRent", name := "canMove", desc := "(LPulseRent$State;II)Z" } : Jvm.MethodName)) ∈ lw_all := lw_g (lw_at lw_m6 147 rfl) rfl
theorem q1482 : (Jvm.Cond.code ({ cls := "PulseRent", name := "canMove", desc := "(LPulseRent$State;II)Z" } : Jvm.MethodName) prog_1_method_36_code (4 : Nat) (Option.some Jvm.ClassFile.FieldType.boolean)) ∈ lw_all := lw_g (lw_at lw_m6 148 rfl) rfl
theorem q1484 : (Jvm.Cond.instanceMethod ({ cls := "PulseRent", name := "undo", desc := "()Z" } : Jvm.MethodName)) ∈ lw_all := lw_g (lw_at lw_m6 150 rfl) rfl
theorem q1485 : (Jvm.Cond.selects "PulseRent" ({ cls := "PulseRent", name := "undo", desc := "()Z" } : Jvm.MethodName) ({ cls := "PulseRent", name := "undo", desc := "()Z" } : Jvm.MethodName)) ∈ lw_all := lw_g (lw_at lw_m6 151 rfl) rfl
theorem q1486 : (Jvm.Cond.code ({ cls := "PulseRent", name := "undo", desc := "()Z" } : Jvm.MethodName) prog_1_method_38_code (1 : Nat) (Option.some Jvm.ClassFile.FieldType.boolean)) ∈ lw_all := lw_g (lw_at lw_m6 152 rfl) rfl
theorem q1488 : (Jvm.Cond.instanceMethod ({ cls := "PulseRent", name := "judged", desc := "(I)I" } : Jvm.MethodName)) ∈ lw_all := lw_g (lw_at lw_m6 154 rfl) rfl
theorem q1489 : (Jvm.Cond.selects "PulseRent" ({ cls := "PulseRent", name := "judged", desc := "(I)I" } : Jvm.MethodName) ({ cls := "PulseRent", name := "judged", desc := "(I)I" } : Jvm.MethodName)) ∈ lw_all := lw_g (lw_at lw_m6 155 rfl) rfl
theorem q1490 : (Jvm.Cond.code ({ cls := "PulseRent", name := "judged", desc := "(I)I" } : Jvm.MethodName) prog_1_method_39_code (5 : Nat) (Option.some Jvm.ClassFile.FieldType.int)) ∈ lw_all := lw_g (lw_at lw_m6 156 rfl) rfl
theorem q1491 : (Jvm.Cond.classLink "PulseRent" (306 : Nat) "PulseRent$Line") ∈ lw_all := lw_g (lw_at lw_m6 157 rfl) rfl
theorem q1492 : (Jvm.Cond.methodLink "PulseRent" (308 : Nat) ({ cls := "PulseRent$Line", name := "isDone", desc := "(LPulseRent;LPulseRent$State;)Z" } : Jvm.MethodName)) ∈ lw_all := lw_g (lw_at lw_m6 158 rfl) rfl
theorem q1521 : (Jvm.Cond.methodLink "PulseRent" (312 : Nat) ({ cls := "java/lang/Integer", name := "bitCount", desc := "(I)I" } : Jvm.MethodName)) ∈ lw_all := lw_g (lw_at lw_m6 187 rfl) rfl
theorem q1528 : (Jvm.Cond.instanceMethod ({ cls := "PulseRent", name := "owed", desc := "(I)I" } : Jvm.MethodName)) ∈ lw_all := lw_g (lw_at lw_m6 194 rfl) rfl
theorem q1529 : (Jvm.Cond.selects "PulseRent" ({ cls := "PulseRent", name := "owed", desc := "(I)I" } : Jvm.MethodName) ({ cls := "PulseRent", name := "owed", desc := "(I)I" } : Jvm.MethodName)) ∈ lw_all := lw_g (lw_at lw_m6 195 rfl) rfl
theorem q1530 : (Jvm.Cond.code ({ cls := "PulseRent", name := "owed", desc := "(I)I" } : Jvm.MethodName) prog_1_method_40_code (2 : Nat) (Option.some Jvm.ClassFile.FieldType.int)) ∈ lw_all := lw_g (lw_at lw_m6 196 rfl) rfl
theorem q1532 : (Jvm.Cond.instanceMethod ({ cls := "PulseRent", name := "will", desc := "(II)I" } : Jvm.MethodName)) ∈ lw_all := lw_g (lw_at lw_m6 198 rfl) rfl
theorem q1533 : (Jvm.Cond.selects "PulseRent" ({ cls := "PulseRent", name := "will", desc := "(II)I" } : Jvm.MethodName) ({ cls := "PulseRent", name := "will", desc := "(II)I" } : Jvm.MethodName)) ∈ lw_all := lw_g (lw_at lw_m6 199 rfl) rfl
theorem q1534 : (Jvm.Cond.code ({ cls := "PulseRent", name := "will", desc := "(II)I" } : Jvm.MethodName) prog_1_method_41_code (3 : Nat) (Option.some Jvm.ClassFile.FieldType.int)) ∈ lw_all := lw_g (lw_at lw_m6 200 rfl) rfl
theorem q1536 : (Jvm.Cond.instanceMethod ({ cls := "PulseRent", name := "last", desc := "(II)I" } : Jvm.MethodName)) ∈ lw_all := lw_g (lw_at lw_m6 202 rfl) rfl
theorem q1537 : (Jvm.Cond.selects "PulseRent" ({ cls := "PulseRent", name := "last", desc := "(II)I" } : Jvm.MethodName) ({ cls := "PulseRent", name := "last", desc := "(II)I" } : Jvm.MethodName)) ∈ lw_all := lw_g (lw_at lw_m6 203 rfl) rfl
theorem q1538 : (Jvm.Cond.code ({ cls := "PulseRent", name := "last", desc := "(II)I" } : Jvm.MethodName) prog_1_method_42_code (4 : Nat) (Option.some Jvm.ClassFile.FieldType.int)) ∈ lw_all := lw_g (lw_at lw_m6 204 rfl) rfl
theorem q1540 : (Jvm.Cond.instanceMethod ({ cls := "PulseRent", name := "errands", desc := "(II)I" } : Jvm.MethodName)) ∈ lw_all := lw_g (lw_at lw_m6 206 rfl) rfl
theorem q1541 : (Jvm.Cond.selects "PulseRent" ({ cls := "PulseRent", name := "errands", desc := "(II)I" } : Jvm.MethodName) ({ cls := "PulseRent", name := "errands", desc := "(II)I" } : Jvm.MethodName)) ∈ lw_all := lw_g (lw_at lw_m6 207 rfl) rfl
theorem q1542 : (Jvm.Cond.code ({ cls := "PulseRent", name := "errands", desc := "(II)I" } : Jvm.MethodName) prog_1_method_44_code (3 : Nat) (Option.some Jvm.ClassFile.FieldType.int)) ∈ lw_all := lw_g (lw_at lw_m6 208 rfl) rfl
theorem q1543 : (Jvm.Cond.methodLink "PulseRent" (338 : Nat) ({ cls := "PulseRent", name := "goes", desc := "(LPulseRent$Tenant;IIIII)V" } : Jvm.MethodName)) ∈ lw_all := lw_g (lw_at lw_m6 209 rfl) rfl
theorem q1544 : (Jvm.Cond.privateMethod ({ cls := "PulseRent", name := "goes", desc := "(LPulseRent$Tenant;IIIII)V" } : Jvm.MethodName)) ∈ lw_tbl := lw_at lw_m6 210 rfl
theorem q1545 : (Jvm.Cond.instanceMethod ({ cls := "PulseRent", name := "goes", desc := "(LPulseRent$Tenant;IIIII)V" } : Jvm.MethodName)) ∈ lw_all := lw_g (lw_at lw_m6 211 rfl) rfl
theorem q1546 : (Jvm.Cond.code ({ cls := "PulseRent", name := "goes", desc := "(LPulseRent$Tenant;IIIII)V" } : Jvm.MethodName) prog_1_method_43_code (13 : Nat) (Option.none : Option Jvm.ClassFile.FieldType)) ∈ lw_all := lw_g (lw_at lw_m6 212 rfl) rfl
theorem q1547 : (Jvm.Cond.methodLink "PulseRent" (323 : Nat) ({ cls := "PulseRent", name := "copies", desc := "([I[I)V" } : Jvm.MethodName)) ∈ lw_all := lw_g (lw_at lw_m6 213 rfl) rfl
theorem q1548 : (Jvm.Cond.classLink "PulseRent" (327 : Nat) "PulseRent$Errand") ∈ lw_all := lw_g (lw_at lw_m6 214 rfl) rfl
theorem q1550 : (Jvm.Cond.instanceMethod ({ cls := "PulseRent", name := "match", desc := "(I)I" } : Jvm.MethodName)) ∈ lw_all := lw_g (lw_at lw_m6 216 rfl) rfl
theorem q1551 : (Jvm.Cond.selects "PulseRent" ({ cls := "PulseRent", name := "match", desc := "(I)I" } : Jvm.MethodName) ({ cls := "PulseRent", name := "match", desc := "(I)I" } : Jvm.MethodName)) ∈ lw_all := lw_g (lw_at lw_m6 217 rfl) rfl
theorem q1552 : (Jvm.Cond.code ({ cls := "PulseRent", name := "match", desc := "(I)I" } : Jvm.MethodName) prog_1_method_49_code (2 : Nat) (Option.some Jvm.ClassFile.FieldType.int)) ∈ lw_all := lw_g (lw_at lw_m6 218 rfl) rfl
theorem q1553 : (Jvm.Cond.methodLink "PulseRent" (356 : Nat) ({ cls := "PulseRent", name := "matches", desc := "()V" } : Jvm.MethodName)) ∈ lw_all := lw_g (lw_at lw_m6 219 rfl) rfl
theorem q1554 : (Jvm.Cond.privateMethod ({ cls := "PulseRent", name := "matches", desc := "()V" } : Jvm.MethodName)) ∈ lw_tbl := lw_at lw_m6 220 rfl
theorem q1555 : (Jvm.Cond.instanceMethod ({ cls := "PulseRent", name := "matches", desc := "()V" } : Jvm.MethodName)) ∈ lw_all := lw_g (lw_at lw_m6 221 rfl) rfl
theorem q1556 : (Jvm.Cond.code ({ cls := "PulseRent", name := "matches", desc := "()V" } : Jvm.MethodName) prog_1_method_47_code (5 : Nat) (Option.none : Option Jvm.ClassFile.FieldType)) ∈ lw_all := lw_g (lw_at lw_m6 222 rfl) rfl
theorem q1557 : (Jvm.Cond.methodLink "PulseRent" (350 : Nat) ({ cls := "PulseRent", name := "wishes", desc := "(II)I" } : Jvm.MethodName)) ∈ lw_all := lw_g (lw_at lw_m6 223 rfl) rfl
theorem q1558 : (Jvm.Cond.privateMethod ({ cls := "PulseRent", name := "wishes", desc := "(II)I" } : Jvm.MethodName)) ∈ lw_tbl := lw_at lw_m6 224 rfl
theorem q1559 : (Jvm.Cond.instanceMethod ({ cls := "PulseRent", name := "wishes", desc := "(II)I" } : Jvm.MethodName)) ∈ lw_all := lw_g (lw_at lw_m6 225 rfl) rfl
theorem q1560 : (Jvm.Cond.code ({ cls := "PulseRent", name := "wishes", desc := "(II)I" } : Jvm.MethodName) prog_1_method_46_code (5 : Nat) (Option.some Jvm.ClassFile.FieldType.int)) ∈ lw_all := lw_g (lw_at lw_m6 226 rfl) rfl
theorem q1561 : (Jvm.Cond.methodLink "PulseRent" (348 : Nat) ({ cls := "PulseRent", name := "wish", desc := "(II)I" } : Jvm.MethodName)) ∈ lw_all := lw_g (lw_at lw_m6 227 rfl) rfl
theorem q1562 : (Jvm.Cond.privateMethod ({ cls := "PulseRent", name := "wish", desc := "(II)I" } : Jvm.MethodName)) ∈ lw_tbl := lw_at lw_m6 228 rfl
theorem q1563 : (Jvm.Cond.instanceMethod ({ cls := "PulseRent", name := "wish", desc := "(II)I" } : Jvm.MethodName)) ∈ lw_all := lw_g (lw_at lw_m6 229 rfl) rfl
theorem q1564 : (Jvm.Cond.code ({ cls := "PulseRent", name := "wish", desc := "(II)I" } : Jvm.MethodName) prog_1_method_45_code (3 : Nat) (Option.some Jvm.ClassFile.FieldType.int)) ∈ lw_all := lw_g (lw_at lw_m6 230 rfl) rfl
theorem q1565 : (Jvm.Cond.methodLink "PulseRent" (345 : Nat) ({ cls := "PulseRent$Tenant", name := "wish", desc := "(LPulseRent$Room;)I" } : Jvm.MethodName)) ∈ lw_all := lw_g (lw_at lw_m6 231 rfl) rfl
theorem q1575 : (Jvm.Cond.methodLink "PulseRent" (353 : Nat) ({ cls := "PulseRent", name := "isAhead", desc := "(II)Z" } : Jvm.MethodName)) ∈ lw_all := lw_g (lw_at lw_m7 1 rfl) rfl
theorem q1576 : (Jvm.Cond.privateMethod ({ cls := "PulseRent", name := "isAhead", desc := "(II)Z" } : Jvm.MethodName)) ∈ lw_tbl := lw_at lw_m7 2 rfl
theorem q1577 : (Jvm.Cond.instanceMethod ({ cls := "PulseRent", name := "isAhead", desc := "(II)Z" } : Jvm.MethodName)) ∈ lw_all := lw_g (lw_at lw_m7 3 rfl) rfl
theorem q1578 : (Jvm.Cond.code ({ cls := "PulseRent", name := "isAhead", desc := "(II)Z" } : Jvm.MethodName) prog_1_method_48_code (3 : Nat) (Option.some Jvm.ClassFile.FieldType.boolean)) ∈ lw_all := lw_g (lw_at lw_m7 4 rfl) rfl
theorem q1580 : (Jvm.Cond.instanceMethod ({ cls := "PulseRent", name := "spare", desc := "(II)I" } : Jvm.MethodName)) ∈ lw_all := lw_g (lw_at lw_m7 6 rfl) rfl
theorem q1581 : (Jvm.Cond.selects "PulseRent" ({ cls := "PulseRent", name := "spare", desc := "(II)I" } : Jvm.MethodName) ({ cls := "PulseRent", name := "spare", desc := "(II)I" } : Jvm.MethodName)) ∈ lw_all := lw_g (lw_at lw_m7 7 rfl) rfl
theorem q1582 : (Jvm.Cond.code ({ cls := "PulseRent", name := "spare", desc := "(II)I" } : Jvm.MethodName) prog_1_method_50_code (5 : Nat) (Option.some Jvm.ClassFile.FieldType.int)) ∈ lw_all := lw_g (lw_at lw_m7 8 rfl) rfl
theorem q1584 : (Jvm.Cond.instanceMethod ({ cls := "PulseRent", name := "sampled", desc := "(IIII)I" } : Jvm.MethodName)) ∈ lw_all := lw_g (lw_at lw_m7 10 rfl) rfl
theorem q1585 : (Jvm.Cond.selects "PulseRent" ({ cls := "PulseRent", name := "sampled", desc := "(IIII)I" } : Jvm.MethodName) ({ cls := "PulseRent", name := "sampled", desc := "(IIII)I" } : Jvm.MethodName)) ∈ lw_all := lw_g (lw_at lw_m7 11 rfl) rfl
theorem q1586 : (Jvm.Cond.code ({ cls := "PulseRent", name := "sampled", desc := "(IIII)I" } : Jvm.MethodName) prog_1_method_52_code (8 : Nat) (Option.some Jvm.ClassFile.FieldType.int)) ∈ lw_all := lw_g (lw_at lw_m7 12 rfl) rfl
theorem q1587 : (Jvm.Cond.methodLink "PulseRent" (359 : Nat) ({ cls := "PulseRent", name := "choices", desc := "(II)J" } : Jvm.MethodName)) ∈ lw_all := lw_g (lw_at lw_m7 13 rfl) rfl
theorem q1588 : (Jvm.Cond.static ({ cls := "PulseRent", name := "choices", desc := "(II)J" } : Jvm.MethodName)) ∈ lw_all := lw_g (lw_at lw_m7 14 rfl) rfl
theorem q1589 : (Jvm.Cond.code ({ cls := "PulseRent", name := "choices", desc := "(II)J" } : Jvm.MethodName) prog_1_method_51_code (5 : Nat) (Option.some Jvm.ClassFile.FieldType.long)) ∈ lw_all := lw_g (lw_at lw_m7 15 rfl) rfl
theorem q1590 : (Jvm.Cond.constantLong "PulseRent" (363 : Nat) (1000000 : Int64)) ∈ lw_all := lw_g (lw_at lw_m7 16 rfl) rfl
theorem q1592 : (Jvm.Cond.instanceMethod ({ cls := "PulseRent", name := "haunt", desc := "(IIII)I" } : Jvm.MethodName)) ∈ lw_all := lw_g (lw_at lw_m7 18 rfl) rfl
theorem q1593 : (Jvm.Cond.selects "PulseRent" ({ cls := "PulseRent", name := "haunt", desc := "(IIII)I" } : Jvm.MethodName) ({ cls := "PulseRent", name := "haunt", desc := "(IIII)I" } : Jvm.MethodName)) ∈ lw_all := lw_g (lw_at lw_m7 19 rfl) rfl
theorem q1594 : (Jvm.Cond.code ({ cls := "PulseRent", name := "haunt", desc := "(IIII)I" } : Jvm.MethodName) prog_1_method_53_code (9 : Nat) (Option.some Jvm.ClassFile.FieldType.int)) ∈ lw_all := lw_g (lw_at lw_m7 20 rfl) rfl
theorem q1596 : (Jvm.Cond.instanceMethod ({ cls := "PulseRent", name := "law", desc := "(II)I" } : Jvm.MethodName)) ∈ lw_all := lw_g (lw_at lw_m7 22 rfl) rfl
theorem q1597 : (Jvm.Cond.selects "PulseRent" ({ cls := "PulseRent", name := "law", desc := "(II)I" } : Jvm.MethodName) ({ cls := "PulseRent", name := "law", desc := "(II)I" } : Jvm.MethodName)) ∈ lw_all := lw_g (lw_at lw_m7 23 rfl) rfl
theorem q1598 : (Jvm.Cond.code ({ cls := "PulseRent", name := "law", desc := "(II)I" } : Jvm.MethodName) prog_1_method_57_code (4 : Nat) (Option.some Jvm.ClassFile.FieldType.int)) ∈ lw_all := lw_g (lw_at lw_m7 24 rfl) rfl
theorem q1600 : (Jvm.Cond.instanceMethod ({ cls := "PulseRent", name := "sample", desc := "(II)Z" } : Jvm.MethodName)) ∈ lw_all := lw_g (lw_at lw_m7 26 rfl) rfl
theorem q1601 : (Jvm.Cond.selects "PulseRent" ({ cls := "PulseRent", name := "sample", desc := "(II)Z" } : Jvm.MethodName) ({ cls := "PulseRent", name := "sample", desc := "(II)Z" } : Jvm.MethodName)) ∈ lw_all := lw_g (lw_at lw_m7 27 rfl) rfl
theorem q1602 : (Jvm.Cond.code ({ cls := "PulseRent", name := "sample", desc := "(II)Z" } : Jvm.MethodName) prog_1_method_58_code (3 : Nat) (Option.some Jvm.ClassFile.FieldType.boolean)) ∈ lw_all := lw_g (lw_at lw_m7 28 rfl) rfl
theorem q1604 : (Jvm.Cond.instanceMethod ({ cls := "PulseRent", name := "days", desc := "(I)I" } : Jvm.MethodName)) ∈ lw_all := lw_g (lw_at lw_m7 30 rfl) rfl
theorem q1605 : (Jvm.Cond.selects "PulseRent" ({ cls := "PulseRent", name := "days", desc := "(I)I" } : Jvm.MethodName) ({ cls := "PulseRent", name := "days", desc := "(I)I" } : Jvm.MethodName)) ∈ lw_all := lw_g (lw_at lw_m7 31 rfl) rfl
theorem q1606 : (Jvm.Cond.code ({ cls := "PulseRent", name := "days", desc := "(I)I" } : Jvm.MethodName) prog_1_method_63_code (2 : Nat) (Option.some Jvm.ClassFile.FieldType.int)) ∈ lw_all := lw_g (lw_at lw_m7 32 rfl) rfl
theorem q1607 : (Jvm.Cond.methodLink "PulseRent" (389 : Nat) ({ cls := "PulseRent", name := "looks", desc := "(LPulseRent$Tenant;)V" } : Jvm.MethodName)) ∈ lw_all := lw_g (lw_at lw_m7 33 rfl) rfl
theorem q1608 : (Jvm.Cond.privateMethod ({ cls := "PulseRent", name := "looks", desc := "(LPulseRent$Tenant;)V" } : Jvm.MethodName)) ∈ lw_tbl := lw_at lw_m7 34 rfl
theorem q1609 : (Jvm.Cond.instanceMethod ({ cls := "PulseRent", name := "looks", desc := "(LPulseRent$Tenant;)V" } : Jvm.MethodName)) ∈ lw_all := lw_g (lw_at lw_m7 35 rfl) rfl
theorem q1610 : (Jvm.Cond.code ({ cls := "PulseRent", name := "looks", desc := "(LPulseRent$Tenant;)V" } : Jvm.MethodName) prog_1_method_62_code (4 : Nat) (Option.none : Option Jvm.ClassFile.FieldType)) ∈ lw_all := lw_g (lw_at lw_m7 36 rfl) rfl
theorem q1611 : (Jvm.Cond.methodLink "PulseRent" (381 : Nat) ({ cls := "PulseRent", name := "lives", desc := "(LPulseRent$Tenant;I)V" } : Jvm.MethodName)) ∈ lw_all := lw_g (lw_at lw_m7 37 rfl) rfl
theorem q1612 : (Jvm.Cond.privateMethod ({ cls := "PulseRent", name := "lives", desc := "(LPulseRent$Tenant;I)V" } : Jvm.MethodName)) ∈ lw_tbl := lw_at lw_m7 38 rfl
theorem q1613 : (Jvm.Cond.instanceMethod ({ cls := "PulseRent", name := "lives", desc := "(LPulseRent$Tenant;I)V" } : Jvm.MethodName)) ∈ lw_all := lw_g (lw_at lw_m7 39 rfl) rfl
theorem q1614 : (Jvm.Cond.code ({ cls := "PulseRent", name := "lives", desc := "(LPulseRent$Tenant;I)V" } : Jvm.MethodName) prog_1_method_60_code (7 : Nat) (Option.none : Option Jvm.ClassFile.FieldType)) ∈ lw_all := lw_g (lw_at lw_m7 40 rfl) rfl
theorem q1615 : (Jvm.Cond.methodLink "PulseRent" (372 : Nat) ({ cls := "PulseRent", name := "didIn", desc := "(II)I" } : Jvm.MethodName)) ∈ lw_all := lw_g (lw_at lw_m7 41 rfl) rfl
theorem q1616 : (Jvm.Cond.static ({ cls := "PulseRent", name := "didIn", desc := "(II)I" } : Jvm.MethodName)) ∈ lw_all := lw_g (lw_at lw_m7 42 rfl) rfl
theorem q1617 : (Jvm.Cond.code ({ cls := "PulseRent", name := "didIn", desc := "(II)I" } : Jvm.MethodName) prog_1_method_59_code (4 : Nat) (Option.some Jvm.ClassFile.FieldType.int)) ∈ lw_all := lw_g (lw_at lw_m7 43 rfl) rfl
theorem q1618 : (Jvm.Cond.methodLink "PulseRent" (385 : Nat) ({ cls := "PulseRent", name := "isSampled", desc := "()Z" } : Jvm.MethodName)) ∈ lw_all := lw_g (lw_at lw_m7 44 rfl) rfl
theorem q1619 : (Jvm.Cond.privateMethod ({ cls := "PulseRent", name := "isSampled", desc := "()Z" } : Jvm.MethodName)) ∈ lw_tbl := lw_at lw_m7 45 rfl
theorem q1620 : (Jvm.Cond.instanceMethod ({ cls := "PulseRent", name := "isSampled", desc := "()Z" } : Jvm.MethodName)) ∈ lw_all := lw_g (lw_at lw_m7 46 rfl) rfl
theorem q1621 : (Jvm.Cond.code ({ cls := "PulseRent", name := "isSampled", desc := "()Z" } : Jvm.MethodName) prog_1_method_61_code (2 : Nat) (Option.some Jvm.ClassFile.FieldType.boolean)) ∈ lw_all := lw_g (lw_at lw_m7 47 rfl) rfl
theorem q1623 : (Jvm.Cond.instanceMethod ({ cls := "PulseRent", name := "did", desc := "(II)I" } : Jvm.MethodName)) ∈ lw_all := lw_g (lw_at lw_m7 49 rfl) rfl
theorem q1624 : (Jvm.Cond.selects "PulseRent" ({ cls := "PulseRent", name := "did", desc := "(II)I" } : Jvm.MethodName) ({ cls := "PulseRent", name := "did", desc := "(II)I" } : Jvm.MethodName)) ∈ lw_all := lw_g (lw_at lw_m7 50 rfl) rfl
theorem q1625 : (Jvm.Cond.code ({ cls := "PulseRent", name := "did", desc := "(II)I" } : Jvm.MethodName) prog_1_method_64_code (3 : Nat) (Option.some Jvm.ClassFile.FieldType.int)) ∈ lw_all := lw_g (lw_at lw_m7 51 rfl) rfl
theorem q1627 : (Jvm.Cond.instanceMethod ({ cls := "PulseRent", name := "next", desc := "(I)I" } : Jvm.MethodName)) ∈ lw_all := lw_g (lw_at lw_m7 53 rfl) rfl
theorem q1628 : (Jvm.Cond.selects "PulseRent" ({ cls := "PulseRent", name := "next", desc := "(I)I" } : Jvm.MethodName) ({ cls := "PulseRent", name := "next", desc := "(I)I" } : Jvm.MethodName)) ∈ lw_all := lw_g (lw_at lw_m7 54 rfl) rfl
theorem q1629 : (Jvm.Cond.code ({ cls := "PulseRent", name := "next", desc := "(I)I" } : Jvm.MethodName) prog_1_method_65_code (7 : Nat) (Option.some Jvm.ClassFile.FieldType.int)) ∈ lw_all := lw_g (lw_at lw_m7 55 rfl) rfl
theorem q1631 : (Jvm.Cond.instanceMethod ({ cls := "PulseRent", name := "years", desc := "(III)I" } : Jvm.MethodName)) ∈ lw_all := lw_g (lw_at lw_m7 57 rfl) rfl
theorem q1632 : (Jvm.Cond.selects "PulseRent" ({ cls := "PulseRent", name := "years", desc := "(III)I" } : Jvm.MethodName) ({ cls := "PulseRent", name := "years", desc := "(III)I" } : Jvm.MethodName)) ∈ lw_all := lw_g (lw_at lw_m7 58 rfl) rfl
theorem q1633 : (Jvm.Cond.code ({ cls := "PulseRent", name := "years", desc := "(III)I" } : Jvm.MethodName) prog_1_method_68_code (9 : Nat) (Option.some Jvm.ClassFile.FieldType.int)) ∈ lw_all := lw_g (lw_at lw_m7 59 rfl) rfl
theorem q1634 : (Jvm.Cond.methodLink "PulseRent" (405 : Nat) ({ cls := "PulseRent", name := "draws", desc := "(I)I" } : Jvm.MethodName)) ∈ lw_all := lw_g (lw_at lw_m7 60 rfl) rfl
theorem q1635 : (Jvm.Cond.privateMethod ({ cls := "PulseRent", name := "draws", desc := "(I)I" } : Jvm.MethodName)) ∈ lw_tbl := lw_at lw_m7 61 rfl
theorem q1636 : (Jvm.Cond.instanceMethod ({ cls := "PulseRent", name := "draws", desc := "(I)I" } : Jvm.MethodName)) ∈ lw_all := lw_g (lw_at lw_m7 62 rfl) rfl
theorem q1637 : (Jvm.Cond.code ({ cls := "PulseRent", name := "draws", desc := "(I)I" } : Jvm.MethodName) prog_1_method_66_code (2 : Nat) (Option.some Jvm.ClassFile.FieldType.int)) ∈ lw_all := lw_g (lw_at lw_m7 63 rfl) rfl
theorem q1638 : (Jvm.Cond.constantLong "PulseRent" (397 : Nat) (1103515245 : Int64)) ∈ lw_all := lw_g (lw_at lw_m7 64 rfl) rfl
theorem q1639 : (Jvm.Cond.constantLong "PulseRent" (399 : Nat) (12345 : Int64)) ∈ lw_all := lw_g (lw_at lw_m7 65 rfl) rfl
theorem q1640 : (Jvm.Cond.constantLong "PulseRent" (401 : Nat) (2147483648 : Int64)) ∈ lw_all := lw_g (lw_at lw_m7 66 rfl) rfl
theorem q1641 : (Jvm.Cond.constantLong "PulseRent" (403 : Nat) (65536 : Int64)) ∈ lw_all := lw_g (lw_at lw_m7 67 rfl) rfl
theorem q1642 : (Jvm.Cond.methodLink "PulseRent" (408 : Nat) ({ cls := "PulseRent", name := "sum", desc := "([I)I" } : Jvm.MethodName)) ∈ lw_all := lw_g (lw_at lw_m7 68 rfl) rfl
theorem q1643 : (Jvm.Cond.static ({ cls := "PulseRent", name := "sum", desc := "([I)I" } : Jvm.MethodName)) ∈ lw_all := lw_g (lw_at lw_m7 69 rfl) rfl
theorem q1644 : (Jvm.Cond.code ({ cls := "PulseRent", name := "sum", desc := "([I)I" } : Jvm.MethodName) prog_1_method_67_code (3 : Nat) (Option.some Jvm.ClassFile.FieldType.int)) ∈ lw_all := lw_g (lw_at lw_m7 70 rfl) rfl
theorem q1646 : (Jvm.Cond.instanceMethod ({ cls := "PulseRent", name := "mark", desc := "(IZ)Z" } : Jvm.MethodName)) ∈ lw_all := lw_g (lw_at lw_m7 72 rfl) rfl
theorem q1647 : (Jvm.Cond.selects "PulseRent" ({ cls := "PulseRent", name := "mark", desc := "(IZ)Z" } : Jvm.MethodName) ({ cls := "PulseRent", name := "mark", desc := "(IZ)Z" } : Jvm.MethodName)) ∈ lw_all := lw_g (lw_at lw_m7 73 rfl) rfl
theorem q1648 : (Jvm.Cond.code ({ cls := "PulseRent", name := "mark", desc := "(IZ)Z" } : Jvm.MethodName) prog_1_method_69_code (4 : Nat) (Option.some Jvm.ClassFile.FieldType.boolean)) ∈ lw_all := lw_g (lw_at lw_m7 74 rfl) rfl
theorem q1650 : (Jvm.Cond.methodLinkNest "PulseRent" (411 : Nat) ({ cls := "PulseRent$Mark", name := "<init>", desc := "()V" } : Jvm.MethodName) "PulseRent") ∈ lw_tbl := lw_at lw_m7 76 rfl
theorem q1657 : (Jvm.Cond.fieldLinkNest "PulseRent" (412 : Nat) "PulseRent$Mark" "state" "LPulseRent$State;" "PulseRent") ∈ lw_tbl := lw_at lw_m7 83 rfl
theorem q1659 : (Jvm.Cond.fieldLinkNest "PulseRent" (413 : Nat) "PulseRent$Mark" "minute" "[I" "PulseRent") ∈ lw_tbl := lw_at lw_m7 85 rfl
theorem q1661 : (Jvm.Cond.fieldLinkNest "PulseRent" (415 : Nat) "PulseRent$Mark" "beats" "[I" "PulseRent") ∈ lw_tbl := lw_at lw_m7 87 rfl
theorem q1662 : (Jvm.Cond.fieldLinkNest "PulseRent" (418 : Nat) "PulseRent$Mark" "samples" "I" "PulseRent") ∈ lw_tbl := lw_at lw_m7 88 rfl
theorem q1673 : (Jvm.Cond.instanceMethod ({ cls := "PulseRent", name := "count", desc := "(I)I" } : Jvm.MethodName)) ∈ lw_all := lw_g (lw_at lw_m7 99 rfl) rfl
theorem q1674 : (Jvm.Cond.selects "PulseRent" ({ cls := "PulseRent", name := "count", desc := "(I)I" } : Jvm.MethodName) ({ cls := "PulseRent", name := "count", desc := "(I)I" } : Jvm.MethodName)) ∈ lw_all := lw_g (lw_at lw_m7 100 rfl) rfl
theorem q1675 : (Jvm.Cond.code ({ cls := "PulseRent", name := "count", desc := "(I)I" } : Jvm.MethodName) prog_1_method_70_code (2 : Nat) (Option.some Jvm.ClassFile.FieldType.int)) ∈ lw_all := lw_g (lw_at lw_m7 101 rfl) rfl
theorem q1681 : (Jvm.Cond.instanceMethod ({ cls := "PulseRent", name := "lease", desc := "(II)I" } : Jvm.MethodName)) ∈ lw_all := lw_g (lw_at lw_m7 107 rfl) rfl
theorem q1682 : (Jvm.Cond.selects "PulseRent" ({ cls := "PulseRent", name := "lease", desc := "(II)I" } : Jvm.MethodName) ({ cls := "PulseRent", name := "lease", desc := "(II)I" } : Jvm.MethodName)) ∈ lw_all := lw_g (lw_at lw_m7 108 rfl) rfl
theorem q1683 : (Jvm.Cond.code ({ cls := "PulseRent", name := "lease", desc := "(II)I" } : Jvm.MethodName) prog_1_method_55_code (3 : Nat) (Option.some Jvm.ClassFile.FieldType.int)) ∈ lw_all := lw_g (lw_at lw_m7 109 rfl) rfl
theorem q1684 : (Jvm.Cond.methodLink "PulseRent" (365 : Nat) ({ cls := "PulseRent", name := "need", desc := "(Z)V" } : Jvm.MethodName)) ∈ lw_all := lw_g (lw_at lw_m7 110 rfl) rfl
theorem q1685 : (Jvm.Cond.static ({ cls := "PulseRent", name := "need", desc := "(Z)V" } : Jvm.MethodName)) ∈ lw_all := lw_g (lw_at lw_m7 111 rfl) rfl
theorem q1686 : (Jvm.Cond.code ({ cls := "PulseRent", name := "need", desc := "(Z)V" } : Jvm.MethodName) prog_1_method_4_code (1 : Nat) (Option.none : Option Jvm.ClassFile.FieldType)) ∈ lw_all := lw_g (lw_at lw_m7 112 rfl) rfl
theorem q1687 : (Jvm.Cond.classLink "PulseRent" (10 : Nat) "java/util/NoSuchElementException") ∈ lw_all := lw_g (lw_at lw_m7 113 rfl) rfl
theorem q1696 : (Jvm.Cond.methodLink "PulseRent" (12 : Nat) ({ cls := "java/util/NoSuchElementException", name := "<init>", desc := "()V" } : Jvm.MethodName)) ∈ lw_all := lw_g (lw_at lw_m7 122 rfl) rfl
theorem q1708 : (Jvm.Cond.methodLink "PulseRent" (369 : Nat) ({ cls := "PulseRent", name := "saved", desc := "(II)I" } : Jvm.MethodName)) ∈ lw_all := lw_g (lw_at lw_m7 134 rfl) rfl
theorem q1709 : (Jvm.Cond.privateMethod ({ cls := "PulseRent", name := "saved", desc := "(II)I" } : Jvm.MethodName)) ∈ lw_tbl := lw_at lw_m7 135 rfl
theorem q1710 : (Jvm.Cond.instanceMethod ({ cls := "PulseRent", name := "saved", desc := "(II)I" } : Jvm.MethodName)) ∈ lw_all := lw_g (lw_at lw_m7 136 rfl) rfl
theorem q1711 : (Jvm.Cond.code ({ cls := "PulseRent", name := "saved", desc := "(II)I" } : Jvm.MethodName) prog_1_method_54_code (4 : Nat) (Option.some Jvm.ClassFile.FieldType.int)) ∈ lw_all := lw_g (lw_at lw_m7 137 rfl) rfl
theorem q1716 : (Jvm.Cond.instanceMethod ({ cls := "PulseRent", name := "share", desc := "(II)I" } : Jvm.MethodName)) ∈ lw_all := lw_g (lw_at lw_m7 142 rfl) rfl
theorem q1717 : (Jvm.Cond.selects "PulseRent" ({ cls := "PulseRent", name := "share", desc := "(II)I" } : Jvm.MethodName) ({ cls := "PulseRent", name := "share", desc := "(II)I" } : Jvm.MethodName)) ∈ lw_all := lw_g (lw_at lw_m7 143 rfl) rfl
theorem q1718 : (Jvm.Cond.code ({ cls := "PulseRent", name := "share", desc := "(II)I" } : Jvm.MethodName) prog_1_method_56_code (3 : Nat) (Option.some Jvm.ClassFile.FieldType.int)) ∈ lw_all := lw_g (lw_at lw_m7 144 rfl) rfl
theorem q2375 : (Jvm.Cond.castable "PulseRent" "java/lang/Object") ∈ lw_tbl := lw_at lw_m10 81 rfl
theorem in_X1 : ∀ w ∈ wsX10, w ∈ lw_all := lw_in wsX10 [394, 396, 398, 400, 402, 404, 406, 408, 410, 412, 414, 416, 418, 420, 422, 424, 426, 428, 430, 432, 434, 436, 438, 440, 442] (by decide +kernel) (by decide +kernel)

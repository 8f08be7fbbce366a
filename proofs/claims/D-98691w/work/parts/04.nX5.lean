/-! PulseRentModel -/
set_option maxRecDepth 100000
def RX5 : String := "PulseRentModel"
def TX5 : u_T := fun k => match k with
  | 0 => ("PulseRentModel", "thrown", "I", false)
  | 1 => ("PulseRentModel", "tape", "[I", true)
  | 2 => ("PulseRentModel", "taped", "I", false)
  | 3 => ("PulseRentModel", "size", "I", false)
  | 4 => ("PulseRentModel", "sort", "[I", true)
  | 5 => ("PulseRentModel", "place", "[I", true)
  | 6 => ("PulseRentModel", "value", "[J", true)
  | 7 => ("PulseRentModel", "at", "I", false)
  | 8 => ("PulseRentModel", "fault", "I", false)
  | 9 => ("PulseRentModel", "words", "[J", true)
  | 10 => ("PulseRentModel", "housed", "[I", true)
  | 11 => ("PulseRentModel", "op", "[I", true)
  | 12 => ("PulseRentModel", "arg", "[I", true)
  | 13 => ("PulseRentModel", "codes", "I", false)
  | 14 => ("PulseRentModel", "names", "[J", true)
  | 15 => ("PulseRentModel", "readNames", "[J", true)
  | 16 => ("PulseRentModel", "nameOf", "[I", true)
  | 17 => ("PulseRentModel", "readNameOf", "[I", true)
  | 18 => ("PulseRentModel", "namesMany", "I", false)
  | 19 => ("PulseRentModel", "readMany", "I", false)
  | 20 => ("PulseRentModel", "once", "I", false)
  | 21 => ("PulseRentModel", "factsHere", "I", false)
  | 22 => ("PulseRentModel", "lines", "[I", true)
  | 23 => ("PulseRentModel", "facts", "[I", true)
  | 24 => ("PulseRentModel", "pile", "[I", true)
  | 25 => ("PulseRentModel", "state", "[I", true)
  | 26 => ("PulseRentModel", "undos", "I", false)
  | 27 => ("PulseRentModel", "isMarked", "[Z", true)
  | 28 => ("PulseRentModel", "brew", "I", false)
  | 29 => ("PulseRentModel", "order", "[I", true)
  | 30 => ("PulseRentModel", "bestOrder", "[I", true)
  | 31 => ("PulseRentModel", "fewest", "I", false)
  | 32 => ("PulseRentModel", "wishes", "[I", true)
  | 33 => ("PulseRentModel", "matched", "[I", true)
  | 34 => ("PulseRentModel", "askedRooms", "[I", true)
  | 35 => ("PulseRentModel", "dayBeats", "[I", true)
  | 36 => ("PulseRentModel", "alike", "[I", true)
  | 37 => ("PulseRentModel", "fitting", "I", false)
  | 38 => ("PulseRentModel", "firstDay", "I", false)
  | _ => ("PulseRentModel", "g", "J", false)
def tyX5 : Nat → FieldType := fun k => match k with
  | 0 => .int
  | 1 => .array .int
  | 2 => .int
  | 3 => .int
  | 4 => .array .int
  | 5 => .array .int
  | 6 => .array .long
  | 7 => .int
  | 8 => .int
  | 9 => .array .long
  | 10 => .array .int
  | 11 => .array .int
  | 12 => .array .int
  | 13 => .int
  | 14 => .array .long
  | 15 => .array .long
  | 16 => .array .int
  | 17 => .array .int
  | 18 => .int
  | 19 => .int
  | 20 => .int
  | 21 => .int
  | 22 => .array .int
  | 23 => .array .int
  | 24 => .array .int
  | 25 => .array .int
  | 26 => .int
  | 27 => .array .boolean
  | 28 => .int
  | 29 => .array .int
  | 30 => .array .int
  | 31 => .int
  | 32 => .array .int
  | 33 => .array .int
  | 34 => .array .int
  | 35 => .array .int
  | 36 => .array .int
  | 37 => .int
  | 38 => .int
  | _ => .long
abbrev wsX50 : List Cond := u_ws RX5 TX5 40
set_option maxRecDepth 100000 in
theorem nmX5 : ∀ a, a < 40 → ∀ b, b < 40 → a ≠ b → (TX5 a).2.1 ≠ (TX5 b).2.1 := by decide +kernel
set_option maxRecDepth 100000 in
theorem tyX5_ok : ∀ k, k < 40 → parseFieldDescriptor (TX5 k).2.2.1 = some (tyX5 k) := by decide +kernel
abbrev cX5_thrown : ByteArray := prog_26_method_1_code
def yX5_thrown : MethodName := ⟨RX5, "thrown", "()I"⟩
theorem dX5_thrown_0 : decode cX5_thrown 0 = .ok (.aload_n 0, 1) := by decide +kernel
theorem dX5_thrown_1 : decode cX5_thrown 1 = .ok (.getfield 1, 3) := by decide +kernel
theorem dX5_thrown_4 : decode cX5_thrown 4 = .ok (.ireturn, 1) := by decide +kernel
abbrev cX5_feed : ByteArray := prog_26_method_2_code
def yX5_feed : MethodName := ⟨RX5, "feed", "(JJJ)I"⟩
def dkwX5_feed_1 : List UInt8 := [180, 0, 11, 172]
abbrev dktX5_feed_1 : List UInt8 := dkwX5_feed_1 ++ []
def dkwX5_feed_0 : List UInt8 := [42, 3, 181, 0, 1, 42, 31, 182, 0, 7, 42, 33, 182, 0, 7, 42, 22, 5, 182, 0, 7, 42]
abbrev dktX5_feed_0 : List UInt8 := dkwX5_feed_0 ++ dktX5_feed_1
theorem dksX5_feed_0 : cX5_feed.data.toList.drop 0 = dktX5_feed_0 := by decide +kernel
theorem dksX5_feed_1 : cX5_feed.data.toList.drop 22 = dktX5_feed_1 := dk_seg dksX5_feed_0 22 rfl rfl
theorem dX5_feed_0 : decode cX5_feed 0 = .ok (.aload_n 0, 1) := dk_42 (dk_at dksX5_feed_0 0 rfl rfl)
theorem dX5_feed_1 : decode cX5_feed 1 = .ok (.iconst 0, 1) := dk_3 (dk_at dksX5_feed_0 1 rfl rfl)
theorem dX5_feed_2 : decode cX5_feed 2 = .ok (.putfield 1, 3) := dk_181 0 1 (dk_at dksX5_feed_0 2 rfl rfl)
theorem dX5_feed_5 : decode cX5_feed 5 = .ok (.aload_n 0, 1) := dk_42 (dk_at dksX5_feed_0 5 rfl rfl)
theorem dX5_feed_6 : decode cX5_feed 6 = .ok (.lload_n 1, 1) := dk_31 (dk_at dksX5_feed_0 6 rfl rfl)
theorem dX5_feed_7 : decode cX5_feed 7 = .ok (.invokevirtual 7, 3) := dk_182 0 7 (dk_at dksX5_feed_0 7 rfl rfl)
theorem dX5_feed_10 : decode cX5_feed 10 = .ok (.aload_n 0, 1) := dk_42 (dk_at dksX5_feed_0 10 rfl rfl)
theorem dX5_feed_11 : decode cX5_feed 11 = .ok (.lload_n 3, 1) := dk_33 (dk_at dksX5_feed_0 11 rfl rfl)
theorem dX5_feed_12 : decode cX5_feed 12 = .ok (.invokevirtual 7, 3) := dk_182 0 7 (dk_at dksX5_feed_0 12 rfl rfl)
theorem dX5_feed_15 : decode cX5_feed 15 = .ok (.aload_n 0, 1) := dk_42 (dk_at dksX5_feed_0 15 rfl rfl)
theorem dX5_feed_16 : decode cX5_feed 16 = .ok (.lload 5, 2) := dk_22 5 (dk_at dksX5_feed_0 16 rfl rfl)
theorem dX5_feed_18 : decode cX5_feed 18 = .ok (.invokevirtual 7, 3) := dk_182 0 7 (dk_at dksX5_feed_0 18 rfl rfl)
theorem dX5_feed_21 : decode cX5_feed 21 = .ok (.aload_n 0, 1) := dk_42 (dk_at dksX5_feed_0 21 rfl rfl)
theorem dX5_feed_22 : decode cX5_feed 22 = .ok (.getfield 11, 3) := dk_180 0 11 (dk_at dksX5_feed_1 0 rfl rfl)
theorem dX5_feed_25 : decode cX5_feed 25 = .ok (.ireturn, 1) := dk_172 (dk_at dksX5_feed_1 3 rfl rfl)
abbrev cX5_lay : ByteArray := prog_26_method_3_code
def yX5_lay : MethodName := ⟨RX5, "lay", "(J)V"⟩
def dkwX5_lay_3 : List UInt8 := [167, 255, 187, 177]
abbrev dktX5_lay_3 : List UInt8 := dkwX5_lay_3 ++ []
def dkwX5_lay_2 : List UInt8 := [42, 180, 0, 14, 42, 180, 0, 11, 21, 4, 79, 42, 89, 180, 0, 11, 4, 96, 181, 0, 11, 132, 3, 248]
abbrev dktX5_lay_2 : List UInt8 := dkwX5_lay_2 ++ dktX5_lay_3
def dkwX5_lay_1 : List UInt8 := [21, 4, 16, 32, 161, 0, 41, 21, 4, 16, 126, 163, 0, 34, 42, 180, 0, 11, 17, 3, 232, 162, 0, 24]
abbrev dktX5_lay_1 : List UInt8 := dkwX5_lay_1 ++ dktX5_lay_2
def dkwX5_lay_0 : List UInt8 := [16, 56, 62, 29, 155, 0, 71, 31, 29, 123, 136, 17, 0, 255, 126, 54, 4, 21, 4, 16, 10, 159, 0, 17]
abbrev dktX5_lay_0 : List UInt8 := dkwX5_lay_0 ++ dktX5_lay_1
theorem dksX5_lay_0 : cX5_lay.data.toList.drop 0 = dktX5_lay_0 := by decide +kernel
theorem dksX5_lay_1 : cX5_lay.data.toList.drop 24 = dktX5_lay_1 := dk_seg dksX5_lay_0 24 rfl rfl
theorem dksX5_lay_2 : cX5_lay.data.toList.drop 48 = dktX5_lay_2 := dk_seg dksX5_lay_1 24 rfl rfl
theorem dksX5_lay_3 : cX5_lay.data.toList.drop 72 = dktX5_lay_3 := dk_seg dksX5_lay_2 24 rfl rfl
theorem dX5_lay_0 : decode cX5_lay 0 = .ok (.bipush 56, 2) := dk_16 56 (dk_at dksX5_lay_0 0 rfl rfl)
theorem dX5_lay_2 : decode cX5_lay 2 = .ok (.istore_n 3, 1) := dk_62 (dk_at dksX5_lay_0 2 rfl rfl)
theorem dX5_lay_3 : decode cX5_lay 3 = .ok (.iload_n 3, 1) := dk_29 (dk_at dksX5_lay_0 3 rfl rfl)
theorem dX5_lay_4 : decode cX5_lay 4 = .ok (.ifCond .lt 71, 3) := dk_155 0 71 (dk_at dksX5_lay_0 4 rfl rfl)
theorem dX5_lay_7 : decode cX5_lay 7 = .ok (.lload_n 1, 1) := dk_31 (dk_at dksX5_lay_0 7 rfl rfl)
theorem dX5_lay_8 : decode cX5_lay 8 = .ok (.iload_n 3, 1) := dk_29 (dk_at dksX5_lay_0 8 rfl rfl)
theorem dX5_lay_9 : decode cX5_lay 9 = .ok (.lshr, 1) := dk_123 (dk_at dksX5_lay_0 9 rfl rfl)
theorem dX5_lay_10 : decode cX5_lay 10 = .ok (.l2i, 1) := dk_136 (dk_at dksX5_lay_0 10 rfl rfl)
theorem dX5_lay_11 : decode cX5_lay 11 = .ok (.sipush 255, 3) := dk_17 0 255 (dk_at dksX5_lay_0 11 rfl rfl)
theorem dX5_lay_14 : decode cX5_lay 14 = .ok (.iand, 1) := dk_126 (dk_at dksX5_lay_0 14 rfl rfl)
theorem dX5_lay_15 : decode cX5_lay 15 = .ok (.istore 4, 2) := dk_54 4 (dk_at dksX5_lay_0 15 rfl rfl)
theorem dX5_lay_17 : decode cX5_lay 17 = .ok (.iload 4, 2) := dk_21 4 (dk_at dksX5_lay_0 17 rfl rfl)
theorem dX5_lay_19 : decode cX5_lay 19 = .ok (.bipush 10, 2) := dk_16 10 (dk_at dksX5_lay_0 19 rfl rfl)
theorem dX5_lay_21 : decode cX5_lay 21 = .ok (.if_icmp .eq 17, 3) := dk_159 0 17 (dk_at dksX5_lay_0 21 rfl rfl)
theorem dX5_lay_24 : decode cX5_lay 24 = .ok (.iload 4, 2) := dk_21 4 (dk_at dksX5_lay_1 0 rfl rfl)
theorem dX5_lay_26 : decode cX5_lay 26 = .ok (.bipush 32, 2) := dk_16 32 (dk_at dksX5_lay_1 2 rfl rfl)
theorem dX5_lay_28 : decode cX5_lay 28 = .ok (.if_icmp .lt 41, 3) := dk_161 0 41 (dk_at dksX5_lay_1 4 rfl rfl)
theorem dX5_lay_31 : decode cX5_lay 31 = .ok (.iload 4, 2) := dk_21 4 (dk_at dksX5_lay_1 7 rfl rfl)
theorem dX5_lay_33 : decode cX5_lay 33 = .ok (.bipush 126, 2) := dk_16 126 (dk_at dksX5_lay_1 9 rfl rfl)
theorem dX5_lay_35 : decode cX5_lay 35 = .ok (.if_icmp .gt 34, 3) := dk_163 0 34 (dk_at dksX5_lay_1 11 rfl rfl)
theorem dX5_lay_38 : decode cX5_lay 38 = .ok (.aload_n 0, 1) := dk_42 (dk_at dksX5_lay_1 14 rfl rfl)
theorem dX5_lay_39 : decode cX5_lay 39 = .ok (.getfield 11, 3) := dk_180 0 11 (dk_at dksX5_lay_1 15 rfl rfl)
theorem dX5_lay_42 : decode cX5_lay 42 = .ok (.sipush 1000, 3) := dk_17 3 232 (dk_at dksX5_lay_1 18 rfl rfl)
theorem dX5_lay_45 : decode cX5_lay 45 = .ok (.if_icmp .ge 24, 3) := dk_162 0 24 (dk_at dksX5_lay_1 21 rfl rfl)
theorem dX5_lay_48 : decode cX5_lay 48 = .ok (.aload_n 0, 1) := dk_42 (dk_at dksX5_lay_2 0 rfl rfl)
theorem dX5_lay_49 : decode cX5_lay 49 = .ok (.getfield 14, 3) := dk_180 0 14 (dk_at dksX5_lay_2 1 rfl rfl)
theorem dX5_lay_52 : decode cX5_lay 52 = .ok (.aload_n 0, 1) := dk_42 (dk_at dksX5_lay_2 4 rfl rfl)
theorem dX5_lay_53 : decode cX5_lay 53 = .ok (.getfield 11, 3) := dk_180 0 11 (dk_at dksX5_lay_2 5 rfl rfl)
theorem dX5_lay_56 : decode cX5_lay 56 = .ok (.iload 4, 2) := dk_21 4 (dk_at dksX5_lay_2 8 rfl rfl)
theorem dX5_lay_58 : decode cX5_lay 58 = .ok (.iastore, 1) := dk_79 (dk_at dksX5_lay_2 10 rfl rfl)
theorem dX5_lay_59 : decode cX5_lay 59 = .ok (.aload_n 0, 1) := dk_42 (dk_at dksX5_lay_2 11 rfl rfl)
theorem dX5_lay_60 : decode cX5_lay 60 = .ok (.dup, 1) := dk_89 (dk_at dksX5_lay_2 12 rfl rfl)
theorem dX5_lay_61 : decode cX5_lay 61 = .ok (.getfield 11, 3) := dk_180 0 11 (dk_at dksX5_lay_2 13 rfl rfl)
theorem dX5_lay_64 : decode cX5_lay 64 = .ok (.iconst 1, 1) := dk_4 (dk_at dksX5_lay_2 16 rfl rfl)
theorem dX5_lay_65 : decode cX5_lay 65 = .ok (.iadd, 1) := dk_96 (dk_at dksX5_lay_2 17 rfl rfl)
theorem dX5_lay_66 : decode cX5_lay 66 = .ok (.putfield 11, 3) := dk_181 0 11 (dk_at dksX5_lay_2 18 rfl rfl)
theorem dX5_lay_69 : decode cX5_lay 69 = .ok (.iinc 3 (-8), 3) := dk_132 3 248 (dk_at dksX5_lay_2 21 rfl rfl)
theorem dX5_lay_72 : decode cX5_lay 72 = .ok (.goto (-69), 3) := dk_167 255 187 (dk_at dksX5_lay_3 0 rfl rfl)
theorem dX5_lay_75 : decode cX5_lay 75 = .ok (.return_, 1) := dk_177 (dk_at dksX5_lay_3 3 rfl rfl)
abbrev cX5_init : ByteArray := prog_26_method_4_code
def yX5_init : MethodName := ⟨RX5, "<init>", "()V"⟩
def dkwX5_init_19 : List UInt8 := [42, 17, 5, 166, 188, 10, 181, 0, 166, 42, 3, 182, 0, 169, 42, 182, 0, 173, 177]
abbrev dktX5_init_19 : List UInt8 := dkwX5_init_19 ++ []
def dkwX5_init_18 : List UInt8 := [42, 16, 6, 188, 10, 181, 0, 157, 42, 16, 6, 188, 10, 181, 0, 160, 42, 16, 6, 188, 10, 181, 0, 163]
abbrev dktX5_init_18 : List UInt8 := dkwX5_init_18 ++ dktX5_init_19
def dkwX5_init_17 : List UInt8 := [42, 16, 6, 188, 10, 181, 0, 148, 42, 16, 6, 188, 10, 181, 0, 151, 42, 16, 36, 188, 10, 181, 0, 154]
abbrev dktX5_init_17 : List UInt8 := dkwX5_init_17 ++ dktX5_init_18
def dkwX5_init_16 : List UInt8 := [17, 4, 76, 188, 10, 181, 0, 138, 42, 17, 5, 8, 188, 10, 181, 0, 141, 42, 7, 188, 4, 181, 0, 144]
abbrev dktX5_init_16 : List UInt8 := dkwX5_init_16 ++ dktX5_init_17
def dkwX5_init_15 : List UInt8 := [188, 10, 181, 0, 129, 42, 17, 0, 200, 188, 10, 181, 0, 132, 42, 8, 188, 10, 181, 0, 135, 42]
abbrev dktX5_init_15 : List UInt8 := dkwX5_init_15 ++ dktX5_init_16
def dkwX5_init_14 : List UInt8 := [188, 11, 181, 0, 120, 42, 16, 18, 188, 11, 181, 0, 123, 42, 16, 18, 188, 10, 181, 0, 126, 42, 16, 18]
abbrev dktX5_init_14 : List UInt8 := dkwX5_init_14 ++ dktX5_init_15
def dkwX5_init_13 : List UInt8 := [181, 0, 111, 42, 17, 8, 152, 188, 10, 181, 0, 114, 42, 17, 8, 152, 188, 10, 181, 0, 117, 42, 16, 18]
abbrev dktX5_init_13 : List UInt8 := dkwX5_init_13 ++ dktX5_init_14
def dkwX5_init_12 : List UInt8 := [80, 89, 16, 35, 20, 0, 104, 80, 89, 16, 36, 20, 0, 106, 80, 181, 0, 108, 42, 17, 0, 240, 188, 10]
abbrev dktX5_init_12 : List UInt8 := dkwX5_init_12 ++ dktX5_init_13
def dkwX5_init_11 : List UInt8 := [20, 0, 96, 80, 89, 16, 32, 20, 0, 98, 80, 89, 16, 33, 20, 0, 100, 80, 89, 16, 34, 20, 0, 102]
abbrev dktX5_init_11 : List UInt8 := dkwX5_init_11 ++ dktX5_init_12
def dkwX5_init_10 : List UInt8 := [16, 28, 20, 0, 90, 80, 89, 16, 29, 20, 0, 92, 80, 89, 16, 30, 20, 0, 94, 80, 89, 16, 31]
abbrev dktX5_init_10 : List UInt8 := dkwX5_init_10 ++ dktX5_init_11
def dkwX5_init_9 : List UInt8 := [80, 89, 16, 25, 20, 0, 84, 80, 89, 16, 26, 20, 0, 86, 80, 89, 16, 27, 20, 0, 88, 80, 89]
abbrev dktX5_init_9 : List UInt8 := dkwX5_init_9 ++ dktX5_init_10
def dkwX5_init_8 : List UInt8 := [20, 0, 76, 80, 89, 16, 22, 20, 0, 78, 80, 89, 16, 23, 20, 0, 80, 80, 89, 16, 24, 20, 0, 82]
abbrev dktX5_init_8 : List UInt8 := dkwX5_init_8 ++ dktX5_init_9
def dkwX5_init_7 : List UInt8 := [16, 18, 20, 0, 70, 80, 89, 16, 19, 20, 0, 72, 80, 89, 16, 20, 20, 0, 74, 80, 89, 16, 21]
abbrev dktX5_init_7 : List UInt8 := dkwX5_init_7 ++ dktX5_init_8
def dkwX5_init_6 : List UInt8 := [80, 89, 16, 15, 20, 0, 64, 80, 89, 16, 16, 20, 0, 66, 80, 89, 16, 17, 20, 0, 68, 80, 89]
abbrev dktX5_init_6 : List UInt8 := dkwX5_init_6 ++ dktX5_init_7
def dkwX5_init_5 : List UInt8 := [20, 0, 56, 80, 89, 16, 12, 20, 0, 58, 80, 89, 16, 13, 20, 0, 60, 80, 89, 16, 14, 20, 0, 62]
abbrev dktX5_init_5 : List UInt8 := dkwX5_init_5 ++ dktX5_init_6
def dkwX5_init_4 : List UInt8 := [89, 16, 8, 20, 0, 50, 80, 89, 16, 9, 20, 0, 52, 80, 89, 16, 10, 20, 0, 54, 80, 89, 16, 11]
abbrev dktX5_init_4 : List UInt8 := dkwX5_init_4 ++ dktX5_init_5
def dkwX5_init_3 : List UInt8 := [20, 0, 42, 80, 89, 8, 20, 0, 44, 80, 89, 16, 6, 20, 0, 46, 80, 89, 16, 7, 20, 0, 48, 80]
abbrev dktX5_init_3 : List UInt8 := dkwX5_init_3 ++ dktX5_init_4
def dkwX5_init_2 : List UInt8 := [20, 0, 34, 80, 89, 4, 20, 0, 36, 80, 89, 5, 20, 0, 38, 80, 89, 6, 20, 0, 40, 80, 89, 7]
abbrev dktX5_init_2 : List UInt8 := dkwX5_init_2 ++ dktX5_init_3
def dkwX5_init_1 : List UInt8 := [17, 3, 234, 188, 10, 181, 0, 27, 42, 17, 3, 234, 188, 11, 181, 0, 30, 42, 16, 37, 188, 11, 89, 3]
abbrev dktX5_init_1 : List UInt8 := dkwX5_init_1 ++ dktX5_init_2
def dkwX5_init_0 : List UInt8 := [42, 183, 0, 18, 42, 17, 3, 232, 188, 10, 181, 0, 14, 42, 17, 3, 234, 188, 10, 181, 0, 24, 42]
abbrev dktX5_init_0 : List UInt8 := dkwX5_init_0 ++ dktX5_init_1
theorem dksX5_init_0 : cX5_init.data.toList.drop 0 = dktX5_init_0 := by decide +kernel
theorem dksX5_init_1 : cX5_init.data.toList.drop 23 = dktX5_init_1 := dk_seg dksX5_init_0 23 rfl rfl
theorem dksX5_init_2 : cX5_init.data.toList.drop 47 = dktX5_init_2 := dk_seg dksX5_init_1 24 rfl rfl
theorem dksX5_init_3 : cX5_init.data.toList.drop 71 = dktX5_init_3 := dk_seg dksX5_init_2 24 rfl rfl
theorem dksX5_init_4 : cX5_init.data.toList.drop 95 = dktX5_init_4 := dk_seg dksX5_init_3 24 rfl rfl
theorem dksX5_init_5 : cX5_init.data.toList.drop 119 = dktX5_init_5 := dk_seg dksX5_init_4 24 rfl rfl
theorem dksX5_init_6 : cX5_init.data.toList.drop 143 = dktX5_init_6 := dk_seg dksX5_init_5 24 rfl rfl
theorem dksX5_init_7 : cX5_init.data.toList.drop 166 = dktX5_init_7 := dk_seg dksX5_init_6 23 rfl rfl
theorem dksX5_init_8 : cX5_init.data.toList.drop 189 = dktX5_init_8 := dk_seg dksX5_init_7 23 rfl rfl
theorem dksX5_init_9 : cX5_init.data.toList.drop 213 = dktX5_init_9 := dk_seg dksX5_init_8 24 rfl rfl
theorem dksX5_init_10 : cX5_init.data.toList.drop 236 = dktX5_init_10 := dk_seg dksX5_init_9 23 rfl rfl
theorem dksX5_init_11 : cX5_init.data.toList.drop 259 = dktX5_init_11 := dk_seg dksX5_init_10 23 rfl rfl
theorem dksX5_init_12 : cX5_init.data.toList.drop 283 = dktX5_init_12 := dk_seg dksX5_init_11 24 rfl rfl
theorem dksX5_init_13 : cX5_init.data.toList.drop 307 = dktX5_init_13 := dk_seg dksX5_init_12 24 rfl rfl
theorem dksX5_init_14 : cX5_init.data.toList.drop 331 = dktX5_init_14 := dk_seg dksX5_init_13 24 rfl rfl
theorem dksX5_init_15 : cX5_init.data.toList.drop 355 = dktX5_init_15 := dk_seg dksX5_init_14 24 rfl rfl
theorem dksX5_init_16 : cX5_init.data.toList.drop 377 = dktX5_init_16 := dk_seg dksX5_init_15 22 rfl rfl
theorem dksX5_init_17 : cX5_init.data.toList.drop 401 = dktX5_init_17 := dk_seg dksX5_init_16 24 rfl rfl
theorem dksX5_init_18 : cX5_init.data.toList.drop 425 = dktX5_init_18 := dk_seg dksX5_init_17 24 rfl rfl
theorem dksX5_init_19 : cX5_init.data.toList.drop 449 = dktX5_init_19 := dk_seg dksX5_init_18 24 rfl rfl
theorem dX5_init_0 : decode cX5_init 0 = .ok (.aload_n 0, 1) := dk_42 (dk_at dksX5_init_0 0 rfl rfl)
theorem dX5_init_1 : decode cX5_init 1 = .ok (.invokespecial 18, 3) := dk_183 0 18 (dk_at dksX5_init_0 1 rfl rfl)
theorem dX5_init_4 : decode cX5_init 4 = .ok (.aload_n 0, 1) := dk_42 (dk_at dksX5_init_0 4 rfl rfl)
theorem dX5_init_5 : decode cX5_init 5 = .ok (.sipush 1000, 3) := dk_17 3 232 (dk_at dksX5_init_0 5 rfl rfl)
theorem dX5_init_8 : decode cX5_init 8 = .ok (.newarray .int, 2) := dk_188_10 (dk_at dksX5_init_0 8 rfl rfl)
theorem dX5_init_10 : decode cX5_init 10 = .ok (.putfield 14, 3) := dk_181 0 14 (dk_at dksX5_init_0 10 rfl rfl)
theorem dX5_init_13 : decode cX5_init 13 = .ok (.aload_n 0, 1) := dk_42 (dk_at dksX5_init_0 13 rfl rfl)
theorem dX5_init_14 : decode cX5_init 14 = .ok (.sipush 1002, 3) := dk_17 3 234 (dk_at dksX5_init_0 14 rfl rfl)
theorem dX5_init_17 : decode cX5_init 17 = .ok (.newarray .int, 2) := dk_188_10 (dk_at dksX5_init_0 17 rfl rfl)
theorem dX5_init_19 : decode cX5_init 19 = .ok (.putfield 24, 3) := dk_181 0 24 (dk_at dksX5_init_0 19 rfl rfl)
theorem dX5_init_22 : decode cX5_init 22 = .ok (.aload_n 0, 1) := dk_42 (dk_at dksX5_init_0 22 rfl rfl)
theorem dX5_init_23 : decode cX5_init 23 = .ok (.sipush 1002, 3) := dk_17 3 234 (dk_at dksX5_init_1 0 rfl rfl)
theorem dX5_init_26 : decode cX5_init 26 = .ok (.newarray .int, 2) := dk_188_10 (dk_at dksX5_init_1 3 rfl rfl)
theorem dX5_init_28 : decode cX5_init 28 = .ok (.putfield 27, 3) := dk_181 0 27 (dk_at dksX5_init_1 5 rfl rfl)
theorem dX5_init_31 : decode cX5_init 31 = .ok (.aload_n 0, 1) := dk_42 (dk_at dksX5_init_1 8 rfl rfl)
theorem dX5_init_32 : decode cX5_init 32 = .ok (.sipush 1002, 3) := dk_17 3 234 (dk_at dksX5_init_1 9 rfl rfl)
theorem dX5_init_35 : decode cX5_init 35 = .ok (.newarray .long, 2) := dk_188_11 (dk_at dksX5_init_1 12 rfl rfl)
theorem dX5_init_37 : decode cX5_init 37 = .ok (.putfield 30, 3) := dk_181 0 30 (dk_at dksX5_init_1 14 rfl rfl)
theorem dX5_init_40 : decode cX5_init 40 = .ok (.aload_n 0, 1) := dk_42 (dk_at dksX5_init_1 17 rfl rfl)
theorem dX5_init_41 : decode cX5_init 41 = .ok (.bipush 37, 2) := dk_16 37 (dk_at dksX5_init_1 18 rfl rfl)
theorem dX5_init_43 : decode cX5_init 43 = .ok (.newarray .long, 2) := dk_188_11 (dk_at dksX5_init_1 20 rfl rfl)
theorem dX5_init_45 : decode cX5_init 45 = .ok (.dup, 1) := dk_89 (dk_at dksX5_init_1 22 rfl rfl)
theorem dX5_init_46 : decode cX5_init 46 = .ok (.iconst 0, 1) := dk_3 (dk_at dksX5_init_1 23 rfl rfl)
theorem dX5_init_47 : decode cX5_init 47 = .ok (.ldc2_w 34, 3) := dk_20 0 34 (dk_at dksX5_init_2 0 rfl rfl)
theorem dX5_init_50 : decode cX5_init 50 = .ok (.lastore, 1) := dk_80 (dk_at dksX5_init_2 3 rfl rfl)
theorem dX5_init_51 : decode cX5_init 51 = .ok (.dup, 1) := dk_89 (dk_at dksX5_init_2 4 rfl rfl)
theorem dX5_init_52 : decode cX5_init 52 = .ok (.iconst 1, 1) := dk_4 (dk_at dksX5_init_2 5 rfl rfl)
theorem dX5_init_53 : decode cX5_init 53 = .ok (.ldc2_w 36, 3) := dk_20 0 36 (dk_at dksX5_init_2 6 rfl rfl)
theorem dX5_init_56 : decode cX5_init 56 = .ok (.lastore, 1) := dk_80 (dk_at dksX5_init_2 9 rfl rfl)
theorem dX5_init_57 : decode cX5_init 57 = .ok (.dup, 1) := dk_89 (dk_at dksX5_init_2 10 rfl rfl)
theorem dX5_init_58 : decode cX5_init 58 = .ok (.iconst 2, 1) := dk_5 (dk_at dksX5_init_2 11 rfl rfl)
theorem dX5_init_59 : decode cX5_init 59 = .ok (.ldc2_w 38, 3) := dk_20 0 38 (dk_at dksX5_init_2 12 rfl rfl)
theorem dX5_init_62 : decode cX5_init 62 = .ok (.lastore, 1) := dk_80 (dk_at dksX5_init_2 15 rfl rfl)
theorem dX5_init_63 : decode cX5_init 63 = .ok (.dup, 1) := dk_89 (dk_at dksX5_init_2 16 rfl rfl)
theorem dX5_init_64 : decode cX5_init 64 = .ok (.iconst 3, 1) := dk_6 (dk_at dksX5_init_2 17 rfl rfl)
theorem dX5_init_65 : decode cX5_init 65 = .ok (.ldc2_w 40, 3) := dk_20 0 40 (dk_at dksX5_init_2 18 rfl rfl)
theorem dX5_init_68 : decode cX5_init 68 = .ok (.lastore, 1) := dk_80 (dk_at dksX5_init_2 21 rfl rfl)
theorem dX5_init_69 : decode cX5_init 69 = .ok (.dup, 1) := dk_89 (dk_at dksX5_init_2 22 rfl rfl)
theorem dX5_init_70 : decode cX5_init 70 = .ok (.iconst 4, 1) := dk_7 (dk_at dksX5_init_2 23 rfl rfl)
theorem dX5_init_71 : decode cX5_init 71 = .ok (.ldc2_w 42, 3) := dk_20 0 42 (dk_at dksX5_init_3 0 rfl rfl)
theorem dX5_init_74 : decode cX5_init 74 = .ok (.lastore, 1) := dk_80 (dk_at dksX5_init_3 3 rfl rfl)
theorem dX5_init_75 : decode cX5_init 75 = .ok (.dup, 1) := dk_89 (dk_at dksX5_init_3 4 rfl rfl)
theorem dX5_init_76 : decode cX5_init 76 = .ok (.iconst 5, 1) := dk_8 (dk_at dksX5_init_3 5 rfl rfl)
theorem dX5_init_77 : decode cX5_init 77 = .ok (.ldc2_w 44, 3) := dk_20 0 44 (dk_at dksX5_init_3 6 rfl rfl)
theorem dX5_init_80 : decode cX5_init 80 = .ok (.lastore, 1) := dk_80 (dk_at dksX5_init_3 9 rfl rfl)
theorem dX5_init_81 : decode cX5_init 81 = .ok (.dup, 1) := dk_89 (dk_at dksX5_init_3 10 rfl rfl)
theorem dX5_init_82 : decode cX5_init 82 = .ok (.bipush 6, 2) := dk_16 6 (dk_at dksX5_init_3 11 rfl rfl)
theorem dX5_init_84 : decode cX5_init 84 = .ok (.ldc2_w 46, 3) := dk_20 0 46 (dk_at dksX5_init_3 13 rfl rfl)
theorem dX5_init_87 : decode cX5_init 87 = .ok (.lastore, 1) := dk_80 (dk_at dksX5_init_3 16 rfl rfl)
theorem dX5_init_88 : decode cX5_init 88 = .ok (.dup, 1) := dk_89 (dk_at dksX5_init_3 17 rfl rfl)
theorem dX5_init_89 : decode cX5_init 89 = .ok (.bipush 7, 2) := dk_16 7 (dk_at dksX5_init_3 18 rfl rfl)
theorem dX5_init_91 : decode cX5_init 91 = .ok (.ldc2_w 48, 3) := dk_20 0 48 (dk_at dksX5_init_3 20 rfl rfl)
theorem dX5_init_94 : decode cX5_init 94 = .ok (.lastore, 1) := dk_80 (dk_at dksX5_init_3 23 rfl rfl)
theorem dX5_init_95 : decode cX5_init 95 = .ok (.dup, 1) := dk_89 (dk_at dksX5_init_4 0 rfl rfl)
theorem dX5_init_96 : decode cX5_init 96 = .ok (.bipush 8, 2) := dk_16 8 (dk_at dksX5_init_4 1 rfl rfl)
theorem dX5_init_98 : decode cX5_init 98 = .ok (.ldc2_w 50, 3) := dk_20 0 50 (dk_at dksX5_init_4 3 rfl rfl)
theorem dX5_init_101 : decode cX5_init 101 = .ok (.lastore, 1) := dk_80 (dk_at dksX5_init_4 6 rfl rfl)
theorem dX5_init_102 : decode cX5_init 102 = .ok (.dup, 1) := dk_89 (dk_at dksX5_init_4 7 rfl rfl)
theorem dX5_init_103 : decode cX5_init 103 = .ok (.bipush 9, 2) := dk_16 9 (dk_at dksX5_init_4 8 rfl rfl)
theorem dX5_init_105 : decode cX5_init 105 = .ok (.ldc2_w 52, 3) := dk_20 0 52 (dk_at dksX5_init_4 10 rfl rfl)
theorem dX5_init_108 : decode cX5_init 108 = .ok (.lastore, 1) := dk_80 (dk_at dksX5_init_4 13 rfl rfl)
theorem dX5_init_109 : decode cX5_init 109 = .ok (.dup, 1) := dk_89 (dk_at dksX5_init_4 14 rfl rfl)
theorem dX5_init_110 : decode cX5_init 110 = .ok (.bipush 10, 2) := dk_16 10 (dk_at dksX5_init_4 15 rfl rfl)
theorem dX5_init_112 : decode cX5_init 112 = .ok (.ldc2_w 54, 3) := dk_20 0 54 (dk_at dksX5_init_4 17 rfl rfl)
theorem dX5_init_115 : decode cX5_init 115 = .ok (.lastore, 1) := dk_80 (dk_at dksX5_init_4 20 rfl rfl)
theorem dX5_init_116 : decode cX5_init 116 = .ok (.dup, 1) := dk_89 (dk_at dksX5_init_4 21 rfl rfl)
theorem dX5_init_117 : decode cX5_init 117 = .ok (.bipush 11, 2) := dk_16 11 (dk_at dksX5_init_4 22 rfl rfl)
theorem dX5_init_119 : decode cX5_init 119 = .ok (.ldc2_w 56, 3) := dk_20 0 56 (dk_at dksX5_init_5 0 rfl rfl)
theorem dX5_init_122 : decode cX5_init 122 = .ok (.lastore, 1) := dk_80 (dk_at dksX5_init_5 3 rfl rfl)
theorem dX5_init_123 : decode cX5_init 123 = .ok (.dup, 1) := dk_89 (dk_at dksX5_init_5 4 rfl rfl)
theorem dX5_init_124 : decode cX5_init 124 = .ok (.bipush 12, 2) := dk_16 12 (dk_at dksX5_init_5 5 rfl rfl)
theorem dX5_init_126 : decode cX5_init 126 = .ok (.ldc2_w 58, 3) := dk_20 0 58 (dk_at dksX5_init_5 7 rfl rfl)
theorem dX5_init_129 : decode cX5_init 129 = .ok (.lastore, 1) := dk_80 (dk_at dksX5_init_5 10 rfl rfl)
theorem dX5_init_130 : decode cX5_init 130 = .ok (.dup, 1) := dk_89 (dk_at dksX5_init_5 11 rfl rfl)
theorem dX5_init_131 : decode cX5_init 131 = .ok (.bipush 13, 2) := dk_16 13 (dk_at dksX5_init_5 12 rfl rfl)
theorem dX5_init_133 : decode cX5_init 133 = .ok (.ldc2_w 60, 3) := dk_20 0 60 (dk_at dksX5_init_5 14 rfl rfl)
theorem dX5_init_136 : decode cX5_init 136 = .ok (.lastore, 1) := dk_80 (dk_at dksX5_init_5 17 rfl rfl)
theorem dX5_init_137 : decode cX5_init 137 = .ok (.dup, 1) := dk_89 (dk_at dksX5_init_5 18 rfl rfl)
theorem dX5_init_138 : decode cX5_init 138 = .ok (.bipush 14, 2) := dk_16 14 (dk_at dksX5_init_5 19 rfl rfl)
theorem dX5_init_140 : decode cX5_init 140 = .ok (.ldc2_w 62, 3) := dk_20 0 62 (dk_at dksX5_init_5 21 rfl rfl)
theorem dX5_init_143 : decode cX5_init 143 = .ok (.lastore, 1) := dk_80 (dk_at dksX5_init_6 0 rfl rfl)
theorem dX5_init_144 : decode cX5_init 144 = .ok (.dup, 1) := dk_89 (dk_at dksX5_init_6 1 rfl rfl)
theorem dX5_init_145 : decode cX5_init 145 = .ok (.bipush 15, 2) := dk_16 15 (dk_at dksX5_init_6 2 rfl rfl)
theorem dX5_init_147 : decode cX5_init 147 = .ok (.ldc2_w 64, 3) := dk_20 0 64 (dk_at dksX5_init_6 4 rfl rfl)
theorem dX5_init_150 : decode cX5_init 150 = .ok (.lastore, 1) := dk_80 (dk_at dksX5_init_6 7 rfl rfl)
theorem dX5_init_151 : decode cX5_init 151 = .ok (.dup, 1) := dk_89 (dk_at dksX5_init_6 8 rfl rfl)
theorem dX5_init_152 : decode cX5_init 152 = .ok (.bipush 16, 2) := dk_16 16 (dk_at dksX5_init_6 9 rfl rfl)
theorem dX5_init_154 : decode cX5_init 154 = .ok (.ldc2_w 66, 3) := dk_20 0 66 (dk_at dksX5_init_6 11 rfl rfl)
theorem dX5_init_157 : decode cX5_init 157 = .ok (.lastore, 1) := dk_80 (dk_at dksX5_init_6 14 rfl rfl)
theorem dX5_init_158 : decode cX5_init 158 = .ok (.dup, 1) := dk_89 (dk_at dksX5_init_6 15 rfl rfl)
theorem dX5_init_159 : decode cX5_init 159 = .ok (.bipush 17, 2) := dk_16 17 (dk_at dksX5_init_6 16 rfl rfl)
theorem dX5_init_161 : decode cX5_init 161 = .ok (.ldc2_w 68, 3) := dk_20 0 68 (dk_at dksX5_init_6 18 rfl rfl)
theorem dX5_init_164 : decode cX5_init 164 = .ok (.lastore, 1) := dk_80 (dk_at dksX5_init_6 21 rfl rfl)
theorem dX5_init_165 : decode cX5_init 165 = .ok (.dup, 1) := dk_89 (dk_at dksX5_init_6 22 rfl rfl)
theorem dX5_init_166 : decode cX5_init 166 = .ok (.bipush 18, 2) := dk_16 18 (dk_at dksX5_init_7 0 rfl rfl)
theorem dX5_init_168 : decode cX5_init 168 = .ok (.ldc2_w 70, 3) := dk_20 0 70 (dk_at dksX5_init_7 2 rfl rfl)
theorem dX5_init_171 : decode cX5_init 171 = .ok (.lastore, 1) := dk_80 (dk_at dksX5_init_7 5 rfl rfl)
theorem dX5_init_172 : decode cX5_init 172 = .ok (.dup, 1) := dk_89 (dk_at dksX5_init_7 6 rfl rfl)
theorem dX5_init_173 : decode cX5_init 173 = .ok (.bipush 19, 2) := dk_16 19 (dk_at dksX5_init_7 7 rfl rfl)
theorem dX5_init_175 : decode cX5_init 175 = .ok (.ldc2_w 72, 3) := dk_20 0 72 (dk_at dksX5_init_7 9 rfl rfl)
theorem dX5_init_178 : decode cX5_init 178 = .ok (.lastore, 1) := dk_80 (dk_at dksX5_init_7 12 rfl rfl)
theorem dX5_init_179 : decode cX5_init 179 = .ok (.dup, 1) := dk_89 (dk_at dksX5_init_7 13 rfl rfl)
theorem dX5_init_180 : decode cX5_init 180 = .ok (.bipush 20, 2) := dk_16 20 (dk_at dksX5_init_7 14 rfl rfl)
theorem dX5_init_182 : decode cX5_init 182 = .ok (.ldc2_w 74, 3) := dk_20 0 74 (dk_at dksX5_init_7 16 rfl rfl)
theorem dX5_init_185 : decode cX5_init 185 = .ok (.lastore, 1) := dk_80 (dk_at dksX5_init_7 19 rfl rfl)
theorem dX5_init_186 : decode cX5_init 186 = .ok (.dup, 1) := dk_89 (dk_at dksX5_init_7 20 rfl rfl)
theorem dX5_init_187 : decode cX5_init 187 = .ok (.bipush 21, 2) := dk_16 21 (dk_at dksX5_init_7 21 rfl rfl)
theorem dX5_init_189 : decode cX5_init 189 = .ok (.ldc2_w 76, 3) := dk_20 0 76 (dk_at dksX5_init_8 0 rfl rfl)
theorem dX5_init_192 : decode cX5_init 192 = .ok (.lastore, 1) := dk_80 (dk_at dksX5_init_8 3 rfl rfl)
theorem dX5_init_193 : decode cX5_init 193 = .ok (.dup, 1) := dk_89 (dk_at dksX5_init_8 4 rfl rfl)
theorem dX5_init_194 : decode cX5_init 194 = .ok (.bipush 22, 2) := dk_16 22 (dk_at dksX5_init_8 5 rfl rfl)
theorem dX5_init_196 : decode cX5_init 196 = .ok (.ldc2_w 78, 3) := dk_20 0 78 (dk_at dksX5_init_8 7 rfl rfl)
theorem dX5_init_199 : decode cX5_init 199 = .ok (.lastore, 1) := dk_80 (dk_at dksX5_init_8 10 rfl rfl)
theorem dX5_init_200 : decode cX5_init 200 = .ok (.dup, 1) := dk_89 (dk_at dksX5_init_8 11 rfl rfl)
theorem dX5_init_201 : decode cX5_init 201 = .ok (.bipush 23, 2) := dk_16 23 (dk_at dksX5_init_8 12 rfl rfl)
theorem dX5_init_203 : decode cX5_init 203 = .ok (.ldc2_w 80, 3) := dk_20 0 80 (dk_at dksX5_init_8 14 rfl rfl)
theorem dX5_init_206 : decode cX5_init 206 = .ok (.lastore, 1) := dk_80 (dk_at dksX5_init_8 17 rfl rfl)
theorem dX5_init_207 : decode cX5_init 207 = .ok (.dup, 1) := dk_89 (dk_at dksX5_init_8 18 rfl rfl)
theorem dX5_init_208 : decode cX5_init 208 = .ok (.bipush 24, 2) := dk_16 24 (dk_at dksX5_init_8 19 rfl rfl)
theorem dX5_init_210 : decode cX5_init 210 = .ok (.ldc2_w 82, 3) := dk_20 0 82 (dk_at dksX5_init_8 21 rfl rfl)
theorem dX5_init_213 : decode cX5_init 213 = .ok (.lastore, 1) := dk_80 (dk_at dksX5_init_9 0 rfl rfl)
theorem dX5_init_214 : decode cX5_init 214 = .ok (.dup, 1) := dk_89 (dk_at dksX5_init_9 1 rfl rfl)
theorem dX5_init_215 : decode cX5_init 215 = .ok (.bipush 25, 2) := dk_16 25 (dk_at dksX5_init_9 2 rfl rfl)
theorem dX5_init_217 : decode cX5_init 217 = .ok (.ldc2_w 84, 3) := dk_20 0 84 (dk_at dksX5_init_9 4 rfl rfl)
theorem dX5_init_220 : decode cX5_init 220 = .ok (.lastore, 1) := dk_80 (dk_at dksX5_init_9 7 rfl rfl)
theorem dX5_init_221 : decode cX5_init 221 = .ok (.dup, 1) := dk_89 (dk_at dksX5_init_9 8 rfl rfl)
theorem dX5_init_222 : decode cX5_init 222 = .ok (.bipush 26, 2) := dk_16 26 (dk_at dksX5_init_9 9 rfl rfl)
theorem dX5_init_224 : decode cX5_init 224 = .ok (.ldc2_w 86, 3) := dk_20 0 86 (dk_at dksX5_init_9 11 rfl rfl)
theorem dX5_init_227 : decode cX5_init 227 = .ok (.lastore, 1) := dk_80 (dk_at dksX5_init_9 14 rfl rfl)
theorem dX5_init_228 : decode cX5_init 228 = .ok (.dup, 1) := dk_89 (dk_at dksX5_init_9 15 rfl rfl)
theorem dX5_init_229 : decode cX5_init 229 = .ok (.bipush 27, 2) := dk_16 27 (dk_at dksX5_init_9 16 rfl rfl)
theorem dX5_init_231 : decode cX5_init 231 = .ok (.ldc2_w 88, 3) := dk_20 0 88 (dk_at dksX5_init_9 18 rfl rfl)
theorem dX5_init_234 : decode cX5_init 234 = .ok (.lastore, 1) := dk_80 (dk_at dksX5_init_9 21 rfl rfl)
theorem dX5_init_235 : decode cX5_init 235 = .ok (.dup, 1) := dk_89 (dk_at dksX5_init_9 22 rfl rfl)
theorem dX5_init_236 : decode cX5_init 236 = .ok (.bipush 28, 2) := dk_16 28 (dk_at dksX5_init_10 0 rfl rfl)
theorem dX5_init_238 : decode cX5_init 238 = .ok (.ldc2_w 90, 3) := dk_20 0 90 (dk_at dksX5_init_10 2 rfl rfl)
theorem dX5_init_241 : decode cX5_init 241 = .ok (.lastore, 1) := dk_80 (dk_at dksX5_init_10 5 rfl rfl)
theorem dX5_init_242 : decode cX5_init 242 = .ok (.dup, 1) := dk_89 (dk_at dksX5_init_10 6 rfl rfl)
theorem dX5_init_243 : decode cX5_init 243 = .ok (.bipush 29, 2) := dk_16 29 (dk_at dksX5_init_10 7 rfl rfl)
theorem dX5_init_245 : decode cX5_init 245 = .ok (.ldc2_w 92, 3) := dk_20 0 92 (dk_at dksX5_init_10 9 rfl rfl)
theorem dX5_init_248 : decode cX5_init 248 = .ok (.lastore, 1) := dk_80 (dk_at dksX5_init_10 12 rfl rfl)
theorem dX5_init_249 : decode cX5_init 249 = .ok (.dup, 1) := dk_89 (dk_at dksX5_init_10 13 rfl rfl)
theorem dX5_init_250 : decode cX5_init 250 = .ok (.bipush 30, 2) := dk_16 30 (dk_at dksX5_init_10 14 rfl rfl)
theorem dX5_init_252 : decode cX5_init 252 = .ok (.ldc2_w 94, 3) := dk_20 0 94 (dk_at dksX5_init_10 16 rfl rfl)
theorem dX5_init_255 : decode cX5_init 255 = .ok (.lastore, 1) := dk_80 (dk_at dksX5_init_10 19 rfl rfl)
theorem dX5_init_256 : decode cX5_init 256 = .ok (.dup, 1) := dk_89 (dk_at dksX5_init_10 20 rfl rfl)
theorem dX5_init_257 : decode cX5_init 257 = .ok (.bipush 31, 2) := dk_16 31 (dk_at dksX5_init_10 21 rfl rfl)
theorem dX5_init_259 : decode cX5_init 259 = .ok (.ldc2_w 96, 3) := dk_20 0 96 (dk_at dksX5_init_11 0 rfl rfl)
theorem dX5_init_262 : decode cX5_init 262 = .ok (.lastore, 1) := dk_80 (dk_at dksX5_init_11 3 rfl rfl)
theorem dX5_init_263 : decode cX5_init 263 = .ok (.dup, 1) := dk_89 (dk_at dksX5_init_11 4 rfl rfl)
theorem dX5_init_264 : decode cX5_init 264 = .ok (.bipush 32, 2) := dk_16 32 (dk_at dksX5_init_11 5 rfl rfl)
theorem dX5_init_266 : decode cX5_init 266 = .ok (.ldc2_w 98, 3) := dk_20 0 98 (dk_at dksX5_init_11 7 rfl rfl)
theorem dX5_init_269 : decode cX5_init 269 = .ok (.lastore, 1) := dk_80 (dk_at dksX5_init_11 10 rfl rfl)
theorem dX5_init_270 : decode cX5_init 270 = .ok (.dup, 1) := dk_89 (dk_at dksX5_init_11 11 rfl rfl)
theorem dX5_init_271 : decode cX5_init 271 = .ok (.bipush 33, 2) := dk_16 33 (dk_at dksX5_init_11 12 rfl rfl)
theorem dX5_init_273 : decode cX5_init 273 = .ok (.ldc2_w 100, 3) := dk_20 0 100 (dk_at dksX5_init_11 14 rfl rfl)
theorem dX5_init_276 : decode cX5_init 276 = .ok (.lastore, 1) := dk_80 (dk_at dksX5_init_11 17 rfl rfl)
theorem dX5_init_277 : decode cX5_init 277 = .ok (.dup, 1) := dk_89 (dk_at dksX5_init_11 18 rfl rfl)
theorem dX5_init_278 : decode cX5_init 278 = .ok (.bipush 34, 2) := dk_16 34 (dk_at dksX5_init_11 19 rfl rfl)
theorem dX5_init_280 : decode cX5_init 280 = .ok (.ldc2_w 102, 3) := dk_20 0 102 (dk_at dksX5_init_11 21 rfl rfl)
theorem dX5_init_283 : decode cX5_init 283 = .ok (.lastore, 1) := dk_80 (dk_at dksX5_init_12 0 rfl rfl)
theorem dX5_init_284 : decode cX5_init 284 = .ok (.dup, 1) := dk_89 (dk_at dksX5_init_12 1 rfl rfl)
theorem dX5_init_285 : decode cX5_init 285 = .ok (.bipush 35, 2) := dk_16 35 (dk_at dksX5_init_12 2 rfl rfl)
theorem dX5_init_287 : decode cX5_init 287 = .ok (.ldc2_w 104, 3) := dk_20 0 104 (dk_at dksX5_init_12 4 rfl rfl)
theorem dX5_init_290 : decode cX5_init 290 = .ok (.lastore, 1) := dk_80 (dk_at dksX5_init_12 7 rfl rfl)
theorem dX5_init_291 : decode cX5_init 291 = .ok (.dup, 1) := dk_89 (dk_at dksX5_init_12 8 rfl rfl)
theorem dX5_init_292 : decode cX5_init 292 = .ok (.bipush 36, 2) := dk_16 36 (dk_at dksX5_init_12 9 rfl rfl)
theorem dX5_init_294 : decode cX5_init 294 = .ok (.ldc2_w 106, 3) := dk_20 0 106 (dk_at dksX5_init_12 11 rfl rfl)
theorem dX5_init_297 : decode cX5_init 297 = .ok (.lastore, 1) := dk_80 (dk_at dksX5_init_12 14 rfl rfl)
theorem dX5_init_298 : decode cX5_init 298 = .ok (.putfield 108, 3) := dk_181 0 108 (dk_at dksX5_init_12 15 rfl rfl)
theorem dX5_init_301 : decode cX5_init 301 = .ok (.aload_n 0, 1) := dk_42 (dk_at dksX5_init_12 18 rfl rfl)
theorem dX5_init_302 : decode cX5_init 302 = .ok (.sipush 240, 3) := dk_17 0 240 (dk_at dksX5_init_12 19 rfl rfl)
theorem dX5_init_305 : decode cX5_init 305 = .ok (.newarray .int, 2) := dk_188_10 (dk_at dksX5_init_12 22 rfl rfl)
theorem dX5_init_307 : decode cX5_init 307 = .ok (.putfield 111, 3) := dk_181 0 111 (dk_at dksX5_init_13 0 rfl rfl)
theorem dX5_init_310 : decode cX5_init 310 = .ok (.aload_n 0, 1) := dk_42 (dk_at dksX5_init_13 3 rfl rfl)
theorem dX5_init_311 : decode cX5_init 311 = .ok (.sipush 2200, 3) := dk_17 8 152 (dk_at dksX5_init_13 4 rfl rfl)
theorem dX5_init_314 : decode cX5_init 314 = .ok (.newarray .int, 2) := dk_188_10 (dk_at dksX5_init_13 7 rfl rfl)
theorem dX5_init_316 : decode cX5_init 316 = .ok (.putfield 114, 3) := dk_181 0 114 (dk_at dksX5_init_13 9 rfl rfl)
theorem dX5_init_319 : decode cX5_init 319 = .ok (.aload_n 0, 1) := dk_42 (dk_at dksX5_init_13 12 rfl rfl)
theorem dX5_init_320 : decode cX5_init 320 = .ok (.sipush 2200, 3) := dk_17 8 152 (dk_at dksX5_init_13 13 rfl rfl)
theorem dX5_init_323 : decode cX5_init 323 = .ok (.newarray .int, 2) := dk_188_10 (dk_at dksX5_init_13 16 rfl rfl)
theorem dX5_init_325 : decode cX5_init 325 = .ok (.putfield 117, 3) := dk_181 0 117 (dk_at dksX5_init_13 18 rfl rfl)
theorem dX5_init_328 : decode cX5_init 328 = .ok (.aload_n 0, 1) := dk_42 (dk_at dksX5_init_13 21 rfl rfl)
theorem dX5_init_329 : decode cX5_init 329 = .ok (.bipush 18, 2) := dk_16 18 (dk_at dksX5_init_13 22 rfl rfl)
theorem dX5_init_331 : decode cX5_init 331 = .ok (.newarray .long, 2) := dk_188_11 (dk_at dksX5_init_14 0 rfl rfl)
theorem dX5_init_333 : decode cX5_init 333 = .ok (.putfield 120, 3) := dk_181 0 120 (dk_at dksX5_init_14 2 rfl rfl)
theorem dX5_init_336 : decode cX5_init 336 = .ok (.aload_n 0, 1) := dk_42 (dk_at dksX5_init_14 5 rfl rfl)
theorem dX5_init_337 : decode cX5_init 337 = .ok (.bipush 18, 2) := dk_16 18 (dk_at dksX5_init_14 6 rfl rfl)
theorem dX5_init_339 : decode cX5_init 339 = .ok (.newarray .long, 2) := dk_188_11 (dk_at dksX5_init_14 8 rfl rfl)
theorem dX5_init_341 : decode cX5_init 341 = .ok (.putfield 123, 3) := dk_181 0 123 (dk_at dksX5_init_14 10 rfl rfl)
theorem dX5_init_344 : decode cX5_init 344 = .ok (.aload_n 0, 1) := dk_42 (dk_at dksX5_init_14 13 rfl rfl)
theorem dX5_init_345 : decode cX5_init 345 = .ok (.bipush 18, 2) := dk_16 18 (dk_at dksX5_init_14 14 rfl rfl)
theorem dX5_init_347 : decode cX5_init 347 = .ok (.newarray .int, 2) := dk_188_10 (dk_at dksX5_init_14 16 rfl rfl)
theorem dX5_init_349 : decode cX5_init 349 = .ok (.putfield 126, 3) := dk_181 0 126 (dk_at dksX5_init_14 18 rfl rfl)
theorem dX5_init_352 : decode cX5_init 352 = .ok (.aload_n 0, 1) := dk_42 (dk_at dksX5_init_14 21 rfl rfl)
theorem dX5_init_353 : decode cX5_init 353 = .ok (.bipush 18, 2) := dk_16 18 (dk_at dksX5_init_14 22 rfl rfl)
theorem dX5_init_355 : decode cX5_init 355 = .ok (.newarray .int, 2) := dk_188_10 (dk_at dksX5_init_15 0 rfl rfl)
theorem dX5_init_357 : decode cX5_init 357 = .ok (.putfield 129, 3) := dk_181 0 129 (dk_at dksX5_init_15 2 rfl rfl)
theorem dX5_init_360 : decode cX5_init 360 = .ok (.aload_n 0, 1) := dk_42 (dk_at dksX5_init_15 5 rfl rfl)
theorem dX5_init_361 : decode cX5_init 361 = .ok (.sipush 200, 3) := dk_17 0 200 (dk_at dksX5_init_15 6 rfl rfl)
theorem dX5_init_364 : decode cX5_init 364 = .ok (.newarray .int, 2) := dk_188_10 (dk_at dksX5_init_15 9 rfl rfl)
theorem dX5_init_366 : decode cX5_init 366 = .ok (.putfield 132, 3) := dk_181 0 132 (dk_at dksX5_init_15 11 rfl rfl)
theorem dX5_init_369 : decode cX5_init 369 = .ok (.aload_n 0, 1) := dk_42 (dk_at dksX5_init_15 14 rfl rfl)
theorem dX5_init_370 : decode cX5_init 370 = .ok (.iconst 5, 1) := dk_8 (dk_at dksX5_init_15 15 rfl rfl)
theorem dX5_init_371 : decode cX5_init 371 = .ok (.newarray .int, 2) := dk_188_10 (dk_at dksX5_init_15 16 rfl rfl)
theorem dX5_init_373 : decode cX5_init 373 = .ok (.putfield 135, 3) := dk_181 0 135 (dk_at dksX5_init_15 18 rfl rfl)
theorem dX5_init_376 : decode cX5_init 376 = .ok (.aload_n 0, 1) := dk_42 (dk_at dksX5_init_15 21 rfl rfl)
theorem dX5_init_377 : decode cX5_init 377 = .ok (.sipush 1100, 3) := dk_17 4 76 (dk_at dksX5_init_16 0 rfl rfl)
theorem dX5_init_380 : decode cX5_init 380 = .ok (.newarray .int, 2) := dk_188_10 (dk_at dksX5_init_16 3 rfl rfl)
theorem dX5_init_382 : decode cX5_init 382 = .ok (.putfield 138, 3) := dk_181 0 138 (dk_at dksX5_init_16 5 rfl rfl)
theorem dX5_init_385 : decode cX5_init 385 = .ok (.aload_n 0, 1) := dk_42 (dk_at dksX5_init_16 8 rfl rfl)
theorem dX5_init_386 : decode cX5_init 386 = .ok (.sipush 1288, 3) := dk_17 5 8 (dk_at dksX5_init_16 9 rfl rfl)
theorem dX5_init_389 : decode cX5_init 389 = .ok (.newarray .int, 2) := dk_188_10 (dk_at dksX5_init_16 12 rfl rfl)
theorem dX5_init_391 : decode cX5_init 391 = .ok (.putfield 141, 3) := dk_181 0 141 (dk_at dksX5_init_16 14 rfl rfl)
theorem dX5_init_394 : decode cX5_init 394 = .ok (.aload_n 0, 1) := dk_42 (dk_at dksX5_init_16 17 rfl rfl)
theorem dX5_init_395 : decode cX5_init 395 = .ok (.iconst 4, 1) := dk_7 (dk_at dksX5_init_16 18 rfl rfl)
theorem dX5_init_396 : decode cX5_init 396 = .ok (.newarray .boolean, 2) := dk_188_4 (dk_at dksX5_init_16 19 rfl rfl)
theorem dX5_init_398 : decode cX5_init 398 = .ok (.putfield 144, 3) := dk_181 0 144 (dk_at dksX5_init_16 21 rfl rfl)
theorem dX5_init_401 : decode cX5_init 401 = .ok (.aload_n 0, 1) := dk_42 (dk_at dksX5_init_17 0 rfl rfl)
theorem dX5_init_402 : decode cX5_init 402 = .ok (.bipush 6, 2) := dk_16 6 (dk_at dksX5_init_17 1 rfl rfl)
theorem dX5_init_404 : decode cX5_init 404 = .ok (.newarray .int, 2) := dk_188_10 (dk_at dksX5_init_17 3 rfl rfl)
theorem dX5_init_406 : decode cX5_init 406 = .ok (.putfield 148, 3) := dk_181 0 148 (dk_at dksX5_init_17 5 rfl rfl)
theorem dX5_init_409 : decode cX5_init 409 = .ok (.aload_n 0, 1) := dk_42 (dk_at dksX5_init_17 8 rfl rfl)
theorem dX5_init_410 : decode cX5_init 410 = .ok (.bipush 6, 2) := dk_16 6 (dk_at dksX5_init_17 9 rfl rfl)
theorem dX5_init_412 : decode cX5_init 412 = .ok (.newarray .int, 2) := dk_188_10 (dk_at dksX5_init_17 11 rfl rfl)
theorem dX5_init_414 : decode cX5_init 414 = .ok (.putfield 151, 3) := dk_181 0 151 (dk_at dksX5_init_17 13 rfl rfl)
theorem dX5_init_417 : decode cX5_init 417 = .ok (.aload_n 0, 1) := dk_42 (dk_at dksX5_init_17 16 rfl rfl)
theorem dX5_init_418 : decode cX5_init 418 = .ok (.bipush 36, 2) := dk_16 36 (dk_at dksX5_init_17 17 rfl rfl)
theorem dX5_init_420 : decode cX5_init 420 = .ok (.newarray .int, 2) := dk_188_10 (dk_at dksX5_init_17 19 rfl rfl)
theorem dX5_init_422 : decode cX5_init 422 = .ok (.putfield 154, 3) := dk_181 0 154 (dk_at dksX5_init_17 21 rfl rfl)
theorem dX5_init_425 : decode cX5_init 425 = .ok (.aload_n 0, 1) := dk_42 (dk_at dksX5_init_18 0 rfl rfl)
theorem dX5_init_426 : decode cX5_init 426 = .ok (.bipush 6, 2) := dk_16 6 (dk_at dksX5_init_18 1 rfl rfl)
theorem dX5_init_428 : decode cX5_init 428 = .ok (.newarray .int, 2) := dk_188_10 (dk_at dksX5_init_18 3 rfl rfl)
theorem dX5_init_430 : decode cX5_init 430 = .ok (.putfield 157, 3) := dk_181 0 157 (dk_at dksX5_init_18 5 rfl rfl)
theorem dX5_init_433 : decode cX5_init 433 = .ok (.aload_n 0, 1) := dk_42 (dk_at dksX5_init_18 8 rfl rfl)
theorem dX5_init_434 : decode cX5_init 434 = .ok (.bipush 6, 2) := dk_16 6 (dk_at dksX5_init_18 9 rfl rfl)
theorem dX5_init_436 : decode cX5_init 436 = .ok (.newarray .int, 2) := dk_188_10 (dk_at dksX5_init_18 11 rfl rfl)
theorem dX5_init_438 : decode cX5_init 438 = .ok (.putfield 160, 3) := dk_181 0 160 (dk_at dksX5_init_18 13 rfl rfl)
theorem dX5_init_441 : decode cX5_init 441 = .ok (.aload_n 0, 1) := dk_42 (dk_at dksX5_init_18 16 rfl rfl)
theorem dX5_init_442 : decode cX5_init 442 = .ok (.bipush 6, 2) := dk_16 6 (dk_at dksX5_init_18 17 rfl rfl)
theorem dX5_init_444 : decode cX5_init 444 = .ok (.newarray .int, 2) := dk_188_10 (dk_at dksX5_init_18 19 rfl rfl)
theorem dX5_init_446 : decode cX5_init 446 = .ok (.putfield 163, 3) := dk_181 0 163 (dk_at dksX5_init_18 21 rfl rfl)
theorem dX5_init_449 : decode cX5_init 449 = .ok (.aload_n 0, 1) := dk_42 (dk_at dksX5_init_19 0 rfl rfl)
theorem dX5_init_450 : decode cX5_init 450 = .ok (.sipush 1446, 3) := dk_17 5 166 (dk_at dksX5_init_19 1 rfl rfl)
theorem dX5_init_453 : decode cX5_init 453 = .ok (.newarray .int, 2) := dk_188_10 (dk_at dksX5_init_19 4 rfl rfl)
theorem dX5_init_455 : decode cX5_init 455 = .ok (.putfield 166, 3) := dk_181 0 166 (dk_at dksX5_init_19 6 rfl rfl)
theorem dX5_init_458 : decode cX5_init 458 = .ok (.aload_n 0, 1) := dk_42 (dk_at dksX5_init_19 9 rfl rfl)
theorem dX5_init_459 : decode cX5_init 459 = .ok (.iconst 0, 1) := dk_3 (dk_at dksX5_init_19 10 rfl rfl)
theorem dX5_init_460 : decode cX5_init 460 = .ok (.invokevirtual 169, 3) := dk_182 0 169 (dk_at dksX5_init_19 11 rfl rfl)
theorem dX5_init_463 : decode cX5_init 463 = .ok (.aload_n 0, 1) := dk_42 (dk_at dksX5_init_19 14 rfl rfl)
theorem dX5_init_464 : decode cX5_init 464 = .ok (.invokevirtual 173, 3) := dk_182 0 173 (dk_at dksX5_init_19 15 rfl rfl)
theorem dX5_init_467 : decode cX5_init 467 = .ok (.return_, 1) := dk_177 (dk_at dksX5_init_19 18 rfl rfl)
abbrev cX5_standsAsAlways : ByteArray := prog_26_method_18_code
def yX5_standsAsAlways : MethodName := ⟨RX5, "standsAsAlways", "(I)V"⟩
def dkwX5_standsAsAlways_3 : List UInt8 := [2, 79, 177]
abbrev dktX5_standsAsAlways_3 : List UInt8 := dkwX5_standsAsAlways_3 ++ []
def dkwX5_standsAsAlways_2 : List UInt8 := [8, 96, 4, 79, 42, 180, 0, 111, 27, 16, 6, 96, 2, 79, 42, 180, 0, 111, 27, 16, 6, 96, 4, 96]
abbrev dktX5_standsAsAlways_2 : List UInt8 := dkwX5_standsAsAlways_2 ++ dktX5_standsAsAlways_3
def dkwX5_standsAsAlways_1 : List UInt8 := [180, 0, 111, 27, 6, 96, 16, 20, 79, 42, 180, 0, 111, 27, 7, 96, 16, 30, 79, 42, 180, 0, 111, 27]
abbrev dktX5_standsAsAlways_1 : List UInt8 := dkwX5_standsAsAlways_1 ++ dktX5_standsAsAlways_2
def dkwX5_standsAsAlways_0 : List UInt8 := [3, 61, 28, 16, 120, 162, 0, 18, 42, 180, 0, 111, 27, 28, 96, 3, 79, 132, 2, 1, 167, 255, 238, 42]
abbrev dktX5_standsAsAlways_0 : List UInt8 := dkwX5_standsAsAlways_0 ++ dktX5_standsAsAlways_1
theorem dksX5_standsAsAlways_0 : cX5_standsAsAlways.data.toList.drop 0 = dktX5_standsAsAlways_0 := by decide +kernel
theorem dksX5_standsAsAlways_1 : cX5_standsAsAlways.data.toList.drop 24 = dktX5_standsAsAlways_1 := dk_seg dksX5_standsAsAlways_0 24 rfl rfl
theorem dksX5_standsAsAlways_2 : cX5_standsAsAlways.data.toList.drop 48 = dktX5_standsAsAlways_2 := dk_seg dksX5_standsAsAlways_1 24 rfl rfl
theorem dksX5_standsAsAlways_3 : cX5_standsAsAlways.data.toList.drop 72 = dktX5_standsAsAlways_3 := dk_seg dksX5_standsAsAlways_2 24 rfl rfl
theorem dX5_standsAsAlways_0 : decode cX5_standsAsAlways 0 = .ok (.iconst 0, 1) := dk_3 (dk_at dksX5_standsAsAlways_0 0 rfl rfl)
theorem dX5_standsAsAlways_1 : decode cX5_standsAsAlways 1 = .ok (.istore_n 2, 1) := dk_61 (dk_at dksX5_standsAsAlways_0 1 rfl rfl)
theorem dX5_standsAsAlways_2 : decode cX5_standsAsAlways 2 = .ok (.iload_n 2, 1) := dk_28 (dk_at dksX5_standsAsAlways_0 2 rfl rfl)
theorem dX5_standsAsAlways_3 : decode cX5_standsAsAlways 3 = .ok (.bipush 120, 2) := dk_16 120 (dk_at dksX5_standsAsAlways_0 3 rfl rfl)
theorem dX5_standsAsAlways_5 : decode cX5_standsAsAlways 5 = .ok (.if_icmp .ge 18, 3) := dk_162 0 18 (dk_at dksX5_standsAsAlways_0 5 rfl rfl)
theorem dX5_standsAsAlways_8 : decode cX5_standsAsAlways 8 = .ok (.aload_n 0, 1) := dk_42 (dk_at dksX5_standsAsAlways_0 8 rfl rfl)
theorem dX5_standsAsAlways_9 : decode cX5_standsAsAlways 9 = .ok (.getfield 111, 3) := dk_180 0 111 (dk_at dksX5_standsAsAlways_0 9 rfl rfl)
theorem dX5_standsAsAlways_12 : decode cX5_standsAsAlways 12 = .ok (.iload_n 1, 1) := dk_27 (dk_at dksX5_standsAsAlways_0 12 rfl rfl)
theorem dX5_standsAsAlways_13 : decode cX5_standsAsAlways 13 = .ok (.iload_n 2, 1) := dk_28 (dk_at dksX5_standsAsAlways_0 13 rfl rfl)
theorem dX5_standsAsAlways_14 : decode cX5_standsAsAlways 14 = .ok (.iadd, 1) := dk_96 (dk_at dksX5_standsAsAlways_0 14 rfl rfl)
theorem dX5_standsAsAlways_15 : decode cX5_standsAsAlways 15 = .ok (.iconst 0, 1) := dk_3 (dk_at dksX5_standsAsAlways_0 15 rfl rfl)
theorem dX5_standsAsAlways_16 : decode cX5_standsAsAlways 16 = .ok (.iastore, 1) := dk_79 (dk_at dksX5_standsAsAlways_0 16 rfl rfl)
theorem dX5_standsAsAlways_17 : decode cX5_standsAsAlways 17 = .ok (.iinc 2 1, 3) := dk_132 2 1 (dk_at dksX5_standsAsAlways_0 17 rfl rfl)
theorem dX5_standsAsAlways_20 : decode cX5_standsAsAlways 20 = .ok (.goto (-18), 3) := dk_167 255 238 (dk_at dksX5_standsAsAlways_0 20 rfl rfl)
theorem dX5_standsAsAlways_23 : decode cX5_standsAsAlways 23 = .ok (.aload_n 0, 1) := dk_42 (dk_at dksX5_standsAsAlways_0 23 rfl rfl)
theorem dX5_standsAsAlways_24 : decode cX5_standsAsAlways 24 = .ok (.getfield 111, 3) := dk_180 0 111 (dk_at dksX5_standsAsAlways_1 0 rfl rfl)
theorem dX5_standsAsAlways_27 : decode cX5_standsAsAlways 27 = .ok (.iload_n 1, 1) := dk_27 (dk_at dksX5_standsAsAlways_1 3 rfl rfl)
theorem dX5_standsAsAlways_28 : decode cX5_standsAsAlways 28 = .ok (.iconst 3, 1) := dk_6 (dk_at dksX5_standsAsAlways_1 4 rfl rfl)
theorem dX5_standsAsAlways_29 : decode cX5_standsAsAlways 29 = .ok (.iadd, 1) := dk_96 (dk_at dksX5_standsAsAlways_1 5 rfl rfl)
theorem dX5_standsAsAlways_30 : decode cX5_standsAsAlways 30 = .ok (.bipush 20, 2) := dk_16 20 (dk_at dksX5_standsAsAlways_1 6 rfl rfl)
theorem dX5_standsAsAlways_32 : decode cX5_standsAsAlways 32 = .ok (.iastore, 1) := dk_79 (dk_at dksX5_standsAsAlways_1 8 rfl rfl)
theorem dX5_standsAsAlways_33 : decode cX5_standsAsAlways 33 = .ok (.aload_n 0, 1) := dk_42 (dk_at dksX5_standsAsAlways_1 9 rfl rfl)
theorem dX5_standsAsAlways_34 : decode cX5_standsAsAlways 34 = .ok (.getfield 111, 3) := dk_180 0 111 (dk_at dksX5_standsAsAlways_1 10 rfl rfl)
theorem dX5_standsAsAlways_37 : decode cX5_standsAsAlways 37 = .ok (.iload_n 1, 1) := dk_27 (dk_at dksX5_standsAsAlways_1 13 rfl rfl)
theorem dX5_standsAsAlways_38 : decode cX5_standsAsAlways 38 = .ok (.iconst 4, 1) := dk_7 (dk_at dksX5_standsAsAlways_1 14 rfl rfl)
theorem dX5_standsAsAlways_39 : decode cX5_standsAsAlways 39 = .ok (.iadd, 1) := dk_96 (dk_at dksX5_standsAsAlways_1 15 rfl rfl)
theorem dX5_standsAsAlways_40 : decode cX5_standsAsAlways 40 = .ok (.bipush 30, 2) := dk_16 30 (dk_at dksX5_standsAsAlways_1 16 rfl rfl)
theorem dX5_standsAsAlways_42 : decode cX5_standsAsAlways 42 = .ok (.iastore, 1) := dk_79 (dk_at dksX5_standsAsAlways_1 18 rfl rfl)
theorem dX5_standsAsAlways_43 : decode cX5_standsAsAlways 43 = .ok (.aload_n 0, 1) := dk_42 (dk_at dksX5_standsAsAlways_1 19 rfl rfl)
theorem dX5_standsAsAlways_44 : decode cX5_standsAsAlways 44 = .ok (.getfield 111, 3) := dk_180 0 111 (dk_at dksX5_standsAsAlways_1 20 rfl rfl)
theorem dX5_standsAsAlways_47 : decode cX5_standsAsAlways 47 = .ok (.iload_n 1, 1) := dk_27 (dk_at dksX5_standsAsAlways_1 23 rfl rfl)
theorem dX5_standsAsAlways_48 : decode cX5_standsAsAlways 48 = .ok (.iconst 5, 1) := dk_8 (dk_at dksX5_standsAsAlways_2 0 rfl rfl)
theorem dX5_standsAsAlways_49 : decode cX5_standsAsAlways 49 = .ok (.iadd, 1) := dk_96 (dk_at dksX5_standsAsAlways_2 1 rfl rfl)
theorem dX5_standsAsAlways_50 : decode cX5_standsAsAlways 50 = .ok (.iconst 1, 1) := dk_4 (dk_at dksX5_standsAsAlways_2 2 rfl rfl)
theorem dX5_standsAsAlways_51 : decode cX5_standsAsAlways 51 = .ok (.iastore, 1) := dk_79 (dk_at dksX5_standsAsAlways_2 3 rfl rfl)
theorem dX5_standsAsAlways_52 : decode cX5_standsAsAlways 52 = .ok (.aload_n 0, 1) := dk_42 (dk_at dksX5_standsAsAlways_2 4 rfl rfl)
theorem dX5_standsAsAlways_53 : decode cX5_standsAsAlways 53 = .ok (.getfield 111, 3) := dk_180 0 111 (dk_at dksX5_standsAsAlways_2 5 rfl rfl)
theorem dX5_standsAsAlways_56 : decode cX5_standsAsAlways 56 = .ok (.iload_n 1, 1) := dk_27 (dk_at dksX5_standsAsAlways_2 8 rfl rfl)
theorem dX5_standsAsAlways_57 : decode cX5_standsAsAlways 57 = .ok (.bipush 6, 2) := dk_16 6 (dk_at dksX5_standsAsAlways_2 9 rfl rfl)
theorem dX5_standsAsAlways_59 : decode cX5_standsAsAlways 59 = .ok (.iadd, 1) := dk_96 (dk_at dksX5_standsAsAlways_2 11 rfl rfl)
theorem dX5_standsAsAlways_60 : decode cX5_standsAsAlways 60 = .ok (.iconst (-1), 1) := dk_2 (dk_at dksX5_standsAsAlways_2 12 rfl rfl)
theorem dX5_standsAsAlways_61 : decode cX5_standsAsAlways 61 = .ok (.iastore, 1) := dk_79 (dk_at dksX5_standsAsAlways_2 13 rfl rfl)
theorem dX5_standsAsAlways_62 : decode cX5_standsAsAlways 62 = .ok (.aload_n 0, 1) := dk_42 (dk_at dksX5_standsAsAlways_2 14 rfl rfl)
theorem dX5_standsAsAlways_63 : decode cX5_standsAsAlways 63 = .ok (.getfield 111, 3) := dk_180 0 111 (dk_at dksX5_standsAsAlways_2 15 rfl rfl)
theorem dX5_standsAsAlways_66 : decode cX5_standsAsAlways 66 = .ok (.iload_n 1, 1) := dk_27 (dk_at dksX5_standsAsAlways_2 18 rfl rfl)
theorem dX5_standsAsAlways_67 : decode cX5_standsAsAlways 67 = .ok (.bipush 6, 2) := dk_16 6 (dk_at dksX5_standsAsAlways_2 19 rfl rfl)
theorem dX5_standsAsAlways_69 : decode cX5_standsAsAlways 69 = .ok (.iadd, 1) := dk_96 (dk_at dksX5_standsAsAlways_2 21 rfl rfl)
theorem dX5_standsAsAlways_70 : decode cX5_standsAsAlways 70 = .ok (.iconst 1, 1) := dk_4 (dk_at dksX5_standsAsAlways_2 22 rfl rfl)
theorem dX5_standsAsAlways_71 : decode cX5_standsAsAlways 71 = .ok (.iadd, 1) := dk_96 (dk_at dksX5_standsAsAlways_2 23 rfl rfl)
theorem dX5_standsAsAlways_72 : decode cX5_standsAsAlways 72 = .ok (.iconst (-1), 1) := dk_2 (dk_at dksX5_standsAsAlways_3 0 rfl rfl)
theorem dX5_standsAsAlways_73 : decode cX5_standsAsAlways 73 = .ok (.iastore, 1) := dk_79 (dk_at dksX5_standsAsAlways_3 1 rfl rfl)
theorem dX5_standsAsAlways_74 : decode cX5_standsAsAlways 74 = .ok (.return_, 1) := dk_177 (dk_at dksX5_standsAsAlways_3 2 rfl rfl)
abbrev cX5_begins : ByteArray := prog_26_method_47_code
def yX5_begins : MethodName := ⟨RX5, "begins", "()V"⟩
def dkwX5_begins_2 : List UInt8 := [84, 132, 1, 1, 167, 255, 241, 177]
abbrev dktX5_begins_2 : List UInt8 := dkwX5_begins_2 ++ []
def dkwX5_begins_1 : List UInt8 := [180, 0, 132, 3, 3, 79, 42, 3, 181, 1, 80, 3, 60, 27, 7, 162, 0, 16, 42, 180, 0, 144, 27, 3]
abbrev dktX5_begins_1 : List UInt8 := dkwX5_begins_1 ++ dktX5_begins_2
def dkwX5_begins_0 : List UInt8 := [42, 42, 180, 0, 111, 6, 46, 181, 1, 74, 42, 3, 182, 1, 77, 42, 180, 0, 141, 16, 43, 3, 79, 42]
abbrev dktX5_begins_0 : List UInt8 := dkwX5_begins_0 ++ dktX5_begins_1
theorem dksX5_begins_0 : cX5_begins.data.toList.drop 0 = dktX5_begins_0 := by decide +kernel
theorem dksX5_begins_1 : cX5_begins.data.toList.drop 24 = dktX5_begins_1 := dk_seg dksX5_begins_0 24 rfl rfl
theorem dksX5_begins_2 : cX5_begins.data.toList.drop 48 = dktX5_begins_2 := dk_seg dksX5_begins_1 24 rfl rfl
theorem dX5_begins_0 : decode cX5_begins 0 = .ok (.aload_n 0, 1) := dk_42 (dk_at dksX5_begins_0 0 rfl rfl)
theorem dX5_begins_1 : decode cX5_begins 1 = .ok (.aload_n 0, 1) := dk_42 (dk_at dksX5_begins_0 1 rfl rfl)
theorem dX5_begins_2 : decode cX5_begins 2 = .ok (.getfield 111, 3) := dk_180 0 111 (dk_at dksX5_begins_0 2 rfl rfl)
theorem dX5_begins_5 : decode cX5_begins 5 = .ok (.iconst 3, 1) := dk_6 (dk_at dksX5_begins_0 5 rfl rfl)
theorem dX5_begins_6 : decode cX5_begins 6 = .ok (.iaload, 1) := dk_46 (dk_at dksX5_begins_0 6 rfl rfl)
theorem dX5_begins_7 : decode cX5_begins 7 = .ok (.putfield 330, 3) := dk_181 1 74 (dk_at dksX5_begins_0 7 rfl rfl)
theorem dX5_begins_10 : decode cX5_begins 10 = .ok (.aload_n 0, 1) := dk_42 (dk_at dksX5_begins_0 10 rfl rfl)
theorem dX5_begins_11 : decode cX5_begins 11 = .ok (.iconst 0, 1) := dk_3 (dk_at dksX5_begins_0 11 rfl rfl)
theorem dX5_begins_12 : decode cX5_begins 12 = .ok (.invokevirtual 333, 3) := dk_182 1 77 (dk_at dksX5_begins_0 12 rfl rfl)
theorem dX5_begins_15 : decode cX5_begins 15 = .ok (.aload_n 0, 1) := dk_42 (dk_at dksX5_begins_0 15 rfl rfl)
theorem dX5_begins_16 : decode cX5_begins 16 = .ok (.getfield 141, 3) := dk_180 0 141 (dk_at dksX5_begins_0 16 rfl rfl)
theorem dX5_begins_19 : decode cX5_begins 19 = .ok (.bipush 43, 2) := dk_16 43 (dk_at dksX5_begins_0 19 rfl rfl)
theorem dX5_begins_21 : decode cX5_begins 21 = .ok (.iconst 0, 1) := dk_3 (dk_at dksX5_begins_0 21 rfl rfl)
theorem dX5_begins_22 : decode cX5_begins 22 = .ok (.iastore, 1) := dk_79 (dk_at dksX5_begins_0 22 rfl rfl)
theorem dX5_begins_23 : decode cX5_begins 23 = .ok (.aload_n 0, 1) := dk_42 (dk_at dksX5_begins_0 23 rfl rfl)
theorem dX5_begins_24 : decode cX5_begins 24 = .ok (.getfield 132, 3) := dk_180 0 132 (dk_at dksX5_begins_1 0 rfl rfl)
theorem dX5_begins_27 : decode cX5_begins 27 = .ok (.iconst 0, 1) := dk_3 (dk_at dksX5_begins_1 3 rfl rfl)
theorem dX5_begins_28 : decode cX5_begins 28 = .ok (.iconst 0, 1) := dk_3 (dk_at dksX5_begins_1 4 rfl rfl)
theorem dX5_begins_29 : decode cX5_begins 29 = .ok (.iastore, 1) := dk_79 (dk_at dksX5_begins_1 5 rfl rfl)
theorem dX5_begins_30 : decode cX5_begins 30 = .ok (.aload_n 0, 1) := dk_42 (dk_at dksX5_begins_1 6 rfl rfl)
theorem dX5_begins_31 : decode cX5_begins 31 = .ok (.iconst 0, 1) := dk_3 (dk_at dksX5_begins_1 7 rfl rfl)
theorem dX5_begins_32 : decode cX5_begins 32 = .ok (.putfield 336, 3) := dk_181 1 80 (dk_at dksX5_begins_1 8 rfl rfl)
theorem dX5_begins_35 : decode cX5_begins 35 = .ok (.iconst 0, 1) := dk_3 (dk_at dksX5_begins_1 11 rfl rfl)
theorem dX5_begins_36 : decode cX5_begins 36 = .ok (.istore_n 1, 1) := dk_60 (dk_at dksX5_begins_1 12 rfl rfl)
theorem dX5_begins_37 : decode cX5_begins 37 = .ok (.iload_n 1, 1) := dk_27 (dk_at dksX5_begins_1 13 rfl rfl)
theorem dX5_begins_38 : decode cX5_begins 38 = .ok (.iconst 4, 1) := dk_7 (dk_at dksX5_begins_1 14 rfl rfl)
theorem dX5_begins_39 : decode cX5_begins 39 = .ok (.if_icmp .ge 16, 3) := dk_162 0 16 (dk_at dksX5_begins_1 15 rfl rfl)
theorem dX5_begins_42 : decode cX5_begins 42 = .ok (.aload_n 0, 1) := dk_42 (dk_at dksX5_begins_1 18 rfl rfl)
theorem dX5_begins_43 : decode cX5_begins 43 = .ok (.getfield 144, 3) := dk_180 0 144 (dk_at dksX5_begins_1 19 rfl rfl)
theorem dX5_begins_46 : decode cX5_begins 46 = .ok (.iload_n 1, 1) := dk_27 (dk_at dksX5_begins_1 22 rfl rfl)
theorem dX5_begins_47 : decode cX5_begins 47 = .ok (.iconst 0, 1) := dk_3 (dk_at dksX5_begins_1 23 rfl rfl)
theorem dX5_begins_48 : decode cX5_begins 48 = .ok (.bastore, 1) := dk_84 (dk_at dksX5_begins_2 0 rfl rfl)
theorem dX5_begins_49 : decode cX5_begins 49 = .ok (.iinc 1 1, 3) := dk_132 1 1 (dk_at dksX5_begins_2 1 rfl rfl)
theorem dX5_begins_52 : decode cX5_begins 52 = .ok (.goto (-15), 3) := dk_167 255 241 (dk_at dksX5_begins_2 4 rfl rfl)
theorem dX5_begins_55 : decode cX5_begins 55 = .ok (.return_, 1) := dk_177 (dk_at dksX5_begins_2 7 rfl rfl)
abbrev cX5_starts : ByteArray := prog_26_method_46_code
def yX5_starts : MethodName := ⟨RX5, "starts", "(I)V"⟩
def dkwX5_starts_3 : List UInt8 := [182, 1, 67, 162, 0, 12, 42, 28, 6, 182, 1, 71, 167, 0, 4, 3, 79, 132, 2, 1, 167, 255, 190, 177]
abbrev dktX5_starts_3 : List UInt8 := dkwX5_starts_3 ++ []
def dkwX5_starts_2 : List UInt8 := [42, 28, 7, 182, 1, 71, 167, 0, 4, 2, 79, 42, 180, 0, 141, 27, 16, 31, 96, 28, 96, 28, 42]
abbrev dktX5_starts_2 : List UInt8 := dkwX5_starts_2 ++ dktX5_starts_3
def dkwX5_starts_1 : List UInt8 := [61, 28, 16, 6, 162, 0, 66, 42, 180, 0, 141, 27, 4, 96, 28, 96, 28, 42, 182, 1, 67, 162, 0, 12]
abbrev dktX5_starts_1 : List UInt8 := dkwX5_starts_1 ++ dktX5_starts_2
def dkwX5_starts_0 : List UInt8 := [3, 61, 28, 16, 43, 162, 0, 18, 42, 180, 0, 141, 27, 28, 96, 3, 79, 132, 2, 1, 167, 255, 238, 3]
abbrev dktX5_starts_0 : List UInt8 := dkwX5_starts_0 ++ dktX5_starts_1
theorem dksX5_starts_0 : cX5_starts.data.toList.drop 0 = dktX5_starts_0 := by decide +kernel
theorem dksX5_starts_1 : cX5_starts.data.toList.drop 24 = dktX5_starts_1 := dk_seg dksX5_starts_0 24 rfl rfl
theorem dksX5_starts_2 : cX5_starts.data.toList.drop 48 = dktX5_starts_2 := dk_seg dksX5_starts_1 24 rfl rfl
theorem dksX5_starts_3 : cX5_starts.data.toList.drop 71 = dktX5_starts_3 := dk_seg dksX5_starts_2 23 rfl rfl
theorem dX5_starts_0 : decode cX5_starts 0 = .ok (.iconst 0, 1) := dk_3 (dk_at dksX5_starts_0 0 rfl rfl)
theorem dX5_starts_1 : decode cX5_starts 1 = .ok (.istore_n 2, 1) := dk_61 (dk_at dksX5_starts_0 1 rfl rfl)
theorem dX5_starts_2 : decode cX5_starts 2 = .ok (.iload_n 2, 1) := dk_28 (dk_at dksX5_starts_0 2 rfl rfl)
theorem dX5_starts_3 : decode cX5_starts 3 = .ok (.bipush 43, 2) := dk_16 43 (dk_at dksX5_starts_0 3 rfl rfl)
theorem dX5_starts_5 : decode cX5_starts 5 = .ok (.if_icmp .ge 18, 3) := dk_162 0 18 (dk_at dksX5_starts_0 5 rfl rfl)
theorem dX5_starts_8 : decode cX5_starts 8 = .ok (.aload_n 0, 1) := dk_42 (dk_at dksX5_starts_0 8 rfl rfl)
theorem dX5_starts_9 : decode cX5_starts 9 = .ok (.getfield 141, 3) := dk_180 0 141 (dk_at dksX5_starts_0 9 rfl rfl)
theorem dX5_starts_12 : decode cX5_starts 12 = .ok (.iload_n 1, 1) := dk_27 (dk_at dksX5_starts_0 12 rfl rfl)
theorem dX5_starts_13 : decode cX5_starts 13 = .ok (.iload_n 2, 1) := dk_28 (dk_at dksX5_starts_0 13 rfl rfl)
theorem dX5_starts_14 : decode cX5_starts 14 = .ok (.iadd, 1) := dk_96 (dk_at dksX5_starts_0 14 rfl rfl)
theorem dX5_starts_15 : decode cX5_starts 15 = .ok (.iconst 0, 1) := dk_3 (dk_at dksX5_starts_0 15 rfl rfl)
theorem dX5_starts_16 : decode cX5_starts 16 = .ok (.iastore, 1) := dk_79 (dk_at dksX5_starts_0 16 rfl rfl)
theorem dX5_starts_17 : decode cX5_starts 17 = .ok (.iinc 2 1, 3) := dk_132 2 1 (dk_at dksX5_starts_0 17 rfl rfl)
theorem dX5_starts_20 : decode cX5_starts 20 = .ok (.goto (-18), 3) := dk_167 255 238 (dk_at dksX5_starts_0 20 rfl rfl)
theorem dX5_starts_23 : decode cX5_starts 23 = .ok (.iconst 0, 1) := dk_3 (dk_at dksX5_starts_0 23 rfl rfl)
theorem dX5_starts_24 : decode cX5_starts 24 = .ok (.istore_n 2, 1) := dk_61 (dk_at dksX5_starts_1 0 rfl rfl)
theorem dX5_starts_25 : decode cX5_starts 25 = .ok (.iload_n 2, 1) := dk_28 (dk_at dksX5_starts_1 1 rfl rfl)
theorem dX5_starts_26 : decode cX5_starts 26 = .ok (.bipush 6, 2) := dk_16 6 (dk_at dksX5_starts_1 2 rfl rfl)
theorem dX5_starts_28 : decode cX5_starts 28 = .ok (.if_icmp .ge 66, 3) := dk_162 0 66 (dk_at dksX5_starts_1 4 rfl rfl)
theorem dX5_starts_31 : decode cX5_starts 31 = .ok (.aload_n 0, 1) := dk_42 (dk_at dksX5_starts_1 7 rfl rfl)
theorem dX5_starts_32 : decode cX5_starts 32 = .ok (.getfield 141, 3) := dk_180 0 141 (dk_at dksX5_starts_1 8 rfl rfl)
theorem dX5_starts_35 : decode cX5_starts 35 = .ok (.iload_n 1, 1) := dk_27 (dk_at dksX5_starts_1 11 rfl rfl)
theorem dX5_starts_36 : decode cX5_starts 36 = .ok (.iconst 1, 1) := dk_4 (dk_at dksX5_starts_1 12 rfl rfl)
theorem dX5_starts_37 : decode cX5_starts 37 = .ok (.iadd, 1) := dk_96 (dk_at dksX5_starts_1 13 rfl rfl)
theorem dX5_starts_38 : decode cX5_starts 38 = .ok (.iload_n 2, 1) := dk_28 (dk_at dksX5_starts_1 14 rfl rfl)
theorem dX5_starts_39 : decode cX5_starts 39 = .ok (.iadd, 1) := dk_96 (dk_at dksX5_starts_1 15 rfl rfl)
theorem dX5_starts_40 : decode cX5_starts 40 = .ok (.iload_n 2, 1) := dk_28 (dk_at dksX5_starts_1 16 rfl rfl)
theorem dX5_starts_41 : decode cX5_starts 41 = .ok (.aload_n 0, 1) := dk_42 (dk_at dksX5_starts_1 17 rfl rfl)
theorem dX5_starts_42 : decode cX5_starts 42 = .ok (.invokevirtual 323, 3) := dk_182 1 67 (dk_at dksX5_starts_1 18 rfl rfl)
theorem dX5_starts_45 : decode cX5_starts 45 = .ok (.if_icmp .ge 12, 3) := dk_162 0 12 (dk_at dksX5_starts_1 21 rfl rfl)
theorem dX5_starts_48 : decode cX5_starts 48 = .ok (.aload_n 0, 1) := dk_42 (dk_at dksX5_starts_2 0 rfl rfl)
theorem dX5_starts_49 : decode cX5_starts 49 = .ok (.iload_n 2, 1) := dk_28 (dk_at dksX5_starts_2 1 rfl rfl)
theorem dX5_starts_50 : decode cX5_starts 50 = .ok (.iconst 4, 1) := dk_7 (dk_at dksX5_starts_2 2 rfl rfl)
theorem dX5_starts_51 : decode cX5_starts 51 = .ok (.invokevirtual 327, 3) := dk_182 1 71 (dk_at dksX5_starts_2 3 rfl rfl)
theorem dX5_starts_54 : decode cX5_starts 54 = .ok (.goto 4, 3) := dk_167 0 4 (dk_at dksX5_starts_2 6 rfl rfl)
theorem dX5_starts_57 : decode cX5_starts 57 = .ok (.iconst (-1), 1) := dk_2 (dk_at dksX5_starts_2 9 rfl rfl)
theorem dX5_starts_58 : decode cX5_starts 58 = .ok (.iastore, 1) := dk_79 (dk_at dksX5_starts_2 10 rfl rfl)
theorem dX5_starts_59 : decode cX5_starts 59 = .ok (.aload_n 0, 1) := dk_42 (dk_at dksX5_starts_2 11 rfl rfl)
theorem dX5_starts_60 : decode cX5_starts 60 = .ok (.getfield 141, 3) := dk_180 0 141 (dk_at dksX5_starts_2 12 rfl rfl)
theorem dX5_starts_63 : decode cX5_starts 63 = .ok (.iload_n 1, 1) := dk_27 (dk_at dksX5_starts_2 15 rfl rfl)
theorem dX5_starts_64 : decode cX5_starts 64 = .ok (.bipush 31, 2) := dk_16 31 (dk_at dksX5_starts_2 16 rfl rfl)
theorem dX5_starts_66 : decode cX5_starts 66 = .ok (.iadd, 1) := dk_96 (dk_at dksX5_starts_2 18 rfl rfl)
theorem dX5_starts_67 : decode cX5_starts 67 = .ok (.iload_n 2, 1) := dk_28 (dk_at dksX5_starts_2 19 rfl rfl)
theorem dX5_starts_68 : decode cX5_starts 68 = .ok (.iadd, 1) := dk_96 (dk_at dksX5_starts_2 20 rfl rfl)
theorem dX5_starts_69 : decode cX5_starts 69 = .ok (.iload_n 2, 1) := dk_28 (dk_at dksX5_starts_2 21 rfl rfl)
theorem dX5_starts_70 : decode cX5_starts 70 = .ok (.aload_n 0, 1) := dk_42 (dk_at dksX5_starts_2 22 rfl rfl)
theorem dX5_starts_71 : decode cX5_starts 71 = .ok (.invokevirtual 323, 3) := dk_182 1 67 (dk_at dksX5_starts_3 0 rfl rfl)
theorem dX5_starts_74 : decode cX5_starts 74 = .ok (.if_icmp .ge 12, 3) := dk_162 0 12 (dk_at dksX5_starts_3 3 rfl rfl)
theorem dX5_starts_77 : decode cX5_starts 77 = .ok (.aload_n 0, 1) := dk_42 (dk_at dksX5_starts_3 6 rfl rfl)
theorem dX5_starts_78 : decode cX5_starts 78 = .ok (.iload_n 2, 1) := dk_28 (dk_at dksX5_starts_3 7 rfl rfl)
theorem dX5_starts_79 : decode cX5_starts 79 = .ok (.iconst 3, 1) := dk_6 (dk_at dksX5_starts_3 8 rfl rfl)
theorem dX5_starts_80 : decode cX5_starts 80 = .ok (.invokevirtual 327, 3) := dk_182 1 71 (dk_at dksX5_starts_3 9 rfl rfl)
theorem dX5_starts_83 : decode cX5_starts 83 = .ok (.goto 4, 3) := dk_167 0 4 (dk_at dksX5_starts_3 12 rfl rfl)
theorem dX5_starts_86 : decode cX5_starts 86 = .ok (.iconst 0, 1) := dk_3 (dk_at dksX5_starts_3 15 rfl rfl)
theorem dX5_starts_87 : decode cX5_starts 87 = .ok (.iastore, 1) := dk_79 (dk_at dksX5_starts_3 16 rfl rfl)
theorem dX5_starts_88 : decode cX5_starts 88 = .ok (.iinc 2 1, 3) := dk_132 2 1 (dk_at dksX5_starts_3 17 rfl rfl)
theorem dX5_starts_91 : decode cX5_starts 91 = .ok (.goto (-66), 3) := dk_167 255 190 (dk_at dksX5_starts_3 20 rfl rfl)
theorem dX5_starts_94 : decode cX5_starts 94 = .ok (.return_, 1) := dk_177 (dk_at dksX5_starts_3 23 rfl rfl)
abbrev cX5_tenants : ByteArray := prog_26_method_50_code
def yX5_tenants : MethodName := ⟨RX5, "tenants", "()I"⟩
def dkwX5_tenants_0 : List UInt8 := [42, 180, 0, 111, 4, 46, 172]
abbrev dktX5_tenants_0 : List UInt8 := dkwX5_tenants_0 ++ []
theorem dksX5_tenants_0 : cX5_tenants.data.toList.drop 0 = dktX5_tenants_0 := by decide +kernel
theorem dX5_tenants_0 : decode cX5_tenants 0 = .ok (.aload_n 0, 1) := dk_42 (dk_at dksX5_tenants_0 0 rfl rfl)
theorem dX5_tenants_1 : decode cX5_tenants 1 = .ok (.getfield 111, 3) := dk_180 0 111 (dk_at dksX5_tenants_0 1 rfl rfl)
theorem dX5_tenants_4 : decode cX5_tenants 4 = .ok (.iconst 1, 1) := dk_4 (dk_at dksX5_tenants_0 4 rfl rfl)
theorem dX5_tenants_5 : decode cX5_tenants 5 = .ok (.iaload, 1) := dk_46 (dk_at dksX5_tenants_0 5 rfl rfl)
theorem dX5_tenants_6 : decode cX5_tenants 6 = .ok (.ireturn, 1) := dk_172 (dk_at dksX5_tenants_0 6 rfl rfl)
abbrev cX5_tenantOf : ByteArray := prog_26_method_53_code
def yX5_tenantOf : MethodName := ⟨RX5, "tenantOf", "(II)I"⟩
def dkwX5_tenantOf_0 : List UInt8 := [42, 180, 0, 111, 16, 26, 8, 27, 104, 96, 28, 96, 46, 172]
abbrev dktX5_tenantOf_0 : List UInt8 := dkwX5_tenantOf_0 ++ []
theorem dksX5_tenantOf_0 : cX5_tenantOf.data.toList.drop 0 = dktX5_tenantOf_0 := by decide +kernel
theorem dX5_tenantOf_0 : decode cX5_tenantOf 0 = .ok (.aload_n 0, 1) := dk_42 (dk_at dksX5_tenantOf_0 0 rfl rfl)
theorem dX5_tenantOf_1 : decode cX5_tenantOf 1 = .ok (.getfield 111, 3) := dk_180 0 111 (dk_at dksX5_tenantOf_0 1 rfl rfl)
theorem dX5_tenantOf_4 : decode cX5_tenantOf 4 = .ok (.bipush 26, 2) := dk_16 26 (dk_at dksX5_tenantOf_0 4 rfl rfl)
theorem dX5_tenantOf_6 : decode cX5_tenantOf 6 = .ok (.iconst 5, 1) := dk_8 (dk_at dksX5_tenantOf_0 6 rfl rfl)
theorem dX5_tenantOf_7 : decode cX5_tenantOf 7 = .ok (.iload_n 1, 1) := dk_27 (dk_at dksX5_tenantOf_0 7 rfl rfl)
theorem dX5_tenantOf_8 : decode cX5_tenantOf 8 = .ok (.imul, 1) := dk_104 (dk_at dksX5_tenantOf_0 8 rfl rfl)
theorem dX5_tenantOf_9 : decode cX5_tenantOf 9 = .ok (.iadd, 1) := dk_96 (dk_at dksX5_tenantOf_0 9 rfl rfl)
theorem dX5_tenantOf_10 : decode cX5_tenantOf 10 = .ok (.iload_n 2, 1) := dk_28 (dk_at dksX5_tenantOf_0 10 rfl rfl)
theorem dX5_tenantOf_11 : decode cX5_tenantOf 11 = .ok (.iadd, 1) := dk_96 (dk_at dksX5_tenantOf_0 11 rfl rfl)
theorem dX5_tenantOf_12 : decode cX5_tenantOf 12 = .ok (.iaload, 1) := dk_46 (dk_at dksX5_tenantOf_0 12 rfl rfl)
theorem dX5_tenantOf_13 : decode cX5_tenantOf 13 = .ok (.ireturn, 1) := dk_172 (dk_at dksX5_tenantOf_0 13 rfl rfl)
abbrev cX5_house : ByteArray := prog_26_method_27_code
def yX5_house : MethodName := ⟨RX5, "house", "()I"⟩
def dkwX5_house_8 : List UInt8 := [167, 255, 221, 42, 42, 180, 0, 227, 181, 0, 230, 42, 182, 0, 173, 3, 172]
abbrev dktX5_house_8 : List UInt8 := dkwX5_house_8 ++ []
def dkwX5_house_7 : List UInt8 := [42, 180, 0, 123, 27, 47, 80, 42, 180, 0, 126, 27, 42, 180, 0, 129, 27, 46, 79, 132, 1, 1]
abbrev dktX5_house_7 : List UInt8 := dkwX5_house_7 ++ dktX5_house_8
def dkwX5_house_6 : List UInt8 := [96, 46, 79, 132, 1, 1, 167, 255, 213, 3, 60, 27, 42, 180, 0, 227, 162, 0, 33, 42, 180, 0, 120, 27]
abbrev dktX5_house_6 : List UInt8 := dkwX5_house_6 ++ dktX5_house_7
def dkwX5_house_5 : List UInt8 := [42, 180, 0, 114, 17, 4, 76, 27, 96, 46, 79, 42, 180, 0, 117, 27, 42, 180, 0, 117, 17, 4, 76, 27]
abbrev dktX5_house_5 : List UInt8 := dkwX5_house_5 ++ dktX5_house_6
def dkwX5_house_4 : List UInt8 := [96, 46, 79, 132, 1, 1, 167, 255, 232, 3, 60, 27, 42, 180, 0, 252, 162, 0, 41, 42, 180, 0, 114, 27]
abbrev dktX5_house_4 : List UInt8 := dkwX5_house_4 ++ dktX5_house_5
def dkwX5_house_3 : List UInt8 := [180, 0, 202, 172, 3, 60, 27, 16, 120, 162, 0, 24, 42, 180, 0, 111, 27, 42, 180, 0, 111, 16, 120, 27]
abbrev dktX5_house_3 : List UInt8 := dkwX5_house_3 ++ dktX5_house_4
def dkwX5_house_2 : List UInt8 := [153, 0, 16, 42, 182, 1, 2, 42, 16, 59, 182, 1, 5, 167, 255, 227, 42, 180, 0, 202, 158, 0, 8, 42]
abbrev dktX5_house_2 : List UInt8 := dkwX5_house_2 ++ dktX5_house_3
def dkwX5_house_1 : List UInt8 := [42, 16, 120, 182, 0, 169, 42, 180, 0, 202, 154, 0, 28, 42, 180, 0, 24, 42, 180, 0, 199, 46]
abbrev dktX5_house_1 : List UInt8 := dkwX5_house_1 ++ dktX5_house_2
def dkwX5_house_0 : List UInt8 := [42, 3, 181, 0, 1, 42, 182, 0, 249, 42, 3, 181, 0, 252, 42, 3, 181, 0, 227, 42, 3, 181, 0, 255]
abbrev dktX5_house_0 : List UInt8 := dkwX5_house_0 ++ dktX5_house_1
theorem dksX5_house_0 : cX5_house.data.toList.drop 0 = dktX5_house_0 := by decide +kernel
theorem dksX5_house_1 : cX5_house.data.toList.drop 24 = dktX5_house_1 := dk_seg dksX5_house_0 24 rfl rfl
theorem dksX5_house_2 : cX5_house.data.toList.drop 46 = dktX5_house_2 := dk_seg dksX5_house_1 22 rfl rfl
theorem dksX5_house_3 : cX5_house.data.toList.drop 70 = dktX5_house_3 := dk_seg dksX5_house_2 24 rfl rfl
theorem dksX5_house_4 : cX5_house.data.toList.drop 94 = dktX5_house_4 := dk_seg dksX5_house_3 24 rfl rfl
theorem dksX5_house_5 : cX5_house.data.toList.drop 118 = dktX5_house_5 := dk_seg dksX5_house_4 24 rfl rfl
theorem dksX5_house_6 : cX5_house.data.toList.drop 142 = dktX5_house_6 := dk_seg dksX5_house_5 24 rfl rfl
theorem dksX5_house_7 : cX5_house.data.toList.drop 166 = dktX5_house_7 := dk_seg dksX5_house_6 24 rfl rfl
theorem dksX5_house_8 : cX5_house.data.toList.drop 188 = dktX5_house_8 := dk_seg dksX5_house_7 22 rfl rfl
theorem dX5_house_0 : decode cX5_house 0 = .ok (.aload_n 0, 1) := dk_42 (dk_at dksX5_house_0 0 rfl rfl)
theorem dX5_house_1 : decode cX5_house 1 = .ok (.iconst 0, 1) := dk_3 (dk_at dksX5_house_0 1 rfl rfl)
theorem dX5_house_2 : decode cX5_house 2 = .ok (.putfield 1, 3) := dk_181 0 1 (dk_at dksX5_house_0 2 rfl rfl)
theorem dX5_house_5 : decode cX5_house 5 = .ok (.aload_n 0, 1) := dk_42 (dk_at dksX5_house_0 5 rfl rfl)
theorem dX5_house_6 : decode cX5_house 6 = .ok (.invokevirtual 249, 3) := dk_182 0 249 (dk_at dksX5_house_0 6 rfl rfl)
theorem dX5_house_9 : decode cX5_house 9 = .ok (.aload_n 0, 1) := dk_42 (dk_at dksX5_house_0 9 rfl rfl)
theorem dX5_house_10 : decode cX5_house 10 = .ok (.iconst 0, 1) := dk_3 (dk_at dksX5_house_0 10 rfl rfl)
theorem dX5_house_11 : decode cX5_house 11 = .ok (.putfield 252, 3) := dk_181 0 252 (dk_at dksX5_house_0 11 rfl rfl)
theorem dX5_house_14 : decode cX5_house 14 = .ok (.aload_n 0, 1) := dk_42 (dk_at dksX5_house_0 14 rfl rfl)
theorem dX5_house_15 : decode cX5_house 15 = .ok (.iconst 0, 1) := dk_3 (dk_at dksX5_house_0 15 rfl rfl)
theorem dX5_house_16 : decode cX5_house 16 = .ok (.putfield 227, 3) := dk_181 0 227 (dk_at dksX5_house_0 16 rfl rfl)
theorem dX5_house_19 : decode cX5_house 19 = .ok (.aload_n 0, 1) := dk_42 (dk_at dksX5_house_0 19 rfl rfl)
theorem dX5_house_20 : decode cX5_house 20 = .ok (.iconst 0, 1) := dk_3 (dk_at dksX5_house_0 20 rfl rfl)
theorem dX5_house_21 : decode cX5_house 21 = .ok (.putfield 255, 3) := dk_181 0 255 (dk_at dksX5_house_0 21 rfl rfl)
theorem dX5_house_24 : decode cX5_house 24 = .ok (.aload_n 0, 1) := dk_42 (dk_at dksX5_house_1 0 rfl rfl)
theorem dX5_house_25 : decode cX5_house 25 = .ok (.bipush 120, 2) := dk_16 120 (dk_at dksX5_house_1 1 rfl rfl)
theorem dX5_house_27 : decode cX5_house 27 = .ok (.invokevirtual 169, 3) := dk_182 0 169 (dk_at dksX5_house_1 3 rfl rfl)
theorem dX5_house_30 : decode cX5_house 30 = .ok (.aload_n 0, 1) := dk_42 (dk_at dksX5_house_1 6 rfl rfl)
theorem dX5_house_31 : decode cX5_house 31 = .ok (.getfield 202, 3) := dk_180 0 202 (dk_at dksX5_house_1 7 rfl rfl)
theorem dX5_house_34 : decode cX5_house 34 = .ok (.ifCond .ne 28, 3) := dk_154 0 28 (dk_at dksX5_house_1 10 rfl rfl)
theorem dX5_house_37 : decode cX5_house 37 = .ok (.aload_n 0, 1) := dk_42 (dk_at dksX5_house_1 13 rfl rfl)
theorem dX5_house_38 : decode cX5_house 38 = .ok (.getfield 24, 3) := dk_180 0 24 (dk_at dksX5_house_1 14 rfl rfl)
theorem dX5_house_41 : decode cX5_house 41 = .ok (.aload_n 0, 1) := dk_42 (dk_at dksX5_house_1 17 rfl rfl)
theorem dX5_house_42 : decode cX5_house 42 = .ok (.getfield 199, 3) := dk_180 0 199 (dk_at dksX5_house_1 18 rfl rfl)
theorem dX5_house_45 : decode cX5_house 45 = .ok (.iaload, 1) := dk_46 (dk_at dksX5_house_1 21 rfl rfl)
theorem dX5_house_46 : decode cX5_house 46 = .ok (.ifCond .eq 16, 3) := dk_153 0 16 (dk_at dksX5_house_2 0 rfl rfl)
theorem dX5_house_49 : decode cX5_house 49 = .ok (.aload_n 0, 1) := dk_42 (dk_at dksX5_house_2 3 rfl rfl)
theorem dX5_house_50 : decode cX5_house 50 = .ok (.invokevirtual 258, 3) := dk_182 1 2 (dk_at dksX5_house_2 4 rfl rfl)
theorem dX5_house_53 : decode cX5_house 53 = .ok (.aload_n 0, 1) := dk_42 (dk_at dksX5_house_2 7 rfl rfl)
theorem dX5_house_54 : decode cX5_house 54 = .ok (.bipush 59, 2) := dk_16 59 (dk_at dksX5_house_2 8 rfl rfl)
theorem dX5_house_56 : decode cX5_house 56 = .ok (.invokevirtual 261, 3) := dk_182 1 5 (dk_at dksX5_house_2 10 rfl rfl)
theorem dX5_house_59 : decode cX5_house 59 = .ok (.goto (-29), 3) := dk_167 255 227 (dk_at dksX5_house_2 13 rfl rfl)
theorem dX5_house_62 : decode cX5_house 62 = .ok (.aload_n 0, 1) := dk_42 (dk_at dksX5_house_2 16 rfl rfl)
theorem dX5_house_63 : decode cX5_house 63 = .ok (.getfield 202, 3) := dk_180 0 202 (dk_at dksX5_house_2 17 rfl rfl)
theorem dX5_house_66 : decode cX5_house 66 = .ok (.ifCond .le 8, 3) := dk_158 0 8 (dk_at dksX5_house_2 20 rfl rfl)
theorem dX5_house_69 : decode cX5_house 69 = .ok (.aload_n 0, 1) := dk_42 (dk_at dksX5_house_2 23 rfl rfl)
theorem dX5_house_70 : decode cX5_house 70 = .ok (.getfield 202, 3) := dk_180 0 202 (dk_at dksX5_house_3 0 rfl rfl)
theorem dX5_house_73 : decode cX5_house 73 = .ok (.ireturn, 1) := dk_172 (dk_at dksX5_house_3 3 rfl rfl)
theorem dX5_house_74 : decode cX5_house 74 = .ok (.iconst 0, 1) := dk_3 (dk_at dksX5_house_3 4 rfl rfl)
theorem dX5_house_75 : decode cX5_house 75 = .ok (.istore_n 1, 1) := dk_60 (dk_at dksX5_house_3 5 rfl rfl)
theorem dX5_house_76 : decode cX5_house 76 = .ok (.iload_n 1, 1) := dk_27 (dk_at dksX5_house_3 6 rfl rfl)
theorem dX5_house_77 : decode cX5_house 77 = .ok (.bipush 120, 2) := dk_16 120 (dk_at dksX5_house_3 7 rfl rfl)
theorem dX5_house_79 : decode cX5_house 79 = .ok (.if_icmp .ge 24, 3) := dk_162 0 24 (dk_at dksX5_house_3 9 rfl rfl)
theorem dX5_house_82 : decode cX5_house 82 = .ok (.aload_n 0, 1) := dk_42 (dk_at dksX5_house_3 12 rfl rfl)
theorem dX5_house_83 : decode cX5_house 83 = .ok (.getfield 111, 3) := dk_180 0 111 (dk_at dksX5_house_3 13 rfl rfl)
theorem dX5_house_86 : decode cX5_house 86 = .ok (.iload_n 1, 1) := dk_27 (dk_at dksX5_house_3 16 rfl rfl)
theorem dX5_house_87 : decode cX5_house 87 = .ok (.aload_n 0, 1) := dk_42 (dk_at dksX5_house_3 17 rfl rfl)
theorem dX5_house_88 : decode cX5_house 88 = .ok (.getfield 111, 3) := dk_180 0 111 (dk_at dksX5_house_3 18 rfl rfl)
theorem dX5_house_91 : decode cX5_house 91 = .ok (.bipush 120, 2) := dk_16 120 (dk_at dksX5_house_3 21 rfl rfl)
theorem dX5_house_93 : decode cX5_house 93 = .ok (.iload_n 1, 1) := dk_27 (dk_at dksX5_house_3 23 rfl rfl)
theorem dX5_house_94 : decode cX5_house 94 = .ok (.iadd, 1) := dk_96 (dk_at dksX5_house_4 0 rfl rfl)
theorem dX5_house_95 : decode cX5_house 95 = .ok (.iaload, 1) := dk_46 (dk_at dksX5_house_4 1 rfl rfl)
theorem dX5_house_96 : decode cX5_house 96 = .ok (.iastore, 1) := dk_79 (dk_at dksX5_house_4 2 rfl rfl)
theorem dX5_house_97 : decode cX5_house 97 = .ok (.iinc 1 1, 3) := dk_132 1 1 (dk_at dksX5_house_4 3 rfl rfl)
theorem dX5_house_100 : decode cX5_house 100 = .ok (.goto (-24), 3) := dk_167 255 232 (dk_at dksX5_house_4 6 rfl rfl)
theorem dX5_house_103 : decode cX5_house 103 = .ok (.iconst 0, 1) := dk_3 (dk_at dksX5_house_4 9 rfl rfl)
theorem dX5_house_104 : decode cX5_house 104 = .ok (.istore_n 1, 1) := dk_60 (dk_at dksX5_house_4 10 rfl rfl)
theorem dX5_house_105 : decode cX5_house 105 = .ok (.iload_n 1, 1) := dk_27 (dk_at dksX5_house_4 11 rfl rfl)
theorem dX5_house_106 : decode cX5_house 106 = .ok (.aload_n 0, 1) := dk_42 (dk_at dksX5_house_4 12 rfl rfl)
theorem dX5_house_107 : decode cX5_house 107 = .ok (.getfield 252, 3) := dk_180 0 252 (dk_at dksX5_house_4 13 rfl rfl)
theorem dX5_house_110 : decode cX5_house 110 = .ok (.if_icmp .ge 41, 3) := dk_162 0 41 (dk_at dksX5_house_4 16 rfl rfl)
theorem dX5_house_113 : decode cX5_house 113 = .ok (.aload_n 0, 1) := dk_42 (dk_at dksX5_house_4 19 rfl rfl)
theorem dX5_house_114 : decode cX5_house 114 = .ok (.getfield 114, 3) := dk_180 0 114 (dk_at dksX5_house_4 20 rfl rfl)
theorem dX5_house_117 : decode cX5_house 117 = .ok (.iload_n 1, 1) := dk_27 (dk_at dksX5_house_4 23 rfl rfl)
theorem dX5_house_118 : decode cX5_house 118 = .ok (.aload_n 0, 1) := dk_42 (dk_at dksX5_house_5 0 rfl rfl)
theorem dX5_house_119 : decode cX5_house 119 = .ok (.getfield 114, 3) := dk_180 0 114 (dk_at dksX5_house_5 1 rfl rfl)
theorem dX5_house_122 : decode cX5_house 122 = .ok (.sipush 1100, 3) := dk_17 4 76 (dk_at dksX5_house_5 4 rfl rfl)
theorem dX5_house_125 : decode cX5_house 125 = .ok (.iload_n 1, 1) := dk_27 (dk_at dksX5_house_5 7 rfl rfl)
theorem dX5_house_126 : decode cX5_house 126 = .ok (.iadd, 1) := dk_96 (dk_at dksX5_house_5 8 rfl rfl)
theorem dX5_house_127 : decode cX5_house 127 = .ok (.iaload, 1) := dk_46 (dk_at dksX5_house_5 9 rfl rfl)
theorem dX5_house_128 : decode cX5_house 128 = .ok (.iastore, 1) := dk_79 (dk_at dksX5_house_5 10 rfl rfl)
theorem dX5_house_129 : decode cX5_house 129 = .ok (.aload_n 0, 1) := dk_42 (dk_at dksX5_house_5 11 rfl rfl)
theorem dX5_house_130 : decode cX5_house 130 = .ok (.getfield 117, 3) := dk_180 0 117 (dk_at dksX5_house_5 12 rfl rfl)
theorem dX5_house_133 : decode cX5_house 133 = .ok (.iload_n 1, 1) := dk_27 (dk_at dksX5_house_5 15 rfl rfl)
theorem dX5_house_134 : decode cX5_house 134 = .ok (.aload_n 0, 1) := dk_42 (dk_at dksX5_house_5 16 rfl rfl)
theorem dX5_house_135 : decode cX5_house 135 = .ok (.getfield 117, 3) := dk_180 0 117 (dk_at dksX5_house_5 17 rfl rfl)
theorem dX5_house_138 : decode cX5_house 138 = .ok (.sipush 1100, 3) := dk_17 4 76 (dk_at dksX5_house_5 20 rfl rfl)
theorem dX5_house_141 : decode cX5_house 141 = .ok (.iload_n 1, 1) := dk_27 (dk_at dksX5_house_5 23 rfl rfl)
theorem dX5_house_142 : decode cX5_house 142 = .ok (.iadd, 1) := dk_96 (dk_at dksX5_house_6 0 rfl rfl)
theorem dX5_house_143 : decode cX5_house 143 = .ok (.iaload, 1) := dk_46 (dk_at dksX5_house_6 1 rfl rfl)
theorem dX5_house_144 : decode cX5_house 144 = .ok (.iastore, 1) := dk_79 (dk_at dksX5_house_6 2 rfl rfl)
theorem dX5_house_145 : decode cX5_house 145 = .ok (.iinc 1 1, 3) := dk_132 1 1 (dk_at dksX5_house_6 3 rfl rfl)
theorem dX5_house_148 : decode cX5_house 148 = .ok (.goto (-43), 3) := dk_167 255 213 (dk_at dksX5_house_6 6 rfl rfl)
theorem dX5_house_151 : decode cX5_house 151 = .ok (.iconst 0, 1) := dk_3 (dk_at dksX5_house_6 9 rfl rfl)
theorem dX5_house_152 : decode cX5_house 152 = .ok (.istore_n 1, 1) := dk_60 (dk_at dksX5_house_6 10 rfl rfl)
theorem dX5_house_153 : decode cX5_house 153 = .ok (.iload_n 1, 1) := dk_27 (dk_at dksX5_house_6 11 rfl rfl)
theorem dX5_house_154 : decode cX5_house 154 = .ok (.aload_n 0, 1) := dk_42 (dk_at dksX5_house_6 12 rfl rfl)
theorem dX5_house_155 : decode cX5_house 155 = .ok (.getfield 227, 3) := dk_180 0 227 (dk_at dksX5_house_6 13 rfl rfl)
theorem dX5_house_158 : decode cX5_house 158 = .ok (.if_icmp .ge 33, 3) := dk_162 0 33 (dk_at dksX5_house_6 16 rfl rfl)
theorem dX5_house_161 : decode cX5_house 161 = .ok (.aload_n 0, 1) := dk_42 (dk_at dksX5_house_6 19 rfl rfl)
theorem dX5_house_162 : decode cX5_house 162 = .ok (.getfield 120, 3) := dk_180 0 120 (dk_at dksX5_house_6 20 rfl rfl)
theorem dX5_house_165 : decode cX5_house 165 = .ok (.iload_n 1, 1) := dk_27 (dk_at dksX5_house_6 23 rfl rfl)
theorem dX5_house_166 : decode cX5_house 166 = .ok (.aload_n 0, 1) := dk_42 (dk_at dksX5_house_7 0 rfl rfl)
theorem dX5_house_167 : decode cX5_house 167 = .ok (.getfield 123, 3) := dk_180 0 123 (dk_at dksX5_house_7 1 rfl rfl)
theorem dX5_house_170 : decode cX5_house 170 = .ok (.iload_n 1, 1) := dk_27 (dk_at dksX5_house_7 4 rfl rfl)
theorem dX5_house_171 : decode cX5_house 171 = .ok (.laload, 1) := dk_47 (dk_at dksX5_house_7 5 rfl rfl)
theorem dX5_house_172 : decode cX5_house 172 = .ok (.lastore, 1) := dk_80 (dk_at dksX5_house_7 6 rfl rfl)
theorem dX5_house_173 : decode cX5_house 173 = .ok (.aload_n 0, 1) := dk_42 (dk_at dksX5_house_7 7 rfl rfl)
theorem dX5_house_174 : decode cX5_house 174 = .ok (.getfield 126, 3) := dk_180 0 126 (dk_at dksX5_house_7 8 rfl rfl)
theorem dX5_house_177 : decode cX5_house 177 = .ok (.iload_n 1, 1) := dk_27 (dk_at dksX5_house_7 11 rfl rfl)
theorem dX5_house_178 : decode cX5_house 178 = .ok (.aload_n 0, 1) := dk_42 (dk_at dksX5_house_7 12 rfl rfl)
theorem dX5_house_179 : decode cX5_house 179 = .ok (.getfield 129, 3) := dk_180 0 129 (dk_at dksX5_house_7 13 rfl rfl)
theorem dX5_house_182 : decode cX5_house 182 = .ok (.iload_n 1, 1) := dk_27 (dk_at dksX5_house_7 16 rfl rfl)
theorem dX5_house_183 : decode cX5_house 183 = .ok (.iaload, 1) := dk_46 (dk_at dksX5_house_7 17 rfl rfl)
theorem dX5_house_184 : decode cX5_house 184 = .ok (.iastore, 1) := dk_79 (dk_at dksX5_house_7 18 rfl rfl)
theorem dX5_house_185 : decode cX5_house 185 = .ok (.iinc 1 1, 3) := dk_132 1 1 (dk_at dksX5_house_7 19 rfl rfl)
theorem dX5_house_188 : decode cX5_house 188 = .ok (.goto (-35), 3) := dk_167 255 221 (dk_at dksX5_house_8 0 rfl rfl)
theorem dX5_house_191 : decode cX5_house 191 = .ok (.aload_n 0, 1) := dk_42 (dk_at dksX5_house_8 3 rfl rfl)
theorem dX5_house_192 : decode cX5_house 192 = .ok (.aload_n 0, 1) := dk_42 (dk_at dksX5_house_8 4 rfl rfl)
theorem dX5_house_193 : decode cX5_house 193 = .ok (.getfield 227, 3) := dk_180 0 227 (dk_at dksX5_house_8 5 rfl rfl)
theorem dX5_house_196 : decode cX5_house 196 = .ok (.putfield 230, 3) := dk_181 0 230 (dk_at dksX5_house_8 8 rfl rfl)
theorem dX5_house_199 : decode cX5_house 199 = .ok (.aload_n 0, 1) := dk_42 (dk_at dksX5_house_8 11 rfl rfl)
theorem dX5_house_200 : decode cX5_house 200 = .ok (.invokevirtual 173, 3) := dk_182 0 173 (dk_at dksX5_house_8 12 rfl rfl)
theorem dX5_house_203 : decode cX5_house 203 = .ok (.iconst 0, 1) := dk_3 (dk_at dksX5_house_8 15 rfl rfl)
theorem dX5_house_204 : decode cX5_house 204 = .ok (.ireturn, 1) := dk_172 (dk_at dksX5_house_8 16 rfl rfl)
abbrev cX5_cutAll : ByteArray := prog_26_method_9_code
def yX5_cutAll : MethodName := ⟨RX5, "cutAll", "()V"⟩
def dkwX5_cutAll_13 : List UInt8 := [181, 0, 202, 177]
abbrev dktX5_cutAll_13 : List UInt8 := dkwX5_cutAll_13 ++ []
def dkwX5_cutAll_12 : List UInt8 := [180, 0, 24, 27, 3, 79, 42, 180, 0, 27, 27, 42, 180, 0, 180, 79, 42, 3, 181, 0, 199, 42, 3]
abbrev dktX5_cutAll_12 : List UInt8 := dkwX5_cutAll_12 ++ dktX5_cutAll_13
def dkwX5_cutAll_11 : List UInt8 := [6, 167, 0, 4, 7, 79, 132, 2, 1, 42, 180, 0, 30, 27, 22, 5, 80, 132, 1, 1, 167, 254, 253, 42]
abbrev dktX5_cutAll_11 : List UInt8 := dkwX5_cutAll_11 ++ dktX5_cutAll_12
def dkwX5_cutAll_10 : List UInt8 := [167, 0, 4, 5, 79, 167, 0, 28, 29, 133, 55, 5, 42, 180, 0, 24, 27, 29, 184, 0, 196, 153, 0, 7]
abbrev dktX5_cutAll_10 : List UInt8 := dkwX5_cutAll_10 ++ dktX5_cutAll_11
def dkwX5_cutAll_9 : List UInt8 := [22, 5, 55, 5, 132, 2, 1, 167, 255, 200, 42, 180, 0, 24, 27, 28, 21, 4, 100, 7, 164, 0, 7, 7]
abbrev dktX5_cutAll_9 : List UInt8 := dkwX5_cutAll_9 ++ dktX5_cutAll_10
def dkwX5_cutAll_8 : List UInt8 := [162, 0, 24, 20, 0, 192, 22, 5, 105, 42, 180, 0, 14, 28, 46, 133, 97, 20, 0, 194, 101, 167, 0, 5]
abbrev dktX5_cutAll_8 : List UInt8 := dkwX5_cutAll_8 ++ dktX5_cutAll_9
def dkwX5_cutAll_7 : List UInt8 := [180, 0, 180, 162, 0, 54, 42, 180, 0, 14, 28, 46, 184, 0, 189, 153, 0, 42, 28, 21, 4, 100, 7]
abbrev dktX5_cutAll_7 : List UInt8 := dkwX5_cutAll_7 ++ dktX5_cutAll_8
def dkwX5_cutAll_6 : List UInt8 := [16, 8, 164, 0, 7, 7, 167, 0, 4, 4, 79, 167, 0, 116, 29, 184, 0, 189, 153, 0, 84, 28, 42]
abbrev dktX5_cutAll_6 : List UInt8 := dkwX5_cutAll_6 ++ dktX5_cutAll_7
def dkwX5_cutAll_5 : List UInt8 := [97, 167, 0, 5, 22, 5, 55, 5, 132, 2, 1, 167, 255, 200, 42, 180, 0, 24, 27, 28, 21, 4, 100]
abbrev dktX5_cutAll_5 : List UInt8 := dkwX5_cutAll_5 ++ dktX5_cutAll_6
def dkwX5_cutAll_4 : List UInt8 := [21, 4, 100, 16, 8, 162, 0, 23, 20, 0, 183, 22, 5, 105, 42, 180, 0, 14, 28, 46, 184, 0, 185, 133]
abbrev dktX5_cutAll_4 : List UInt8 := dkwX5_cutAll_4 ++ dktX5_cutAll_5
def dkwX5_cutAll_3 : List UInt8 := [153, 0, 85, 28, 42, 180, 0, 180, 162, 0, 54, 42, 180, 0, 14, 28, 46, 184, 0, 176, 153, 0, 42, 28]
abbrev dktX5_cutAll_3 : List UInt8 := dkwX5_cutAll_3 ++ dktX5_cutAll_4
def dkwX5_cutAll_2 : List UInt8 := [132, 2, 1, 167, 255, 226, 28, 54, 4, 9, 55, 5, 42, 180, 0, 27, 27, 28, 79, 29, 184, 0, 176]
abbrev dktX5_cutAll_2 : List UInt8 := dkwX5_cutAll_2 ++ dktX5_cutAll_3
def dkwX5_cutAll_1 : List UInt8 := [162, 1, 1, 42, 180, 0, 14, 28, 46, 62, 29, 16, 10, 159, 0, 9, 29, 16, 32, 160, 0, 9]
abbrev dktX5_cutAll_1 : List UInt8 := dkwX5_cutAll_1 ++ dktX5_cutAll_2
def dkwX5_cutAll_0 : List UInt8 := [42, 42, 180, 0, 11, 181, 0, 180, 42, 3, 181, 0, 11, 3, 60, 3, 61, 28, 42, 180, 0, 180]
abbrev dktX5_cutAll_0 : List UInt8 := dkwX5_cutAll_0 ++ dktX5_cutAll_1
theorem dksX5_cutAll_0 : cX5_cutAll.data.toList.drop 0 = dktX5_cutAll_0 := by decide +kernel
theorem dksX5_cutAll_1 : cX5_cutAll.data.toList.drop 22 = dktX5_cutAll_1 := dk_seg dksX5_cutAll_0 22 rfl rfl
theorem dksX5_cutAll_2 : cX5_cutAll.data.toList.drop 44 = dktX5_cutAll_2 := dk_seg dksX5_cutAll_1 22 rfl rfl
theorem dksX5_cutAll_3 : cX5_cutAll.data.toList.drop 67 = dktX5_cutAll_3 := dk_seg dksX5_cutAll_2 23 rfl rfl
theorem dksX5_cutAll_4 : cX5_cutAll.data.toList.drop 91 = dktX5_cutAll_4 := dk_seg dksX5_cutAll_3 24 rfl rfl
theorem dksX5_cutAll_5 : cX5_cutAll.data.toList.drop 115 = dktX5_cutAll_5 := dk_seg dksX5_cutAll_4 24 rfl rfl
theorem dksX5_cutAll_6 : cX5_cutAll.data.toList.drop 138 = dktX5_cutAll_6 := dk_seg dksX5_cutAll_5 23 rfl rfl
theorem dksX5_cutAll_7 : cX5_cutAll.data.toList.drop 161 = dktX5_cutAll_7 := dk_seg dksX5_cutAll_6 23 rfl rfl
theorem dksX5_cutAll_8 : cX5_cutAll.data.toList.drop 184 = dktX5_cutAll_8 := dk_seg dksX5_cutAll_7 23 rfl rfl
theorem dksX5_cutAll_9 : cX5_cutAll.data.toList.drop 208 = dktX5_cutAll_9 := dk_seg dksX5_cutAll_8 24 rfl rfl
theorem dksX5_cutAll_10 : cX5_cutAll.data.toList.drop 232 = dktX5_cutAll_10 := dk_seg dksX5_cutAll_9 24 rfl rfl
theorem dksX5_cutAll_11 : cX5_cutAll.data.toList.drop 256 = dktX5_cutAll_11 := dk_seg dksX5_cutAll_10 24 rfl rfl
theorem dksX5_cutAll_12 : cX5_cutAll.data.toList.drop 280 = dktX5_cutAll_12 := dk_seg dksX5_cutAll_11 24 rfl rfl
theorem dksX5_cutAll_13 : cX5_cutAll.data.toList.drop 303 = dktX5_cutAll_13 := dk_seg dksX5_cutAll_12 23 rfl rfl
theorem dX5_cutAll_0 : decode cX5_cutAll 0 = .ok (.aload_n 0, 1) := dk_42 (dk_at dksX5_cutAll_0 0 rfl rfl)
theorem dX5_cutAll_1 : decode cX5_cutAll 1 = .ok (.aload_n 0, 1) := dk_42 (dk_at dksX5_cutAll_0 1 rfl rfl)
theorem dX5_cutAll_2 : decode cX5_cutAll 2 = .ok (.getfield 11, 3) := dk_180 0 11 (dk_at dksX5_cutAll_0 2 rfl rfl)
theorem dX5_cutAll_5 : decode cX5_cutAll 5 = .ok (.putfield 180, 3) := dk_181 0 180 (dk_at dksX5_cutAll_0 5 rfl rfl)
theorem dX5_cutAll_8 : decode cX5_cutAll 8 = .ok (.aload_n 0, 1) := dk_42 (dk_at dksX5_cutAll_0 8 rfl rfl)
theorem dX5_cutAll_9 : decode cX5_cutAll 9 = .ok (.iconst 0, 1) := dk_3 (dk_at dksX5_cutAll_0 9 rfl rfl)
theorem dX5_cutAll_10 : decode cX5_cutAll 10 = .ok (.putfield 11, 3) := dk_181 0 11 (dk_at dksX5_cutAll_0 10 rfl rfl)
theorem dX5_cutAll_13 : decode cX5_cutAll 13 = .ok (.iconst 0, 1) := dk_3 (dk_at dksX5_cutAll_0 13 rfl rfl)
theorem dX5_cutAll_14 : decode cX5_cutAll 14 = .ok (.istore_n 1, 1) := dk_60 (dk_at dksX5_cutAll_0 14 rfl rfl)
theorem dX5_cutAll_15 : decode cX5_cutAll 15 = .ok (.iconst 0, 1) := dk_3 (dk_at dksX5_cutAll_0 15 rfl rfl)
theorem dX5_cutAll_16 : decode cX5_cutAll 16 = .ok (.istore_n 2, 1) := dk_61 (dk_at dksX5_cutAll_0 16 rfl rfl)
theorem dX5_cutAll_17 : decode cX5_cutAll 17 = .ok (.iload_n 2, 1) := dk_28 (dk_at dksX5_cutAll_0 17 rfl rfl)
theorem dX5_cutAll_18 : decode cX5_cutAll 18 = .ok (.aload_n 0, 1) := dk_42 (dk_at dksX5_cutAll_0 18 rfl rfl)
theorem dX5_cutAll_19 : decode cX5_cutAll 19 = .ok (.getfield 180, 3) := dk_180 0 180 (dk_at dksX5_cutAll_0 19 rfl rfl)
theorem dX5_cutAll_22 : decode cX5_cutAll 22 = .ok (.if_icmp .ge 257, 3) := dk_162 1 1 (dk_at dksX5_cutAll_1 0 rfl rfl)
theorem dX5_cutAll_25 : decode cX5_cutAll 25 = .ok (.aload_n 0, 1) := dk_42 (dk_at dksX5_cutAll_1 3 rfl rfl)
theorem dX5_cutAll_26 : decode cX5_cutAll 26 = .ok (.getfield 14, 3) := dk_180 0 14 (dk_at dksX5_cutAll_1 4 rfl rfl)
theorem dX5_cutAll_29 : decode cX5_cutAll 29 = .ok (.iload_n 2, 1) := dk_28 (dk_at dksX5_cutAll_1 7 rfl rfl)
theorem dX5_cutAll_30 : decode cX5_cutAll 30 = .ok (.iaload, 1) := dk_46 (dk_at dksX5_cutAll_1 8 rfl rfl)
theorem dX5_cutAll_31 : decode cX5_cutAll 31 = .ok (.istore_n 3, 1) := dk_62 (dk_at dksX5_cutAll_1 9 rfl rfl)
theorem dX5_cutAll_32 : decode cX5_cutAll 32 = .ok (.iload_n 3, 1) := dk_29 (dk_at dksX5_cutAll_1 10 rfl rfl)
theorem dX5_cutAll_33 : decode cX5_cutAll 33 = .ok (.bipush 10, 2) := dk_16 10 (dk_at dksX5_cutAll_1 11 rfl rfl)
theorem dX5_cutAll_35 : decode cX5_cutAll 35 = .ok (.if_icmp .eq 9, 3) := dk_159 0 9 (dk_at dksX5_cutAll_1 13 rfl rfl)
theorem dX5_cutAll_38 : decode cX5_cutAll 38 = .ok (.iload_n 3, 1) := dk_29 (dk_at dksX5_cutAll_1 16 rfl rfl)
theorem dX5_cutAll_39 : decode cX5_cutAll 39 = .ok (.bipush 32, 2) := dk_16 32 (dk_at dksX5_cutAll_1 17 rfl rfl)
theorem dX5_cutAll_41 : decode cX5_cutAll 41 = .ok (.if_icmp .ne 9, 3) := dk_160 0 9 (dk_at dksX5_cutAll_1 19 rfl rfl)
theorem dX5_cutAll_44 : decode cX5_cutAll 44 = .ok (.iinc 2 1, 3) := dk_132 2 1 (dk_at dksX5_cutAll_2 0 rfl rfl)
theorem dX5_cutAll_47 : decode cX5_cutAll 47 = .ok (.goto (-30), 3) := dk_167 255 226 (dk_at dksX5_cutAll_2 3 rfl rfl)
theorem dX5_cutAll_50 : decode cX5_cutAll 50 = .ok (.iload_n 2, 1) := dk_28 (dk_at dksX5_cutAll_2 6 rfl rfl)
theorem dX5_cutAll_51 : decode cX5_cutAll 51 = .ok (.istore 4, 2) := dk_54 4 (dk_at dksX5_cutAll_2 7 rfl rfl)
theorem dX5_cutAll_53 : decode cX5_cutAll 53 = .ok (.lconst 0, 1) := dk_9 (dk_at dksX5_cutAll_2 9 rfl rfl)
theorem dX5_cutAll_54 : decode cX5_cutAll 54 = .ok (.lstore 5, 2) := dk_55 5 (dk_at dksX5_cutAll_2 10 rfl rfl)
theorem dX5_cutAll_56 : decode cX5_cutAll 56 = .ok (.aload_n 0, 1) := dk_42 (dk_at dksX5_cutAll_2 12 rfl rfl)
theorem dX5_cutAll_57 : decode cX5_cutAll 57 = .ok (.getfield 27, 3) := dk_180 0 27 (dk_at dksX5_cutAll_2 13 rfl rfl)
theorem dX5_cutAll_60 : decode cX5_cutAll 60 = .ok (.iload_n 1, 1) := dk_27 (dk_at dksX5_cutAll_2 16 rfl rfl)
theorem dX5_cutAll_61 : decode cX5_cutAll 61 = .ok (.iload_n 2, 1) := dk_28 (dk_at dksX5_cutAll_2 17 rfl rfl)
theorem dX5_cutAll_62 : decode cX5_cutAll 62 = .ok (.iastore, 1) := dk_79 (dk_at dksX5_cutAll_2 18 rfl rfl)
theorem dX5_cutAll_63 : decode cX5_cutAll 63 = .ok (.iload_n 3, 1) := dk_29 (dk_at dksX5_cutAll_2 19 rfl rfl)
theorem dX5_cutAll_64 : decode cX5_cutAll 64 = .ok (.invokestatic 176, 3) := dk_184 0 176 (dk_at dksX5_cutAll_2 20 rfl rfl)
theorem dX5_cutAll_67 : decode cX5_cutAll 67 = .ok (.ifCond .eq 85, 3) := dk_153 0 85 (dk_at dksX5_cutAll_3 0 rfl rfl)
theorem dX5_cutAll_70 : decode cX5_cutAll 70 = .ok (.iload_n 2, 1) := dk_28 (dk_at dksX5_cutAll_3 3 rfl rfl)
theorem dX5_cutAll_71 : decode cX5_cutAll 71 = .ok (.aload_n 0, 1) := dk_42 (dk_at dksX5_cutAll_3 4 rfl rfl)
theorem dX5_cutAll_72 : decode cX5_cutAll 72 = .ok (.getfield 180, 3) := dk_180 0 180 (dk_at dksX5_cutAll_3 5 rfl rfl)
theorem dX5_cutAll_75 : decode cX5_cutAll 75 = .ok (.if_icmp .ge 54, 3) := dk_162 0 54 (dk_at dksX5_cutAll_3 8 rfl rfl)
theorem dX5_cutAll_78 : decode cX5_cutAll 78 = .ok (.aload_n 0, 1) := dk_42 (dk_at dksX5_cutAll_3 11 rfl rfl)
theorem dX5_cutAll_79 : decode cX5_cutAll 79 = .ok (.getfield 14, 3) := dk_180 0 14 (dk_at dksX5_cutAll_3 12 rfl rfl)
theorem dX5_cutAll_82 : decode cX5_cutAll 82 = .ok (.iload_n 2, 1) := dk_28 (dk_at dksX5_cutAll_3 15 rfl rfl)
theorem dX5_cutAll_83 : decode cX5_cutAll 83 = .ok (.iaload, 1) := dk_46 (dk_at dksX5_cutAll_3 16 rfl rfl)
theorem dX5_cutAll_84 : decode cX5_cutAll 84 = .ok (.invokestatic 176, 3) := dk_184 0 176 (dk_at dksX5_cutAll_3 17 rfl rfl)
theorem dX5_cutAll_87 : decode cX5_cutAll 87 = .ok (.ifCond .eq 42, 3) := dk_153 0 42 (dk_at dksX5_cutAll_3 20 rfl rfl)
theorem dX5_cutAll_90 : decode cX5_cutAll 90 = .ok (.iload_n 2, 1) := dk_28 (dk_at dksX5_cutAll_3 23 rfl rfl)
theorem dX5_cutAll_91 : decode cX5_cutAll 91 = .ok (.iload 4, 2) := dk_21 4 (dk_at dksX5_cutAll_4 0 rfl rfl)
theorem dX5_cutAll_93 : decode cX5_cutAll 93 = .ok (.isub, 1) := dk_100 (dk_at dksX5_cutAll_4 2 rfl rfl)
theorem dX5_cutAll_94 : decode cX5_cutAll 94 = .ok (.bipush 8, 2) := dk_16 8 (dk_at dksX5_cutAll_4 3 rfl rfl)
theorem dX5_cutAll_96 : decode cX5_cutAll 96 = .ok (.if_icmp .ge 23, 3) := dk_162 0 23 (dk_at dksX5_cutAll_4 5 rfl rfl)
theorem dX5_cutAll_99 : decode cX5_cutAll 99 = .ok (.ldc2_w 183, 3) := dk_20 0 183 (dk_at dksX5_cutAll_4 8 rfl rfl)
theorem dX5_cutAll_102 : decode cX5_cutAll 102 = .ok (.lload 5, 2) := dk_22 5 (dk_at dksX5_cutAll_4 11 rfl rfl)
theorem dX5_cutAll_104 : decode cX5_cutAll 104 = .ok (.lmul, 1) := dk_105 (dk_at dksX5_cutAll_4 13 rfl rfl)
theorem dX5_cutAll_105 : decode cX5_cutAll 105 = .ok (.aload_n 0, 1) := dk_42 (dk_at dksX5_cutAll_4 14 rfl rfl)
theorem dX5_cutAll_106 : decode cX5_cutAll 106 = .ok (.getfield 14, 3) := dk_180 0 14 (dk_at dksX5_cutAll_4 15 rfl rfl)
theorem dX5_cutAll_109 : decode cX5_cutAll 109 = .ok (.iload_n 2, 1) := dk_28 (dk_at dksX5_cutAll_4 18 rfl rfl)
theorem dX5_cutAll_110 : decode cX5_cutAll 110 = .ok (.iaload, 1) := dk_46 (dk_at dksX5_cutAll_4 19 rfl rfl)
theorem dX5_cutAll_111 : decode cX5_cutAll 111 = .ok (.invokestatic 185, 3) := dk_184 0 185 (dk_at dksX5_cutAll_4 20 rfl rfl)
theorem dX5_cutAll_114 : decode cX5_cutAll 114 = .ok (.i2l, 1) := dk_133 (dk_at dksX5_cutAll_4 23 rfl rfl)
theorem dX5_cutAll_115 : decode cX5_cutAll 115 = .ok (.ladd, 1) := dk_97 (dk_at dksX5_cutAll_5 0 rfl rfl)
theorem dX5_cutAll_116 : decode cX5_cutAll 116 = .ok (.goto 5, 3) := dk_167 0 5 (dk_at dksX5_cutAll_5 1 rfl rfl)
theorem dX5_cutAll_119 : decode cX5_cutAll 119 = .ok (.lload 5, 2) := dk_22 5 (dk_at dksX5_cutAll_5 4 rfl rfl)
theorem dX5_cutAll_121 : decode cX5_cutAll 121 = .ok (.lstore 5, 2) := dk_55 5 (dk_at dksX5_cutAll_5 6 rfl rfl)
theorem dX5_cutAll_123 : decode cX5_cutAll 123 = .ok (.iinc 2 1, 3) := dk_132 2 1 (dk_at dksX5_cutAll_5 8 rfl rfl)
theorem dX5_cutAll_126 : decode cX5_cutAll 126 = .ok (.goto (-56), 3) := dk_167 255 200 (dk_at dksX5_cutAll_5 11 rfl rfl)
theorem dX5_cutAll_129 : decode cX5_cutAll 129 = .ok (.aload_n 0, 1) := dk_42 (dk_at dksX5_cutAll_5 14 rfl rfl)
theorem dX5_cutAll_130 : decode cX5_cutAll 130 = .ok (.getfield 24, 3) := dk_180 0 24 (dk_at dksX5_cutAll_5 15 rfl rfl)
theorem dX5_cutAll_133 : decode cX5_cutAll 133 = .ok (.iload_n 1, 1) := dk_27 (dk_at dksX5_cutAll_5 18 rfl rfl)
theorem dX5_cutAll_134 : decode cX5_cutAll 134 = .ok (.iload_n 2, 1) := dk_28 (dk_at dksX5_cutAll_5 19 rfl rfl)
theorem dX5_cutAll_135 : decode cX5_cutAll 135 = .ok (.iload 4, 2) := dk_21 4 (dk_at dksX5_cutAll_5 20 rfl rfl)
theorem dX5_cutAll_137 : decode cX5_cutAll 137 = .ok (.isub, 1) := dk_100 (dk_at dksX5_cutAll_5 22 rfl rfl)
theorem dX5_cutAll_138 : decode cX5_cutAll 138 = .ok (.bipush 8, 2) := dk_16 8 (dk_at dksX5_cutAll_6 0 rfl rfl)
theorem dX5_cutAll_140 : decode cX5_cutAll 140 = .ok (.if_icmp .le 7, 3) := dk_164 0 7 (dk_at dksX5_cutAll_6 2 rfl rfl)
theorem dX5_cutAll_143 : decode cX5_cutAll 143 = .ok (.iconst 4, 1) := dk_7 (dk_at dksX5_cutAll_6 5 rfl rfl)
theorem dX5_cutAll_144 : decode cX5_cutAll 144 = .ok (.goto 4, 3) := dk_167 0 4 (dk_at dksX5_cutAll_6 6 rfl rfl)
theorem dX5_cutAll_147 : decode cX5_cutAll 147 = .ok (.iconst 1, 1) := dk_4 (dk_at dksX5_cutAll_6 9 rfl rfl)
theorem dX5_cutAll_148 : decode cX5_cutAll 148 = .ok (.iastore, 1) := dk_79 (dk_at dksX5_cutAll_6 10 rfl rfl)
theorem dX5_cutAll_149 : decode cX5_cutAll 149 = .ok (.goto 116, 3) := dk_167 0 116 (dk_at dksX5_cutAll_6 11 rfl rfl)
theorem dX5_cutAll_152 : decode cX5_cutAll 152 = .ok (.iload_n 3, 1) := dk_29 (dk_at dksX5_cutAll_6 14 rfl rfl)
theorem dX5_cutAll_153 : decode cX5_cutAll 153 = .ok (.invokestatic 189, 3) := dk_184 0 189 (dk_at dksX5_cutAll_6 15 rfl rfl)
theorem dX5_cutAll_156 : decode cX5_cutAll 156 = .ok (.ifCond .eq 84, 3) := dk_153 0 84 (dk_at dksX5_cutAll_6 18 rfl rfl)
theorem dX5_cutAll_159 : decode cX5_cutAll 159 = .ok (.iload_n 2, 1) := dk_28 (dk_at dksX5_cutAll_6 21 rfl rfl)
theorem dX5_cutAll_160 : decode cX5_cutAll 160 = .ok (.aload_n 0, 1) := dk_42 (dk_at dksX5_cutAll_6 22 rfl rfl)
theorem dX5_cutAll_161 : decode cX5_cutAll 161 = .ok (.getfield 180, 3) := dk_180 0 180 (dk_at dksX5_cutAll_7 0 rfl rfl)
theorem dX5_cutAll_164 : decode cX5_cutAll 164 = .ok (.if_icmp .ge 54, 3) := dk_162 0 54 (dk_at dksX5_cutAll_7 3 rfl rfl)
theorem dX5_cutAll_167 : decode cX5_cutAll 167 = .ok (.aload_n 0, 1) := dk_42 (dk_at dksX5_cutAll_7 6 rfl rfl)
theorem dX5_cutAll_168 : decode cX5_cutAll 168 = .ok (.getfield 14, 3) := dk_180 0 14 (dk_at dksX5_cutAll_7 7 rfl rfl)
theorem dX5_cutAll_171 : decode cX5_cutAll 171 = .ok (.iload_n 2, 1) := dk_28 (dk_at dksX5_cutAll_7 10 rfl rfl)
theorem dX5_cutAll_172 : decode cX5_cutAll 172 = .ok (.iaload, 1) := dk_46 (dk_at dksX5_cutAll_7 11 rfl rfl)
theorem dX5_cutAll_173 : decode cX5_cutAll 173 = .ok (.invokestatic 189, 3) := dk_184 0 189 (dk_at dksX5_cutAll_7 12 rfl rfl)
theorem dX5_cutAll_176 : decode cX5_cutAll 176 = .ok (.ifCond .eq 42, 3) := dk_153 0 42 (dk_at dksX5_cutAll_7 15 rfl rfl)
theorem dX5_cutAll_179 : decode cX5_cutAll 179 = .ok (.iload_n 2, 1) := dk_28 (dk_at dksX5_cutAll_7 18 rfl rfl)
theorem dX5_cutAll_180 : decode cX5_cutAll 180 = .ok (.iload 4, 2) := dk_21 4 (dk_at dksX5_cutAll_7 19 rfl rfl)
theorem dX5_cutAll_182 : decode cX5_cutAll 182 = .ok (.isub, 1) := dk_100 (dk_at dksX5_cutAll_7 21 rfl rfl)
theorem dX5_cutAll_183 : decode cX5_cutAll 183 = .ok (.iconst 4, 1) := dk_7 (dk_at dksX5_cutAll_7 22 rfl rfl)
theorem dX5_cutAll_184 : decode cX5_cutAll 184 = .ok (.if_icmp .ge 24, 3) := dk_162 0 24 (dk_at dksX5_cutAll_8 0 rfl rfl)
theorem dX5_cutAll_187 : decode cX5_cutAll 187 = .ok (.ldc2_w 192, 3) := dk_20 0 192 (dk_at dksX5_cutAll_8 3 rfl rfl)
theorem dX5_cutAll_190 : decode cX5_cutAll 190 = .ok (.lload 5, 2) := dk_22 5 (dk_at dksX5_cutAll_8 6 rfl rfl)
theorem dX5_cutAll_192 : decode cX5_cutAll 192 = .ok (.lmul, 1) := dk_105 (dk_at dksX5_cutAll_8 8 rfl rfl)
theorem dX5_cutAll_193 : decode cX5_cutAll 193 = .ok (.aload_n 0, 1) := dk_42 (dk_at dksX5_cutAll_8 9 rfl rfl)
theorem dX5_cutAll_194 : decode cX5_cutAll 194 = .ok (.getfield 14, 3) := dk_180 0 14 (dk_at dksX5_cutAll_8 10 rfl rfl)
theorem dX5_cutAll_197 : decode cX5_cutAll 197 = .ok (.iload_n 2, 1) := dk_28 (dk_at dksX5_cutAll_8 13 rfl rfl)
theorem dX5_cutAll_198 : decode cX5_cutAll 198 = .ok (.iaload, 1) := dk_46 (dk_at dksX5_cutAll_8 14 rfl rfl)
theorem dX5_cutAll_199 : decode cX5_cutAll 199 = .ok (.i2l, 1) := dk_133 (dk_at dksX5_cutAll_8 15 rfl rfl)
theorem dX5_cutAll_200 : decode cX5_cutAll 200 = .ok (.ladd, 1) := dk_97 (dk_at dksX5_cutAll_8 16 rfl rfl)
theorem dX5_cutAll_201 : decode cX5_cutAll 201 = .ok (.ldc2_w 194, 3) := dk_20 0 194 (dk_at dksX5_cutAll_8 17 rfl rfl)
theorem dX5_cutAll_204 : decode cX5_cutAll 204 = .ok (.lsub, 1) := dk_101 (dk_at dksX5_cutAll_8 20 rfl rfl)
theorem dX5_cutAll_205 : decode cX5_cutAll 205 = .ok (.goto 5, 3) := dk_167 0 5 (dk_at dksX5_cutAll_8 21 rfl rfl)
theorem dX5_cutAll_208 : decode cX5_cutAll 208 = .ok (.lload 5, 2) := dk_22 5 (dk_at dksX5_cutAll_9 0 rfl rfl)
theorem dX5_cutAll_210 : decode cX5_cutAll 210 = .ok (.lstore 5, 2) := dk_55 5 (dk_at dksX5_cutAll_9 2 rfl rfl)
theorem dX5_cutAll_212 : decode cX5_cutAll 212 = .ok (.iinc 2 1, 3) := dk_132 2 1 (dk_at dksX5_cutAll_9 4 rfl rfl)
theorem dX5_cutAll_215 : decode cX5_cutAll 215 = .ok (.goto (-56), 3) := dk_167 255 200 (dk_at dksX5_cutAll_9 7 rfl rfl)
theorem dX5_cutAll_218 : decode cX5_cutAll 218 = .ok (.aload_n 0, 1) := dk_42 (dk_at dksX5_cutAll_9 10 rfl rfl)
theorem dX5_cutAll_219 : decode cX5_cutAll 219 = .ok (.getfield 24, 3) := dk_180 0 24 (dk_at dksX5_cutAll_9 11 rfl rfl)
theorem dX5_cutAll_222 : decode cX5_cutAll 222 = .ok (.iload_n 1, 1) := dk_27 (dk_at dksX5_cutAll_9 14 rfl rfl)
theorem dX5_cutAll_223 : decode cX5_cutAll 223 = .ok (.iload_n 2, 1) := dk_28 (dk_at dksX5_cutAll_9 15 rfl rfl)
theorem dX5_cutAll_224 : decode cX5_cutAll 224 = .ok (.iload 4, 2) := dk_21 4 (dk_at dksX5_cutAll_9 16 rfl rfl)
theorem dX5_cutAll_226 : decode cX5_cutAll 226 = .ok (.isub, 1) := dk_100 (dk_at dksX5_cutAll_9 18 rfl rfl)
theorem dX5_cutAll_227 : decode cX5_cutAll 227 = .ok (.iconst 4, 1) := dk_7 (dk_at dksX5_cutAll_9 19 rfl rfl)
theorem dX5_cutAll_228 : decode cX5_cutAll 228 = .ok (.if_icmp .le 7, 3) := dk_164 0 7 (dk_at dksX5_cutAll_9 20 rfl rfl)
theorem dX5_cutAll_231 : decode cX5_cutAll 231 = .ok (.iconst 4, 1) := dk_7 (dk_at dksX5_cutAll_9 23 rfl rfl)
theorem dX5_cutAll_232 : decode cX5_cutAll 232 = .ok (.goto 4, 3) := dk_167 0 4 (dk_at dksX5_cutAll_10 0 rfl rfl)
theorem dX5_cutAll_235 : decode cX5_cutAll 235 = .ok (.iconst 2, 1) := dk_5 (dk_at dksX5_cutAll_10 3 rfl rfl)
theorem dX5_cutAll_236 : decode cX5_cutAll 236 = .ok (.iastore, 1) := dk_79 (dk_at dksX5_cutAll_10 4 rfl rfl)
theorem dX5_cutAll_237 : decode cX5_cutAll 237 = .ok (.goto 28, 3) := dk_167 0 28 (dk_at dksX5_cutAll_10 5 rfl rfl)
theorem dX5_cutAll_240 : decode cX5_cutAll 240 = .ok (.iload_n 3, 1) := dk_29 (dk_at dksX5_cutAll_10 8 rfl rfl)
theorem dX5_cutAll_241 : decode cX5_cutAll 241 = .ok (.i2l, 1) := dk_133 (dk_at dksX5_cutAll_10 9 rfl rfl)
theorem dX5_cutAll_242 : decode cX5_cutAll 242 = .ok (.lstore 5, 2) := dk_55 5 (dk_at dksX5_cutAll_10 10 rfl rfl)
theorem dX5_cutAll_244 : decode cX5_cutAll 244 = .ok (.aload_n 0, 1) := dk_42 (dk_at dksX5_cutAll_10 12 rfl rfl)
theorem dX5_cutAll_245 : decode cX5_cutAll 245 = .ok (.getfield 24, 3) := dk_180 0 24 (dk_at dksX5_cutAll_10 13 rfl rfl)
theorem dX5_cutAll_248 : decode cX5_cutAll 248 = .ok (.iload_n 1, 1) := dk_27 (dk_at dksX5_cutAll_10 16 rfl rfl)
theorem dX5_cutAll_249 : decode cX5_cutAll 249 = .ok (.iload_n 3, 1) := dk_29 (dk_at dksX5_cutAll_10 17 rfl rfl)
theorem dX5_cutAll_250 : decode cX5_cutAll 250 = .ok (.invokestatic 196, 3) := dk_184 0 196 (dk_at dksX5_cutAll_10 18 rfl rfl)
theorem dX5_cutAll_253 : decode cX5_cutAll 253 = .ok (.ifCond .eq 7, 3) := dk_153 0 7 (dk_at dksX5_cutAll_10 21 rfl rfl)
theorem dX5_cutAll_256 : decode cX5_cutAll 256 = .ok (.iconst 3, 1) := dk_6 (dk_at dksX5_cutAll_11 0 rfl rfl)
theorem dX5_cutAll_257 : decode cX5_cutAll 257 = .ok (.goto 4, 3) := dk_167 0 4 (dk_at dksX5_cutAll_11 1 rfl rfl)
theorem dX5_cutAll_260 : decode cX5_cutAll 260 = .ok (.iconst 4, 1) := dk_7 (dk_at dksX5_cutAll_11 4 rfl rfl)
theorem dX5_cutAll_261 : decode cX5_cutAll 261 = .ok (.iastore, 1) := dk_79 (dk_at dksX5_cutAll_11 5 rfl rfl)
theorem dX5_cutAll_262 : decode cX5_cutAll 262 = .ok (.iinc 2 1, 3) := dk_132 2 1 (dk_at dksX5_cutAll_11 6 rfl rfl)
theorem dX5_cutAll_265 : decode cX5_cutAll 265 = .ok (.aload_n 0, 1) := dk_42 (dk_at dksX5_cutAll_11 9 rfl rfl)
theorem dX5_cutAll_266 : decode cX5_cutAll 266 = .ok (.getfield 30, 3) := dk_180 0 30 (dk_at dksX5_cutAll_11 10 rfl rfl)
theorem dX5_cutAll_269 : decode cX5_cutAll 269 = .ok (.iload_n 1, 1) := dk_27 (dk_at dksX5_cutAll_11 13 rfl rfl)
theorem dX5_cutAll_270 : decode cX5_cutAll 270 = .ok (.lload 5, 2) := dk_22 5 (dk_at dksX5_cutAll_11 14 rfl rfl)
theorem dX5_cutAll_272 : decode cX5_cutAll 272 = .ok (.lastore, 1) := dk_80 (dk_at dksX5_cutAll_11 16 rfl rfl)
theorem dX5_cutAll_273 : decode cX5_cutAll 273 = .ok (.iinc 1 1, 3) := dk_132 1 1 (dk_at dksX5_cutAll_11 17 rfl rfl)
theorem dX5_cutAll_276 : decode cX5_cutAll 276 = .ok (.goto (-259), 3) := dk_167 254 253 (dk_at dksX5_cutAll_11 20 rfl rfl)
theorem dX5_cutAll_279 : decode cX5_cutAll 279 = .ok (.aload_n 0, 1) := dk_42 (dk_at dksX5_cutAll_11 23 rfl rfl)
theorem dX5_cutAll_280 : decode cX5_cutAll 280 = .ok (.getfield 24, 3) := dk_180 0 24 (dk_at dksX5_cutAll_12 0 rfl rfl)
theorem dX5_cutAll_283 : decode cX5_cutAll 283 = .ok (.iload_n 1, 1) := dk_27 (dk_at dksX5_cutAll_12 3 rfl rfl)
theorem dX5_cutAll_284 : decode cX5_cutAll 284 = .ok (.iconst 0, 1) := dk_3 (dk_at dksX5_cutAll_12 4 rfl rfl)
theorem dX5_cutAll_285 : decode cX5_cutAll 285 = .ok (.iastore, 1) := dk_79 (dk_at dksX5_cutAll_12 5 rfl rfl)
theorem dX5_cutAll_286 : decode cX5_cutAll 286 = .ok (.aload_n 0, 1) := dk_42 (dk_at dksX5_cutAll_12 6 rfl rfl)
theorem dX5_cutAll_287 : decode cX5_cutAll 287 = .ok (.getfield 27, 3) := dk_180 0 27 (dk_at dksX5_cutAll_12 7 rfl rfl)
theorem dX5_cutAll_290 : decode cX5_cutAll 290 = .ok (.iload_n 1, 1) := dk_27 (dk_at dksX5_cutAll_12 10 rfl rfl)
theorem dX5_cutAll_291 : decode cX5_cutAll 291 = .ok (.aload_n 0, 1) := dk_42 (dk_at dksX5_cutAll_12 11 rfl rfl)
theorem dX5_cutAll_292 : decode cX5_cutAll 292 = .ok (.getfield 180, 3) := dk_180 0 180 (dk_at dksX5_cutAll_12 12 rfl rfl)
theorem dX5_cutAll_295 : decode cX5_cutAll 295 = .ok (.iastore, 1) := dk_79 (dk_at dksX5_cutAll_12 15 rfl rfl)
theorem dX5_cutAll_296 : decode cX5_cutAll 296 = .ok (.aload_n 0, 1) := dk_42 (dk_at dksX5_cutAll_12 16 rfl rfl)
theorem dX5_cutAll_297 : decode cX5_cutAll 297 = .ok (.iconst 0, 1) := dk_3 (dk_at dksX5_cutAll_12 17 rfl rfl)
theorem dX5_cutAll_298 : decode cX5_cutAll 298 = .ok (.putfield 199, 3) := dk_181 0 199 (dk_at dksX5_cutAll_12 18 rfl rfl)
theorem dX5_cutAll_301 : decode cX5_cutAll 301 = .ok (.aload_n 0, 1) := dk_42 (dk_at dksX5_cutAll_12 21 rfl rfl)
theorem dX5_cutAll_302 : decode cX5_cutAll 302 = .ok (.iconst 0, 1) := dk_3 (dk_at dksX5_cutAll_12 22 rfl rfl)
theorem dX5_cutAll_303 : decode cX5_cutAll 303 = .ok (.putfield 202, 3) := dk_181 0 202 (dk_at dksX5_cutAll_13 0 rfl rfl)
theorem dX5_cutAll_306 : decode cX5_cutAll 306 = .ok (.return_, 1) := dk_177 (dk_at dksX5_cutAll_13 3 rfl rfl)
abbrev cX5_isLetter : ByteArray := prog_26_method_5_code
def yX5_isLetter : MethodName := ⟨RX5, "isLetter", "(I)Z"⟩
def dkwX5_isLetter_0 : List UInt8 := [26, 16, 97, 161, 0, 13, 26, 16, 122, 163, 0, 7, 4, 167, 0, 4, 3, 172]
abbrev dktX5_isLetter_0 : List UInt8 := dkwX5_isLetter_0 ++ []
theorem dksX5_isLetter_0 : cX5_isLetter.data.toList.drop 0 = dktX5_isLetter_0 := by decide +kernel
theorem dX5_isLetter_0 : decode cX5_isLetter 0 = .ok (.iload_n 0, 1) := dk_26 (dk_at dksX5_isLetter_0 0 rfl rfl)
theorem dX5_isLetter_1 : decode cX5_isLetter 1 = .ok (.bipush 97, 2) := dk_16 97 (dk_at dksX5_isLetter_0 1 rfl rfl)
theorem dX5_isLetter_3 : decode cX5_isLetter 3 = .ok (.if_icmp .lt 13, 3) := dk_161 0 13 (dk_at dksX5_isLetter_0 3 rfl rfl)
theorem dX5_isLetter_6 : decode cX5_isLetter 6 = .ok (.iload_n 0, 1) := dk_26 (dk_at dksX5_isLetter_0 6 rfl rfl)
theorem dX5_isLetter_7 : decode cX5_isLetter 7 = .ok (.bipush 122, 2) := dk_16 122 (dk_at dksX5_isLetter_0 7 rfl rfl)
theorem dX5_isLetter_9 : decode cX5_isLetter 9 = .ok (.if_icmp .gt 7, 3) := dk_163 0 7 (dk_at dksX5_isLetter_0 9 rfl rfl)
theorem dX5_isLetter_12 : decode cX5_isLetter 12 = .ok (.iconst 1, 1) := dk_4 (dk_at dksX5_isLetter_0 12 rfl rfl)
theorem dX5_isLetter_13 : decode cX5_isLetter 13 = .ok (.goto 4, 3) := dk_167 0 4 (dk_at dksX5_isLetter_0 13 rfl rfl)
theorem dX5_isLetter_16 : decode cX5_isLetter 16 = .ok (.iconst 0, 1) := dk_3 (dk_at dksX5_isLetter_0 16 rfl rfl)
theorem dX5_isLetter_17 : decode cX5_isLetter 17 = .ok (.ireturn, 1) := dk_172 (dk_at dksX5_isLetter_0 17 rfl rfl)
abbrev cX5_rank : ByteArray := prog_26_method_7_code
def yX5_rank : MethodName := ⟨RX5, "rank", "(I)I"⟩
def dkwX5_rank_0 : List UInt8 := [26, 184, 0, 176, 153, 0, 10, 26, 16, 96, 100, 167, 0, 7, 26, 16, 21, 100, 172]
abbrev dktX5_rank_0 : List UInt8 := dkwX5_rank_0 ++ []
theorem dksX5_rank_0 : cX5_rank.data.toList.drop 0 = dktX5_rank_0 := by decide +kernel
theorem dX5_rank_0 : decode cX5_rank 0 = .ok (.iload_n 0, 1) := dk_26 (dk_at dksX5_rank_0 0 rfl rfl)
theorem dX5_rank_1 : decode cX5_rank 1 = .ok (.invokestatic 176, 3) := dk_184 0 176 (dk_at dksX5_rank_0 1 rfl rfl)
theorem dX5_rank_4 : decode cX5_rank 4 = .ok (.ifCond .eq 10, 3) := dk_153 0 10 (dk_at dksX5_rank_0 4 rfl rfl)
theorem dX5_rank_7 : decode cX5_rank 7 = .ok (.iload_n 0, 1) := dk_26 (dk_at dksX5_rank_0 7 rfl rfl)
theorem dX5_rank_8 : decode cX5_rank 8 = .ok (.bipush 96, 2) := dk_16 96 (dk_at dksX5_rank_0 8 rfl rfl)
theorem dX5_rank_10 : decode cX5_rank 10 = .ok (.isub, 1) := dk_100 (dk_at dksX5_rank_0 10 rfl rfl)
theorem dX5_rank_11 : decode cX5_rank 11 = .ok (.goto 7, 3) := dk_167 0 7 (dk_at dksX5_rank_0 11 rfl rfl)
theorem dX5_rank_14 : decode cX5_rank 14 = .ok (.iload_n 0, 1) := dk_26 (dk_at dksX5_rank_0 14 rfl rfl)
theorem dX5_rank_15 : decode cX5_rank 15 = .ok (.bipush 21, 2) := dk_16 21 (dk_at dksX5_rank_0 15 rfl rfl)
theorem dX5_rank_17 : decode cX5_rank 17 = .ok (.isub, 1) := dk_100 (dk_at dksX5_rank_0 17 rfl rfl)
theorem dX5_rank_18 : decode cX5_rank 18 = .ok (.ireturn, 1) := dk_172 (dk_at dksX5_rank_0 18 rfl rfl)
abbrev cX5_isDigit : ByteArray := prog_26_method_6_code
def yX5_isDigit : MethodName := ⟨RX5, "isDigit", "(I)Z"⟩
def dkwX5_isDigit_0 : List UInt8 := [26, 16, 48, 161, 0, 13, 26, 16, 57, 163, 0, 7, 4, 167, 0, 4, 3, 172]
abbrev dktX5_isDigit_0 : List UInt8 := dkwX5_isDigit_0 ++ []
theorem dksX5_isDigit_0 : cX5_isDigit.data.toList.drop 0 = dktX5_isDigit_0 := by decide +kernel
theorem dX5_isDigit_0 : decode cX5_isDigit 0 = .ok (.iload_n 0, 1) := dk_26 (dk_at dksX5_isDigit_0 0 rfl rfl)
theorem dX5_isDigit_1 : decode cX5_isDigit 1 = .ok (.bipush 48, 2) := dk_16 48 (dk_at dksX5_isDigit_0 1 rfl rfl)
theorem dX5_isDigit_3 : decode cX5_isDigit 3 = .ok (.if_icmp .lt 13, 3) := dk_161 0 13 (dk_at dksX5_isDigit_0 3 rfl rfl)
theorem dX5_isDigit_6 : decode cX5_isDigit 6 = .ok (.iload_n 0, 1) := dk_26 (dk_at dksX5_isDigit_0 6 rfl rfl)
theorem dX5_isDigit_7 : decode cX5_isDigit 7 = .ok (.bipush 57, 2) := dk_16 57 (dk_at dksX5_isDigit_0 7 rfl rfl)
theorem dX5_isDigit_9 : decode cX5_isDigit 9 = .ok (.if_icmp .gt 7, 3) := dk_163 0 7 (dk_at dksX5_isDigit_0 9 rfl rfl)
theorem dX5_isDigit_12 : decode cX5_isDigit 12 = .ok (.iconst 1, 1) := dk_4 (dk_at dksX5_isDigit_0 12 rfl rfl)
theorem dX5_isDigit_13 : decode cX5_isDigit 13 = .ok (.goto 4, 3) := dk_167 0 4 (dk_at dksX5_isDigit_0 13 rfl rfl)
theorem dX5_isDigit_16 : decode cX5_isDigit 16 = .ok (.iconst 0, 1) := dk_3 (dk_at dksX5_isDigit_0 16 rfl rfl)
theorem dX5_isDigit_17 : decode cX5_isDigit 17 = .ok (.ireturn, 1) := dk_172 (dk_at dksX5_isDigit_0 17 rfl rfl)
abbrev cX5_isSignOf : ByteArray := prog_26_method_8_code
def yX5_isSignOf : MethodName := ⟨RX5, "isSignOf", "(I)Z"⟩
def dkwX5_isSignOf_2 : List UInt8 := [4, 167, 0, 4, 3, 172]
abbrev dktX5_isSignOf_2 : List UInt8 := dkwX5_isSignOf_2 ++ []
def dkwX5_isSignOf_1 : List UInt8 := [26, 16, 60, 159, 0, 21, 26, 16, 43, 159, 0, 15, 26, 16, 45, 159, 0, 9, 26, 16, 42, 160, 0, 7]
abbrev dktX5_isSignOf_1 : List UInt8 := dkwX5_isSignOf_1 ++ dktX5_isSignOf_2
def dkwX5_isSignOf_0 : List UInt8 := [26, 16, 40, 159, 0, 45, 26, 16, 41, 159, 0, 39, 26, 16, 59, 159, 0, 33, 26, 16, 61, 159, 0, 27]
abbrev dktX5_isSignOf_0 : List UInt8 := dkwX5_isSignOf_0 ++ dktX5_isSignOf_1
theorem dksX5_isSignOf_0 : cX5_isSignOf.data.toList.drop 0 = dktX5_isSignOf_0 := by decide +kernel
theorem dksX5_isSignOf_1 : cX5_isSignOf.data.toList.drop 24 = dktX5_isSignOf_1 := dk_seg dksX5_isSignOf_0 24 rfl rfl
theorem dksX5_isSignOf_2 : cX5_isSignOf.data.toList.drop 48 = dktX5_isSignOf_2 := dk_seg dksX5_isSignOf_1 24 rfl rfl
theorem dX5_isSignOf_0 : decode cX5_isSignOf 0 = .ok (.iload_n 0, 1) := dk_26 (dk_at dksX5_isSignOf_0 0 rfl rfl)
theorem dX5_isSignOf_1 : decode cX5_isSignOf 1 = .ok (.bipush 40, 2) := dk_16 40 (dk_at dksX5_isSignOf_0 1 rfl rfl)
theorem dX5_isSignOf_3 : decode cX5_isSignOf 3 = .ok (.if_icmp .eq 45, 3) := dk_159 0 45 (dk_at dksX5_isSignOf_0 3 rfl rfl)
theorem dX5_isSignOf_6 : decode cX5_isSignOf 6 = .ok (.iload_n 0, 1) := dk_26 (dk_at dksX5_isSignOf_0 6 rfl rfl)
theorem dX5_isSignOf_7 : decode cX5_isSignOf 7 = .ok (.bipush 41, 2) := dk_16 41 (dk_at dksX5_isSignOf_0 7 rfl rfl)
theorem dX5_isSignOf_9 : decode cX5_isSignOf 9 = .ok (.if_icmp .eq 39, 3) := dk_159 0 39 (dk_at dksX5_isSignOf_0 9 rfl rfl)
theorem dX5_isSignOf_12 : decode cX5_isSignOf 12 = .ok (.iload_n 0, 1) := dk_26 (dk_at dksX5_isSignOf_0 12 rfl rfl)
theorem dX5_isSignOf_13 : decode cX5_isSignOf 13 = .ok (.bipush 59, 2) := dk_16 59 (dk_at dksX5_isSignOf_0 13 rfl rfl)
theorem dX5_isSignOf_15 : decode cX5_isSignOf 15 = .ok (.if_icmp .eq 33, 3) := dk_159 0 33 (dk_at dksX5_isSignOf_0 15 rfl rfl)
theorem dX5_isSignOf_18 : decode cX5_isSignOf 18 = .ok (.iload_n 0, 1) := dk_26 (dk_at dksX5_isSignOf_0 18 rfl rfl)
theorem dX5_isSignOf_19 : decode cX5_isSignOf 19 = .ok (.bipush 61, 2) := dk_16 61 (dk_at dksX5_isSignOf_0 19 rfl rfl)
theorem dX5_isSignOf_21 : decode cX5_isSignOf 21 = .ok (.if_icmp .eq 27, 3) := dk_159 0 27 (dk_at dksX5_isSignOf_0 21 rfl rfl)
theorem dX5_isSignOf_24 : decode cX5_isSignOf 24 = .ok (.iload_n 0, 1) := dk_26 (dk_at dksX5_isSignOf_1 0 rfl rfl)
theorem dX5_isSignOf_25 : decode cX5_isSignOf 25 = .ok (.bipush 60, 2) := dk_16 60 (dk_at dksX5_isSignOf_1 1 rfl rfl)
theorem dX5_isSignOf_27 : decode cX5_isSignOf 27 = .ok (.if_icmp .eq 21, 3) := dk_159 0 21 (dk_at dksX5_isSignOf_1 3 rfl rfl)
theorem dX5_isSignOf_30 : decode cX5_isSignOf 30 = .ok (.iload_n 0, 1) := dk_26 (dk_at dksX5_isSignOf_1 6 rfl rfl)
theorem dX5_isSignOf_31 : decode cX5_isSignOf 31 = .ok (.bipush 43, 2) := dk_16 43 (dk_at dksX5_isSignOf_1 7 rfl rfl)
theorem dX5_isSignOf_33 : decode cX5_isSignOf 33 = .ok (.if_icmp .eq 15, 3) := dk_159 0 15 (dk_at dksX5_isSignOf_1 9 rfl rfl)
theorem dX5_isSignOf_36 : decode cX5_isSignOf 36 = .ok (.iload_n 0, 1) := dk_26 (dk_at dksX5_isSignOf_1 12 rfl rfl)
theorem dX5_isSignOf_37 : decode cX5_isSignOf 37 = .ok (.bipush 45, 2) := dk_16 45 (dk_at dksX5_isSignOf_1 13 rfl rfl)
theorem dX5_isSignOf_39 : decode cX5_isSignOf 39 = .ok (.if_icmp .eq 9, 3) := dk_159 0 9 (dk_at dksX5_isSignOf_1 15 rfl rfl)
theorem dX5_isSignOf_42 : decode cX5_isSignOf 42 = .ok (.iload_n 0, 1) := dk_26 (dk_at dksX5_isSignOf_1 18 rfl rfl)
theorem dX5_isSignOf_43 : decode cX5_isSignOf 43 = .ok (.bipush 42, 2) := dk_16 42 (dk_at dksX5_isSignOf_1 19 rfl rfl)
theorem dX5_isSignOf_45 : decode cX5_isSignOf 45 = .ok (.if_icmp .ne 7, 3) := dk_160 0 7 (dk_at dksX5_isSignOf_1 21 rfl rfl)
theorem dX5_isSignOf_48 : decode cX5_isSignOf 48 = .ok (.iconst 1, 1) := dk_4 (dk_at dksX5_isSignOf_2 0 rfl rfl)
theorem dX5_isSignOf_49 : decode cX5_isSignOf 49 = .ok (.goto 4, 3) := dk_167 0 4 (dk_at dksX5_isSignOf_2 1 rfl rfl)
theorem dX5_isSignOf_52 : decode cX5_isSignOf 52 = .ok (.iconst 0, 1) := dk_3 (dk_at dksX5_isSignOf_2 4 rfl rfl)
theorem dX5_isSignOf_53 : decode cX5_isSignOf 53 = .ok (.ireturn, 1) := dk_172 (dk_at dksX5_isSignOf_2 5 rfl rfl)
abbrev cX5_readLine : ByteArray := prog_26_method_28_code
def yX5_readLine : MethodName := ⟨RX5, "readLine", "()V"⟩
def dkwX5_readLine_2 : List UInt8 := [16, 10, 182, 0, 211, 153, 0, 10, 42, 182, 1, 17, 167, 0, 7, 42, 182, 1, 20, 177]
abbrev dktX5_readLine_2 : List UInt8 := dkwX5_readLine_2 ++ []
def dkwX5_readLine_1 : List UInt8 := [182, 1, 11, 167, 0, 39, 42, 16, 9, 182, 0, 211, 153, 0, 10, 42, 182, 1, 14, 167, 0, 23, 42]
abbrev dktX5_readLine_1 : List UInt8 := dkwX5_readLine_1 ++ dktX5_readLine_2
def dkwX5_readLine_0 : List UInt8 := [42, 3, 182, 0, 211, 153, 0, 10, 42, 182, 1, 8, 167, 0, 54, 42, 7, 182, 0, 211, 153, 0, 10, 42]
abbrev dktX5_readLine_0 : List UInt8 := dkwX5_readLine_0 ++ dktX5_readLine_1
theorem dksX5_readLine_0 : cX5_readLine.data.toList.drop 0 = dktX5_readLine_0 := by decide +kernel
theorem dksX5_readLine_1 : cX5_readLine.data.toList.drop 24 = dktX5_readLine_1 := dk_seg dksX5_readLine_0 24 rfl rfl
theorem dksX5_readLine_2 : cX5_readLine.data.toList.drop 47 = dktX5_readLine_2 := dk_seg dksX5_readLine_1 23 rfl rfl
theorem dX5_readLine_0 : decode cX5_readLine 0 = .ok (.aload_n 0, 1) := dk_42 (dk_at dksX5_readLine_0 0 rfl rfl)
theorem dX5_readLine_1 : decode cX5_readLine 1 = .ok (.iconst 0, 1) := dk_3 (dk_at dksX5_readLine_0 1 rfl rfl)
theorem dX5_readLine_2 : decode cX5_readLine 2 = .ok (.invokevirtual 211, 3) := dk_182 0 211 (dk_at dksX5_readLine_0 2 rfl rfl)
theorem dX5_readLine_5 : decode cX5_readLine 5 = .ok (.ifCond .eq 10, 3) := dk_153 0 10 (dk_at dksX5_readLine_0 5 rfl rfl)
theorem dX5_readLine_8 : decode cX5_readLine 8 = .ok (.aload_n 0, 1) := dk_42 (dk_at dksX5_readLine_0 8 rfl rfl)
theorem dX5_readLine_9 : decode cX5_readLine 9 = .ok (.invokevirtual 264, 3) := dk_182 1 8 (dk_at dksX5_readLine_0 9 rfl rfl)
theorem dX5_readLine_12 : decode cX5_readLine 12 = .ok (.goto 54, 3) := dk_167 0 54 (dk_at dksX5_readLine_0 12 rfl rfl)
theorem dX5_readLine_15 : decode cX5_readLine 15 = .ok (.aload_n 0, 1) := dk_42 (dk_at dksX5_readLine_0 15 rfl rfl)
theorem dX5_readLine_16 : decode cX5_readLine 16 = .ok (.iconst 4, 1) := dk_7 (dk_at dksX5_readLine_0 16 rfl rfl)
theorem dX5_readLine_17 : decode cX5_readLine 17 = .ok (.invokevirtual 211, 3) := dk_182 0 211 (dk_at dksX5_readLine_0 17 rfl rfl)
theorem dX5_readLine_20 : decode cX5_readLine 20 = .ok (.ifCond .eq 10, 3) := dk_153 0 10 (dk_at dksX5_readLine_0 20 rfl rfl)
theorem dX5_readLine_23 : decode cX5_readLine 23 = .ok (.aload_n 0, 1) := dk_42 (dk_at dksX5_readLine_0 23 rfl rfl)
theorem dX5_readLine_24 : decode cX5_readLine 24 = .ok (.invokevirtual 267, 3) := dk_182 1 11 (dk_at dksX5_readLine_1 0 rfl rfl)
theorem dX5_readLine_27 : decode cX5_readLine 27 = .ok (.goto 39, 3) := dk_167 0 39 (dk_at dksX5_readLine_1 3 rfl rfl)
theorem dX5_readLine_30 : decode cX5_readLine 30 = .ok (.aload_n 0, 1) := dk_42 (dk_at dksX5_readLine_1 6 rfl rfl)
theorem dX5_readLine_31 : decode cX5_readLine 31 = .ok (.bipush 9, 2) := dk_16 9 (dk_at dksX5_readLine_1 7 rfl rfl)
theorem dX5_readLine_33 : decode cX5_readLine 33 = .ok (.invokevirtual 211, 3) := dk_182 0 211 (dk_at dksX5_readLine_1 9 rfl rfl)
theorem dX5_readLine_36 : decode cX5_readLine 36 = .ok (.ifCond .eq 10, 3) := dk_153 0 10 (dk_at dksX5_readLine_1 12 rfl rfl)
theorem dX5_readLine_39 : decode cX5_readLine 39 = .ok (.aload_n 0, 1) := dk_42 (dk_at dksX5_readLine_1 15 rfl rfl)
theorem dX5_readLine_40 : decode cX5_readLine 40 = .ok (.invokevirtual 270, 3) := dk_182 1 14 (dk_at dksX5_readLine_1 16 rfl rfl)
theorem dX5_readLine_43 : decode cX5_readLine 43 = .ok (.goto 23, 3) := dk_167 0 23 (dk_at dksX5_readLine_1 19 rfl rfl)
theorem dX5_readLine_46 : decode cX5_readLine 46 = .ok (.aload_n 0, 1) := dk_42 (dk_at dksX5_readLine_1 22 rfl rfl)
theorem dX5_readLine_47 : decode cX5_readLine 47 = .ok (.bipush 10, 2) := dk_16 10 (dk_at dksX5_readLine_2 0 rfl rfl)
theorem dX5_readLine_49 : decode cX5_readLine 49 = .ok (.invokevirtual 211, 3) := dk_182 0 211 (dk_at dksX5_readLine_2 2 rfl rfl)
theorem dX5_readLine_52 : decode cX5_readLine 52 = .ok (.ifCond .eq 10, 3) := dk_153 0 10 (dk_at dksX5_readLine_2 5 rfl rfl)
theorem dX5_readLine_55 : decode cX5_readLine 55 = .ok (.aload_n 0, 1) := dk_42 (dk_at dksX5_readLine_2 8 rfl rfl)
theorem dX5_readLine_56 : decode cX5_readLine 56 = .ok (.invokevirtual 273, 3) := dk_182 1 17 (dk_at dksX5_readLine_2 9 rfl rfl)
theorem dX5_readLine_59 : decode cX5_readLine 59 = .ok (.goto 7, 3) := dk_167 0 7 (dk_at dksX5_readLine_2 12 rfl rfl)
theorem dX5_readLine_62 : decode cX5_readLine 62 = .ok (.aload_n 0, 1) := dk_42 (dk_at dksX5_readLine_2 15 rfl rfl)
theorem dX5_readLine_63 : decode cX5_readLine 63 = .ok (.invokevirtual 276, 3) := dk_182 1 20 (dk_at dksX5_readLine_2 16 rfl rfl)
theorem dX5_readLine_66 : decode cX5_readLine 66 = .ok (.return_, 1) := dk_177 (dk_at dksX5_readLine_2 19 rfl rfl)
abbrev cX5_isWord : ByteArray := prog_26_method_12_code
def yX5_isWord : MethodName := ⟨RX5, "isWord", "(I)Z"⟩
def dkwX5_isWord_1 : List UInt8 := [42, 180, 0, 199, 47, 42, 180, 0, 108, 27, 47, 148, 154, 0, 7, 4, 167, 0, 4, 3, 172]
abbrev dktX5_isWord_1 : List UInt8 := dkwX5_isWord_1 ++ []
def dkwX5_isWord_0 : List UInt8 := [42, 180, 0, 202, 154, 0, 39, 42, 180, 0, 24, 42, 180, 0, 199, 46, 4, 160, 0, 26, 42, 180, 0, 30]
abbrev dktX5_isWord_0 : List UInt8 := dkwX5_isWord_0 ++ dktX5_isWord_1
theorem dksX5_isWord_0 : cX5_isWord.data.toList.drop 0 = dktX5_isWord_0 := by decide +kernel
theorem dksX5_isWord_1 : cX5_isWord.data.toList.drop 24 = dktX5_isWord_1 := dk_seg dksX5_isWord_0 24 rfl rfl
theorem dX5_isWord_0 : decode cX5_isWord 0 = .ok (.aload_n 0, 1) := dk_42 (dk_at dksX5_isWord_0 0 rfl rfl)
theorem dX5_isWord_1 : decode cX5_isWord 1 = .ok (.getfield 202, 3) := dk_180 0 202 (dk_at dksX5_isWord_0 1 rfl rfl)
theorem dX5_isWord_4 : decode cX5_isWord 4 = .ok (.ifCond .ne 39, 3) := dk_154 0 39 (dk_at dksX5_isWord_0 4 rfl rfl)
theorem dX5_isWord_7 : decode cX5_isWord 7 = .ok (.aload_n 0, 1) := dk_42 (dk_at dksX5_isWord_0 7 rfl rfl)
theorem dX5_isWord_8 : decode cX5_isWord 8 = .ok (.getfield 24, 3) := dk_180 0 24 (dk_at dksX5_isWord_0 8 rfl rfl)
theorem dX5_isWord_11 : decode cX5_isWord 11 = .ok (.aload_n 0, 1) := dk_42 (dk_at dksX5_isWord_0 11 rfl rfl)
theorem dX5_isWord_12 : decode cX5_isWord 12 = .ok (.getfield 199, 3) := dk_180 0 199 (dk_at dksX5_isWord_0 12 rfl rfl)
theorem dX5_isWord_15 : decode cX5_isWord 15 = .ok (.iaload, 1) := dk_46 (dk_at dksX5_isWord_0 15 rfl rfl)
theorem dX5_isWord_16 : decode cX5_isWord 16 = .ok (.iconst 1, 1) := dk_4 (dk_at dksX5_isWord_0 16 rfl rfl)
theorem dX5_isWord_17 : decode cX5_isWord 17 = .ok (.if_icmp .ne 26, 3) := dk_160 0 26 (dk_at dksX5_isWord_0 17 rfl rfl)
theorem dX5_isWord_20 : decode cX5_isWord 20 = .ok (.aload_n 0, 1) := dk_42 (dk_at dksX5_isWord_0 20 rfl rfl)
theorem dX5_isWord_21 : decode cX5_isWord 21 = .ok (.getfield 30, 3) := dk_180 0 30 (dk_at dksX5_isWord_0 21 rfl rfl)
theorem dX5_isWord_24 : decode cX5_isWord 24 = .ok (.aload_n 0, 1) := dk_42 (dk_at dksX5_isWord_1 0 rfl rfl)
theorem dX5_isWord_25 : decode cX5_isWord 25 = .ok (.getfield 199, 3) := dk_180 0 199 (dk_at dksX5_isWord_1 1 rfl rfl)
theorem dX5_isWord_28 : decode cX5_isWord 28 = .ok (.laload, 1) := dk_47 (dk_at dksX5_isWord_1 4 rfl rfl)
theorem dX5_isWord_29 : decode cX5_isWord 29 = .ok (.aload_n 0, 1) := dk_42 (dk_at dksX5_isWord_1 5 rfl rfl)
theorem dX5_isWord_30 : decode cX5_isWord 30 = .ok (.getfield 108, 3) := dk_180 0 108 (dk_at dksX5_isWord_1 6 rfl rfl)
theorem dX5_isWord_33 : decode cX5_isWord 33 = .ok (.iload_n 1, 1) := dk_27 (dk_at dksX5_isWord_1 9 rfl rfl)
theorem dX5_isWord_34 : decode cX5_isWord 34 = .ok (.laload, 1) := dk_47 (dk_at dksX5_isWord_1 10 rfl rfl)
theorem dX5_isWord_35 : decode cX5_isWord 35 = .ok (.lcmp, 1) := dk_148 (dk_at dksX5_isWord_1 11 rfl rfl)
theorem dX5_isWord_36 : decode cX5_isWord 36 = .ok (.ifCond .ne 7, 3) := dk_154 0 7 (dk_at dksX5_isWord_1 12 rfl rfl)
theorem dX5_isWord_39 : decode cX5_isWord 39 = .ok (.iconst 1, 1) := dk_4 (dk_at dksX5_isWord_1 15 rfl rfl)
theorem dX5_isWord_40 : decode cX5_isWord 40 = .ok (.goto 4, 3) := dk_167 0 4 (dk_at dksX5_isWord_1 16 rfl rfl)
theorem dX5_isWord_43 : decode cX5_isWord 43 = .ok (.iconst 0, 1) := dk_3 (dk_at dksX5_isWord_1 19 rfl rfl)
theorem dX5_isWord_44 : decode cX5_isWord 44 = .ok (.ireturn, 1) := dk_172 (dk_at dksX5_isWord_1 20 rfl rfl)
abbrev cX5_readRoom : ByteArray := prog_26_method_30_code
def yX5_readRoom : MethodName := ⟨RX5, "readRoom", "()V"⟩
def dkwX5_readRoom_3 : List UInt8 := [42, 6, 3, 17, 3, 231, 182, 1, 26, 79, 42, 180, 0, 111, 16, 120, 92, 46, 4, 96, 79, 177]
abbrev dktX5_readRoom_3 : List UInt8 := dkwX5_readRoom_3 ++ []
def dkwX5_readRoom_2 : List UInt8 := [79, 42, 180, 0, 111, 28, 4, 96, 42, 5, 3, 16, 20, 182, 1, 26, 79, 42, 180, 0, 111, 28, 5, 96]
abbrev dktX5_readRoom_2 : List UInt8 := dkwX5_readRoom_2 ++ dktX5_readRoom_3
def dkwX5_readRoom_1 : List UInt8 := [182, 1, 23, 17, 0, 128, 6, 27, 104, 96, 61, 42, 180, 0, 111, 28, 42, 4, 3, 16, 60, 182, 1, 26]
abbrev dktX5_readRoom_1 : List UInt8 := dkwX5_readRoom_1 ++ dktX5_readRoom_2
def dkwX5_readRoom_0 : List UInt8 := [42, 180, 0, 111, 16, 120, 46, 60, 27, 16, 6, 160, 0, 9, 42, 8, 182, 0, 208, 177, 42, 27]
abbrev dktX5_readRoom_0 : List UInt8 := dkwX5_readRoom_0 ++ dktX5_readRoom_1
theorem dksX5_readRoom_0 : cX5_readRoom.data.toList.drop 0 = dktX5_readRoom_0 := by decide +kernel
theorem dksX5_readRoom_1 : cX5_readRoom.data.toList.drop 22 = dktX5_readRoom_1 := dk_seg dksX5_readRoom_0 22 rfl rfl
theorem dksX5_readRoom_2 : cX5_readRoom.data.toList.drop 46 = dktX5_readRoom_2 := dk_seg dksX5_readRoom_1 24 rfl rfl
theorem dksX5_readRoom_3 : cX5_readRoom.data.toList.drop 70 = dktX5_readRoom_3 := dk_seg dksX5_readRoom_2 24 rfl rfl
theorem dX5_readRoom_0 : decode cX5_readRoom 0 = .ok (.aload_n 0, 1) := dk_42 (dk_at dksX5_readRoom_0 0 rfl rfl)
theorem dX5_readRoom_1 : decode cX5_readRoom 1 = .ok (.getfield 111, 3) := dk_180 0 111 (dk_at dksX5_readRoom_0 1 rfl rfl)
theorem dX5_readRoom_4 : decode cX5_readRoom 4 = .ok (.bipush 120, 2) := dk_16 120 (dk_at dksX5_readRoom_0 4 rfl rfl)
theorem dX5_readRoom_6 : decode cX5_readRoom 6 = .ok (.iaload, 1) := dk_46 (dk_at dksX5_readRoom_0 6 rfl rfl)
theorem dX5_readRoom_7 : decode cX5_readRoom 7 = .ok (.istore_n 1, 1) := dk_60 (dk_at dksX5_readRoom_0 7 rfl rfl)
theorem dX5_readRoom_8 : decode cX5_readRoom 8 = .ok (.iload_n 1, 1) := dk_27 (dk_at dksX5_readRoom_0 8 rfl rfl)
theorem dX5_readRoom_9 : decode cX5_readRoom 9 = .ok (.bipush 6, 2) := dk_16 6 (dk_at dksX5_readRoom_0 9 rfl rfl)
theorem dX5_readRoom_11 : decode cX5_readRoom 11 = .ok (.if_icmp .ne 9, 3) := dk_160 0 9 (dk_at dksX5_readRoom_0 11 rfl rfl)
theorem dX5_readRoom_14 : decode cX5_readRoom 14 = .ok (.aload_n 0, 1) := dk_42 (dk_at dksX5_readRoom_0 14 rfl rfl)
theorem dX5_readRoom_15 : decode cX5_readRoom 15 = .ok (.iconst 5, 1) := dk_8 (dk_at dksX5_readRoom_0 15 rfl rfl)
theorem dX5_readRoom_16 : decode cX5_readRoom 16 = .ok (.invokevirtual 208, 3) := dk_182 0 208 (dk_at dksX5_readRoom_0 16 rfl rfl)
theorem dX5_readRoom_19 : decode cX5_readRoom 19 = .ok (.return_, 1) := dk_177 (dk_at dksX5_readRoom_0 19 rfl rfl)
theorem dX5_readRoom_20 : decode cX5_readRoom 20 = .ok (.aload_n 0, 1) := dk_42 (dk_at dksX5_readRoom_0 20 rfl rfl)
theorem dX5_readRoom_21 : decode cX5_readRoom 21 = .ok (.iload_n 1, 1) := dk_27 (dk_at dksX5_readRoom_0 21 rfl rfl)
theorem dX5_readRoom_22 : decode cX5_readRoom 22 = .ok (.invokevirtual 279, 3) := dk_182 1 23 (dk_at dksX5_readRoom_1 0 rfl rfl)
theorem dX5_readRoom_25 : decode cX5_readRoom 25 = .ok (.sipush 128, 3) := dk_17 0 128 (dk_at dksX5_readRoom_1 3 rfl rfl)
theorem dX5_readRoom_28 : decode cX5_readRoom 28 = .ok (.iconst 3, 1) := dk_6 (dk_at dksX5_readRoom_1 6 rfl rfl)
theorem dX5_readRoom_29 : decode cX5_readRoom 29 = .ok (.iload_n 1, 1) := dk_27 (dk_at dksX5_readRoom_1 7 rfl rfl)
theorem dX5_readRoom_30 : decode cX5_readRoom 30 = .ok (.imul, 1) := dk_104 (dk_at dksX5_readRoom_1 8 rfl rfl)
theorem dX5_readRoom_31 : decode cX5_readRoom 31 = .ok (.iadd, 1) := dk_96 (dk_at dksX5_readRoom_1 9 rfl rfl)
theorem dX5_readRoom_32 : decode cX5_readRoom 32 = .ok (.istore_n 2, 1) := dk_61 (dk_at dksX5_readRoom_1 10 rfl rfl)
theorem dX5_readRoom_33 : decode cX5_readRoom 33 = .ok (.aload_n 0, 1) := dk_42 (dk_at dksX5_readRoom_1 11 rfl rfl)
theorem dX5_readRoom_34 : decode cX5_readRoom 34 = .ok (.getfield 111, 3) := dk_180 0 111 (dk_at dksX5_readRoom_1 12 rfl rfl)
theorem dX5_readRoom_37 : decode cX5_readRoom 37 = .ok (.iload_n 2, 1) := dk_28 (dk_at dksX5_readRoom_1 15 rfl rfl)
theorem dX5_readRoom_38 : decode cX5_readRoom 38 = .ok (.aload_n 0, 1) := dk_42 (dk_at dksX5_readRoom_1 16 rfl rfl)
theorem dX5_readRoom_39 : decode cX5_readRoom 39 = .ok (.iconst 1, 1) := dk_4 (dk_at dksX5_readRoom_1 17 rfl rfl)
theorem dX5_readRoom_40 : decode cX5_readRoom 40 = .ok (.iconst 0, 1) := dk_3 (dk_at dksX5_readRoom_1 18 rfl rfl)
theorem dX5_readRoom_41 : decode cX5_readRoom 41 = .ok (.bipush 60, 2) := dk_16 60 (dk_at dksX5_readRoom_1 19 rfl rfl)
theorem dX5_readRoom_43 : decode cX5_readRoom 43 = .ok (.invokevirtual 282, 3) := dk_182 1 26 (dk_at dksX5_readRoom_1 21 rfl rfl)
theorem dX5_readRoom_46 : decode cX5_readRoom 46 = .ok (.iastore, 1) := dk_79 (dk_at dksX5_readRoom_2 0 rfl rfl)
theorem dX5_readRoom_47 : decode cX5_readRoom 47 = .ok (.aload_n 0, 1) := dk_42 (dk_at dksX5_readRoom_2 1 rfl rfl)
theorem dX5_readRoom_48 : decode cX5_readRoom 48 = .ok (.getfield 111, 3) := dk_180 0 111 (dk_at dksX5_readRoom_2 2 rfl rfl)
theorem dX5_readRoom_51 : decode cX5_readRoom 51 = .ok (.iload_n 2, 1) := dk_28 (dk_at dksX5_readRoom_2 5 rfl rfl)
theorem dX5_readRoom_52 : decode cX5_readRoom 52 = .ok (.iconst 1, 1) := dk_4 (dk_at dksX5_readRoom_2 6 rfl rfl)
theorem dX5_readRoom_53 : decode cX5_readRoom 53 = .ok (.iadd, 1) := dk_96 (dk_at dksX5_readRoom_2 7 rfl rfl)
theorem dX5_readRoom_54 : decode cX5_readRoom 54 = .ok (.aload_n 0, 1) := dk_42 (dk_at dksX5_readRoom_2 8 rfl rfl)
theorem dX5_readRoom_55 : decode cX5_readRoom 55 = .ok (.iconst 2, 1) := dk_5 (dk_at dksX5_readRoom_2 9 rfl rfl)
theorem dX5_readRoom_56 : decode cX5_readRoom 56 = .ok (.iconst 0, 1) := dk_3 (dk_at dksX5_readRoom_2 10 rfl rfl)
theorem dX5_readRoom_57 : decode cX5_readRoom 57 = .ok (.bipush 20, 2) := dk_16 20 (dk_at dksX5_readRoom_2 11 rfl rfl)
theorem dX5_readRoom_59 : decode cX5_readRoom 59 = .ok (.invokevirtual 282, 3) := dk_182 1 26 (dk_at dksX5_readRoom_2 13 rfl rfl)
theorem dX5_readRoom_62 : decode cX5_readRoom 62 = .ok (.iastore, 1) := dk_79 (dk_at dksX5_readRoom_2 16 rfl rfl)
theorem dX5_readRoom_63 : decode cX5_readRoom 63 = .ok (.aload_n 0, 1) := dk_42 (dk_at dksX5_readRoom_2 17 rfl rfl)
theorem dX5_readRoom_64 : decode cX5_readRoom 64 = .ok (.getfield 111, 3) := dk_180 0 111 (dk_at dksX5_readRoom_2 18 rfl rfl)
theorem dX5_readRoom_67 : decode cX5_readRoom 67 = .ok (.iload_n 2, 1) := dk_28 (dk_at dksX5_readRoom_2 21 rfl rfl)
theorem dX5_readRoom_68 : decode cX5_readRoom 68 = .ok (.iconst 2, 1) := dk_5 (dk_at dksX5_readRoom_2 22 rfl rfl)
theorem dX5_readRoom_69 : decode cX5_readRoom 69 = .ok (.iadd, 1) := dk_96 (dk_at dksX5_readRoom_2 23 rfl rfl)
theorem dX5_readRoom_70 : decode cX5_readRoom 70 = .ok (.aload_n 0, 1) := dk_42 (dk_at dksX5_readRoom_3 0 rfl rfl)
theorem dX5_readRoom_71 : decode cX5_readRoom 71 = .ok (.iconst 3, 1) := dk_6 (dk_at dksX5_readRoom_3 1 rfl rfl)
theorem dX5_readRoom_72 : decode cX5_readRoom 72 = .ok (.iconst 0, 1) := dk_3 (dk_at dksX5_readRoom_3 2 rfl rfl)
theorem dX5_readRoom_73 : decode cX5_readRoom 73 = .ok (.sipush 999, 3) := dk_17 3 231 (dk_at dksX5_readRoom_3 3 rfl rfl)
theorem dX5_readRoom_76 : decode cX5_readRoom 76 = .ok (.invokevirtual 282, 3) := dk_182 1 26 (dk_at dksX5_readRoom_3 6 rfl rfl)
theorem dX5_readRoom_79 : decode cX5_readRoom 79 = .ok (.iastore, 1) := dk_79 (dk_at dksX5_readRoom_3 9 rfl rfl)
theorem dX5_readRoom_80 : decode cX5_readRoom 80 = .ok (.aload_n 0, 1) := dk_42 (dk_at dksX5_readRoom_3 10 rfl rfl)
theorem dX5_readRoom_81 : decode cX5_readRoom 81 = .ok (.getfield 111, 3) := dk_180 0 111 (dk_at dksX5_readRoom_3 11 rfl rfl)
theorem dX5_readRoom_84 : decode cX5_readRoom 84 = .ok (.bipush 120, 2) := dk_16 120 (dk_at dksX5_readRoom_3 14 rfl rfl)
theorem dX5_readRoom_86 : decode cX5_readRoom 86 = .ok (.dup2, 1) := dk_92 (dk_at dksX5_readRoom_3 16 rfl rfl)
theorem dX5_readRoom_87 : decode cX5_readRoom 87 = .ok (.iaload, 1) := dk_46 (dk_at dksX5_readRoom_3 17 rfl rfl)
theorem dX5_readRoom_88 : decode cX5_readRoom 88 = .ok (.iconst 1, 1) := dk_4 (dk_at dksX5_readRoom_3 18 rfl rfl)
theorem dX5_readRoom_89 : decode cX5_readRoom 89 = .ok (.iadd, 1) := dk_96 (dk_at dksX5_readRoom_3 19 rfl rfl)
theorem dX5_readRoom_90 : decode cX5_readRoom 90 = .ok (.iastore, 1) := dk_79 (dk_at dksX5_readRoom_3 20 rfl rfl)
theorem dX5_readRoom_91 : decode cX5_readRoom 91 = .ok (.return_, 1) := dk_177 (dk_at dksX5_readRoom_3 21 rfl rfl)
abbrev cX5_wrong : ByteArray := prog_26_method_10_code
def yX5_wrong : MethodName := ⟨RX5, "wrong", "(I)V"⟩
def dkwX5_wrong_1 : List UInt8 := [181, 0, 202, 177]
abbrev dktX5_wrong_1 : List UInt8 := dkwX5_wrong_1 ++ []
def dkwX5_wrong_0 : List UInt8 := [42, 180, 0, 202, 154, 0, 21, 42, 27, 16, 16, 42, 180, 0, 27, 42, 180, 0, 199, 46, 104, 96]
abbrev dktX5_wrong_0 : List UInt8 := dkwX5_wrong_0 ++ dktX5_wrong_1
theorem dksX5_wrong_0 : cX5_wrong.data.toList.drop 0 = dktX5_wrong_0 := by decide +kernel
theorem dksX5_wrong_1 : cX5_wrong.data.toList.drop 22 = dktX5_wrong_1 := dk_seg dksX5_wrong_0 22 rfl rfl
theorem dX5_wrong_0 : decode cX5_wrong 0 = .ok (.aload_n 0, 1) := dk_42 (dk_at dksX5_wrong_0 0 rfl rfl)
theorem dX5_wrong_1 : decode cX5_wrong 1 = .ok (.getfield 202, 3) := dk_180 0 202 (dk_at dksX5_wrong_0 1 rfl rfl)
theorem dX5_wrong_4 : decode cX5_wrong 4 = .ok (.ifCond .ne 21, 3) := dk_154 0 21 (dk_at dksX5_wrong_0 4 rfl rfl)
theorem dX5_wrong_7 : decode cX5_wrong 7 = .ok (.aload_n 0, 1) := dk_42 (dk_at dksX5_wrong_0 7 rfl rfl)
theorem dX5_wrong_8 : decode cX5_wrong 8 = .ok (.iload_n 1, 1) := dk_27 (dk_at dksX5_wrong_0 8 rfl rfl)
theorem dX5_wrong_9 : decode cX5_wrong 9 = .ok (.bipush 16, 2) := dk_16 16 (dk_at dksX5_wrong_0 9 rfl rfl)
theorem dX5_wrong_11 : decode cX5_wrong 11 = .ok (.aload_n 0, 1) := dk_42 (dk_at dksX5_wrong_0 11 rfl rfl)
theorem dX5_wrong_12 : decode cX5_wrong 12 = .ok (.getfield 27, 3) := dk_180 0 27 (dk_at dksX5_wrong_0 12 rfl rfl)
theorem dX5_wrong_15 : decode cX5_wrong 15 = .ok (.aload_n 0, 1) := dk_42 (dk_at dksX5_wrong_0 15 rfl rfl)
theorem dX5_wrong_16 : decode cX5_wrong 16 = .ok (.getfield 199, 3) := dk_180 0 199 (dk_at dksX5_wrong_0 16 rfl rfl)
theorem dX5_wrong_19 : decode cX5_wrong 19 = .ok (.iaload, 1) := dk_46 (dk_at dksX5_wrong_0 19 rfl rfl)
theorem dX5_wrong_20 : decode cX5_wrong 20 = .ok (.imul, 1) := dk_104 (dk_at dksX5_wrong_0 20 rfl rfl)
theorem dX5_wrong_21 : decode cX5_wrong 21 = .ok (.iadd, 1) := dk_96 (dk_at dksX5_wrong_0 21 rfl rfl)
theorem dX5_wrong_22 : decode cX5_wrong 22 = .ok (.putfield 202, 3) := dk_181 0 202 (dk_at dksX5_wrong_1 0 rfl rfl)
theorem dX5_wrong_25 : decode cX5_wrong 25 = .ok (.return_, 1) := dk_177 (dk_at dksX5_wrong_1 3 rfl rfl)
abbrev cX5_readName : ByteArray := prog_26_method_29_code
def yX5_readName : MethodName := ⟨RX5, "readName", "(I)V"⟩
def dkwX5_readName_4 : List UInt8 := [181, 0, 199, 177]
abbrev dktX5_readName_4 : List UInt8 := dkwX5_readName_4 ++ []
def dkwX5_readName_3 : List UInt8 := [180, 0, 227, 27, 79, 42, 89, 180, 0, 227, 4, 96, 181, 0, 227, 42, 89, 180, 0, 199, 4, 96]
abbrev dktX5_readName_3 : List UInt8 := dkwX5_readName_3 ++ dktX5_readName_4
def dkwX5_readName_2 : List UInt8 := [180, 0, 123, 42, 180, 0, 227, 42, 180, 0, 30, 42, 180, 0, 199, 47, 80, 42, 180, 0, 129, 42]
abbrev dktX5_readName_2 : List UInt8 := dkwX5_readName_2 ++ dktX5_readName_3
def dkwX5_readName_1 : List UInt8 := [167, 0, 16, 42, 4, 182, 0, 237, 155, 0, 8, 42, 6, 182, 0, 208, 42, 180, 0, 202, 154, 0, 51, 42]
abbrev dktX5_readName_1 : List UInt8 := dkwX5_readName_1 ++ dktX5_readName_2
def dkwX5_readName_0 : List UInt8 := [42, 89, 180, 0, 199, 4, 96, 181, 0, 199, 42, 182, 0, 233, 154, 0, 11, 42, 4, 182, 0, 208]
abbrev dktX5_readName_0 : List UInt8 := dkwX5_readName_0 ++ dktX5_readName_1
theorem dksX5_readName_0 : cX5_readName.data.toList.drop 0 = dktX5_readName_0 := by decide +kernel
theorem dksX5_readName_1 : cX5_readName.data.toList.drop 22 = dktX5_readName_1 := dk_seg dksX5_readName_0 22 rfl rfl
theorem dksX5_readName_2 : cX5_readName.data.toList.drop 46 = dktX5_readName_2 := dk_seg dksX5_readName_1 24 rfl rfl
theorem dksX5_readName_3 : cX5_readName.data.toList.drop 68 = dktX5_readName_3 := dk_seg dksX5_readName_2 22 rfl rfl
theorem dksX5_readName_4 : cX5_readName.data.toList.drop 90 = dktX5_readName_4 := dk_seg dksX5_readName_3 22 rfl rfl
theorem dX5_readName_0 : decode cX5_readName 0 = .ok (.aload_n 0, 1) := dk_42 (dk_at dksX5_readName_0 0 rfl rfl)
theorem dX5_readName_1 : decode cX5_readName 1 = .ok (.dup, 1) := dk_89 (dk_at dksX5_readName_0 1 rfl rfl)
theorem dX5_readName_2 : decode cX5_readName 2 = .ok (.getfield 199, 3) := dk_180 0 199 (dk_at dksX5_readName_0 2 rfl rfl)
theorem dX5_readName_5 : decode cX5_readName 5 = .ok (.iconst 1, 1) := dk_4 (dk_at dksX5_readName_0 5 rfl rfl)
theorem dX5_readName_6 : decode cX5_readName 6 = .ok (.iadd, 1) := dk_96 (dk_at dksX5_readName_0 6 rfl rfl)
theorem dX5_readName_7 : decode cX5_readName 7 = .ok (.putfield 199, 3) := dk_181 0 199 (dk_at dksX5_readName_0 7 rfl rfl)
theorem dX5_readName_10 : decode cX5_readName 10 = .ok (.aload_n 0, 1) := dk_42 (dk_at dksX5_readName_0 10 rfl rfl)
theorem dX5_readName_11 : decode cX5_readName 11 = .ok (.invokevirtual 233, 3) := dk_182 0 233 (dk_at dksX5_readName_0 11 rfl rfl)
theorem dX5_readName_14 : decode cX5_readName 14 = .ok (.ifCond .ne 11, 3) := dk_154 0 11 (dk_at dksX5_readName_0 14 rfl rfl)
theorem dX5_readName_17 : decode cX5_readName 17 = .ok (.aload_n 0, 1) := dk_42 (dk_at dksX5_readName_0 17 rfl rfl)
theorem dX5_readName_18 : decode cX5_readName 18 = .ok (.iconst 1, 1) := dk_4 (dk_at dksX5_readName_0 18 rfl rfl)
theorem dX5_readName_19 : decode cX5_readName 19 = .ok (.invokevirtual 208, 3) := dk_182 0 208 (dk_at dksX5_readName_0 19 rfl rfl)
theorem dX5_readName_22 : decode cX5_readName 22 = .ok (.goto 16, 3) := dk_167 0 16 (dk_at dksX5_readName_1 0 rfl rfl)
theorem dX5_readName_25 : decode cX5_readName 25 = .ok (.aload_n 0, 1) := dk_42 (dk_at dksX5_readName_1 3 rfl rfl)
theorem dX5_readName_26 : decode cX5_readName 26 = .ok (.iconst 1, 1) := dk_4 (dk_at dksX5_readName_1 4 rfl rfl)
theorem dX5_readName_27 : decode cX5_readName 27 = .ok (.invokevirtual 237, 3) := dk_182 0 237 (dk_at dksX5_readName_1 5 rfl rfl)
theorem dX5_readName_30 : decode cX5_readName 30 = .ok (.ifCond .lt 8, 3) := dk_155 0 8 (dk_at dksX5_readName_1 8 rfl rfl)
theorem dX5_readName_33 : decode cX5_readName 33 = .ok (.aload_n 0, 1) := dk_42 (dk_at dksX5_readName_1 11 rfl rfl)
theorem dX5_readName_34 : decode cX5_readName 34 = .ok (.iconst 3, 1) := dk_6 (dk_at dksX5_readName_1 12 rfl rfl)
theorem dX5_readName_35 : decode cX5_readName 35 = .ok (.invokevirtual 208, 3) := dk_182 0 208 (dk_at dksX5_readName_1 13 rfl rfl)
theorem dX5_readName_38 : decode cX5_readName 38 = .ok (.aload_n 0, 1) := dk_42 (dk_at dksX5_readName_1 16 rfl rfl)
theorem dX5_readName_39 : decode cX5_readName 39 = .ok (.getfield 202, 3) := dk_180 0 202 (dk_at dksX5_readName_1 17 rfl rfl)
theorem dX5_readName_42 : decode cX5_readName 42 = .ok (.ifCond .ne 51, 3) := dk_154 0 51 (dk_at dksX5_readName_1 20 rfl rfl)
theorem dX5_readName_45 : decode cX5_readName 45 = .ok (.aload_n 0, 1) := dk_42 (dk_at dksX5_readName_1 23 rfl rfl)
theorem dX5_readName_46 : decode cX5_readName 46 = .ok (.getfield 123, 3) := dk_180 0 123 (dk_at dksX5_readName_2 0 rfl rfl)
theorem dX5_readName_49 : decode cX5_readName 49 = .ok (.aload_n 0, 1) := dk_42 (dk_at dksX5_readName_2 3 rfl rfl)
theorem dX5_readName_50 : decode cX5_readName 50 = .ok (.getfield 227, 3) := dk_180 0 227 (dk_at dksX5_readName_2 4 rfl rfl)
theorem dX5_readName_53 : decode cX5_readName 53 = .ok (.aload_n 0, 1) := dk_42 (dk_at dksX5_readName_2 7 rfl rfl)
theorem dX5_readName_54 : decode cX5_readName 54 = .ok (.getfield 30, 3) := dk_180 0 30 (dk_at dksX5_readName_2 8 rfl rfl)
theorem dX5_readName_57 : decode cX5_readName 57 = .ok (.aload_n 0, 1) := dk_42 (dk_at dksX5_readName_2 11 rfl rfl)
theorem dX5_readName_58 : decode cX5_readName 58 = .ok (.getfield 199, 3) := dk_180 0 199 (dk_at dksX5_readName_2 12 rfl rfl)
theorem dX5_readName_61 : decode cX5_readName 61 = .ok (.laload, 1) := dk_47 (dk_at dksX5_readName_2 15 rfl rfl)
theorem dX5_readName_62 : decode cX5_readName 62 = .ok (.lastore, 1) := dk_80 (dk_at dksX5_readName_2 16 rfl rfl)
theorem dX5_readName_63 : decode cX5_readName 63 = .ok (.aload_n 0, 1) := dk_42 (dk_at dksX5_readName_2 17 rfl rfl)
theorem dX5_readName_64 : decode cX5_readName 64 = .ok (.getfield 129, 3) := dk_180 0 129 (dk_at dksX5_readName_2 18 rfl rfl)
theorem dX5_readName_67 : decode cX5_readName 67 = .ok (.aload_n 0, 1) := dk_42 (dk_at dksX5_readName_2 21 rfl rfl)
theorem dX5_readName_68 : decode cX5_readName 68 = .ok (.getfield 227, 3) := dk_180 0 227 (dk_at dksX5_readName_3 0 rfl rfl)
theorem dX5_readName_71 : decode cX5_readName 71 = .ok (.iload_n 1, 1) := dk_27 (dk_at dksX5_readName_3 3 rfl rfl)
theorem dX5_readName_72 : decode cX5_readName 72 = .ok (.iastore, 1) := dk_79 (dk_at dksX5_readName_3 4 rfl rfl)
theorem dX5_readName_73 : decode cX5_readName 73 = .ok (.aload_n 0, 1) := dk_42 (dk_at dksX5_readName_3 5 rfl rfl)
theorem dX5_readName_74 : decode cX5_readName 74 = .ok (.dup, 1) := dk_89 (dk_at dksX5_readName_3 6 rfl rfl)
theorem dX5_readName_75 : decode cX5_readName 75 = .ok (.getfield 227, 3) := dk_180 0 227 (dk_at dksX5_readName_3 7 rfl rfl)
theorem dX5_readName_78 : decode cX5_readName 78 = .ok (.iconst 1, 1) := dk_4 (dk_at dksX5_readName_3 10 rfl rfl)
theorem dX5_readName_79 : decode cX5_readName 79 = .ok (.iadd, 1) := dk_96 (dk_at dksX5_readName_3 11 rfl rfl)
theorem dX5_readName_80 : decode cX5_readName 80 = .ok (.putfield 227, 3) := dk_181 0 227 (dk_at dksX5_readName_3 12 rfl rfl)
theorem dX5_readName_83 : decode cX5_readName 83 = .ok (.aload_n 0, 1) := dk_42 (dk_at dksX5_readName_3 15 rfl rfl)
theorem dX5_readName_84 : decode cX5_readName 84 = .ok (.dup, 1) := dk_89 (dk_at dksX5_readName_3 16 rfl rfl)
theorem dX5_readName_85 : decode cX5_readName 85 = .ok (.getfield 199, 3) := dk_180 0 199 (dk_at dksX5_readName_3 17 rfl rfl)
theorem dX5_readName_88 : decode cX5_readName 88 = .ok (.iconst 1, 1) := dk_4 (dk_at dksX5_readName_3 20 rfl rfl)
theorem dX5_readName_89 : decode cX5_readName 89 = .ok (.iadd, 1) := dk_96 (dk_at dksX5_readName_3 21 rfl rfl)
theorem dX5_readName_90 : decode cX5_readName 90 = .ok (.putfield 199, 3) := dk_181 0 199 (dk_at dksX5_readName_4 0 rfl rfl)
theorem dX5_readName_93 : decode cX5_readName 93 = .ok (.return_, 1) := dk_177 (dk_at dksX5_readName_4 3 rfl rfl)
abbrev cX5_isName : ByteArray := prog_26_method_23_code
def yX5_isName : MethodName := ⟨RX5, "isName", "()Z"⟩
def dkwX5_isName_1 : List UInt8 := [182, 0, 224, 156, 0, 7, 4, 167, 0, 4, 3, 172]
abbrev dktX5_isName_1 : List UInt8 := dkwX5_isName_1 ++ []
def dkwX5_isName_0 : List UInt8 := [42, 180, 0, 202, 154, 0, 30, 42, 180, 0, 24, 42, 180, 0, 199, 46, 4, 160, 0, 17, 42, 3, 16, 32]
abbrev dktX5_isName_0 : List UInt8 := dkwX5_isName_0 ++ dktX5_isName_1
theorem dksX5_isName_0 : cX5_isName.data.toList.drop 0 = dktX5_isName_0 := by decide +kernel
theorem dksX5_isName_1 : cX5_isName.data.toList.drop 24 = dktX5_isName_1 := dk_seg dksX5_isName_0 24 rfl rfl
theorem dX5_isName_0 : decode cX5_isName 0 = .ok (.aload_n 0, 1) := dk_42 (dk_at dksX5_isName_0 0 rfl rfl)
theorem dX5_isName_1 : decode cX5_isName 1 = .ok (.getfield 202, 3) := dk_180 0 202 (dk_at dksX5_isName_0 1 rfl rfl)
theorem dX5_isName_4 : decode cX5_isName 4 = .ok (.ifCond .ne 30, 3) := dk_154 0 30 (dk_at dksX5_isName_0 4 rfl rfl)
theorem dX5_isName_7 : decode cX5_isName 7 = .ok (.aload_n 0, 1) := dk_42 (dk_at dksX5_isName_0 7 rfl rfl)
theorem dX5_isName_8 : decode cX5_isName 8 = .ok (.getfield 24, 3) := dk_180 0 24 (dk_at dksX5_isName_0 8 rfl rfl)
theorem dX5_isName_11 : decode cX5_isName 11 = .ok (.aload_n 0, 1) := dk_42 (dk_at dksX5_isName_0 11 rfl rfl)
theorem dX5_isName_12 : decode cX5_isName 12 = .ok (.getfield 199, 3) := dk_180 0 199 (dk_at dksX5_isName_0 12 rfl rfl)
theorem dX5_isName_15 : decode cX5_isName 15 = .ok (.iaload, 1) := dk_46 (dk_at dksX5_isName_0 15 rfl rfl)
theorem dX5_isName_16 : decode cX5_isName 16 = .ok (.iconst 1, 1) := dk_4 (dk_at dksX5_isName_0 16 rfl rfl)
theorem dX5_isName_17 : decode cX5_isName 17 = .ok (.if_icmp .ne 17, 3) := dk_160 0 17 (dk_at dksX5_isName_0 17 rfl rfl)
theorem dX5_isName_20 : decode cX5_isName 20 = .ok (.aload_n 0, 1) := dk_42 (dk_at dksX5_isName_0 20 rfl rfl)
theorem dX5_isName_21 : decode cX5_isName 21 = .ok (.iconst 0, 1) := dk_3 (dk_at dksX5_isName_0 21 rfl rfl)
theorem dX5_isName_22 : decode cX5_isName 22 = .ok (.bipush 32, 2) := dk_16 32 (dk_at dksX5_isName_0 22 rfl rfl)
theorem dX5_isName_24 : decode cX5_isName 24 = .ok (.invokevirtual 224, 3) := dk_182 0 224 (dk_at dksX5_isName_1 0 rfl rfl)
theorem dX5_isName_27 : decode cX5_isName 27 = .ok (.ifCond .ge 7, 3) := dk_156 0 7 (dk_at dksX5_isName_1 3 rfl rfl)
theorem dX5_isName_30 : decode cX5_isName 30 = .ok (.iconst 1, 1) := dk_4 (dk_at dksX5_isName_1 6 rfl rfl)
theorem dX5_isName_31 : decode cX5_isName 31 = .ok (.goto 4, 3) := dk_167 0 4 (dk_at dksX5_isName_1 7 rfl rfl)
theorem dX5_isName_34 : decode cX5_isName 34 = .ok (.iconst 0, 1) := dk_3 (dk_at dksX5_isName_1 10 rfl rfl)
theorem dX5_isName_35 : decode cX5_isName 35 = .ok (.ireturn, 1) := dk_172 (dk_at dksX5_isName_1 11 rfl rfl)
abbrev cX5_wordHere : ByteArray := prog_26_method_21_code
def yX5_wordHere : MethodName := ⟨RX5, "wordHere", "(II)I"⟩
def dkwX5_wordHere_1 : List UInt8 := [167, 0, 4, 29, 62, 132, 4, 1, 167, 255, 229, 29, 172]
abbrev dktX5_wordHere_1 : List UInt8 := dkwX5_wordHere_1 ++ []
def dkwX5_wordHere_0 : List UInt8 := [2, 62, 3, 54, 4, 21, 4, 28, 162, 0, 27, 42, 27, 21, 4, 96, 182, 0, 211, 153, 0, 8, 21, 4]
abbrev dktX5_wordHere_0 : List UInt8 := dkwX5_wordHere_0 ++ dktX5_wordHere_1
theorem dksX5_wordHere_0 : cX5_wordHere.data.toList.drop 0 = dktX5_wordHere_0 := by decide +kernel
theorem dksX5_wordHere_1 : cX5_wordHere.data.toList.drop 24 = dktX5_wordHere_1 := dk_seg dksX5_wordHere_0 24 rfl rfl
theorem dX5_wordHere_0 : decode cX5_wordHere 0 = .ok (.iconst (-1), 1) := dk_2 (dk_at dksX5_wordHere_0 0 rfl rfl)
theorem dX5_wordHere_1 : decode cX5_wordHere 1 = .ok (.istore_n 3, 1) := dk_62 (dk_at dksX5_wordHere_0 1 rfl rfl)
theorem dX5_wordHere_2 : decode cX5_wordHere 2 = .ok (.iconst 0, 1) := dk_3 (dk_at dksX5_wordHere_0 2 rfl rfl)
theorem dX5_wordHere_3 : decode cX5_wordHere 3 = .ok (.istore 4, 2) := dk_54 4 (dk_at dksX5_wordHere_0 3 rfl rfl)
theorem dX5_wordHere_5 : decode cX5_wordHere 5 = .ok (.iload 4, 2) := dk_21 4 (dk_at dksX5_wordHere_0 5 rfl rfl)
theorem dX5_wordHere_7 : decode cX5_wordHere 7 = .ok (.iload_n 2, 1) := dk_28 (dk_at dksX5_wordHere_0 7 rfl rfl)
theorem dX5_wordHere_8 : decode cX5_wordHere 8 = .ok (.if_icmp .ge 27, 3) := dk_162 0 27 (dk_at dksX5_wordHere_0 8 rfl rfl)
theorem dX5_wordHere_11 : decode cX5_wordHere 11 = .ok (.aload_n 0, 1) := dk_42 (dk_at dksX5_wordHere_0 11 rfl rfl)
theorem dX5_wordHere_12 : decode cX5_wordHere 12 = .ok (.iload_n 1, 1) := dk_27 (dk_at dksX5_wordHere_0 12 rfl rfl)
theorem dX5_wordHere_13 : decode cX5_wordHere 13 = .ok (.iload 4, 2) := dk_21 4 (dk_at dksX5_wordHere_0 13 rfl rfl)
theorem dX5_wordHere_15 : decode cX5_wordHere 15 = .ok (.iadd, 1) := dk_96 (dk_at dksX5_wordHere_0 15 rfl rfl)
theorem dX5_wordHere_16 : decode cX5_wordHere 16 = .ok (.invokevirtual 211, 3) := dk_182 0 211 (dk_at dksX5_wordHere_0 16 rfl rfl)
theorem dX5_wordHere_19 : decode cX5_wordHere 19 = .ok (.ifCond .eq 8, 3) := dk_153 0 8 (dk_at dksX5_wordHere_0 19 rfl rfl)
theorem dX5_wordHere_22 : decode cX5_wordHere 22 = .ok (.iload 4, 2) := dk_21 4 (dk_at dksX5_wordHere_0 22 rfl rfl)
theorem dX5_wordHere_24 : decode cX5_wordHere 24 = .ok (.goto 4, 3) := dk_167 0 4 (dk_at dksX5_wordHere_1 0 rfl rfl)
theorem dX5_wordHere_27 : decode cX5_wordHere 27 = .ok (.iload_n 3, 1) := dk_29 (dk_at dksX5_wordHere_1 3 rfl rfl)
theorem dX5_wordHere_28 : decode cX5_wordHere 28 = .ok (.istore_n 3, 1) := dk_62 (dk_at dksX5_wordHere_1 4 rfl rfl)
theorem dX5_wordHere_29 : decode cX5_wordHere 29 = .ok (.iinc 4 1, 3) := dk_132 4 1 (dk_at dksX5_wordHere_1 5 rfl rfl)
theorem dX5_wordHere_32 : decode cX5_wordHere 32 = .ok (.goto (-27), 3) := dk_167 255 229 (dk_at dksX5_wordHere_1 8 rfl rfl)
theorem dX5_wordHere_35 : decode cX5_wordHere 35 = .ok (.iload_n 3, 1) := dk_29 (dk_at dksX5_wordHere_1 11 rfl rfl)
theorem dX5_wordHere_36 : decode cX5_wordHere 36 = .ok (.ireturn, 1) := dk_172 (dk_at dksX5_wordHere_1 12 rfl rfl)
abbrev cX5_find : ByteArray := prog_26_method_24_code
def yX5_find : MethodName := ⟨RX5, "find", "(Z)I"⟩
def dkwX5_find_3 : List UInt8 := [180, 0, 126, 28, 46, 172, 132, 2, 1, 167, 255, 182, 2, 172]
abbrev dktX5_find_3 : List UInt8 := dkwX5_find_3 ++ []
def dkwX5_find_2 : List UInt8 := [180, 0, 199, 47, 148, 154, 0, 23, 27, 153, 0, 12, 42, 180, 0, 129, 28, 46, 167, 0, 9, 42]
abbrev dktX5_find_2 : List UInt8 := dkwX5_find_2 ++ dktX5_find_3
def dkwX5_find_1 : List UInt8 := [153, 0, 12, 42, 180, 0, 123, 28, 47, 167, 0, 9, 42, 180, 0, 120, 28, 47, 42, 180, 0, 30, 42]
abbrev dktX5_find_1 : List UInt8 := dkwX5_find_1 ++ dktX5_find_2
def dkwX5_find_0 : List UInt8 := [3, 61, 28, 27, 153, 0, 10, 42, 180, 0, 227, 167, 0, 7, 42, 180, 0, 230, 162, 0, 61, 27]
abbrev dktX5_find_0 : List UInt8 := dkwX5_find_0 ++ dktX5_find_1
theorem dksX5_find_0 : cX5_find.data.toList.drop 0 = dktX5_find_0 := by decide +kernel
theorem dksX5_find_1 : cX5_find.data.toList.drop 22 = dktX5_find_1 := dk_seg dksX5_find_0 22 rfl rfl
theorem dksX5_find_2 : cX5_find.data.toList.drop 45 = dktX5_find_2 := dk_seg dksX5_find_1 23 rfl rfl
theorem dksX5_find_3 : cX5_find.data.toList.drop 67 = dktX5_find_3 := dk_seg dksX5_find_2 22 rfl rfl
theorem dX5_find_0 : decode cX5_find 0 = .ok (.iconst 0, 1) := dk_3 (dk_at dksX5_find_0 0 rfl rfl)
theorem dX5_find_1 : decode cX5_find 1 = .ok (.istore_n 2, 1) := dk_61 (dk_at dksX5_find_0 1 rfl rfl)
theorem dX5_find_2 : decode cX5_find 2 = .ok (.iload_n 2, 1) := dk_28 (dk_at dksX5_find_0 2 rfl rfl)
theorem dX5_find_3 : decode cX5_find 3 = .ok (.iload_n 1, 1) := dk_27 (dk_at dksX5_find_0 3 rfl rfl)
theorem dX5_find_4 : decode cX5_find 4 = .ok (.ifCond .eq 10, 3) := dk_153 0 10 (dk_at dksX5_find_0 4 rfl rfl)
theorem dX5_find_7 : decode cX5_find 7 = .ok (.aload_n 0, 1) := dk_42 (dk_at dksX5_find_0 7 rfl rfl)
theorem dX5_find_8 : decode cX5_find 8 = .ok (.getfield 227, 3) := dk_180 0 227 (dk_at dksX5_find_0 8 rfl rfl)
theorem dX5_find_11 : decode cX5_find 11 = .ok (.goto 7, 3) := dk_167 0 7 (dk_at dksX5_find_0 11 rfl rfl)
theorem dX5_find_14 : decode cX5_find 14 = .ok (.aload_n 0, 1) := dk_42 (dk_at dksX5_find_0 14 rfl rfl)
theorem dX5_find_15 : decode cX5_find 15 = .ok (.getfield 230, 3) := dk_180 0 230 (dk_at dksX5_find_0 15 rfl rfl)
theorem dX5_find_18 : decode cX5_find 18 = .ok (.if_icmp .ge 61, 3) := dk_162 0 61 (dk_at dksX5_find_0 18 rfl rfl)
theorem dX5_find_21 : decode cX5_find 21 = .ok (.iload_n 1, 1) := dk_27 (dk_at dksX5_find_0 21 rfl rfl)
theorem dX5_find_22 : decode cX5_find 22 = .ok (.ifCond .eq 12, 3) := dk_153 0 12 (dk_at dksX5_find_1 0 rfl rfl)
theorem dX5_find_25 : decode cX5_find 25 = .ok (.aload_n 0, 1) := dk_42 (dk_at dksX5_find_1 3 rfl rfl)
theorem dX5_find_26 : decode cX5_find 26 = .ok (.getfield 123, 3) := dk_180 0 123 (dk_at dksX5_find_1 4 rfl rfl)
theorem dX5_find_29 : decode cX5_find 29 = .ok (.iload_n 2, 1) := dk_28 (dk_at dksX5_find_1 7 rfl rfl)
theorem dX5_find_30 : decode cX5_find 30 = .ok (.laload, 1) := dk_47 (dk_at dksX5_find_1 8 rfl rfl)
theorem dX5_find_31 : decode cX5_find 31 = .ok (.goto 9, 3) := dk_167 0 9 (dk_at dksX5_find_1 9 rfl rfl)
theorem dX5_find_34 : decode cX5_find 34 = .ok (.aload_n 0, 1) := dk_42 (dk_at dksX5_find_1 12 rfl rfl)
theorem dX5_find_35 : decode cX5_find 35 = .ok (.getfield 120, 3) := dk_180 0 120 (dk_at dksX5_find_1 13 rfl rfl)
theorem dX5_find_38 : decode cX5_find 38 = .ok (.iload_n 2, 1) := dk_28 (dk_at dksX5_find_1 16 rfl rfl)
theorem dX5_find_39 : decode cX5_find 39 = .ok (.laload, 1) := dk_47 (dk_at dksX5_find_1 17 rfl rfl)
theorem dX5_find_40 : decode cX5_find 40 = .ok (.aload_n 0, 1) := dk_42 (dk_at dksX5_find_1 18 rfl rfl)
theorem dX5_find_41 : decode cX5_find 41 = .ok (.getfield 30, 3) := dk_180 0 30 (dk_at dksX5_find_1 19 rfl rfl)
theorem dX5_find_44 : decode cX5_find 44 = .ok (.aload_n 0, 1) := dk_42 (dk_at dksX5_find_1 22 rfl rfl)
theorem dX5_find_45 : decode cX5_find 45 = .ok (.getfield 199, 3) := dk_180 0 199 (dk_at dksX5_find_2 0 rfl rfl)
theorem dX5_find_48 : decode cX5_find 48 = .ok (.laload, 1) := dk_47 (dk_at dksX5_find_2 3 rfl rfl)
theorem dX5_find_49 : decode cX5_find 49 = .ok (.lcmp, 1) := dk_148 (dk_at dksX5_find_2 4 rfl rfl)
theorem dX5_find_50 : decode cX5_find 50 = .ok (.ifCond .ne 23, 3) := dk_154 0 23 (dk_at dksX5_find_2 5 rfl rfl)
theorem dX5_find_53 : decode cX5_find 53 = .ok (.iload_n 1, 1) := dk_27 (dk_at dksX5_find_2 8 rfl rfl)
theorem dX5_find_54 : decode cX5_find 54 = .ok (.ifCond .eq 12, 3) := dk_153 0 12 (dk_at dksX5_find_2 9 rfl rfl)
theorem dX5_find_57 : decode cX5_find 57 = .ok (.aload_n 0, 1) := dk_42 (dk_at dksX5_find_2 12 rfl rfl)
theorem dX5_find_58 : decode cX5_find 58 = .ok (.getfield 129, 3) := dk_180 0 129 (dk_at dksX5_find_2 13 rfl rfl)
theorem dX5_find_61 : decode cX5_find 61 = .ok (.iload_n 2, 1) := dk_28 (dk_at dksX5_find_2 16 rfl rfl)
theorem dX5_find_62 : decode cX5_find 62 = .ok (.iaload, 1) := dk_46 (dk_at dksX5_find_2 17 rfl rfl)
theorem dX5_find_63 : decode cX5_find 63 = .ok (.goto 9, 3) := dk_167 0 9 (dk_at dksX5_find_2 18 rfl rfl)
theorem dX5_find_66 : decode cX5_find 66 = .ok (.aload_n 0, 1) := dk_42 (dk_at dksX5_find_2 21 rfl rfl)
theorem dX5_find_67 : decode cX5_find 67 = .ok (.getfield 126, 3) := dk_180 0 126 (dk_at dksX5_find_3 0 rfl rfl)
theorem dX5_find_70 : decode cX5_find 70 = .ok (.iload_n 2, 1) := dk_28 (dk_at dksX5_find_3 3 rfl rfl)
theorem dX5_find_71 : decode cX5_find 71 = .ok (.iaload, 1) := dk_46 (dk_at dksX5_find_3 4 rfl rfl)
theorem dX5_find_72 : decode cX5_find 72 = .ok (.ireturn, 1) := dk_172 (dk_at dksX5_find_3 5 rfl rfl)
theorem dX5_find_73 : decode cX5_find 73 = .ok (.iinc 2 1, 3) := dk_132 2 1 (dk_at dksX5_find_3 6 rfl rfl)
theorem dX5_find_76 : decode cX5_find 76 = .ok (.goto (-74), 3) := dk_167 255 182 (dk_at dksX5_find_3 9 rfl rfl)
theorem dX5_find_79 : decode cX5_find 79 = .ok (.iconst (-1), 1) := dk_2 (dk_at dksX5_find_3 12 rfl rfl)
theorem dX5_find_80 : decode cX5_find 80 = .ok (.ireturn, 1) := dk_172 (dk_at dksX5_find_3 13 rfl rfl)
abbrev cX5_takeAfter : ByteArray := prog_26_method_20_code
def yX5_takeAfter : MethodName := ⟨RX5, "takeAfter", "(III)I"⟩
def dkwX5_takeAfter_0 : List UInt8 := [42, 27, 182, 0, 217, 42, 28, 29, 182, 0, 220, 172]
abbrev dktX5_takeAfter_0 : List UInt8 := dkwX5_takeAfter_0 ++ []
theorem dksX5_takeAfter_0 : cX5_takeAfter.data.toList.drop 0 = dktX5_takeAfter_0 := by decide +kernel
theorem dX5_takeAfter_0 : decode cX5_takeAfter 0 = .ok (.aload_n 0, 1) := dk_42 (dk_at dksX5_takeAfter_0 0 rfl rfl)
theorem dX5_takeAfter_1 : decode cX5_takeAfter 1 = .ok (.iload_n 1, 1) := dk_27 (dk_at dksX5_takeAfter_0 1 rfl rfl)
theorem dX5_takeAfter_2 : decode cX5_takeAfter 2 = .ok (.invokevirtual 217, 3) := dk_182 0 217 (dk_at dksX5_takeAfter_0 2 rfl rfl)
theorem dX5_takeAfter_5 : decode cX5_takeAfter 5 = .ok (.aload_n 0, 1) := dk_42 (dk_at dksX5_takeAfter_0 5 rfl rfl)
theorem dX5_takeAfter_6 : decode cX5_takeAfter 6 = .ok (.iload_n 2, 1) := dk_28 (dk_at dksX5_takeAfter_0 6 rfl rfl)
theorem dX5_takeAfter_7 : decode cX5_takeAfter 7 = .ok (.iload_n 3, 1) := dk_29 (dk_at dksX5_takeAfter_0 7 rfl rfl)
theorem dX5_takeAfter_8 : decode cX5_takeAfter 8 = .ok (.invokevirtual 220, 3) := dk_182 0 220 (dk_at dksX5_takeAfter_0 8 rfl rfl)
theorem dX5_takeAfter_11 : decode cX5_takeAfter 11 = .ok (.ireturn, 1) := dk_172 (dk_at dksX5_takeAfter_0 11 rfl rfl)
abbrev cX5_takeWord : ByteArray := prog_26_method_16_code
def yX5_takeWord : MethodName := ⟨RX5, "takeWord", "(I)V"⟩
def dkwX5_takeWord_0 : List UInt8 := [42, 27, 182, 0, 214, 154, 0, 8, 42, 4, 182, 0, 208, 177]
abbrev dktX5_takeWord_0 : List UInt8 := dkwX5_takeWord_0 ++ []
theorem dksX5_takeWord_0 : cX5_takeWord.data.toList.drop 0 = dktX5_takeWord_0 := by decide +kernel
theorem dX5_takeWord_0 : decode cX5_takeWord 0 = .ok (.aload_n 0, 1) := dk_42 (dk_at dksX5_takeWord_0 0 rfl rfl)
theorem dX5_takeWord_1 : decode cX5_takeWord 1 = .ok (.iload_n 1, 1) := dk_27 (dk_at dksX5_takeWord_0 1 rfl rfl)
theorem dX5_takeWord_2 : decode cX5_takeWord 2 = .ok (.invokevirtual 214, 3) := dk_182 0 214 (dk_at dksX5_takeWord_0 2 rfl rfl)
theorem dX5_takeWord_5 : decode cX5_takeWord 5 = .ok (.ifCond .ne 8, 3) := dk_154 0 8 (dk_at dksX5_takeWord_0 5 rfl rfl)
theorem dX5_takeWord_8 : decode cX5_takeWord 8 = .ok (.aload_n 0, 1) := dk_42 (dk_at dksX5_takeWord_0 8 rfl rfl)
theorem dX5_takeWord_9 : decode cX5_takeWord 9 = .ok (.iconst 1, 1) := dk_4 (dk_at dksX5_takeWord_0 9 rfl rfl)
theorem dX5_takeWord_10 : decode cX5_takeWord 10 = .ok (.invokevirtual 208, 3) := dk_182 0 208 (dk_at dksX5_takeWord_0 10 rfl rfl)
theorem dX5_takeWord_13 : decode cX5_takeWord 13 = .ok (.return_, 1) := dk_177 (dk_at dksX5_takeWord_0 13 rfl rfl)
abbrev cX5_hasWord : ByteArray := prog_26_method_15_code
def yX5_hasWord : MethodName := ⟨RX5, "hasWord", "(I)Z"⟩
def dkwX5_hasWord_1 : List UInt8 := [28, 172]
abbrev dktX5_hasWord_1 : List UInt8 := dkwX5_hasWord_1 ++ []
def dkwX5_hasWord_0 : List UInt8 := [42, 27, 182, 0, 211, 61, 42, 89, 180, 0, 199, 28, 153, 0, 7, 4, 167, 0, 4, 3, 96, 181, 0, 199]
abbrev dktX5_hasWord_0 : List UInt8 := dkwX5_hasWord_0 ++ dktX5_hasWord_1
theorem dksX5_hasWord_0 : cX5_hasWord.data.toList.drop 0 = dktX5_hasWord_0 := by decide +kernel
theorem dksX5_hasWord_1 : cX5_hasWord.data.toList.drop 24 = dktX5_hasWord_1 := dk_seg dksX5_hasWord_0 24 rfl rfl
theorem dX5_hasWord_0 : decode cX5_hasWord 0 = .ok (.aload_n 0, 1) := dk_42 (dk_at dksX5_hasWord_0 0 rfl rfl)
theorem dX5_hasWord_1 : decode cX5_hasWord 1 = .ok (.iload_n 1, 1) := dk_27 (dk_at dksX5_hasWord_0 1 rfl rfl)
theorem dX5_hasWord_2 : decode cX5_hasWord 2 = .ok (.invokevirtual 211, 3) := dk_182 0 211 (dk_at dksX5_hasWord_0 2 rfl rfl)
theorem dX5_hasWord_5 : decode cX5_hasWord 5 = .ok (.istore_n 2, 1) := dk_61 (dk_at dksX5_hasWord_0 5 rfl rfl)
theorem dX5_hasWord_6 : decode cX5_hasWord 6 = .ok (.aload_n 0, 1) := dk_42 (dk_at dksX5_hasWord_0 6 rfl rfl)
theorem dX5_hasWord_7 : decode cX5_hasWord 7 = .ok (.dup, 1) := dk_89 (dk_at dksX5_hasWord_0 7 rfl rfl)
theorem dX5_hasWord_8 : decode cX5_hasWord 8 = .ok (.getfield 199, 3) := dk_180 0 199 (dk_at dksX5_hasWord_0 8 rfl rfl)
theorem dX5_hasWord_11 : decode cX5_hasWord 11 = .ok (.iload_n 2, 1) := dk_28 (dk_at dksX5_hasWord_0 11 rfl rfl)
theorem dX5_hasWord_12 : decode cX5_hasWord 12 = .ok (.ifCond .eq 7, 3) := dk_153 0 7 (dk_at dksX5_hasWord_0 12 rfl rfl)
theorem dX5_hasWord_15 : decode cX5_hasWord 15 = .ok (.iconst 1, 1) := dk_4 (dk_at dksX5_hasWord_0 15 rfl rfl)
theorem dX5_hasWord_16 : decode cX5_hasWord 16 = .ok (.goto 4, 3) := dk_167 0 4 (dk_at dksX5_hasWord_0 16 rfl rfl)
theorem dX5_hasWord_19 : decode cX5_hasWord 19 = .ok (.iconst 0, 1) := dk_3 (dk_at dksX5_hasWord_0 19 rfl rfl)
theorem dX5_hasWord_20 : decode cX5_hasWord 20 = .ok (.iadd, 1) := dk_96 (dk_at dksX5_hasWord_0 20 rfl rfl)
theorem dX5_hasWord_21 : decode cX5_hasWord 21 = .ok (.putfield 199, 3) := dk_181 0 199 (dk_at dksX5_hasWord_0 21 rfl rfl)
theorem dX5_hasWord_24 : decode cX5_hasWord 24 = .ok (.iload_n 2, 1) := dk_28 (dk_at dksX5_hasWord_1 0 rfl rfl)
theorem dX5_hasWord_25 : decode cX5_hasWord 25 = .ok (.ireturn, 1) := dk_172 (dk_at dksX5_hasWord_1 1 rfl rfl)
abbrev cX5_takeNumber : ByteArray := prog_26_method_19_code
def yX5_takeNumber : MethodName := ⟨RX5, "takeNumber", "(II)I"⟩
def dkwX5_takeNumber_4 : List UInt8 := [180, 0, 199, 4, 100, 47, 136, 172]
abbrev dktX5_takeNumber_4 : List UInt8 := dkwX5_takeNumber_4 ++ []
def dkwX5_takeNumber_3 : List UInt8 := [42, 180, 0, 202, 158, 0, 5, 3, 172, 42, 89, 180, 0, 199, 4, 96, 181, 0, 199, 42, 180, 0, 30, 42]
abbrev dktX5_takeNumber_3 : List UInt8 := dkwX5_takeNumber_3 ++ dktX5_takeNumber_4
def dkwX5_takeNumber_2 : List UInt8 := [148, 155, 0, 18, 42, 180, 0, 30, 42, 180, 0, 199, 47, 28, 133, 148, 158, 0, 8, 42, 7, 182, 0, 208]
abbrev dktX5_takeNumber_2 : List UInt8 := dkwX5_takeNumber_2 ++ dktX5_takeNumber_3
def dkwX5_takeNumber_1 : List UInt8 := [182, 0, 208, 167, 0, 45, 42, 180, 0, 202, 154, 0, 38, 42, 180, 0, 30, 42, 180, 0, 199, 47, 27, 133]
abbrev dktX5_takeNumber_1 : List UInt8 := dkwX5_takeNumber_1 ++ dktX5_takeNumber_2
def dkwX5_takeNumber_0 : List UInt8 := [42, 180, 0, 202, 154, 0, 24, 42, 180, 0, 24, 42, 180, 0, 199, 46, 5, 159, 0, 11, 42, 4]
abbrev dktX5_takeNumber_0 : List UInt8 := dkwX5_takeNumber_0 ++ dktX5_takeNumber_1
theorem dksX5_takeNumber_0 : cX5_takeNumber.data.toList.drop 0 = dktX5_takeNumber_0 := by decide +kernel
theorem dksX5_takeNumber_1 : cX5_takeNumber.data.toList.drop 22 = dktX5_takeNumber_1 := dk_seg dksX5_takeNumber_0 22 rfl rfl
theorem dksX5_takeNumber_2 : cX5_takeNumber.data.toList.drop 46 = dktX5_takeNumber_2 := dk_seg dksX5_takeNumber_1 24 rfl rfl
theorem dksX5_takeNumber_3 : cX5_takeNumber.data.toList.drop 70 = dktX5_takeNumber_3 := dk_seg dksX5_takeNumber_2 24 rfl rfl
theorem dksX5_takeNumber_4 : cX5_takeNumber.data.toList.drop 94 = dktX5_takeNumber_4 := dk_seg dksX5_takeNumber_3 24 rfl rfl
theorem dX5_takeNumber_0 : decode cX5_takeNumber 0 = .ok (.aload_n 0, 1) := dk_42 (dk_at dksX5_takeNumber_0 0 rfl rfl)
theorem dX5_takeNumber_1 : decode cX5_takeNumber 1 = .ok (.getfield 202, 3) := dk_180 0 202 (dk_at dksX5_takeNumber_0 1 rfl rfl)
theorem dX5_takeNumber_4 : decode cX5_takeNumber 4 = .ok (.ifCond .ne 24, 3) := dk_154 0 24 (dk_at dksX5_takeNumber_0 4 rfl rfl)
theorem dX5_takeNumber_7 : decode cX5_takeNumber 7 = .ok (.aload_n 0, 1) := dk_42 (dk_at dksX5_takeNumber_0 7 rfl rfl)
theorem dX5_takeNumber_8 : decode cX5_takeNumber 8 = .ok (.getfield 24, 3) := dk_180 0 24 (dk_at dksX5_takeNumber_0 8 rfl rfl)
theorem dX5_takeNumber_11 : decode cX5_takeNumber 11 = .ok (.aload_n 0, 1) := dk_42 (dk_at dksX5_takeNumber_0 11 rfl rfl)
theorem dX5_takeNumber_12 : decode cX5_takeNumber 12 = .ok (.getfield 199, 3) := dk_180 0 199 (dk_at dksX5_takeNumber_0 12 rfl rfl)
theorem dX5_takeNumber_15 : decode cX5_takeNumber 15 = .ok (.iaload, 1) := dk_46 (dk_at dksX5_takeNumber_0 15 rfl rfl)
theorem dX5_takeNumber_16 : decode cX5_takeNumber 16 = .ok (.iconst 2, 1) := dk_5 (dk_at dksX5_takeNumber_0 16 rfl rfl)
theorem dX5_takeNumber_17 : decode cX5_takeNumber 17 = .ok (.if_icmp .eq 11, 3) := dk_159 0 11 (dk_at dksX5_takeNumber_0 17 rfl rfl)
theorem dX5_takeNumber_20 : decode cX5_takeNumber 20 = .ok (.aload_n 0, 1) := dk_42 (dk_at dksX5_takeNumber_0 20 rfl rfl)
theorem dX5_takeNumber_21 : decode cX5_takeNumber 21 = .ok (.iconst 1, 1) := dk_4 (dk_at dksX5_takeNumber_0 21 rfl rfl)
theorem dX5_takeNumber_22 : decode cX5_takeNumber 22 = .ok (.invokevirtual 208, 3) := dk_182 0 208 (dk_at dksX5_takeNumber_1 0 rfl rfl)
theorem dX5_takeNumber_25 : decode cX5_takeNumber 25 = .ok (.goto 45, 3) := dk_167 0 45 (dk_at dksX5_takeNumber_1 3 rfl rfl)
theorem dX5_takeNumber_28 : decode cX5_takeNumber 28 = .ok (.aload_n 0, 1) := dk_42 (dk_at dksX5_takeNumber_1 6 rfl rfl)
theorem dX5_takeNumber_29 : decode cX5_takeNumber 29 = .ok (.getfield 202, 3) := dk_180 0 202 (dk_at dksX5_takeNumber_1 7 rfl rfl)
theorem dX5_takeNumber_32 : decode cX5_takeNumber 32 = .ok (.ifCond .ne 38, 3) := dk_154 0 38 (dk_at dksX5_takeNumber_1 10 rfl rfl)
theorem dX5_takeNumber_35 : decode cX5_takeNumber 35 = .ok (.aload_n 0, 1) := dk_42 (dk_at dksX5_takeNumber_1 13 rfl rfl)
theorem dX5_takeNumber_36 : decode cX5_takeNumber 36 = .ok (.getfield 30, 3) := dk_180 0 30 (dk_at dksX5_takeNumber_1 14 rfl rfl)
theorem dX5_takeNumber_39 : decode cX5_takeNumber 39 = .ok (.aload_n 0, 1) := dk_42 (dk_at dksX5_takeNumber_1 17 rfl rfl)
theorem dX5_takeNumber_40 : decode cX5_takeNumber 40 = .ok (.getfield 199, 3) := dk_180 0 199 (dk_at dksX5_takeNumber_1 18 rfl rfl)
theorem dX5_takeNumber_43 : decode cX5_takeNumber 43 = .ok (.laload, 1) := dk_47 (dk_at dksX5_takeNumber_1 21 rfl rfl)
theorem dX5_takeNumber_44 : decode cX5_takeNumber 44 = .ok (.iload_n 1, 1) := dk_27 (dk_at dksX5_takeNumber_1 22 rfl rfl)
theorem dX5_takeNumber_45 : decode cX5_takeNumber 45 = .ok (.i2l, 1) := dk_133 (dk_at dksX5_takeNumber_1 23 rfl rfl)
theorem dX5_takeNumber_46 : decode cX5_takeNumber 46 = .ok (.lcmp, 1) := dk_148 (dk_at dksX5_takeNumber_2 0 rfl rfl)
theorem dX5_takeNumber_47 : decode cX5_takeNumber 47 = .ok (.ifCond .lt 18, 3) := dk_155 0 18 (dk_at dksX5_takeNumber_2 1 rfl rfl)
theorem dX5_takeNumber_50 : decode cX5_takeNumber 50 = .ok (.aload_n 0, 1) := dk_42 (dk_at dksX5_takeNumber_2 4 rfl rfl)
theorem dX5_takeNumber_51 : decode cX5_takeNumber 51 = .ok (.getfield 30, 3) := dk_180 0 30 (dk_at dksX5_takeNumber_2 5 rfl rfl)
theorem dX5_takeNumber_54 : decode cX5_takeNumber 54 = .ok (.aload_n 0, 1) := dk_42 (dk_at dksX5_takeNumber_2 8 rfl rfl)
theorem dX5_takeNumber_55 : decode cX5_takeNumber 55 = .ok (.getfield 199, 3) := dk_180 0 199 (dk_at dksX5_takeNumber_2 9 rfl rfl)
theorem dX5_takeNumber_58 : decode cX5_takeNumber 58 = .ok (.laload, 1) := dk_47 (dk_at dksX5_takeNumber_2 12 rfl rfl)
theorem dX5_takeNumber_59 : decode cX5_takeNumber 59 = .ok (.iload_n 2, 1) := dk_28 (dk_at dksX5_takeNumber_2 13 rfl rfl)
theorem dX5_takeNumber_60 : decode cX5_takeNumber 60 = .ok (.i2l, 1) := dk_133 (dk_at dksX5_takeNumber_2 14 rfl rfl)
theorem dX5_takeNumber_61 : decode cX5_takeNumber 61 = .ok (.lcmp, 1) := dk_148 (dk_at dksX5_takeNumber_2 15 rfl rfl)
theorem dX5_takeNumber_62 : decode cX5_takeNumber 62 = .ok (.ifCond .le 8, 3) := dk_158 0 8 (dk_at dksX5_takeNumber_2 16 rfl rfl)
theorem dX5_takeNumber_65 : decode cX5_takeNumber 65 = .ok (.aload_n 0, 1) := dk_42 (dk_at dksX5_takeNumber_2 19 rfl rfl)
theorem dX5_takeNumber_66 : decode cX5_takeNumber 66 = .ok (.iconst 4, 1) := dk_7 (dk_at dksX5_takeNumber_2 20 rfl rfl)
theorem dX5_takeNumber_67 : decode cX5_takeNumber 67 = .ok (.invokevirtual 208, 3) := dk_182 0 208 (dk_at dksX5_takeNumber_2 21 rfl rfl)
theorem dX5_takeNumber_70 : decode cX5_takeNumber 70 = .ok (.aload_n 0, 1) := dk_42 (dk_at dksX5_takeNumber_3 0 rfl rfl)
theorem dX5_takeNumber_71 : decode cX5_takeNumber 71 = .ok (.getfield 202, 3) := dk_180 0 202 (dk_at dksX5_takeNumber_3 1 rfl rfl)
theorem dX5_takeNumber_74 : decode cX5_takeNumber 74 = .ok (.ifCond .le 5, 3) := dk_158 0 5 (dk_at dksX5_takeNumber_3 4 rfl rfl)
theorem dX5_takeNumber_77 : decode cX5_takeNumber 77 = .ok (.iconst 0, 1) := dk_3 (dk_at dksX5_takeNumber_3 7 rfl rfl)
theorem dX5_takeNumber_78 : decode cX5_takeNumber 78 = .ok (.ireturn, 1) := dk_172 (dk_at dksX5_takeNumber_3 8 rfl rfl)
theorem dX5_takeNumber_79 : decode cX5_takeNumber 79 = .ok (.aload_n 0, 1) := dk_42 (dk_at dksX5_takeNumber_3 9 rfl rfl)
theorem dX5_takeNumber_80 : decode cX5_takeNumber 80 = .ok (.dup, 1) := dk_89 (dk_at dksX5_takeNumber_3 10 rfl rfl)
theorem dX5_takeNumber_81 : decode cX5_takeNumber 81 = .ok (.getfield 199, 3) := dk_180 0 199 (dk_at dksX5_takeNumber_3 11 rfl rfl)
theorem dX5_takeNumber_84 : decode cX5_takeNumber 84 = .ok (.iconst 1, 1) := dk_4 (dk_at dksX5_takeNumber_3 14 rfl rfl)
theorem dX5_takeNumber_85 : decode cX5_takeNumber 85 = .ok (.iadd, 1) := dk_96 (dk_at dksX5_takeNumber_3 15 rfl rfl)
theorem dX5_takeNumber_86 : decode cX5_takeNumber 86 = .ok (.putfield 199, 3) := dk_181 0 199 (dk_at dksX5_takeNumber_3 16 rfl rfl)
theorem dX5_takeNumber_89 : decode cX5_takeNumber 89 = .ok (.aload_n 0, 1) := dk_42 (dk_at dksX5_takeNumber_3 19 rfl rfl)
theorem dX5_takeNumber_90 : decode cX5_takeNumber 90 = .ok (.getfield 30, 3) := dk_180 0 30 (dk_at dksX5_takeNumber_3 20 rfl rfl)
theorem dX5_takeNumber_93 : decode cX5_takeNumber 93 = .ok (.aload_n 0, 1) := dk_42 (dk_at dksX5_takeNumber_3 23 rfl rfl)
theorem dX5_takeNumber_94 : decode cX5_takeNumber 94 = .ok (.getfield 199, 3) := dk_180 0 199 (dk_at dksX5_takeNumber_4 0 rfl rfl)
theorem dX5_takeNumber_97 : decode cX5_takeNumber 97 = .ok (.iconst 1, 1) := dk_4 (dk_at dksX5_takeNumber_4 3 rfl rfl)
theorem dX5_takeNumber_98 : decode cX5_takeNumber 98 = .ok (.isub, 1) := dk_100 (dk_at dksX5_takeNumber_4 4 rfl rfl)
theorem dX5_takeNumber_99 : decode cX5_takeNumber 99 = .ok (.laload, 1) := dk_47 (dk_at dksX5_takeNumber_4 5 rfl rfl)
theorem dX5_takeNumber_100 : decode cX5_takeNumber 100 = .ok (.l2i, 1) := dk_136 (dk_at dksX5_takeNumber_4 6 rfl rfl)
theorem dX5_takeNumber_101 : decode cX5_takeNumber 101 = .ok (.ireturn, 1) := dk_172 (dk_at dksX5_takeNumber_4 7 rfl rfl)
abbrev cX5_readTenant : ByteArray := prog_26_method_31_code
def yX5_readTenant : MethodName := ⟨RX5, "readTenant", "()V"⟩
def dkwX5_readTenant_9 : List UInt8 := [46, 4, 96, 79, 177]
abbrev dktX5_readTenant_9 : List UInt8 := dkwX5_readTenant_9 ++ []
def dkwX5_readTenant_8 : List UInt8 := [167, 0, 4, 4, 96, 181, 0, 199, 42, 180, 0, 111, 28, 7, 96, 29, 79, 42, 180, 0, 111, 16, 121, 92]
abbrev dktX5_readTenant_8 : List UInt8 := dkwX5_readTenant_8 ++ dktX5_readTenant_9
def dkwX5_readTenant_7 : List UInt8 := [182, 0, 208, 132, 4, 1, 167, 255, 216, 42, 89, 180, 0, 199, 42, 180, 0, 202, 158, 0, 7, 3]
abbrev dktX5_readTenant_7 : List UInt8 := dkwX5_readTenant_7 ++ dktX5_readTenant_8
def dkwX5_readTenant_6 : List UInt8 := [154, 0, 33, 42, 180, 0, 111, 17, 0, 146, 8, 21, 4, 104, 96, 7, 96, 46, 29, 160, 0, 8, 42, 6]
abbrev dktX5_readTenant_6 : List UInt8 := dkwX5_readTenant_6 ++ dktX5_readTenant_7
def dkwX5_readTenant_5 : List UInt8 := [153, 0, 86, 42, 4, 3, 182, 0, 245, 62, 3, 54, 4, 21, 4, 27, 162, 0, 40, 42, 180, 0, 202]
abbrev dktX5_readTenant_5 : List UInt8 := dkwX5_readTenant_5 ++ dktX5_readTenant_6
def dkwX5_readTenant_4 : List UInt8 := [17, 39, 15, 182, 1, 26, 79, 42, 180, 0, 111, 28, 7, 96, 2, 79, 42, 16, 8, 182, 0, 214]
abbrev dktX5_readTenant_4 : List UInt8 := dkwX5_readTenant_4 ++ dktX5_readTenant_5
def dkwX5_readTenant_3 : List UInt8 := [96, 42, 16, 6, 3, 16, 40, 182, 1, 26, 79, 42, 180, 0, 111, 28, 6, 96, 42, 16, 7, 3]
abbrev dktX5_readTenant_3 : List UInt8 := dkwX5_readTenant_3 ++ dktX5_readTenant_4
def dkwX5_readTenant_2 : List UInt8 := [79, 42, 180, 0, 111, 28, 4, 96, 42, 8, 16, 40, 16, 99, 182, 1, 26, 79, 42, 180, 0, 111, 28, 5]
abbrev dktX5_readTenant_2 : List UInt8 := dkwX5_readTenant_2 ++ dktX5_readTenant_3
def dkwX5_readTenant_1 : List UInt8 := [96, 182, 1, 23, 17, 0, 146, 8, 27, 104, 96, 61, 42, 180, 0, 111, 28, 42, 16, 25, 7, 182, 1, 30]
abbrev dktX5_readTenant_1 : List UInt8 := dkwX5_readTenant_1 ++ dktX5_readTenant_2
def dkwX5_readTenant_0 : List UInt8 := [42, 180, 0, 111, 16, 121, 46, 60, 27, 16, 6, 160, 0, 9, 42, 8, 182, 0, 208, 177, 42, 16, 20, 27]
abbrev dktX5_readTenant_0 : List UInt8 := dkwX5_readTenant_0 ++ dktX5_readTenant_1
theorem dksX5_readTenant_0 : cX5_readTenant.data.toList.drop 0 = dktX5_readTenant_0 := by decide +kernel
theorem dksX5_readTenant_1 : cX5_readTenant.data.toList.drop 24 = dktX5_readTenant_1 := dk_seg dksX5_readTenant_0 24 rfl rfl
theorem dksX5_readTenant_2 : cX5_readTenant.data.toList.drop 48 = dktX5_readTenant_2 := dk_seg dksX5_readTenant_1 24 rfl rfl
theorem dksX5_readTenant_3 : cX5_readTenant.data.toList.drop 72 = dktX5_readTenant_3 := dk_seg dksX5_readTenant_2 24 rfl rfl
theorem dksX5_readTenant_4 : cX5_readTenant.data.toList.drop 94 = dktX5_readTenant_4 := dk_seg dksX5_readTenant_3 22 rfl rfl
theorem dksX5_readTenant_5 : cX5_readTenant.data.toList.drop 116 = dktX5_readTenant_5 := dk_seg dksX5_readTenant_4 22 rfl rfl
theorem dksX5_readTenant_6 : cX5_readTenant.data.toList.drop 139 = dktX5_readTenant_6 := dk_seg dksX5_readTenant_5 23 rfl rfl
theorem dksX5_readTenant_7 : cX5_readTenant.data.toList.drop 163 = dktX5_readTenant_7 := dk_seg dksX5_readTenant_6 24 rfl rfl
theorem dksX5_readTenant_8 : cX5_readTenant.data.toList.drop 185 = dktX5_readTenant_8 := dk_seg dksX5_readTenant_7 22 rfl rfl
theorem dksX5_readTenant_9 : cX5_readTenant.data.toList.drop 209 = dktX5_readTenant_9 := dk_seg dksX5_readTenant_8 24 rfl rfl
theorem dX5_readTenant_0 : decode cX5_readTenant 0 = .ok (.aload_n 0, 1) := dk_42 (dk_at dksX5_readTenant_0 0 rfl rfl)
theorem dX5_readTenant_1 : decode cX5_readTenant 1 = .ok (.getfield 111, 3) := dk_180 0 111 (dk_at dksX5_readTenant_0 1 rfl rfl)
theorem dX5_readTenant_4 : decode cX5_readTenant 4 = .ok (.bipush 121, 2) := dk_16 121 (dk_at dksX5_readTenant_0 4 rfl rfl)
theorem dX5_readTenant_6 : decode cX5_readTenant 6 = .ok (.iaload, 1) := dk_46 (dk_at dksX5_readTenant_0 6 rfl rfl)
theorem dX5_readTenant_7 : decode cX5_readTenant 7 = .ok (.istore_n 1, 1) := dk_60 (dk_at dksX5_readTenant_0 7 rfl rfl)
theorem dX5_readTenant_8 : decode cX5_readTenant 8 = .ok (.iload_n 1, 1) := dk_27 (dk_at dksX5_readTenant_0 8 rfl rfl)
theorem dX5_readTenant_9 : decode cX5_readTenant 9 = .ok (.bipush 6, 2) := dk_16 6 (dk_at dksX5_readTenant_0 9 rfl rfl)
theorem dX5_readTenant_11 : decode cX5_readTenant 11 = .ok (.if_icmp .ne 9, 3) := dk_160 0 9 (dk_at dksX5_readTenant_0 11 rfl rfl)
theorem dX5_readTenant_14 : decode cX5_readTenant 14 = .ok (.aload_n 0, 1) := dk_42 (dk_at dksX5_readTenant_0 14 rfl rfl)
theorem dX5_readTenant_15 : decode cX5_readTenant 15 = .ok (.iconst 5, 1) := dk_8 (dk_at dksX5_readTenant_0 15 rfl rfl)
theorem dX5_readTenant_16 : decode cX5_readTenant 16 = .ok (.invokevirtual 208, 3) := dk_182 0 208 (dk_at dksX5_readTenant_0 16 rfl rfl)
theorem dX5_readTenant_19 : decode cX5_readTenant 19 = .ok (.return_, 1) := dk_177 (dk_at dksX5_readTenant_0 19 rfl rfl)
theorem dX5_readTenant_20 : decode cX5_readTenant 20 = .ok (.aload_n 0, 1) := dk_42 (dk_at dksX5_readTenant_0 20 rfl rfl)
theorem dX5_readTenant_21 : decode cX5_readTenant 21 = .ok (.bipush 20, 2) := dk_16 20 (dk_at dksX5_readTenant_0 21 rfl rfl)
theorem dX5_readTenant_23 : decode cX5_readTenant 23 = .ok (.iload_n 1, 1) := dk_27 (dk_at dksX5_readTenant_0 23 rfl rfl)
theorem dX5_readTenant_24 : decode cX5_readTenant 24 = .ok (.iadd, 1) := dk_96 (dk_at dksX5_readTenant_1 0 rfl rfl)
theorem dX5_readTenant_25 : decode cX5_readTenant 25 = .ok (.invokevirtual 279, 3) := dk_182 1 23 (dk_at dksX5_readTenant_1 1 rfl rfl)
theorem dX5_readTenant_28 : decode cX5_readTenant 28 = .ok (.sipush 146, 3) := dk_17 0 146 (dk_at dksX5_readTenant_1 4 rfl rfl)
theorem dX5_readTenant_31 : decode cX5_readTenant 31 = .ok (.iconst 5, 1) := dk_8 (dk_at dksX5_readTenant_1 7 rfl rfl)
theorem dX5_readTenant_32 : decode cX5_readTenant 32 = .ok (.iload_n 1, 1) := dk_27 (dk_at dksX5_readTenant_1 8 rfl rfl)
theorem dX5_readTenant_33 : decode cX5_readTenant 33 = .ok (.imul, 1) := dk_104 (dk_at dksX5_readTenant_1 9 rfl rfl)
theorem dX5_readTenant_34 : decode cX5_readTenant 34 = .ok (.iadd, 1) := dk_96 (dk_at dksX5_readTenant_1 10 rfl rfl)
theorem dX5_readTenant_35 : decode cX5_readTenant 35 = .ok (.istore_n 2, 1) := dk_61 (dk_at dksX5_readTenant_1 11 rfl rfl)
theorem dX5_readTenant_36 : decode cX5_readTenant 36 = .ok (.aload_n 0, 1) := dk_42 (dk_at dksX5_readTenant_1 12 rfl rfl)
theorem dX5_readTenant_37 : decode cX5_readTenant 37 = .ok (.getfield 111, 3) := dk_180 0 111 (dk_at dksX5_readTenant_1 13 rfl rfl)
theorem dX5_readTenant_40 : decode cX5_readTenant 40 = .ok (.iload_n 2, 1) := dk_28 (dk_at dksX5_readTenant_1 16 rfl rfl)
theorem dX5_readTenant_41 : decode cX5_readTenant 41 = .ok (.aload_n 0, 1) := dk_42 (dk_at dksX5_readTenant_1 17 rfl rfl)
theorem dX5_readTenant_42 : decode cX5_readTenant 42 = .ok (.bipush 25, 2) := dk_16 25 (dk_at dksX5_readTenant_1 18 rfl rfl)
theorem dX5_readTenant_44 : decode cX5_readTenant 44 = .ok (.iconst 4, 1) := dk_7 (dk_at dksX5_readTenant_1 20 rfl rfl)
theorem dX5_readTenant_45 : decode cX5_readTenant 45 = .ok (.invokevirtual 286, 3) := dk_182 1 30 (dk_at dksX5_readTenant_1 21 rfl rfl)
theorem dX5_readTenant_48 : decode cX5_readTenant 48 = .ok (.iastore, 1) := dk_79 (dk_at dksX5_readTenant_2 0 rfl rfl)
theorem dX5_readTenant_49 : decode cX5_readTenant 49 = .ok (.aload_n 0, 1) := dk_42 (dk_at dksX5_readTenant_2 1 rfl rfl)
theorem dX5_readTenant_50 : decode cX5_readTenant 50 = .ok (.getfield 111, 3) := dk_180 0 111 (dk_at dksX5_readTenant_2 2 rfl rfl)
theorem dX5_readTenant_53 : decode cX5_readTenant 53 = .ok (.iload_n 2, 1) := dk_28 (dk_at dksX5_readTenant_2 5 rfl rfl)
theorem dX5_readTenant_54 : decode cX5_readTenant 54 = .ok (.iconst 1, 1) := dk_4 (dk_at dksX5_readTenant_2 6 rfl rfl)
theorem dX5_readTenant_55 : decode cX5_readTenant 55 = .ok (.iadd, 1) := dk_96 (dk_at dksX5_readTenant_2 7 rfl rfl)
theorem dX5_readTenant_56 : decode cX5_readTenant 56 = .ok (.aload_n 0, 1) := dk_42 (dk_at dksX5_readTenant_2 8 rfl rfl)
theorem dX5_readTenant_57 : decode cX5_readTenant 57 = .ok (.iconst 5, 1) := dk_8 (dk_at dksX5_readTenant_2 9 rfl rfl)
theorem dX5_readTenant_58 : decode cX5_readTenant 58 = .ok (.bipush 40, 2) := dk_16 40 (dk_at dksX5_readTenant_2 10 rfl rfl)
theorem dX5_readTenant_60 : decode cX5_readTenant 60 = .ok (.bipush 99, 2) := dk_16 99 (dk_at dksX5_readTenant_2 12 rfl rfl)
theorem dX5_readTenant_62 : decode cX5_readTenant 62 = .ok (.invokevirtual 282, 3) := dk_182 1 26 (dk_at dksX5_readTenant_2 14 rfl rfl)
theorem dX5_readTenant_65 : decode cX5_readTenant 65 = .ok (.iastore, 1) := dk_79 (dk_at dksX5_readTenant_2 17 rfl rfl)
theorem dX5_readTenant_66 : decode cX5_readTenant 66 = .ok (.aload_n 0, 1) := dk_42 (dk_at dksX5_readTenant_2 18 rfl rfl)
theorem dX5_readTenant_67 : decode cX5_readTenant 67 = .ok (.getfield 111, 3) := dk_180 0 111 (dk_at dksX5_readTenant_2 19 rfl rfl)
theorem dX5_readTenant_70 : decode cX5_readTenant 70 = .ok (.iload_n 2, 1) := dk_28 (dk_at dksX5_readTenant_2 22 rfl rfl)
theorem dX5_readTenant_71 : decode cX5_readTenant 71 = .ok (.iconst 2, 1) := dk_5 (dk_at dksX5_readTenant_2 23 rfl rfl)
theorem dX5_readTenant_72 : decode cX5_readTenant 72 = .ok (.iadd, 1) := dk_96 (dk_at dksX5_readTenant_3 0 rfl rfl)
theorem dX5_readTenant_73 : decode cX5_readTenant 73 = .ok (.aload_n 0, 1) := dk_42 (dk_at dksX5_readTenant_3 1 rfl rfl)
theorem dX5_readTenant_74 : decode cX5_readTenant 74 = .ok (.bipush 6, 2) := dk_16 6 (dk_at dksX5_readTenant_3 2 rfl rfl)
theorem dX5_readTenant_76 : decode cX5_readTenant 76 = .ok (.iconst 0, 1) := dk_3 (dk_at dksX5_readTenant_3 4 rfl rfl)
theorem dX5_readTenant_77 : decode cX5_readTenant 77 = .ok (.bipush 40, 2) := dk_16 40 (dk_at dksX5_readTenant_3 5 rfl rfl)
theorem dX5_readTenant_79 : decode cX5_readTenant 79 = .ok (.invokevirtual 282, 3) := dk_182 1 26 (dk_at dksX5_readTenant_3 7 rfl rfl)
theorem dX5_readTenant_82 : decode cX5_readTenant 82 = .ok (.iastore, 1) := dk_79 (dk_at dksX5_readTenant_3 10 rfl rfl)
theorem dX5_readTenant_83 : decode cX5_readTenant 83 = .ok (.aload_n 0, 1) := dk_42 (dk_at dksX5_readTenant_3 11 rfl rfl)
theorem dX5_readTenant_84 : decode cX5_readTenant 84 = .ok (.getfield 111, 3) := dk_180 0 111 (dk_at dksX5_readTenant_3 12 rfl rfl)
theorem dX5_readTenant_87 : decode cX5_readTenant 87 = .ok (.iload_n 2, 1) := dk_28 (dk_at dksX5_readTenant_3 15 rfl rfl)
theorem dX5_readTenant_88 : decode cX5_readTenant 88 = .ok (.iconst 3, 1) := dk_6 (dk_at dksX5_readTenant_3 16 rfl rfl)
theorem dX5_readTenant_89 : decode cX5_readTenant 89 = .ok (.iadd, 1) := dk_96 (dk_at dksX5_readTenant_3 17 rfl rfl)
theorem dX5_readTenant_90 : decode cX5_readTenant 90 = .ok (.aload_n 0, 1) := dk_42 (dk_at dksX5_readTenant_3 18 rfl rfl)
theorem dX5_readTenant_91 : decode cX5_readTenant 91 = .ok (.bipush 7, 2) := dk_16 7 (dk_at dksX5_readTenant_3 19 rfl rfl)
theorem dX5_readTenant_93 : decode cX5_readTenant 93 = .ok (.iconst 0, 1) := dk_3 (dk_at dksX5_readTenant_3 21 rfl rfl)
theorem dX5_readTenant_94 : decode cX5_readTenant 94 = .ok (.sipush 9999, 3) := dk_17 39 15 (dk_at dksX5_readTenant_4 0 rfl rfl)
theorem dX5_readTenant_97 : decode cX5_readTenant 97 = .ok (.invokevirtual 282, 3) := dk_182 1 26 (dk_at dksX5_readTenant_4 3 rfl rfl)
theorem dX5_readTenant_100 : decode cX5_readTenant 100 = .ok (.iastore, 1) := dk_79 (dk_at dksX5_readTenant_4 6 rfl rfl)
theorem dX5_readTenant_101 : decode cX5_readTenant 101 = .ok (.aload_n 0, 1) := dk_42 (dk_at dksX5_readTenant_4 7 rfl rfl)
theorem dX5_readTenant_102 : decode cX5_readTenant 102 = .ok (.getfield 111, 3) := dk_180 0 111 (dk_at dksX5_readTenant_4 8 rfl rfl)
theorem dX5_readTenant_105 : decode cX5_readTenant 105 = .ok (.iload_n 2, 1) := dk_28 (dk_at dksX5_readTenant_4 11 rfl rfl)
theorem dX5_readTenant_106 : decode cX5_readTenant 106 = .ok (.iconst 4, 1) := dk_7 (dk_at dksX5_readTenant_4 12 rfl rfl)
theorem dX5_readTenant_107 : decode cX5_readTenant 107 = .ok (.iadd, 1) := dk_96 (dk_at dksX5_readTenant_4 13 rfl rfl)
theorem dX5_readTenant_108 : decode cX5_readTenant 108 = .ok (.iconst (-1), 1) := dk_2 (dk_at dksX5_readTenant_4 14 rfl rfl)
theorem dX5_readTenant_109 : decode cX5_readTenant 109 = .ok (.iastore, 1) := dk_79 (dk_at dksX5_readTenant_4 15 rfl rfl)
theorem dX5_readTenant_110 : decode cX5_readTenant 110 = .ok (.aload_n 0, 1) := dk_42 (dk_at dksX5_readTenant_4 16 rfl rfl)
theorem dX5_readTenant_111 : decode cX5_readTenant 111 = .ok (.bipush 8, 2) := dk_16 8 (dk_at dksX5_readTenant_4 17 rfl rfl)
theorem dX5_readTenant_113 : decode cX5_readTenant 113 = .ok (.invokevirtual 214, 3) := dk_182 0 214 (dk_at dksX5_readTenant_4 19 rfl rfl)
theorem dX5_readTenant_116 : decode cX5_readTenant 116 = .ok (.ifCond .eq 86, 3) := dk_153 0 86 (dk_at dksX5_readTenant_5 0 rfl rfl)
theorem dX5_readTenant_119 : decode cX5_readTenant 119 = .ok (.aload_n 0, 1) := dk_42 (dk_at dksX5_readTenant_5 3 rfl rfl)
theorem dX5_readTenant_120 : decode cX5_readTenant 120 = .ok (.iconst 1, 1) := dk_4 (dk_at dksX5_readTenant_5 4 rfl rfl)
theorem dX5_readTenant_121 : decode cX5_readTenant 121 = .ok (.iconst 0, 1) := dk_3 (dk_at dksX5_readTenant_5 5 rfl rfl)
theorem dX5_readTenant_122 : decode cX5_readTenant 122 = .ok (.invokevirtual 245, 3) := dk_182 0 245 (dk_at dksX5_readTenant_5 6 rfl rfl)
theorem dX5_readTenant_125 : decode cX5_readTenant 125 = .ok (.istore_n 3, 1) := dk_62 (dk_at dksX5_readTenant_5 9 rfl rfl)
theorem dX5_readTenant_126 : decode cX5_readTenant 126 = .ok (.iconst 0, 1) := dk_3 (dk_at dksX5_readTenant_5 10 rfl rfl)
theorem dX5_readTenant_127 : decode cX5_readTenant 127 = .ok (.istore 4, 2) := dk_54 4 (dk_at dksX5_readTenant_5 11 rfl rfl)
theorem dX5_readTenant_129 : decode cX5_readTenant 129 = .ok (.iload 4, 2) := dk_21 4 (dk_at dksX5_readTenant_5 13 rfl rfl)
theorem dX5_readTenant_131 : decode cX5_readTenant 131 = .ok (.iload_n 1, 1) := dk_27 (dk_at dksX5_readTenant_5 15 rfl rfl)
theorem dX5_readTenant_132 : decode cX5_readTenant 132 = .ok (.if_icmp .ge 40, 3) := dk_162 0 40 (dk_at dksX5_readTenant_5 16 rfl rfl)
theorem dX5_readTenant_135 : decode cX5_readTenant 135 = .ok (.aload_n 0, 1) := dk_42 (dk_at dksX5_readTenant_5 19 rfl rfl)
theorem dX5_readTenant_136 : decode cX5_readTenant 136 = .ok (.getfield 202, 3) := dk_180 0 202 (dk_at dksX5_readTenant_5 20 rfl rfl)
theorem dX5_readTenant_139 : decode cX5_readTenant 139 = .ok (.ifCond .ne 33, 3) := dk_154 0 33 (dk_at dksX5_readTenant_6 0 rfl rfl)
theorem dX5_readTenant_142 : decode cX5_readTenant 142 = .ok (.aload_n 0, 1) := dk_42 (dk_at dksX5_readTenant_6 3 rfl rfl)
theorem dX5_readTenant_143 : decode cX5_readTenant 143 = .ok (.getfield 111, 3) := dk_180 0 111 (dk_at dksX5_readTenant_6 4 rfl rfl)
theorem dX5_readTenant_146 : decode cX5_readTenant 146 = .ok (.sipush 146, 3) := dk_17 0 146 (dk_at dksX5_readTenant_6 7 rfl rfl)
theorem dX5_readTenant_149 : decode cX5_readTenant 149 = .ok (.iconst 5, 1) := dk_8 (dk_at dksX5_readTenant_6 10 rfl rfl)
theorem dX5_readTenant_150 : decode cX5_readTenant 150 = .ok (.iload 4, 2) := dk_21 4 (dk_at dksX5_readTenant_6 11 rfl rfl)
theorem dX5_readTenant_152 : decode cX5_readTenant 152 = .ok (.imul, 1) := dk_104 (dk_at dksX5_readTenant_6 13 rfl rfl)
theorem dX5_readTenant_153 : decode cX5_readTenant 153 = .ok (.iadd, 1) := dk_96 (dk_at dksX5_readTenant_6 14 rfl rfl)
theorem dX5_readTenant_154 : decode cX5_readTenant 154 = .ok (.iconst 4, 1) := dk_7 (dk_at dksX5_readTenant_6 15 rfl rfl)
theorem dX5_readTenant_155 : decode cX5_readTenant 155 = .ok (.iadd, 1) := dk_96 (dk_at dksX5_readTenant_6 16 rfl rfl)
theorem dX5_readTenant_156 : decode cX5_readTenant 156 = .ok (.iaload, 1) := dk_46 (dk_at dksX5_readTenant_6 17 rfl rfl)
theorem dX5_readTenant_157 : decode cX5_readTenant 157 = .ok (.iload_n 3, 1) := dk_29 (dk_at dksX5_readTenant_6 18 rfl rfl)
theorem dX5_readTenant_158 : decode cX5_readTenant 158 = .ok (.if_icmp .ne 8, 3) := dk_160 0 8 (dk_at dksX5_readTenant_6 19 rfl rfl)
theorem dX5_readTenant_161 : decode cX5_readTenant 161 = .ok (.aload_n 0, 1) := dk_42 (dk_at dksX5_readTenant_6 22 rfl rfl)
theorem dX5_readTenant_162 : decode cX5_readTenant 162 = .ok (.iconst 3, 1) := dk_6 (dk_at dksX5_readTenant_6 23 rfl rfl)
theorem dX5_readTenant_163 : decode cX5_readTenant 163 = .ok (.invokevirtual 208, 3) := dk_182 0 208 (dk_at dksX5_readTenant_7 0 rfl rfl)
theorem dX5_readTenant_166 : decode cX5_readTenant 166 = .ok (.iinc 4 1, 3) := dk_132 4 1 (dk_at dksX5_readTenant_7 3 rfl rfl)
theorem dX5_readTenant_169 : decode cX5_readTenant 169 = .ok (.goto (-40), 3) := dk_167 255 216 (dk_at dksX5_readTenant_7 6 rfl rfl)
theorem dX5_readTenant_172 : decode cX5_readTenant 172 = .ok (.aload_n 0, 1) := dk_42 (dk_at dksX5_readTenant_7 9 rfl rfl)
theorem dX5_readTenant_173 : decode cX5_readTenant 173 = .ok (.dup, 1) := dk_89 (dk_at dksX5_readTenant_7 10 rfl rfl)
theorem dX5_readTenant_174 : decode cX5_readTenant 174 = .ok (.getfield 199, 3) := dk_180 0 199 (dk_at dksX5_readTenant_7 11 rfl rfl)
theorem dX5_readTenant_177 : decode cX5_readTenant 177 = .ok (.aload_n 0, 1) := dk_42 (dk_at dksX5_readTenant_7 14 rfl rfl)
theorem dX5_readTenant_178 : decode cX5_readTenant 178 = .ok (.getfield 202, 3) := dk_180 0 202 (dk_at dksX5_readTenant_7 15 rfl rfl)
theorem dX5_readTenant_181 : decode cX5_readTenant 181 = .ok (.ifCond .le 7, 3) := dk_158 0 7 (dk_at dksX5_readTenant_7 18 rfl rfl)
theorem dX5_readTenant_184 : decode cX5_readTenant 184 = .ok (.iconst 0, 1) := dk_3 (dk_at dksX5_readTenant_7 21 rfl rfl)
theorem dX5_readTenant_185 : decode cX5_readTenant 185 = .ok (.goto 4, 3) := dk_167 0 4 (dk_at dksX5_readTenant_8 0 rfl rfl)
theorem dX5_readTenant_188 : decode cX5_readTenant 188 = .ok (.iconst 1, 1) := dk_4 (dk_at dksX5_readTenant_8 3 rfl rfl)
theorem dX5_readTenant_189 : decode cX5_readTenant 189 = .ok (.iadd, 1) := dk_96 (dk_at dksX5_readTenant_8 4 rfl rfl)
theorem dX5_readTenant_190 : decode cX5_readTenant 190 = .ok (.putfield 199, 3) := dk_181 0 199 (dk_at dksX5_readTenant_8 5 rfl rfl)
theorem dX5_readTenant_193 : decode cX5_readTenant 193 = .ok (.aload_n 0, 1) := dk_42 (dk_at dksX5_readTenant_8 8 rfl rfl)
theorem dX5_readTenant_194 : decode cX5_readTenant 194 = .ok (.getfield 111, 3) := dk_180 0 111 (dk_at dksX5_readTenant_8 9 rfl rfl)
theorem dX5_readTenant_197 : decode cX5_readTenant 197 = .ok (.iload_n 2, 1) := dk_28 (dk_at dksX5_readTenant_8 12 rfl rfl)
theorem dX5_readTenant_198 : decode cX5_readTenant 198 = .ok (.iconst 4, 1) := dk_7 (dk_at dksX5_readTenant_8 13 rfl rfl)
theorem dX5_readTenant_199 : decode cX5_readTenant 199 = .ok (.iadd, 1) := dk_96 (dk_at dksX5_readTenant_8 14 rfl rfl)
theorem dX5_readTenant_200 : decode cX5_readTenant 200 = .ok (.iload_n 3, 1) := dk_29 (dk_at dksX5_readTenant_8 15 rfl rfl)
theorem dX5_readTenant_201 : decode cX5_readTenant 201 = .ok (.iastore, 1) := dk_79 (dk_at dksX5_readTenant_8 16 rfl rfl)
theorem dX5_readTenant_202 : decode cX5_readTenant 202 = .ok (.aload_n 0, 1) := dk_42 (dk_at dksX5_readTenant_8 17 rfl rfl)
theorem dX5_readTenant_203 : decode cX5_readTenant 203 = .ok (.getfield 111, 3) := dk_180 0 111 (dk_at dksX5_readTenant_8 18 rfl rfl)
theorem dX5_readTenant_206 : decode cX5_readTenant 206 = .ok (.bipush 121, 2) := dk_16 121 (dk_at dksX5_readTenant_8 21 rfl rfl)
theorem dX5_readTenant_208 : decode cX5_readTenant 208 = .ok (.dup2, 1) := dk_92 (dk_at dksX5_readTenant_8 23 rfl rfl)
theorem dX5_readTenant_209 : decode cX5_readTenant 209 = .ok (.iaload, 1) := dk_46 (dk_at dksX5_readTenant_9 0 rfl rfl)
theorem dX5_readTenant_210 : decode cX5_readTenant 210 = .ok (.iconst 1, 1) := dk_4 (dk_at dksX5_readTenant_9 1 rfl rfl)
theorem dX5_readTenant_211 : decode cX5_readTenant 211 = .ok (.iadd, 1) := dk_96 (dk_at dksX5_readTenant_9 2 rfl rfl)
theorem dX5_readTenant_212 : decode cX5_readTenant 212 = .ok (.iastore, 1) := dk_79 (dk_at dksX5_readTenant_9 3 rfl rfl)
theorem dX5_readTenant_213 : decode cX5_readTenant 213 = .ok (.return_, 1) := dk_177 (dk_at dksX5_readTenant_9 4 rfl rfl)
abbrev cX5_takeOne : ByteArray := prog_26_method_22_code
def yX5_takeOne : MethodName := ⟨RX5, "takeOne", "(II)I"⟩
def dkwX5_takeOne_2 : List UInt8 := [3, 167, 0, 4, 4, 96, 181, 0, 199, 42, 180, 0, 202, 158, 0, 7, 3, 167, 0, 4, 29, 172]
abbrev dktX5_takeOne_2 : List UInt8 := dkwX5_takeOne_2 ++ []
def dkwX5_takeOne_1 : List UInt8 := [154, 0, 12, 29, 156, 0, 8, 42, 4, 182, 0, 208, 42, 89, 180, 0, 199, 42, 180, 0, 202, 158, 0, 7]
abbrev dktX5_takeOne_1 : List UInt8 := dkwX5_takeOne_1 ++ dktX5_takeOne_2
def dkwX5_takeOne_0 : List UInt8 := [42, 180, 0, 202, 158, 0, 7, 2, 167, 0, 9, 42, 27, 28, 182, 0, 224, 62, 42, 180, 0, 202]
abbrev dktX5_takeOne_0 : List UInt8 := dkwX5_takeOne_0 ++ dktX5_takeOne_1
theorem dksX5_takeOne_0 : cX5_takeOne.data.toList.drop 0 = dktX5_takeOne_0 := by decide +kernel
theorem dksX5_takeOne_1 : cX5_takeOne.data.toList.drop 22 = dktX5_takeOne_1 := dk_seg dksX5_takeOne_0 22 rfl rfl
theorem dksX5_takeOne_2 : cX5_takeOne.data.toList.drop 46 = dktX5_takeOne_2 := dk_seg dksX5_takeOne_1 24 rfl rfl
theorem dX5_takeOne_0 : decode cX5_takeOne 0 = .ok (.aload_n 0, 1) := dk_42 (dk_at dksX5_takeOne_0 0 rfl rfl)
theorem dX5_takeOne_1 : decode cX5_takeOne 1 = .ok (.getfield 202, 3) := dk_180 0 202 (dk_at dksX5_takeOne_0 1 rfl rfl)
theorem dX5_takeOne_4 : decode cX5_takeOne 4 = .ok (.ifCond .le 7, 3) := dk_158 0 7 (dk_at dksX5_takeOne_0 4 rfl rfl)
theorem dX5_takeOne_7 : decode cX5_takeOne 7 = .ok (.iconst (-1), 1) := dk_2 (dk_at dksX5_takeOne_0 7 rfl rfl)
theorem dX5_takeOne_8 : decode cX5_takeOne 8 = .ok (.goto 9, 3) := dk_167 0 9 (dk_at dksX5_takeOne_0 8 rfl rfl)
theorem dX5_takeOne_11 : decode cX5_takeOne 11 = .ok (.aload_n 0, 1) := dk_42 (dk_at dksX5_takeOne_0 11 rfl rfl)
theorem dX5_takeOne_12 : decode cX5_takeOne 12 = .ok (.iload_n 1, 1) := dk_27 (dk_at dksX5_takeOne_0 12 rfl rfl)
theorem dX5_takeOne_13 : decode cX5_takeOne 13 = .ok (.iload_n 2, 1) := dk_28 (dk_at dksX5_takeOne_0 13 rfl rfl)
theorem dX5_takeOne_14 : decode cX5_takeOne 14 = .ok (.invokevirtual 224, 3) := dk_182 0 224 (dk_at dksX5_takeOne_0 14 rfl rfl)
theorem dX5_takeOne_17 : decode cX5_takeOne 17 = .ok (.istore_n 3, 1) := dk_62 (dk_at dksX5_takeOne_0 17 rfl rfl)
theorem dX5_takeOne_18 : decode cX5_takeOne 18 = .ok (.aload_n 0, 1) := dk_42 (dk_at dksX5_takeOne_0 18 rfl rfl)
theorem dX5_takeOne_19 : decode cX5_takeOne 19 = .ok (.getfield 202, 3) := dk_180 0 202 (dk_at dksX5_takeOne_0 19 rfl rfl)
theorem dX5_takeOne_22 : decode cX5_takeOne 22 = .ok (.ifCond .ne 12, 3) := dk_154 0 12 (dk_at dksX5_takeOne_1 0 rfl rfl)
theorem dX5_takeOne_25 : decode cX5_takeOne 25 = .ok (.iload_n 3, 1) := dk_29 (dk_at dksX5_takeOne_1 3 rfl rfl)
theorem dX5_takeOne_26 : decode cX5_takeOne 26 = .ok (.ifCond .ge 8, 3) := dk_156 0 8 (dk_at dksX5_takeOne_1 4 rfl rfl)
theorem dX5_takeOne_29 : decode cX5_takeOne 29 = .ok (.aload_n 0, 1) := dk_42 (dk_at dksX5_takeOne_1 7 rfl rfl)
theorem dX5_takeOne_30 : decode cX5_takeOne 30 = .ok (.iconst 1, 1) := dk_4 (dk_at dksX5_takeOne_1 8 rfl rfl)
theorem dX5_takeOne_31 : decode cX5_takeOne 31 = .ok (.invokevirtual 208, 3) := dk_182 0 208 (dk_at dksX5_takeOne_1 9 rfl rfl)
theorem dX5_takeOne_34 : decode cX5_takeOne 34 = .ok (.aload_n 0, 1) := dk_42 (dk_at dksX5_takeOne_1 12 rfl rfl)
theorem dX5_takeOne_35 : decode cX5_takeOne 35 = .ok (.dup, 1) := dk_89 (dk_at dksX5_takeOne_1 13 rfl rfl)
theorem dX5_takeOne_36 : decode cX5_takeOne 36 = .ok (.getfield 199, 3) := dk_180 0 199 (dk_at dksX5_takeOne_1 14 rfl rfl)
theorem dX5_takeOne_39 : decode cX5_takeOne 39 = .ok (.aload_n 0, 1) := dk_42 (dk_at dksX5_takeOne_1 17 rfl rfl)
theorem dX5_takeOne_40 : decode cX5_takeOne 40 = .ok (.getfield 202, 3) := dk_180 0 202 (dk_at dksX5_takeOne_1 18 rfl rfl)
theorem dX5_takeOne_43 : decode cX5_takeOne 43 = .ok (.ifCond .le 7, 3) := dk_158 0 7 (dk_at dksX5_takeOne_1 21 rfl rfl)
theorem dX5_takeOne_46 : decode cX5_takeOne 46 = .ok (.iconst 0, 1) := dk_3 (dk_at dksX5_takeOne_2 0 rfl rfl)
theorem dX5_takeOne_47 : decode cX5_takeOne 47 = .ok (.goto 4, 3) := dk_167 0 4 (dk_at dksX5_takeOne_2 1 rfl rfl)
theorem dX5_takeOne_50 : decode cX5_takeOne 50 = .ok (.iconst 1, 1) := dk_4 (dk_at dksX5_takeOne_2 4 rfl rfl)
theorem dX5_takeOne_51 : decode cX5_takeOne 51 = .ok (.iadd, 1) := dk_96 (dk_at dksX5_takeOne_2 5 rfl rfl)
theorem dX5_takeOne_52 : decode cX5_takeOne 52 = .ok (.putfield 199, 3) := dk_181 0 199 (dk_at dksX5_takeOne_2 6 rfl rfl)
theorem dX5_takeOne_55 : decode cX5_takeOne 55 = .ok (.aload_n 0, 1) := dk_42 (dk_at dksX5_takeOne_2 9 rfl rfl)
theorem dX5_takeOne_56 : decode cX5_takeOne 56 = .ok (.getfield 202, 3) := dk_180 0 202 (dk_at dksX5_takeOne_2 10 rfl rfl)
theorem dX5_takeOne_59 : decode cX5_takeOne 59 = .ok (.ifCond .le 7, 3) := dk_158 0 7 (dk_at dksX5_takeOne_2 13 rfl rfl)
theorem dX5_takeOne_62 : decode cX5_takeOne 62 = .ok (.iconst 0, 1) := dk_3 (dk_at dksX5_takeOne_2 16 rfl rfl)
theorem dX5_takeOne_63 : decode cX5_takeOne 63 = .ok (.goto 4, 3) := dk_167 0 4 (dk_at dksX5_takeOne_2 17 rfl rfl)
theorem dX5_takeOne_66 : decode cX5_takeOne 66 = .ok (.iload_n 3, 1) := dk_29 (dk_at dksX5_takeOne_2 20 rfl rfl)
theorem dX5_takeOne_67 : decode cX5_takeOne 67 = .ok (.ireturn, 1) := dk_172 (dk_at dksX5_takeOne_2 21 rfl rfl)
abbrev cX5_toldHere : ByteArray := prog_26_method_25_code
def yX5_toldHere : MethodName := ⟨RX5, "toldHere", "(ZI)I"⟩
def dkwX5_toldHere_3 : List UInt8 := [172]
abbrev dktX5_toldHere_3 : List UInt8 := dkwX5_toldHere_3 ++ []
def dkwX5_toldHere_2 : List UInt8 := [8, 184, 0, 241, 154, 0, 8, 42, 5, 182, 0, 208, 42, 180, 0, 202, 158, 0, 7, 3, 167, 0, 4, 29]
abbrev dktX5_toldHere_2 : List UInt8 := dkwX5_toldHere_2 ++ dktX5_toldHere_3
def dkwX5_toldHere_1 : List UInt8 := [158, 0, 7, 2, 167, 0, 10, 42, 27, 182, 0, 237, 28, 100, 62, 42, 180, 0, 202, 154, 0, 17, 29, 3]
abbrev dktX5_toldHere_1 : List UInt8 := dkwX5_toldHere_1 ++ dktX5_toldHere_2
def dkwX5_toldHere_0 : List UInt8 := [42, 180, 0, 202, 154, 0, 15, 42, 182, 0, 233, 154, 0, 8, 42, 4, 182, 0, 208, 42, 180, 0, 202]
abbrev dktX5_toldHere_0 : List UInt8 := dkwX5_toldHere_0 ++ dktX5_toldHere_1
theorem dksX5_toldHere_0 : cX5_toldHere.data.toList.drop 0 = dktX5_toldHere_0 := by decide +kernel
theorem dksX5_toldHere_1 : cX5_toldHere.data.toList.drop 23 = dktX5_toldHere_1 := dk_seg dksX5_toldHere_0 23 rfl rfl
theorem dksX5_toldHere_2 : cX5_toldHere.data.toList.drop 47 = dktX5_toldHere_2 := dk_seg dksX5_toldHere_1 24 rfl rfl
theorem dksX5_toldHere_3 : cX5_toldHere.data.toList.drop 71 = dktX5_toldHere_3 := dk_seg dksX5_toldHere_2 24 rfl rfl
theorem dX5_toldHere_0 : decode cX5_toldHere 0 = .ok (.aload_n 0, 1) := dk_42 (dk_at dksX5_toldHere_0 0 rfl rfl)
theorem dX5_toldHere_1 : decode cX5_toldHere 1 = .ok (.getfield 202, 3) := dk_180 0 202 (dk_at dksX5_toldHere_0 1 rfl rfl)
theorem dX5_toldHere_4 : decode cX5_toldHere 4 = .ok (.ifCond .ne 15, 3) := dk_154 0 15 (dk_at dksX5_toldHere_0 4 rfl rfl)
theorem dX5_toldHere_7 : decode cX5_toldHere 7 = .ok (.aload_n 0, 1) := dk_42 (dk_at dksX5_toldHere_0 7 rfl rfl)
theorem dX5_toldHere_8 : decode cX5_toldHere 8 = .ok (.invokevirtual 233, 3) := dk_182 0 233 (dk_at dksX5_toldHere_0 8 rfl rfl)
theorem dX5_toldHere_11 : decode cX5_toldHere 11 = .ok (.ifCond .ne 8, 3) := dk_154 0 8 (dk_at dksX5_toldHere_0 11 rfl rfl)
theorem dX5_toldHere_14 : decode cX5_toldHere 14 = .ok (.aload_n 0, 1) := dk_42 (dk_at dksX5_toldHere_0 14 rfl rfl)
theorem dX5_toldHere_15 : decode cX5_toldHere 15 = .ok (.iconst 1, 1) := dk_4 (dk_at dksX5_toldHere_0 15 rfl rfl)
theorem dX5_toldHere_16 : decode cX5_toldHere 16 = .ok (.invokevirtual 208, 3) := dk_182 0 208 (dk_at dksX5_toldHere_0 16 rfl rfl)
theorem dX5_toldHere_19 : decode cX5_toldHere 19 = .ok (.aload_n 0, 1) := dk_42 (dk_at dksX5_toldHere_0 19 rfl rfl)
theorem dX5_toldHere_20 : decode cX5_toldHere 20 = .ok (.getfield 202, 3) := dk_180 0 202 (dk_at dksX5_toldHere_0 20 rfl rfl)
theorem dX5_toldHere_23 : decode cX5_toldHere 23 = .ok (.ifCond .le 7, 3) := dk_158 0 7 (dk_at dksX5_toldHere_1 0 rfl rfl)
theorem dX5_toldHere_26 : decode cX5_toldHere 26 = .ok (.iconst (-1), 1) := dk_2 (dk_at dksX5_toldHere_1 3 rfl rfl)
theorem dX5_toldHere_27 : decode cX5_toldHere 27 = .ok (.goto 10, 3) := dk_167 0 10 (dk_at dksX5_toldHere_1 4 rfl rfl)
theorem dX5_toldHere_30 : decode cX5_toldHere 30 = .ok (.aload_n 0, 1) := dk_42 (dk_at dksX5_toldHere_1 7 rfl rfl)
theorem dX5_toldHere_31 : decode cX5_toldHere 31 = .ok (.iload_n 1, 1) := dk_27 (dk_at dksX5_toldHere_1 8 rfl rfl)
theorem dX5_toldHere_32 : decode cX5_toldHere 32 = .ok (.invokevirtual 237, 3) := dk_182 0 237 (dk_at dksX5_toldHere_1 9 rfl rfl)
theorem dX5_toldHere_35 : decode cX5_toldHere 35 = .ok (.iload_n 2, 1) := dk_28 (dk_at dksX5_toldHere_1 12 rfl rfl)
theorem dX5_toldHere_36 : decode cX5_toldHere 36 = .ok (.isub, 1) := dk_100 (dk_at dksX5_toldHere_1 13 rfl rfl)
theorem dX5_toldHere_37 : decode cX5_toldHere 37 = .ok (.istore_n 3, 1) := dk_62 (dk_at dksX5_toldHere_1 14 rfl rfl)
theorem dX5_toldHere_38 : decode cX5_toldHere 38 = .ok (.aload_n 0, 1) := dk_42 (dk_at dksX5_toldHere_1 15 rfl rfl)
theorem dX5_toldHere_39 : decode cX5_toldHere 39 = .ok (.getfield 202, 3) := dk_180 0 202 (dk_at dksX5_toldHere_1 16 rfl rfl)
theorem dX5_toldHere_42 : decode cX5_toldHere 42 = .ok (.ifCond .ne 17, 3) := dk_154 0 17 (dk_at dksX5_toldHere_1 19 rfl rfl)
theorem dX5_toldHere_45 : decode cX5_toldHere 45 = .ok (.iload_n 3, 1) := dk_29 (dk_at dksX5_toldHere_1 22 rfl rfl)
theorem dX5_toldHere_46 : decode cX5_toldHere 46 = .ok (.iconst 0, 1) := dk_3 (dk_at dksX5_toldHere_1 23 rfl rfl)
theorem dX5_toldHere_47 : decode cX5_toldHere 47 = .ok (.iconst 5, 1) := dk_8 (dk_at dksX5_toldHere_2 0 rfl rfl)
theorem dX5_toldHere_48 : decode cX5_toldHere 48 = .ok (.invokestatic 241, 3) := dk_184 0 241 (dk_at dksX5_toldHere_2 1 rfl rfl)
theorem dX5_toldHere_51 : decode cX5_toldHere 51 = .ok (.ifCond .ne 8, 3) := dk_154 0 8 (dk_at dksX5_toldHere_2 4 rfl rfl)
theorem dX5_toldHere_54 : decode cX5_toldHere 54 = .ok (.aload_n 0, 1) := dk_42 (dk_at dksX5_toldHere_2 7 rfl rfl)
theorem dX5_toldHere_55 : decode cX5_toldHere 55 = .ok (.iconst 2, 1) := dk_5 (dk_at dksX5_toldHere_2 8 rfl rfl)
theorem dX5_toldHere_56 : decode cX5_toldHere 56 = .ok (.invokevirtual 208, 3) := dk_182 0 208 (dk_at dksX5_toldHere_2 9 rfl rfl)
theorem dX5_toldHere_59 : decode cX5_toldHere 59 = .ok (.aload_n 0, 1) := dk_42 (dk_at dksX5_toldHere_2 12 rfl rfl)
theorem dX5_toldHere_60 : decode cX5_toldHere 60 = .ok (.getfield 202, 3) := dk_180 0 202 (dk_at dksX5_toldHere_2 13 rfl rfl)
theorem dX5_toldHere_63 : decode cX5_toldHere 63 = .ok (.ifCond .le 7, 3) := dk_158 0 7 (dk_at dksX5_toldHere_2 16 rfl rfl)
theorem dX5_toldHere_66 : decode cX5_toldHere 66 = .ok (.iconst 0, 1) := dk_3 (dk_at dksX5_toldHere_2 19 rfl rfl)
theorem dX5_toldHere_67 : decode cX5_toldHere 67 = .ok (.goto 4, 3) := dk_167 0 4 (dk_at dksX5_toldHere_2 20 rfl rfl)
theorem dX5_toldHere_70 : decode cX5_toldHere 70 = .ok (.iload_n 3, 1) := dk_29 (dk_at dksX5_toldHere_2 23 rfl rfl)
theorem dX5_toldHere_71 : decode cX5_toldHere 71 = .ok (.ireturn, 1) := dk_172 (dk_at dksX5_toldHere_3 0 rfl rfl)
abbrev cX5_within : ByteArray := prog_26_method_17_code
def yX5_within : MethodName := ⟨RX5, "within", "(III)Z"⟩
def dkwX5_within_0 : List UInt8 := [26, 27, 161, 0, 12, 26, 28, 163, 0, 7, 4, 167, 0, 4, 3, 172]
abbrev dktX5_within_0 : List UInt8 := dkwX5_within_0 ++ []
theorem dksX5_within_0 : cX5_within.data.toList.drop 0 = dktX5_within_0 := by decide +kernel
theorem dX5_within_0 : decode cX5_within 0 = .ok (.iload_n 0, 1) := dk_26 (dk_at dksX5_within_0 0 rfl rfl)
theorem dX5_within_1 : decode cX5_within 1 = .ok (.iload_n 1, 1) := dk_27 (dk_at dksX5_within_0 1 rfl rfl)
theorem dX5_within_2 : decode cX5_within 2 = .ok (.if_icmp .lt 12, 3) := dk_161 0 12 (dk_at dksX5_within_0 2 rfl rfl)
theorem dX5_within_5 : decode cX5_within 5 = .ok (.iload_n 0, 1) := dk_26 (dk_at dksX5_within_0 5 rfl rfl)
theorem dX5_within_6 : decode cX5_within 6 = .ok (.iload_n 2, 1) := dk_28 (dk_at dksX5_within_0 6 rfl rfl)
theorem dX5_within_7 : decode cX5_within 7 = .ok (.if_icmp .gt 7, 3) := dk_163 0 7 (dk_at dksX5_within_0 7 rfl rfl)
theorem dX5_within_10 : decode cX5_within 10 = .ok (.iconst 1, 1) := dk_4 (dk_at dksX5_within_0 10 rfl rfl)
theorem dX5_within_11 : decode cX5_within 11 = .ok (.goto 4, 3) := dk_167 0 4 (dk_at dksX5_within_0 11 rfl rfl)
theorem dX5_within_14 : decode cX5_within 14 = .ok (.iconst 0, 1) := dk_3 (dk_at dksX5_within_0 14 rfl rfl)
theorem dX5_within_15 : decode cX5_within 15 = .ok (.ireturn, 1) := dk_172 (dk_at dksX5_within_0 15 rfl rfl)
abbrev cX5_readLove : ByteArray := prog_26_method_32_code
def yX5_readLove : MethodName := ⟨RX5, "readLove", "()V"⟩
def dkwX5_readLove_4 : List UInt8 := [4, 79, 177]
abbrev dktX5_readLove_4 : List UInt8 := dkwX5_readLove_4 ++ []
def dkwX5_readLove_3 : List UInt8 := [42, 89, 180, 0, 199, 4, 96, 181, 0, 199, 42, 180, 0, 111, 17, 0, 176, 16, 6, 27, 104, 96, 28, 96]
abbrev dktX5_readLove_3 : List UInt8 := dkwX5_readLove_3 ++ dktX5_readLove_4
def dkwX5_readLove_2 : List UInt8 := [16, 6, 27, 104, 96, 28, 96, 46, 4, 160, 0, 8, 42, 6, 182, 0, 208, 42, 180, 0, 202, 154, 0, 29]
abbrev dktX5_readLove_2 : List UInt8 := dkwX5_readLove_2 ++ dktX5_readLove_3
def dkwX5_readLove_1 : List UInt8 := [182, 0, 245, 61, 42, 180, 0, 202, 154, 0, 32, 27, 28, 159, 0, 22, 42, 180, 0, 111, 17, 0, 176]
abbrev dktX5_readLove_1 : List UInt8 := dkwX5_readLove_1 ++ dktX5_readLove_2
def dkwX5_readLove_0 : List UInt8 := [42, 89, 180, 0, 199, 4, 96, 181, 0, 199, 42, 4, 16, 20, 182, 1, 33, 60, 42, 4, 16, 20]
abbrev dktX5_readLove_0 : List UInt8 := dkwX5_readLove_0 ++ dktX5_readLove_1
theorem dksX5_readLove_0 : cX5_readLove.data.toList.drop 0 = dktX5_readLove_0 := by decide +kernel
theorem dksX5_readLove_1 : cX5_readLove.data.toList.drop 22 = dktX5_readLove_1 := dk_seg dksX5_readLove_0 22 rfl rfl
theorem dksX5_readLove_2 : cX5_readLove.data.toList.drop 45 = dktX5_readLove_2 := dk_seg dksX5_readLove_1 23 rfl rfl
theorem dksX5_readLove_3 : cX5_readLove.data.toList.drop 69 = dktX5_readLove_3 := dk_seg dksX5_readLove_2 24 rfl rfl
theorem dksX5_readLove_4 : cX5_readLove.data.toList.drop 93 = dktX5_readLove_4 := dk_seg dksX5_readLove_3 24 rfl rfl
theorem dX5_readLove_0 : decode cX5_readLove 0 = .ok (.aload_n 0, 1) := dk_42 (dk_at dksX5_readLove_0 0 rfl rfl)
theorem dX5_readLove_1 : decode cX5_readLove 1 = .ok (.dup, 1) := dk_89 (dk_at dksX5_readLove_0 1 rfl rfl)
theorem dX5_readLove_2 : decode cX5_readLove 2 = .ok (.getfield 199, 3) := dk_180 0 199 (dk_at dksX5_readLove_0 2 rfl rfl)
theorem dX5_readLove_5 : decode cX5_readLove 5 = .ok (.iconst 1, 1) := dk_4 (dk_at dksX5_readLove_0 5 rfl rfl)
theorem dX5_readLove_6 : decode cX5_readLove 6 = .ok (.iadd, 1) := dk_96 (dk_at dksX5_readLove_0 6 rfl rfl)
theorem dX5_readLove_7 : decode cX5_readLove 7 = .ok (.putfield 199, 3) := dk_181 0 199 (dk_at dksX5_readLove_0 7 rfl rfl)
theorem dX5_readLove_10 : decode cX5_readLove 10 = .ok (.aload_n 0, 1) := dk_42 (dk_at dksX5_readLove_0 10 rfl rfl)
theorem dX5_readLove_11 : decode cX5_readLove 11 = .ok (.iconst 1, 1) := dk_4 (dk_at dksX5_readLove_0 11 rfl rfl)
theorem dX5_readLove_12 : decode cX5_readLove 12 = .ok (.bipush 20, 2) := dk_16 20 (dk_at dksX5_readLove_0 12 rfl rfl)
theorem dX5_readLove_14 : decode cX5_readLove 14 = .ok (.invokevirtual 289, 3) := dk_182 1 33 (dk_at dksX5_readLove_0 14 rfl rfl)
theorem dX5_readLove_17 : decode cX5_readLove 17 = .ok (.istore_n 1, 1) := dk_60 (dk_at dksX5_readLove_0 17 rfl rfl)
theorem dX5_readLove_18 : decode cX5_readLove 18 = .ok (.aload_n 0, 1) := dk_42 (dk_at dksX5_readLove_0 18 rfl rfl)
theorem dX5_readLove_19 : decode cX5_readLove 19 = .ok (.iconst 1, 1) := dk_4 (dk_at dksX5_readLove_0 19 rfl rfl)
theorem dX5_readLove_20 : decode cX5_readLove 20 = .ok (.bipush 20, 2) := dk_16 20 (dk_at dksX5_readLove_0 20 rfl rfl)
theorem dX5_readLove_22 : decode cX5_readLove 22 = .ok (.invokevirtual 245, 3) := dk_182 0 245 (dk_at dksX5_readLove_1 0 rfl rfl)
theorem dX5_readLove_25 : decode cX5_readLove 25 = .ok (.istore_n 2, 1) := dk_61 (dk_at dksX5_readLove_1 3 rfl rfl)
theorem dX5_readLove_26 : decode cX5_readLove 26 = .ok (.aload_n 0, 1) := dk_42 (dk_at dksX5_readLove_1 4 rfl rfl)
theorem dX5_readLove_27 : decode cX5_readLove 27 = .ok (.getfield 202, 3) := dk_180 0 202 (dk_at dksX5_readLove_1 5 rfl rfl)
theorem dX5_readLove_30 : decode cX5_readLove 30 = .ok (.ifCond .ne 32, 3) := dk_154 0 32 (dk_at dksX5_readLove_1 8 rfl rfl)
theorem dX5_readLove_33 : decode cX5_readLove 33 = .ok (.iload_n 1, 1) := dk_27 (dk_at dksX5_readLove_1 11 rfl rfl)
theorem dX5_readLove_34 : decode cX5_readLove 34 = .ok (.iload_n 2, 1) := dk_28 (dk_at dksX5_readLove_1 12 rfl rfl)
theorem dX5_readLove_35 : decode cX5_readLove 35 = .ok (.if_icmp .eq 22, 3) := dk_159 0 22 (dk_at dksX5_readLove_1 13 rfl rfl)
theorem dX5_readLove_38 : decode cX5_readLove 38 = .ok (.aload_n 0, 1) := dk_42 (dk_at dksX5_readLove_1 16 rfl rfl)
theorem dX5_readLove_39 : decode cX5_readLove 39 = .ok (.getfield 111, 3) := dk_180 0 111 (dk_at dksX5_readLove_1 17 rfl rfl)
theorem dX5_readLove_42 : decode cX5_readLove 42 = .ok (.sipush 176, 3) := dk_17 0 176 (dk_at dksX5_readLove_1 20 rfl rfl)
theorem dX5_readLove_45 : decode cX5_readLove 45 = .ok (.bipush 6, 2) := dk_16 6 (dk_at dksX5_readLove_2 0 rfl rfl)
theorem dX5_readLove_47 : decode cX5_readLove 47 = .ok (.iload_n 1, 1) := dk_27 (dk_at dksX5_readLove_2 2 rfl rfl)
theorem dX5_readLove_48 : decode cX5_readLove 48 = .ok (.imul, 1) := dk_104 (dk_at dksX5_readLove_2 3 rfl rfl)
theorem dX5_readLove_49 : decode cX5_readLove 49 = .ok (.iadd, 1) := dk_96 (dk_at dksX5_readLove_2 4 rfl rfl)
theorem dX5_readLove_50 : decode cX5_readLove 50 = .ok (.iload_n 2, 1) := dk_28 (dk_at dksX5_readLove_2 5 rfl rfl)
theorem dX5_readLove_51 : decode cX5_readLove 51 = .ok (.iadd, 1) := dk_96 (dk_at dksX5_readLove_2 6 rfl rfl)
theorem dX5_readLove_52 : decode cX5_readLove 52 = .ok (.iaload, 1) := dk_46 (dk_at dksX5_readLove_2 7 rfl rfl)
theorem dX5_readLove_53 : decode cX5_readLove 53 = .ok (.iconst 1, 1) := dk_4 (dk_at dksX5_readLove_2 8 rfl rfl)
theorem dX5_readLove_54 : decode cX5_readLove 54 = .ok (.if_icmp .ne 8, 3) := dk_160 0 8 (dk_at dksX5_readLove_2 9 rfl rfl)
theorem dX5_readLove_57 : decode cX5_readLove 57 = .ok (.aload_n 0, 1) := dk_42 (dk_at dksX5_readLove_2 12 rfl rfl)
theorem dX5_readLove_58 : decode cX5_readLove 58 = .ok (.iconst 3, 1) := dk_6 (dk_at dksX5_readLove_2 13 rfl rfl)
theorem dX5_readLove_59 : decode cX5_readLove 59 = .ok (.invokevirtual 208, 3) := dk_182 0 208 (dk_at dksX5_readLove_2 14 rfl rfl)
theorem dX5_readLove_62 : decode cX5_readLove 62 = .ok (.aload_n 0, 1) := dk_42 (dk_at dksX5_readLove_2 17 rfl rfl)
theorem dX5_readLove_63 : decode cX5_readLove 63 = .ok (.getfield 202, 3) := dk_180 0 202 (dk_at dksX5_readLove_2 18 rfl rfl)
theorem dX5_readLove_66 : decode cX5_readLove 66 = .ok (.ifCond .ne 29, 3) := dk_154 0 29 (dk_at dksX5_readLove_2 21 rfl rfl)
theorem dX5_readLove_69 : decode cX5_readLove 69 = .ok (.aload_n 0, 1) := dk_42 (dk_at dksX5_readLove_3 0 rfl rfl)
theorem dX5_readLove_70 : decode cX5_readLove 70 = .ok (.dup, 1) := dk_89 (dk_at dksX5_readLove_3 1 rfl rfl)
theorem dX5_readLove_71 : decode cX5_readLove 71 = .ok (.getfield 199, 3) := dk_180 0 199 (dk_at dksX5_readLove_3 2 rfl rfl)
theorem dX5_readLove_74 : decode cX5_readLove 74 = .ok (.iconst 1, 1) := dk_4 (dk_at dksX5_readLove_3 5 rfl rfl)
theorem dX5_readLove_75 : decode cX5_readLove 75 = .ok (.iadd, 1) := dk_96 (dk_at dksX5_readLove_3 6 rfl rfl)
theorem dX5_readLove_76 : decode cX5_readLove 76 = .ok (.putfield 199, 3) := dk_181 0 199 (dk_at dksX5_readLove_3 7 rfl rfl)
theorem dX5_readLove_79 : decode cX5_readLove 79 = .ok (.aload_n 0, 1) := dk_42 (dk_at dksX5_readLove_3 10 rfl rfl)
theorem dX5_readLove_80 : decode cX5_readLove 80 = .ok (.getfield 111, 3) := dk_180 0 111 (dk_at dksX5_readLove_3 11 rfl rfl)
theorem dX5_readLove_83 : decode cX5_readLove 83 = .ok (.sipush 176, 3) := dk_17 0 176 (dk_at dksX5_readLove_3 14 rfl rfl)
theorem dX5_readLove_86 : decode cX5_readLove 86 = .ok (.bipush 6, 2) := dk_16 6 (dk_at dksX5_readLove_3 17 rfl rfl)
theorem dX5_readLove_88 : decode cX5_readLove 88 = .ok (.iload_n 1, 1) := dk_27 (dk_at dksX5_readLove_3 19 rfl rfl)
theorem dX5_readLove_89 : decode cX5_readLove 89 = .ok (.imul, 1) := dk_104 (dk_at dksX5_readLove_3 20 rfl rfl)
theorem dX5_readLove_90 : decode cX5_readLove 90 = .ok (.iadd, 1) := dk_96 (dk_at dksX5_readLove_3 21 rfl rfl)
theorem dX5_readLove_91 : decode cX5_readLove 91 = .ok (.iload_n 2, 1) := dk_28 (dk_at dksX5_readLove_3 22 rfl rfl)
theorem dX5_readLove_92 : decode cX5_readLove 92 = .ok (.iadd, 1) := dk_96 (dk_at dksX5_readLove_3 23 rfl rfl)
theorem dX5_readLove_93 : decode cX5_readLove 93 = .ok (.iconst 1, 1) := dk_4 (dk_at dksX5_readLove_4 0 rfl rfl)
theorem dX5_readLove_94 : decode cX5_readLove 94 = .ok (.iastore, 1) := dk_79 (dk_at dksX5_readLove_4 1 rfl rfl)
theorem dX5_readLove_95 : decode cX5_readLove 95 = .ok (.return_, 1) := dk_177 (dk_at dksX5_readLove_4 2 rfl rfl)
abbrev cX5_takeTold : ByteArray := prog_26_method_26_code
def yX5_takeTold : MethodName := ⟨RX5, "takeTold", "(ZI)I"⟩
def dkwX5_takeTold_1 : List UInt8 := [96, 181, 0, 199, 29, 172]
abbrev dktX5_takeTold_1 : List UInt8 := dkwX5_takeTold_1 ++ []
def dkwX5_takeTold_0 : List UInt8 := [42, 27, 28, 182, 0, 245, 62, 42, 89, 180, 0, 199, 42, 180, 0, 202, 158, 0, 7, 3, 167, 0, 4, 4]
abbrev dktX5_takeTold_0 : List UInt8 := dkwX5_takeTold_0 ++ dktX5_takeTold_1
theorem dksX5_takeTold_0 : cX5_takeTold.data.toList.drop 0 = dktX5_takeTold_0 := by decide +kernel
theorem dksX5_takeTold_1 : cX5_takeTold.data.toList.drop 24 = dktX5_takeTold_1 := dk_seg dksX5_takeTold_0 24 rfl rfl
theorem dX5_takeTold_0 : decode cX5_takeTold 0 = .ok (.aload_n 0, 1) := dk_42 (dk_at dksX5_takeTold_0 0 rfl rfl)
theorem dX5_takeTold_1 : decode cX5_takeTold 1 = .ok (.iload_n 1, 1) := dk_27 (dk_at dksX5_takeTold_0 1 rfl rfl)
theorem dX5_takeTold_2 : decode cX5_takeTold 2 = .ok (.iload_n 2, 1) := dk_28 (dk_at dksX5_takeTold_0 2 rfl rfl)
theorem dX5_takeTold_3 : decode cX5_takeTold 3 = .ok (.invokevirtual 245, 3) := dk_182 0 245 (dk_at dksX5_takeTold_0 3 rfl rfl)
theorem dX5_takeTold_6 : decode cX5_takeTold 6 = .ok (.istore_n 3, 1) := dk_62 (dk_at dksX5_takeTold_0 6 rfl rfl)
theorem dX5_takeTold_7 : decode cX5_takeTold 7 = .ok (.aload_n 0, 1) := dk_42 (dk_at dksX5_takeTold_0 7 rfl rfl)
theorem dX5_takeTold_8 : decode cX5_takeTold 8 = .ok (.dup, 1) := dk_89 (dk_at dksX5_takeTold_0 8 rfl rfl)
theorem dX5_takeTold_9 : decode cX5_takeTold 9 = .ok (.getfield 199, 3) := dk_180 0 199 (dk_at dksX5_takeTold_0 9 rfl rfl)
theorem dX5_takeTold_12 : decode cX5_takeTold 12 = .ok (.aload_n 0, 1) := dk_42 (dk_at dksX5_takeTold_0 12 rfl rfl)
theorem dX5_takeTold_13 : decode cX5_takeTold 13 = .ok (.getfield 202, 3) := dk_180 0 202 (dk_at dksX5_takeTold_0 13 rfl rfl)
theorem dX5_takeTold_16 : decode cX5_takeTold 16 = .ok (.ifCond .le 7, 3) := dk_158 0 7 (dk_at dksX5_takeTold_0 16 rfl rfl)
theorem dX5_takeTold_19 : decode cX5_takeTold 19 = .ok (.iconst 0, 1) := dk_3 (dk_at dksX5_takeTold_0 19 rfl rfl)
theorem dX5_takeTold_20 : decode cX5_takeTold 20 = .ok (.goto 4, 3) := dk_167 0 4 (dk_at dksX5_takeTold_0 20 rfl rfl)
theorem dX5_takeTold_23 : decode cX5_takeTold 23 = .ok (.iconst 1, 1) := dk_4 (dk_at dksX5_takeTold_0 23 rfl rfl)
theorem dX5_takeTold_24 : decode cX5_takeTold 24 = .ok (.iadd, 1) := dk_96 (dk_at dksX5_takeTold_1 0 rfl rfl)
theorem dX5_takeTold_25 : decode cX5_takeTold 25 = .ok (.putfield 199, 3) := dk_181 0 199 (dk_at dksX5_takeTold_1 1 rfl rfl)
theorem dX5_takeTold_28 : decode cX5_takeTold 28 = .ok (.iload_n 3, 1) := dk_29 (dk_at dksX5_takeTold_1 4 rfl rfl)
theorem dX5_takeTold_29 : decode cX5_takeTold 29 = .ok (.ireturn, 1) := dk_172 (dk_at dksX5_takeTold_1 5 rfl rfl)
abbrev cX5_readErrand : ByteArray := prog_26_method_33_code
def yX5_readErrand : MethodName := ⟨RX5, "readErrand", "()V"⟩
def dkwX5_readErrand_4 : List UInt8 := [4, 96, 79, 177]
abbrev dktX5_readErrand_4 : List UInt8 := dkwX5_readErrand_4 ++ []
def dkwX5_readErrand_3 : List UInt8 := [180, 0, 111, 28, 5, 96, 42, 16, 13, 3, 16, 60, 182, 1, 26, 79, 42, 180, 0, 111, 16, 122, 92, 46]
abbrev dktX5_readErrand_3 : List UInt8 := dkwX5_readErrand_3 ++ dktX5_readErrand_4
def dkwX5_readErrand_2 : List UInt8 := [182, 1, 26, 79, 42, 180, 0, 111, 28, 4, 96, 42, 16, 12, 4, 16, 20, 182, 1, 26, 79, 42]
abbrev dktX5_readErrand_2 : List UInt8 := dkwX5_readErrand_2 ++ dktX5_readErrand_3
def dkwX5_readErrand_1 : List UInt8 := [182, 1, 23, 17, 0, 212, 6, 27, 104, 96, 61, 42, 180, 0, 111, 28, 42, 16, 11, 3, 16, 99]
abbrev dktX5_readErrand_1 : List UInt8 := dkwX5_readErrand_1 ++ dktX5_readErrand_2
def dkwX5_readErrand_0 : List UInt8 := [42, 180, 0, 111, 16, 122, 46, 60, 27, 16, 6, 160, 0, 9, 42, 8, 182, 0, 208, 177, 42, 16, 40]
abbrev dktX5_readErrand_0 : List UInt8 := dkwX5_readErrand_0 ++ dktX5_readErrand_1
theorem dksX5_readErrand_0 : cX5_readErrand.data.toList.drop 0 = dktX5_readErrand_0 := by decide +kernel
theorem dksX5_readErrand_1 : cX5_readErrand.data.toList.drop 23 = dktX5_readErrand_1 := dk_seg dksX5_readErrand_0 23 rfl rfl
theorem dksX5_readErrand_2 : cX5_readErrand.data.toList.drop 45 = dktX5_readErrand_2 := dk_seg dksX5_readErrand_1 22 rfl rfl
theorem dksX5_readErrand_3 : cX5_readErrand.data.toList.drop 67 = dktX5_readErrand_3 := dk_seg dksX5_readErrand_2 22 rfl rfl
theorem dksX5_readErrand_4 : cX5_readErrand.data.toList.drop 91 = dktX5_readErrand_4 := dk_seg dksX5_readErrand_3 24 rfl rfl
theorem dX5_readErrand_0 : decode cX5_readErrand 0 = .ok (.aload_n 0, 1) := dk_42 (dk_at dksX5_readErrand_0 0 rfl rfl)
theorem dX5_readErrand_1 : decode cX5_readErrand 1 = .ok (.getfield 111, 3) := dk_180 0 111 (dk_at dksX5_readErrand_0 1 rfl rfl)
theorem dX5_readErrand_4 : decode cX5_readErrand 4 = .ok (.bipush 122, 2) := dk_16 122 (dk_at dksX5_readErrand_0 4 rfl rfl)
theorem dX5_readErrand_6 : decode cX5_readErrand 6 = .ok (.iaload, 1) := dk_46 (dk_at dksX5_readErrand_0 6 rfl rfl)
theorem dX5_readErrand_7 : decode cX5_readErrand 7 = .ok (.istore_n 1, 1) := dk_60 (dk_at dksX5_readErrand_0 7 rfl rfl)
theorem dX5_readErrand_8 : decode cX5_readErrand 8 = .ok (.iload_n 1, 1) := dk_27 (dk_at dksX5_readErrand_0 8 rfl rfl)
theorem dX5_readErrand_9 : decode cX5_readErrand 9 = .ok (.bipush 6, 2) := dk_16 6 (dk_at dksX5_readErrand_0 9 rfl rfl)
theorem dX5_readErrand_11 : decode cX5_readErrand 11 = .ok (.if_icmp .ne 9, 3) := dk_160 0 9 (dk_at dksX5_readErrand_0 11 rfl rfl)
theorem dX5_readErrand_14 : decode cX5_readErrand 14 = .ok (.aload_n 0, 1) := dk_42 (dk_at dksX5_readErrand_0 14 rfl rfl)
theorem dX5_readErrand_15 : decode cX5_readErrand 15 = .ok (.iconst 5, 1) := dk_8 (dk_at dksX5_readErrand_0 15 rfl rfl)
theorem dX5_readErrand_16 : decode cX5_readErrand 16 = .ok (.invokevirtual 208, 3) := dk_182 0 208 (dk_at dksX5_readErrand_0 16 rfl rfl)
theorem dX5_readErrand_19 : decode cX5_readErrand 19 = .ok (.return_, 1) := dk_177 (dk_at dksX5_readErrand_0 19 rfl rfl)
theorem dX5_readErrand_20 : decode cX5_readErrand 20 = .ok (.aload_n 0, 1) := dk_42 (dk_at dksX5_readErrand_0 20 rfl rfl)
theorem dX5_readErrand_21 : decode cX5_readErrand 21 = .ok (.bipush 40, 2) := dk_16 40 (dk_at dksX5_readErrand_0 21 rfl rfl)
theorem dX5_readErrand_23 : decode cX5_readErrand 23 = .ok (.invokevirtual 279, 3) := dk_182 1 23 (dk_at dksX5_readErrand_1 0 rfl rfl)
theorem dX5_readErrand_26 : decode cX5_readErrand 26 = .ok (.sipush 212, 3) := dk_17 0 212 (dk_at dksX5_readErrand_1 3 rfl rfl)
theorem dX5_readErrand_29 : decode cX5_readErrand 29 = .ok (.iconst 3, 1) := dk_6 (dk_at dksX5_readErrand_1 6 rfl rfl)
theorem dX5_readErrand_30 : decode cX5_readErrand 30 = .ok (.iload_n 1, 1) := dk_27 (dk_at dksX5_readErrand_1 7 rfl rfl)
theorem dX5_readErrand_31 : decode cX5_readErrand 31 = .ok (.imul, 1) := dk_104 (dk_at dksX5_readErrand_1 8 rfl rfl)
theorem dX5_readErrand_32 : decode cX5_readErrand 32 = .ok (.iadd, 1) := dk_96 (dk_at dksX5_readErrand_1 9 rfl rfl)
theorem dX5_readErrand_33 : decode cX5_readErrand 33 = .ok (.istore_n 2, 1) := dk_61 (dk_at dksX5_readErrand_1 10 rfl rfl)
theorem dX5_readErrand_34 : decode cX5_readErrand 34 = .ok (.aload_n 0, 1) := dk_42 (dk_at dksX5_readErrand_1 11 rfl rfl)
theorem dX5_readErrand_35 : decode cX5_readErrand 35 = .ok (.getfield 111, 3) := dk_180 0 111 (dk_at dksX5_readErrand_1 12 rfl rfl)
theorem dX5_readErrand_38 : decode cX5_readErrand 38 = .ok (.iload_n 2, 1) := dk_28 (dk_at dksX5_readErrand_1 15 rfl rfl)
theorem dX5_readErrand_39 : decode cX5_readErrand 39 = .ok (.aload_n 0, 1) := dk_42 (dk_at dksX5_readErrand_1 16 rfl rfl)
theorem dX5_readErrand_40 : decode cX5_readErrand 40 = .ok (.bipush 11, 2) := dk_16 11 (dk_at dksX5_readErrand_1 17 rfl rfl)
theorem dX5_readErrand_42 : decode cX5_readErrand 42 = .ok (.iconst 0, 1) := dk_3 (dk_at dksX5_readErrand_1 19 rfl rfl)
theorem dX5_readErrand_43 : decode cX5_readErrand 43 = .ok (.bipush 99, 2) := dk_16 99 (dk_at dksX5_readErrand_1 20 rfl rfl)
theorem dX5_readErrand_45 : decode cX5_readErrand 45 = .ok (.invokevirtual 282, 3) := dk_182 1 26 (dk_at dksX5_readErrand_2 0 rfl rfl)
theorem dX5_readErrand_48 : decode cX5_readErrand 48 = .ok (.iastore, 1) := dk_79 (dk_at dksX5_readErrand_2 3 rfl rfl)
theorem dX5_readErrand_49 : decode cX5_readErrand 49 = .ok (.aload_n 0, 1) := dk_42 (dk_at dksX5_readErrand_2 4 rfl rfl)
theorem dX5_readErrand_50 : decode cX5_readErrand 50 = .ok (.getfield 111, 3) := dk_180 0 111 (dk_at dksX5_readErrand_2 5 rfl rfl)
theorem dX5_readErrand_53 : decode cX5_readErrand 53 = .ok (.iload_n 2, 1) := dk_28 (dk_at dksX5_readErrand_2 8 rfl rfl)
theorem dX5_readErrand_54 : decode cX5_readErrand 54 = .ok (.iconst 1, 1) := dk_4 (dk_at dksX5_readErrand_2 9 rfl rfl)
theorem dX5_readErrand_55 : decode cX5_readErrand 55 = .ok (.iadd, 1) := dk_96 (dk_at dksX5_readErrand_2 10 rfl rfl)
theorem dX5_readErrand_56 : decode cX5_readErrand 56 = .ok (.aload_n 0, 1) := dk_42 (dk_at dksX5_readErrand_2 11 rfl rfl)
theorem dX5_readErrand_57 : decode cX5_readErrand 57 = .ok (.bipush 12, 2) := dk_16 12 (dk_at dksX5_readErrand_2 12 rfl rfl)
theorem dX5_readErrand_59 : decode cX5_readErrand 59 = .ok (.iconst 1, 1) := dk_4 (dk_at dksX5_readErrand_2 14 rfl rfl)
theorem dX5_readErrand_60 : decode cX5_readErrand 60 = .ok (.bipush 20, 2) := dk_16 20 (dk_at dksX5_readErrand_2 15 rfl rfl)
theorem dX5_readErrand_62 : decode cX5_readErrand 62 = .ok (.invokevirtual 282, 3) := dk_182 1 26 (dk_at dksX5_readErrand_2 17 rfl rfl)
theorem dX5_readErrand_65 : decode cX5_readErrand 65 = .ok (.iastore, 1) := dk_79 (dk_at dksX5_readErrand_2 20 rfl rfl)
theorem dX5_readErrand_66 : decode cX5_readErrand 66 = .ok (.aload_n 0, 1) := dk_42 (dk_at dksX5_readErrand_2 21 rfl rfl)
theorem dX5_readErrand_67 : decode cX5_readErrand 67 = .ok (.getfield 111, 3) := dk_180 0 111 (dk_at dksX5_readErrand_3 0 rfl rfl)
theorem dX5_readErrand_70 : decode cX5_readErrand 70 = .ok (.iload_n 2, 1) := dk_28 (dk_at dksX5_readErrand_3 3 rfl rfl)
theorem dX5_readErrand_71 : decode cX5_readErrand 71 = .ok (.iconst 2, 1) := dk_5 (dk_at dksX5_readErrand_3 4 rfl rfl)
theorem dX5_readErrand_72 : decode cX5_readErrand 72 = .ok (.iadd, 1) := dk_96 (dk_at dksX5_readErrand_3 5 rfl rfl)
theorem dX5_readErrand_73 : decode cX5_readErrand 73 = .ok (.aload_n 0, 1) := dk_42 (dk_at dksX5_readErrand_3 6 rfl rfl)
theorem dX5_readErrand_74 : decode cX5_readErrand 74 = .ok (.bipush 13, 2) := dk_16 13 (dk_at dksX5_readErrand_3 7 rfl rfl)
theorem dX5_readErrand_76 : decode cX5_readErrand 76 = .ok (.iconst 0, 1) := dk_3 (dk_at dksX5_readErrand_3 9 rfl rfl)
theorem dX5_readErrand_77 : decode cX5_readErrand 77 = .ok (.bipush 60, 2) := dk_16 60 (dk_at dksX5_readErrand_3 10 rfl rfl)
theorem dX5_readErrand_79 : decode cX5_readErrand 79 = .ok (.invokevirtual 282, 3) := dk_182 1 26 (dk_at dksX5_readErrand_3 12 rfl rfl)
theorem dX5_readErrand_82 : decode cX5_readErrand 82 = .ok (.iastore, 1) := dk_79 (dk_at dksX5_readErrand_3 15 rfl rfl)
theorem dX5_readErrand_83 : decode cX5_readErrand 83 = .ok (.aload_n 0, 1) := dk_42 (dk_at dksX5_readErrand_3 16 rfl rfl)
theorem dX5_readErrand_84 : decode cX5_readErrand 84 = .ok (.getfield 111, 3) := dk_180 0 111 (dk_at dksX5_readErrand_3 17 rfl rfl)
theorem dX5_readErrand_87 : decode cX5_readErrand 87 = .ok (.bipush 122, 2) := dk_16 122 (dk_at dksX5_readErrand_3 20 rfl rfl)
theorem dX5_readErrand_89 : decode cX5_readErrand 89 = .ok (.dup2, 1) := dk_92 (dk_at dksX5_readErrand_3 22 rfl rfl)
theorem dX5_readErrand_90 : decode cX5_readErrand 90 = .ok (.iaload, 1) := dk_46 (dk_at dksX5_readErrand_3 23 rfl rfl)
theorem dX5_readErrand_91 : decode cX5_readErrand 91 = .ok (.iconst 1, 1) := dk_4 (dk_at dksX5_readErrand_4 0 rfl rfl)
theorem dX5_readErrand_92 : decode cX5_readErrand 92 = .ok (.iadd, 1) := dk_96 (dk_at dksX5_readErrand_4 1 rfl rfl)
theorem dX5_readErrand_93 : decode cX5_readErrand 93 = .ok (.iastore, 1) := dk_79 (dk_at dksX5_readErrand_4 2 rfl rfl)
theorem dX5_readErrand_94 : decode cX5_readErrand 94 = .ok (.return_, 1) := dk_177 (dk_at dksX5_readErrand_4 3 rfl rfl)
abbrev cX5_readOnce : ByteArray := prog_26_method_34_code
def yX5_readOnce : MethodName := ⟨RX5, "readOnce", "()V"⟩
def dkwX5_readOnce_8 : List UInt8 := [167, 0, 5, 16, 30, 181, 1, 36, 42, 3, 182, 1, 39, 42, 3, 3, 182, 1, 42, 177]
abbrev dktX5_readOnce_8 : List UInt8 := dkwX5_readOnce_8 ++ []
def dkwX5_readOnce_7 : List UInt8 := [180, 0, 111, 16, 126, 27, 96, 5, 100, 42, 180, 0, 252, 79, 42, 27, 5, 160, 0, 8, 16, 7]
abbrev dktX5_readOnce_7 : List UInt8 := dkwX5_readOnce_7 ++ dktX5_readOnce_8
def dkwX5_readOnce_6 : List UInt8 := [4, 160, 0, 20, 42, 180, 0, 111, 16, 125, 42, 4, 16, 30, 182, 0, 220, 79, 167, 0, 45, 42]
abbrev dktX5_readOnce_6 : List UInt8 := dkwX5_readOnce_6 ++ dktX5_readOnce_7
def dkwX5_readOnce_5 : List UInt8 := [182, 0, 220, 79, 42, 180, 0, 111, 16, 124, 42, 16, 15, 4, 16, 120, 182, 1, 26, 79, 167, 0, 67, 27]
abbrev dktX5_readOnce_5 : List UInt8 := dkwX5_readOnce_5 ++ dktX5_readOnce_6
def dkwX5_readOnce_4 : List UInt8 := [42, 89, 180, 0, 199, 4, 96, 181, 0, 199, 27, 154, 0, 36, 42, 180, 0, 111, 16, 123, 42, 3, 16, 60]
abbrev dktX5_readOnce_4 : List UInt8 := dkwX5_readOnce_4 ++ dktX5_readOnce_5
def dkwX5_readOnce_3 : List UInt8 := [6, 182, 0, 208, 42, 180, 0, 202, 158, 0, 4, 177, 42, 89, 180, 0, 255, 4, 27, 120, 128, 181, 0, 255]
abbrev dktX5_readOnce_3 : List UInt8 := dkwX5_readOnce_3 ++ dktX5_readOnce_4
def dkwX5_readOnce_2 : List UInt8 := [154, 0, 11, 42, 4, 182, 0, 208, 167, 0, 20, 42, 180, 0, 255, 27, 122, 4, 126, 4, 160, 0, 8, 42]
abbrev dktX5_readOnce_2 : List UInt8 := dkwX5_readOnce_2 ++ dktX5_readOnce_3
def dkwX5_readOnce_1 : List UInt8 := [167, 0, 12, 42, 16, 17, 5, 182, 0, 224, 5, 96, 60, 27, 4, 160, 0, 20, 42, 16, 16, 182, 0, 211]
abbrev dktX5_readOnce_1 : List UInt8 := dkwX5_readOnce_1 ++ dktX5_readOnce_2
def dkwX5_readOnce_0 : List UInt8 := [42, 16, 14, 182, 0, 211, 153, 0, 7, 3, 167, 0, 25, 42, 16, 16, 182, 0, 211, 153, 0, 7, 4]
abbrev dktX5_readOnce_0 : List UInt8 := dkwX5_readOnce_0 ++ dktX5_readOnce_1
theorem dksX5_readOnce_0 : cX5_readOnce.data.toList.drop 0 = dktX5_readOnce_0 := by decide +kernel
theorem dksX5_readOnce_1 : cX5_readOnce.data.toList.drop 23 = dktX5_readOnce_1 := dk_seg dksX5_readOnce_0 23 rfl rfl
theorem dksX5_readOnce_2 : cX5_readOnce.data.toList.drop 47 = dktX5_readOnce_2 := dk_seg dksX5_readOnce_1 24 rfl rfl
theorem dksX5_readOnce_3 : cX5_readOnce.data.toList.drop 71 = dktX5_readOnce_3 := dk_seg dksX5_readOnce_2 24 rfl rfl
theorem dksX5_readOnce_4 : cX5_readOnce.data.toList.drop 95 = dktX5_readOnce_4 := dk_seg dksX5_readOnce_3 24 rfl rfl
theorem dksX5_readOnce_5 : cX5_readOnce.data.toList.drop 119 = dktX5_readOnce_5 := dk_seg dksX5_readOnce_4 24 rfl rfl
theorem dksX5_readOnce_6 : cX5_readOnce.data.toList.drop 143 = dktX5_readOnce_6 := dk_seg dksX5_readOnce_5 24 rfl rfl
theorem dksX5_readOnce_7 : cX5_readOnce.data.toList.drop 165 = dktX5_readOnce_7 := dk_seg dksX5_readOnce_6 22 rfl rfl
theorem dksX5_readOnce_8 : cX5_readOnce.data.toList.drop 187 = dktX5_readOnce_8 := dk_seg dksX5_readOnce_7 22 rfl rfl
theorem dX5_readOnce_0 : decode cX5_readOnce 0 = .ok (.aload_n 0, 1) := dk_42 (dk_at dksX5_readOnce_0 0 rfl rfl)
theorem dX5_readOnce_1 : decode cX5_readOnce 1 = .ok (.bipush 14, 2) := dk_16 14 (dk_at dksX5_readOnce_0 1 rfl rfl)
theorem dX5_readOnce_3 : decode cX5_readOnce 3 = .ok (.invokevirtual 211, 3) := dk_182 0 211 (dk_at dksX5_readOnce_0 3 rfl rfl)
theorem dX5_readOnce_6 : decode cX5_readOnce 6 = .ok (.ifCond .eq 7, 3) := dk_153 0 7 (dk_at dksX5_readOnce_0 6 rfl rfl)
theorem dX5_readOnce_9 : decode cX5_readOnce 9 = .ok (.iconst 0, 1) := dk_3 (dk_at dksX5_readOnce_0 9 rfl rfl)
theorem dX5_readOnce_10 : decode cX5_readOnce 10 = .ok (.goto 25, 3) := dk_167 0 25 (dk_at dksX5_readOnce_0 10 rfl rfl)
theorem dX5_readOnce_13 : decode cX5_readOnce 13 = .ok (.aload_n 0, 1) := dk_42 (dk_at dksX5_readOnce_0 13 rfl rfl)
theorem dX5_readOnce_14 : decode cX5_readOnce 14 = .ok (.bipush 16, 2) := dk_16 16 (dk_at dksX5_readOnce_0 14 rfl rfl)
theorem dX5_readOnce_16 : decode cX5_readOnce 16 = .ok (.invokevirtual 211, 3) := dk_182 0 211 (dk_at dksX5_readOnce_0 16 rfl rfl)
theorem dX5_readOnce_19 : decode cX5_readOnce 19 = .ok (.ifCond .eq 7, 3) := dk_153 0 7 (dk_at dksX5_readOnce_0 19 rfl rfl)
theorem dX5_readOnce_22 : decode cX5_readOnce 22 = .ok (.iconst 1, 1) := dk_4 (dk_at dksX5_readOnce_0 22 rfl rfl)
theorem dX5_readOnce_23 : decode cX5_readOnce 23 = .ok (.goto 12, 3) := dk_167 0 12 (dk_at dksX5_readOnce_1 0 rfl rfl)
theorem dX5_readOnce_26 : decode cX5_readOnce 26 = .ok (.aload_n 0, 1) := dk_42 (dk_at dksX5_readOnce_1 3 rfl rfl)
theorem dX5_readOnce_27 : decode cX5_readOnce 27 = .ok (.bipush 17, 2) := dk_16 17 (dk_at dksX5_readOnce_1 4 rfl rfl)
theorem dX5_readOnce_29 : decode cX5_readOnce 29 = .ok (.iconst 2, 1) := dk_5 (dk_at dksX5_readOnce_1 6 rfl rfl)
theorem dX5_readOnce_30 : decode cX5_readOnce 30 = .ok (.invokevirtual 224, 3) := dk_182 0 224 (dk_at dksX5_readOnce_1 7 rfl rfl)
theorem dX5_readOnce_33 : decode cX5_readOnce 33 = .ok (.iconst 2, 1) := dk_5 (dk_at dksX5_readOnce_1 10 rfl rfl)
theorem dX5_readOnce_34 : decode cX5_readOnce 34 = .ok (.iadd, 1) := dk_96 (dk_at dksX5_readOnce_1 11 rfl rfl)
theorem dX5_readOnce_35 : decode cX5_readOnce 35 = .ok (.istore_n 1, 1) := dk_60 (dk_at dksX5_readOnce_1 12 rfl rfl)
theorem dX5_readOnce_36 : decode cX5_readOnce 36 = .ok (.iload_n 1, 1) := dk_27 (dk_at dksX5_readOnce_1 13 rfl rfl)
theorem dX5_readOnce_37 : decode cX5_readOnce 37 = .ok (.iconst 1, 1) := dk_4 (dk_at dksX5_readOnce_1 14 rfl rfl)
theorem dX5_readOnce_38 : decode cX5_readOnce 38 = .ok (.if_icmp .ne 20, 3) := dk_160 0 20 (dk_at dksX5_readOnce_1 15 rfl rfl)
theorem dX5_readOnce_41 : decode cX5_readOnce 41 = .ok (.aload_n 0, 1) := dk_42 (dk_at dksX5_readOnce_1 18 rfl rfl)
theorem dX5_readOnce_42 : decode cX5_readOnce 42 = .ok (.bipush 16, 2) := dk_16 16 (dk_at dksX5_readOnce_1 19 rfl rfl)
theorem dX5_readOnce_44 : decode cX5_readOnce 44 = .ok (.invokevirtual 211, 3) := dk_182 0 211 (dk_at dksX5_readOnce_1 21 rfl rfl)
theorem dX5_readOnce_47 : decode cX5_readOnce 47 = .ok (.ifCond .ne 11, 3) := dk_154 0 11 (dk_at dksX5_readOnce_2 0 rfl rfl)
theorem dX5_readOnce_50 : decode cX5_readOnce 50 = .ok (.aload_n 0, 1) := dk_42 (dk_at dksX5_readOnce_2 3 rfl rfl)
theorem dX5_readOnce_51 : decode cX5_readOnce 51 = .ok (.iconst 1, 1) := dk_4 (dk_at dksX5_readOnce_2 4 rfl rfl)
theorem dX5_readOnce_52 : decode cX5_readOnce 52 = .ok (.invokevirtual 208, 3) := dk_182 0 208 (dk_at dksX5_readOnce_2 5 rfl rfl)
theorem dX5_readOnce_55 : decode cX5_readOnce 55 = .ok (.goto 20, 3) := dk_167 0 20 (dk_at dksX5_readOnce_2 8 rfl rfl)
theorem dX5_readOnce_58 : decode cX5_readOnce 58 = .ok (.aload_n 0, 1) := dk_42 (dk_at dksX5_readOnce_2 11 rfl rfl)
theorem dX5_readOnce_59 : decode cX5_readOnce 59 = .ok (.getfield 255, 3) := dk_180 0 255 (dk_at dksX5_readOnce_2 12 rfl rfl)
theorem dX5_readOnce_62 : decode cX5_readOnce 62 = .ok (.iload_n 1, 1) := dk_27 (dk_at dksX5_readOnce_2 15 rfl rfl)
theorem dX5_readOnce_63 : decode cX5_readOnce 63 = .ok (.ishr, 1) := dk_122 (dk_at dksX5_readOnce_2 16 rfl rfl)
theorem dX5_readOnce_64 : decode cX5_readOnce 64 = .ok (.iconst 1, 1) := dk_4 (dk_at dksX5_readOnce_2 17 rfl rfl)
theorem dX5_readOnce_65 : decode cX5_readOnce 65 = .ok (.iand, 1) := dk_126 (dk_at dksX5_readOnce_2 18 rfl rfl)
theorem dX5_readOnce_66 : decode cX5_readOnce 66 = .ok (.iconst 1, 1) := dk_4 (dk_at dksX5_readOnce_2 19 rfl rfl)
theorem dX5_readOnce_67 : decode cX5_readOnce 67 = .ok (.if_icmp .ne 8, 3) := dk_160 0 8 (dk_at dksX5_readOnce_2 20 rfl rfl)
theorem dX5_readOnce_70 : decode cX5_readOnce 70 = .ok (.aload_n 0, 1) := dk_42 (dk_at dksX5_readOnce_2 23 rfl rfl)
theorem dX5_readOnce_71 : decode cX5_readOnce 71 = .ok (.iconst 3, 1) := dk_6 (dk_at dksX5_readOnce_3 0 rfl rfl)
theorem dX5_readOnce_72 : decode cX5_readOnce 72 = .ok (.invokevirtual 208, 3) := dk_182 0 208 (dk_at dksX5_readOnce_3 1 rfl rfl)
theorem dX5_readOnce_75 : decode cX5_readOnce 75 = .ok (.aload_n 0, 1) := dk_42 (dk_at dksX5_readOnce_3 4 rfl rfl)
theorem dX5_readOnce_76 : decode cX5_readOnce 76 = .ok (.getfield 202, 3) := dk_180 0 202 (dk_at dksX5_readOnce_3 5 rfl rfl)
theorem dX5_readOnce_79 : decode cX5_readOnce 79 = .ok (.ifCond .le 4, 3) := dk_158 0 4 (dk_at dksX5_readOnce_3 8 rfl rfl)
theorem dX5_readOnce_82 : decode cX5_readOnce 82 = .ok (.return_, 1) := dk_177 (dk_at dksX5_readOnce_3 11 rfl rfl)
theorem dX5_readOnce_83 : decode cX5_readOnce 83 = .ok (.aload_n 0, 1) := dk_42 (dk_at dksX5_readOnce_3 12 rfl rfl)
theorem dX5_readOnce_84 : decode cX5_readOnce 84 = .ok (.dup, 1) := dk_89 (dk_at dksX5_readOnce_3 13 rfl rfl)
theorem dX5_readOnce_85 : decode cX5_readOnce 85 = .ok (.getfield 255, 3) := dk_180 0 255 (dk_at dksX5_readOnce_3 14 rfl rfl)
theorem dX5_readOnce_88 : decode cX5_readOnce 88 = .ok (.iconst 1, 1) := dk_4 (dk_at dksX5_readOnce_3 17 rfl rfl)
theorem dX5_readOnce_89 : decode cX5_readOnce 89 = .ok (.iload_n 1, 1) := dk_27 (dk_at dksX5_readOnce_3 18 rfl rfl)
theorem dX5_readOnce_90 : decode cX5_readOnce 90 = .ok (.ishl, 1) := dk_120 (dk_at dksX5_readOnce_3 19 rfl rfl)
theorem dX5_readOnce_91 : decode cX5_readOnce 91 = .ok (.ior, 1) := dk_128 (dk_at dksX5_readOnce_3 20 rfl rfl)
theorem dX5_readOnce_92 : decode cX5_readOnce 92 = .ok (.putfield 255, 3) := dk_181 0 255 (dk_at dksX5_readOnce_3 21 rfl rfl)
theorem dX5_readOnce_95 : decode cX5_readOnce 95 = .ok (.aload_n 0, 1) := dk_42 (dk_at dksX5_readOnce_4 0 rfl rfl)
theorem dX5_readOnce_96 : decode cX5_readOnce 96 = .ok (.dup, 1) := dk_89 (dk_at dksX5_readOnce_4 1 rfl rfl)
theorem dX5_readOnce_97 : decode cX5_readOnce 97 = .ok (.getfield 199, 3) := dk_180 0 199 (dk_at dksX5_readOnce_4 2 rfl rfl)
theorem dX5_readOnce_100 : decode cX5_readOnce 100 = .ok (.iconst 1, 1) := dk_4 (dk_at dksX5_readOnce_4 5 rfl rfl)
theorem dX5_readOnce_101 : decode cX5_readOnce 101 = .ok (.iadd, 1) := dk_96 (dk_at dksX5_readOnce_4 6 rfl rfl)
theorem dX5_readOnce_102 : decode cX5_readOnce 102 = .ok (.putfield 199, 3) := dk_181 0 199 (dk_at dksX5_readOnce_4 7 rfl rfl)
theorem dX5_readOnce_105 : decode cX5_readOnce 105 = .ok (.iload_n 1, 1) := dk_27 (dk_at dksX5_readOnce_4 10 rfl rfl)
theorem dX5_readOnce_106 : decode cX5_readOnce 106 = .ok (.ifCond .ne 36, 3) := dk_154 0 36 (dk_at dksX5_readOnce_4 11 rfl rfl)
theorem dX5_readOnce_109 : decode cX5_readOnce 109 = .ok (.aload_n 0, 1) := dk_42 (dk_at dksX5_readOnce_4 14 rfl rfl)
theorem dX5_readOnce_110 : decode cX5_readOnce 110 = .ok (.getfield 111, 3) := dk_180 0 111 (dk_at dksX5_readOnce_4 15 rfl rfl)
theorem dX5_readOnce_113 : decode cX5_readOnce 113 = .ok (.bipush 123, 2) := dk_16 123 (dk_at dksX5_readOnce_4 18 rfl rfl)
theorem dX5_readOnce_115 : decode cX5_readOnce 115 = .ok (.aload_n 0, 1) := dk_42 (dk_at dksX5_readOnce_4 20 rfl rfl)
theorem dX5_readOnce_116 : decode cX5_readOnce 116 = .ok (.iconst 0, 1) := dk_3 (dk_at dksX5_readOnce_4 21 rfl rfl)
theorem dX5_readOnce_117 : decode cX5_readOnce 117 = .ok (.bipush 60, 2) := dk_16 60 (dk_at dksX5_readOnce_4 22 rfl rfl)
theorem dX5_readOnce_119 : decode cX5_readOnce 119 = .ok (.invokevirtual 220, 3) := dk_182 0 220 (dk_at dksX5_readOnce_5 0 rfl rfl)
theorem dX5_readOnce_122 : decode cX5_readOnce 122 = .ok (.iastore, 1) := dk_79 (dk_at dksX5_readOnce_5 3 rfl rfl)
theorem dX5_readOnce_123 : decode cX5_readOnce 123 = .ok (.aload_n 0, 1) := dk_42 (dk_at dksX5_readOnce_5 4 rfl rfl)
theorem dX5_readOnce_124 : decode cX5_readOnce 124 = .ok (.getfield 111, 3) := dk_180 0 111 (dk_at dksX5_readOnce_5 5 rfl rfl)
theorem dX5_readOnce_127 : decode cX5_readOnce 127 = .ok (.bipush 124, 2) := dk_16 124 (dk_at dksX5_readOnce_5 8 rfl rfl)
theorem dX5_readOnce_129 : decode cX5_readOnce 129 = .ok (.aload_n 0, 1) := dk_42 (dk_at dksX5_readOnce_5 10 rfl rfl)
theorem dX5_readOnce_130 : decode cX5_readOnce 130 = .ok (.bipush 15, 2) := dk_16 15 (dk_at dksX5_readOnce_5 11 rfl rfl)
theorem dX5_readOnce_132 : decode cX5_readOnce 132 = .ok (.iconst 1, 1) := dk_4 (dk_at dksX5_readOnce_5 13 rfl rfl)
theorem dX5_readOnce_133 : decode cX5_readOnce 133 = .ok (.bipush 120, 2) := dk_16 120 (dk_at dksX5_readOnce_5 14 rfl rfl)
theorem dX5_readOnce_135 : decode cX5_readOnce 135 = .ok (.invokevirtual 282, 3) := dk_182 1 26 (dk_at dksX5_readOnce_5 16 rfl rfl)
theorem dX5_readOnce_138 : decode cX5_readOnce 138 = .ok (.iastore, 1) := dk_79 (dk_at dksX5_readOnce_5 19 rfl rfl)
theorem dX5_readOnce_139 : decode cX5_readOnce 139 = .ok (.goto 67, 3) := dk_167 0 67 (dk_at dksX5_readOnce_5 20 rfl rfl)
theorem dX5_readOnce_142 : decode cX5_readOnce 142 = .ok (.iload_n 1, 1) := dk_27 (dk_at dksX5_readOnce_5 23 rfl rfl)
theorem dX5_readOnce_143 : decode cX5_readOnce 143 = .ok (.iconst 1, 1) := dk_4 (dk_at dksX5_readOnce_6 0 rfl rfl)
theorem dX5_readOnce_144 : decode cX5_readOnce 144 = .ok (.if_icmp .ne 20, 3) := dk_160 0 20 (dk_at dksX5_readOnce_6 1 rfl rfl)
theorem dX5_readOnce_147 : decode cX5_readOnce 147 = .ok (.aload_n 0, 1) := dk_42 (dk_at dksX5_readOnce_6 4 rfl rfl)
theorem dX5_readOnce_148 : decode cX5_readOnce 148 = .ok (.getfield 111, 3) := dk_180 0 111 (dk_at dksX5_readOnce_6 5 rfl rfl)
theorem dX5_readOnce_151 : decode cX5_readOnce 151 = .ok (.bipush 125, 2) := dk_16 125 (dk_at dksX5_readOnce_6 8 rfl rfl)
theorem dX5_readOnce_153 : decode cX5_readOnce 153 = .ok (.aload_n 0, 1) := dk_42 (dk_at dksX5_readOnce_6 10 rfl rfl)
theorem dX5_readOnce_154 : decode cX5_readOnce 154 = .ok (.iconst 1, 1) := dk_4 (dk_at dksX5_readOnce_6 11 rfl rfl)
theorem dX5_readOnce_155 : decode cX5_readOnce 155 = .ok (.bipush 30, 2) := dk_16 30 (dk_at dksX5_readOnce_6 12 rfl rfl)
theorem dX5_readOnce_157 : decode cX5_readOnce 157 = .ok (.invokevirtual 220, 3) := dk_182 0 220 (dk_at dksX5_readOnce_6 14 rfl rfl)
theorem dX5_readOnce_160 : decode cX5_readOnce 160 = .ok (.iastore, 1) := dk_79 (dk_at dksX5_readOnce_6 17 rfl rfl)
theorem dX5_readOnce_161 : decode cX5_readOnce 161 = .ok (.goto 45, 3) := dk_167 0 45 (dk_at dksX5_readOnce_6 18 rfl rfl)
theorem dX5_readOnce_164 : decode cX5_readOnce 164 = .ok (.aload_n 0, 1) := dk_42 (dk_at dksX5_readOnce_6 21 rfl rfl)
theorem dX5_readOnce_165 : decode cX5_readOnce 165 = .ok (.getfield 111, 3) := dk_180 0 111 (dk_at dksX5_readOnce_7 0 rfl rfl)
theorem dX5_readOnce_168 : decode cX5_readOnce 168 = .ok (.bipush 126, 2) := dk_16 126 (dk_at dksX5_readOnce_7 3 rfl rfl)
theorem dX5_readOnce_170 : decode cX5_readOnce 170 = .ok (.iload_n 1, 1) := dk_27 (dk_at dksX5_readOnce_7 5 rfl rfl)
theorem dX5_readOnce_171 : decode cX5_readOnce 171 = .ok (.iadd, 1) := dk_96 (dk_at dksX5_readOnce_7 6 rfl rfl)
theorem dX5_readOnce_172 : decode cX5_readOnce 172 = .ok (.iconst 2, 1) := dk_5 (dk_at dksX5_readOnce_7 7 rfl rfl)
theorem dX5_readOnce_173 : decode cX5_readOnce 173 = .ok (.isub, 1) := dk_100 (dk_at dksX5_readOnce_7 8 rfl rfl)
theorem dX5_readOnce_174 : decode cX5_readOnce 174 = .ok (.aload_n 0, 1) := dk_42 (dk_at dksX5_readOnce_7 9 rfl rfl)
theorem dX5_readOnce_175 : decode cX5_readOnce 175 = .ok (.getfield 252, 3) := dk_180 0 252 (dk_at dksX5_readOnce_7 10 rfl rfl)
theorem dX5_readOnce_178 : decode cX5_readOnce 178 = .ok (.iastore, 1) := dk_79 (dk_at dksX5_readOnce_7 13 rfl rfl)
theorem dX5_readOnce_179 : decode cX5_readOnce 179 = .ok (.aload_n 0, 1) := dk_42 (dk_at dksX5_readOnce_7 14 rfl rfl)
theorem dX5_readOnce_180 : decode cX5_readOnce 180 = .ok (.iload_n 1, 1) := dk_27 (dk_at dksX5_readOnce_7 15 rfl rfl)
theorem dX5_readOnce_181 : decode cX5_readOnce 181 = .ok (.iconst 2, 1) := dk_5 (dk_at dksX5_readOnce_7 16 rfl rfl)
theorem dX5_readOnce_182 : decode cX5_readOnce 182 = .ok (.if_icmp .ne 8, 3) := dk_160 0 8 (dk_at dksX5_readOnce_7 17 rfl rfl)
theorem dX5_readOnce_185 : decode cX5_readOnce 185 = .ok (.bipush 7, 2) := dk_16 7 (dk_at dksX5_readOnce_7 20 rfl rfl)
theorem dX5_readOnce_187 : decode cX5_readOnce 187 = .ok (.goto 5, 3) := dk_167 0 5 (dk_at dksX5_readOnce_8 0 rfl rfl)
theorem dX5_readOnce_190 : decode cX5_readOnce 190 = .ok (.bipush 30, 2) := dk_16 30 (dk_at dksX5_readOnce_8 3 rfl rfl)
theorem dX5_readOnce_192 : decode cX5_readOnce 192 = .ok (.putfield 292, 3) := dk_181 1 36 (dk_at dksX5_readOnce_8 5 rfl rfl)
theorem dX5_readOnce_195 : decode cX5_readOnce 195 = .ok (.aload_n 0, 1) := dk_42 (dk_at dksX5_readOnce_8 8 rfl rfl)
theorem dX5_readOnce_196 : decode cX5_readOnce 196 = .ok (.iconst 0, 1) := dk_3 (dk_at dksX5_readOnce_8 9 rfl rfl)
theorem dX5_readOnce_197 : decode cX5_readOnce 197 = .ok (.invokevirtual 295, 3) := dk_182 1 39 (dk_at dksX5_readOnce_8 10 rfl rfl)
theorem dX5_readOnce_200 : decode cX5_readOnce 200 = .ok (.aload_n 0, 1) := dk_42 (dk_at dksX5_readOnce_8 13 rfl rfl)
theorem dX5_readOnce_201 : decode cX5_readOnce 201 = .ok (.iconst 0, 1) := dk_3 (dk_at dksX5_readOnce_8 14 rfl rfl)
theorem dX5_readOnce_202 : decode cX5_readOnce 202 = .ok (.iconst 0, 1) := dk_3 (dk_at dksX5_readOnce_8 15 rfl rfl)
theorem dX5_readOnce_203 : decode cX5_readOnce 203 = .ok (.invokevirtual 298, 3) := dk_182 1 42 (dk_at dksX5_readOnce_8 16 rfl rfl)
theorem dX5_readOnce_206 : decode cX5_readOnce 206 = .ok (.return_, 1) := dk_177 (dk_at dksX5_readOnce_8 19 rfl rfl)
abbrev cX5_all : ByteArray := prog_26_method_38_code
def yX5_all : MethodName := ⟨RX5, "all", "(I)V"⟩
def dkwX5_all_2 : List UInt8 := [153, 0, 8, 16, 9, 167, 0, 5, 16, 10, 3, 182, 1, 42, 167, 255, 200, 177]
abbrev dktX5_all_2 : List UInt8 := dkwX5_all_2 ++ []
def dkwX5_all_1 : List UInt8 := [16, 30, 182, 0, 211, 61, 42, 89, 180, 0, 199, 4, 96, 181, 0, 199, 42, 27, 182, 1, 49, 42, 28]
abbrev dktX5_all_1 : List UInt8 := dkwX5_all_1 ++ dktX5_all_2
def dkwX5_all_0 : List UInt8 := [42, 27, 182, 1, 49, 42, 16, 30, 182, 0, 211, 154, 0, 12, 42, 16, 31, 182, 0, 211, 153, 0, 44, 42]
abbrev dktX5_all_0 : List UInt8 := dkwX5_all_0 ++ dktX5_all_1
theorem dksX5_all_0 : cX5_all.data.toList.drop 0 = dktX5_all_0 := by decide +kernel
theorem dksX5_all_1 : cX5_all.data.toList.drop 24 = dktX5_all_1 := dk_seg dksX5_all_0 24 rfl rfl
theorem dksX5_all_2 : cX5_all.data.toList.drop 47 = dktX5_all_2 := dk_seg dksX5_all_1 23 rfl rfl
theorem dX5_all_0 : decode cX5_all 0 = .ok (.aload_n 0, 1) := dk_42 (dk_at dksX5_all_0 0 rfl rfl)
theorem dX5_all_1 : decode cX5_all 1 = .ok (.iload_n 1, 1) := dk_27 (dk_at dksX5_all_0 1 rfl rfl)
theorem dX5_all_2 : decode cX5_all 2 = .ok (.invokevirtual 305, 3) := dk_182 1 49 (dk_at dksX5_all_0 2 rfl rfl)
theorem dX5_all_5 : decode cX5_all 5 = .ok (.aload_n 0, 1) := dk_42 (dk_at dksX5_all_0 5 rfl rfl)
theorem dX5_all_6 : decode cX5_all 6 = .ok (.bipush 30, 2) := dk_16 30 (dk_at dksX5_all_0 6 rfl rfl)
theorem dX5_all_8 : decode cX5_all 8 = .ok (.invokevirtual 211, 3) := dk_182 0 211 (dk_at dksX5_all_0 8 rfl rfl)
theorem dX5_all_11 : decode cX5_all 11 = .ok (.ifCond .ne 12, 3) := dk_154 0 12 (dk_at dksX5_all_0 11 rfl rfl)
theorem dX5_all_14 : decode cX5_all 14 = .ok (.aload_n 0, 1) := dk_42 (dk_at dksX5_all_0 14 rfl rfl)
theorem dX5_all_15 : decode cX5_all 15 = .ok (.bipush 31, 2) := dk_16 31 (dk_at dksX5_all_0 15 rfl rfl)
theorem dX5_all_17 : decode cX5_all 17 = .ok (.invokevirtual 211, 3) := dk_182 0 211 (dk_at dksX5_all_0 17 rfl rfl)
theorem dX5_all_20 : decode cX5_all 20 = .ok (.ifCond .eq 44, 3) := dk_153 0 44 (dk_at dksX5_all_0 20 rfl rfl)
theorem dX5_all_23 : decode cX5_all 23 = .ok (.aload_n 0, 1) := dk_42 (dk_at dksX5_all_0 23 rfl rfl)
theorem dX5_all_24 : decode cX5_all 24 = .ok (.bipush 30, 2) := dk_16 30 (dk_at dksX5_all_1 0 rfl rfl)
theorem dX5_all_26 : decode cX5_all 26 = .ok (.invokevirtual 211, 3) := dk_182 0 211 (dk_at dksX5_all_1 2 rfl rfl)
theorem dX5_all_29 : decode cX5_all 29 = .ok (.istore_n 2, 1) := dk_61 (dk_at dksX5_all_1 5 rfl rfl)
theorem dX5_all_30 : decode cX5_all 30 = .ok (.aload_n 0, 1) := dk_42 (dk_at dksX5_all_1 6 rfl rfl)
theorem dX5_all_31 : decode cX5_all 31 = .ok (.dup, 1) := dk_89 (dk_at dksX5_all_1 7 rfl rfl)
theorem dX5_all_32 : decode cX5_all 32 = .ok (.getfield 199, 3) := dk_180 0 199 (dk_at dksX5_all_1 8 rfl rfl)
theorem dX5_all_35 : decode cX5_all 35 = .ok (.iconst 1, 1) := dk_4 (dk_at dksX5_all_1 11 rfl rfl)
theorem dX5_all_36 : decode cX5_all 36 = .ok (.iadd, 1) := dk_96 (dk_at dksX5_all_1 12 rfl rfl)
theorem dX5_all_37 : decode cX5_all 37 = .ok (.putfield 199, 3) := dk_181 0 199 (dk_at dksX5_all_1 13 rfl rfl)
theorem dX5_all_40 : decode cX5_all 40 = .ok (.aload_n 0, 1) := dk_42 (dk_at dksX5_all_1 16 rfl rfl)
theorem dX5_all_41 : decode cX5_all 41 = .ok (.iload_n 1, 1) := dk_27 (dk_at dksX5_all_1 17 rfl rfl)
theorem dX5_all_42 : decode cX5_all 42 = .ok (.invokevirtual 305, 3) := dk_182 1 49 (dk_at dksX5_all_1 18 rfl rfl)
theorem dX5_all_45 : decode cX5_all 45 = .ok (.aload_n 0, 1) := dk_42 (dk_at dksX5_all_1 21 rfl rfl)
theorem dX5_all_46 : decode cX5_all 46 = .ok (.iload_n 2, 1) := dk_28 (dk_at dksX5_all_1 22 rfl rfl)
theorem dX5_all_47 : decode cX5_all 47 = .ok (.ifCond .eq 8, 3) := dk_153 0 8 (dk_at dksX5_all_2 0 rfl rfl)
theorem dX5_all_50 : decode cX5_all 50 = .ok (.bipush 9, 2) := dk_16 9 (dk_at dksX5_all_2 3 rfl rfl)
theorem dX5_all_52 : decode cX5_all 52 = .ok (.goto 5, 3) := dk_167 0 5 (dk_at dksX5_all_2 5 rfl rfl)
theorem dX5_all_55 : decode cX5_all 55 = .ok (.bipush 10, 2) := dk_16 10 (dk_at dksX5_all_2 8 rfl rfl)
theorem dX5_all_57 : decode cX5_all 57 = .ok (.iconst 0, 1) := dk_3 (dk_at dksX5_all_2 10 rfl rfl)
theorem dX5_all_58 : decode cX5_all 58 = .ok (.invokevirtual 298, 3) := dk_182 1 42 (dk_at dksX5_all_2 11 rfl rfl)
theorem dX5_all_61 : decode cX5_all 61 = .ok (.goto (-56), 3) := dk_167 255 200 (dk_at dksX5_all_2 14 rfl rfl)
theorem dX5_all_64 : decode cX5_all 64 = .ok (.return_, 1) := dk_177 (dk_at dksX5_all_2 17 rfl rfl)
abbrev cX5_test : ByteArray := prog_26_method_39_code
def yX5_test : MethodName := ⟨RX5, "test", "(I)V"⟩
def dkwX5_test_2 : List UInt8 := [182, 1, 42, 177]
abbrev dktX5_test_2 : List UInt8 := dkwX5_test_2 ++ []
def dkwX5_test_1 : List UInt8 := [182, 1, 55, 153, 0, 24, 42, 27, 182, 1, 52, 42, 28, 153, 0, 8, 16, 7, 167, 0, 5, 16, 8, 3]
abbrev dktX5_test_1 : List UInt8 := dkwX5_test_1 ++ dktX5_test_2
def dkwX5_test_0 : List UInt8 := [42, 27, 182, 1, 52, 42, 16, 60, 182, 0, 205, 61, 42, 16, 60, 182, 1, 55, 154, 0, 12, 42, 16, 61]
abbrev dktX5_test_0 : List UInt8 := dkwX5_test_0 ++ dktX5_test_1
theorem dksX5_test_0 : cX5_test.data.toList.drop 0 = dktX5_test_0 := by decide +kernel
theorem dksX5_test_1 : cX5_test.data.toList.drop 24 = dktX5_test_1 := dk_seg dksX5_test_0 24 rfl rfl
theorem dksX5_test_2 : cX5_test.data.toList.drop 48 = dktX5_test_2 := dk_seg dksX5_test_1 24 rfl rfl
theorem dX5_test_0 : decode cX5_test 0 = .ok (.aload_n 0, 1) := dk_42 (dk_at dksX5_test_0 0 rfl rfl)
theorem dX5_test_1 : decode cX5_test 1 = .ok (.iload_n 1, 1) := dk_27 (dk_at dksX5_test_0 1 rfl rfl)
theorem dX5_test_2 : decode cX5_test 2 = .ok (.invokevirtual 308, 3) := dk_182 1 52 (dk_at dksX5_test_0 2 rfl rfl)
theorem dX5_test_5 : decode cX5_test 5 = .ok (.aload_n 0, 1) := dk_42 (dk_at dksX5_test_0 5 rfl rfl)
theorem dX5_test_6 : decode cX5_test 6 = .ok (.bipush 60, 2) := dk_16 60 (dk_at dksX5_test_0 6 rfl rfl)
theorem dX5_test_8 : decode cX5_test 8 = .ok (.invokevirtual 205, 3) := dk_182 0 205 (dk_at dksX5_test_0 8 rfl rfl)
theorem dX5_test_11 : decode cX5_test 11 = .ok (.istore_n 2, 1) := dk_61 (dk_at dksX5_test_0 11 rfl rfl)
theorem dX5_test_12 : decode cX5_test 12 = .ok (.aload_n 0, 1) := dk_42 (dk_at dksX5_test_0 12 rfl rfl)
theorem dX5_test_13 : decode cX5_test 13 = .ok (.bipush 60, 2) := dk_16 60 (dk_at dksX5_test_0 13 rfl rfl)
theorem dX5_test_15 : decode cX5_test 15 = .ok (.invokevirtual 311, 3) := dk_182 1 55 (dk_at dksX5_test_0 15 rfl rfl)
theorem dX5_test_18 : decode cX5_test 18 = .ok (.ifCond .ne 12, 3) := dk_154 0 12 (dk_at dksX5_test_0 18 rfl rfl)
theorem dX5_test_21 : decode cX5_test 21 = .ok (.aload_n 0, 1) := dk_42 (dk_at dksX5_test_0 21 rfl rfl)
theorem dX5_test_22 : decode cX5_test 22 = .ok (.bipush 61, 2) := dk_16 61 (dk_at dksX5_test_0 22 rfl rfl)
theorem dX5_test_24 : decode cX5_test 24 = .ok (.invokevirtual 311, 3) := dk_182 1 55 (dk_at dksX5_test_1 0 rfl rfl)
theorem dX5_test_27 : decode cX5_test 27 = .ok (.ifCond .eq 24, 3) := dk_153 0 24 (dk_at dksX5_test_1 3 rfl rfl)
theorem dX5_test_30 : decode cX5_test 30 = .ok (.aload_n 0, 1) := dk_42 (dk_at dksX5_test_1 6 rfl rfl)
theorem dX5_test_31 : decode cX5_test 31 = .ok (.iload_n 1, 1) := dk_27 (dk_at dksX5_test_1 7 rfl rfl)
theorem dX5_test_32 : decode cX5_test 32 = .ok (.invokevirtual 308, 3) := dk_182 1 52 (dk_at dksX5_test_1 8 rfl rfl)
theorem dX5_test_35 : decode cX5_test 35 = .ok (.aload_n 0, 1) := dk_42 (dk_at dksX5_test_1 11 rfl rfl)
theorem dX5_test_36 : decode cX5_test 36 = .ok (.iload_n 2, 1) := dk_28 (dk_at dksX5_test_1 12 rfl rfl)
theorem dX5_test_37 : decode cX5_test 37 = .ok (.ifCond .eq 8, 3) := dk_153 0 8 (dk_at dksX5_test_1 13 rfl rfl)
theorem dX5_test_40 : decode cX5_test 40 = .ok (.bipush 7, 2) := dk_16 7 (dk_at dksX5_test_1 16 rfl rfl)
theorem dX5_test_42 : decode cX5_test 42 = .ok (.goto 5, 3) := dk_167 0 5 (dk_at dksX5_test_1 18 rfl rfl)
theorem dX5_test_45 : decode cX5_test 45 = .ok (.bipush 8, 2) := dk_16 8 (dk_at dksX5_test_1 21 rfl rfl)
theorem dX5_test_47 : decode cX5_test 47 = .ok (.iconst 0, 1) := dk_3 (dk_at dksX5_test_1 23 rfl rfl)
theorem dX5_test_48 : decode cX5_test 48 = .ok (.invokevirtual 298, 3) := dk_182 1 42 (dk_at dksX5_test_2 0 rfl rfl)
theorem dX5_test_51 : decode cX5_test 51 = .ok (.return_, 1) := dk_177 (dk_at dksX5_test_2 3 rfl rfl)
abbrev cX5_sums : ByteArray := prog_26_method_40_code
def yX5_sums : MethodName := ⟨RX5, "sums", "(I)V"⟩
def dkwX5_sums_2 : List UInt8 := [153, 0, 7, 7, 167, 0, 4, 8, 3, 182, 1, 42, 167, 255, 202, 177]
abbrev dktX5_sums_2 : List UInt8 := dkwX5_sums_2 ++ []
def dkwX5_sums_1 : List UInt8 := [16, 43, 182, 0, 205, 61, 42, 89, 180, 0, 199, 4, 96, 181, 0, 199, 42, 27, 182, 1, 58, 42, 28]
abbrev dktX5_sums_1 : List UInt8 := dkwX5_sums_1 ++ dktX5_sums_2
def dkwX5_sums_0 : List UInt8 := [42, 27, 182, 1, 58, 42, 16, 43, 182, 0, 205, 154, 0, 12, 42, 16, 45, 182, 0, 205, 153, 0, 42, 42]
abbrev dktX5_sums_0 : List UInt8 := dkwX5_sums_0 ++ dktX5_sums_1
theorem dksX5_sums_0 : cX5_sums.data.toList.drop 0 = dktX5_sums_0 := by decide +kernel
theorem dksX5_sums_1 : cX5_sums.data.toList.drop 24 = dktX5_sums_1 := dk_seg dksX5_sums_0 24 rfl rfl
theorem dksX5_sums_2 : cX5_sums.data.toList.drop 47 = dktX5_sums_2 := dk_seg dksX5_sums_1 23 rfl rfl
theorem dX5_sums_0 : decode cX5_sums 0 = .ok (.aload_n 0, 1) := dk_42 (dk_at dksX5_sums_0 0 rfl rfl)
theorem dX5_sums_1 : decode cX5_sums 1 = .ok (.iload_n 1, 1) := dk_27 (dk_at dksX5_sums_0 1 rfl rfl)
theorem dX5_sums_2 : decode cX5_sums 2 = .ok (.invokevirtual 314, 3) := dk_182 1 58 (dk_at dksX5_sums_0 2 rfl rfl)
theorem dX5_sums_5 : decode cX5_sums 5 = .ok (.aload_n 0, 1) := dk_42 (dk_at dksX5_sums_0 5 rfl rfl)
theorem dX5_sums_6 : decode cX5_sums 6 = .ok (.bipush 43, 2) := dk_16 43 (dk_at dksX5_sums_0 6 rfl rfl)
theorem dX5_sums_8 : decode cX5_sums 8 = .ok (.invokevirtual 205, 3) := dk_182 0 205 (dk_at dksX5_sums_0 8 rfl rfl)
theorem dX5_sums_11 : decode cX5_sums 11 = .ok (.ifCond .ne 12, 3) := dk_154 0 12 (dk_at dksX5_sums_0 11 rfl rfl)
theorem dX5_sums_14 : decode cX5_sums 14 = .ok (.aload_n 0, 1) := dk_42 (dk_at dksX5_sums_0 14 rfl rfl)
theorem dX5_sums_15 : decode cX5_sums 15 = .ok (.bipush 45, 2) := dk_16 45 (dk_at dksX5_sums_0 15 rfl rfl)
theorem dX5_sums_17 : decode cX5_sums 17 = .ok (.invokevirtual 205, 3) := dk_182 0 205 (dk_at dksX5_sums_0 17 rfl rfl)
theorem dX5_sums_20 : decode cX5_sums 20 = .ok (.ifCond .eq 42, 3) := dk_153 0 42 (dk_at dksX5_sums_0 20 rfl rfl)
theorem dX5_sums_23 : decode cX5_sums 23 = .ok (.aload_n 0, 1) := dk_42 (dk_at dksX5_sums_0 23 rfl rfl)
theorem dX5_sums_24 : decode cX5_sums 24 = .ok (.bipush 43, 2) := dk_16 43 (dk_at dksX5_sums_1 0 rfl rfl)
theorem dX5_sums_26 : decode cX5_sums 26 = .ok (.invokevirtual 205, 3) := dk_182 0 205 (dk_at dksX5_sums_1 2 rfl rfl)
theorem dX5_sums_29 : decode cX5_sums 29 = .ok (.istore_n 2, 1) := dk_61 (dk_at dksX5_sums_1 5 rfl rfl)
theorem dX5_sums_30 : decode cX5_sums 30 = .ok (.aload_n 0, 1) := dk_42 (dk_at dksX5_sums_1 6 rfl rfl)
theorem dX5_sums_31 : decode cX5_sums 31 = .ok (.dup, 1) := dk_89 (dk_at dksX5_sums_1 7 rfl rfl)
theorem dX5_sums_32 : decode cX5_sums 32 = .ok (.getfield 199, 3) := dk_180 0 199 (dk_at dksX5_sums_1 8 rfl rfl)
theorem dX5_sums_35 : decode cX5_sums 35 = .ok (.iconst 1, 1) := dk_4 (dk_at dksX5_sums_1 11 rfl rfl)
theorem dX5_sums_36 : decode cX5_sums 36 = .ok (.iadd, 1) := dk_96 (dk_at dksX5_sums_1 12 rfl rfl)
theorem dX5_sums_37 : decode cX5_sums 37 = .ok (.putfield 199, 3) := dk_181 0 199 (dk_at dksX5_sums_1 13 rfl rfl)
theorem dX5_sums_40 : decode cX5_sums 40 = .ok (.aload_n 0, 1) := dk_42 (dk_at dksX5_sums_1 16 rfl rfl)
theorem dX5_sums_41 : decode cX5_sums 41 = .ok (.iload_n 1, 1) := dk_27 (dk_at dksX5_sums_1 17 rfl rfl)
theorem dX5_sums_42 : decode cX5_sums 42 = .ok (.invokevirtual 314, 3) := dk_182 1 58 (dk_at dksX5_sums_1 18 rfl rfl)
theorem dX5_sums_45 : decode cX5_sums 45 = .ok (.aload_n 0, 1) := dk_42 (dk_at dksX5_sums_1 21 rfl rfl)
theorem dX5_sums_46 : decode cX5_sums 46 = .ok (.iload_n 2, 1) := dk_28 (dk_at dksX5_sums_1 22 rfl rfl)
theorem dX5_sums_47 : decode cX5_sums 47 = .ok (.ifCond .eq 7, 3) := dk_153 0 7 (dk_at dksX5_sums_2 0 rfl rfl)
theorem dX5_sums_50 : decode cX5_sums 50 = .ok (.iconst 4, 1) := dk_7 (dk_at dksX5_sums_2 3 rfl rfl)
theorem dX5_sums_51 : decode cX5_sums 51 = .ok (.goto 4, 3) := dk_167 0 4 (dk_at dksX5_sums_2 4 rfl rfl)
theorem dX5_sums_54 : decode cX5_sums 54 = .ok (.iconst 5, 1) := dk_8 (dk_at dksX5_sums_2 7 rfl rfl)
theorem dX5_sums_55 : decode cX5_sums 55 = .ok (.iconst 0, 1) := dk_3 (dk_at dksX5_sums_2 8 rfl rfl)
theorem dX5_sums_56 : decode cX5_sums 56 = .ok (.invokevirtual 298, 3) := dk_182 1 42 (dk_at dksX5_sums_2 9 rfl rfl)
theorem dX5_sums_59 : decode cX5_sums 59 = .ok (.goto (-54), 3) := dk_167 255 202 (dk_at dksX5_sums_2 12 rfl rfl)
theorem dX5_sums_62 : decode cX5_sums 62 = .ok (.return_, 1) := dk_177 (dk_at dksX5_sums_2 15 rfl rfl)
abbrev cX5_products : ByteArray := prog_26_method_41_code
def yX5_products : MethodName := ⟨RX5, "products", "(I)V"⟩
def dkwX5_products_1 : List UInt8 := [182, 1, 42, 167, 255, 235, 177]
abbrev dktX5_products_1 : List UInt8 := dkwX5_products_1 ++ []
def dkwX5_products_0 : List UInt8 := [42, 27, 182, 1, 61, 42, 16, 42, 182, 1, 55, 153, 0, 18, 42, 27, 182, 1, 61, 42, 16, 6, 3]
abbrev dktX5_products_0 : List UInt8 := dkwX5_products_0 ++ dktX5_products_1
theorem dksX5_products_0 : cX5_products.data.toList.drop 0 = dktX5_products_0 := by decide +kernel
theorem dksX5_products_1 : cX5_products.data.toList.drop 23 = dktX5_products_1 := dk_seg dksX5_products_0 23 rfl rfl
theorem dX5_products_0 : decode cX5_products 0 = .ok (.aload_n 0, 1) := dk_42 (dk_at dksX5_products_0 0 rfl rfl)
theorem dX5_products_1 : decode cX5_products 1 = .ok (.iload_n 1, 1) := dk_27 (dk_at dksX5_products_0 1 rfl rfl)
theorem dX5_products_2 : decode cX5_products 2 = .ok (.invokevirtual 317, 3) := dk_182 1 61 (dk_at dksX5_products_0 2 rfl rfl)
theorem dX5_products_5 : decode cX5_products 5 = .ok (.aload_n 0, 1) := dk_42 (dk_at dksX5_products_0 5 rfl rfl)
theorem dX5_products_6 : decode cX5_products 6 = .ok (.bipush 42, 2) := dk_16 42 (dk_at dksX5_products_0 6 rfl rfl)
theorem dX5_products_8 : decode cX5_products 8 = .ok (.invokevirtual 311, 3) := dk_182 1 55 (dk_at dksX5_products_0 8 rfl rfl)
theorem dX5_products_11 : decode cX5_products 11 = .ok (.ifCond .eq 18, 3) := dk_153 0 18 (dk_at dksX5_products_0 11 rfl rfl)
theorem dX5_products_14 : decode cX5_products 14 = .ok (.aload_n 0, 1) := dk_42 (dk_at dksX5_products_0 14 rfl rfl)
theorem dX5_products_15 : decode cX5_products 15 = .ok (.iload_n 1, 1) := dk_27 (dk_at dksX5_products_0 15 rfl rfl)
theorem dX5_products_16 : decode cX5_products 16 = .ok (.invokevirtual 317, 3) := dk_182 1 61 (dk_at dksX5_products_0 16 rfl rfl)
theorem dX5_products_19 : decode cX5_products 19 = .ok (.aload_n 0, 1) := dk_42 (dk_at dksX5_products_0 19 rfl rfl)
theorem dX5_products_20 : decode cX5_products 20 = .ok (.bipush 6, 2) := dk_16 6 (dk_at dksX5_products_0 20 rfl rfl)
theorem dX5_products_22 : decode cX5_products 22 = .ok (.iconst 0, 1) := dk_3 (dk_at dksX5_products_0 22 rfl rfl)
theorem dX5_products_23 : decode cX5_products 23 = .ok (.invokevirtual 298, 3) := dk_182 1 42 (dk_at dksX5_products_1 0 rfl rfl)
theorem dX5_products_26 : decode cX5_products 26 = .ok (.goto (-21), 3) := dk_167 255 235 (dk_at dksX5_products_1 3 rfl rfl)
theorem dX5_products_29 : decode cX5_products 29 = .ok (.return_, 1) := dk_177 (dk_at dksX5_products_1 6 rfl rfl)
abbrev cX5_takePart : ByteArray := prog_26_method_42_code
def yX5_takePart : MethodName := ⟨RX5, "takePart", "(I)V"⟩
def dkwX5_takePart_8 : List UInt8 := [167, 0, 4, 29, 182, 1, 42, 42, 89, 180, 0, 199, 4, 96, 181, 0, 199, 177]
abbrev dktX5_takePart_8 : List UInt8 := dkwX5_takePart_8 ++ []
def dkwX5_takePart_7 : List UInt8 := [153, 0, 7, 4, 167, 0, 4, 5, 28, 153, 0, 16, 42, 180, 0, 30, 42, 180, 0, 199, 47, 136]
abbrev dktX5_takePart_7 : List UInt8 := dkwX5_takePart_7 ++ dktX5_takePart_8
def dkwX5_takePart_6 : List UInt8 := [182, 1, 55, 153, 0, 19, 42, 27, 4, 96, 182, 1, 39, 42, 16, 41, 182, 1, 5, 167, 0, 44, 42, 28]
abbrev dktX5_takePart_6 : List UInt8 := dkwX5_takePart_6 ++ dktX5_takePart_7
def dkwX5_takePart_5 : List UInt8 := [153, 0, 19, 42, 27, 4, 96, 182, 1, 61, 42, 6, 3, 182, 1, 42, 167, 0, 69, 42, 16, 40]
abbrev dktX5_takePart_5 : List UInt8 := dkwX5_takePart_5 ++ dktX5_takePart_6
def dkwX5_takePart_4 : List UInt8 := [8, 160, 0, 8, 42, 8, 182, 0, 208, 42, 180, 0, 202, 158, 0, 4, 177, 42, 16, 29, 182, 0, 214]
abbrev dktX5_takePart_4 : List UInt8 := dkwX5_takePart_4 ++ dktX5_takePart_5
def dkwX5_takePart_3 : List UInt8 := [182, 0, 205, 154, 0, 20, 42, 16, 29, 182, 0, 211, 154, 0, 11, 42, 4, 182, 0, 208, 167, 0, 13, 27]
abbrev dktX5_takePart_3 : List UInt8 := dkwX5_takePart_3 ++ dktX5_takePart_4
def dkwX5_takePart_2 : List UInt8 := [126, 4, 160, 0, 7, 29, 167, 0, 4, 2, 62, 29, 156, 0, 33, 28, 154, 0, 29, 42, 16, 40]
abbrev dktX5_takePart_2 : List UInt8 := dkwX5_takePart_2 ++ dktX5_takePart_3
def dkwX5_takePart_1 : List UInt8 := [167, 0, 4, 3, 61, 42, 16, 32, 8, 182, 0, 224, 62, 29, 155, 0, 19, 42, 180, 1, 36, 29, 122, 4]
abbrev dktX5_takePart_1 : List UInt8 := dkwX5_takePart_1 ++ dktX5_takePart_2
def dkwX5_takePart_0 : List UInt8 := [42, 180, 0, 202, 158, 0, 4, 177, 42, 180, 0, 24, 42, 180, 0, 199, 46, 5, 160, 0, 7, 4]
abbrev dktX5_takePart_0 : List UInt8 := dkwX5_takePart_0 ++ dktX5_takePart_1
theorem dksX5_takePart_0 : cX5_takePart.data.toList.drop 0 = dktX5_takePart_0 := by decide +kernel
theorem dksX5_takePart_1 : cX5_takePart.data.toList.drop 22 = dktX5_takePart_1 := dk_seg dksX5_takePart_0 22 rfl rfl
theorem dksX5_takePart_2 : cX5_takePart.data.toList.drop 46 = dktX5_takePart_2 := dk_seg dksX5_takePart_1 24 rfl rfl
theorem dksX5_takePart_3 : cX5_takePart.data.toList.drop 68 = dktX5_takePart_3 := dk_seg dksX5_takePart_2 22 rfl rfl
theorem dksX5_takePart_4 : cX5_takePart.data.toList.drop 92 = dktX5_takePart_4 := dk_seg dksX5_takePart_3 24 rfl rfl
theorem dksX5_takePart_5 : cX5_takePart.data.toList.drop 115 = dktX5_takePart_5 := dk_seg dksX5_takePart_4 23 rfl rfl
theorem dksX5_takePart_6 : cX5_takePart.data.toList.drop 137 = dktX5_takePart_6 := dk_seg dksX5_takePart_5 22 rfl rfl
theorem dksX5_takePart_7 : cX5_takePart.data.toList.drop 161 = dktX5_takePart_7 := dk_seg dksX5_takePart_6 24 rfl rfl
theorem dksX5_takePart_8 : cX5_takePart.data.toList.drop 183 = dktX5_takePart_8 := dk_seg dksX5_takePart_7 22 rfl rfl
theorem dX5_takePart_0 : decode cX5_takePart 0 = .ok (.aload_n 0, 1) := dk_42 (dk_at dksX5_takePart_0 0 rfl rfl)
theorem dX5_takePart_1 : decode cX5_takePart 1 = .ok (.getfield 202, 3) := dk_180 0 202 (dk_at dksX5_takePart_0 1 rfl rfl)
theorem dX5_takePart_4 : decode cX5_takePart 4 = .ok (.ifCond .le 4, 3) := dk_158 0 4 (dk_at dksX5_takePart_0 4 rfl rfl)
theorem dX5_takePart_7 : decode cX5_takePart 7 = .ok (.return_, 1) := dk_177 (dk_at dksX5_takePart_0 7 rfl rfl)
theorem dX5_takePart_8 : decode cX5_takePart 8 = .ok (.aload_n 0, 1) := dk_42 (dk_at dksX5_takePart_0 8 rfl rfl)
theorem dX5_takePart_9 : decode cX5_takePart 9 = .ok (.getfield 24, 3) := dk_180 0 24 (dk_at dksX5_takePart_0 9 rfl rfl)
theorem dX5_takePart_12 : decode cX5_takePart 12 = .ok (.aload_n 0, 1) := dk_42 (dk_at dksX5_takePart_0 12 rfl rfl)
theorem dX5_takePart_13 : decode cX5_takePart 13 = .ok (.getfield 199, 3) := dk_180 0 199 (dk_at dksX5_takePart_0 13 rfl rfl)
theorem dX5_takePart_16 : decode cX5_takePart 16 = .ok (.iaload, 1) := dk_46 (dk_at dksX5_takePart_0 16 rfl rfl)
theorem dX5_takePart_17 : decode cX5_takePart 17 = .ok (.iconst 2, 1) := dk_5 (dk_at dksX5_takePart_0 17 rfl rfl)
theorem dX5_takePart_18 : decode cX5_takePart 18 = .ok (.if_icmp .ne 7, 3) := dk_160 0 7 (dk_at dksX5_takePart_0 18 rfl rfl)
theorem dX5_takePart_21 : decode cX5_takePart 21 = .ok (.iconst 1, 1) := dk_4 (dk_at dksX5_takePart_0 21 rfl rfl)
theorem dX5_takePart_22 : decode cX5_takePart 22 = .ok (.goto 4, 3) := dk_167 0 4 (dk_at dksX5_takePart_1 0 rfl rfl)
theorem dX5_takePart_25 : decode cX5_takePart 25 = .ok (.iconst 0, 1) := dk_3 (dk_at dksX5_takePart_1 3 rfl rfl)
theorem dX5_takePart_26 : decode cX5_takePart 26 = .ok (.istore_n 2, 1) := dk_61 (dk_at dksX5_takePart_1 4 rfl rfl)
theorem dX5_takePart_27 : decode cX5_takePart 27 = .ok (.aload_n 0, 1) := dk_42 (dk_at dksX5_takePart_1 5 rfl rfl)
theorem dX5_takePart_28 : decode cX5_takePart 28 = .ok (.bipush 32, 2) := dk_16 32 (dk_at dksX5_takePart_1 6 rfl rfl)
theorem dX5_takePart_30 : decode cX5_takePart 30 = .ok (.iconst 5, 1) := dk_8 (dk_at dksX5_takePart_1 8 rfl rfl)
theorem dX5_takePart_31 : decode cX5_takePart 31 = .ok (.invokevirtual 224, 3) := dk_182 0 224 (dk_at dksX5_takePart_1 9 rfl rfl)
theorem dX5_takePart_34 : decode cX5_takePart 34 = .ok (.istore_n 3, 1) := dk_62 (dk_at dksX5_takePart_1 12 rfl rfl)
theorem dX5_takePart_35 : decode cX5_takePart 35 = .ok (.iload_n 3, 1) := dk_29 (dk_at dksX5_takePart_1 13 rfl rfl)
theorem dX5_takePart_36 : decode cX5_takePart 36 = .ok (.ifCond .lt 19, 3) := dk_155 0 19 (dk_at dksX5_takePart_1 14 rfl rfl)
theorem dX5_takePart_39 : decode cX5_takePart 39 = .ok (.aload_n 0, 1) := dk_42 (dk_at dksX5_takePart_1 17 rfl rfl)
theorem dX5_takePart_40 : decode cX5_takePart 40 = .ok (.getfield 292, 3) := dk_180 1 36 (dk_at dksX5_takePart_1 18 rfl rfl)
theorem dX5_takePart_43 : decode cX5_takePart 43 = .ok (.iload_n 3, 1) := dk_29 (dk_at dksX5_takePart_1 21 rfl rfl)
theorem dX5_takePart_44 : decode cX5_takePart 44 = .ok (.ishr, 1) := dk_122 (dk_at dksX5_takePart_1 22 rfl rfl)
theorem dX5_takePart_45 : decode cX5_takePart 45 = .ok (.iconst 1, 1) := dk_4 (dk_at dksX5_takePart_1 23 rfl rfl)
theorem dX5_takePart_46 : decode cX5_takePart 46 = .ok (.iand, 1) := dk_126 (dk_at dksX5_takePart_2 0 rfl rfl)
theorem dX5_takePart_47 : decode cX5_takePart 47 = .ok (.iconst 1, 1) := dk_4 (dk_at dksX5_takePart_2 1 rfl rfl)
theorem dX5_takePart_48 : decode cX5_takePart 48 = .ok (.if_icmp .ne 7, 3) := dk_160 0 7 (dk_at dksX5_takePart_2 2 rfl rfl)
theorem dX5_takePart_51 : decode cX5_takePart 51 = .ok (.iload_n 3, 1) := dk_29 (dk_at dksX5_takePart_2 5 rfl rfl)
theorem dX5_takePart_52 : decode cX5_takePart 52 = .ok (.goto 4, 3) := dk_167 0 4 (dk_at dksX5_takePart_2 6 rfl rfl)
theorem dX5_takePart_55 : decode cX5_takePart 55 = .ok (.iconst (-1), 1) := dk_2 (dk_at dksX5_takePart_2 9 rfl rfl)
theorem dX5_takePart_56 : decode cX5_takePart 56 = .ok (.istore_n 3, 1) := dk_62 (dk_at dksX5_takePart_2 10 rfl rfl)
theorem dX5_takePart_57 : decode cX5_takePart 57 = .ok (.iload_n 3, 1) := dk_29 (dk_at dksX5_takePart_2 11 rfl rfl)
theorem dX5_takePart_58 : decode cX5_takePart 58 = .ok (.ifCond .ge 33, 3) := dk_156 0 33 (dk_at dksX5_takePart_2 12 rfl rfl)
theorem dX5_takePart_61 : decode cX5_takePart 61 = .ok (.iload_n 2, 1) := dk_28 (dk_at dksX5_takePart_2 15 rfl rfl)
theorem dX5_takePart_62 : decode cX5_takePart 62 = .ok (.ifCond .ne 29, 3) := dk_154 0 29 (dk_at dksX5_takePart_2 16 rfl rfl)
theorem dX5_takePart_65 : decode cX5_takePart 65 = .ok (.aload_n 0, 1) := dk_42 (dk_at dksX5_takePart_2 19 rfl rfl)
theorem dX5_takePart_66 : decode cX5_takePart 66 = .ok (.bipush 40, 2) := dk_16 40 (dk_at dksX5_takePart_2 20 rfl rfl)
theorem dX5_takePart_68 : decode cX5_takePart 68 = .ok (.invokevirtual 205, 3) := dk_182 0 205 (dk_at dksX5_takePart_3 0 rfl rfl)
theorem dX5_takePart_71 : decode cX5_takePart 71 = .ok (.ifCond .ne 20, 3) := dk_154 0 20 (dk_at dksX5_takePart_3 3 rfl rfl)
theorem dX5_takePart_74 : decode cX5_takePart 74 = .ok (.aload_n 0, 1) := dk_42 (dk_at dksX5_takePart_3 6 rfl rfl)
theorem dX5_takePart_75 : decode cX5_takePart 75 = .ok (.bipush 29, 2) := dk_16 29 (dk_at dksX5_takePart_3 7 rfl rfl)
theorem dX5_takePart_77 : decode cX5_takePart 77 = .ok (.invokevirtual 211, 3) := dk_182 0 211 (dk_at dksX5_takePart_3 9 rfl rfl)
theorem dX5_takePart_80 : decode cX5_takePart 80 = .ok (.ifCond .ne 11, 3) := dk_154 0 11 (dk_at dksX5_takePart_3 12 rfl rfl)
theorem dX5_takePart_83 : decode cX5_takePart 83 = .ok (.aload_n 0, 1) := dk_42 (dk_at dksX5_takePart_3 15 rfl rfl)
theorem dX5_takePart_84 : decode cX5_takePart 84 = .ok (.iconst 1, 1) := dk_4 (dk_at dksX5_takePart_3 16 rfl rfl)
theorem dX5_takePart_85 : decode cX5_takePart 85 = .ok (.invokevirtual 208, 3) := dk_182 0 208 (dk_at dksX5_takePart_3 17 rfl rfl)
theorem dX5_takePart_88 : decode cX5_takePart 88 = .ok (.goto 13, 3) := dk_167 0 13 (dk_at dksX5_takePart_3 20 rfl rfl)
theorem dX5_takePart_91 : decode cX5_takePart 91 = .ok (.iload_n 1, 1) := dk_27 (dk_at dksX5_takePart_3 23 rfl rfl)
theorem dX5_takePart_92 : decode cX5_takePart 92 = .ok (.iconst 5, 1) := dk_8 (dk_at dksX5_takePart_4 0 rfl rfl)
theorem dX5_takePart_93 : decode cX5_takePart 93 = .ok (.if_icmp .ne 8, 3) := dk_160 0 8 (dk_at dksX5_takePart_4 1 rfl rfl)
theorem dX5_takePart_96 : decode cX5_takePart 96 = .ok (.aload_n 0, 1) := dk_42 (dk_at dksX5_takePart_4 4 rfl rfl)
theorem dX5_takePart_97 : decode cX5_takePart 97 = .ok (.iconst 5, 1) := dk_8 (dk_at dksX5_takePart_4 5 rfl rfl)
theorem dX5_takePart_98 : decode cX5_takePart 98 = .ok (.invokevirtual 208, 3) := dk_182 0 208 (dk_at dksX5_takePart_4 6 rfl rfl)
theorem dX5_takePart_101 : decode cX5_takePart 101 = .ok (.aload_n 0, 1) := dk_42 (dk_at dksX5_takePart_4 9 rfl rfl)
theorem dX5_takePart_102 : decode cX5_takePart 102 = .ok (.getfield 202, 3) := dk_180 0 202 (dk_at dksX5_takePart_4 10 rfl rfl)
theorem dX5_takePart_105 : decode cX5_takePart 105 = .ok (.ifCond .le 4, 3) := dk_158 0 4 (dk_at dksX5_takePart_4 13 rfl rfl)
theorem dX5_takePart_108 : decode cX5_takePart 108 = .ok (.return_, 1) := dk_177 (dk_at dksX5_takePart_4 16 rfl rfl)
theorem dX5_takePart_109 : decode cX5_takePart 109 = .ok (.aload_n 0, 1) := dk_42 (dk_at dksX5_takePart_4 17 rfl rfl)
theorem dX5_takePart_110 : decode cX5_takePart 110 = .ok (.bipush 29, 2) := dk_16 29 (dk_at dksX5_takePart_4 18 rfl rfl)
theorem dX5_takePart_112 : decode cX5_takePart 112 = .ok (.invokevirtual 214, 3) := dk_182 0 214 (dk_at dksX5_takePart_4 20 rfl rfl)
theorem dX5_takePart_115 : decode cX5_takePart 115 = .ok (.ifCond .eq 19, 3) := dk_153 0 19 (dk_at dksX5_takePart_5 0 rfl rfl)
theorem dX5_takePart_118 : decode cX5_takePart 118 = .ok (.aload_n 0, 1) := dk_42 (dk_at dksX5_takePart_5 3 rfl rfl)
theorem dX5_takePart_119 : decode cX5_takePart 119 = .ok (.iload_n 1, 1) := dk_27 (dk_at dksX5_takePart_5 4 rfl rfl)
theorem dX5_takePart_120 : decode cX5_takePart 120 = .ok (.iconst 1, 1) := dk_4 (dk_at dksX5_takePart_5 5 rfl rfl)
theorem dX5_takePart_121 : decode cX5_takePart 121 = .ok (.iadd, 1) := dk_96 (dk_at dksX5_takePart_5 6 rfl rfl)
theorem dX5_takePart_122 : decode cX5_takePart 122 = .ok (.invokevirtual 317, 3) := dk_182 1 61 (dk_at dksX5_takePart_5 7 rfl rfl)
theorem dX5_takePart_125 : decode cX5_takePart 125 = .ok (.aload_n 0, 1) := dk_42 (dk_at dksX5_takePart_5 10 rfl rfl)
theorem dX5_takePart_126 : decode cX5_takePart 126 = .ok (.iconst 3, 1) := dk_6 (dk_at dksX5_takePart_5 11 rfl rfl)
theorem dX5_takePart_127 : decode cX5_takePart 127 = .ok (.iconst 0, 1) := dk_3 (dk_at dksX5_takePart_5 12 rfl rfl)
theorem dX5_takePart_128 : decode cX5_takePart 128 = .ok (.invokevirtual 298, 3) := dk_182 1 42 (dk_at dksX5_takePart_5 13 rfl rfl)
theorem dX5_takePart_131 : decode cX5_takePart 131 = .ok (.goto 69, 3) := dk_167 0 69 (dk_at dksX5_takePart_5 16 rfl rfl)
theorem dX5_takePart_134 : decode cX5_takePart 134 = .ok (.aload_n 0, 1) := dk_42 (dk_at dksX5_takePart_5 19 rfl rfl)
theorem dX5_takePart_135 : decode cX5_takePart 135 = .ok (.bipush 40, 2) := dk_16 40 (dk_at dksX5_takePart_5 20 rfl rfl)
theorem dX5_takePart_137 : decode cX5_takePart 137 = .ok (.invokevirtual 311, 3) := dk_182 1 55 (dk_at dksX5_takePart_6 0 rfl rfl)
theorem dX5_takePart_140 : decode cX5_takePart 140 = .ok (.ifCond .eq 19, 3) := dk_153 0 19 (dk_at dksX5_takePart_6 3 rfl rfl)
theorem dX5_takePart_143 : decode cX5_takePart 143 = .ok (.aload_n 0, 1) := dk_42 (dk_at dksX5_takePart_6 6 rfl rfl)
theorem dX5_takePart_144 : decode cX5_takePart 144 = .ok (.iload_n 1, 1) := dk_27 (dk_at dksX5_takePart_6 7 rfl rfl)
theorem dX5_takePart_145 : decode cX5_takePart 145 = .ok (.iconst 1, 1) := dk_4 (dk_at dksX5_takePart_6 8 rfl rfl)
theorem dX5_takePart_146 : decode cX5_takePart 146 = .ok (.iadd, 1) := dk_96 (dk_at dksX5_takePart_6 9 rfl rfl)
theorem dX5_takePart_147 : decode cX5_takePart 147 = .ok (.invokevirtual 295, 3) := dk_182 1 39 (dk_at dksX5_takePart_6 10 rfl rfl)
theorem dX5_takePart_150 : decode cX5_takePart 150 = .ok (.aload_n 0, 1) := dk_42 (dk_at dksX5_takePart_6 13 rfl rfl)
theorem dX5_takePart_151 : decode cX5_takePart 151 = .ok (.bipush 41, 2) := dk_16 41 (dk_at dksX5_takePart_6 14 rfl rfl)
theorem dX5_takePart_153 : decode cX5_takePart 153 = .ok (.invokevirtual 261, 3) := dk_182 1 5 (dk_at dksX5_takePart_6 16 rfl rfl)
theorem dX5_takePart_156 : decode cX5_takePart 156 = .ok (.goto 44, 3) := dk_167 0 44 (dk_at dksX5_takePart_6 19 rfl rfl)
theorem dX5_takePart_159 : decode cX5_takePart 159 = .ok (.aload_n 0, 1) := dk_42 (dk_at dksX5_takePart_6 22 rfl rfl)
theorem dX5_takePart_160 : decode cX5_takePart 160 = .ok (.iload_n 2, 1) := dk_28 (dk_at dksX5_takePart_6 23 rfl rfl)
theorem dX5_takePart_161 : decode cX5_takePart 161 = .ok (.ifCond .eq 7, 3) := dk_153 0 7 (dk_at dksX5_takePart_7 0 rfl rfl)
theorem dX5_takePart_164 : decode cX5_takePart 164 = .ok (.iconst 1, 1) := dk_4 (dk_at dksX5_takePart_7 3 rfl rfl)
theorem dX5_takePart_165 : decode cX5_takePart 165 = .ok (.goto 4, 3) := dk_167 0 4 (dk_at dksX5_takePart_7 4 rfl rfl)
theorem dX5_takePart_168 : decode cX5_takePart 168 = .ok (.iconst 2, 1) := dk_5 (dk_at dksX5_takePart_7 7 rfl rfl)
theorem dX5_takePart_169 : decode cX5_takePart 169 = .ok (.iload_n 2, 1) := dk_28 (dk_at dksX5_takePart_7 8 rfl rfl)
theorem dX5_takePart_170 : decode cX5_takePart 170 = .ok (.ifCond .eq 16, 3) := dk_153 0 16 (dk_at dksX5_takePart_7 9 rfl rfl)
theorem dX5_takePart_173 : decode cX5_takePart 173 = .ok (.aload_n 0, 1) := dk_42 (dk_at dksX5_takePart_7 12 rfl rfl)
theorem dX5_takePart_174 : decode cX5_takePart 174 = .ok (.getfield 30, 3) := dk_180 0 30 (dk_at dksX5_takePart_7 13 rfl rfl)
theorem dX5_takePart_177 : decode cX5_takePart 177 = .ok (.aload_n 0, 1) := dk_42 (dk_at dksX5_takePart_7 16 rfl rfl)
theorem dX5_takePart_178 : decode cX5_takePart 178 = .ok (.getfield 199, 3) := dk_180 0 199 (dk_at dksX5_takePart_7 17 rfl rfl)
theorem dX5_takePart_181 : decode cX5_takePart 181 = .ok (.laload, 1) := dk_47 (dk_at dksX5_takePart_7 20 rfl rfl)
theorem dX5_takePart_182 : decode cX5_takePart 182 = .ok (.l2i, 1) := dk_136 (dk_at dksX5_takePart_7 21 rfl rfl)
theorem dX5_takePart_183 : decode cX5_takePart 183 = .ok (.goto 4, 3) := dk_167 0 4 (dk_at dksX5_takePart_8 0 rfl rfl)
theorem dX5_takePart_186 : decode cX5_takePart 186 = .ok (.iload_n 3, 1) := dk_29 (dk_at dksX5_takePart_8 3 rfl rfl)
theorem dX5_takePart_187 : decode cX5_takePart 187 = .ok (.invokevirtual 298, 3) := dk_182 1 42 (dk_at dksX5_takePart_8 4 rfl rfl)
theorem dX5_takePart_190 : decode cX5_takePart 190 = .ok (.aload_n 0, 1) := dk_42 (dk_at dksX5_takePart_8 7 rfl rfl)
theorem dX5_takePart_191 : decode cX5_takePart 191 = .ok (.dup, 1) := dk_89 (dk_at dksX5_takePart_8 8 rfl rfl)
theorem dX5_takePart_192 : decode cX5_takePart 192 = .ok (.getfield 199, 3) := dk_180 0 199 (dk_at dksX5_takePart_8 9 rfl rfl)
theorem dX5_takePart_195 : decode cX5_takePart 195 = .ok (.iconst 1, 1) := dk_4 (dk_at dksX5_takePart_8 12 rfl rfl)
theorem dX5_takePart_196 : decode cX5_takePart 196 = .ok (.iadd, 1) := dk_96 (dk_at dksX5_takePart_8 13 rfl rfl)
theorem dX5_takePart_197 : decode cX5_takePart 197 = .ok (.putfield 199, 3) := dk_181 0 199 (dk_at dksX5_takePart_8 14 rfl rfl)
theorem dX5_takePart_200 : decode cX5_takePart 200 = .ok (.return_, 1) := dk_177 (dk_at dksX5_takePart_8 17 rfl rfl)
abbrev cX5_isSign : ByteArray := prog_26_method_11_code
def yX5_isSign : MethodName := ⟨RX5, "isSign", "(I)Z"⟩
def dkwX5_isSign_1 : List UInt8 := [42, 180, 0, 199, 47, 27, 133, 148, 154, 0, 7, 4, 167, 0, 4, 3, 172]
abbrev dktX5_isSign_1 : List UInt8 := dkwX5_isSign_1 ++ []
def dkwX5_isSign_0 : List UInt8 := [42, 180, 0, 202, 154, 0, 35, 42, 180, 0, 24, 42, 180, 0, 199, 46, 6, 160, 0, 22, 42, 180, 0, 30]
abbrev dktX5_isSign_0 : List UInt8 := dkwX5_isSign_0 ++ dktX5_isSign_1
theorem dksX5_isSign_0 : cX5_isSign.data.toList.drop 0 = dktX5_isSign_0 := by decide +kernel
theorem dksX5_isSign_1 : cX5_isSign.data.toList.drop 24 = dktX5_isSign_1 := dk_seg dksX5_isSign_0 24 rfl rfl
theorem dX5_isSign_0 : decode cX5_isSign 0 = .ok (.aload_n 0, 1) := dk_42 (dk_at dksX5_isSign_0 0 rfl rfl)
theorem dX5_isSign_1 : decode cX5_isSign 1 = .ok (.getfield 202, 3) := dk_180 0 202 (dk_at dksX5_isSign_0 1 rfl rfl)
theorem dX5_isSign_4 : decode cX5_isSign 4 = .ok (.ifCond .ne 35, 3) := dk_154 0 35 (dk_at dksX5_isSign_0 4 rfl rfl)
theorem dX5_isSign_7 : decode cX5_isSign 7 = .ok (.aload_n 0, 1) := dk_42 (dk_at dksX5_isSign_0 7 rfl rfl)
theorem dX5_isSign_8 : decode cX5_isSign 8 = .ok (.getfield 24, 3) := dk_180 0 24 (dk_at dksX5_isSign_0 8 rfl rfl)
theorem dX5_isSign_11 : decode cX5_isSign 11 = .ok (.aload_n 0, 1) := dk_42 (dk_at dksX5_isSign_0 11 rfl rfl)
theorem dX5_isSign_12 : decode cX5_isSign 12 = .ok (.getfield 199, 3) := dk_180 0 199 (dk_at dksX5_isSign_0 12 rfl rfl)
theorem dX5_isSign_15 : decode cX5_isSign 15 = .ok (.iaload, 1) := dk_46 (dk_at dksX5_isSign_0 15 rfl rfl)
theorem dX5_isSign_16 : decode cX5_isSign 16 = .ok (.iconst 3, 1) := dk_6 (dk_at dksX5_isSign_0 16 rfl rfl)
theorem dX5_isSign_17 : decode cX5_isSign 17 = .ok (.if_icmp .ne 22, 3) := dk_160 0 22 (dk_at dksX5_isSign_0 17 rfl rfl)
theorem dX5_isSign_20 : decode cX5_isSign 20 = .ok (.aload_n 0, 1) := dk_42 (dk_at dksX5_isSign_0 20 rfl rfl)
theorem dX5_isSign_21 : decode cX5_isSign 21 = .ok (.getfield 30, 3) := dk_180 0 30 (dk_at dksX5_isSign_0 21 rfl rfl)
theorem dX5_isSign_24 : decode cX5_isSign 24 = .ok (.aload_n 0, 1) := dk_42 (dk_at dksX5_isSign_1 0 rfl rfl)
theorem dX5_isSign_25 : decode cX5_isSign 25 = .ok (.getfield 199, 3) := dk_180 0 199 (dk_at dksX5_isSign_1 1 rfl rfl)
theorem dX5_isSign_28 : decode cX5_isSign 28 = .ok (.laload, 1) := dk_47 (dk_at dksX5_isSign_1 4 rfl rfl)
theorem dX5_isSign_29 : decode cX5_isSign 29 = .ok (.iload_n 1, 1) := dk_27 (dk_at dksX5_isSign_1 5 rfl rfl)
theorem dX5_isSign_30 : decode cX5_isSign 30 = .ok (.i2l, 1) := dk_133 (dk_at dksX5_isSign_1 6 rfl rfl)
theorem dX5_isSign_31 : decode cX5_isSign 31 = .ok (.lcmp, 1) := dk_148 (dk_at dksX5_isSign_1 7 rfl rfl)
theorem dX5_isSign_32 : decode cX5_isSign 32 = .ok (.ifCond .ne 7, 3) := dk_154 0 7 (dk_at dksX5_isSign_1 8 rfl rfl)
theorem dX5_isSign_35 : decode cX5_isSign 35 = .ok (.iconst 1, 1) := dk_4 (dk_at dksX5_isSign_1 11 rfl rfl)
theorem dX5_isSign_36 : decode cX5_isSign 36 = .ok (.goto 4, 3) := dk_167 0 4 (dk_at dksX5_isSign_1 12 rfl rfl)
theorem dX5_isSign_39 : decode cX5_isSign 39 = .ok (.iconst 0, 1) := dk_3 (dk_at dksX5_isSign_1 15 rfl rfl)
theorem dX5_isSign_40 : decode cX5_isSign 40 = .ok (.ireturn, 1) := dk_172 (dk_at dksX5_isSign_1 16 rfl rfl)
abbrev cX5_emit : ByteArray := prog_26_method_37_code
def yX5_emit : MethodName := ⟨RX5, "emit", "(II)V"⟩
def dkwX5_emit_1 : List UInt8 := [180, 0, 252, 96, 28, 79, 42, 89, 180, 0, 252, 4, 96, 181, 0, 252, 177]
abbrev dktX5_emit_1 : List UInt8 := dkwX5_emit_1 ++ []
def dkwX5_emit_0 : List UInt8 := [42, 180, 0, 114, 17, 4, 76, 42, 180, 0, 252, 96, 27, 79, 42, 180, 0, 117, 17, 4, 76, 42]
abbrev dktX5_emit_0 : List UInt8 := dkwX5_emit_0 ++ dktX5_emit_1
theorem dksX5_emit_0 : cX5_emit.data.toList.drop 0 = dktX5_emit_0 := by decide +kernel
theorem dksX5_emit_1 : cX5_emit.data.toList.drop 22 = dktX5_emit_1 := dk_seg dksX5_emit_0 22 rfl rfl
theorem dX5_emit_0 : decode cX5_emit 0 = .ok (.aload_n 0, 1) := dk_42 (dk_at dksX5_emit_0 0 rfl rfl)
theorem dX5_emit_1 : decode cX5_emit 1 = .ok (.getfield 114, 3) := dk_180 0 114 (dk_at dksX5_emit_0 1 rfl rfl)
theorem dX5_emit_4 : decode cX5_emit 4 = .ok (.sipush 1100, 3) := dk_17 4 76 (dk_at dksX5_emit_0 4 rfl rfl)
theorem dX5_emit_7 : decode cX5_emit 7 = .ok (.aload_n 0, 1) := dk_42 (dk_at dksX5_emit_0 7 rfl rfl)
theorem dX5_emit_8 : decode cX5_emit 8 = .ok (.getfield 252, 3) := dk_180 0 252 (dk_at dksX5_emit_0 8 rfl rfl)
theorem dX5_emit_11 : decode cX5_emit 11 = .ok (.iadd, 1) := dk_96 (dk_at dksX5_emit_0 11 rfl rfl)
theorem dX5_emit_12 : decode cX5_emit 12 = .ok (.iload_n 1, 1) := dk_27 (dk_at dksX5_emit_0 12 rfl rfl)
theorem dX5_emit_13 : decode cX5_emit 13 = .ok (.iastore, 1) := dk_79 (dk_at dksX5_emit_0 13 rfl rfl)
theorem dX5_emit_14 : decode cX5_emit 14 = .ok (.aload_n 0, 1) := dk_42 (dk_at dksX5_emit_0 14 rfl rfl)
theorem dX5_emit_15 : decode cX5_emit 15 = .ok (.getfield 117, 3) := dk_180 0 117 (dk_at dksX5_emit_0 15 rfl rfl)
theorem dX5_emit_18 : decode cX5_emit 18 = .ok (.sipush 1100, 3) := dk_17 4 76 (dk_at dksX5_emit_0 18 rfl rfl)
theorem dX5_emit_21 : decode cX5_emit 21 = .ok (.aload_n 0, 1) := dk_42 (dk_at dksX5_emit_0 21 rfl rfl)
theorem dX5_emit_22 : decode cX5_emit 22 = .ok (.getfield 252, 3) := dk_180 0 252 (dk_at dksX5_emit_1 0 rfl rfl)
theorem dX5_emit_25 : decode cX5_emit 25 = .ok (.iadd, 1) := dk_96 (dk_at dksX5_emit_1 3 rfl rfl)
theorem dX5_emit_26 : decode cX5_emit 26 = .ok (.iload_n 2, 1) := dk_28 (dk_at dksX5_emit_1 4 rfl rfl)
theorem dX5_emit_27 : decode cX5_emit 27 = .ok (.iastore, 1) := dk_79 (dk_at dksX5_emit_1 5 rfl rfl)
theorem dX5_emit_28 : decode cX5_emit 28 = .ok (.aload_n 0, 1) := dk_42 (dk_at dksX5_emit_1 6 rfl rfl)
theorem dX5_emit_29 : decode cX5_emit 29 = .ok (.dup, 1) := dk_89 (dk_at dksX5_emit_1 7 rfl rfl)
theorem dX5_emit_30 : decode cX5_emit 30 = .ok (.getfield 252, 3) := dk_180 0 252 (dk_at dksX5_emit_1 8 rfl rfl)
theorem dX5_emit_33 : decode cX5_emit 33 = .ok (.iconst 1, 1) := dk_4 (dk_at dksX5_emit_1 11 rfl rfl)
theorem dX5_emit_34 : decode cX5_emit 34 = .ok (.iadd, 1) := dk_96 (dk_at dksX5_emit_1 12 rfl rfl)
theorem dX5_emit_35 : decode cX5_emit 35 = .ok (.putfield 252, 3) := dk_181 0 252 (dk_at dksX5_emit_1 13 rfl rfl)
theorem dX5_emit_38 : decode cX5_emit 38 = .ok (.return_, 1) := dk_177 (dk_at dksX5_emit_1 16 rfl rfl)
abbrev cX5_hasSign : ByteArray := prog_26_method_14_code
def yX5_hasSign : MethodName := ⟨RX5, "hasSign", "(I)Z"⟩
def dkwX5_hasSign_1 : List UInt8 := [28, 172]
abbrev dktX5_hasSign_1 : List UInt8 := dkwX5_hasSign_1 ++ []
def dkwX5_hasSign_0 : List UInt8 := [42, 27, 182, 0, 205, 61, 42, 89, 180, 0, 199, 28, 153, 0, 7, 4, 167, 0, 4, 3, 96, 181, 0, 199]
abbrev dktX5_hasSign_0 : List UInt8 := dkwX5_hasSign_0 ++ dktX5_hasSign_1
theorem dksX5_hasSign_0 : cX5_hasSign.data.toList.drop 0 = dktX5_hasSign_0 := by decide +kernel
theorem dksX5_hasSign_1 : cX5_hasSign.data.toList.drop 24 = dktX5_hasSign_1 := dk_seg dksX5_hasSign_0 24 rfl rfl
theorem dX5_hasSign_0 : decode cX5_hasSign 0 = .ok (.aload_n 0, 1) := dk_42 (dk_at dksX5_hasSign_0 0 rfl rfl)
theorem dX5_hasSign_1 : decode cX5_hasSign 1 = .ok (.iload_n 1, 1) := dk_27 (dk_at dksX5_hasSign_0 1 rfl rfl)
theorem dX5_hasSign_2 : decode cX5_hasSign 2 = .ok (.invokevirtual 205, 3) := dk_182 0 205 (dk_at dksX5_hasSign_0 2 rfl rfl)
theorem dX5_hasSign_5 : decode cX5_hasSign 5 = .ok (.istore_n 2, 1) := dk_61 (dk_at dksX5_hasSign_0 5 rfl rfl)
theorem dX5_hasSign_6 : decode cX5_hasSign 6 = .ok (.aload_n 0, 1) := dk_42 (dk_at dksX5_hasSign_0 6 rfl rfl)
theorem dX5_hasSign_7 : decode cX5_hasSign 7 = .ok (.dup, 1) := dk_89 (dk_at dksX5_hasSign_0 7 rfl rfl)
theorem dX5_hasSign_8 : decode cX5_hasSign 8 = .ok (.getfield 199, 3) := dk_180 0 199 (dk_at dksX5_hasSign_0 8 rfl rfl)
theorem dX5_hasSign_11 : decode cX5_hasSign 11 = .ok (.iload_n 2, 1) := dk_28 (dk_at dksX5_hasSign_0 11 rfl rfl)
theorem dX5_hasSign_12 : decode cX5_hasSign 12 = .ok (.ifCond .eq 7, 3) := dk_153 0 7 (dk_at dksX5_hasSign_0 12 rfl rfl)
theorem dX5_hasSign_15 : decode cX5_hasSign 15 = .ok (.iconst 1, 1) := dk_4 (dk_at dksX5_hasSign_0 15 rfl rfl)
theorem dX5_hasSign_16 : decode cX5_hasSign 16 = .ok (.goto 4, 3) := dk_167 0 4 (dk_at dksX5_hasSign_0 16 rfl rfl)
theorem dX5_hasSign_19 : decode cX5_hasSign 19 = .ok (.iconst 0, 1) := dk_3 (dk_at dksX5_hasSign_0 19 rfl rfl)
theorem dX5_hasSign_20 : decode cX5_hasSign 20 = .ok (.iadd, 1) := dk_96 (dk_at dksX5_hasSign_0 20 rfl rfl)
theorem dX5_hasSign_21 : decode cX5_hasSign 21 = .ok (.putfield 199, 3) := dk_181 0 199 (dk_at dksX5_hasSign_0 21 rfl rfl)
theorem dX5_hasSign_24 : decode cX5_hasSign 24 = .ok (.iload_n 2, 1) := dk_28 (dk_at dksX5_hasSign_1 0 rfl rfl)
theorem dX5_hasSign_25 : decode cX5_hasSign 25 = .ok (.ireturn, 1) := dk_172 (dk_at dksX5_hasSign_1 1 rfl rfl)
abbrev cX5_takeSign : ByteArray := prog_26_method_13_code
def yX5_takeSign : MethodName := ⟨RX5, "takeSign", "(I)V"⟩
def dkwX5_takeSign_1 : List UInt8 := [182, 0, 208, 177]
abbrev dktX5_takeSign_1 : List UInt8 := dkwX5_takeSign_1 ++ []
def dkwX5_takeSign_0 : List UInt8 := [42, 27, 182, 0, 205, 153, 0, 16, 42, 89, 180, 0, 199, 4, 96, 181, 0, 199, 167, 0, 8, 42, 4]
abbrev dktX5_takeSign_0 : List UInt8 := dkwX5_takeSign_0 ++ dktX5_takeSign_1
theorem dksX5_takeSign_0 : cX5_takeSign.data.toList.drop 0 = dktX5_takeSign_0 := by decide +kernel
theorem dksX5_takeSign_1 : cX5_takeSign.data.toList.drop 23 = dktX5_takeSign_1 := dk_seg dksX5_takeSign_0 23 rfl rfl
theorem dX5_takeSign_0 : decode cX5_takeSign 0 = .ok (.aload_n 0, 1) := dk_42 (dk_at dksX5_takeSign_0 0 rfl rfl)
theorem dX5_takeSign_1 : decode cX5_takeSign 1 = .ok (.iload_n 1, 1) := dk_27 (dk_at dksX5_takeSign_0 1 rfl rfl)
theorem dX5_takeSign_2 : decode cX5_takeSign 2 = .ok (.invokevirtual 205, 3) := dk_182 0 205 (dk_at dksX5_takeSign_0 2 rfl rfl)
theorem dX5_takeSign_5 : decode cX5_takeSign 5 = .ok (.ifCond .eq 16, 3) := dk_153 0 16 (dk_at dksX5_takeSign_0 5 rfl rfl)
theorem dX5_takeSign_8 : decode cX5_takeSign 8 = .ok (.aload_n 0, 1) := dk_42 (dk_at dksX5_takeSign_0 8 rfl rfl)
theorem dX5_takeSign_9 : decode cX5_takeSign 9 = .ok (.dup, 1) := dk_89 (dk_at dksX5_takeSign_0 9 rfl rfl)
theorem dX5_takeSign_10 : decode cX5_takeSign 10 = .ok (.getfield 199, 3) := dk_180 0 199 (dk_at dksX5_takeSign_0 10 rfl rfl)
theorem dX5_takeSign_13 : decode cX5_takeSign 13 = .ok (.iconst 1, 1) := dk_4 (dk_at dksX5_takeSign_0 13 rfl rfl)
theorem dX5_takeSign_14 : decode cX5_takeSign 14 = .ok (.iadd, 1) := dk_96 (dk_at dksX5_takeSign_0 14 rfl rfl)
theorem dX5_takeSign_15 : decode cX5_takeSign 15 = .ok (.putfield 199, 3) := dk_181 0 199 (dk_at dksX5_takeSign_0 15 rfl rfl)
theorem dX5_takeSign_18 : decode cX5_takeSign 18 = .ok (.goto 8, 3) := dk_167 0 8 (dk_at dksX5_takeSign_0 18 rfl rfl)
theorem dX5_takeSign_21 : decode cX5_takeSign 21 = .ok (.aload_n 0, 1) := dk_42 (dk_at dksX5_takeSign_0 21 rfl rfl)
theorem dX5_takeSign_22 : decode cX5_takeSign 22 = .ok (.iconst 1, 1) := dk_4 (dk_at dksX5_takeSign_0 22 rfl rfl)
theorem dX5_takeSign_23 : decode cX5_takeSign 23 = .ok (.invokevirtual 208, 3) := dk_182 0 208 (dk_at dksX5_takeSign_1 0 rfl rfl)
theorem dX5_takeSign_26 : decode cX5_takeSign 26 = .ok (.return_, 1) := dk_177 (dk_at dksX5_takeSign_1 3 rfl rfl)
abbrev cX5_months : ByteArray := prog_26_method_35_code
def yX5_months : MethodName := ⟨RX5, "months", "()I"⟩
def dkwX5_months_7 : List UInt8 := [172]
abbrev dktX5_months_7 : List UInt8 := dkwX5_months_7 ++ []
def dkwX5_months_6 : List UInt8 := [42, 180, 0, 132, 4, 28, 96, 42, 180, 0, 132, 16, 100, 28, 96, 46, 79, 132, 2, 1, 167, 255, 229, 3]
abbrev dktX5_months_6 : List UInt8 := dkwX5_months_6 ++ dktX5_months_7
def dkwX5_months_5 : List UInt8 := [158, 0, 8, 42, 180, 0, 202, 172, 42, 180, 0, 132, 3, 27, 79, 3, 61, 28, 6, 27, 104, 162, 0, 26]
abbrev dktX5_months_5 : List UInt8 := dkwX5_months_5 ++ dktX5_months_6
def dkwX5_months_4 : List UInt8 := [6, 27, 104, 96, 182, 1, 46, 132, 1, 1, 42, 16, 59, 182, 1, 5, 167, 255, 160, 42, 180, 0, 202]
abbrev dktX5_months_4 : List UInt8 := dkwX5_months_4 ++ dktX5_months_5
def dkwX5_months_3 : List UInt8 := [180, 0, 199, 4, 96, 181, 0, 199, 42, 180, 0, 132, 16, 100, 6, 27, 104, 96, 28, 79, 42, 28, 16, 101]
abbrev dktX5_months_3 : List UInt8 := dkwX5_months_3 ++ dktX5_months_4
def dkwX5_months_2 : List UInt8 := [182, 0, 208, 167, 0, 53, 27, 16, 30, 160, 0, 11, 42, 8, 182, 0, 208, 167, 0, 39, 42, 89]
abbrev dktX5_months_2 : List UInt8 := dkwX5_months_2 ++ dktX5_months_3
def dkwX5_months_1 : List UInt8 := [180, 0, 199, 46, 153, 0, 83, 42, 16, 19, 16, 6, 182, 0, 224, 61, 28, 156, 0, 11, 42, 4]
abbrev dktX5_months_1 : List UInt8 := dkwX5_months_1 ++ dktX5_months_2
def dkwX5_months_0 : List UInt8 := [42, 3, 181, 0, 1, 42, 182, 0, 249, 3, 60, 42, 180, 0, 202, 154, 0, 95, 42, 180, 0, 24, 42]
abbrev dktX5_months_0 : List UInt8 := dkwX5_months_0 ++ dktX5_months_1
theorem dksX5_months_0 : cX5_months.data.toList.drop 0 = dktX5_months_0 := by decide +kernel
theorem dksX5_months_1 : cX5_months.data.toList.drop 23 = dktX5_months_1 := dk_seg dksX5_months_0 23 rfl rfl
theorem dksX5_months_2 : cX5_months.data.toList.drop 45 = dktX5_months_2 := dk_seg dksX5_months_1 22 rfl rfl
theorem dksX5_months_3 : cX5_months.data.toList.drop 67 = dktX5_months_3 := dk_seg dksX5_months_2 22 rfl rfl
theorem dksX5_months_4 : cX5_months.data.toList.drop 91 = dktX5_months_4 := dk_seg dksX5_months_3 24 rfl rfl
theorem dksX5_months_5 : cX5_months.data.toList.drop 114 = dktX5_months_5 := dk_seg dksX5_months_4 23 rfl rfl
theorem dksX5_months_6 : cX5_months.data.toList.drop 138 = dktX5_months_6 := dk_seg dksX5_months_5 24 rfl rfl
theorem dksX5_months_7 : cX5_months.data.toList.drop 162 = dktX5_months_7 := dk_seg dksX5_months_6 24 rfl rfl
theorem dX5_months_0 : decode cX5_months 0 = .ok (.aload_n 0, 1) := dk_42 (dk_at dksX5_months_0 0 rfl rfl)
theorem dX5_months_1 : decode cX5_months 1 = .ok (.iconst 0, 1) := dk_3 (dk_at dksX5_months_0 1 rfl rfl)
theorem dX5_months_2 : decode cX5_months 2 = .ok (.putfield 1, 3) := dk_181 0 1 (dk_at dksX5_months_0 2 rfl rfl)
theorem dX5_months_5 : decode cX5_months 5 = .ok (.aload_n 0, 1) := dk_42 (dk_at dksX5_months_0 5 rfl rfl)
theorem dX5_months_6 : decode cX5_months 6 = .ok (.invokevirtual 249, 3) := dk_182 0 249 (dk_at dksX5_months_0 6 rfl rfl)
theorem dX5_months_9 : decode cX5_months 9 = .ok (.iconst 0, 1) := dk_3 (dk_at dksX5_months_0 9 rfl rfl)
theorem dX5_months_10 : decode cX5_months 10 = .ok (.istore_n 1, 1) := dk_60 (dk_at dksX5_months_0 10 rfl rfl)
theorem dX5_months_11 : decode cX5_months 11 = .ok (.aload_n 0, 1) := dk_42 (dk_at dksX5_months_0 11 rfl rfl)
theorem dX5_months_12 : decode cX5_months 12 = .ok (.getfield 202, 3) := dk_180 0 202 (dk_at dksX5_months_0 12 rfl rfl)
theorem dX5_months_15 : decode cX5_months 15 = .ok (.ifCond .ne 95, 3) := dk_154 0 95 (dk_at dksX5_months_0 15 rfl rfl)
theorem dX5_months_18 : decode cX5_months 18 = .ok (.aload_n 0, 1) := dk_42 (dk_at dksX5_months_0 18 rfl rfl)
theorem dX5_months_19 : decode cX5_months 19 = .ok (.getfield 24, 3) := dk_180 0 24 (dk_at dksX5_months_0 19 rfl rfl)
theorem dX5_months_22 : decode cX5_months 22 = .ok (.aload_n 0, 1) := dk_42 (dk_at dksX5_months_0 22 rfl rfl)
theorem dX5_months_23 : decode cX5_months 23 = .ok (.getfield 199, 3) := dk_180 0 199 (dk_at dksX5_months_1 0 rfl rfl)
theorem dX5_months_26 : decode cX5_months 26 = .ok (.iaload, 1) := dk_46 (dk_at dksX5_months_1 3 rfl rfl)
theorem dX5_months_27 : decode cX5_months 27 = .ok (.ifCond .eq 83, 3) := dk_153 0 83 (dk_at dksX5_months_1 4 rfl rfl)
theorem dX5_months_30 : decode cX5_months 30 = .ok (.aload_n 0, 1) := dk_42 (dk_at dksX5_months_1 7 rfl rfl)
theorem dX5_months_31 : decode cX5_months 31 = .ok (.bipush 19, 2) := dk_16 19 (dk_at dksX5_months_1 8 rfl rfl)
theorem dX5_months_33 : decode cX5_months 33 = .ok (.bipush 6, 2) := dk_16 6 (dk_at dksX5_months_1 10 rfl rfl)
theorem dX5_months_35 : decode cX5_months 35 = .ok (.invokevirtual 224, 3) := dk_182 0 224 (dk_at dksX5_months_1 12 rfl rfl)
theorem dX5_months_38 : decode cX5_months 38 = .ok (.istore_n 2, 1) := dk_61 (dk_at dksX5_months_1 15 rfl rfl)
theorem dX5_months_39 : decode cX5_months 39 = .ok (.iload_n 2, 1) := dk_28 (dk_at dksX5_months_1 16 rfl rfl)
theorem dX5_months_40 : decode cX5_months 40 = .ok (.ifCond .ge 11, 3) := dk_156 0 11 (dk_at dksX5_months_1 17 rfl rfl)
theorem dX5_months_43 : decode cX5_months 43 = .ok (.aload_n 0, 1) := dk_42 (dk_at dksX5_months_1 20 rfl rfl)
theorem dX5_months_44 : decode cX5_months 44 = .ok (.iconst 1, 1) := dk_4 (dk_at dksX5_months_1 21 rfl rfl)
theorem dX5_months_45 : decode cX5_months 45 = .ok (.invokevirtual 208, 3) := dk_182 0 208 (dk_at dksX5_months_2 0 rfl rfl)
theorem dX5_months_48 : decode cX5_months 48 = .ok (.goto 53, 3) := dk_167 0 53 (dk_at dksX5_months_2 3 rfl rfl)
theorem dX5_months_51 : decode cX5_months 51 = .ok (.iload_n 1, 1) := dk_27 (dk_at dksX5_months_2 6 rfl rfl)
theorem dX5_months_52 : decode cX5_months 52 = .ok (.bipush 30, 2) := dk_16 30 (dk_at dksX5_months_2 7 rfl rfl)
theorem dX5_months_54 : decode cX5_months 54 = .ok (.if_icmp .ne 11, 3) := dk_160 0 11 (dk_at dksX5_months_2 9 rfl rfl)
theorem dX5_months_57 : decode cX5_months 57 = .ok (.aload_n 0, 1) := dk_42 (dk_at dksX5_months_2 12 rfl rfl)
theorem dX5_months_58 : decode cX5_months 58 = .ok (.iconst 5, 1) := dk_8 (dk_at dksX5_months_2 13 rfl rfl)
theorem dX5_months_59 : decode cX5_months 59 = .ok (.invokevirtual 208, 3) := dk_182 0 208 (dk_at dksX5_months_2 14 rfl rfl)
theorem dX5_months_62 : decode cX5_months 62 = .ok (.goto 39, 3) := dk_167 0 39 (dk_at dksX5_months_2 17 rfl rfl)
theorem dX5_months_65 : decode cX5_months 65 = .ok (.aload_n 0, 1) := dk_42 (dk_at dksX5_months_2 20 rfl rfl)
theorem dX5_months_66 : decode cX5_months 66 = .ok (.dup, 1) := dk_89 (dk_at dksX5_months_2 21 rfl rfl)
theorem dX5_months_67 : decode cX5_months 67 = .ok (.getfield 199, 3) := dk_180 0 199 (dk_at dksX5_months_3 0 rfl rfl)
theorem dX5_months_70 : decode cX5_months 70 = .ok (.iconst 1, 1) := dk_4 (dk_at dksX5_months_3 3 rfl rfl)
theorem dX5_months_71 : decode cX5_months 71 = .ok (.iadd, 1) := dk_96 (dk_at dksX5_months_3 4 rfl rfl)
theorem dX5_months_72 : decode cX5_months 72 = .ok (.putfield 199, 3) := dk_181 0 199 (dk_at dksX5_months_3 5 rfl rfl)
theorem dX5_months_75 : decode cX5_months 75 = .ok (.aload_n 0, 1) := dk_42 (dk_at dksX5_months_3 8 rfl rfl)
theorem dX5_months_76 : decode cX5_months 76 = .ok (.getfield 132, 3) := dk_180 0 132 (dk_at dksX5_months_3 9 rfl rfl)
theorem dX5_months_79 : decode cX5_months 79 = .ok (.bipush 100, 2) := dk_16 100 (dk_at dksX5_months_3 12 rfl rfl)
theorem dX5_months_81 : decode cX5_months 81 = .ok (.iconst 3, 1) := dk_6 (dk_at dksX5_months_3 14 rfl rfl)
theorem dX5_months_82 : decode cX5_months 82 = .ok (.iload_n 1, 1) := dk_27 (dk_at dksX5_months_3 15 rfl rfl)
theorem dX5_months_83 : decode cX5_months 83 = .ok (.imul, 1) := dk_104 (dk_at dksX5_months_3 16 rfl rfl)
theorem dX5_months_84 : decode cX5_months 84 = .ok (.iadd, 1) := dk_96 (dk_at dksX5_months_3 17 rfl rfl)
theorem dX5_months_85 : decode cX5_months 85 = .ok (.iload_n 2, 1) := dk_28 (dk_at dksX5_months_3 18 rfl rfl)
theorem dX5_months_86 : decode cX5_months 86 = .ok (.iastore, 1) := dk_79 (dk_at dksX5_months_3 19 rfl rfl)
theorem dX5_months_87 : decode cX5_months 87 = .ok (.aload_n 0, 1) := dk_42 (dk_at dksX5_months_3 20 rfl rfl)
theorem dX5_months_88 : decode cX5_months 88 = .ok (.iload_n 2, 1) := dk_28 (dk_at dksX5_months_3 21 rfl rfl)
theorem dX5_months_89 : decode cX5_months 89 = .ok (.bipush 101, 2) := dk_16 101 (dk_at dksX5_months_3 22 rfl rfl)
theorem dX5_months_91 : decode cX5_months 91 = .ok (.iconst 3, 1) := dk_6 (dk_at dksX5_months_4 0 rfl rfl)
theorem dX5_months_92 : decode cX5_months 92 = .ok (.iload_n 1, 1) := dk_27 (dk_at dksX5_months_4 1 rfl rfl)
theorem dX5_months_93 : decode cX5_months 93 = .ok (.imul, 1) := dk_104 (dk_at dksX5_months_4 2 rfl rfl)
theorem dX5_months_94 : decode cX5_months 94 = .ok (.iadd, 1) := dk_96 (dk_at dksX5_months_4 3 rfl rfl)
theorem dX5_months_95 : decode cX5_months 95 = .ok (.invokevirtual 302, 3) := dk_182 1 46 (dk_at dksX5_months_4 4 rfl rfl)
theorem dX5_months_98 : decode cX5_months 98 = .ok (.iinc 1 1, 3) := dk_132 1 1 (dk_at dksX5_months_4 7 rfl rfl)
theorem dX5_months_101 : decode cX5_months 101 = .ok (.aload_n 0, 1) := dk_42 (dk_at dksX5_months_4 10 rfl rfl)
theorem dX5_months_102 : decode cX5_months 102 = .ok (.bipush 59, 2) := dk_16 59 (dk_at dksX5_months_4 11 rfl rfl)
theorem dX5_months_104 : decode cX5_months 104 = .ok (.invokevirtual 261, 3) := dk_182 1 5 (dk_at dksX5_months_4 13 rfl rfl)
theorem dX5_months_107 : decode cX5_months 107 = .ok (.goto (-96), 3) := dk_167 255 160 (dk_at dksX5_months_4 16 rfl rfl)
theorem dX5_months_110 : decode cX5_months 110 = .ok (.aload_n 0, 1) := dk_42 (dk_at dksX5_months_4 19 rfl rfl)
theorem dX5_months_111 : decode cX5_months 111 = .ok (.getfield 202, 3) := dk_180 0 202 (dk_at dksX5_months_4 20 rfl rfl)
theorem dX5_months_114 : decode cX5_months 114 = .ok (.ifCond .le 8, 3) := dk_158 0 8 (dk_at dksX5_months_5 0 rfl rfl)
theorem dX5_months_117 : decode cX5_months 117 = .ok (.aload_n 0, 1) := dk_42 (dk_at dksX5_months_5 3 rfl rfl)
theorem dX5_months_118 : decode cX5_months 118 = .ok (.getfield 202, 3) := dk_180 0 202 (dk_at dksX5_months_5 4 rfl rfl)
theorem dX5_months_121 : decode cX5_months 121 = .ok (.ireturn, 1) := dk_172 (dk_at dksX5_months_5 7 rfl rfl)
theorem dX5_months_122 : decode cX5_months 122 = .ok (.aload_n 0, 1) := dk_42 (dk_at dksX5_months_5 8 rfl rfl)
theorem dX5_months_123 : decode cX5_months 123 = .ok (.getfield 132, 3) := dk_180 0 132 (dk_at dksX5_months_5 9 rfl rfl)
theorem dX5_months_126 : decode cX5_months 126 = .ok (.iconst 0, 1) := dk_3 (dk_at dksX5_months_5 12 rfl rfl)
theorem dX5_months_127 : decode cX5_months 127 = .ok (.iload_n 1, 1) := dk_27 (dk_at dksX5_months_5 13 rfl rfl)
theorem dX5_months_128 : decode cX5_months 128 = .ok (.iastore, 1) := dk_79 (dk_at dksX5_months_5 14 rfl rfl)
theorem dX5_months_129 : decode cX5_months 129 = .ok (.iconst 0, 1) := dk_3 (dk_at dksX5_months_5 15 rfl rfl)
theorem dX5_months_130 : decode cX5_months 130 = .ok (.istore_n 2, 1) := dk_61 (dk_at dksX5_months_5 16 rfl rfl)
theorem dX5_months_131 : decode cX5_months 131 = .ok (.iload_n 2, 1) := dk_28 (dk_at dksX5_months_5 17 rfl rfl)
theorem dX5_months_132 : decode cX5_months 132 = .ok (.iconst 3, 1) := dk_6 (dk_at dksX5_months_5 18 rfl rfl)
theorem dX5_months_133 : decode cX5_months 133 = .ok (.iload_n 1, 1) := dk_27 (dk_at dksX5_months_5 19 rfl rfl)
theorem dX5_months_134 : decode cX5_months 134 = .ok (.imul, 1) := dk_104 (dk_at dksX5_months_5 20 rfl rfl)
theorem dX5_months_135 : decode cX5_months 135 = .ok (.if_icmp .ge 26, 3) := dk_162 0 26 (dk_at dksX5_months_5 21 rfl rfl)
theorem dX5_months_138 : decode cX5_months 138 = .ok (.aload_n 0, 1) := dk_42 (dk_at dksX5_months_6 0 rfl rfl)
theorem dX5_months_139 : decode cX5_months 139 = .ok (.getfield 132, 3) := dk_180 0 132 (dk_at dksX5_months_6 1 rfl rfl)
theorem dX5_months_142 : decode cX5_months 142 = .ok (.iconst 1, 1) := dk_4 (dk_at dksX5_months_6 4 rfl rfl)
theorem dX5_months_143 : decode cX5_months 143 = .ok (.iload_n 2, 1) := dk_28 (dk_at dksX5_months_6 5 rfl rfl)
theorem dX5_months_144 : decode cX5_months 144 = .ok (.iadd, 1) := dk_96 (dk_at dksX5_months_6 6 rfl rfl)
theorem dX5_months_145 : decode cX5_months 145 = .ok (.aload_n 0, 1) := dk_42 (dk_at dksX5_months_6 7 rfl rfl)
theorem dX5_months_146 : decode cX5_months 146 = .ok (.getfield 132, 3) := dk_180 0 132 (dk_at dksX5_months_6 8 rfl rfl)
theorem dX5_months_149 : decode cX5_months 149 = .ok (.bipush 100, 2) := dk_16 100 (dk_at dksX5_months_6 11 rfl rfl)
theorem dX5_months_151 : decode cX5_months 151 = .ok (.iload_n 2, 1) := dk_28 (dk_at dksX5_months_6 13 rfl rfl)
theorem dX5_months_152 : decode cX5_months 152 = .ok (.iadd, 1) := dk_96 (dk_at dksX5_months_6 14 rfl rfl)
theorem dX5_months_153 : decode cX5_months 153 = .ok (.iaload, 1) := dk_46 (dk_at dksX5_months_6 15 rfl rfl)
theorem dX5_months_154 : decode cX5_months 154 = .ok (.iastore, 1) := dk_79 (dk_at dksX5_months_6 16 rfl rfl)
theorem dX5_months_155 : decode cX5_months 155 = .ok (.iinc 2 1, 3) := dk_132 2 1 (dk_at dksX5_months_6 17 rfl rfl)
theorem dX5_months_158 : decode cX5_months 158 = .ok (.goto (-27), 3) := dk_167 255 229 (dk_at dksX5_months_6 20 rfl rfl)
theorem dX5_months_161 : decode cX5_months 161 = .ok (.iconst 0, 1) := dk_3 (dk_at dksX5_months_6 23 rfl rfl)
theorem dX5_months_162 : decode cX5_months 162 = .ok (.ireturn, 1) := dk_172 (dk_at dksX5_months_7 0 rfl rfl)
abbrev cX5_readMonth : ByteArray := prog_26_method_36_code
def yX5_readMonth : MethodName := ⟨RX5, "readMonth", "(II)V"⟩
def dkwX5_readMonth_3 : List UInt8 := [182, 1, 33, 167, 0, 4, 3, 79, 177]
abbrev dktX5_readMonth_3 : List UInt8 := dkwX5_readMonth_3 ++ []
def dkwX5_readMonth_2 : List UInt8 := [4, 160, 0, 13, 42, 4, 16, 99, 182, 0, 220, 167, 0, 18, 27, 8, 160, 0, 12, 42, 3, 3]
abbrev dktX5_readMonth_2 : List UInt8 := dkwX5_readMonth_2 ++ dktX5_readMonth_3
def dkwX5_readMonth_1 : List UInt8 := [159, 0, 54, 42, 180, 0, 132, 28, 42, 3, 16, 20, 182, 1, 33, 79, 42, 180, 0, 132, 28, 4, 96, 27]
abbrev dktX5_readMonth_1 : List UInt8 := dkwX5_readMonth_1 ++ dktX5_readMonth_2
def dkwX5_readMonth_0 : List UInt8 := [27, 6, 160, 0, 19, 42, 180, 0, 132, 28, 42, 4, 16, 120, 182, 0, 220, 79, 167, 0, 59, 27, 7]
abbrev dktX5_readMonth_0 : List UInt8 := dkwX5_readMonth_0 ++ dktX5_readMonth_1
theorem dksX5_readMonth_0 : cX5_readMonth.data.toList.drop 0 = dktX5_readMonth_0 := by decide +kernel
theorem dksX5_readMonth_1 : cX5_readMonth.data.toList.drop 23 = dktX5_readMonth_1 := dk_seg dksX5_readMonth_0 23 rfl rfl
theorem dksX5_readMonth_2 : cX5_readMonth.data.toList.drop 47 = dktX5_readMonth_2 := dk_seg dksX5_readMonth_1 24 rfl rfl
theorem dksX5_readMonth_3 : cX5_readMonth.data.toList.drop 69 = dktX5_readMonth_3 := dk_seg dksX5_readMonth_2 22 rfl rfl
theorem dX5_readMonth_0 : decode cX5_readMonth 0 = .ok (.iload_n 1, 1) := dk_27 (dk_at dksX5_readMonth_0 0 rfl rfl)
theorem dX5_readMonth_1 : decode cX5_readMonth 1 = .ok (.iconst 3, 1) := dk_6 (dk_at dksX5_readMonth_0 1 rfl rfl)
theorem dX5_readMonth_2 : decode cX5_readMonth 2 = .ok (.if_icmp .ne 19, 3) := dk_160 0 19 (dk_at dksX5_readMonth_0 2 rfl rfl)
theorem dX5_readMonth_5 : decode cX5_readMonth 5 = .ok (.aload_n 0, 1) := dk_42 (dk_at dksX5_readMonth_0 5 rfl rfl)
theorem dX5_readMonth_6 : decode cX5_readMonth 6 = .ok (.getfield 132, 3) := dk_180 0 132 (dk_at dksX5_readMonth_0 6 rfl rfl)
theorem dX5_readMonth_9 : decode cX5_readMonth 9 = .ok (.iload_n 2, 1) := dk_28 (dk_at dksX5_readMonth_0 9 rfl rfl)
theorem dX5_readMonth_10 : decode cX5_readMonth 10 = .ok (.aload_n 0, 1) := dk_42 (dk_at dksX5_readMonth_0 10 rfl rfl)
theorem dX5_readMonth_11 : decode cX5_readMonth 11 = .ok (.iconst 1, 1) := dk_4 (dk_at dksX5_readMonth_0 11 rfl rfl)
theorem dX5_readMonth_12 : decode cX5_readMonth 12 = .ok (.bipush 120, 2) := dk_16 120 (dk_at dksX5_readMonth_0 12 rfl rfl)
theorem dX5_readMonth_14 : decode cX5_readMonth 14 = .ok (.invokevirtual 220, 3) := dk_182 0 220 (dk_at dksX5_readMonth_0 14 rfl rfl)
theorem dX5_readMonth_17 : decode cX5_readMonth 17 = .ok (.iastore, 1) := dk_79 (dk_at dksX5_readMonth_0 17 rfl rfl)
theorem dX5_readMonth_18 : decode cX5_readMonth 18 = .ok (.goto 59, 3) := dk_167 0 59 (dk_at dksX5_readMonth_0 18 rfl rfl)
theorem dX5_readMonth_21 : decode cX5_readMonth 21 = .ok (.iload_n 1, 1) := dk_27 (dk_at dksX5_readMonth_0 21 rfl rfl)
theorem dX5_readMonth_22 : decode cX5_readMonth 22 = .ok (.iconst 4, 1) := dk_7 (dk_at dksX5_readMonth_0 22 rfl rfl)
theorem dX5_readMonth_23 : decode cX5_readMonth 23 = .ok (.if_icmp .eq 54, 3) := dk_159 0 54 (dk_at dksX5_readMonth_1 0 rfl rfl)
theorem dX5_readMonth_26 : decode cX5_readMonth 26 = .ok (.aload_n 0, 1) := dk_42 (dk_at dksX5_readMonth_1 3 rfl rfl)
theorem dX5_readMonth_27 : decode cX5_readMonth 27 = .ok (.getfield 132, 3) := dk_180 0 132 (dk_at dksX5_readMonth_1 4 rfl rfl)
theorem dX5_readMonth_30 : decode cX5_readMonth 30 = .ok (.iload_n 2, 1) := dk_28 (dk_at dksX5_readMonth_1 7 rfl rfl)
theorem dX5_readMonth_31 : decode cX5_readMonth 31 = .ok (.aload_n 0, 1) := dk_42 (dk_at dksX5_readMonth_1 8 rfl rfl)
theorem dX5_readMonth_32 : decode cX5_readMonth 32 = .ok (.iconst 0, 1) := dk_3 (dk_at dksX5_readMonth_1 9 rfl rfl)
theorem dX5_readMonth_33 : decode cX5_readMonth 33 = .ok (.bipush 20, 2) := dk_16 20 (dk_at dksX5_readMonth_1 10 rfl rfl)
theorem dX5_readMonth_35 : decode cX5_readMonth 35 = .ok (.invokevirtual 289, 3) := dk_182 1 33 (dk_at dksX5_readMonth_1 12 rfl rfl)
theorem dX5_readMonth_38 : decode cX5_readMonth 38 = .ok (.iastore, 1) := dk_79 (dk_at dksX5_readMonth_1 15 rfl rfl)
theorem dX5_readMonth_39 : decode cX5_readMonth 39 = .ok (.aload_n 0, 1) := dk_42 (dk_at dksX5_readMonth_1 16 rfl rfl)
theorem dX5_readMonth_40 : decode cX5_readMonth 40 = .ok (.getfield 132, 3) := dk_180 0 132 (dk_at dksX5_readMonth_1 17 rfl rfl)
theorem dX5_readMonth_43 : decode cX5_readMonth 43 = .ok (.iload_n 2, 1) := dk_28 (dk_at dksX5_readMonth_1 20 rfl rfl)
theorem dX5_readMonth_44 : decode cX5_readMonth 44 = .ok (.iconst 1, 1) := dk_4 (dk_at dksX5_readMonth_1 21 rfl rfl)
theorem dX5_readMonth_45 : decode cX5_readMonth 45 = .ok (.iadd, 1) := dk_96 (dk_at dksX5_readMonth_1 22 rfl rfl)
theorem dX5_readMonth_46 : decode cX5_readMonth 46 = .ok (.iload_n 1, 1) := dk_27 (dk_at dksX5_readMonth_1 23 rfl rfl)
theorem dX5_readMonth_47 : decode cX5_readMonth 47 = .ok (.iconst 1, 1) := dk_4 (dk_at dksX5_readMonth_2 0 rfl rfl)
theorem dX5_readMonth_48 : decode cX5_readMonth 48 = .ok (.if_icmp .ne 13, 3) := dk_160 0 13 (dk_at dksX5_readMonth_2 1 rfl rfl)
theorem dX5_readMonth_51 : decode cX5_readMonth 51 = .ok (.aload_n 0, 1) := dk_42 (dk_at dksX5_readMonth_2 4 rfl rfl)
theorem dX5_readMonth_52 : decode cX5_readMonth 52 = .ok (.iconst 1, 1) := dk_4 (dk_at dksX5_readMonth_2 5 rfl rfl)
theorem dX5_readMonth_53 : decode cX5_readMonth 53 = .ok (.bipush 99, 2) := dk_16 99 (dk_at dksX5_readMonth_2 6 rfl rfl)
theorem dX5_readMonth_55 : decode cX5_readMonth 55 = .ok (.invokevirtual 220, 3) := dk_182 0 220 (dk_at dksX5_readMonth_2 8 rfl rfl)
theorem dX5_readMonth_58 : decode cX5_readMonth 58 = .ok (.goto 18, 3) := dk_167 0 18 (dk_at dksX5_readMonth_2 11 rfl rfl)
theorem dX5_readMonth_61 : decode cX5_readMonth 61 = .ok (.iload_n 1, 1) := dk_27 (dk_at dksX5_readMonth_2 14 rfl rfl)
theorem dX5_readMonth_62 : decode cX5_readMonth 62 = .ok (.iconst 5, 1) := dk_8 (dk_at dksX5_readMonth_2 15 rfl rfl)
theorem dX5_readMonth_63 : decode cX5_readMonth 63 = .ok (.if_icmp .ne 12, 3) := dk_160 0 12 (dk_at dksX5_readMonth_2 16 rfl rfl)
theorem dX5_readMonth_66 : decode cX5_readMonth 66 = .ok (.aload_n 0, 1) := dk_42 (dk_at dksX5_readMonth_2 19 rfl rfl)
theorem dX5_readMonth_67 : decode cX5_readMonth 67 = .ok (.iconst 0, 1) := dk_3 (dk_at dksX5_readMonth_2 20 rfl rfl)
theorem dX5_readMonth_68 : decode cX5_readMonth 68 = .ok (.iconst 0, 1) := dk_3 (dk_at dksX5_readMonth_2 21 rfl rfl)
theorem dX5_readMonth_69 : decode cX5_readMonth 69 = .ok (.invokevirtual 289, 3) := dk_182 1 33 (dk_at dksX5_readMonth_3 0 rfl rfl)
theorem dX5_readMonth_72 : decode cX5_readMonth 72 = .ok (.goto 4, 3) := dk_167 0 4 (dk_at dksX5_readMonth_3 3 rfl rfl)
theorem dX5_readMonth_75 : decode cX5_readMonth 75 = .ok (.iconst 0, 1) := dk_3 (dk_at dksX5_readMonth_3 6 rfl rfl)
theorem dX5_readMonth_76 : decode cX5_readMonth 76 = .ok (.iastore, 1) := dk_79 (dk_at dksX5_readMonth_3 7 rfl rfl)
theorem dX5_readMonth_77 : decode cX5_readMonth 77 = .ok (.return_, 1) := dk_177 (dk_at dksX5_readMonth_3 8 rfl rfl)
abbrev cX5_room : ByteArray := prog_26_method_71_code
def yX5_room : MethodName := ⟨RX5, "room", "(II)I"⟩
def dkwX5_room_1 : List UInt8 := [162, 0, 12, 42, 27, 28, 182, 1, 100, 167, 0, 13, 42, 3, 27, 182, 1, 127, 167, 0, 4, 2, 172]
abbrev dktX5_room_1 : List UInt8 := dkwX5_room_1 ++ []
def dkwX5_room_0 : List UInt8 := [42, 3, 181, 0, 1, 42, 27, 182, 1, 124, 153, 0, 35, 28, 3, 6, 184, 0, 241, 153, 0, 26, 28, 6]
abbrev dktX5_room_0 : List UInt8 := dkwX5_room_0 ++ dktX5_room_1
theorem dksX5_room_0 : cX5_room.data.toList.drop 0 = dktX5_room_0 := by decide +kernel
theorem dksX5_room_1 : cX5_room.data.toList.drop 24 = dktX5_room_1 := dk_seg dksX5_room_0 24 rfl rfl
theorem dX5_room_0 : decode cX5_room 0 = .ok (.aload_n 0, 1) := dk_42 (dk_at dksX5_room_0 0 rfl rfl)
theorem dX5_room_1 : decode cX5_room 1 = .ok (.iconst 0, 1) := dk_3 (dk_at dksX5_room_0 1 rfl rfl)
theorem dX5_room_2 : decode cX5_room 2 = .ok (.putfield 1, 3) := dk_181 0 1 (dk_at dksX5_room_0 2 rfl rfl)
theorem dX5_room_5 : decode cX5_room 5 = .ok (.aload_n 0, 1) := dk_42 (dk_at dksX5_room_0 5 rfl rfl)
theorem dX5_room_6 : decode cX5_room 6 = .ok (.iload_n 1, 1) := dk_27 (dk_at dksX5_room_0 6 rfl rfl)
theorem dX5_room_7 : decode cX5_room 7 = .ok (.invokevirtual 380, 3) := dk_182 1 124 (dk_at dksX5_room_0 7 rfl rfl)
theorem dX5_room_10 : decode cX5_room 10 = .ok (.ifCond .eq 35, 3) := dk_153 0 35 (dk_at dksX5_room_0 10 rfl rfl)
theorem dX5_room_13 : decode cX5_room 13 = .ok (.iload_n 2, 1) := dk_28 (dk_at dksX5_room_0 13 rfl rfl)
theorem dX5_room_14 : decode cX5_room 14 = .ok (.iconst 0, 1) := dk_3 (dk_at dksX5_room_0 14 rfl rfl)
theorem dX5_room_15 : decode cX5_room 15 = .ok (.iconst 3, 1) := dk_6 (dk_at dksX5_room_0 15 rfl rfl)
theorem dX5_room_16 : decode cX5_room 16 = .ok (.invokestatic 241, 3) := dk_184 0 241 (dk_at dksX5_room_0 16 rfl rfl)
theorem dX5_room_19 : decode cX5_room 19 = .ok (.ifCond .eq 26, 3) := dk_153 0 26 (dk_at dksX5_room_0 19 rfl rfl)
theorem dX5_room_22 : decode cX5_room 22 = .ok (.iload_n 2, 1) := dk_28 (dk_at dksX5_room_0 22 rfl rfl)
theorem dX5_room_23 : decode cX5_room 23 = .ok (.iconst 3, 1) := dk_6 (dk_at dksX5_room_0 23 rfl rfl)
theorem dX5_room_24 : decode cX5_room 24 = .ok (.if_icmp .ge 12, 3) := dk_162 0 12 (dk_at dksX5_room_1 0 rfl rfl)
theorem dX5_room_27 : decode cX5_room 27 = .ok (.aload_n 0, 1) := dk_42 (dk_at dksX5_room_1 3 rfl rfl)
theorem dX5_room_28 : decode cX5_room 28 = .ok (.iload_n 1, 1) := dk_27 (dk_at dksX5_room_1 4 rfl rfl)
theorem dX5_room_29 : decode cX5_room 29 = .ok (.iload_n 2, 1) := dk_28 (dk_at dksX5_room_1 5 rfl rfl)
theorem dX5_room_30 : decode cX5_room 30 = .ok (.invokevirtual 356, 3) := dk_182 1 100 (dk_at dksX5_room_1 6 rfl rfl)
theorem dX5_room_33 : decode cX5_room 33 = .ok (.goto 13, 3) := dk_167 0 13 (dk_at dksX5_room_1 9 rfl rfl)
theorem dX5_room_36 : decode cX5_room 36 = .ok (.aload_n 0, 1) := dk_42 (dk_at dksX5_room_1 12 rfl rfl)
theorem dX5_room_37 : decode cX5_room 37 = .ok (.iconst 0, 1) := dk_3 (dk_at dksX5_room_1 13 rfl rfl)
theorem dX5_room_38 : decode cX5_room 38 = .ok (.iload_n 1, 1) := dk_27 (dk_at dksX5_room_1 14 rfl rfl)
theorem dX5_room_39 : decode cX5_room 39 = .ok (.invokevirtual 383, 3) := dk_182 1 127 (dk_at dksX5_room_1 15 rfl rfl)
theorem dX5_room_42 : decode cX5_room 42 = .ok (.goto 4, 3) := dk_167 0 4 (dk_at dksX5_room_1 18 rfl rfl)
theorem dX5_room_45 : decode cX5_room 45 = .ok (.iconst (-1), 1) := dk_2 (dk_at dksX5_room_1 21 rfl rfl)
theorem dX5_room_46 : decode cX5_room 46 = .ok (.ireturn, 1) := dk_172 (dk_at dksX5_room_1 22 rfl rfl)
abbrev cX5_isRoom : ByteArray := prog_26_method_56_code
def yX5_isRoom : MethodName := ⟨RX5, "isRoom", "(I)Z"⟩
def dkwX5_isRoom_0 : List UInt8 := [27, 155, 0, 15, 27, 42, 182, 1, 87, 162, 0, 7, 4, 167, 0, 4, 3, 172]
abbrev dktX5_isRoom_0 : List UInt8 := dkwX5_isRoom_0 ++ []
theorem dksX5_isRoom_0 : cX5_isRoom.data.toList.drop 0 = dktX5_isRoom_0 := by decide +kernel
theorem dX5_isRoom_0 : decode cX5_isRoom 0 = .ok (.iload_n 1, 1) := dk_27 (dk_at dksX5_isRoom_0 0 rfl rfl)
theorem dX5_isRoom_1 : decode cX5_isRoom 1 = .ok (.ifCond .lt 15, 3) := dk_155 0 15 (dk_at dksX5_isRoom_0 1 rfl rfl)
theorem dX5_isRoom_4 : decode cX5_isRoom 4 = .ok (.iload_n 1, 1) := dk_27 (dk_at dksX5_isRoom_0 4 rfl rfl)
theorem dX5_isRoom_5 : decode cX5_isRoom 5 = .ok (.aload_n 0, 1) := dk_42 (dk_at dksX5_isRoom_0 5 rfl rfl)
theorem dX5_isRoom_6 : decode cX5_isRoom 6 = .ok (.invokevirtual 343, 3) := dk_182 1 87 (dk_at dksX5_isRoom_0 6 rfl rfl)
theorem dX5_isRoom_9 : decode cX5_isRoom 9 = .ok (.if_icmp .ge 7, 3) := dk_162 0 7 (dk_at dksX5_isRoom_0 9 rfl rfl)
theorem dX5_isRoom_12 : decode cX5_isRoom 12 = .ok (.iconst 1, 1) := dk_4 (dk_at dksX5_isRoom_0 12 rfl rfl)
theorem dX5_isRoom_13 : decode cX5_isRoom 13 = .ok (.goto 4, 3) := dk_167 0 4 (dk_at dksX5_isRoom_0 13 rfl rfl)
theorem dX5_isRoom_16 : decode cX5_isRoom 16 = .ok (.iconst 0, 1) := dk_3 (dk_at dksX5_isRoom_0 16 rfl rfl)
theorem dX5_isRoom_17 : decode cX5_isRoom 17 = .ok (.ireturn, 1) := dk_172 (dk_at dksX5_isRoom_0 17 rfl rfl)
abbrev cX5_rooms : ByteArray := prog_26_method_49_code
def yX5_rooms : MethodName := ⟨RX5, "rooms", "()I"⟩
def dkwX5_rooms_0 : List UInt8 := [42, 180, 0, 111, 3, 46, 172]
abbrev dktX5_rooms_0 : List UInt8 := dkwX5_rooms_0 ++ []
theorem dksX5_rooms_0 : cX5_rooms.data.toList.drop 0 = dktX5_rooms_0 := by decide +kernel
theorem dX5_rooms_0 : decode cX5_rooms 0 = .ok (.aload_n 0, 1) := dk_42 (dk_at dksX5_rooms_0 0 rfl rfl)
theorem dX5_rooms_1 : decode cX5_rooms 1 = .ok (.getfield 111, 3) := dk_180 0 111 (dk_at dksX5_rooms_0 1 rfl rfl)
theorem dX5_rooms_4 : decode cX5_rooms 4 = .ok (.iconst 0, 1) := dk_3 (dk_at dksX5_rooms_0 4 rfl rfl)
theorem dX5_rooms_5 : decode cX5_rooms 5 = .ok (.iaload, 1) := dk_46 (dk_at dksX5_rooms_0 5 rfl rfl)
theorem dX5_rooms_6 : decode cX5_rooms 6 = .ok (.ireturn, 1) := dk_172 (dk_at dksX5_rooms_0 6 rfl rfl)
abbrev cX5_roomOf : ByteArray := prog_26_method_52_code
def yX5_roomOf : MethodName := ⟨RX5, "roomOf", "(II)I"⟩
def dkwX5_roomOf_0 : List UInt8 := [42, 180, 0, 111, 16, 8, 6, 27, 104, 96, 28, 96, 46, 172]
abbrev dktX5_roomOf_0 : List UInt8 := dkwX5_roomOf_0 ++ []
theorem dksX5_roomOf_0 : cX5_roomOf.data.toList.drop 0 = dktX5_roomOf_0 := by decide +kernel
theorem dX5_roomOf_0 : decode cX5_roomOf 0 = .ok (.aload_n 0, 1) := dk_42 (dk_at dksX5_roomOf_0 0 rfl rfl)
theorem dX5_roomOf_1 : decode cX5_roomOf 1 = .ok (.getfield 111, 3) := dk_180 0 111 (dk_at dksX5_roomOf_0 1 rfl rfl)
theorem dX5_roomOf_4 : decode cX5_roomOf 4 = .ok (.bipush 8, 2) := dk_16 8 (dk_at dksX5_roomOf_0 4 rfl rfl)
theorem dX5_roomOf_6 : decode cX5_roomOf 6 = .ok (.iconst 3, 1) := dk_6 (dk_at dksX5_roomOf_0 6 rfl rfl)
theorem dX5_roomOf_7 : decode cX5_roomOf 7 = .ok (.iload_n 1, 1) := dk_27 (dk_at dksX5_roomOf_0 7 rfl rfl)
theorem dX5_roomOf_8 : decode cX5_roomOf 8 = .ok (.imul, 1) := dk_104 (dk_at dksX5_roomOf_0 8 rfl rfl)
theorem dX5_roomOf_9 : decode cX5_roomOf 9 = .ok (.iadd, 1) := dk_96 (dk_at dksX5_roomOf_0 9 rfl rfl)
theorem dX5_roomOf_10 : decode cX5_roomOf 10 = .ok (.iload_n 2, 1) := dk_28 (dk_at dksX5_roomOf_0 10 rfl rfl)
theorem dX5_roomOf_11 : decode cX5_roomOf 11 = .ok (.iadd, 1) := dk_96 (dk_at dksX5_roomOf_0 11 rfl rfl)
theorem dX5_roomOf_12 : decode cX5_roomOf 12 = .ok (.iaload, 1) := dk_46 (dk_at dksX5_roomOf_0 12 rfl rfl)
theorem dX5_roomOf_13 : decode cX5_roomOf 13 = .ok (.ireturn, 1) := dk_172 (dk_at dksX5_roomOf_0 13 rfl rfl)
abbrev cX5_whoIn : ByteArray := prog_26_method_58_code
def yX5_whoIn : MethodName := ⟨RX5, "whoIn", "(II)I"⟩
def dkwX5_whoIn_1 : List UInt8 := [46, 28, 160, 0, 8, 21, 4, 167, 0, 4, 29, 62, 132, 4, 1, 167, 255, 222, 29, 172]
abbrev dktX5_whoIn_1 : List UInt8 := dkwX5_whoIn_1 ++ []
def dkwX5_whoIn_0 : List UInt8 := [2, 62, 3, 54, 4, 21, 4, 42, 182, 1, 67, 162, 0, 31, 42, 180, 0, 141, 27, 4, 96, 21, 4, 96]
abbrev dktX5_whoIn_0 : List UInt8 := dkwX5_whoIn_0 ++ dktX5_whoIn_1
theorem dksX5_whoIn_0 : cX5_whoIn.data.toList.drop 0 = dktX5_whoIn_0 := by decide +kernel
theorem dksX5_whoIn_1 : cX5_whoIn.data.toList.drop 24 = dktX5_whoIn_1 := dk_seg dksX5_whoIn_0 24 rfl rfl
theorem dX5_whoIn_0 : decode cX5_whoIn 0 = .ok (.iconst (-1), 1) := dk_2 (dk_at dksX5_whoIn_0 0 rfl rfl)
theorem dX5_whoIn_1 : decode cX5_whoIn 1 = .ok (.istore_n 3, 1) := dk_62 (dk_at dksX5_whoIn_0 1 rfl rfl)
theorem dX5_whoIn_2 : decode cX5_whoIn 2 = .ok (.iconst 0, 1) := dk_3 (dk_at dksX5_whoIn_0 2 rfl rfl)
theorem dX5_whoIn_3 : decode cX5_whoIn 3 = .ok (.istore 4, 2) := dk_54 4 (dk_at dksX5_whoIn_0 3 rfl rfl)
theorem dX5_whoIn_5 : decode cX5_whoIn 5 = .ok (.iload 4, 2) := dk_21 4 (dk_at dksX5_whoIn_0 5 rfl rfl)
theorem dX5_whoIn_7 : decode cX5_whoIn 7 = .ok (.aload_n 0, 1) := dk_42 (dk_at dksX5_whoIn_0 7 rfl rfl)
theorem dX5_whoIn_8 : decode cX5_whoIn 8 = .ok (.invokevirtual 323, 3) := dk_182 1 67 (dk_at dksX5_whoIn_0 8 rfl rfl)
theorem dX5_whoIn_11 : decode cX5_whoIn 11 = .ok (.if_icmp .ge 31, 3) := dk_162 0 31 (dk_at dksX5_whoIn_0 11 rfl rfl)
theorem dX5_whoIn_14 : decode cX5_whoIn 14 = .ok (.aload_n 0, 1) := dk_42 (dk_at dksX5_whoIn_0 14 rfl rfl)
theorem dX5_whoIn_15 : decode cX5_whoIn 15 = .ok (.getfield 141, 3) := dk_180 0 141 (dk_at dksX5_whoIn_0 15 rfl rfl)
theorem dX5_whoIn_18 : decode cX5_whoIn 18 = .ok (.iload_n 1, 1) := dk_27 (dk_at dksX5_whoIn_0 18 rfl rfl)
theorem dX5_whoIn_19 : decode cX5_whoIn 19 = .ok (.iconst 1, 1) := dk_4 (dk_at dksX5_whoIn_0 19 rfl rfl)
theorem dX5_whoIn_20 : decode cX5_whoIn 20 = .ok (.iadd, 1) := dk_96 (dk_at dksX5_whoIn_0 20 rfl rfl)
theorem dX5_whoIn_21 : decode cX5_whoIn 21 = .ok (.iload 4, 2) := dk_21 4 (dk_at dksX5_whoIn_0 21 rfl rfl)
theorem dX5_whoIn_23 : decode cX5_whoIn 23 = .ok (.iadd, 1) := dk_96 (dk_at dksX5_whoIn_0 23 rfl rfl)
theorem dX5_whoIn_24 : decode cX5_whoIn 24 = .ok (.iaload, 1) := dk_46 (dk_at dksX5_whoIn_1 0 rfl rfl)
theorem dX5_whoIn_25 : decode cX5_whoIn 25 = .ok (.iload_n 2, 1) := dk_28 (dk_at dksX5_whoIn_1 1 rfl rfl)
theorem dX5_whoIn_26 : decode cX5_whoIn 26 = .ok (.if_icmp .ne 8, 3) := dk_160 0 8 (dk_at dksX5_whoIn_1 2 rfl rfl)
theorem dX5_whoIn_29 : decode cX5_whoIn 29 = .ok (.iload 4, 2) := dk_21 4 (dk_at dksX5_whoIn_1 5 rfl rfl)
theorem dX5_whoIn_31 : decode cX5_whoIn 31 = .ok (.goto 4, 3) := dk_167 0 4 (dk_at dksX5_whoIn_1 7 rfl rfl)
theorem dX5_whoIn_34 : decode cX5_whoIn 34 = .ok (.iload_n 3, 1) := dk_29 (dk_at dksX5_whoIn_1 10 rfl rfl)
theorem dX5_whoIn_35 : decode cX5_whoIn 35 = .ok (.istore_n 3, 1) := dk_62 (dk_at dksX5_whoIn_1 11 rfl rfl)
theorem dX5_whoIn_36 : decode cX5_whoIn 36 = .ok (.iinc 4 1, 3) := dk_132 4 1 (dk_at dksX5_whoIn_1 12 rfl rfl)
theorem dX5_whoIn_39 : decode cX5_whoIn 39 = .ok (.goto (-34), 3) := dk_167 255 222 (dk_at dksX5_whoIn_1 15 rfl rfl)
theorem dX5_whoIn_42 : decode cX5_whoIn 42 = .ok (.iload_n 3, 1) := dk_29 (dk_at dksX5_whoIn_1 18 rfl rfl)
theorem dX5_whoIn_43 : decode cX5_whoIn 43 = .ok (.ireturn, 1) := dk_172 (dk_at dksX5_whoIn_1 19 rfl rfl)
abbrev cX5_tenant : ByteArray := prog_26_method_72_code
def yX5_tenant : MethodName := ⟨RX5, "tenant", "(II)I"⟩
def dkwX5_tenant_6 : List UInt8 := [28, 182, 1, 71, 172]
abbrev dktX5_tenant_6 : List UInt8 := dkwX5_tenant_6 ++ []
def dkwX5_tenant_5 : List UInt8 := [46, 172, 42, 180, 0, 141, 16, 7, 27, 96, 46, 172, 42, 180, 0, 141, 16, 37, 27, 96, 46, 172, 42, 27]
abbrev dktX5_tenant_5 : List UInt8 := dkwX5_tenant_5 ++ dktX5_tenant_6
def dkwX5_tenant_4 : List UInt8 := [16, 13, 27, 96, 46, 172, 42, 180, 0, 141, 16, 19, 27, 96, 46, 172, 42, 180, 0, 141, 16, 25, 27, 96]
abbrev dktX5_tenant_4 : List UInt8 := dkwX5_tenant_4 ++ dktX5_tenant_5
def dkwX5_tenant_3 : List UInt8 := [42, 180, 0, 141, 16, 31, 27, 96, 46, 172, 42, 180, 0, 141, 4, 27, 96, 46, 172, 42, 180, 0, 141]
abbrev dktX5_tenant_3 : List UInt8 := dkwX5_tenant_3 ++ dktX5_tenant_4
def dkwX5_tenant_2 : List UInt8 := [170, 0, 0, 0, 0, 111, 0, 0, 0, 3, 0, 0, 0, 9, 0, 0, 0, 42, 0, 0, 0, 52, 0, 0, 0, 61, 0, 0, 0, 71, 0, 0, 0, 81, 0, 0, 0, 91, 0, 0, 0, 101]
abbrev dktX5_tenant_2 : List UInt8 := dkwX5_tenant_2 ++ dktX5_tenant_3
def dkwX5_tenant_1 : List UInt8 := [172, 28]
abbrev dktX5_tenant_1 : List UInt8 := dkwX5_tenant_1 ++ dktX5_tenant_2
def dkwX5_tenant_0 : List UInt8 := [42, 3, 181, 0, 1, 42, 27, 182, 1, 90, 153, 0, 13, 28, 3, 16, 9, 184, 0, 241, 154, 0, 5, 2]
abbrev dktX5_tenant_0 : List UInt8 := dkwX5_tenant_0 ++ dktX5_tenant_1
theorem dksX5_tenant_0 : cX5_tenant.data.toList.drop 0 = dktX5_tenant_0 := by decide +kernel
theorem dksX5_tenant_1 : cX5_tenant.data.toList.drop 24 = dktX5_tenant_1 := dk_seg dksX5_tenant_0 24 rfl rfl
theorem dksX5_tenant_2 : cX5_tenant.data.toList.drop 26 = dktX5_tenant_2 := dk_seg dksX5_tenant_1 2 rfl rfl
theorem dksX5_tenant_3 : cX5_tenant.data.toList.drop 68 = dktX5_tenant_3 := dk_seg dksX5_tenant_2 42 rfl rfl
theorem dksX5_tenant_4 : cX5_tenant.data.toList.drop 91 = dktX5_tenant_4 := dk_seg dksX5_tenant_3 23 rfl rfl
theorem dksX5_tenant_5 : cX5_tenant.data.toList.drop 115 = dktX5_tenant_5 := dk_seg dksX5_tenant_4 24 rfl rfl
theorem dksX5_tenant_6 : cX5_tenant.data.toList.drop 139 = dktX5_tenant_6 := dk_seg dksX5_tenant_5 24 rfl rfl
theorem dX5_tenant_0 : decode cX5_tenant 0 = .ok (.aload_n 0, 1) := dk_42 (dk_at dksX5_tenant_0 0 rfl rfl)
theorem dX5_tenant_1 : decode cX5_tenant 1 = .ok (.iconst 0, 1) := dk_3 (dk_at dksX5_tenant_0 1 rfl rfl)
theorem dX5_tenant_2 : decode cX5_tenant 2 = .ok (.putfield 1, 3) := dk_181 0 1 (dk_at dksX5_tenant_0 2 rfl rfl)
theorem dX5_tenant_5 : decode cX5_tenant 5 = .ok (.aload_n 0, 1) := dk_42 (dk_at dksX5_tenant_0 5 rfl rfl)
theorem dX5_tenant_6 : decode cX5_tenant 6 = .ok (.iload_n 1, 1) := dk_27 (dk_at dksX5_tenant_0 6 rfl rfl)
theorem dX5_tenant_7 : decode cX5_tenant 7 = .ok (.invokevirtual 346, 3) := dk_182 1 90 (dk_at dksX5_tenant_0 7 rfl rfl)
theorem dX5_tenant_10 : decode cX5_tenant 10 = .ok (.ifCond .eq 13, 3) := dk_153 0 13 (dk_at dksX5_tenant_0 10 rfl rfl)
theorem dX5_tenant_13 : decode cX5_tenant 13 = .ok (.iload_n 2, 1) := dk_28 (dk_at dksX5_tenant_0 13 rfl rfl)
theorem dX5_tenant_14 : decode cX5_tenant 14 = .ok (.iconst 0, 1) := dk_3 (dk_at dksX5_tenant_0 14 rfl rfl)
theorem dX5_tenant_15 : decode cX5_tenant 15 = .ok (.bipush 9, 2) := dk_16 9 (dk_at dksX5_tenant_0 15 rfl rfl)
theorem dX5_tenant_17 : decode cX5_tenant 17 = .ok (.invokestatic 241, 3) := dk_184 0 241 (dk_at dksX5_tenant_0 17 rfl rfl)
theorem dX5_tenant_20 : decode cX5_tenant 20 = .ok (.ifCond .ne 5, 3) := dk_154 0 5 (dk_at dksX5_tenant_0 20 rfl rfl)
theorem dX5_tenant_23 : decode cX5_tenant 23 = .ok (.iconst (-1), 1) := dk_2 (dk_at dksX5_tenant_0 23 rfl rfl)
theorem dX5_tenant_24 : decode cX5_tenant 24 = .ok (.ireturn, 1) := dk_172 (dk_at dksX5_tenant_1 0 rfl rfl)
theorem dX5_tenant_25 : decode cX5_tenant 25 = .ok (.iload_n 2, 1) := dk_28 (dk_at dksX5_tenant_1 1 rfl rfl)
theorem dX5_tenant_26 : decode cX5_tenant 26 = .ok (.tableswitch 111 3 9 #[42, 52, 61, 71, 81, 91, 101], 42) := by decide +kernel
theorem dX5_tenant_68 : decode cX5_tenant 68 = .ok (.aload_n 0, 1) := dk_42 (dk_at dksX5_tenant_3 0 rfl rfl)
theorem dX5_tenant_69 : decode cX5_tenant 69 = .ok (.getfield 141, 3) := dk_180 0 141 (dk_at dksX5_tenant_3 1 rfl rfl)
theorem dX5_tenant_72 : decode cX5_tenant 72 = .ok (.bipush 31, 2) := dk_16 31 (dk_at dksX5_tenant_3 4 rfl rfl)
theorem dX5_tenant_74 : decode cX5_tenant 74 = .ok (.iload_n 1, 1) := dk_27 (dk_at dksX5_tenant_3 6 rfl rfl)
theorem dX5_tenant_75 : decode cX5_tenant 75 = .ok (.iadd, 1) := dk_96 (dk_at dksX5_tenant_3 7 rfl rfl)
theorem dX5_tenant_76 : decode cX5_tenant 76 = .ok (.iaload, 1) := dk_46 (dk_at dksX5_tenant_3 8 rfl rfl)
theorem dX5_tenant_77 : decode cX5_tenant 77 = .ok (.ireturn, 1) := dk_172 (dk_at dksX5_tenant_3 9 rfl rfl)
theorem dX5_tenant_78 : decode cX5_tenant 78 = .ok (.aload_n 0, 1) := dk_42 (dk_at dksX5_tenant_3 10 rfl rfl)
theorem dX5_tenant_79 : decode cX5_tenant 79 = .ok (.getfield 141, 3) := dk_180 0 141 (dk_at dksX5_tenant_3 11 rfl rfl)
theorem dX5_tenant_82 : decode cX5_tenant 82 = .ok (.iconst 1, 1) := dk_4 (dk_at dksX5_tenant_3 14 rfl rfl)
theorem dX5_tenant_83 : decode cX5_tenant 83 = .ok (.iload_n 1, 1) := dk_27 (dk_at dksX5_tenant_3 15 rfl rfl)
theorem dX5_tenant_84 : decode cX5_tenant 84 = .ok (.iadd, 1) := dk_96 (dk_at dksX5_tenant_3 16 rfl rfl)
theorem dX5_tenant_85 : decode cX5_tenant 85 = .ok (.iaload, 1) := dk_46 (dk_at dksX5_tenant_3 17 rfl rfl)
theorem dX5_tenant_86 : decode cX5_tenant 86 = .ok (.ireturn, 1) := dk_172 (dk_at dksX5_tenant_3 18 rfl rfl)
theorem dX5_tenant_87 : decode cX5_tenant 87 = .ok (.aload_n 0, 1) := dk_42 (dk_at dksX5_tenant_3 19 rfl rfl)
theorem dX5_tenant_88 : decode cX5_tenant 88 = .ok (.getfield 141, 3) := dk_180 0 141 (dk_at dksX5_tenant_3 20 rfl rfl)
theorem dX5_tenant_91 : decode cX5_tenant 91 = .ok (.bipush 13, 2) := dk_16 13 (dk_at dksX5_tenant_4 0 rfl rfl)
theorem dX5_tenant_93 : decode cX5_tenant 93 = .ok (.iload_n 1, 1) := dk_27 (dk_at dksX5_tenant_4 2 rfl rfl)
theorem dX5_tenant_94 : decode cX5_tenant 94 = .ok (.iadd, 1) := dk_96 (dk_at dksX5_tenant_4 3 rfl rfl)
theorem dX5_tenant_95 : decode cX5_tenant 95 = .ok (.iaload, 1) := dk_46 (dk_at dksX5_tenant_4 4 rfl rfl)
theorem dX5_tenant_96 : decode cX5_tenant 96 = .ok (.ireturn, 1) := dk_172 (dk_at dksX5_tenant_4 5 rfl rfl)
theorem dX5_tenant_97 : decode cX5_tenant 97 = .ok (.aload_n 0, 1) := dk_42 (dk_at dksX5_tenant_4 6 rfl rfl)
theorem dX5_tenant_98 : decode cX5_tenant 98 = .ok (.getfield 141, 3) := dk_180 0 141 (dk_at dksX5_tenant_4 7 rfl rfl)
theorem dX5_tenant_101 : decode cX5_tenant 101 = .ok (.bipush 19, 2) := dk_16 19 (dk_at dksX5_tenant_4 10 rfl rfl)
theorem dX5_tenant_103 : decode cX5_tenant 103 = .ok (.iload_n 1, 1) := dk_27 (dk_at dksX5_tenant_4 12 rfl rfl)
theorem dX5_tenant_104 : decode cX5_tenant 104 = .ok (.iadd, 1) := dk_96 (dk_at dksX5_tenant_4 13 rfl rfl)
theorem dX5_tenant_105 : decode cX5_tenant 105 = .ok (.iaload, 1) := dk_46 (dk_at dksX5_tenant_4 14 rfl rfl)
theorem dX5_tenant_106 : decode cX5_tenant 106 = .ok (.ireturn, 1) := dk_172 (dk_at dksX5_tenant_4 15 rfl rfl)
theorem dX5_tenant_107 : decode cX5_tenant 107 = .ok (.aload_n 0, 1) := dk_42 (dk_at dksX5_tenant_4 16 rfl rfl)
theorem dX5_tenant_108 : decode cX5_tenant 108 = .ok (.getfield 141, 3) := dk_180 0 141 (dk_at dksX5_tenant_4 17 rfl rfl)
theorem dX5_tenant_111 : decode cX5_tenant 111 = .ok (.bipush 25, 2) := dk_16 25 (dk_at dksX5_tenant_4 20 rfl rfl)
theorem dX5_tenant_113 : decode cX5_tenant 113 = .ok (.iload_n 1, 1) := dk_27 (dk_at dksX5_tenant_4 22 rfl rfl)
theorem dX5_tenant_114 : decode cX5_tenant 114 = .ok (.iadd, 1) := dk_96 (dk_at dksX5_tenant_4 23 rfl rfl)
theorem dX5_tenant_115 : decode cX5_tenant 115 = .ok (.iaload, 1) := dk_46 (dk_at dksX5_tenant_5 0 rfl rfl)
theorem dX5_tenant_116 : decode cX5_tenant 116 = .ok (.ireturn, 1) := dk_172 (dk_at dksX5_tenant_5 1 rfl rfl)
theorem dX5_tenant_117 : decode cX5_tenant 117 = .ok (.aload_n 0, 1) := dk_42 (dk_at dksX5_tenant_5 2 rfl rfl)
theorem dX5_tenant_118 : decode cX5_tenant 118 = .ok (.getfield 141, 3) := dk_180 0 141 (dk_at dksX5_tenant_5 3 rfl rfl)
theorem dX5_tenant_121 : decode cX5_tenant 121 = .ok (.bipush 7, 2) := dk_16 7 (dk_at dksX5_tenant_5 6 rfl rfl)
theorem dX5_tenant_123 : decode cX5_tenant 123 = .ok (.iload_n 1, 1) := dk_27 (dk_at dksX5_tenant_5 8 rfl rfl)
theorem dX5_tenant_124 : decode cX5_tenant 124 = .ok (.iadd, 1) := dk_96 (dk_at dksX5_tenant_5 9 rfl rfl)
theorem dX5_tenant_125 : decode cX5_tenant 125 = .ok (.iaload, 1) := dk_46 (dk_at dksX5_tenant_5 10 rfl rfl)
theorem dX5_tenant_126 : decode cX5_tenant 126 = .ok (.ireturn, 1) := dk_172 (dk_at dksX5_tenant_5 11 rfl rfl)
theorem dX5_tenant_127 : decode cX5_tenant 127 = .ok (.aload_n 0, 1) := dk_42 (dk_at dksX5_tenant_5 12 rfl rfl)
theorem dX5_tenant_128 : decode cX5_tenant 128 = .ok (.getfield 141, 3) := dk_180 0 141 (dk_at dksX5_tenant_5 13 rfl rfl)
theorem dX5_tenant_131 : decode cX5_tenant 131 = .ok (.bipush 37, 2) := dk_16 37 (dk_at dksX5_tenant_5 16 rfl rfl)
theorem dX5_tenant_133 : decode cX5_tenant 133 = .ok (.iload_n 1, 1) := dk_27 (dk_at dksX5_tenant_5 18 rfl rfl)
theorem dX5_tenant_134 : decode cX5_tenant 134 = .ok (.iadd, 1) := dk_96 (dk_at dksX5_tenant_5 19 rfl rfl)
theorem dX5_tenant_135 : decode cX5_tenant 135 = .ok (.iaload, 1) := dk_46 (dk_at dksX5_tenant_5 20 rfl rfl)
theorem dX5_tenant_136 : decode cX5_tenant 136 = .ok (.ireturn, 1) := dk_172 (dk_at dksX5_tenant_5 21 rfl rfl)
theorem dX5_tenant_137 : decode cX5_tenant 137 = .ok (.aload_n 0, 1) := dk_42 (dk_at dksX5_tenant_5 22 rfl rfl)
theorem dX5_tenant_138 : decode cX5_tenant 138 = .ok (.iload_n 1, 1) := dk_27 (dk_at dksX5_tenant_5 23 rfl rfl)
theorem dX5_tenant_139 : decode cX5_tenant 139 = .ok (.iload_n 2, 1) := dk_28 (dk_at dksX5_tenant_6 0 rfl rfl)
theorem dX5_tenant_140 : decode cX5_tenant 140 = .ok (.invokevirtual 327, 3) := dk_182 1 71 (dk_at dksX5_tenant_6 1 rfl rfl)
theorem dX5_tenant_143 : decode cX5_tenant 143 = .ok (.ireturn, 1) := dk_172 (dk_at dksX5_tenant_6 4 rfl rfl)
abbrev cX5_isTenant : ByteArray := prog_26_method_55_code
def yX5_isTenant : MethodName := ⟨RX5, "isTenant", "(I)Z"⟩
def dkwX5_isTenant_0 : List UInt8 := [27, 155, 0, 15, 27, 42, 182, 1, 67, 162, 0, 7, 4, 167, 0, 4, 3, 172]
abbrev dktX5_isTenant_0 : List UInt8 := dkwX5_isTenant_0 ++ []
theorem dksX5_isTenant_0 : cX5_isTenant.data.toList.drop 0 = dktX5_isTenant_0 := by decide +kernel
theorem dX5_isTenant_0 : decode cX5_isTenant 0 = .ok (.iload_n 1, 1) := dk_27 (dk_at dksX5_isTenant_0 0 rfl rfl)
theorem dX5_isTenant_1 : decode cX5_isTenant 1 = .ok (.ifCond .lt 15, 3) := dk_155 0 15 (dk_at dksX5_isTenant_0 1 rfl rfl)
theorem dX5_isTenant_4 : decode cX5_isTenant 4 = .ok (.iload_n 1, 1) := dk_27 (dk_at dksX5_isTenant_0 4 rfl rfl)
theorem dX5_isTenant_5 : decode cX5_isTenant 5 = .ok (.aload_n 0, 1) := dk_42 (dk_at dksX5_isTenant_0 5 rfl rfl)
theorem dX5_isTenant_6 : decode cX5_isTenant 6 = .ok (.invokevirtual 323, 3) := dk_182 1 67 (dk_at dksX5_isTenant_0 6 rfl rfl)
theorem dX5_isTenant_9 : decode cX5_isTenant 9 = .ok (.if_icmp .ge 7, 3) := dk_162 0 7 (dk_at dksX5_isTenant_0 9 rfl rfl)
theorem dX5_isTenant_12 : decode cX5_isTenant 12 = .ok (.iconst 1, 1) := dk_4 (dk_at dksX5_isTenant_0 12 rfl rfl)
theorem dX5_isTenant_13 : decode cX5_isTenant 13 = .ok (.goto 4, 3) := dk_167 0 4 (dk_at dksX5_isTenant_0 13 rfl rfl)
theorem dX5_isTenant_16 : decode cX5_isTenant 16 = .ok (.iconst 0, 1) := dk_3 (dk_at dksX5_isTenant_0 16 rfl rfl)
theorem dX5_isTenant_17 : decode cX5_isTenant 17 = .ok (.ireturn, 1) := dk_172 (dk_at dksX5_isTenant_0 17 rfl rfl)
abbrev cX5_pulse : ByteArray := prog_26_method_73_code
def yX5_pulse : MethodName := ⟨RX5, "pulse", "(I)I"⟩
def dkwX5_pulse_1 : List UInt8 := [172]
abbrev dktX5_pulse_1 : List UInt8 := dkwX5_pulse_1 ++ []
def dkwX5_pulse_0 : List UInt8 := [42, 3, 181, 0, 1, 42, 3, 27, 182, 1, 93, 153, 0, 12, 42, 3, 27, 182, 1, 106, 167, 0, 4, 2]
abbrev dktX5_pulse_0 : List UInt8 := dkwX5_pulse_0 ++ dktX5_pulse_1
theorem dksX5_pulse_0 : cX5_pulse.data.toList.drop 0 = dktX5_pulse_0 := by decide +kernel
theorem dksX5_pulse_1 : cX5_pulse.data.toList.drop 24 = dktX5_pulse_1 := dk_seg dksX5_pulse_0 24 rfl rfl
theorem dX5_pulse_0 : decode cX5_pulse 0 = .ok (.aload_n 0, 1) := dk_42 (dk_at dksX5_pulse_0 0 rfl rfl)
theorem dX5_pulse_1 : decode cX5_pulse 1 = .ok (.iconst 0, 1) := dk_3 (dk_at dksX5_pulse_0 1 rfl rfl)
theorem dX5_pulse_2 : decode cX5_pulse 2 = .ok (.putfield 1, 3) := dk_181 0 1 (dk_at dksX5_pulse_0 2 rfl rfl)
theorem dX5_pulse_5 : decode cX5_pulse 5 = .ok (.aload_n 0, 1) := dk_42 (dk_at dksX5_pulse_0 5 rfl rfl)
theorem dX5_pulse_6 : decode cX5_pulse 6 = .ok (.iconst 0, 1) := dk_3 (dk_at dksX5_pulse_0 6 rfl rfl)
theorem dX5_pulse_7 : decode cX5_pulse 7 = .ok (.iload_n 1, 1) := dk_27 (dk_at dksX5_pulse_0 7 rfl rfl)
theorem dX5_pulse_8 : decode cX5_pulse 8 = .ok (.invokevirtual 349, 3) := dk_182 1 93 (dk_at dksX5_pulse_0 8 rfl rfl)
theorem dX5_pulse_11 : decode cX5_pulse 11 = .ok (.ifCond .eq 12, 3) := dk_153 0 12 (dk_at dksX5_pulse_0 11 rfl rfl)
theorem dX5_pulse_14 : decode cX5_pulse 14 = .ok (.aload_n 0, 1) := dk_42 (dk_at dksX5_pulse_0 14 rfl rfl)
theorem dX5_pulse_15 : decode cX5_pulse 15 = .ok (.iconst 0, 1) := dk_3 (dk_at dksX5_pulse_0 15 rfl rfl)
theorem dX5_pulse_16 : decode cX5_pulse 16 = .ok (.iload_n 1, 1) := dk_27 (dk_at dksX5_pulse_0 16 rfl rfl)
theorem dX5_pulse_17 : decode cX5_pulse 17 = .ok (.invokevirtual 362, 3) := dk_182 1 106 (dk_at dksX5_pulse_0 17 rfl rfl)
theorem dX5_pulse_20 : decode cX5_pulse 20 = .ok (.goto 4, 3) := dk_167 0 4 (dk_at dksX5_pulse_0 20 rfl rfl)
theorem dX5_pulse_23 : decode cX5_pulse 23 = .ok (.iconst (-1), 1) := dk_2 (dk_at dksX5_pulse_0 23 rfl rfl)
theorem dX5_pulse_24 : decode cX5_pulse 24 = .ok (.ireturn, 1) := dk_172 (dk_at dksX5_pulse_1 0 rfl rfl)
abbrev cX5_isIn : ByteArray := prog_26_method_57_code
def yX5_isIn : MethodName := ⟨RX5, "isIn", "(II)Z"⟩
def dkwX5_isIn_1 : List UInt8 := [167, 0, 4, 3, 172]
abbrev dktX5_isIn_1 : List UInt8 := dkwX5_isIn_1 ++ []
def dkwX5_isIn_0 : List UInt8 := [42, 28, 182, 1, 90, 153, 0, 20, 42, 180, 0, 141, 27, 4, 96, 28, 96, 46, 155, 0, 7, 4]
abbrev dktX5_isIn_0 : List UInt8 := dkwX5_isIn_0 ++ dktX5_isIn_1
theorem dksX5_isIn_0 : cX5_isIn.data.toList.drop 0 = dktX5_isIn_0 := by decide +kernel
theorem dksX5_isIn_1 : cX5_isIn.data.toList.drop 22 = dktX5_isIn_1 := dk_seg dksX5_isIn_0 22 rfl rfl
theorem dX5_isIn_0 : decode cX5_isIn 0 = .ok (.aload_n 0, 1) := dk_42 (dk_at dksX5_isIn_0 0 rfl rfl)
theorem dX5_isIn_1 : decode cX5_isIn 1 = .ok (.iload_n 2, 1) := dk_28 (dk_at dksX5_isIn_0 1 rfl rfl)
theorem dX5_isIn_2 : decode cX5_isIn 2 = .ok (.invokevirtual 346, 3) := dk_182 1 90 (dk_at dksX5_isIn_0 2 rfl rfl)
theorem dX5_isIn_5 : decode cX5_isIn 5 = .ok (.ifCond .eq 20, 3) := dk_153 0 20 (dk_at dksX5_isIn_0 5 rfl rfl)
theorem dX5_isIn_8 : decode cX5_isIn 8 = .ok (.aload_n 0, 1) := dk_42 (dk_at dksX5_isIn_0 8 rfl rfl)
theorem dX5_isIn_9 : decode cX5_isIn 9 = .ok (.getfield 141, 3) := dk_180 0 141 (dk_at dksX5_isIn_0 9 rfl rfl)
theorem dX5_isIn_12 : decode cX5_isIn 12 = .ok (.iload_n 1, 1) := dk_27 (dk_at dksX5_isIn_0 12 rfl rfl)
theorem dX5_isIn_13 : decode cX5_isIn 13 = .ok (.iconst 1, 1) := dk_4 (dk_at dksX5_isIn_0 13 rfl rfl)
theorem dX5_isIn_14 : decode cX5_isIn 14 = .ok (.iadd, 1) := dk_96 (dk_at dksX5_isIn_0 14 rfl rfl)
theorem dX5_isIn_15 : decode cX5_isIn 15 = .ok (.iload_n 2, 1) := dk_28 (dk_at dksX5_isIn_0 15 rfl rfl)
theorem dX5_isIn_16 : decode cX5_isIn 16 = .ok (.iadd, 1) := dk_96 (dk_at dksX5_isIn_0 16 rfl rfl)
theorem dX5_isIn_17 : decode cX5_isIn 17 = .ok (.iaload, 1) := dk_46 (dk_at dksX5_isIn_0 17 rfl rfl)
theorem dX5_isIn_18 : decode cX5_isIn 18 = .ok (.ifCond .lt 7, 3) := dk_155 0 7 (dk_at dksX5_isIn_0 18 rfl rfl)
theorem dX5_isIn_21 : decode cX5_isIn 21 = .ok (.iconst 1, 1) := dk_4 (dk_at dksX5_isIn_0 21 rfl rfl)
theorem dX5_isIn_22 : decode cX5_isIn 22 = .ok (.goto 4, 3) := dk_167 0 4 (dk_at dksX5_isIn_1 0 rfl rfl)
theorem dX5_isIn_25 : decode cX5_isIn 25 = .ok (.iconst 0, 1) := dk_3 (dk_at dksX5_isIn_1 3 rfl rfl)
theorem dX5_isIn_26 : decode cX5_isIn 26 = .ok (.ireturn, 1) := dk_172 (dk_at dksX5_isIn_1 4 rfl rfl)
abbrev cX5_pulseOf : ByteArray := prog_26_method_61_code
def yX5_pulseOf : MethodName := ⟨RX5, "pulseOf", "(II)I"⟩
def dkwX5_pulseOf_3 : List UInt8 := [16, 8, 167, 0, 4, 3, 96, 62, 29, 17, 0, 240, 164, 0, 9, 17, 0, 240, 167, 0, 4, 29, 172]
abbrev dktX5_pulseOf_3 : List UInt8 := dkwX5_pulseOf_3 ++ []
def dkwX5_pulseOf_2 : List UInt8 := [158, 0, 10, 42, 180, 1, 74, 167, 0, 4, 3, 96, 62, 29, 42, 27, 28, 182, 1, 103, 153, 0, 8]
abbrev dktX5_pulseOf_2 : List UInt8 := dkwX5_pulseOf_2 ++ dktX5_pulseOf_3
def dkwX5_pulseOf_1 : List UInt8 := [96, 28, 96, 46, 4, 182, 1, 100, 96, 62, 29, 42, 180, 0, 141, 27, 16, 19, 96, 28, 96, 46]
abbrev dktX5_pulseOf_1 : List UInt8 := dkwX5_pulseOf_1 ++ dktX5_pulseOf_2
def dkwX5_pulseOf_0 : List UInt8 := [42, 28, 182, 1, 97, 42, 180, 0, 141, 27, 16, 13, 96, 28, 96, 46, 96, 42, 42, 180, 0, 141, 27, 4]
abbrev dktX5_pulseOf_0 : List UInt8 := dkwX5_pulseOf_0 ++ dktX5_pulseOf_1
theorem dksX5_pulseOf_0 : cX5_pulseOf.data.toList.drop 0 = dktX5_pulseOf_0 := by decide +kernel
theorem dksX5_pulseOf_1 : cX5_pulseOf.data.toList.drop 24 = dktX5_pulseOf_1 := dk_seg dksX5_pulseOf_0 24 rfl rfl
theorem dksX5_pulseOf_2 : cX5_pulseOf.data.toList.drop 46 = dktX5_pulseOf_2 := dk_seg dksX5_pulseOf_1 22 rfl rfl
theorem dksX5_pulseOf_3 : cX5_pulseOf.data.toList.drop 69 = dktX5_pulseOf_3 := dk_seg dksX5_pulseOf_2 23 rfl rfl
theorem dX5_pulseOf_0 : decode cX5_pulseOf 0 = .ok (.aload_n 0, 1) := dk_42 (dk_at dksX5_pulseOf_0 0 rfl rfl)
theorem dX5_pulseOf_1 : decode cX5_pulseOf 1 = .ok (.iload_n 2, 1) := dk_28 (dk_at dksX5_pulseOf_0 1 rfl rfl)
theorem dX5_pulseOf_2 : decode cX5_pulseOf 2 = .ok (.invokevirtual 353, 3) := dk_182 1 97 (dk_at dksX5_pulseOf_0 2 rfl rfl)
theorem dX5_pulseOf_5 : decode cX5_pulseOf 5 = .ok (.aload_n 0, 1) := dk_42 (dk_at dksX5_pulseOf_0 5 rfl rfl)
theorem dX5_pulseOf_6 : decode cX5_pulseOf 6 = .ok (.getfield 141, 3) := dk_180 0 141 (dk_at dksX5_pulseOf_0 6 rfl rfl)
theorem dX5_pulseOf_9 : decode cX5_pulseOf 9 = .ok (.iload_n 1, 1) := dk_27 (dk_at dksX5_pulseOf_0 9 rfl rfl)
theorem dX5_pulseOf_10 : decode cX5_pulseOf 10 = .ok (.bipush 13, 2) := dk_16 13 (dk_at dksX5_pulseOf_0 10 rfl rfl)
theorem dX5_pulseOf_12 : decode cX5_pulseOf 12 = .ok (.iadd, 1) := dk_96 (dk_at dksX5_pulseOf_0 12 rfl rfl)
theorem dX5_pulseOf_13 : decode cX5_pulseOf 13 = .ok (.iload_n 2, 1) := dk_28 (dk_at dksX5_pulseOf_0 13 rfl rfl)
theorem dX5_pulseOf_14 : decode cX5_pulseOf 14 = .ok (.iadd, 1) := dk_96 (dk_at dksX5_pulseOf_0 14 rfl rfl)
theorem dX5_pulseOf_15 : decode cX5_pulseOf 15 = .ok (.iaload, 1) := dk_46 (dk_at dksX5_pulseOf_0 15 rfl rfl)
theorem dX5_pulseOf_16 : decode cX5_pulseOf 16 = .ok (.iadd, 1) := dk_96 (dk_at dksX5_pulseOf_0 16 rfl rfl)
theorem dX5_pulseOf_17 : decode cX5_pulseOf 17 = .ok (.aload_n 0, 1) := dk_42 (dk_at dksX5_pulseOf_0 17 rfl rfl)
theorem dX5_pulseOf_18 : decode cX5_pulseOf 18 = .ok (.aload_n 0, 1) := dk_42 (dk_at dksX5_pulseOf_0 18 rfl rfl)
theorem dX5_pulseOf_19 : decode cX5_pulseOf 19 = .ok (.getfield 141, 3) := dk_180 0 141 (dk_at dksX5_pulseOf_0 19 rfl rfl)
theorem dX5_pulseOf_22 : decode cX5_pulseOf 22 = .ok (.iload_n 1, 1) := dk_27 (dk_at dksX5_pulseOf_0 22 rfl rfl)
theorem dX5_pulseOf_23 : decode cX5_pulseOf 23 = .ok (.iconst 1, 1) := dk_4 (dk_at dksX5_pulseOf_0 23 rfl rfl)
theorem dX5_pulseOf_24 : decode cX5_pulseOf 24 = .ok (.iadd, 1) := dk_96 (dk_at dksX5_pulseOf_1 0 rfl rfl)
theorem dX5_pulseOf_25 : decode cX5_pulseOf 25 = .ok (.iload_n 2, 1) := dk_28 (dk_at dksX5_pulseOf_1 1 rfl rfl)
theorem dX5_pulseOf_26 : decode cX5_pulseOf 26 = .ok (.iadd, 1) := dk_96 (dk_at dksX5_pulseOf_1 2 rfl rfl)
theorem dX5_pulseOf_27 : decode cX5_pulseOf 27 = .ok (.iaload, 1) := dk_46 (dk_at dksX5_pulseOf_1 3 rfl rfl)
theorem dX5_pulseOf_28 : decode cX5_pulseOf 28 = .ok (.iconst 1, 1) := dk_4 (dk_at dksX5_pulseOf_1 4 rfl rfl)
theorem dX5_pulseOf_29 : decode cX5_pulseOf 29 = .ok (.invokevirtual 356, 3) := dk_182 1 100 (dk_at dksX5_pulseOf_1 5 rfl rfl)
theorem dX5_pulseOf_32 : decode cX5_pulseOf 32 = .ok (.iadd, 1) := dk_96 (dk_at dksX5_pulseOf_1 8 rfl rfl)
theorem dX5_pulseOf_33 : decode cX5_pulseOf 33 = .ok (.istore_n 3, 1) := dk_62 (dk_at dksX5_pulseOf_1 9 rfl rfl)
theorem dX5_pulseOf_34 : decode cX5_pulseOf 34 = .ok (.iload_n 3, 1) := dk_29 (dk_at dksX5_pulseOf_1 10 rfl rfl)
theorem dX5_pulseOf_35 : decode cX5_pulseOf 35 = .ok (.aload_n 0, 1) := dk_42 (dk_at dksX5_pulseOf_1 11 rfl rfl)
theorem dX5_pulseOf_36 : decode cX5_pulseOf 36 = .ok (.getfield 141, 3) := dk_180 0 141 (dk_at dksX5_pulseOf_1 12 rfl rfl)
theorem dX5_pulseOf_39 : decode cX5_pulseOf 39 = .ok (.iload_n 1, 1) := dk_27 (dk_at dksX5_pulseOf_1 15 rfl rfl)
theorem dX5_pulseOf_40 : decode cX5_pulseOf 40 = .ok (.bipush 19, 2) := dk_16 19 (dk_at dksX5_pulseOf_1 16 rfl rfl)
theorem dX5_pulseOf_42 : decode cX5_pulseOf 42 = .ok (.iadd, 1) := dk_96 (dk_at dksX5_pulseOf_1 18 rfl rfl)
theorem dX5_pulseOf_43 : decode cX5_pulseOf 43 = .ok (.iload_n 2, 1) := dk_28 (dk_at dksX5_pulseOf_1 19 rfl rfl)
theorem dX5_pulseOf_44 : decode cX5_pulseOf 44 = .ok (.iadd, 1) := dk_96 (dk_at dksX5_pulseOf_1 20 rfl rfl)
theorem dX5_pulseOf_45 : decode cX5_pulseOf 45 = .ok (.iaload, 1) := dk_46 (dk_at dksX5_pulseOf_1 21 rfl rfl)
theorem dX5_pulseOf_46 : decode cX5_pulseOf 46 = .ok (.ifCond .le 10, 3) := dk_158 0 10 (dk_at dksX5_pulseOf_2 0 rfl rfl)
theorem dX5_pulseOf_49 : decode cX5_pulseOf 49 = .ok (.aload_n 0, 1) := dk_42 (dk_at dksX5_pulseOf_2 3 rfl rfl)
theorem dX5_pulseOf_50 : decode cX5_pulseOf 50 = .ok (.getfield 330, 3) := dk_180 1 74 (dk_at dksX5_pulseOf_2 4 rfl rfl)
theorem dX5_pulseOf_53 : decode cX5_pulseOf 53 = .ok (.goto 4, 3) := dk_167 0 4 (dk_at dksX5_pulseOf_2 7 rfl rfl)
theorem dX5_pulseOf_56 : decode cX5_pulseOf 56 = .ok (.iconst 0, 1) := dk_3 (dk_at dksX5_pulseOf_2 10 rfl rfl)
theorem dX5_pulseOf_57 : decode cX5_pulseOf 57 = .ok (.iadd, 1) := dk_96 (dk_at dksX5_pulseOf_2 11 rfl rfl)
theorem dX5_pulseOf_58 : decode cX5_pulseOf 58 = .ok (.istore_n 3, 1) := dk_62 (dk_at dksX5_pulseOf_2 12 rfl rfl)
theorem dX5_pulseOf_59 : decode cX5_pulseOf 59 = .ok (.iload_n 3, 1) := dk_29 (dk_at dksX5_pulseOf_2 13 rfl rfl)
theorem dX5_pulseOf_60 : decode cX5_pulseOf 60 = .ok (.aload_n 0, 1) := dk_42 (dk_at dksX5_pulseOf_2 14 rfl rfl)
theorem dX5_pulseOf_61 : decode cX5_pulseOf 61 = .ok (.iload_n 1, 1) := dk_27 (dk_at dksX5_pulseOf_2 15 rfl rfl)
theorem dX5_pulseOf_62 : decode cX5_pulseOf 62 = .ok (.iload_n 2, 1) := dk_28 (dk_at dksX5_pulseOf_2 16 rfl rfl)
theorem dX5_pulseOf_63 : decode cX5_pulseOf 63 = .ok (.invokevirtual 359, 3) := dk_182 1 103 (dk_at dksX5_pulseOf_2 17 rfl rfl)
theorem dX5_pulseOf_66 : decode cX5_pulseOf 66 = .ok (.ifCond .eq 8, 3) := dk_153 0 8 (dk_at dksX5_pulseOf_2 20 rfl rfl)
theorem dX5_pulseOf_69 : decode cX5_pulseOf 69 = .ok (.bipush 8, 2) := dk_16 8 (dk_at dksX5_pulseOf_3 0 rfl rfl)
theorem dX5_pulseOf_71 : decode cX5_pulseOf 71 = .ok (.goto 4, 3) := dk_167 0 4 (dk_at dksX5_pulseOf_3 2 rfl rfl)
theorem dX5_pulseOf_74 : decode cX5_pulseOf 74 = .ok (.iconst 0, 1) := dk_3 (dk_at dksX5_pulseOf_3 5 rfl rfl)
theorem dX5_pulseOf_75 : decode cX5_pulseOf 75 = .ok (.iadd, 1) := dk_96 (dk_at dksX5_pulseOf_3 6 rfl rfl)
theorem dX5_pulseOf_76 : decode cX5_pulseOf 76 = .ok (.istore_n 3, 1) := dk_62 (dk_at dksX5_pulseOf_3 7 rfl rfl)
theorem dX5_pulseOf_77 : decode cX5_pulseOf 77 = .ok (.iload_n 3, 1) := dk_29 (dk_at dksX5_pulseOf_3 8 rfl rfl)
theorem dX5_pulseOf_78 : decode cX5_pulseOf 78 = .ok (.sipush 240, 3) := dk_17 0 240 (dk_at dksX5_pulseOf_3 9 rfl rfl)
theorem dX5_pulseOf_81 : decode cX5_pulseOf 81 = .ok (.if_icmp .le 9, 3) := dk_164 0 9 (dk_at dksX5_pulseOf_3 12 rfl rfl)
theorem dX5_pulseOf_84 : decode cX5_pulseOf 84 = .ok (.sipush 240, 3) := dk_17 0 240 (dk_at dksX5_pulseOf_3 15 rfl rfl)
theorem dX5_pulseOf_87 : decode cX5_pulseOf 87 = .ok (.goto 4, 3) := dk_167 0 4 (dk_at dksX5_pulseOf_3 18 rfl rfl)
theorem dX5_pulseOf_90 : decode cX5_pulseOf 90 = .ok (.iload_n 3, 1) := dk_29 (dk_at dksX5_pulseOf_3 21 rfl rfl)
theorem dX5_pulseOf_91 : decode cX5_pulseOf 91 = .ok (.ireturn, 1) := dk_172 (dk_at dksX5_pulseOf_3 22 rfl rfl)
abbrev cX5_restOf : ByteArray := prog_26_method_59_code
def yX5_restOf : MethodName := ⟨RX5, "restOf", "(I)I"⟩
def dkwX5_restOf_0 : List UInt8 := [42, 27, 4, 182, 1, 71, 42, 27, 3, 182, 1, 71, 6, 160, 0, 8, 16, 20, 167, 0, 4, 3, 96, 172]
abbrev dktX5_restOf_0 : List UInt8 := dkwX5_restOf_0 ++ []
theorem dksX5_restOf_0 : cX5_restOf.data.toList.drop 0 = dktX5_restOf_0 := by decide +kernel
theorem dX5_restOf_0 : decode cX5_restOf 0 = .ok (.aload_n 0, 1) := dk_42 (dk_at dksX5_restOf_0 0 rfl rfl)
theorem dX5_restOf_1 : decode cX5_restOf 1 = .ok (.iload_n 1, 1) := dk_27 (dk_at dksX5_restOf_0 1 rfl rfl)
theorem dX5_restOf_2 : decode cX5_restOf 2 = .ok (.iconst 1, 1) := dk_4 (dk_at dksX5_restOf_0 2 rfl rfl)
theorem dX5_restOf_3 : decode cX5_restOf 3 = .ok (.invokevirtual 327, 3) := dk_182 1 71 (dk_at dksX5_restOf_0 3 rfl rfl)
theorem dX5_restOf_6 : decode cX5_restOf 6 = .ok (.aload_n 0, 1) := dk_42 (dk_at dksX5_restOf_0 6 rfl rfl)
theorem dX5_restOf_7 : decode cX5_restOf 7 = .ok (.iload_n 1, 1) := dk_27 (dk_at dksX5_restOf_0 7 rfl rfl)
theorem dX5_restOf_8 : decode cX5_restOf 8 = .ok (.iconst 0, 1) := dk_3 (dk_at dksX5_restOf_0 8 rfl rfl)
theorem dX5_restOf_9 : decode cX5_restOf 9 = .ok (.invokevirtual 327, 3) := dk_182 1 71 (dk_at dksX5_restOf_0 9 rfl rfl)
theorem dX5_restOf_12 : decode cX5_restOf 12 = .ok (.iconst 3, 1) := dk_6 (dk_at dksX5_restOf_0 12 rfl rfl)
theorem dX5_restOf_13 : decode cX5_restOf 13 = .ok (.if_icmp .ne 8, 3) := dk_160 0 8 (dk_at dksX5_restOf_0 13 rfl rfl)
theorem dX5_restOf_16 : decode cX5_restOf 16 = .ok (.bipush 20, 2) := dk_16 20 (dk_at dksX5_restOf_0 16 rfl rfl)
theorem dX5_restOf_18 : decode cX5_restOf 18 = .ok (.goto 4, 3) := dk_167 0 4 (dk_at dksX5_restOf_0 18 rfl rfl)
theorem dX5_restOf_21 : decode cX5_restOf 21 = .ok (.iconst 0, 1) := dk_3 (dk_at dksX5_restOf_0 21 rfl rfl)
theorem dX5_restOf_22 : decode cX5_restOf 22 = .ok (.iadd, 1) := dk_96 (dk_at dksX5_restOf_0 22 rfl rfl)
theorem dX5_restOf_23 : decode cX5_restOf 23 = .ok (.ireturn, 1) := dk_172 (dk_at dksX5_restOf_0 23 rfl rfl)
abbrev cX5_isLoving : ByteArray := prog_26_method_60_code
def yX5_isLoving : MethodName := ⟨RX5, "isLoving", "(II)Z"⟩
def dkwX5_isLoving_2 : List UInt8 := [167, 0, 4, 3, 62, 132, 4, 1, 167, 255, 205, 29, 172]
abbrev dktX5_isLoving_2 : List UInt8 := dkwX5_isLoving_2 ++ []
def dkwX5_isLoving_1 : List UInt8 := [16, 6, 28, 104, 96, 21, 4, 96, 46, 4, 160, 0, 17, 42, 27, 21, 4, 182, 1, 93, 153, 0, 7, 4]
abbrev dktX5_isLoving_1 : List UInt8 := dkwX5_isLoving_1 ++ dktX5_isLoving_2
def dkwX5_isLoving_0 : List UInt8 := [3, 62, 3, 54, 4, 21, 4, 42, 182, 1, 67, 162, 0, 48, 29, 154, 0, 32, 42, 180, 0, 111, 16, 56]
abbrev dktX5_isLoving_0 : List UInt8 := dkwX5_isLoving_0 ++ dktX5_isLoving_1
theorem dksX5_isLoving_0 : cX5_isLoving.data.toList.drop 0 = dktX5_isLoving_0 := by decide +kernel
theorem dksX5_isLoving_1 : cX5_isLoving.data.toList.drop 24 = dktX5_isLoving_1 := dk_seg dksX5_isLoving_0 24 rfl rfl
theorem dksX5_isLoving_2 : cX5_isLoving.data.toList.drop 48 = dktX5_isLoving_2 := dk_seg dksX5_isLoving_1 24 rfl rfl
theorem dX5_isLoving_0 : decode cX5_isLoving 0 = .ok (.iconst 0, 1) := dk_3 (dk_at dksX5_isLoving_0 0 rfl rfl)
theorem dX5_isLoving_1 : decode cX5_isLoving 1 = .ok (.istore_n 3, 1) := dk_62 (dk_at dksX5_isLoving_0 1 rfl rfl)
theorem dX5_isLoving_2 : decode cX5_isLoving 2 = .ok (.iconst 0, 1) := dk_3 (dk_at dksX5_isLoving_0 2 rfl rfl)
theorem dX5_isLoving_3 : decode cX5_isLoving 3 = .ok (.istore 4, 2) := dk_54 4 (dk_at dksX5_isLoving_0 3 rfl rfl)
theorem dX5_isLoving_5 : decode cX5_isLoving 5 = .ok (.iload 4, 2) := dk_21 4 (dk_at dksX5_isLoving_0 5 rfl rfl)
theorem dX5_isLoving_7 : decode cX5_isLoving 7 = .ok (.aload_n 0, 1) := dk_42 (dk_at dksX5_isLoving_0 7 rfl rfl)
theorem dX5_isLoving_8 : decode cX5_isLoving 8 = .ok (.invokevirtual 323, 3) := dk_182 1 67 (dk_at dksX5_isLoving_0 8 rfl rfl)
theorem dX5_isLoving_11 : decode cX5_isLoving 11 = .ok (.if_icmp .ge 48, 3) := dk_162 0 48 (dk_at dksX5_isLoving_0 11 rfl rfl)
theorem dX5_isLoving_14 : decode cX5_isLoving 14 = .ok (.iload_n 3, 1) := dk_29 (dk_at dksX5_isLoving_0 14 rfl rfl)
theorem dX5_isLoving_15 : decode cX5_isLoving 15 = .ok (.ifCond .ne 32, 3) := dk_154 0 32 (dk_at dksX5_isLoving_0 15 rfl rfl)
theorem dX5_isLoving_18 : decode cX5_isLoving 18 = .ok (.aload_n 0, 1) := dk_42 (dk_at dksX5_isLoving_0 18 rfl rfl)
theorem dX5_isLoving_19 : decode cX5_isLoving 19 = .ok (.getfield 111, 3) := dk_180 0 111 (dk_at dksX5_isLoving_0 19 rfl rfl)
theorem dX5_isLoving_22 : decode cX5_isLoving 22 = .ok (.bipush 56, 2) := dk_16 56 (dk_at dksX5_isLoving_0 22 rfl rfl)
theorem dX5_isLoving_24 : decode cX5_isLoving 24 = .ok (.bipush 6, 2) := dk_16 6 (dk_at dksX5_isLoving_1 0 rfl rfl)
theorem dX5_isLoving_26 : decode cX5_isLoving 26 = .ok (.iload_n 2, 1) := dk_28 (dk_at dksX5_isLoving_1 2 rfl rfl)
theorem dX5_isLoving_27 : decode cX5_isLoving 27 = .ok (.imul, 1) := dk_104 (dk_at dksX5_isLoving_1 3 rfl rfl)
theorem dX5_isLoving_28 : decode cX5_isLoving 28 = .ok (.iadd, 1) := dk_96 (dk_at dksX5_isLoving_1 4 rfl rfl)
theorem dX5_isLoving_29 : decode cX5_isLoving 29 = .ok (.iload 4, 2) := dk_21 4 (dk_at dksX5_isLoving_1 5 rfl rfl)
theorem dX5_isLoving_31 : decode cX5_isLoving 31 = .ok (.iadd, 1) := dk_96 (dk_at dksX5_isLoving_1 7 rfl rfl)
theorem dX5_isLoving_32 : decode cX5_isLoving 32 = .ok (.iaload, 1) := dk_46 (dk_at dksX5_isLoving_1 8 rfl rfl)
theorem dX5_isLoving_33 : decode cX5_isLoving 33 = .ok (.iconst 1, 1) := dk_4 (dk_at dksX5_isLoving_1 9 rfl rfl)
theorem dX5_isLoving_34 : decode cX5_isLoving 34 = .ok (.if_icmp .ne 17, 3) := dk_160 0 17 (dk_at dksX5_isLoving_1 10 rfl rfl)
theorem dX5_isLoving_37 : decode cX5_isLoving 37 = .ok (.aload_n 0, 1) := dk_42 (dk_at dksX5_isLoving_1 13 rfl rfl)
theorem dX5_isLoving_38 : decode cX5_isLoving 38 = .ok (.iload_n 1, 1) := dk_27 (dk_at dksX5_isLoving_1 14 rfl rfl)
theorem dX5_isLoving_39 : decode cX5_isLoving 39 = .ok (.iload 4, 2) := dk_21 4 (dk_at dksX5_isLoving_1 15 rfl rfl)
theorem dX5_isLoving_41 : decode cX5_isLoving 41 = .ok (.invokevirtual 349, 3) := dk_182 1 93 (dk_at dksX5_isLoving_1 17 rfl rfl)
theorem dX5_isLoving_44 : decode cX5_isLoving 44 = .ok (.ifCond .eq 7, 3) := dk_153 0 7 (dk_at dksX5_isLoving_1 20 rfl rfl)
theorem dX5_isLoving_47 : decode cX5_isLoving 47 = .ok (.iconst 1, 1) := dk_4 (dk_at dksX5_isLoving_1 23 rfl rfl)
theorem dX5_isLoving_48 : decode cX5_isLoving 48 = .ok (.goto 4, 3) := dk_167 0 4 (dk_at dksX5_isLoving_2 0 rfl rfl)
theorem dX5_isLoving_51 : decode cX5_isLoving 51 = .ok (.iconst 0, 1) := dk_3 (dk_at dksX5_isLoving_2 3 rfl rfl)
theorem dX5_isLoving_52 : decode cX5_isLoving 52 = .ok (.istore_n 3, 1) := dk_62 (dk_at dksX5_isLoving_2 4 rfl rfl)
theorem dX5_isLoving_53 : decode cX5_isLoving 53 = .ok (.iinc 4 1, 3) := dk_132 4 1 (dk_at dksX5_isLoving_2 5 rfl rfl)
theorem dX5_isLoving_56 : decode cX5_isLoving 56 = .ok (.goto (-51), 3) := dk_167 255 205 (dk_at dksX5_isLoving_2 8 rfl rfl)
theorem dX5_isLoving_59 : decode cX5_isLoving 59 = .ok (.iload_n 3, 1) := dk_29 (dk_at dksX5_isLoving_2 11 rfl rfl)
theorem dX5_isLoving_60 : decode cX5_isLoving 60 = .ok (.ireturn, 1) := dk_172 (dk_at dksX5_isLoving_2 12 rfl rfl)
abbrev cX5_climb : ByteArray := prog_26_method_74_code
def yX5_climb : MethodName := ⟨RX5, "climb", "(I)I"⟩
def dkwX5_climb_1 : List UInt8 := [182, 1, 133, 42, 180, 0, 141, 16, 13, 27, 96, 46, 172]
abbrev dktX5_climb_1 : List UInt8 := dkwX5_climb_1 ++ []
def dkwX5_climb_0 : List UInt8 := [42, 3, 181, 0, 1, 42, 3, 27, 182, 1, 93, 154, 0, 5, 2, 172, 42, 182, 1, 130, 42, 3, 27]
abbrev dktX5_climb_0 : List UInt8 := dkwX5_climb_0 ++ dktX5_climb_1
theorem dksX5_climb_0 : cX5_climb.data.toList.drop 0 = dktX5_climb_0 := by decide +kernel
theorem dksX5_climb_1 : cX5_climb.data.toList.drop 23 = dktX5_climb_1 := dk_seg dksX5_climb_0 23 rfl rfl
theorem dX5_climb_0 : decode cX5_climb 0 = .ok (.aload_n 0, 1) := dk_42 (dk_at dksX5_climb_0 0 rfl rfl)
theorem dX5_climb_1 : decode cX5_climb 1 = .ok (.iconst 0, 1) := dk_3 (dk_at dksX5_climb_0 1 rfl rfl)
theorem dX5_climb_2 : decode cX5_climb 2 = .ok (.putfield 1, 3) := dk_181 0 1 (dk_at dksX5_climb_0 2 rfl rfl)
theorem dX5_climb_5 : decode cX5_climb 5 = .ok (.aload_n 0, 1) := dk_42 (dk_at dksX5_climb_0 5 rfl rfl)
theorem dX5_climb_6 : decode cX5_climb 6 = .ok (.iconst 0, 1) := dk_3 (dk_at dksX5_climb_0 6 rfl rfl)
theorem dX5_climb_7 : decode cX5_climb 7 = .ok (.iload_n 1, 1) := dk_27 (dk_at dksX5_climb_0 7 rfl rfl)
theorem dX5_climb_8 : decode cX5_climb 8 = .ok (.invokevirtual 349, 3) := dk_182 1 93 (dk_at dksX5_climb_0 8 rfl rfl)
theorem dX5_climb_11 : decode cX5_climb 11 = .ok (.ifCond .ne 5, 3) := dk_154 0 5 (dk_at dksX5_climb_0 11 rfl rfl)
theorem dX5_climb_14 : decode cX5_climb 14 = .ok (.iconst (-1), 1) := dk_2 (dk_at dksX5_climb_0 14 rfl rfl)
theorem dX5_climb_15 : decode cX5_climb 15 = .ok (.ireturn, 1) := dk_172 (dk_at dksX5_climb_0 15 rfl rfl)
theorem dX5_climb_16 : decode cX5_climb 16 = .ok (.aload_n 0, 1) := dk_42 (dk_at dksX5_climb_0 16 rfl rfl)
theorem dX5_climb_17 : decode cX5_climb 17 = .ok (.invokevirtual 386, 3) := dk_182 1 130 (dk_at dksX5_climb_0 17 rfl rfl)
theorem dX5_climb_20 : decode cX5_climb 20 = .ok (.aload_n 0, 1) := dk_42 (dk_at dksX5_climb_0 20 rfl rfl)
theorem dX5_climb_21 : decode cX5_climb 21 = .ok (.iconst 0, 1) := dk_3 (dk_at dksX5_climb_0 21 rfl rfl)
theorem dX5_climb_22 : decode cX5_climb 22 = .ok (.iload_n 1, 1) := dk_27 (dk_at dksX5_climb_0 22 rfl rfl)
theorem dX5_climb_23 : decode cX5_climb 23 = .ok (.invokevirtual 389, 3) := dk_182 1 133 (dk_at dksX5_climb_1 0 rfl rfl)
theorem dX5_climb_26 : decode cX5_climb 26 = .ok (.aload_n 0, 1) := dk_42 (dk_at dksX5_climb_1 3 rfl rfl)
theorem dX5_climb_27 : decode cX5_climb 27 = .ok (.getfield 141, 3) := dk_180 0 141 (dk_at dksX5_climb_1 4 rfl rfl)
theorem dX5_climb_30 : decode cX5_climb 30 = .ok (.bipush 13, 2) := dk_16 13 (dk_at dksX5_climb_1 7 rfl rfl)
theorem dX5_climb_32 : decode cX5_climb 32 = .ok (.iload_n 1, 1) := dk_27 (dk_at dksX5_climb_1 9 rfl rfl)
theorem dX5_climb_33 : decode cX5_climb 33 = .ok (.iadd, 1) := dk_96 (dk_at dksX5_climb_1 10 rfl rfl)
theorem dX5_climb_34 : decode cX5_climb 34 = .ok (.iaload, 1) := dk_46 (dk_at dksX5_climb_1 11 rfl rfl)
theorem dX5_climb_35 : decode cX5_climb 35 = .ok (.ireturn, 1) := dk_172 (dk_at dksX5_climb_1 12 rfl rfl)
abbrev cX5_keeps : ByteArray := prog_26_method_48_code
def yX5_keeps : MethodName := ⟨RX5, "keeps", "()V"⟩
def dkwX5_keeps_3 : List UInt8 := [180, 1, 80, 4, 96, 181, 1, 80, 177]
abbrev dktX5_keeps_3 : List UInt8 := dkwX5_keeps_3 ++ []
def dkwX5_keeps_2 : List UInt8 := [4, 100, 181, 1, 80, 42, 3, 16, 56, 8, 42, 180, 1, 80, 96, 104, 16, 43, 182, 1, 83, 42, 89]
abbrev dktX5_keeps_2 : List UInt8 := dkwX5_keeps_2 ++ dktX5_keeps_3
def dkwX5_keeps_1 : List UInt8 := [16, 56, 8, 27, 96, 4, 100, 104, 16, 43, 182, 1, 83, 132, 1, 1, 167, 255, 227, 42, 89, 180, 1, 80]
abbrev dktX5_keeps_1 : List UInt8 := dkwX5_keeps_1 ++ dktX5_keeps_2
def dkwX5_keeps_0 : List UInt8 := [42, 180, 1, 80, 16, 16, 160, 0, 47, 4, 60, 27, 16, 16, 162, 0, 29, 42, 16, 56, 8, 27, 96, 104]
abbrev dktX5_keeps_0 : List UInt8 := dkwX5_keeps_0 ++ dktX5_keeps_1
theorem dksX5_keeps_0 : cX5_keeps.data.toList.drop 0 = dktX5_keeps_0 := by decide +kernel
theorem dksX5_keeps_1 : cX5_keeps.data.toList.drop 24 = dktX5_keeps_1 := dk_seg dksX5_keeps_0 24 rfl rfl
theorem dksX5_keeps_2 : cX5_keeps.data.toList.drop 48 = dktX5_keeps_2 := dk_seg dksX5_keeps_1 24 rfl rfl
theorem dksX5_keeps_3 : cX5_keeps.data.toList.drop 71 = dktX5_keeps_3 := dk_seg dksX5_keeps_2 23 rfl rfl
theorem dX5_keeps_0 : decode cX5_keeps 0 = .ok (.aload_n 0, 1) := dk_42 (dk_at dksX5_keeps_0 0 rfl rfl)
theorem dX5_keeps_1 : decode cX5_keeps 1 = .ok (.getfield 336, 3) := dk_180 1 80 (dk_at dksX5_keeps_0 1 rfl rfl)
theorem dX5_keeps_4 : decode cX5_keeps 4 = .ok (.bipush 16, 2) := dk_16 16 (dk_at dksX5_keeps_0 4 rfl rfl)
theorem dX5_keeps_6 : decode cX5_keeps 6 = .ok (.if_icmp .ne 47, 3) := dk_160 0 47 (dk_at dksX5_keeps_0 6 rfl rfl)
theorem dX5_keeps_9 : decode cX5_keeps 9 = .ok (.iconst 1, 1) := dk_4 (dk_at dksX5_keeps_0 9 rfl rfl)
theorem dX5_keeps_10 : decode cX5_keeps 10 = .ok (.istore_n 1, 1) := dk_60 (dk_at dksX5_keeps_0 10 rfl rfl)
theorem dX5_keeps_11 : decode cX5_keeps 11 = .ok (.iload_n 1, 1) := dk_27 (dk_at dksX5_keeps_0 11 rfl rfl)
theorem dX5_keeps_12 : decode cX5_keeps 12 = .ok (.bipush 16, 2) := dk_16 16 (dk_at dksX5_keeps_0 12 rfl rfl)
theorem dX5_keeps_14 : decode cX5_keeps 14 = .ok (.if_icmp .ge 29, 3) := dk_162 0 29 (dk_at dksX5_keeps_0 14 rfl rfl)
theorem dX5_keeps_17 : decode cX5_keeps 17 = .ok (.aload_n 0, 1) := dk_42 (dk_at dksX5_keeps_0 17 rfl rfl)
theorem dX5_keeps_18 : decode cX5_keeps 18 = .ok (.bipush 56, 2) := dk_16 56 (dk_at dksX5_keeps_0 18 rfl rfl)
theorem dX5_keeps_20 : decode cX5_keeps 20 = .ok (.iconst 5, 1) := dk_8 (dk_at dksX5_keeps_0 20 rfl rfl)
theorem dX5_keeps_21 : decode cX5_keeps 21 = .ok (.iload_n 1, 1) := dk_27 (dk_at dksX5_keeps_0 21 rfl rfl)
theorem dX5_keeps_22 : decode cX5_keeps 22 = .ok (.iadd, 1) := dk_96 (dk_at dksX5_keeps_0 22 rfl rfl)
theorem dX5_keeps_23 : decode cX5_keeps 23 = .ok (.imul, 1) := dk_104 (dk_at dksX5_keeps_0 23 rfl rfl)
theorem dX5_keeps_24 : decode cX5_keeps 24 = .ok (.bipush 56, 2) := dk_16 56 (dk_at dksX5_keeps_1 0 rfl rfl)
theorem dX5_keeps_26 : decode cX5_keeps 26 = .ok (.iconst 5, 1) := dk_8 (dk_at dksX5_keeps_1 2 rfl rfl)
theorem dX5_keeps_27 : decode cX5_keeps 27 = .ok (.iload_n 1, 1) := dk_27 (dk_at dksX5_keeps_1 3 rfl rfl)
theorem dX5_keeps_28 : decode cX5_keeps 28 = .ok (.iadd, 1) := dk_96 (dk_at dksX5_keeps_1 4 rfl rfl)
theorem dX5_keeps_29 : decode cX5_keeps 29 = .ok (.iconst 1, 1) := dk_4 (dk_at dksX5_keeps_1 5 rfl rfl)
theorem dX5_keeps_30 : decode cX5_keeps 30 = .ok (.isub, 1) := dk_100 (dk_at dksX5_keeps_1 6 rfl rfl)
theorem dX5_keeps_31 : decode cX5_keeps 31 = .ok (.imul, 1) := dk_104 (dk_at dksX5_keeps_1 7 rfl rfl)
theorem dX5_keeps_32 : decode cX5_keeps 32 = .ok (.bipush 43, 2) := dk_16 43 (dk_at dksX5_keeps_1 8 rfl rfl)
theorem dX5_keeps_34 : decode cX5_keeps 34 = .ok (.invokevirtual 339, 3) := dk_182 1 83 (dk_at dksX5_keeps_1 10 rfl rfl)
theorem dX5_keeps_37 : decode cX5_keeps 37 = .ok (.iinc 1 1, 3) := dk_132 1 1 (dk_at dksX5_keeps_1 13 rfl rfl)
theorem dX5_keeps_40 : decode cX5_keeps 40 = .ok (.goto (-29), 3) := dk_167 255 227 (dk_at dksX5_keeps_1 16 rfl rfl)
theorem dX5_keeps_43 : decode cX5_keeps 43 = .ok (.aload_n 0, 1) := dk_42 (dk_at dksX5_keeps_1 19 rfl rfl)
theorem dX5_keeps_44 : decode cX5_keeps 44 = .ok (.dup, 1) := dk_89 (dk_at dksX5_keeps_1 20 rfl rfl)
theorem dX5_keeps_45 : decode cX5_keeps 45 = .ok (.getfield 336, 3) := dk_180 1 80 (dk_at dksX5_keeps_1 21 rfl rfl)
theorem dX5_keeps_48 : decode cX5_keeps 48 = .ok (.iconst 1, 1) := dk_4 (dk_at dksX5_keeps_2 0 rfl rfl)
theorem dX5_keeps_49 : decode cX5_keeps 49 = .ok (.isub, 1) := dk_100 (dk_at dksX5_keeps_2 1 rfl rfl)
theorem dX5_keeps_50 : decode cX5_keeps 50 = .ok (.putfield 336, 3) := dk_181 1 80 (dk_at dksX5_keeps_2 2 rfl rfl)
theorem dX5_keeps_53 : decode cX5_keeps 53 = .ok (.aload_n 0, 1) := dk_42 (dk_at dksX5_keeps_2 5 rfl rfl)
theorem dX5_keeps_54 : decode cX5_keeps 54 = .ok (.iconst 0, 1) := dk_3 (dk_at dksX5_keeps_2 6 rfl rfl)
theorem dX5_keeps_55 : decode cX5_keeps 55 = .ok (.bipush 56, 2) := dk_16 56 (dk_at dksX5_keeps_2 7 rfl rfl)
theorem dX5_keeps_57 : decode cX5_keeps 57 = .ok (.iconst 5, 1) := dk_8 (dk_at dksX5_keeps_2 9 rfl rfl)
theorem dX5_keeps_58 : decode cX5_keeps 58 = .ok (.aload_n 0, 1) := dk_42 (dk_at dksX5_keeps_2 10 rfl rfl)
theorem dX5_keeps_59 : decode cX5_keeps 59 = .ok (.getfield 336, 3) := dk_180 1 80 (dk_at dksX5_keeps_2 11 rfl rfl)
theorem dX5_keeps_62 : decode cX5_keeps 62 = .ok (.iadd, 1) := dk_96 (dk_at dksX5_keeps_2 14 rfl rfl)
theorem dX5_keeps_63 : decode cX5_keeps 63 = .ok (.imul, 1) := dk_104 (dk_at dksX5_keeps_2 15 rfl rfl)
theorem dX5_keeps_64 : decode cX5_keeps 64 = .ok (.bipush 43, 2) := dk_16 43 (dk_at dksX5_keeps_2 16 rfl rfl)
theorem dX5_keeps_66 : decode cX5_keeps 66 = .ok (.invokevirtual 339, 3) := dk_182 1 83 (dk_at dksX5_keeps_2 18 rfl rfl)
theorem dX5_keeps_69 : decode cX5_keeps 69 = .ok (.aload_n 0, 1) := dk_42 (dk_at dksX5_keeps_2 21 rfl rfl)
theorem dX5_keeps_70 : decode cX5_keeps 70 = .ok (.dup, 1) := dk_89 (dk_at dksX5_keeps_2 22 rfl rfl)
theorem dX5_keeps_71 : decode cX5_keeps 71 = .ok (.getfield 336, 3) := dk_180 1 80 (dk_at dksX5_keeps_3 0 rfl rfl)
theorem dX5_keeps_74 : decode cX5_keeps 74 = .ok (.iconst 1, 1) := dk_4 (dk_at dksX5_keeps_3 3 rfl rfl)
theorem dX5_keeps_75 : decode cX5_keeps 75 = .ok (.iadd, 1) := dk_96 (dk_at dksX5_keeps_3 4 rfl rfl)
theorem dX5_keeps_76 : decode cX5_keeps 76 = .ok (.putfield 336, 3) := dk_181 1 80 (dk_at dksX5_keeps_3 5 rfl rfl)
theorem dX5_keeps_79 : decode cX5_keeps 79 = .ok (.return_, 1) := dk_177 (dk_at dksX5_keeps_3 8 rfl rfl)
abbrev cX5_copies : ByteArray := prog_26_method_45_code
def yX5_copies : MethodName := ⟨RX5, "copies", "(III)V"⟩
def dkwX5_copies_1 : List UInt8 := [96, 46, 79, 132, 4, 1, 167, 255, 229, 177]
abbrev dktX5_copies_1 : List UInt8 := dkwX5_copies_1 ++ []
def dkwX5_copies_0 : List UInt8 := [3, 54, 4, 21, 4, 29, 162, 0, 27, 42, 180, 0, 141, 28, 21, 4, 96, 42, 180, 0, 141, 27, 21, 4]
abbrev dktX5_copies_0 : List UInt8 := dkwX5_copies_0 ++ dktX5_copies_1
theorem dksX5_copies_0 : cX5_copies.data.toList.drop 0 = dktX5_copies_0 := by decide +kernel
theorem dksX5_copies_1 : cX5_copies.data.toList.drop 24 = dktX5_copies_1 := dk_seg dksX5_copies_0 24 rfl rfl
theorem dX5_copies_0 : decode cX5_copies 0 = .ok (.iconst 0, 1) := dk_3 (dk_at dksX5_copies_0 0 rfl rfl)
theorem dX5_copies_1 : decode cX5_copies 1 = .ok (.istore 4, 2) := dk_54 4 (dk_at dksX5_copies_0 1 rfl rfl)
theorem dX5_copies_3 : decode cX5_copies 3 = .ok (.iload 4, 2) := dk_21 4 (dk_at dksX5_copies_0 3 rfl rfl)
theorem dX5_copies_5 : decode cX5_copies 5 = .ok (.iload_n 3, 1) := dk_29 (dk_at dksX5_copies_0 5 rfl rfl)
theorem dX5_copies_6 : decode cX5_copies 6 = .ok (.if_icmp .ge 27, 3) := dk_162 0 27 (dk_at dksX5_copies_0 6 rfl rfl)
theorem dX5_copies_9 : decode cX5_copies 9 = .ok (.aload_n 0, 1) := dk_42 (dk_at dksX5_copies_0 9 rfl rfl)
theorem dX5_copies_10 : decode cX5_copies 10 = .ok (.getfield 141, 3) := dk_180 0 141 (dk_at dksX5_copies_0 10 rfl rfl)
theorem dX5_copies_13 : decode cX5_copies 13 = .ok (.iload_n 2, 1) := dk_28 (dk_at dksX5_copies_0 13 rfl rfl)
theorem dX5_copies_14 : decode cX5_copies 14 = .ok (.iload 4, 2) := dk_21 4 (dk_at dksX5_copies_0 14 rfl rfl)
theorem dX5_copies_16 : decode cX5_copies 16 = .ok (.iadd, 1) := dk_96 (dk_at dksX5_copies_0 16 rfl rfl)
theorem dX5_copies_17 : decode cX5_copies 17 = .ok (.aload_n 0, 1) := dk_42 (dk_at dksX5_copies_0 17 rfl rfl)
theorem dX5_copies_18 : decode cX5_copies 18 = .ok (.getfield 141, 3) := dk_180 0 141 (dk_at dksX5_copies_0 18 rfl rfl)
theorem dX5_copies_21 : decode cX5_copies 21 = .ok (.iload_n 1, 1) := dk_27 (dk_at dksX5_copies_0 21 rfl rfl)
theorem dX5_copies_22 : decode cX5_copies 22 = .ok (.iload 4, 2) := dk_21 4 (dk_at dksX5_copies_0 22 rfl rfl)
theorem dX5_copies_24 : decode cX5_copies 24 = .ok (.iadd, 1) := dk_96 (dk_at dksX5_copies_1 0 rfl rfl)
theorem dX5_copies_25 : decode cX5_copies 25 = .ok (.iaload, 1) := dk_46 (dk_at dksX5_copies_1 1 rfl rfl)
theorem dX5_copies_26 : decode cX5_copies 26 = .ok (.iastore, 1) := dk_79 (dk_at dksX5_copies_1 2 rfl rfl)
theorem dX5_copies_27 : decode cX5_copies 27 = .ok (.iinc 4 1, 3) := dk_132 4 1 (dk_at dksX5_copies_1 3 rfl rfl)
theorem dX5_copies_30 : decode cX5_copies 30 = .ok (.goto (-27), 3) := dk_167 255 229 (dk_at dksX5_copies_1 6 rfl rfl)
theorem dX5_copies_33 : decode cX5_copies 33 = .ok (.return_, 1) := dk_177 (dk_at dksX5_copies_1 9 rfl rfl)
abbrev cX5_climbs : ByteArray := prog_26_method_67_code
def yX5_climbs : MethodName := ⟨RX5, "climbs", "(II)V"⟩
def dkwX5_climbs_1 : List UInt8 := [28, 96, 92, 46, 42, 28, 3, 182, 1, 71, 5, 160, 0, 9, 29, 5, 108, 167, 0, 4, 29, 96, 79, 177]
abbrev dktX5_climbs_1 : List UInt8 := dkwX5_climbs_1 ++ []
def dkwX5_climbs_0 : List UInt8 := [42, 42, 180, 0, 141, 27, 4, 96, 28, 96, 46, 3, 182, 1, 100, 62, 42, 180, 0, 141, 27, 16, 13, 96]
abbrev dktX5_climbs_0 : List UInt8 := dkwX5_climbs_0 ++ dktX5_climbs_1
theorem dksX5_climbs_0 : cX5_climbs.data.toList.drop 0 = dktX5_climbs_0 := by decide +kernel
theorem dksX5_climbs_1 : cX5_climbs.data.toList.drop 24 = dktX5_climbs_1 := dk_seg dksX5_climbs_0 24 rfl rfl
theorem dX5_climbs_0 : decode cX5_climbs 0 = .ok (.aload_n 0, 1) := dk_42 (dk_at dksX5_climbs_0 0 rfl rfl)
theorem dX5_climbs_1 : decode cX5_climbs 1 = .ok (.aload_n 0, 1) := dk_42 (dk_at dksX5_climbs_0 1 rfl rfl)
theorem dX5_climbs_2 : decode cX5_climbs 2 = .ok (.getfield 141, 3) := dk_180 0 141 (dk_at dksX5_climbs_0 2 rfl rfl)
theorem dX5_climbs_5 : decode cX5_climbs 5 = .ok (.iload_n 1, 1) := dk_27 (dk_at dksX5_climbs_0 5 rfl rfl)
theorem dX5_climbs_6 : decode cX5_climbs 6 = .ok (.iconst 1, 1) := dk_4 (dk_at dksX5_climbs_0 6 rfl rfl)
theorem dX5_climbs_7 : decode cX5_climbs 7 = .ok (.iadd, 1) := dk_96 (dk_at dksX5_climbs_0 7 rfl rfl)
theorem dX5_climbs_8 : decode cX5_climbs 8 = .ok (.iload_n 2, 1) := dk_28 (dk_at dksX5_climbs_0 8 rfl rfl)
theorem dX5_climbs_9 : decode cX5_climbs 9 = .ok (.iadd, 1) := dk_96 (dk_at dksX5_climbs_0 9 rfl rfl)
theorem dX5_climbs_10 : decode cX5_climbs 10 = .ok (.iaload, 1) := dk_46 (dk_at dksX5_climbs_0 10 rfl rfl)
theorem dX5_climbs_11 : decode cX5_climbs 11 = .ok (.iconst 0, 1) := dk_3 (dk_at dksX5_climbs_0 11 rfl rfl)
theorem dX5_climbs_12 : decode cX5_climbs 12 = .ok (.invokevirtual 356, 3) := dk_182 1 100 (dk_at dksX5_climbs_0 12 rfl rfl)
theorem dX5_climbs_15 : decode cX5_climbs 15 = .ok (.istore_n 3, 1) := dk_62 (dk_at dksX5_climbs_0 15 rfl rfl)
theorem dX5_climbs_16 : decode cX5_climbs 16 = .ok (.aload_n 0, 1) := dk_42 (dk_at dksX5_climbs_0 16 rfl rfl)
theorem dX5_climbs_17 : decode cX5_climbs 17 = .ok (.getfield 141, 3) := dk_180 0 141 (dk_at dksX5_climbs_0 17 rfl rfl)
theorem dX5_climbs_20 : decode cX5_climbs 20 = .ok (.iload_n 1, 1) := dk_27 (dk_at dksX5_climbs_0 20 rfl rfl)
theorem dX5_climbs_21 : decode cX5_climbs 21 = .ok (.bipush 13, 2) := dk_16 13 (dk_at dksX5_climbs_0 21 rfl rfl)
theorem dX5_climbs_23 : decode cX5_climbs 23 = .ok (.iadd, 1) := dk_96 (dk_at dksX5_climbs_0 23 rfl rfl)
theorem dX5_climbs_24 : decode cX5_climbs 24 = .ok (.iload_n 2, 1) := dk_28 (dk_at dksX5_climbs_1 0 rfl rfl)
theorem dX5_climbs_25 : decode cX5_climbs 25 = .ok (.iadd, 1) := dk_96 (dk_at dksX5_climbs_1 1 rfl rfl)
theorem dX5_climbs_26 : decode cX5_climbs 26 = .ok (.dup2, 1) := dk_92 (dk_at dksX5_climbs_1 2 rfl rfl)
theorem dX5_climbs_27 : decode cX5_climbs 27 = .ok (.iaload, 1) := dk_46 (dk_at dksX5_climbs_1 3 rfl rfl)
theorem dX5_climbs_28 : decode cX5_climbs 28 = .ok (.aload_n 0, 1) := dk_42 (dk_at dksX5_climbs_1 4 rfl rfl)
theorem dX5_climbs_29 : decode cX5_climbs 29 = .ok (.iload_n 2, 1) := dk_28 (dk_at dksX5_climbs_1 5 rfl rfl)
theorem dX5_climbs_30 : decode cX5_climbs 30 = .ok (.iconst 0, 1) := dk_3 (dk_at dksX5_climbs_1 6 rfl rfl)
theorem dX5_climbs_31 : decode cX5_climbs 31 = .ok (.invokevirtual 327, 3) := dk_182 1 71 (dk_at dksX5_climbs_1 7 rfl rfl)
theorem dX5_climbs_34 : decode cX5_climbs 34 = .ok (.iconst 2, 1) := dk_5 (dk_at dksX5_climbs_1 10 rfl rfl)
theorem dX5_climbs_35 : decode cX5_climbs 35 = .ok (.if_icmp .ne 9, 3) := dk_160 0 9 (dk_at dksX5_climbs_1 11 rfl rfl)
theorem dX5_climbs_38 : decode cX5_climbs 38 = .ok (.iload_n 3, 1) := dk_29 (dk_at dksX5_climbs_1 14 rfl rfl)
theorem dX5_climbs_39 : decode cX5_climbs 39 = .ok (.iconst 2, 1) := dk_5 (dk_at dksX5_climbs_1 15 rfl rfl)
theorem dX5_climbs_40 : decode cX5_climbs 40 = .ok (.idiv, 1) := dk_108 (dk_at dksX5_climbs_1 16 rfl rfl)
theorem dX5_climbs_41 : decode cX5_climbs 41 = .ok (.goto 4, 3) := dk_167 0 4 (dk_at dksX5_climbs_1 17 rfl rfl)
theorem dX5_climbs_44 : decode cX5_climbs 44 = .ok (.iload_n 3, 1) := dk_29 (dk_at dksX5_climbs_1 20 rfl rfl)
theorem dX5_climbs_45 : decode cX5_climbs 45 = .ok (.iadd, 1) := dk_96 (dk_at dksX5_climbs_1 21 rfl rfl)
theorem dX5_climbs_46 : decode cX5_climbs 46 = .ok (.iastore, 1) := dk_79 (dk_at dksX5_climbs_1 22 rfl rfl)
theorem dX5_climbs_47 : decode cX5_climbs 47 = .ok (.return_, 1) := dk_177 (dk_at dksX5_climbs_1 23 rfl rfl)
abbrev cX5_fright : ByteArray := prog_26_method_75_code
def yX5_fright : MethodName := ⟨RX5, "fright", "(II)I"⟩
def dkwX5_fright_1 : List UInt8 := [2, 172, 42, 182, 1, 130, 42, 3, 27, 28, 182, 1, 136, 42, 180, 0, 141, 16, 13, 27, 96, 46, 172]
abbrev dktX5_fright_1 : List UInt8 := dkwX5_fright_1 ++ []
def dkwX5_fright_0 : List UInt8 := [42, 3, 181, 0, 1, 42, 3, 27, 182, 1, 93, 153, 0, 13, 28, 4, 16, 99, 184, 0, 241, 154, 0, 5]
abbrev dktX5_fright_0 : List UInt8 := dkwX5_fright_0 ++ dktX5_fright_1
theorem dksX5_fright_0 : cX5_fright.data.toList.drop 0 = dktX5_fright_0 := by decide +kernel
theorem dksX5_fright_1 : cX5_fright.data.toList.drop 24 = dktX5_fright_1 := dk_seg dksX5_fright_0 24 rfl rfl
theorem dX5_fright_0 : decode cX5_fright 0 = .ok (.aload_n 0, 1) := dk_42 (dk_at dksX5_fright_0 0 rfl rfl)
theorem dX5_fright_1 : decode cX5_fright 1 = .ok (.iconst 0, 1) := dk_3 (dk_at dksX5_fright_0 1 rfl rfl)
theorem dX5_fright_2 : decode cX5_fright 2 = .ok (.putfield 1, 3) := dk_181 0 1 (dk_at dksX5_fright_0 2 rfl rfl)
theorem dX5_fright_5 : decode cX5_fright 5 = .ok (.aload_n 0, 1) := dk_42 (dk_at dksX5_fright_0 5 rfl rfl)
theorem dX5_fright_6 : decode cX5_fright 6 = .ok (.iconst 0, 1) := dk_3 (dk_at dksX5_fright_0 6 rfl rfl)
theorem dX5_fright_7 : decode cX5_fright 7 = .ok (.iload_n 1, 1) := dk_27 (dk_at dksX5_fright_0 7 rfl rfl)
theorem dX5_fright_8 : decode cX5_fright 8 = .ok (.invokevirtual 349, 3) := dk_182 1 93 (dk_at dksX5_fright_0 8 rfl rfl)
theorem dX5_fright_11 : decode cX5_fright 11 = .ok (.ifCond .eq 13, 3) := dk_153 0 13 (dk_at dksX5_fright_0 11 rfl rfl)
theorem dX5_fright_14 : decode cX5_fright 14 = .ok (.iload_n 2, 1) := dk_28 (dk_at dksX5_fright_0 14 rfl rfl)
theorem dX5_fright_15 : decode cX5_fright 15 = .ok (.iconst 1, 1) := dk_4 (dk_at dksX5_fright_0 15 rfl rfl)
theorem dX5_fright_16 : decode cX5_fright 16 = .ok (.bipush 99, 2) := dk_16 99 (dk_at dksX5_fright_0 16 rfl rfl)
theorem dX5_fright_18 : decode cX5_fright 18 = .ok (.invokestatic 241, 3) := dk_184 0 241 (dk_at dksX5_fright_0 18 rfl rfl)
theorem dX5_fright_21 : decode cX5_fright 21 = .ok (.ifCond .ne 5, 3) := dk_154 0 5 (dk_at dksX5_fright_0 21 rfl rfl)
theorem dX5_fright_24 : decode cX5_fright 24 = .ok (.iconst (-1), 1) := dk_2 (dk_at dksX5_fright_1 0 rfl rfl)
theorem dX5_fright_25 : decode cX5_fright 25 = .ok (.ireturn, 1) := dk_172 (dk_at dksX5_fright_1 1 rfl rfl)
theorem dX5_fright_26 : decode cX5_fright 26 = .ok (.aload_n 0, 1) := dk_42 (dk_at dksX5_fright_1 2 rfl rfl)
theorem dX5_fright_27 : decode cX5_fright 27 = .ok (.invokevirtual 386, 3) := dk_182 1 130 (dk_at dksX5_fright_1 3 rfl rfl)
theorem dX5_fright_30 : decode cX5_fright 30 = .ok (.aload_n 0, 1) := dk_42 (dk_at dksX5_fright_1 6 rfl rfl)
theorem dX5_fright_31 : decode cX5_fright 31 = .ok (.iconst 0, 1) := dk_3 (dk_at dksX5_fright_1 7 rfl rfl)
theorem dX5_fright_32 : decode cX5_fright 32 = .ok (.iload_n 1, 1) := dk_27 (dk_at dksX5_fright_1 8 rfl rfl)
theorem dX5_fright_33 : decode cX5_fright 33 = .ok (.iload_n 2, 1) := dk_28 (dk_at dksX5_fright_1 9 rfl rfl)
theorem dX5_fright_34 : decode cX5_fright 34 = .ok (.invokevirtual 392, 3) := dk_182 1 136 (dk_at dksX5_fright_1 10 rfl rfl)
theorem dX5_fright_37 : decode cX5_fright 37 = .ok (.aload_n 0, 1) := dk_42 (dk_at dksX5_fright_1 13 rfl rfl)
theorem dX5_fright_38 : decode cX5_fright 38 = .ok (.getfield 141, 3) := dk_180 0 141 (dk_at dksX5_fright_1 14 rfl rfl)
theorem dX5_fright_41 : decode cX5_fright 41 = .ok (.bipush 13, 2) := dk_16 13 (dk_at dksX5_fright_1 17 rfl rfl)
theorem dX5_fright_43 : decode cX5_fright 43 = .ok (.iload_n 1, 1) := dk_27 (dk_at dksX5_fright_1 19 rfl rfl)
theorem dX5_fright_44 : decode cX5_fright 44 = .ok (.iadd, 1) := dk_96 (dk_at dksX5_fright_1 20 rfl rfl)
theorem dX5_fright_45 : decode cX5_fright 45 = .ok (.iaload, 1) := dk_46 (dk_at dksX5_fright_1 21 rfl rfl)
theorem dX5_fright_46 : decode cX5_fright 46 = .ok (.ireturn, 1) := dk_172 (dk_at dksX5_fright_1 22 rfl rfl)
abbrev cX5_frights : ByteArray := prog_26_method_69_code
def yX5_frights : MethodName := ⟨RX5, "frights", "(III)V"⟩
def dkwX5_frights_1 : List UInt8 := [96, 46, 182, 1, 121, 96, 79, 42, 180, 0, 141, 27, 16, 25, 96, 28, 96, 92, 46, 4, 96, 79, 177]
abbrev dktX5_frights_1 : List UInt8 := dkwX5_frights_1 ++ []
def dkwX5_frights_0 : List UInt8 := [42, 180, 0, 141, 27, 16, 13, 96, 28, 96, 92, 46, 42, 28, 29, 42, 180, 0, 141, 27, 16, 25, 96, 28]
abbrev dktX5_frights_0 : List UInt8 := dkwX5_frights_0 ++ dktX5_frights_1
theorem dksX5_frights_0 : cX5_frights.data.toList.drop 0 = dktX5_frights_0 := by decide +kernel
theorem dksX5_frights_1 : cX5_frights.data.toList.drop 24 = dktX5_frights_1 := dk_seg dksX5_frights_0 24 rfl rfl
theorem dX5_frights_0 : decode cX5_frights 0 = .ok (.aload_n 0, 1) := dk_42 (dk_at dksX5_frights_0 0 rfl rfl)
theorem dX5_frights_1 : decode cX5_frights 1 = .ok (.getfield 141, 3) := dk_180 0 141 (dk_at dksX5_frights_0 1 rfl rfl)
theorem dX5_frights_4 : decode cX5_frights 4 = .ok (.iload_n 1, 1) := dk_27 (dk_at dksX5_frights_0 4 rfl rfl)
theorem dX5_frights_5 : decode cX5_frights 5 = .ok (.bipush 13, 2) := dk_16 13 (dk_at dksX5_frights_0 5 rfl rfl)
theorem dX5_frights_7 : decode cX5_frights 7 = .ok (.iadd, 1) := dk_96 (dk_at dksX5_frights_0 7 rfl rfl)
theorem dX5_frights_8 : decode cX5_frights 8 = .ok (.iload_n 2, 1) := dk_28 (dk_at dksX5_frights_0 8 rfl rfl)
theorem dX5_frights_9 : decode cX5_frights 9 = .ok (.iadd, 1) := dk_96 (dk_at dksX5_frights_0 9 rfl rfl)
theorem dX5_frights_10 : decode cX5_frights 10 = .ok (.dup2, 1) := dk_92 (dk_at dksX5_frights_0 10 rfl rfl)
theorem dX5_frights_11 : decode cX5_frights 11 = .ok (.iaload, 1) := dk_46 (dk_at dksX5_frights_0 11 rfl rfl)
theorem dX5_frights_12 : decode cX5_frights 12 = .ok (.aload_n 0, 1) := dk_42 (dk_at dksX5_frights_0 12 rfl rfl)
theorem dX5_frights_13 : decode cX5_frights 13 = .ok (.iload_n 2, 1) := dk_28 (dk_at dksX5_frights_0 13 rfl rfl)
theorem dX5_frights_14 : decode cX5_frights 14 = .ok (.iload_n 3, 1) := dk_29 (dk_at dksX5_frights_0 14 rfl rfl)
theorem dX5_frights_15 : decode cX5_frights 15 = .ok (.aload_n 0, 1) := dk_42 (dk_at dksX5_frights_0 15 rfl rfl)
theorem dX5_frights_16 : decode cX5_frights 16 = .ok (.getfield 141, 3) := dk_180 0 141 (dk_at dksX5_frights_0 16 rfl rfl)
theorem dX5_frights_19 : decode cX5_frights 19 = .ok (.iload_n 1, 1) := dk_27 (dk_at dksX5_frights_0 19 rfl rfl)
theorem dX5_frights_20 : decode cX5_frights 20 = .ok (.bipush 25, 2) := dk_16 25 (dk_at dksX5_frights_0 20 rfl rfl)
theorem dX5_frights_22 : decode cX5_frights 22 = .ok (.iadd, 1) := dk_96 (dk_at dksX5_frights_0 22 rfl rfl)
theorem dX5_frights_23 : decode cX5_frights 23 = .ok (.iload_n 2, 1) := dk_28 (dk_at dksX5_frights_0 23 rfl rfl)
theorem dX5_frights_24 : decode cX5_frights 24 = .ok (.iadd, 1) := dk_96 (dk_at dksX5_frights_1 0 rfl rfl)
theorem dX5_frights_25 : decode cX5_frights 25 = .ok (.iaload, 1) := dk_46 (dk_at dksX5_frights_1 1 rfl rfl)
theorem dX5_frights_26 : decode cX5_frights 26 = .ok (.invokevirtual 377, 3) := dk_182 1 121 (dk_at dksX5_frights_1 2 rfl rfl)
theorem dX5_frights_29 : decode cX5_frights 29 = .ok (.iadd, 1) := dk_96 (dk_at dksX5_frights_1 5 rfl rfl)
theorem dX5_frights_30 : decode cX5_frights 30 = .ok (.iastore, 1) := dk_79 (dk_at dksX5_frights_1 6 rfl rfl)
theorem dX5_frights_31 : decode cX5_frights 31 = .ok (.aload_n 0, 1) := dk_42 (dk_at dksX5_frights_1 7 rfl rfl)
theorem dX5_frights_32 : decode cX5_frights 32 = .ok (.getfield 141, 3) := dk_180 0 141 (dk_at dksX5_frights_1 8 rfl rfl)
theorem dX5_frights_35 : decode cX5_frights 35 = .ok (.iload_n 1, 1) := dk_27 (dk_at dksX5_frights_1 11 rfl rfl)
theorem dX5_frights_36 : decode cX5_frights 36 = .ok (.bipush 25, 2) := dk_16 25 (dk_at dksX5_frights_1 12 rfl rfl)
theorem dX5_frights_38 : decode cX5_frights 38 = .ok (.iadd, 1) := dk_96 (dk_at dksX5_frights_1 14 rfl rfl)
theorem dX5_frights_39 : decode cX5_frights 39 = .ok (.iload_n 2, 1) := dk_28 (dk_at dksX5_frights_1 15 rfl rfl)
theorem dX5_frights_40 : decode cX5_frights 40 = .ok (.iadd, 1) := dk_96 (dk_at dksX5_frights_1 16 rfl rfl)
theorem dX5_frights_41 : decode cX5_frights 41 = .ok (.dup2, 1) := dk_92 (dk_at dksX5_frights_1 17 rfl rfl)
theorem dX5_frights_42 : decode cX5_frights 42 = .ok (.iaload, 1) := dk_46 (dk_at dksX5_frights_1 18 rfl rfl)
theorem dX5_frights_43 : decode cX5_frights 43 = .ok (.iconst 1, 1) := dk_4 (dk_at dksX5_frights_1 19 rfl rfl)
theorem dX5_frights_44 : decode cX5_frights 44 = .ok (.iadd, 1) := dk_96 (dk_at dksX5_frights_1 20 rfl rfl)
theorem dX5_frights_45 : decode cX5_frights 45 = .ok (.iastore, 1) := dk_79 (dk_at dksX5_frights_1 21 rfl rfl)
theorem dX5_frights_46 : decode cX5_frights 46 = .ok (.return_, 1) := dk_177 (dk_at dksX5_frights_1 22 rfl rfl)
abbrev cX5_frightened : ByteArray := prog_26_method_68_code
def yX5_frightened : MethodName := ⟨RX5, "frightened", "(III)I"⟩
def dkwX5_frightened_1 : List UInt8 := [108, 172]
abbrev dktX5_frightened_1 : List UInt8 := dkwX5_frightened_1 ++ []
def dkwX5_frightened_0 : List UInt8 := [28, 42, 27, 5, 182, 1, 71, 100, 54, 4, 21, 4, 156, 0, 7, 3, 167, 0, 9, 21, 4, 4, 29, 96]
abbrev dktX5_frightened_0 : List UInt8 := dkwX5_frightened_0 ++ dktX5_frightened_1
theorem dksX5_frightened_0 : cX5_frightened.data.toList.drop 0 = dktX5_frightened_0 := by decide +kernel
theorem dksX5_frightened_1 : cX5_frightened.data.toList.drop 24 = dktX5_frightened_1 := dk_seg dksX5_frightened_0 24 rfl rfl
theorem dX5_frightened_0 : decode cX5_frightened 0 = .ok (.iload_n 2, 1) := dk_28 (dk_at dksX5_frightened_0 0 rfl rfl)
theorem dX5_frightened_1 : decode cX5_frightened 1 = .ok (.aload_n 0, 1) := dk_42 (dk_at dksX5_frightened_0 1 rfl rfl)
theorem dX5_frightened_2 : decode cX5_frightened 2 = .ok (.iload_n 1, 1) := dk_27 (dk_at dksX5_frightened_0 2 rfl rfl)
theorem dX5_frightened_3 : decode cX5_frightened 3 = .ok (.iconst 2, 1) := dk_5 (dk_at dksX5_frightened_0 3 rfl rfl)
theorem dX5_frightened_4 : decode cX5_frightened 4 = .ok (.invokevirtual 327, 3) := dk_182 1 71 (dk_at dksX5_frightened_0 4 rfl rfl)
theorem dX5_frightened_7 : decode cX5_frightened 7 = .ok (.isub, 1) := dk_100 (dk_at dksX5_frightened_0 7 rfl rfl)
theorem dX5_frightened_8 : decode cX5_frightened 8 = .ok (.istore 4, 2) := dk_54 4 (dk_at dksX5_frightened_0 8 rfl rfl)
theorem dX5_frightened_10 : decode cX5_frightened 10 = .ok (.iload 4, 2) := dk_21 4 (dk_at dksX5_frightened_0 10 rfl rfl)
theorem dX5_frightened_12 : decode cX5_frightened 12 = .ok (.ifCond .ge 7, 3) := dk_156 0 7 (dk_at dksX5_frightened_0 12 rfl rfl)
theorem dX5_frightened_15 : decode cX5_frightened 15 = .ok (.iconst 0, 1) := dk_3 (dk_at dksX5_frightened_0 15 rfl rfl)
theorem dX5_frightened_16 : decode cX5_frightened 16 = .ok (.goto 9, 3) := dk_167 0 9 (dk_at dksX5_frightened_0 16 rfl rfl)
theorem dX5_frightened_19 : decode cX5_frightened 19 = .ok (.iload 4, 2) := dk_21 4 (dk_at dksX5_frightened_0 19 rfl rfl)
theorem dX5_frightened_21 : decode cX5_frightened 21 = .ok (.iconst 1, 1) := dk_4 (dk_at dksX5_frightened_0 21 rfl rfl)
theorem dX5_frightened_22 : decode cX5_frightened 22 = .ok (.iload_n 3, 1) := dk_29 (dk_at dksX5_frightened_0 22 rfl rfl)
theorem dX5_frightened_23 : decode cX5_frightened 23 = .ok (.iadd, 1) := dk_96 (dk_at dksX5_frightened_0 23 rfl rfl)
theorem dX5_frightened_24 : decode cX5_frightened 24 = .ok (.idiv, 1) := dk_108 (dk_at dksX5_frightened_1 0 rfl rfl)
theorem dX5_frightened_25 : decode cX5_frightened 25 = .ok (.ireturn, 1) := dk_172 (dk_at dksX5_frightened_1 1 rfl rfl)
abbrev cX5_drink : ByteArray := prog_26_method_76_code
def yX5_drink : MethodName := ⟨RX5, "drink", "(I)Z"⟩
def dkwX5_drink_1 : List UInt8 := [16, 19, 27, 96, 42, 180, 0, 111, 7, 46, 79, 4, 172]
abbrev dktX5_drink_1 : List UInt8 := dkwX5_drink_1 ++ []
def dkwX5_drink_0 : List UInt8 := [42, 3, 181, 0, 1, 42, 3, 27, 182, 1, 93, 154, 0, 5, 3, 172, 42, 182, 1, 130, 42, 180, 0, 141]
abbrev dktX5_drink_0 : List UInt8 := dkwX5_drink_0 ++ dktX5_drink_1
theorem dksX5_drink_0 : cX5_drink.data.toList.drop 0 = dktX5_drink_0 := by decide +kernel
theorem dksX5_drink_1 : cX5_drink.data.toList.drop 24 = dktX5_drink_1 := dk_seg dksX5_drink_0 24 rfl rfl
theorem dX5_drink_0 : decode cX5_drink 0 = .ok (.aload_n 0, 1) := dk_42 (dk_at dksX5_drink_0 0 rfl rfl)
theorem dX5_drink_1 : decode cX5_drink 1 = .ok (.iconst 0, 1) := dk_3 (dk_at dksX5_drink_0 1 rfl rfl)
theorem dX5_drink_2 : decode cX5_drink 2 = .ok (.putfield 1, 3) := dk_181 0 1 (dk_at dksX5_drink_0 2 rfl rfl)
theorem dX5_drink_5 : decode cX5_drink 5 = .ok (.aload_n 0, 1) := dk_42 (dk_at dksX5_drink_0 5 rfl rfl)
theorem dX5_drink_6 : decode cX5_drink 6 = .ok (.iconst 0, 1) := dk_3 (dk_at dksX5_drink_0 6 rfl rfl)
theorem dX5_drink_7 : decode cX5_drink 7 = .ok (.iload_n 1, 1) := dk_27 (dk_at dksX5_drink_0 7 rfl rfl)
theorem dX5_drink_8 : decode cX5_drink 8 = .ok (.invokevirtual 349, 3) := dk_182 1 93 (dk_at dksX5_drink_0 8 rfl rfl)
theorem dX5_drink_11 : decode cX5_drink 11 = .ok (.ifCond .ne 5, 3) := dk_154 0 5 (dk_at dksX5_drink_0 11 rfl rfl)
theorem dX5_drink_14 : decode cX5_drink 14 = .ok (.iconst 0, 1) := dk_3 (dk_at dksX5_drink_0 14 rfl rfl)
theorem dX5_drink_15 : decode cX5_drink 15 = .ok (.ireturn, 1) := dk_172 (dk_at dksX5_drink_0 15 rfl rfl)
theorem dX5_drink_16 : decode cX5_drink 16 = .ok (.aload_n 0, 1) := dk_42 (dk_at dksX5_drink_0 16 rfl rfl)
theorem dX5_drink_17 : decode cX5_drink 17 = .ok (.invokevirtual 386, 3) := dk_182 1 130 (dk_at dksX5_drink_0 17 rfl rfl)
theorem dX5_drink_20 : decode cX5_drink 20 = .ok (.aload_n 0, 1) := dk_42 (dk_at dksX5_drink_0 20 rfl rfl)
theorem dX5_drink_21 : decode cX5_drink 21 = .ok (.getfield 141, 3) := dk_180 0 141 (dk_at dksX5_drink_0 21 rfl rfl)
theorem dX5_drink_24 : decode cX5_drink 24 = .ok (.bipush 19, 2) := dk_16 19 (dk_at dksX5_drink_1 0 rfl rfl)
theorem dX5_drink_26 : decode cX5_drink 26 = .ok (.iload_n 1, 1) := dk_27 (dk_at dksX5_drink_1 2 rfl rfl)
theorem dX5_drink_27 : decode cX5_drink 27 = .ok (.iadd, 1) := dk_96 (dk_at dksX5_drink_1 3 rfl rfl)
theorem dX5_drink_28 : decode cX5_drink 28 = .ok (.aload_n 0, 1) := dk_42 (dk_at dksX5_drink_1 4 rfl rfl)
theorem dX5_drink_29 : decode cX5_drink 29 = .ok (.getfield 111, 3) := dk_180 0 111 (dk_at dksX5_drink_1 5 rfl rfl)
theorem dX5_drink_32 : decode cX5_drink 32 = .ok (.iconst 4, 1) := dk_7 (dk_at dksX5_drink_1 8 rfl rfl)
theorem dX5_drink_33 : decode cX5_drink 33 = .ok (.iaload, 1) := dk_46 (dk_at dksX5_drink_1 9 rfl rfl)
theorem dX5_drink_34 : decode cX5_drink 34 = .ok (.iastore, 1) := dk_79 (dk_at dksX5_drink_1 10 rfl rfl)
theorem dX5_drink_35 : decode cX5_drink 35 = .ok (.iconst 1, 1) := dk_4 (dk_at dksX5_drink_1 11 rfl rfl)
theorem dX5_drink_36 : decode cX5_drink 36 = .ok (.ireturn, 1) := dk_172 (dk_at dksX5_drink_1 12 rfl rfl)
abbrev cX5_minutes : ByteArray := prog_26_method_77_code
def yX5_minutes : MethodName := ⟨RX5, "minutes", "(I)I"⟩
def dkwX5_minutes_1 : List UInt8 := [27, 162, 0, 15, 42, 3, 182, 1, 139, 87, 132, 2, 1, 167, 255, 242, 42, 180, 0, 141, 3, 46, 172]
abbrev dktX5_minutes_1 : List UInt8 := dkwX5_minutes_1 ++ []
def dkwX5_minutes_0 : List UInt8 := [42, 3, 181, 0, 1, 27, 4, 16, 120, 184, 0, 241, 154, 0, 5, 2, 172, 42, 182, 1, 130, 3, 61, 28]
abbrev dktX5_minutes_0 : List UInt8 := dkwX5_minutes_0 ++ dktX5_minutes_1
theorem dksX5_minutes_0 : cX5_minutes.data.toList.drop 0 = dktX5_minutes_0 := by decide +kernel
theorem dksX5_minutes_1 : cX5_minutes.data.toList.drop 24 = dktX5_minutes_1 := dk_seg dksX5_minutes_0 24 rfl rfl
theorem dX5_minutes_0 : decode cX5_minutes 0 = .ok (.aload_n 0, 1) := dk_42 (dk_at dksX5_minutes_0 0 rfl rfl)
theorem dX5_minutes_1 : decode cX5_minutes 1 = .ok (.iconst 0, 1) := dk_3 (dk_at dksX5_minutes_0 1 rfl rfl)
theorem dX5_minutes_2 : decode cX5_minutes 2 = .ok (.putfield 1, 3) := dk_181 0 1 (dk_at dksX5_minutes_0 2 rfl rfl)
theorem dX5_minutes_5 : decode cX5_minutes 5 = .ok (.iload_n 1, 1) := dk_27 (dk_at dksX5_minutes_0 5 rfl rfl)
theorem dX5_minutes_6 : decode cX5_minutes 6 = .ok (.iconst 1, 1) := dk_4 (dk_at dksX5_minutes_0 6 rfl rfl)
theorem dX5_minutes_7 : decode cX5_minutes 7 = .ok (.bipush 120, 2) := dk_16 120 (dk_at dksX5_minutes_0 7 rfl rfl)
theorem dX5_minutes_9 : decode cX5_minutes 9 = .ok (.invokestatic 241, 3) := dk_184 0 241 (dk_at dksX5_minutes_0 9 rfl rfl)
theorem dX5_minutes_12 : decode cX5_minutes 12 = .ok (.ifCond .ne 5, 3) := dk_154 0 5 (dk_at dksX5_minutes_0 12 rfl rfl)
theorem dX5_minutes_15 : decode cX5_minutes 15 = .ok (.iconst (-1), 1) := dk_2 (dk_at dksX5_minutes_0 15 rfl rfl)
theorem dX5_minutes_16 : decode cX5_minutes 16 = .ok (.ireturn, 1) := dk_172 (dk_at dksX5_minutes_0 16 rfl rfl)
theorem dX5_minutes_17 : decode cX5_minutes 17 = .ok (.aload_n 0, 1) := dk_42 (dk_at dksX5_minutes_0 17 rfl rfl)
theorem dX5_minutes_18 : decode cX5_minutes 18 = .ok (.invokevirtual 386, 3) := dk_182 1 130 (dk_at dksX5_minutes_0 18 rfl rfl)
theorem dX5_minutes_21 : decode cX5_minutes 21 = .ok (.iconst 0, 1) := dk_3 (dk_at dksX5_minutes_0 21 rfl rfl)
theorem dX5_minutes_22 : decode cX5_minutes 22 = .ok (.istore_n 2, 1) := dk_61 (dk_at dksX5_minutes_0 22 rfl rfl)
theorem dX5_minutes_23 : decode cX5_minutes 23 = .ok (.iload_n 2, 1) := dk_28 (dk_at dksX5_minutes_0 23 rfl rfl)
theorem dX5_minutes_24 : decode cX5_minutes 24 = .ok (.iload_n 1, 1) := dk_27 (dk_at dksX5_minutes_1 0 rfl rfl)
theorem dX5_minutes_25 : decode cX5_minutes 25 = .ok (.if_icmp .ge 15, 3) := dk_162 0 15 (dk_at dksX5_minutes_1 1 rfl rfl)
theorem dX5_minutes_28 : decode cX5_minutes 28 = .ok (.aload_n 0, 1) := dk_42 (dk_at dksX5_minutes_1 4 rfl rfl)
theorem dX5_minutes_29 : decode cX5_minutes 29 = .ok (.iconst 0, 1) := dk_3 (dk_at dksX5_minutes_1 5 rfl rfl)
theorem dX5_minutes_30 : decode cX5_minutes 30 = .ok (.invokevirtual 395, 3) := dk_182 1 139 (dk_at dksX5_minutes_1 6 rfl rfl)
theorem dX5_minutes_33 : decode cX5_minutes 33 = .ok (.pop, 1) := dk_87 (dk_at dksX5_minutes_1 9 rfl rfl)
theorem dX5_minutes_34 : decode cX5_minutes 34 = .ok (.iinc 2 1, 3) := dk_132 2 1 (dk_at dksX5_minutes_1 10 rfl rfl)
theorem dX5_minutes_37 : decode cX5_minutes 37 = .ok (.goto (-14), 3) := dk_167 255 242 (dk_at dksX5_minutes_1 13 rfl rfl)
theorem dX5_minutes_40 : decode cX5_minutes 40 = .ok (.aload_n 0, 1) := dk_42 (dk_at dksX5_minutes_1 16 rfl rfl)
theorem dX5_minutes_41 : decode cX5_minutes 41 = .ok (.getfield 141, 3) := dk_180 0 141 (dk_at dksX5_minutes_1 17 rfl rfl)
theorem dX5_minutes_44 : decode cX5_minutes 44 = .ok (.iconst 0, 1) := dk_3 (dk_at dksX5_minutes_1 20 rfl rfl)
theorem dX5_minutes_45 : decode cX5_minutes 45 = .ok (.iaload, 1) := dk_46 (dk_at dksX5_minutes_1 21 rfl rfl)
theorem dX5_minutes_46 : decode cX5_minutes 46 = .ok (.ireturn, 1) := dk_172 (dk_at dksX5_minutes_1 22 rfl rfl)
abbrev cX5_passes : ByteArray := prog_26_method_63_code
def yX5_passes : MethodName := ⟨RX5, "passes", "(I)I"⟩
def dkwX5_passes_7 : List UInt8 := [132, 4, 1, 167, 255, 179, 42, 180, 0, 141, 27, 3, 96, 92, 46, 4, 96, 79, 28, 172]
abbrev dktX5_passes_7 : List UInt8 := dkwX5_passes_7 ++ []
def dkwX5_passes_6 : List UInt8 := [46, 42, 180, 0, 141, 27, 16, 19, 96, 21, 4, 96, 46, 158, 0, 7, 4, 167, 0, 4, 3, 100, 79]
abbrev dktX5_passes_6 : List UInt8 := dkwX5_passes_6 ++ dktX5_passes_7
def dkwX5_passes_5 : List UInt8 := [27, 16, 13, 96, 21, 4, 96, 46, 182, 1, 109, 79, 42, 180, 0, 141, 27, 16, 19, 96, 21, 4, 96, 92]
abbrev dktX5_passes_5 : List UInt8 := dkwX5_passes_5 ++ dktX5_passes_6
def dkwX5_passes_4 : List UInt8 := [182, 1, 67, 162, 0, 74, 42, 180, 0, 141, 27, 16, 13, 96, 21, 4, 96, 42, 21, 4, 42, 180, 0, 141]
abbrev dktX5_passes_4 : List UInt8 := dkwX5_passes_4 ++ dktX5_passes_5
def dkwX5_passes_3 : List UInt8 := [92, 46, 21, 5, 96, 79, 28, 21, 5, 96, 61, 132, 4, 1, 167, 255, 184, 3, 54, 4, 21, 4, 42]
abbrev dktX5_passes_3 : List UInt8 := dkwX5_passes_3 ++ dktX5_passes_4
def dkwX5_passes_2 : List UInt8 := [21, 4, 182, 1, 106, 29, 104, 167, 0, 4, 3, 54, 5, 42, 180, 0, 141, 27, 16, 7, 96, 21, 4, 96]
abbrev dktX5_passes_2 : List UInt8 := dkwX5_passes_2 ++ dktX5_passes_3
def dkwX5_passes_1 : List UInt8 := [180, 0, 141, 27, 3, 96, 46, 29, 112, 154, 0, 56, 42, 27, 21, 4, 182, 1, 93, 153, 0, 15, 42, 27]
abbrev dktX5_passes_1 : List UInt8 := dkwX5_passes_1 ++ dktX5_passes_2
def dkwX5_passes_0 : List UInt8 := [3, 61, 42, 180, 0, 111, 8, 46, 62, 3, 54, 4, 21, 4, 42, 182, 1, 67, 162, 0, 69, 42]
abbrev dktX5_passes_0 : List UInt8 := dkwX5_passes_0 ++ dktX5_passes_1
theorem dksX5_passes_0 : cX5_passes.data.toList.drop 0 = dktX5_passes_0 := by decide +kernel
theorem dksX5_passes_1 : cX5_passes.data.toList.drop 22 = dktX5_passes_1 := dk_seg dksX5_passes_0 22 rfl rfl
theorem dksX5_passes_2 : cX5_passes.data.toList.drop 46 = dktX5_passes_2 := dk_seg dksX5_passes_1 24 rfl rfl
theorem dksX5_passes_3 : cX5_passes.data.toList.drop 70 = dktX5_passes_3 := dk_seg dksX5_passes_2 24 rfl rfl
theorem dksX5_passes_4 : cX5_passes.data.toList.drop 93 = dktX5_passes_4 := dk_seg dksX5_passes_3 23 rfl rfl
theorem dksX5_passes_5 : cX5_passes.data.toList.drop 117 = dktX5_passes_5 := dk_seg dksX5_passes_4 24 rfl rfl
theorem dksX5_passes_6 : cX5_passes.data.toList.drop 141 = dktX5_passes_6 := dk_seg dksX5_passes_5 24 rfl rfl
theorem dksX5_passes_7 : cX5_passes.data.toList.drop 164 = dktX5_passes_7 := dk_seg dksX5_passes_6 23 rfl rfl
theorem dX5_passes_0 : decode cX5_passes 0 = .ok (.iconst 0, 1) := dk_3 (dk_at dksX5_passes_0 0 rfl rfl)
theorem dX5_passes_1 : decode cX5_passes 1 = .ok (.istore_n 2, 1) := dk_61 (dk_at dksX5_passes_0 1 rfl rfl)
theorem dX5_passes_2 : decode cX5_passes 2 = .ok (.aload_n 0, 1) := dk_42 (dk_at dksX5_passes_0 2 rfl rfl)
theorem dX5_passes_3 : decode cX5_passes 3 = .ok (.getfield 111, 3) := dk_180 0 111 (dk_at dksX5_passes_0 3 rfl rfl)
theorem dX5_passes_6 : decode cX5_passes 6 = .ok (.iconst 5, 1) := dk_8 (dk_at dksX5_passes_0 6 rfl rfl)
theorem dX5_passes_7 : decode cX5_passes 7 = .ok (.iaload, 1) := dk_46 (dk_at dksX5_passes_0 7 rfl rfl)
theorem dX5_passes_8 : decode cX5_passes 8 = .ok (.istore_n 3, 1) := dk_62 (dk_at dksX5_passes_0 8 rfl rfl)
theorem dX5_passes_9 : decode cX5_passes 9 = .ok (.iconst 0, 1) := dk_3 (dk_at dksX5_passes_0 9 rfl rfl)
theorem dX5_passes_10 : decode cX5_passes 10 = .ok (.istore 4, 2) := dk_54 4 (dk_at dksX5_passes_0 10 rfl rfl)
theorem dX5_passes_12 : decode cX5_passes 12 = .ok (.iload 4, 2) := dk_21 4 (dk_at dksX5_passes_0 12 rfl rfl)
theorem dX5_passes_14 : decode cX5_passes 14 = .ok (.aload_n 0, 1) := dk_42 (dk_at dksX5_passes_0 14 rfl rfl)
theorem dX5_passes_15 : decode cX5_passes 15 = .ok (.invokevirtual 323, 3) := dk_182 1 67 (dk_at dksX5_passes_0 15 rfl rfl)
theorem dX5_passes_18 : decode cX5_passes 18 = .ok (.if_icmp .ge 69, 3) := dk_162 0 69 (dk_at dksX5_passes_0 18 rfl rfl)
theorem dX5_passes_21 : decode cX5_passes 21 = .ok (.aload_n 0, 1) := dk_42 (dk_at dksX5_passes_0 21 rfl rfl)
theorem dX5_passes_22 : decode cX5_passes 22 = .ok (.getfield 141, 3) := dk_180 0 141 (dk_at dksX5_passes_1 0 rfl rfl)
theorem dX5_passes_25 : decode cX5_passes 25 = .ok (.iload_n 1, 1) := dk_27 (dk_at dksX5_passes_1 3 rfl rfl)
theorem dX5_passes_26 : decode cX5_passes 26 = .ok (.iconst 0, 1) := dk_3 (dk_at dksX5_passes_1 4 rfl rfl)
theorem dX5_passes_27 : decode cX5_passes 27 = .ok (.iadd, 1) := dk_96 (dk_at dksX5_passes_1 5 rfl rfl)
theorem dX5_passes_28 : decode cX5_passes 28 = .ok (.iaload, 1) := dk_46 (dk_at dksX5_passes_1 6 rfl rfl)
theorem dX5_passes_29 : decode cX5_passes 29 = .ok (.iload_n 3, 1) := dk_29 (dk_at dksX5_passes_1 7 rfl rfl)
theorem dX5_passes_30 : decode cX5_passes 30 = .ok (.irem, 1) := dk_112 (dk_at dksX5_passes_1 8 rfl rfl)
theorem dX5_passes_31 : decode cX5_passes 31 = .ok (.ifCond .ne 56, 3) := dk_154 0 56 (dk_at dksX5_passes_1 9 rfl rfl)
theorem dX5_passes_34 : decode cX5_passes 34 = .ok (.aload_n 0, 1) := dk_42 (dk_at dksX5_passes_1 12 rfl rfl)
theorem dX5_passes_35 : decode cX5_passes 35 = .ok (.iload_n 1, 1) := dk_27 (dk_at dksX5_passes_1 13 rfl rfl)
theorem dX5_passes_36 : decode cX5_passes 36 = .ok (.iload 4, 2) := dk_21 4 (dk_at dksX5_passes_1 14 rfl rfl)
theorem dX5_passes_38 : decode cX5_passes 38 = .ok (.invokevirtual 349, 3) := dk_182 1 93 (dk_at dksX5_passes_1 16 rfl rfl)
theorem dX5_passes_41 : decode cX5_passes 41 = .ok (.ifCond .eq 15, 3) := dk_153 0 15 (dk_at dksX5_passes_1 19 rfl rfl)
theorem dX5_passes_44 : decode cX5_passes 44 = .ok (.aload_n 0, 1) := dk_42 (dk_at dksX5_passes_1 22 rfl rfl)
theorem dX5_passes_45 : decode cX5_passes 45 = .ok (.iload_n 1, 1) := dk_27 (dk_at dksX5_passes_1 23 rfl rfl)
theorem dX5_passes_46 : decode cX5_passes 46 = .ok (.iload 4, 2) := dk_21 4 (dk_at dksX5_passes_2 0 rfl rfl)
theorem dX5_passes_48 : decode cX5_passes 48 = .ok (.invokevirtual 362, 3) := dk_182 1 106 (dk_at dksX5_passes_2 2 rfl rfl)
theorem dX5_passes_51 : decode cX5_passes 51 = .ok (.iload_n 3, 1) := dk_29 (dk_at dksX5_passes_2 5 rfl rfl)
theorem dX5_passes_52 : decode cX5_passes 52 = .ok (.imul, 1) := dk_104 (dk_at dksX5_passes_2 6 rfl rfl)
theorem dX5_passes_53 : decode cX5_passes 53 = .ok (.goto 4, 3) := dk_167 0 4 (dk_at dksX5_passes_2 7 rfl rfl)
theorem dX5_passes_56 : decode cX5_passes 56 = .ok (.iconst 0, 1) := dk_3 (dk_at dksX5_passes_2 10 rfl rfl)
theorem dX5_passes_57 : decode cX5_passes 57 = .ok (.istore 5, 2) := dk_54 5 (dk_at dksX5_passes_2 11 rfl rfl)
theorem dX5_passes_59 : decode cX5_passes 59 = .ok (.aload_n 0, 1) := dk_42 (dk_at dksX5_passes_2 13 rfl rfl)
theorem dX5_passes_60 : decode cX5_passes 60 = .ok (.getfield 141, 3) := dk_180 0 141 (dk_at dksX5_passes_2 14 rfl rfl)
theorem dX5_passes_63 : decode cX5_passes 63 = .ok (.iload_n 1, 1) := dk_27 (dk_at dksX5_passes_2 17 rfl rfl)
theorem dX5_passes_64 : decode cX5_passes 64 = .ok (.bipush 7, 2) := dk_16 7 (dk_at dksX5_passes_2 18 rfl rfl)
theorem dX5_passes_66 : decode cX5_passes 66 = .ok (.iadd, 1) := dk_96 (dk_at dksX5_passes_2 20 rfl rfl)
theorem dX5_passes_67 : decode cX5_passes 67 = .ok (.iload 4, 2) := dk_21 4 (dk_at dksX5_passes_2 21 rfl rfl)
theorem dX5_passes_69 : decode cX5_passes 69 = .ok (.iadd, 1) := dk_96 (dk_at dksX5_passes_2 23 rfl rfl)
theorem dX5_passes_70 : decode cX5_passes 70 = .ok (.dup2, 1) := dk_92 (dk_at dksX5_passes_3 0 rfl rfl)
theorem dX5_passes_71 : decode cX5_passes 71 = .ok (.iaload, 1) := dk_46 (dk_at dksX5_passes_3 1 rfl rfl)
theorem dX5_passes_72 : decode cX5_passes 72 = .ok (.iload 5, 2) := dk_21 5 (dk_at dksX5_passes_3 2 rfl rfl)
theorem dX5_passes_74 : decode cX5_passes 74 = .ok (.iadd, 1) := dk_96 (dk_at dksX5_passes_3 4 rfl rfl)
theorem dX5_passes_75 : decode cX5_passes 75 = .ok (.iastore, 1) := dk_79 (dk_at dksX5_passes_3 5 rfl rfl)
theorem dX5_passes_76 : decode cX5_passes 76 = .ok (.iload_n 2, 1) := dk_28 (dk_at dksX5_passes_3 6 rfl rfl)
theorem dX5_passes_77 : decode cX5_passes 77 = .ok (.iload 5, 2) := dk_21 5 (dk_at dksX5_passes_3 7 rfl rfl)
theorem dX5_passes_79 : decode cX5_passes 79 = .ok (.iadd, 1) := dk_96 (dk_at dksX5_passes_3 9 rfl rfl)
theorem dX5_passes_80 : decode cX5_passes 80 = .ok (.istore_n 2, 1) := dk_61 (dk_at dksX5_passes_3 10 rfl rfl)
theorem dX5_passes_81 : decode cX5_passes 81 = .ok (.iinc 4 1, 3) := dk_132 4 1 (dk_at dksX5_passes_3 11 rfl rfl)
theorem dX5_passes_84 : decode cX5_passes 84 = .ok (.goto (-72), 3) := dk_167 255 184 (dk_at dksX5_passes_3 14 rfl rfl)
theorem dX5_passes_87 : decode cX5_passes 87 = .ok (.iconst 0, 1) := dk_3 (dk_at dksX5_passes_3 17 rfl rfl)
theorem dX5_passes_88 : decode cX5_passes 88 = .ok (.istore 4, 2) := dk_54 4 (dk_at dksX5_passes_3 18 rfl rfl)
theorem dX5_passes_90 : decode cX5_passes 90 = .ok (.iload 4, 2) := dk_21 4 (dk_at dksX5_passes_3 20 rfl rfl)
theorem dX5_passes_92 : decode cX5_passes 92 = .ok (.aload_n 0, 1) := dk_42 (dk_at dksX5_passes_3 22 rfl rfl)
theorem dX5_passes_93 : decode cX5_passes 93 = .ok (.invokevirtual 323, 3) := dk_182 1 67 (dk_at dksX5_passes_4 0 rfl rfl)
theorem dX5_passes_96 : decode cX5_passes 96 = .ok (.if_icmp .ge 74, 3) := dk_162 0 74 (dk_at dksX5_passes_4 3 rfl rfl)
theorem dX5_passes_99 : decode cX5_passes 99 = .ok (.aload_n 0, 1) := dk_42 (dk_at dksX5_passes_4 6 rfl rfl)
theorem dX5_passes_100 : decode cX5_passes 100 = .ok (.getfield 141, 3) := dk_180 0 141 (dk_at dksX5_passes_4 7 rfl rfl)
theorem dX5_passes_103 : decode cX5_passes 103 = .ok (.iload_n 1, 1) := dk_27 (dk_at dksX5_passes_4 10 rfl rfl)
theorem dX5_passes_104 : decode cX5_passes 104 = .ok (.bipush 13, 2) := dk_16 13 (dk_at dksX5_passes_4 11 rfl rfl)
theorem dX5_passes_106 : decode cX5_passes 106 = .ok (.iadd, 1) := dk_96 (dk_at dksX5_passes_4 13 rfl rfl)
theorem dX5_passes_107 : decode cX5_passes 107 = .ok (.iload 4, 2) := dk_21 4 (dk_at dksX5_passes_4 14 rfl rfl)
theorem dX5_passes_109 : decode cX5_passes 109 = .ok (.iadd, 1) := dk_96 (dk_at dksX5_passes_4 16 rfl rfl)
theorem dX5_passes_110 : decode cX5_passes 110 = .ok (.aload_n 0, 1) := dk_42 (dk_at dksX5_passes_4 17 rfl rfl)
theorem dX5_passes_111 : decode cX5_passes 111 = .ok (.iload 4, 2) := dk_21 4 (dk_at dksX5_passes_4 18 rfl rfl)
theorem dX5_passes_113 : decode cX5_passes 113 = .ok (.aload_n 0, 1) := dk_42 (dk_at dksX5_passes_4 20 rfl rfl)
theorem dX5_passes_114 : decode cX5_passes 114 = .ok (.getfield 141, 3) := dk_180 0 141 (dk_at dksX5_passes_4 21 rfl rfl)
theorem dX5_passes_117 : decode cX5_passes 117 = .ok (.iload_n 1, 1) := dk_27 (dk_at dksX5_passes_5 0 rfl rfl)
theorem dX5_passes_118 : decode cX5_passes 118 = .ok (.bipush 13, 2) := dk_16 13 (dk_at dksX5_passes_5 1 rfl rfl)
theorem dX5_passes_120 : decode cX5_passes 120 = .ok (.iadd, 1) := dk_96 (dk_at dksX5_passes_5 3 rfl rfl)
theorem dX5_passes_121 : decode cX5_passes 121 = .ok (.iload 4, 2) := dk_21 4 (dk_at dksX5_passes_5 4 rfl rfl)
theorem dX5_passes_123 : decode cX5_passes 123 = .ok (.iadd, 1) := dk_96 (dk_at dksX5_passes_5 6 rfl rfl)
theorem dX5_passes_124 : decode cX5_passes 124 = .ok (.iaload, 1) := dk_46 (dk_at dksX5_passes_5 7 rfl rfl)
theorem dX5_passes_125 : decode cX5_passes 125 = .ok (.invokevirtual 365, 3) := dk_182 1 109 (dk_at dksX5_passes_5 8 rfl rfl)
theorem dX5_passes_128 : decode cX5_passes 128 = .ok (.iastore, 1) := dk_79 (dk_at dksX5_passes_5 11 rfl rfl)
theorem dX5_passes_129 : decode cX5_passes 129 = .ok (.aload_n 0, 1) := dk_42 (dk_at dksX5_passes_5 12 rfl rfl)
theorem dX5_passes_130 : decode cX5_passes 130 = .ok (.getfield 141, 3) := dk_180 0 141 (dk_at dksX5_passes_5 13 rfl rfl)
theorem dX5_passes_133 : decode cX5_passes 133 = .ok (.iload_n 1, 1) := dk_27 (dk_at dksX5_passes_5 16 rfl rfl)
theorem dX5_passes_134 : decode cX5_passes 134 = .ok (.bipush 19, 2) := dk_16 19 (dk_at dksX5_passes_5 17 rfl rfl)
theorem dX5_passes_136 : decode cX5_passes 136 = .ok (.iadd, 1) := dk_96 (dk_at dksX5_passes_5 19 rfl rfl)
theorem dX5_passes_137 : decode cX5_passes 137 = .ok (.iload 4, 2) := dk_21 4 (dk_at dksX5_passes_5 20 rfl rfl)
theorem dX5_passes_139 : decode cX5_passes 139 = .ok (.iadd, 1) := dk_96 (dk_at dksX5_passes_5 22 rfl rfl)
theorem dX5_passes_140 : decode cX5_passes 140 = .ok (.dup2, 1) := dk_92 (dk_at dksX5_passes_5 23 rfl rfl)
theorem dX5_passes_141 : decode cX5_passes 141 = .ok (.iaload, 1) := dk_46 (dk_at dksX5_passes_6 0 rfl rfl)
theorem dX5_passes_142 : decode cX5_passes 142 = .ok (.aload_n 0, 1) := dk_42 (dk_at dksX5_passes_6 1 rfl rfl)
theorem dX5_passes_143 : decode cX5_passes 143 = .ok (.getfield 141, 3) := dk_180 0 141 (dk_at dksX5_passes_6 2 rfl rfl)
theorem dX5_passes_146 : decode cX5_passes 146 = .ok (.iload_n 1, 1) := dk_27 (dk_at dksX5_passes_6 5 rfl rfl)
theorem dX5_passes_147 : decode cX5_passes 147 = .ok (.bipush 19, 2) := dk_16 19 (dk_at dksX5_passes_6 6 rfl rfl)
theorem dX5_passes_149 : decode cX5_passes 149 = .ok (.iadd, 1) := dk_96 (dk_at dksX5_passes_6 8 rfl rfl)
theorem dX5_passes_150 : decode cX5_passes 150 = .ok (.iload 4, 2) := dk_21 4 (dk_at dksX5_passes_6 9 rfl rfl)
theorem dX5_passes_152 : decode cX5_passes 152 = .ok (.iadd, 1) := dk_96 (dk_at dksX5_passes_6 11 rfl rfl)
theorem dX5_passes_153 : decode cX5_passes 153 = .ok (.iaload, 1) := dk_46 (dk_at dksX5_passes_6 12 rfl rfl)
theorem dX5_passes_154 : decode cX5_passes 154 = .ok (.ifCond .le 7, 3) := dk_158 0 7 (dk_at dksX5_passes_6 13 rfl rfl)
theorem dX5_passes_157 : decode cX5_passes 157 = .ok (.iconst 1, 1) := dk_4 (dk_at dksX5_passes_6 16 rfl rfl)
theorem dX5_passes_158 : decode cX5_passes 158 = .ok (.goto 4, 3) := dk_167 0 4 (dk_at dksX5_passes_6 17 rfl rfl)
theorem dX5_passes_161 : decode cX5_passes 161 = .ok (.iconst 0, 1) := dk_3 (dk_at dksX5_passes_6 20 rfl rfl)
theorem dX5_passes_162 : decode cX5_passes 162 = .ok (.isub, 1) := dk_100 (dk_at dksX5_passes_6 21 rfl rfl)
theorem dX5_passes_163 : decode cX5_passes 163 = .ok (.iastore, 1) := dk_79 (dk_at dksX5_passes_6 22 rfl rfl)
theorem dX5_passes_164 : decode cX5_passes 164 = .ok (.iinc 4 1, 3) := dk_132 4 1 (dk_at dksX5_passes_7 0 rfl rfl)
theorem dX5_passes_167 : decode cX5_passes 167 = .ok (.goto (-77), 3) := dk_167 255 179 (dk_at dksX5_passes_7 3 rfl rfl)
theorem dX5_passes_170 : decode cX5_passes 170 = .ok (.aload_n 0, 1) := dk_42 (dk_at dksX5_passes_7 6 rfl rfl)
theorem dX5_passes_171 : decode cX5_passes 171 = .ok (.getfield 141, 3) := dk_180 0 141 (dk_at dksX5_passes_7 7 rfl rfl)
theorem dX5_passes_174 : decode cX5_passes 174 = .ok (.iload_n 1, 1) := dk_27 (dk_at dksX5_passes_7 10 rfl rfl)
theorem dX5_passes_175 : decode cX5_passes 175 = .ok (.iconst 0, 1) := dk_3 (dk_at dksX5_passes_7 11 rfl rfl)
theorem dX5_passes_176 : decode cX5_passes 176 = .ok (.iadd, 1) := dk_96 (dk_at dksX5_passes_7 12 rfl rfl)
theorem dX5_passes_177 : decode cX5_passes 177 = .ok (.dup2, 1) := dk_92 (dk_at dksX5_passes_7 13 rfl rfl)
theorem dX5_passes_178 : decode cX5_passes 178 = .ok (.iaload, 1) := dk_46 (dk_at dksX5_passes_7 14 rfl rfl)
theorem dX5_passes_179 : decode cX5_passes 179 = .ok (.iconst 1, 1) := dk_4 (dk_at dksX5_passes_7 15 rfl rfl)
theorem dX5_passes_180 : decode cX5_passes 180 = .ok (.iadd, 1) := dk_96 (dk_at dksX5_passes_7 16 rfl rfl)
theorem dX5_passes_181 : decode cX5_passes 181 = .ok (.iastore, 1) := dk_79 (dk_at dksX5_passes_7 17 rfl rfl)
theorem dX5_passes_182 : decode cX5_passes 182 = .ok (.iload_n 2, 1) := dk_28 (dk_at dksX5_passes_7 18 rfl rfl)
theorem dX5_passes_183 : decode cX5_passes 183 = .ok (.ireturn, 1) := dk_172 (dk_at dksX5_passes_7 19 rfl rfl)
abbrev cX5_calmed : ByteArray := prog_26_method_62_code
def yX5_calmed : MethodName := ⟨RX5, "calmed", "(II)I"⟩
def dkwX5_calmed_0 : List UInt8 := [42, 27, 3, 182, 1, 71, 4, 160, 0, 9, 28, 7, 108, 167, 0, 6, 28, 5, 108, 172]
abbrev dktX5_calmed_0 : List UInt8 := dkwX5_calmed_0 ++ []
theorem dksX5_calmed_0 : cX5_calmed.data.toList.drop 0 = dktX5_calmed_0 := by decide +kernel
theorem dX5_calmed_0 : decode cX5_calmed 0 = .ok (.aload_n 0, 1) := dk_42 (dk_at dksX5_calmed_0 0 rfl rfl)
theorem dX5_calmed_1 : decode cX5_calmed 1 = .ok (.iload_n 1, 1) := dk_27 (dk_at dksX5_calmed_0 1 rfl rfl)
theorem dX5_calmed_2 : decode cX5_calmed 2 = .ok (.iconst 0, 1) := dk_3 (dk_at dksX5_calmed_0 2 rfl rfl)
theorem dX5_calmed_3 : decode cX5_calmed 3 = .ok (.invokevirtual 327, 3) := dk_182 1 71 (dk_at dksX5_calmed_0 3 rfl rfl)
theorem dX5_calmed_6 : decode cX5_calmed 6 = .ok (.iconst 1, 1) := dk_4 (dk_at dksX5_calmed_0 6 rfl rfl)
theorem dX5_calmed_7 : decode cX5_calmed 7 = .ok (.if_icmp .ne 9, 3) := dk_160 0 9 (dk_at dksX5_calmed_0 7 rfl rfl)
theorem dX5_calmed_10 : decode cX5_calmed 10 = .ok (.iload_n 2, 1) := dk_28 (dk_at dksX5_calmed_0 10 rfl rfl)
theorem dX5_calmed_11 : decode cX5_calmed 11 = .ok (.iconst 4, 1) := dk_7 (dk_at dksX5_calmed_0 11 rfl rfl)
theorem dX5_calmed_12 : decode cX5_calmed 12 = .ok (.idiv, 1) := dk_108 (dk_at dksX5_calmed_0 12 rfl rfl)
theorem dX5_calmed_13 : decode cX5_calmed 13 = .ok (.goto 6, 3) := dk_167 0 6 (dk_at dksX5_calmed_0 13 rfl rfl)
theorem dX5_calmed_16 : decode cX5_calmed 16 = .ok (.iload_n 2, 1) := dk_28 (dk_at dksX5_calmed_0 16 rfl rfl)
theorem dX5_calmed_17 : decode cX5_calmed 17 = .ok (.iconst 2, 1) := dk_5 (dk_at dksX5_calmed_0 17 rfl rfl)
theorem dX5_calmed_18 : decode cX5_calmed 18 = .ok (.idiv, 1) := dk_108 (dk_at dksX5_calmed_0 18 rfl rfl)
theorem dX5_calmed_19 : decode cX5_calmed 19 = .ok (.ireturn, 1) := dk_172 (dk_at dksX5_calmed_0 19 rfl rfl)
abbrev cX5_noon : ByteArray := prog_26_method_78_code
def yX5_noon : MethodName := ⟨RX5, "noon", "()I"⟩
def dkwX5_noon_0 : List UInt8 := [42, 3, 181, 0, 1, 42, 182, 1, 130, 42, 3, 182, 1, 142, 172]
abbrev dktX5_noon_0 : List UInt8 := dkwX5_noon_0 ++ []
theorem dksX5_noon_0 : cX5_noon.data.toList.drop 0 = dktX5_noon_0 := by decide +kernel
theorem dX5_noon_0 : decode cX5_noon 0 = .ok (.aload_n 0, 1) := dk_42 (dk_at dksX5_noon_0 0 rfl rfl)
theorem dX5_noon_1 : decode cX5_noon 1 = .ok (.iconst 0, 1) := dk_3 (dk_at dksX5_noon_0 1 rfl rfl)
theorem dX5_noon_2 : decode cX5_noon 2 = .ok (.putfield 1, 3) := dk_181 0 1 (dk_at dksX5_noon_0 2 rfl rfl)
theorem dX5_noon_5 : decode cX5_noon 5 = .ok (.aload_n 0, 1) := dk_42 (dk_at dksX5_noon_0 5 rfl rfl)
theorem dX5_noon_6 : decode cX5_noon 6 = .ok (.invokevirtual 386, 3) := dk_182 1 130 (dk_at dksX5_noon_0 6 rfl rfl)
theorem dX5_noon_9 : decode cX5_noon 9 = .ok (.aload_n 0, 1) := dk_42 (dk_at dksX5_noon_0 9 rfl rfl)
theorem dX5_noon_10 : decode cX5_noon 10 = .ok (.iconst 0, 1) := dk_3 (dk_at dksX5_noon_0 10 rfl rfl)
theorem dX5_noon_11 : decode cX5_noon 11 = .ok (.invokevirtual 398, 3) := dk_182 1 142 (dk_at dksX5_noon_0 11 rfl rfl)
theorem dX5_noon_14 : decode cX5_noon 14 = .ok (.ireturn, 1) := dk_172 (dk_at dksX5_noon_0 14 rfl rfl)
abbrev cX5_noons : ByteArray := prog_26_method_66_code
def yX5_noons : MethodName := ⟨RX5, "noons", "(I)I"⟩
def dkwX5_noons_7 : List UInt8 := [16, 7, 96, 29, 96, 3, 79, 132, 3, 1, 167, 255, 233, 28, 172]
abbrev dktX5_noons_7 : List UInt8 := dkwX5_noons_7 ++ []
def dkwX5_noons_6 : List UInt8 := [4, 79, 132, 3, 1, 167, 255, 113, 3, 62, 29, 42, 182, 1, 67, 162, 0, 21, 42, 180, 0, 141, 27]
abbrev dktX5_noons_6 : List UInt8 := dkwX5_noons_6 ++ dktX5_noons_7
def dkwX5_noons_5 : List UInt8 := [167, 0, 26, 42, 180, 0, 141, 27, 4, 96, 29, 96, 2, 79, 42, 180, 0, 141, 27, 16, 37, 96, 29, 96]
abbrev dktX5_noons_5 : List UInt8 := dkwX5_noons_5 ++ dktX5_noons_6
def dkwX5_noons_4 : List UInt8 := [54, 7, 42, 180, 0, 141, 27, 16, 31, 96, 29, 96, 92, 46, 21, 7, 100, 79, 28, 21, 7, 96, 61]
abbrev dktX5_noons_4 : List UInt8 := dkwX5_noons_4 ++ dktX5_noons_5
def dkwX5_noons_3 : List UInt8 := [21, 5, 164, 0, 8, 21, 6, 153, 0, 43, 21, 4, 21, 5, 162, 0, 8, 21, 4, 167, 0, 5, 21, 5]
abbrev dktX5_noons_3 : List UInt8 := dkwX5_noons_3 ++ dktX5_noons_4
def dkwX5_noons_2 : List UInt8 := [6, 160, 0, 17, 21, 4, 21, 5, 100, 16, 99, 163, 0, 7, 4, 167, 0, 4, 3, 54, 6, 21, 4]
abbrev dktX5_noons_2 : List UInt8 := dkwX5_noons_2 ++ dktX5_noons_3
def dkwX5_noons_1 : List UInt8 := [182, 1, 118, 54, 4, 42, 180, 0, 141, 27, 16, 31, 96, 29, 96, 46, 54, 5, 42, 29, 3, 182, 1, 71]
abbrev dktX5_noons_1 : List UInt8 := dkwX5_noons_1 ++ dktX5_noons_2
def dkwX5_noons_0 : List UInt8 := [3, 61, 3, 62, 29, 42, 182, 1, 67, 162, 0, 141, 42, 27, 29, 182, 1, 93, 153, 0, 126, 42, 27, 29]
abbrev dktX5_noons_0 : List UInt8 := dkwX5_noons_0 ++ dktX5_noons_1
theorem dksX5_noons_0 : cX5_noons.data.toList.drop 0 = dktX5_noons_0 := by decide +kernel
theorem dksX5_noons_1 : cX5_noons.data.toList.drop 24 = dktX5_noons_1 := dk_seg dksX5_noons_0 24 rfl rfl
theorem dksX5_noons_2 : cX5_noons.data.toList.drop 48 = dktX5_noons_2 := dk_seg dksX5_noons_1 24 rfl rfl
theorem dksX5_noons_3 : cX5_noons.data.toList.drop 71 = dktX5_noons_3 := dk_seg dksX5_noons_2 23 rfl rfl
theorem dksX5_noons_4 : cX5_noons.data.toList.drop 95 = dktX5_noons_4 := dk_seg dksX5_noons_3 24 rfl rfl
theorem dksX5_noons_5 : cX5_noons.data.toList.drop 118 = dktX5_noons_5 := dk_seg dksX5_noons_4 23 rfl rfl
theorem dksX5_noons_6 : cX5_noons.data.toList.drop 142 = dktX5_noons_6 := dk_seg dksX5_noons_5 24 rfl rfl
theorem dksX5_noons_7 : cX5_noons.data.toList.drop 165 = dktX5_noons_7 := dk_seg dksX5_noons_6 23 rfl rfl
theorem dX5_noons_0 : decode cX5_noons 0 = .ok (.iconst 0, 1) := dk_3 (dk_at dksX5_noons_0 0 rfl rfl)
theorem dX5_noons_1 : decode cX5_noons 1 = .ok (.istore_n 2, 1) := dk_61 (dk_at dksX5_noons_0 1 rfl rfl)
theorem dX5_noons_2 : decode cX5_noons 2 = .ok (.iconst 0, 1) := dk_3 (dk_at dksX5_noons_0 2 rfl rfl)
theorem dX5_noons_3 : decode cX5_noons 3 = .ok (.istore_n 3, 1) := dk_62 (dk_at dksX5_noons_0 3 rfl rfl)
theorem dX5_noons_4 : decode cX5_noons 4 = .ok (.iload_n 3, 1) := dk_29 (dk_at dksX5_noons_0 4 rfl rfl)
theorem dX5_noons_5 : decode cX5_noons 5 = .ok (.aload_n 0, 1) := dk_42 (dk_at dksX5_noons_0 5 rfl rfl)
theorem dX5_noons_6 : decode cX5_noons 6 = .ok (.invokevirtual 323, 3) := dk_182 1 67 (dk_at dksX5_noons_0 6 rfl rfl)
theorem dX5_noons_9 : decode cX5_noons 9 = .ok (.if_icmp .ge 141, 3) := dk_162 0 141 (dk_at dksX5_noons_0 9 rfl rfl)
theorem dX5_noons_12 : decode cX5_noons 12 = .ok (.aload_n 0, 1) := dk_42 (dk_at dksX5_noons_0 12 rfl rfl)
theorem dX5_noons_13 : decode cX5_noons 13 = .ok (.iload_n 1, 1) := dk_27 (dk_at dksX5_noons_0 13 rfl rfl)
theorem dX5_noons_14 : decode cX5_noons 14 = .ok (.iload_n 3, 1) := dk_29 (dk_at dksX5_noons_0 14 rfl rfl)
theorem dX5_noons_15 : decode cX5_noons 15 = .ok (.invokevirtual 349, 3) := dk_182 1 93 (dk_at dksX5_noons_0 15 rfl rfl)
theorem dX5_noons_18 : decode cX5_noons 18 = .ok (.ifCond .eq 126, 3) := dk_153 0 126 (dk_at dksX5_noons_0 18 rfl rfl)
theorem dX5_noons_21 : decode cX5_noons 21 = .ok (.aload_n 0, 1) := dk_42 (dk_at dksX5_noons_0 21 rfl rfl)
theorem dX5_noons_22 : decode cX5_noons 22 = .ok (.iload_n 1, 1) := dk_27 (dk_at dksX5_noons_0 22 rfl rfl)
theorem dX5_noons_23 : decode cX5_noons 23 = .ok (.iload_n 3, 1) := dk_29 (dk_at dksX5_noons_0 23 rfl rfl)
theorem dX5_noons_24 : decode cX5_noons 24 = .ok (.invokevirtual 374, 3) := dk_182 1 118 (dk_at dksX5_noons_1 0 rfl rfl)
theorem dX5_noons_27 : decode cX5_noons 27 = .ok (.istore 4, 2) := dk_54 4 (dk_at dksX5_noons_1 3 rfl rfl)
theorem dX5_noons_29 : decode cX5_noons 29 = .ok (.aload_n 0, 1) := dk_42 (dk_at dksX5_noons_1 5 rfl rfl)
theorem dX5_noons_30 : decode cX5_noons 30 = .ok (.getfield 141, 3) := dk_180 0 141 (dk_at dksX5_noons_1 6 rfl rfl)
theorem dX5_noons_33 : decode cX5_noons 33 = .ok (.iload_n 1, 1) := dk_27 (dk_at dksX5_noons_1 9 rfl rfl)
theorem dX5_noons_34 : decode cX5_noons 34 = .ok (.bipush 31, 2) := dk_16 31 (dk_at dksX5_noons_1 10 rfl rfl)
theorem dX5_noons_36 : decode cX5_noons 36 = .ok (.iadd, 1) := dk_96 (dk_at dksX5_noons_1 12 rfl rfl)
theorem dX5_noons_37 : decode cX5_noons 37 = .ok (.iload_n 3, 1) := dk_29 (dk_at dksX5_noons_1 13 rfl rfl)
theorem dX5_noons_38 : decode cX5_noons 38 = .ok (.iadd, 1) := dk_96 (dk_at dksX5_noons_1 14 rfl rfl)
theorem dX5_noons_39 : decode cX5_noons 39 = .ok (.iaload, 1) := dk_46 (dk_at dksX5_noons_1 15 rfl rfl)
theorem dX5_noons_40 : decode cX5_noons 40 = .ok (.istore 5, 2) := dk_54 5 (dk_at dksX5_noons_1 16 rfl rfl)
theorem dX5_noons_42 : decode cX5_noons 42 = .ok (.aload_n 0, 1) := dk_42 (dk_at dksX5_noons_1 18 rfl rfl)
theorem dX5_noons_43 : decode cX5_noons 43 = .ok (.iload_n 3, 1) := dk_29 (dk_at dksX5_noons_1 19 rfl rfl)
theorem dX5_noons_44 : decode cX5_noons 44 = .ok (.iconst 0, 1) := dk_3 (dk_at dksX5_noons_1 20 rfl rfl)
theorem dX5_noons_45 : decode cX5_noons 45 = .ok (.invokevirtual 327, 3) := dk_182 1 71 (dk_at dksX5_noons_1 21 rfl rfl)
theorem dX5_noons_48 : decode cX5_noons 48 = .ok (.iconst 3, 1) := dk_6 (dk_at dksX5_noons_2 0 rfl rfl)
theorem dX5_noons_49 : decode cX5_noons 49 = .ok (.if_icmp .ne 17, 3) := dk_160 0 17 (dk_at dksX5_noons_2 1 rfl rfl)
theorem dX5_noons_52 : decode cX5_noons 52 = .ok (.iload 4, 2) := dk_21 4 (dk_at dksX5_noons_2 4 rfl rfl)
theorem dX5_noons_54 : decode cX5_noons 54 = .ok (.iload 5, 2) := dk_21 5 (dk_at dksX5_noons_2 6 rfl rfl)
theorem dX5_noons_56 : decode cX5_noons 56 = .ok (.isub, 1) := dk_100 (dk_at dksX5_noons_2 8 rfl rfl)
theorem dX5_noons_57 : decode cX5_noons 57 = .ok (.bipush 99, 2) := dk_16 99 (dk_at dksX5_noons_2 9 rfl rfl)
theorem dX5_noons_59 : decode cX5_noons 59 = .ok (.if_icmp .gt 7, 3) := dk_163 0 7 (dk_at dksX5_noons_2 11 rfl rfl)
theorem dX5_noons_62 : decode cX5_noons 62 = .ok (.iconst 1, 1) := dk_4 (dk_at dksX5_noons_2 14 rfl rfl)
theorem dX5_noons_63 : decode cX5_noons 63 = .ok (.goto 4, 3) := dk_167 0 4 (dk_at dksX5_noons_2 15 rfl rfl)
theorem dX5_noons_66 : decode cX5_noons 66 = .ok (.iconst 0, 1) := dk_3 (dk_at dksX5_noons_2 18 rfl rfl)
theorem dX5_noons_67 : decode cX5_noons 67 = .ok (.istore 6, 2) := dk_54 6 (dk_at dksX5_noons_2 19 rfl rfl)
theorem dX5_noons_69 : decode cX5_noons 69 = .ok (.iload 4, 2) := dk_21 4 (dk_at dksX5_noons_2 21 rfl rfl)
theorem dX5_noons_71 : decode cX5_noons 71 = .ok (.iload 5, 2) := dk_21 5 (dk_at dksX5_noons_3 0 rfl rfl)
theorem dX5_noons_73 : decode cX5_noons 73 = .ok (.if_icmp .le 8, 3) := dk_164 0 8 (dk_at dksX5_noons_3 2 rfl rfl)
theorem dX5_noons_76 : decode cX5_noons 76 = .ok (.iload 6, 2) := dk_21 6 (dk_at dksX5_noons_3 5 rfl rfl)
theorem dX5_noons_78 : decode cX5_noons 78 = .ok (.ifCond .eq 43, 3) := dk_153 0 43 (dk_at dksX5_noons_3 7 rfl rfl)
theorem dX5_noons_81 : decode cX5_noons 81 = .ok (.iload 4, 2) := dk_21 4 (dk_at dksX5_noons_3 10 rfl rfl)
theorem dX5_noons_83 : decode cX5_noons 83 = .ok (.iload 5, 2) := dk_21 5 (dk_at dksX5_noons_3 12 rfl rfl)
theorem dX5_noons_85 : decode cX5_noons 85 = .ok (.if_icmp .ge 8, 3) := dk_162 0 8 (dk_at dksX5_noons_3 14 rfl rfl)
theorem dX5_noons_88 : decode cX5_noons 88 = .ok (.iload 4, 2) := dk_21 4 (dk_at dksX5_noons_3 17 rfl rfl)
theorem dX5_noons_90 : decode cX5_noons 90 = .ok (.goto 5, 3) := dk_167 0 5 (dk_at dksX5_noons_3 19 rfl rfl)
theorem dX5_noons_93 : decode cX5_noons 93 = .ok (.iload 5, 2) := dk_21 5 (dk_at dksX5_noons_3 22 rfl rfl)
theorem dX5_noons_95 : decode cX5_noons 95 = .ok (.istore 7, 2) := dk_54 7 (dk_at dksX5_noons_4 0 rfl rfl)
theorem dX5_noons_97 : decode cX5_noons 97 = .ok (.aload_n 0, 1) := dk_42 (dk_at dksX5_noons_4 2 rfl rfl)
theorem dX5_noons_98 : decode cX5_noons 98 = .ok (.getfield 141, 3) := dk_180 0 141 (dk_at dksX5_noons_4 3 rfl rfl)
theorem dX5_noons_101 : decode cX5_noons 101 = .ok (.iload_n 1, 1) := dk_27 (dk_at dksX5_noons_4 6 rfl rfl)
theorem dX5_noons_102 : decode cX5_noons 102 = .ok (.bipush 31, 2) := dk_16 31 (dk_at dksX5_noons_4 7 rfl rfl)
theorem dX5_noons_104 : decode cX5_noons 104 = .ok (.iadd, 1) := dk_96 (dk_at dksX5_noons_4 9 rfl rfl)
theorem dX5_noons_105 : decode cX5_noons 105 = .ok (.iload_n 3, 1) := dk_29 (dk_at dksX5_noons_4 10 rfl rfl)
theorem dX5_noons_106 : decode cX5_noons 106 = .ok (.iadd, 1) := dk_96 (dk_at dksX5_noons_4 11 rfl rfl)
theorem dX5_noons_107 : decode cX5_noons 107 = .ok (.dup2, 1) := dk_92 (dk_at dksX5_noons_4 12 rfl rfl)
theorem dX5_noons_108 : decode cX5_noons 108 = .ok (.iaload, 1) := dk_46 (dk_at dksX5_noons_4 13 rfl rfl)
theorem dX5_noons_109 : decode cX5_noons 109 = .ok (.iload 7, 2) := dk_21 7 (dk_at dksX5_noons_4 14 rfl rfl)
theorem dX5_noons_111 : decode cX5_noons 111 = .ok (.isub, 1) := dk_100 (dk_at dksX5_noons_4 16 rfl rfl)
theorem dX5_noons_112 : decode cX5_noons 112 = .ok (.iastore, 1) := dk_79 (dk_at dksX5_noons_4 17 rfl rfl)
theorem dX5_noons_113 : decode cX5_noons 113 = .ok (.iload_n 2, 1) := dk_28 (dk_at dksX5_noons_4 18 rfl rfl)
theorem dX5_noons_114 : decode cX5_noons 114 = .ok (.iload 7, 2) := dk_21 7 (dk_at dksX5_noons_4 19 rfl rfl)
theorem dX5_noons_116 : decode cX5_noons 116 = .ok (.iadd, 1) := dk_96 (dk_at dksX5_noons_4 21 rfl rfl)
theorem dX5_noons_117 : decode cX5_noons 117 = .ok (.istore_n 2, 1) := dk_61 (dk_at dksX5_noons_4 22 rfl rfl)
theorem dX5_noons_118 : decode cX5_noons 118 = .ok (.goto 26, 3) := dk_167 0 26 (dk_at dksX5_noons_5 0 rfl rfl)
theorem dX5_noons_121 : decode cX5_noons 121 = .ok (.aload_n 0, 1) := dk_42 (dk_at dksX5_noons_5 3 rfl rfl)
theorem dX5_noons_122 : decode cX5_noons 122 = .ok (.getfield 141, 3) := dk_180 0 141 (dk_at dksX5_noons_5 4 rfl rfl)
theorem dX5_noons_125 : decode cX5_noons 125 = .ok (.iload_n 1, 1) := dk_27 (dk_at dksX5_noons_5 7 rfl rfl)
theorem dX5_noons_126 : decode cX5_noons 126 = .ok (.iconst 1, 1) := dk_4 (dk_at dksX5_noons_5 8 rfl rfl)
theorem dX5_noons_127 : decode cX5_noons 127 = .ok (.iadd, 1) := dk_96 (dk_at dksX5_noons_5 9 rfl rfl)
theorem dX5_noons_128 : decode cX5_noons 128 = .ok (.iload_n 3, 1) := dk_29 (dk_at dksX5_noons_5 10 rfl rfl)
theorem dX5_noons_129 : decode cX5_noons 129 = .ok (.iadd, 1) := dk_96 (dk_at dksX5_noons_5 11 rfl rfl)
theorem dX5_noons_130 : decode cX5_noons 130 = .ok (.iconst (-1), 1) := dk_2 (dk_at dksX5_noons_5 12 rfl rfl)
theorem dX5_noons_131 : decode cX5_noons 131 = .ok (.iastore, 1) := dk_79 (dk_at dksX5_noons_5 13 rfl rfl)
theorem dX5_noons_132 : decode cX5_noons 132 = .ok (.aload_n 0, 1) := dk_42 (dk_at dksX5_noons_5 14 rfl rfl)
theorem dX5_noons_133 : decode cX5_noons 133 = .ok (.getfield 141, 3) := dk_180 0 141 (dk_at dksX5_noons_5 15 rfl rfl)
theorem dX5_noons_136 : decode cX5_noons 136 = .ok (.iload_n 1, 1) := dk_27 (dk_at dksX5_noons_5 18 rfl rfl)
theorem dX5_noons_137 : decode cX5_noons 137 = .ok (.bipush 37, 2) := dk_16 37 (dk_at dksX5_noons_5 19 rfl rfl)
theorem dX5_noons_139 : decode cX5_noons 139 = .ok (.iadd, 1) := dk_96 (dk_at dksX5_noons_5 21 rfl rfl)
theorem dX5_noons_140 : decode cX5_noons 140 = .ok (.iload_n 3, 1) := dk_29 (dk_at dksX5_noons_5 22 rfl rfl)
theorem dX5_noons_141 : decode cX5_noons 141 = .ok (.iadd, 1) := dk_96 (dk_at dksX5_noons_5 23 rfl rfl)
theorem dX5_noons_142 : decode cX5_noons 142 = .ok (.iconst 1, 1) := dk_4 (dk_at dksX5_noons_6 0 rfl rfl)
theorem dX5_noons_143 : decode cX5_noons 143 = .ok (.iastore, 1) := dk_79 (dk_at dksX5_noons_6 1 rfl rfl)
theorem dX5_noons_144 : decode cX5_noons 144 = .ok (.iinc 3 1, 3) := dk_132 3 1 (dk_at dksX5_noons_6 2 rfl rfl)
theorem dX5_noons_147 : decode cX5_noons 147 = .ok (.goto (-143), 3) := dk_167 255 113 (dk_at dksX5_noons_6 5 rfl rfl)
theorem dX5_noons_150 : decode cX5_noons 150 = .ok (.iconst 0, 1) := dk_3 (dk_at dksX5_noons_6 8 rfl rfl)
theorem dX5_noons_151 : decode cX5_noons 151 = .ok (.istore_n 3, 1) := dk_62 (dk_at dksX5_noons_6 9 rfl rfl)
theorem dX5_noons_152 : decode cX5_noons 152 = .ok (.iload_n 3, 1) := dk_29 (dk_at dksX5_noons_6 10 rfl rfl)
theorem dX5_noons_153 : decode cX5_noons 153 = .ok (.aload_n 0, 1) := dk_42 (dk_at dksX5_noons_6 11 rfl rfl)
theorem dX5_noons_154 : decode cX5_noons 154 = .ok (.invokevirtual 323, 3) := dk_182 1 67 (dk_at dksX5_noons_6 12 rfl rfl)
theorem dX5_noons_157 : decode cX5_noons 157 = .ok (.if_icmp .ge 21, 3) := dk_162 0 21 (dk_at dksX5_noons_6 15 rfl rfl)
theorem dX5_noons_160 : decode cX5_noons 160 = .ok (.aload_n 0, 1) := dk_42 (dk_at dksX5_noons_6 18 rfl rfl)
theorem dX5_noons_161 : decode cX5_noons 161 = .ok (.getfield 141, 3) := dk_180 0 141 (dk_at dksX5_noons_6 19 rfl rfl)
theorem dX5_noons_164 : decode cX5_noons 164 = .ok (.iload_n 1, 1) := dk_27 (dk_at dksX5_noons_6 22 rfl rfl)
theorem dX5_noons_165 : decode cX5_noons 165 = .ok (.bipush 7, 2) := dk_16 7 (dk_at dksX5_noons_7 0 rfl rfl)
theorem dX5_noons_167 : decode cX5_noons 167 = .ok (.iadd, 1) := dk_96 (dk_at dksX5_noons_7 2 rfl rfl)
theorem dX5_noons_168 : decode cX5_noons 168 = .ok (.iload_n 3, 1) := dk_29 (dk_at dksX5_noons_7 3 rfl rfl)
theorem dX5_noons_169 : decode cX5_noons 169 = .ok (.iadd, 1) := dk_96 (dk_at dksX5_noons_7 4 rfl rfl)
theorem dX5_noons_170 : decode cX5_noons 170 = .ok (.iconst 0, 1) := dk_3 (dk_at dksX5_noons_7 5 rfl rfl)
theorem dX5_noons_171 : decode cX5_noons 171 = .ok (.iastore, 1) := dk_79 (dk_at dksX5_noons_7 6 rfl rfl)
theorem dX5_noons_172 : decode cX5_noons 172 = .ok (.iinc 3 1, 3) := dk_132 3 1 (dk_at dksX5_noons_7 7 rfl rfl)
theorem dX5_noons_175 : decode cX5_noons 175 = .ok (.goto (-23), 3) := dk_167 255 233 (dk_at dksX5_noons_7 10 rfl rfl)
theorem dX5_noons_178 : decode cX5_noons 178 = .ok (.iload_n 2, 1) := dk_28 (dk_at dksX5_noons_7 13 rfl rfl)
theorem dX5_noons_179 : decode cX5_noons 179 = .ok (.ireturn, 1) := dk_172 (dk_at dksX5_noons_7 14 rfl rfl)
abbrev cX5_dueOf : ByteArray := prog_26_method_65_code
def yX5_dueOf : MethodName := ⟨RX5, "dueOf", "(II)I"⟩
def dkwX5_dueOf_1 : List UInt8 := [182, 1, 100, 42, 28, 3, 182, 1, 71, 182, 1, 115, 172]
abbrev dktX5_dueOf_1 : List UInt8 := dkwX5_dueOf_1 ++ []
def dkwX5_dueOf_0 : List UInt8 := [42, 42, 180, 0, 141, 27, 16, 7, 96, 28, 96, 46, 42, 42, 180, 0, 141, 27, 4, 96, 28, 96, 46, 5]
abbrev dktX5_dueOf_0 : List UInt8 := dkwX5_dueOf_0 ++ dktX5_dueOf_1
theorem dksX5_dueOf_0 : cX5_dueOf.data.toList.drop 0 = dktX5_dueOf_0 := by decide +kernel
theorem dksX5_dueOf_1 : cX5_dueOf.data.toList.drop 24 = dktX5_dueOf_1 := dk_seg dksX5_dueOf_0 24 rfl rfl
theorem dX5_dueOf_0 : decode cX5_dueOf 0 = .ok (.aload_n 0, 1) := dk_42 (dk_at dksX5_dueOf_0 0 rfl rfl)
theorem dX5_dueOf_1 : decode cX5_dueOf 1 = .ok (.aload_n 0, 1) := dk_42 (dk_at dksX5_dueOf_0 1 rfl rfl)
theorem dX5_dueOf_2 : decode cX5_dueOf 2 = .ok (.getfield 141, 3) := dk_180 0 141 (dk_at dksX5_dueOf_0 2 rfl rfl)
theorem dX5_dueOf_5 : decode cX5_dueOf 5 = .ok (.iload_n 1, 1) := dk_27 (dk_at dksX5_dueOf_0 5 rfl rfl)
theorem dX5_dueOf_6 : decode cX5_dueOf 6 = .ok (.bipush 7, 2) := dk_16 7 (dk_at dksX5_dueOf_0 6 rfl rfl)
theorem dX5_dueOf_8 : decode cX5_dueOf 8 = .ok (.iadd, 1) := dk_96 (dk_at dksX5_dueOf_0 8 rfl rfl)
theorem dX5_dueOf_9 : decode cX5_dueOf 9 = .ok (.iload_n 2, 1) := dk_28 (dk_at dksX5_dueOf_0 9 rfl rfl)
theorem dX5_dueOf_10 : decode cX5_dueOf 10 = .ok (.iadd, 1) := dk_96 (dk_at dksX5_dueOf_0 10 rfl rfl)
theorem dX5_dueOf_11 : decode cX5_dueOf 11 = .ok (.iaload, 1) := dk_46 (dk_at dksX5_dueOf_0 11 rfl rfl)
theorem dX5_dueOf_12 : decode cX5_dueOf 12 = .ok (.aload_n 0, 1) := dk_42 (dk_at dksX5_dueOf_0 12 rfl rfl)
theorem dX5_dueOf_13 : decode cX5_dueOf 13 = .ok (.aload_n 0, 1) := dk_42 (dk_at dksX5_dueOf_0 13 rfl rfl)
theorem dX5_dueOf_14 : decode cX5_dueOf 14 = .ok (.getfield 141, 3) := dk_180 0 141 (dk_at dksX5_dueOf_0 14 rfl rfl)
theorem dX5_dueOf_17 : decode cX5_dueOf 17 = .ok (.iload_n 1, 1) := dk_27 (dk_at dksX5_dueOf_0 17 rfl rfl)
theorem dX5_dueOf_18 : decode cX5_dueOf 18 = .ok (.iconst 1, 1) := dk_4 (dk_at dksX5_dueOf_0 18 rfl rfl)
theorem dX5_dueOf_19 : decode cX5_dueOf 19 = .ok (.iadd, 1) := dk_96 (dk_at dksX5_dueOf_0 19 rfl rfl)
theorem dX5_dueOf_20 : decode cX5_dueOf 20 = .ok (.iload_n 2, 1) := dk_28 (dk_at dksX5_dueOf_0 20 rfl rfl)
theorem dX5_dueOf_21 : decode cX5_dueOf 21 = .ok (.iadd, 1) := dk_96 (dk_at dksX5_dueOf_0 21 rfl rfl)
theorem dX5_dueOf_22 : decode cX5_dueOf 22 = .ok (.iaload, 1) := dk_46 (dk_at dksX5_dueOf_0 22 rfl rfl)
theorem dX5_dueOf_23 : decode cX5_dueOf 23 = .ok (.iconst 2, 1) := dk_5 (dk_at dksX5_dueOf_0 23 rfl rfl)
theorem dX5_dueOf_24 : decode cX5_dueOf 24 = .ok (.invokevirtual 356, 3) := dk_182 1 100 (dk_at dksX5_dueOf_1 0 rfl rfl)
theorem dX5_dueOf_27 : decode cX5_dueOf 27 = .ok (.aload_n 0, 1) := dk_42 (dk_at dksX5_dueOf_1 3 rfl rfl)
theorem dX5_dueOf_28 : decode cX5_dueOf 28 = .ok (.iload_n 2, 1) := dk_28 (dk_at dksX5_dueOf_1 4 rfl rfl)
theorem dX5_dueOf_29 : decode cX5_dueOf 29 = .ok (.iconst 0, 1) := dk_3 (dk_at dksX5_dueOf_1 5 rfl rfl)
theorem dX5_dueOf_30 : decode cX5_dueOf 30 = .ok (.invokevirtual 327, 3) := dk_182 1 71 (dk_at dksX5_dueOf_1 6 rfl rfl)
theorem dX5_dueOf_33 : decode cX5_dueOf 33 = .ok (.invokevirtual 371, 3) := dk_182 1 115 (dk_at dksX5_dueOf_1 9 rfl rfl)
theorem dX5_dueOf_36 : decode cX5_dueOf 36 = .ok (.ireturn, 1) := dk_172 (dk_at dksX5_dueOf_1 12 rfl rfl)
abbrev cX5_dueBy : ByteArray := prog_26_method_64_code
def yX5_dueBy : MethodName := ⟨RX5, "dueBy", "(III)I"⟩
def dkwX5_dueBy_3 : List UInt8 := [17, 39, 15, 167, 0, 5, 21, 4, 172]
abbrev dktX5_dueBy_3 : List UInt8 := dkwX5_dueBy_3 ++ []
def dkwX5_dueBy_2 : List UInt8 := [182, 1, 112, 54, 4, 21, 4, 156, 0, 7, 3, 167, 0, 19, 21, 4, 17, 39, 15, 164, 0, 9]
abbrev dktX5_dueBy_2 : List UInt8 := dkwX5_dueBy_2 ++ dktX5_dueBy_3
def dkwX5_dueBy_1 : List UInt8 := [180, 0, 111, 16, 6, 46, 156, 0, 9, 27, 28, 96, 167, 0, 14, 42, 42, 180, 0, 111, 16, 6, 46]
abbrev dktX5_dueBy_1 : List UInt8 := dkwX5_dueBy_1 ++ dktX5_dueBy_2
def dkwX5_dueBy_0 : List UInt8 := [42, 180, 0, 135, 3, 27, 79, 42, 180, 0, 135, 4, 28, 79, 42, 180, 0, 135, 5, 29, 79, 42]
abbrev dktX5_dueBy_0 : List UInt8 := dkwX5_dueBy_0 ++ dktX5_dueBy_1
theorem dksX5_dueBy_0 : cX5_dueBy.data.toList.drop 0 = dktX5_dueBy_0 := by decide +kernel
theorem dksX5_dueBy_1 : cX5_dueBy.data.toList.drop 22 = dktX5_dueBy_1 := dk_seg dksX5_dueBy_0 22 rfl rfl
theorem dksX5_dueBy_2 : cX5_dueBy.data.toList.drop 45 = dktX5_dueBy_2 := dk_seg dksX5_dueBy_1 23 rfl rfl
theorem dksX5_dueBy_3 : cX5_dueBy.data.toList.drop 67 = dktX5_dueBy_3 := dk_seg dksX5_dueBy_2 22 rfl rfl
theorem dX5_dueBy_0 : decode cX5_dueBy 0 = .ok (.aload_n 0, 1) := dk_42 (dk_at dksX5_dueBy_0 0 rfl rfl)
theorem dX5_dueBy_1 : decode cX5_dueBy 1 = .ok (.getfield 135, 3) := dk_180 0 135 (dk_at dksX5_dueBy_0 1 rfl rfl)
theorem dX5_dueBy_4 : decode cX5_dueBy 4 = .ok (.iconst 0, 1) := dk_3 (dk_at dksX5_dueBy_0 4 rfl rfl)
theorem dX5_dueBy_5 : decode cX5_dueBy 5 = .ok (.iload_n 1, 1) := dk_27 (dk_at dksX5_dueBy_0 5 rfl rfl)
theorem dX5_dueBy_6 : decode cX5_dueBy 6 = .ok (.iastore, 1) := dk_79 (dk_at dksX5_dueBy_0 6 rfl rfl)
theorem dX5_dueBy_7 : decode cX5_dueBy 7 = .ok (.aload_n 0, 1) := dk_42 (dk_at dksX5_dueBy_0 7 rfl rfl)
theorem dX5_dueBy_8 : decode cX5_dueBy 8 = .ok (.getfield 135, 3) := dk_180 0 135 (dk_at dksX5_dueBy_0 8 rfl rfl)
theorem dX5_dueBy_11 : decode cX5_dueBy 11 = .ok (.iconst 1, 1) := dk_4 (dk_at dksX5_dueBy_0 11 rfl rfl)
theorem dX5_dueBy_12 : decode cX5_dueBy 12 = .ok (.iload_n 2, 1) := dk_28 (dk_at dksX5_dueBy_0 12 rfl rfl)
theorem dX5_dueBy_13 : decode cX5_dueBy 13 = .ok (.iastore, 1) := dk_79 (dk_at dksX5_dueBy_0 13 rfl rfl)
theorem dX5_dueBy_14 : decode cX5_dueBy 14 = .ok (.aload_n 0, 1) := dk_42 (dk_at dksX5_dueBy_0 14 rfl rfl)
theorem dX5_dueBy_15 : decode cX5_dueBy 15 = .ok (.getfield 135, 3) := dk_180 0 135 (dk_at dksX5_dueBy_0 15 rfl rfl)
theorem dX5_dueBy_18 : decode cX5_dueBy 18 = .ok (.iconst 2, 1) := dk_5 (dk_at dksX5_dueBy_0 18 rfl rfl)
theorem dX5_dueBy_19 : decode cX5_dueBy 19 = .ok (.iload_n 3, 1) := dk_29 (dk_at dksX5_dueBy_0 19 rfl rfl)
theorem dX5_dueBy_20 : decode cX5_dueBy 20 = .ok (.iastore, 1) := dk_79 (dk_at dksX5_dueBy_0 20 rfl rfl)
theorem dX5_dueBy_21 : decode cX5_dueBy 21 = .ok (.aload_n 0, 1) := dk_42 (dk_at dksX5_dueBy_0 21 rfl rfl)
theorem dX5_dueBy_22 : decode cX5_dueBy 22 = .ok (.getfield 111, 3) := dk_180 0 111 (dk_at dksX5_dueBy_1 0 rfl rfl)
theorem dX5_dueBy_25 : decode cX5_dueBy 25 = .ok (.bipush 6, 2) := dk_16 6 (dk_at dksX5_dueBy_1 3 rfl rfl)
theorem dX5_dueBy_27 : decode cX5_dueBy 27 = .ok (.iaload, 1) := dk_46 (dk_at dksX5_dueBy_1 5 rfl rfl)
theorem dX5_dueBy_28 : decode cX5_dueBy 28 = .ok (.ifCond .ge 9, 3) := dk_156 0 9 (dk_at dksX5_dueBy_1 6 rfl rfl)
theorem dX5_dueBy_31 : decode cX5_dueBy 31 = .ok (.iload_n 1, 1) := dk_27 (dk_at dksX5_dueBy_1 9 rfl rfl)
theorem dX5_dueBy_32 : decode cX5_dueBy 32 = .ok (.iload_n 2, 1) := dk_28 (dk_at dksX5_dueBy_1 10 rfl rfl)
theorem dX5_dueBy_33 : decode cX5_dueBy 33 = .ok (.iadd, 1) := dk_96 (dk_at dksX5_dueBy_1 11 rfl rfl)
theorem dX5_dueBy_34 : decode cX5_dueBy 34 = .ok (.goto 14, 3) := dk_167 0 14 (dk_at dksX5_dueBy_1 12 rfl rfl)
theorem dX5_dueBy_37 : decode cX5_dueBy 37 = .ok (.aload_n 0, 1) := dk_42 (dk_at dksX5_dueBy_1 15 rfl rfl)
theorem dX5_dueBy_38 : decode cX5_dueBy 38 = .ok (.aload_n 0, 1) := dk_42 (dk_at dksX5_dueBy_1 16 rfl rfl)
theorem dX5_dueBy_39 : decode cX5_dueBy 39 = .ok (.getfield 111, 3) := dk_180 0 111 (dk_at dksX5_dueBy_1 17 rfl rfl)
theorem dX5_dueBy_42 : decode cX5_dueBy 42 = .ok (.bipush 6, 2) := dk_16 6 (dk_at dksX5_dueBy_1 20 rfl rfl)
theorem dX5_dueBy_44 : decode cX5_dueBy 44 = .ok (.iaload, 1) := dk_46 (dk_at dksX5_dueBy_1 22 rfl rfl)
theorem dX5_dueBy_45 : decode cX5_dueBy 45 = .ok (.invokevirtual 368, 3) := dk_182 1 112 (dk_at dksX5_dueBy_2 0 rfl rfl)
theorem dX5_dueBy_48 : decode cX5_dueBy 48 = .ok (.istore 4, 2) := dk_54 4 (dk_at dksX5_dueBy_2 3 rfl rfl)
theorem dX5_dueBy_50 : decode cX5_dueBy 50 = .ok (.iload 4, 2) := dk_21 4 (dk_at dksX5_dueBy_2 5 rfl rfl)
theorem dX5_dueBy_52 : decode cX5_dueBy 52 = .ok (.ifCond .ge 7, 3) := dk_156 0 7 (dk_at dksX5_dueBy_2 7 rfl rfl)
theorem dX5_dueBy_55 : decode cX5_dueBy 55 = .ok (.iconst 0, 1) := dk_3 (dk_at dksX5_dueBy_2 10 rfl rfl)
theorem dX5_dueBy_56 : decode cX5_dueBy 56 = .ok (.goto 19, 3) := dk_167 0 19 (dk_at dksX5_dueBy_2 11 rfl rfl)
theorem dX5_dueBy_59 : decode cX5_dueBy 59 = .ok (.iload 4, 2) := dk_21 4 (dk_at dksX5_dueBy_2 14 rfl rfl)
theorem dX5_dueBy_61 : decode cX5_dueBy 61 = .ok (.sipush 9999, 3) := dk_17 39 15 (dk_at dksX5_dueBy_2 16 rfl rfl)
theorem dX5_dueBy_64 : decode cX5_dueBy 64 = .ok (.if_icmp .le 9, 3) := dk_164 0 9 (dk_at dksX5_dueBy_2 19 rfl rfl)
theorem dX5_dueBy_67 : decode cX5_dueBy 67 = .ok (.sipush 9999, 3) := dk_17 39 15 (dk_at dksX5_dueBy_3 0 rfl rfl)
theorem dX5_dueBy_70 : decode cX5_dueBy 70 = .ok (.goto 5, 3) := dk_167 0 5 (dk_at dksX5_dueBy_3 3 rfl rfl)
theorem dX5_dueBy_73 : decode cX5_dueBy 73 = .ok (.iload 4, 2) := dk_21 4 (dk_at dksX5_dueBy_3 6 rfl rfl)
theorem dX5_dueBy_75 : decode cX5_dueBy 75 = .ok (.ireturn, 1) := dk_172 (dk_at dksX5_dueBy_3 8 rfl rfl)
abbrev cX5_worthAt : ByteArray := prog_26_method_43_code
def yX5_worthAt : MethodName := ⟨RX5, "worthAt", "(I)I"⟩
def dkwX5_worthAt_6 : List UInt8 := [180, 0, 138, 3, 46, 172]
abbrev dktX5_worthAt_6 : List UInt8 := dkwX5_worthAt_6 ++ []
def dkwX5_worthAt_5 : List UInt8 := [180, 0, 138, 28, 4, 100, 46, 42, 180, 0, 138, 28, 46, 184, 1, 64, 79, 132, 3, 1, 167, 255, 123, 42]
abbrev dktX5_worthAt_5 : List UInt8 := dkwX5_worthAt_5 ++ dktX5_worthAt_6
def dkwX5_worthAt_4 : List UInt8 := [4, 167, 0, 4, 3, 79, 167, 0, 33, 132, 2, 255, 42, 180, 0, 138, 28, 4, 100, 21, 4, 42]
abbrev dktX5_worthAt_4 : List UInt8 := dkwX5_worthAt_4 ++ dktX5_worthAt_5
def dkwX5_worthAt_3 : List UInt8 := [21, 4, 6, 160, 0, 30, 42, 180, 0, 138, 28, 4, 100, 42, 180, 0, 138, 28, 4, 100, 46, 154, 0, 7]
abbrev dktX5_worthAt_3 : List UInt8 := dkwX5_worthAt_3 ++ dktX5_worthAt_4
def dkwX5_worthAt_2 : List UInt8 := [29, 46, 167, 0, 14, 42, 180, 0, 135, 42, 180, 0, 117, 29, 46, 46, 79, 132, 2, 1, 167, 0, 66]
abbrev dktX5_worthAt_2 : List UInt8 := dkwX5_worthAt_2 ++ dktX5_worthAt_3
def dkwX5_worthAt_1 : List UInt8 := [159, 0, 9, 21, 4, 5, 160, 0, 41, 42, 180, 0, 138, 28, 21, 4, 4, 160, 0, 12, 42, 180, 0, 117]
abbrev dktX5_worthAt_1 : List UInt8 := dkwX5_worthAt_1 ++ dktX5_worthAt_2
def dkwX5_worthAt_0 : List UInt8 := [3, 61, 27, 62, 42, 180, 0, 114, 29, 46, 153, 0, 130, 42, 180, 0, 114, 29, 46, 54, 4, 21, 4, 4]
abbrev dktX5_worthAt_0 : List UInt8 := dkwX5_worthAt_0 ++ dktX5_worthAt_1
theorem dksX5_worthAt_0 : cX5_worthAt.data.toList.drop 0 = dktX5_worthAt_0 := by decide +kernel
theorem dksX5_worthAt_1 : cX5_worthAt.data.toList.drop 24 = dktX5_worthAt_1 := dk_seg dksX5_worthAt_0 24 rfl rfl
theorem dksX5_worthAt_2 : cX5_worthAt.data.toList.drop 48 = dktX5_worthAt_2 := dk_seg dksX5_worthAt_1 24 rfl rfl
theorem dksX5_worthAt_3 : cX5_worthAt.data.toList.drop 71 = dktX5_worthAt_3 := dk_seg dksX5_worthAt_2 23 rfl rfl
theorem dksX5_worthAt_4 : cX5_worthAt.data.toList.drop 95 = dktX5_worthAt_4 := dk_seg dksX5_worthAt_3 24 rfl rfl
theorem dksX5_worthAt_5 : cX5_worthAt.data.toList.drop 117 = dktX5_worthAt_5 := dk_seg dksX5_worthAt_4 22 rfl rfl
theorem dksX5_worthAt_6 : cX5_worthAt.data.toList.drop 141 = dktX5_worthAt_6 := dk_seg dksX5_worthAt_5 24 rfl rfl
theorem dX5_worthAt_0 : decode cX5_worthAt 0 = .ok (.iconst 0, 1) := dk_3 (dk_at dksX5_worthAt_0 0 rfl rfl)
theorem dX5_worthAt_1 : decode cX5_worthAt 1 = .ok (.istore_n 2, 1) := dk_61 (dk_at dksX5_worthAt_0 1 rfl rfl)
theorem dX5_worthAt_2 : decode cX5_worthAt 2 = .ok (.iload_n 1, 1) := dk_27 (dk_at dksX5_worthAt_0 2 rfl rfl)
theorem dX5_worthAt_3 : decode cX5_worthAt 3 = .ok (.istore_n 3, 1) := dk_62 (dk_at dksX5_worthAt_0 3 rfl rfl)
theorem dX5_worthAt_4 : decode cX5_worthAt 4 = .ok (.aload_n 0, 1) := dk_42 (dk_at dksX5_worthAt_0 4 rfl rfl)
theorem dX5_worthAt_5 : decode cX5_worthAt 5 = .ok (.getfield 114, 3) := dk_180 0 114 (dk_at dksX5_worthAt_0 5 rfl rfl)
theorem dX5_worthAt_8 : decode cX5_worthAt 8 = .ok (.iload_n 3, 1) := dk_29 (dk_at dksX5_worthAt_0 8 rfl rfl)
theorem dX5_worthAt_9 : decode cX5_worthAt 9 = .ok (.iaload, 1) := dk_46 (dk_at dksX5_worthAt_0 9 rfl rfl)
theorem dX5_worthAt_10 : decode cX5_worthAt 10 = .ok (.ifCond .eq 130, 3) := dk_153 0 130 (dk_at dksX5_worthAt_0 10 rfl rfl)
theorem dX5_worthAt_13 : decode cX5_worthAt 13 = .ok (.aload_n 0, 1) := dk_42 (dk_at dksX5_worthAt_0 13 rfl rfl)
theorem dX5_worthAt_14 : decode cX5_worthAt 14 = .ok (.getfield 114, 3) := dk_180 0 114 (dk_at dksX5_worthAt_0 14 rfl rfl)
theorem dX5_worthAt_17 : decode cX5_worthAt 17 = .ok (.iload_n 3, 1) := dk_29 (dk_at dksX5_worthAt_0 17 rfl rfl)
theorem dX5_worthAt_18 : decode cX5_worthAt 18 = .ok (.iaload, 1) := dk_46 (dk_at dksX5_worthAt_0 18 rfl rfl)
theorem dX5_worthAt_19 : decode cX5_worthAt 19 = .ok (.istore 4, 2) := dk_54 4 (dk_at dksX5_worthAt_0 19 rfl rfl)
theorem dX5_worthAt_21 : decode cX5_worthAt 21 = .ok (.iload 4, 2) := dk_21 4 (dk_at dksX5_worthAt_0 21 rfl rfl)
theorem dX5_worthAt_23 : decode cX5_worthAt 23 = .ok (.iconst 1, 1) := dk_4 (dk_at dksX5_worthAt_0 23 rfl rfl)
theorem dX5_worthAt_24 : decode cX5_worthAt 24 = .ok (.if_icmp .eq 9, 3) := dk_159 0 9 (dk_at dksX5_worthAt_1 0 rfl rfl)
theorem dX5_worthAt_27 : decode cX5_worthAt 27 = .ok (.iload 4, 2) := dk_21 4 (dk_at dksX5_worthAt_1 3 rfl rfl)
theorem dX5_worthAt_29 : decode cX5_worthAt 29 = .ok (.iconst 2, 1) := dk_5 (dk_at dksX5_worthAt_1 5 rfl rfl)
theorem dX5_worthAt_30 : decode cX5_worthAt 30 = .ok (.if_icmp .ne 41, 3) := dk_160 0 41 (dk_at dksX5_worthAt_1 6 rfl rfl)
theorem dX5_worthAt_33 : decode cX5_worthAt 33 = .ok (.aload_n 0, 1) := dk_42 (dk_at dksX5_worthAt_1 9 rfl rfl)
theorem dX5_worthAt_34 : decode cX5_worthAt 34 = .ok (.getfield 138, 3) := dk_180 0 138 (dk_at dksX5_worthAt_1 10 rfl rfl)
theorem dX5_worthAt_37 : decode cX5_worthAt 37 = .ok (.iload_n 2, 1) := dk_28 (dk_at dksX5_worthAt_1 13 rfl rfl)
theorem dX5_worthAt_38 : decode cX5_worthAt 38 = .ok (.iload 4, 2) := dk_21 4 (dk_at dksX5_worthAt_1 14 rfl rfl)
theorem dX5_worthAt_40 : decode cX5_worthAt 40 = .ok (.iconst 1, 1) := dk_4 (dk_at dksX5_worthAt_1 16 rfl rfl)
theorem dX5_worthAt_41 : decode cX5_worthAt 41 = .ok (.if_icmp .ne 12, 3) := dk_160 0 12 (dk_at dksX5_worthAt_1 17 rfl rfl)
theorem dX5_worthAt_44 : decode cX5_worthAt 44 = .ok (.aload_n 0, 1) := dk_42 (dk_at dksX5_worthAt_1 20 rfl rfl)
theorem dX5_worthAt_45 : decode cX5_worthAt 45 = .ok (.getfield 117, 3) := dk_180 0 117 (dk_at dksX5_worthAt_1 21 rfl rfl)
theorem dX5_worthAt_48 : decode cX5_worthAt 48 = .ok (.iload_n 3, 1) := dk_29 (dk_at dksX5_worthAt_2 0 rfl rfl)
theorem dX5_worthAt_49 : decode cX5_worthAt 49 = .ok (.iaload, 1) := dk_46 (dk_at dksX5_worthAt_2 1 rfl rfl)
theorem dX5_worthAt_50 : decode cX5_worthAt 50 = .ok (.goto 14, 3) := dk_167 0 14 (dk_at dksX5_worthAt_2 2 rfl rfl)
theorem dX5_worthAt_53 : decode cX5_worthAt 53 = .ok (.aload_n 0, 1) := dk_42 (dk_at dksX5_worthAt_2 5 rfl rfl)
theorem dX5_worthAt_54 : decode cX5_worthAt 54 = .ok (.getfield 135, 3) := dk_180 0 135 (dk_at dksX5_worthAt_2 6 rfl rfl)
theorem dX5_worthAt_57 : decode cX5_worthAt 57 = .ok (.aload_n 0, 1) := dk_42 (dk_at dksX5_worthAt_2 9 rfl rfl)
theorem dX5_worthAt_58 : decode cX5_worthAt 58 = .ok (.getfield 117, 3) := dk_180 0 117 (dk_at dksX5_worthAt_2 10 rfl rfl)
theorem dX5_worthAt_61 : decode cX5_worthAt 61 = .ok (.iload_n 3, 1) := dk_29 (dk_at dksX5_worthAt_2 13 rfl rfl)
theorem dX5_worthAt_62 : decode cX5_worthAt 62 = .ok (.iaload, 1) := dk_46 (dk_at dksX5_worthAt_2 14 rfl rfl)
theorem dX5_worthAt_63 : decode cX5_worthAt 63 = .ok (.iaload, 1) := dk_46 (dk_at dksX5_worthAt_2 15 rfl rfl)
theorem dX5_worthAt_64 : decode cX5_worthAt 64 = .ok (.iastore, 1) := dk_79 (dk_at dksX5_worthAt_2 16 rfl rfl)
theorem dX5_worthAt_65 : decode cX5_worthAt 65 = .ok (.iinc 2 1, 3) := dk_132 2 1 (dk_at dksX5_worthAt_2 17 rfl rfl)
theorem dX5_worthAt_68 : decode cX5_worthAt 68 = .ok (.goto 66, 3) := dk_167 0 66 (dk_at dksX5_worthAt_2 20 rfl rfl)
theorem dX5_worthAt_71 : decode cX5_worthAt 71 = .ok (.iload 4, 2) := dk_21 4 (dk_at dksX5_worthAt_3 0 rfl rfl)
theorem dX5_worthAt_73 : decode cX5_worthAt 73 = .ok (.iconst 3, 1) := dk_6 (dk_at dksX5_worthAt_3 2 rfl rfl)
theorem dX5_worthAt_74 : decode cX5_worthAt 74 = .ok (.if_icmp .ne 30, 3) := dk_160 0 30 (dk_at dksX5_worthAt_3 3 rfl rfl)
theorem dX5_worthAt_77 : decode cX5_worthAt 77 = .ok (.aload_n 0, 1) := dk_42 (dk_at dksX5_worthAt_3 6 rfl rfl)
theorem dX5_worthAt_78 : decode cX5_worthAt 78 = .ok (.getfield 138, 3) := dk_180 0 138 (dk_at dksX5_worthAt_3 7 rfl rfl)
theorem dX5_worthAt_81 : decode cX5_worthAt 81 = .ok (.iload_n 2, 1) := dk_28 (dk_at dksX5_worthAt_3 10 rfl rfl)
theorem dX5_worthAt_82 : decode cX5_worthAt 82 = .ok (.iconst 1, 1) := dk_4 (dk_at dksX5_worthAt_3 11 rfl rfl)
theorem dX5_worthAt_83 : decode cX5_worthAt 83 = .ok (.isub, 1) := dk_100 (dk_at dksX5_worthAt_3 12 rfl rfl)
theorem dX5_worthAt_84 : decode cX5_worthAt 84 = .ok (.aload_n 0, 1) := dk_42 (dk_at dksX5_worthAt_3 13 rfl rfl)
theorem dX5_worthAt_85 : decode cX5_worthAt 85 = .ok (.getfield 138, 3) := dk_180 0 138 (dk_at dksX5_worthAt_3 14 rfl rfl)
theorem dX5_worthAt_88 : decode cX5_worthAt 88 = .ok (.iload_n 2, 1) := dk_28 (dk_at dksX5_worthAt_3 17 rfl rfl)
theorem dX5_worthAt_89 : decode cX5_worthAt 89 = .ok (.iconst 1, 1) := dk_4 (dk_at dksX5_worthAt_3 18 rfl rfl)
theorem dX5_worthAt_90 : decode cX5_worthAt 90 = .ok (.isub, 1) := dk_100 (dk_at dksX5_worthAt_3 19 rfl rfl)
theorem dX5_worthAt_91 : decode cX5_worthAt 91 = .ok (.iaload, 1) := dk_46 (dk_at dksX5_worthAt_3 20 rfl rfl)
theorem dX5_worthAt_92 : decode cX5_worthAt 92 = .ok (.ifCond .ne 7, 3) := dk_154 0 7 (dk_at dksX5_worthAt_3 21 rfl rfl)
theorem dX5_worthAt_95 : decode cX5_worthAt 95 = .ok (.iconst 1, 1) := dk_4 (dk_at dksX5_worthAt_4 0 rfl rfl)
theorem dX5_worthAt_96 : decode cX5_worthAt 96 = .ok (.goto 4, 3) := dk_167 0 4 (dk_at dksX5_worthAt_4 1 rfl rfl)
theorem dX5_worthAt_99 : decode cX5_worthAt 99 = .ok (.iconst 0, 1) := dk_3 (dk_at dksX5_worthAt_4 4 rfl rfl)
theorem dX5_worthAt_100 : decode cX5_worthAt 100 = .ok (.iastore, 1) := dk_79 (dk_at dksX5_worthAt_4 5 rfl rfl)
theorem dX5_worthAt_101 : decode cX5_worthAt 101 = .ok (.goto 33, 3) := dk_167 0 33 (dk_at dksX5_worthAt_4 6 rfl rfl)
theorem dX5_worthAt_104 : decode cX5_worthAt 104 = .ok (.iinc 2 (-1), 3) := dk_132 2 255 (dk_at dksX5_worthAt_4 9 rfl rfl)
theorem dX5_worthAt_107 : decode cX5_worthAt 107 = .ok (.aload_n 0, 1) := dk_42 (dk_at dksX5_worthAt_4 12 rfl rfl)
theorem dX5_worthAt_108 : decode cX5_worthAt 108 = .ok (.getfield 138, 3) := dk_180 0 138 (dk_at dksX5_worthAt_4 13 rfl rfl)
theorem dX5_worthAt_111 : decode cX5_worthAt 111 = .ok (.iload_n 2, 1) := dk_28 (dk_at dksX5_worthAt_4 16 rfl rfl)
theorem dX5_worthAt_112 : decode cX5_worthAt 112 = .ok (.iconst 1, 1) := dk_4 (dk_at dksX5_worthAt_4 17 rfl rfl)
theorem dX5_worthAt_113 : decode cX5_worthAt 113 = .ok (.isub, 1) := dk_100 (dk_at dksX5_worthAt_4 18 rfl rfl)
theorem dX5_worthAt_114 : decode cX5_worthAt 114 = .ok (.iload 4, 2) := dk_21 4 (dk_at dksX5_worthAt_4 19 rfl rfl)
theorem dX5_worthAt_116 : decode cX5_worthAt 116 = .ok (.aload_n 0, 1) := dk_42 (dk_at dksX5_worthAt_4 21 rfl rfl)
theorem dX5_worthAt_117 : decode cX5_worthAt 117 = .ok (.getfield 138, 3) := dk_180 0 138 (dk_at dksX5_worthAt_5 0 rfl rfl)
theorem dX5_worthAt_120 : decode cX5_worthAt 120 = .ok (.iload_n 2, 1) := dk_28 (dk_at dksX5_worthAt_5 3 rfl rfl)
theorem dX5_worthAt_121 : decode cX5_worthAt 121 = .ok (.iconst 1, 1) := dk_4 (dk_at dksX5_worthAt_5 4 rfl rfl)
theorem dX5_worthAt_122 : decode cX5_worthAt 122 = .ok (.isub, 1) := dk_100 (dk_at dksX5_worthAt_5 5 rfl rfl)
theorem dX5_worthAt_123 : decode cX5_worthAt 123 = .ok (.iaload, 1) := dk_46 (dk_at dksX5_worthAt_5 6 rfl rfl)
theorem dX5_worthAt_124 : decode cX5_worthAt 124 = .ok (.aload_n 0, 1) := dk_42 (dk_at dksX5_worthAt_5 7 rfl rfl)
theorem dX5_worthAt_125 : decode cX5_worthAt 125 = .ok (.getfield 138, 3) := dk_180 0 138 (dk_at dksX5_worthAt_5 8 rfl rfl)
theorem dX5_worthAt_128 : decode cX5_worthAt 128 = .ok (.iload_n 2, 1) := dk_28 (dk_at dksX5_worthAt_5 11 rfl rfl)
theorem dX5_worthAt_129 : decode cX5_worthAt 129 = .ok (.iaload, 1) := dk_46 (dk_at dksX5_worthAt_5 12 rfl rfl)
theorem dX5_worthAt_130 : decode cX5_worthAt 130 = .ok (.invokestatic 320, 3) := dk_184 1 64 (dk_at dksX5_worthAt_5 13 rfl rfl)
theorem dX5_worthAt_133 : decode cX5_worthAt 133 = .ok (.iastore, 1) := dk_79 (dk_at dksX5_worthAt_5 16 rfl rfl)
theorem dX5_worthAt_134 : decode cX5_worthAt 134 = .ok (.iinc 3 1, 3) := dk_132 3 1 (dk_at dksX5_worthAt_5 17 rfl rfl)
theorem dX5_worthAt_137 : decode cX5_worthAt 137 = .ok (.goto (-133), 3) := dk_167 255 123 (dk_at dksX5_worthAt_5 20 rfl rfl)
theorem dX5_worthAt_140 : decode cX5_worthAt 140 = .ok (.aload_n 0, 1) := dk_42 (dk_at dksX5_worthAt_5 23 rfl rfl)
theorem dX5_worthAt_141 : decode cX5_worthAt 141 = .ok (.getfield 138, 3) := dk_180 0 138 (dk_at dksX5_worthAt_6 0 rfl rfl)
theorem dX5_worthAt_144 : decode cX5_worthAt 144 = .ok (.iconst 0, 1) := dk_3 (dk_at dksX5_worthAt_6 3 rfl rfl)
theorem dX5_worthAt_145 : decode cX5_worthAt 145 = .ok (.iaload, 1) := dk_46 (dk_at dksX5_worthAt_6 4 rfl rfl)
theorem dX5_worthAt_146 : decode cX5_worthAt 146 = .ok (.ireturn, 1) := dk_172 (dk_at dksX5_worthAt_6 5 rfl rfl)
abbrev cX5_both : ByteArray := prog_26_method_44_code
def yX5_both : MethodName := ⟨RX5, "both", "(III)I"⟩
def dkwX5_both_4 : List UInt8 := [27, 154, 0, 7, 28, 153, 0, 7, 4, 167, 0, 4, 3, 172]
abbrev dktX5_both_4 : List UInt8 := dkwX5_both_4 ++ []
def dkwX5_both_3 : List UInt8 := [28, 160, 0, 7, 4, 167, 0, 4, 3, 172, 27, 153, 0, 11, 28, 153, 0, 7, 4, 167, 0, 4, 3, 172]
abbrev dktX5_both_3 : List UInt8 := dkwX5_both_3 ++ dktX5_both_4
def dkwX5_both_2 : List UInt8 := [27, 28, 96, 172, 27, 28, 100, 172, 27, 28, 104, 172, 27, 28, 162, 0, 7, 4, 167, 0, 4, 3, 172, 27]
abbrev dktX5_both_2 : List UInt8 := dkwX5_both_2 ++ dktX5_both_3
def dkwX5_both_1 : List UInt8 := [170, 0, 0, 0, 0, 0, 87, 0, 0, 0, 4, 0, 0, 0, 9, 0, 0, 0, 39, 0, 0, 0, 43, 0, 0, 0, 47, 0, 0, 0, 51, 0, 0, 0, 62, 0, 0, 0, 73]
abbrev dktX5_both_1 : List UInt8 := dkwX5_both_1 ++ dktX5_both_2
def dkwX5_both_0 : List UInt8 := [26]
abbrev dktX5_both_0 : List UInt8 := dkwX5_both_0 ++ dktX5_both_1
theorem dksX5_both_0 : cX5_both.data.toList.drop 0 = dktX5_both_0 := by decide +kernel
theorem dksX5_both_1 : cX5_both.data.toList.drop 1 = dktX5_both_1 := dk_seg dksX5_both_0 1 rfl rfl
theorem dksX5_both_2 : cX5_both.data.toList.drop 40 = dktX5_both_2 := dk_seg dksX5_both_1 39 rfl rfl
theorem dksX5_both_3 : cX5_both.data.toList.drop 64 = dktX5_both_3 := dk_seg dksX5_both_2 24 rfl rfl
theorem dksX5_both_4 : cX5_both.data.toList.drop 88 = dktX5_both_4 := dk_seg dksX5_both_3 24 rfl rfl
theorem dX5_both_0 : decode cX5_both 0 = .ok (.iload_n 0, 1) := dk_26 (dk_at dksX5_both_0 0 rfl rfl)
theorem dX5_both_1 : decode cX5_both 1 = .ok (.tableswitch 87 4 9 #[39, 43, 47, 51, 62, 73], 39) := by decide +kernel
theorem dX5_both_40 : decode cX5_both 40 = .ok (.iload_n 1, 1) := dk_27 (dk_at dksX5_both_2 0 rfl rfl)
theorem dX5_both_41 : decode cX5_both 41 = .ok (.iload_n 2, 1) := dk_28 (dk_at dksX5_both_2 1 rfl rfl)
theorem dX5_both_42 : decode cX5_both 42 = .ok (.iadd, 1) := dk_96 (dk_at dksX5_both_2 2 rfl rfl)
theorem dX5_both_43 : decode cX5_both 43 = .ok (.ireturn, 1) := dk_172 (dk_at dksX5_both_2 3 rfl rfl)
theorem dX5_both_44 : decode cX5_both 44 = .ok (.iload_n 1, 1) := dk_27 (dk_at dksX5_both_2 4 rfl rfl)
theorem dX5_both_45 : decode cX5_both 45 = .ok (.iload_n 2, 1) := dk_28 (dk_at dksX5_both_2 5 rfl rfl)
theorem dX5_both_46 : decode cX5_both 46 = .ok (.isub, 1) := dk_100 (dk_at dksX5_both_2 6 rfl rfl)
theorem dX5_both_47 : decode cX5_both 47 = .ok (.ireturn, 1) := dk_172 (dk_at dksX5_both_2 7 rfl rfl)
theorem dX5_both_48 : decode cX5_both 48 = .ok (.iload_n 1, 1) := dk_27 (dk_at dksX5_both_2 8 rfl rfl)
theorem dX5_both_49 : decode cX5_both 49 = .ok (.iload_n 2, 1) := dk_28 (dk_at dksX5_both_2 9 rfl rfl)
theorem dX5_both_50 : decode cX5_both 50 = .ok (.imul, 1) := dk_104 (dk_at dksX5_both_2 10 rfl rfl)
theorem dX5_both_51 : decode cX5_both 51 = .ok (.ireturn, 1) := dk_172 (dk_at dksX5_both_2 11 rfl rfl)
theorem dX5_both_52 : decode cX5_both 52 = .ok (.iload_n 1, 1) := dk_27 (dk_at dksX5_both_2 12 rfl rfl)
theorem dX5_both_53 : decode cX5_both 53 = .ok (.iload_n 2, 1) := dk_28 (dk_at dksX5_both_2 13 rfl rfl)
theorem dX5_both_54 : decode cX5_both 54 = .ok (.if_icmp .ge 7, 3) := dk_162 0 7 (dk_at dksX5_both_2 14 rfl rfl)
theorem dX5_both_57 : decode cX5_both 57 = .ok (.iconst 1, 1) := dk_4 (dk_at dksX5_both_2 17 rfl rfl)
theorem dX5_both_58 : decode cX5_both 58 = .ok (.goto 4, 3) := dk_167 0 4 (dk_at dksX5_both_2 18 rfl rfl)
theorem dX5_both_61 : decode cX5_both 61 = .ok (.iconst 0, 1) := dk_3 (dk_at dksX5_both_2 21 rfl rfl)
theorem dX5_both_62 : decode cX5_both 62 = .ok (.ireturn, 1) := dk_172 (dk_at dksX5_both_2 22 rfl rfl)
theorem dX5_both_63 : decode cX5_both 63 = .ok (.iload_n 1, 1) := dk_27 (dk_at dksX5_both_2 23 rfl rfl)
theorem dX5_both_64 : decode cX5_both 64 = .ok (.iload_n 2, 1) := dk_28 (dk_at dksX5_both_3 0 rfl rfl)
theorem dX5_both_65 : decode cX5_both 65 = .ok (.if_icmp .ne 7, 3) := dk_160 0 7 (dk_at dksX5_both_3 1 rfl rfl)
theorem dX5_both_68 : decode cX5_both 68 = .ok (.iconst 1, 1) := dk_4 (dk_at dksX5_both_3 4 rfl rfl)
theorem dX5_both_69 : decode cX5_both 69 = .ok (.goto 4, 3) := dk_167 0 4 (dk_at dksX5_both_3 5 rfl rfl)
theorem dX5_both_72 : decode cX5_both 72 = .ok (.iconst 0, 1) := dk_3 (dk_at dksX5_both_3 8 rfl rfl)
theorem dX5_both_73 : decode cX5_both 73 = .ok (.ireturn, 1) := dk_172 (dk_at dksX5_both_3 9 rfl rfl)
theorem dX5_both_74 : decode cX5_both 74 = .ok (.iload_n 1, 1) := dk_27 (dk_at dksX5_both_3 10 rfl rfl)
theorem dX5_both_75 : decode cX5_both 75 = .ok (.ifCond .eq 11, 3) := dk_153 0 11 (dk_at dksX5_both_3 11 rfl rfl)
theorem dX5_both_78 : decode cX5_both 78 = .ok (.iload_n 2, 1) := dk_28 (dk_at dksX5_both_3 14 rfl rfl)
theorem dX5_both_79 : decode cX5_both 79 = .ok (.ifCond .eq 7, 3) := dk_153 0 7 (dk_at dksX5_both_3 15 rfl rfl)
theorem dX5_both_82 : decode cX5_both 82 = .ok (.iconst 1, 1) := dk_4 (dk_at dksX5_both_3 18 rfl rfl)
theorem dX5_both_83 : decode cX5_both 83 = .ok (.goto 4, 3) := dk_167 0 4 (dk_at dksX5_both_3 19 rfl rfl)
theorem dX5_both_86 : decode cX5_both 86 = .ok (.iconst 0, 1) := dk_3 (dk_at dksX5_both_3 22 rfl rfl)
theorem dX5_both_87 : decode cX5_both 87 = .ok (.ireturn, 1) := dk_172 (dk_at dksX5_both_3 23 rfl rfl)
theorem dX5_both_88 : decode cX5_both 88 = .ok (.iload_n 1, 1) := dk_27 (dk_at dksX5_both_4 0 rfl rfl)
theorem dX5_both_89 : decode cX5_both 89 = .ok (.ifCond .ne 7, 3) := dk_154 0 7 (dk_at dksX5_both_4 1 rfl rfl)
theorem dX5_both_92 : decode cX5_both 92 = .ok (.iload_n 2, 1) := dk_28 (dk_at dksX5_both_4 4 rfl rfl)
theorem dX5_both_93 : decode cX5_both 93 = .ok (.ifCond .eq 7, 3) := dk_153 0 7 (dk_at dksX5_both_4 5 rfl rfl)
theorem dX5_both_96 : decode cX5_both 96 = .ok (.iconst 1, 1) := dk_4 (dk_at dksX5_both_4 8 rfl rfl)
theorem dX5_both_97 : decode cX5_both 97 = .ok (.goto 4, 3) := dk_167 0 4 (dk_at dksX5_both_4 9 rfl rfl)
theorem dX5_both_100 : decode cX5_both 100 = .ok (.iconst 0, 1) := dk_3 (dk_at dksX5_both_4 12 rfl rfl)
theorem dX5_both_101 : decode cX5_both 101 = .ok (.ireturn, 1) := dk_172 (dk_at dksX5_both_4 13 rfl rfl)
abbrev cX5_move : ByteArray := prog_26_method_80_code
def yX5_move : MethodName := ⟨RX5, "move", "(II)Z"⟩
def dkwX5_move_1 : List UInt8 := [28, 182, 1, 145, 154, 0, 5, 3, 172, 42, 182, 1, 130, 42, 180, 0, 141, 4, 27, 96, 28, 79, 4, 172]
abbrev dktX5_move_1 : List UInt8 := dkwX5_move_1 ++ []
def dkwX5_move_0 : List UInt8 := [42, 3, 181, 0, 1, 42, 27, 182, 1, 90, 153, 0, 21, 42, 28, 182, 1, 124, 153, 0, 13, 42, 3, 27]
abbrev dktX5_move_0 : List UInt8 := dkwX5_move_0 ++ dktX5_move_1
theorem dksX5_move_0 : cX5_move.data.toList.drop 0 = dktX5_move_0 := by decide +kernel
theorem dksX5_move_1 : cX5_move.data.toList.drop 24 = dktX5_move_1 := dk_seg dksX5_move_0 24 rfl rfl
theorem dX5_move_0 : decode cX5_move 0 = .ok (.aload_n 0, 1) := dk_42 (dk_at dksX5_move_0 0 rfl rfl)
theorem dX5_move_1 : decode cX5_move 1 = .ok (.iconst 0, 1) := dk_3 (dk_at dksX5_move_0 1 rfl rfl)
theorem dX5_move_2 : decode cX5_move 2 = .ok (.putfield 1, 3) := dk_181 0 1 (dk_at dksX5_move_0 2 rfl rfl)
theorem dX5_move_5 : decode cX5_move 5 = .ok (.aload_n 0, 1) := dk_42 (dk_at dksX5_move_0 5 rfl rfl)
theorem dX5_move_6 : decode cX5_move 6 = .ok (.iload_n 1, 1) := dk_27 (dk_at dksX5_move_0 6 rfl rfl)
theorem dX5_move_7 : decode cX5_move 7 = .ok (.invokevirtual 346, 3) := dk_182 1 90 (dk_at dksX5_move_0 7 rfl rfl)
theorem dX5_move_10 : decode cX5_move 10 = .ok (.ifCond .eq 21, 3) := dk_153 0 21 (dk_at dksX5_move_0 10 rfl rfl)
theorem dX5_move_13 : decode cX5_move 13 = .ok (.aload_n 0, 1) := dk_42 (dk_at dksX5_move_0 13 rfl rfl)
theorem dX5_move_14 : decode cX5_move 14 = .ok (.iload_n 2, 1) := dk_28 (dk_at dksX5_move_0 14 rfl rfl)
theorem dX5_move_15 : decode cX5_move 15 = .ok (.invokevirtual 380, 3) := dk_182 1 124 (dk_at dksX5_move_0 15 rfl rfl)
theorem dX5_move_18 : decode cX5_move 18 = .ok (.ifCond .eq 13, 3) := dk_153 0 13 (dk_at dksX5_move_0 18 rfl rfl)
theorem dX5_move_21 : decode cX5_move 21 = .ok (.aload_n 0, 1) := dk_42 (dk_at dksX5_move_0 21 rfl rfl)
theorem dX5_move_22 : decode cX5_move 22 = .ok (.iconst 0, 1) := dk_3 (dk_at dksX5_move_0 22 rfl rfl)
theorem dX5_move_23 : decode cX5_move 23 = .ok (.iload_n 1, 1) := dk_27 (dk_at dksX5_move_0 23 rfl rfl)
theorem dX5_move_24 : decode cX5_move 24 = .ok (.iload_n 2, 1) := dk_28 (dk_at dksX5_move_1 0 rfl rfl)
theorem dX5_move_25 : decode cX5_move 25 = .ok (.invokevirtual 401, 3) := dk_182 1 145 (dk_at dksX5_move_1 1 rfl rfl)
theorem dX5_move_28 : decode cX5_move 28 = .ok (.ifCond .ne 5, 3) := dk_154 0 5 (dk_at dksX5_move_1 4 rfl rfl)
theorem dX5_move_31 : decode cX5_move 31 = .ok (.iconst 0, 1) := dk_3 (dk_at dksX5_move_1 7 rfl rfl)
theorem dX5_move_32 : decode cX5_move 32 = .ok (.ireturn, 1) := dk_172 (dk_at dksX5_move_1 8 rfl rfl)
theorem dX5_move_33 : decode cX5_move 33 = .ok (.aload_n 0, 1) := dk_42 (dk_at dksX5_move_1 9 rfl rfl)
theorem dX5_move_34 : decode cX5_move 34 = .ok (.invokevirtual 386, 3) := dk_182 1 130 (dk_at dksX5_move_1 10 rfl rfl)
theorem dX5_move_37 : decode cX5_move 37 = .ok (.aload_n 0, 1) := dk_42 (dk_at dksX5_move_1 13 rfl rfl)
theorem dX5_move_38 : decode cX5_move 38 = .ok (.getfield 141, 3) := dk_180 0 141 (dk_at dksX5_move_1 14 rfl rfl)
theorem dX5_move_41 : decode cX5_move 41 = .ok (.iconst 1, 1) := dk_4 (dk_at dksX5_move_1 17 rfl rfl)
theorem dX5_move_42 : decode cX5_move 42 = .ok (.iload_n 1, 1) := dk_27 (dk_at dksX5_move_1 18 rfl rfl)
theorem dX5_move_43 : decode cX5_move 43 = .ok (.iadd, 1) := dk_96 (dk_at dksX5_move_1 19 rfl rfl)
theorem dX5_move_44 : decode cX5_move 44 = .ok (.iload_n 2, 1) := dk_28 (dk_at dksX5_move_1 20 rfl rfl)
theorem dX5_move_45 : decode cX5_move 45 = .ok (.iastore, 1) := dk_79 (dk_at dksX5_move_1 21 rfl rfl)
theorem dX5_move_46 : decode cX5_move 46 = .ok (.iconst 1, 1) := dk_4 (dk_at dksX5_move_1 22 rfl rfl)
theorem dX5_move_47 : decode cX5_move 47 = .ok (.ireturn, 1) := dk_172 (dk_at dksX5_move_1 23 rfl rfl)
abbrev cX5_mayMove : ByteArray := prog_26_method_79_code
def yX5_mayMove : MethodName := ⟨RX5, "mayMove", "(III)Z"⟩
def dkwX5_mayMove_1 : List UInt8 := [167, 0, 4, 3, 172]
abbrev dktX5_mayMove_1 : List UInt8 := dkwX5_mayMove_1 ++ []
def dkwX5_mayMove_0 : List UInt8 := [42, 180, 0, 141, 27, 16, 37, 96, 28, 96, 46, 154, 0, 16, 42, 27, 29, 182, 1, 127, 156, 0, 7, 4]
abbrev dktX5_mayMove_0 : List UInt8 := dkwX5_mayMove_0 ++ dktX5_mayMove_1
theorem dksX5_mayMove_0 : cX5_mayMove.data.toList.drop 0 = dktX5_mayMove_0 := by decide +kernel
theorem dksX5_mayMove_1 : cX5_mayMove.data.toList.drop 24 = dktX5_mayMove_1 := dk_seg dksX5_mayMove_0 24 rfl rfl
theorem dX5_mayMove_0 : decode cX5_mayMove 0 = .ok (.aload_n 0, 1) := dk_42 (dk_at dksX5_mayMove_0 0 rfl rfl)
theorem dX5_mayMove_1 : decode cX5_mayMove 1 = .ok (.getfield 141, 3) := dk_180 0 141 (dk_at dksX5_mayMove_0 1 rfl rfl)
theorem dX5_mayMove_4 : decode cX5_mayMove 4 = .ok (.iload_n 1, 1) := dk_27 (dk_at dksX5_mayMove_0 4 rfl rfl)
theorem dX5_mayMove_5 : decode cX5_mayMove 5 = .ok (.bipush 37, 2) := dk_16 37 (dk_at dksX5_mayMove_0 5 rfl rfl)
theorem dX5_mayMove_7 : decode cX5_mayMove 7 = .ok (.iadd, 1) := dk_96 (dk_at dksX5_mayMove_0 7 rfl rfl)
theorem dX5_mayMove_8 : decode cX5_mayMove 8 = .ok (.iload_n 2, 1) := dk_28 (dk_at dksX5_mayMove_0 8 rfl rfl)
theorem dX5_mayMove_9 : decode cX5_mayMove 9 = .ok (.iadd, 1) := dk_96 (dk_at dksX5_mayMove_0 9 rfl rfl)
theorem dX5_mayMove_10 : decode cX5_mayMove 10 = .ok (.iaload, 1) := dk_46 (dk_at dksX5_mayMove_0 10 rfl rfl)
theorem dX5_mayMove_11 : decode cX5_mayMove 11 = .ok (.ifCond .ne 16, 3) := dk_154 0 16 (dk_at dksX5_mayMove_0 11 rfl rfl)
theorem dX5_mayMove_14 : decode cX5_mayMove 14 = .ok (.aload_n 0, 1) := dk_42 (dk_at dksX5_mayMove_0 14 rfl rfl)
theorem dX5_mayMove_15 : decode cX5_mayMove 15 = .ok (.iload_n 1, 1) := dk_27 (dk_at dksX5_mayMove_0 15 rfl rfl)
theorem dX5_mayMove_16 : decode cX5_mayMove 16 = .ok (.iload_n 3, 1) := dk_29 (dk_at dksX5_mayMove_0 16 rfl rfl)
theorem dX5_mayMove_17 : decode cX5_mayMove 17 = .ok (.invokevirtual 383, 3) := dk_182 1 127 (dk_at dksX5_mayMove_0 17 rfl rfl)
theorem dX5_mayMove_20 : decode cX5_mayMove 20 = .ok (.ifCond .ge 7, 3) := dk_156 0 7 (dk_at dksX5_mayMove_0 20 rfl rfl)
theorem dX5_mayMove_23 : decode cX5_mayMove 23 = .ok (.iconst 1, 1) := dk_4 (dk_at dksX5_mayMove_0 23 rfl rfl)
theorem dX5_mayMove_24 : decode cX5_mayMove 24 = .ok (.goto 4, 3) := dk_167 0 4 (dk_at dksX5_mayMove_1 0 rfl rfl)
theorem dX5_mayMove_27 : decode cX5_mayMove 27 = .ok (.iconst 0, 1) := dk_3 (dk_at dksX5_mayMove_1 3 rfl rfl)
theorem dX5_mayMove_28 : decode cX5_mayMove 28 = .ok (.ireturn, 1) := dk_172 (dk_at dksX5_mayMove_1 4 rfl rfl)
abbrev cX5_undo : ByteArray := prog_26_method_81_code
def yX5_undo : MethodName := ⟨RX5, "undo", "()Z"⟩
def dkwX5_undo_1 : List UInt8 := [42, 16, 56, 8, 42, 180, 1, 80, 96, 104, 3, 16, 43, 182, 1, 83, 4, 172]
abbrev dktX5_undo_1 : List UInt8 := dkwX5_undo_1 ++ []
def dkwX5_undo_0 : List UInt8 := [42, 3, 181, 0, 1, 42, 180, 1, 80, 154, 0, 5, 3, 172, 42, 89, 180, 1, 80, 4, 100, 181, 1, 80]
abbrev dktX5_undo_0 : List UInt8 := dkwX5_undo_0 ++ dktX5_undo_1
theorem dksX5_undo_0 : cX5_undo.data.toList.drop 0 = dktX5_undo_0 := by decide +kernel
theorem dksX5_undo_1 : cX5_undo.data.toList.drop 24 = dktX5_undo_1 := dk_seg dksX5_undo_0 24 rfl rfl
theorem dX5_undo_0 : decode cX5_undo 0 = .ok (.aload_n 0, 1) := dk_42 (dk_at dksX5_undo_0 0 rfl rfl)
theorem dX5_undo_1 : decode cX5_undo 1 = .ok (.iconst 0, 1) := dk_3 (dk_at dksX5_undo_0 1 rfl rfl)
theorem dX5_undo_2 : decode cX5_undo 2 = .ok (.putfield 1, 3) := dk_181 0 1 (dk_at dksX5_undo_0 2 rfl rfl)
theorem dX5_undo_5 : decode cX5_undo 5 = .ok (.aload_n 0, 1) := dk_42 (dk_at dksX5_undo_0 5 rfl rfl)
theorem dX5_undo_6 : decode cX5_undo 6 = .ok (.getfield 336, 3) := dk_180 1 80 (dk_at dksX5_undo_0 6 rfl rfl)
theorem dX5_undo_9 : decode cX5_undo 9 = .ok (.ifCond .ne 5, 3) := dk_154 0 5 (dk_at dksX5_undo_0 9 rfl rfl)
theorem dX5_undo_12 : decode cX5_undo 12 = .ok (.iconst 0, 1) := dk_3 (dk_at dksX5_undo_0 12 rfl rfl)
theorem dX5_undo_13 : decode cX5_undo 13 = .ok (.ireturn, 1) := dk_172 (dk_at dksX5_undo_0 13 rfl rfl)
theorem dX5_undo_14 : decode cX5_undo 14 = .ok (.aload_n 0, 1) := dk_42 (dk_at dksX5_undo_0 14 rfl rfl)
theorem dX5_undo_15 : decode cX5_undo 15 = .ok (.dup, 1) := dk_89 (dk_at dksX5_undo_0 15 rfl rfl)
theorem dX5_undo_16 : decode cX5_undo 16 = .ok (.getfield 336, 3) := dk_180 1 80 (dk_at dksX5_undo_0 16 rfl rfl)
theorem dX5_undo_19 : decode cX5_undo 19 = .ok (.iconst 1, 1) := dk_4 (dk_at dksX5_undo_0 19 rfl rfl)
theorem dX5_undo_20 : decode cX5_undo 20 = .ok (.isub, 1) := dk_100 (dk_at dksX5_undo_0 20 rfl rfl)
theorem dX5_undo_21 : decode cX5_undo 21 = .ok (.putfield 336, 3) := dk_181 1 80 (dk_at dksX5_undo_0 21 rfl rfl)
theorem dX5_undo_24 : decode cX5_undo 24 = .ok (.aload_n 0, 1) := dk_42 (dk_at dksX5_undo_1 0 rfl rfl)
theorem dX5_undo_25 : decode cX5_undo 25 = .ok (.bipush 56, 2) := dk_16 56 (dk_at dksX5_undo_1 1 rfl rfl)
theorem dX5_undo_27 : decode cX5_undo 27 = .ok (.iconst 5, 1) := dk_8 (dk_at dksX5_undo_1 3 rfl rfl)
theorem dX5_undo_28 : decode cX5_undo 28 = .ok (.aload_n 0, 1) := dk_42 (dk_at dksX5_undo_1 4 rfl rfl)
theorem dX5_undo_29 : decode cX5_undo 29 = .ok (.getfield 336, 3) := dk_180 1 80 (dk_at dksX5_undo_1 5 rfl rfl)
theorem dX5_undo_32 : decode cX5_undo 32 = .ok (.iadd, 1) := dk_96 (dk_at dksX5_undo_1 8 rfl rfl)
theorem dX5_undo_33 : decode cX5_undo 33 = .ok (.imul, 1) := dk_104 (dk_at dksX5_undo_1 9 rfl rfl)
theorem dX5_undo_34 : decode cX5_undo 34 = .ok (.iconst 0, 1) := dk_3 (dk_at dksX5_undo_1 10 rfl rfl)
theorem dX5_undo_35 : decode cX5_undo 35 = .ok (.bipush 43, 2) := dk_16 43 (dk_at dksX5_undo_1 11 rfl rfl)
theorem dX5_undo_37 : decode cX5_undo 37 = .ok (.invokevirtual 339, 3) := dk_182 1 83 (dk_at dksX5_undo_1 13 rfl rfl)
theorem dX5_undo_40 : decode cX5_undo 40 = .ok (.iconst 1, 1) := dk_4 (dk_at dksX5_undo_1 16 rfl rfl)
theorem dX5_undo_41 : decode cX5_undo 41 = .ok (.ireturn, 1) := dk_172 (dk_at dksX5_undo_1 17 rfl rfl)
abbrev cX5_judged : ByteArray := prog_26_method_83_code
def yX5_judged : MethodName := ⟨RX5, "judged", "(I)I"⟩
def dkwX5_judged_5 : List UInt8 := [182, 1, 151, 172]
abbrev dktX5_judged_5 : List UInt8 := dkwX5_judged_5 ++ []
def dkwX5_judged_4 : List UInt8 := [167, 255, 193, 27, 154, 0, 7, 28, 167, 0, 19, 27, 4, 160, 0, 7, 29, 167, 0, 10, 42, 17, 4, 152]
abbrev dktX5_judged_4 : List UInt8 := dkwX5_judged_4 ++ dktX5_judged_5
def dkwX5_judged_3 : List UInt8 := [156, 0, 18, 42, 17, 4, 152, 182, 1, 151, 158, 0, 8, 21, 4, 167, 0, 4, 29, 62, 132, 4, 1]
abbrev dktX5_judged_3 : List UInt8 := dkwX5_judged_3 ++ dktX5_judged_4
def dkwX5_judged_2 : List UInt8 := [96, 182, 1, 148, 54, 5, 21, 5, 154, 0, 12, 28, 156, 0, 8, 21, 4, 167, 0, 4, 28, 61, 29]
abbrev dktX5_judged_2 : List UInt8 := dkwX5_judged_2 ++ dktX5_judged_3
def dkwX5_judged_1 : List UInt8 := [2, 61, 2, 62, 3, 54, 4, 21, 4, 42, 180, 0, 132, 3, 46, 162, 0, 58, 42, 4, 6, 21, 4, 104]
abbrev dktX5_judged_1 : List UInt8 := dkwX5_judged_1 ++ dktX5_judged_2
def dkwX5_judged_0 : List UInt8 := [42, 3, 181, 0, 1, 27, 3, 5, 184, 0, 241, 154, 0, 6, 16, 254, 172, 42, 17, 4, 152, 182, 1, 77]
abbrev dktX5_judged_0 : List UInt8 := dkwX5_judged_0 ++ dktX5_judged_1
theorem dksX5_judged_0 : cX5_judged.data.toList.drop 0 = dktX5_judged_0 := by decide +kernel
theorem dksX5_judged_1 : cX5_judged.data.toList.drop 24 = dktX5_judged_1 := dk_seg dksX5_judged_0 24 rfl rfl
theorem dksX5_judged_2 : cX5_judged.data.toList.drop 48 = dktX5_judged_2 := dk_seg dksX5_judged_1 24 rfl rfl
theorem dksX5_judged_3 : cX5_judged.data.toList.drop 71 = dktX5_judged_3 := dk_seg dksX5_judged_2 23 rfl rfl
theorem dksX5_judged_4 : cX5_judged.data.toList.drop 94 = dktX5_judged_4 := dk_seg dksX5_judged_3 23 rfl rfl
theorem dksX5_judged_5 : cX5_judged.data.toList.drop 118 = dktX5_judged_5 := dk_seg dksX5_judged_4 24 rfl rfl
theorem dX5_judged_0 : decode cX5_judged 0 = .ok (.aload_n 0, 1) := dk_42 (dk_at dksX5_judged_0 0 rfl rfl)
theorem dX5_judged_1 : decode cX5_judged 1 = .ok (.iconst 0, 1) := dk_3 (dk_at dksX5_judged_0 1 rfl rfl)
theorem dX5_judged_2 : decode cX5_judged 2 = .ok (.putfield 1, 3) := dk_181 0 1 (dk_at dksX5_judged_0 2 rfl rfl)
theorem dX5_judged_5 : decode cX5_judged 5 = .ok (.iload_n 1, 1) := dk_27 (dk_at dksX5_judged_0 5 rfl rfl)
theorem dX5_judged_6 : decode cX5_judged 6 = .ok (.iconst 0, 1) := dk_3 (dk_at dksX5_judged_0 6 rfl rfl)
theorem dX5_judged_7 : decode cX5_judged 7 = .ok (.iconst 2, 1) := dk_5 (dk_at dksX5_judged_0 7 rfl rfl)
theorem dX5_judged_8 : decode cX5_judged 8 = .ok (.invokestatic 241, 3) := dk_184 0 241 (dk_at dksX5_judged_0 8 rfl rfl)
theorem dX5_judged_11 : decode cX5_judged 11 = .ok (.ifCond .ne 6, 3) := dk_154 0 6 (dk_at dksX5_judged_0 11 rfl rfl)
theorem dX5_judged_14 : decode cX5_judged 14 = .ok (.bipush (-2), 2) := dk_16 254 (dk_at dksX5_judged_0 14 rfl rfl)
theorem dX5_judged_16 : decode cX5_judged 16 = .ok (.ireturn, 1) := dk_172 (dk_at dksX5_judged_0 16 rfl rfl)
theorem dX5_judged_17 : decode cX5_judged 17 = .ok (.aload_n 0, 1) := dk_42 (dk_at dksX5_judged_0 17 rfl rfl)
theorem dX5_judged_18 : decode cX5_judged 18 = .ok (.sipush 1176, 3) := dk_17 4 152 (dk_at dksX5_judged_0 18 rfl rfl)
theorem dX5_judged_21 : decode cX5_judged 21 = .ok (.invokevirtual 333, 3) := dk_182 1 77 (dk_at dksX5_judged_0 21 rfl rfl)
theorem dX5_judged_24 : decode cX5_judged 24 = .ok (.iconst (-1), 1) := dk_2 (dk_at dksX5_judged_1 0 rfl rfl)
theorem dX5_judged_25 : decode cX5_judged 25 = .ok (.istore_n 2, 1) := dk_61 (dk_at dksX5_judged_1 1 rfl rfl)
theorem dX5_judged_26 : decode cX5_judged 26 = .ok (.iconst (-1), 1) := dk_2 (dk_at dksX5_judged_1 2 rfl rfl)
theorem dX5_judged_27 : decode cX5_judged 27 = .ok (.istore_n 3, 1) := dk_62 (dk_at dksX5_judged_1 3 rfl rfl)
theorem dX5_judged_28 : decode cX5_judged 28 = .ok (.iconst 0, 1) := dk_3 (dk_at dksX5_judged_1 4 rfl rfl)
theorem dX5_judged_29 : decode cX5_judged 29 = .ok (.istore 4, 2) := dk_54 4 (dk_at dksX5_judged_1 5 rfl rfl)
theorem dX5_judged_31 : decode cX5_judged 31 = .ok (.iload 4, 2) := dk_21 4 (dk_at dksX5_judged_1 7 rfl rfl)
theorem dX5_judged_33 : decode cX5_judged 33 = .ok (.aload_n 0, 1) := dk_42 (dk_at dksX5_judged_1 9 rfl rfl)
theorem dX5_judged_34 : decode cX5_judged 34 = .ok (.getfield 132, 3) := dk_180 0 132 (dk_at dksX5_judged_1 10 rfl rfl)
theorem dX5_judged_37 : decode cX5_judged 37 = .ok (.iconst 0, 1) := dk_3 (dk_at dksX5_judged_1 13 rfl rfl)
theorem dX5_judged_38 : decode cX5_judged 38 = .ok (.iaload, 1) := dk_46 (dk_at dksX5_judged_1 14 rfl rfl)
theorem dX5_judged_39 : decode cX5_judged 39 = .ok (.if_icmp .ge 58, 3) := dk_162 0 58 (dk_at dksX5_judged_1 15 rfl rfl)
theorem dX5_judged_42 : decode cX5_judged 42 = .ok (.aload_n 0, 1) := dk_42 (dk_at dksX5_judged_1 18 rfl rfl)
theorem dX5_judged_43 : decode cX5_judged 43 = .ok (.iconst 1, 1) := dk_4 (dk_at dksX5_judged_1 19 rfl rfl)
theorem dX5_judged_44 : decode cX5_judged 44 = .ok (.iconst 3, 1) := dk_6 (dk_at dksX5_judged_1 20 rfl rfl)
theorem dX5_judged_45 : decode cX5_judged 45 = .ok (.iload 4, 2) := dk_21 4 (dk_at dksX5_judged_1 21 rfl rfl)
theorem dX5_judged_47 : decode cX5_judged 47 = .ok (.imul, 1) := dk_104 (dk_at dksX5_judged_1 23 rfl rfl)
theorem dX5_judged_48 : decode cX5_judged 48 = .ok (.iadd, 1) := dk_96 (dk_at dksX5_judged_2 0 rfl rfl)
theorem dX5_judged_49 : decode cX5_judged 49 = .ok (.invokevirtual 404, 3) := dk_182 1 148 (dk_at dksX5_judged_2 1 rfl rfl)
theorem dX5_judged_52 : decode cX5_judged 52 = .ok (.istore 5, 2) := dk_54 5 (dk_at dksX5_judged_2 4 rfl rfl)
theorem dX5_judged_54 : decode cX5_judged 54 = .ok (.iload 5, 2) := dk_21 5 (dk_at dksX5_judged_2 6 rfl rfl)
theorem dX5_judged_56 : decode cX5_judged 56 = .ok (.ifCond .ne 12, 3) := dk_154 0 12 (dk_at dksX5_judged_2 8 rfl rfl)
theorem dX5_judged_59 : decode cX5_judged 59 = .ok (.iload_n 2, 1) := dk_28 (dk_at dksX5_judged_2 11 rfl rfl)
theorem dX5_judged_60 : decode cX5_judged 60 = .ok (.ifCond .ge 8, 3) := dk_156 0 8 (dk_at dksX5_judged_2 12 rfl rfl)
theorem dX5_judged_63 : decode cX5_judged 63 = .ok (.iload 4, 2) := dk_21 4 (dk_at dksX5_judged_2 15 rfl rfl)
theorem dX5_judged_65 : decode cX5_judged 65 = .ok (.goto 4, 3) := dk_167 0 4 (dk_at dksX5_judged_2 17 rfl rfl)
theorem dX5_judged_68 : decode cX5_judged 68 = .ok (.iload_n 2, 1) := dk_28 (dk_at dksX5_judged_2 20 rfl rfl)
theorem dX5_judged_69 : decode cX5_judged 69 = .ok (.istore_n 2, 1) := dk_61 (dk_at dksX5_judged_2 21 rfl rfl)
theorem dX5_judged_70 : decode cX5_judged 70 = .ok (.iload_n 3, 1) := dk_29 (dk_at dksX5_judged_2 22 rfl rfl)
theorem dX5_judged_71 : decode cX5_judged 71 = .ok (.ifCond .ge 18, 3) := dk_156 0 18 (dk_at dksX5_judged_3 0 rfl rfl)
theorem dX5_judged_74 : decode cX5_judged 74 = .ok (.aload_n 0, 1) := dk_42 (dk_at dksX5_judged_3 3 rfl rfl)
theorem dX5_judged_75 : decode cX5_judged 75 = .ok (.sipush 1176, 3) := dk_17 4 152 (dk_at dksX5_judged_3 4 rfl rfl)
theorem dX5_judged_78 : decode cX5_judged 78 = .ok (.invokevirtual 407, 3) := dk_182 1 151 (dk_at dksX5_judged_3 7 rfl rfl)
theorem dX5_judged_81 : decode cX5_judged 81 = .ok (.ifCond .le 8, 3) := dk_158 0 8 (dk_at dksX5_judged_3 10 rfl rfl)
theorem dX5_judged_84 : decode cX5_judged 84 = .ok (.iload 4, 2) := dk_21 4 (dk_at dksX5_judged_3 13 rfl rfl)
theorem dX5_judged_86 : decode cX5_judged 86 = .ok (.goto 4, 3) := dk_167 0 4 (dk_at dksX5_judged_3 15 rfl rfl)
theorem dX5_judged_89 : decode cX5_judged 89 = .ok (.iload_n 3, 1) := dk_29 (dk_at dksX5_judged_3 18 rfl rfl)
theorem dX5_judged_90 : decode cX5_judged 90 = .ok (.istore_n 3, 1) := dk_62 (dk_at dksX5_judged_3 19 rfl rfl)
theorem dX5_judged_91 : decode cX5_judged 91 = .ok (.iinc 4 1, 3) := dk_132 4 1 (dk_at dksX5_judged_3 20 rfl rfl)
theorem dX5_judged_94 : decode cX5_judged 94 = .ok (.goto (-63), 3) := dk_167 255 193 (dk_at dksX5_judged_4 0 rfl rfl)
theorem dX5_judged_97 : decode cX5_judged 97 = .ok (.iload_n 1, 1) := dk_27 (dk_at dksX5_judged_4 3 rfl rfl)
theorem dX5_judged_98 : decode cX5_judged 98 = .ok (.ifCond .ne 7, 3) := dk_154 0 7 (dk_at dksX5_judged_4 4 rfl rfl)
theorem dX5_judged_101 : decode cX5_judged 101 = .ok (.iload_n 2, 1) := dk_28 (dk_at dksX5_judged_4 7 rfl rfl)
theorem dX5_judged_102 : decode cX5_judged 102 = .ok (.goto 19, 3) := dk_167 0 19 (dk_at dksX5_judged_4 8 rfl rfl)
theorem dX5_judged_105 : decode cX5_judged 105 = .ok (.iload_n 1, 1) := dk_27 (dk_at dksX5_judged_4 11 rfl rfl)
theorem dX5_judged_106 : decode cX5_judged 106 = .ok (.iconst 1, 1) := dk_4 (dk_at dksX5_judged_4 12 rfl rfl)
theorem dX5_judged_107 : decode cX5_judged 107 = .ok (.if_icmp .ne 7, 3) := dk_160 0 7 (dk_at dksX5_judged_4 13 rfl rfl)
theorem dX5_judged_110 : decode cX5_judged 110 = .ok (.iload_n 3, 1) := dk_29 (dk_at dksX5_judged_4 16 rfl rfl)
theorem dX5_judged_111 : decode cX5_judged 111 = .ok (.goto 10, 3) := dk_167 0 10 (dk_at dksX5_judged_4 17 rfl rfl)
theorem dX5_judged_114 : decode cX5_judged 114 = .ok (.aload_n 0, 1) := dk_42 (dk_at dksX5_judged_4 20 rfl rfl)
theorem dX5_judged_115 : decode cX5_judged 115 = .ok (.sipush 1176, 3) := dk_17 4 152 (dk_at dksX5_judged_4 21 rfl rfl)
theorem dX5_judged_118 : decode cX5_judged 118 = .ok (.invokevirtual 407, 3) := dk_182 1 151 (dk_at dksX5_judged_5 0 rfl rfl)
theorem dX5_judged_121 : decode cX5_judged 121 = .ok (.ireturn, 1) := dk_172 (dk_at dksX5_judged_5 3 rfl rfl)
abbrev cX5_does : ByteArray := prog_26_method_82_code
def yX5_does : MethodName := ⟨RX5, "does", "(I)Z"⟩
def dkwX5_does_9 : List UInt8 := [17, 4, 171, 29, 96, 42, 180, 0, 111, 7, 46, 79, 21, 4, 172]
abbrev dktX5_does_9 : List UInt8 := dkwX5_does_9 ++ []
def dkwX5_does_8 : List UInt8 := [180, 0, 132, 27, 5, 96, 46, 182, 1, 136, 167, 0, 24, 21, 4, 153, 0, 19, 42, 180, 0, 141]
abbrev dktX5_does_8 : List UInt8 := dkwX5_does_8 ++ dktX5_does_9
def dkwX5_does_7 : List UInt8 := [29, 182, 1, 133, 167, 0, 53, 21, 4, 153, 0, 27, 28, 4, 160, 0, 22, 42, 17, 4, 152, 29, 42]
abbrev dktX5_does_7 : List UInt8 := dkwX5_does_7 ++ dktX5_does_8
def dkwX5_does_6 : List UInt8 := [180, 0, 132, 27, 5, 96, 46, 79, 167, 0, 73, 21, 4, 153, 0, 18, 28, 154, 0, 14, 42, 17, 4, 152]
abbrev dktX5_does_6 : List UInt8 := dkwX5_does_6 ++ dktX5_does_7
def dkwX5_does_5 : List UInt8 := [167, 0, 104, 21, 4, 153, 0, 29, 28, 8, 160, 0, 24, 42, 180, 0, 141, 17, 4, 153, 29, 96, 42]
abbrev dktX5_does_5 : List UInt8 := dkwX5_does_5 ++ dktX5_does_6
def dkwX5_does_4 : List UInt8 := [132, 5, 1, 167, 255, 239, 167, 0, 120, 28, 7, 160, 0, 14, 42, 17, 4, 152, 182, 1, 142, 87]
abbrev dktX5_does_4 : List UInt8 := dkwX5_does_4 ++ dktX5_does_5
def dkwX5_does_3 : List UInt8 := [28, 6, 160, 0, 29, 3, 54, 5, 21, 5, 29, 162, 0, 17, 42, 17, 4, 152, 182, 1, 139, 87]
abbrev dktX5_does_3 : List UInt8 := dkwX5_does_3 ++ dktX5_does_4
def dkwX5_does_2 : List UInt8 := [153, 0, 21, 167, 0, 14, 42, 17, 4, 152, 29, 182, 1, 93, 153, 0, 7, 4, 167, 0, 4, 3, 54, 4]
abbrev dktX5_does_2 : List UInt8 := dkwX5_does_2 ++ dktX5_does_3
def dkwX5_does_1 : List UInt8 := [159, 0, 41, 28, 8, 160, 0, 25, 42, 17, 4, 152, 29, 42, 180, 0, 132, 27, 5, 96, 46, 182, 1, 145]
abbrev dktX5_does_1 : List UInt8 := dkwX5_does_1 ++ dktX5_does_2
def dkwX5_does_0 : List UInt8 := [42, 180, 0, 132, 27, 46, 61, 42, 180, 0, 132, 27, 4, 96, 46, 62, 28, 6, 159, 0, 46, 28, 7]
abbrev dktX5_does_0 : List UInt8 := dkwX5_does_0 ++ dktX5_does_1
theorem dksX5_does_0 : cX5_does.data.toList.drop 0 = dktX5_does_0 := by decide +kernel
theorem dksX5_does_1 : cX5_does.data.toList.drop 23 = dktX5_does_1 := dk_seg dksX5_does_0 23 rfl rfl
theorem dksX5_does_2 : cX5_does.data.toList.drop 47 = dktX5_does_2 := dk_seg dksX5_does_1 24 rfl rfl
theorem dksX5_does_3 : cX5_does.data.toList.drop 71 = dktX5_does_3 := dk_seg dksX5_does_2 24 rfl rfl
theorem dksX5_does_4 : cX5_does.data.toList.drop 93 = dktX5_does_4 := dk_seg dksX5_does_3 22 rfl rfl
theorem dksX5_does_5 : cX5_does.data.toList.drop 115 = dktX5_does_5 := dk_seg dksX5_does_4 22 rfl rfl
theorem dksX5_does_6 : cX5_does.data.toList.drop 138 = dktX5_does_6 := dk_seg dksX5_does_5 23 rfl rfl
theorem dksX5_does_7 : cX5_does.data.toList.drop 162 = dktX5_does_7 := dk_seg dksX5_does_6 24 rfl rfl
theorem dksX5_does_8 : cX5_does.data.toList.drop 185 = dktX5_does_8 := dk_seg dksX5_does_7 23 rfl rfl
theorem dksX5_does_9 : cX5_does.data.toList.drop 207 = dktX5_does_9 := dk_seg dksX5_does_8 22 rfl rfl
theorem dX5_does_0 : decode cX5_does 0 = .ok (.aload_n 0, 1) := dk_42 (dk_at dksX5_does_0 0 rfl rfl)
theorem dX5_does_1 : decode cX5_does 1 = .ok (.getfield 132, 3) := dk_180 0 132 (dk_at dksX5_does_0 1 rfl rfl)
theorem dX5_does_4 : decode cX5_does 4 = .ok (.iload_n 1, 1) := dk_27 (dk_at dksX5_does_0 4 rfl rfl)
theorem dX5_does_5 : decode cX5_does 5 = .ok (.iaload, 1) := dk_46 (dk_at dksX5_does_0 5 rfl rfl)
theorem dX5_does_6 : decode cX5_does 6 = .ok (.istore_n 2, 1) := dk_61 (dk_at dksX5_does_0 6 rfl rfl)
theorem dX5_does_7 : decode cX5_does 7 = .ok (.aload_n 0, 1) := dk_42 (dk_at dksX5_does_0 7 rfl rfl)
theorem dX5_does_8 : decode cX5_does 8 = .ok (.getfield 132, 3) := dk_180 0 132 (dk_at dksX5_does_0 8 rfl rfl)
theorem dX5_does_11 : decode cX5_does 11 = .ok (.iload_n 1, 1) := dk_27 (dk_at dksX5_does_0 11 rfl rfl)
theorem dX5_does_12 : decode cX5_does 12 = .ok (.iconst 1, 1) := dk_4 (dk_at dksX5_does_0 12 rfl rfl)
theorem dX5_does_13 : decode cX5_does 13 = .ok (.iadd, 1) := dk_96 (dk_at dksX5_does_0 13 rfl rfl)
theorem dX5_does_14 : decode cX5_does 14 = .ok (.iaload, 1) := dk_46 (dk_at dksX5_does_0 14 rfl rfl)
theorem dX5_does_15 : decode cX5_does 15 = .ok (.istore_n 3, 1) := dk_62 (dk_at dksX5_does_0 15 rfl rfl)
theorem dX5_does_16 : decode cX5_does 16 = .ok (.iload_n 2, 1) := dk_28 (dk_at dksX5_does_0 16 rfl rfl)
theorem dX5_does_17 : decode cX5_does 17 = .ok (.iconst 3, 1) := dk_6 (dk_at dksX5_does_0 17 rfl rfl)
theorem dX5_does_18 : decode cX5_does 18 = .ok (.if_icmp .eq 46, 3) := dk_159 0 46 (dk_at dksX5_does_0 18 rfl rfl)
theorem dX5_does_21 : decode cX5_does 21 = .ok (.iload_n 2, 1) := dk_28 (dk_at dksX5_does_0 21 rfl rfl)
theorem dX5_does_22 : decode cX5_does 22 = .ok (.iconst 4, 1) := dk_7 (dk_at dksX5_does_0 22 rfl rfl)
theorem dX5_does_23 : decode cX5_does 23 = .ok (.if_icmp .eq 41, 3) := dk_159 0 41 (dk_at dksX5_does_1 0 rfl rfl)
theorem dX5_does_26 : decode cX5_does 26 = .ok (.iload_n 2, 1) := dk_28 (dk_at dksX5_does_1 3 rfl rfl)
theorem dX5_does_27 : decode cX5_does 27 = .ok (.iconst 5, 1) := dk_8 (dk_at dksX5_does_1 4 rfl rfl)
theorem dX5_does_28 : decode cX5_does 28 = .ok (.if_icmp .ne 25, 3) := dk_160 0 25 (dk_at dksX5_does_1 5 rfl rfl)
theorem dX5_does_31 : decode cX5_does 31 = .ok (.aload_n 0, 1) := dk_42 (dk_at dksX5_does_1 8 rfl rfl)
theorem dX5_does_32 : decode cX5_does 32 = .ok (.sipush 1176, 3) := dk_17 4 152 (dk_at dksX5_does_1 9 rfl rfl)
theorem dX5_does_35 : decode cX5_does 35 = .ok (.iload_n 3, 1) := dk_29 (dk_at dksX5_does_1 12 rfl rfl)
theorem dX5_does_36 : decode cX5_does 36 = .ok (.aload_n 0, 1) := dk_42 (dk_at dksX5_does_1 13 rfl rfl)
theorem dX5_does_37 : decode cX5_does 37 = .ok (.getfield 132, 3) := dk_180 0 132 (dk_at dksX5_does_1 14 rfl rfl)
theorem dX5_does_40 : decode cX5_does 40 = .ok (.iload_n 1, 1) := dk_27 (dk_at dksX5_does_1 17 rfl rfl)
theorem dX5_does_41 : decode cX5_does 41 = .ok (.iconst 2, 1) := dk_5 (dk_at dksX5_does_1 18 rfl rfl)
theorem dX5_does_42 : decode cX5_does 42 = .ok (.iadd, 1) := dk_96 (dk_at dksX5_does_1 19 rfl rfl)
theorem dX5_does_43 : decode cX5_does 43 = .ok (.iaload, 1) := dk_46 (dk_at dksX5_does_1 20 rfl rfl)
theorem dX5_does_44 : decode cX5_does 44 = .ok (.invokevirtual 401, 3) := dk_182 1 145 (dk_at dksX5_does_1 21 rfl rfl)
theorem dX5_does_47 : decode cX5_does 47 = .ok (.ifCond .eq 21, 3) := dk_153 0 21 (dk_at dksX5_does_2 0 rfl rfl)
theorem dX5_does_50 : decode cX5_does 50 = .ok (.goto 14, 3) := dk_167 0 14 (dk_at dksX5_does_2 3 rfl rfl)
theorem dX5_does_53 : decode cX5_does 53 = .ok (.aload_n 0, 1) := dk_42 (dk_at dksX5_does_2 6 rfl rfl)
theorem dX5_does_54 : decode cX5_does 54 = .ok (.sipush 1176, 3) := dk_17 4 152 (dk_at dksX5_does_2 7 rfl rfl)
theorem dX5_does_57 : decode cX5_does 57 = .ok (.iload_n 3, 1) := dk_29 (dk_at dksX5_does_2 10 rfl rfl)
theorem dX5_does_58 : decode cX5_does 58 = .ok (.invokevirtual 349, 3) := dk_182 1 93 (dk_at dksX5_does_2 11 rfl rfl)
theorem dX5_does_61 : decode cX5_does 61 = .ok (.ifCond .eq 7, 3) := dk_153 0 7 (dk_at dksX5_does_2 14 rfl rfl)
theorem dX5_does_64 : decode cX5_does 64 = .ok (.iconst 1, 1) := dk_4 (dk_at dksX5_does_2 17 rfl rfl)
theorem dX5_does_65 : decode cX5_does 65 = .ok (.goto 4, 3) := dk_167 0 4 (dk_at dksX5_does_2 18 rfl rfl)
theorem dX5_does_68 : decode cX5_does 68 = .ok (.iconst 0, 1) := dk_3 (dk_at dksX5_does_2 21 rfl rfl)
theorem dX5_does_69 : decode cX5_does 69 = .ok (.istore 4, 2) := dk_54 4 (dk_at dksX5_does_2 22 rfl rfl)
theorem dX5_does_71 : decode cX5_does 71 = .ok (.iload_n 2, 1) := dk_28 (dk_at dksX5_does_3 0 rfl rfl)
theorem dX5_does_72 : decode cX5_does 72 = .ok (.iconst 3, 1) := dk_6 (dk_at dksX5_does_3 1 rfl rfl)
theorem dX5_does_73 : decode cX5_does 73 = .ok (.if_icmp .ne 29, 3) := dk_160 0 29 (dk_at dksX5_does_3 2 rfl rfl)
theorem dX5_does_76 : decode cX5_does 76 = .ok (.iconst 0, 1) := dk_3 (dk_at dksX5_does_3 5 rfl rfl)
theorem dX5_does_77 : decode cX5_does 77 = .ok (.istore 5, 2) := dk_54 5 (dk_at dksX5_does_3 6 rfl rfl)
theorem dX5_does_79 : decode cX5_does 79 = .ok (.iload 5, 2) := dk_21 5 (dk_at dksX5_does_3 8 rfl rfl)
theorem dX5_does_81 : decode cX5_does 81 = .ok (.iload_n 3, 1) := dk_29 (dk_at dksX5_does_3 10 rfl rfl)
theorem dX5_does_82 : decode cX5_does 82 = .ok (.if_icmp .ge 17, 3) := dk_162 0 17 (dk_at dksX5_does_3 11 rfl rfl)
theorem dX5_does_85 : decode cX5_does 85 = .ok (.aload_n 0, 1) := dk_42 (dk_at dksX5_does_3 14 rfl rfl)
theorem dX5_does_86 : decode cX5_does 86 = .ok (.sipush 1176, 3) := dk_17 4 152 (dk_at dksX5_does_3 15 rfl rfl)
theorem dX5_does_89 : decode cX5_does 89 = .ok (.invokevirtual 395, 3) := dk_182 1 139 (dk_at dksX5_does_3 18 rfl rfl)
theorem dX5_does_92 : decode cX5_does 92 = .ok (.pop, 1) := dk_87 (dk_at dksX5_does_3 21 rfl rfl)
theorem dX5_does_93 : decode cX5_does 93 = .ok (.iinc 5 1, 3) := dk_132 5 1 (dk_at dksX5_does_4 0 rfl rfl)
theorem dX5_does_96 : decode cX5_does 96 = .ok (.goto (-17), 3) := dk_167 255 239 (dk_at dksX5_does_4 3 rfl rfl)
theorem dX5_does_99 : decode cX5_does 99 = .ok (.goto 120, 3) := dk_167 0 120 (dk_at dksX5_does_4 6 rfl rfl)
theorem dX5_does_102 : decode cX5_does 102 = .ok (.iload_n 2, 1) := dk_28 (dk_at dksX5_does_4 9 rfl rfl)
theorem dX5_does_103 : decode cX5_does 103 = .ok (.iconst 4, 1) := dk_7 (dk_at dksX5_does_4 10 rfl rfl)
theorem dX5_does_104 : decode cX5_does 104 = .ok (.if_icmp .ne 14, 3) := dk_160 0 14 (dk_at dksX5_does_4 11 rfl rfl)
theorem dX5_does_107 : decode cX5_does 107 = .ok (.aload_n 0, 1) := dk_42 (dk_at dksX5_does_4 14 rfl rfl)
theorem dX5_does_108 : decode cX5_does 108 = .ok (.sipush 1176, 3) := dk_17 4 152 (dk_at dksX5_does_4 15 rfl rfl)
theorem dX5_does_111 : decode cX5_does 111 = .ok (.invokevirtual 398, 3) := dk_182 1 142 (dk_at dksX5_does_4 18 rfl rfl)
theorem dX5_does_114 : decode cX5_does 114 = .ok (.pop, 1) := dk_87 (dk_at dksX5_does_4 21 rfl rfl)
theorem dX5_does_115 : decode cX5_does 115 = .ok (.goto 104, 3) := dk_167 0 104 (dk_at dksX5_does_5 0 rfl rfl)
theorem dX5_does_118 : decode cX5_does 118 = .ok (.iload 4, 2) := dk_21 4 (dk_at dksX5_does_5 3 rfl rfl)
theorem dX5_does_120 : decode cX5_does 120 = .ok (.ifCond .eq 29, 3) := dk_153 0 29 (dk_at dksX5_does_5 5 rfl rfl)
theorem dX5_does_123 : decode cX5_does 123 = .ok (.iload_n 2, 1) := dk_28 (dk_at dksX5_does_5 8 rfl rfl)
theorem dX5_does_124 : decode cX5_does 124 = .ok (.iconst 5, 1) := dk_8 (dk_at dksX5_does_5 9 rfl rfl)
theorem dX5_does_125 : decode cX5_does 125 = .ok (.if_icmp .ne 24, 3) := dk_160 0 24 (dk_at dksX5_does_5 10 rfl rfl)
theorem dX5_does_128 : decode cX5_does 128 = .ok (.aload_n 0, 1) := dk_42 (dk_at dksX5_does_5 13 rfl rfl)
theorem dX5_does_129 : decode cX5_does 129 = .ok (.getfield 141, 3) := dk_180 0 141 (dk_at dksX5_does_5 14 rfl rfl)
theorem dX5_does_132 : decode cX5_does 132 = .ok (.sipush 1177, 3) := dk_17 4 153 (dk_at dksX5_does_5 17 rfl rfl)
theorem dX5_does_135 : decode cX5_does 135 = .ok (.iload_n 3, 1) := dk_29 (dk_at dksX5_does_5 20 rfl rfl)
theorem dX5_does_136 : decode cX5_does 136 = .ok (.iadd, 1) := dk_96 (dk_at dksX5_does_5 21 rfl rfl)
theorem dX5_does_137 : decode cX5_does 137 = .ok (.aload_n 0, 1) := dk_42 (dk_at dksX5_does_5 22 rfl rfl)
theorem dX5_does_138 : decode cX5_does 138 = .ok (.getfield 132, 3) := dk_180 0 132 (dk_at dksX5_does_6 0 rfl rfl)
theorem dX5_does_141 : decode cX5_does 141 = .ok (.iload_n 1, 1) := dk_27 (dk_at dksX5_does_6 3 rfl rfl)
theorem dX5_does_142 : decode cX5_does 142 = .ok (.iconst 2, 1) := dk_5 (dk_at dksX5_does_6 4 rfl rfl)
theorem dX5_does_143 : decode cX5_does 143 = .ok (.iadd, 1) := dk_96 (dk_at dksX5_does_6 5 rfl rfl)
theorem dX5_does_144 : decode cX5_does 144 = .ok (.iaload, 1) := dk_46 (dk_at dksX5_does_6 6 rfl rfl)
theorem dX5_does_145 : decode cX5_does 145 = .ok (.iastore, 1) := dk_79 (dk_at dksX5_does_6 7 rfl rfl)
theorem dX5_does_146 : decode cX5_does 146 = .ok (.goto 73, 3) := dk_167 0 73 (dk_at dksX5_does_6 8 rfl rfl)
theorem dX5_does_149 : decode cX5_does 149 = .ok (.iload 4, 2) := dk_21 4 (dk_at dksX5_does_6 11 rfl rfl)
theorem dX5_does_151 : decode cX5_does 151 = .ok (.ifCond .eq 18, 3) := dk_153 0 18 (dk_at dksX5_does_6 13 rfl rfl)
theorem dX5_does_154 : decode cX5_does 154 = .ok (.iload_n 2, 1) := dk_28 (dk_at dksX5_does_6 16 rfl rfl)
theorem dX5_does_155 : decode cX5_does 155 = .ok (.ifCond .ne 14, 3) := dk_154 0 14 (dk_at dksX5_does_6 17 rfl rfl)
theorem dX5_does_158 : decode cX5_does 158 = .ok (.aload_n 0, 1) := dk_42 (dk_at dksX5_does_6 20 rfl rfl)
theorem dX5_does_159 : decode cX5_does 159 = .ok (.sipush 1176, 3) := dk_17 4 152 (dk_at dksX5_does_6 21 rfl rfl)
theorem dX5_does_162 : decode cX5_does 162 = .ok (.iload_n 3, 1) := dk_29 (dk_at dksX5_does_7 0 rfl rfl)
theorem dX5_does_163 : decode cX5_does 163 = .ok (.invokevirtual 389, 3) := dk_182 1 133 (dk_at dksX5_does_7 1 rfl rfl)
theorem dX5_does_166 : decode cX5_does 166 = .ok (.goto 53, 3) := dk_167 0 53 (dk_at dksX5_does_7 4 rfl rfl)
theorem dX5_does_169 : decode cX5_does 169 = .ok (.iload 4, 2) := dk_21 4 (dk_at dksX5_does_7 7 rfl rfl)
theorem dX5_does_171 : decode cX5_does 171 = .ok (.ifCond .eq 27, 3) := dk_153 0 27 (dk_at dksX5_does_7 9 rfl rfl)
theorem dX5_does_174 : decode cX5_does 174 = .ok (.iload_n 2, 1) := dk_28 (dk_at dksX5_does_7 12 rfl rfl)
theorem dX5_does_175 : decode cX5_does 175 = .ok (.iconst 1, 1) := dk_4 (dk_at dksX5_does_7 13 rfl rfl)
theorem dX5_does_176 : decode cX5_does 176 = .ok (.if_icmp .ne 22, 3) := dk_160 0 22 (dk_at dksX5_does_7 14 rfl rfl)
theorem dX5_does_179 : decode cX5_does 179 = .ok (.aload_n 0, 1) := dk_42 (dk_at dksX5_does_7 17 rfl rfl)
theorem dX5_does_180 : decode cX5_does 180 = .ok (.sipush 1176, 3) := dk_17 4 152 (dk_at dksX5_does_7 18 rfl rfl)
theorem dX5_does_183 : decode cX5_does 183 = .ok (.iload_n 3, 1) := dk_29 (dk_at dksX5_does_7 21 rfl rfl)
theorem dX5_does_184 : decode cX5_does 184 = .ok (.aload_n 0, 1) := dk_42 (dk_at dksX5_does_7 22 rfl rfl)
theorem dX5_does_185 : decode cX5_does 185 = .ok (.getfield 132, 3) := dk_180 0 132 (dk_at dksX5_does_8 0 rfl rfl)
theorem dX5_does_188 : decode cX5_does 188 = .ok (.iload_n 1, 1) := dk_27 (dk_at dksX5_does_8 3 rfl rfl)
theorem dX5_does_189 : decode cX5_does 189 = .ok (.iconst 2, 1) := dk_5 (dk_at dksX5_does_8 4 rfl rfl)
theorem dX5_does_190 : decode cX5_does 190 = .ok (.iadd, 1) := dk_96 (dk_at dksX5_does_8 5 rfl rfl)
theorem dX5_does_191 : decode cX5_does 191 = .ok (.iaload, 1) := dk_46 (dk_at dksX5_does_8 6 rfl rfl)
theorem dX5_does_192 : decode cX5_does 192 = .ok (.invokevirtual 392, 3) := dk_182 1 136 (dk_at dksX5_does_8 7 rfl rfl)
theorem dX5_does_195 : decode cX5_does 195 = .ok (.goto 24, 3) := dk_167 0 24 (dk_at dksX5_does_8 10 rfl rfl)
theorem dX5_does_198 : decode cX5_does 198 = .ok (.iload 4, 2) := dk_21 4 (dk_at dksX5_does_8 13 rfl rfl)
theorem dX5_does_200 : decode cX5_does 200 = .ok (.ifCond .eq 19, 3) := dk_153 0 19 (dk_at dksX5_does_8 15 rfl rfl)
theorem dX5_does_203 : decode cX5_does 203 = .ok (.aload_n 0, 1) := dk_42 (dk_at dksX5_does_8 18 rfl rfl)
theorem dX5_does_204 : decode cX5_does 204 = .ok (.getfield 141, 3) := dk_180 0 141 (dk_at dksX5_does_8 19 rfl rfl)
theorem dX5_does_207 : decode cX5_does 207 = .ok (.sipush 1195, 3) := dk_17 4 171 (dk_at dksX5_does_9 0 rfl rfl)
theorem dX5_does_210 : decode cX5_does 210 = .ok (.iload_n 3, 1) := dk_29 (dk_at dksX5_does_9 3 rfl rfl)
theorem dX5_does_211 : decode cX5_does 211 = .ok (.iadd, 1) := dk_96 (dk_at dksX5_does_9 4 rfl rfl)
theorem dX5_does_212 : decode cX5_does 212 = .ok (.aload_n 0, 1) := dk_42 (dk_at dksX5_does_9 5 rfl rfl)
theorem dX5_does_213 : decode cX5_does 213 = .ok (.getfield 111, 3) := dk_180 0 111 (dk_at dksX5_does_9 6 rfl rfl)
theorem dX5_does_216 : decode cX5_does 216 = .ok (.iconst 4, 1) := dk_7 (dk_at dksX5_does_9 9 rfl rfl)
theorem dX5_does_217 : decode cX5_does 217 = .ok (.iaload, 1) := dk_46 (dk_at dksX5_does_9 10 rfl rfl)
theorem dX5_does_218 : decode cX5_does 218 = .ok (.iastore, 1) := dk_79 (dk_at dksX5_does_9 11 rfl rfl)
theorem dX5_does_219 : decode cX5_does 219 = .ok (.iload 4, 2) := dk_21 4 (dk_at dksX5_does_9 12 rfl rfl)
theorem dX5_does_221 : decode cX5_does 221 = .ok (.ireturn, 1) := dk_172 (dk_at dksX5_does_9 14 rfl rfl)
abbrev cX5_goneMany : ByteArray := prog_26_method_70_code
def yX5_goneMany : MethodName := ⟨RX5, "goneMany", "(I)I"⟩
def dkwX5_goneMany_1 : List UInt8 := [96, 61, 132, 3, 1, 167, 255, 231, 28, 172]
abbrev dktX5_goneMany_1 : List UInt8 := dkwX5_goneMany_1 ++ []
def dkwX5_goneMany_0 : List UInt8 := [3, 61, 3, 62, 29, 42, 182, 1, 67, 162, 0, 23, 28, 42, 180, 0, 141, 27, 16, 37, 96, 29, 96, 46]
abbrev dktX5_goneMany_0 : List UInt8 := dkwX5_goneMany_0 ++ dktX5_goneMany_1
theorem dksX5_goneMany_0 : cX5_goneMany.data.toList.drop 0 = dktX5_goneMany_0 := by decide +kernel
theorem dksX5_goneMany_1 : cX5_goneMany.data.toList.drop 24 = dktX5_goneMany_1 := dk_seg dksX5_goneMany_0 24 rfl rfl
theorem dX5_goneMany_0 : decode cX5_goneMany 0 = .ok (.iconst 0, 1) := dk_3 (dk_at dksX5_goneMany_0 0 rfl rfl)
theorem dX5_goneMany_1 : decode cX5_goneMany 1 = .ok (.istore_n 2, 1) := dk_61 (dk_at dksX5_goneMany_0 1 rfl rfl)
theorem dX5_goneMany_2 : decode cX5_goneMany 2 = .ok (.iconst 0, 1) := dk_3 (dk_at dksX5_goneMany_0 2 rfl rfl)
theorem dX5_goneMany_3 : decode cX5_goneMany 3 = .ok (.istore_n 3, 1) := dk_62 (dk_at dksX5_goneMany_0 3 rfl rfl)
theorem dX5_goneMany_4 : decode cX5_goneMany 4 = .ok (.iload_n 3, 1) := dk_29 (dk_at dksX5_goneMany_0 4 rfl rfl)
theorem dX5_goneMany_5 : decode cX5_goneMany 5 = .ok (.aload_n 0, 1) := dk_42 (dk_at dksX5_goneMany_0 5 rfl rfl)
theorem dX5_goneMany_6 : decode cX5_goneMany 6 = .ok (.invokevirtual 323, 3) := dk_182 1 67 (dk_at dksX5_goneMany_0 6 rfl rfl)
theorem dX5_goneMany_9 : decode cX5_goneMany 9 = .ok (.if_icmp .ge 23, 3) := dk_162 0 23 (dk_at dksX5_goneMany_0 9 rfl rfl)
theorem dX5_goneMany_12 : decode cX5_goneMany 12 = .ok (.iload_n 2, 1) := dk_28 (dk_at dksX5_goneMany_0 12 rfl rfl)
theorem dX5_goneMany_13 : decode cX5_goneMany 13 = .ok (.aload_n 0, 1) := dk_42 (dk_at dksX5_goneMany_0 13 rfl rfl)
theorem dX5_goneMany_14 : decode cX5_goneMany 14 = .ok (.getfield 141, 3) := dk_180 0 141 (dk_at dksX5_goneMany_0 14 rfl rfl)
theorem dX5_goneMany_17 : decode cX5_goneMany 17 = .ok (.iload_n 1, 1) := dk_27 (dk_at dksX5_goneMany_0 17 rfl rfl)
theorem dX5_goneMany_18 : decode cX5_goneMany 18 = .ok (.bipush 37, 2) := dk_16 37 (dk_at dksX5_goneMany_0 18 rfl rfl)
theorem dX5_goneMany_20 : decode cX5_goneMany 20 = .ok (.iadd, 1) := dk_96 (dk_at dksX5_goneMany_0 20 rfl rfl)
theorem dX5_goneMany_21 : decode cX5_goneMany 21 = .ok (.iload_n 3, 1) := dk_29 (dk_at dksX5_goneMany_0 21 rfl rfl)
theorem dX5_goneMany_22 : decode cX5_goneMany 22 = .ok (.iadd, 1) := dk_96 (dk_at dksX5_goneMany_0 22 rfl rfl)
theorem dX5_goneMany_23 : decode cX5_goneMany 23 = .ok (.iaload, 1) := dk_46 (dk_at dksX5_goneMany_0 23 rfl rfl)
theorem dX5_goneMany_24 : decode cX5_goneMany 24 = .ok (.iadd, 1) := dk_96 (dk_at dksX5_goneMany_1 0 rfl rfl)
theorem dX5_goneMany_25 : decode cX5_goneMany 25 = .ok (.istore_n 2, 1) := dk_61 (dk_at dksX5_goneMany_1 1 rfl rfl)
theorem dX5_goneMany_26 : decode cX5_goneMany 26 = .ok (.iinc 3 1, 3) := dk_132 3 1 (dk_at dksX5_goneMany_1 2 rfl rfl)
theorem dX5_goneMany_29 : decode cX5_goneMany 29 = .ok (.goto (-25), 3) := dk_167 255 231 (dk_at dksX5_goneMany_1 5 rfl rfl)
theorem dX5_goneMany_32 : decode cX5_goneMany 32 = .ok (.iload_n 2, 1) := dk_28 (dk_at dksX5_goneMany_1 8 rfl rfl)
theorem dX5_goneMany_33 : decode cX5_goneMany 33 = .ok (.ireturn, 1) := dk_172 (dk_at dksX5_goneMany_1 9 rfl rfl)
abbrev cX5_owed : ByteArray := prog_26_method_84_code
def yX5_owed : MethodName := ⟨RX5, "owed", "(I)I"⟩
def dkwX5_owed_1 : List UInt8 := [172]
abbrev dktX5_owed_1 : List UInt8 := dkwX5_owed_1 ++ []
def dkwX5_owed_0 : List UInt8 := [42, 3, 181, 0, 1, 42, 3, 27, 182, 1, 93, 153, 0, 12, 42, 3, 27, 182, 1, 118, 167, 0, 4, 2]
abbrev dktX5_owed_0 : List UInt8 := dkwX5_owed_0 ++ dktX5_owed_1
theorem dksX5_owed_0 : cX5_owed.data.toList.drop 0 = dktX5_owed_0 := by decide +kernel
theorem dksX5_owed_1 : cX5_owed.data.toList.drop 24 = dktX5_owed_1 := dk_seg dksX5_owed_0 24 rfl rfl
theorem dX5_owed_0 : decode cX5_owed 0 = .ok (.aload_n 0, 1) := dk_42 (dk_at dksX5_owed_0 0 rfl rfl)
theorem dX5_owed_1 : decode cX5_owed 1 = .ok (.iconst 0, 1) := dk_3 (dk_at dksX5_owed_0 1 rfl rfl)
theorem dX5_owed_2 : decode cX5_owed 2 = .ok (.putfield 1, 3) := dk_181 0 1 (dk_at dksX5_owed_0 2 rfl rfl)
theorem dX5_owed_5 : decode cX5_owed 5 = .ok (.aload_n 0, 1) := dk_42 (dk_at dksX5_owed_0 5 rfl rfl)
theorem dX5_owed_6 : decode cX5_owed 6 = .ok (.iconst 0, 1) := dk_3 (dk_at dksX5_owed_0 6 rfl rfl)
theorem dX5_owed_7 : decode cX5_owed 7 = .ok (.iload_n 1, 1) := dk_27 (dk_at dksX5_owed_0 7 rfl rfl)
theorem dX5_owed_8 : decode cX5_owed 8 = .ok (.invokevirtual 349, 3) := dk_182 1 93 (dk_at dksX5_owed_0 8 rfl rfl)
theorem dX5_owed_11 : decode cX5_owed 11 = .ok (.ifCond .eq 12, 3) := dk_153 0 12 (dk_at dksX5_owed_0 11 rfl rfl)
theorem dX5_owed_14 : decode cX5_owed 14 = .ok (.aload_n 0, 1) := dk_42 (dk_at dksX5_owed_0 14 rfl rfl)
theorem dX5_owed_15 : decode cX5_owed 15 = .ok (.iconst 0, 1) := dk_3 (dk_at dksX5_owed_0 15 rfl rfl)
theorem dX5_owed_16 : decode cX5_owed 16 = .ok (.iload_n 1, 1) := dk_27 (dk_at dksX5_owed_0 16 rfl rfl)
theorem dX5_owed_17 : decode cX5_owed 17 = .ok (.invokevirtual 374, 3) := dk_182 1 118 (dk_at dksX5_owed_0 17 rfl rfl)
theorem dX5_owed_20 : decode cX5_owed 20 = .ok (.goto 4, 3) := dk_167 0 4 (dk_at dksX5_owed_0 20 rfl rfl)
theorem dX5_owed_23 : decode cX5_owed 23 = .ok (.iconst (-1), 1) := dk_2 (dk_at dksX5_owed_0 23 rfl rfl)
theorem dX5_owed_24 : decode cX5_owed 24 = .ok (.ireturn, 1) := dk_172 (dk_at dksX5_owed_1 0 rfl rfl)
abbrev cX5_will : ByteArray := prog_26_method_85_code
def yX5_will : MethodName := ⟨RX5, "will", "(II)I"⟩
def dkwX5_will_2 : List UInt8 := [17, 4, 152, 182, 1, 139, 87, 132, 3, 1, 167, 255, 240, 42, 180, 0, 141, 17, 4, 159, 27, 96, 46, 172]
abbrev dktX5_will_2 : List UInt8 := dkwX5_will_2 ++ []
def dkwX5_will_1 : List UInt8 := [154, 0, 5, 2, 172, 42, 3, 17, 4, 152, 16, 43, 182, 1, 83, 3, 62, 29, 28, 162, 0, 17, 42]
abbrev dktX5_will_1 : List UInt8 := dkwX5_will_1 ++ dktX5_will_2
def dkwX5_will_0 : List UInt8 := [42, 3, 181, 0, 1, 42, 3, 27, 182, 1, 93, 153, 0, 14, 28, 3, 17, 0, 240, 184, 0, 241]
abbrev dktX5_will_0 : List UInt8 := dkwX5_will_0 ++ dktX5_will_1
theorem dksX5_will_0 : cX5_will.data.toList.drop 0 = dktX5_will_0 := by decide +kernel
theorem dksX5_will_1 : cX5_will.data.toList.drop 22 = dktX5_will_1 := dk_seg dksX5_will_0 22 rfl rfl
theorem dksX5_will_2 : cX5_will.data.toList.drop 45 = dktX5_will_2 := dk_seg dksX5_will_1 23 rfl rfl
theorem dX5_will_0 : decode cX5_will 0 = .ok (.aload_n 0, 1) := dk_42 (dk_at dksX5_will_0 0 rfl rfl)
theorem dX5_will_1 : decode cX5_will 1 = .ok (.iconst 0, 1) := dk_3 (dk_at dksX5_will_0 1 rfl rfl)
theorem dX5_will_2 : decode cX5_will 2 = .ok (.putfield 1, 3) := dk_181 0 1 (dk_at dksX5_will_0 2 rfl rfl)
theorem dX5_will_5 : decode cX5_will 5 = .ok (.aload_n 0, 1) := dk_42 (dk_at dksX5_will_0 5 rfl rfl)
theorem dX5_will_6 : decode cX5_will 6 = .ok (.iconst 0, 1) := dk_3 (dk_at dksX5_will_0 6 rfl rfl)
theorem dX5_will_7 : decode cX5_will 7 = .ok (.iload_n 1, 1) := dk_27 (dk_at dksX5_will_0 7 rfl rfl)
theorem dX5_will_8 : decode cX5_will 8 = .ok (.invokevirtual 349, 3) := dk_182 1 93 (dk_at dksX5_will_0 8 rfl rfl)
theorem dX5_will_11 : decode cX5_will 11 = .ok (.ifCond .eq 14, 3) := dk_153 0 14 (dk_at dksX5_will_0 11 rfl rfl)
theorem dX5_will_14 : decode cX5_will 14 = .ok (.iload_n 2, 1) := dk_28 (dk_at dksX5_will_0 14 rfl rfl)
theorem dX5_will_15 : decode cX5_will 15 = .ok (.iconst 0, 1) := dk_3 (dk_at dksX5_will_0 15 rfl rfl)
theorem dX5_will_16 : decode cX5_will 16 = .ok (.sipush 240, 3) := dk_17 0 240 (dk_at dksX5_will_0 16 rfl rfl)
theorem dX5_will_19 : decode cX5_will 19 = .ok (.invokestatic 241, 3) := dk_184 0 241 (dk_at dksX5_will_0 19 rfl rfl)
theorem dX5_will_22 : decode cX5_will 22 = .ok (.ifCond .ne 5, 3) := dk_154 0 5 (dk_at dksX5_will_1 0 rfl rfl)
theorem dX5_will_25 : decode cX5_will 25 = .ok (.iconst (-1), 1) := dk_2 (dk_at dksX5_will_1 3 rfl rfl)
theorem dX5_will_26 : decode cX5_will 26 = .ok (.ireturn, 1) := dk_172 (dk_at dksX5_will_1 4 rfl rfl)
theorem dX5_will_27 : decode cX5_will 27 = .ok (.aload_n 0, 1) := dk_42 (dk_at dksX5_will_1 5 rfl rfl)
theorem dX5_will_28 : decode cX5_will 28 = .ok (.iconst 0, 1) := dk_3 (dk_at dksX5_will_1 6 rfl rfl)
theorem dX5_will_29 : decode cX5_will 29 = .ok (.sipush 1176, 3) := dk_17 4 152 (dk_at dksX5_will_1 7 rfl rfl)
theorem dX5_will_32 : decode cX5_will 32 = .ok (.bipush 43, 2) := dk_16 43 (dk_at dksX5_will_1 10 rfl rfl)
theorem dX5_will_34 : decode cX5_will 34 = .ok (.invokevirtual 339, 3) := dk_182 1 83 (dk_at dksX5_will_1 12 rfl rfl)
theorem dX5_will_37 : decode cX5_will 37 = .ok (.iconst 0, 1) := dk_3 (dk_at dksX5_will_1 15 rfl rfl)
theorem dX5_will_38 : decode cX5_will 38 = .ok (.istore_n 3, 1) := dk_62 (dk_at dksX5_will_1 16 rfl rfl)
theorem dX5_will_39 : decode cX5_will 39 = .ok (.iload_n 3, 1) := dk_29 (dk_at dksX5_will_1 17 rfl rfl)
theorem dX5_will_40 : decode cX5_will 40 = .ok (.iload_n 2, 1) := dk_28 (dk_at dksX5_will_1 18 rfl rfl)
theorem dX5_will_41 : decode cX5_will 41 = .ok (.if_icmp .ge 17, 3) := dk_162 0 17 (dk_at dksX5_will_1 19 rfl rfl)
theorem dX5_will_44 : decode cX5_will 44 = .ok (.aload_n 0, 1) := dk_42 (dk_at dksX5_will_1 22 rfl rfl)
theorem dX5_will_45 : decode cX5_will 45 = .ok (.sipush 1176, 3) := dk_17 4 152 (dk_at dksX5_will_2 0 rfl rfl)
theorem dX5_will_48 : decode cX5_will 48 = .ok (.invokevirtual 395, 3) := dk_182 1 139 (dk_at dksX5_will_2 3 rfl rfl)
theorem dX5_will_51 : decode cX5_will 51 = .ok (.pop, 1) := dk_87 (dk_at dksX5_will_2 6 rfl rfl)
theorem dX5_will_52 : decode cX5_will 52 = .ok (.iinc 3 1, 3) := dk_132 3 1 (dk_at dksX5_will_2 7 rfl rfl)
theorem dX5_will_55 : decode cX5_will 55 = .ok (.goto (-16), 3) := dk_167 255 240 (dk_at dksX5_will_2 10 rfl rfl)
theorem dX5_will_58 : decode cX5_will 58 = .ok (.aload_n 0, 1) := dk_42 (dk_at dksX5_will_2 13 rfl rfl)
theorem dX5_will_59 : decode cX5_will 59 = .ok (.getfield 141, 3) := dk_180 0 141 (dk_at dksX5_will_2 14 rfl rfl)
theorem dX5_will_62 : decode cX5_will 62 = .ok (.sipush 1183, 3) := dk_17 4 159 (dk_at dksX5_will_2 17 rfl rfl)
theorem dX5_will_65 : decode cX5_will 65 = .ok (.iload_n 1, 1) := dk_27 (dk_at dksX5_will_2 20 rfl rfl)
theorem dX5_will_66 : decode cX5_will 66 = .ok (.iadd, 1) := dk_96 (dk_at dksX5_will_2 21 rfl rfl)
theorem dX5_will_67 : decode cX5_will 67 = .ok (.iaload, 1) := dk_46 (dk_at dksX5_will_2 22 rfl rfl)
theorem dX5_will_68 : decode cX5_will 68 = .ok (.ireturn, 1) := dk_172 (dk_at dksX5_will_2 23 rfl rfl)
abbrev cX5_last : ByteArray := prog_26_method_86_code
def yX5_last : MethodName := ⟨RX5, "last", "(II)I"⟩
def dkwX5_last_4 : List UInt8 := [167, 255, 203, 16, 20, 172]
abbrev dktX5_last_4 : List UInt8 := dkwX5_last_4 ++ []
def dkwX5_last_3 : List UInt8 := [17, 4, 152, 182, 1, 142, 87, 42, 17, 4, 152, 27, 182, 1, 93, 154, 0, 5, 29, 172, 132, 3, 1]
abbrev dktX5_last_3 : List UInt8 := dkwX5_last_3 ++ dktX5_last_4
def dkwX5_last_2 : List UInt8 := [54, 4, 21, 4, 28, 162, 0, 17, 42, 17, 4, 152, 182, 1, 139, 87, 132, 4, 1, 167, 255, 239, 42]
abbrev dktX5_last_2 : List UInt8 := dkwX5_last_2 ++ dktX5_last_3
def dkwX5_last_1 : List UInt8 := [154, 0, 5, 2, 172, 42, 3, 17, 4, 152, 16, 43, 182, 1, 83, 3, 62, 29, 16, 20, 162, 0, 53, 3]
abbrev dktX5_last_1 : List UInt8 := dkwX5_last_1 ++ dktX5_last_2
def dkwX5_last_0 : List UInt8 := [42, 3, 181, 0, 1, 42, 3, 27, 182, 1, 93, 153, 0, 14, 28, 4, 17, 0, 240, 184, 0, 241]
abbrev dktX5_last_0 : List UInt8 := dkwX5_last_0 ++ dktX5_last_1
theorem dksX5_last_0 : cX5_last.data.toList.drop 0 = dktX5_last_0 := by decide +kernel
theorem dksX5_last_1 : cX5_last.data.toList.drop 22 = dktX5_last_1 := dk_seg dksX5_last_0 22 rfl rfl
theorem dksX5_last_2 : cX5_last.data.toList.drop 46 = dktX5_last_2 := dk_seg dksX5_last_1 24 rfl rfl
theorem dksX5_last_3 : cX5_last.data.toList.drop 69 = dktX5_last_3 := dk_seg dksX5_last_2 23 rfl rfl
theorem dksX5_last_4 : cX5_last.data.toList.drop 92 = dktX5_last_4 := dk_seg dksX5_last_3 23 rfl rfl
theorem dX5_last_0 : decode cX5_last 0 = .ok (.aload_n 0, 1) := dk_42 (dk_at dksX5_last_0 0 rfl rfl)
theorem dX5_last_1 : decode cX5_last 1 = .ok (.iconst 0, 1) := dk_3 (dk_at dksX5_last_0 1 rfl rfl)
theorem dX5_last_2 : decode cX5_last 2 = .ok (.putfield 1, 3) := dk_181 0 1 (dk_at dksX5_last_0 2 rfl rfl)
theorem dX5_last_5 : decode cX5_last 5 = .ok (.aload_n 0, 1) := dk_42 (dk_at dksX5_last_0 5 rfl rfl)
theorem dX5_last_6 : decode cX5_last 6 = .ok (.iconst 0, 1) := dk_3 (dk_at dksX5_last_0 6 rfl rfl)
theorem dX5_last_7 : decode cX5_last 7 = .ok (.iload_n 1, 1) := dk_27 (dk_at dksX5_last_0 7 rfl rfl)
theorem dX5_last_8 : decode cX5_last 8 = .ok (.invokevirtual 349, 3) := dk_182 1 93 (dk_at dksX5_last_0 8 rfl rfl)
theorem dX5_last_11 : decode cX5_last 11 = .ok (.ifCond .eq 14, 3) := dk_153 0 14 (dk_at dksX5_last_0 11 rfl rfl)
theorem dX5_last_14 : decode cX5_last 14 = .ok (.iload_n 2, 1) := dk_28 (dk_at dksX5_last_0 14 rfl rfl)
theorem dX5_last_15 : decode cX5_last 15 = .ok (.iconst 1, 1) := dk_4 (dk_at dksX5_last_0 15 rfl rfl)
theorem dX5_last_16 : decode cX5_last 16 = .ok (.sipush 240, 3) := dk_17 0 240 (dk_at dksX5_last_0 16 rfl rfl)
theorem dX5_last_19 : decode cX5_last 19 = .ok (.invokestatic 241, 3) := dk_184 0 241 (dk_at dksX5_last_0 19 rfl rfl)
theorem dX5_last_22 : decode cX5_last 22 = .ok (.ifCond .ne 5, 3) := dk_154 0 5 (dk_at dksX5_last_1 0 rfl rfl)
theorem dX5_last_25 : decode cX5_last 25 = .ok (.iconst (-1), 1) := dk_2 (dk_at dksX5_last_1 3 rfl rfl)
theorem dX5_last_26 : decode cX5_last 26 = .ok (.ireturn, 1) := dk_172 (dk_at dksX5_last_1 4 rfl rfl)
theorem dX5_last_27 : decode cX5_last 27 = .ok (.aload_n 0, 1) := dk_42 (dk_at dksX5_last_1 5 rfl rfl)
theorem dX5_last_28 : decode cX5_last 28 = .ok (.iconst 0, 1) := dk_3 (dk_at dksX5_last_1 6 rfl rfl)
theorem dX5_last_29 : decode cX5_last 29 = .ok (.sipush 1176, 3) := dk_17 4 152 (dk_at dksX5_last_1 7 rfl rfl)
theorem dX5_last_32 : decode cX5_last 32 = .ok (.bipush 43, 2) := dk_16 43 (dk_at dksX5_last_1 10 rfl rfl)
theorem dX5_last_34 : decode cX5_last 34 = .ok (.invokevirtual 339, 3) := dk_182 1 83 (dk_at dksX5_last_1 12 rfl rfl)
theorem dX5_last_37 : decode cX5_last 37 = .ok (.iconst 0, 1) := dk_3 (dk_at dksX5_last_1 15 rfl rfl)
theorem dX5_last_38 : decode cX5_last 38 = .ok (.istore_n 3, 1) := dk_62 (dk_at dksX5_last_1 16 rfl rfl)
theorem dX5_last_39 : decode cX5_last 39 = .ok (.iload_n 3, 1) := dk_29 (dk_at dksX5_last_1 17 rfl rfl)
theorem dX5_last_40 : decode cX5_last 40 = .ok (.bipush 20, 2) := dk_16 20 (dk_at dksX5_last_1 18 rfl rfl)
theorem dX5_last_42 : decode cX5_last 42 = .ok (.if_icmp .ge 53, 3) := dk_162 0 53 (dk_at dksX5_last_1 20 rfl rfl)
theorem dX5_last_45 : decode cX5_last 45 = .ok (.iconst 0, 1) := dk_3 (dk_at dksX5_last_1 23 rfl rfl)
theorem dX5_last_46 : decode cX5_last 46 = .ok (.istore 4, 2) := dk_54 4 (dk_at dksX5_last_2 0 rfl rfl)
theorem dX5_last_48 : decode cX5_last 48 = .ok (.iload 4, 2) := dk_21 4 (dk_at dksX5_last_2 2 rfl rfl)
theorem dX5_last_50 : decode cX5_last 50 = .ok (.iload_n 2, 1) := dk_28 (dk_at dksX5_last_2 4 rfl rfl)
theorem dX5_last_51 : decode cX5_last 51 = .ok (.if_icmp .ge 17, 3) := dk_162 0 17 (dk_at dksX5_last_2 5 rfl rfl)
theorem dX5_last_54 : decode cX5_last 54 = .ok (.aload_n 0, 1) := dk_42 (dk_at dksX5_last_2 8 rfl rfl)
theorem dX5_last_55 : decode cX5_last 55 = .ok (.sipush 1176, 3) := dk_17 4 152 (dk_at dksX5_last_2 9 rfl rfl)
theorem dX5_last_58 : decode cX5_last 58 = .ok (.invokevirtual 395, 3) := dk_182 1 139 (dk_at dksX5_last_2 12 rfl rfl)
theorem dX5_last_61 : decode cX5_last 61 = .ok (.pop, 1) := dk_87 (dk_at dksX5_last_2 15 rfl rfl)
theorem dX5_last_62 : decode cX5_last 62 = .ok (.iinc 4 1, 3) := dk_132 4 1 (dk_at dksX5_last_2 16 rfl rfl)
theorem dX5_last_65 : decode cX5_last 65 = .ok (.goto (-17), 3) := dk_167 255 239 (dk_at dksX5_last_2 19 rfl rfl)
theorem dX5_last_68 : decode cX5_last 68 = .ok (.aload_n 0, 1) := dk_42 (dk_at dksX5_last_2 22 rfl rfl)
theorem dX5_last_69 : decode cX5_last 69 = .ok (.sipush 1176, 3) := dk_17 4 152 (dk_at dksX5_last_3 0 rfl rfl)
theorem dX5_last_72 : decode cX5_last 72 = .ok (.invokevirtual 398, 3) := dk_182 1 142 (dk_at dksX5_last_3 3 rfl rfl)
theorem dX5_last_75 : decode cX5_last 75 = .ok (.pop, 1) := dk_87 (dk_at dksX5_last_3 6 rfl rfl)
theorem dX5_last_76 : decode cX5_last 76 = .ok (.aload_n 0, 1) := dk_42 (dk_at dksX5_last_3 7 rfl rfl)
theorem dX5_last_77 : decode cX5_last 77 = .ok (.sipush 1176, 3) := dk_17 4 152 (dk_at dksX5_last_3 8 rfl rfl)
theorem dX5_last_80 : decode cX5_last 80 = .ok (.iload_n 1, 1) := dk_27 (dk_at dksX5_last_3 11 rfl rfl)
theorem dX5_last_81 : decode cX5_last 81 = .ok (.invokevirtual 349, 3) := dk_182 1 93 (dk_at dksX5_last_3 12 rfl rfl)
theorem dX5_last_84 : decode cX5_last 84 = .ok (.ifCond .ne 5, 3) := dk_154 0 5 (dk_at dksX5_last_3 15 rfl rfl)
theorem dX5_last_87 : decode cX5_last 87 = .ok (.iload_n 3, 1) := dk_29 (dk_at dksX5_last_3 18 rfl rfl)
theorem dX5_last_88 : decode cX5_last 88 = .ok (.ireturn, 1) := dk_172 (dk_at dksX5_last_3 19 rfl rfl)
theorem dX5_last_89 : decode cX5_last 89 = .ok (.iinc 3 1, 3) := dk_132 3 1 (dk_at dksX5_last_3 20 rfl rfl)
theorem dX5_last_92 : decode cX5_last 92 = .ok (.goto (-53), 3) := dk_167 255 203 (dk_at dksX5_last_4 0 rfl rfl)
theorem dX5_last_95 : decode cX5_last 95 = .ok (.bipush 20, 2) := dk_16 20 (dk_at dksX5_last_4 3 rfl rfl)
theorem dX5_last_97 : decode cX5_last 97 = .ok (.ireturn, 1) := dk_172 (dk_at dksX5_last_4 5 rfl rfl)
abbrev cX5_errands : ByteArray := prog_26_method_89_code
def yX5_errands : MethodName := ⟨RX5, "errands", "(II)I"⟩
def dkwX5_errands_2 : List UInt8 := [180, 1, 163, 167, 0, 11, 42, 180, 0, 151, 28, 4, 100, 46, 172]
abbrev dktX5_errands_2 : List UInt8 := dkwX5_errands_2 ++ []
def dkwX5_errands_1 : List UInt8 := [154, 0, 5, 2, 172, 42, 2, 181, 1, 163, 42, 27, 3, 3, 182, 1, 166, 28, 154, 0, 10, 42]
abbrev dktX5_errands_1 : List UInt8 := dkwX5_errands_1 ++ dktX5_errands_2
def dkwX5_errands_0 : List UInt8 := [42, 3, 181, 0, 1, 42, 27, 182, 1, 90, 153, 0, 15, 28, 3, 42, 182, 1, 154, 184, 0, 241]
abbrev dktX5_errands_0 : List UInt8 := dkwX5_errands_0 ++ dktX5_errands_1
theorem dksX5_errands_0 : cX5_errands.data.toList.drop 0 = dktX5_errands_0 := by decide +kernel
theorem dksX5_errands_1 : cX5_errands.data.toList.drop 22 = dktX5_errands_1 := dk_seg dksX5_errands_0 22 rfl rfl
theorem dksX5_errands_2 : cX5_errands.data.toList.drop 44 = dktX5_errands_2 := dk_seg dksX5_errands_1 22 rfl rfl
theorem dX5_errands_0 : decode cX5_errands 0 = .ok (.aload_n 0, 1) := dk_42 (dk_at dksX5_errands_0 0 rfl rfl)
theorem dX5_errands_1 : decode cX5_errands 1 = .ok (.iconst 0, 1) := dk_3 (dk_at dksX5_errands_0 1 rfl rfl)
theorem dX5_errands_2 : decode cX5_errands 2 = .ok (.putfield 1, 3) := dk_181 0 1 (dk_at dksX5_errands_0 2 rfl rfl)
theorem dX5_errands_5 : decode cX5_errands 5 = .ok (.aload_n 0, 1) := dk_42 (dk_at dksX5_errands_0 5 rfl rfl)
theorem dX5_errands_6 : decode cX5_errands 6 = .ok (.iload_n 1, 1) := dk_27 (dk_at dksX5_errands_0 6 rfl rfl)
theorem dX5_errands_7 : decode cX5_errands 7 = .ok (.invokevirtual 346, 3) := dk_182 1 90 (dk_at dksX5_errands_0 7 rfl rfl)
theorem dX5_errands_10 : decode cX5_errands 10 = .ok (.ifCond .eq 15, 3) := dk_153 0 15 (dk_at dksX5_errands_0 10 rfl rfl)
theorem dX5_errands_13 : decode cX5_errands 13 = .ok (.iload_n 2, 1) := dk_28 (dk_at dksX5_errands_0 13 rfl rfl)
theorem dX5_errands_14 : decode cX5_errands 14 = .ok (.iconst 0, 1) := dk_3 (dk_at dksX5_errands_0 14 rfl rfl)
theorem dX5_errands_15 : decode cX5_errands 15 = .ok (.aload_n 0, 1) := dk_42 (dk_at dksX5_errands_0 15 rfl rfl)
theorem dX5_errands_16 : decode cX5_errands 16 = .ok (.invokevirtual 410, 3) := dk_182 1 154 (dk_at dksX5_errands_0 16 rfl rfl)
theorem dX5_errands_19 : decode cX5_errands 19 = .ok (.invokestatic 241, 3) := dk_184 0 241 (dk_at dksX5_errands_0 19 rfl rfl)
theorem dX5_errands_22 : decode cX5_errands 22 = .ok (.ifCond .ne 5, 3) := dk_154 0 5 (dk_at dksX5_errands_1 0 rfl rfl)
theorem dX5_errands_25 : decode cX5_errands 25 = .ok (.iconst (-1), 1) := dk_2 (dk_at dksX5_errands_1 3 rfl rfl)
theorem dX5_errands_26 : decode cX5_errands 26 = .ok (.ireturn, 1) := dk_172 (dk_at dksX5_errands_1 4 rfl rfl)
theorem dX5_errands_27 : decode cX5_errands 27 = .ok (.aload_n 0, 1) := dk_42 (dk_at dksX5_errands_1 5 rfl rfl)
theorem dX5_errands_28 : decode cX5_errands 28 = .ok (.iconst (-1), 1) := dk_2 (dk_at dksX5_errands_1 6 rfl rfl)
theorem dX5_errands_29 : decode cX5_errands 29 = .ok (.putfield 419, 3) := dk_181 1 163 (dk_at dksX5_errands_1 7 rfl rfl)
theorem dX5_errands_32 : decode cX5_errands 32 = .ok (.aload_n 0, 1) := dk_42 (dk_at dksX5_errands_1 10 rfl rfl)
theorem dX5_errands_33 : decode cX5_errands 33 = .ok (.iload_n 1, 1) := dk_27 (dk_at dksX5_errands_1 11 rfl rfl)
theorem dX5_errands_34 : decode cX5_errands 34 = .ok (.iconst 0, 1) := dk_3 (dk_at dksX5_errands_1 12 rfl rfl)
theorem dX5_errands_35 : decode cX5_errands 35 = .ok (.iconst 0, 1) := dk_3 (dk_at dksX5_errands_1 13 rfl rfl)
theorem dX5_errands_36 : decode cX5_errands 36 = .ok (.invokevirtual 422, 3) := dk_182 1 166 (dk_at dksX5_errands_1 14 rfl rfl)
theorem dX5_errands_39 : decode cX5_errands 39 = .ok (.iload_n 2, 1) := dk_28 (dk_at dksX5_errands_1 17 rfl rfl)
theorem dX5_errands_40 : decode cX5_errands 40 = .ok (.ifCond .ne 10, 3) := dk_154 0 10 (dk_at dksX5_errands_1 18 rfl rfl)
theorem dX5_errands_43 : decode cX5_errands 43 = .ok (.aload_n 0, 1) := dk_42 (dk_at dksX5_errands_1 21 rfl rfl)
theorem dX5_errands_44 : decode cX5_errands 44 = .ok (.getfield 419, 3) := dk_180 1 163 (dk_at dksX5_errands_2 0 rfl rfl)
theorem dX5_errands_47 : decode cX5_errands 47 = .ok (.goto 11, 3) := dk_167 0 11 (dk_at dksX5_errands_2 3 rfl rfl)
theorem dX5_errands_50 : decode cX5_errands 50 = .ok (.aload_n 0, 1) := dk_42 (dk_at dksX5_errands_2 6 rfl rfl)
theorem dX5_errands_51 : decode cX5_errands 51 = .ok (.getfield 151, 3) := dk_180 0 151 (dk_at dksX5_errands_2 7 rfl rfl)
theorem dX5_errands_54 : decode cX5_errands 54 = .ok (.iload_n 2, 1) := dk_28 (dk_at dksX5_errands_2 10 rfl rfl)
theorem dX5_errands_55 : decode cX5_errands 55 = .ok (.iconst 1, 1) := dk_4 (dk_at dksX5_errands_2 11 rfl rfl)
theorem dX5_errands_56 : decode cX5_errands 56 = .ok (.isub, 1) := dk_100 (dk_at dksX5_errands_2 12 rfl rfl)
theorem dX5_errands_57 : decode cX5_errands 57 = .ok (.iaload, 1) := dk_46 (dk_at dksX5_errands_2 13 rfl rfl)
theorem dX5_errands_58 : decode cX5_errands 58 = .ok (.ireturn, 1) := dk_172 (dk_at dksX5_errands_2 14 rfl rfl)
abbrev cX5_errandsMany : ByteArray := prog_26_method_51_code
def yX5_errandsMany : MethodName := ⟨RX5, "errandsMany", "()I"⟩
def dkwX5_errandsMany_0 : List UInt8 := [42, 180, 0, 111, 5, 46, 172]
abbrev dktX5_errandsMany_0 : List UInt8 := dkwX5_errandsMany_0 ++ []
theorem dksX5_errandsMany_0 : cX5_errandsMany.data.toList.drop 0 = dktX5_errandsMany_0 := by decide +kernel
theorem dX5_errandsMany_0 : decode cX5_errandsMany 0 = .ok (.aload_n 0, 1) := dk_42 (dk_at dksX5_errandsMany_0 0 rfl rfl)
theorem dX5_errandsMany_1 : decode cX5_errandsMany 1 = .ok (.getfield 111, 3) := dk_180 0 111 (dk_at dksX5_errandsMany_0 1 rfl rfl)
theorem dX5_errandsMany_4 : decode cX5_errandsMany 4 = .ok (.iconst 2, 1) := dk_5 (dk_at dksX5_errandsMany_0 4 rfl rfl)
theorem dX5_errandsMany_5 : decode cX5_errandsMany 5 = .ok (.iaload, 1) := dk_46 (dk_at dksX5_errandsMany_0 5 rfl rfl)
theorem dX5_errandsMany_6 : decode cX5_errandsMany 6 = .ok (.ireturn, 1) := dk_172 (dk_at dksX5_errandsMany_0 6 rfl rfl)
abbrev cX5_orders : ByteArray := prog_26_method_88_code
def yX5_orders : MethodName := ⟨RX5, "orders", "(III)V"⟩
def dkwX5_orders_4 : List UInt8 := [21, 4, 79, 42, 27, 28, 4, 96, 29, 4, 21, 4, 120, 128, 182, 1, 166, 132, 4, 1, 167, 255, 213, 177]
abbrev dktX5_orders_4 : List UInt8 := dkwX5_orders_4 ++ []
def dkwX5_orders_3 : List UInt8 := [21, 4, 42, 182, 1, 154, 162, 0, 40, 29, 21, 4, 122, 4, 126, 154, 0, 25, 42, 180, 0, 148, 28]
abbrev dktX5_orders_3 : List UInt8 := dkwX5_orders_3 ++ dktX5_orders_4
def dkwX5_orders_2 : List UInt8 := [180, 0, 151, 21, 5, 42, 180, 0, 148, 21, 5, 46, 79, 132, 5, 1, 167, 255, 233, 177, 3, 54, 4]
abbrev dktX5_orders_2 : List UInt8 := dkwX5_orders_2 ++ dktX5_orders_3
def dkwX5_orders_1 : List UInt8 := [42, 180, 1, 163, 162, 0, 38, 42, 21, 4, 181, 1, 163, 3, 54, 5, 21, 5, 28, 162, 0, 23, 42]
abbrev dktX5_orders_1 : List UInt8 := dkwX5_orders_1 ++ dktX5_orders_2
def dkwX5_orders_0 : List UInt8 := [28, 42, 182, 1, 154, 160, 0, 62, 42, 27, 182, 1, 160, 54, 4, 42, 180, 1, 163, 155, 0, 12, 21, 4]
abbrev dktX5_orders_0 : List UInt8 := dkwX5_orders_0 ++ dktX5_orders_1
theorem dksX5_orders_0 : cX5_orders.data.toList.drop 0 = dktX5_orders_0 := by decide +kernel
theorem dksX5_orders_1 : cX5_orders.data.toList.drop 24 = dktX5_orders_1 := dk_seg dksX5_orders_0 24 rfl rfl
theorem dksX5_orders_2 : cX5_orders.data.toList.drop 47 = dktX5_orders_2 := dk_seg dksX5_orders_1 23 rfl rfl
theorem dksX5_orders_3 : cX5_orders.data.toList.drop 70 = dktX5_orders_3 := dk_seg dksX5_orders_2 23 rfl rfl
theorem dksX5_orders_4 : cX5_orders.data.toList.drop 93 = dktX5_orders_4 := dk_seg dksX5_orders_3 23 rfl rfl
theorem dX5_orders_0 : decode cX5_orders 0 = .ok (.iload_n 2, 1) := dk_28 (dk_at dksX5_orders_0 0 rfl rfl)
theorem dX5_orders_1 : decode cX5_orders 1 = .ok (.aload_n 0, 1) := dk_42 (dk_at dksX5_orders_0 1 rfl rfl)
theorem dX5_orders_2 : decode cX5_orders 2 = .ok (.invokevirtual 410, 3) := dk_182 1 154 (dk_at dksX5_orders_0 2 rfl rfl)
theorem dX5_orders_5 : decode cX5_orders 5 = .ok (.if_icmp .ne 62, 3) := dk_160 0 62 (dk_at dksX5_orders_0 5 rfl rfl)
theorem dX5_orders_8 : decode cX5_orders 8 = .ok (.aload_n 0, 1) := dk_42 (dk_at dksX5_orders_0 8 rfl rfl)
theorem dX5_orders_9 : decode cX5_orders 9 = .ok (.iload_n 1, 1) := dk_27 (dk_at dksX5_orders_0 9 rfl rfl)
theorem dX5_orders_10 : decode cX5_orders 10 = .ok (.invokevirtual 416, 3) := dk_182 1 160 (dk_at dksX5_orders_0 10 rfl rfl)
theorem dX5_orders_13 : decode cX5_orders 13 = .ok (.istore 4, 2) := dk_54 4 (dk_at dksX5_orders_0 13 rfl rfl)
theorem dX5_orders_15 : decode cX5_orders 15 = .ok (.aload_n 0, 1) := dk_42 (dk_at dksX5_orders_0 15 rfl rfl)
theorem dX5_orders_16 : decode cX5_orders 16 = .ok (.getfield 419, 3) := dk_180 1 163 (dk_at dksX5_orders_0 16 rfl rfl)
theorem dX5_orders_19 : decode cX5_orders 19 = .ok (.ifCond .lt 12, 3) := dk_155 0 12 (dk_at dksX5_orders_0 19 rfl rfl)
theorem dX5_orders_22 : decode cX5_orders 22 = .ok (.iload 4, 2) := dk_21 4 (dk_at dksX5_orders_0 22 rfl rfl)
theorem dX5_orders_24 : decode cX5_orders 24 = .ok (.aload_n 0, 1) := dk_42 (dk_at dksX5_orders_1 0 rfl rfl)
theorem dX5_orders_25 : decode cX5_orders 25 = .ok (.getfield 419, 3) := dk_180 1 163 (dk_at dksX5_orders_1 1 rfl rfl)
theorem dX5_orders_28 : decode cX5_orders 28 = .ok (.if_icmp .ge 38, 3) := dk_162 0 38 (dk_at dksX5_orders_1 4 rfl rfl)
theorem dX5_orders_31 : decode cX5_orders 31 = .ok (.aload_n 0, 1) := dk_42 (dk_at dksX5_orders_1 7 rfl rfl)
theorem dX5_orders_32 : decode cX5_orders 32 = .ok (.iload 4, 2) := dk_21 4 (dk_at dksX5_orders_1 8 rfl rfl)
theorem dX5_orders_34 : decode cX5_orders 34 = .ok (.putfield 419, 3) := dk_181 1 163 (dk_at dksX5_orders_1 10 rfl rfl)
theorem dX5_orders_37 : decode cX5_orders 37 = .ok (.iconst 0, 1) := dk_3 (dk_at dksX5_orders_1 13 rfl rfl)
theorem dX5_orders_38 : decode cX5_orders 38 = .ok (.istore 5, 2) := dk_54 5 (dk_at dksX5_orders_1 14 rfl rfl)
theorem dX5_orders_40 : decode cX5_orders 40 = .ok (.iload 5, 2) := dk_21 5 (dk_at dksX5_orders_1 16 rfl rfl)
theorem dX5_orders_42 : decode cX5_orders 42 = .ok (.iload_n 2, 1) := dk_28 (dk_at dksX5_orders_1 18 rfl rfl)
theorem dX5_orders_43 : decode cX5_orders 43 = .ok (.if_icmp .ge 23, 3) := dk_162 0 23 (dk_at dksX5_orders_1 19 rfl rfl)
theorem dX5_orders_46 : decode cX5_orders 46 = .ok (.aload_n 0, 1) := dk_42 (dk_at dksX5_orders_1 22 rfl rfl)
theorem dX5_orders_47 : decode cX5_orders 47 = .ok (.getfield 151, 3) := dk_180 0 151 (dk_at dksX5_orders_2 0 rfl rfl)
theorem dX5_orders_50 : decode cX5_orders 50 = .ok (.iload 5, 2) := dk_21 5 (dk_at dksX5_orders_2 3 rfl rfl)
theorem dX5_orders_52 : decode cX5_orders 52 = .ok (.aload_n 0, 1) := dk_42 (dk_at dksX5_orders_2 5 rfl rfl)
theorem dX5_orders_53 : decode cX5_orders 53 = .ok (.getfield 148, 3) := dk_180 0 148 (dk_at dksX5_orders_2 6 rfl rfl)
theorem dX5_orders_56 : decode cX5_orders 56 = .ok (.iload 5, 2) := dk_21 5 (dk_at dksX5_orders_2 9 rfl rfl)
theorem dX5_orders_58 : decode cX5_orders 58 = .ok (.iaload, 1) := dk_46 (dk_at dksX5_orders_2 11 rfl rfl)
theorem dX5_orders_59 : decode cX5_orders 59 = .ok (.iastore, 1) := dk_79 (dk_at dksX5_orders_2 12 rfl rfl)
theorem dX5_orders_60 : decode cX5_orders 60 = .ok (.iinc 5 1, 3) := dk_132 5 1 (dk_at dksX5_orders_2 13 rfl rfl)
theorem dX5_orders_63 : decode cX5_orders 63 = .ok (.goto (-23), 3) := dk_167 255 233 (dk_at dksX5_orders_2 16 rfl rfl)
theorem dX5_orders_66 : decode cX5_orders 66 = .ok (.return_, 1) := dk_177 (dk_at dksX5_orders_2 19 rfl rfl)
theorem dX5_orders_67 : decode cX5_orders 67 = .ok (.iconst 0, 1) := dk_3 (dk_at dksX5_orders_2 20 rfl rfl)
theorem dX5_orders_68 : decode cX5_orders 68 = .ok (.istore 4, 2) := dk_54 4 (dk_at dksX5_orders_2 21 rfl rfl)
theorem dX5_orders_70 : decode cX5_orders 70 = .ok (.iload 4, 2) := dk_21 4 (dk_at dksX5_orders_3 0 rfl rfl)
theorem dX5_orders_72 : decode cX5_orders 72 = .ok (.aload_n 0, 1) := dk_42 (dk_at dksX5_orders_3 2 rfl rfl)
theorem dX5_orders_73 : decode cX5_orders 73 = .ok (.invokevirtual 410, 3) := dk_182 1 154 (dk_at dksX5_orders_3 3 rfl rfl)
theorem dX5_orders_76 : decode cX5_orders 76 = .ok (.if_icmp .ge 40, 3) := dk_162 0 40 (dk_at dksX5_orders_3 6 rfl rfl)
theorem dX5_orders_79 : decode cX5_orders 79 = .ok (.iload_n 3, 1) := dk_29 (dk_at dksX5_orders_3 9 rfl rfl)
theorem dX5_orders_80 : decode cX5_orders 80 = .ok (.iload 4, 2) := dk_21 4 (dk_at dksX5_orders_3 10 rfl rfl)
theorem dX5_orders_82 : decode cX5_orders 82 = .ok (.ishr, 1) := dk_122 (dk_at dksX5_orders_3 12 rfl rfl)
theorem dX5_orders_83 : decode cX5_orders 83 = .ok (.iconst 1, 1) := dk_4 (dk_at dksX5_orders_3 13 rfl rfl)
theorem dX5_orders_84 : decode cX5_orders 84 = .ok (.iand, 1) := dk_126 (dk_at dksX5_orders_3 14 rfl rfl)
theorem dX5_orders_85 : decode cX5_orders 85 = .ok (.ifCond .ne 25, 3) := dk_154 0 25 (dk_at dksX5_orders_3 15 rfl rfl)
theorem dX5_orders_88 : decode cX5_orders 88 = .ok (.aload_n 0, 1) := dk_42 (dk_at dksX5_orders_3 18 rfl rfl)
theorem dX5_orders_89 : decode cX5_orders 89 = .ok (.getfield 148, 3) := dk_180 0 148 (dk_at dksX5_orders_3 19 rfl rfl)
theorem dX5_orders_92 : decode cX5_orders 92 = .ok (.iload_n 2, 1) := dk_28 (dk_at dksX5_orders_3 22 rfl rfl)
theorem dX5_orders_93 : decode cX5_orders 93 = .ok (.iload 4, 2) := dk_21 4 (dk_at dksX5_orders_4 0 rfl rfl)
theorem dX5_orders_95 : decode cX5_orders 95 = .ok (.iastore, 1) := dk_79 (dk_at dksX5_orders_4 2 rfl rfl)
theorem dX5_orders_96 : decode cX5_orders 96 = .ok (.aload_n 0, 1) := dk_42 (dk_at dksX5_orders_4 3 rfl rfl)
theorem dX5_orders_97 : decode cX5_orders 97 = .ok (.iload_n 1, 1) := dk_27 (dk_at dksX5_orders_4 4 rfl rfl)
theorem dX5_orders_98 : decode cX5_orders 98 = .ok (.iload_n 2, 1) := dk_28 (dk_at dksX5_orders_4 5 rfl rfl)
theorem dX5_orders_99 : decode cX5_orders 99 = .ok (.iconst 1, 1) := dk_4 (dk_at dksX5_orders_4 6 rfl rfl)
theorem dX5_orders_100 : decode cX5_orders 100 = .ok (.iadd, 1) := dk_96 (dk_at dksX5_orders_4 7 rfl rfl)
theorem dX5_orders_101 : decode cX5_orders 101 = .ok (.iload_n 3, 1) := dk_29 (dk_at dksX5_orders_4 8 rfl rfl)
theorem dX5_orders_102 : decode cX5_orders 102 = .ok (.iconst 1, 1) := dk_4 (dk_at dksX5_orders_4 9 rfl rfl)
theorem dX5_orders_103 : decode cX5_orders 103 = .ok (.iload 4, 2) := dk_21 4 (dk_at dksX5_orders_4 10 rfl rfl)
theorem dX5_orders_105 : decode cX5_orders 105 = .ok (.ishl, 1) := dk_120 (dk_at dksX5_orders_4 12 rfl rfl)
theorem dX5_orders_106 : decode cX5_orders 106 = .ok (.ior, 1) := dk_128 (dk_at dksX5_orders_4 13 rfl rfl)
theorem dX5_orders_107 : decode cX5_orders 107 = .ok (.invokevirtual 422, 3) := dk_182 1 166 (dk_at dksX5_orders_4 14 rfl rfl)
theorem dX5_orders_110 : decode cX5_orders 110 = .ok (.iinc 4 1, 3) := dk_132 4 1 (dk_at dksX5_orders_4 17 rfl rfl)
theorem dX5_orders_113 : decode cX5_orders 113 = .ok (.goto (-43), 3) := dk_167 255 213 (dk_at dksX5_orders_4 20 rfl rfl)
theorem dX5_orders_116 : decode cX5_orders 116 = .ok (.return_, 1) := dk_177 (dk_at dksX5_orders_4 23 rfl rfl)
abbrev cX5_beatsBy : ByteArray := prog_26_method_87_code
def yX5_beatsBy : MethodName := ⟨RX5, "beatsBy", "(I)I"⟩
def dkwX5_beatsBy_6 : List UInt8 := [54, 4, 132, 5, 1, 167, 255, 120, 28, 172]
abbrev dktX5_beatsBy_6 : List UInt8 := dkwX5_beatsBy_6 ++ []
def dkwX5_beatsBy_5 : List UInt8 := [21, 4, 42, 21, 6, 5, 182, 1, 157, 162, 0, 13, 42, 21, 6, 5, 182, 1, 157, 167, 0, 5, 21, 4]
abbrev dktX5_beatsBy_5 : List UInt8 := dkwX5_beatsBy_5 ++ dktX5_beatsBy_6
def dkwX5_beatsBy_4 : List UInt8 := [182, 1, 157, 96, 96, 61, 42, 27, 21, 4, 182, 1, 109, 54, 4, 132, 3, 1, 132, 7, 1, 167, 255, 210]
abbrev dktX5_beatsBy_4 : List UInt8 := dkwX5_beatsBy_4 ++ dktX5_beatsBy_5
def dkwX5_beatsBy_3 : List UInt8 := [21, 6, 4, 182, 1, 157, 162, 0, 40, 28, 42, 27, 182, 1, 97, 21, 4, 96, 42, 21, 6, 5]
abbrev dktX5_beatsBy_3 : List UInt8 := dkwX5_beatsBy_3 ++ dktX5_beatsBy_4
def dkwX5_beatsBy_2 : List UInt8 := [96, 96, 61, 42, 27, 21, 4, 182, 1, 109, 54, 4, 132, 3, 1, 167, 255, 222, 3, 54, 7, 21, 7, 42]
abbrev dktX5_beatsBy_2 : List UInt8 := dkwX5_beatsBy_2 ++ dktX5_beatsBy_3
def dkwX5_beatsBy_1 : List UInt8 := [21, 5, 46, 54, 6, 29, 42, 21, 6, 3, 182, 1, 157, 162, 0, 29, 28, 42, 27, 182, 1, 97, 21, 4]
abbrev dktX5_beatsBy_1 : List UInt8 := dkwX5_beatsBy_1 ++ dktX5_beatsBy_2
def dkwX5_beatsBy_0 : List UInt8 := [3, 61, 3, 62, 3, 54, 4, 3, 54, 5, 21, 5, 42, 182, 1, 154, 162, 0, 133, 42, 180, 0, 148]
abbrev dktX5_beatsBy_0 : List UInt8 := dkwX5_beatsBy_0 ++ dktX5_beatsBy_1
theorem dksX5_beatsBy_0 : cX5_beatsBy.data.toList.drop 0 = dktX5_beatsBy_0 := by decide +kernel
theorem dksX5_beatsBy_1 : cX5_beatsBy.data.toList.drop 23 = dktX5_beatsBy_1 := dk_seg dksX5_beatsBy_0 23 rfl rfl
theorem dksX5_beatsBy_2 : cX5_beatsBy.data.toList.drop 47 = dktX5_beatsBy_2 := dk_seg dksX5_beatsBy_1 24 rfl rfl
theorem dksX5_beatsBy_3 : cX5_beatsBy.data.toList.drop 71 = dktX5_beatsBy_3 := dk_seg dksX5_beatsBy_2 24 rfl rfl
theorem dksX5_beatsBy_4 : cX5_beatsBy.data.toList.drop 93 = dktX5_beatsBy_4 := dk_seg dksX5_beatsBy_3 22 rfl rfl
theorem dksX5_beatsBy_5 : cX5_beatsBy.data.toList.drop 117 = dktX5_beatsBy_5 := dk_seg dksX5_beatsBy_4 24 rfl rfl
theorem dksX5_beatsBy_6 : cX5_beatsBy.data.toList.drop 141 = dktX5_beatsBy_6 := dk_seg dksX5_beatsBy_5 24 rfl rfl
theorem dX5_beatsBy_0 : decode cX5_beatsBy 0 = .ok (.iconst 0, 1) := dk_3 (dk_at dksX5_beatsBy_0 0 rfl rfl)
theorem dX5_beatsBy_1 : decode cX5_beatsBy 1 = .ok (.istore_n 2, 1) := dk_61 (dk_at dksX5_beatsBy_0 1 rfl rfl)
theorem dX5_beatsBy_2 : decode cX5_beatsBy 2 = .ok (.iconst 0, 1) := dk_3 (dk_at dksX5_beatsBy_0 2 rfl rfl)
theorem dX5_beatsBy_3 : decode cX5_beatsBy 3 = .ok (.istore_n 3, 1) := dk_62 (dk_at dksX5_beatsBy_0 3 rfl rfl)
theorem dX5_beatsBy_4 : decode cX5_beatsBy 4 = .ok (.iconst 0, 1) := dk_3 (dk_at dksX5_beatsBy_0 4 rfl rfl)
theorem dX5_beatsBy_5 : decode cX5_beatsBy 5 = .ok (.istore 4, 2) := dk_54 4 (dk_at dksX5_beatsBy_0 5 rfl rfl)
theorem dX5_beatsBy_7 : decode cX5_beatsBy 7 = .ok (.iconst 0, 1) := dk_3 (dk_at dksX5_beatsBy_0 7 rfl rfl)
theorem dX5_beatsBy_8 : decode cX5_beatsBy 8 = .ok (.istore 5, 2) := dk_54 5 (dk_at dksX5_beatsBy_0 8 rfl rfl)
theorem dX5_beatsBy_10 : decode cX5_beatsBy 10 = .ok (.iload 5, 2) := dk_21 5 (dk_at dksX5_beatsBy_0 10 rfl rfl)
theorem dX5_beatsBy_12 : decode cX5_beatsBy 12 = .ok (.aload_n 0, 1) := dk_42 (dk_at dksX5_beatsBy_0 12 rfl rfl)
theorem dX5_beatsBy_13 : decode cX5_beatsBy 13 = .ok (.invokevirtual 410, 3) := dk_182 1 154 (dk_at dksX5_beatsBy_0 13 rfl rfl)
theorem dX5_beatsBy_16 : decode cX5_beatsBy 16 = .ok (.if_icmp .ge 133, 3) := dk_162 0 133 (dk_at dksX5_beatsBy_0 16 rfl rfl)
theorem dX5_beatsBy_19 : decode cX5_beatsBy 19 = .ok (.aload_n 0, 1) := dk_42 (dk_at dksX5_beatsBy_0 19 rfl rfl)
theorem dX5_beatsBy_20 : decode cX5_beatsBy 20 = .ok (.getfield 148, 3) := dk_180 0 148 (dk_at dksX5_beatsBy_0 20 rfl rfl)
theorem dX5_beatsBy_23 : decode cX5_beatsBy 23 = .ok (.iload 5, 2) := dk_21 5 (dk_at dksX5_beatsBy_1 0 rfl rfl)
theorem dX5_beatsBy_25 : decode cX5_beatsBy 25 = .ok (.iaload, 1) := dk_46 (dk_at dksX5_beatsBy_1 2 rfl rfl)
theorem dX5_beatsBy_26 : decode cX5_beatsBy 26 = .ok (.istore 6, 2) := dk_54 6 (dk_at dksX5_beatsBy_1 3 rfl rfl)
theorem dX5_beatsBy_28 : decode cX5_beatsBy 28 = .ok (.iload_n 3, 1) := dk_29 (dk_at dksX5_beatsBy_1 5 rfl rfl)
theorem dX5_beatsBy_29 : decode cX5_beatsBy 29 = .ok (.aload_n 0, 1) := dk_42 (dk_at dksX5_beatsBy_1 6 rfl rfl)
theorem dX5_beatsBy_30 : decode cX5_beatsBy 30 = .ok (.iload 6, 2) := dk_21 6 (dk_at dksX5_beatsBy_1 7 rfl rfl)
theorem dX5_beatsBy_32 : decode cX5_beatsBy 32 = .ok (.iconst 0, 1) := dk_3 (dk_at dksX5_beatsBy_1 9 rfl rfl)
theorem dX5_beatsBy_33 : decode cX5_beatsBy 33 = .ok (.invokevirtual 413, 3) := dk_182 1 157 (dk_at dksX5_beatsBy_1 10 rfl rfl)
theorem dX5_beatsBy_36 : decode cX5_beatsBy 36 = .ok (.if_icmp .ge 29, 3) := dk_162 0 29 (dk_at dksX5_beatsBy_1 13 rfl rfl)
theorem dX5_beatsBy_39 : decode cX5_beatsBy 39 = .ok (.iload_n 2, 1) := dk_28 (dk_at dksX5_beatsBy_1 16 rfl rfl)
theorem dX5_beatsBy_40 : decode cX5_beatsBy 40 = .ok (.aload_n 0, 1) := dk_42 (dk_at dksX5_beatsBy_1 17 rfl rfl)
theorem dX5_beatsBy_41 : decode cX5_beatsBy 41 = .ok (.iload_n 1, 1) := dk_27 (dk_at dksX5_beatsBy_1 18 rfl rfl)
theorem dX5_beatsBy_42 : decode cX5_beatsBy 42 = .ok (.invokevirtual 353, 3) := dk_182 1 97 (dk_at dksX5_beatsBy_1 19 rfl rfl)
theorem dX5_beatsBy_45 : decode cX5_beatsBy 45 = .ok (.iload 4, 2) := dk_21 4 (dk_at dksX5_beatsBy_1 22 rfl rfl)
theorem dX5_beatsBy_47 : decode cX5_beatsBy 47 = .ok (.iadd, 1) := dk_96 (dk_at dksX5_beatsBy_2 0 rfl rfl)
theorem dX5_beatsBy_48 : decode cX5_beatsBy 48 = .ok (.iadd, 1) := dk_96 (dk_at dksX5_beatsBy_2 1 rfl rfl)
theorem dX5_beatsBy_49 : decode cX5_beatsBy 49 = .ok (.istore_n 2, 1) := dk_61 (dk_at dksX5_beatsBy_2 2 rfl rfl)
theorem dX5_beatsBy_50 : decode cX5_beatsBy 50 = .ok (.aload_n 0, 1) := dk_42 (dk_at dksX5_beatsBy_2 3 rfl rfl)
theorem dX5_beatsBy_51 : decode cX5_beatsBy 51 = .ok (.iload_n 1, 1) := dk_27 (dk_at dksX5_beatsBy_2 4 rfl rfl)
theorem dX5_beatsBy_52 : decode cX5_beatsBy 52 = .ok (.iload 4, 2) := dk_21 4 (dk_at dksX5_beatsBy_2 5 rfl rfl)
theorem dX5_beatsBy_54 : decode cX5_beatsBy 54 = .ok (.invokevirtual 365, 3) := dk_182 1 109 (dk_at dksX5_beatsBy_2 7 rfl rfl)
theorem dX5_beatsBy_57 : decode cX5_beatsBy 57 = .ok (.istore 4, 2) := dk_54 4 (dk_at dksX5_beatsBy_2 10 rfl rfl)
theorem dX5_beatsBy_59 : decode cX5_beatsBy 59 = .ok (.iinc 3 1, 3) := dk_132 3 1 (dk_at dksX5_beatsBy_2 12 rfl rfl)
theorem dX5_beatsBy_62 : decode cX5_beatsBy 62 = .ok (.goto (-34), 3) := dk_167 255 222 (dk_at dksX5_beatsBy_2 15 rfl rfl)
theorem dX5_beatsBy_65 : decode cX5_beatsBy 65 = .ok (.iconst 0, 1) := dk_3 (dk_at dksX5_beatsBy_2 18 rfl rfl)
theorem dX5_beatsBy_66 : decode cX5_beatsBy 66 = .ok (.istore 7, 2) := dk_54 7 (dk_at dksX5_beatsBy_2 19 rfl rfl)
theorem dX5_beatsBy_68 : decode cX5_beatsBy 68 = .ok (.iload 7, 2) := dk_21 7 (dk_at dksX5_beatsBy_2 21 rfl rfl)
theorem dX5_beatsBy_70 : decode cX5_beatsBy 70 = .ok (.aload_n 0, 1) := dk_42 (dk_at dksX5_beatsBy_2 23 rfl rfl)
theorem dX5_beatsBy_71 : decode cX5_beatsBy 71 = .ok (.iload 6, 2) := dk_21 6 (dk_at dksX5_beatsBy_3 0 rfl rfl)
theorem dX5_beatsBy_73 : decode cX5_beatsBy 73 = .ok (.iconst 1, 1) := dk_4 (dk_at dksX5_beatsBy_3 2 rfl rfl)
theorem dX5_beatsBy_74 : decode cX5_beatsBy 74 = .ok (.invokevirtual 413, 3) := dk_182 1 157 (dk_at dksX5_beatsBy_3 3 rfl rfl)
theorem dX5_beatsBy_77 : decode cX5_beatsBy 77 = .ok (.if_icmp .ge 40, 3) := dk_162 0 40 (dk_at dksX5_beatsBy_3 6 rfl rfl)
theorem dX5_beatsBy_80 : decode cX5_beatsBy 80 = .ok (.iload_n 2, 1) := dk_28 (dk_at dksX5_beatsBy_3 9 rfl rfl)
theorem dX5_beatsBy_81 : decode cX5_beatsBy 81 = .ok (.aload_n 0, 1) := dk_42 (dk_at dksX5_beatsBy_3 10 rfl rfl)
theorem dX5_beatsBy_82 : decode cX5_beatsBy 82 = .ok (.iload_n 1, 1) := dk_27 (dk_at dksX5_beatsBy_3 11 rfl rfl)
theorem dX5_beatsBy_83 : decode cX5_beatsBy 83 = .ok (.invokevirtual 353, 3) := dk_182 1 97 (dk_at dksX5_beatsBy_3 12 rfl rfl)
theorem dX5_beatsBy_86 : decode cX5_beatsBy 86 = .ok (.iload 4, 2) := dk_21 4 (dk_at dksX5_beatsBy_3 15 rfl rfl)
theorem dX5_beatsBy_88 : decode cX5_beatsBy 88 = .ok (.iadd, 1) := dk_96 (dk_at dksX5_beatsBy_3 17 rfl rfl)
theorem dX5_beatsBy_89 : decode cX5_beatsBy 89 = .ok (.aload_n 0, 1) := dk_42 (dk_at dksX5_beatsBy_3 18 rfl rfl)
theorem dX5_beatsBy_90 : decode cX5_beatsBy 90 = .ok (.iload 6, 2) := dk_21 6 (dk_at dksX5_beatsBy_3 19 rfl rfl)
theorem dX5_beatsBy_92 : decode cX5_beatsBy 92 = .ok (.iconst 2, 1) := dk_5 (dk_at dksX5_beatsBy_3 21 rfl rfl)
theorem dX5_beatsBy_93 : decode cX5_beatsBy 93 = .ok (.invokevirtual 413, 3) := dk_182 1 157 (dk_at dksX5_beatsBy_4 0 rfl rfl)
theorem dX5_beatsBy_96 : decode cX5_beatsBy 96 = .ok (.iadd, 1) := dk_96 (dk_at dksX5_beatsBy_4 3 rfl rfl)
theorem dX5_beatsBy_97 : decode cX5_beatsBy 97 = .ok (.iadd, 1) := dk_96 (dk_at dksX5_beatsBy_4 4 rfl rfl)
theorem dX5_beatsBy_98 : decode cX5_beatsBy 98 = .ok (.istore_n 2, 1) := dk_61 (dk_at dksX5_beatsBy_4 5 rfl rfl)
theorem dX5_beatsBy_99 : decode cX5_beatsBy 99 = .ok (.aload_n 0, 1) := dk_42 (dk_at dksX5_beatsBy_4 6 rfl rfl)
theorem dX5_beatsBy_100 : decode cX5_beatsBy 100 = .ok (.iload_n 1, 1) := dk_27 (dk_at dksX5_beatsBy_4 7 rfl rfl)
theorem dX5_beatsBy_101 : decode cX5_beatsBy 101 = .ok (.iload 4, 2) := dk_21 4 (dk_at dksX5_beatsBy_4 8 rfl rfl)
theorem dX5_beatsBy_103 : decode cX5_beatsBy 103 = .ok (.invokevirtual 365, 3) := dk_182 1 109 (dk_at dksX5_beatsBy_4 10 rfl rfl)
theorem dX5_beatsBy_106 : decode cX5_beatsBy 106 = .ok (.istore 4, 2) := dk_54 4 (dk_at dksX5_beatsBy_4 13 rfl rfl)
theorem dX5_beatsBy_108 : decode cX5_beatsBy 108 = .ok (.iinc 3 1, 3) := dk_132 3 1 (dk_at dksX5_beatsBy_4 15 rfl rfl)
theorem dX5_beatsBy_111 : decode cX5_beatsBy 111 = .ok (.iinc 7 1, 3) := dk_132 7 1 (dk_at dksX5_beatsBy_4 18 rfl rfl)
theorem dX5_beatsBy_114 : decode cX5_beatsBy 114 = .ok (.goto (-46), 3) := dk_167 255 210 (dk_at dksX5_beatsBy_4 21 rfl rfl)
theorem dX5_beatsBy_117 : decode cX5_beatsBy 117 = .ok (.iload 4, 2) := dk_21 4 (dk_at dksX5_beatsBy_5 0 rfl rfl)
theorem dX5_beatsBy_119 : decode cX5_beatsBy 119 = .ok (.aload_n 0, 1) := dk_42 (dk_at dksX5_beatsBy_5 2 rfl rfl)
theorem dX5_beatsBy_120 : decode cX5_beatsBy 120 = .ok (.iload 6, 2) := dk_21 6 (dk_at dksX5_beatsBy_5 3 rfl rfl)
theorem dX5_beatsBy_122 : decode cX5_beatsBy 122 = .ok (.iconst 2, 1) := dk_5 (dk_at dksX5_beatsBy_5 5 rfl rfl)
theorem dX5_beatsBy_123 : decode cX5_beatsBy 123 = .ok (.invokevirtual 413, 3) := dk_182 1 157 (dk_at dksX5_beatsBy_5 6 rfl rfl)
theorem dX5_beatsBy_126 : decode cX5_beatsBy 126 = .ok (.if_icmp .ge 13, 3) := dk_162 0 13 (dk_at dksX5_beatsBy_5 9 rfl rfl)
theorem dX5_beatsBy_129 : decode cX5_beatsBy 129 = .ok (.aload_n 0, 1) := dk_42 (dk_at dksX5_beatsBy_5 12 rfl rfl)
theorem dX5_beatsBy_130 : decode cX5_beatsBy 130 = .ok (.iload 6, 2) := dk_21 6 (dk_at dksX5_beatsBy_5 13 rfl rfl)
theorem dX5_beatsBy_132 : decode cX5_beatsBy 132 = .ok (.iconst 2, 1) := dk_5 (dk_at dksX5_beatsBy_5 15 rfl rfl)
theorem dX5_beatsBy_133 : decode cX5_beatsBy 133 = .ok (.invokevirtual 413, 3) := dk_182 1 157 (dk_at dksX5_beatsBy_5 16 rfl rfl)
theorem dX5_beatsBy_136 : decode cX5_beatsBy 136 = .ok (.goto 5, 3) := dk_167 0 5 (dk_at dksX5_beatsBy_5 19 rfl rfl)
theorem dX5_beatsBy_139 : decode cX5_beatsBy 139 = .ok (.iload 4, 2) := dk_21 4 (dk_at dksX5_beatsBy_5 22 rfl rfl)
theorem dX5_beatsBy_141 : decode cX5_beatsBy 141 = .ok (.istore 4, 2) := dk_54 4 (dk_at dksX5_beatsBy_6 0 rfl rfl)
theorem dX5_beatsBy_143 : decode cX5_beatsBy 143 = .ok (.iinc 5 1, 3) := dk_132 5 1 (dk_at dksX5_beatsBy_6 2 rfl rfl)
theorem dX5_beatsBy_146 : decode cX5_beatsBy 146 = .ok (.goto (-136), 3) := dk_167 255 120 (dk_at dksX5_beatsBy_6 5 rfl rfl)
theorem dX5_beatsBy_149 : decode cX5_beatsBy 149 = .ok (.iload_n 2, 1) := dk_28 (dk_at dksX5_beatsBy_6 8 rfl rfl)
theorem dX5_beatsBy_150 : decode cX5_beatsBy 150 = .ok (.ireturn, 1) := dk_172 (dk_at dksX5_beatsBy_6 9 rfl rfl)
abbrev cX5_errandOf : ByteArray := prog_26_method_54_code
def yX5_errandOf : MethodName := ⟨RX5, "errandOf", "(II)I"⟩
def dkwX5_errandOf_0 : List UInt8 := [42, 180, 0, 111, 16, 92, 6, 27, 104, 96, 28, 96, 46, 172]
abbrev dktX5_errandOf_0 : List UInt8 := dkwX5_errandOf_0 ++ []
theorem dksX5_errandOf_0 : cX5_errandOf.data.toList.drop 0 = dktX5_errandOf_0 := by decide +kernel
theorem dX5_errandOf_0 : decode cX5_errandOf 0 = .ok (.aload_n 0, 1) := dk_42 (dk_at dksX5_errandOf_0 0 rfl rfl)
theorem dX5_errandOf_1 : decode cX5_errandOf 1 = .ok (.getfield 111, 3) := dk_180 0 111 (dk_at dksX5_errandOf_0 1 rfl rfl)
theorem dX5_errandOf_4 : decode cX5_errandOf 4 = .ok (.bipush 92, 2) := dk_16 92 (dk_at dksX5_errandOf_0 4 rfl rfl)
theorem dX5_errandOf_6 : decode cX5_errandOf 6 = .ok (.iconst 3, 1) := dk_6 (dk_at dksX5_errandOf_0 6 rfl rfl)
theorem dX5_errandOf_7 : decode cX5_errandOf 7 = .ok (.iload_n 1, 1) := dk_27 (dk_at dksX5_errandOf_0 7 rfl rfl)
theorem dX5_errandOf_8 : decode cX5_errandOf 8 = .ok (.imul, 1) := dk_104 (dk_at dksX5_errandOf_0 8 rfl rfl)
theorem dX5_errandOf_9 : decode cX5_errandOf 9 = .ok (.iadd, 1) := dk_96 (dk_at dksX5_errandOf_0 9 rfl rfl)
theorem dX5_errandOf_10 : decode cX5_errandOf 10 = .ok (.iload_n 2, 1) := dk_28 (dk_at dksX5_errandOf_0 10 rfl rfl)
theorem dX5_errandOf_11 : decode cX5_errandOf 11 = .ok (.iadd, 1) := dk_96 (dk_at dksX5_errandOf_0 11 rfl rfl)
theorem dX5_errandOf_12 : decode cX5_errandOf 12 = .ok (.iaload, 1) := dk_46 (dk_at dksX5_errandOf_0 12 rfl rfl)
theorem dX5_errandOf_13 : decode cX5_errandOf 13 = .ok (.ireturn, 1) := dk_172 (dk_at dksX5_errandOf_0 13 rfl rfl)
abbrev cX5_match : ByteArray := prog_26_method_95_code
def yX5_match : MethodName := ⟨RX5, "match", "(I)I"⟩
def dkwX5_match_1 : List UInt8 := [27, 46, 172]
abbrev dktX5_match_1 : List UInt8 := dkwX5_match_1 ++ []
def dkwX5_match_0 : List UInt8 := [42, 3, 181, 0, 1, 42, 27, 182, 1, 90, 154, 0, 6, 16, 254, 172, 42, 182, 1, 181, 42, 180, 0, 157]
abbrev dktX5_match_0 : List UInt8 := dkwX5_match_0 ++ dktX5_match_1
theorem dksX5_match_0 : cX5_match.data.toList.drop 0 = dktX5_match_0 := by decide +kernel
theorem dksX5_match_1 : cX5_match.data.toList.drop 24 = dktX5_match_1 := dk_seg dksX5_match_0 24 rfl rfl
theorem dX5_match_0 : decode cX5_match 0 = .ok (.aload_n 0, 1) := dk_42 (dk_at dksX5_match_0 0 rfl rfl)
theorem dX5_match_1 : decode cX5_match 1 = .ok (.iconst 0, 1) := dk_3 (dk_at dksX5_match_0 1 rfl rfl)
theorem dX5_match_2 : decode cX5_match 2 = .ok (.putfield 1, 3) := dk_181 0 1 (dk_at dksX5_match_0 2 rfl rfl)
theorem dX5_match_5 : decode cX5_match 5 = .ok (.aload_n 0, 1) := dk_42 (dk_at dksX5_match_0 5 rfl rfl)
theorem dX5_match_6 : decode cX5_match 6 = .ok (.iload_n 1, 1) := dk_27 (dk_at dksX5_match_0 6 rfl rfl)
theorem dX5_match_7 : decode cX5_match 7 = .ok (.invokevirtual 346, 3) := dk_182 1 90 (dk_at dksX5_match_0 7 rfl rfl)
theorem dX5_match_10 : decode cX5_match 10 = .ok (.ifCond .ne 6, 3) := dk_154 0 6 (dk_at dksX5_match_0 10 rfl rfl)
theorem dX5_match_13 : decode cX5_match 13 = .ok (.bipush (-2), 2) := dk_16 254 (dk_at dksX5_match_0 13 rfl rfl)
theorem dX5_match_15 : decode cX5_match 15 = .ok (.ireturn, 1) := dk_172 (dk_at dksX5_match_0 15 rfl rfl)
theorem dX5_match_16 : decode cX5_match 16 = .ok (.aload_n 0, 1) := dk_42 (dk_at dksX5_match_0 16 rfl rfl)
theorem dX5_match_17 : decode cX5_match 17 = .ok (.invokevirtual 437, 3) := dk_182 1 181 (dk_at dksX5_match_0 17 rfl rfl)
theorem dX5_match_20 : decode cX5_match 20 = .ok (.aload_n 0, 1) := dk_42 (dk_at dksX5_match_0 20 rfl rfl)
theorem dX5_match_21 : decode cX5_match 21 = .ok (.getfield 157, 3) := dk_180 0 157 (dk_at dksX5_match_0 21 rfl rfl)
theorem dX5_match_24 : decode cX5_match 24 = .ok (.iload_n 1, 1) := dk_27 (dk_at dksX5_match_1 0 rfl rfl)
theorem dX5_match_25 : decode cX5_match 25 = .ok (.iaload, 1) := dk_46 (dk_at dksX5_match_1 1 rfl rfl)
theorem dX5_match_26 : decode cX5_match 26 = .ok (.ireturn, 1) := dk_172 (dk_at dksX5_match_1 2 rfl rfl)
abbrev cX5_findMatch : ByteArray := prog_26_method_94_code
def yX5_findMatch : MethodName := ⟨RX5, "findMatch", "()V"⟩
def dkwX5_findMatch_4 : List UInt8 := [167, 0, 4, 3, 60, 132, 2, 1, 167, 255, 227, 167, 255, 216, 177]
abbrev dktX5_findMatch_4 : List UInt8 := dkwX5_findMatch_4 ++ []
def dkwX5_findMatch_3 : List UInt8 := [3, 61, 28, 42, 182, 1, 67, 162, 0, 27, 42, 28, 182, 1, 178, 154, 0, 7, 27, 153, 0, 7, 4]
abbrev dktX5_findMatch_3 : List UInt8 := dkwX5_findMatch_3 ++ dktX5_findMatch_4
def dkwX5_findMatch_2 : List UInt8 := [182, 1, 175, 79, 132, 2, 1, 167, 255, 228, 132, 1, 1, 167, 255, 198, 4, 60, 27, 153, 0, 42, 3, 60]
abbrev dktX5_findMatch_2 : List UInt8 := dkwX5_findMatch_2 ++ dktX5_findMatch_3
def dkwX5_findMatch_1 : List UInt8 := [3, 61, 28, 42, 182, 1, 87, 162, 0, 26, 42, 180, 0, 154, 16, 6, 27, 104, 28, 96, 42, 27, 28]
abbrev dktX5_findMatch_1 : List UInt8 := dkwX5_findMatch_1 ++ dktX5_findMatch_2
def dkwX5_findMatch_0 : List UInt8 := [3, 60, 27, 42, 182, 1, 67, 162, 0, 56, 42, 180, 0, 157, 27, 2, 79, 42, 180, 0, 160, 27, 3, 79]
abbrev dktX5_findMatch_0 : List UInt8 := dkwX5_findMatch_0 ++ dktX5_findMatch_1
theorem dksX5_findMatch_0 : cX5_findMatch.data.toList.drop 0 = dktX5_findMatch_0 := by decide +kernel
theorem dksX5_findMatch_1 : cX5_findMatch.data.toList.drop 24 = dktX5_findMatch_1 := dk_seg dksX5_findMatch_0 24 rfl rfl
theorem dksX5_findMatch_2 : cX5_findMatch.data.toList.drop 47 = dktX5_findMatch_2 := dk_seg dksX5_findMatch_1 23 rfl rfl
theorem dksX5_findMatch_3 : cX5_findMatch.data.toList.drop 71 = dktX5_findMatch_3 := dk_seg dksX5_findMatch_2 24 rfl rfl
theorem dksX5_findMatch_4 : cX5_findMatch.data.toList.drop 94 = dktX5_findMatch_4 := dk_seg dksX5_findMatch_3 23 rfl rfl
theorem dX5_findMatch_0 : decode cX5_findMatch 0 = .ok (.iconst 0, 1) := dk_3 (dk_at dksX5_findMatch_0 0 rfl rfl)
theorem dX5_findMatch_1 : decode cX5_findMatch 1 = .ok (.istore_n 1, 1) := dk_60 (dk_at dksX5_findMatch_0 1 rfl rfl)
theorem dX5_findMatch_2 : decode cX5_findMatch 2 = .ok (.iload_n 1, 1) := dk_27 (dk_at dksX5_findMatch_0 2 rfl rfl)
theorem dX5_findMatch_3 : decode cX5_findMatch 3 = .ok (.aload_n 0, 1) := dk_42 (dk_at dksX5_findMatch_0 3 rfl rfl)
theorem dX5_findMatch_4 : decode cX5_findMatch 4 = .ok (.invokevirtual 323, 3) := dk_182 1 67 (dk_at dksX5_findMatch_0 4 rfl rfl)
theorem dX5_findMatch_7 : decode cX5_findMatch 7 = .ok (.if_icmp .ge 56, 3) := dk_162 0 56 (dk_at dksX5_findMatch_0 7 rfl rfl)
theorem dX5_findMatch_10 : decode cX5_findMatch 10 = .ok (.aload_n 0, 1) := dk_42 (dk_at dksX5_findMatch_0 10 rfl rfl)
theorem dX5_findMatch_11 : decode cX5_findMatch 11 = .ok (.getfield 157, 3) := dk_180 0 157 (dk_at dksX5_findMatch_0 11 rfl rfl)
theorem dX5_findMatch_14 : decode cX5_findMatch 14 = .ok (.iload_n 1, 1) := dk_27 (dk_at dksX5_findMatch_0 14 rfl rfl)
theorem dX5_findMatch_15 : decode cX5_findMatch 15 = .ok (.iconst (-1), 1) := dk_2 (dk_at dksX5_findMatch_0 15 rfl rfl)
theorem dX5_findMatch_16 : decode cX5_findMatch 16 = .ok (.iastore, 1) := dk_79 (dk_at dksX5_findMatch_0 16 rfl rfl)
theorem dX5_findMatch_17 : decode cX5_findMatch 17 = .ok (.aload_n 0, 1) := dk_42 (dk_at dksX5_findMatch_0 17 rfl rfl)
theorem dX5_findMatch_18 : decode cX5_findMatch 18 = .ok (.getfield 160, 3) := dk_180 0 160 (dk_at dksX5_findMatch_0 18 rfl rfl)
theorem dX5_findMatch_21 : decode cX5_findMatch 21 = .ok (.iload_n 1, 1) := dk_27 (dk_at dksX5_findMatch_0 21 rfl rfl)
theorem dX5_findMatch_22 : decode cX5_findMatch 22 = .ok (.iconst 0, 1) := dk_3 (dk_at dksX5_findMatch_0 22 rfl rfl)
theorem dX5_findMatch_23 : decode cX5_findMatch 23 = .ok (.iastore, 1) := dk_79 (dk_at dksX5_findMatch_0 23 rfl rfl)
theorem dX5_findMatch_24 : decode cX5_findMatch 24 = .ok (.iconst 0, 1) := dk_3 (dk_at dksX5_findMatch_1 0 rfl rfl)
theorem dX5_findMatch_25 : decode cX5_findMatch 25 = .ok (.istore_n 2, 1) := dk_61 (dk_at dksX5_findMatch_1 1 rfl rfl)
theorem dX5_findMatch_26 : decode cX5_findMatch 26 = .ok (.iload_n 2, 1) := dk_28 (dk_at dksX5_findMatch_1 2 rfl rfl)
theorem dX5_findMatch_27 : decode cX5_findMatch 27 = .ok (.aload_n 0, 1) := dk_42 (dk_at dksX5_findMatch_1 3 rfl rfl)
theorem dX5_findMatch_28 : decode cX5_findMatch 28 = .ok (.invokevirtual 343, 3) := dk_182 1 87 (dk_at dksX5_findMatch_1 4 rfl rfl)
theorem dX5_findMatch_31 : decode cX5_findMatch 31 = .ok (.if_icmp .ge 26, 3) := dk_162 0 26 (dk_at dksX5_findMatch_1 7 rfl rfl)
theorem dX5_findMatch_34 : decode cX5_findMatch 34 = .ok (.aload_n 0, 1) := dk_42 (dk_at dksX5_findMatch_1 10 rfl rfl)
theorem dX5_findMatch_35 : decode cX5_findMatch 35 = .ok (.getfield 154, 3) := dk_180 0 154 (dk_at dksX5_findMatch_1 11 rfl rfl)
theorem dX5_findMatch_38 : decode cX5_findMatch 38 = .ok (.bipush 6, 2) := dk_16 6 (dk_at dksX5_findMatch_1 14 rfl rfl)
theorem dX5_findMatch_40 : decode cX5_findMatch 40 = .ok (.iload_n 1, 1) := dk_27 (dk_at dksX5_findMatch_1 16 rfl rfl)
theorem dX5_findMatch_41 : decode cX5_findMatch 41 = .ok (.imul, 1) := dk_104 (dk_at dksX5_findMatch_1 17 rfl rfl)
theorem dX5_findMatch_42 : decode cX5_findMatch 42 = .ok (.iload_n 2, 1) := dk_28 (dk_at dksX5_findMatch_1 18 rfl rfl)
theorem dX5_findMatch_43 : decode cX5_findMatch 43 = .ok (.iadd, 1) := dk_96 (dk_at dksX5_findMatch_1 19 rfl rfl)
theorem dX5_findMatch_44 : decode cX5_findMatch 44 = .ok (.aload_n 0, 1) := dk_42 (dk_at dksX5_findMatch_1 20 rfl rfl)
theorem dX5_findMatch_45 : decode cX5_findMatch 45 = .ok (.iload_n 1, 1) := dk_27 (dk_at dksX5_findMatch_1 21 rfl rfl)
theorem dX5_findMatch_46 : decode cX5_findMatch 46 = .ok (.iload_n 2, 1) := dk_28 (dk_at dksX5_findMatch_1 22 rfl rfl)
theorem dX5_findMatch_47 : decode cX5_findMatch 47 = .ok (.invokevirtual 431, 3) := dk_182 1 175 (dk_at dksX5_findMatch_2 0 rfl rfl)
theorem dX5_findMatch_50 : decode cX5_findMatch 50 = .ok (.iastore, 1) := dk_79 (dk_at dksX5_findMatch_2 3 rfl rfl)
theorem dX5_findMatch_51 : decode cX5_findMatch 51 = .ok (.iinc 2 1, 3) := dk_132 2 1 (dk_at dksX5_findMatch_2 4 rfl rfl)
theorem dX5_findMatch_54 : decode cX5_findMatch 54 = .ok (.goto (-28), 3) := dk_167 255 228 (dk_at dksX5_findMatch_2 7 rfl rfl)
theorem dX5_findMatch_57 : decode cX5_findMatch 57 = .ok (.iinc 1 1, 3) := dk_132 1 1 (dk_at dksX5_findMatch_2 10 rfl rfl)
theorem dX5_findMatch_60 : decode cX5_findMatch 60 = .ok (.goto (-58), 3) := dk_167 255 198 (dk_at dksX5_findMatch_2 13 rfl rfl)
theorem dX5_findMatch_63 : decode cX5_findMatch 63 = .ok (.iconst 1, 1) := dk_4 (dk_at dksX5_findMatch_2 16 rfl rfl)
theorem dX5_findMatch_64 : decode cX5_findMatch 64 = .ok (.istore_n 1, 1) := dk_60 (dk_at dksX5_findMatch_2 17 rfl rfl)
theorem dX5_findMatch_65 : decode cX5_findMatch 65 = .ok (.iload_n 1, 1) := dk_27 (dk_at dksX5_findMatch_2 18 rfl rfl)
theorem dX5_findMatch_66 : decode cX5_findMatch 66 = .ok (.ifCond .eq 42, 3) := dk_153 0 42 (dk_at dksX5_findMatch_2 19 rfl rfl)
theorem dX5_findMatch_69 : decode cX5_findMatch 69 = .ok (.iconst 0, 1) := dk_3 (dk_at dksX5_findMatch_2 22 rfl rfl)
theorem dX5_findMatch_70 : decode cX5_findMatch 70 = .ok (.istore_n 1, 1) := dk_60 (dk_at dksX5_findMatch_2 23 rfl rfl)
theorem dX5_findMatch_71 : decode cX5_findMatch 71 = .ok (.iconst 0, 1) := dk_3 (dk_at dksX5_findMatch_3 0 rfl rfl)
theorem dX5_findMatch_72 : decode cX5_findMatch 72 = .ok (.istore_n 2, 1) := dk_61 (dk_at dksX5_findMatch_3 1 rfl rfl)
theorem dX5_findMatch_73 : decode cX5_findMatch 73 = .ok (.iload_n 2, 1) := dk_28 (dk_at dksX5_findMatch_3 2 rfl rfl)
theorem dX5_findMatch_74 : decode cX5_findMatch 74 = .ok (.aload_n 0, 1) := dk_42 (dk_at dksX5_findMatch_3 3 rfl rfl)
theorem dX5_findMatch_75 : decode cX5_findMatch 75 = .ok (.invokevirtual 323, 3) := dk_182 1 67 (dk_at dksX5_findMatch_3 4 rfl rfl)
theorem dX5_findMatch_78 : decode cX5_findMatch 78 = .ok (.if_icmp .ge 27, 3) := dk_162 0 27 (dk_at dksX5_findMatch_3 7 rfl rfl)
theorem dX5_findMatch_81 : decode cX5_findMatch 81 = .ok (.aload_n 0, 1) := dk_42 (dk_at dksX5_findMatch_3 10 rfl rfl)
theorem dX5_findMatch_82 : decode cX5_findMatch 82 = .ok (.iload_n 2, 1) := dk_28 (dk_at dksX5_findMatch_3 11 rfl rfl)
theorem dX5_findMatch_83 : decode cX5_findMatch 83 = .ok (.invokevirtual 434, 3) := dk_182 1 178 (dk_at dksX5_findMatch_3 12 rfl rfl)
theorem dX5_findMatch_86 : decode cX5_findMatch 86 = .ok (.ifCond .ne 7, 3) := dk_154 0 7 (dk_at dksX5_findMatch_3 15 rfl rfl)
theorem dX5_findMatch_89 : decode cX5_findMatch 89 = .ok (.iload_n 1, 1) := dk_27 (dk_at dksX5_findMatch_3 18 rfl rfl)
theorem dX5_findMatch_90 : decode cX5_findMatch 90 = .ok (.ifCond .eq 7, 3) := dk_153 0 7 (dk_at dksX5_findMatch_3 19 rfl rfl)
theorem dX5_findMatch_93 : decode cX5_findMatch 93 = .ok (.iconst 1, 1) := dk_4 (dk_at dksX5_findMatch_3 22 rfl rfl)
theorem dX5_findMatch_94 : decode cX5_findMatch 94 = .ok (.goto 4, 3) := dk_167 0 4 (dk_at dksX5_findMatch_4 0 rfl rfl)
theorem dX5_findMatch_97 : decode cX5_findMatch 97 = .ok (.iconst 0, 1) := dk_3 (dk_at dksX5_findMatch_4 3 rfl rfl)
theorem dX5_findMatch_98 : decode cX5_findMatch 98 = .ok (.istore_n 1, 1) := dk_60 (dk_at dksX5_findMatch_4 4 rfl rfl)
theorem dX5_findMatch_99 : decode cX5_findMatch 99 = .ok (.iinc 2 1, 3) := dk_132 2 1 (dk_at dksX5_findMatch_4 5 rfl rfl)
theorem dX5_findMatch_102 : decode cX5_findMatch 102 = .ok (.goto (-29), 3) := dk_167 255 227 (dk_at dksX5_findMatch_4 8 rfl rfl)
theorem dX5_findMatch_105 : decode cX5_findMatch 105 = .ok (.goto (-40), 3) := dk_167 255 216 (dk_at dksX5_findMatch_4 11 rfl rfl)
theorem dX5_findMatch_108 : decode cX5_findMatch 108 = .ok (.return_, 1) := dk_177 (dk_at dksX5_findMatch_4 14 rfl rfl)
abbrev cX5_wishOf : ByteArray := prog_26_method_90_code
def yX5_wishOf : MethodName := ⟨RX5, "wishOf", "(II)I"⟩
def dkwX5_wishOf_4 : List UInt8 := [156, 0, 7, 29, 167, 0, 14, 42, 42, 180, 0, 111, 16, 7, 46, 182, 1, 112, 172]
abbrev dktX5_wishOf_4 : List UInt8 := dkwX5_wishOf_4 ++ []
def dkwX5_wishOf_3 : List UInt8 := [160, 0, 7, 3, 167, 0, 9, 42, 180, 0, 135, 6, 46, 100, 62, 42, 180, 0, 111, 16, 7, 46]
abbrev dktX5_wishOf_3 : List UInt8 := dkwX5_wishOf_3 ++ dktX5_wishOf_4
def dkwX5_wishOf_2 : List UInt8 := [3, 42, 180, 0, 135, 7, 46, 6, 104, 100, 42, 180, 0, 135, 4, 46, 100, 42, 180, 0, 135, 5, 46, 5]
abbrev dktX5_wishOf_2 : List UInt8 := dkwX5_wishOf_2 ++ dktX5_wishOf_3
def dkwX5_wishOf_1 : List UInt8 := [42, 180, 0, 135, 6, 42, 28, 3, 182, 1, 100, 79, 42, 180, 0, 135, 7, 42, 28, 4, 182, 1, 100, 79]
abbrev dktX5_wishOf_1 : List UInt8 := dkwX5_wishOf_1 ++ dktX5_wishOf_2
def dkwX5_wishOf_0 : List UInt8 := [42, 180, 0, 135, 4, 42, 28, 5, 182, 1, 100, 79, 42, 180, 0, 135, 5, 42, 27, 3, 182, 1, 71, 79]
abbrev dktX5_wishOf_0 : List UInt8 := dkwX5_wishOf_0 ++ dktX5_wishOf_1
theorem dksX5_wishOf_0 : cX5_wishOf.data.toList.drop 0 = dktX5_wishOf_0 := by decide +kernel
theorem dksX5_wishOf_1 : cX5_wishOf.data.toList.drop 24 = dktX5_wishOf_1 := dk_seg dksX5_wishOf_0 24 rfl rfl
theorem dksX5_wishOf_2 : cX5_wishOf.data.toList.drop 48 = dktX5_wishOf_2 := dk_seg dksX5_wishOf_1 24 rfl rfl
theorem dksX5_wishOf_3 : cX5_wishOf.data.toList.drop 72 = dktX5_wishOf_3 := dk_seg dksX5_wishOf_2 24 rfl rfl
theorem dksX5_wishOf_4 : cX5_wishOf.data.toList.drop 94 = dktX5_wishOf_4 := dk_seg dksX5_wishOf_3 22 rfl rfl
theorem dX5_wishOf_0 : decode cX5_wishOf 0 = .ok (.aload_n 0, 1) := dk_42 (dk_at dksX5_wishOf_0 0 rfl rfl)
theorem dX5_wishOf_1 : decode cX5_wishOf 1 = .ok (.getfield 135, 3) := dk_180 0 135 (dk_at dksX5_wishOf_0 1 rfl rfl)
theorem dX5_wishOf_4 : decode cX5_wishOf 4 = .ok (.iconst 1, 1) := dk_4 (dk_at dksX5_wishOf_0 4 rfl rfl)
theorem dX5_wishOf_5 : decode cX5_wishOf 5 = .ok (.aload_n 0, 1) := dk_42 (dk_at dksX5_wishOf_0 5 rfl rfl)
theorem dX5_wishOf_6 : decode cX5_wishOf 6 = .ok (.iload_n 2, 1) := dk_28 (dk_at dksX5_wishOf_0 6 rfl rfl)
theorem dX5_wishOf_7 : decode cX5_wishOf 7 = .ok (.iconst 2, 1) := dk_5 (dk_at dksX5_wishOf_0 7 rfl rfl)
theorem dX5_wishOf_8 : decode cX5_wishOf 8 = .ok (.invokevirtual 356, 3) := dk_182 1 100 (dk_at dksX5_wishOf_0 8 rfl rfl)
theorem dX5_wishOf_11 : decode cX5_wishOf 11 = .ok (.iastore, 1) := dk_79 (dk_at dksX5_wishOf_0 11 rfl rfl)
theorem dX5_wishOf_12 : decode cX5_wishOf 12 = .ok (.aload_n 0, 1) := dk_42 (dk_at dksX5_wishOf_0 12 rfl rfl)
theorem dX5_wishOf_13 : decode cX5_wishOf 13 = .ok (.getfield 135, 3) := dk_180 0 135 (dk_at dksX5_wishOf_0 13 rfl rfl)
theorem dX5_wishOf_16 : decode cX5_wishOf 16 = .ok (.iconst 2, 1) := dk_5 (dk_at dksX5_wishOf_0 16 rfl rfl)
theorem dX5_wishOf_17 : decode cX5_wishOf 17 = .ok (.aload_n 0, 1) := dk_42 (dk_at dksX5_wishOf_0 17 rfl rfl)
theorem dX5_wishOf_18 : decode cX5_wishOf 18 = .ok (.iload_n 1, 1) := dk_27 (dk_at dksX5_wishOf_0 18 rfl rfl)
theorem dX5_wishOf_19 : decode cX5_wishOf 19 = .ok (.iconst 0, 1) := dk_3 (dk_at dksX5_wishOf_0 19 rfl rfl)
theorem dX5_wishOf_20 : decode cX5_wishOf 20 = .ok (.invokevirtual 327, 3) := dk_182 1 71 (dk_at dksX5_wishOf_0 20 rfl rfl)
theorem dX5_wishOf_23 : decode cX5_wishOf 23 = .ok (.iastore, 1) := dk_79 (dk_at dksX5_wishOf_0 23 rfl rfl)
theorem dX5_wishOf_24 : decode cX5_wishOf 24 = .ok (.aload_n 0, 1) := dk_42 (dk_at dksX5_wishOf_1 0 rfl rfl)
theorem dX5_wishOf_25 : decode cX5_wishOf 25 = .ok (.getfield 135, 3) := dk_180 0 135 (dk_at dksX5_wishOf_1 1 rfl rfl)
theorem dX5_wishOf_28 : decode cX5_wishOf 28 = .ok (.iconst 3, 1) := dk_6 (dk_at dksX5_wishOf_1 4 rfl rfl)
theorem dX5_wishOf_29 : decode cX5_wishOf 29 = .ok (.aload_n 0, 1) := dk_42 (dk_at dksX5_wishOf_1 5 rfl rfl)
theorem dX5_wishOf_30 : decode cX5_wishOf 30 = .ok (.iload_n 2, 1) := dk_28 (dk_at dksX5_wishOf_1 6 rfl rfl)
theorem dX5_wishOf_31 : decode cX5_wishOf 31 = .ok (.iconst 0, 1) := dk_3 (dk_at dksX5_wishOf_1 7 rfl rfl)
theorem dX5_wishOf_32 : decode cX5_wishOf 32 = .ok (.invokevirtual 356, 3) := dk_182 1 100 (dk_at dksX5_wishOf_1 8 rfl rfl)
theorem dX5_wishOf_35 : decode cX5_wishOf 35 = .ok (.iastore, 1) := dk_79 (dk_at dksX5_wishOf_1 11 rfl rfl)
theorem dX5_wishOf_36 : decode cX5_wishOf 36 = .ok (.aload_n 0, 1) := dk_42 (dk_at dksX5_wishOf_1 12 rfl rfl)
theorem dX5_wishOf_37 : decode cX5_wishOf 37 = .ok (.getfield 135, 3) := dk_180 0 135 (dk_at dksX5_wishOf_1 13 rfl rfl)
theorem dX5_wishOf_40 : decode cX5_wishOf 40 = .ok (.iconst 4, 1) := dk_7 (dk_at dksX5_wishOf_1 16 rfl rfl)
theorem dX5_wishOf_41 : decode cX5_wishOf 41 = .ok (.aload_n 0, 1) := dk_42 (dk_at dksX5_wishOf_1 17 rfl rfl)
theorem dX5_wishOf_42 : decode cX5_wishOf 42 = .ok (.iload_n 2, 1) := dk_28 (dk_at dksX5_wishOf_1 18 rfl rfl)
theorem dX5_wishOf_43 : decode cX5_wishOf 43 = .ok (.iconst 1, 1) := dk_4 (dk_at dksX5_wishOf_1 19 rfl rfl)
theorem dX5_wishOf_44 : decode cX5_wishOf 44 = .ok (.invokevirtual 356, 3) := dk_182 1 100 (dk_at dksX5_wishOf_1 20 rfl rfl)
theorem dX5_wishOf_47 : decode cX5_wishOf 47 = .ok (.iastore, 1) := dk_79 (dk_at dksX5_wishOf_1 23 rfl rfl)
theorem dX5_wishOf_48 : decode cX5_wishOf 48 = .ok (.iconst 0, 1) := dk_3 (dk_at dksX5_wishOf_2 0 rfl rfl)
theorem dX5_wishOf_49 : decode cX5_wishOf 49 = .ok (.aload_n 0, 1) := dk_42 (dk_at dksX5_wishOf_2 1 rfl rfl)
theorem dX5_wishOf_50 : decode cX5_wishOf 50 = .ok (.getfield 135, 3) := dk_180 0 135 (dk_at dksX5_wishOf_2 2 rfl rfl)
theorem dX5_wishOf_53 : decode cX5_wishOf 53 = .ok (.iconst 4, 1) := dk_7 (dk_at dksX5_wishOf_2 5 rfl rfl)
theorem dX5_wishOf_54 : decode cX5_wishOf 54 = .ok (.iaload, 1) := dk_46 (dk_at dksX5_wishOf_2 6 rfl rfl)
theorem dX5_wishOf_55 : decode cX5_wishOf 55 = .ok (.iconst 3, 1) := dk_6 (dk_at dksX5_wishOf_2 7 rfl rfl)
theorem dX5_wishOf_56 : decode cX5_wishOf 56 = .ok (.imul, 1) := dk_104 (dk_at dksX5_wishOf_2 8 rfl rfl)
theorem dX5_wishOf_57 : decode cX5_wishOf 57 = .ok (.isub, 1) := dk_100 (dk_at dksX5_wishOf_2 9 rfl rfl)
theorem dX5_wishOf_58 : decode cX5_wishOf 58 = .ok (.aload_n 0, 1) := dk_42 (dk_at dksX5_wishOf_2 10 rfl rfl)
theorem dX5_wishOf_59 : decode cX5_wishOf 59 = .ok (.getfield 135, 3) := dk_180 0 135 (dk_at dksX5_wishOf_2 11 rfl rfl)
theorem dX5_wishOf_62 : decode cX5_wishOf 62 = .ok (.iconst 1, 1) := dk_4 (dk_at dksX5_wishOf_2 14 rfl rfl)
theorem dX5_wishOf_63 : decode cX5_wishOf 63 = .ok (.iaload, 1) := dk_46 (dk_at dksX5_wishOf_2 15 rfl rfl)
theorem dX5_wishOf_64 : decode cX5_wishOf 64 = .ok (.isub, 1) := dk_100 (dk_at dksX5_wishOf_2 16 rfl rfl)
theorem dX5_wishOf_65 : decode cX5_wishOf 65 = .ok (.aload_n 0, 1) := dk_42 (dk_at dksX5_wishOf_2 17 rfl rfl)
theorem dX5_wishOf_66 : decode cX5_wishOf 66 = .ok (.getfield 135, 3) := dk_180 0 135 (dk_at dksX5_wishOf_2 18 rfl rfl)
theorem dX5_wishOf_69 : decode cX5_wishOf 69 = .ok (.iconst 2, 1) := dk_5 (dk_at dksX5_wishOf_2 21 rfl rfl)
theorem dX5_wishOf_70 : decode cX5_wishOf 70 = .ok (.iaload, 1) := dk_46 (dk_at dksX5_wishOf_2 22 rfl rfl)
theorem dX5_wishOf_71 : decode cX5_wishOf 71 = .ok (.iconst 2, 1) := dk_5 (dk_at dksX5_wishOf_2 23 rfl rfl)
theorem dX5_wishOf_72 : decode cX5_wishOf 72 = .ok (.if_icmp .ne 7, 3) := dk_160 0 7 (dk_at dksX5_wishOf_3 0 rfl rfl)
theorem dX5_wishOf_75 : decode cX5_wishOf 75 = .ok (.iconst 0, 1) := dk_3 (dk_at dksX5_wishOf_3 3 rfl rfl)
theorem dX5_wishOf_76 : decode cX5_wishOf 76 = .ok (.goto 9, 3) := dk_167 0 9 (dk_at dksX5_wishOf_3 4 rfl rfl)
theorem dX5_wishOf_79 : decode cX5_wishOf 79 = .ok (.aload_n 0, 1) := dk_42 (dk_at dksX5_wishOf_3 7 rfl rfl)
theorem dX5_wishOf_80 : decode cX5_wishOf 80 = .ok (.getfield 135, 3) := dk_180 0 135 (dk_at dksX5_wishOf_3 8 rfl rfl)
theorem dX5_wishOf_83 : decode cX5_wishOf 83 = .ok (.iconst 3, 1) := dk_6 (dk_at dksX5_wishOf_3 11 rfl rfl)
theorem dX5_wishOf_84 : decode cX5_wishOf 84 = .ok (.iaload, 1) := dk_46 (dk_at dksX5_wishOf_3 12 rfl rfl)
theorem dX5_wishOf_85 : decode cX5_wishOf 85 = .ok (.isub, 1) := dk_100 (dk_at dksX5_wishOf_3 13 rfl rfl)
theorem dX5_wishOf_86 : decode cX5_wishOf 86 = .ok (.istore_n 3, 1) := dk_62 (dk_at dksX5_wishOf_3 14 rfl rfl)
theorem dX5_wishOf_87 : decode cX5_wishOf 87 = .ok (.aload_n 0, 1) := dk_42 (dk_at dksX5_wishOf_3 15 rfl rfl)
theorem dX5_wishOf_88 : decode cX5_wishOf 88 = .ok (.getfield 111, 3) := dk_180 0 111 (dk_at dksX5_wishOf_3 16 rfl rfl)
theorem dX5_wishOf_91 : decode cX5_wishOf 91 = .ok (.bipush 7, 2) := dk_16 7 (dk_at dksX5_wishOf_3 19 rfl rfl)
theorem dX5_wishOf_93 : decode cX5_wishOf 93 = .ok (.iaload, 1) := dk_46 (dk_at dksX5_wishOf_3 21 rfl rfl)
theorem dX5_wishOf_94 : decode cX5_wishOf 94 = .ok (.ifCond .ge 7, 3) := dk_156 0 7 (dk_at dksX5_wishOf_4 0 rfl rfl)
theorem dX5_wishOf_97 : decode cX5_wishOf 97 = .ok (.iload_n 3, 1) := dk_29 (dk_at dksX5_wishOf_4 3 rfl rfl)
theorem dX5_wishOf_98 : decode cX5_wishOf 98 = .ok (.goto 14, 3) := dk_167 0 14 (dk_at dksX5_wishOf_4 4 rfl rfl)
theorem dX5_wishOf_101 : decode cX5_wishOf 101 = .ok (.aload_n 0, 1) := dk_42 (dk_at dksX5_wishOf_4 7 rfl rfl)
theorem dX5_wishOf_102 : decode cX5_wishOf 102 = .ok (.aload_n 0, 1) := dk_42 (dk_at dksX5_wishOf_4 8 rfl rfl)
theorem dX5_wishOf_103 : decode cX5_wishOf 103 = .ok (.getfield 111, 3) := dk_180 0 111 (dk_at dksX5_wishOf_4 9 rfl rfl)
theorem dX5_wishOf_106 : decode cX5_wishOf 106 = .ok (.bipush 7, 2) := dk_16 7 (dk_at dksX5_wishOf_4 12 rfl rfl)
theorem dX5_wishOf_108 : decode cX5_wishOf 108 = .ok (.iaload, 1) := dk_46 (dk_at dksX5_wishOf_4 14 rfl rfl)
theorem dX5_wishOf_109 : decode cX5_wishOf 109 = .ok (.invokevirtual 368, 3) := dk_182 1 112 (dk_at dksX5_wishOf_4 15 rfl rfl)
theorem dX5_wishOf_112 : decode cX5_wishOf 112 = .ok (.ireturn, 1) := dk_172 (dk_at dksX5_wishOf_4 18 rfl rfl)
abbrev cX5_asksOnce : ByteArray := prog_26_method_93_code
def yX5_asksOnce : MethodName := ⟨RX5, "asksOnce", "(I)Z"⟩
def dkwX5_asksOnce_5 : List UInt8 := [155, 0, 10, 42, 180, 0, 157, 29, 2, 79, 4, 172]
abbrev dktX5_asksOnce_5 : List UInt8 := dkwX5_asksOnce_5 ++ []
def dkwX5_asksOnce_4 : List UInt8 := [162, 0, 7, 4, 167, 0, 4, 3, 54, 4, 21, 4, 153, 0, 21, 42, 180, 0, 157, 27, 28, 79, 29]
abbrev dktX5_asksOnce_4 : List UInt8 := dkwX5_asksOnce_4 ++ dktX5_asksOnce_5
def dkwX5_asksOnce_3 : List UInt8 := [182, 1, 71, 163, 0, 23, 42, 27, 4, 182, 1, 71, 42, 29, 4, 182, 1, 71, 160, 0, 12, 27, 29]
abbrev dktX5_asksOnce_3 : List UInt8 := dkwX5_asksOnce_3 ++ dktX5_asksOnce_4
def dkwX5_asksOnce_2 : List UInt8 := [120, 128, 79, 42, 28, 182, 1, 172, 62, 29, 155, 0, 38, 42, 27, 4, 182, 1, 71, 42, 29, 4]
abbrev dktX5_asksOnce_2 : List UInt8 := dkwX5_asksOnce_2 ++ dktX5_asksOnce_3
def dkwX5_asksOnce_1 : List UInt8 := [167, 0, 8, 42, 27, 182, 1, 169, 61, 28, 156, 0, 5, 3, 172, 42, 180, 0, 160, 27, 92, 46, 4, 28]
abbrev dktX5_asksOnce_1 : List UInt8 := dkwX5_asksOnce_1 ++ dktX5_asksOnce_2
def dkwX5_asksOnce_0 : List UInt8 := [42, 180, 0, 157, 27, 46, 156, 0, 16, 42, 180, 0, 141, 16, 37, 27, 96, 46, 4, 160, 0, 7, 2]
abbrev dktX5_asksOnce_0 : List UInt8 := dkwX5_asksOnce_0 ++ dktX5_asksOnce_1
theorem dksX5_asksOnce_0 : cX5_asksOnce.data.toList.drop 0 = dktX5_asksOnce_0 := by decide +kernel
theorem dksX5_asksOnce_1 : cX5_asksOnce.data.toList.drop 23 = dktX5_asksOnce_1 := dk_seg dksX5_asksOnce_0 23 rfl rfl
theorem dksX5_asksOnce_2 : cX5_asksOnce.data.toList.drop 47 = dktX5_asksOnce_2 := dk_seg dksX5_asksOnce_1 24 rfl rfl
theorem dksX5_asksOnce_3 : cX5_asksOnce.data.toList.drop 69 = dktX5_asksOnce_3 := dk_seg dksX5_asksOnce_2 22 rfl rfl
theorem dksX5_asksOnce_4 : cX5_asksOnce.data.toList.drop 92 = dktX5_asksOnce_4 := dk_seg dksX5_asksOnce_3 23 rfl rfl
theorem dksX5_asksOnce_5 : cX5_asksOnce.data.toList.drop 115 = dktX5_asksOnce_5 := dk_seg dksX5_asksOnce_4 23 rfl rfl
theorem dX5_asksOnce_0 : decode cX5_asksOnce 0 = .ok (.aload_n 0, 1) := dk_42 (dk_at dksX5_asksOnce_0 0 rfl rfl)
theorem dX5_asksOnce_1 : decode cX5_asksOnce 1 = .ok (.getfield 157, 3) := dk_180 0 157 (dk_at dksX5_asksOnce_0 1 rfl rfl)
theorem dX5_asksOnce_4 : decode cX5_asksOnce 4 = .ok (.iload_n 1, 1) := dk_27 (dk_at dksX5_asksOnce_0 4 rfl rfl)
theorem dX5_asksOnce_5 : decode cX5_asksOnce 5 = .ok (.iaload, 1) := dk_46 (dk_at dksX5_asksOnce_0 5 rfl rfl)
theorem dX5_asksOnce_6 : decode cX5_asksOnce 6 = .ok (.ifCond .ge 16, 3) := dk_156 0 16 (dk_at dksX5_asksOnce_0 6 rfl rfl)
theorem dX5_asksOnce_9 : decode cX5_asksOnce 9 = .ok (.aload_n 0, 1) := dk_42 (dk_at dksX5_asksOnce_0 9 rfl rfl)
theorem dX5_asksOnce_10 : decode cX5_asksOnce 10 = .ok (.getfield 141, 3) := dk_180 0 141 (dk_at dksX5_asksOnce_0 10 rfl rfl)
theorem dX5_asksOnce_13 : decode cX5_asksOnce 13 = .ok (.bipush 37, 2) := dk_16 37 (dk_at dksX5_asksOnce_0 13 rfl rfl)
theorem dX5_asksOnce_15 : decode cX5_asksOnce 15 = .ok (.iload_n 1, 1) := dk_27 (dk_at dksX5_asksOnce_0 15 rfl rfl)
theorem dX5_asksOnce_16 : decode cX5_asksOnce 16 = .ok (.iadd, 1) := dk_96 (dk_at dksX5_asksOnce_0 16 rfl rfl)
theorem dX5_asksOnce_17 : decode cX5_asksOnce 17 = .ok (.iaload, 1) := dk_46 (dk_at dksX5_asksOnce_0 17 rfl rfl)
theorem dX5_asksOnce_18 : decode cX5_asksOnce 18 = .ok (.iconst 1, 1) := dk_4 (dk_at dksX5_asksOnce_0 18 rfl rfl)
theorem dX5_asksOnce_19 : decode cX5_asksOnce 19 = .ok (.if_icmp .ne 7, 3) := dk_160 0 7 (dk_at dksX5_asksOnce_0 19 rfl rfl)
theorem dX5_asksOnce_22 : decode cX5_asksOnce 22 = .ok (.iconst (-1), 1) := dk_2 (dk_at dksX5_asksOnce_0 22 rfl rfl)
theorem dX5_asksOnce_23 : decode cX5_asksOnce 23 = .ok (.goto 8, 3) := dk_167 0 8 (dk_at dksX5_asksOnce_1 0 rfl rfl)
theorem dX5_asksOnce_26 : decode cX5_asksOnce 26 = .ok (.aload_n 0, 1) := dk_42 (dk_at dksX5_asksOnce_1 3 rfl rfl)
theorem dX5_asksOnce_27 : decode cX5_asksOnce 27 = .ok (.iload_n 1, 1) := dk_27 (dk_at dksX5_asksOnce_1 4 rfl rfl)
theorem dX5_asksOnce_28 : decode cX5_asksOnce 28 = .ok (.invokevirtual 425, 3) := dk_182 1 169 (dk_at dksX5_asksOnce_1 5 rfl rfl)
theorem dX5_asksOnce_31 : decode cX5_asksOnce 31 = .ok (.istore_n 2, 1) := dk_61 (dk_at dksX5_asksOnce_1 8 rfl rfl)
theorem dX5_asksOnce_32 : decode cX5_asksOnce 32 = .ok (.iload_n 2, 1) := dk_28 (dk_at dksX5_asksOnce_1 9 rfl rfl)
theorem dX5_asksOnce_33 : decode cX5_asksOnce 33 = .ok (.ifCond .ge 5, 3) := dk_156 0 5 (dk_at dksX5_asksOnce_1 10 rfl rfl)
theorem dX5_asksOnce_36 : decode cX5_asksOnce 36 = .ok (.iconst 0, 1) := dk_3 (dk_at dksX5_asksOnce_1 13 rfl rfl)
theorem dX5_asksOnce_37 : decode cX5_asksOnce 37 = .ok (.ireturn, 1) := dk_172 (dk_at dksX5_asksOnce_1 14 rfl rfl)
theorem dX5_asksOnce_38 : decode cX5_asksOnce 38 = .ok (.aload_n 0, 1) := dk_42 (dk_at dksX5_asksOnce_1 15 rfl rfl)
theorem dX5_asksOnce_39 : decode cX5_asksOnce 39 = .ok (.getfield 160, 3) := dk_180 0 160 (dk_at dksX5_asksOnce_1 16 rfl rfl)
theorem dX5_asksOnce_42 : decode cX5_asksOnce 42 = .ok (.iload_n 1, 1) := dk_27 (dk_at dksX5_asksOnce_1 19 rfl rfl)
theorem dX5_asksOnce_43 : decode cX5_asksOnce 43 = .ok (.dup2, 1) := dk_92 (dk_at dksX5_asksOnce_1 20 rfl rfl)
theorem dX5_asksOnce_44 : decode cX5_asksOnce 44 = .ok (.iaload, 1) := dk_46 (dk_at dksX5_asksOnce_1 21 rfl rfl)
theorem dX5_asksOnce_45 : decode cX5_asksOnce 45 = .ok (.iconst 1, 1) := dk_4 (dk_at dksX5_asksOnce_1 22 rfl rfl)
theorem dX5_asksOnce_46 : decode cX5_asksOnce 46 = .ok (.iload_n 2, 1) := dk_28 (dk_at dksX5_asksOnce_1 23 rfl rfl)
theorem dX5_asksOnce_47 : decode cX5_asksOnce 47 = .ok (.ishl, 1) := dk_120 (dk_at dksX5_asksOnce_2 0 rfl rfl)
theorem dX5_asksOnce_48 : decode cX5_asksOnce 48 = .ok (.ior, 1) := dk_128 (dk_at dksX5_asksOnce_2 1 rfl rfl)
theorem dX5_asksOnce_49 : decode cX5_asksOnce 49 = .ok (.iastore, 1) := dk_79 (dk_at dksX5_asksOnce_2 2 rfl rfl)
theorem dX5_asksOnce_50 : decode cX5_asksOnce 50 = .ok (.aload_n 0, 1) := dk_42 (dk_at dksX5_asksOnce_2 3 rfl rfl)
theorem dX5_asksOnce_51 : decode cX5_asksOnce 51 = .ok (.iload_n 2, 1) := dk_28 (dk_at dksX5_asksOnce_2 4 rfl rfl)
theorem dX5_asksOnce_52 : decode cX5_asksOnce 52 = .ok (.invokevirtual 428, 3) := dk_182 1 172 (dk_at dksX5_asksOnce_2 5 rfl rfl)
theorem dX5_asksOnce_55 : decode cX5_asksOnce 55 = .ok (.istore_n 3, 1) := dk_62 (dk_at dksX5_asksOnce_2 8 rfl rfl)
theorem dX5_asksOnce_56 : decode cX5_asksOnce 56 = .ok (.iload_n 3, 1) := dk_29 (dk_at dksX5_asksOnce_2 9 rfl rfl)
theorem dX5_asksOnce_57 : decode cX5_asksOnce 57 = .ok (.ifCond .lt 38, 3) := dk_155 0 38 (dk_at dksX5_asksOnce_2 10 rfl rfl)
theorem dX5_asksOnce_60 : decode cX5_asksOnce 60 = .ok (.aload_n 0, 1) := dk_42 (dk_at dksX5_asksOnce_2 13 rfl rfl)
theorem dX5_asksOnce_61 : decode cX5_asksOnce 61 = .ok (.iload_n 1, 1) := dk_27 (dk_at dksX5_asksOnce_2 14 rfl rfl)
theorem dX5_asksOnce_62 : decode cX5_asksOnce 62 = .ok (.iconst 1, 1) := dk_4 (dk_at dksX5_asksOnce_2 15 rfl rfl)
theorem dX5_asksOnce_63 : decode cX5_asksOnce 63 = .ok (.invokevirtual 327, 3) := dk_182 1 71 (dk_at dksX5_asksOnce_2 16 rfl rfl)
theorem dX5_asksOnce_66 : decode cX5_asksOnce 66 = .ok (.aload_n 0, 1) := dk_42 (dk_at dksX5_asksOnce_2 19 rfl rfl)
theorem dX5_asksOnce_67 : decode cX5_asksOnce 67 = .ok (.iload_n 3, 1) := dk_29 (dk_at dksX5_asksOnce_2 20 rfl rfl)
theorem dX5_asksOnce_68 : decode cX5_asksOnce 68 = .ok (.iconst 1, 1) := dk_4 (dk_at dksX5_asksOnce_2 21 rfl rfl)
theorem dX5_asksOnce_69 : decode cX5_asksOnce 69 = .ok (.invokevirtual 327, 3) := dk_182 1 71 (dk_at dksX5_asksOnce_3 0 rfl rfl)
theorem dX5_asksOnce_72 : decode cX5_asksOnce 72 = .ok (.if_icmp .gt 23, 3) := dk_163 0 23 (dk_at dksX5_asksOnce_3 3 rfl rfl)
theorem dX5_asksOnce_75 : decode cX5_asksOnce 75 = .ok (.aload_n 0, 1) := dk_42 (dk_at dksX5_asksOnce_3 6 rfl rfl)
theorem dX5_asksOnce_76 : decode cX5_asksOnce 76 = .ok (.iload_n 1, 1) := dk_27 (dk_at dksX5_asksOnce_3 7 rfl rfl)
theorem dX5_asksOnce_77 : decode cX5_asksOnce 77 = .ok (.iconst 1, 1) := dk_4 (dk_at dksX5_asksOnce_3 8 rfl rfl)
theorem dX5_asksOnce_78 : decode cX5_asksOnce 78 = .ok (.invokevirtual 327, 3) := dk_182 1 71 (dk_at dksX5_asksOnce_3 9 rfl rfl)
theorem dX5_asksOnce_81 : decode cX5_asksOnce 81 = .ok (.aload_n 0, 1) := dk_42 (dk_at dksX5_asksOnce_3 12 rfl rfl)
theorem dX5_asksOnce_82 : decode cX5_asksOnce 82 = .ok (.iload_n 3, 1) := dk_29 (dk_at dksX5_asksOnce_3 13 rfl rfl)
theorem dX5_asksOnce_83 : decode cX5_asksOnce 83 = .ok (.iconst 1, 1) := dk_4 (dk_at dksX5_asksOnce_3 14 rfl rfl)
theorem dX5_asksOnce_84 : decode cX5_asksOnce 84 = .ok (.invokevirtual 327, 3) := dk_182 1 71 (dk_at dksX5_asksOnce_3 15 rfl rfl)
theorem dX5_asksOnce_87 : decode cX5_asksOnce 87 = .ok (.if_icmp .ne 12, 3) := dk_160 0 12 (dk_at dksX5_asksOnce_3 18 rfl rfl)
theorem dX5_asksOnce_90 : decode cX5_asksOnce 90 = .ok (.iload_n 1, 1) := dk_27 (dk_at dksX5_asksOnce_3 21 rfl rfl)
theorem dX5_asksOnce_91 : decode cX5_asksOnce 91 = .ok (.iload_n 3, 1) := dk_29 (dk_at dksX5_asksOnce_3 22 rfl rfl)
theorem dX5_asksOnce_92 : decode cX5_asksOnce 92 = .ok (.if_icmp .ge 7, 3) := dk_162 0 7 (dk_at dksX5_asksOnce_4 0 rfl rfl)
theorem dX5_asksOnce_95 : decode cX5_asksOnce 95 = .ok (.iconst 1, 1) := dk_4 (dk_at dksX5_asksOnce_4 3 rfl rfl)
theorem dX5_asksOnce_96 : decode cX5_asksOnce 96 = .ok (.goto 4, 3) := dk_167 0 4 (dk_at dksX5_asksOnce_4 4 rfl rfl)
theorem dX5_asksOnce_99 : decode cX5_asksOnce 99 = .ok (.iconst 0, 1) := dk_3 (dk_at dksX5_asksOnce_4 7 rfl rfl)
theorem dX5_asksOnce_100 : decode cX5_asksOnce 100 = .ok (.istore 4, 2) := dk_54 4 (dk_at dksX5_asksOnce_4 8 rfl rfl)
theorem dX5_asksOnce_102 : decode cX5_asksOnce 102 = .ok (.iload 4, 2) := dk_21 4 (dk_at dksX5_asksOnce_4 10 rfl rfl)
theorem dX5_asksOnce_104 : decode cX5_asksOnce 104 = .ok (.ifCond .eq 21, 3) := dk_153 0 21 (dk_at dksX5_asksOnce_4 12 rfl rfl)
theorem dX5_asksOnce_107 : decode cX5_asksOnce 107 = .ok (.aload_n 0, 1) := dk_42 (dk_at dksX5_asksOnce_4 15 rfl rfl)
theorem dX5_asksOnce_108 : decode cX5_asksOnce 108 = .ok (.getfield 157, 3) := dk_180 0 157 (dk_at dksX5_asksOnce_4 16 rfl rfl)
theorem dX5_asksOnce_111 : decode cX5_asksOnce 111 = .ok (.iload_n 1, 1) := dk_27 (dk_at dksX5_asksOnce_4 19 rfl rfl)
theorem dX5_asksOnce_112 : decode cX5_asksOnce 112 = .ok (.iload_n 2, 1) := dk_28 (dk_at dksX5_asksOnce_4 20 rfl rfl)
theorem dX5_asksOnce_113 : decode cX5_asksOnce 113 = .ok (.iastore, 1) := dk_79 (dk_at dksX5_asksOnce_4 21 rfl rfl)
theorem dX5_asksOnce_114 : decode cX5_asksOnce 114 = .ok (.iload_n 3, 1) := dk_29 (dk_at dksX5_asksOnce_4 22 rfl rfl)
theorem dX5_asksOnce_115 : decode cX5_asksOnce 115 = .ok (.ifCond .lt 10, 3) := dk_155 0 10 (dk_at dksX5_asksOnce_5 0 rfl rfl)
theorem dX5_asksOnce_118 : decode cX5_asksOnce 118 = .ok (.aload_n 0, 1) := dk_42 (dk_at dksX5_asksOnce_5 3 rfl rfl)
theorem dX5_asksOnce_119 : decode cX5_asksOnce 119 = .ok (.getfield 157, 3) := dk_180 0 157 (dk_at dksX5_asksOnce_5 4 rfl rfl)
theorem dX5_asksOnce_122 : decode cX5_asksOnce 122 = .ok (.iload_n 3, 1) := dk_29 (dk_at dksX5_asksOnce_5 7 rfl rfl)
theorem dX5_asksOnce_123 : decode cX5_asksOnce 123 = .ok (.iconst (-1), 1) := dk_2 (dk_at dksX5_asksOnce_5 8 rfl rfl)
theorem dX5_asksOnce_124 : decode cX5_asksOnce 124 = .ok (.iastore, 1) := dk_79 (dk_at dksX5_asksOnce_5 9 rfl rfl)
theorem dX5_asksOnce_125 : decode cX5_asksOnce 125 = .ok (.iconst 1, 1) := dk_4 (dk_at dksX5_asksOnce_5 10 rfl rfl)
theorem dX5_asksOnce_126 : decode cX5_asksOnce 126 = .ok (.ireturn, 1) := dk_172 (dk_at dksX5_asksOnce_5 11 rfl rfl)
abbrev cX5_nextAsked : ByteArray := prog_26_method_91_code
def yX5_nextAsked : MethodName := ⟨RX5, "nextAsked", "(I)I"⟩
def dkwX5_nextAsked_3 : List UInt8 := [28, 61, 132, 3, 1, 167, 255, 185, 28, 172]
abbrev dktX5_nextAsked_3 : List UInt8 := dkwX5_nextAsked_3 ++ []
def dkwX5_nextAsked_2 : List UInt8 := [27, 104, 28, 96, 46, 164, 0, 7, 4, 167, 0, 4, 3, 54, 4, 21, 4, 153, 0, 7, 29, 167, 0, 4]
abbrev dktX5_nextAsked_2 : List UInt8 := dkwX5_nextAsked_2 ++ dktX5_nextAsked_3
def dkwX5_nextAsked_1 : List UInt8 := [154, 0, 36, 28, 155, 0, 28, 42, 180, 0, 154, 16, 6, 27, 104, 29, 96, 46, 42, 180, 0, 154, 16, 6]
abbrev dktX5_nextAsked_1 : List UInt8 := dkwX5_nextAsked_1 ++ dktX5_nextAsked_2
def dkwX5_nextAsked_0 : List UInt8 := [2, 61, 3, 62, 29, 42, 182, 1, 87, 162, 0, 69, 42, 180, 0, 160, 27, 46, 29, 122, 4, 126]
abbrev dktX5_nextAsked_0 : List UInt8 := dkwX5_nextAsked_0 ++ dktX5_nextAsked_1
theorem dksX5_nextAsked_0 : cX5_nextAsked.data.toList.drop 0 = dktX5_nextAsked_0 := by decide +kernel
theorem dksX5_nextAsked_1 : cX5_nextAsked.data.toList.drop 22 = dktX5_nextAsked_1 := dk_seg dksX5_nextAsked_0 22 rfl rfl
theorem dksX5_nextAsked_2 : cX5_nextAsked.data.toList.drop 46 = dktX5_nextAsked_2 := dk_seg dksX5_nextAsked_1 24 rfl rfl
theorem dksX5_nextAsked_3 : cX5_nextAsked.data.toList.drop 70 = dktX5_nextAsked_3 := dk_seg dksX5_nextAsked_2 24 rfl rfl
theorem dX5_nextAsked_0 : decode cX5_nextAsked 0 = .ok (.iconst (-1), 1) := dk_2 (dk_at dksX5_nextAsked_0 0 rfl rfl)
theorem dX5_nextAsked_1 : decode cX5_nextAsked 1 = .ok (.istore_n 2, 1) := dk_61 (dk_at dksX5_nextAsked_0 1 rfl rfl)
theorem dX5_nextAsked_2 : decode cX5_nextAsked 2 = .ok (.iconst 0, 1) := dk_3 (dk_at dksX5_nextAsked_0 2 rfl rfl)
theorem dX5_nextAsked_3 : decode cX5_nextAsked 3 = .ok (.istore_n 3, 1) := dk_62 (dk_at dksX5_nextAsked_0 3 rfl rfl)
theorem dX5_nextAsked_4 : decode cX5_nextAsked 4 = .ok (.iload_n 3, 1) := dk_29 (dk_at dksX5_nextAsked_0 4 rfl rfl)
theorem dX5_nextAsked_5 : decode cX5_nextAsked 5 = .ok (.aload_n 0, 1) := dk_42 (dk_at dksX5_nextAsked_0 5 rfl rfl)
theorem dX5_nextAsked_6 : decode cX5_nextAsked 6 = .ok (.invokevirtual 343, 3) := dk_182 1 87 (dk_at dksX5_nextAsked_0 6 rfl rfl)
theorem dX5_nextAsked_9 : decode cX5_nextAsked 9 = .ok (.if_icmp .ge 69, 3) := dk_162 0 69 (dk_at dksX5_nextAsked_0 9 rfl rfl)
theorem dX5_nextAsked_12 : decode cX5_nextAsked 12 = .ok (.aload_n 0, 1) := dk_42 (dk_at dksX5_nextAsked_0 12 rfl rfl)
theorem dX5_nextAsked_13 : decode cX5_nextAsked 13 = .ok (.getfield 160, 3) := dk_180 0 160 (dk_at dksX5_nextAsked_0 13 rfl rfl)
theorem dX5_nextAsked_16 : decode cX5_nextAsked 16 = .ok (.iload_n 1, 1) := dk_27 (dk_at dksX5_nextAsked_0 16 rfl rfl)
theorem dX5_nextAsked_17 : decode cX5_nextAsked 17 = .ok (.iaload, 1) := dk_46 (dk_at dksX5_nextAsked_0 17 rfl rfl)
theorem dX5_nextAsked_18 : decode cX5_nextAsked 18 = .ok (.iload_n 3, 1) := dk_29 (dk_at dksX5_nextAsked_0 18 rfl rfl)
theorem dX5_nextAsked_19 : decode cX5_nextAsked 19 = .ok (.ishr, 1) := dk_122 (dk_at dksX5_nextAsked_0 19 rfl rfl)
theorem dX5_nextAsked_20 : decode cX5_nextAsked 20 = .ok (.iconst 1, 1) := dk_4 (dk_at dksX5_nextAsked_0 20 rfl rfl)
theorem dX5_nextAsked_21 : decode cX5_nextAsked 21 = .ok (.iand, 1) := dk_126 (dk_at dksX5_nextAsked_0 21 rfl rfl)
theorem dX5_nextAsked_22 : decode cX5_nextAsked 22 = .ok (.ifCond .ne 36, 3) := dk_154 0 36 (dk_at dksX5_nextAsked_1 0 rfl rfl)
theorem dX5_nextAsked_25 : decode cX5_nextAsked 25 = .ok (.iload_n 2, 1) := dk_28 (dk_at dksX5_nextAsked_1 3 rfl rfl)
theorem dX5_nextAsked_26 : decode cX5_nextAsked 26 = .ok (.ifCond .lt 28, 3) := dk_155 0 28 (dk_at dksX5_nextAsked_1 4 rfl rfl)
theorem dX5_nextAsked_29 : decode cX5_nextAsked 29 = .ok (.aload_n 0, 1) := dk_42 (dk_at dksX5_nextAsked_1 7 rfl rfl)
theorem dX5_nextAsked_30 : decode cX5_nextAsked 30 = .ok (.getfield 154, 3) := dk_180 0 154 (dk_at dksX5_nextAsked_1 8 rfl rfl)
theorem dX5_nextAsked_33 : decode cX5_nextAsked 33 = .ok (.bipush 6, 2) := dk_16 6 (dk_at dksX5_nextAsked_1 11 rfl rfl)
theorem dX5_nextAsked_35 : decode cX5_nextAsked 35 = .ok (.iload_n 1, 1) := dk_27 (dk_at dksX5_nextAsked_1 13 rfl rfl)
theorem dX5_nextAsked_36 : decode cX5_nextAsked 36 = .ok (.imul, 1) := dk_104 (dk_at dksX5_nextAsked_1 14 rfl rfl)
theorem dX5_nextAsked_37 : decode cX5_nextAsked 37 = .ok (.iload_n 3, 1) := dk_29 (dk_at dksX5_nextAsked_1 15 rfl rfl)
theorem dX5_nextAsked_38 : decode cX5_nextAsked 38 = .ok (.iadd, 1) := dk_96 (dk_at dksX5_nextAsked_1 16 rfl rfl)
theorem dX5_nextAsked_39 : decode cX5_nextAsked 39 = .ok (.iaload, 1) := dk_46 (dk_at dksX5_nextAsked_1 17 rfl rfl)
theorem dX5_nextAsked_40 : decode cX5_nextAsked 40 = .ok (.aload_n 0, 1) := dk_42 (dk_at dksX5_nextAsked_1 18 rfl rfl)
theorem dX5_nextAsked_41 : decode cX5_nextAsked 41 = .ok (.getfield 154, 3) := dk_180 0 154 (dk_at dksX5_nextAsked_1 19 rfl rfl)
theorem dX5_nextAsked_44 : decode cX5_nextAsked 44 = .ok (.bipush 6, 2) := dk_16 6 (dk_at dksX5_nextAsked_1 22 rfl rfl)
theorem dX5_nextAsked_46 : decode cX5_nextAsked 46 = .ok (.iload_n 1, 1) := dk_27 (dk_at dksX5_nextAsked_2 0 rfl rfl)
theorem dX5_nextAsked_47 : decode cX5_nextAsked 47 = .ok (.imul, 1) := dk_104 (dk_at dksX5_nextAsked_2 1 rfl rfl)
theorem dX5_nextAsked_48 : decode cX5_nextAsked 48 = .ok (.iload_n 2, 1) := dk_28 (dk_at dksX5_nextAsked_2 2 rfl rfl)
theorem dX5_nextAsked_49 : decode cX5_nextAsked 49 = .ok (.iadd, 1) := dk_96 (dk_at dksX5_nextAsked_2 3 rfl rfl)
theorem dX5_nextAsked_50 : decode cX5_nextAsked 50 = .ok (.iaload, 1) := dk_46 (dk_at dksX5_nextAsked_2 4 rfl rfl)
theorem dX5_nextAsked_51 : decode cX5_nextAsked 51 = .ok (.if_icmp .le 7, 3) := dk_164 0 7 (dk_at dksX5_nextAsked_2 5 rfl rfl)
theorem dX5_nextAsked_54 : decode cX5_nextAsked 54 = .ok (.iconst 1, 1) := dk_4 (dk_at dksX5_nextAsked_2 8 rfl rfl)
theorem dX5_nextAsked_55 : decode cX5_nextAsked 55 = .ok (.goto 4, 3) := dk_167 0 4 (dk_at dksX5_nextAsked_2 9 rfl rfl)
theorem dX5_nextAsked_58 : decode cX5_nextAsked 58 = .ok (.iconst 0, 1) := dk_3 (dk_at dksX5_nextAsked_2 12 rfl rfl)
theorem dX5_nextAsked_59 : decode cX5_nextAsked 59 = .ok (.istore 4, 2) := dk_54 4 (dk_at dksX5_nextAsked_2 13 rfl rfl)
theorem dX5_nextAsked_61 : decode cX5_nextAsked 61 = .ok (.iload 4, 2) := dk_21 4 (dk_at dksX5_nextAsked_2 15 rfl rfl)
theorem dX5_nextAsked_63 : decode cX5_nextAsked 63 = .ok (.ifCond .eq 7, 3) := dk_153 0 7 (dk_at dksX5_nextAsked_2 17 rfl rfl)
theorem dX5_nextAsked_66 : decode cX5_nextAsked 66 = .ok (.iload_n 3, 1) := dk_29 (dk_at dksX5_nextAsked_2 20 rfl rfl)
theorem dX5_nextAsked_67 : decode cX5_nextAsked 67 = .ok (.goto 4, 3) := dk_167 0 4 (dk_at dksX5_nextAsked_2 21 rfl rfl)
theorem dX5_nextAsked_70 : decode cX5_nextAsked 70 = .ok (.iload_n 2, 1) := dk_28 (dk_at dksX5_nextAsked_3 0 rfl rfl)
theorem dX5_nextAsked_71 : decode cX5_nextAsked 71 = .ok (.istore_n 2, 1) := dk_61 (dk_at dksX5_nextAsked_3 1 rfl rfl)
theorem dX5_nextAsked_72 : decode cX5_nextAsked 72 = .ok (.iinc 3 1, 3) := dk_132 3 1 (dk_at dksX5_nextAsked_3 2 rfl rfl)
theorem dX5_nextAsked_75 : decode cX5_nextAsked 75 = .ok (.goto (-71), 3) := dk_167 255 185 (dk_at dksX5_nextAsked_3 5 rfl rfl)
theorem dX5_nextAsked_78 : decode cX5_nextAsked 78 = .ok (.iload_n 2, 1) := dk_28 (dk_at dksX5_nextAsked_3 8 rfl rfl)
theorem dX5_nextAsked_79 : decode cX5_nextAsked 79 = .ok (.ireturn, 1) := dk_172 (dk_at dksX5_nextAsked_3 9 rfl rfl)
abbrev cX5_keeperOf : ByteArray := prog_26_method_92_code
def yX5_keeperOf : MethodName := ⟨RX5, "keeperOf", "(I)I"⟩
def dkwX5_keeperOf_1 : List UInt8 := [167, 0, 4, 28, 61, 132, 3, 1, 167, 255, 229, 28, 172]
abbrev dktX5_keeperOf_1 : List UInt8 := dkwX5_keeperOf_1 ++ []
def dkwX5_keeperOf_0 : List UInt8 := [2, 61, 3, 62, 29, 42, 182, 1, 67, 162, 0, 25, 42, 180, 0, 157, 29, 46, 27, 160, 0, 7, 29]
abbrev dktX5_keeperOf_0 : List UInt8 := dkwX5_keeperOf_0 ++ dktX5_keeperOf_1
theorem dksX5_keeperOf_0 : cX5_keeperOf.data.toList.drop 0 = dktX5_keeperOf_0 := by decide +kernel
theorem dksX5_keeperOf_1 : cX5_keeperOf.data.toList.drop 23 = dktX5_keeperOf_1 := dk_seg dksX5_keeperOf_0 23 rfl rfl
theorem dX5_keeperOf_0 : decode cX5_keeperOf 0 = .ok (.iconst (-1), 1) := dk_2 (dk_at dksX5_keeperOf_0 0 rfl rfl)
theorem dX5_keeperOf_1 : decode cX5_keeperOf 1 = .ok (.istore_n 2, 1) := dk_61 (dk_at dksX5_keeperOf_0 1 rfl rfl)
theorem dX5_keeperOf_2 : decode cX5_keeperOf 2 = .ok (.iconst 0, 1) := dk_3 (dk_at dksX5_keeperOf_0 2 rfl rfl)
theorem dX5_keeperOf_3 : decode cX5_keeperOf 3 = .ok (.istore_n 3, 1) := dk_62 (dk_at dksX5_keeperOf_0 3 rfl rfl)
theorem dX5_keeperOf_4 : decode cX5_keeperOf 4 = .ok (.iload_n 3, 1) := dk_29 (dk_at dksX5_keeperOf_0 4 rfl rfl)
theorem dX5_keeperOf_5 : decode cX5_keeperOf 5 = .ok (.aload_n 0, 1) := dk_42 (dk_at dksX5_keeperOf_0 5 rfl rfl)
theorem dX5_keeperOf_6 : decode cX5_keeperOf 6 = .ok (.invokevirtual 323, 3) := dk_182 1 67 (dk_at dksX5_keeperOf_0 6 rfl rfl)
theorem dX5_keeperOf_9 : decode cX5_keeperOf 9 = .ok (.if_icmp .ge 25, 3) := dk_162 0 25 (dk_at dksX5_keeperOf_0 9 rfl rfl)
theorem dX5_keeperOf_12 : decode cX5_keeperOf 12 = .ok (.aload_n 0, 1) := dk_42 (dk_at dksX5_keeperOf_0 12 rfl rfl)
theorem dX5_keeperOf_13 : decode cX5_keeperOf 13 = .ok (.getfield 157, 3) := dk_180 0 157 (dk_at dksX5_keeperOf_0 13 rfl rfl)
theorem dX5_keeperOf_16 : decode cX5_keeperOf 16 = .ok (.iload_n 3, 1) := dk_29 (dk_at dksX5_keeperOf_0 16 rfl rfl)
theorem dX5_keeperOf_17 : decode cX5_keeperOf 17 = .ok (.iaload, 1) := dk_46 (dk_at dksX5_keeperOf_0 17 rfl rfl)
theorem dX5_keeperOf_18 : decode cX5_keeperOf 18 = .ok (.iload_n 1, 1) := dk_27 (dk_at dksX5_keeperOf_0 18 rfl rfl)
theorem dX5_keeperOf_19 : decode cX5_keeperOf 19 = .ok (.if_icmp .ne 7, 3) := dk_160 0 7 (dk_at dksX5_keeperOf_0 19 rfl rfl)
theorem dX5_keeperOf_22 : decode cX5_keeperOf 22 = .ok (.iload_n 3, 1) := dk_29 (dk_at dksX5_keeperOf_0 22 rfl rfl)
theorem dX5_keeperOf_23 : decode cX5_keeperOf 23 = .ok (.goto 4, 3) := dk_167 0 4 (dk_at dksX5_keeperOf_1 0 rfl rfl)
theorem dX5_keeperOf_26 : decode cX5_keeperOf 26 = .ok (.iload_n 2, 1) := dk_28 (dk_at dksX5_keeperOf_1 3 rfl rfl)
theorem dX5_keeperOf_27 : decode cX5_keeperOf 27 = .ok (.istore_n 2, 1) := dk_61 (dk_at dksX5_keeperOf_1 4 rfl rfl)
theorem dX5_keeperOf_28 : decode cX5_keeperOf 28 = .ok (.iinc 3 1, 3) := dk_132 3 1 (dk_at dksX5_keeperOf_1 5 rfl rfl)
theorem dX5_keeperOf_31 : decode cX5_keeperOf 31 = .ok (.goto (-27), 3) := dk_167 255 229 (dk_at dksX5_keeperOf_1 8 rfl rfl)
theorem dX5_keeperOf_34 : decode cX5_keeperOf 34 = .ok (.iload_n 2, 1) := dk_28 (dk_at dksX5_keeperOf_1 11 rfl rfl)
theorem dX5_keeperOf_35 : decode cX5_keeperOf 35 = .ok (.ireturn, 1) := dk_172 (dk_at dksX5_keeperOf_1 12 rfl rfl)
abbrev cX5_spare : ByteArray := prog_26_method_96_code
def yX5_spare : MethodName := ⟨RX5, "spare", "(II)I"⟩
def dkwX5_spare_6 : List UInt8 := [153, 0, 7, 4, 167, 0, 4, 3, 172]
abbrev dktX5_spare_6 : List UInt8 := dkwX5_spare_6 ++ []
def dkwX5_spare_5 : List UInt8 := [42, 180, 0, 157, 28, 46, 96, 46, 164, 0, 7, 4, 167, 0, 4, 3, 54, 4, 29, 153, 0, 12, 21, 4]
abbrev dktX5_spare_5 : List UInt8 := dkwX5_spare_5 ++ dktX5_spare_6
def dkwX5_spare_4 : List UInt8 := [42, 180, 0, 154, 16, 6, 28, 104, 42, 180, 0, 157, 27, 46, 96, 46, 42, 180, 0, 154, 16, 6, 28, 104]
abbrev dktX5_spare_4 : List UInt8 := dkwX5_spare_4 ++ dktX5_spare_5
def dkwX5_spare_3 : List UInt8 := [180, 0, 154, 16, 6, 27, 104, 42, 180, 0, 157, 27, 46, 96, 46, 164, 0, 7, 4, 167, 0, 4, 3, 62]
abbrev dktX5_spare_3 : List UInt8 := dkwX5_spare_3 ++ dktX5_spare_4
def dkwX5_spare_2 : List UInt8 := [156, 0, 5, 2, 172, 42, 180, 0, 154, 16, 6, 27, 104, 42, 180, 0, 157, 28, 46, 96, 46, 42]
abbrev dktX5_spare_2 : List UInt8 := dkwX5_spare_2 ++ dktX5_spare_3
def dkwX5_spare_1 : List UInt8 := [160, 0, 5, 2, 172, 42, 182, 1, 181, 42, 180, 0, 157, 27, 46, 155, 0, 12, 42, 180, 0, 157, 28, 46]
abbrev dktX5_spare_1 : List UInt8 := dkwX5_spare_1 ++ dktX5_spare_2
def dkwX5_spare_0 : List UInt8 := [42, 3, 181, 0, 1, 42, 27, 182, 1, 90, 153, 0, 16, 42, 28, 182, 1, 90, 153, 0, 8, 27, 28]
abbrev dktX5_spare_0 : List UInt8 := dkwX5_spare_0 ++ dktX5_spare_1
theorem dksX5_spare_0 : cX5_spare.data.toList.drop 0 = dktX5_spare_0 := by decide +kernel
theorem dksX5_spare_1 : cX5_spare.data.toList.drop 23 = dktX5_spare_1 := dk_seg dksX5_spare_0 23 rfl rfl
theorem dksX5_spare_2 : cX5_spare.data.toList.drop 47 = dktX5_spare_2 := dk_seg dksX5_spare_1 24 rfl rfl
theorem dksX5_spare_3 : cX5_spare.data.toList.drop 69 = dktX5_spare_3 := dk_seg dksX5_spare_2 22 rfl rfl
theorem dksX5_spare_4 : cX5_spare.data.toList.drop 93 = dktX5_spare_4 := dk_seg dksX5_spare_3 24 rfl rfl
theorem dksX5_spare_5 : cX5_spare.data.toList.drop 117 = dktX5_spare_5 := dk_seg dksX5_spare_4 24 rfl rfl
theorem dksX5_spare_6 : cX5_spare.data.toList.drop 141 = dktX5_spare_6 := dk_seg dksX5_spare_5 24 rfl rfl
theorem dX5_spare_0 : decode cX5_spare 0 = .ok (.aload_n 0, 1) := dk_42 (dk_at dksX5_spare_0 0 rfl rfl)
theorem dX5_spare_1 : decode cX5_spare 1 = .ok (.iconst 0, 1) := dk_3 (dk_at dksX5_spare_0 1 rfl rfl)
theorem dX5_spare_2 : decode cX5_spare 2 = .ok (.putfield 1, 3) := dk_181 0 1 (dk_at dksX5_spare_0 2 rfl rfl)
theorem dX5_spare_5 : decode cX5_spare 5 = .ok (.aload_n 0, 1) := dk_42 (dk_at dksX5_spare_0 5 rfl rfl)
theorem dX5_spare_6 : decode cX5_spare 6 = .ok (.iload_n 1, 1) := dk_27 (dk_at dksX5_spare_0 6 rfl rfl)
theorem dX5_spare_7 : decode cX5_spare 7 = .ok (.invokevirtual 346, 3) := dk_182 1 90 (dk_at dksX5_spare_0 7 rfl rfl)
theorem dX5_spare_10 : decode cX5_spare 10 = .ok (.ifCond .eq 16, 3) := dk_153 0 16 (dk_at dksX5_spare_0 10 rfl rfl)
theorem dX5_spare_13 : decode cX5_spare 13 = .ok (.aload_n 0, 1) := dk_42 (dk_at dksX5_spare_0 13 rfl rfl)
theorem dX5_spare_14 : decode cX5_spare 14 = .ok (.iload_n 2, 1) := dk_28 (dk_at dksX5_spare_0 14 rfl rfl)
theorem dX5_spare_15 : decode cX5_spare 15 = .ok (.invokevirtual 346, 3) := dk_182 1 90 (dk_at dksX5_spare_0 15 rfl rfl)
theorem dX5_spare_18 : decode cX5_spare 18 = .ok (.ifCond .eq 8, 3) := dk_153 0 8 (dk_at dksX5_spare_0 18 rfl rfl)
theorem dX5_spare_21 : decode cX5_spare 21 = .ok (.iload_n 1, 1) := dk_27 (dk_at dksX5_spare_0 21 rfl rfl)
theorem dX5_spare_22 : decode cX5_spare 22 = .ok (.iload_n 2, 1) := dk_28 (dk_at dksX5_spare_0 22 rfl rfl)
theorem dX5_spare_23 : decode cX5_spare 23 = .ok (.if_icmp .ne 5, 3) := dk_160 0 5 (dk_at dksX5_spare_1 0 rfl rfl)
theorem dX5_spare_26 : decode cX5_spare 26 = .ok (.iconst (-1), 1) := dk_2 (dk_at dksX5_spare_1 3 rfl rfl)
theorem dX5_spare_27 : decode cX5_spare 27 = .ok (.ireturn, 1) := dk_172 (dk_at dksX5_spare_1 4 rfl rfl)
theorem dX5_spare_28 : decode cX5_spare 28 = .ok (.aload_n 0, 1) := dk_42 (dk_at dksX5_spare_1 5 rfl rfl)
theorem dX5_spare_29 : decode cX5_spare 29 = .ok (.invokevirtual 437, 3) := dk_182 1 181 (dk_at dksX5_spare_1 6 rfl rfl)
theorem dX5_spare_32 : decode cX5_spare 32 = .ok (.aload_n 0, 1) := dk_42 (dk_at dksX5_spare_1 9 rfl rfl)
theorem dX5_spare_33 : decode cX5_spare 33 = .ok (.getfield 157, 3) := dk_180 0 157 (dk_at dksX5_spare_1 10 rfl rfl)
theorem dX5_spare_36 : decode cX5_spare 36 = .ok (.iload_n 1, 1) := dk_27 (dk_at dksX5_spare_1 13 rfl rfl)
theorem dX5_spare_37 : decode cX5_spare 37 = .ok (.iaload, 1) := dk_46 (dk_at dksX5_spare_1 14 rfl rfl)
theorem dX5_spare_38 : decode cX5_spare 38 = .ok (.ifCond .lt 12, 3) := dk_155 0 12 (dk_at dksX5_spare_1 15 rfl rfl)
theorem dX5_spare_41 : decode cX5_spare 41 = .ok (.aload_n 0, 1) := dk_42 (dk_at dksX5_spare_1 18 rfl rfl)
theorem dX5_spare_42 : decode cX5_spare 42 = .ok (.getfield 157, 3) := dk_180 0 157 (dk_at dksX5_spare_1 19 rfl rfl)
theorem dX5_spare_45 : decode cX5_spare 45 = .ok (.iload_n 2, 1) := dk_28 (dk_at dksX5_spare_1 22 rfl rfl)
theorem dX5_spare_46 : decode cX5_spare 46 = .ok (.iaload, 1) := dk_46 (dk_at dksX5_spare_1 23 rfl rfl)
theorem dX5_spare_47 : decode cX5_spare 47 = .ok (.ifCond .ge 5, 3) := dk_156 0 5 (dk_at dksX5_spare_2 0 rfl rfl)
theorem dX5_spare_50 : decode cX5_spare 50 = .ok (.iconst (-1), 1) := dk_2 (dk_at dksX5_spare_2 3 rfl rfl)
theorem dX5_spare_51 : decode cX5_spare 51 = .ok (.ireturn, 1) := dk_172 (dk_at dksX5_spare_2 4 rfl rfl)
theorem dX5_spare_52 : decode cX5_spare 52 = .ok (.aload_n 0, 1) := dk_42 (dk_at dksX5_spare_2 5 rfl rfl)
theorem dX5_spare_53 : decode cX5_spare 53 = .ok (.getfield 154, 3) := dk_180 0 154 (dk_at dksX5_spare_2 6 rfl rfl)
theorem dX5_spare_56 : decode cX5_spare 56 = .ok (.bipush 6, 2) := dk_16 6 (dk_at dksX5_spare_2 9 rfl rfl)
theorem dX5_spare_58 : decode cX5_spare 58 = .ok (.iload_n 1, 1) := dk_27 (dk_at dksX5_spare_2 11 rfl rfl)
theorem dX5_spare_59 : decode cX5_spare 59 = .ok (.imul, 1) := dk_104 (dk_at dksX5_spare_2 12 rfl rfl)
theorem dX5_spare_60 : decode cX5_spare 60 = .ok (.aload_n 0, 1) := dk_42 (dk_at dksX5_spare_2 13 rfl rfl)
theorem dX5_spare_61 : decode cX5_spare 61 = .ok (.getfield 157, 3) := dk_180 0 157 (dk_at dksX5_spare_2 14 rfl rfl)
theorem dX5_spare_64 : decode cX5_spare 64 = .ok (.iload_n 2, 1) := dk_28 (dk_at dksX5_spare_2 17 rfl rfl)
theorem dX5_spare_65 : decode cX5_spare 65 = .ok (.iaload, 1) := dk_46 (dk_at dksX5_spare_2 18 rfl rfl)
theorem dX5_spare_66 : decode cX5_spare 66 = .ok (.iadd, 1) := dk_96 (dk_at dksX5_spare_2 19 rfl rfl)
theorem dX5_spare_67 : decode cX5_spare 67 = .ok (.iaload, 1) := dk_46 (dk_at dksX5_spare_2 20 rfl rfl)
theorem dX5_spare_68 : decode cX5_spare 68 = .ok (.aload_n 0, 1) := dk_42 (dk_at dksX5_spare_2 21 rfl rfl)
theorem dX5_spare_69 : decode cX5_spare 69 = .ok (.getfield 154, 3) := dk_180 0 154 (dk_at dksX5_spare_3 0 rfl rfl)
theorem dX5_spare_72 : decode cX5_spare 72 = .ok (.bipush 6, 2) := dk_16 6 (dk_at dksX5_spare_3 3 rfl rfl)
theorem dX5_spare_74 : decode cX5_spare 74 = .ok (.iload_n 1, 1) := dk_27 (dk_at dksX5_spare_3 5 rfl rfl)
theorem dX5_spare_75 : decode cX5_spare 75 = .ok (.imul, 1) := dk_104 (dk_at dksX5_spare_3 6 rfl rfl)
theorem dX5_spare_76 : decode cX5_spare 76 = .ok (.aload_n 0, 1) := dk_42 (dk_at dksX5_spare_3 7 rfl rfl)
theorem dX5_spare_77 : decode cX5_spare 77 = .ok (.getfield 157, 3) := dk_180 0 157 (dk_at dksX5_spare_3 8 rfl rfl)
theorem dX5_spare_80 : decode cX5_spare 80 = .ok (.iload_n 1, 1) := dk_27 (dk_at dksX5_spare_3 11 rfl rfl)
theorem dX5_spare_81 : decode cX5_spare 81 = .ok (.iaload, 1) := dk_46 (dk_at dksX5_spare_3 12 rfl rfl)
theorem dX5_spare_82 : decode cX5_spare 82 = .ok (.iadd, 1) := dk_96 (dk_at dksX5_spare_3 13 rfl rfl)
theorem dX5_spare_83 : decode cX5_spare 83 = .ok (.iaload, 1) := dk_46 (dk_at dksX5_spare_3 14 rfl rfl)
theorem dX5_spare_84 : decode cX5_spare 84 = .ok (.if_icmp .le 7, 3) := dk_164 0 7 (dk_at dksX5_spare_3 15 rfl rfl)
theorem dX5_spare_87 : decode cX5_spare 87 = .ok (.iconst 1, 1) := dk_4 (dk_at dksX5_spare_3 18 rfl rfl)
theorem dX5_spare_88 : decode cX5_spare 88 = .ok (.goto 4, 3) := dk_167 0 4 (dk_at dksX5_spare_3 19 rfl rfl)
theorem dX5_spare_91 : decode cX5_spare 91 = .ok (.iconst 0, 1) := dk_3 (dk_at dksX5_spare_3 22 rfl rfl)
theorem dX5_spare_92 : decode cX5_spare 92 = .ok (.istore_n 3, 1) := dk_62 (dk_at dksX5_spare_3 23 rfl rfl)
theorem dX5_spare_93 : decode cX5_spare 93 = .ok (.aload_n 0, 1) := dk_42 (dk_at dksX5_spare_4 0 rfl rfl)
theorem dX5_spare_94 : decode cX5_spare 94 = .ok (.getfield 154, 3) := dk_180 0 154 (dk_at dksX5_spare_4 1 rfl rfl)
theorem dX5_spare_97 : decode cX5_spare 97 = .ok (.bipush 6, 2) := dk_16 6 (dk_at dksX5_spare_4 4 rfl rfl)
theorem dX5_spare_99 : decode cX5_spare 99 = .ok (.iload_n 2, 1) := dk_28 (dk_at dksX5_spare_4 6 rfl rfl)
theorem dX5_spare_100 : decode cX5_spare 100 = .ok (.imul, 1) := dk_104 (dk_at dksX5_spare_4 7 rfl rfl)
theorem dX5_spare_101 : decode cX5_spare 101 = .ok (.aload_n 0, 1) := dk_42 (dk_at dksX5_spare_4 8 rfl rfl)
theorem dX5_spare_102 : decode cX5_spare 102 = .ok (.getfield 157, 3) := dk_180 0 157 (dk_at dksX5_spare_4 9 rfl rfl)
theorem dX5_spare_105 : decode cX5_spare 105 = .ok (.iload_n 1, 1) := dk_27 (dk_at dksX5_spare_4 12 rfl rfl)
theorem dX5_spare_106 : decode cX5_spare 106 = .ok (.iaload, 1) := dk_46 (dk_at dksX5_spare_4 13 rfl rfl)
theorem dX5_spare_107 : decode cX5_spare 107 = .ok (.iadd, 1) := dk_96 (dk_at dksX5_spare_4 14 rfl rfl)
theorem dX5_spare_108 : decode cX5_spare 108 = .ok (.iaload, 1) := dk_46 (dk_at dksX5_spare_4 15 rfl rfl)
theorem dX5_spare_109 : decode cX5_spare 109 = .ok (.aload_n 0, 1) := dk_42 (dk_at dksX5_spare_4 16 rfl rfl)
theorem dX5_spare_110 : decode cX5_spare 110 = .ok (.getfield 154, 3) := dk_180 0 154 (dk_at dksX5_spare_4 17 rfl rfl)
theorem dX5_spare_113 : decode cX5_spare 113 = .ok (.bipush 6, 2) := dk_16 6 (dk_at dksX5_spare_4 20 rfl rfl)
theorem dX5_spare_115 : decode cX5_spare 115 = .ok (.iload_n 2, 1) := dk_28 (dk_at dksX5_spare_4 22 rfl rfl)
theorem dX5_spare_116 : decode cX5_spare 116 = .ok (.imul, 1) := dk_104 (dk_at dksX5_spare_4 23 rfl rfl)
theorem dX5_spare_117 : decode cX5_spare 117 = .ok (.aload_n 0, 1) := dk_42 (dk_at dksX5_spare_5 0 rfl rfl)
theorem dX5_spare_118 : decode cX5_spare 118 = .ok (.getfield 157, 3) := dk_180 0 157 (dk_at dksX5_spare_5 1 rfl rfl)
theorem dX5_spare_121 : decode cX5_spare 121 = .ok (.iload_n 2, 1) := dk_28 (dk_at dksX5_spare_5 4 rfl rfl)
theorem dX5_spare_122 : decode cX5_spare 122 = .ok (.iaload, 1) := dk_46 (dk_at dksX5_spare_5 5 rfl rfl)
theorem dX5_spare_123 : decode cX5_spare 123 = .ok (.iadd, 1) := dk_96 (dk_at dksX5_spare_5 6 rfl rfl)
theorem dX5_spare_124 : decode cX5_spare 124 = .ok (.iaload, 1) := dk_46 (dk_at dksX5_spare_5 7 rfl rfl)
theorem dX5_spare_125 : decode cX5_spare 125 = .ok (.if_icmp .le 7, 3) := dk_164 0 7 (dk_at dksX5_spare_5 8 rfl rfl)
theorem dX5_spare_128 : decode cX5_spare 128 = .ok (.iconst 1, 1) := dk_4 (dk_at dksX5_spare_5 11 rfl rfl)
theorem dX5_spare_129 : decode cX5_spare 129 = .ok (.goto 4, 3) := dk_167 0 4 (dk_at dksX5_spare_5 12 rfl rfl)
theorem dX5_spare_132 : decode cX5_spare 132 = .ok (.iconst 0, 1) := dk_3 (dk_at dksX5_spare_5 15 rfl rfl)
theorem dX5_spare_133 : decode cX5_spare 133 = .ok (.istore 4, 2) := dk_54 4 (dk_at dksX5_spare_5 16 rfl rfl)
theorem dX5_spare_135 : decode cX5_spare 135 = .ok (.iload_n 3, 1) := dk_29 (dk_at dksX5_spare_5 18 rfl rfl)
theorem dX5_spare_136 : decode cX5_spare 136 = .ok (.ifCond .eq 12, 3) := dk_153 0 12 (dk_at dksX5_spare_5 19 rfl rfl)
theorem dX5_spare_139 : decode cX5_spare 139 = .ok (.iload 4, 2) := dk_21 4 (dk_at dksX5_spare_5 22 rfl rfl)
theorem dX5_spare_141 : decode cX5_spare 141 = .ok (.ifCond .eq 7, 3) := dk_153 0 7 (dk_at dksX5_spare_6 0 rfl rfl)
theorem dX5_spare_144 : decode cX5_spare 144 = .ok (.iconst 1, 1) := dk_4 (dk_at dksX5_spare_6 3 rfl rfl)
theorem dX5_spare_145 : decode cX5_spare 145 = .ok (.goto 4, 3) := dk_167 0 4 (dk_at dksX5_spare_6 4 rfl rfl)
theorem dX5_spare_148 : decode cX5_spare 148 = .ok (.iconst 0, 1) := dk_3 (dk_at dksX5_spare_6 7 rfl rfl)
theorem dX5_spare_149 : decode cX5_spare 149 = .ok (.ireturn, 1) := dk_172 (dk_at dksX5_spare_6 8 rfl rfl)
abbrev cX5_sampled : ByteArray := prog_26_method_98_code
def yX5_sampled : MethodName := ⟨RX5, "sampled", "(IIII)I"⟩
def dkwX5_sampled_4 : List UInt8 := [184, 1, 184, 109, 136, 172]
abbrev dktX5_sampled_4 : List UInt8 := dkwX5_sampled_4 ++ []
def dkwX5_sampled_3 : List UInt8 := [100, 184, 1, 184, 105, 97, 55, 5, 132, 7, 1, 167, 255, 225, 22, 5, 20, 1, 188, 105, 27, 29]
abbrev dktX5_sampled_3 : List UInt8 := dkwX5_sampled_3 ++ dktX5_sampled_4
def dkwX5_sampled_2 : List UInt8 := [21, 4, 54, 7, 21, 7, 29, 163, 0, 31, 22, 5, 28, 21, 7, 184, 1, 184, 27, 28, 100, 29, 21, 7]
abbrev dktX5_sampled_2 : List UInt8 := dkwX5_sampled_2 ++ dktX5_sampled_3
def dkwX5_sampled_1 : List UInt8 := [29, 3, 27, 184, 0, 241, 153, 0, 13, 21, 4, 3, 29, 184, 0, 241, 154, 0, 5, 2, 172, 9, 55, 5]
abbrev dktX5_sampled_1 : List UInt8 := dkwX5_sampled_1 ++ dktX5_sampled_2
def dkwX5_sampled_0 : List UInt8 := [42, 3, 181, 0, 1, 27, 4, 16, 30, 184, 0, 241, 153, 0, 31, 28, 3, 27, 184, 0, 241, 153, 0, 22]
abbrev dktX5_sampled_0 : List UInt8 := dkwX5_sampled_0 ++ dktX5_sampled_1
theorem dksX5_sampled_0 : cX5_sampled.data.toList.drop 0 = dktX5_sampled_0 := by decide +kernel
theorem dksX5_sampled_1 : cX5_sampled.data.toList.drop 24 = dktX5_sampled_1 := dk_seg dksX5_sampled_0 24 rfl rfl
theorem dksX5_sampled_2 : cX5_sampled.data.toList.drop 48 = dktX5_sampled_2 := dk_seg dksX5_sampled_1 24 rfl rfl
theorem dksX5_sampled_3 : cX5_sampled.data.toList.drop 72 = dktX5_sampled_3 := dk_seg dksX5_sampled_2 24 rfl rfl
theorem dksX5_sampled_4 : cX5_sampled.data.toList.drop 94 = dktX5_sampled_4 := dk_seg dksX5_sampled_3 22 rfl rfl
theorem dX5_sampled_0 : decode cX5_sampled 0 = .ok (.aload_n 0, 1) := dk_42 (dk_at dksX5_sampled_0 0 rfl rfl)
theorem dX5_sampled_1 : decode cX5_sampled 1 = .ok (.iconst 0, 1) := dk_3 (dk_at dksX5_sampled_0 1 rfl rfl)
theorem dX5_sampled_2 : decode cX5_sampled 2 = .ok (.putfield 1, 3) := dk_181 0 1 (dk_at dksX5_sampled_0 2 rfl rfl)
theorem dX5_sampled_5 : decode cX5_sampled 5 = .ok (.iload_n 1, 1) := dk_27 (dk_at dksX5_sampled_0 5 rfl rfl)
theorem dX5_sampled_6 : decode cX5_sampled 6 = .ok (.iconst 1, 1) := dk_4 (dk_at dksX5_sampled_0 6 rfl rfl)
theorem dX5_sampled_7 : decode cX5_sampled 7 = .ok (.bipush 30, 2) := dk_16 30 (dk_at dksX5_sampled_0 7 rfl rfl)
theorem dX5_sampled_9 : decode cX5_sampled 9 = .ok (.invokestatic 241, 3) := dk_184 0 241 (dk_at dksX5_sampled_0 9 rfl rfl)
theorem dX5_sampled_12 : decode cX5_sampled 12 = .ok (.ifCond .eq 31, 3) := dk_153 0 31 (dk_at dksX5_sampled_0 12 rfl rfl)
theorem dX5_sampled_15 : decode cX5_sampled 15 = .ok (.iload_n 2, 1) := dk_28 (dk_at dksX5_sampled_0 15 rfl rfl)
theorem dX5_sampled_16 : decode cX5_sampled 16 = .ok (.iconst 0, 1) := dk_3 (dk_at dksX5_sampled_0 16 rfl rfl)
theorem dX5_sampled_17 : decode cX5_sampled 17 = .ok (.iload_n 1, 1) := dk_27 (dk_at dksX5_sampled_0 17 rfl rfl)
theorem dX5_sampled_18 : decode cX5_sampled 18 = .ok (.invokestatic 241, 3) := dk_184 0 241 (dk_at dksX5_sampled_0 18 rfl rfl)
theorem dX5_sampled_21 : decode cX5_sampled 21 = .ok (.ifCond .eq 22, 3) := dk_153 0 22 (dk_at dksX5_sampled_0 21 rfl rfl)
theorem dX5_sampled_24 : decode cX5_sampled 24 = .ok (.iload_n 3, 1) := dk_29 (dk_at dksX5_sampled_1 0 rfl rfl)
theorem dX5_sampled_25 : decode cX5_sampled 25 = .ok (.iconst 0, 1) := dk_3 (dk_at dksX5_sampled_1 1 rfl rfl)
theorem dX5_sampled_26 : decode cX5_sampled 26 = .ok (.iload_n 1, 1) := dk_27 (dk_at dksX5_sampled_1 2 rfl rfl)
theorem dX5_sampled_27 : decode cX5_sampled 27 = .ok (.invokestatic 241, 3) := dk_184 0 241 (dk_at dksX5_sampled_1 3 rfl rfl)
theorem dX5_sampled_30 : decode cX5_sampled 30 = .ok (.ifCond .eq 13, 3) := dk_153 0 13 (dk_at dksX5_sampled_1 6 rfl rfl)
theorem dX5_sampled_33 : decode cX5_sampled 33 = .ok (.iload 4, 2) := dk_21 4 (dk_at dksX5_sampled_1 9 rfl rfl)
theorem dX5_sampled_35 : decode cX5_sampled 35 = .ok (.iconst 0, 1) := dk_3 (dk_at dksX5_sampled_1 11 rfl rfl)
theorem dX5_sampled_36 : decode cX5_sampled 36 = .ok (.iload_n 3, 1) := dk_29 (dk_at dksX5_sampled_1 12 rfl rfl)
theorem dX5_sampled_37 : decode cX5_sampled 37 = .ok (.invokestatic 241, 3) := dk_184 0 241 (dk_at dksX5_sampled_1 13 rfl rfl)
theorem dX5_sampled_40 : decode cX5_sampled 40 = .ok (.ifCond .ne 5, 3) := dk_154 0 5 (dk_at dksX5_sampled_1 16 rfl rfl)
theorem dX5_sampled_43 : decode cX5_sampled 43 = .ok (.iconst (-1), 1) := dk_2 (dk_at dksX5_sampled_1 19 rfl rfl)
theorem dX5_sampled_44 : decode cX5_sampled 44 = .ok (.ireturn, 1) := dk_172 (dk_at dksX5_sampled_1 20 rfl rfl)
theorem dX5_sampled_45 : decode cX5_sampled 45 = .ok (.lconst 0, 1) := dk_9 (dk_at dksX5_sampled_1 21 rfl rfl)
theorem dX5_sampled_46 : decode cX5_sampled 46 = .ok (.lstore 5, 2) := dk_55 5 (dk_at dksX5_sampled_1 22 rfl rfl)
theorem dX5_sampled_48 : decode cX5_sampled 48 = .ok (.iload 4, 2) := dk_21 4 (dk_at dksX5_sampled_2 0 rfl rfl)
theorem dX5_sampled_50 : decode cX5_sampled 50 = .ok (.istore 7, 2) := dk_54 7 (dk_at dksX5_sampled_2 2 rfl rfl)
theorem dX5_sampled_52 : decode cX5_sampled 52 = .ok (.iload 7, 2) := dk_21 7 (dk_at dksX5_sampled_2 4 rfl rfl)
theorem dX5_sampled_54 : decode cX5_sampled 54 = .ok (.iload_n 3, 1) := dk_29 (dk_at dksX5_sampled_2 6 rfl rfl)
theorem dX5_sampled_55 : decode cX5_sampled 55 = .ok (.if_icmp .gt 31, 3) := dk_163 0 31 (dk_at dksX5_sampled_2 7 rfl rfl)
theorem dX5_sampled_58 : decode cX5_sampled 58 = .ok (.lload 5, 2) := dk_22 5 (dk_at dksX5_sampled_2 10 rfl rfl)
theorem dX5_sampled_60 : decode cX5_sampled 60 = .ok (.iload_n 2, 1) := dk_28 (dk_at dksX5_sampled_2 12 rfl rfl)
theorem dX5_sampled_61 : decode cX5_sampled 61 = .ok (.iload 7, 2) := dk_21 7 (dk_at dksX5_sampled_2 13 rfl rfl)
theorem dX5_sampled_63 : decode cX5_sampled 63 = .ok (.invokestatic 440, 3) := dk_184 1 184 (dk_at dksX5_sampled_2 15 rfl rfl)
theorem dX5_sampled_66 : decode cX5_sampled 66 = .ok (.iload_n 1, 1) := dk_27 (dk_at dksX5_sampled_2 18 rfl rfl)
theorem dX5_sampled_67 : decode cX5_sampled 67 = .ok (.iload_n 2, 1) := dk_28 (dk_at dksX5_sampled_2 19 rfl rfl)
theorem dX5_sampled_68 : decode cX5_sampled 68 = .ok (.isub, 1) := dk_100 (dk_at dksX5_sampled_2 20 rfl rfl)
theorem dX5_sampled_69 : decode cX5_sampled 69 = .ok (.iload_n 3, 1) := dk_29 (dk_at dksX5_sampled_2 21 rfl rfl)
theorem dX5_sampled_70 : decode cX5_sampled 70 = .ok (.iload 7, 2) := dk_21 7 (dk_at dksX5_sampled_2 22 rfl rfl)
theorem dX5_sampled_72 : decode cX5_sampled 72 = .ok (.isub, 1) := dk_100 (dk_at dksX5_sampled_3 0 rfl rfl)
theorem dX5_sampled_73 : decode cX5_sampled 73 = .ok (.invokestatic 440, 3) := dk_184 1 184 (dk_at dksX5_sampled_3 1 rfl rfl)
theorem dX5_sampled_76 : decode cX5_sampled 76 = .ok (.lmul, 1) := dk_105 (dk_at dksX5_sampled_3 4 rfl rfl)
theorem dX5_sampled_77 : decode cX5_sampled 77 = .ok (.ladd, 1) := dk_97 (dk_at dksX5_sampled_3 5 rfl rfl)
theorem dX5_sampled_78 : decode cX5_sampled 78 = .ok (.lstore 5, 2) := dk_55 5 (dk_at dksX5_sampled_3 6 rfl rfl)
theorem dX5_sampled_80 : decode cX5_sampled 80 = .ok (.iinc 7 1, 3) := dk_132 7 1 (dk_at dksX5_sampled_3 8 rfl rfl)
theorem dX5_sampled_83 : decode cX5_sampled 83 = .ok (.goto (-31), 3) := dk_167 255 225 (dk_at dksX5_sampled_3 11 rfl rfl)
theorem dX5_sampled_86 : decode cX5_sampled 86 = .ok (.lload 5, 2) := dk_22 5 (dk_at dksX5_sampled_3 14 rfl rfl)
theorem dX5_sampled_88 : decode cX5_sampled 88 = .ok (.ldc2_w 444, 3) := dk_20 1 188 (dk_at dksX5_sampled_3 16 rfl rfl)
theorem dX5_sampled_91 : decode cX5_sampled 91 = .ok (.lmul, 1) := dk_105 (dk_at dksX5_sampled_3 19 rfl rfl)
theorem dX5_sampled_92 : decode cX5_sampled 92 = .ok (.iload_n 1, 1) := dk_27 (dk_at dksX5_sampled_3 20 rfl rfl)
theorem dX5_sampled_93 : decode cX5_sampled 93 = .ok (.iload_n 3, 1) := dk_29 (dk_at dksX5_sampled_3 21 rfl rfl)
theorem dX5_sampled_94 : decode cX5_sampled 94 = .ok (.invokestatic 440, 3) := dk_184 1 184 (dk_at dksX5_sampled_4 0 rfl rfl)
theorem dX5_sampled_97 : decode cX5_sampled 97 = .ok (.ldiv, 1) := dk_109 (dk_at dksX5_sampled_4 3 rfl rfl)
theorem dX5_sampled_98 : decode cX5_sampled 98 = .ok (.l2i, 1) := dk_136 (dk_at dksX5_sampled_4 4 rfl rfl)
theorem dX5_sampled_99 : decode cX5_sampled 99 = .ok (.ireturn, 1) := dk_172 (dk_at dksX5_sampled_4 5 rfl rfl)
abbrev cX5_choose : ByteArray := prog_26_method_97_code
def yX5_choose : MethodName := ⟨RX5, "choose", "(II)J"⟩
def dkwX5_choose_1 : List UInt8 := [65, 132, 4, 1, 167, 255, 233, 27, 155, 0, 8, 27, 26, 164, 0, 7, 9, 167, 0, 4, 32, 173]
abbrev dktX5_choose_1 : List UInt8 := dkwX5_choose_1 ++ []
def dkwX5_choose_0 : List UInt8 := [10, 65, 3, 54, 4, 21, 4, 27, 162, 0, 23, 32, 26, 21, 4, 100, 133, 105, 21, 4, 4, 96, 133, 109]
abbrev dktX5_choose_0 : List UInt8 := dkwX5_choose_0 ++ dktX5_choose_1
theorem dksX5_choose_0 : cX5_choose.data.toList.drop 0 = dktX5_choose_0 := by decide +kernel
theorem dksX5_choose_1 : cX5_choose.data.toList.drop 24 = dktX5_choose_1 := dk_seg dksX5_choose_0 24 rfl rfl
theorem dX5_choose_0 : decode cX5_choose 0 = .ok (.lconst 1, 1) := dk_10 (dk_at dksX5_choose_0 0 rfl rfl)
theorem dX5_choose_1 : decode cX5_choose 1 = .ok (.lstore_n 2, 1) := dk_65 (dk_at dksX5_choose_0 1 rfl rfl)
theorem dX5_choose_2 : decode cX5_choose 2 = .ok (.iconst 0, 1) := dk_3 (dk_at dksX5_choose_0 2 rfl rfl)
theorem dX5_choose_3 : decode cX5_choose 3 = .ok (.istore 4, 2) := dk_54 4 (dk_at dksX5_choose_0 3 rfl rfl)
theorem dX5_choose_5 : decode cX5_choose 5 = .ok (.iload 4, 2) := dk_21 4 (dk_at dksX5_choose_0 5 rfl rfl)
theorem dX5_choose_7 : decode cX5_choose 7 = .ok (.iload_n 1, 1) := dk_27 (dk_at dksX5_choose_0 7 rfl rfl)
theorem dX5_choose_8 : decode cX5_choose 8 = .ok (.if_icmp .ge 23, 3) := dk_162 0 23 (dk_at dksX5_choose_0 8 rfl rfl)
theorem dX5_choose_11 : decode cX5_choose 11 = .ok (.lload_n 2, 1) := dk_32 (dk_at dksX5_choose_0 11 rfl rfl)
theorem dX5_choose_12 : decode cX5_choose 12 = .ok (.iload_n 0, 1) := dk_26 (dk_at dksX5_choose_0 12 rfl rfl)
theorem dX5_choose_13 : decode cX5_choose 13 = .ok (.iload 4, 2) := dk_21 4 (dk_at dksX5_choose_0 13 rfl rfl)
theorem dX5_choose_15 : decode cX5_choose 15 = .ok (.isub, 1) := dk_100 (dk_at dksX5_choose_0 15 rfl rfl)
theorem dX5_choose_16 : decode cX5_choose 16 = .ok (.i2l, 1) := dk_133 (dk_at dksX5_choose_0 16 rfl rfl)
theorem dX5_choose_17 : decode cX5_choose 17 = .ok (.lmul, 1) := dk_105 (dk_at dksX5_choose_0 17 rfl rfl)
theorem dX5_choose_18 : decode cX5_choose 18 = .ok (.iload 4, 2) := dk_21 4 (dk_at dksX5_choose_0 18 rfl rfl)
theorem dX5_choose_20 : decode cX5_choose 20 = .ok (.iconst 1, 1) := dk_4 (dk_at dksX5_choose_0 20 rfl rfl)
theorem dX5_choose_21 : decode cX5_choose 21 = .ok (.iadd, 1) := dk_96 (dk_at dksX5_choose_0 21 rfl rfl)
theorem dX5_choose_22 : decode cX5_choose 22 = .ok (.i2l, 1) := dk_133 (dk_at dksX5_choose_0 22 rfl rfl)
theorem dX5_choose_23 : decode cX5_choose 23 = .ok (.ldiv, 1) := dk_109 (dk_at dksX5_choose_0 23 rfl rfl)
theorem dX5_choose_24 : decode cX5_choose 24 = .ok (.lstore_n 2, 1) := dk_65 (dk_at dksX5_choose_1 0 rfl rfl)
theorem dX5_choose_25 : decode cX5_choose 25 = .ok (.iinc 4 1, 3) := dk_132 4 1 (dk_at dksX5_choose_1 1 rfl rfl)
theorem dX5_choose_28 : decode cX5_choose 28 = .ok (.goto (-23), 3) := dk_167 255 233 (dk_at dksX5_choose_1 4 rfl rfl)
theorem dX5_choose_31 : decode cX5_choose 31 = .ok (.iload_n 1, 1) := dk_27 (dk_at dksX5_choose_1 7 rfl rfl)
theorem dX5_choose_32 : decode cX5_choose 32 = .ok (.ifCond .lt 8, 3) := dk_155 0 8 (dk_at dksX5_choose_1 8 rfl rfl)
theorem dX5_choose_35 : decode cX5_choose 35 = .ok (.iload_n 1, 1) := dk_27 (dk_at dksX5_choose_1 11 rfl rfl)
theorem dX5_choose_36 : decode cX5_choose 36 = .ok (.iload_n 0, 1) := dk_26 (dk_at dksX5_choose_1 12 rfl rfl)
theorem dX5_choose_37 : decode cX5_choose 37 = .ok (.if_icmp .le 7, 3) := dk_164 0 7 (dk_at dksX5_choose_1 13 rfl rfl)
theorem dX5_choose_40 : decode cX5_choose 40 = .ok (.lconst 0, 1) := dk_9 (dk_at dksX5_choose_1 16 rfl rfl)
theorem dX5_choose_41 : decode cX5_choose 41 = .ok (.goto 4, 3) := dk_167 0 4 (dk_at dksX5_choose_1 17 rfl rfl)
theorem dX5_choose_44 : decode cX5_choose 44 = .ok (.lload_n 2, 1) := dk_32 (dk_at dksX5_choose_1 20 rfl rfl)
theorem dX5_choose_45 : decode cX5_choose 45 = .ok (.lreturn, 1) := dk_173 (dk_at dksX5_choose_1 21 rfl rfl)
abbrev cX5_haunt : ByteArray := prog_26_method_101_code
def yX5_haunt : MethodName := ⟨RX5, "haunt", "(IIII)I"⟩
def dkwX5_haunt_5 : List UInt8 := [132, 7, 1, 167, 255, 190, 21, 4, 154, 0, 8, 21, 6, 167, 0, 5, 21, 5, 172]
abbrev dktX5_haunt_5 : List UInt8 := dkwX5_haunt_5 ++ []
def dkwX5_haunt_4 : List UInt8 := [167, 0, 5, 21, 5, 54, 5, 21, 8, 21, 6, 164, 0, 8, 21, 8, 167, 0, 5, 21, 6, 54, 6]
abbrev dktX5_haunt_4 : List UInt8 := dkwX5_haunt_4 ++ dktX5_haunt_5
def dkwX5_haunt_3 : List UInt8 := [27, 21, 7, 29, 182, 1, 193, 167, 0, 4, 2, 54, 8, 21, 8, 21, 6, 164, 0, 8, 21, 7]
abbrev dktX5_haunt_3 : List UInt8 := dkwX5_haunt_3 ++ dktX5_haunt_4
def dkwX5_haunt_2 : List UInt8 := [2, 54, 6, 3, 54, 7, 21, 7, 17, 16, 0, 162, 0, 64, 21, 7, 184, 1, 190, 28, 160, 0, 14, 42]
abbrev dktX5_haunt_2 : List UInt8 := dkwX5_haunt_2 ++ dktX5_haunt_3
def dkwX5_haunt_1 : List UInt8 := [4, 16, 99, 184, 0, 241, 153, 0, 13, 21, 4, 3, 4, 184, 0, 241, 154, 0, 5, 2, 172, 3, 54, 5]
abbrev dktX5_haunt_1 : List UInt8 := dkwX5_haunt_1 ++ dktX5_haunt_2
def dkwX5_haunt_0 : List UInt8 := [42, 3, 181, 0, 1, 42, 3, 27, 182, 1, 93, 153, 0, 32, 28, 4, 6, 184, 0, 241, 153, 0, 23, 29]
abbrev dktX5_haunt_0 : List UInt8 := dkwX5_haunt_0 ++ dktX5_haunt_1
theorem dksX5_haunt_0 : cX5_haunt.data.toList.drop 0 = dktX5_haunt_0 := by decide +kernel
theorem dksX5_haunt_1 : cX5_haunt.data.toList.drop 24 = dktX5_haunt_1 := dk_seg dksX5_haunt_0 24 rfl rfl
theorem dksX5_haunt_2 : cX5_haunt.data.toList.drop 48 = dktX5_haunt_2 := dk_seg dksX5_haunt_1 24 rfl rfl
theorem dksX5_haunt_3 : cX5_haunt.data.toList.drop 72 = dktX5_haunt_3 := dk_seg dksX5_haunt_2 24 rfl rfl
theorem dksX5_haunt_4 : cX5_haunt.data.toList.drop 94 = dktX5_haunt_4 := dk_seg dksX5_haunt_3 22 rfl rfl
theorem dksX5_haunt_5 : cX5_haunt.data.toList.drop 117 = dktX5_haunt_5 := dk_seg dksX5_haunt_4 23 rfl rfl
theorem dX5_haunt_0 : decode cX5_haunt 0 = .ok (.aload_n 0, 1) := dk_42 (dk_at dksX5_haunt_0 0 rfl rfl)
theorem dX5_haunt_1 : decode cX5_haunt 1 = .ok (.iconst 0, 1) := dk_3 (dk_at dksX5_haunt_0 1 rfl rfl)
theorem dX5_haunt_2 : decode cX5_haunt 2 = .ok (.putfield 1, 3) := dk_181 0 1 (dk_at dksX5_haunt_0 2 rfl rfl)
theorem dX5_haunt_5 : decode cX5_haunt 5 = .ok (.aload_n 0, 1) := dk_42 (dk_at dksX5_haunt_0 5 rfl rfl)
theorem dX5_haunt_6 : decode cX5_haunt 6 = .ok (.iconst 0, 1) := dk_3 (dk_at dksX5_haunt_0 6 rfl rfl)
theorem dX5_haunt_7 : decode cX5_haunt 7 = .ok (.iload_n 1, 1) := dk_27 (dk_at dksX5_haunt_0 7 rfl rfl)
theorem dX5_haunt_8 : decode cX5_haunt 8 = .ok (.invokevirtual 349, 3) := dk_182 1 93 (dk_at dksX5_haunt_0 8 rfl rfl)
theorem dX5_haunt_11 : decode cX5_haunt 11 = .ok (.ifCond .eq 32, 3) := dk_153 0 32 (dk_at dksX5_haunt_0 11 rfl rfl)
theorem dX5_haunt_14 : decode cX5_haunt 14 = .ok (.iload_n 2, 1) := dk_28 (dk_at dksX5_haunt_0 14 rfl rfl)
theorem dX5_haunt_15 : decode cX5_haunt 15 = .ok (.iconst 1, 1) := dk_4 (dk_at dksX5_haunt_0 15 rfl rfl)
theorem dX5_haunt_16 : decode cX5_haunt 16 = .ok (.iconst 3, 1) := dk_6 (dk_at dksX5_haunt_0 16 rfl rfl)
theorem dX5_haunt_17 : decode cX5_haunt 17 = .ok (.invokestatic 241, 3) := dk_184 0 241 (dk_at dksX5_haunt_0 17 rfl rfl)
theorem dX5_haunt_20 : decode cX5_haunt 20 = .ok (.ifCond .eq 23, 3) := dk_153 0 23 (dk_at dksX5_haunt_0 20 rfl rfl)
theorem dX5_haunt_23 : decode cX5_haunt 23 = .ok (.iload_n 3, 1) := dk_29 (dk_at dksX5_haunt_0 23 rfl rfl)
theorem dX5_haunt_24 : decode cX5_haunt 24 = .ok (.iconst 1, 1) := dk_4 (dk_at dksX5_haunt_1 0 rfl rfl)
theorem dX5_haunt_25 : decode cX5_haunt 25 = .ok (.bipush 99, 2) := dk_16 99 (dk_at dksX5_haunt_1 1 rfl rfl)
theorem dX5_haunt_27 : decode cX5_haunt 27 = .ok (.invokestatic 241, 3) := dk_184 0 241 (dk_at dksX5_haunt_1 3 rfl rfl)
theorem dX5_haunt_30 : decode cX5_haunt 30 = .ok (.ifCond .eq 13, 3) := dk_153 0 13 (dk_at dksX5_haunt_1 6 rfl rfl)
theorem dX5_haunt_33 : decode cX5_haunt 33 = .ok (.iload 4, 2) := dk_21 4 (dk_at dksX5_haunt_1 9 rfl rfl)
theorem dX5_haunt_35 : decode cX5_haunt 35 = .ok (.iconst 0, 1) := dk_3 (dk_at dksX5_haunt_1 11 rfl rfl)
theorem dX5_haunt_36 : decode cX5_haunt 36 = .ok (.iconst 1, 1) := dk_4 (dk_at dksX5_haunt_1 12 rfl rfl)
theorem dX5_haunt_37 : decode cX5_haunt 37 = .ok (.invokestatic 241, 3) := dk_184 0 241 (dk_at dksX5_haunt_1 13 rfl rfl)
theorem dX5_haunt_40 : decode cX5_haunt 40 = .ok (.ifCond .ne 5, 3) := dk_154 0 5 (dk_at dksX5_haunt_1 16 rfl rfl)
theorem dX5_haunt_43 : decode cX5_haunt 43 = .ok (.iconst (-1), 1) := dk_2 (dk_at dksX5_haunt_1 19 rfl rfl)
theorem dX5_haunt_44 : decode cX5_haunt 44 = .ok (.ireturn, 1) := dk_172 (dk_at dksX5_haunt_1 20 rfl rfl)
theorem dX5_haunt_45 : decode cX5_haunt 45 = .ok (.iconst 0, 1) := dk_3 (dk_at dksX5_haunt_1 21 rfl rfl)
theorem dX5_haunt_46 : decode cX5_haunt 46 = .ok (.istore 5, 2) := dk_54 5 (dk_at dksX5_haunt_1 22 rfl rfl)
theorem dX5_haunt_48 : decode cX5_haunt 48 = .ok (.iconst (-1), 1) := dk_2 (dk_at dksX5_haunt_2 0 rfl rfl)
theorem dX5_haunt_49 : decode cX5_haunt 49 = .ok (.istore 6, 2) := dk_54 6 (dk_at dksX5_haunt_2 1 rfl rfl)
theorem dX5_haunt_51 : decode cX5_haunt 51 = .ok (.iconst 0, 1) := dk_3 (dk_at dksX5_haunt_2 3 rfl rfl)
theorem dX5_haunt_52 : decode cX5_haunt 52 = .ok (.istore 7, 2) := dk_54 7 (dk_at dksX5_haunt_2 4 rfl rfl)
theorem dX5_haunt_54 : decode cX5_haunt 54 = .ok (.iload 7, 2) := dk_21 7 (dk_at dksX5_haunt_2 6 rfl rfl)
theorem dX5_haunt_56 : decode cX5_haunt 56 = .ok (.sipush 4096, 3) := dk_17 16 0 (dk_at dksX5_haunt_2 8 rfl rfl)
theorem dX5_haunt_59 : decode cX5_haunt 59 = .ok (.if_icmp .ge 64, 3) := dk_162 0 64 (dk_at dksX5_haunt_2 11 rfl rfl)
theorem dX5_haunt_62 : decode cX5_haunt 62 = .ok (.iload 7, 2) := dk_21 7 (dk_at dksX5_haunt_2 14 rfl rfl)
theorem dX5_haunt_64 : decode cX5_haunt 64 = .ok (.invokestatic 446, 3) := dk_184 1 190 (dk_at dksX5_haunt_2 16 rfl rfl)
theorem dX5_haunt_67 : decode cX5_haunt 67 = .ok (.iload_n 2, 1) := dk_28 (dk_at dksX5_haunt_2 19 rfl rfl)
theorem dX5_haunt_68 : decode cX5_haunt 68 = .ok (.if_icmp .ne 14, 3) := dk_160 0 14 (dk_at dksX5_haunt_2 20 rfl rfl)
theorem dX5_haunt_71 : decode cX5_haunt 71 = .ok (.aload_n 0, 1) := dk_42 (dk_at dksX5_haunt_2 23 rfl rfl)
theorem dX5_haunt_72 : decode cX5_haunt 72 = .ok (.iload_n 1, 1) := dk_27 (dk_at dksX5_haunt_3 0 rfl rfl)
theorem dX5_haunt_73 : decode cX5_haunt 73 = .ok (.iload 7, 2) := dk_21 7 (dk_at dksX5_haunt_3 1 rfl rfl)
theorem dX5_haunt_75 : decode cX5_haunt 75 = .ok (.iload_n 3, 1) := dk_29 (dk_at dksX5_haunt_3 3 rfl rfl)
theorem dX5_haunt_76 : decode cX5_haunt 76 = .ok (.invokevirtual 449, 3) := dk_182 1 193 (dk_at dksX5_haunt_3 4 rfl rfl)
theorem dX5_haunt_79 : decode cX5_haunt 79 = .ok (.goto 4, 3) := dk_167 0 4 (dk_at dksX5_haunt_3 7 rfl rfl)
theorem dX5_haunt_82 : decode cX5_haunt 82 = .ok (.iconst (-1), 1) := dk_2 (dk_at dksX5_haunt_3 10 rfl rfl)
theorem dX5_haunt_83 : decode cX5_haunt 83 = .ok (.istore 8, 2) := dk_54 8 (dk_at dksX5_haunt_3 11 rfl rfl)
theorem dX5_haunt_85 : decode cX5_haunt 85 = .ok (.iload 8, 2) := dk_21 8 (dk_at dksX5_haunt_3 13 rfl rfl)
theorem dX5_haunt_87 : decode cX5_haunt 87 = .ok (.iload 6, 2) := dk_21 6 (dk_at dksX5_haunt_3 15 rfl rfl)
theorem dX5_haunt_89 : decode cX5_haunt 89 = .ok (.if_icmp .le 8, 3) := dk_164 0 8 (dk_at dksX5_haunt_3 17 rfl rfl)
theorem dX5_haunt_92 : decode cX5_haunt 92 = .ok (.iload 7, 2) := dk_21 7 (dk_at dksX5_haunt_3 20 rfl rfl)
theorem dX5_haunt_94 : decode cX5_haunt 94 = .ok (.goto 5, 3) := dk_167 0 5 (dk_at dksX5_haunt_4 0 rfl rfl)
theorem dX5_haunt_97 : decode cX5_haunt 97 = .ok (.iload 5, 2) := dk_21 5 (dk_at dksX5_haunt_4 3 rfl rfl)
theorem dX5_haunt_99 : decode cX5_haunt 99 = .ok (.istore 5, 2) := dk_54 5 (dk_at dksX5_haunt_4 5 rfl rfl)
theorem dX5_haunt_101 : decode cX5_haunt 101 = .ok (.iload 8, 2) := dk_21 8 (dk_at dksX5_haunt_4 7 rfl rfl)
theorem dX5_haunt_103 : decode cX5_haunt 103 = .ok (.iload 6, 2) := dk_21 6 (dk_at dksX5_haunt_4 9 rfl rfl)
theorem dX5_haunt_105 : decode cX5_haunt 105 = .ok (.if_icmp .le 8, 3) := dk_164 0 8 (dk_at dksX5_haunt_4 11 rfl rfl)
theorem dX5_haunt_108 : decode cX5_haunt 108 = .ok (.iload 8, 2) := dk_21 8 (dk_at dksX5_haunt_4 14 rfl rfl)
theorem dX5_haunt_110 : decode cX5_haunt 110 = .ok (.goto 5, 3) := dk_167 0 5 (dk_at dksX5_haunt_4 16 rfl rfl)
theorem dX5_haunt_113 : decode cX5_haunt 113 = .ok (.iload 6, 2) := dk_21 6 (dk_at dksX5_haunt_4 19 rfl rfl)
theorem dX5_haunt_115 : decode cX5_haunt 115 = .ok (.istore 6, 2) := dk_54 6 (dk_at dksX5_haunt_4 21 rfl rfl)
theorem dX5_haunt_117 : decode cX5_haunt 117 = .ok (.iinc 7 1, 3) := dk_132 7 1 (dk_at dksX5_haunt_5 0 rfl rfl)
theorem dX5_haunt_120 : decode cX5_haunt 120 = .ok (.goto (-66), 3) := dk_167 255 190 (dk_at dksX5_haunt_5 3 rfl rfl)
theorem dX5_haunt_123 : decode cX5_haunt 123 = .ok (.iload 4, 2) := dk_21 4 (dk_at dksX5_haunt_5 6 rfl rfl)
theorem dX5_haunt_125 : decode cX5_haunt 125 = .ok (.ifCond .ne 8, 3) := dk_154 0 8 (dk_at dksX5_haunt_5 8 rfl rfl)
theorem dX5_haunt_128 : decode cX5_haunt 128 = .ok (.iload 6, 2) := dk_21 6 (dk_at dksX5_haunt_5 11 rfl rfl)
theorem dX5_haunt_130 : decode cX5_haunt 130 = .ok (.goto 5, 3) := dk_167 0 5 (dk_at dksX5_haunt_5 13 rfl rfl)
theorem dX5_haunt_133 : decode cX5_haunt 133 = .ok (.iload 5, 2) := dk_21 5 (dk_at dksX5_haunt_5 16 rfl rfl)
theorem dX5_haunt_135 : decode cX5_haunt 135 = .ok (.ireturn, 1) := dk_172 (dk_at dksX5_haunt_5 18 rfl rfl)
abbrev cX5_bits : ByteArray := prog_26_method_100_code
def yX5_bits : MethodName := ⟨RX5, "bits", "(I)I"⟩
def dkwX5_bits_1 : List UInt8 := [27, 172]
abbrev dktX5_bits_1 : List UInt8 := dkwX5_bits_1 ++ []
def dkwX5_bits_0 : List UInt8 := [3, 60, 3, 61, 28, 16, 30, 162, 0, 17, 27, 26, 28, 122, 4, 126, 96, 60, 132, 2, 1, 167, 255, 239]
abbrev dktX5_bits_0 : List UInt8 := dkwX5_bits_0 ++ dktX5_bits_1
theorem dksX5_bits_0 : cX5_bits.data.toList.drop 0 = dktX5_bits_0 := by decide +kernel
theorem dksX5_bits_1 : cX5_bits.data.toList.drop 24 = dktX5_bits_1 := dk_seg dksX5_bits_0 24 rfl rfl
theorem dX5_bits_0 : decode cX5_bits 0 = .ok (.iconst 0, 1) := dk_3 (dk_at dksX5_bits_0 0 rfl rfl)
theorem dX5_bits_1 : decode cX5_bits 1 = .ok (.istore_n 1, 1) := dk_60 (dk_at dksX5_bits_0 1 rfl rfl)
theorem dX5_bits_2 : decode cX5_bits 2 = .ok (.iconst 0, 1) := dk_3 (dk_at dksX5_bits_0 2 rfl rfl)
theorem dX5_bits_3 : decode cX5_bits 3 = .ok (.istore_n 2, 1) := dk_61 (dk_at dksX5_bits_0 3 rfl rfl)
theorem dX5_bits_4 : decode cX5_bits 4 = .ok (.iload_n 2, 1) := dk_28 (dk_at dksX5_bits_0 4 rfl rfl)
theorem dX5_bits_5 : decode cX5_bits 5 = .ok (.bipush 30, 2) := dk_16 30 (dk_at dksX5_bits_0 5 rfl rfl)
theorem dX5_bits_7 : decode cX5_bits 7 = .ok (.if_icmp .ge 17, 3) := dk_162 0 17 (dk_at dksX5_bits_0 7 rfl rfl)
theorem dX5_bits_10 : decode cX5_bits 10 = .ok (.iload_n 1, 1) := dk_27 (dk_at dksX5_bits_0 10 rfl rfl)
theorem dX5_bits_11 : decode cX5_bits 11 = .ok (.iload_n 0, 1) := dk_26 (dk_at dksX5_bits_0 11 rfl rfl)
theorem dX5_bits_12 : decode cX5_bits 12 = .ok (.iload_n 2, 1) := dk_28 (dk_at dksX5_bits_0 12 rfl rfl)
theorem dX5_bits_13 : decode cX5_bits 13 = .ok (.ishr, 1) := dk_122 (dk_at dksX5_bits_0 13 rfl rfl)
theorem dX5_bits_14 : decode cX5_bits 14 = .ok (.iconst 1, 1) := dk_4 (dk_at dksX5_bits_0 14 rfl rfl)
theorem dX5_bits_15 : decode cX5_bits 15 = .ok (.iand, 1) := dk_126 (dk_at dksX5_bits_0 15 rfl rfl)
theorem dX5_bits_16 : decode cX5_bits 16 = .ok (.iadd, 1) := dk_96 (dk_at dksX5_bits_0 16 rfl rfl)
theorem dX5_bits_17 : decode cX5_bits 17 = .ok (.istore_n 1, 1) := dk_60 (dk_at dksX5_bits_0 17 rfl rfl)
theorem dX5_bits_18 : decode cX5_bits 18 = .ok (.iinc 2 1, 3) := dk_132 2 1 (dk_at dksX5_bits_0 18 rfl rfl)
theorem dX5_bits_21 : decode cX5_bits 21 = .ok (.goto (-17), 3) := dk_167 255 239 (dk_at dksX5_bits_0 21 rfl rfl)
theorem dX5_bits_24 : decode cX5_bits 24 = .ok (.iload_n 1, 1) := dk_27 (dk_at dksX5_bits_1 0 rfl rfl)
theorem dX5_bits_25 : decode cX5_bits 25 = .ok (.ireturn, 1) := dk_172 (dk_at dksX5_bits_1 1 rfl rfl)
abbrev cX5_haunted : ByteArray := prog_26_method_99_code
def yX5_haunted : MethodName := ⟨RX5, "haunted", "(III)I"⟩
def dkwX5_haunted_3 : List UInt8 := [46, 100, 172]
abbrev dktX5_haunted_3 : List UInt8 := dkwX5_haunted_3 ++ []
def dkwX5_haunted_2 : List UInt8 := [132, 4, 1, 167, 255, 219, 42, 180, 0, 141, 17, 4, 159, 27, 96, 46, 42, 180, 0, 141, 16, 7, 27, 96]
abbrev dktX5_haunted_2 : List UInt8 := dkwX5_haunted_2 ++ dktX5_haunted_3
def dkwX5_haunted_1 : List UInt8 := [4, 126, 4, 160, 0, 12, 42, 17, 4, 152, 27, 29, 182, 1, 136, 42, 17, 4, 152, 182, 1, 139, 87]
abbrev dktX5_haunted_1 : List UInt8 := dkwX5_haunted_1 ++ dktX5_haunted_2
def dkwX5_haunted_0 : List UInt8 := [42, 3, 17, 4, 152, 16, 43, 182, 1, 83, 3, 54, 4, 21, 4, 16, 12, 162, 0, 36, 28, 21, 4, 122]
abbrev dktX5_haunted_0 : List UInt8 := dkwX5_haunted_0 ++ dktX5_haunted_1
theorem dksX5_haunted_0 : cX5_haunted.data.toList.drop 0 = dktX5_haunted_0 := by decide +kernel
theorem dksX5_haunted_1 : cX5_haunted.data.toList.drop 24 = dktX5_haunted_1 := dk_seg dksX5_haunted_0 24 rfl rfl
theorem dksX5_haunted_2 : cX5_haunted.data.toList.drop 47 = dktX5_haunted_2 := dk_seg dksX5_haunted_1 23 rfl rfl
theorem dksX5_haunted_3 : cX5_haunted.data.toList.drop 71 = dktX5_haunted_3 := dk_seg dksX5_haunted_2 24 rfl rfl
theorem dX5_haunted_0 : decode cX5_haunted 0 = .ok (.aload_n 0, 1) := dk_42 (dk_at dksX5_haunted_0 0 rfl rfl)
theorem dX5_haunted_1 : decode cX5_haunted 1 = .ok (.iconst 0, 1) := dk_3 (dk_at dksX5_haunted_0 1 rfl rfl)
theorem dX5_haunted_2 : decode cX5_haunted 2 = .ok (.sipush 1176, 3) := dk_17 4 152 (dk_at dksX5_haunted_0 2 rfl rfl)
theorem dX5_haunted_5 : decode cX5_haunted 5 = .ok (.bipush 43, 2) := dk_16 43 (dk_at dksX5_haunted_0 5 rfl rfl)
theorem dX5_haunted_7 : decode cX5_haunted 7 = .ok (.invokevirtual 339, 3) := dk_182 1 83 (dk_at dksX5_haunted_0 7 rfl rfl)
theorem dX5_haunted_10 : decode cX5_haunted 10 = .ok (.iconst 0, 1) := dk_3 (dk_at dksX5_haunted_0 10 rfl rfl)
theorem dX5_haunted_11 : decode cX5_haunted 11 = .ok (.istore 4, 2) := dk_54 4 (dk_at dksX5_haunted_0 11 rfl rfl)
theorem dX5_haunted_13 : decode cX5_haunted 13 = .ok (.iload 4, 2) := dk_21 4 (dk_at dksX5_haunted_0 13 rfl rfl)
theorem dX5_haunted_15 : decode cX5_haunted 15 = .ok (.bipush 12, 2) := dk_16 12 (dk_at dksX5_haunted_0 15 rfl rfl)
theorem dX5_haunted_17 : decode cX5_haunted 17 = .ok (.if_icmp .ge 36, 3) := dk_162 0 36 (dk_at dksX5_haunted_0 17 rfl rfl)
theorem dX5_haunted_20 : decode cX5_haunted 20 = .ok (.iload_n 2, 1) := dk_28 (dk_at dksX5_haunted_0 20 rfl rfl)
theorem dX5_haunted_21 : decode cX5_haunted 21 = .ok (.iload 4, 2) := dk_21 4 (dk_at dksX5_haunted_0 21 rfl rfl)
theorem dX5_haunted_23 : decode cX5_haunted 23 = .ok (.ishr, 1) := dk_122 (dk_at dksX5_haunted_0 23 rfl rfl)
theorem dX5_haunted_24 : decode cX5_haunted 24 = .ok (.iconst 1, 1) := dk_4 (dk_at dksX5_haunted_1 0 rfl rfl)
theorem dX5_haunted_25 : decode cX5_haunted 25 = .ok (.iand, 1) := dk_126 (dk_at dksX5_haunted_1 1 rfl rfl)
theorem dX5_haunted_26 : decode cX5_haunted 26 = .ok (.iconst 1, 1) := dk_4 (dk_at dksX5_haunted_1 2 rfl rfl)
theorem dX5_haunted_27 : decode cX5_haunted 27 = .ok (.if_icmp .ne 12, 3) := dk_160 0 12 (dk_at dksX5_haunted_1 3 rfl rfl)
theorem dX5_haunted_30 : decode cX5_haunted 30 = .ok (.aload_n 0, 1) := dk_42 (dk_at dksX5_haunted_1 6 rfl rfl)
theorem dX5_haunted_31 : decode cX5_haunted 31 = .ok (.sipush 1176, 3) := dk_17 4 152 (dk_at dksX5_haunted_1 7 rfl rfl)
theorem dX5_haunted_34 : decode cX5_haunted 34 = .ok (.iload_n 1, 1) := dk_27 (dk_at dksX5_haunted_1 10 rfl rfl)
theorem dX5_haunted_35 : decode cX5_haunted 35 = .ok (.iload_n 3, 1) := dk_29 (dk_at dksX5_haunted_1 11 rfl rfl)
theorem dX5_haunted_36 : decode cX5_haunted 36 = .ok (.invokevirtual 392, 3) := dk_182 1 136 (dk_at dksX5_haunted_1 12 rfl rfl)
theorem dX5_haunted_39 : decode cX5_haunted 39 = .ok (.aload_n 0, 1) := dk_42 (dk_at dksX5_haunted_1 15 rfl rfl)
theorem dX5_haunted_40 : decode cX5_haunted 40 = .ok (.sipush 1176, 3) := dk_17 4 152 (dk_at dksX5_haunted_1 16 rfl rfl)
theorem dX5_haunted_43 : decode cX5_haunted 43 = .ok (.invokevirtual 395, 3) := dk_182 1 139 (dk_at dksX5_haunted_1 19 rfl rfl)
theorem dX5_haunted_46 : decode cX5_haunted 46 = .ok (.pop, 1) := dk_87 (dk_at dksX5_haunted_1 22 rfl rfl)
theorem dX5_haunted_47 : decode cX5_haunted 47 = .ok (.iinc 4 1, 3) := dk_132 4 1 (dk_at dksX5_haunted_2 0 rfl rfl)
theorem dX5_haunted_50 : decode cX5_haunted 50 = .ok (.goto (-37), 3) := dk_167 255 219 (dk_at dksX5_haunted_2 3 rfl rfl)
theorem dX5_haunted_53 : decode cX5_haunted 53 = .ok (.aload_n 0, 1) := dk_42 (dk_at dksX5_haunted_2 6 rfl rfl)
theorem dX5_haunted_54 : decode cX5_haunted 54 = .ok (.getfield 141, 3) := dk_180 0 141 (dk_at dksX5_haunted_2 7 rfl rfl)
theorem dX5_haunted_57 : decode cX5_haunted 57 = .ok (.sipush 1183, 3) := dk_17 4 159 (dk_at dksX5_haunted_2 10 rfl rfl)
theorem dX5_haunted_60 : decode cX5_haunted 60 = .ok (.iload_n 1, 1) := dk_27 (dk_at dksX5_haunted_2 13 rfl rfl)
theorem dX5_haunted_61 : decode cX5_haunted 61 = .ok (.iadd, 1) := dk_96 (dk_at dksX5_haunted_2 14 rfl rfl)
theorem dX5_haunted_62 : decode cX5_haunted 62 = .ok (.iaload, 1) := dk_46 (dk_at dksX5_haunted_2 15 rfl rfl)
theorem dX5_haunted_63 : decode cX5_haunted 63 = .ok (.aload_n 0, 1) := dk_42 (dk_at dksX5_haunted_2 16 rfl rfl)
theorem dX5_haunted_64 : decode cX5_haunted 64 = .ok (.getfield 141, 3) := dk_180 0 141 (dk_at dksX5_haunted_2 17 rfl rfl)
theorem dX5_haunted_67 : decode cX5_haunted 67 = .ok (.bipush 7, 2) := dk_16 7 (dk_at dksX5_haunted_2 20 rfl rfl)
theorem dX5_haunted_69 : decode cX5_haunted 69 = .ok (.iload_n 1, 1) := dk_27 (dk_at dksX5_haunted_2 22 rfl rfl)
theorem dX5_haunted_70 : decode cX5_haunted 70 = .ok (.iadd, 1) := dk_96 (dk_at dksX5_haunted_2 23 rfl rfl)
theorem dX5_haunted_71 : decode cX5_haunted 71 = .ok (.iaload, 1) := dk_46 (dk_at dksX5_haunted_3 0 rfl rfl)
theorem dX5_haunted_72 : decode cX5_haunted 72 = .ok (.isub, 1) := dk_100 (dk_at dksX5_haunted_3 1 rfl rfl)
theorem dX5_haunted_73 : decode cX5_haunted 73 = .ok (.ireturn, 1) := dk_172 (dk_at dksX5_haunted_3 2 rfl rfl)
abbrev cX5_lease : ByteArray := prog_26_method_104_code
def yX5_lease : MethodName := ⟨RX5, "lease", "(II)I"⟩
def dkwX5_lease_1 : List UInt8 := [158, 0, 7, 3, 167, 0, 9, 42, 27, 28, 182, 1, 199, 172]
abbrev dktX5_lease_1 : List UInt8 := dkwX5_lease_1 ++ []
def dkwX5_lease_0 : List UInt8 := [42, 42, 27, 28, 182, 1, 196, 153, 0, 7, 3, 167, 0, 4, 4, 181, 0, 1, 42, 180, 0, 1]
abbrev dktX5_lease_0 : List UInt8 := dkwX5_lease_0 ++ dktX5_lease_1
theorem dksX5_lease_0 : cX5_lease.data.toList.drop 0 = dktX5_lease_0 := by decide +kernel
theorem dksX5_lease_1 : cX5_lease.data.toList.drop 22 = dktX5_lease_1 := dk_seg dksX5_lease_0 22 rfl rfl
theorem dX5_lease_0 : decode cX5_lease 0 = .ok (.aload_n 0, 1) := dk_42 (dk_at dksX5_lease_0 0 rfl rfl)
theorem dX5_lease_1 : decode cX5_lease 1 = .ok (.aload_n 0, 1) := dk_42 (dk_at dksX5_lease_0 1 rfl rfl)
theorem dX5_lease_2 : decode cX5_lease 2 = .ok (.iload_n 1, 1) := dk_27 (dk_at dksX5_lease_0 2 rfl rfl)
theorem dX5_lease_3 : decode cX5_lease 3 = .ok (.iload_n 2, 1) := dk_28 (dk_at dksX5_lease_0 3 rfl rfl)
theorem dX5_lease_4 : decode cX5_lease 4 = .ok (.invokevirtual 452, 3) := dk_182 1 196 (dk_at dksX5_lease_0 4 rfl rfl)
theorem dX5_lease_7 : decode cX5_lease 7 = .ok (.ifCond .eq 7, 3) := dk_153 0 7 (dk_at dksX5_lease_0 7 rfl rfl)
theorem dX5_lease_10 : decode cX5_lease 10 = .ok (.iconst 0, 1) := dk_3 (dk_at dksX5_lease_0 10 rfl rfl)
theorem dX5_lease_11 : decode cX5_lease 11 = .ok (.goto 4, 3) := dk_167 0 4 (dk_at dksX5_lease_0 11 rfl rfl)
theorem dX5_lease_14 : decode cX5_lease 14 = .ok (.iconst 1, 1) := dk_4 (dk_at dksX5_lease_0 14 rfl rfl)
theorem dX5_lease_15 : decode cX5_lease 15 = .ok (.putfield 1, 3) := dk_181 0 1 (dk_at dksX5_lease_0 15 rfl rfl)
theorem dX5_lease_18 : decode cX5_lease 18 = .ok (.aload_n 0, 1) := dk_42 (dk_at dksX5_lease_0 18 rfl rfl)
theorem dX5_lease_19 : decode cX5_lease 19 = .ok (.getfield 1, 3) := dk_180 0 1 (dk_at dksX5_lease_0 19 rfl rfl)
theorem dX5_lease_22 : decode cX5_lease 22 = .ok (.ifCond .le 7, 3) := dk_158 0 7 (dk_at dksX5_lease_1 0 rfl rfl)
theorem dX5_lease_25 : decode cX5_lease 25 = .ok (.iconst 0, 1) := dk_3 (dk_at dksX5_lease_1 3 rfl rfl)
theorem dX5_lease_26 : decode cX5_lease 26 = .ok (.goto 9, 3) := dk_167 0 9 (dk_at dksX5_lease_1 4 rfl rfl)
theorem dX5_lease_29 : decode cX5_lease 29 = .ok (.aload_n 0, 1) := dk_42 (dk_at dksX5_lease_1 7 rfl rfl)
theorem dX5_lease_30 : decode cX5_lease 30 = .ok (.iload_n 1, 1) := dk_27 (dk_at dksX5_lease_1 8 rfl rfl)
theorem dX5_lease_31 : decode cX5_lease 31 = .ok (.iload_n 2, 1) := dk_28 (dk_at dksX5_lease_1 9 rfl rfl)
theorem dX5_lease_32 : decode cX5_lease 32 = .ok (.invokevirtual 455, 3) := dk_182 1 199 (dk_at dksX5_lease_1 10 rfl rfl)
theorem dX5_lease_35 : decode cX5_lease 35 = .ok (.ireturn, 1) := dk_172 (dk_at dksX5_lease_1 13 rfl rfl)
abbrev cX5_areBothIn : ByteArray := prog_26_method_102_code
def yX5_areBothIn : MethodName := ⟨RX5, "areBothIn", "(II)Z"⟩
def dkwX5_areBothIn_1 : List UInt8 := [167, 0, 4, 3, 172]
abbrev dktX5_areBothIn_1 : List UInt8 := dkwX5_areBothIn_1 ++ []
def dkwX5_areBothIn_0 : List UInt8 := [27, 28, 159, 0, 25, 42, 3, 27, 182, 1, 93, 153, 0, 16, 42, 3, 28, 182, 1, 93, 153, 0, 7, 4]
abbrev dktX5_areBothIn_0 : List UInt8 := dkwX5_areBothIn_0 ++ dktX5_areBothIn_1
theorem dksX5_areBothIn_0 : cX5_areBothIn.data.toList.drop 0 = dktX5_areBothIn_0 := by decide +kernel
theorem dksX5_areBothIn_1 : cX5_areBothIn.data.toList.drop 24 = dktX5_areBothIn_1 := dk_seg dksX5_areBothIn_0 24 rfl rfl
theorem dX5_areBothIn_0 : decode cX5_areBothIn 0 = .ok (.iload_n 1, 1) := dk_27 (dk_at dksX5_areBothIn_0 0 rfl rfl)
theorem dX5_areBothIn_1 : decode cX5_areBothIn 1 = .ok (.iload_n 2, 1) := dk_28 (dk_at dksX5_areBothIn_0 1 rfl rfl)
theorem dX5_areBothIn_2 : decode cX5_areBothIn 2 = .ok (.if_icmp .eq 25, 3) := dk_159 0 25 (dk_at dksX5_areBothIn_0 2 rfl rfl)
theorem dX5_areBothIn_5 : decode cX5_areBothIn 5 = .ok (.aload_n 0, 1) := dk_42 (dk_at dksX5_areBothIn_0 5 rfl rfl)
theorem dX5_areBothIn_6 : decode cX5_areBothIn 6 = .ok (.iconst 0, 1) := dk_3 (dk_at dksX5_areBothIn_0 6 rfl rfl)
theorem dX5_areBothIn_7 : decode cX5_areBothIn 7 = .ok (.iload_n 1, 1) := dk_27 (dk_at dksX5_areBothIn_0 7 rfl rfl)
theorem dX5_areBothIn_8 : decode cX5_areBothIn 8 = .ok (.invokevirtual 349, 3) := dk_182 1 93 (dk_at dksX5_areBothIn_0 8 rfl rfl)
theorem dX5_areBothIn_11 : decode cX5_areBothIn 11 = .ok (.ifCond .eq 16, 3) := dk_153 0 16 (dk_at dksX5_areBothIn_0 11 rfl rfl)
theorem dX5_areBothIn_14 : decode cX5_areBothIn 14 = .ok (.aload_n 0, 1) := dk_42 (dk_at dksX5_areBothIn_0 14 rfl rfl)
theorem dX5_areBothIn_15 : decode cX5_areBothIn 15 = .ok (.iconst 0, 1) := dk_3 (dk_at dksX5_areBothIn_0 15 rfl rfl)
theorem dX5_areBothIn_16 : decode cX5_areBothIn 16 = .ok (.iload_n 2, 1) := dk_28 (dk_at dksX5_areBothIn_0 16 rfl rfl)
theorem dX5_areBothIn_17 : decode cX5_areBothIn 17 = .ok (.invokevirtual 349, 3) := dk_182 1 93 (dk_at dksX5_areBothIn_0 17 rfl rfl)
theorem dX5_areBothIn_20 : decode cX5_areBothIn 20 = .ok (.ifCond .eq 7, 3) := dk_153 0 7 (dk_at dksX5_areBothIn_0 20 rfl rfl)
theorem dX5_areBothIn_23 : decode cX5_areBothIn 23 = .ok (.iconst 1, 1) := dk_4 (dk_at dksX5_areBothIn_0 23 rfl rfl)
theorem dX5_areBothIn_24 : decode cX5_areBothIn 24 = .ok (.goto 4, 3) := dk_167 0 4 (dk_at dksX5_areBothIn_1 0 rfl rfl)
theorem dX5_areBothIn_27 : decode cX5_areBothIn 27 = .ok (.iconst 0, 1) := dk_3 (dk_at dksX5_areBothIn_1 3 rfl rfl)
theorem dX5_areBothIn_28 : decode cX5_areBothIn 28 = .ok (.ireturn, 1) := dk_172 (dk_at dksX5_areBothIn_1 4 rfl rfl)
abbrev cX5_savedBy : ByteArray := prog_26_method_103_code
def yX5_savedBy : MethodName := ⟨RX5, "savedBy", "(II)I"⟩
def dkwX5_savedBy_3 : List UInt8 := [29, 167, 0, 5, 21, 4, 42, 27, 3, 182, 1, 71, 182, 1, 115, 100, 172]
abbrev dktX5_savedBy_3 : List UInt8 := dkwX5_savedBy_3 ++ []
def dkwX5_savedBy_2 : List UInt8 := [180, 0, 141, 16, 7, 27, 96, 46, 42, 180, 0, 141, 16, 7, 28, 96, 46, 96, 29, 21, 4, 162, 0, 7]
abbrev dktX5_savedBy_2 : List UInt8 := dkwX5_savedBy_2 ++ dktX5_savedBy_3
def dkwX5_savedBy_1 : List UInt8 := [182, 1, 100, 54, 4, 42, 3, 27, 182, 1, 118, 42, 3, 28, 182, 1, 118, 96, 54, 5, 21, 5, 42, 42]
abbrev dktX5_savedBy_1 : List UInt8 := dkwX5_savedBy_1 ++ dktX5_savedBy_2
def dkwX5_savedBy_0 : List UInt8 := [42, 42, 180, 0, 141, 4, 27, 96, 46, 5, 182, 1, 100, 62, 42, 42, 180, 0, 141, 4, 28, 96, 46, 5]
abbrev dktX5_savedBy_0 : List UInt8 := dkwX5_savedBy_0 ++ dktX5_savedBy_1
theorem dksX5_savedBy_0 : cX5_savedBy.data.toList.drop 0 = dktX5_savedBy_0 := by decide +kernel
theorem dksX5_savedBy_1 : cX5_savedBy.data.toList.drop 24 = dktX5_savedBy_1 := dk_seg dksX5_savedBy_0 24 rfl rfl
theorem dksX5_savedBy_2 : cX5_savedBy.data.toList.drop 48 = dktX5_savedBy_2 := dk_seg dksX5_savedBy_1 24 rfl rfl
theorem dksX5_savedBy_3 : cX5_savedBy.data.toList.drop 72 = dktX5_savedBy_3 := dk_seg dksX5_savedBy_2 24 rfl rfl
theorem dX5_savedBy_0 : decode cX5_savedBy 0 = .ok (.aload_n 0, 1) := dk_42 (dk_at dksX5_savedBy_0 0 rfl rfl)
theorem dX5_savedBy_1 : decode cX5_savedBy 1 = .ok (.aload_n 0, 1) := dk_42 (dk_at dksX5_savedBy_0 1 rfl rfl)
theorem dX5_savedBy_2 : decode cX5_savedBy 2 = .ok (.getfield 141, 3) := dk_180 0 141 (dk_at dksX5_savedBy_0 2 rfl rfl)
theorem dX5_savedBy_5 : decode cX5_savedBy 5 = .ok (.iconst 1, 1) := dk_4 (dk_at dksX5_savedBy_0 5 rfl rfl)
theorem dX5_savedBy_6 : decode cX5_savedBy 6 = .ok (.iload_n 1, 1) := dk_27 (dk_at dksX5_savedBy_0 6 rfl rfl)
theorem dX5_savedBy_7 : decode cX5_savedBy 7 = .ok (.iadd, 1) := dk_96 (dk_at dksX5_savedBy_0 7 rfl rfl)
theorem dX5_savedBy_8 : decode cX5_savedBy 8 = .ok (.iaload, 1) := dk_46 (dk_at dksX5_savedBy_0 8 rfl rfl)
theorem dX5_savedBy_9 : decode cX5_savedBy 9 = .ok (.iconst 2, 1) := dk_5 (dk_at dksX5_savedBy_0 9 rfl rfl)
theorem dX5_savedBy_10 : decode cX5_savedBy 10 = .ok (.invokevirtual 356, 3) := dk_182 1 100 (dk_at dksX5_savedBy_0 10 rfl rfl)
theorem dX5_savedBy_13 : decode cX5_savedBy 13 = .ok (.istore_n 3, 1) := dk_62 (dk_at dksX5_savedBy_0 13 rfl rfl)
theorem dX5_savedBy_14 : decode cX5_savedBy 14 = .ok (.aload_n 0, 1) := dk_42 (dk_at dksX5_savedBy_0 14 rfl rfl)
theorem dX5_savedBy_15 : decode cX5_savedBy 15 = .ok (.aload_n 0, 1) := dk_42 (dk_at dksX5_savedBy_0 15 rfl rfl)
theorem dX5_savedBy_16 : decode cX5_savedBy 16 = .ok (.getfield 141, 3) := dk_180 0 141 (dk_at dksX5_savedBy_0 16 rfl rfl)
theorem dX5_savedBy_19 : decode cX5_savedBy 19 = .ok (.iconst 1, 1) := dk_4 (dk_at dksX5_savedBy_0 19 rfl rfl)
theorem dX5_savedBy_20 : decode cX5_savedBy 20 = .ok (.iload_n 2, 1) := dk_28 (dk_at dksX5_savedBy_0 20 rfl rfl)
theorem dX5_savedBy_21 : decode cX5_savedBy 21 = .ok (.iadd, 1) := dk_96 (dk_at dksX5_savedBy_0 21 rfl rfl)
theorem dX5_savedBy_22 : decode cX5_savedBy 22 = .ok (.iaload, 1) := dk_46 (dk_at dksX5_savedBy_0 22 rfl rfl)
theorem dX5_savedBy_23 : decode cX5_savedBy 23 = .ok (.iconst 2, 1) := dk_5 (dk_at dksX5_savedBy_0 23 rfl rfl)
theorem dX5_savedBy_24 : decode cX5_savedBy 24 = .ok (.invokevirtual 356, 3) := dk_182 1 100 (dk_at dksX5_savedBy_1 0 rfl rfl)
theorem dX5_savedBy_27 : decode cX5_savedBy 27 = .ok (.istore 4, 2) := dk_54 4 (dk_at dksX5_savedBy_1 3 rfl rfl)
theorem dX5_savedBy_29 : decode cX5_savedBy 29 = .ok (.aload_n 0, 1) := dk_42 (dk_at dksX5_savedBy_1 5 rfl rfl)
theorem dX5_savedBy_30 : decode cX5_savedBy 30 = .ok (.iconst 0, 1) := dk_3 (dk_at dksX5_savedBy_1 6 rfl rfl)
theorem dX5_savedBy_31 : decode cX5_savedBy 31 = .ok (.iload_n 1, 1) := dk_27 (dk_at dksX5_savedBy_1 7 rfl rfl)
theorem dX5_savedBy_32 : decode cX5_savedBy 32 = .ok (.invokevirtual 374, 3) := dk_182 1 118 (dk_at dksX5_savedBy_1 8 rfl rfl)
theorem dX5_savedBy_35 : decode cX5_savedBy 35 = .ok (.aload_n 0, 1) := dk_42 (dk_at dksX5_savedBy_1 11 rfl rfl)
theorem dX5_savedBy_36 : decode cX5_savedBy 36 = .ok (.iconst 0, 1) := dk_3 (dk_at dksX5_savedBy_1 12 rfl rfl)
theorem dX5_savedBy_37 : decode cX5_savedBy 37 = .ok (.iload_n 2, 1) := dk_28 (dk_at dksX5_savedBy_1 13 rfl rfl)
theorem dX5_savedBy_38 : decode cX5_savedBy 38 = .ok (.invokevirtual 374, 3) := dk_182 1 118 (dk_at dksX5_savedBy_1 14 rfl rfl)
theorem dX5_savedBy_41 : decode cX5_savedBy 41 = .ok (.iadd, 1) := dk_96 (dk_at dksX5_savedBy_1 17 rfl rfl)
theorem dX5_savedBy_42 : decode cX5_savedBy 42 = .ok (.istore 5, 2) := dk_54 5 (dk_at dksX5_savedBy_1 18 rfl rfl)
theorem dX5_savedBy_44 : decode cX5_savedBy 44 = .ok (.iload 5, 2) := dk_21 5 (dk_at dksX5_savedBy_1 20 rfl rfl)
theorem dX5_savedBy_46 : decode cX5_savedBy 46 = .ok (.aload_n 0, 1) := dk_42 (dk_at dksX5_savedBy_1 22 rfl rfl)
theorem dX5_savedBy_47 : decode cX5_savedBy 47 = .ok (.aload_n 0, 1) := dk_42 (dk_at dksX5_savedBy_1 23 rfl rfl)
theorem dX5_savedBy_48 : decode cX5_savedBy 48 = .ok (.getfield 141, 3) := dk_180 0 141 (dk_at dksX5_savedBy_2 0 rfl rfl)
theorem dX5_savedBy_51 : decode cX5_savedBy 51 = .ok (.bipush 7, 2) := dk_16 7 (dk_at dksX5_savedBy_2 3 rfl rfl)
theorem dX5_savedBy_53 : decode cX5_savedBy 53 = .ok (.iload_n 1, 1) := dk_27 (dk_at dksX5_savedBy_2 5 rfl rfl)
theorem dX5_savedBy_54 : decode cX5_savedBy 54 = .ok (.iadd, 1) := dk_96 (dk_at dksX5_savedBy_2 6 rfl rfl)
theorem dX5_savedBy_55 : decode cX5_savedBy 55 = .ok (.iaload, 1) := dk_46 (dk_at dksX5_savedBy_2 7 rfl rfl)
theorem dX5_savedBy_56 : decode cX5_savedBy 56 = .ok (.aload_n 0, 1) := dk_42 (dk_at dksX5_savedBy_2 8 rfl rfl)
theorem dX5_savedBy_57 : decode cX5_savedBy 57 = .ok (.getfield 141, 3) := dk_180 0 141 (dk_at dksX5_savedBy_2 9 rfl rfl)
theorem dX5_savedBy_60 : decode cX5_savedBy 60 = .ok (.bipush 7, 2) := dk_16 7 (dk_at dksX5_savedBy_2 12 rfl rfl)
theorem dX5_savedBy_62 : decode cX5_savedBy 62 = .ok (.iload_n 2, 1) := dk_28 (dk_at dksX5_savedBy_2 14 rfl rfl)
theorem dX5_savedBy_63 : decode cX5_savedBy 63 = .ok (.iadd, 1) := dk_96 (dk_at dksX5_savedBy_2 15 rfl rfl)
theorem dX5_savedBy_64 : decode cX5_savedBy 64 = .ok (.iaload, 1) := dk_46 (dk_at dksX5_savedBy_2 16 rfl rfl)
theorem dX5_savedBy_65 : decode cX5_savedBy 65 = .ok (.iadd, 1) := dk_96 (dk_at dksX5_savedBy_2 17 rfl rfl)
theorem dX5_savedBy_66 : decode cX5_savedBy 66 = .ok (.iload_n 3, 1) := dk_29 (dk_at dksX5_savedBy_2 18 rfl rfl)
theorem dX5_savedBy_67 : decode cX5_savedBy 67 = .ok (.iload 4, 2) := dk_21 4 (dk_at dksX5_savedBy_2 19 rfl rfl)
theorem dX5_savedBy_69 : decode cX5_savedBy 69 = .ok (.if_icmp .ge 7, 3) := dk_162 0 7 (dk_at dksX5_savedBy_2 21 rfl rfl)
theorem dX5_savedBy_72 : decode cX5_savedBy 72 = .ok (.iload_n 3, 1) := dk_29 (dk_at dksX5_savedBy_3 0 rfl rfl)
theorem dX5_savedBy_73 : decode cX5_savedBy 73 = .ok (.goto 5, 3) := dk_167 0 5 (dk_at dksX5_savedBy_3 1 rfl rfl)
theorem dX5_savedBy_76 : decode cX5_savedBy 76 = .ok (.iload 4, 2) := dk_21 4 (dk_at dksX5_savedBy_3 4 rfl rfl)
theorem dX5_savedBy_78 : decode cX5_savedBy 78 = .ok (.aload_n 0, 1) := dk_42 (dk_at dksX5_savedBy_3 6 rfl rfl)
theorem dX5_savedBy_79 : decode cX5_savedBy 79 = .ok (.iload_n 1, 1) := dk_27 (dk_at dksX5_savedBy_3 7 rfl rfl)
theorem dX5_savedBy_80 : decode cX5_savedBy 80 = .ok (.iconst 0, 1) := dk_3 (dk_at dksX5_savedBy_3 8 rfl rfl)
theorem dX5_savedBy_81 : decode cX5_savedBy 81 = .ok (.invokevirtual 327, 3) := dk_182 1 71 (dk_at dksX5_savedBy_3 9 rfl rfl)
theorem dX5_savedBy_84 : decode cX5_savedBy 84 = .ok (.invokevirtual 371, 3) := dk_182 1 115 (dk_at dksX5_savedBy_3 12 rfl rfl)
theorem dX5_savedBy_87 : decode cX5_savedBy 87 = .ok (.isub, 1) := dk_100 (dk_at dksX5_savedBy_3 15 rfl rfl)
theorem dX5_savedBy_88 : decode cX5_savedBy 88 = .ok (.ireturn, 1) := dk_172 (dk_at dksX5_savedBy_3 16 rfl rfl)
abbrev cX5_share : ByteArray := prog_26_method_105_code
def yX5_share : MethodName := ⟨RX5, "share", "(II)I"⟩
def dkwX5_share_1 : List UInt8 := [158, 0, 7, 3, 167, 0, 18, 42, 3, 27, 182, 1, 118, 42, 27, 28, 182, 1, 199, 5, 108, 100, 172]
abbrev dktX5_share_1 : List UInt8 := dkwX5_share_1 ++ []
def dkwX5_share_0 : List UInt8 := [42, 42, 27, 28, 182, 1, 196, 153, 0, 7, 3, 167, 0, 4, 4, 181, 0, 1, 42, 180, 0, 1]
abbrev dktX5_share_0 : List UInt8 := dkwX5_share_0 ++ dktX5_share_1
theorem dksX5_share_0 : cX5_share.data.toList.drop 0 = dktX5_share_0 := by decide +kernel
theorem dksX5_share_1 : cX5_share.data.toList.drop 22 = dktX5_share_1 := dk_seg dksX5_share_0 22 rfl rfl
theorem dX5_share_0 : decode cX5_share 0 = .ok (.aload_n 0, 1) := dk_42 (dk_at dksX5_share_0 0 rfl rfl)
theorem dX5_share_1 : decode cX5_share 1 = .ok (.aload_n 0, 1) := dk_42 (dk_at dksX5_share_0 1 rfl rfl)
theorem dX5_share_2 : decode cX5_share 2 = .ok (.iload_n 1, 1) := dk_27 (dk_at dksX5_share_0 2 rfl rfl)
theorem dX5_share_3 : decode cX5_share 3 = .ok (.iload_n 2, 1) := dk_28 (dk_at dksX5_share_0 3 rfl rfl)
theorem dX5_share_4 : decode cX5_share 4 = .ok (.invokevirtual 452, 3) := dk_182 1 196 (dk_at dksX5_share_0 4 rfl rfl)
theorem dX5_share_7 : decode cX5_share 7 = .ok (.ifCond .eq 7, 3) := dk_153 0 7 (dk_at dksX5_share_0 7 rfl rfl)
theorem dX5_share_10 : decode cX5_share 10 = .ok (.iconst 0, 1) := dk_3 (dk_at dksX5_share_0 10 rfl rfl)
theorem dX5_share_11 : decode cX5_share 11 = .ok (.goto 4, 3) := dk_167 0 4 (dk_at dksX5_share_0 11 rfl rfl)
theorem dX5_share_14 : decode cX5_share 14 = .ok (.iconst 1, 1) := dk_4 (dk_at dksX5_share_0 14 rfl rfl)
theorem dX5_share_15 : decode cX5_share 15 = .ok (.putfield 1, 3) := dk_181 0 1 (dk_at dksX5_share_0 15 rfl rfl)
theorem dX5_share_18 : decode cX5_share 18 = .ok (.aload_n 0, 1) := dk_42 (dk_at dksX5_share_0 18 rfl rfl)
theorem dX5_share_19 : decode cX5_share 19 = .ok (.getfield 1, 3) := dk_180 0 1 (dk_at dksX5_share_0 19 rfl rfl)
theorem dX5_share_22 : decode cX5_share 22 = .ok (.ifCond .le 7, 3) := dk_158 0 7 (dk_at dksX5_share_1 0 rfl rfl)
theorem dX5_share_25 : decode cX5_share 25 = .ok (.iconst 0, 1) := dk_3 (dk_at dksX5_share_1 3 rfl rfl)
theorem dX5_share_26 : decode cX5_share 26 = .ok (.goto 18, 3) := dk_167 0 18 (dk_at dksX5_share_1 4 rfl rfl)
theorem dX5_share_29 : decode cX5_share 29 = .ok (.aload_n 0, 1) := dk_42 (dk_at dksX5_share_1 7 rfl rfl)
theorem dX5_share_30 : decode cX5_share 30 = .ok (.iconst 0, 1) := dk_3 (dk_at dksX5_share_1 8 rfl rfl)
theorem dX5_share_31 : decode cX5_share 31 = .ok (.iload_n 1, 1) := dk_27 (dk_at dksX5_share_1 9 rfl rfl)
theorem dX5_share_32 : decode cX5_share 32 = .ok (.invokevirtual 374, 3) := dk_182 1 118 (dk_at dksX5_share_1 10 rfl rfl)
theorem dX5_share_35 : decode cX5_share 35 = .ok (.aload_n 0, 1) := dk_42 (dk_at dksX5_share_1 13 rfl rfl)
theorem dX5_share_36 : decode cX5_share 36 = .ok (.iload_n 1, 1) := dk_27 (dk_at dksX5_share_1 14 rfl rfl)
theorem dX5_share_37 : decode cX5_share 37 = .ok (.iload_n 2, 1) := dk_28 (dk_at dksX5_share_1 15 rfl rfl)
theorem dX5_share_38 : decode cX5_share 38 = .ok (.invokevirtual 455, 3) := dk_182 1 199 (dk_at dksX5_share_1 16 rfl rfl)
theorem dX5_share_41 : decode cX5_share 41 = .ok (.iconst 2, 1) := dk_5 (dk_at dksX5_share_1 19 rfl rfl)
theorem dX5_share_42 : decode cX5_share 42 = .ok (.idiv, 1) := dk_108 (dk_at dksX5_share_1 20 rfl rfl)
theorem dX5_share_43 : decode cX5_share 43 = .ok (.isub, 1) := dk_100 (dk_at dksX5_share_1 21 rfl rfl)
theorem dX5_share_44 : decode cX5_share 44 = .ok (.ireturn, 1) := dk_172 (dk_at dksX5_share_1 22 rfl rfl)
abbrev cX5_law : ByteArray := prog_26_method_106_code
def yX5_law : MethodName := ⟨RX5, "law", "(II)I"⟩
def dkwX5_law_8 : List UInt8 := [62, 132, 4, 1, 167, 255, 211, 29, 172]
abbrev dktX5_law_8 : List UInt8 := dkwX5_law_8 ++ []
def dkwX5_law_7 : List UInt8 := [153, 0, 22, 42, 17, 4, 152, 21, 4, 182, 1, 93, 154, 0, 10, 4, 21, 4, 120, 167, 0, 4, 3, 128]
abbrev dktX5_law_7 : List UInt8 := dkwX5_law_7 ++ dktX5_law_8
def dkwX5_law_6 : List UInt8 := [3, 62, 3, 54, 4, 21, 4, 42, 182, 1, 67, 162, 0, 42, 29, 42, 3, 21, 4, 182, 1, 93]
abbrev dktX5_law_6 : List UInt8 := dkwX5_law_6 ++ dktX5_law_7
def dkwX5_law_5 : List UInt8 := [132, 3, 1, 167, 255, 240, 42, 42, 180, 0, 111, 6, 46, 181, 1, 74, 42, 17, 4, 152, 182, 1, 142, 87]
abbrev dktX5_law_5 : List UInt8 := dkwX5_law_5 ++ dktX5_law_6
def dkwX5_law_4 : List UInt8 := [167, 255, 207, 42, 27, 181, 1, 74, 3, 62, 29, 28, 162, 0, 17, 42, 17, 4, 152, 182, 1, 139, 87]
abbrev dktX5_law_4 : List UInt8 := dkwX5_law_4 ++ dktX5_law_5
def dkwX5_law_3 : List UInt8 := [180, 0, 111, 7, 46, 167, 0, 13, 42, 180, 0, 141, 17, 4, 171, 29, 96, 46, 79, 132, 3, 1]
abbrev dktX5_law_3 : List UInt8 := dkwX5_law_3 ++ dktX5_law_4
def dkwX5_law_2 : List UInt8 := [162, 0, 47, 42, 180, 0, 141, 17, 4, 171, 29, 96, 42, 3, 29, 182, 1, 93, 153, 0, 12, 42]
abbrev dktX5_law_2 : List UInt8 := dkwX5_law_2 ++ dktX5_law_3
def dkwX5_law_1 : List UInt8 := [154, 0, 5, 2, 172, 42, 3, 17, 4, 152, 16, 43, 182, 1, 83, 3, 62, 29, 42, 182, 1, 67]
abbrev dktX5_law_1 : List UInt8 := dkwX5_law_1 ++ dktX5_law_2
def dkwX5_law_0 : List UInt8 := [42, 3, 181, 0, 1, 27, 3, 16, 60, 184, 0, 241, 153, 0, 14, 28, 4, 17, 0, 240, 184, 0, 241]
abbrev dktX5_law_0 : List UInt8 := dkwX5_law_0 ++ dktX5_law_1
theorem dksX5_law_0 : cX5_law.data.toList.drop 0 = dktX5_law_0 := by decide +kernel
theorem dksX5_law_1 : cX5_law.data.toList.drop 23 = dktX5_law_1 := dk_seg dksX5_law_0 23 rfl rfl
theorem dksX5_law_2 : cX5_law.data.toList.drop 45 = dktX5_law_2 := dk_seg dksX5_law_1 22 rfl rfl
theorem dksX5_law_3 : cX5_law.data.toList.drop 67 = dktX5_law_3 := dk_seg dksX5_law_2 22 rfl rfl
theorem dksX5_law_4 : cX5_law.data.toList.drop 89 = dktX5_law_4 := dk_seg dksX5_law_3 22 rfl rfl
theorem dksX5_law_5 : cX5_law.data.toList.drop 112 = dktX5_law_5 := dk_seg dksX5_law_4 23 rfl rfl
theorem dksX5_law_6 : cX5_law.data.toList.drop 136 = dktX5_law_6 := dk_seg dksX5_law_5 24 rfl rfl
theorem dksX5_law_7 : cX5_law.data.toList.drop 158 = dktX5_law_7 := dk_seg dksX5_law_6 22 rfl rfl
theorem dksX5_law_8 : cX5_law.data.toList.drop 182 = dktX5_law_8 := dk_seg dksX5_law_7 24 rfl rfl
theorem dX5_law_0 : decode cX5_law 0 = .ok (.aload_n 0, 1) := dk_42 (dk_at dksX5_law_0 0 rfl rfl)
theorem dX5_law_1 : decode cX5_law 1 = .ok (.iconst 0, 1) := dk_3 (dk_at dksX5_law_0 1 rfl rfl)
theorem dX5_law_2 : decode cX5_law 2 = .ok (.putfield 1, 3) := dk_181 0 1 (dk_at dksX5_law_0 2 rfl rfl)
theorem dX5_law_5 : decode cX5_law 5 = .ok (.iload_n 1, 1) := dk_27 (dk_at dksX5_law_0 5 rfl rfl)
theorem dX5_law_6 : decode cX5_law 6 = .ok (.iconst 0, 1) := dk_3 (dk_at dksX5_law_0 6 rfl rfl)
theorem dX5_law_7 : decode cX5_law 7 = .ok (.bipush 60, 2) := dk_16 60 (dk_at dksX5_law_0 7 rfl rfl)
theorem dX5_law_9 : decode cX5_law 9 = .ok (.invokestatic 241, 3) := dk_184 0 241 (dk_at dksX5_law_0 9 rfl rfl)
theorem dX5_law_12 : decode cX5_law 12 = .ok (.ifCond .eq 14, 3) := dk_153 0 14 (dk_at dksX5_law_0 12 rfl rfl)
theorem dX5_law_15 : decode cX5_law 15 = .ok (.iload_n 2, 1) := dk_28 (dk_at dksX5_law_0 15 rfl rfl)
theorem dX5_law_16 : decode cX5_law 16 = .ok (.iconst 1, 1) := dk_4 (dk_at dksX5_law_0 16 rfl rfl)
theorem dX5_law_17 : decode cX5_law 17 = .ok (.sipush 240, 3) := dk_17 0 240 (dk_at dksX5_law_0 17 rfl rfl)
theorem dX5_law_20 : decode cX5_law 20 = .ok (.invokestatic 241, 3) := dk_184 0 241 (dk_at dksX5_law_0 20 rfl rfl)
theorem dX5_law_23 : decode cX5_law 23 = .ok (.ifCond .ne 5, 3) := dk_154 0 5 (dk_at dksX5_law_1 0 rfl rfl)
theorem dX5_law_26 : decode cX5_law 26 = .ok (.iconst (-1), 1) := dk_2 (dk_at dksX5_law_1 3 rfl rfl)
theorem dX5_law_27 : decode cX5_law 27 = .ok (.ireturn, 1) := dk_172 (dk_at dksX5_law_1 4 rfl rfl)
theorem dX5_law_28 : decode cX5_law 28 = .ok (.aload_n 0, 1) := dk_42 (dk_at dksX5_law_1 5 rfl rfl)
theorem dX5_law_29 : decode cX5_law 29 = .ok (.iconst 0, 1) := dk_3 (dk_at dksX5_law_1 6 rfl rfl)
theorem dX5_law_30 : decode cX5_law 30 = .ok (.sipush 1176, 3) := dk_17 4 152 (dk_at dksX5_law_1 7 rfl rfl)
theorem dX5_law_33 : decode cX5_law 33 = .ok (.bipush 43, 2) := dk_16 43 (dk_at dksX5_law_1 10 rfl rfl)
theorem dX5_law_35 : decode cX5_law 35 = .ok (.invokevirtual 339, 3) := dk_182 1 83 (dk_at dksX5_law_1 12 rfl rfl)
theorem dX5_law_38 : decode cX5_law 38 = .ok (.iconst 0, 1) := dk_3 (dk_at dksX5_law_1 15 rfl rfl)
theorem dX5_law_39 : decode cX5_law 39 = .ok (.istore_n 3, 1) := dk_62 (dk_at dksX5_law_1 16 rfl rfl)
theorem dX5_law_40 : decode cX5_law 40 = .ok (.iload_n 3, 1) := dk_29 (dk_at dksX5_law_1 17 rfl rfl)
theorem dX5_law_41 : decode cX5_law 41 = .ok (.aload_n 0, 1) := dk_42 (dk_at dksX5_law_1 18 rfl rfl)
theorem dX5_law_42 : decode cX5_law 42 = .ok (.invokevirtual 323, 3) := dk_182 1 67 (dk_at dksX5_law_1 19 rfl rfl)
theorem dX5_law_45 : decode cX5_law 45 = .ok (.if_icmp .ge 47, 3) := dk_162 0 47 (dk_at dksX5_law_2 0 rfl rfl)
theorem dX5_law_48 : decode cX5_law 48 = .ok (.aload_n 0, 1) := dk_42 (dk_at dksX5_law_2 3 rfl rfl)
theorem dX5_law_49 : decode cX5_law 49 = .ok (.getfield 141, 3) := dk_180 0 141 (dk_at dksX5_law_2 4 rfl rfl)
theorem dX5_law_52 : decode cX5_law 52 = .ok (.sipush 1195, 3) := dk_17 4 171 (dk_at dksX5_law_2 7 rfl rfl)
theorem dX5_law_55 : decode cX5_law 55 = .ok (.iload_n 3, 1) := dk_29 (dk_at dksX5_law_2 10 rfl rfl)
theorem dX5_law_56 : decode cX5_law 56 = .ok (.iadd, 1) := dk_96 (dk_at dksX5_law_2 11 rfl rfl)
theorem dX5_law_57 : decode cX5_law 57 = .ok (.aload_n 0, 1) := dk_42 (dk_at dksX5_law_2 12 rfl rfl)
theorem dX5_law_58 : decode cX5_law 58 = .ok (.iconst 0, 1) := dk_3 (dk_at dksX5_law_2 13 rfl rfl)
theorem dX5_law_59 : decode cX5_law 59 = .ok (.iload_n 3, 1) := dk_29 (dk_at dksX5_law_2 14 rfl rfl)
theorem dX5_law_60 : decode cX5_law 60 = .ok (.invokevirtual 349, 3) := dk_182 1 93 (dk_at dksX5_law_2 15 rfl rfl)
theorem dX5_law_63 : decode cX5_law 63 = .ok (.ifCond .eq 12, 3) := dk_153 0 12 (dk_at dksX5_law_2 18 rfl rfl)
theorem dX5_law_66 : decode cX5_law 66 = .ok (.aload_n 0, 1) := dk_42 (dk_at dksX5_law_2 21 rfl rfl)
theorem dX5_law_67 : decode cX5_law 67 = .ok (.getfield 111, 3) := dk_180 0 111 (dk_at dksX5_law_3 0 rfl rfl)
theorem dX5_law_70 : decode cX5_law 70 = .ok (.iconst 4, 1) := dk_7 (dk_at dksX5_law_3 3 rfl rfl)
theorem dX5_law_71 : decode cX5_law 71 = .ok (.iaload, 1) := dk_46 (dk_at dksX5_law_3 4 rfl rfl)
theorem dX5_law_72 : decode cX5_law 72 = .ok (.goto 13, 3) := dk_167 0 13 (dk_at dksX5_law_3 5 rfl rfl)
theorem dX5_law_75 : decode cX5_law 75 = .ok (.aload_n 0, 1) := dk_42 (dk_at dksX5_law_3 8 rfl rfl)
theorem dX5_law_76 : decode cX5_law 76 = .ok (.getfield 141, 3) := dk_180 0 141 (dk_at dksX5_law_3 9 rfl rfl)
theorem dX5_law_79 : decode cX5_law 79 = .ok (.sipush 1195, 3) := dk_17 4 171 (dk_at dksX5_law_3 12 rfl rfl)
theorem dX5_law_82 : decode cX5_law 82 = .ok (.iload_n 3, 1) := dk_29 (dk_at dksX5_law_3 15 rfl rfl)
theorem dX5_law_83 : decode cX5_law 83 = .ok (.iadd, 1) := dk_96 (dk_at dksX5_law_3 16 rfl rfl)
theorem dX5_law_84 : decode cX5_law 84 = .ok (.iaload, 1) := dk_46 (dk_at dksX5_law_3 17 rfl rfl)
theorem dX5_law_85 : decode cX5_law 85 = .ok (.iastore, 1) := dk_79 (dk_at dksX5_law_3 18 rfl rfl)
theorem dX5_law_86 : decode cX5_law 86 = .ok (.iinc 3 1, 3) := dk_132 3 1 (dk_at dksX5_law_3 19 rfl rfl)
theorem dX5_law_89 : decode cX5_law 89 = .ok (.goto (-49), 3) := dk_167 255 207 (dk_at dksX5_law_4 0 rfl rfl)
theorem dX5_law_92 : decode cX5_law 92 = .ok (.aload_n 0, 1) := dk_42 (dk_at dksX5_law_4 3 rfl rfl)
theorem dX5_law_93 : decode cX5_law 93 = .ok (.iload_n 1, 1) := dk_27 (dk_at dksX5_law_4 4 rfl rfl)
theorem dX5_law_94 : decode cX5_law 94 = .ok (.putfield 330, 3) := dk_181 1 74 (dk_at dksX5_law_4 5 rfl rfl)
theorem dX5_law_97 : decode cX5_law 97 = .ok (.iconst 0, 1) := dk_3 (dk_at dksX5_law_4 8 rfl rfl)
theorem dX5_law_98 : decode cX5_law 98 = .ok (.istore_n 3, 1) := dk_62 (dk_at dksX5_law_4 9 rfl rfl)
theorem dX5_law_99 : decode cX5_law 99 = .ok (.iload_n 3, 1) := dk_29 (dk_at dksX5_law_4 10 rfl rfl)
theorem dX5_law_100 : decode cX5_law 100 = .ok (.iload_n 2, 1) := dk_28 (dk_at dksX5_law_4 11 rfl rfl)
theorem dX5_law_101 : decode cX5_law 101 = .ok (.if_icmp .ge 17, 3) := dk_162 0 17 (dk_at dksX5_law_4 12 rfl rfl)
theorem dX5_law_104 : decode cX5_law 104 = .ok (.aload_n 0, 1) := dk_42 (dk_at dksX5_law_4 15 rfl rfl)
theorem dX5_law_105 : decode cX5_law 105 = .ok (.sipush 1176, 3) := dk_17 4 152 (dk_at dksX5_law_4 16 rfl rfl)
theorem dX5_law_108 : decode cX5_law 108 = .ok (.invokevirtual 395, 3) := dk_182 1 139 (dk_at dksX5_law_4 19 rfl rfl)
theorem dX5_law_111 : decode cX5_law 111 = .ok (.pop, 1) := dk_87 (dk_at dksX5_law_4 22 rfl rfl)
theorem dX5_law_112 : decode cX5_law 112 = .ok (.iinc 3 1, 3) := dk_132 3 1 (dk_at dksX5_law_5 0 rfl rfl)
theorem dX5_law_115 : decode cX5_law 115 = .ok (.goto (-16), 3) := dk_167 255 240 (dk_at dksX5_law_5 3 rfl rfl)
theorem dX5_law_118 : decode cX5_law 118 = .ok (.aload_n 0, 1) := dk_42 (dk_at dksX5_law_5 6 rfl rfl)
theorem dX5_law_119 : decode cX5_law 119 = .ok (.aload_n 0, 1) := dk_42 (dk_at dksX5_law_5 7 rfl rfl)
theorem dX5_law_120 : decode cX5_law 120 = .ok (.getfield 111, 3) := dk_180 0 111 (dk_at dksX5_law_5 8 rfl rfl)
theorem dX5_law_123 : decode cX5_law 123 = .ok (.iconst 3, 1) := dk_6 (dk_at dksX5_law_5 11 rfl rfl)
theorem dX5_law_124 : decode cX5_law 124 = .ok (.iaload, 1) := dk_46 (dk_at dksX5_law_5 12 rfl rfl)
theorem dX5_law_125 : decode cX5_law 125 = .ok (.putfield 330, 3) := dk_181 1 74 (dk_at dksX5_law_5 13 rfl rfl)
theorem dX5_law_128 : decode cX5_law 128 = .ok (.aload_n 0, 1) := dk_42 (dk_at dksX5_law_5 16 rfl rfl)
theorem dX5_law_129 : decode cX5_law 129 = .ok (.sipush 1176, 3) := dk_17 4 152 (dk_at dksX5_law_5 17 rfl rfl)
theorem dX5_law_132 : decode cX5_law 132 = .ok (.invokevirtual 398, 3) := dk_182 1 142 (dk_at dksX5_law_5 20 rfl rfl)
theorem dX5_law_135 : decode cX5_law 135 = .ok (.pop, 1) := dk_87 (dk_at dksX5_law_5 23 rfl rfl)
theorem dX5_law_136 : decode cX5_law 136 = .ok (.iconst 0, 1) := dk_3 (dk_at dksX5_law_6 0 rfl rfl)
theorem dX5_law_137 : decode cX5_law 137 = .ok (.istore_n 3, 1) := dk_62 (dk_at dksX5_law_6 1 rfl rfl)
theorem dX5_law_138 : decode cX5_law 138 = .ok (.iconst 0, 1) := dk_3 (dk_at dksX5_law_6 2 rfl rfl)
theorem dX5_law_139 : decode cX5_law 139 = .ok (.istore 4, 2) := dk_54 4 (dk_at dksX5_law_6 3 rfl rfl)
theorem dX5_law_141 : decode cX5_law 141 = .ok (.iload 4, 2) := dk_21 4 (dk_at dksX5_law_6 5 rfl rfl)
theorem dX5_law_143 : decode cX5_law 143 = .ok (.aload_n 0, 1) := dk_42 (dk_at dksX5_law_6 7 rfl rfl)
theorem dX5_law_144 : decode cX5_law 144 = .ok (.invokevirtual 323, 3) := dk_182 1 67 (dk_at dksX5_law_6 8 rfl rfl)
theorem dX5_law_147 : decode cX5_law 147 = .ok (.if_icmp .ge 42, 3) := dk_162 0 42 (dk_at dksX5_law_6 11 rfl rfl)
theorem dX5_law_150 : decode cX5_law 150 = .ok (.iload_n 3, 1) := dk_29 (dk_at dksX5_law_6 14 rfl rfl)
theorem dX5_law_151 : decode cX5_law 151 = .ok (.aload_n 0, 1) := dk_42 (dk_at dksX5_law_6 15 rfl rfl)
theorem dX5_law_152 : decode cX5_law 152 = .ok (.iconst 0, 1) := dk_3 (dk_at dksX5_law_6 16 rfl rfl)
theorem dX5_law_153 : decode cX5_law 153 = .ok (.iload 4, 2) := dk_21 4 (dk_at dksX5_law_6 17 rfl rfl)
theorem dX5_law_155 : decode cX5_law 155 = .ok (.invokevirtual 349, 3) := dk_182 1 93 (dk_at dksX5_law_6 19 rfl rfl)
theorem dX5_law_158 : decode cX5_law 158 = .ok (.ifCond .eq 22, 3) := dk_153 0 22 (dk_at dksX5_law_7 0 rfl rfl)
theorem dX5_law_161 : decode cX5_law 161 = .ok (.aload_n 0, 1) := dk_42 (dk_at dksX5_law_7 3 rfl rfl)
theorem dX5_law_162 : decode cX5_law 162 = .ok (.sipush 1176, 3) := dk_17 4 152 (dk_at dksX5_law_7 4 rfl rfl)
theorem dX5_law_165 : decode cX5_law 165 = .ok (.iload 4, 2) := dk_21 4 (dk_at dksX5_law_7 7 rfl rfl)
theorem dX5_law_167 : decode cX5_law 167 = .ok (.invokevirtual 349, 3) := dk_182 1 93 (dk_at dksX5_law_7 9 rfl rfl)
theorem dX5_law_170 : decode cX5_law 170 = .ok (.ifCond .ne 10, 3) := dk_154 0 10 (dk_at dksX5_law_7 12 rfl rfl)
theorem dX5_law_173 : decode cX5_law 173 = .ok (.iconst 1, 1) := dk_4 (dk_at dksX5_law_7 15 rfl rfl)
theorem dX5_law_174 : decode cX5_law 174 = .ok (.iload 4, 2) := dk_21 4 (dk_at dksX5_law_7 16 rfl rfl)
theorem dX5_law_176 : decode cX5_law 176 = .ok (.ishl, 1) := dk_120 (dk_at dksX5_law_7 18 rfl rfl)
theorem dX5_law_177 : decode cX5_law 177 = .ok (.goto 4, 3) := dk_167 0 4 (dk_at dksX5_law_7 19 rfl rfl)
theorem dX5_law_180 : decode cX5_law 180 = .ok (.iconst 0, 1) := dk_3 (dk_at dksX5_law_7 22 rfl rfl)
theorem dX5_law_181 : decode cX5_law 181 = .ok (.ior, 1) := dk_128 (dk_at dksX5_law_7 23 rfl rfl)
theorem dX5_law_182 : decode cX5_law 182 = .ok (.istore_n 3, 1) := dk_62 (dk_at dksX5_law_8 0 rfl rfl)
theorem dX5_law_183 : decode cX5_law 183 = .ok (.iinc 4 1, 3) := dk_132 4 1 (dk_at dksX5_law_8 1 rfl rfl)
theorem dX5_law_186 : decode cX5_law 186 = .ok (.goto (-45), 3) := dk_167 255 211 (dk_at dksX5_law_8 4 rfl rfl)
theorem dX5_law_189 : decode cX5_law 189 = .ok (.iload_n 3, 1) := dk_29 (dk_at dksX5_law_8 7 rfl rfl)
theorem dX5_law_190 : decode cX5_law 190 = .ok (.ireturn, 1) := dk_172 (dk_at dksX5_law_8 8 rfl rfl)
abbrev cX5_sample : ByteArray := prog_26_method_107_code
def yX5_sample : MethodName := ⟨RX5, "sample", "(II)Z"⟩
def dkwX5_sample_3 : List UInt8 := [46, 104, 96, 4, 96, 28, 79, 42, 180, 0, 141, 16, 43, 92, 46, 4, 96, 79, 4, 172]
abbrev dktX5_sample_3 : List UInt8 := dkwX5_sample_3 ++ []
def dkwX5_sample_2 : List UInt8 := [42, 180, 0, 141, 16, 43, 46, 104, 96, 27, 79, 42, 180, 0, 141, 16, 44, 5, 42, 180, 0, 141, 16, 43]
abbrev dktX5_sample_2 : List UInt8 := dkwX5_sample_2 ++ dktX5_sample_3
def dkwX5_sample_1 : List UInt8 := [153, 0, 15, 42, 180, 0, 141, 16, 43, 46, 16, 6, 160, 0, 5, 3, 172, 42, 180, 0, 141, 16, 44, 5]
abbrev dktX5_sample_1 : List UInt8 := dkwX5_sample_1 ++ dktX5_sample_2
def dkwX5_sample_0 : List UInt8 := [42, 3, 181, 0, 1, 27, 3, 8, 184, 0, 241, 153, 0, 26, 28, 3, 17, 0, 240, 184, 0, 241]
abbrev dktX5_sample_0 : List UInt8 := dkwX5_sample_0 ++ dktX5_sample_1
theorem dksX5_sample_0 : cX5_sample.data.toList.drop 0 = dktX5_sample_0 := by decide +kernel
theorem dksX5_sample_1 : cX5_sample.data.toList.drop 22 = dktX5_sample_1 := dk_seg dksX5_sample_0 22 rfl rfl
theorem dksX5_sample_2 : cX5_sample.data.toList.drop 46 = dktX5_sample_2 := dk_seg dksX5_sample_1 24 rfl rfl
theorem dksX5_sample_3 : cX5_sample.data.toList.drop 70 = dktX5_sample_3 := dk_seg dksX5_sample_2 24 rfl rfl
theorem dX5_sample_0 : decode cX5_sample 0 = .ok (.aload_n 0, 1) := dk_42 (dk_at dksX5_sample_0 0 rfl rfl)
theorem dX5_sample_1 : decode cX5_sample 1 = .ok (.iconst 0, 1) := dk_3 (dk_at dksX5_sample_0 1 rfl rfl)
theorem dX5_sample_2 : decode cX5_sample 2 = .ok (.putfield 1, 3) := dk_181 0 1 (dk_at dksX5_sample_0 2 rfl rfl)
theorem dX5_sample_5 : decode cX5_sample 5 = .ok (.iload_n 1, 1) := dk_27 (dk_at dksX5_sample_0 5 rfl rfl)
theorem dX5_sample_6 : decode cX5_sample 6 = .ok (.iconst 0, 1) := dk_3 (dk_at dksX5_sample_0 6 rfl rfl)
theorem dX5_sample_7 : decode cX5_sample 7 = .ok (.iconst 5, 1) := dk_8 (dk_at dksX5_sample_0 7 rfl rfl)
theorem dX5_sample_8 : decode cX5_sample 8 = .ok (.invokestatic 241, 3) := dk_184 0 241 (dk_at dksX5_sample_0 8 rfl rfl)
theorem dX5_sample_11 : decode cX5_sample 11 = .ok (.ifCond .eq 26, 3) := dk_153 0 26 (dk_at dksX5_sample_0 11 rfl rfl)
theorem dX5_sample_14 : decode cX5_sample 14 = .ok (.iload_n 2, 1) := dk_28 (dk_at dksX5_sample_0 14 rfl rfl)
theorem dX5_sample_15 : decode cX5_sample 15 = .ok (.iconst 0, 1) := dk_3 (dk_at dksX5_sample_0 15 rfl rfl)
theorem dX5_sample_16 : decode cX5_sample 16 = .ok (.sipush 240, 3) := dk_17 0 240 (dk_at dksX5_sample_0 16 rfl rfl)
theorem dX5_sample_19 : decode cX5_sample 19 = .ok (.invokestatic 241, 3) := dk_184 0 241 (dk_at dksX5_sample_0 19 rfl rfl)
theorem dX5_sample_22 : decode cX5_sample 22 = .ok (.ifCond .eq 15, 3) := dk_153 0 15 (dk_at dksX5_sample_1 0 rfl rfl)
theorem dX5_sample_25 : decode cX5_sample 25 = .ok (.aload_n 0, 1) := dk_42 (dk_at dksX5_sample_1 3 rfl rfl)
theorem dX5_sample_26 : decode cX5_sample 26 = .ok (.getfield 141, 3) := dk_180 0 141 (dk_at dksX5_sample_1 4 rfl rfl)
theorem dX5_sample_29 : decode cX5_sample 29 = .ok (.bipush 43, 2) := dk_16 43 (dk_at dksX5_sample_1 7 rfl rfl)
theorem dX5_sample_31 : decode cX5_sample 31 = .ok (.iaload, 1) := dk_46 (dk_at dksX5_sample_1 9 rfl rfl)
theorem dX5_sample_32 : decode cX5_sample 32 = .ok (.bipush 6, 2) := dk_16 6 (dk_at dksX5_sample_1 10 rfl rfl)
theorem dX5_sample_34 : decode cX5_sample 34 = .ok (.if_icmp .ne 5, 3) := dk_160 0 5 (dk_at dksX5_sample_1 12 rfl rfl)
theorem dX5_sample_37 : decode cX5_sample 37 = .ok (.iconst 0, 1) := dk_3 (dk_at dksX5_sample_1 15 rfl rfl)
theorem dX5_sample_38 : decode cX5_sample 38 = .ok (.ireturn, 1) := dk_172 (dk_at dksX5_sample_1 16 rfl rfl)
theorem dX5_sample_39 : decode cX5_sample 39 = .ok (.aload_n 0, 1) := dk_42 (dk_at dksX5_sample_1 17 rfl rfl)
theorem dX5_sample_40 : decode cX5_sample 40 = .ok (.getfield 141, 3) := dk_180 0 141 (dk_at dksX5_sample_1 18 rfl rfl)
theorem dX5_sample_43 : decode cX5_sample 43 = .ok (.bipush 44, 2) := dk_16 44 (dk_at dksX5_sample_1 21 rfl rfl)
theorem dX5_sample_45 : decode cX5_sample 45 = .ok (.iconst 2, 1) := dk_5 (dk_at dksX5_sample_1 23 rfl rfl)
theorem dX5_sample_46 : decode cX5_sample 46 = .ok (.aload_n 0, 1) := dk_42 (dk_at dksX5_sample_2 0 rfl rfl)
theorem dX5_sample_47 : decode cX5_sample 47 = .ok (.getfield 141, 3) := dk_180 0 141 (dk_at dksX5_sample_2 1 rfl rfl)
theorem dX5_sample_50 : decode cX5_sample 50 = .ok (.bipush 43, 2) := dk_16 43 (dk_at dksX5_sample_2 4 rfl rfl)
theorem dX5_sample_52 : decode cX5_sample 52 = .ok (.iaload, 1) := dk_46 (dk_at dksX5_sample_2 6 rfl rfl)
theorem dX5_sample_53 : decode cX5_sample 53 = .ok (.imul, 1) := dk_104 (dk_at dksX5_sample_2 7 rfl rfl)
theorem dX5_sample_54 : decode cX5_sample 54 = .ok (.iadd, 1) := dk_96 (dk_at dksX5_sample_2 8 rfl rfl)
theorem dX5_sample_55 : decode cX5_sample 55 = .ok (.iload_n 1, 1) := dk_27 (dk_at dksX5_sample_2 9 rfl rfl)
theorem dX5_sample_56 : decode cX5_sample 56 = .ok (.iastore, 1) := dk_79 (dk_at dksX5_sample_2 10 rfl rfl)
theorem dX5_sample_57 : decode cX5_sample 57 = .ok (.aload_n 0, 1) := dk_42 (dk_at dksX5_sample_2 11 rfl rfl)
theorem dX5_sample_58 : decode cX5_sample 58 = .ok (.getfield 141, 3) := dk_180 0 141 (dk_at dksX5_sample_2 12 rfl rfl)
theorem dX5_sample_61 : decode cX5_sample 61 = .ok (.bipush 44, 2) := dk_16 44 (dk_at dksX5_sample_2 15 rfl rfl)
theorem dX5_sample_63 : decode cX5_sample 63 = .ok (.iconst 2, 1) := dk_5 (dk_at dksX5_sample_2 17 rfl rfl)
theorem dX5_sample_64 : decode cX5_sample 64 = .ok (.aload_n 0, 1) := dk_42 (dk_at dksX5_sample_2 18 rfl rfl)
theorem dX5_sample_65 : decode cX5_sample 65 = .ok (.getfield 141, 3) := dk_180 0 141 (dk_at dksX5_sample_2 19 rfl rfl)
theorem dX5_sample_68 : decode cX5_sample 68 = .ok (.bipush 43, 2) := dk_16 43 (dk_at dksX5_sample_2 22 rfl rfl)
theorem dX5_sample_70 : decode cX5_sample 70 = .ok (.iaload, 1) := dk_46 (dk_at dksX5_sample_3 0 rfl rfl)
theorem dX5_sample_71 : decode cX5_sample 71 = .ok (.imul, 1) := dk_104 (dk_at dksX5_sample_3 1 rfl rfl)
theorem dX5_sample_72 : decode cX5_sample 72 = .ok (.iadd, 1) := dk_96 (dk_at dksX5_sample_3 2 rfl rfl)
theorem dX5_sample_73 : decode cX5_sample 73 = .ok (.iconst 1, 1) := dk_4 (dk_at dksX5_sample_3 3 rfl rfl)
theorem dX5_sample_74 : decode cX5_sample 74 = .ok (.iadd, 1) := dk_96 (dk_at dksX5_sample_3 4 rfl rfl)
theorem dX5_sample_75 : decode cX5_sample 75 = .ok (.iload_n 2, 1) := dk_28 (dk_at dksX5_sample_3 5 rfl rfl)
theorem dX5_sample_76 : decode cX5_sample 76 = .ok (.iastore, 1) := dk_79 (dk_at dksX5_sample_3 6 rfl rfl)
theorem dX5_sample_77 : decode cX5_sample 77 = .ok (.aload_n 0, 1) := dk_42 (dk_at dksX5_sample_3 7 rfl rfl)
theorem dX5_sample_78 : decode cX5_sample 78 = .ok (.getfield 141, 3) := dk_180 0 141 (dk_at dksX5_sample_3 8 rfl rfl)
theorem dX5_sample_81 : decode cX5_sample 81 = .ok (.bipush 43, 2) := dk_16 43 (dk_at dksX5_sample_3 11 rfl rfl)
theorem dX5_sample_83 : decode cX5_sample 83 = .ok (.dup2, 1) := dk_92 (dk_at dksX5_sample_3 13 rfl rfl)
theorem dX5_sample_84 : decode cX5_sample 84 = .ok (.iaload, 1) := dk_46 (dk_at dksX5_sample_3 14 rfl rfl)
theorem dX5_sample_85 : decode cX5_sample 85 = .ok (.iconst 1, 1) := dk_4 (dk_at dksX5_sample_3 15 rfl rfl)
theorem dX5_sample_86 : decode cX5_sample 86 = .ok (.iadd, 1) := dk_96 (dk_at dksX5_sample_3 16 rfl rfl)
theorem dX5_sample_87 : decode cX5_sample 87 = .ok (.iastore, 1) := dk_79 (dk_at dksX5_sample_3 17 rfl rfl)
theorem dX5_sample_88 : decode cX5_sample 88 = .ok (.iconst 1, 1) := dk_4 (dk_at dksX5_sample_3 18 rfl rfl)
theorem dX5_sample_89 : decode cX5_sample 89 = .ok (.ireturn, 1) := dk_172 (dk_at dksX5_sample_3 19 rfl rfl)
abbrev cX5_days : ByteArray := prog_26_method_110_code
def yX5_days : MethodName := ⟨RX5, "days", "(I)I"⟩
def dkwX5_days_1 : List UInt8 := [172]
abbrev dktX5_days_1 : List UInt8 := dkwX5_days_1 ++ []
def dkwX5_days_0 : List UInt8 := [42, 3, 181, 0, 1, 42, 27, 182, 1, 90, 154, 0, 5, 2, 172, 42, 27, 182, 1, 211, 42, 180, 1, 202]
abbrev dktX5_days_0 : List UInt8 := dkwX5_days_0 ++ dktX5_days_1
theorem dksX5_days_0 : cX5_days.data.toList.drop 0 = dktX5_days_0 := by decide +kernel
theorem dksX5_days_1 : cX5_days.data.toList.drop 24 = dktX5_days_1 := dk_seg dksX5_days_0 24 rfl rfl
theorem dX5_days_0 : decode cX5_days 0 = .ok (.aload_n 0, 1) := dk_42 (dk_at dksX5_days_0 0 rfl rfl)
theorem dX5_days_1 : decode cX5_days 1 = .ok (.iconst 0, 1) := dk_3 (dk_at dksX5_days_0 1 rfl rfl)
theorem dX5_days_2 : decode cX5_days 2 = .ok (.putfield 1, 3) := dk_181 0 1 (dk_at dksX5_days_0 2 rfl rfl)
theorem dX5_days_5 : decode cX5_days 5 = .ok (.aload_n 0, 1) := dk_42 (dk_at dksX5_days_0 5 rfl rfl)
theorem dX5_days_6 : decode cX5_days 6 = .ok (.iload_n 1, 1) := dk_27 (dk_at dksX5_days_0 6 rfl rfl)
theorem dX5_days_7 : decode cX5_days 7 = .ok (.invokevirtual 346, 3) := dk_182 1 90 (dk_at dksX5_days_0 7 rfl rfl)
theorem dX5_days_10 : decode cX5_days 10 = .ok (.ifCond .ne 5, 3) := dk_154 0 5 (dk_at dksX5_days_0 10 rfl rfl)
theorem dX5_days_13 : decode cX5_days 13 = .ok (.iconst (-1), 1) := dk_2 (dk_at dksX5_days_0 13 rfl rfl)
theorem dX5_days_14 : decode cX5_days 14 = .ok (.ireturn, 1) := dk_172 (dk_at dksX5_days_0 14 rfl rfl)
theorem dX5_days_15 : decode cX5_days 15 = .ok (.aload_n 0, 1) := dk_42 (dk_at dksX5_days_0 15 rfl rfl)
theorem dX5_days_16 : decode cX5_days 16 = .ok (.iload_n 1, 1) := dk_27 (dk_at dksX5_days_0 16 rfl rfl)
theorem dX5_days_17 : decode cX5_days 17 = .ok (.invokevirtual 467, 3) := dk_182 1 211 (dk_at dksX5_days_0 17 rfl rfl)
theorem dX5_days_20 : decode cX5_days 20 = .ok (.aload_n 0, 1) := dk_42 (dk_at dksX5_days_0 20 rfl rfl)
theorem dX5_days_21 : decode cX5_days 21 = .ok (.getfield 458, 3) := dk_180 1 202 (dk_at dksX5_days_0 21 rfl rfl)
theorem dX5_days_24 : decode cX5_days 24 = .ok (.ireturn, 1) := dk_172 (dk_at dksX5_days_1 0 rfl rfl)
abbrev cX5_findDays : ByteArray := prog_26_method_109_code
def yX5_findDays : MethodName := ⟨RX5, "findDays", "(I)V"⟩
def dkwX5_findDays_8 : List UInt8 := [177]
abbrev dktX5_findDays_8 : List UInt8 := dkwX5_findDays_8 ++ []
def dkwX5_findDays_7 : List UInt8 := [180, 0, 163, 21, 4, 46, 96, 92, 46, 4, 96, 79, 132, 4, 1, 167, 255, 223, 132, 2, 1, 167, 255, 101]
abbrev dktX5_findDays_7 : List UInt8 := dkwX5_findDays_7 ++ dktX5_findDays_8
def dkwX5_findDays_6 : List UInt8 := [181, 1, 202, 3, 54, 4, 21, 4, 16, 6, 162, 0, 32, 42, 180, 0, 166, 17, 0, 241, 21, 4, 104, 42]
abbrev dktX5_findDays_6 : List UInt8 := dkwX5_findDays_6 ++ dktX5_findDays_7
def dkwX5_findDays_5 : List UInt8 := [180, 1, 202, 154, 0, 7, 28, 167, 0, 7, 42, 180, 1, 205, 181, 1, 205, 42, 89, 180, 1, 202, 4, 96]
abbrev dktX5_findDays_5 : List UInt8 := dkwX5_findDays_5 ++ dktX5_findDays_6
def dkwX5_findDays_4 : List UInt8 := [4, 96, 46, 160, 0, 7, 4, 167, 0, 4, 3, 62, 132, 4, 1, 167, 255, 197, 29, 153, 0, 71, 42, 42]
abbrev dktX5_findDays_4 : List UInt8 := dkwX5_findDays_4 ++ dktX5_findDays_5
def dkwX5_findDays_3 : List UInt8 := [42, 180, 0, 141, 16, 44, 5, 21, 4, 104, 96, 46, 46, 42, 180, 0, 141, 16, 44, 5, 21, 4, 104, 96]
abbrev dktX5_findDays_3 : List UInt8 := dkwX5_findDays_3 ++ dktX5_findDays_4
def dkwX5_findDays_2 : List UInt8 := [62, 3, 54, 4, 21, 4, 42, 180, 0, 141, 16, 43, 46, 162, 0, 53, 29, 153, 0, 49, 42, 180, 0, 163]
abbrev dktX5_findDays_2 : List UInt8 := dkwX5_findDays_2 ++ dktX5_findDays_3
def dkwX5_findDays_1 : List UInt8 := [3, 79, 132, 2, 1, 167, 255, 239, 3, 61, 28, 17, 2, 217, 162, 0, 154, 42, 27, 28, 182, 1, 208, 4]
abbrev dktX5_findDays_1 : List UInt8 := dkwX5_findDays_1 ++ dktX5_findDays_2
def dkwX5_findDays_0 : List UInt8 := [42, 3, 181, 1, 202, 42, 2, 181, 1, 205, 3, 61, 28, 17, 5, 166, 162, 0, 16, 42, 180, 0, 166, 28]
abbrev dktX5_findDays_0 : List UInt8 := dkwX5_findDays_0 ++ dktX5_findDays_1
theorem dksX5_findDays_0 : cX5_findDays.data.toList.drop 0 = dktX5_findDays_0 := by decide +kernel
theorem dksX5_findDays_1 : cX5_findDays.data.toList.drop 24 = dktX5_findDays_1 := dk_seg dksX5_findDays_0 24 rfl rfl
theorem dksX5_findDays_2 : cX5_findDays.data.toList.drop 48 = dktX5_findDays_2 := dk_seg dksX5_findDays_1 24 rfl rfl
theorem dksX5_findDays_3 : cX5_findDays.data.toList.drop 72 = dktX5_findDays_3 := dk_seg dksX5_findDays_2 24 rfl rfl
theorem dksX5_findDays_4 : cX5_findDays.data.toList.drop 96 = dktX5_findDays_4 := dk_seg dksX5_findDays_3 24 rfl rfl
theorem dksX5_findDays_5 : cX5_findDays.data.toList.drop 120 = dktX5_findDays_5 := dk_seg dksX5_findDays_4 24 rfl rfl
theorem dksX5_findDays_6 : cX5_findDays.data.toList.drop 144 = dktX5_findDays_6 := dk_seg dksX5_findDays_5 24 rfl rfl
theorem dksX5_findDays_7 : cX5_findDays.data.toList.drop 168 = dktX5_findDays_7 := dk_seg dksX5_findDays_6 24 rfl rfl
theorem dksX5_findDays_8 : cX5_findDays.data.toList.drop 192 = dktX5_findDays_8 := dk_seg dksX5_findDays_7 24 rfl rfl
theorem dX5_findDays_0 : decode cX5_findDays 0 = .ok (.aload_n 0, 1) := dk_42 (dk_at dksX5_findDays_0 0 rfl rfl)
theorem dX5_findDays_1 : decode cX5_findDays 1 = .ok (.iconst 0, 1) := dk_3 (dk_at dksX5_findDays_0 1 rfl rfl)
theorem dX5_findDays_2 : decode cX5_findDays 2 = .ok (.putfield 458, 3) := dk_181 1 202 (dk_at dksX5_findDays_0 2 rfl rfl)
theorem dX5_findDays_5 : decode cX5_findDays 5 = .ok (.aload_n 0, 1) := dk_42 (dk_at dksX5_findDays_0 5 rfl rfl)
theorem dX5_findDays_6 : decode cX5_findDays 6 = .ok (.iconst (-1), 1) := dk_2 (dk_at dksX5_findDays_0 6 rfl rfl)
theorem dX5_findDays_7 : decode cX5_findDays 7 = .ok (.putfield 461, 3) := dk_181 1 205 (dk_at dksX5_findDays_0 7 rfl rfl)
theorem dX5_findDays_10 : decode cX5_findDays 10 = .ok (.iconst 0, 1) := dk_3 (dk_at dksX5_findDays_0 10 rfl rfl)
theorem dX5_findDays_11 : decode cX5_findDays 11 = .ok (.istore_n 2, 1) := dk_61 (dk_at dksX5_findDays_0 11 rfl rfl)
theorem dX5_findDays_12 : decode cX5_findDays 12 = .ok (.iload_n 2, 1) := dk_28 (dk_at dksX5_findDays_0 12 rfl rfl)
theorem dX5_findDays_13 : decode cX5_findDays 13 = .ok (.sipush 1446, 3) := dk_17 5 166 (dk_at dksX5_findDays_0 13 rfl rfl)
theorem dX5_findDays_16 : decode cX5_findDays 16 = .ok (.if_icmp .ge 16, 3) := dk_162 0 16 (dk_at dksX5_findDays_0 16 rfl rfl)
theorem dX5_findDays_19 : decode cX5_findDays 19 = .ok (.aload_n 0, 1) := dk_42 (dk_at dksX5_findDays_0 19 rfl rfl)
theorem dX5_findDays_20 : decode cX5_findDays 20 = .ok (.getfield 166, 3) := dk_180 0 166 (dk_at dksX5_findDays_0 20 rfl rfl)
theorem dX5_findDays_23 : decode cX5_findDays 23 = .ok (.iload_n 2, 1) := dk_28 (dk_at dksX5_findDays_0 23 rfl rfl)
theorem dX5_findDays_24 : decode cX5_findDays 24 = .ok (.iconst 0, 1) := dk_3 (dk_at dksX5_findDays_1 0 rfl rfl)
theorem dX5_findDays_25 : decode cX5_findDays 25 = .ok (.iastore, 1) := dk_79 (dk_at dksX5_findDays_1 1 rfl rfl)
theorem dX5_findDays_26 : decode cX5_findDays 26 = .ok (.iinc 2 1, 3) := dk_132 2 1 (dk_at dksX5_findDays_1 2 rfl rfl)
theorem dX5_findDays_29 : decode cX5_findDays 29 = .ok (.goto (-17), 3) := dk_167 255 239 (dk_at dksX5_findDays_1 5 rfl rfl)
theorem dX5_findDays_32 : decode cX5_findDays 32 = .ok (.iconst 0, 1) := dk_3 (dk_at dksX5_findDays_1 8 rfl rfl)
theorem dX5_findDays_33 : decode cX5_findDays 33 = .ok (.istore_n 2, 1) := dk_61 (dk_at dksX5_findDays_1 9 rfl rfl)
theorem dX5_findDays_34 : decode cX5_findDays 34 = .ok (.iload_n 2, 1) := dk_28 (dk_at dksX5_findDays_1 10 rfl rfl)
theorem dX5_findDays_35 : decode cX5_findDays 35 = .ok (.sipush 729, 3) := dk_17 2 217 (dk_at dksX5_findDays_1 11 rfl rfl)
theorem dX5_findDays_38 : decode cX5_findDays 38 = .ok (.if_icmp .ge 154, 3) := dk_162 0 154 (dk_at dksX5_findDays_1 14 rfl rfl)
theorem dX5_findDays_41 : decode cX5_findDays 41 = .ok (.aload_n 0, 1) := dk_42 (dk_at dksX5_findDays_1 17 rfl rfl)
theorem dX5_findDays_42 : decode cX5_findDays 42 = .ok (.iload_n 1, 1) := dk_27 (dk_at dksX5_findDays_1 18 rfl rfl)
theorem dX5_findDays_43 : decode cX5_findDays 43 = .ok (.iload_n 2, 1) := dk_28 (dk_at dksX5_findDays_1 19 rfl rfl)
theorem dX5_findDays_44 : decode cX5_findDays 44 = .ok (.invokevirtual 464, 3) := dk_182 1 208 (dk_at dksX5_findDays_1 20 rfl rfl)
theorem dX5_findDays_47 : decode cX5_findDays 47 = .ok (.iconst 1, 1) := dk_4 (dk_at dksX5_findDays_1 23 rfl rfl)
theorem dX5_findDays_48 : decode cX5_findDays 48 = .ok (.istore_n 3, 1) := dk_62 (dk_at dksX5_findDays_2 0 rfl rfl)
theorem dX5_findDays_49 : decode cX5_findDays 49 = .ok (.iconst 0, 1) := dk_3 (dk_at dksX5_findDays_2 1 rfl rfl)
theorem dX5_findDays_50 : decode cX5_findDays 50 = .ok (.istore 4, 2) := dk_54 4 (dk_at dksX5_findDays_2 2 rfl rfl)
theorem dX5_findDays_52 : decode cX5_findDays 52 = .ok (.iload 4, 2) := dk_21 4 (dk_at dksX5_findDays_2 4 rfl rfl)
theorem dX5_findDays_54 : decode cX5_findDays 54 = .ok (.aload_n 0, 1) := dk_42 (dk_at dksX5_findDays_2 6 rfl rfl)
theorem dX5_findDays_55 : decode cX5_findDays 55 = .ok (.getfield 141, 3) := dk_180 0 141 (dk_at dksX5_findDays_2 7 rfl rfl)
theorem dX5_findDays_58 : decode cX5_findDays 58 = .ok (.bipush 43, 2) := dk_16 43 (dk_at dksX5_findDays_2 10 rfl rfl)
theorem dX5_findDays_60 : decode cX5_findDays 60 = .ok (.iaload, 1) := dk_46 (dk_at dksX5_findDays_2 12 rfl rfl)
theorem dX5_findDays_61 : decode cX5_findDays 61 = .ok (.if_icmp .ge 53, 3) := dk_162 0 53 (dk_at dksX5_findDays_2 13 rfl rfl)
theorem dX5_findDays_64 : decode cX5_findDays 64 = .ok (.iload_n 3, 1) := dk_29 (dk_at dksX5_findDays_2 16 rfl rfl)
theorem dX5_findDays_65 : decode cX5_findDays 65 = .ok (.ifCond .eq 49, 3) := dk_153 0 49 (dk_at dksX5_findDays_2 17 rfl rfl)
theorem dX5_findDays_68 : decode cX5_findDays 68 = .ok (.aload_n 0, 1) := dk_42 (dk_at dksX5_findDays_2 20 rfl rfl)
theorem dX5_findDays_69 : decode cX5_findDays 69 = .ok (.getfield 163, 3) := dk_180 0 163 (dk_at dksX5_findDays_2 21 rfl rfl)
theorem dX5_findDays_72 : decode cX5_findDays 72 = .ok (.aload_n 0, 1) := dk_42 (dk_at dksX5_findDays_3 0 rfl rfl)
theorem dX5_findDays_73 : decode cX5_findDays 73 = .ok (.getfield 141, 3) := dk_180 0 141 (dk_at dksX5_findDays_3 1 rfl rfl)
theorem dX5_findDays_76 : decode cX5_findDays 76 = .ok (.bipush 44, 2) := dk_16 44 (dk_at dksX5_findDays_3 4 rfl rfl)
theorem dX5_findDays_78 : decode cX5_findDays 78 = .ok (.iconst 2, 1) := dk_5 (dk_at dksX5_findDays_3 6 rfl rfl)
theorem dX5_findDays_79 : decode cX5_findDays 79 = .ok (.iload 4, 2) := dk_21 4 (dk_at dksX5_findDays_3 7 rfl rfl)
theorem dX5_findDays_81 : decode cX5_findDays 81 = .ok (.imul, 1) := dk_104 (dk_at dksX5_findDays_3 9 rfl rfl)
theorem dX5_findDays_82 : decode cX5_findDays 82 = .ok (.iadd, 1) := dk_96 (dk_at dksX5_findDays_3 10 rfl rfl)
theorem dX5_findDays_83 : decode cX5_findDays 83 = .ok (.iaload, 1) := dk_46 (dk_at dksX5_findDays_3 11 rfl rfl)
theorem dX5_findDays_84 : decode cX5_findDays 84 = .ok (.iaload, 1) := dk_46 (dk_at dksX5_findDays_3 12 rfl rfl)
theorem dX5_findDays_85 : decode cX5_findDays 85 = .ok (.aload_n 0, 1) := dk_42 (dk_at dksX5_findDays_3 13 rfl rfl)
theorem dX5_findDays_86 : decode cX5_findDays 86 = .ok (.getfield 141, 3) := dk_180 0 141 (dk_at dksX5_findDays_3 14 rfl rfl)
theorem dX5_findDays_89 : decode cX5_findDays 89 = .ok (.bipush 44, 2) := dk_16 44 (dk_at dksX5_findDays_3 17 rfl rfl)
theorem dX5_findDays_91 : decode cX5_findDays 91 = .ok (.iconst 2, 1) := dk_5 (dk_at dksX5_findDays_3 19 rfl rfl)
theorem dX5_findDays_92 : decode cX5_findDays 92 = .ok (.iload 4, 2) := dk_21 4 (dk_at dksX5_findDays_3 20 rfl rfl)
theorem dX5_findDays_94 : decode cX5_findDays 94 = .ok (.imul, 1) := dk_104 (dk_at dksX5_findDays_3 22 rfl rfl)
theorem dX5_findDays_95 : decode cX5_findDays 95 = .ok (.iadd, 1) := dk_96 (dk_at dksX5_findDays_3 23 rfl rfl)
theorem dX5_findDays_96 : decode cX5_findDays 96 = .ok (.iconst 1, 1) := dk_4 (dk_at dksX5_findDays_4 0 rfl rfl)
theorem dX5_findDays_97 : decode cX5_findDays 97 = .ok (.iadd, 1) := dk_96 (dk_at dksX5_findDays_4 1 rfl rfl)
theorem dX5_findDays_98 : decode cX5_findDays 98 = .ok (.iaload, 1) := dk_46 (dk_at dksX5_findDays_4 2 rfl rfl)
theorem dX5_findDays_99 : decode cX5_findDays 99 = .ok (.if_icmp .ne 7, 3) := dk_160 0 7 (dk_at dksX5_findDays_4 3 rfl rfl)
theorem dX5_findDays_102 : decode cX5_findDays 102 = .ok (.iconst 1, 1) := dk_4 (dk_at dksX5_findDays_4 6 rfl rfl)
theorem dX5_findDays_103 : decode cX5_findDays 103 = .ok (.goto 4, 3) := dk_167 0 4 (dk_at dksX5_findDays_4 7 rfl rfl)
theorem dX5_findDays_106 : decode cX5_findDays 106 = .ok (.iconst 0, 1) := dk_3 (dk_at dksX5_findDays_4 10 rfl rfl)
theorem dX5_findDays_107 : decode cX5_findDays 107 = .ok (.istore_n 3, 1) := dk_62 (dk_at dksX5_findDays_4 11 rfl rfl)
theorem dX5_findDays_108 : decode cX5_findDays 108 = .ok (.iinc 4 1, 3) := dk_132 4 1 (dk_at dksX5_findDays_4 12 rfl rfl)
theorem dX5_findDays_111 : decode cX5_findDays 111 = .ok (.goto (-59), 3) := dk_167 255 197 (dk_at dksX5_findDays_4 15 rfl rfl)
theorem dX5_findDays_114 : decode cX5_findDays 114 = .ok (.iload_n 3, 1) := dk_29 (dk_at dksX5_findDays_4 18 rfl rfl)
theorem dX5_findDays_115 : decode cX5_findDays 115 = .ok (.ifCond .eq 71, 3) := dk_153 0 71 (dk_at dksX5_findDays_4 19 rfl rfl)
theorem dX5_findDays_118 : decode cX5_findDays 118 = .ok (.aload_n 0, 1) := dk_42 (dk_at dksX5_findDays_4 22 rfl rfl)
theorem dX5_findDays_119 : decode cX5_findDays 119 = .ok (.aload_n 0, 1) := dk_42 (dk_at dksX5_findDays_4 23 rfl rfl)
theorem dX5_findDays_120 : decode cX5_findDays 120 = .ok (.getfield 458, 3) := dk_180 1 202 (dk_at dksX5_findDays_5 0 rfl rfl)
theorem dX5_findDays_123 : decode cX5_findDays 123 = .ok (.ifCond .ne 7, 3) := dk_154 0 7 (dk_at dksX5_findDays_5 3 rfl rfl)
theorem dX5_findDays_126 : decode cX5_findDays 126 = .ok (.iload_n 2, 1) := dk_28 (dk_at dksX5_findDays_5 6 rfl rfl)
theorem dX5_findDays_127 : decode cX5_findDays 127 = .ok (.goto 7, 3) := dk_167 0 7 (dk_at dksX5_findDays_5 7 rfl rfl)
theorem dX5_findDays_130 : decode cX5_findDays 130 = .ok (.aload_n 0, 1) := dk_42 (dk_at dksX5_findDays_5 10 rfl rfl)
theorem dX5_findDays_131 : decode cX5_findDays 131 = .ok (.getfield 461, 3) := dk_180 1 205 (dk_at dksX5_findDays_5 11 rfl rfl)
theorem dX5_findDays_134 : decode cX5_findDays 134 = .ok (.putfield 461, 3) := dk_181 1 205 (dk_at dksX5_findDays_5 14 rfl rfl)
theorem dX5_findDays_137 : decode cX5_findDays 137 = .ok (.aload_n 0, 1) := dk_42 (dk_at dksX5_findDays_5 17 rfl rfl)
theorem dX5_findDays_138 : decode cX5_findDays 138 = .ok (.dup, 1) := dk_89 (dk_at dksX5_findDays_5 18 rfl rfl)
theorem dX5_findDays_139 : decode cX5_findDays 139 = .ok (.getfield 458, 3) := dk_180 1 202 (dk_at dksX5_findDays_5 19 rfl rfl)
theorem dX5_findDays_142 : decode cX5_findDays 142 = .ok (.iconst 1, 1) := dk_4 (dk_at dksX5_findDays_5 22 rfl rfl)
theorem dX5_findDays_143 : decode cX5_findDays 143 = .ok (.iadd, 1) := dk_96 (dk_at dksX5_findDays_5 23 rfl rfl)
theorem dX5_findDays_144 : decode cX5_findDays 144 = .ok (.putfield 458, 3) := dk_181 1 202 (dk_at dksX5_findDays_6 0 rfl rfl)
theorem dX5_findDays_147 : decode cX5_findDays 147 = .ok (.iconst 0, 1) := dk_3 (dk_at dksX5_findDays_6 3 rfl rfl)
theorem dX5_findDays_148 : decode cX5_findDays 148 = .ok (.istore 4, 2) := dk_54 4 (dk_at dksX5_findDays_6 4 rfl rfl)
theorem dX5_findDays_150 : decode cX5_findDays 150 = .ok (.iload 4, 2) := dk_21 4 (dk_at dksX5_findDays_6 6 rfl rfl)
theorem dX5_findDays_152 : decode cX5_findDays 152 = .ok (.bipush 6, 2) := dk_16 6 (dk_at dksX5_findDays_6 8 rfl rfl)
theorem dX5_findDays_154 : decode cX5_findDays 154 = .ok (.if_icmp .ge 32, 3) := dk_162 0 32 (dk_at dksX5_findDays_6 10 rfl rfl)
theorem dX5_findDays_157 : decode cX5_findDays 157 = .ok (.aload_n 0, 1) := dk_42 (dk_at dksX5_findDays_6 13 rfl rfl)
theorem dX5_findDays_158 : decode cX5_findDays 158 = .ok (.getfield 166, 3) := dk_180 0 166 (dk_at dksX5_findDays_6 14 rfl rfl)
theorem dX5_findDays_161 : decode cX5_findDays 161 = .ok (.sipush 241, 3) := dk_17 0 241 (dk_at dksX5_findDays_6 17 rfl rfl)
theorem dX5_findDays_164 : decode cX5_findDays 164 = .ok (.iload 4, 2) := dk_21 4 (dk_at dksX5_findDays_6 20 rfl rfl)
theorem dX5_findDays_166 : decode cX5_findDays 166 = .ok (.imul, 1) := dk_104 (dk_at dksX5_findDays_6 22 rfl rfl)
theorem dX5_findDays_167 : decode cX5_findDays 167 = .ok (.aload_n 0, 1) := dk_42 (dk_at dksX5_findDays_6 23 rfl rfl)
theorem dX5_findDays_168 : decode cX5_findDays 168 = .ok (.getfield 163, 3) := dk_180 0 163 (dk_at dksX5_findDays_7 0 rfl rfl)
theorem dX5_findDays_171 : decode cX5_findDays 171 = .ok (.iload 4, 2) := dk_21 4 (dk_at dksX5_findDays_7 3 rfl rfl)
theorem dX5_findDays_173 : decode cX5_findDays 173 = .ok (.iaload, 1) := dk_46 (dk_at dksX5_findDays_7 5 rfl rfl)
theorem dX5_findDays_174 : decode cX5_findDays 174 = .ok (.iadd, 1) := dk_96 (dk_at dksX5_findDays_7 6 rfl rfl)
theorem dX5_findDays_175 : decode cX5_findDays 175 = .ok (.dup2, 1) := dk_92 (dk_at dksX5_findDays_7 7 rfl rfl)
theorem dX5_findDays_176 : decode cX5_findDays 176 = .ok (.iaload, 1) := dk_46 (dk_at dksX5_findDays_7 8 rfl rfl)
theorem dX5_findDays_177 : decode cX5_findDays 177 = .ok (.iconst 1, 1) := dk_4 (dk_at dksX5_findDays_7 9 rfl rfl)
theorem dX5_findDays_178 : decode cX5_findDays 178 = .ok (.iadd, 1) := dk_96 (dk_at dksX5_findDays_7 10 rfl rfl)
theorem dX5_findDays_179 : decode cX5_findDays 179 = .ok (.iastore, 1) := dk_79 (dk_at dksX5_findDays_7 11 rfl rfl)
theorem dX5_findDays_180 : decode cX5_findDays 180 = .ok (.iinc 4 1, 3) := dk_132 4 1 (dk_at dksX5_findDays_7 12 rfl rfl)
theorem dX5_findDays_183 : decode cX5_findDays 183 = .ok (.goto (-33), 3) := dk_167 255 223 (dk_at dksX5_findDays_7 15 rfl rfl)
theorem dX5_findDays_186 : decode cX5_findDays 186 = .ok (.iinc 2 1, 3) := dk_132 2 1 (dk_at dksX5_findDays_7 18 rfl rfl)
theorem dX5_findDays_189 : decode cX5_findDays 189 = .ok (.goto (-155), 3) := dk_167 255 101 (dk_at dksX5_findDays_7 21 rfl rfl)
theorem dX5_findDays_192 : decode cX5_findDays 192 = .ok (.return_, 1) := dk_177 (dk_at dksX5_findDays_8 0 rfl rfl)
abbrev cX5_laysDay : ByteArray := prog_26_method_108_code
def yX5_laysDay : MethodName := ⟨RX5, "laysDay", "(II)V"⟩
def dkwX5_laysDay_6 : List UInt8 := [167, 255, 129, 177]
abbrev dktX5_laysDay_6 : List UInt8 := dkwX5_laysDay_6 ++ []
def dkwX5_laysDay_5 : List UInt8 := [164, 0, 9, 17, 0, 240, 167, 0, 5, 21, 8, 79, 42, 27, 29, 182, 1, 109, 62, 132, 6, 1]
abbrev dktX5_laysDay_5 : List UInt8 := dkwX5_laysDay_5 ++ dktX5_laysDay_6
def dkwX5_laysDay_4 : List UInt8 := [96, 54, 4, 42, 27, 182, 1, 97, 29, 96, 54, 8, 42, 180, 0, 163, 21, 6, 21, 8, 17, 0, 240]
abbrev dktX5_laysDay_4 : List UInt8 := dkwX5_laysDay_4 ++ dktX5_laysDay_5
def dkwX5_laysDay_3 : List UInt8 := [21, 4, 182, 1, 121, 167, 0, 4, 3, 96, 62, 21, 4, 21, 7, 5, 160, 0, 7, 4, 167, 0, 4, 3]
abbrev dktX5_laysDay_3 : List UInt8 := dkwX5_laysDay_3 ++ dktX5_laysDay_4
def dkwX5_laysDay_2 : List UInt8 := [160, 0, 8, 16, 10, 167, 0, 27, 16, 20, 167, 0, 22, 21, 7, 5, 160, 0, 15, 42, 27, 16, 40]
abbrev dktX5_laysDay_2 : List UInt8 := dkwX5_laysDay_2 ++ dktX5_laysDay_3
def dkwX5_laysDay_1 : List UInt8 := [6, 112, 54, 7, 21, 5, 6, 108, 54, 5, 29, 21, 7, 4, 160, 0, 23, 42, 27, 3, 182, 1, 71, 5]
abbrev dktX5_laysDay_1 : List UInt8 := dkwX5_laysDay_1 ++ dktX5_laysDay_2
def dkwX5_laysDay_0 : List UInt8 := [3, 62, 3, 54, 4, 17, 0, 243, 54, 5, 3, 54, 6, 21, 6, 16, 6, 162, 0, 126, 28, 21, 5, 108]
abbrev dktX5_laysDay_0 : List UInt8 := dkwX5_laysDay_0 ++ dktX5_laysDay_1
theorem dksX5_laysDay_0 : cX5_laysDay.data.toList.drop 0 = dktX5_laysDay_0 := by decide +kernel
theorem dksX5_laysDay_1 : cX5_laysDay.data.toList.drop 24 = dktX5_laysDay_1 := dk_seg dksX5_laysDay_0 24 rfl rfl
theorem dksX5_laysDay_2 : cX5_laysDay.data.toList.drop 48 = dktX5_laysDay_2 := dk_seg dksX5_laysDay_1 24 rfl rfl
theorem dksX5_laysDay_3 : cX5_laysDay.data.toList.drop 71 = dktX5_laysDay_3 := dk_seg dksX5_laysDay_2 23 rfl rfl
theorem dksX5_laysDay_4 : cX5_laysDay.data.toList.drop 95 = dktX5_laysDay_4 := dk_seg dksX5_laysDay_3 24 rfl rfl
theorem dksX5_laysDay_5 : cX5_laysDay.data.toList.drop 118 = dktX5_laysDay_5 := dk_seg dksX5_laysDay_4 23 rfl rfl
theorem dksX5_laysDay_6 : cX5_laysDay.data.toList.drop 140 = dktX5_laysDay_6 := dk_seg dksX5_laysDay_5 22 rfl rfl
theorem dX5_laysDay_0 : decode cX5_laysDay 0 = .ok (.iconst 0, 1) := dk_3 (dk_at dksX5_laysDay_0 0 rfl rfl)
theorem dX5_laysDay_1 : decode cX5_laysDay 1 = .ok (.istore_n 3, 1) := dk_62 (dk_at dksX5_laysDay_0 1 rfl rfl)
theorem dX5_laysDay_2 : decode cX5_laysDay 2 = .ok (.iconst 0, 1) := dk_3 (dk_at dksX5_laysDay_0 2 rfl rfl)
theorem dX5_laysDay_3 : decode cX5_laysDay 3 = .ok (.istore 4, 2) := dk_54 4 (dk_at dksX5_laysDay_0 3 rfl rfl)
theorem dX5_laysDay_5 : decode cX5_laysDay 5 = .ok (.sipush 243, 3) := dk_17 0 243 (dk_at dksX5_laysDay_0 5 rfl rfl)
theorem dX5_laysDay_8 : decode cX5_laysDay 8 = .ok (.istore 5, 2) := dk_54 5 (dk_at dksX5_laysDay_0 8 rfl rfl)
theorem dX5_laysDay_10 : decode cX5_laysDay 10 = .ok (.iconst 0, 1) := dk_3 (dk_at dksX5_laysDay_0 10 rfl rfl)
theorem dX5_laysDay_11 : decode cX5_laysDay 11 = .ok (.istore 6, 2) := dk_54 6 (dk_at dksX5_laysDay_0 11 rfl rfl)
theorem dX5_laysDay_13 : decode cX5_laysDay 13 = .ok (.iload 6, 2) := dk_21 6 (dk_at dksX5_laysDay_0 13 rfl rfl)
theorem dX5_laysDay_15 : decode cX5_laysDay 15 = .ok (.bipush 6, 2) := dk_16 6 (dk_at dksX5_laysDay_0 15 rfl rfl)
theorem dX5_laysDay_17 : decode cX5_laysDay 17 = .ok (.if_icmp .ge 126, 3) := dk_162 0 126 (dk_at dksX5_laysDay_0 17 rfl rfl)
theorem dX5_laysDay_20 : decode cX5_laysDay 20 = .ok (.iload_n 2, 1) := dk_28 (dk_at dksX5_laysDay_0 20 rfl rfl)
theorem dX5_laysDay_21 : decode cX5_laysDay 21 = .ok (.iload 5, 2) := dk_21 5 (dk_at dksX5_laysDay_0 21 rfl rfl)
theorem dX5_laysDay_23 : decode cX5_laysDay 23 = .ok (.idiv, 1) := dk_108 (dk_at dksX5_laysDay_0 23 rfl rfl)
theorem dX5_laysDay_24 : decode cX5_laysDay 24 = .ok (.iconst 3, 1) := dk_6 (dk_at dksX5_laysDay_1 0 rfl rfl)
theorem dX5_laysDay_25 : decode cX5_laysDay 25 = .ok (.irem, 1) := dk_112 (dk_at dksX5_laysDay_1 1 rfl rfl)
theorem dX5_laysDay_26 : decode cX5_laysDay 26 = .ok (.istore 7, 2) := dk_54 7 (dk_at dksX5_laysDay_1 2 rfl rfl)
theorem dX5_laysDay_28 : decode cX5_laysDay 28 = .ok (.iload 5, 2) := dk_21 5 (dk_at dksX5_laysDay_1 4 rfl rfl)
theorem dX5_laysDay_30 : decode cX5_laysDay 30 = .ok (.iconst 3, 1) := dk_6 (dk_at dksX5_laysDay_1 6 rfl rfl)
theorem dX5_laysDay_31 : decode cX5_laysDay 31 = .ok (.idiv, 1) := dk_108 (dk_at dksX5_laysDay_1 7 rfl rfl)
theorem dX5_laysDay_32 : decode cX5_laysDay 32 = .ok (.istore 5, 2) := dk_54 5 (dk_at dksX5_laysDay_1 8 rfl rfl)
theorem dX5_laysDay_34 : decode cX5_laysDay 34 = .ok (.iload_n 3, 1) := dk_29 (dk_at dksX5_laysDay_1 10 rfl rfl)
theorem dX5_laysDay_35 : decode cX5_laysDay 35 = .ok (.iload 7, 2) := dk_21 7 (dk_at dksX5_laysDay_1 11 rfl rfl)
theorem dX5_laysDay_37 : decode cX5_laysDay 37 = .ok (.iconst 1, 1) := dk_4 (dk_at dksX5_laysDay_1 13 rfl rfl)
theorem dX5_laysDay_38 : decode cX5_laysDay 38 = .ok (.if_icmp .ne 23, 3) := dk_160 0 23 (dk_at dksX5_laysDay_1 14 rfl rfl)
theorem dX5_laysDay_41 : decode cX5_laysDay 41 = .ok (.aload_n 0, 1) := dk_42 (dk_at dksX5_laysDay_1 17 rfl rfl)
theorem dX5_laysDay_42 : decode cX5_laysDay 42 = .ok (.iload_n 1, 1) := dk_27 (dk_at dksX5_laysDay_1 18 rfl rfl)
theorem dX5_laysDay_43 : decode cX5_laysDay 43 = .ok (.iconst 0, 1) := dk_3 (dk_at dksX5_laysDay_1 19 rfl rfl)
theorem dX5_laysDay_44 : decode cX5_laysDay 44 = .ok (.invokevirtual 327, 3) := dk_182 1 71 (dk_at dksX5_laysDay_1 20 rfl rfl)
theorem dX5_laysDay_47 : decode cX5_laysDay 47 = .ok (.iconst 2, 1) := dk_5 (dk_at dksX5_laysDay_1 23 rfl rfl)
theorem dX5_laysDay_48 : decode cX5_laysDay 48 = .ok (.if_icmp .ne 8, 3) := dk_160 0 8 (dk_at dksX5_laysDay_2 0 rfl rfl)
theorem dX5_laysDay_51 : decode cX5_laysDay 51 = .ok (.bipush 10, 2) := dk_16 10 (dk_at dksX5_laysDay_2 3 rfl rfl)
theorem dX5_laysDay_53 : decode cX5_laysDay 53 = .ok (.goto 27, 3) := dk_167 0 27 (dk_at dksX5_laysDay_2 5 rfl rfl)
theorem dX5_laysDay_56 : decode cX5_laysDay 56 = .ok (.bipush 20, 2) := dk_16 20 (dk_at dksX5_laysDay_2 8 rfl rfl)
theorem dX5_laysDay_58 : decode cX5_laysDay 58 = .ok (.goto 22, 3) := dk_167 0 22 (dk_at dksX5_laysDay_2 10 rfl rfl)
theorem dX5_laysDay_61 : decode cX5_laysDay 61 = .ok (.iload 7, 2) := dk_21 7 (dk_at dksX5_laysDay_2 13 rfl rfl)
theorem dX5_laysDay_63 : decode cX5_laysDay 63 = .ok (.iconst 2, 1) := dk_5 (dk_at dksX5_laysDay_2 15 rfl rfl)
theorem dX5_laysDay_64 : decode cX5_laysDay 64 = .ok (.if_icmp .ne 15, 3) := dk_160 0 15 (dk_at dksX5_laysDay_2 16 rfl rfl)
theorem dX5_laysDay_67 : decode cX5_laysDay 67 = .ok (.aload_n 0, 1) := dk_42 (dk_at dksX5_laysDay_2 19 rfl rfl)
theorem dX5_laysDay_68 : decode cX5_laysDay 68 = .ok (.iload_n 1, 1) := dk_27 (dk_at dksX5_laysDay_2 20 rfl rfl)
theorem dX5_laysDay_69 : decode cX5_laysDay 69 = .ok (.bipush 40, 2) := dk_16 40 (dk_at dksX5_laysDay_2 21 rfl rfl)
theorem dX5_laysDay_71 : decode cX5_laysDay 71 = .ok (.iload 4, 2) := dk_21 4 (dk_at dksX5_laysDay_3 0 rfl rfl)
theorem dX5_laysDay_73 : decode cX5_laysDay 73 = .ok (.invokevirtual 377, 3) := dk_182 1 121 (dk_at dksX5_laysDay_3 2 rfl rfl)
theorem dX5_laysDay_76 : decode cX5_laysDay 76 = .ok (.goto 4, 3) := dk_167 0 4 (dk_at dksX5_laysDay_3 5 rfl rfl)
theorem dX5_laysDay_79 : decode cX5_laysDay 79 = .ok (.iconst 0, 1) := dk_3 (dk_at dksX5_laysDay_3 8 rfl rfl)
theorem dX5_laysDay_80 : decode cX5_laysDay 80 = .ok (.iadd, 1) := dk_96 (dk_at dksX5_laysDay_3 9 rfl rfl)
theorem dX5_laysDay_81 : decode cX5_laysDay 81 = .ok (.istore_n 3, 1) := dk_62 (dk_at dksX5_laysDay_3 10 rfl rfl)
theorem dX5_laysDay_82 : decode cX5_laysDay 82 = .ok (.iload 4, 2) := dk_21 4 (dk_at dksX5_laysDay_3 11 rfl rfl)
theorem dX5_laysDay_84 : decode cX5_laysDay 84 = .ok (.iload 7, 2) := dk_21 7 (dk_at dksX5_laysDay_3 13 rfl rfl)
theorem dX5_laysDay_86 : decode cX5_laysDay 86 = .ok (.iconst 2, 1) := dk_5 (dk_at dksX5_laysDay_3 15 rfl rfl)
theorem dX5_laysDay_87 : decode cX5_laysDay 87 = .ok (.if_icmp .ne 7, 3) := dk_160 0 7 (dk_at dksX5_laysDay_3 16 rfl rfl)
theorem dX5_laysDay_90 : decode cX5_laysDay 90 = .ok (.iconst 1, 1) := dk_4 (dk_at dksX5_laysDay_3 19 rfl rfl)
theorem dX5_laysDay_91 : decode cX5_laysDay 91 = .ok (.goto 4, 3) := dk_167 0 4 (dk_at dksX5_laysDay_3 20 rfl rfl)
theorem dX5_laysDay_94 : decode cX5_laysDay 94 = .ok (.iconst 0, 1) := dk_3 (dk_at dksX5_laysDay_3 23 rfl rfl)
theorem dX5_laysDay_95 : decode cX5_laysDay 95 = .ok (.iadd, 1) := dk_96 (dk_at dksX5_laysDay_4 0 rfl rfl)
theorem dX5_laysDay_96 : decode cX5_laysDay 96 = .ok (.istore 4, 2) := dk_54 4 (dk_at dksX5_laysDay_4 1 rfl rfl)
theorem dX5_laysDay_98 : decode cX5_laysDay 98 = .ok (.aload_n 0, 1) := dk_42 (dk_at dksX5_laysDay_4 3 rfl rfl)
theorem dX5_laysDay_99 : decode cX5_laysDay 99 = .ok (.iload_n 1, 1) := dk_27 (dk_at dksX5_laysDay_4 4 rfl rfl)
theorem dX5_laysDay_100 : decode cX5_laysDay 100 = .ok (.invokevirtual 353, 3) := dk_182 1 97 (dk_at dksX5_laysDay_4 5 rfl rfl)
theorem dX5_laysDay_103 : decode cX5_laysDay 103 = .ok (.iload_n 3, 1) := dk_29 (dk_at dksX5_laysDay_4 8 rfl rfl)
theorem dX5_laysDay_104 : decode cX5_laysDay 104 = .ok (.iadd, 1) := dk_96 (dk_at dksX5_laysDay_4 9 rfl rfl)
theorem dX5_laysDay_105 : decode cX5_laysDay 105 = .ok (.istore 8, 2) := dk_54 8 (dk_at dksX5_laysDay_4 10 rfl rfl)
theorem dX5_laysDay_107 : decode cX5_laysDay 107 = .ok (.aload_n 0, 1) := dk_42 (dk_at dksX5_laysDay_4 12 rfl rfl)
theorem dX5_laysDay_108 : decode cX5_laysDay 108 = .ok (.getfield 163, 3) := dk_180 0 163 (dk_at dksX5_laysDay_4 13 rfl rfl)
theorem dX5_laysDay_111 : decode cX5_laysDay 111 = .ok (.iload 6, 2) := dk_21 6 (dk_at dksX5_laysDay_4 16 rfl rfl)
theorem dX5_laysDay_113 : decode cX5_laysDay 113 = .ok (.iload 8, 2) := dk_21 8 (dk_at dksX5_laysDay_4 18 rfl rfl)
theorem dX5_laysDay_115 : decode cX5_laysDay 115 = .ok (.sipush 240, 3) := dk_17 0 240 (dk_at dksX5_laysDay_4 20 rfl rfl)
theorem dX5_laysDay_118 : decode cX5_laysDay 118 = .ok (.if_icmp .le 9, 3) := dk_164 0 9 (dk_at dksX5_laysDay_5 0 rfl rfl)
theorem dX5_laysDay_121 : decode cX5_laysDay 121 = .ok (.sipush 240, 3) := dk_17 0 240 (dk_at dksX5_laysDay_5 3 rfl rfl)
theorem dX5_laysDay_124 : decode cX5_laysDay 124 = .ok (.goto 5, 3) := dk_167 0 5 (dk_at dksX5_laysDay_5 6 rfl rfl)
theorem dX5_laysDay_127 : decode cX5_laysDay 127 = .ok (.iload 8, 2) := dk_21 8 (dk_at dksX5_laysDay_5 9 rfl rfl)
theorem dX5_laysDay_129 : decode cX5_laysDay 129 = .ok (.iastore, 1) := dk_79 (dk_at dksX5_laysDay_5 11 rfl rfl)
theorem dX5_laysDay_130 : decode cX5_laysDay 130 = .ok (.aload_n 0, 1) := dk_42 (dk_at dksX5_laysDay_5 12 rfl rfl)
theorem dX5_laysDay_131 : decode cX5_laysDay 131 = .ok (.iload_n 1, 1) := dk_27 (dk_at dksX5_laysDay_5 13 rfl rfl)
theorem dX5_laysDay_132 : decode cX5_laysDay 132 = .ok (.iload_n 3, 1) := dk_29 (dk_at dksX5_laysDay_5 14 rfl rfl)
theorem dX5_laysDay_133 : decode cX5_laysDay 133 = .ok (.invokevirtual 365, 3) := dk_182 1 109 (dk_at dksX5_laysDay_5 15 rfl rfl)
theorem dX5_laysDay_136 : decode cX5_laysDay 136 = .ok (.istore_n 3, 1) := dk_62 (dk_at dksX5_laysDay_5 18 rfl rfl)
theorem dX5_laysDay_137 : decode cX5_laysDay 137 = .ok (.iinc 6 1, 3) := dk_132 6 1 (dk_at dksX5_laysDay_5 19 rfl rfl)
theorem dX5_laysDay_140 : decode cX5_laysDay 140 = .ok (.goto (-127), 3) := dk_167 255 129 (dk_at dksX5_laysDay_6 0 rfl rfl)
theorem dX5_laysDay_143 : decode cX5_laysDay 143 = .ok (.return_, 1) := dk_177 (dk_at dksX5_laysDay_6 3 rfl rfl)
abbrev cX5_did : ByteArray := prog_26_method_111_code
def yX5_did : MethodName := ⟨RX5, "did", "(II)I"⟩
def dkwX5_did_2 : List UInt8 := [132, 4, 255, 167, 255, 243, 42, 180, 1, 202, 154, 0, 7, 2, 167, 0, 6, 29, 6, 112, 172]
abbrev dktX5_did_2 : List UInt8 := dkwX5_did_2 ++ []
def dkwX5_did_1 : List UInt8 := [42, 27, 182, 1, 211, 42, 180, 1, 205, 62, 8, 54, 4, 21, 4, 28, 164, 0, 13, 29, 6, 108, 62]
abbrev dktX5_did_1 : List UInt8 := dkwX5_did_1 ++ dktX5_did_2
def dkwX5_did_0 : List UInt8 := [42, 3, 181, 0, 1, 42, 27, 182, 1, 90, 153, 0, 12, 28, 3, 8, 184, 0, 241, 154, 0, 5, 2, 172]
abbrev dktX5_did_0 : List UInt8 := dkwX5_did_0 ++ dktX5_did_1
theorem dksX5_did_0 : cX5_did.data.toList.drop 0 = dktX5_did_0 := by decide +kernel
theorem dksX5_did_1 : cX5_did.data.toList.drop 24 = dktX5_did_1 := dk_seg dksX5_did_0 24 rfl rfl
theorem dksX5_did_2 : cX5_did.data.toList.drop 47 = dktX5_did_2 := dk_seg dksX5_did_1 23 rfl rfl
theorem dX5_did_0 : decode cX5_did 0 = .ok (.aload_n 0, 1) := dk_42 (dk_at dksX5_did_0 0 rfl rfl)
theorem dX5_did_1 : decode cX5_did 1 = .ok (.iconst 0, 1) := dk_3 (dk_at dksX5_did_0 1 rfl rfl)
theorem dX5_did_2 : decode cX5_did 2 = .ok (.putfield 1, 3) := dk_181 0 1 (dk_at dksX5_did_0 2 rfl rfl)
theorem dX5_did_5 : decode cX5_did 5 = .ok (.aload_n 0, 1) := dk_42 (dk_at dksX5_did_0 5 rfl rfl)
theorem dX5_did_6 : decode cX5_did 6 = .ok (.iload_n 1, 1) := dk_27 (dk_at dksX5_did_0 6 rfl rfl)
theorem dX5_did_7 : decode cX5_did 7 = .ok (.invokevirtual 346, 3) := dk_182 1 90 (dk_at dksX5_did_0 7 rfl rfl)
theorem dX5_did_10 : decode cX5_did 10 = .ok (.ifCond .eq 12, 3) := dk_153 0 12 (dk_at dksX5_did_0 10 rfl rfl)
theorem dX5_did_13 : decode cX5_did 13 = .ok (.iload_n 2, 1) := dk_28 (dk_at dksX5_did_0 13 rfl rfl)
theorem dX5_did_14 : decode cX5_did 14 = .ok (.iconst 0, 1) := dk_3 (dk_at dksX5_did_0 14 rfl rfl)
theorem dX5_did_15 : decode cX5_did 15 = .ok (.iconst 5, 1) := dk_8 (dk_at dksX5_did_0 15 rfl rfl)
theorem dX5_did_16 : decode cX5_did 16 = .ok (.invokestatic 241, 3) := dk_184 0 241 (dk_at dksX5_did_0 16 rfl rfl)
theorem dX5_did_19 : decode cX5_did 19 = .ok (.ifCond .ne 5, 3) := dk_154 0 5 (dk_at dksX5_did_0 19 rfl rfl)
theorem dX5_did_22 : decode cX5_did 22 = .ok (.iconst (-1), 1) := dk_2 (dk_at dksX5_did_0 22 rfl rfl)
theorem dX5_did_23 : decode cX5_did 23 = .ok (.ireturn, 1) := dk_172 (dk_at dksX5_did_0 23 rfl rfl)
theorem dX5_did_24 : decode cX5_did 24 = .ok (.aload_n 0, 1) := dk_42 (dk_at dksX5_did_1 0 rfl rfl)
theorem dX5_did_25 : decode cX5_did 25 = .ok (.iload_n 1, 1) := dk_27 (dk_at dksX5_did_1 1 rfl rfl)
theorem dX5_did_26 : decode cX5_did 26 = .ok (.invokevirtual 467, 3) := dk_182 1 211 (dk_at dksX5_did_1 2 rfl rfl)
theorem dX5_did_29 : decode cX5_did 29 = .ok (.aload_n 0, 1) := dk_42 (dk_at dksX5_did_1 5 rfl rfl)
theorem dX5_did_30 : decode cX5_did 30 = .ok (.getfield 461, 3) := dk_180 1 205 (dk_at dksX5_did_1 6 rfl rfl)
theorem dX5_did_33 : decode cX5_did 33 = .ok (.istore_n 3, 1) := dk_62 (dk_at dksX5_did_1 9 rfl rfl)
theorem dX5_did_34 : decode cX5_did 34 = .ok (.iconst 5, 1) := dk_8 (dk_at dksX5_did_1 10 rfl rfl)
theorem dX5_did_35 : decode cX5_did 35 = .ok (.istore 4, 2) := dk_54 4 (dk_at dksX5_did_1 11 rfl rfl)
theorem dX5_did_37 : decode cX5_did 37 = .ok (.iload 4, 2) := dk_21 4 (dk_at dksX5_did_1 13 rfl rfl)
theorem dX5_did_39 : decode cX5_did 39 = .ok (.iload_n 2, 1) := dk_28 (dk_at dksX5_did_1 15 rfl rfl)
theorem dX5_did_40 : decode cX5_did 40 = .ok (.if_icmp .le 13, 3) := dk_164 0 13 (dk_at dksX5_did_1 16 rfl rfl)
theorem dX5_did_43 : decode cX5_did 43 = .ok (.iload_n 3, 1) := dk_29 (dk_at dksX5_did_1 19 rfl rfl)
theorem dX5_did_44 : decode cX5_did 44 = .ok (.iconst 3, 1) := dk_6 (dk_at dksX5_did_1 20 rfl rfl)
theorem dX5_did_45 : decode cX5_did 45 = .ok (.idiv, 1) := dk_108 (dk_at dksX5_did_1 21 rfl rfl)
theorem dX5_did_46 : decode cX5_did 46 = .ok (.istore_n 3, 1) := dk_62 (dk_at dksX5_did_1 22 rfl rfl)
theorem dX5_did_47 : decode cX5_did 47 = .ok (.iinc 4 (-1), 3) := dk_132 4 255 (dk_at dksX5_did_2 0 rfl rfl)
theorem dX5_did_50 : decode cX5_did 50 = .ok (.goto (-13), 3) := dk_167 255 243 (dk_at dksX5_did_2 3 rfl rfl)
theorem dX5_did_53 : decode cX5_did 53 = .ok (.aload_n 0, 1) := dk_42 (dk_at dksX5_did_2 6 rfl rfl)
theorem dX5_did_54 : decode cX5_did 54 = .ok (.getfield 458, 3) := dk_180 1 202 (dk_at dksX5_did_2 7 rfl rfl)
theorem dX5_did_57 : decode cX5_did 57 = .ok (.ifCond .ne 7, 3) := dk_154 0 7 (dk_at dksX5_did_2 10 rfl rfl)
theorem dX5_did_60 : decode cX5_did 60 = .ok (.iconst (-1), 1) := dk_2 (dk_at dksX5_did_2 13 rfl rfl)
theorem dX5_did_61 : decode cX5_did 61 = .ok (.goto 6, 3) := dk_167 0 6 (dk_at dksX5_did_2 14 rfl rfl)
theorem dX5_did_64 : decode cX5_did 64 = .ok (.iload_n 3, 1) := dk_29 (dk_at dksX5_did_2 17 rfl rfl)
theorem dX5_did_65 : decode cX5_did 65 = .ok (.iconst 3, 1) := dk_6 (dk_at dksX5_did_2 18 rfl rfl)
theorem dX5_did_66 : decode cX5_did 66 = .ok (.irem, 1) := dk_112 (dk_at dksX5_did_2 19 rfl rfl)
theorem dX5_did_67 : decode cX5_did 67 = .ok (.ireturn, 1) := dk_172 (dk_at dksX5_did_2 20 rfl rfl)
abbrev cX5_next : ByteArray := prog_26_method_112_code
def yX5_next : MethodName := ⟨RX5, "next", "(I)I"⟩
def dkwX5_next_5 : List UInt8 := [162, 0, 8, 21, 5, 167, 0, 4, 29, 62, 132, 4, 1, 167, 255, 160, 28, 172]
abbrev dktX5_next_5 : List UInt8 := dkwX5_next_5 ++ []
def dkwX5_next_4 : List UInt8 := [132, 6, 1, 167, 255, 205, 21, 5, 29, 162, 0, 8, 21, 4, 167, 0, 4, 28, 61, 21, 5, 29]
abbrev dktX5_next_4 : List UInt8 := dkwX5_next_4 ++ dktX5_next_5
def dkwX5_next_3 : List UInt8 := [164, 0, 20, 42, 180, 0, 166, 17, 0, 241, 21, 4, 104, 21, 6, 96, 46, 167, 0, 5, 21, 5, 54, 5]
abbrev dktX5_next_3 : List UInt8 := dkwX5_next_3 ++ dktX5_next_4
def dkwX5_next_2 : List UInt8 := [17, 0, 241, 162, 0, 49, 42, 180, 0, 166, 17, 0, 241, 21, 4, 104, 21, 6, 96, 46, 21, 5]
abbrev dktX5_next_2 : List UInt8 := dkwX5_next_2 ++ dktX5_next_3
def dkwX5_next_1 : List UInt8 := [180, 1, 202, 62, 3, 54, 4, 21, 4, 16, 6, 162, 0, 95, 3, 54, 5, 3, 54, 6, 21, 6]
abbrev dktX5_next_1 : List UInt8 := dkwX5_next_1 ++ dktX5_next_2
def dkwX5_next_0 : List UInt8 := [42, 3, 181, 0, 1, 42, 27, 182, 1, 90, 154, 0, 5, 2, 172, 42, 27, 182, 1, 211, 2, 61, 42]
abbrev dktX5_next_0 : List UInt8 := dkwX5_next_0 ++ dktX5_next_1
theorem dksX5_next_0 : cX5_next.data.toList.drop 0 = dktX5_next_0 := by decide +kernel
theorem dksX5_next_1 : cX5_next.data.toList.drop 23 = dktX5_next_1 := dk_seg dksX5_next_0 23 rfl rfl
theorem dksX5_next_2 : cX5_next.data.toList.drop 45 = dktX5_next_2 := dk_seg dksX5_next_1 22 rfl rfl
theorem dksX5_next_3 : cX5_next.data.toList.drop 67 = dktX5_next_3 := dk_seg dksX5_next_2 22 rfl rfl
theorem dksX5_next_4 : cX5_next.data.toList.drop 91 = dktX5_next_4 := dk_seg dksX5_next_3 24 rfl rfl
theorem dksX5_next_5 : cX5_next.data.toList.drop 113 = dktX5_next_5 := dk_seg dksX5_next_4 22 rfl rfl
theorem dX5_next_0 : decode cX5_next 0 = .ok (.aload_n 0, 1) := dk_42 (dk_at dksX5_next_0 0 rfl rfl)
theorem dX5_next_1 : decode cX5_next 1 = .ok (.iconst 0, 1) := dk_3 (dk_at dksX5_next_0 1 rfl rfl)
theorem dX5_next_2 : decode cX5_next 2 = .ok (.putfield 1, 3) := dk_181 0 1 (dk_at dksX5_next_0 2 rfl rfl)
theorem dX5_next_5 : decode cX5_next 5 = .ok (.aload_n 0, 1) := dk_42 (dk_at dksX5_next_0 5 rfl rfl)
theorem dX5_next_6 : decode cX5_next 6 = .ok (.iload_n 1, 1) := dk_27 (dk_at dksX5_next_0 6 rfl rfl)
theorem dX5_next_7 : decode cX5_next 7 = .ok (.invokevirtual 346, 3) := dk_182 1 90 (dk_at dksX5_next_0 7 rfl rfl)
theorem dX5_next_10 : decode cX5_next 10 = .ok (.ifCond .ne 5, 3) := dk_154 0 5 (dk_at dksX5_next_0 10 rfl rfl)
theorem dX5_next_13 : decode cX5_next 13 = .ok (.iconst (-1), 1) := dk_2 (dk_at dksX5_next_0 13 rfl rfl)
theorem dX5_next_14 : decode cX5_next 14 = .ok (.ireturn, 1) := dk_172 (dk_at dksX5_next_0 14 rfl rfl)
theorem dX5_next_15 : decode cX5_next 15 = .ok (.aload_n 0, 1) := dk_42 (dk_at dksX5_next_0 15 rfl rfl)
theorem dX5_next_16 : decode cX5_next 16 = .ok (.iload_n 1, 1) := dk_27 (dk_at dksX5_next_0 16 rfl rfl)
theorem dX5_next_17 : decode cX5_next 17 = .ok (.invokevirtual 467, 3) := dk_182 1 211 (dk_at dksX5_next_0 17 rfl rfl)
theorem dX5_next_20 : decode cX5_next 20 = .ok (.iconst (-1), 1) := dk_2 (dk_at dksX5_next_0 20 rfl rfl)
theorem dX5_next_21 : decode cX5_next 21 = .ok (.istore_n 2, 1) := dk_61 (dk_at dksX5_next_0 21 rfl rfl)
theorem dX5_next_22 : decode cX5_next 22 = .ok (.aload_n 0, 1) := dk_42 (dk_at dksX5_next_0 22 rfl rfl)
theorem dX5_next_23 : decode cX5_next 23 = .ok (.getfield 458, 3) := dk_180 1 202 (dk_at dksX5_next_1 0 rfl rfl)
theorem dX5_next_26 : decode cX5_next 26 = .ok (.istore_n 3, 1) := dk_62 (dk_at dksX5_next_1 3 rfl rfl)
theorem dX5_next_27 : decode cX5_next 27 = .ok (.iconst 0, 1) := dk_3 (dk_at dksX5_next_1 4 rfl rfl)
theorem dX5_next_28 : decode cX5_next 28 = .ok (.istore 4, 2) := dk_54 4 (dk_at dksX5_next_1 5 rfl rfl)
theorem dX5_next_30 : decode cX5_next 30 = .ok (.iload 4, 2) := dk_21 4 (dk_at dksX5_next_1 7 rfl rfl)
theorem dX5_next_32 : decode cX5_next 32 = .ok (.bipush 6, 2) := dk_16 6 (dk_at dksX5_next_1 9 rfl rfl)
theorem dX5_next_34 : decode cX5_next 34 = .ok (.if_icmp .ge 95, 3) := dk_162 0 95 (dk_at dksX5_next_1 11 rfl rfl)
theorem dX5_next_37 : decode cX5_next 37 = .ok (.iconst 0, 1) := dk_3 (dk_at dksX5_next_1 14 rfl rfl)
theorem dX5_next_38 : decode cX5_next 38 = .ok (.istore 5, 2) := dk_54 5 (dk_at dksX5_next_1 15 rfl rfl)
theorem dX5_next_40 : decode cX5_next 40 = .ok (.iconst 0, 1) := dk_3 (dk_at dksX5_next_1 17 rfl rfl)
theorem dX5_next_41 : decode cX5_next 41 = .ok (.istore 6, 2) := dk_54 6 (dk_at dksX5_next_1 18 rfl rfl)
theorem dX5_next_43 : decode cX5_next 43 = .ok (.iload 6, 2) := dk_21 6 (dk_at dksX5_next_1 20 rfl rfl)
theorem dX5_next_45 : decode cX5_next 45 = .ok (.sipush 241, 3) := dk_17 0 241 (dk_at dksX5_next_2 0 rfl rfl)
theorem dX5_next_48 : decode cX5_next 48 = .ok (.if_icmp .ge 49, 3) := dk_162 0 49 (dk_at dksX5_next_2 3 rfl rfl)
theorem dX5_next_51 : decode cX5_next 51 = .ok (.aload_n 0, 1) := dk_42 (dk_at dksX5_next_2 6 rfl rfl)
theorem dX5_next_52 : decode cX5_next 52 = .ok (.getfield 166, 3) := dk_180 0 166 (dk_at dksX5_next_2 7 rfl rfl)
theorem dX5_next_55 : decode cX5_next 55 = .ok (.sipush 241, 3) := dk_17 0 241 (dk_at dksX5_next_2 10 rfl rfl)
theorem dX5_next_58 : decode cX5_next 58 = .ok (.iload 4, 2) := dk_21 4 (dk_at dksX5_next_2 13 rfl rfl)
theorem dX5_next_60 : decode cX5_next 60 = .ok (.imul, 1) := dk_104 (dk_at dksX5_next_2 15 rfl rfl)
theorem dX5_next_61 : decode cX5_next 61 = .ok (.iload 6, 2) := dk_21 6 (dk_at dksX5_next_2 16 rfl rfl)
theorem dX5_next_63 : decode cX5_next 63 = .ok (.iadd, 1) := dk_96 (dk_at dksX5_next_2 18 rfl rfl)
theorem dX5_next_64 : decode cX5_next 64 = .ok (.iaload, 1) := dk_46 (dk_at dksX5_next_2 19 rfl rfl)
theorem dX5_next_65 : decode cX5_next 65 = .ok (.iload 5, 2) := dk_21 5 (dk_at dksX5_next_2 20 rfl rfl)
theorem dX5_next_67 : decode cX5_next 67 = .ok (.if_icmp .le 20, 3) := dk_164 0 20 (dk_at dksX5_next_3 0 rfl rfl)
theorem dX5_next_70 : decode cX5_next 70 = .ok (.aload_n 0, 1) := dk_42 (dk_at dksX5_next_3 3 rfl rfl)
theorem dX5_next_71 : decode cX5_next 71 = .ok (.getfield 166, 3) := dk_180 0 166 (dk_at dksX5_next_3 4 rfl rfl)
theorem dX5_next_74 : decode cX5_next 74 = .ok (.sipush 241, 3) := dk_17 0 241 (dk_at dksX5_next_3 7 rfl rfl)
theorem dX5_next_77 : decode cX5_next 77 = .ok (.iload 4, 2) := dk_21 4 (dk_at dksX5_next_3 10 rfl rfl)
theorem dX5_next_79 : decode cX5_next 79 = .ok (.imul, 1) := dk_104 (dk_at dksX5_next_3 12 rfl rfl)
theorem dX5_next_80 : decode cX5_next 80 = .ok (.iload 6, 2) := dk_21 6 (dk_at dksX5_next_3 13 rfl rfl)
theorem dX5_next_82 : decode cX5_next 82 = .ok (.iadd, 1) := dk_96 (dk_at dksX5_next_3 15 rfl rfl)
theorem dX5_next_83 : decode cX5_next 83 = .ok (.iaload, 1) := dk_46 (dk_at dksX5_next_3 16 rfl rfl)
theorem dX5_next_84 : decode cX5_next 84 = .ok (.goto 5, 3) := dk_167 0 5 (dk_at dksX5_next_3 17 rfl rfl)
theorem dX5_next_87 : decode cX5_next 87 = .ok (.iload 5, 2) := dk_21 5 (dk_at dksX5_next_3 20 rfl rfl)
theorem dX5_next_89 : decode cX5_next 89 = .ok (.istore 5, 2) := dk_54 5 (dk_at dksX5_next_3 22 rfl rfl)
theorem dX5_next_91 : decode cX5_next 91 = .ok (.iinc 6 1, 3) := dk_132 6 1 (dk_at dksX5_next_4 0 rfl rfl)
theorem dX5_next_94 : decode cX5_next 94 = .ok (.goto (-51), 3) := dk_167 255 205 (dk_at dksX5_next_4 3 rfl rfl)
theorem dX5_next_97 : decode cX5_next 97 = .ok (.iload 5, 2) := dk_21 5 (dk_at dksX5_next_4 6 rfl rfl)
theorem dX5_next_99 : decode cX5_next 99 = .ok (.iload_n 3, 1) := dk_29 (dk_at dksX5_next_4 8 rfl rfl)
theorem dX5_next_100 : decode cX5_next 100 = .ok (.if_icmp .ge 8, 3) := dk_162 0 8 (dk_at dksX5_next_4 9 rfl rfl)
theorem dX5_next_103 : decode cX5_next 103 = .ok (.iload 4, 2) := dk_21 4 (dk_at dksX5_next_4 12 rfl rfl)
theorem dX5_next_105 : decode cX5_next 105 = .ok (.goto 4, 3) := dk_167 0 4 (dk_at dksX5_next_4 14 rfl rfl)
theorem dX5_next_108 : decode cX5_next 108 = .ok (.iload_n 2, 1) := dk_28 (dk_at dksX5_next_4 17 rfl rfl)
theorem dX5_next_109 : decode cX5_next 109 = .ok (.istore_n 2, 1) := dk_61 (dk_at dksX5_next_4 18 rfl rfl)
theorem dX5_next_110 : decode cX5_next 110 = .ok (.iload 5, 2) := dk_21 5 (dk_at dksX5_next_4 19 rfl rfl)
theorem dX5_next_112 : decode cX5_next 112 = .ok (.iload_n 3, 1) := dk_29 (dk_at dksX5_next_4 21 rfl rfl)
theorem dX5_next_113 : decode cX5_next 113 = .ok (.if_icmp .ge 8, 3) := dk_162 0 8 (dk_at dksX5_next_5 0 rfl rfl)
theorem dX5_next_116 : decode cX5_next 116 = .ok (.iload 5, 2) := dk_21 5 (dk_at dksX5_next_5 3 rfl rfl)
theorem dX5_next_118 : decode cX5_next 118 = .ok (.goto 4, 3) := dk_167 0 4 (dk_at dksX5_next_5 5 rfl rfl)
theorem dX5_next_121 : decode cX5_next 121 = .ok (.iload_n 3, 1) := dk_29 (dk_at dksX5_next_5 8 rfl rfl)
theorem dX5_next_122 : decode cX5_next 122 = .ok (.istore_n 3, 1) := dk_62 (dk_at dksX5_next_5 9 rfl rfl)
theorem dX5_next_123 : decode cX5_next 123 = .ok (.iinc 4 1, 3) := dk_132 4 1 (dk_at dksX5_next_5 10 rfl rfl)
theorem dX5_next_126 : decode cX5_next 126 = .ok (.goto (-96), 3) := dk_167 255 160 (dk_at dksX5_next_5 13 rfl rfl)
theorem dX5_next_129 : decode cX5_next 129 = .ok (.iload_n 2, 1) := dk_28 (dk_at dksX5_next_5 16 rfl rfl)
theorem dX5_next_130 : decode cX5_next 130 = .ok (.ireturn, 1) := dk_172 (dk_at dksX5_next_5 17 rfl rfl)
abbrev cX5_years : ByteArray := prog_26_method_116_code
def yX5_years : MethodName := ⟨RX5, "years", "(III)I"⟩
def dkwX5_years_6 : List UInt8 := [167, 0, 5, 21, 5, 172]
abbrev dktX5_years_6 : List UInt8 := dkwX5_years_6 ++ []
def dkwX5_years_5 : List UInt8 := [167, 255, 203, 29, 154, 0, 8, 21, 4, 167, 0, 20, 29, 4, 160, 0, 13, 42, 17, 4, 208, 182, 1, 232]
abbrev dktX5_years_5 : List UInt8 := dkwX5_years_5 ++ dktX5_years_6
def dkwX5_years_4 : List UInt8 := [54, 5, 132, 7, 1, 167, 255, 234, 21, 4, 42, 17, 4, 208, 182, 1, 142, 96, 54, 4, 132, 6, 1]
abbrev dktX5_years_4 : List UInt8 := dkwX5_years_4 ++ dktX5_years_5
def dkwX5_years_3 : List UInt8 := [182, 1, 229, 3, 54, 7, 21, 7, 16, 10, 162, 0, 21, 21, 5, 42, 17, 4, 208, 182, 1, 139, 96]
abbrev dktX5_years_3 : List UInt8 := dkwX5_years_3 ++ dktX5_years_4
def dkwX5_years_2 : List UInt8 := [42, 27, 133, 181, 1, 214, 3, 54, 4, 3, 54, 5, 3, 54, 6, 21, 6, 28, 162, 0, 53, 42]
abbrev dktX5_years_2 : List UInt8 := dkwX5_years_2 ++ dktX5_years_3
def dkwX5_years_1 : List UInt8 := [153, 0, 12, 29, 3, 5, 184, 0, 241, 154, 0, 5, 2, 172, 42, 3, 17, 4, 208, 16, 43, 182, 1, 83]
abbrev dktX5_years_1 : List UInt8 := dkwX5_years_1 ++ dktX5_years_2
def dkwX5_years_0 : List UInt8 := [42, 3, 181, 0, 1, 27, 3, 17, 39, 15, 184, 0, 241, 153, 0, 22, 28, 4, 16, 30, 184, 0, 241]
abbrev dktX5_years_0 : List UInt8 := dkwX5_years_0 ++ dktX5_years_1
theorem dksX5_years_0 : cX5_years.data.toList.drop 0 = dktX5_years_0 := by decide +kernel
theorem dksX5_years_1 : cX5_years.data.toList.drop 23 = dktX5_years_1 := dk_seg dksX5_years_0 23 rfl rfl
theorem dksX5_years_2 : cX5_years.data.toList.drop 47 = dktX5_years_2 := dk_seg dksX5_years_1 24 rfl rfl
theorem dksX5_years_3 : cX5_years.data.toList.drop 69 = dktX5_years_3 := dk_seg dksX5_years_2 22 rfl rfl
theorem dksX5_years_4 : cX5_years.data.toList.drop 92 = dktX5_years_4 := dk_seg dksX5_years_3 23 rfl rfl
theorem dksX5_years_5 : cX5_years.data.toList.drop 115 = dktX5_years_5 := dk_seg dksX5_years_4 23 rfl rfl
theorem dksX5_years_6 : cX5_years.data.toList.drop 139 = dktX5_years_6 := dk_seg dksX5_years_5 24 rfl rfl
theorem dX5_years_0 : decode cX5_years 0 = .ok (.aload_n 0, 1) := dk_42 (dk_at dksX5_years_0 0 rfl rfl)
theorem dX5_years_1 : decode cX5_years 1 = .ok (.iconst 0, 1) := dk_3 (dk_at dksX5_years_0 1 rfl rfl)
theorem dX5_years_2 : decode cX5_years 2 = .ok (.putfield 1, 3) := dk_181 0 1 (dk_at dksX5_years_0 2 rfl rfl)
theorem dX5_years_5 : decode cX5_years 5 = .ok (.iload_n 1, 1) := dk_27 (dk_at dksX5_years_0 5 rfl rfl)
theorem dX5_years_6 : decode cX5_years 6 = .ok (.iconst 0, 1) := dk_3 (dk_at dksX5_years_0 6 rfl rfl)
theorem dX5_years_7 : decode cX5_years 7 = .ok (.sipush 9999, 3) := dk_17 39 15 (dk_at dksX5_years_0 7 rfl rfl)
theorem dX5_years_10 : decode cX5_years 10 = .ok (.invokestatic 241, 3) := dk_184 0 241 (dk_at dksX5_years_0 10 rfl rfl)
theorem dX5_years_13 : decode cX5_years 13 = .ok (.ifCond .eq 22, 3) := dk_153 0 22 (dk_at dksX5_years_0 13 rfl rfl)
theorem dX5_years_16 : decode cX5_years 16 = .ok (.iload_n 2, 1) := dk_28 (dk_at dksX5_years_0 16 rfl rfl)
theorem dX5_years_17 : decode cX5_years 17 = .ok (.iconst 1, 1) := dk_4 (dk_at dksX5_years_0 17 rfl rfl)
theorem dX5_years_18 : decode cX5_years 18 = .ok (.bipush 30, 2) := dk_16 30 (dk_at dksX5_years_0 18 rfl rfl)
theorem dX5_years_20 : decode cX5_years 20 = .ok (.invokestatic 241, 3) := dk_184 0 241 (dk_at dksX5_years_0 20 rfl rfl)
theorem dX5_years_23 : decode cX5_years 23 = .ok (.ifCond .eq 12, 3) := dk_153 0 12 (dk_at dksX5_years_1 0 rfl rfl)
theorem dX5_years_26 : decode cX5_years 26 = .ok (.iload_n 3, 1) := dk_29 (dk_at dksX5_years_1 3 rfl rfl)
theorem dX5_years_27 : decode cX5_years 27 = .ok (.iconst 0, 1) := dk_3 (dk_at dksX5_years_1 4 rfl rfl)
theorem dX5_years_28 : decode cX5_years 28 = .ok (.iconst 2, 1) := dk_5 (dk_at dksX5_years_1 5 rfl rfl)
theorem dX5_years_29 : decode cX5_years 29 = .ok (.invokestatic 241, 3) := dk_184 0 241 (dk_at dksX5_years_1 6 rfl rfl)
theorem dX5_years_32 : decode cX5_years 32 = .ok (.ifCond .ne 5, 3) := dk_154 0 5 (dk_at dksX5_years_1 9 rfl rfl)
theorem dX5_years_35 : decode cX5_years 35 = .ok (.iconst (-1), 1) := dk_2 (dk_at dksX5_years_1 12 rfl rfl)
theorem dX5_years_36 : decode cX5_years 36 = .ok (.ireturn, 1) := dk_172 (dk_at dksX5_years_1 13 rfl rfl)
theorem dX5_years_37 : decode cX5_years 37 = .ok (.aload_n 0, 1) := dk_42 (dk_at dksX5_years_1 14 rfl rfl)
theorem dX5_years_38 : decode cX5_years 38 = .ok (.iconst 0, 1) := dk_3 (dk_at dksX5_years_1 15 rfl rfl)
theorem dX5_years_39 : decode cX5_years 39 = .ok (.sipush 1232, 3) := dk_17 4 208 (dk_at dksX5_years_1 16 rfl rfl)
theorem dX5_years_42 : decode cX5_years 42 = .ok (.bipush 43, 2) := dk_16 43 (dk_at dksX5_years_1 19 rfl rfl)
theorem dX5_years_44 : decode cX5_years 44 = .ok (.invokevirtual 339, 3) := dk_182 1 83 (dk_at dksX5_years_1 21 rfl rfl)
theorem dX5_years_47 : decode cX5_years 47 = .ok (.aload_n 0, 1) := dk_42 (dk_at dksX5_years_2 0 rfl rfl)
theorem dX5_years_48 : decode cX5_years 48 = .ok (.iload_n 1, 1) := dk_27 (dk_at dksX5_years_2 1 rfl rfl)
theorem dX5_years_49 : decode cX5_years 49 = .ok (.i2l, 1) := dk_133 (dk_at dksX5_years_2 2 rfl rfl)
theorem dX5_years_50 : decode cX5_years 50 = .ok (.putfield 470, 3) := dk_181 1 214 (dk_at dksX5_years_2 3 rfl rfl)
theorem dX5_years_53 : decode cX5_years 53 = .ok (.iconst 0, 1) := dk_3 (dk_at dksX5_years_2 6 rfl rfl)
theorem dX5_years_54 : decode cX5_years 54 = .ok (.istore 4, 2) := dk_54 4 (dk_at dksX5_years_2 7 rfl rfl)
theorem dX5_years_56 : decode cX5_years 56 = .ok (.iconst 0, 1) := dk_3 (dk_at dksX5_years_2 9 rfl rfl)
theorem dX5_years_57 : decode cX5_years 57 = .ok (.istore 5, 2) := dk_54 5 (dk_at dksX5_years_2 10 rfl rfl)
theorem dX5_years_59 : decode cX5_years 59 = .ok (.iconst 0, 1) := dk_3 (dk_at dksX5_years_2 12 rfl rfl)
theorem dX5_years_60 : decode cX5_years 60 = .ok (.istore 6, 2) := dk_54 6 (dk_at dksX5_years_2 13 rfl rfl)
theorem dX5_years_62 : decode cX5_years 62 = .ok (.iload 6, 2) := dk_21 6 (dk_at dksX5_years_2 15 rfl rfl)
theorem dX5_years_64 : decode cX5_years 64 = .ok (.iload_n 2, 1) := dk_28 (dk_at dksX5_years_2 17 rfl rfl)
theorem dX5_years_65 : decode cX5_years 65 = .ok (.if_icmp .ge 53, 3) := dk_162 0 53 (dk_at dksX5_years_2 18 rfl rfl)
theorem dX5_years_68 : decode cX5_years 68 = .ok (.aload_n 0, 1) := dk_42 (dk_at dksX5_years_2 21 rfl rfl)
theorem dX5_years_69 : decode cX5_years 69 = .ok (.invokevirtual 485, 3) := dk_182 1 229 (dk_at dksX5_years_3 0 rfl rfl)
theorem dX5_years_72 : decode cX5_years 72 = .ok (.iconst 0, 1) := dk_3 (dk_at dksX5_years_3 3 rfl rfl)
theorem dX5_years_73 : decode cX5_years 73 = .ok (.istore 7, 2) := dk_54 7 (dk_at dksX5_years_3 4 rfl rfl)
theorem dX5_years_75 : decode cX5_years 75 = .ok (.iload 7, 2) := dk_21 7 (dk_at dksX5_years_3 6 rfl rfl)
theorem dX5_years_77 : decode cX5_years 77 = .ok (.bipush 10, 2) := dk_16 10 (dk_at dksX5_years_3 8 rfl rfl)
theorem dX5_years_79 : decode cX5_years 79 = .ok (.if_icmp .ge 21, 3) := dk_162 0 21 (dk_at dksX5_years_3 10 rfl rfl)
theorem dX5_years_82 : decode cX5_years 82 = .ok (.iload 5, 2) := dk_21 5 (dk_at dksX5_years_3 13 rfl rfl)
theorem dX5_years_84 : decode cX5_years 84 = .ok (.aload_n 0, 1) := dk_42 (dk_at dksX5_years_3 15 rfl rfl)
theorem dX5_years_85 : decode cX5_years 85 = .ok (.sipush 1232, 3) := dk_17 4 208 (dk_at dksX5_years_3 16 rfl rfl)
theorem dX5_years_88 : decode cX5_years 88 = .ok (.invokevirtual 395, 3) := dk_182 1 139 (dk_at dksX5_years_3 19 rfl rfl)
theorem dX5_years_91 : decode cX5_years 91 = .ok (.iadd, 1) := dk_96 (dk_at dksX5_years_3 22 rfl rfl)
theorem dX5_years_92 : decode cX5_years 92 = .ok (.istore 5, 2) := dk_54 5 (dk_at dksX5_years_4 0 rfl rfl)
theorem dX5_years_94 : decode cX5_years 94 = .ok (.iinc 7 1, 3) := dk_132 7 1 (dk_at dksX5_years_4 2 rfl rfl)
theorem dX5_years_97 : decode cX5_years 97 = .ok (.goto (-22), 3) := dk_167 255 234 (dk_at dksX5_years_4 5 rfl rfl)
theorem dX5_years_100 : decode cX5_years 100 = .ok (.iload 4, 2) := dk_21 4 (dk_at dksX5_years_4 8 rfl rfl)
theorem dX5_years_102 : decode cX5_years 102 = .ok (.aload_n 0, 1) := dk_42 (dk_at dksX5_years_4 10 rfl rfl)
theorem dX5_years_103 : decode cX5_years 103 = .ok (.sipush 1232, 3) := dk_17 4 208 (dk_at dksX5_years_4 11 rfl rfl)
theorem dX5_years_106 : decode cX5_years 106 = .ok (.invokevirtual 398, 3) := dk_182 1 142 (dk_at dksX5_years_4 14 rfl rfl)
theorem dX5_years_109 : decode cX5_years 109 = .ok (.iadd, 1) := dk_96 (dk_at dksX5_years_4 17 rfl rfl)
theorem dX5_years_110 : decode cX5_years 110 = .ok (.istore 4, 2) := dk_54 4 (dk_at dksX5_years_4 18 rfl rfl)
theorem dX5_years_112 : decode cX5_years 112 = .ok (.iinc 6 1, 3) := dk_132 6 1 (dk_at dksX5_years_4 20 rfl rfl)
theorem dX5_years_115 : decode cX5_years 115 = .ok (.goto (-53), 3) := dk_167 255 203 (dk_at dksX5_years_5 0 rfl rfl)
theorem dX5_years_118 : decode cX5_years 118 = .ok (.iload_n 3, 1) := dk_29 (dk_at dksX5_years_5 3 rfl rfl)
theorem dX5_years_119 : decode cX5_years 119 = .ok (.ifCond .ne 8, 3) := dk_154 0 8 (dk_at dksX5_years_5 4 rfl rfl)
theorem dX5_years_122 : decode cX5_years 122 = .ok (.iload 4, 2) := dk_21 4 (dk_at dksX5_years_5 7 rfl rfl)
theorem dX5_years_124 : decode cX5_years 124 = .ok (.goto 20, 3) := dk_167 0 20 (dk_at dksX5_years_5 9 rfl rfl)
theorem dX5_years_127 : decode cX5_years 127 = .ok (.iload_n 3, 1) := dk_29 (dk_at dksX5_years_5 12 rfl rfl)
theorem dX5_years_128 : decode cX5_years 128 = .ok (.iconst 1, 1) := dk_4 (dk_at dksX5_years_5 13 rfl rfl)
theorem dX5_years_129 : decode cX5_years 129 = .ok (.if_icmp .ne 13, 3) := dk_160 0 13 (dk_at dksX5_years_5 14 rfl rfl)
theorem dX5_years_132 : decode cX5_years 132 = .ok (.aload_n 0, 1) := dk_42 (dk_at dksX5_years_5 17 rfl rfl)
theorem dX5_years_133 : decode cX5_years 133 = .ok (.sipush 1232, 3) := dk_17 4 208 (dk_at dksX5_years_5 18 rfl rfl)
theorem dX5_years_136 : decode cX5_years 136 = .ok (.invokevirtual 488, 3) := dk_182 1 232 (dk_at dksX5_years_5 21 rfl rfl)
theorem dX5_years_139 : decode cX5_years 139 = .ok (.goto 5, 3) := dk_167 0 5 (dk_at dksX5_years_6 0 rfl rfl)
theorem dX5_years_142 : decode cX5_years 142 = .ok (.iload 5, 2) := dk_21 5 (dk_at dksX5_years_6 3 rfl rfl)
theorem dX5_years_144 : decode cX5_years 144 = .ok (.ireturn, 1) := dk_172 (dk_at dksX5_years_6 5 rfl rfl)
abbrev cX5_drawsActs : ByteArray := prog_26_method_114_code
def yX5_drawsActs : MethodName := ⟨RX5, "drawsActs", "()V"⟩
def dkwX5_drawsActs_3 : List UInt8 := [180, 0, 141, 17, 4, 227, 27, 96, 42, 180, 0, 111, 7, 46, 79, 132, 1, 1, 167, 255, 169, 177]
abbrev dktX5_drawsActs_3 : List UInt8 := dkwX5_drawsActs_3 ++ []
def dkwX5_drawsActs_2 : List UInt8 := [4, 160, 0, 16, 42, 17, 4, 208, 27, 16, 30, 182, 1, 136, 167, 0, 24, 28, 5, 160, 0, 19, 42]
abbrev dktX5_drawsActs_2 : List UInt8 := dkwX5_drawsActs_2 ++ dktX5_drawsActs_3
def dkwX5_drawsActs_1 : List UInt8 := [182, 1, 226, 167, 0, 4, 8, 61, 28, 154, 0, 14, 42, 17, 4, 208, 27, 182, 1, 133, 167, 0, 42, 28]
abbrev dktX5_drawsActs_1 : List UInt8 := dkwX5_drawsActs_1 ++ dktX5_drawsActs_2
def dkwX5_drawsActs_0 : List UInt8 := [3, 60, 27, 42, 182, 1, 67, 162, 0, 85, 42, 17, 4, 208, 27, 182, 1, 93, 153, 0, 12, 42, 16, 6]
abbrev dktX5_drawsActs_0 : List UInt8 := dkwX5_drawsActs_0 ++ dktX5_drawsActs_1
theorem dksX5_drawsActs_0 : cX5_drawsActs.data.toList.drop 0 = dktX5_drawsActs_0 := by decide +kernel
theorem dksX5_drawsActs_1 : cX5_drawsActs.data.toList.drop 24 = dktX5_drawsActs_1 := dk_seg dksX5_drawsActs_0 24 rfl rfl
theorem dksX5_drawsActs_2 : cX5_drawsActs.data.toList.drop 48 = dktX5_drawsActs_2 := dk_seg dksX5_drawsActs_1 24 rfl rfl
theorem dksX5_drawsActs_3 : cX5_drawsActs.data.toList.drop 71 = dktX5_drawsActs_3 := dk_seg dksX5_drawsActs_2 23 rfl rfl
theorem dX5_drawsActs_0 : decode cX5_drawsActs 0 = .ok (.iconst 0, 1) := dk_3 (dk_at dksX5_drawsActs_0 0 rfl rfl)
theorem dX5_drawsActs_1 : decode cX5_drawsActs 1 = .ok (.istore_n 1, 1) := dk_60 (dk_at dksX5_drawsActs_0 1 rfl rfl)
theorem dX5_drawsActs_2 : decode cX5_drawsActs 2 = .ok (.iload_n 1, 1) := dk_27 (dk_at dksX5_drawsActs_0 2 rfl rfl)
theorem dX5_drawsActs_3 : decode cX5_drawsActs 3 = .ok (.aload_n 0, 1) := dk_42 (dk_at dksX5_drawsActs_0 3 rfl rfl)
theorem dX5_drawsActs_4 : decode cX5_drawsActs 4 = .ok (.invokevirtual 323, 3) := dk_182 1 67 (dk_at dksX5_drawsActs_0 4 rfl rfl)
theorem dX5_drawsActs_7 : decode cX5_drawsActs 7 = .ok (.if_icmp .ge 85, 3) := dk_162 0 85 (dk_at dksX5_drawsActs_0 7 rfl rfl)
theorem dX5_drawsActs_10 : decode cX5_drawsActs 10 = .ok (.aload_n 0, 1) := dk_42 (dk_at dksX5_drawsActs_0 10 rfl rfl)
theorem dX5_drawsActs_11 : decode cX5_drawsActs 11 = .ok (.sipush 1232, 3) := dk_17 4 208 (dk_at dksX5_drawsActs_0 11 rfl rfl)
theorem dX5_drawsActs_14 : decode cX5_drawsActs 14 = .ok (.iload_n 1, 1) := dk_27 (dk_at dksX5_drawsActs_0 14 rfl rfl)
theorem dX5_drawsActs_15 : decode cX5_drawsActs 15 = .ok (.invokevirtual 349, 3) := dk_182 1 93 (dk_at dksX5_drawsActs_0 15 rfl rfl)
theorem dX5_drawsActs_18 : decode cX5_drawsActs 18 = .ok (.ifCond .eq 12, 3) := dk_153 0 12 (dk_at dksX5_drawsActs_0 18 rfl rfl)
theorem dX5_drawsActs_21 : decode cX5_drawsActs 21 = .ok (.aload_n 0, 1) := dk_42 (dk_at dksX5_drawsActs_0 21 rfl rfl)
theorem dX5_drawsActs_22 : decode cX5_drawsActs 22 = .ok (.bipush 6, 2) := dk_16 6 (dk_at dksX5_drawsActs_0 22 rfl rfl)
theorem dX5_drawsActs_24 : decode cX5_drawsActs 24 = .ok (.invokevirtual 482, 3) := dk_182 1 226 (dk_at dksX5_drawsActs_1 0 rfl rfl)
theorem dX5_drawsActs_27 : decode cX5_drawsActs 27 = .ok (.goto 4, 3) := dk_167 0 4 (dk_at dksX5_drawsActs_1 3 rfl rfl)
theorem dX5_drawsActs_30 : decode cX5_drawsActs 30 = .ok (.iconst 5, 1) := dk_8 (dk_at dksX5_drawsActs_1 6 rfl rfl)
theorem dX5_drawsActs_31 : decode cX5_drawsActs 31 = .ok (.istore_n 2, 1) := dk_61 (dk_at dksX5_drawsActs_1 7 rfl rfl)
theorem dX5_drawsActs_32 : decode cX5_drawsActs 32 = .ok (.iload_n 2, 1) := dk_28 (dk_at dksX5_drawsActs_1 8 rfl rfl)
theorem dX5_drawsActs_33 : decode cX5_drawsActs 33 = .ok (.ifCond .ne 14, 3) := dk_154 0 14 (dk_at dksX5_drawsActs_1 9 rfl rfl)
theorem dX5_drawsActs_36 : decode cX5_drawsActs 36 = .ok (.aload_n 0, 1) := dk_42 (dk_at dksX5_drawsActs_1 12 rfl rfl)
theorem dX5_drawsActs_37 : decode cX5_drawsActs 37 = .ok (.sipush 1232, 3) := dk_17 4 208 (dk_at dksX5_drawsActs_1 13 rfl rfl)
theorem dX5_drawsActs_40 : decode cX5_drawsActs 40 = .ok (.iload_n 1, 1) := dk_27 (dk_at dksX5_drawsActs_1 16 rfl rfl)
theorem dX5_drawsActs_41 : decode cX5_drawsActs 41 = .ok (.invokevirtual 389, 3) := dk_182 1 133 (dk_at dksX5_drawsActs_1 17 rfl rfl)
theorem dX5_drawsActs_44 : decode cX5_drawsActs 44 = .ok (.goto 42, 3) := dk_167 0 42 (dk_at dksX5_drawsActs_1 20 rfl rfl)
theorem dX5_drawsActs_47 : decode cX5_drawsActs 47 = .ok (.iload_n 2, 1) := dk_28 (dk_at dksX5_drawsActs_1 23 rfl rfl)
theorem dX5_drawsActs_48 : decode cX5_drawsActs 48 = .ok (.iconst 1, 1) := dk_4 (dk_at dksX5_drawsActs_2 0 rfl rfl)
theorem dX5_drawsActs_49 : decode cX5_drawsActs 49 = .ok (.if_icmp .ne 16, 3) := dk_160 0 16 (dk_at dksX5_drawsActs_2 1 rfl rfl)
theorem dX5_drawsActs_52 : decode cX5_drawsActs 52 = .ok (.aload_n 0, 1) := dk_42 (dk_at dksX5_drawsActs_2 4 rfl rfl)
theorem dX5_drawsActs_53 : decode cX5_drawsActs 53 = .ok (.sipush 1232, 3) := dk_17 4 208 (dk_at dksX5_drawsActs_2 5 rfl rfl)
theorem dX5_drawsActs_56 : decode cX5_drawsActs 56 = .ok (.iload_n 1, 1) := dk_27 (dk_at dksX5_drawsActs_2 8 rfl rfl)
theorem dX5_drawsActs_57 : decode cX5_drawsActs 57 = .ok (.bipush 30, 2) := dk_16 30 (dk_at dksX5_drawsActs_2 9 rfl rfl)
theorem dX5_drawsActs_59 : decode cX5_drawsActs 59 = .ok (.invokevirtual 392, 3) := dk_182 1 136 (dk_at dksX5_drawsActs_2 11 rfl rfl)
theorem dX5_drawsActs_62 : decode cX5_drawsActs 62 = .ok (.goto 24, 3) := dk_167 0 24 (dk_at dksX5_drawsActs_2 14 rfl rfl)
theorem dX5_drawsActs_65 : decode cX5_drawsActs 65 = .ok (.iload_n 2, 1) := dk_28 (dk_at dksX5_drawsActs_2 17 rfl rfl)
theorem dX5_drawsActs_66 : decode cX5_drawsActs 66 = .ok (.iconst 2, 1) := dk_5 (dk_at dksX5_drawsActs_2 18 rfl rfl)
theorem dX5_drawsActs_67 : decode cX5_drawsActs 67 = .ok (.if_icmp .ne 19, 3) := dk_160 0 19 (dk_at dksX5_drawsActs_2 19 rfl rfl)
theorem dX5_drawsActs_70 : decode cX5_drawsActs 70 = .ok (.aload_n 0, 1) := dk_42 (dk_at dksX5_drawsActs_2 22 rfl rfl)
theorem dX5_drawsActs_71 : decode cX5_drawsActs 71 = .ok (.getfield 141, 3) := dk_180 0 141 (dk_at dksX5_drawsActs_3 0 rfl rfl)
theorem dX5_drawsActs_74 : decode cX5_drawsActs 74 = .ok (.sipush 1251, 3) := dk_17 4 227 (dk_at dksX5_drawsActs_3 3 rfl rfl)
theorem dX5_drawsActs_77 : decode cX5_drawsActs 77 = .ok (.iload_n 1, 1) := dk_27 (dk_at dksX5_drawsActs_3 6 rfl rfl)
theorem dX5_drawsActs_78 : decode cX5_drawsActs 78 = .ok (.iadd, 1) := dk_96 (dk_at dksX5_drawsActs_3 7 rfl rfl)
theorem dX5_drawsActs_79 : decode cX5_drawsActs 79 = .ok (.aload_n 0, 1) := dk_42 (dk_at dksX5_drawsActs_3 8 rfl rfl)
theorem dX5_drawsActs_80 : decode cX5_drawsActs 80 = .ok (.getfield 111, 3) := dk_180 0 111 (dk_at dksX5_drawsActs_3 9 rfl rfl)
theorem dX5_drawsActs_83 : decode cX5_drawsActs 83 = .ok (.iconst 4, 1) := dk_7 (dk_at dksX5_drawsActs_3 12 rfl rfl)
theorem dX5_drawsActs_84 : decode cX5_drawsActs 84 = .ok (.iaload, 1) := dk_46 (dk_at dksX5_drawsActs_3 13 rfl rfl)
theorem dX5_drawsActs_85 : decode cX5_drawsActs 85 = .ok (.iastore, 1) := dk_79 (dk_at dksX5_drawsActs_3 14 rfl rfl)
theorem dX5_drawsActs_86 : decode cX5_drawsActs 86 = .ok (.iinc 1 1, 3) := dk_132 1 1 (dk_at dksX5_drawsActs_3 15 rfl rfl)
theorem dX5_drawsActs_89 : decode cX5_drawsActs 89 = .ok (.goto (-87), 3) := dk_167 255 169 (dk_at dksX5_drawsActs_3 18 rfl rfl)
theorem dX5_drawsActs_92 : decode cX5_drawsActs 92 = .ok (.return_, 1) := dk_177 (dk_at dksX5_drawsActs_3 21 rfl rfl)
abbrev cX5_draw : ByteArray := prog_26_method_113_code
def yX5_draw : MethodName := ⟨RX5, "draw", "(I)I"⟩
def dkwX5_draw_1 : List UInt8 := [20, 1, 224, 109, 27, 133, 113, 136, 172]
abbrev dktX5_draw_1 : List UInt8 := dkwX5_draw_1 ++ []
def dkwX5_draw_0 : List UInt8 := [42, 42, 180, 1, 214, 20, 1, 218, 105, 20, 1, 220, 97, 20, 1, 222, 113, 181, 1, 214, 42, 180, 1, 214]
abbrev dktX5_draw_0 : List UInt8 := dkwX5_draw_0 ++ dktX5_draw_1
theorem dksX5_draw_0 : cX5_draw.data.toList.drop 0 = dktX5_draw_0 := by decide +kernel
theorem dksX5_draw_1 : cX5_draw.data.toList.drop 24 = dktX5_draw_1 := dk_seg dksX5_draw_0 24 rfl rfl
theorem dX5_draw_0 : decode cX5_draw 0 = .ok (.aload_n 0, 1) := dk_42 (dk_at dksX5_draw_0 0 rfl rfl)
theorem dX5_draw_1 : decode cX5_draw 1 = .ok (.aload_n 0, 1) := dk_42 (dk_at dksX5_draw_0 1 rfl rfl)
theorem dX5_draw_2 : decode cX5_draw 2 = .ok (.getfield 470, 3) := dk_180 1 214 (dk_at dksX5_draw_0 2 rfl rfl)
theorem dX5_draw_5 : decode cX5_draw 5 = .ok (.ldc2_w 474, 3) := dk_20 1 218 (dk_at dksX5_draw_0 5 rfl rfl)
theorem dX5_draw_8 : decode cX5_draw 8 = .ok (.lmul, 1) := dk_105 (dk_at dksX5_draw_0 8 rfl rfl)
theorem dX5_draw_9 : decode cX5_draw 9 = .ok (.ldc2_w 476, 3) := dk_20 1 220 (dk_at dksX5_draw_0 9 rfl rfl)
theorem dX5_draw_12 : decode cX5_draw 12 = .ok (.ladd, 1) := dk_97 (dk_at dksX5_draw_0 12 rfl rfl)
theorem dX5_draw_13 : decode cX5_draw 13 = .ok (.ldc2_w 478, 3) := dk_20 1 222 (dk_at dksX5_draw_0 13 rfl rfl)
theorem dX5_draw_16 : decode cX5_draw 16 = .ok (.lrem, 1) := dk_113 (dk_at dksX5_draw_0 16 rfl rfl)
theorem dX5_draw_17 : decode cX5_draw 17 = .ok (.putfield 470, 3) := dk_181 1 214 (dk_at dksX5_draw_0 17 rfl rfl)
theorem dX5_draw_20 : decode cX5_draw 20 = .ok (.aload_n 0, 1) := dk_42 (dk_at dksX5_draw_0 20 rfl rfl)
theorem dX5_draw_21 : decode cX5_draw 21 = .ok (.getfield 470, 3) := dk_180 1 214 (dk_at dksX5_draw_0 21 rfl rfl)
theorem dX5_draw_24 : decode cX5_draw 24 = .ok (.ldc2_w 480, 3) := dk_20 1 224 (dk_at dksX5_draw_1 0 rfl rfl)
theorem dX5_draw_27 : decode cX5_draw 27 = .ok (.ldiv, 1) := dk_109 (dk_at dksX5_draw_1 3 rfl rfl)
theorem dX5_draw_28 : decode cX5_draw 28 = .ok (.iload_n 1, 1) := dk_27 (dk_at dksX5_draw_1 4 rfl rfl)
theorem dX5_draw_29 : decode cX5_draw 29 = .ok (.i2l, 1) := dk_133 (dk_at dksX5_draw_1 5 rfl rfl)
theorem dX5_draw_30 : decode cX5_draw 30 = .ok (.lrem, 1) := dk_113 (dk_at dksX5_draw_1 6 rfl rfl)
theorem dX5_draw_31 : decode cX5_draw 31 = .ok (.l2i, 1) := dk_136 (dk_at dksX5_draw_1 7 rfl rfl)
theorem dX5_draw_32 : decode cX5_draw 32 = .ok (.ireturn, 1) := dk_172 (dk_at dksX5_draw_1 8 rfl rfl)
abbrev cX5_inMany : ByteArray := prog_26_method_115_code
def yX5_inMany : MethodName := ⟨RX5, "inMany", "(I)I"⟩
def dkwX5_inMany_1 : List UInt8 := [167, 0, 4, 3, 96, 61, 132, 3, 1, 167, 255, 228, 28, 172]
abbrev dktX5_inMany_1 : List UInt8 := dkwX5_inMany_1 ++ []
def dkwX5_inMany_0 : List UInt8 := [3, 61, 3, 62, 29, 42, 182, 1, 67, 162, 0, 26, 28, 42, 27, 29, 182, 1, 93, 153, 0, 7, 4]
abbrev dktX5_inMany_0 : List UInt8 := dkwX5_inMany_0 ++ dktX5_inMany_1
theorem dksX5_inMany_0 : cX5_inMany.data.toList.drop 0 = dktX5_inMany_0 := by decide +kernel
theorem dksX5_inMany_1 : cX5_inMany.data.toList.drop 23 = dktX5_inMany_1 := dk_seg dksX5_inMany_0 23 rfl rfl
theorem dX5_inMany_0 : decode cX5_inMany 0 = .ok (.iconst 0, 1) := dk_3 (dk_at dksX5_inMany_0 0 rfl rfl)
theorem dX5_inMany_1 : decode cX5_inMany 1 = .ok (.istore_n 2, 1) := dk_61 (dk_at dksX5_inMany_0 1 rfl rfl)
theorem dX5_inMany_2 : decode cX5_inMany 2 = .ok (.iconst 0, 1) := dk_3 (dk_at dksX5_inMany_0 2 rfl rfl)
theorem dX5_inMany_3 : decode cX5_inMany 3 = .ok (.istore_n 3, 1) := dk_62 (dk_at dksX5_inMany_0 3 rfl rfl)
theorem dX5_inMany_4 : decode cX5_inMany 4 = .ok (.iload_n 3, 1) := dk_29 (dk_at dksX5_inMany_0 4 rfl rfl)
theorem dX5_inMany_5 : decode cX5_inMany 5 = .ok (.aload_n 0, 1) := dk_42 (dk_at dksX5_inMany_0 5 rfl rfl)
theorem dX5_inMany_6 : decode cX5_inMany 6 = .ok (.invokevirtual 323, 3) := dk_182 1 67 (dk_at dksX5_inMany_0 6 rfl rfl)
theorem dX5_inMany_9 : decode cX5_inMany 9 = .ok (.if_icmp .ge 26, 3) := dk_162 0 26 (dk_at dksX5_inMany_0 9 rfl rfl)
theorem dX5_inMany_12 : decode cX5_inMany 12 = .ok (.iload_n 2, 1) := dk_28 (dk_at dksX5_inMany_0 12 rfl rfl)
theorem dX5_inMany_13 : decode cX5_inMany 13 = .ok (.aload_n 0, 1) := dk_42 (dk_at dksX5_inMany_0 13 rfl rfl)
theorem dX5_inMany_14 : decode cX5_inMany 14 = .ok (.iload_n 1, 1) := dk_27 (dk_at dksX5_inMany_0 14 rfl rfl)
theorem dX5_inMany_15 : decode cX5_inMany 15 = .ok (.iload_n 3, 1) := dk_29 (dk_at dksX5_inMany_0 15 rfl rfl)
theorem dX5_inMany_16 : decode cX5_inMany 16 = .ok (.invokevirtual 349, 3) := dk_182 1 93 (dk_at dksX5_inMany_0 16 rfl rfl)
theorem dX5_inMany_19 : decode cX5_inMany 19 = .ok (.ifCond .eq 7, 3) := dk_153 0 7 (dk_at dksX5_inMany_0 19 rfl rfl)
theorem dX5_inMany_22 : decode cX5_inMany 22 = .ok (.iconst 1, 1) := dk_4 (dk_at dksX5_inMany_0 22 rfl rfl)
theorem dX5_inMany_23 : decode cX5_inMany 23 = .ok (.goto 4, 3) := dk_167 0 4 (dk_at dksX5_inMany_1 0 rfl rfl)
theorem dX5_inMany_26 : decode cX5_inMany 26 = .ok (.iconst 0, 1) := dk_3 (dk_at dksX5_inMany_1 3 rfl rfl)
theorem dX5_inMany_27 : decode cX5_inMany 27 = .ok (.iadd, 1) := dk_96 (dk_at dksX5_inMany_1 4 rfl rfl)
theorem dX5_inMany_28 : decode cX5_inMany 28 = .ok (.istore_n 2, 1) := dk_61 (dk_at dksX5_inMany_1 5 rfl rfl)
theorem dX5_inMany_29 : decode cX5_inMany 29 = .ok (.iinc 3 1, 3) := dk_132 3 1 (dk_at dksX5_inMany_1 6 rfl rfl)
theorem dX5_inMany_32 : decode cX5_inMany 32 = .ok (.goto (-28), 3) := dk_167 255 228 (dk_at dksX5_inMany_1 9 rfl rfl)
theorem dX5_inMany_35 : decode cX5_inMany 35 = .ok (.iload_n 2, 1) := dk_28 (dk_at dksX5_inMany_1 12 rfl rfl)
theorem dX5_inMany_36 : decode cX5_inMany 36 = .ok (.ireturn, 1) := dk_172 (dk_at dksX5_inMany_1 13 rfl rfl)
abbrev cX5_mark : ByteArray := prog_26_method_117_code
def yX5_mark : MethodName := ⟨RX5, "mark", "(IZ)Z"⟩
def dkwX5_mark_3 : List UInt8 := [28, 153, 0, 7, 3, 167, 0, 7, 42, 180, 1, 80, 181, 1, 80, 4, 172]
abbrev dktX5_mark_3 : List UInt8 := dkwX5_mark_3 ++ []
def dkwX5_mark_2 : List UInt8 := [167, 0, 4, 3, 28, 153, 0, 7, 3, 167, 0, 9, 16, 56, 4, 27, 96, 104, 16, 56, 182, 1, 83, 42]
abbrev dktX5_mark_2 : List UInt8 := dkwX5_mark_2 ++ dktX5_mark_3
def dkwX5_mark_1 : List UInt8 := [154, 0, 5, 3, 172, 42, 180, 0, 144, 27, 4, 84, 42, 28, 153, 0, 12, 16, 56, 4, 27, 96, 104]
abbrev dktX5_mark_1 : List UInt8 := dkwX5_mark_1 ++ dktX5_mark_2
def dkwX5_mark_0 : List UInt8 := [42, 3, 181, 0, 1, 27, 3, 6, 184, 0, 241, 153, 0, 16, 28, 153, 0, 14, 42, 180, 0, 144, 27, 51]
abbrev dktX5_mark_0 : List UInt8 := dkwX5_mark_0 ++ dktX5_mark_1
theorem dksX5_mark_0 : cX5_mark.data.toList.drop 0 = dktX5_mark_0 := by decide +kernel
theorem dksX5_mark_1 : cX5_mark.data.toList.drop 24 = dktX5_mark_1 := dk_seg dksX5_mark_0 24 rfl rfl
theorem dksX5_mark_2 : cX5_mark.data.toList.drop 47 = dktX5_mark_2 := dk_seg dksX5_mark_1 23 rfl rfl
theorem dksX5_mark_3 : cX5_mark.data.toList.drop 71 = dktX5_mark_3 := dk_seg dksX5_mark_2 24 rfl rfl
theorem dX5_mark_0 : decode cX5_mark 0 = .ok (.aload_n 0, 1) := dk_42 (dk_at dksX5_mark_0 0 rfl rfl)
theorem dX5_mark_1 : decode cX5_mark 1 = .ok (.iconst 0, 1) := dk_3 (dk_at dksX5_mark_0 1 rfl rfl)
theorem dX5_mark_2 : decode cX5_mark 2 = .ok (.putfield 1, 3) := dk_181 0 1 (dk_at dksX5_mark_0 2 rfl rfl)
theorem dX5_mark_5 : decode cX5_mark 5 = .ok (.iload_n 1, 1) := dk_27 (dk_at dksX5_mark_0 5 rfl rfl)
theorem dX5_mark_6 : decode cX5_mark 6 = .ok (.iconst 0, 1) := dk_3 (dk_at dksX5_mark_0 6 rfl rfl)
theorem dX5_mark_7 : decode cX5_mark 7 = .ok (.iconst 3, 1) := dk_6 (dk_at dksX5_mark_0 7 rfl rfl)
theorem dX5_mark_8 : decode cX5_mark 8 = .ok (.invokestatic 241, 3) := dk_184 0 241 (dk_at dksX5_mark_0 8 rfl rfl)
theorem dX5_mark_11 : decode cX5_mark 11 = .ok (.ifCond .eq 16, 3) := dk_153 0 16 (dk_at dksX5_mark_0 11 rfl rfl)
theorem dX5_mark_14 : decode cX5_mark 14 = .ok (.iload_n 2, 1) := dk_28 (dk_at dksX5_mark_0 14 rfl rfl)
theorem dX5_mark_15 : decode cX5_mark 15 = .ok (.ifCond .eq 14, 3) := dk_153 0 14 (dk_at dksX5_mark_0 15 rfl rfl)
theorem dX5_mark_18 : decode cX5_mark 18 = .ok (.aload_n 0, 1) := dk_42 (dk_at dksX5_mark_0 18 rfl rfl)
theorem dX5_mark_19 : decode cX5_mark 19 = .ok (.getfield 144, 3) := dk_180 0 144 (dk_at dksX5_mark_0 19 rfl rfl)
theorem dX5_mark_22 : decode cX5_mark 22 = .ok (.iload_n 1, 1) := dk_27 (dk_at dksX5_mark_0 22 rfl rfl)
theorem dX5_mark_23 : decode cX5_mark 23 = .ok (.baload, 1) := dk_51 (dk_at dksX5_mark_0 23 rfl rfl)
theorem dX5_mark_24 : decode cX5_mark 24 = .ok (.ifCond .ne 5, 3) := dk_154 0 5 (dk_at dksX5_mark_1 0 rfl rfl)
theorem dX5_mark_27 : decode cX5_mark 27 = .ok (.iconst 0, 1) := dk_3 (dk_at dksX5_mark_1 3 rfl rfl)
theorem dX5_mark_28 : decode cX5_mark 28 = .ok (.ireturn, 1) := dk_172 (dk_at dksX5_mark_1 4 rfl rfl)
theorem dX5_mark_29 : decode cX5_mark 29 = .ok (.aload_n 0, 1) := dk_42 (dk_at dksX5_mark_1 5 rfl rfl)
theorem dX5_mark_30 : decode cX5_mark 30 = .ok (.getfield 144, 3) := dk_180 0 144 (dk_at dksX5_mark_1 6 rfl rfl)
theorem dX5_mark_33 : decode cX5_mark 33 = .ok (.iload_n 1, 1) := dk_27 (dk_at dksX5_mark_1 9 rfl rfl)
theorem dX5_mark_34 : decode cX5_mark 34 = .ok (.iconst 1, 1) := dk_4 (dk_at dksX5_mark_1 10 rfl rfl)
theorem dX5_mark_35 : decode cX5_mark 35 = .ok (.bastore, 1) := dk_84 (dk_at dksX5_mark_1 11 rfl rfl)
theorem dX5_mark_36 : decode cX5_mark 36 = .ok (.aload_n 0, 1) := dk_42 (dk_at dksX5_mark_1 12 rfl rfl)
theorem dX5_mark_37 : decode cX5_mark 37 = .ok (.iload_n 2, 1) := dk_28 (dk_at dksX5_mark_1 13 rfl rfl)
theorem dX5_mark_38 : decode cX5_mark 38 = .ok (.ifCond .eq 12, 3) := dk_153 0 12 (dk_at dksX5_mark_1 14 rfl rfl)
theorem dX5_mark_41 : decode cX5_mark 41 = .ok (.bipush 56, 2) := dk_16 56 (dk_at dksX5_mark_1 17 rfl rfl)
theorem dX5_mark_43 : decode cX5_mark 43 = .ok (.iconst 1, 1) := dk_4 (dk_at dksX5_mark_1 19 rfl rfl)
theorem dX5_mark_44 : decode cX5_mark 44 = .ok (.iload_n 1, 1) := dk_27 (dk_at dksX5_mark_1 20 rfl rfl)
theorem dX5_mark_45 : decode cX5_mark 45 = .ok (.iadd, 1) := dk_96 (dk_at dksX5_mark_1 21 rfl rfl)
theorem dX5_mark_46 : decode cX5_mark 46 = .ok (.imul, 1) := dk_104 (dk_at dksX5_mark_1 22 rfl rfl)
theorem dX5_mark_47 : decode cX5_mark 47 = .ok (.goto 4, 3) := dk_167 0 4 (dk_at dksX5_mark_2 0 rfl rfl)
theorem dX5_mark_50 : decode cX5_mark 50 = .ok (.iconst 0, 1) := dk_3 (dk_at dksX5_mark_2 3 rfl rfl)
theorem dX5_mark_51 : decode cX5_mark 51 = .ok (.iload_n 2, 1) := dk_28 (dk_at dksX5_mark_2 4 rfl rfl)
theorem dX5_mark_52 : decode cX5_mark 52 = .ok (.ifCond .eq 7, 3) := dk_153 0 7 (dk_at dksX5_mark_2 5 rfl rfl)
theorem dX5_mark_55 : decode cX5_mark 55 = .ok (.iconst 0, 1) := dk_3 (dk_at dksX5_mark_2 8 rfl rfl)
theorem dX5_mark_56 : decode cX5_mark 56 = .ok (.goto 9, 3) := dk_167 0 9 (dk_at dksX5_mark_2 9 rfl rfl)
theorem dX5_mark_59 : decode cX5_mark 59 = .ok (.bipush 56, 2) := dk_16 56 (dk_at dksX5_mark_2 12 rfl rfl)
theorem dX5_mark_61 : decode cX5_mark 61 = .ok (.iconst 1, 1) := dk_4 (dk_at dksX5_mark_2 14 rfl rfl)
theorem dX5_mark_62 : decode cX5_mark 62 = .ok (.iload_n 1, 1) := dk_27 (dk_at dksX5_mark_2 15 rfl rfl)
theorem dX5_mark_63 : decode cX5_mark 63 = .ok (.iadd, 1) := dk_96 (dk_at dksX5_mark_2 16 rfl rfl)
theorem dX5_mark_64 : decode cX5_mark 64 = .ok (.imul, 1) := dk_104 (dk_at dksX5_mark_2 17 rfl rfl)
theorem dX5_mark_65 : decode cX5_mark 65 = .ok (.bipush 56, 2) := dk_16 56 (dk_at dksX5_mark_2 18 rfl rfl)
theorem dX5_mark_67 : decode cX5_mark 67 = .ok (.invokevirtual 339, 3) := dk_182 1 83 (dk_at dksX5_mark_2 20 rfl rfl)
theorem dX5_mark_70 : decode cX5_mark 70 = .ok (.aload_n 0, 1) := dk_42 (dk_at dksX5_mark_2 23 rfl rfl)
theorem dX5_mark_71 : decode cX5_mark 71 = .ok (.iload_n 2, 1) := dk_28 (dk_at dksX5_mark_3 0 rfl rfl)
theorem dX5_mark_72 : decode cX5_mark 72 = .ok (.ifCond .eq 7, 3) := dk_153 0 7 (dk_at dksX5_mark_3 1 rfl rfl)
theorem dX5_mark_75 : decode cX5_mark 75 = .ok (.iconst 0, 1) := dk_3 (dk_at dksX5_mark_3 4 rfl rfl)
theorem dX5_mark_76 : decode cX5_mark 76 = .ok (.goto 7, 3) := dk_167 0 7 (dk_at dksX5_mark_3 5 rfl rfl)
theorem dX5_mark_79 : decode cX5_mark 79 = .ok (.aload_n 0, 1) := dk_42 (dk_at dksX5_mark_3 8 rfl rfl)
theorem dX5_mark_80 : decode cX5_mark 80 = .ok (.getfield 336, 3) := dk_180 1 80 (dk_at dksX5_mark_3 9 rfl rfl)
theorem dX5_mark_83 : decode cX5_mark 83 = .ok (.putfield 336, 3) := dk_181 1 80 (dk_at dksX5_mark_3 12 rfl rfl)
theorem dX5_mark_86 : decode cX5_mark 86 = .ok (.iconst 1, 1) := dk_4 (dk_at dksX5_mark_3 15 rfl rfl)
theorem dX5_mark_87 : decode cX5_mark 87 = .ok (.ireturn, 1) := dk_172 (dk_at dksX5_mark_3 16 rfl rfl)
abbrev cX5_count : ByteArray := prog_26_method_119_code
def yX5_count : MethodName := ⟨RX5, "count", "(I)I"⟩
def dkwX5_count_5 : List UInt8 := [180, 1, 80, 172, 42, 180, 0, 11, 172, 2, 172]
abbrev dktX5_count_5 : List UInt8 := dkwX5_count_5 ++ []
def dkwX5_count_4 : List UInt8 := [180, 0, 111, 8, 46, 172, 42, 180, 0, 132, 3, 46, 172, 42, 180, 0, 141, 16, 43, 46, 172, 42]
abbrev dktX5_count_4 : List UInt8 := dkwX5_count_4 ++ dktX5_count_5
def dkwX5_count_3 : List UInt8 := [182, 1, 235, 172, 42, 3, 182, 1, 232, 172, 42, 3, 182, 1, 151, 172, 42, 180, 0, 111, 6, 46, 172, 42]
abbrev dktX5_count_3 : List UInt8 := dkwX5_count_3 ++ dktX5_count_4
def dkwX5_count_2 : List UInt8 := [42, 182, 1, 87, 172, 42, 182, 1, 67, 172, 42, 182, 1, 154, 172, 42, 180, 0, 141, 3, 46, 172, 42]
abbrev dktX5_count_2 : List UInt8 := dkwX5_count_2 ++ dktX5_count_3
def dkwX5_count_1 : List UInt8 := [170, 0, 0, 0, 0, 144, 0, 0, 0, 0, 0, 0, 0, 12, 0, 0, 0, 66, 0, 0, 0, 71, 0, 0, 0, 76, 0, 0, 0, 81, 0, 0, 0, 88, 0, 0, 0, 93, 0, 0, 0, 99, 0, 0, 0, 105, 0, 0, 0, 112, 0, 0, 0, 119, 0, 0, 0, 126, 0, 0, 0, 134, 0, 0, 0, 139]
abbrev dktX5_count_1 : List UInt8 := dkwX5_count_1 ++ dktX5_count_2
def dkwX5_count_0 : List UInt8 := [42, 3, 181, 0, 1, 27]
abbrev dktX5_count_0 : List UInt8 := dkwX5_count_0 ++ dktX5_count_1
theorem dksX5_count_0 : cX5_count.data.toList.drop 0 = dktX5_count_0 := by decide +kernel
theorem dksX5_count_1 : cX5_count.data.toList.drop 6 = dktX5_count_1 := dk_seg dksX5_count_0 6 rfl rfl
theorem dksX5_count_2 : cX5_count.data.toList.drop 72 = dktX5_count_2 := dk_seg dksX5_count_1 66 rfl rfl
theorem dksX5_count_3 : cX5_count.data.toList.drop 95 = dktX5_count_3 := dk_seg dksX5_count_2 23 rfl rfl
theorem dksX5_count_4 : cX5_count.data.toList.drop 119 = dktX5_count_4 := dk_seg dksX5_count_3 24 rfl rfl
theorem dksX5_count_5 : cX5_count.data.toList.drop 141 = dktX5_count_5 := dk_seg dksX5_count_4 22 rfl rfl
theorem dX5_count_0 : decode cX5_count 0 = .ok (.aload_n 0, 1) := dk_42 (dk_at dksX5_count_0 0 rfl rfl)
theorem dX5_count_1 : decode cX5_count 1 = .ok (.iconst 0, 1) := dk_3 (dk_at dksX5_count_0 1 rfl rfl)
theorem dX5_count_2 : decode cX5_count 2 = .ok (.putfield 1, 3) := dk_181 0 1 (dk_at dksX5_count_0 2 rfl rfl)
theorem dX5_count_5 : decode cX5_count 5 = .ok (.iload_n 1, 1) := dk_27 (dk_at dksX5_count_0 5 rfl rfl)
theorem dX5_count_6 : decode cX5_count 6 = .ok (.tableswitch 144 0 12 #[66, 71, 76, 81, 88, 93, 99, 105, 112, 119, 126, 134, 139], 66) := by decide +kernel
theorem dX5_count_72 : decode cX5_count 72 = .ok (.aload_n 0, 1) := dk_42 (dk_at dksX5_count_2 0 rfl rfl)
theorem dX5_count_73 : decode cX5_count 73 = .ok (.invokevirtual 343, 3) := dk_182 1 87 (dk_at dksX5_count_2 1 rfl rfl)
theorem dX5_count_76 : decode cX5_count 76 = .ok (.ireturn, 1) := dk_172 (dk_at dksX5_count_2 4 rfl rfl)
theorem dX5_count_77 : decode cX5_count 77 = .ok (.aload_n 0, 1) := dk_42 (dk_at dksX5_count_2 5 rfl rfl)
theorem dX5_count_78 : decode cX5_count 78 = .ok (.invokevirtual 323, 3) := dk_182 1 67 (dk_at dksX5_count_2 6 rfl rfl)
theorem dX5_count_81 : decode cX5_count 81 = .ok (.ireturn, 1) := dk_172 (dk_at dksX5_count_2 9 rfl rfl)
theorem dX5_count_82 : decode cX5_count 82 = .ok (.aload_n 0, 1) := dk_42 (dk_at dksX5_count_2 10 rfl rfl)
theorem dX5_count_83 : decode cX5_count 83 = .ok (.invokevirtual 410, 3) := dk_182 1 154 (dk_at dksX5_count_2 11 rfl rfl)
theorem dX5_count_86 : decode cX5_count 86 = .ok (.ireturn, 1) := dk_172 (dk_at dksX5_count_2 14 rfl rfl)
theorem dX5_count_87 : decode cX5_count 87 = .ok (.aload_n 0, 1) := dk_42 (dk_at dksX5_count_2 15 rfl rfl)
theorem dX5_count_88 : decode cX5_count 88 = .ok (.getfield 141, 3) := dk_180 0 141 (dk_at dksX5_count_2 16 rfl rfl)
theorem dX5_count_91 : decode cX5_count 91 = .ok (.iconst 0, 1) := dk_3 (dk_at dksX5_count_2 19 rfl rfl)
theorem dX5_count_92 : decode cX5_count 92 = .ok (.iaload, 1) := dk_46 (dk_at dksX5_count_2 20 rfl rfl)
theorem dX5_count_93 : decode cX5_count 93 = .ok (.ireturn, 1) := dk_172 (dk_at dksX5_count_2 21 rfl rfl)
theorem dX5_count_94 : decode cX5_count 94 = .ok (.aload_n 0, 1) := dk_42 (dk_at dksX5_count_2 22 rfl rfl)
theorem dX5_count_95 : decode cX5_count 95 = .ok (.invokevirtual 491, 3) := dk_182 1 235 (dk_at dksX5_count_3 0 rfl rfl)
theorem dX5_count_98 : decode cX5_count 98 = .ok (.ireturn, 1) := dk_172 (dk_at dksX5_count_3 3 rfl rfl)
theorem dX5_count_99 : decode cX5_count 99 = .ok (.aload_n 0, 1) := dk_42 (dk_at dksX5_count_3 4 rfl rfl)
theorem dX5_count_100 : decode cX5_count 100 = .ok (.iconst 0, 1) := dk_3 (dk_at dksX5_count_3 5 rfl rfl)
theorem dX5_count_101 : decode cX5_count 101 = .ok (.invokevirtual 488, 3) := dk_182 1 232 (dk_at dksX5_count_3 6 rfl rfl)
theorem dX5_count_104 : decode cX5_count 104 = .ok (.ireturn, 1) := dk_172 (dk_at dksX5_count_3 9 rfl rfl)
theorem dX5_count_105 : decode cX5_count 105 = .ok (.aload_n 0, 1) := dk_42 (dk_at dksX5_count_3 10 rfl rfl)
theorem dX5_count_106 : decode cX5_count 106 = .ok (.iconst 0, 1) := dk_3 (dk_at dksX5_count_3 11 rfl rfl)
theorem dX5_count_107 : decode cX5_count 107 = .ok (.invokevirtual 407, 3) := dk_182 1 151 (dk_at dksX5_count_3 12 rfl rfl)
theorem dX5_count_110 : decode cX5_count 110 = .ok (.ireturn, 1) := dk_172 (dk_at dksX5_count_3 15 rfl rfl)
theorem dX5_count_111 : decode cX5_count 111 = .ok (.aload_n 0, 1) := dk_42 (dk_at dksX5_count_3 16 rfl rfl)
theorem dX5_count_112 : decode cX5_count 112 = .ok (.getfield 111, 3) := dk_180 0 111 (dk_at dksX5_count_3 17 rfl rfl)
theorem dX5_count_115 : decode cX5_count 115 = .ok (.iconst 3, 1) := dk_6 (dk_at dksX5_count_3 20 rfl rfl)
theorem dX5_count_116 : decode cX5_count 116 = .ok (.iaload, 1) := dk_46 (dk_at dksX5_count_3 21 rfl rfl)
theorem dX5_count_117 : decode cX5_count 117 = .ok (.ireturn, 1) := dk_172 (dk_at dksX5_count_3 22 rfl rfl)
theorem dX5_count_118 : decode cX5_count 118 = .ok (.aload_n 0, 1) := dk_42 (dk_at dksX5_count_3 23 rfl rfl)
theorem dX5_count_119 : decode cX5_count 119 = .ok (.getfield 111, 3) := dk_180 0 111 (dk_at dksX5_count_4 0 rfl rfl)
theorem dX5_count_122 : decode cX5_count 122 = .ok (.iconst 5, 1) := dk_8 (dk_at dksX5_count_4 3 rfl rfl)
theorem dX5_count_123 : decode cX5_count 123 = .ok (.iaload, 1) := dk_46 (dk_at dksX5_count_4 4 rfl rfl)
theorem dX5_count_124 : decode cX5_count 124 = .ok (.ireturn, 1) := dk_172 (dk_at dksX5_count_4 5 rfl rfl)
theorem dX5_count_125 : decode cX5_count 125 = .ok (.aload_n 0, 1) := dk_42 (dk_at dksX5_count_4 6 rfl rfl)
theorem dX5_count_126 : decode cX5_count 126 = .ok (.getfield 132, 3) := dk_180 0 132 (dk_at dksX5_count_4 7 rfl rfl)
theorem dX5_count_129 : decode cX5_count 129 = .ok (.iconst 0, 1) := dk_3 (dk_at dksX5_count_4 10 rfl rfl)
theorem dX5_count_130 : decode cX5_count 130 = .ok (.iaload, 1) := dk_46 (dk_at dksX5_count_4 11 rfl rfl)
theorem dX5_count_131 : decode cX5_count 131 = .ok (.ireturn, 1) := dk_172 (dk_at dksX5_count_4 12 rfl rfl)
theorem dX5_count_132 : decode cX5_count 132 = .ok (.aload_n 0, 1) := dk_42 (dk_at dksX5_count_4 13 rfl rfl)
theorem dX5_count_133 : decode cX5_count 133 = .ok (.getfield 141, 3) := dk_180 0 141 (dk_at dksX5_count_4 14 rfl rfl)
theorem dX5_count_136 : decode cX5_count 136 = .ok (.bipush 43, 2) := dk_16 43 (dk_at dksX5_count_4 17 rfl rfl)
theorem dX5_count_138 : decode cX5_count 138 = .ok (.iaload, 1) := dk_46 (dk_at dksX5_count_4 19 rfl rfl)
theorem dX5_count_139 : decode cX5_count 139 = .ok (.ireturn, 1) := dk_172 (dk_at dksX5_count_4 20 rfl rfl)
theorem dX5_count_140 : decode cX5_count 140 = .ok (.aload_n 0, 1) := dk_42 (dk_at dksX5_count_4 21 rfl rfl)
theorem dX5_count_141 : decode cX5_count 141 = .ok (.getfield 336, 3) := dk_180 1 80 (dk_at dksX5_count_5 0 rfl rfl)
theorem dX5_count_144 : decode cX5_count 144 = .ok (.ireturn, 1) := dk_172 (dk_at dksX5_count_5 3 rfl rfl)
theorem dX5_count_145 : decode cX5_count 145 = .ok (.aload_n 0, 1) := dk_42 (dk_at dksX5_count_5 4 rfl rfl)
theorem dX5_count_146 : decode cX5_count 146 = .ok (.getfield 11, 3) := dk_180 0 11 (dk_at dksX5_count_5 5 rfl rfl)
theorem dX5_count_149 : decode cX5_count 149 = .ok (.ireturn, 1) := dk_172 (dk_at dksX5_count_5 8 rfl rfl)
theorem dX5_count_150 : decode cX5_count 150 = .ok (.iconst (-1), 1) := dk_2 (dk_at dksX5_count_5 9 rfl rfl)
theorem dX5_count_151 : decode cX5_count 151 = .ok (.ireturn, 1) := dk_172 (dk_at dksX5_count_5 10 rfl rfl)
abbrev cX5_coinsOfAll : ByteArray := prog_26_method_118_code
def yX5_coinsOfAll : MethodName := ⟨RX5, "coinsOfAll", "()I"⟩
def dkwX5_coinsOfAll_1 : List UInt8 := [132, 2, 1, 167, 255, 233, 27, 172]
abbrev dktX5_coinsOfAll_1 : List UInt8 := dkwX5_coinsOfAll_1 ++ []
def dkwX5_coinsOfAll_0 : List UInt8 := [3, 60, 3, 61, 28, 42, 182, 1, 67, 162, 0, 21, 27, 42, 180, 0, 141, 16, 31, 28, 96, 46, 96, 60]
abbrev dktX5_coinsOfAll_0 : List UInt8 := dkwX5_coinsOfAll_0 ++ dktX5_coinsOfAll_1
theorem dksX5_coinsOfAll_0 : cX5_coinsOfAll.data.toList.drop 0 = dktX5_coinsOfAll_0 := by decide +kernel
theorem dksX5_coinsOfAll_1 : cX5_coinsOfAll.data.toList.drop 24 = dktX5_coinsOfAll_1 := dk_seg dksX5_coinsOfAll_0 24 rfl rfl
theorem dX5_coinsOfAll_0 : decode cX5_coinsOfAll 0 = .ok (.iconst 0, 1) := dk_3 (dk_at dksX5_coinsOfAll_0 0 rfl rfl)
theorem dX5_coinsOfAll_1 : decode cX5_coinsOfAll 1 = .ok (.istore_n 1, 1) := dk_60 (dk_at dksX5_coinsOfAll_0 1 rfl rfl)
theorem dX5_coinsOfAll_2 : decode cX5_coinsOfAll 2 = .ok (.iconst 0, 1) := dk_3 (dk_at dksX5_coinsOfAll_0 2 rfl rfl)
theorem dX5_coinsOfAll_3 : decode cX5_coinsOfAll 3 = .ok (.istore_n 2, 1) := dk_61 (dk_at dksX5_coinsOfAll_0 3 rfl rfl)
theorem dX5_coinsOfAll_4 : decode cX5_coinsOfAll 4 = .ok (.iload_n 2, 1) := dk_28 (dk_at dksX5_coinsOfAll_0 4 rfl rfl)
theorem dX5_coinsOfAll_5 : decode cX5_coinsOfAll 5 = .ok (.aload_n 0, 1) := dk_42 (dk_at dksX5_coinsOfAll_0 5 rfl rfl)
theorem dX5_coinsOfAll_6 : decode cX5_coinsOfAll 6 = .ok (.invokevirtual 323, 3) := dk_182 1 67 (dk_at dksX5_coinsOfAll_0 6 rfl rfl)
theorem dX5_coinsOfAll_9 : decode cX5_coinsOfAll 9 = .ok (.if_icmp .ge 21, 3) := dk_162 0 21 (dk_at dksX5_coinsOfAll_0 9 rfl rfl)
theorem dX5_coinsOfAll_12 : decode cX5_coinsOfAll 12 = .ok (.iload_n 1, 1) := dk_27 (dk_at dksX5_coinsOfAll_0 12 rfl rfl)
theorem dX5_coinsOfAll_13 : decode cX5_coinsOfAll 13 = .ok (.aload_n 0, 1) := dk_42 (dk_at dksX5_coinsOfAll_0 13 rfl rfl)
theorem dX5_coinsOfAll_14 : decode cX5_coinsOfAll 14 = .ok (.getfield 141, 3) := dk_180 0 141 (dk_at dksX5_coinsOfAll_0 14 rfl rfl)
theorem dX5_coinsOfAll_17 : decode cX5_coinsOfAll 17 = .ok (.bipush 31, 2) := dk_16 31 (dk_at dksX5_coinsOfAll_0 17 rfl rfl)
theorem dX5_coinsOfAll_19 : decode cX5_coinsOfAll 19 = .ok (.iload_n 2, 1) := dk_28 (dk_at dksX5_coinsOfAll_0 19 rfl rfl)
theorem dX5_coinsOfAll_20 : decode cX5_coinsOfAll 20 = .ok (.iadd, 1) := dk_96 (dk_at dksX5_coinsOfAll_0 20 rfl rfl)
theorem dX5_coinsOfAll_21 : decode cX5_coinsOfAll 21 = .ok (.iaload, 1) := dk_46 (dk_at dksX5_coinsOfAll_0 21 rfl rfl)
theorem dX5_coinsOfAll_22 : decode cX5_coinsOfAll 22 = .ok (.iadd, 1) := dk_96 (dk_at dksX5_coinsOfAll_0 22 rfl rfl)
theorem dX5_coinsOfAll_23 : decode cX5_coinsOfAll 23 = .ok (.istore_n 1, 1) := dk_60 (dk_at dksX5_coinsOfAll_0 23 rfl rfl)
theorem dX5_coinsOfAll_24 : decode cX5_coinsOfAll 24 = .ok (.iinc 2 1, 3) := dk_132 2 1 (dk_at dksX5_coinsOfAll_1 0 rfl rfl)
theorem dX5_coinsOfAll_27 : decode cX5_coinsOfAll 27 = .ok (.goto (-23), 3) := dk_167 255 233 (dk_at dksX5_coinsOfAll_1 3 rfl rfl)
theorem dX5_coinsOfAll_30 : decode cX5_coinsOfAll 30 = .ok (.iload_n 1, 1) := dk_27 (dk_at dksX5_coinsOfAll_1 6 rfl rfl)
theorem dX5_coinsOfAll_31 : decode cX5_coinsOfAll 31 = .ok (.ireturn, 1) := dk_172 (dk_at dksX5_coinsOfAll_1 7 rfl rfl)
theorem q144 : (Jvm.Cond.initialized "PulseRentModel") ∈ lw_all := lw_g (lw_at lw_m1 10 rfl) rfl
theorem q954 : (Jvm.Cond.selects "PulseRentModel" ({ cls := "java/lang/Object", name := "getClass", desc := "()Ljava/lang/Class;" } : Jvm.MethodName) ({ cls := "java/lang/Object", name := "getClass", desc := "()Ljava/lang/Class;" } : Jvm.MethodName)) ∈ lw_all := lw_g (lw_at lw_m4 100 rfl) rfl
theorem q1720 : (Jvm.Cond.instanceMethod ({ cls := "PulseRentModel", name := "thrown", desc := "()I" } : Jvm.MethodName)) ∈ lw_all := lw_g (lw_at lw_m7 146 rfl) rfl
theorem q1721 : (Jvm.Cond.selects "PulseRentModel" ({ cls := "PulseRentModel", name := "thrown", desc := "()I" } : Jvm.MethodName) ({ cls := "PulseRentModel", name := "thrown", desc := "()I" } : Jvm.MethodName)) ∈ lw_all := lw_g (lw_at lw_m7 147 rfl) rfl
theorem q1722 : (Jvm.Cond.code ({ cls := "PulseRentModel", name := "thrown", desc := "()I" } : Jvm.MethodName) prog_26_method_1_code (1 : Nat) (Option.some Jvm.ClassFile.FieldType.int)) ∈ lw_all := lw_g (lw_at lw_m7 148 rfl) rfl
theorem q1724 : (Jvm.Cond.instanceMethod ({ cls := "PulseRentModel", name := "feed", desc := "(JJJ)I" } : Jvm.MethodName)) ∈ lw_all := lw_g (lw_at lw_m7 150 rfl) rfl
theorem q1725 : (Jvm.Cond.selects "PulseRentModel" ({ cls := "PulseRentModel", name := "feed", desc := "(JJJ)I" } : Jvm.MethodName) ({ cls := "PulseRentModel", name := "feed", desc := "(JJJ)I" } : Jvm.MethodName)) ∈ lw_all := lw_g (lw_at lw_m7 151 rfl) rfl
theorem q1726 : (Jvm.Cond.code ({ cls := "PulseRentModel", name := "feed", desc := "(JJJ)I" } : Jvm.MethodName) prog_26_method_2_code (7 : Nat) (Option.some Jvm.ClassFile.FieldType.int)) ∈ lw_all := lw_g (lw_at lw_m7 152 rfl) rfl
theorem q1727 : (Jvm.Cond.methodLink "PulseRentModel" (7 : Nat) ({ cls := "PulseRentModel", name := "lay", desc := "(J)V" } : Jvm.MethodName)) ∈ lw_all := lw_g (lw_at lw_m7 153 rfl) rfl
theorem q1728 : (Jvm.Cond.privateMethod ({ cls := "PulseRentModel", name := "lay", desc := "(J)V" } : Jvm.MethodName)) ∈ lw_tbl := lw_at lw_m7 154 rfl
theorem q1729 : (Jvm.Cond.instanceMethod ({ cls := "PulseRentModel", name := "lay", desc := "(J)V" } : Jvm.MethodName)) ∈ lw_all := lw_g (lw_at lw_m7 155 rfl) rfl
theorem q1730 : (Jvm.Cond.instantiable "PulseRentModel" (40 : Nat)) ∈ lw_all := lw_g (lw_at lw_m7 156 rfl) rfl
theorem q1731 : (Jvm.Cond.code ({ cls := "PulseRentModel", name := "lay", desc := "(J)V" } : Jvm.MethodName) prog_26_method_3_code (5 : Nat) (Option.none : Option Jvm.ClassFile.FieldType)) ∈ lw_all := lw_g (lw_at lw_m7 157 rfl) rfl
theorem q1734 : (Jvm.Cond.instanceMethod ({ cls := "PulseRentModel", name := "<init>", desc := "()V" } : Jvm.MethodName)) ∈ lw_all := lw_g (lw_at lw_m7 160 rfl) rfl
theorem q1735 : (Jvm.Cond.code ({ cls := "PulseRentModel", name := "<init>", desc := "()V" } : Jvm.MethodName) prog_26_method_4_code (1 : Nat) (Option.none : Option Jvm.ClassFile.FieldType)) ∈ lw_all := lw_g (lw_at lw_m7 161 rfl) rfl
theorem q1736 : (Jvm.Cond.methodLink "PulseRentModel" (18 : Nat) ({ cls := "java/lang/Object", name := "<init>", desc := "()V" } : Jvm.MethodName)) ∈ lw_all := lw_g (lw_at lw_m7 162 rfl) rfl
theorem q1737 : (Jvm.Cond.constantLong "PulseRentModel" (34 : Nat) (932857 : Int64)) ∈ lw_all := lw_g (lw_at lw_m7 163 rfl) rfl
theorem q1738 : (Jvm.Cond.constantLong "PulseRentModel" (36 : Nat) (1355082062 : Int64)) ∈ lw_all := lw_g (lw_at lw_m7 164 rfl) rfl
theorem q1739 : (Jvm.Cond.constantLong "PulseRentModel" (38 : Nat) (27011078 : Int64)) ∈ lw_all := lw_g (lw_at lw_m7 165 rfl) rfl
theorem q1740 : (Jvm.Cond.constantLong "PulseRentModel" (40 : Nat) (103383 : Int64)) ∈ lw_all := lw_g (lw_at lw_m7 166 rfl) rfl
theorem q1741 : (Jvm.Cond.constantLong "PulseRentModel" (42 : Nat) (1396960994 : Int64)) ∈ lw_all := lw_g (lw_at lw_m7 167 rfl) rfl
theorem q1742 : (Jvm.Cond.constantLong "PulseRentModel" (44 : Nat) (919322 : Int64)) ∈ lw_all := lw_g (lw_at lw_m7 168 rfl) rfl
theorem q1743 : (Jvm.Cond.constantLong "PulseRentModel" (46 : Nat) (153785 : Int64)) ∈ lw_all := lw_g (lw_at lw_m7 169 rfl) rfl
theorem q1744 : (Jvm.Cond.constantLong "PulseRentModel" (48 : Nat) (6395136 : Int64)) ∈ lw_all := lw_g (lw_at lw_m7 170 rfl) rfl
theorem q1745 : (Jvm.Cond.constantLong "PulseRentModel" (50 : Nat) (347 : Int64)) ∈ lw_all := lw_g (lw_at lw_m7 171 rfl) rfl
theorem q1746 : (Jvm.Cond.constantLong "PulseRentModel" (52 : Nat) (23280049 : Int64)) ∈ lw_all := lw_g (lw_at lw_m7 172 rfl) rfl
theorem q1747 : (Jvm.Cond.constantLong "PulseRentModel" (54 : Nat) (381368328 : Int64)) ∈ lw_all := lw_g (lw_at lw_m7 173 rfl) rfl
theorem q1748 : (Jvm.Cond.constantLong "PulseRentModel" (56 : Nat) (28930245 : Int64)) ∈ lw_all := lw_g (lw_at lw_m7 174 rfl) rfl
theorem q1749 : (Jvm.Cond.constantLong "PulseRentModel" (58 : Nat) (37549136 : Int64)) ∈ lw_all := lw_g (lw_at lw_m7 175 rfl) rfl
theorem q1750 : (Jvm.Cond.constantLong "PulseRentModel" (60 : Nat) (56296 : Int64)) ∈ lw_all := lw_g (lw_at lw_m7 176 rfl) rfl
theorem q1751 : (Jvm.Cond.constantLong "PulseRentModel" (62 : Nat) (236456608 : Int64)) ∈ lw_all := lw_g (lw_at lw_m7 177 rfl) rfl
theorem q1752 : (Jvm.Cond.constantLong "PulseRentModel" (64 : Nat) (22567355 : Int64)) ∈ lw_all := lw_g (lw_at lw_m7 178 rfl) rfl
theorem q1753 : (Jvm.Cond.constantLong "PulseRentModel" (66 : Nat) (10492707 : Int64)) ∈ lw_all := lw_g (lw_at lw_m7 179 rfl) rfl
theorem q1754 : (Jvm.Cond.constantLong "PulseRentModel" (68 : Nat) (6258 : Int64)) ∈ lw_all := lw_g (lw_at lw_m7 180 rfl) rfl
theorem q1755 : (Jvm.Cond.constantLong "PulseRentModel" (70 : Nat) (1178051 : Int64)) ∈ lw_all := lw_g (lw_at lw_m7 181 rfl) rfl
theorem q1756 : (Jvm.Cond.constantLong "PulseRentModel" (72 : Nat) (6243123 : Int64)) ∈ lw_all := lw_g (lw_at lw_m7 182 rfl) rfl
theorem q1757 : (Jvm.Cond.constantLong "PulseRentModel" (74 : Nat) (450264416 : Int64)) ∈ lw_all := lw_g (lw_at lw_m7 183 rfl) rfl
theorem q1758 : (Jvm.Cond.constantLong "PulseRentModel" (76 : Nat) (8421248 : Int64)) ∈ lw_all := lw_g (lw_at lw_m7 184 rfl) rfl
theorem q1759 : (Jvm.Cond.constantLong "PulseRentModel" (78 : Nat) (34005868481 : Int64)) ∈ lw_all := lw_g (lw_at lw_m7 185 rfl) rfl
theorem q1760 : (Jvm.Cond.constantLong "PulseRentModel" (80 : Nat) (730246 : Int64)) ∈ lw_all := lw_g (lw_at lw_m7 186 rfl) rfl
theorem q1761 : (Jvm.Cond.constantLong "PulseRentModel" (82 : Nat) (679843 : Int64)) ∈ lw_all := lw_g (lw_at lw_m7 187 rfl) rfl
theorem q1762 : (Jvm.Cond.constantLong "PulseRentModel" (84 : Nat) (30596128 : Int64)) ∈ lw_all := lw_g (lw_at lw_m7 188 rfl) rfl
theorem q1763 : (Jvm.Cond.constantLong "PulseRentModel" (86 : Nat) (679553 : Int64)) ∈ lw_all := lw_g (lw_at lw_m7 189 rfl) rfl
theorem q1764 : (Jvm.Cond.constantLong "PulseRentModel" (88 : Nat) (1288277118 : Int64)) ∈ lw_all := lw_g (lw_at lw_m7 190 rfl) rfl
theorem q1765 : (Jvm.Cond.constantLong "PulseRentModel" (90 : Nat) (974850 : Int64)) ∈ lw_all := lw_g (lw_at lw_m7 191 rfl) rfl
theorem q1766 : (Jvm.Cond.constantLong "PulseRentModel" (92 : Nat) (19741 : Int64)) ∈ lw_all := lw_g (lw_at lw_m7 192 rfl) rfl
theorem q1767 : (Jvm.Cond.constantLong "PulseRentModel" (94 : Nat) (1891 : Int64)) ∈ lw_all := lw_g (lw_at lw_m7 193 rfl) rfl
theorem q1768 : (Jvm.Cond.constantLong "PulseRentModel" (96 : Nat) (573 : Int64)) ∈ lw_all := lw_g (lw_at lw_m7 194 rfl) rfl
theorem q1769 : (Jvm.Cond.constantLong "PulseRentModel" (98 : Nat) (4003715 : Int64)) ∈ lw_all := lw_g (lw_at lw_m7 195 rfl) rfl
theorem q1770 : (Jvm.Cond.constantLong "PulseRentModel" (100 : Nat) (11873910 : Int64)) ∈ lw_all := lw_g (lw_at lw_m7 196 rfl) rfl
theorem q1771 : (Jvm.Cond.constantLong "PulseRentModel" (102 : Nat) (570026 : Int64)) ∈ lw_all := lw_g (lw_at lw_m7 197 rfl) rfl
theorem q1772 : (Jvm.Cond.constantLong "PulseRentModel" (104 : Nat) (36629575 : Int64)) ∈ lw_all := lw_g (lw_at lw_m7 198 rfl) rfl
theorem q1773 : (Jvm.Cond.constantLong "PulseRentModel" (106 : Nat) (629152 : Int64)) ∈ lw_all := lw_g (lw_at lw_m7 199 rfl) rfl
theorem q1774 : (Jvm.Cond.methodLink "PulseRentModel" (169 : Nat) ({ cls := "PulseRentModel", name := "standsAsAlways", desc := "(I)V" } : Jvm.MethodName)) ∈ lw_all := lw_g (lw_at lw_m7 200 rfl) rfl
theorem q1775 : (Jvm.Cond.privateMethod ({ cls := "PulseRentModel", name := "standsAsAlways", desc := "(I)V" } : Jvm.MethodName)) ∈ lw_tbl := lw_at lw_m7 201 rfl
theorem q1776 : (Jvm.Cond.instanceMethod ({ cls := "PulseRentModel", name := "standsAsAlways", desc := "(I)V" } : Jvm.MethodName)) ∈ lw_all := lw_g (lw_at lw_m7 202 rfl) rfl
theorem q1777 : (Jvm.Cond.code ({ cls := "PulseRentModel", name := "standsAsAlways", desc := "(I)V" } : Jvm.MethodName) prog_26_method_18_code (3 : Nat) (Option.none : Option Jvm.ClassFile.FieldType)) ∈ lw_all := lw_g (lw_at lw_m7 203 rfl) rfl
theorem q1778 : (Jvm.Cond.methodLink "PulseRentModel" (173 : Nat) ({ cls := "PulseRentModel", name := "begins", desc := "()V" } : Jvm.MethodName)) ∈ lw_all := lw_g (lw_at lw_m7 204 rfl) rfl
theorem q1779 : (Jvm.Cond.privateMethod ({ cls := "PulseRentModel", name := "begins", desc := "()V" } : Jvm.MethodName)) ∈ lw_tbl := lw_at lw_m7 205 rfl
theorem q1780 : (Jvm.Cond.instanceMethod ({ cls := "PulseRentModel", name := "begins", desc := "()V" } : Jvm.MethodName)) ∈ lw_all := lw_g (lw_at lw_m7 206 rfl) rfl
theorem q1781 : (Jvm.Cond.code ({ cls := "PulseRentModel", name := "begins", desc := "()V" } : Jvm.MethodName) prog_26_method_47_code (2 : Nat) (Option.none : Option Jvm.ClassFile.FieldType)) ∈ lw_all := lw_g (lw_at lw_m7 207 rfl) rfl
theorem q1782 : (Jvm.Cond.methodLink "PulseRentModel" (333 : Nat) ({ cls := "PulseRentModel", name := "starts", desc := "(I)V" } : Jvm.MethodName)) ∈ lw_all := lw_g (lw_at lw_m7 208 rfl) rfl
theorem q1783 : (Jvm.Cond.privateMethod ({ cls := "PulseRentModel", name := "starts", desc := "(I)V" } : Jvm.MethodName)) ∈ lw_tbl := lw_at lw_m7 209 rfl
theorem q1784 : (Jvm.Cond.instanceMethod ({ cls := "PulseRentModel", name := "starts", desc := "(I)V" } : Jvm.MethodName)) ∈ lw_all := lw_g (lw_at lw_m7 210 rfl) rfl
theorem q1785 : (Jvm.Cond.code ({ cls := "PulseRentModel", name := "starts", desc := "(I)V" } : Jvm.MethodName) prog_26_method_46_code (3 : Nat) (Option.none : Option Jvm.ClassFile.FieldType)) ∈ lw_all := lw_g (lw_at lw_m7 211 rfl) rfl
theorem q1786 : (Jvm.Cond.methodLink "PulseRentModel" (323 : Nat) ({ cls := "PulseRentModel", name := "tenants", desc := "()I" } : Jvm.MethodName)) ∈ lw_all := lw_g (lw_at lw_m7 212 rfl) rfl
theorem q1787 : (Jvm.Cond.privateMethod ({ cls := "PulseRentModel", name := "tenants", desc := "()I" } : Jvm.MethodName)) ∈ lw_tbl := lw_at lw_m7 213 rfl
theorem q1788 : (Jvm.Cond.instanceMethod ({ cls := "PulseRentModel", name := "tenants", desc := "()I" } : Jvm.MethodName)) ∈ lw_all := lw_g (lw_at lw_m7 214 rfl) rfl
theorem q1789 : (Jvm.Cond.code ({ cls := "PulseRentModel", name := "tenants", desc := "()I" } : Jvm.MethodName) prog_26_method_50_code (1 : Nat) (Option.some Jvm.ClassFile.FieldType.int)) ∈ lw_all := lw_g (lw_at lw_m7 215 rfl) rfl
theorem q1790 : (Jvm.Cond.methodLink "PulseRentModel" (327 : Nat) ({ cls := "PulseRentModel", name := "tenantOf", desc := "(II)I" } : Jvm.MethodName)) ∈ lw_all := lw_g (lw_at lw_m7 216 rfl) rfl
theorem q1791 : (Jvm.Cond.privateMethod ({ cls := "PulseRentModel", name := "tenantOf", desc := "(II)I" } : Jvm.MethodName)) ∈ lw_tbl := lw_at lw_m7 217 rfl
theorem q1792 : (Jvm.Cond.instanceMethod ({ cls := "PulseRentModel", name := "tenantOf", desc := "(II)I" } : Jvm.MethodName)) ∈ lw_all := lw_g (lw_at lw_m7 218 rfl) rfl
theorem q1793 : (Jvm.Cond.code ({ cls := "PulseRentModel", name := "tenantOf", desc := "(II)I" } : Jvm.MethodName) prog_26_method_53_code (3 : Nat) (Option.some Jvm.ClassFile.FieldType.int)) ∈ lw_all := lw_g (lw_at lw_m7 219 rfl) rfl
theorem q1794 : (Jvm.Cond.fieldLink "PulseRentModel" (1 : Nat) "PulseRentModel" "thrown" "I") ∈ lw_all := lw_g (lw_at lw_m7 220 rfl) rfl
theorem q1795 : (Jvm.Cond.fieldLink "PulseRentModel" (14 : Nat) "PulseRentModel" "tape" "[I") ∈ lw_all := lw_g (lw_at lw_m7 221 rfl) rfl
theorem q1796 : (Jvm.Cond.fieldLink "PulseRentModel" (11 : Nat) "PulseRentModel" "taped" "I") ∈ lw_all := lw_g (lw_at lw_m7 222 rfl) rfl
theorem q1797 : (Jvm.Cond.fieldLink "PulseRentModel" (180 : Nat) "PulseRentModel" "size" "I") ∈ lw_all := lw_g (lw_at lw_m7 223 rfl) rfl
theorem q1798 : (Jvm.Cond.fieldLink "PulseRentModel" (24 : Nat) "PulseRentModel" "sort" "[I") ∈ lw_all := lw_g (lw_at lw_m7 224 rfl) rfl
theorem q1799 : (Jvm.Cond.fieldLink "PulseRentModel" (27 : Nat) "PulseRentModel" "place" "[I") ∈ lw_all := lw_g (lw_at lw_m7 225 rfl) rfl
theorem q1800 : (Jvm.Cond.fieldLink "PulseRentModel" (30 : Nat) "PulseRentModel" "value" "[J") ∈ lw_all := lw_g (lw_at lw_m7 226 rfl) rfl
theorem q1801 : (Jvm.Cond.fieldLink "PulseRentModel" (199 : Nat) "PulseRentModel" "at" "I") ∈ lw_all := lw_g (lw_at lw_m7 227 rfl) rfl
theorem q1802 : (Jvm.Cond.fieldLink "PulseRentModel" (202 : Nat) "PulseRentModel" "fault" "I") ∈ lw_all := lw_g (lw_at lw_m7 228 rfl) rfl
theorem q1803 : (Jvm.Cond.fieldLink "PulseRentModel" (108 : Nat) "PulseRentModel" "words" "[J") ∈ lw_all := lw_g (lw_at lw_m7 229 rfl) rfl
theorem q1804 : (Jvm.Cond.fieldLink "PulseRentModel" (111 : Nat) "PulseRentModel" "housed" "[I") ∈ lw_all := lw_g (lw_at lw_m7 230 rfl) rfl
theorem q1805 : (Jvm.Cond.fieldLink "PulseRentModel" (114 : Nat) "PulseRentModel" "op" "[I") ∈ lw_all := lw_g (lw_at lw_m7 231 rfl) rfl
theorem q1806 : (Jvm.Cond.fieldLink "PulseRentModel" (117 : Nat) "PulseRentModel" "arg" "[I") ∈ lw_all := lw_g (lw_at lw_m7 232 rfl) rfl
theorem q1807 : (Jvm.Cond.fieldLink "PulseRentModel" (252 : Nat) "PulseRentModel" "codes" "I") ∈ lw_all := lw_g (lw_at lw_m7 233 rfl) rfl
theorem q1808 : (Jvm.Cond.fieldLink "PulseRentModel" (120 : Nat) "PulseRentModel" "names" "[J") ∈ lw_all := lw_g (lw_at lw_m7 234 rfl) rfl
theorem q1809 : (Jvm.Cond.fieldLink "PulseRentModel" (123 : Nat) "PulseRentModel" "readNames" "[J") ∈ lw_all := lw_g (lw_at lw_m7 235 rfl) rfl
theorem q1810 : (Jvm.Cond.fieldLink "PulseRentModel" (126 : Nat) "PulseRentModel" "nameOf" "[I") ∈ lw_all := lw_g (lw_at lw_m7 236 rfl) rfl
theorem q1811 : (Jvm.Cond.fieldLink "PulseRentModel" (129 : Nat) "PulseRentModel" "readNameOf" "[I") ∈ lw_all := lw_g (lw_at lw_m7 237 rfl) rfl
theorem q1812 : (Jvm.Cond.fieldLink "PulseRentModel" (230 : Nat) "PulseRentModel" "namesMany" "I") ∈ lw_all := lw_g (lw_at lw_m7 238 rfl) rfl
theorem q1813 : (Jvm.Cond.fieldLink "PulseRentModel" (227 : Nat) "PulseRentModel" "readMany" "I") ∈ lw_all := lw_g (lw_at lw_m7 239 rfl) rfl
theorem q1814 : (Jvm.Cond.fieldLink "PulseRentModel" (255 : Nat) "PulseRentModel" "once" "I") ∈ lw_all := lw_g (lw_at lw_m8 0 rfl) rfl
theorem q1815 : (Jvm.Cond.fieldLink "PulseRentModel" (292 : Nat) "PulseRentModel" "factsHere" "I") ∈ lw_all := lw_g (lw_at lw_m8 1 rfl) rfl
theorem q1816 : (Jvm.Cond.fieldLink "PulseRentModel" (132 : Nat) "PulseRentModel" "lines" "[I") ∈ lw_all := lw_g (lw_at lw_m8 2 rfl) rfl
theorem q1817 : (Jvm.Cond.fieldLink "PulseRentModel" (135 : Nat) "PulseRentModel" "facts" "[I") ∈ lw_all := lw_g (lw_at lw_m8 3 rfl) rfl
theorem q1818 : (Jvm.Cond.fieldLink "PulseRentModel" (138 : Nat) "PulseRentModel" "pile" "[I") ∈ lw_all := lw_g (lw_at lw_m8 4 rfl) rfl
theorem q1819 : (Jvm.Cond.fieldLink "PulseRentModel" (141 : Nat) "PulseRentModel" "state" "[I") ∈ lw_all := lw_g (lw_at lw_m8 5 rfl) rfl
theorem q1820 : (Jvm.Cond.fieldLink "PulseRentModel" (336 : Nat) "PulseRentModel" "undos" "I") ∈ lw_all := lw_g (lw_at lw_m8 6 rfl) rfl
theorem q1821 : (Jvm.Cond.fieldLink "PulseRentModel" (144 : Nat) "PulseRentModel" "isMarked" "[Z") ∈ lw_all := lw_g (lw_at lw_m8 7 rfl) rfl
theorem q1822 : (Jvm.Cond.fieldLink "PulseRentModel" (330 : Nat) "PulseRentModel" "brew" "I") ∈ lw_all := lw_g (lw_at lw_m8 8 rfl) rfl
theorem q1823 : (Jvm.Cond.fieldLink "PulseRentModel" (148 : Nat) "PulseRentModel" "order" "[I") ∈ lw_all := lw_g (lw_at lw_m8 9 rfl) rfl
theorem q1824 : (Jvm.Cond.fieldLink "PulseRentModel" (151 : Nat) "PulseRentModel" "bestOrder" "[I") ∈ lw_all := lw_g (lw_at lw_m8 10 rfl) rfl
theorem q1825 : (Jvm.Cond.fieldLink "PulseRentModel" (419 : Nat) "PulseRentModel" "fewest" "I") ∈ lw_all := lw_g (lw_at lw_m8 11 rfl) rfl
theorem q1826 : (Jvm.Cond.fieldLink "PulseRentModel" (154 : Nat) "PulseRentModel" "wishes" "[I") ∈ lw_all := lw_g (lw_at lw_m8 12 rfl) rfl
theorem q1827 : (Jvm.Cond.fieldLink "PulseRentModel" (157 : Nat) "PulseRentModel" "matched" "[I") ∈ lw_all := lw_g (lw_at lw_m8 13 rfl) rfl
theorem q1828 : (Jvm.Cond.fieldLink "PulseRentModel" (160 : Nat) "PulseRentModel" "askedRooms" "[I") ∈ lw_all := lw_g (lw_at lw_m8 14 rfl) rfl
theorem q1829 : (Jvm.Cond.fieldLink "PulseRentModel" (163 : Nat) "PulseRentModel" "dayBeats" "[I") ∈ lw_all := lw_g (lw_at lw_m8 15 rfl) rfl
theorem q1830 : (Jvm.Cond.fieldLink "PulseRentModel" (166 : Nat) "PulseRentModel" "alike" "[I") ∈ lw_all := lw_g (lw_at lw_m8 16 rfl) rfl
theorem q1831 : (Jvm.Cond.fieldLink "PulseRentModel" (458 : Nat) "PulseRentModel" "fitting" "I") ∈ lw_all := lw_g (lw_at lw_m8 17 rfl) rfl
theorem q1832 : (Jvm.Cond.fieldLink "PulseRentModel" (461 : Nat) "PulseRentModel" "firstDay" "I") ∈ lw_all := lw_g (lw_at lw_m8 18 rfl) rfl
theorem q1833 : (Jvm.Cond.fieldLink "PulseRentModel" (470 : Nat) "PulseRentModel" "g" "J") ∈ lw_all := lw_g (lw_at lw_m8 19 rfl) rfl
theorem q1834 : (Jvm.Cond.lays "PulseRentModel" "PulseRentModel" "thrown" "I") ∈ lw_all := lw_g (lw_at lw_m8 20 rfl) rfl
theorem q1835 : (Jvm.Cond.soleField "PulseRentModel" "thrown") ∈ lw_all := lw_g (lw_at lw_m8 21 rfl) rfl
theorem q1836 : (Jvm.Cond.laysFinal "PulseRentModel" "PulseRentModel" "tape" "[I") ∈ lw_all := lw_g (lw_at lw_m8 22 rfl) rfl
theorem q1837 : (Jvm.Cond.soleField "PulseRentModel" "tape") ∈ lw_all := lw_g (lw_at lw_m8 23 rfl) rfl
theorem q1838 : (Jvm.Cond.lays "PulseRentModel" "PulseRentModel" "taped" "I") ∈ lw_all := lw_g (lw_at lw_m8 24 rfl) rfl
theorem q1839 : (Jvm.Cond.soleField "PulseRentModel" "taped") ∈ lw_all := lw_g (lw_at lw_m8 25 rfl) rfl
theorem q1840 : (Jvm.Cond.lays "PulseRentModel" "PulseRentModel" "size" "I") ∈ lw_all := lw_g (lw_at lw_m8 26 rfl) rfl
theorem q1841 : (Jvm.Cond.soleField "PulseRentModel" "size") ∈ lw_all := lw_g (lw_at lw_m8 27 rfl) rfl
theorem q1842 : (Jvm.Cond.laysFinal "PulseRentModel" "PulseRentModel" "sort" "[I") ∈ lw_all := lw_g (lw_at lw_m8 28 rfl) rfl
theorem q1843 : (Jvm.Cond.soleField "PulseRentModel" "sort") ∈ lw_all := lw_g (lw_at lw_m8 29 rfl) rfl
theorem q1844 : (Jvm.Cond.laysFinal "PulseRentModel" "PulseRentModel" "place" "[I") ∈ lw_all := lw_g (lw_at lw_m8 30 rfl) rfl
theorem q1845 : (Jvm.Cond.soleField "PulseRentModel" "place") ∈ lw_all := lw_g (lw_at lw_m8 31 rfl) rfl
theorem q1846 : (Jvm.Cond.laysFinal "PulseRentModel" "PulseRentModel" "value" "[J") ∈ lw_all := lw_g (lw_at lw_m8 32 rfl) rfl
theorem q1847 : (Jvm.Cond.soleField "PulseRentModel" "value") ∈ lw_all := lw_g (lw_at lw_m8 33 rfl) rfl
theorem q1848 : (Jvm.Cond.lays "PulseRentModel" "PulseRentModel" "at" "I") ∈ lw_all := lw_g (lw_at lw_m8 34 rfl) rfl
theorem q1849 : (Jvm.Cond.soleField "PulseRentModel" "at") ∈ lw_all := lw_g (lw_at lw_m8 35 rfl) rfl
theorem q1850 : (Jvm.Cond.lays "PulseRentModel" "PulseRentModel" "fault" "I") ∈ lw_all := lw_g (lw_at lw_m8 36 rfl) rfl
theorem q1851 : (Jvm.Cond.soleField "PulseRentModel" "fault") ∈ lw_all := lw_g (lw_at lw_m8 37 rfl) rfl
theorem q1852 : (Jvm.Cond.laysFinal "PulseRentModel" "PulseRentModel" "words" "[J") ∈ lw_all := lw_g (lw_at lw_m8 38 rfl) rfl
theorem q1853 : (Jvm.Cond.soleField "PulseRentModel" "words") ∈ lw_all := lw_g (lw_at lw_m8 39 rfl) rfl
theorem q1854 : (Jvm.Cond.laysFinal "PulseRentModel" "PulseRentModel" "housed" "[I") ∈ lw_all := lw_g (lw_at lw_m8 40 rfl) rfl
theorem q1855 : (Jvm.Cond.soleField "PulseRentModel" "housed") ∈ lw_all := lw_g (lw_at lw_m8 41 rfl) rfl
theorem q1856 : (Jvm.Cond.laysFinal "PulseRentModel" "PulseRentModel" "op" "[I") ∈ lw_all := lw_g (lw_at lw_m8 42 rfl) rfl
theorem q1857 : (Jvm.Cond.soleField "PulseRentModel" "op") ∈ lw_all := lw_g (lw_at lw_m8 43 rfl) rfl
theorem q1858 : (Jvm.Cond.laysFinal "PulseRentModel" "PulseRentModel" "arg" "[I") ∈ lw_all := lw_g (lw_at lw_m8 44 rfl) rfl
theorem q1859 : (Jvm.Cond.soleField "PulseRentModel" "arg") ∈ lw_all := lw_g (lw_at lw_m8 45 rfl) rfl
theorem q1860 : (Jvm.Cond.lays "PulseRentModel" "PulseRentModel" "codes" "I") ∈ lw_all := lw_g (lw_at lw_m8 46 rfl) rfl
theorem q1861 : (Jvm.Cond.soleField "PulseRentModel" "codes") ∈ lw_all := lw_g (lw_at lw_m8 47 rfl) rfl
theorem q1862 : (Jvm.Cond.laysFinal "PulseRentModel" "PulseRentModel" "names" "[J") ∈ lw_all := lw_g (lw_at lw_m8 48 rfl) rfl
theorem q1863 : (Jvm.Cond.soleField "PulseRentModel" "names") ∈ lw_all := lw_g (lw_at lw_m8 49 rfl) rfl
theorem q1864 : (Jvm.Cond.laysFinal "PulseRentModel" "PulseRentModel" "readNames" "[J") ∈ lw_all := lw_g (lw_at lw_m8 50 rfl) rfl
theorem q1865 : (Jvm.Cond.soleField "PulseRentModel" "readNames") ∈ lw_all := lw_g (lw_at lw_m8 51 rfl) rfl
theorem q1866 : (Jvm.Cond.laysFinal "PulseRentModel" "PulseRentModel" "nameOf" "[I") ∈ lw_all := lw_g (lw_at lw_m8 52 rfl) rfl
theorem q1867 : (Jvm.Cond.soleField "PulseRentModel" "nameOf") ∈ lw_all := lw_g (lw_at lw_m8 53 rfl) rfl
theorem q1868 : (Jvm.Cond.laysFinal "PulseRentModel" "PulseRentModel" "readNameOf" "[I") ∈ lw_all := lw_g (lw_at lw_m8 54 rfl) rfl
theorem q1869 : (Jvm.Cond.soleField "PulseRentModel" "readNameOf") ∈ lw_all := lw_g (lw_at lw_m8 55 rfl) rfl
theorem q1870 : (Jvm.Cond.lays "PulseRentModel" "PulseRentModel" "namesMany" "I") ∈ lw_all := lw_g (lw_at lw_m8 56 rfl) rfl
theorem q1871 : (Jvm.Cond.soleField "PulseRentModel" "namesMany") ∈ lw_all := lw_g (lw_at lw_m8 57 rfl) rfl
theorem q1872 : (Jvm.Cond.lays "PulseRentModel" "PulseRentModel" "readMany" "I") ∈ lw_all := lw_g (lw_at lw_m8 58 rfl) rfl
theorem q1873 : (Jvm.Cond.soleField "PulseRentModel" "readMany") ∈ lw_all := lw_g (lw_at lw_m8 59 rfl) rfl
theorem q1874 : (Jvm.Cond.lays "PulseRentModel" "PulseRentModel" "once" "I") ∈ lw_all := lw_g (lw_at lw_m8 60 rfl) rfl
theorem q1875 : (Jvm.Cond.soleField "PulseRentModel" "once") ∈ lw_all := lw_g (lw_at lw_m8 61 rfl) rfl
theorem q1876 : (Jvm.Cond.lays "PulseRentModel" "PulseRentModel" "factsHere" "I") ∈ lw_all := lw_g (lw_at lw_m8 62 rfl) rfl
theorem q1877 : (Jvm.Cond.soleField "PulseRentModel" "factsHere") ∈ lw_all := lw_g (lw_at lw_m8 63 rfl) rfl
theorem q1878 : (Jvm.Cond.laysFinal "PulseRentModel" "PulseRentModel" "lines" "[I") ∈ lw_all := lw_g (lw_at lw_m8 64 rfl) rfl
theorem q1879 : (Jvm.Cond.soleField "PulseRentModel" "lines") ∈ lw_all := lw_g (lw_at lw_m8 65 rfl) rfl
theorem q1880 : (Jvm.Cond.laysFinal "PulseRentModel" "PulseRentModel" "facts" "[I") ∈ lw_all := lw_g (lw_at lw_m8 66 rfl) rfl
theorem q1881 : (Jvm.Cond.soleField "PulseRentModel" "facts") ∈ lw_all := lw_g (lw_at lw_m8 67 rfl) rfl
theorem q1882 : (Jvm.Cond.laysFinal "PulseRentModel" "PulseRentModel" "pile" "[I") ∈ lw_all := lw_g (lw_at lw_m8 68 rfl) rfl
theorem q1883 : (Jvm.Cond.soleField "PulseRentModel" "pile") ∈ lw_all := lw_g (lw_at lw_m8 69 rfl) rfl
theorem q1884 : (Jvm.Cond.laysFinal "PulseRentModel" "PulseRentModel" "state" "[I") ∈ lw_all := lw_g (lw_at lw_m8 70 rfl) rfl
theorem q1885 : (Jvm.Cond.soleField "PulseRentModel" "state") ∈ lw_all := lw_g (lw_at lw_m8 71 rfl) rfl
theorem q1886 : (Jvm.Cond.lays "PulseRentModel" "PulseRentModel" "undos" "I") ∈ lw_all := lw_g (lw_at lw_m8 72 rfl) rfl
theorem q1887 : (Jvm.Cond.soleField "PulseRentModel" "undos") ∈ lw_all := lw_g (lw_at lw_m8 73 rfl) rfl
theorem q1888 : (Jvm.Cond.laysFinal "PulseRentModel" "PulseRentModel" "isMarked" "[Z") ∈ lw_all := lw_g (lw_at lw_m8 74 rfl) rfl
theorem q1889 : (Jvm.Cond.soleField "PulseRentModel" "isMarked") ∈ lw_all := lw_g (lw_at lw_m8 75 rfl) rfl
theorem q1890 : (Jvm.Cond.lays "PulseRentModel" "PulseRentModel" "brew" "I") ∈ lw_all := lw_g (lw_at lw_m8 76 rfl) rfl
theorem q1891 : (Jvm.Cond.soleField "PulseRentModel" "brew") ∈ lw_all := lw_g (lw_at lw_m8 77 rfl) rfl
theorem q1892 : (Jvm.Cond.laysFinal "PulseRentModel" "PulseRentModel" "order" "[I") ∈ lw_all := lw_g (lw_at lw_m8 78 rfl) rfl
theorem q1893 : (Jvm.Cond.soleField "PulseRentModel" "order") ∈ lw_all := lw_g (lw_at lw_m8 79 rfl) rfl
theorem q1894 : (Jvm.Cond.laysFinal "PulseRentModel" "PulseRentModel" "bestOrder" "[I") ∈ lw_all := lw_g (lw_at lw_m8 80 rfl) rfl
theorem q1895 : (Jvm.Cond.soleField "PulseRentModel" "bestOrder") ∈ lw_all := lw_g (lw_at lw_m8 81 rfl) rfl
theorem q1896 : (Jvm.Cond.lays "PulseRentModel" "PulseRentModel" "fewest" "I") ∈ lw_all := lw_g (lw_at lw_m8 82 rfl) rfl
theorem q1897 : (Jvm.Cond.soleField "PulseRentModel" "fewest") ∈ lw_all := lw_g (lw_at lw_m8 83 rfl) rfl
theorem q1898 : (Jvm.Cond.laysFinal "PulseRentModel" "PulseRentModel" "wishes" "[I") ∈ lw_all := lw_g (lw_at lw_m8 84 rfl) rfl
theorem q1899 : (Jvm.Cond.soleField "PulseRentModel" "wishes") ∈ lw_all := lw_g (lw_at lw_m8 85 rfl) rfl
theorem q1900 : (Jvm.Cond.laysFinal "PulseRentModel" "PulseRentModel" "matched" "[I") ∈ lw_all := lw_g (lw_at lw_m8 86 rfl) rfl
theorem q1901 : (Jvm.Cond.soleField "PulseRentModel" "matched") ∈ lw_all := lw_g (lw_at lw_m8 87 rfl) rfl
theorem q1902 : (Jvm.Cond.laysFinal "PulseRentModel" "PulseRentModel" "askedRooms" "[I") ∈ lw_all := lw_g (lw_at lw_m8 88 rfl) rfl
theorem q1903 : (Jvm.Cond.soleField "PulseRentModel" "askedRooms") ∈ lw_all := lw_g (lw_at lw_m8 89 rfl) rfl
theorem q1904 : (Jvm.Cond.laysFinal "PulseRentModel" "PulseRentModel" "dayBeats" "[I") ∈ lw_all := lw_g (lw_at lw_m8 90 rfl) rfl
theorem q1905 : (Jvm.Cond.soleField "PulseRentModel" "dayBeats") ∈ lw_all := lw_g (lw_at lw_m8 91 rfl) rfl
theorem q1906 : (Jvm.Cond.laysFinal "PulseRentModel" "PulseRentModel" "alike" "[I") ∈ lw_all := lw_g (lw_at lw_m8 92 rfl) rfl
theorem q1907 : (Jvm.Cond.soleField "PulseRentModel" "alike") ∈ lw_all := lw_g (lw_at lw_m8 93 rfl) rfl
theorem q1908 : (Jvm.Cond.lays "PulseRentModel" "PulseRentModel" "fitting" "I") ∈ lw_all := lw_g (lw_at lw_m8 94 rfl) rfl
theorem q1909 : (Jvm.Cond.soleField "PulseRentModel" "fitting") ∈ lw_all := lw_g (lw_at lw_m8 95 rfl) rfl
theorem q1910 : (Jvm.Cond.lays "PulseRentModel" "PulseRentModel" "firstDay" "I") ∈ lw_all := lw_g (lw_at lw_m8 96 rfl) rfl
theorem q1911 : (Jvm.Cond.soleField "PulseRentModel" "firstDay") ∈ lw_all := lw_g (lw_at lw_m8 97 rfl) rfl
theorem q1912 : (Jvm.Cond.lays "PulseRentModel" "PulseRentModel" "g" "J") ∈ lw_all := lw_g (lw_at lw_m8 98 rfl) rfl
theorem q1913 : (Jvm.Cond.soleField "PulseRentModel" "g") ∈ lw_all := lw_g (lw_at lw_m8 99 rfl) rfl
theorem q1914 : (Jvm.Cond.superclass "PulseRentModel" "java/lang/Object") ∈ lw_all := lw_g (lw_at lw_m8 100 rfl) rfl
theorem q1918 : (Jvm.Cond.instanceMethod ({ cls := "PulseRentModel", name := "house", desc := "()I" } : Jvm.MethodName)) ∈ lw_all := lw_g (lw_at lw_m8 104 rfl) rfl
theorem q1919 : (Jvm.Cond.selects "PulseRentModel" ({ cls := "PulseRentModel", name := "house", desc := "()I" } : Jvm.MethodName) ({ cls := "PulseRentModel", name := "house", desc := "()I" } : Jvm.MethodName)) ∈ lw_all := lw_g (lw_at lw_m8 105 rfl) rfl
theorem q1920 : (Jvm.Cond.code ({ cls := "PulseRentModel", name := "house", desc := "()I" } : Jvm.MethodName) prog_26_method_27_code (2 : Nat) (Option.some Jvm.ClassFile.FieldType.int)) ∈ lw_all := lw_g (lw_at lw_m8 106 rfl) rfl
theorem q1921 : (Jvm.Cond.methodLink "PulseRentModel" (249 : Nat) ({ cls := "PulseRentModel", name := "cutAll", desc := "()V" } : Jvm.MethodName)) ∈ lw_all := lw_g (lw_at lw_m8 107 rfl) rfl
theorem q1922 : (Jvm.Cond.privateMethod ({ cls := "PulseRentModel", name := "cutAll", desc := "()V" } : Jvm.MethodName)) ∈ lw_tbl := lw_at lw_m8 108 rfl
theorem q1923 : (Jvm.Cond.instanceMethod ({ cls := "PulseRentModel", name := "cutAll", desc := "()V" } : Jvm.MethodName)) ∈ lw_all := lw_g (lw_at lw_m8 109 rfl) rfl
theorem q1924 : (Jvm.Cond.code ({ cls := "PulseRentModel", name := "cutAll", desc := "()V" } : Jvm.MethodName) prog_26_method_9_code (7 : Nat) (Option.none : Option Jvm.ClassFile.FieldType)) ∈ lw_all := lw_g (lw_at lw_m8 110 rfl) rfl
theorem q1925 : (Jvm.Cond.methodLink "PulseRentModel" (176 : Nat) ({ cls := "PulseRentModel", name := "isLetter", desc := "(I)Z" } : Jvm.MethodName)) ∈ lw_all := lw_g (lw_at lw_m8 111 rfl) rfl
theorem q1926 : (Jvm.Cond.static ({ cls := "PulseRentModel", name := "isLetter", desc := "(I)Z" } : Jvm.MethodName)) ∈ lw_all := lw_g (lw_at lw_m8 112 rfl) rfl
theorem q1927 : (Jvm.Cond.code ({ cls := "PulseRentModel", name := "isLetter", desc := "(I)Z" } : Jvm.MethodName) prog_26_method_5_code (1 : Nat) (Option.some Jvm.ClassFile.FieldType.boolean)) ∈ lw_all := lw_g (lw_at lw_m8 113 rfl) rfl
theorem q1928 : (Jvm.Cond.constantLong "PulseRentModel" (183 : Nat) (37 : Int64)) ∈ lw_all := lw_g (lw_at lw_m8 114 rfl) rfl
theorem q1929 : (Jvm.Cond.methodLink "PulseRentModel" (185 : Nat) ({ cls := "PulseRentModel", name := "rank", desc := "(I)I" } : Jvm.MethodName)) ∈ lw_all := lw_g (lw_at lw_m8 115 rfl) rfl
theorem q1930 : (Jvm.Cond.static ({ cls := "PulseRentModel", name := "rank", desc := "(I)I" } : Jvm.MethodName)) ∈ lw_all := lw_g (lw_at lw_m8 116 rfl) rfl
theorem q1931 : (Jvm.Cond.code ({ cls := "PulseRentModel", name := "rank", desc := "(I)I" } : Jvm.MethodName) prog_26_method_7_code (1 : Nat) (Option.some Jvm.ClassFile.FieldType.int)) ∈ lw_all := lw_g (lw_at lw_m8 117 rfl) rfl
theorem q1932 : (Jvm.Cond.methodLink "PulseRentModel" (189 : Nat) ({ cls := "PulseRentModel", name := "isDigit", desc := "(I)Z" } : Jvm.MethodName)) ∈ lw_all := lw_g (lw_at lw_m8 118 rfl) rfl
theorem q1933 : (Jvm.Cond.static ({ cls := "PulseRentModel", name := "isDigit", desc := "(I)Z" } : Jvm.MethodName)) ∈ lw_all := lw_g (lw_at lw_m8 119 rfl) rfl
theorem q1934 : (Jvm.Cond.code ({ cls := "PulseRentModel", name := "isDigit", desc := "(I)Z" } : Jvm.MethodName) prog_26_method_6_code (1 : Nat) (Option.some Jvm.ClassFile.FieldType.boolean)) ∈ lw_all := lw_g (lw_at lw_m8 120 rfl) rfl
theorem q1935 : (Jvm.Cond.constantLong "PulseRentModel" (192 : Nat) (10 : Int64)) ∈ lw_all := lw_g (lw_at lw_m8 121 rfl) rfl
theorem q1936 : (Jvm.Cond.constantLong "PulseRentModel" (194 : Nat) (48 : Int64)) ∈ lw_all := lw_g (lw_at lw_m8 122 rfl) rfl
theorem q1937 : (Jvm.Cond.methodLink "PulseRentModel" (196 : Nat) ({ cls := "PulseRentModel", name := "isSignOf", desc := "(I)Z" } : Jvm.MethodName)) ∈ lw_all := lw_g (lw_at lw_m8 123 rfl) rfl
theorem q1938 : (Jvm.Cond.static ({ cls := "PulseRentModel", name := "isSignOf", desc := "(I)Z" } : Jvm.MethodName)) ∈ lw_all := lw_g (lw_at lw_m8 124 rfl) rfl
theorem q1939 : (Jvm.Cond.code ({ cls := "PulseRentModel", name := "isSignOf", desc := "(I)Z" } : Jvm.MethodName) prog_26_method_8_code (1 : Nat) (Option.some Jvm.ClassFile.FieldType.boolean)) ∈ lw_all := lw_g (lw_at lw_m8 125 rfl) rfl
theorem q1940 : (Jvm.Cond.methodLink "PulseRentModel" (258 : Nat) ({ cls := "PulseRentModel", name := "readLine", desc := "()V" } : Jvm.MethodName)) ∈ lw_all := lw_g (lw_at lw_m8 126 rfl) rfl
theorem q1941 : (Jvm.Cond.privateMethod ({ cls := "PulseRentModel", name := "readLine", desc := "()V" } : Jvm.MethodName)) ∈ lw_tbl := lw_at lw_m8 127 rfl
theorem q1942 : (Jvm.Cond.instanceMethod ({ cls := "PulseRentModel", name := "readLine", desc := "()V" } : Jvm.MethodName)) ∈ lw_all := lw_g (lw_at lw_m8 128 rfl) rfl
theorem q1943 : (Jvm.Cond.code ({ cls := "PulseRentModel", name := "readLine", desc := "()V" } : Jvm.MethodName) prog_26_method_28_code (1 : Nat) (Option.none : Option Jvm.ClassFile.FieldType)) ∈ lw_all := lw_g (lw_at lw_m8 129 rfl) rfl
theorem q1944 : (Jvm.Cond.methodLink "PulseRentModel" (211 : Nat) ({ cls := "PulseRentModel", name := "isWord", desc := "(I)Z" } : Jvm.MethodName)) ∈ lw_all := lw_g (lw_at lw_m8 130 rfl) rfl
theorem q1945 : (Jvm.Cond.privateMethod ({ cls := "PulseRentModel", name := "isWord", desc := "(I)Z" } : Jvm.MethodName)) ∈ lw_tbl := lw_at lw_m8 131 rfl
theorem q1946 : (Jvm.Cond.instanceMethod ({ cls := "PulseRentModel", name := "isWord", desc := "(I)Z" } : Jvm.MethodName)) ∈ lw_all := lw_g (lw_at lw_m8 132 rfl) rfl
theorem q1947 : (Jvm.Cond.code ({ cls := "PulseRentModel", name := "isWord", desc := "(I)Z" } : Jvm.MethodName) prog_26_method_12_code (2 : Nat) (Option.some Jvm.ClassFile.FieldType.boolean)) ∈ lw_all := lw_g (lw_at lw_m8 133 rfl) rfl
theorem q1948 : (Jvm.Cond.methodLink "PulseRentModel" (264 : Nat) ({ cls := "PulseRentModel", name := "readRoom", desc := "()V" } : Jvm.MethodName)) ∈ lw_all := lw_g (lw_at lw_m8 134 rfl) rfl
theorem q1949 : (Jvm.Cond.privateMethod ({ cls := "PulseRentModel", name := "readRoom", desc := "()V" } : Jvm.MethodName)) ∈ lw_tbl := lw_at lw_m8 135 rfl
theorem q1950 : (Jvm.Cond.instanceMethod ({ cls := "PulseRentModel", name := "readRoom", desc := "()V" } : Jvm.MethodName)) ∈ lw_all := lw_g (lw_at lw_m8 136 rfl) rfl
theorem q1951 : (Jvm.Cond.code ({ cls := "PulseRentModel", name := "readRoom", desc := "()V" } : Jvm.MethodName) prog_26_method_30_code (3 : Nat) (Option.none : Option Jvm.ClassFile.FieldType)) ∈ lw_all := lw_g (lw_at lw_m8 137 rfl) rfl
theorem q1952 : (Jvm.Cond.methodLink "PulseRentModel" (208 : Nat) ({ cls := "PulseRentModel", name := "wrong", desc := "(I)V" } : Jvm.MethodName)) ∈ lw_all := lw_g (lw_at lw_m8 138 rfl) rfl
theorem q1953 : (Jvm.Cond.privateMethod ({ cls := "PulseRentModel", name := "wrong", desc := "(I)V" } : Jvm.MethodName)) ∈ lw_tbl := lw_at lw_m8 139 rfl
theorem q1954 : (Jvm.Cond.instanceMethod ({ cls := "PulseRentModel", name := "wrong", desc := "(I)V" } : Jvm.MethodName)) ∈ lw_all := lw_g (lw_at lw_m8 140 rfl) rfl
theorem q1955 : (Jvm.Cond.code ({ cls := "PulseRentModel", name := "wrong", desc := "(I)V" } : Jvm.MethodName) prog_26_method_10_code (2 : Nat) (Option.none : Option Jvm.ClassFile.FieldType)) ∈ lw_all := lw_g (lw_at lw_m8 141 rfl) rfl
theorem q1956 : (Jvm.Cond.methodLink "PulseRentModel" (279 : Nat) ({ cls := "PulseRentModel", name := "readName", desc := "(I)V" } : Jvm.MethodName)) ∈ lw_all := lw_g (lw_at lw_m8 142 rfl) rfl
theorem q1957 : (Jvm.Cond.privateMethod ({ cls := "PulseRentModel", name := "readName", desc := "(I)V" } : Jvm.MethodName)) ∈ lw_tbl := lw_at lw_m8 143 rfl
theorem q1958 : (Jvm.Cond.instanceMethod ({ cls := "PulseRentModel", name := "readName", desc := "(I)V" } : Jvm.MethodName)) ∈ lw_all := lw_g (lw_at lw_m8 144 rfl) rfl
theorem q1959 : (Jvm.Cond.code ({ cls := "PulseRentModel", name := "readName", desc := "(I)V" } : Jvm.MethodName) prog_26_method_29_code (2 : Nat) (Option.none : Option Jvm.ClassFile.FieldType)) ∈ lw_all := lw_g (lw_at lw_m8 145 rfl) rfl
theorem q1960 : (Jvm.Cond.methodLink "PulseRentModel" (233 : Nat) ({ cls := "PulseRentModel", name := "isName", desc := "()Z" } : Jvm.MethodName)) ∈ lw_all := lw_g (lw_at lw_m8 146 rfl) rfl
theorem q1961 : (Jvm.Cond.privateMethod ({ cls := "PulseRentModel", name := "isName", desc := "()Z" } : Jvm.MethodName)) ∈ lw_tbl := lw_at lw_m8 147 rfl
theorem q1962 : (Jvm.Cond.instanceMethod ({ cls := "PulseRentModel", name := "isName", desc := "()Z" } : Jvm.MethodName)) ∈ lw_all := lw_g (lw_at lw_m8 148 rfl) rfl
theorem q1963 : (Jvm.Cond.code ({ cls := "PulseRentModel", name := "isName", desc := "()Z" } : Jvm.MethodName) prog_26_method_23_code (1 : Nat) (Option.some Jvm.ClassFile.FieldType.boolean)) ∈ lw_all := lw_g (lw_at lw_m8 149 rfl) rfl
theorem q1964 : (Jvm.Cond.methodLink "PulseRentModel" (224 : Nat) ({ cls := "PulseRentModel", name := "wordHere", desc := "(II)I" } : Jvm.MethodName)) ∈ lw_all := lw_g (lw_at lw_m8 150 rfl) rfl
theorem q1965 : (Jvm.Cond.privateMethod ({ cls := "PulseRentModel", name := "wordHere", desc := "(II)I" } : Jvm.MethodName)) ∈ lw_tbl := lw_at lw_m8 151 rfl
theorem q1966 : (Jvm.Cond.instanceMethod ({ cls := "PulseRentModel", name := "wordHere", desc := "(II)I" } : Jvm.MethodName)) ∈ lw_all := lw_g (lw_at lw_m8 152 rfl) rfl
theorem q1967 : (Jvm.Cond.code ({ cls := "PulseRentModel", name := "wordHere", desc := "(II)I" } : Jvm.MethodName) prog_26_method_21_code (5 : Nat) (Option.some Jvm.ClassFile.FieldType.int)) ∈ lw_all := lw_g (lw_at lw_m8 153 rfl) rfl
theorem q1968 : (Jvm.Cond.methodLink "PulseRentModel" (237 : Nat) ({ cls := "PulseRentModel", name := "find", desc := "(Z)I" } : Jvm.MethodName)) ∈ lw_all := lw_g (lw_at lw_m8 154 rfl) rfl
theorem q1969 : (Jvm.Cond.privateMethod ({ cls := "PulseRentModel", name := "find", desc := "(Z)I" } : Jvm.MethodName)) ∈ lw_tbl := lw_at lw_m8 155 rfl
theorem q1970 : (Jvm.Cond.instanceMethod ({ cls := "PulseRentModel", name := "find", desc := "(Z)I" } : Jvm.MethodName)) ∈ lw_all := lw_g (lw_at lw_m8 156 rfl) rfl
theorem q1971 : (Jvm.Cond.code ({ cls := "PulseRentModel", name := "find", desc := "(Z)I" } : Jvm.MethodName) prog_26_method_24_code (3 : Nat) (Option.some Jvm.ClassFile.FieldType.int)) ∈ lw_all := lw_g (lw_at lw_m8 157 rfl) rfl
theorem q1972 : (Jvm.Cond.methodLink "PulseRentModel" (282 : Nat) ({ cls := "PulseRentModel", name := "takeAfter", desc := "(III)I" } : Jvm.MethodName)) ∈ lw_all := lw_g (lw_at lw_m8 158 rfl) rfl
theorem q1973 : (Jvm.Cond.privateMethod ({ cls := "PulseRentModel", name := "takeAfter", desc := "(III)I" } : Jvm.MethodName)) ∈ lw_tbl := lw_at lw_m8 159 rfl
theorem q1974 : (Jvm.Cond.instanceMethod ({ cls := "PulseRentModel", name := "takeAfter", desc := "(III)I" } : Jvm.MethodName)) ∈ lw_all := lw_g (lw_at lw_m8 160 rfl) rfl
theorem q1975 : (Jvm.Cond.code ({ cls := "PulseRentModel", name := "takeAfter", desc := "(III)I" } : Jvm.MethodName) prog_26_method_20_code (4 : Nat) (Option.some Jvm.ClassFile.FieldType.int)) ∈ lw_all := lw_g (lw_at lw_m8 161 rfl) rfl
theorem q1976 : (Jvm.Cond.methodLink "PulseRentModel" (217 : Nat) ({ cls := "PulseRentModel", name := "takeWord", desc := "(I)V" } : Jvm.MethodName)) ∈ lw_all := lw_g (lw_at lw_m8 162 rfl) rfl
theorem q1977 : (Jvm.Cond.privateMethod ({ cls := "PulseRentModel", name := "takeWord", desc := "(I)V" } : Jvm.MethodName)) ∈ lw_tbl := lw_at lw_m8 163 rfl
theorem q1978 : (Jvm.Cond.instanceMethod ({ cls := "PulseRentModel", name := "takeWord", desc := "(I)V" } : Jvm.MethodName)) ∈ lw_all := lw_g (lw_at lw_m8 164 rfl) rfl
theorem q1979 : (Jvm.Cond.code ({ cls := "PulseRentModel", name := "takeWord", desc := "(I)V" } : Jvm.MethodName) prog_26_method_16_code (2 : Nat) (Option.none : Option Jvm.ClassFile.FieldType)) ∈ lw_all := lw_g (lw_at lw_m8 165 rfl) rfl
theorem q1980 : (Jvm.Cond.methodLink "PulseRentModel" (214 : Nat) ({ cls := "PulseRentModel", name := "hasWord", desc := "(I)Z" } : Jvm.MethodName)) ∈ lw_all := lw_g (lw_at lw_m8 166 rfl) rfl
theorem q1981 : (Jvm.Cond.privateMethod ({ cls := "PulseRentModel", name := "hasWord", desc := "(I)Z" } : Jvm.MethodName)) ∈ lw_tbl := lw_at lw_m8 167 rfl
theorem q1982 : (Jvm.Cond.instanceMethod ({ cls := "PulseRentModel", name := "hasWord", desc := "(I)Z" } : Jvm.MethodName)) ∈ lw_all := lw_g (lw_at lw_m8 168 rfl) rfl
theorem q1983 : (Jvm.Cond.code ({ cls := "PulseRentModel", name := "hasWord", desc := "(I)Z" } : Jvm.MethodName) prog_26_method_15_code (3 : Nat) (Option.some Jvm.ClassFile.FieldType.boolean)) ∈ lw_all := lw_g (lw_at lw_m8 169 rfl) rfl
theorem q1984 : (Jvm.Cond.methodLink "PulseRentModel" (220 : Nat) ({ cls := "PulseRentModel", name := "takeNumber", desc := "(II)I" } : Jvm.MethodName)) ∈ lw_all := lw_g (lw_at lw_m8 170 rfl) rfl
theorem q1985 : (Jvm.Cond.privateMethod ({ cls := "PulseRentModel", name := "takeNumber", desc := "(II)I" } : Jvm.MethodName)) ∈ lw_tbl := lw_at lw_m8 171 rfl
theorem q1986 : (Jvm.Cond.instanceMethod ({ cls := "PulseRentModel", name := "takeNumber", desc := "(II)I" } : Jvm.MethodName)) ∈ lw_all := lw_g (lw_at lw_m8 172 rfl) rfl
theorem q1987 : (Jvm.Cond.code ({ cls := "PulseRentModel", name := "takeNumber", desc := "(II)I" } : Jvm.MethodName) prog_26_method_19_code (3 : Nat) (Option.some Jvm.ClassFile.FieldType.int)) ∈ lw_all := lw_g (lw_at lw_m8 173 rfl) rfl
theorem q1988 : (Jvm.Cond.methodLink "PulseRentModel" (267 : Nat) ({ cls := "PulseRentModel", name := "readTenant", desc := "()V" } : Jvm.MethodName)) ∈ lw_all := lw_g (lw_at lw_m8 174 rfl) rfl
theorem q1989 : (Jvm.Cond.privateMethod ({ cls := "PulseRentModel", name := "readTenant", desc := "()V" } : Jvm.MethodName)) ∈ lw_tbl := lw_at lw_m8 175 rfl
theorem q1990 : (Jvm.Cond.instanceMethod ({ cls := "PulseRentModel", name := "readTenant", desc := "()V" } : Jvm.MethodName)) ∈ lw_all := lw_g (lw_at lw_m8 176 rfl) rfl
theorem q1991 : (Jvm.Cond.code ({ cls := "PulseRentModel", name := "readTenant", desc := "()V" } : Jvm.MethodName) prog_26_method_31_code (5 : Nat) (Option.none : Option Jvm.ClassFile.FieldType)) ∈ lw_all := lw_g (lw_at lw_m8 177 rfl) rfl
theorem q1992 : (Jvm.Cond.methodLink "PulseRentModel" (286 : Nat) ({ cls := "PulseRentModel", name := "takeOne", desc := "(II)I" } : Jvm.MethodName)) ∈ lw_all := lw_g (lw_at lw_m8 178 rfl) rfl
theorem q1993 : (Jvm.Cond.privateMethod ({ cls := "PulseRentModel", name := "takeOne", desc := "(II)I" } : Jvm.MethodName)) ∈ lw_tbl := lw_at lw_m8 179 rfl
theorem q1994 : (Jvm.Cond.instanceMethod ({ cls := "PulseRentModel", name := "takeOne", desc := "(II)I" } : Jvm.MethodName)) ∈ lw_all := lw_g (lw_at lw_m8 180 rfl) rfl
theorem q1995 : (Jvm.Cond.code ({ cls := "PulseRentModel", name := "takeOne", desc := "(II)I" } : Jvm.MethodName) prog_26_method_22_code (4 : Nat) (Option.some Jvm.ClassFile.FieldType.int)) ∈ lw_all := lw_g (lw_at lw_m8 181 rfl) rfl
theorem q1996 : (Jvm.Cond.methodLink "PulseRentModel" (245 : Nat) ({ cls := "PulseRentModel", name := "toldHere", desc := "(ZI)I" } : Jvm.MethodName)) ∈ lw_all := lw_g (lw_at lw_m8 182 rfl) rfl
theorem q1997 : (Jvm.Cond.privateMethod ({ cls := "PulseRentModel", name := "toldHere", desc := "(ZI)I" } : Jvm.MethodName)) ∈ lw_tbl := lw_at lw_m8 183 rfl
theorem q1998 : (Jvm.Cond.instanceMethod ({ cls := "PulseRentModel", name := "toldHere", desc := "(ZI)I" } : Jvm.MethodName)) ∈ lw_all := lw_g (lw_at lw_m8 184 rfl) rfl
theorem q1999 : (Jvm.Cond.code ({ cls := "PulseRentModel", name := "toldHere", desc := "(ZI)I" } : Jvm.MethodName) prog_26_method_25_code (4 : Nat) (Option.some Jvm.ClassFile.FieldType.int)) ∈ lw_all := lw_g (lw_at lw_m8 185 rfl) rfl
theorem q2000 : (Jvm.Cond.methodLink "PulseRentModel" (241 : Nat) ({ cls := "PulseRentModel", name := "within", desc := "(III)Z" } : Jvm.MethodName)) ∈ lw_all := lw_g (lw_at lw_m8 186 rfl) rfl
theorem q2001 : (Jvm.Cond.static ({ cls := "PulseRentModel", name := "within", desc := "(III)Z" } : Jvm.MethodName)) ∈ lw_all := lw_g (lw_at lw_m8 187 rfl) rfl
theorem q2002 : (Jvm.Cond.code ({ cls := "PulseRentModel", name := "within", desc := "(III)Z" } : Jvm.MethodName) prog_26_method_17_code (3 : Nat) (Option.some Jvm.ClassFile.FieldType.boolean)) ∈ lw_all := lw_g (lw_at lw_m8 188 rfl) rfl
theorem q2003 : (Jvm.Cond.methodLink "PulseRentModel" (270 : Nat) ({ cls := "PulseRentModel", name := "readLove", desc := "()V" } : Jvm.MethodName)) ∈ lw_all := lw_g (lw_at lw_m8 189 rfl) rfl
theorem q2004 : (Jvm.Cond.privateMethod ({ cls := "PulseRentModel", name := "readLove", desc := "()V" } : Jvm.MethodName)) ∈ lw_tbl := lw_at lw_m8 190 rfl
theorem q2005 : (Jvm.Cond.instanceMethod ({ cls := "PulseRentModel", name := "readLove", desc := "()V" } : Jvm.MethodName)) ∈ lw_all := lw_g (lw_at lw_m8 191 rfl) rfl
theorem q2006 : (Jvm.Cond.code ({ cls := "PulseRentModel", name := "readLove", desc := "()V" } : Jvm.MethodName) prog_26_method_32_code (3 : Nat) (Option.none : Option Jvm.ClassFile.FieldType)) ∈ lw_all := lw_g (lw_at lw_m8 192 rfl) rfl
theorem q2007 : (Jvm.Cond.methodLink "PulseRentModel" (289 : Nat) ({ cls := "PulseRentModel", name := "takeTold", desc := "(ZI)I" } : Jvm.MethodName)) ∈ lw_all := lw_g (lw_at lw_m8 193 rfl) rfl
theorem q2008 : (Jvm.Cond.privateMethod ({ cls := "PulseRentModel", name := "takeTold", desc := "(ZI)I" } : Jvm.MethodName)) ∈ lw_tbl := lw_at lw_m8 194 rfl
theorem q2009 : (Jvm.Cond.instanceMethod ({ cls := "PulseRentModel", name := "takeTold", desc := "(ZI)I" } : Jvm.MethodName)) ∈ lw_all := lw_g (lw_at lw_m8 195 rfl) rfl
theorem q2010 : (Jvm.Cond.code ({ cls := "PulseRentModel", name := "takeTold", desc := "(ZI)I" } : Jvm.MethodName) prog_26_method_26_code (4 : Nat) (Option.some Jvm.ClassFile.FieldType.int)) ∈ lw_all := lw_g (lw_at lw_m8 196 rfl) rfl
theorem q2011 : (Jvm.Cond.methodLink "PulseRentModel" (273 : Nat) ({ cls := "PulseRentModel", name := "readErrand", desc := "()V" } : Jvm.MethodName)) ∈ lw_all := lw_g (lw_at lw_m8 197 rfl) rfl
theorem q2012 : (Jvm.Cond.privateMethod ({ cls := "PulseRentModel", name := "readErrand", desc := "()V" } : Jvm.MethodName)) ∈ lw_tbl := lw_at lw_m8 198 rfl
theorem q2013 : (Jvm.Cond.instanceMethod ({ cls := "PulseRentModel", name := "readErrand", desc := "()V" } : Jvm.MethodName)) ∈ lw_all := lw_g (lw_at lw_m8 199 rfl) rfl
theorem q2014 : (Jvm.Cond.code ({ cls := "PulseRentModel", name := "readErrand", desc := "()V" } : Jvm.MethodName) prog_26_method_33_code (3 : Nat) (Option.none : Option Jvm.ClassFile.FieldType)) ∈ lw_all := lw_g (lw_at lw_m8 200 rfl) rfl
theorem q2015 : (Jvm.Cond.methodLink "PulseRentModel" (276 : Nat) ({ cls := "PulseRentModel", name := "readOnce", desc := "()V" } : Jvm.MethodName)) ∈ lw_all := lw_g (lw_at lw_m8 201 rfl) rfl
theorem q2016 : (Jvm.Cond.privateMethod ({ cls := "PulseRentModel", name := "readOnce", desc := "()V" } : Jvm.MethodName)) ∈ lw_tbl := lw_at lw_m8 202 rfl
theorem q2017 : (Jvm.Cond.instanceMethod ({ cls := "PulseRentModel", name := "readOnce", desc := "()V" } : Jvm.MethodName)) ∈ lw_all := lw_g (lw_at lw_m8 203 rfl) rfl
theorem q2018 : (Jvm.Cond.code ({ cls := "PulseRentModel", name := "readOnce", desc := "()V" } : Jvm.MethodName) prog_26_method_34_code (2 : Nat) (Option.none : Option Jvm.ClassFile.FieldType)) ∈ lw_all := lw_g (lw_at lw_m8 204 rfl) rfl
theorem q2019 : (Jvm.Cond.methodLink "PulseRentModel" (295 : Nat) ({ cls := "PulseRentModel", name := "all", desc := "(I)V" } : Jvm.MethodName)) ∈ lw_all := lw_g (lw_at lw_m8 205 rfl) rfl
theorem q2020 : (Jvm.Cond.privateMethod ({ cls := "PulseRentModel", name := "all", desc := "(I)V" } : Jvm.MethodName)) ∈ lw_tbl := lw_at lw_m8 206 rfl
theorem q2021 : (Jvm.Cond.instanceMethod ({ cls := "PulseRentModel", name := "all", desc := "(I)V" } : Jvm.MethodName)) ∈ lw_all := lw_g (lw_at lw_m8 207 rfl) rfl
theorem q2022 : (Jvm.Cond.code ({ cls := "PulseRentModel", name := "all", desc := "(I)V" } : Jvm.MethodName) prog_26_method_38_code (3 : Nat) (Option.none : Option Jvm.ClassFile.FieldType)) ∈ lw_all := lw_g (lw_at lw_m8 208 rfl) rfl
theorem q2023 : (Jvm.Cond.methodLink "PulseRentModel" (305 : Nat) ({ cls := "PulseRentModel", name := "test", desc := "(I)V" } : Jvm.MethodName)) ∈ lw_all := lw_g (lw_at lw_m8 209 rfl) rfl
theorem q2024 : (Jvm.Cond.privateMethod ({ cls := "PulseRentModel", name := "test", desc := "(I)V" } : Jvm.MethodName)) ∈ lw_tbl := lw_at lw_m8 210 rfl
theorem q2025 : (Jvm.Cond.instanceMethod ({ cls := "PulseRentModel", name := "test", desc := "(I)V" } : Jvm.MethodName)) ∈ lw_all := lw_g (lw_at lw_m8 211 rfl) rfl
theorem q2026 : (Jvm.Cond.code ({ cls := "PulseRentModel", name := "test", desc := "(I)V" } : Jvm.MethodName) prog_26_method_39_code (3 : Nat) (Option.none : Option Jvm.ClassFile.FieldType)) ∈ lw_all := lw_g (lw_at lw_m8 212 rfl) rfl
theorem q2027 : (Jvm.Cond.methodLink "PulseRentModel" (308 : Nat) ({ cls := "PulseRentModel", name := "sums", desc := "(I)V" } : Jvm.MethodName)) ∈ lw_all := lw_g (lw_at lw_m8 213 rfl) rfl
theorem q2028 : (Jvm.Cond.privateMethod ({ cls := "PulseRentModel", name := "sums", desc := "(I)V" } : Jvm.MethodName)) ∈ lw_tbl := lw_at lw_m8 214 rfl
theorem q2029 : (Jvm.Cond.instanceMethod ({ cls := "PulseRentModel", name := "sums", desc := "(I)V" } : Jvm.MethodName)) ∈ lw_all := lw_g (lw_at lw_m8 215 rfl) rfl
theorem q2030 : (Jvm.Cond.code ({ cls := "PulseRentModel", name := "sums", desc := "(I)V" } : Jvm.MethodName) prog_26_method_40_code (3 : Nat) (Option.none : Option Jvm.ClassFile.FieldType)) ∈ lw_all := lw_g (lw_at lw_m8 216 rfl) rfl
theorem q2031 : (Jvm.Cond.methodLink "PulseRentModel" (314 : Nat) ({ cls := "PulseRentModel", name := "products", desc := "(I)V" } : Jvm.MethodName)) ∈ lw_all := lw_g (lw_at lw_m8 217 rfl) rfl
theorem q2032 : (Jvm.Cond.privateMethod ({ cls := "PulseRentModel", name := "products", desc := "(I)V" } : Jvm.MethodName)) ∈ lw_tbl := lw_at lw_m8 218 rfl
theorem q2033 : (Jvm.Cond.instanceMethod ({ cls := "PulseRentModel", name := "products", desc := "(I)V" } : Jvm.MethodName)) ∈ lw_all := lw_g (lw_at lw_m8 219 rfl) rfl
theorem q2034 : (Jvm.Cond.code ({ cls := "PulseRentModel", name := "products", desc := "(I)V" } : Jvm.MethodName) prog_26_method_41_code (2 : Nat) (Option.none : Option Jvm.ClassFile.FieldType)) ∈ lw_all := lw_g (lw_at lw_m8 220 rfl) rfl
theorem q2035 : (Jvm.Cond.methodLink "PulseRentModel" (317 : Nat) ({ cls := "PulseRentModel", name := "takePart", desc := "(I)V" } : Jvm.MethodName)) ∈ lw_all := lw_g (lw_at lw_m8 221 rfl) rfl
theorem q2036 : (Jvm.Cond.privateMethod ({ cls := "PulseRentModel", name := "takePart", desc := "(I)V" } : Jvm.MethodName)) ∈ lw_tbl := lw_at lw_m8 222 rfl
theorem q2037 : (Jvm.Cond.instanceMethod ({ cls := "PulseRentModel", name := "takePart", desc := "(I)V" } : Jvm.MethodName)) ∈ lw_all := lw_g (lw_at lw_m8 223 rfl) rfl
theorem q2038 : (Jvm.Cond.code ({ cls := "PulseRentModel", name := "takePart", desc := "(I)V" } : Jvm.MethodName) prog_26_method_42_code (4 : Nat) (Option.none : Option Jvm.ClassFile.FieldType)) ∈ lw_all := lw_g (lw_at lw_m8 224 rfl) rfl
theorem q2039 : (Jvm.Cond.methodLink "PulseRentModel" (205 : Nat) ({ cls := "PulseRentModel", name := "isSign", desc := "(I)Z" } : Jvm.MethodName)) ∈ lw_all := lw_g (lw_at lw_m8 225 rfl) rfl
theorem q2040 : (Jvm.Cond.privateMethod ({ cls := "PulseRentModel", name := "isSign", desc := "(I)Z" } : Jvm.MethodName)) ∈ lw_tbl := lw_at lw_m8 226 rfl
theorem q2041 : (Jvm.Cond.instanceMethod ({ cls := "PulseRentModel", name := "isSign", desc := "(I)Z" } : Jvm.MethodName)) ∈ lw_all := lw_g (lw_at lw_m8 227 rfl) rfl
theorem q2042 : (Jvm.Cond.code ({ cls := "PulseRentModel", name := "isSign", desc := "(I)Z" } : Jvm.MethodName) prog_26_method_11_code (2 : Nat) (Option.some Jvm.ClassFile.FieldType.boolean)) ∈ lw_all := lw_g (lw_at lw_m8 228 rfl) rfl
theorem q2043 : (Jvm.Cond.methodLink "PulseRentModel" (298 : Nat) ({ cls := "PulseRentModel", name := "emit", desc := "(II)V" } : Jvm.MethodName)) ∈ lw_all := lw_g (lw_at lw_m8 229 rfl) rfl
theorem q2044 : (Jvm.Cond.privateMethod ({ cls := "PulseRentModel", name := "emit", desc := "(II)V" } : Jvm.MethodName)) ∈ lw_tbl := lw_at lw_m8 230 rfl
theorem q2045 : (Jvm.Cond.instanceMethod ({ cls := "PulseRentModel", name := "emit", desc := "(II)V" } : Jvm.MethodName)) ∈ lw_all := lw_g (lw_at lw_m8 231 rfl) rfl
theorem q2046 : (Jvm.Cond.code ({ cls := "PulseRentModel", name := "emit", desc := "(II)V" } : Jvm.MethodName) prog_26_method_37_code (3 : Nat) (Option.none : Option Jvm.ClassFile.FieldType)) ∈ lw_all := lw_g (lw_at lw_m8 232 rfl) rfl
theorem q2047 : (Jvm.Cond.methodLink "PulseRentModel" (311 : Nat) ({ cls := "PulseRentModel", name := "hasSign", desc := "(I)Z" } : Jvm.MethodName)) ∈ lw_all := lw_g (lw_at lw_m8 233 rfl) rfl
theorem q2048 : (Jvm.Cond.privateMethod ({ cls := "PulseRentModel", name := "hasSign", desc := "(I)Z" } : Jvm.MethodName)) ∈ lw_tbl := lw_at lw_m8 234 rfl
theorem q2049 : (Jvm.Cond.instanceMethod ({ cls := "PulseRentModel", name := "hasSign", desc := "(I)Z" } : Jvm.MethodName)) ∈ lw_all := lw_g (lw_at lw_m8 235 rfl) rfl
theorem q2050 : (Jvm.Cond.code ({ cls := "PulseRentModel", name := "hasSign", desc := "(I)Z" } : Jvm.MethodName) prog_26_method_14_code (3 : Nat) (Option.some Jvm.ClassFile.FieldType.boolean)) ∈ lw_all := lw_g (lw_at lw_m8 236 rfl) rfl
theorem q2051 : (Jvm.Cond.methodLink "PulseRentModel" (261 : Nat) ({ cls := "PulseRentModel", name := "takeSign", desc := "(I)V" } : Jvm.MethodName)) ∈ lw_all := lw_g (lw_at lw_m8 237 rfl) rfl
theorem q2052 : (Jvm.Cond.privateMethod ({ cls := "PulseRentModel", name := "takeSign", desc := "(I)V" } : Jvm.MethodName)) ∈ lw_tbl := lw_at lw_m8 238 rfl
theorem q2053 : (Jvm.Cond.instanceMethod ({ cls := "PulseRentModel", name := "takeSign", desc := "(I)V" } : Jvm.MethodName)) ∈ lw_all := lw_g (lw_at lw_m8 239 rfl) rfl
theorem q2054 : (Jvm.Cond.code ({ cls := "PulseRentModel", name := "takeSign", desc := "(I)V" } : Jvm.MethodName) prog_26_method_13_code (2 : Nat) (Option.none : Option Jvm.ClassFile.FieldType)) ∈ lw_all := lw_g (lw_at lw_m9 0 rfl) rfl
theorem q2056 : (Jvm.Cond.instanceMethod ({ cls := "PulseRentModel", name := "months", desc := "()I" } : Jvm.MethodName)) ∈ lw_all := lw_g (lw_at lw_m9 2 rfl) rfl
theorem q2057 : (Jvm.Cond.selects "PulseRentModel" ({ cls := "PulseRentModel", name := "months", desc := "()I" } : Jvm.MethodName) ({ cls := "PulseRentModel", name := "months", desc := "()I" } : Jvm.MethodName)) ∈ lw_all := lw_g (lw_at lw_m9 3 rfl) rfl
theorem q2058 : (Jvm.Cond.code ({ cls := "PulseRentModel", name := "months", desc := "()I" } : Jvm.MethodName) prog_26_method_35_code (3 : Nat) (Option.some Jvm.ClassFile.FieldType.int)) ∈ lw_all := lw_g (lw_at lw_m9 4 rfl) rfl
theorem q2059 : (Jvm.Cond.methodLink "PulseRentModel" (302 : Nat) ({ cls := "PulseRentModel", name := "readMonth", desc := "(II)V" } : Jvm.MethodName)) ∈ lw_all := lw_g (lw_at lw_m9 5 rfl) rfl
theorem q2060 : (Jvm.Cond.privateMethod ({ cls := "PulseRentModel", name := "readMonth", desc := "(II)V" } : Jvm.MethodName)) ∈ lw_tbl := lw_at lw_m9 6 rfl
theorem q2061 : (Jvm.Cond.instanceMethod ({ cls := "PulseRentModel", name := "readMonth", desc := "(II)V" } : Jvm.MethodName)) ∈ lw_all := lw_g (lw_at lw_m9 7 rfl) rfl
theorem q2062 : (Jvm.Cond.code ({ cls := "PulseRentModel", name := "readMonth", desc := "(II)V" } : Jvm.MethodName) prog_26_method_36_code (3 : Nat) (Option.none : Option Jvm.ClassFile.FieldType)) ∈ lw_all := lw_g (lw_at lw_m9 8 rfl) rfl
theorem q2064 : (Jvm.Cond.instanceMethod ({ cls := "PulseRentModel", name := "room", desc := "(II)I" } : Jvm.MethodName)) ∈ lw_all := lw_g (lw_at lw_m9 10 rfl) rfl
theorem q2065 : (Jvm.Cond.selects "PulseRentModel" ({ cls := "PulseRentModel", name := "room", desc := "(II)I" } : Jvm.MethodName) ({ cls := "PulseRentModel", name := "room", desc := "(II)I" } : Jvm.MethodName)) ∈ lw_all := lw_g (lw_at lw_m9 11 rfl) rfl
theorem q2066 : (Jvm.Cond.code ({ cls := "PulseRentModel", name := "room", desc := "(II)I" } : Jvm.MethodName) prog_26_method_71_code (3 : Nat) (Option.some Jvm.ClassFile.FieldType.int)) ∈ lw_all := lw_g (lw_at lw_m9 12 rfl) rfl
theorem q2067 : (Jvm.Cond.methodLink "PulseRentModel" (380 : Nat) ({ cls := "PulseRentModel", name := "isRoom", desc := "(I)Z" } : Jvm.MethodName)) ∈ lw_all := lw_g (lw_at lw_m9 13 rfl) rfl
theorem q2068 : (Jvm.Cond.privateMethod ({ cls := "PulseRentModel", name := "isRoom", desc := "(I)Z" } : Jvm.MethodName)) ∈ lw_tbl := lw_at lw_m9 14 rfl
theorem q2069 : (Jvm.Cond.instanceMethod ({ cls := "PulseRentModel", name := "isRoom", desc := "(I)Z" } : Jvm.MethodName)) ∈ lw_all := lw_g (lw_at lw_m9 15 rfl) rfl
theorem q2070 : (Jvm.Cond.code ({ cls := "PulseRentModel", name := "isRoom", desc := "(I)Z" } : Jvm.MethodName) prog_26_method_56_code (2 : Nat) (Option.some Jvm.ClassFile.FieldType.boolean)) ∈ lw_all := lw_g (lw_at lw_m9 16 rfl) rfl
theorem q2071 : (Jvm.Cond.methodLink "PulseRentModel" (343 : Nat) ({ cls := "PulseRentModel", name := "rooms", desc := "()I" } : Jvm.MethodName)) ∈ lw_all := lw_g (lw_at lw_m9 17 rfl) rfl
theorem q2072 : (Jvm.Cond.privateMethod ({ cls := "PulseRentModel", name := "rooms", desc := "()I" } : Jvm.MethodName)) ∈ lw_tbl := lw_at lw_m9 18 rfl
theorem q2073 : (Jvm.Cond.instanceMethod ({ cls := "PulseRentModel", name := "rooms", desc := "()I" } : Jvm.MethodName)) ∈ lw_all := lw_g (lw_at lw_m9 19 rfl) rfl
theorem q2074 : (Jvm.Cond.code ({ cls := "PulseRentModel", name := "rooms", desc := "()I" } : Jvm.MethodName) prog_26_method_49_code (1 : Nat) (Option.some Jvm.ClassFile.FieldType.int)) ∈ lw_all := lw_g (lw_at lw_m9 20 rfl) rfl
theorem q2075 : (Jvm.Cond.methodLink "PulseRentModel" (356 : Nat) ({ cls := "PulseRentModel", name := "roomOf", desc := "(II)I" } : Jvm.MethodName)) ∈ lw_all := lw_g (lw_at lw_m9 21 rfl) rfl
theorem q2076 : (Jvm.Cond.privateMethod ({ cls := "PulseRentModel", name := "roomOf", desc := "(II)I" } : Jvm.MethodName)) ∈ lw_tbl := lw_at lw_m9 22 rfl
theorem q2077 : (Jvm.Cond.instanceMethod ({ cls := "PulseRentModel", name := "roomOf", desc := "(II)I" } : Jvm.MethodName)) ∈ lw_all := lw_g (lw_at lw_m9 23 rfl) rfl
theorem q2078 : (Jvm.Cond.code ({ cls := "PulseRentModel", name := "roomOf", desc := "(II)I" } : Jvm.MethodName) prog_26_method_52_code (3 : Nat) (Option.some Jvm.ClassFile.FieldType.int)) ∈ lw_all := lw_g (lw_at lw_m9 24 rfl) rfl
theorem q2079 : (Jvm.Cond.methodLink "PulseRentModel" (383 : Nat) ({ cls := "PulseRentModel", name := "whoIn", desc := "(II)I" } : Jvm.MethodName)) ∈ lw_all := lw_g (lw_at lw_m9 25 rfl) rfl
theorem q2080 : (Jvm.Cond.privateMethod ({ cls := "PulseRentModel", name := "whoIn", desc := "(II)I" } : Jvm.MethodName)) ∈ lw_tbl := lw_at lw_m9 26 rfl
theorem q2081 : (Jvm.Cond.instanceMethod ({ cls := "PulseRentModel", name := "whoIn", desc := "(II)I" } : Jvm.MethodName)) ∈ lw_all := lw_g (lw_at lw_m9 27 rfl) rfl
theorem q2082 : (Jvm.Cond.code ({ cls := "PulseRentModel", name := "whoIn", desc := "(II)I" } : Jvm.MethodName) prog_26_method_58_code (5 : Nat) (Option.some Jvm.ClassFile.FieldType.int)) ∈ lw_all := lw_g (lw_at lw_m9 28 rfl) rfl
theorem q2084 : (Jvm.Cond.instanceMethod ({ cls := "PulseRentModel", name := "tenant", desc := "(II)I" } : Jvm.MethodName)) ∈ lw_all := lw_g (lw_at lw_m9 30 rfl) rfl
theorem q2085 : (Jvm.Cond.selects "PulseRentModel" ({ cls := "PulseRentModel", name := "tenant", desc := "(II)I" } : Jvm.MethodName) ({ cls := "PulseRentModel", name := "tenant", desc := "(II)I" } : Jvm.MethodName)) ∈ lw_all := lw_g (lw_at lw_m9 31 rfl) rfl
theorem q2086 : (Jvm.Cond.code ({ cls := "PulseRentModel", name := "tenant", desc := "(II)I" } : Jvm.MethodName) prog_26_method_72_code (3 : Nat) (Option.some Jvm.ClassFile.FieldType.int)) ∈ lw_all := lw_g (lw_at lw_m9 32 rfl) rfl
theorem q2087 : (Jvm.Cond.methodLink "PulseRentModel" (346 : Nat) ({ cls := "PulseRentModel", name := "isTenant", desc := "(I)Z" } : Jvm.MethodName)) ∈ lw_all := lw_g (lw_at lw_m9 33 rfl) rfl
theorem q2088 : (Jvm.Cond.privateMethod ({ cls := "PulseRentModel", name := "isTenant", desc := "(I)Z" } : Jvm.MethodName)) ∈ lw_tbl := lw_at lw_m9 34 rfl
theorem q2089 : (Jvm.Cond.instanceMethod ({ cls := "PulseRentModel", name := "isTenant", desc := "(I)Z" } : Jvm.MethodName)) ∈ lw_all := lw_g (lw_at lw_m9 35 rfl) rfl
theorem q2090 : (Jvm.Cond.code ({ cls := "PulseRentModel", name := "isTenant", desc := "(I)Z" } : Jvm.MethodName) prog_26_method_55_code (2 : Nat) (Option.some Jvm.ClassFile.FieldType.boolean)) ∈ lw_all := lw_g (lw_at lw_m9 36 rfl) rfl
theorem q2092 : (Jvm.Cond.instanceMethod ({ cls := "PulseRentModel", name := "pulse", desc := "(I)I" } : Jvm.MethodName)) ∈ lw_all := lw_g (lw_at lw_m9 38 rfl) rfl
theorem q2093 : (Jvm.Cond.selects "PulseRentModel" ({ cls := "PulseRentModel", name := "pulse", desc := "(I)I" } : Jvm.MethodName) ({ cls := "PulseRentModel", name := "pulse", desc := "(I)I" } : Jvm.MethodName)) ∈ lw_all := lw_g (lw_at lw_m9 39 rfl) rfl
theorem q2094 : (Jvm.Cond.code ({ cls := "PulseRentModel", name := "pulse", desc := "(I)I" } : Jvm.MethodName) prog_26_method_73_code (2 : Nat) (Option.some Jvm.ClassFile.FieldType.int)) ∈ lw_all := lw_g (lw_at lw_m9 40 rfl) rfl
theorem q2095 : (Jvm.Cond.methodLink "PulseRentModel" (349 : Nat) ({ cls := "PulseRentModel", name := "isIn", desc := "(II)Z" } : Jvm.MethodName)) ∈ lw_all := lw_g (lw_at lw_m9 41 rfl) rfl
theorem q2096 : (Jvm.Cond.privateMethod ({ cls := "PulseRentModel", name := "isIn", desc := "(II)Z" } : Jvm.MethodName)) ∈ lw_tbl := lw_at lw_m9 42 rfl
theorem q2097 : (Jvm.Cond.instanceMethod ({ cls := "PulseRentModel", name := "isIn", desc := "(II)Z" } : Jvm.MethodName)) ∈ lw_all := lw_g (lw_at lw_m9 43 rfl) rfl
theorem q2098 : (Jvm.Cond.code ({ cls := "PulseRentModel", name := "isIn", desc := "(II)Z" } : Jvm.MethodName) prog_26_method_57_code (3 : Nat) (Option.some Jvm.ClassFile.FieldType.boolean)) ∈ lw_all := lw_g (lw_at lw_m9 44 rfl) rfl
theorem q2099 : (Jvm.Cond.methodLink "PulseRentModel" (362 : Nat) ({ cls := "PulseRentModel", name := "pulseOf", desc := "(II)I" } : Jvm.MethodName)) ∈ lw_all := lw_g (lw_at lw_m9 45 rfl) rfl
theorem q2100 : (Jvm.Cond.privateMethod ({ cls := "PulseRentModel", name := "pulseOf", desc := "(II)I" } : Jvm.MethodName)) ∈ lw_tbl := lw_at lw_m9 46 rfl
theorem q2101 : (Jvm.Cond.instanceMethod ({ cls := "PulseRentModel", name := "pulseOf", desc := "(II)I" } : Jvm.MethodName)) ∈ lw_all := lw_g (lw_at lw_m9 47 rfl) rfl
theorem q2102 : (Jvm.Cond.code ({ cls := "PulseRentModel", name := "pulseOf", desc := "(II)I" } : Jvm.MethodName) prog_26_method_61_code (4 : Nat) (Option.some Jvm.ClassFile.FieldType.int)) ∈ lw_all := lw_g (lw_at lw_m9 48 rfl) rfl
theorem q2103 : (Jvm.Cond.methodLink "PulseRentModel" (353 : Nat) ({ cls := "PulseRentModel", name := "restOf", desc := "(I)I" } : Jvm.MethodName)) ∈ lw_all := lw_g (lw_at lw_m9 49 rfl) rfl
theorem q2104 : (Jvm.Cond.privateMethod ({ cls := "PulseRentModel", name := "restOf", desc := "(I)I" } : Jvm.MethodName)) ∈ lw_tbl := lw_at lw_m9 50 rfl
theorem q2105 : (Jvm.Cond.instanceMethod ({ cls := "PulseRentModel", name := "restOf", desc := "(I)I" } : Jvm.MethodName)) ∈ lw_all := lw_g (lw_at lw_m9 51 rfl) rfl
theorem q2106 : (Jvm.Cond.code ({ cls := "PulseRentModel", name := "restOf", desc := "(I)I" } : Jvm.MethodName) prog_26_method_59_code (2 : Nat) (Option.some Jvm.ClassFile.FieldType.int)) ∈ lw_all := lw_g (lw_at lw_m9 52 rfl) rfl
theorem q2107 : (Jvm.Cond.methodLink "PulseRentModel" (359 : Nat) ({ cls := "PulseRentModel", name := "isLoving", desc := "(II)Z" } : Jvm.MethodName)) ∈ lw_all := lw_g (lw_at lw_m9 53 rfl) rfl
theorem q2108 : (Jvm.Cond.privateMethod ({ cls := "PulseRentModel", name := "isLoving", desc := "(II)Z" } : Jvm.MethodName)) ∈ lw_tbl := lw_at lw_m9 54 rfl
theorem q2109 : (Jvm.Cond.instanceMethod ({ cls := "PulseRentModel", name := "isLoving", desc := "(II)Z" } : Jvm.MethodName)) ∈ lw_all := lw_g (lw_at lw_m9 55 rfl) rfl
theorem q2110 : (Jvm.Cond.code ({ cls := "PulseRentModel", name := "isLoving", desc := "(II)Z" } : Jvm.MethodName) prog_26_method_60_code (5 : Nat) (Option.some Jvm.ClassFile.FieldType.boolean)) ∈ lw_all := lw_g (lw_at lw_m9 56 rfl) rfl
theorem q2112 : (Jvm.Cond.instanceMethod ({ cls := "PulseRentModel", name := "climb", desc := "(I)I" } : Jvm.MethodName)) ∈ lw_all := lw_g (lw_at lw_m9 58 rfl) rfl
theorem q2113 : (Jvm.Cond.selects "PulseRentModel" ({ cls := "PulseRentModel", name := "climb", desc := "(I)I" } : Jvm.MethodName) ({ cls := "PulseRentModel", name := "climb", desc := "(I)I" } : Jvm.MethodName)) ∈ lw_all := lw_g (lw_at lw_m9 59 rfl) rfl
theorem q2114 : (Jvm.Cond.code ({ cls := "PulseRentModel", name := "climb", desc := "(I)I" } : Jvm.MethodName) prog_26_method_74_code (2 : Nat) (Option.some Jvm.ClassFile.FieldType.int)) ∈ lw_all := lw_g (lw_at lw_m9 60 rfl) rfl
theorem q2115 : (Jvm.Cond.methodLink "PulseRentModel" (386 : Nat) ({ cls := "PulseRentModel", name := "keeps", desc := "()V" } : Jvm.MethodName)) ∈ lw_all := lw_g (lw_at lw_m9 61 rfl) rfl
theorem q2116 : (Jvm.Cond.privateMethod ({ cls := "PulseRentModel", name := "keeps", desc := "()V" } : Jvm.MethodName)) ∈ lw_tbl := lw_at lw_m9 62 rfl
theorem q2117 : (Jvm.Cond.instanceMethod ({ cls := "PulseRentModel", name := "keeps", desc := "()V" } : Jvm.MethodName)) ∈ lw_all := lw_g (lw_at lw_m9 63 rfl) rfl
theorem q2118 : (Jvm.Cond.code ({ cls := "PulseRentModel", name := "keeps", desc := "()V" } : Jvm.MethodName) prog_26_method_48_code (2 : Nat) (Option.none : Option Jvm.ClassFile.FieldType)) ∈ lw_all := lw_g (lw_at lw_m9 64 rfl) rfl
theorem q2119 : (Jvm.Cond.methodLink "PulseRentModel" (339 : Nat) ({ cls := "PulseRentModel", name := "copies", desc := "(III)V" } : Jvm.MethodName)) ∈ lw_all := lw_g (lw_at lw_m9 65 rfl) rfl
theorem q2120 : (Jvm.Cond.privateMethod ({ cls := "PulseRentModel", name := "copies", desc := "(III)V" } : Jvm.MethodName)) ∈ lw_tbl := lw_at lw_m9 66 rfl
theorem q2121 : (Jvm.Cond.instanceMethod ({ cls := "PulseRentModel", name := "copies", desc := "(III)V" } : Jvm.MethodName)) ∈ lw_all := lw_g (lw_at lw_m9 67 rfl) rfl
theorem q2122 : (Jvm.Cond.code ({ cls := "PulseRentModel", name := "copies", desc := "(III)V" } : Jvm.MethodName) prog_26_method_45_code (5 : Nat) (Option.none : Option Jvm.ClassFile.FieldType)) ∈ lw_all := lw_g (lw_at lw_m9 68 rfl) rfl
theorem q2123 : (Jvm.Cond.methodLink "PulseRentModel" (389 : Nat) ({ cls := "PulseRentModel", name := "climbs", desc := "(II)V" } : Jvm.MethodName)) ∈ lw_all := lw_g (lw_at lw_m9 69 rfl) rfl
theorem q2124 : (Jvm.Cond.privateMethod ({ cls := "PulseRentModel", name := "climbs", desc := "(II)V" } : Jvm.MethodName)) ∈ lw_tbl := lw_at lw_m9 70 rfl
theorem q2125 : (Jvm.Cond.instanceMethod ({ cls := "PulseRentModel", name := "climbs", desc := "(II)V" } : Jvm.MethodName)) ∈ lw_all := lw_g (lw_at lw_m9 71 rfl) rfl
theorem q2126 : (Jvm.Cond.code ({ cls := "PulseRentModel", name := "climbs", desc := "(II)V" } : Jvm.MethodName) prog_26_method_67_code (4 : Nat) (Option.none : Option Jvm.ClassFile.FieldType)) ∈ lw_all := lw_g (lw_at lw_m9 72 rfl) rfl
theorem q2128 : (Jvm.Cond.instanceMethod ({ cls := "PulseRentModel", name := "fright", desc := "(II)I" } : Jvm.MethodName)) ∈ lw_all := lw_g (lw_at lw_m9 74 rfl) rfl
theorem q2129 : (Jvm.Cond.selects "PulseRentModel" ({ cls := "PulseRentModel", name := "fright", desc := "(II)I" } : Jvm.MethodName) ({ cls := "PulseRentModel", name := "fright", desc := "(II)I" } : Jvm.MethodName)) ∈ lw_all := lw_g (lw_at lw_m9 75 rfl) rfl
theorem q2130 : (Jvm.Cond.code ({ cls := "PulseRentModel", name := "fright", desc := "(II)I" } : Jvm.MethodName) prog_26_method_75_code (3 : Nat) (Option.some Jvm.ClassFile.FieldType.int)) ∈ lw_all := lw_g (lw_at lw_m9 76 rfl) rfl
theorem q2131 : (Jvm.Cond.methodLink "PulseRentModel" (392 : Nat) ({ cls := "PulseRentModel", name := "frights", desc := "(III)V" } : Jvm.MethodName)) ∈ lw_all := lw_g (lw_at lw_m9 77 rfl) rfl
theorem q2132 : (Jvm.Cond.privateMethod ({ cls := "PulseRentModel", name := "frights", desc := "(III)V" } : Jvm.MethodName)) ∈ lw_tbl := lw_at lw_m9 78 rfl
theorem q2133 : (Jvm.Cond.instanceMethod ({ cls := "PulseRentModel", name := "frights", desc := "(III)V" } : Jvm.MethodName)) ∈ lw_all := lw_g (lw_at lw_m9 79 rfl) rfl
theorem q2134 : (Jvm.Cond.code ({ cls := "PulseRentModel", name := "frights", desc := "(III)V" } : Jvm.MethodName) prog_26_method_69_code (4 : Nat) (Option.none : Option Jvm.ClassFile.FieldType)) ∈ lw_all := lw_g (lw_at lw_m9 80 rfl) rfl
theorem q2135 : (Jvm.Cond.methodLink "PulseRentModel" (377 : Nat) ({ cls := "PulseRentModel", name := "frightened", desc := "(III)I" } : Jvm.MethodName)) ∈ lw_all := lw_g (lw_at lw_m9 81 rfl) rfl
theorem q2136 : (Jvm.Cond.privateMethod ({ cls := "PulseRentModel", name := "frightened", desc := "(III)I" } : Jvm.MethodName)) ∈ lw_tbl := lw_at lw_m9 82 rfl
theorem q2137 : (Jvm.Cond.instanceMethod ({ cls := "PulseRentModel", name := "frightened", desc := "(III)I" } : Jvm.MethodName)) ∈ lw_all := lw_g (lw_at lw_m9 83 rfl) rfl
theorem q2138 : (Jvm.Cond.code ({ cls := "PulseRentModel", name := "frightened", desc := "(III)I" } : Jvm.MethodName) prog_26_method_68_code (5 : Nat) (Option.some Jvm.ClassFile.FieldType.int)) ∈ lw_all := lw_g (lw_at lw_m9 84 rfl) rfl
theorem q2140 : (Jvm.Cond.instanceMethod ({ cls := "PulseRentModel", name := "drink", desc := "(I)Z" } : Jvm.MethodName)) ∈ lw_all := lw_g (lw_at lw_m9 86 rfl) rfl
theorem q2141 : (Jvm.Cond.selects "PulseRentModel" ({ cls := "PulseRentModel", name := "drink", desc := "(I)Z" } : Jvm.MethodName) ({ cls := "PulseRentModel", name := "drink", desc := "(I)Z" } : Jvm.MethodName)) ∈ lw_all := lw_g (lw_at lw_m9 87 rfl) rfl
theorem q2142 : (Jvm.Cond.code ({ cls := "PulseRentModel", name := "drink", desc := "(I)Z" } : Jvm.MethodName) prog_26_method_76_code (2 : Nat) (Option.some Jvm.ClassFile.FieldType.boolean)) ∈ lw_all := lw_g (lw_at lw_m9 88 rfl) rfl
theorem q2144 : (Jvm.Cond.instanceMethod ({ cls := "PulseRentModel", name := "minutes", desc := "(I)I" } : Jvm.MethodName)) ∈ lw_all := lw_g (lw_at lw_m9 90 rfl) rfl
theorem q2145 : (Jvm.Cond.selects "PulseRentModel" ({ cls := "PulseRentModel", name := "minutes", desc := "(I)I" } : Jvm.MethodName) ({ cls := "PulseRentModel", name := "minutes", desc := "(I)I" } : Jvm.MethodName)) ∈ lw_all := lw_g (lw_at lw_m9 91 rfl) rfl
theorem q2146 : (Jvm.Cond.code ({ cls := "PulseRentModel", name := "minutes", desc := "(I)I" } : Jvm.MethodName) prog_26_method_77_code (3 : Nat) (Option.some Jvm.ClassFile.FieldType.int)) ∈ lw_all := lw_g (lw_at lw_m9 92 rfl) rfl
theorem q2147 : (Jvm.Cond.methodLink "PulseRentModel" (395 : Nat) ({ cls := "PulseRentModel", name := "passes", desc := "(I)I" } : Jvm.MethodName)) ∈ lw_all := lw_g (lw_at lw_m9 93 rfl) rfl
theorem q2148 : (Jvm.Cond.privateMethod ({ cls := "PulseRentModel", name := "passes", desc := "(I)I" } : Jvm.MethodName)) ∈ lw_tbl := lw_at lw_m9 94 rfl
theorem q2149 : (Jvm.Cond.instanceMethod ({ cls := "PulseRentModel", name := "passes", desc := "(I)I" } : Jvm.MethodName)) ∈ lw_all := lw_g (lw_at lw_m9 95 rfl) rfl
theorem q2150 : (Jvm.Cond.code ({ cls := "PulseRentModel", name := "passes", desc := "(I)I" } : Jvm.MethodName) prog_26_method_63_code (6 : Nat) (Option.some Jvm.ClassFile.FieldType.int)) ∈ lw_all := lw_g (lw_at lw_m9 96 rfl) rfl
theorem q2151 : (Jvm.Cond.methodLink "PulseRentModel" (365 : Nat) ({ cls := "PulseRentModel", name := "calmed", desc := "(II)I" } : Jvm.MethodName)) ∈ lw_all := lw_g (lw_at lw_m9 97 rfl) rfl
theorem q2152 : (Jvm.Cond.privateMethod ({ cls := "PulseRentModel", name := "calmed", desc := "(II)I" } : Jvm.MethodName)) ∈ lw_tbl := lw_at lw_m9 98 rfl
theorem q2153 : (Jvm.Cond.instanceMethod ({ cls := "PulseRentModel", name := "calmed", desc := "(II)I" } : Jvm.MethodName)) ∈ lw_all := lw_g (lw_at lw_m9 99 rfl) rfl
theorem q2154 : (Jvm.Cond.code ({ cls := "PulseRentModel", name := "calmed", desc := "(II)I" } : Jvm.MethodName) prog_26_method_62_code (3 : Nat) (Option.some Jvm.ClassFile.FieldType.int)) ∈ lw_all := lw_g (lw_at lw_m9 100 rfl) rfl
theorem q2156 : (Jvm.Cond.instanceMethod ({ cls := "PulseRentModel", name := "noon", desc := "()I" } : Jvm.MethodName)) ∈ lw_all := lw_g (lw_at lw_m9 102 rfl) rfl
theorem q2157 : (Jvm.Cond.selects "PulseRentModel" ({ cls := "PulseRentModel", name := "noon", desc := "()I" } : Jvm.MethodName) ({ cls := "PulseRentModel", name := "noon", desc := "()I" } : Jvm.MethodName)) ∈ lw_all := lw_g (lw_at lw_m9 103 rfl) rfl
theorem q2158 : (Jvm.Cond.code ({ cls := "PulseRentModel", name := "noon", desc := "()I" } : Jvm.MethodName) prog_26_method_78_code (1 : Nat) (Option.some Jvm.ClassFile.FieldType.int)) ∈ lw_all := lw_g (lw_at lw_m9 104 rfl) rfl
theorem q2159 : (Jvm.Cond.methodLink "PulseRentModel" (398 : Nat) ({ cls := "PulseRentModel", name := "noons", desc := "(I)I" } : Jvm.MethodName)) ∈ lw_all := lw_g (lw_at lw_m9 105 rfl) rfl
theorem q2160 : (Jvm.Cond.privateMethod ({ cls := "PulseRentModel", name := "noons", desc := "(I)I" } : Jvm.MethodName)) ∈ lw_tbl := lw_at lw_m9 106 rfl
theorem q2161 : (Jvm.Cond.instanceMethod ({ cls := "PulseRentModel", name := "noons", desc := "(I)I" } : Jvm.MethodName)) ∈ lw_all := lw_g (lw_at lw_m9 107 rfl) rfl
theorem q2162 : (Jvm.Cond.code ({ cls := "PulseRentModel", name := "noons", desc := "(I)I" } : Jvm.MethodName) prog_26_method_66_code (8 : Nat) (Option.some Jvm.ClassFile.FieldType.int)) ∈ lw_all := lw_g (lw_at lw_m9 108 rfl) rfl
theorem q2163 : (Jvm.Cond.methodLink "PulseRentModel" (374 : Nat) ({ cls := "PulseRentModel", name := "dueOf", desc := "(II)I" } : Jvm.MethodName)) ∈ lw_all := lw_g (lw_at lw_m9 109 rfl) rfl
theorem q2164 : (Jvm.Cond.privateMethod ({ cls := "PulseRentModel", name := "dueOf", desc := "(II)I" } : Jvm.MethodName)) ∈ lw_tbl := lw_at lw_m9 110 rfl
theorem q2165 : (Jvm.Cond.instanceMethod ({ cls := "PulseRentModel", name := "dueOf", desc := "(II)I" } : Jvm.MethodName)) ∈ lw_all := lw_g (lw_at lw_m9 111 rfl) rfl
theorem q2166 : (Jvm.Cond.code ({ cls := "PulseRentModel", name := "dueOf", desc := "(II)I" } : Jvm.MethodName) prog_26_method_65_code (3 : Nat) (Option.some Jvm.ClassFile.FieldType.int)) ∈ lw_all := lw_g (lw_at lw_m9 112 rfl) rfl
theorem q2167 : (Jvm.Cond.methodLink "PulseRentModel" (371 : Nat) ({ cls := "PulseRentModel", name := "dueBy", desc := "(III)I" } : Jvm.MethodName)) ∈ lw_all := lw_g (lw_at lw_m9 113 rfl) rfl
theorem q2168 : (Jvm.Cond.privateMethod ({ cls := "PulseRentModel", name := "dueBy", desc := "(III)I" } : Jvm.MethodName)) ∈ lw_tbl := lw_at lw_m9 114 rfl
theorem q2169 : (Jvm.Cond.instanceMethod ({ cls := "PulseRentModel", name := "dueBy", desc := "(III)I" } : Jvm.MethodName)) ∈ lw_all := lw_g (lw_at lw_m9 115 rfl) rfl
theorem q2170 : (Jvm.Cond.code ({ cls := "PulseRentModel", name := "dueBy", desc := "(III)I" } : Jvm.MethodName) prog_26_method_64_code (5 : Nat) (Option.some Jvm.ClassFile.FieldType.int)) ∈ lw_all := lw_g (lw_at lw_m9 116 rfl) rfl
theorem q2171 : (Jvm.Cond.methodLink "PulseRentModel" (368 : Nat) ({ cls := "PulseRentModel", name := "worthAt", desc := "(I)I" } : Jvm.MethodName)) ∈ lw_all := lw_g (lw_at lw_m9 117 rfl) rfl
theorem q2172 : (Jvm.Cond.privateMethod ({ cls := "PulseRentModel", name := "worthAt", desc := "(I)I" } : Jvm.MethodName)) ∈ lw_tbl := lw_at lw_m9 118 rfl
theorem q2173 : (Jvm.Cond.instanceMethod ({ cls := "PulseRentModel", name := "worthAt", desc := "(I)I" } : Jvm.MethodName)) ∈ lw_all := lw_g (lw_at lw_m9 119 rfl) rfl
theorem q2174 : (Jvm.Cond.code ({ cls := "PulseRentModel", name := "worthAt", desc := "(I)I" } : Jvm.MethodName) prog_26_method_43_code (5 : Nat) (Option.some Jvm.ClassFile.FieldType.int)) ∈ lw_all := lw_g (lw_at lw_m9 120 rfl) rfl
theorem q2175 : (Jvm.Cond.methodLink "PulseRentModel" (320 : Nat) ({ cls := "PulseRentModel", name := "both", desc := "(III)I" } : Jvm.MethodName)) ∈ lw_all := lw_g (lw_at lw_m9 121 rfl) rfl
theorem q2176 : (Jvm.Cond.static ({ cls := "PulseRentModel", name := "both", desc := "(III)I" } : Jvm.MethodName)) ∈ lw_all := lw_g (lw_at lw_m9 122 rfl) rfl
theorem q2177 : (Jvm.Cond.code ({ cls := "PulseRentModel", name := "both", desc := "(III)I" } : Jvm.MethodName) prog_26_method_44_code (3 : Nat) (Option.some Jvm.ClassFile.FieldType.int)) ∈ lw_all := lw_g (lw_at lw_m9 123 rfl) rfl
theorem q2179 : (Jvm.Cond.instanceMethod ({ cls := "PulseRentModel", name := "move", desc := "(II)Z" } : Jvm.MethodName)) ∈ lw_all := lw_g (lw_at lw_m9 125 rfl) rfl
theorem q2180 : (Jvm.Cond.selects "PulseRentModel" ({ cls := "PulseRentModel", name := "move", desc := "(II)Z" } : Jvm.MethodName) ({ cls := "PulseRentModel", name := "move", desc := "(II)Z" } : Jvm.MethodName)) ∈ lw_all := lw_g (lw_at lw_m9 126 rfl) rfl
theorem q2181 : (Jvm.Cond.code ({ cls := "PulseRentModel", name := "move", desc := "(II)Z" } : Jvm.MethodName) prog_26_method_80_code (3 : Nat) (Option.some Jvm.ClassFile.FieldType.boolean)) ∈ lw_all := lw_g (lw_at lw_m9 127 rfl) rfl
theorem q2182 : (Jvm.Cond.methodLink "PulseRentModel" (401 : Nat) ({ cls := "PulseRentModel", name := "mayMove", desc := "(III)Z" } : Jvm.MethodName)) ∈ lw_all := lw_g (lw_at lw_m9 128 rfl) rfl
theorem q2183 : (Jvm.Cond.privateMethod ({ cls := "PulseRentModel", name := "mayMove", desc := "(III)Z" } : Jvm.MethodName)) ∈ lw_tbl := lw_at lw_m9 129 rfl
theorem q2184 : (Jvm.Cond.instanceMethod ({ cls := "PulseRentModel", name := "mayMove", desc := "(III)Z" } : Jvm.MethodName)) ∈ lw_all := lw_g (lw_at lw_m9 130 rfl) rfl
theorem q2185 : (Jvm.Cond.code ({ cls := "PulseRentModel", name := "mayMove", desc := "(III)Z" } : Jvm.MethodName) prog_26_method_79_code (4 : Nat) (Option.some Jvm.ClassFile.FieldType.boolean)) ∈ lw_all := lw_g (lw_at lw_m9 131 rfl) rfl
theorem q2187 : (Jvm.Cond.instanceMethod ({ cls := "PulseRentModel", name := "undo", desc := "()Z" } : Jvm.MethodName)) ∈ lw_all := lw_g (lw_at lw_m9 133 rfl) rfl
theorem q2188 : (Jvm.Cond.selects "PulseRentModel" ({ cls := "PulseRentModel", name := "undo", desc := "()Z" } : Jvm.MethodName) ({ cls := "PulseRentModel", name := "undo", desc := "()Z" } : Jvm.MethodName)) ∈ lw_all := lw_g (lw_at lw_m9 134 rfl) rfl
theorem q2189 : (Jvm.Cond.code ({ cls := "PulseRentModel", name := "undo", desc := "()Z" } : Jvm.MethodName) prog_26_method_81_code (1 : Nat) (Option.some Jvm.ClassFile.FieldType.boolean)) ∈ lw_all := lw_g (lw_at lw_m9 135 rfl) rfl
theorem q2191 : (Jvm.Cond.instanceMethod ({ cls := "PulseRentModel", name := "judged", desc := "(I)I" } : Jvm.MethodName)) ∈ lw_all := lw_g (lw_at lw_m9 137 rfl) rfl
theorem q2192 : (Jvm.Cond.selects "PulseRentModel" ({ cls := "PulseRentModel", name := "judged", desc := "(I)I" } : Jvm.MethodName) ({ cls := "PulseRentModel", name := "judged", desc := "(I)I" } : Jvm.MethodName)) ∈ lw_all := lw_g (lw_at lw_m9 138 rfl) rfl
theorem q2193 : (Jvm.Cond.code ({ cls := "PulseRentModel", name := "judged", desc := "(I)I" } : Jvm.MethodName) prog_26_method_83_code (6 : Nat) (Option.some Jvm.ClassFile.FieldType.int)) ∈ lw_all := lw_g (lw_at lw_m9 139 rfl) rfl
theorem q2194 : (Jvm.Cond.methodLink "PulseRentModel" (404 : Nat) ({ cls := "PulseRentModel", name := "does", desc := "(I)Z" } : Jvm.MethodName)) ∈ lw_all := lw_g (lw_at lw_m9 140 rfl) rfl
theorem q2195 : (Jvm.Cond.privateMethod ({ cls := "PulseRentModel", name := "does", desc := "(I)Z" } : Jvm.MethodName)) ∈ lw_tbl := lw_at lw_m9 141 rfl
theorem q2196 : (Jvm.Cond.instanceMethod ({ cls := "PulseRentModel", name := "does", desc := "(I)Z" } : Jvm.MethodName)) ∈ lw_all := lw_g (lw_at lw_m9 142 rfl) rfl
theorem q2197 : (Jvm.Cond.code ({ cls := "PulseRentModel", name := "does", desc := "(I)Z" } : Jvm.MethodName) prog_26_method_82_code (6 : Nat) (Option.some Jvm.ClassFile.FieldType.boolean)) ∈ lw_all := lw_g (lw_at lw_m9 143 rfl) rfl
theorem q2198 : (Jvm.Cond.methodLink "PulseRentModel" (407 : Nat) ({ cls := "PulseRentModel", name := "goneMany", desc := "(I)I" } : Jvm.MethodName)) ∈ lw_all := lw_g (lw_at lw_m9 144 rfl) rfl
theorem q2199 : (Jvm.Cond.privateMethod ({ cls := "PulseRentModel", name := "goneMany", desc := "(I)I" } : Jvm.MethodName)) ∈ lw_tbl := lw_at lw_m9 145 rfl
theorem q2200 : (Jvm.Cond.instanceMethod ({ cls := "PulseRentModel", name := "goneMany", desc := "(I)I" } : Jvm.MethodName)) ∈ lw_all := lw_g (lw_at lw_m9 146 rfl) rfl
theorem q2201 : (Jvm.Cond.code ({ cls := "PulseRentModel", name := "goneMany", desc := "(I)I" } : Jvm.MethodName) prog_26_method_70_code (4 : Nat) (Option.some Jvm.ClassFile.FieldType.int)) ∈ lw_all := lw_g (lw_at lw_m9 147 rfl) rfl
theorem q2203 : (Jvm.Cond.instanceMethod ({ cls := "PulseRentModel", name := "owed", desc := "(I)I" } : Jvm.MethodName)) ∈ lw_all := lw_g (lw_at lw_m9 149 rfl) rfl
theorem q2204 : (Jvm.Cond.selects "PulseRentModel" ({ cls := "PulseRentModel", name := "owed", desc := "(I)I" } : Jvm.MethodName) ({ cls := "PulseRentModel", name := "owed", desc := "(I)I" } : Jvm.MethodName)) ∈ lw_all := lw_g (lw_at lw_m9 150 rfl) rfl
theorem q2205 : (Jvm.Cond.code ({ cls := "PulseRentModel", name := "owed", desc := "(I)I" } : Jvm.MethodName) prog_26_method_84_code (2 : Nat) (Option.some Jvm.ClassFile.FieldType.int)) ∈ lw_all := lw_g (lw_at lw_m9 151 rfl) rfl
theorem q2207 : (Jvm.Cond.instanceMethod ({ cls := "PulseRentModel", name := "will", desc := "(II)I" } : Jvm.MethodName)) ∈ lw_all := lw_g (lw_at lw_m9 153 rfl) rfl
theorem q2208 : (Jvm.Cond.selects "PulseRentModel" ({ cls := "PulseRentModel", name := "will", desc := "(II)I" } : Jvm.MethodName) ({ cls := "PulseRentModel", name := "will", desc := "(II)I" } : Jvm.MethodName)) ∈ lw_all := lw_g (lw_at lw_m9 154 rfl) rfl
theorem q2209 : (Jvm.Cond.code ({ cls := "PulseRentModel", name := "will", desc := "(II)I" } : Jvm.MethodName) prog_26_method_85_code (4 : Nat) (Option.some Jvm.ClassFile.FieldType.int)) ∈ lw_all := lw_g (lw_at lw_m9 155 rfl) rfl
theorem q2211 : (Jvm.Cond.instanceMethod ({ cls := "PulseRentModel", name := "last", desc := "(II)I" } : Jvm.MethodName)) ∈ lw_all := lw_g (lw_at lw_m9 157 rfl) rfl
theorem q2212 : (Jvm.Cond.selects "PulseRentModel" ({ cls := "PulseRentModel", name := "last", desc := "(II)I" } : Jvm.MethodName) ({ cls := "PulseRentModel", name := "last", desc := "(II)I" } : Jvm.MethodName)) ∈ lw_all := lw_g (lw_at lw_m9 158 rfl) rfl
theorem q2213 : (Jvm.Cond.code ({ cls := "PulseRentModel", name := "last", desc := "(II)I" } : Jvm.MethodName) prog_26_method_86_code (5 : Nat) (Option.some Jvm.ClassFile.FieldType.int)) ∈ lw_all := lw_g (lw_at lw_m9 159 rfl) rfl
theorem q2215 : (Jvm.Cond.instanceMethod ({ cls := "PulseRentModel", name := "errands", desc := "(II)I" } : Jvm.MethodName)) ∈ lw_all := lw_g (lw_at lw_m9 161 rfl) rfl
theorem q2216 : (Jvm.Cond.selects "PulseRentModel" ({ cls := "PulseRentModel", name := "errands", desc := "(II)I" } : Jvm.MethodName) ({ cls := "PulseRentModel", name := "errands", desc := "(II)I" } : Jvm.MethodName)) ∈ lw_all := lw_g (lw_at lw_m9 162 rfl) rfl
theorem q2217 : (Jvm.Cond.code ({ cls := "PulseRentModel", name := "errands", desc := "(II)I" } : Jvm.MethodName) prog_26_method_89_code (3 : Nat) (Option.some Jvm.ClassFile.FieldType.int)) ∈ lw_all := lw_g (lw_at lw_m9 163 rfl) rfl
theorem q2218 : (Jvm.Cond.methodLink "PulseRentModel" (410 : Nat) ({ cls := "PulseRentModel", name := "errandsMany", desc := "()I" } : Jvm.MethodName)) ∈ lw_all := lw_g (lw_at lw_m9 164 rfl) rfl
theorem q2219 : (Jvm.Cond.privateMethod ({ cls := "PulseRentModel", name := "errandsMany", desc := "()I" } : Jvm.MethodName)) ∈ lw_tbl := lw_at lw_m9 165 rfl
theorem q2220 : (Jvm.Cond.instanceMethod ({ cls := "PulseRentModel", name := "errandsMany", desc := "()I" } : Jvm.MethodName)) ∈ lw_all := lw_g (lw_at lw_m9 166 rfl) rfl
theorem q2221 : (Jvm.Cond.code ({ cls := "PulseRentModel", name := "errandsMany", desc := "()I" } : Jvm.MethodName) prog_26_method_51_code (1 : Nat) (Option.some Jvm.ClassFile.FieldType.int)) ∈ lw_all := lw_g (lw_at lw_m9 167 rfl) rfl
theorem q2222 : (Jvm.Cond.methodLink "PulseRentModel" (422 : Nat) ({ cls := "PulseRentModel", name := "orders", desc := "(III)V" } : Jvm.MethodName)) ∈ lw_all := lw_g (lw_at lw_m9 168 rfl) rfl
theorem q2223 : (Jvm.Cond.privateMethod ({ cls := "PulseRentModel", name := "orders", desc := "(III)V" } : Jvm.MethodName)) ∈ lw_tbl := lw_at lw_m9 169 rfl
theorem q2224 : (Jvm.Cond.instanceMethod ({ cls := "PulseRentModel", name := "orders", desc := "(III)V" } : Jvm.MethodName)) ∈ lw_all := lw_g (lw_at lw_m9 170 rfl) rfl
theorem q2225 : (Jvm.Cond.code ({ cls := "PulseRentModel", name := "orders", desc := "(III)V" } : Jvm.MethodName) prog_26_method_88_code (6 : Nat) (Option.none : Option Jvm.ClassFile.FieldType)) ∈ lw_all := lw_g (lw_at lw_m9 171 rfl) rfl
theorem q2226 : (Jvm.Cond.methodLink "PulseRentModel" (416 : Nat) ({ cls := "PulseRentModel", name := "beatsBy", desc := "(I)I" } : Jvm.MethodName)) ∈ lw_all := lw_g (lw_at lw_m9 172 rfl) rfl
theorem q2227 : (Jvm.Cond.privateMethod ({ cls := "PulseRentModel", name := "beatsBy", desc := "(I)I" } : Jvm.MethodName)) ∈ lw_tbl := lw_at lw_m9 173 rfl
theorem q2228 : (Jvm.Cond.instanceMethod ({ cls := "PulseRentModel", name := "beatsBy", desc := "(I)I" } : Jvm.MethodName)) ∈ lw_all := lw_g (lw_at lw_m9 174 rfl) rfl
theorem q2229 : (Jvm.Cond.code ({ cls := "PulseRentModel", name := "beatsBy", desc := "(I)I" } : Jvm.MethodName) prog_26_method_87_code (8 : Nat) (Option.some Jvm.ClassFile.FieldType.int)) ∈ lw_all := lw_g (lw_at lw_m9 175 rfl) rfl
theorem q2230 : (Jvm.Cond.methodLink "PulseRentModel" (413 : Nat) ({ cls := "PulseRentModel", name := "errandOf", desc := "(II)I" } : Jvm.MethodName)) ∈ lw_all := lw_g (lw_at lw_m9 176 rfl) rfl
theorem q2231 : (Jvm.Cond.privateMethod ({ cls := "PulseRentModel", name := "errandOf", desc := "(II)I" } : Jvm.MethodName)) ∈ lw_tbl := lw_at lw_m9 177 rfl
theorem q2232 : (Jvm.Cond.instanceMethod ({ cls := "PulseRentModel", name := "errandOf", desc := "(II)I" } : Jvm.MethodName)) ∈ lw_all := lw_g (lw_at lw_m9 178 rfl) rfl
theorem q2233 : (Jvm.Cond.code ({ cls := "PulseRentModel", name := "errandOf", desc := "(II)I" } : Jvm.MethodName) prog_26_method_54_code (3 : Nat) (Option.some Jvm.ClassFile.FieldType.int)) ∈ lw_all := lw_g (lw_at lw_m9 179 rfl) rfl
theorem q2235 : (Jvm.Cond.instanceMethod ({ cls := "PulseRentModel", name := "match", desc := "(I)I" } : Jvm.MethodName)) ∈ lw_all := lw_g (lw_at lw_m9 181 rfl) rfl
theorem q2236 : (Jvm.Cond.selects "PulseRentModel" ({ cls := "PulseRentModel", name := "match", desc := "(I)I" } : Jvm.MethodName) ({ cls := "PulseRentModel", name := "match", desc := "(I)I" } : Jvm.MethodName)) ∈ lw_all := lw_g (lw_at lw_m9 182 rfl) rfl
theorem q2237 : (Jvm.Cond.code ({ cls := "PulseRentModel", name := "match", desc := "(I)I" } : Jvm.MethodName) prog_26_method_95_code (2 : Nat) (Option.some Jvm.ClassFile.FieldType.int)) ∈ lw_all := lw_g (lw_at lw_m9 183 rfl) rfl
theorem q2238 : (Jvm.Cond.methodLink "PulseRentModel" (437 : Nat) ({ cls := "PulseRentModel", name := "findMatch", desc := "()V" } : Jvm.MethodName)) ∈ lw_all := lw_g (lw_at lw_m9 184 rfl) rfl
theorem q2239 : (Jvm.Cond.privateMethod ({ cls := "PulseRentModel", name := "findMatch", desc := "()V" } : Jvm.MethodName)) ∈ lw_tbl := lw_at lw_m9 185 rfl
theorem q2240 : (Jvm.Cond.instanceMethod ({ cls := "PulseRentModel", name := "findMatch", desc := "()V" } : Jvm.MethodName)) ∈ lw_all := lw_g (lw_at lw_m9 186 rfl) rfl
theorem q2241 : (Jvm.Cond.code ({ cls := "PulseRentModel", name := "findMatch", desc := "()V" } : Jvm.MethodName) prog_26_method_94_code (3 : Nat) (Option.none : Option Jvm.ClassFile.FieldType)) ∈ lw_all := lw_g (lw_at lw_m9 187 rfl) rfl
theorem q2242 : (Jvm.Cond.methodLink "PulseRentModel" (431 : Nat) ({ cls := "PulseRentModel", name := "wishOf", desc := "(II)I" } : Jvm.MethodName)) ∈ lw_all := lw_g (lw_at lw_m9 188 rfl) rfl
theorem q2243 : (Jvm.Cond.privateMethod ({ cls := "PulseRentModel", name := "wishOf", desc := "(II)I" } : Jvm.MethodName)) ∈ lw_tbl := lw_at lw_m9 189 rfl
theorem q2244 : (Jvm.Cond.instanceMethod ({ cls := "PulseRentModel", name := "wishOf", desc := "(II)I" } : Jvm.MethodName)) ∈ lw_all := lw_g (lw_at lw_m9 190 rfl) rfl
theorem q2245 : (Jvm.Cond.code ({ cls := "PulseRentModel", name := "wishOf", desc := "(II)I" } : Jvm.MethodName) prog_26_method_90_code (4 : Nat) (Option.some Jvm.ClassFile.FieldType.int)) ∈ lw_all := lw_g (lw_at lw_m9 191 rfl) rfl
theorem q2246 : (Jvm.Cond.methodLink "PulseRentModel" (434 : Nat) ({ cls := "PulseRentModel", name := "asksOnce", desc := "(I)Z" } : Jvm.MethodName)) ∈ lw_all := lw_g (lw_at lw_m9 192 rfl) rfl
theorem q2247 : (Jvm.Cond.privateMethod ({ cls := "PulseRentModel", name := "asksOnce", desc := "(I)Z" } : Jvm.MethodName)) ∈ lw_tbl := lw_at lw_m9 193 rfl
theorem q2248 : (Jvm.Cond.instanceMethod ({ cls := "PulseRentModel", name := "asksOnce", desc := "(I)Z" } : Jvm.MethodName)) ∈ lw_all := lw_g (lw_at lw_m9 194 rfl) rfl
theorem q2249 : (Jvm.Cond.code ({ cls := "PulseRentModel", name := "asksOnce", desc := "(I)Z" } : Jvm.MethodName) prog_26_method_93_code (5 : Nat) (Option.some Jvm.ClassFile.FieldType.boolean)) ∈ lw_all := lw_g (lw_at lw_m9 195 rfl) rfl
theorem q2250 : (Jvm.Cond.methodLink "PulseRentModel" (425 : Nat) ({ cls := "PulseRentModel", name := "nextAsked", desc := "(I)I" } : Jvm.MethodName)) ∈ lw_all := lw_g (lw_at lw_m9 196 rfl) rfl
theorem q2251 : (Jvm.Cond.privateMethod ({ cls := "PulseRentModel", name := "nextAsked", desc := "(I)I" } : Jvm.MethodName)) ∈ lw_tbl := lw_at lw_m9 197 rfl
theorem q2252 : (Jvm.Cond.instanceMethod ({ cls := "PulseRentModel", name := "nextAsked", desc := "(I)I" } : Jvm.MethodName)) ∈ lw_all := lw_g (lw_at lw_m9 198 rfl) rfl
theorem q2253 : (Jvm.Cond.code ({ cls := "PulseRentModel", name := "nextAsked", desc := "(I)I" } : Jvm.MethodName) prog_26_method_91_code (5 : Nat) (Option.some Jvm.ClassFile.FieldType.int)) ∈ lw_all := lw_g (lw_at lw_m9 199 rfl) rfl
theorem q2254 : (Jvm.Cond.methodLink "PulseRentModel" (428 : Nat) ({ cls := "PulseRentModel", name := "keeperOf", desc := "(I)I" } : Jvm.MethodName)) ∈ lw_all := lw_g (lw_at lw_m9 200 rfl) rfl
theorem q2255 : (Jvm.Cond.privateMethod ({ cls := "PulseRentModel", name := "keeperOf", desc := "(I)I" } : Jvm.MethodName)) ∈ lw_tbl := lw_at lw_m9 201 rfl
theorem q2256 : (Jvm.Cond.instanceMethod ({ cls := "PulseRentModel", name := "keeperOf", desc := "(I)I" } : Jvm.MethodName)) ∈ lw_all := lw_g (lw_at lw_m9 202 rfl) rfl
theorem q2257 : (Jvm.Cond.code ({ cls := "PulseRentModel", name := "keeperOf", desc := "(I)I" } : Jvm.MethodName) prog_26_method_92_code (4 : Nat) (Option.some Jvm.ClassFile.FieldType.int)) ∈ lw_all := lw_g (lw_at lw_m9 203 rfl) rfl
theorem q2259 : (Jvm.Cond.instanceMethod ({ cls := "PulseRentModel", name := "spare", desc := "(II)I" } : Jvm.MethodName)) ∈ lw_all := lw_g (lw_at lw_m9 205 rfl) rfl
theorem q2260 : (Jvm.Cond.selects "PulseRentModel" ({ cls := "PulseRentModel", name := "spare", desc := "(II)I" } : Jvm.MethodName) ({ cls := "PulseRentModel", name := "spare", desc := "(II)I" } : Jvm.MethodName)) ∈ lw_all := lw_g (lw_at lw_m9 206 rfl) rfl
theorem q2261 : (Jvm.Cond.code ({ cls := "PulseRentModel", name := "spare", desc := "(II)I" } : Jvm.MethodName) prog_26_method_96_code (5 : Nat) (Option.some Jvm.ClassFile.FieldType.int)) ∈ lw_all := lw_g (lw_at lw_m9 207 rfl) rfl
theorem q2263 : (Jvm.Cond.instanceMethod ({ cls := "PulseRentModel", name := "sampled", desc := "(IIII)I" } : Jvm.MethodName)) ∈ lw_all := lw_g (lw_at lw_m9 209 rfl) rfl
theorem q2264 : (Jvm.Cond.selects "PulseRentModel" ({ cls := "PulseRentModel", name := "sampled", desc := "(IIII)I" } : Jvm.MethodName) ({ cls := "PulseRentModel", name := "sampled", desc := "(IIII)I" } : Jvm.MethodName)) ∈ lw_all := lw_g (lw_at lw_m9 210 rfl) rfl
theorem q2265 : (Jvm.Cond.code ({ cls := "PulseRentModel", name := "sampled", desc := "(IIII)I" } : Jvm.MethodName) prog_26_method_98_code (8 : Nat) (Option.some Jvm.ClassFile.FieldType.int)) ∈ lw_all := lw_g (lw_at lw_m9 211 rfl) rfl
theorem q2266 : (Jvm.Cond.methodLink "PulseRentModel" (440 : Nat) ({ cls := "PulseRentModel", name := "choose", desc := "(II)J" } : Jvm.MethodName)) ∈ lw_all := lw_g (lw_at lw_m9 212 rfl) rfl
theorem q2267 : (Jvm.Cond.static ({ cls := "PulseRentModel", name := "choose", desc := "(II)J" } : Jvm.MethodName)) ∈ lw_all := lw_g (lw_at lw_m9 213 rfl) rfl
theorem q2268 : (Jvm.Cond.code ({ cls := "PulseRentModel", name := "choose", desc := "(II)J" } : Jvm.MethodName) prog_26_method_97_code (5 : Nat) (Option.some Jvm.ClassFile.FieldType.long)) ∈ lw_all := lw_g (lw_at lw_m9 214 rfl) rfl
theorem q2269 : (Jvm.Cond.constantLong "PulseRentModel" (444 : Nat) (1000000 : Int64)) ∈ lw_all := lw_g (lw_at lw_m9 215 rfl) rfl
theorem q2271 : (Jvm.Cond.instanceMethod ({ cls := "PulseRentModel", name := "haunt", desc := "(IIII)I" } : Jvm.MethodName)) ∈ lw_all := lw_g (lw_at lw_m9 217 rfl) rfl
theorem q2272 : (Jvm.Cond.selects "PulseRentModel" ({ cls := "PulseRentModel", name := "haunt", desc := "(IIII)I" } : Jvm.MethodName) ({ cls := "PulseRentModel", name := "haunt", desc := "(IIII)I" } : Jvm.MethodName)) ∈ lw_all := lw_g (lw_at lw_m9 218 rfl) rfl
theorem q2273 : (Jvm.Cond.code ({ cls := "PulseRentModel", name := "haunt", desc := "(IIII)I" } : Jvm.MethodName) prog_26_method_101_code (9 : Nat) (Option.some Jvm.ClassFile.FieldType.int)) ∈ lw_all := lw_g (lw_at lw_m9 219 rfl) rfl
theorem q2274 : (Jvm.Cond.methodLink "PulseRentModel" (446 : Nat) ({ cls := "PulseRentModel", name := "bits", desc := "(I)I" } : Jvm.MethodName)) ∈ lw_all := lw_g (lw_at lw_m9 220 rfl) rfl
theorem q2275 : (Jvm.Cond.static ({ cls := "PulseRentModel", name := "bits", desc := "(I)I" } : Jvm.MethodName)) ∈ lw_all := lw_g (lw_at lw_m9 221 rfl) rfl
theorem q2276 : (Jvm.Cond.code ({ cls := "PulseRentModel", name := "bits", desc := "(I)I" } : Jvm.MethodName) prog_26_method_100_code (3 : Nat) (Option.some Jvm.ClassFile.FieldType.int)) ∈ lw_all := lw_g (lw_at lw_m9 222 rfl) rfl
theorem q2277 : (Jvm.Cond.methodLink "PulseRentModel" (449 : Nat) ({ cls := "PulseRentModel", name := "haunted", desc := "(III)I" } : Jvm.MethodName)) ∈ lw_all := lw_g (lw_at lw_m9 223 rfl) rfl
theorem q2278 : (Jvm.Cond.privateMethod ({ cls := "PulseRentModel", name := "haunted", desc := "(III)I" } : Jvm.MethodName)) ∈ lw_tbl := lw_at lw_m9 224 rfl
theorem q2279 : (Jvm.Cond.instanceMethod ({ cls := "PulseRentModel", name := "haunted", desc := "(III)I" } : Jvm.MethodName)) ∈ lw_all := lw_g (lw_at lw_m9 225 rfl) rfl
theorem q2280 : (Jvm.Cond.code ({ cls := "PulseRentModel", name := "haunted", desc := "(III)I" } : Jvm.MethodName) prog_26_method_99_code (5 : Nat) (Option.some Jvm.ClassFile.FieldType.int)) ∈ lw_all := lw_g (lw_at lw_m9 226 rfl) rfl
theorem q2282 : (Jvm.Cond.instanceMethod ({ cls := "PulseRentModel", name := "lease", desc := "(II)I" } : Jvm.MethodName)) ∈ lw_all := lw_g (lw_at lw_m9 228 rfl) rfl
theorem q2283 : (Jvm.Cond.selects "PulseRentModel" ({ cls := "PulseRentModel", name := "lease", desc := "(II)I" } : Jvm.MethodName) ({ cls := "PulseRentModel", name := "lease", desc := "(II)I" } : Jvm.MethodName)) ∈ lw_all := lw_g (lw_at lw_m9 229 rfl) rfl
theorem q2284 : (Jvm.Cond.code ({ cls := "PulseRentModel", name := "lease", desc := "(II)I" } : Jvm.MethodName) prog_26_method_104_code (3 : Nat) (Option.some Jvm.ClassFile.FieldType.int)) ∈ lw_all := lw_g (lw_at lw_m9 230 rfl) rfl
theorem q2285 : (Jvm.Cond.methodLink "PulseRentModel" (452 : Nat) ({ cls := "PulseRentModel", name := "areBothIn", desc := "(II)Z" } : Jvm.MethodName)) ∈ lw_all := lw_g (lw_at lw_m9 231 rfl) rfl
theorem q2286 : (Jvm.Cond.privateMethod ({ cls := "PulseRentModel", name := "areBothIn", desc := "(II)Z" } : Jvm.MethodName)) ∈ lw_tbl := lw_at lw_m9 232 rfl
theorem q2287 : (Jvm.Cond.instanceMethod ({ cls := "PulseRentModel", name := "areBothIn", desc := "(II)Z" } : Jvm.MethodName)) ∈ lw_all := lw_g (lw_at lw_m9 233 rfl) rfl
theorem q2288 : (Jvm.Cond.code ({ cls := "PulseRentModel", name := "areBothIn", desc := "(II)Z" } : Jvm.MethodName) prog_26_method_102_code (3 : Nat) (Option.some Jvm.ClassFile.FieldType.boolean)) ∈ lw_all := lw_g (lw_at lw_m9 234 rfl) rfl
theorem q2289 : (Jvm.Cond.methodLink "PulseRentModel" (455 : Nat) ({ cls := "PulseRentModel", name := "savedBy", desc := "(II)I" } : Jvm.MethodName)) ∈ lw_all := lw_g (lw_at lw_m9 235 rfl) rfl
theorem q2290 : (Jvm.Cond.privateMethod ({ cls := "PulseRentModel", name := "savedBy", desc := "(II)I" } : Jvm.MethodName)) ∈ lw_tbl := lw_at lw_m9 236 rfl
theorem q2291 : (Jvm.Cond.instanceMethod ({ cls := "PulseRentModel", name := "savedBy", desc := "(II)I" } : Jvm.MethodName)) ∈ lw_all := lw_g (lw_at lw_m9 237 rfl) rfl
theorem q2292 : (Jvm.Cond.code ({ cls := "PulseRentModel", name := "savedBy", desc := "(II)I" } : Jvm.MethodName) prog_26_method_103_code (6 : Nat) (Option.some Jvm.ClassFile.FieldType.int)) ∈ lw_all := lw_g (lw_at lw_m9 238 rfl) rfl
theorem q2294 : (Jvm.Cond.instanceMethod ({ cls := "PulseRentModel", name := "share", desc := "(II)I" } : Jvm.MethodName)) ∈ lw_all := lw_g (lw_at lw_m10 0 rfl) rfl
theorem q2295 : (Jvm.Cond.selects "PulseRentModel" ({ cls := "PulseRentModel", name := "share", desc := "(II)I" } : Jvm.MethodName) ({ cls := "PulseRentModel", name := "share", desc := "(II)I" } : Jvm.MethodName)) ∈ lw_all := lw_g (lw_at lw_m10 1 rfl) rfl
theorem q2296 : (Jvm.Cond.code ({ cls := "PulseRentModel", name := "share", desc := "(II)I" } : Jvm.MethodName) prog_26_method_105_code (3 : Nat) (Option.some Jvm.ClassFile.FieldType.int)) ∈ lw_all := lw_g (lw_at lw_m10 2 rfl) rfl
theorem q2298 : (Jvm.Cond.instanceMethod ({ cls := "PulseRentModel", name := "law", desc := "(II)I" } : Jvm.MethodName)) ∈ lw_all := lw_g (lw_at lw_m10 4 rfl) rfl
theorem q2299 : (Jvm.Cond.selects "PulseRentModel" ({ cls := "PulseRentModel", name := "law", desc := "(II)I" } : Jvm.MethodName) ({ cls := "PulseRentModel", name := "law", desc := "(II)I" } : Jvm.MethodName)) ∈ lw_all := lw_g (lw_at lw_m10 5 rfl) rfl
theorem q2300 : (Jvm.Cond.code ({ cls := "PulseRentModel", name := "law", desc := "(II)I" } : Jvm.MethodName) prog_26_method_106_code (5 : Nat) (Option.some Jvm.ClassFile.FieldType.int)) ∈ lw_all := lw_g (lw_at lw_m10 6 rfl) rfl
theorem q2302 : (Jvm.Cond.instanceMethod ({ cls := "PulseRentModel", name := "sample", desc := "(II)Z" } : Jvm.MethodName)) ∈ lw_all := lw_g (lw_at lw_m10 8 rfl) rfl
theorem q2303 : (Jvm.Cond.selects "PulseRentModel" ({ cls := "PulseRentModel", name := "sample", desc := "(II)Z" } : Jvm.MethodName) ({ cls := "PulseRentModel", name := "sample", desc := "(II)Z" } : Jvm.MethodName)) ∈ lw_all := lw_g (lw_at lw_m10 9 rfl) rfl
theorem q2304 : (Jvm.Cond.code ({ cls := "PulseRentModel", name := "sample", desc := "(II)Z" } : Jvm.MethodName) prog_26_method_107_code (3 : Nat) (Option.some Jvm.ClassFile.FieldType.boolean)) ∈ lw_all := lw_g (lw_at lw_m10 10 rfl) rfl
theorem q2306 : (Jvm.Cond.instanceMethod ({ cls := "PulseRentModel", name := "days", desc := "(I)I" } : Jvm.MethodName)) ∈ lw_all := lw_g (lw_at lw_m10 12 rfl) rfl
theorem q2307 : (Jvm.Cond.selects "PulseRentModel" ({ cls := "PulseRentModel", name := "days", desc := "(I)I" } : Jvm.MethodName) ({ cls := "PulseRentModel", name := "days", desc := "(I)I" } : Jvm.MethodName)) ∈ lw_all := lw_g (lw_at lw_m10 13 rfl) rfl
theorem q2308 : (Jvm.Cond.code ({ cls := "PulseRentModel", name := "days", desc := "(I)I" } : Jvm.MethodName) prog_26_method_110_code (2 : Nat) (Option.some Jvm.ClassFile.FieldType.int)) ∈ lw_all := lw_g (lw_at lw_m10 14 rfl) rfl
theorem q2309 : (Jvm.Cond.methodLink "PulseRentModel" (467 : Nat) ({ cls := "PulseRentModel", name := "findDays", desc := "(I)V" } : Jvm.MethodName)) ∈ lw_all := lw_g (lw_at lw_m10 15 rfl) rfl
theorem q2310 : (Jvm.Cond.privateMethod ({ cls := "PulseRentModel", name := "findDays", desc := "(I)V" } : Jvm.MethodName)) ∈ lw_tbl := lw_at lw_m10 16 rfl
theorem q2311 : (Jvm.Cond.instanceMethod ({ cls := "PulseRentModel", name := "findDays", desc := "(I)V" } : Jvm.MethodName)) ∈ lw_all := lw_g (lw_at lw_m10 17 rfl) rfl
theorem q2312 : (Jvm.Cond.code ({ cls := "PulseRentModel", name := "findDays", desc := "(I)V" } : Jvm.MethodName) prog_26_method_109_code (5 : Nat) (Option.none : Option Jvm.ClassFile.FieldType)) ∈ lw_all := lw_g (lw_at lw_m10 18 rfl) rfl
theorem q2313 : (Jvm.Cond.methodLink "PulseRentModel" (464 : Nat) ({ cls := "PulseRentModel", name := "laysDay", desc := "(II)V" } : Jvm.MethodName)) ∈ lw_all := lw_g (lw_at lw_m10 19 rfl) rfl
theorem q2314 : (Jvm.Cond.privateMethod ({ cls := "PulseRentModel", name := "laysDay", desc := "(II)V" } : Jvm.MethodName)) ∈ lw_tbl := lw_at lw_m10 20 rfl
theorem q2315 : (Jvm.Cond.instanceMethod ({ cls := "PulseRentModel", name := "laysDay", desc := "(II)V" } : Jvm.MethodName)) ∈ lw_all := lw_g (lw_at lw_m10 21 rfl) rfl
theorem q2316 : (Jvm.Cond.code ({ cls := "PulseRentModel", name := "laysDay", desc := "(II)V" } : Jvm.MethodName) prog_26_method_108_code (9 : Nat) (Option.none : Option Jvm.ClassFile.FieldType)) ∈ lw_all := lw_g (lw_at lw_m10 22 rfl) rfl
theorem q2318 : (Jvm.Cond.instanceMethod ({ cls := "PulseRentModel", name := "did", desc := "(II)I" } : Jvm.MethodName)) ∈ lw_all := lw_g (lw_at lw_m10 24 rfl) rfl
theorem q2319 : (Jvm.Cond.selects "PulseRentModel" ({ cls := "PulseRentModel", name := "did", desc := "(II)I" } : Jvm.MethodName) ({ cls := "PulseRentModel", name := "did", desc := "(II)I" } : Jvm.MethodName)) ∈ lw_all := lw_g (lw_at lw_m10 25 rfl) rfl
theorem q2320 : (Jvm.Cond.code ({ cls := "PulseRentModel", name := "did", desc := "(II)I" } : Jvm.MethodName) prog_26_method_111_code (5 : Nat) (Option.some Jvm.ClassFile.FieldType.int)) ∈ lw_all := lw_g (lw_at lw_m10 26 rfl) rfl
theorem q2322 : (Jvm.Cond.instanceMethod ({ cls := "PulseRentModel", name := "next", desc := "(I)I" } : Jvm.MethodName)) ∈ lw_all := lw_g (lw_at lw_m10 28 rfl) rfl
theorem q2323 : (Jvm.Cond.selects "PulseRentModel" ({ cls := "PulseRentModel", name := "next", desc := "(I)I" } : Jvm.MethodName) ({ cls := "PulseRentModel", name := "next", desc := "(I)I" } : Jvm.MethodName)) ∈ lw_all := lw_g (lw_at lw_m10 29 rfl) rfl
theorem q2324 : (Jvm.Cond.code ({ cls := "PulseRentModel", name := "next", desc := "(I)I" } : Jvm.MethodName) prog_26_method_112_code (7 : Nat) (Option.some Jvm.ClassFile.FieldType.int)) ∈ lw_all := lw_g (lw_at lw_m10 30 rfl) rfl
theorem q2326 : (Jvm.Cond.instanceMethod ({ cls := "PulseRentModel", name := "years", desc := "(III)I" } : Jvm.MethodName)) ∈ lw_all := lw_g (lw_at lw_m10 32 rfl) rfl
theorem q2327 : (Jvm.Cond.selects "PulseRentModel" ({ cls := "PulseRentModel", name := "years", desc := "(III)I" } : Jvm.MethodName) ({ cls := "PulseRentModel", name := "years", desc := "(III)I" } : Jvm.MethodName)) ∈ lw_all := lw_g (lw_at lw_m10 33 rfl) rfl
theorem q2328 : (Jvm.Cond.code ({ cls := "PulseRentModel", name := "years", desc := "(III)I" } : Jvm.MethodName) prog_26_method_116_code (8 : Nat) (Option.some Jvm.ClassFile.FieldType.int)) ∈ lw_all := lw_g (lw_at lw_m10 34 rfl) rfl
theorem q2329 : (Jvm.Cond.methodLink "PulseRentModel" (485 : Nat) ({ cls := "PulseRentModel", name := "drawsActs", desc := "()V" } : Jvm.MethodName)) ∈ lw_all := lw_g (lw_at lw_m10 35 rfl) rfl
theorem q2330 : (Jvm.Cond.privateMethod ({ cls := "PulseRentModel", name := "drawsActs", desc := "()V" } : Jvm.MethodName)) ∈ lw_tbl := lw_at lw_m10 36 rfl
theorem q2331 : (Jvm.Cond.instanceMethod ({ cls := "PulseRentModel", name := "drawsActs", desc := "()V" } : Jvm.MethodName)) ∈ lw_all := lw_g (lw_at lw_m10 37 rfl) rfl
theorem q2332 : (Jvm.Cond.code ({ cls := "PulseRentModel", name := "drawsActs", desc := "()V" } : Jvm.MethodName) prog_26_method_114_code (3 : Nat) (Option.none : Option Jvm.ClassFile.FieldType)) ∈ lw_all := lw_g (lw_at lw_m10 38 rfl) rfl
theorem q2333 : (Jvm.Cond.methodLink "PulseRentModel" (482 : Nat) ({ cls := "PulseRentModel", name := "draw", desc := "(I)I" } : Jvm.MethodName)) ∈ lw_all := lw_g (lw_at lw_m10 39 rfl) rfl
theorem q2334 : (Jvm.Cond.privateMethod ({ cls := "PulseRentModel", name := "draw", desc := "(I)I" } : Jvm.MethodName)) ∈ lw_tbl := lw_at lw_m10 40 rfl
theorem q2335 : (Jvm.Cond.instanceMethod ({ cls := "PulseRentModel", name := "draw", desc := "(I)I" } : Jvm.MethodName)) ∈ lw_all := lw_g (lw_at lw_m10 41 rfl) rfl
theorem q2336 : (Jvm.Cond.code ({ cls := "PulseRentModel", name := "draw", desc := "(I)I" } : Jvm.MethodName) prog_26_method_113_code (2 : Nat) (Option.some Jvm.ClassFile.FieldType.int)) ∈ lw_all := lw_g (lw_at lw_m10 42 rfl) rfl
theorem q2337 : (Jvm.Cond.constantLong "PulseRentModel" (474 : Nat) (1103515245 : Int64)) ∈ lw_all := lw_g (lw_at lw_m10 43 rfl) rfl
theorem q2338 : (Jvm.Cond.constantLong "PulseRentModel" (476 : Nat) (12345 : Int64)) ∈ lw_all := lw_g (lw_at lw_m10 44 rfl) rfl
theorem q2339 : (Jvm.Cond.constantLong "PulseRentModel" (478 : Nat) (2147483648 : Int64)) ∈ lw_all := lw_g (lw_at lw_m10 45 rfl) rfl
theorem q2340 : (Jvm.Cond.constantLong "PulseRentModel" (480 : Nat) (65536 : Int64)) ∈ lw_all := lw_g (lw_at lw_m10 46 rfl) rfl
theorem q2341 : (Jvm.Cond.methodLink "PulseRentModel" (488 : Nat) ({ cls := "PulseRentModel", name := "inMany", desc := "(I)I" } : Jvm.MethodName)) ∈ lw_all := lw_g (lw_at lw_m10 47 rfl) rfl
theorem q2342 : (Jvm.Cond.privateMethod ({ cls := "PulseRentModel", name := "inMany", desc := "(I)I" } : Jvm.MethodName)) ∈ lw_tbl := lw_at lw_m10 48 rfl
theorem q2343 : (Jvm.Cond.instanceMethod ({ cls := "PulseRentModel", name := "inMany", desc := "(I)I" } : Jvm.MethodName)) ∈ lw_all := lw_g (lw_at lw_m10 49 rfl) rfl
theorem q2344 : (Jvm.Cond.code ({ cls := "PulseRentModel", name := "inMany", desc := "(I)I" } : Jvm.MethodName) prog_26_method_115_code (4 : Nat) (Option.some Jvm.ClassFile.FieldType.int)) ∈ lw_all := lw_g (lw_at lw_m10 50 rfl) rfl
theorem q2346 : (Jvm.Cond.instanceMethod ({ cls := "PulseRentModel", name := "mark", desc := "(IZ)Z" } : Jvm.MethodName)) ∈ lw_all := lw_g (lw_at lw_m10 52 rfl) rfl
theorem q2347 : (Jvm.Cond.selects "PulseRentModel" ({ cls := "PulseRentModel", name := "mark", desc := "(IZ)Z" } : Jvm.MethodName) ({ cls := "PulseRentModel", name := "mark", desc := "(IZ)Z" } : Jvm.MethodName)) ∈ lw_all := lw_g (lw_at lw_m10 53 rfl) rfl
theorem q2348 : (Jvm.Cond.code ({ cls := "PulseRentModel", name := "mark", desc := "(IZ)Z" } : Jvm.MethodName) prog_26_method_117_code (3 : Nat) (Option.some Jvm.ClassFile.FieldType.boolean)) ∈ lw_all := lw_g (lw_at lw_m10 54 rfl) rfl
theorem q2350 : (Jvm.Cond.instanceMethod ({ cls := "PulseRentModel", name := "count", desc := "(I)I" } : Jvm.MethodName)) ∈ lw_all := lw_g (lw_at lw_m10 56 rfl) rfl
theorem q2351 : (Jvm.Cond.selects "PulseRentModel" ({ cls := "PulseRentModel", name := "count", desc := "(I)I" } : Jvm.MethodName) ({ cls := "PulseRentModel", name := "count", desc := "(I)I" } : Jvm.MethodName)) ∈ lw_all := lw_g (lw_at lw_m10 57 rfl) rfl
theorem q2352 : (Jvm.Cond.code ({ cls := "PulseRentModel", name := "count", desc := "(I)I" } : Jvm.MethodName) prog_26_method_119_code (2 : Nat) (Option.some Jvm.ClassFile.FieldType.int)) ∈ lw_all := lw_g (lw_at lw_m10 58 rfl) rfl
theorem q2353 : (Jvm.Cond.methodLink "PulseRentModel" (491 : Nat) ({ cls := "PulseRentModel", name := "coinsOfAll", desc := "()I" } : Jvm.MethodName)) ∈ lw_all := lw_g (lw_at lw_m10 59 rfl) rfl
theorem q2354 : (Jvm.Cond.privateMethod ({ cls := "PulseRentModel", name := "coinsOfAll", desc := "()I" } : Jvm.MethodName)) ∈ lw_tbl := lw_at lw_m10 60 rfl
theorem q2355 : (Jvm.Cond.instanceMethod ({ cls := "PulseRentModel", name := "coinsOfAll", desc := "()I" } : Jvm.MethodName)) ∈ lw_all := lw_g (lw_at lw_m10 61 rfl) rfl
theorem q2356 : (Jvm.Cond.code ({ cls := "PulseRentModel", name := "coinsOfAll", desc := "()I" } : Jvm.MethodName) prog_26_method_118_code (3 : Nat) (Option.some Jvm.ClassFile.FieldType.int)) ∈ lw_all := lw_g (lw_at lw_m10 62 rfl) rfl
theorem q2379 : (Jvm.Cond.castable "PulseRentModel" "java/lang/Object") ∈ lw_tbl := lw_at lw_m10 85 rfl
theorem in_X5 : ∀ w ∈ wsX50, w ∈ lw_all := lw_in wsX50 [1834, 1836, 1838, 1840, 1842, 1844, 1846, 1848, 1850, 1852, 1854, 1856, 1858, 1860, 1862, 1864, 1866, 1868, 1870, 1872, 1874, 1876, 1878, 1880, 1882, 1884, 1886, 1888, 1890, 1892, 1894, 1896, 1898, 1900, 1902, 1904, 1906, 1908, 1910, 1912] (by decide +kernel) (by decide +kernel)

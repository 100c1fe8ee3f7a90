/-! StoneBacksModel -/
set_option maxRecDepth 100000
def RX6 : String := "StoneBacksModel"
def TX6 : u_T := fun k => match k with
  | 0 => ("StoneBacksModel", "thrown", "I", false)
  | 1 => ("StoneBacksModel", "m", "[I", true)
  | 2 => ("StoneBacksModel", "kept", "[I", true)
  | 3 => ("StoneBacksModel", "hasImage", "Z", false)
  | 4 => ("StoneBacksModel", "aside", "[I", true)
  | 5 => ("StoneBacksModel", "acts", "[I", true)
  | 6 => ("StoneBacksModel", "acted", "I", false)
  | 7 => ("StoneBacksModel", "tape", "[I", true)
  | 8 => ("StoneBacksModel", "taped", "I", false)
  | 9 => ("StoneBacksModel", "base", "I", false)
  | 10 => ("StoneBacksModel", "end", "I", false)
  | 11 => ("StoneBacksModel", "at", "I", false)
  | 12 => ("StoneBacksModel", "fault", "I", false)
  | 13 => ("StoneBacksModel", "deep", "I", false)
  | 14 => ("StoneBacksModel", "fact", "[I", true)
  | 15 => ("StoneBacksModel", "isThere", "Z", false)
  | 16 => ("StoneBacksModel", "isLight", "Z", false)
  | 17 => ("StoneBacksModel", "tires", "I", false)
  | 18 => ("StoneBacksModel", "earns", "I", false)
  | 19 => ("StoneBacksModel", "hurts", "I", false)
  | 20 => ("StoneBacksModel", "least", "[I", true)
  | 21 => ("StoneBacksModel", "then", "[I", true)
  | _ => ("StoneBacksModel", "room", "[I", true)
def tyX6 : Nat → FieldType := fun k => match k with
  | 0 => .int
  | 1 => .array .int
  | 2 => .array .int
  | 3 => .boolean
  | 4 => .array .int
  | 5 => .array .int
  | 6 => .int
  | 7 => .array .int
  | 8 => .int
  | 9 => .int
  | 10 => .int
  | 11 => .int
  | 12 => .int
  | 13 => .int
  | 14 => .array .int
  | 15 => .boolean
  | 16 => .boolean
  | 17 => .int
  | 18 => .int
  | 19 => .int
  | 20 => .array .int
  | 21 => .array .int
  | _ => .array .int
abbrev wsX60 : List Cond := u_ws RX6 TX6 23
set_option maxRecDepth 100000 in
theorem nmX6 : ∀ a, a < 23 → ∀ b, b < 23 → a ≠ b → (TX6 a).2.1 ≠ (TX6 b).2.1 := by decide +kernel
set_option maxRecDepth 100000 in
theorem tyX6_ok : ∀ k, k < 23 → parseFieldDescriptor (TX6 k).2.2.1 = some (tyX6 k) := by decide +kernel
abbrev cX6_init : ByteArray := prog_19_method_1_code
def yX6_init : MethodName := ⟨RX6, "<init>", "()V"⟩
def dkwX6_init_4 : List UInt8 := [4, 2, 79, 42, 180, 0, 7, 16, 6, 16, 40, 79, 42, 180, 0, 7, 16, 8, 4, 79, 177]
abbrev dktX6_init_4 : List UInt8 := dkwX6_init_4 ++ []
def dkwX6_init_3 : List UInt8 := [181, 0, 32, 42, 17, 4, 0, 188, 10, 181, 0, 35, 42, 16, 6, 188, 10, 181, 0, 38, 42, 180, 0, 7]
abbrev dktX6_init_3 : List UInt8 := dkwX6_init_3 ++ dktX6_init_4
def dkwX6_init_2 : List UInt8 := [181, 0, 22, 42, 2, 181, 0, 25, 42, 16, 7, 188, 10, 181, 0, 29, 42, 17, 4, 0, 188, 10]
abbrev dktX6_init_2 : List UInt8 := dkwX6_init_2 ++ dktX6_init_3
def dkwX6_init_1 : List UInt8 := [17, 1, 113, 188, 10, 181, 0, 16, 42, 17, 17, 76, 188, 10, 181, 0, 19, 42, 17, 1, 144, 188, 10]
abbrev dktX6_init_1 : List UInt8 := dkwX6_init_1 ++ dktX6_init_2
def dkwX6_init_0 : List UInt8 := [42, 183, 0, 1, 42, 17, 3, 1, 188, 10, 181, 0, 7, 42, 17, 3, 1, 188, 10, 181, 0, 13, 42]
abbrev dktX6_init_0 : List UInt8 := dkwX6_init_0 ++ dktX6_init_1
theorem dksX6_init_0 : cX6_init.data.toList.drop 0 = dktX6_init_0 := by decide +kernel
theorem dksX6_init_1 : cX6_init.data.toList.drop 23 = dktX6_init_1 := dk_seg dksX6_init_0 23 rfl rfl
theorem dksX6_init_2 : cX6_init.data.toList.drop 46 = dktX6_init_2 := dk_seg dksX6_init_1 23 rfl rfl
theorem dksX6_init_3 : cX6_init.data.toList.drop 68 = dktX6_init_3 := dk_seg dksX6_init_2 22 rfl rfl
theorem dksX6_init_4 : cX6_init.data.toList.drop 92 = dktX6_init_4 := dk_seg dksX6_init_3 24 rfl rfl
theorem dX6_init_0 : decode cX6_init 0 = .ok (.aload_n 0, 1) := dk_42 (dk_at dksX6_init_0 0 rfl rfl)
theorem dX6_init_1 : decode cX6_init 1 = .ok (.invokespecial 1, 3) := dk_183 0 1 (dk_at dksX6_init_0 1 rfl rfl)
theorem dX6_init_4 : decode cX6_init 4 = .ok (.aload_n 0, 1) := dk_42 (dk_at dksX6_init_0 4 rfl rfl)
theorem dX6_init_5 : decode cX6_init 5 = .ok (.sipush 769, 3) := dk_17 3 1 (dk_at dksX6_init_0 5 rfl rfl)
theorem dX6_init_8 : decode cX6_init 8 = .ok (.newarray .int, 2) := dk_188_10 (dk_at dksX6_init_0 8 rfl rfl)
theorem dX6_init_10 : decode cX6_init 10 = .ok (.putfield 7, 3) := dk_181 0 7 (dk_at dksX6_init_0 10 rfl rfl)
theorem dX6_init_13 : decode cX6_init 13 = .ok (.aload_n 0, 1) := dk_42 (dk_at dksX6_init_0 13 rfl rfl)
theorem dX6_init_14 : decode cX6_init 14 = .ok (.sipush 769, 3) := dk_17 3 1 (dk_at dksX6_init_0 14 rfl rfl)
theorem dX6_init_17 : decode cX6_init 17 = .ok (.newarray .int, 2) := dk_188_10 (dk_at dksX6_init_0 17 rfl rfl)
theorem dX6_init_19 : decode cX6_init 19 = .ok (.putfield 13, 3) := dk_181 0 13 (dk_at dksX6_init_0 19 rfl rfl)
theorem dX6_init_22 : decode cX6_init 22 = .ok (.aload_n 0, 1) := dk_42 (dk_at dksX6_init_0 22 rfl rfl)
theorem dX6_init_23 : decode cX6_init 23 = .ok (.sipush 369, 3) := dk_17 1 113 (dk_at dksX6_init_1 0 rfl rfl)
theorem dX6_init_26 : decode cX6_init 26 = .ok (.newarray .int, 2) := dk_188_10 (dk_at dksX6_init_1 3 rfl rfl)
theorem dX6_init_28 : decode cX6_init 28 = .ok (.putfield 16, 3) := dk_181 0 16 (dk_at dksX6_init_1 5 rfl rfl)
theorem dX6_init_31 : decode cX6_init 31 = .ok (.aload_n 0, 1) := dk_42 (dk_at dksX6_init_1 8 rfl rfl)
theorem dX6_init_32 : decode cX6_init 32 = .ok (.sipush 4428, 3) := dk_17 17 76 (dk_at dksX6_init_1 9 rfl rfl)
theorem dX6_init_35 : decode cX6_init 35 = .ok (.newarray .int, 2) := dk_188_10 (dk_at dksX6_init_1 12 rfl rfl)
theorem dX6_init_37 : decode cX6_init 37 = .ok (.putfield 19, 3) := dk_181 0 19 (dk_at dksX6_init_1 14 rfl rfl)
theorem dX6_init_40 : decode cX6_init 40 = .ok (.aload_n 0, 1) := dk_42 (dk_at dksX6_init_1 17 rfl rfl)
theorem dX6_init_41 : decode cX6_init 41 = .ok (.sipush 400, 3) := dk_17 1 144 (dk_at dksX6_init_1 18 rfl rfl)
theorem dX6_init_44 : decode cX6_init 44 = .ok (.newarray .int, 2) := dk_188_10 (dk_at dksX6_init_1 21 rfl rfl)
theorem dX6_init_46 : decode cX6_init 46 = .ok (.putfield 22, 3) := dk_181 0 22 (dk_at dksX6_init_2 0 rfl rfl)
theorem dX6_init_49 : decode cX6_init 49 = .ok (.aload_n 0, 1) := dk_42 (dk_at dksX6_init_2 3 rfl rfl)
theorem dX6_init_50 : decode cX6_init 50 = .ok (.iconst (-1), 1) := dk_2 (dk_at dksX6_init_2 4 rfl rfl)
theorem dX6_init_51 : decode cX6_init 51 = .ok (.putfield 25, 3) := dk_181 0 25 (dk_at dksX6_init_2 5 rfl rfl)
theorem dX6_init_54 : decode cX6_init 54 = .ok (.aload_n 0, 1) := dk_42 (dk_at dksX6_init_2 8 rfl rfl)
theorem dX6_init_55 : decode cX6_init 55 = .ok (.bipush 7, 2) := dk_16 7 (dk_at dksX6_init_2 9 rfl rfl)
theorem dX6_init_57 : decode cX6_init 57 = .ok (.newarray .int, 2) := dk_188_10 (dk_at dksX6_init_2 11 rfl rfl)
theorem dX6_init_59 : decode cX6_init 59 = .ok (.putfield 29, 3) := dk_181 0 29 (dk_at dksX6_init_2 13 rfl rfl)
theorem dX6_init_62 : decode cX6_init 62 = .ok (.aload_n 0, 1) := dk_42 (dk_at dksX6_init_2 16 rfl rfl)
theorem dX6_init_63 : decode cX6_init 63 = .ok (.sipush 1024, 3) := dk_17 4 0 (dk_at dksX6_init_2 17 rfl rfl)
theorem dX6_init_66 : decode cX6_init 66 = .ok (.newarray .int, 2) := dk_188_10 (dk_at dksX6_init_2 20 rfl rfl)
theorem dX6_init_68 : decode cX6_init 68 = .ok (.putfield 32, 3) := dk_181 0 32 (dk_at dksX6_init_3 0 rfl rfl)
theorem dX6_init_71 : decode cX6_init 71 = .ok (.aload_n 0, 1) := dk_42 (dk_at dksX6_init_3 3 rfl rfl)
theorem dX6_init_72 : decode cX6_init 72 = .ok (.sipush 1024, 3) := dk_17 4 0 (dk_at dksX6_init_3 4 rfl rfl)
theorem dX6_init_75 : decode cX6_init 75 = .ok (.newarray .int, 2) := dk_188_10 (dk_at dksX6_init_3 7 rfl rfl)
theorem dX6_init_77 : decode cX6_init 77 = .ok (.putfield 35, 3) := dk_181 0 35 (dk_at dksX6_init_3 9 rfl rfl)
theorem dX6_init_80 : decode cX6_init 80 = .ok (.aload_n 0, 1) := dk_42 (dk_at dksX6_init_3 12 rfl rfl)
theorem dX6_init_81 : decode cX6_init 81 = .ok (.bipush 6, 2) := dk_16 6 (dk_at dksX6_init_3 13 rfl rfl)
theorem dX6_init_83 : decode cX6_init 83 = .ok (.newarray .int, 2) := dk_188_10 (dk_at dksX6_init_3 15 rfl rfl)
theorem dX6_init_85 : decode cX6_init 85 = .ok (.putfield 38, 3) := dk_181 0 38 (dk_at dksX6_init_3 17 rfl rfl)
theorem dX6_init_88 : decode cX6_init 88 = .ok (.aload_n 0, 1) := dk_42 (dk_at dksX6_init_3 20 rfl rfl)
theorem dX6_init_89 : decode cX6_init 89 = .ok (.getfield 7, 3) := dk_180 0 7 (dk_at dksX6_init_3 21 rfl rfl)
theorem dX6_init_92 : decode cX6_init 92 = .ok (.iconst 1, 1) := dk_4 (dk_at dksX6_init_4 0 rfl rfl)
theorem dX6_init_93 : decode cX6_init 93 = .ok (.iconst (-1), 1) := dk_2 (dk_at dksX6_init_4 1 rfl rfl)
theorem dX6_init_94 : decode cX6_init 94 = .ok (.iastore, 1) := dk_79 (dk_at dksX6_init_4 2 rfl rfl)
theorem dX6_init_95 : decode cX6_init 95 = .ok (.aload_n 0, 1) := dk_42 (dk_at dksX6_init_4 3 rfl rfl)
theorem dX6_init_96 : decode cX6_init 96 = .ok (.getfield 7, 3) := dk_180 0 7 (dk_at dksX6_init_4 4 rfl rfl)
theorem dX6_init_99 : decode cX6_init 99 = .ok (.bipush 6, 2) := dk_16 6 (dk_at dksX6_init_4 7 rfl rfl)
theorem dX6_init_101 : decode cX6_init 101 = .ok (.bipush 40, 2) := dk_16 40 (dk_at dksX6_init_4 9 rfl rfl)
theorem dX6_init_103 : decode cX6_init 103 = .ok (.iastore, 1) := dk_79 (dk_at dksX6_init_4 11 rfl rfl)
theorem dX6_init_104 : decode cX6_init 104 = .ok (.aload_n 0, 1) := dk_42 (dk_at dksX6_init_4 12 rfl rfl)
theorem dX6_init_105 : decode cX6_init 105 = .ok (.getfield 7, 3) := dk_180 0 7 (dk_at dksX6_init_4 13 rfl rfl)
theorem dX6_init_108 : decode cX6_init 108 = .ok (.bipush 8, 2) := dk_16 8 (dk_at dksX6_init_4 16 rfl rfl)
theorem dX6_init_110 : decode cX6_init 110 = .ok (.iconst 1, 1) := dk_4 (dk_at dksX6_init_4 18 rfl rfl)
theorem dX6_init_111 : decode cX6_init 111 = .ok (.iastore, 1) := dk_79 (dk_at dksX6_init_4 19 rfl rfl)
theorem dX6_init_112 : decode cX6_init 112 = .ok (.return_, 1) := dk_177 (dk_at dksX6_init_4 20 rfl rfl)
abbrev cX6_thrown : ByteArray := prog_19_method_2_code
def yX6_thrown : MethodName := ⟨RX6, "thrown", "()I"⟩
theorem dX6_thrown_0 : decode cX6_thrown 0 = .ok (.aload_n 0, 1) := by decide +kernel
theorem dX6_thrown_1 : decode cX6_thrown 1 = .ok (.getfield 41, 3) := by decide +kernel
theorem dX6_thrown_4 : decode cX6_thrown 4 = .ok (.ireturn, 1) := by decide +kernel
abbrev cX6_feed : ByteArray := prog_19_method_19_code
def yX6_feed : MethodName := ⟨RX6, "feed", "(IIIII)I"⟩
def dkwX6_feed_5 : List UInt8 := [167, 255, 162, 42, 180, 0, 69, 172]
abbrev dktX6_feed_5 : List UInt8 := dkwX6_feed_5 ++ []
def dkwX6_feed_4 : List UInt8 := [112, 104, 100, 124, 17, 0, 255, 126, 79, 42, 89, 180, 0, 69, 4, 96, 181, 0, 69, 132, 6, 1]
abbrev dktX6_feed_4 : List UInt8 := dkwX6_feed_4 ++ dktX6_feed_5
def dkwX6_feed_3 : List UInt8 := [167, 0, 5, 21, 5, 54, 7, 42, 180, 0, 22, 42, 180, 0, 69, 21, 7, 16, 24, 16, 8, 21, 6, 7]
abbrev dktX6_feed_3 : List UInt8 := dkwX6_feed_3 ++ dktX6_feed_4
def dkwX6_feed_2 : List UInt8 := [28, 167, 0, 28, 21, 6, 16, 12, 162, 0, 7, 29, 167, 0, 17, 21, 6, 16, 16, 162, 0, 8, 21, 4]
abbrev dktX6_feed_2 : List UInt8 := dkwX6_feed_2 ++ dktX6_feed_3
def dkwX6_feed_1 : List UInt8 := [21, 6, 16, 20, 162, 0, 93, 21, 6, 7, 162, 0, 7, 27, 167, 0, 39, 21, 6, 16, 8, 162, 0, 7]
abbrev dktX6_feed_1 : List UInt8 := dkwX6_feed_1 ++ dktX6_feed_2
def dkwX6_feed_0 : List UInt8 := [42, 3, 181, 0, 41, 42, 180, 0, 69, 16, 20, 96, 17, 1, 144, 164, 0, 5, 2, 172, 3, 54, 6]
abbrev dktX6_feed_0 : List UInt8 := dkwX6_feed_0 ++ dktX6_feed_1
theorem dksX6_feed_0 : cX6_feed.data.toList.drop 0 = dktX6_feed_0 := by decide +kernel
theorem dksX6_feed_1 : cX6_feed.data.toList.drop 23 = dktX6_feed_1 := dk_seg dksX6_feed_0 23 rfl rfl
theorem dksX6_feed_2 : cX6_feed.data.toList.drop 47 = dktX6_feed_2 := dk_seg dksX6_feed_1 24 rfl rfl
theorem dksX6_feed_3 : cX6_feed.data.toList.drop 71 = dktX6_feed_3 := dk_seg dksX6_feed_2 24 rfl rfl
theorem dksX6_feed_4 : cX6_feed.data.toList.drop 95 = dktX6_feed_4 := dk_seg dksX6_feed_3 24 rfl rfl
theorem dksX6_feed_5 : cX6_feed.data.toList.drop 117 = dktX6_feed_5 := dk_seg dksX6_feed_4 22 rfl rfl
theorem dX6_feed_0 : decode cX6_feed 0 = .ok (.aload_n 0, 1) := dk_42 (dk_at dksX6_feed_0 0 rfl rfl)
theorem dX6_feed_1 : decode cX6_feed 1 = .ok (.iconst 0, 1) := dk_3 (dk_at dksX6_feed_0 1 rfl rfl)
theorem dX6_feed_2 : decode cX6_feed 2 = .ok (.putfield 41, 3) := dk_181 0 41 (dk_at dksX6_feed_0 2 rfl rfl)
theorem dX6_feed_5 : decode cX6_feed 5 = .ok (.aload_n 0, 1) := dk_42 (dk_at dksX6_feed_0 5 rfl rfl)
theorem dX6_feed_6 : decode cX6_feed 6 = .ok (.getfield 69, 3) := dk_180 0 69 (dk_at dksX6_feed_0 6 rfl rfl)
theorem dX6_feed_9 : decode cX6_feed 9 = .ok (.bipush 20, 2) := dk_16 20 (dk_at dksX6_feed_0 9 rfl rfl)
theorem dX6_feed_11 : decode cX6_feed 11 = .ok (.iadd, 1) := dk_96 (dk_at dksX6_feed_0 11 rfl rfl)
theorem dX6_feed_12 : decode cX6_feed 12 = .ok (.sipush 400, 3) := dk_17 1 144 (dk_at dksX6_feed_0 12 rfl rfl)
theorem dX6_feed_15 : decode cX6_feed 15 = .ok (.if_icmp .le 5, 3) := dk_164 0 5 (dk_at dksX6_feed_0 15 rfl rfl)
theorem dX6_feed_18 : decode cX6_feed 18 = .ok (.iconst (-1), 1) := dk_2 (dk_at dksX6_feed_0 18 rfl rfl)
theorem dX6_feed_19 : decode cX6_feed 19 = .ok (.ireturn, 1) := dk_172 (dk_at dksX6_feed_0 19 rfl rfl)
theorem dX6_feed_20 : decode cX6_feed 20 = .ok (.iconst 0, 1) := dk_3 (dk_at dksX6_feed_0 20 rfl rfl)
theorem dX6_feed_21 : decode cX6_feed 21 = .ok (.istore 6, 2) := dk_54 6 (dk_at dksX6_feed_0 21 rfl rfl)
theorem dX6_feed_23 : decode cX6_feed 23 = .ok (.iload 6, 2) := dk_21 6 (dk_at dksX6_feed_1 0 rfl rfl)
theorem dX6_feed_25 : decode cX6_feed 25 = .ok (.bipush 20, 2) := dk_16 20 (dk_at dksX6_feed_1 2 rfl rfl)
theorem dX6_feed_27 : decode cX6_feed 27 = .ok (.if_icmp .ge 93, 3) := dk_162 0 93 (dk_at dksX6_feed_1 4 rfl rfl)
theorem dX6_feed_30 : decode cX6_feed 30 = .ok (.iload 6, 2) := dk_21 6 (dk_at dksX6_feed_1 7 rfl rfl)
theorem dX6_feed_32 : decode cX6_feed 32 = .ok (.iconst 4, 1) := dk_7 (dk_at dksX6_feed_1 9 rfl rfl)
theorem dX6_feed_33 : decode cX6_feed 33 = .ok (.if_icmp .ge 7, 3) := dk_162 0 7 (dk_at dksX6_feed_1 10 rfl rfl)
theorem dX6_feed_36 : decode cX6_feed 36 = .ok (.iload_n 1, 1) := dk_27 (dk_at dksX6_feed_1 13 rfl rfl)
theorem dX6_feed_37 : decode cX6_feed 37 = .ok (.goto 39, 3) := dk_167 0 39 (dk_at dksX6_feed_1 14 rfl rfl)
theorem dX6_feed_40 : decode cX6_feed 40 = .ok (.iload 6, 2) := dk_21 6 (dk_at dksX6_feed_1 17 rfl rfl)
theorem dX6_feed_42 : decode cX6_feed 42 = .ok (.bipush 8, 2) := dk_16 8 (dk_at dksX6_feed_1 19 rfl rfl)
theorem dX6_feed_44 : decode cX6_feed 44 = .ok (.if_icmp .ge 7, 3) := dk_162 0 7 (dk_at dksX6_feed_1 21 rfl rfl)
theorem dX6_feed_47 : decode cX6_feed 47 = .ok (.iload_n 2, 1) := dk_28 (dk_at dksX6_feed_2 0 rfl rfl)
theorem dX6_feed_48 : decode cX6_feed 48 = .ok (.goto 28, 3) := dk_167 0 28 (dk_at dksX6_feed_2 1 rfl rfl)
theorem dX6_feed_51 : decode cX6_feed 51 = .ok (.iload 6, 2) := dk_21 6 (dk_at dksX6_feed_2 4 rfl rfl)
theorem dX6_feed_53 : decode cX6_feed 53 = .ok (.bipush 12, 2) := dk_16 12 (dk_at dksX6_feed_2 6 rfl rfl)
theorem dX6_feed_55 : decode cX6_feed 55 = .ok (.if_icmp .ge 7, 3) := dk_162 0 7 (dk_at dksX6_feed_2 8 rfl rfl)
theorem dX6_feed_58 : decode cX6_feed 58 = .ok (.iload_n 3, 1) := dk_29 (dk_at dksX6_feed_2 11 rfl rfl)
theorem dX6_feed_59 : decode cX6_feed 59 = .ok (.goto 17, 3) := dk_167 0 17 (dk_at dksX6_feed_2 12 rfl rfl)
theorem dX6_feed_62 : decode cX6_feed 62 = .ok (.iload 6, 2) := dk_21 6 (dk_at dksX6_feed_2 15 rfl rfl)
theorem dX6_feed_64 : decode cX6_feed 64 = .ok (.bipush 16, 2) := dk_16 16 (dk_at dksX6_feed_2 17 rfl rfl)
theorem dX6_feed_66 : decode cX6_feed 66 = .ok (.if_icmp .ge 8, 3) := dk_162 0 8 (dk_at dksX6_feed_2 19 rfl rfl)
theorem dX6_feed_69 : decode cX6_feed 69 = .ok (.iload 4, 2) := dk_21 4 (dk_at dksX6_feed_2 22 rfl rfl)
theorem dX6_feed_71 : decode cX6_feed 71 = .ok (.goto 5, 3) := dk_167 0 5 (dk_at dksX6_feed_3 0 rfl rfl)
theorem dX6_feed_74 : decode cX6_feed 74 = .ok (.iload 5, 2) := dk_21 5 (dk_at dksX6_feed_3 3 rfl rfl)
theorem dX6_feed_76 : decode cX6_feed 76 = .ok (.istore 7, 2) := dk_54 7 (dk_at dksX6_feed_3 5 rfl rfl)
theorem dX6_feed_78 : decode cX6_feed 78 = .ok (.aload_n 0, 1) := dk_42 (dk_at dksX6_feed_3 7 rfl rfl)
theorem dX6_feed_79 : decode cX6_feed 79 = .ok (.getfield 22, 3) := dk_180 0 22 (dk_at dksX6_feed_3 8 rfl rfl)
theorem dX6_feed_82 : decode cX6_feed 82 = .ok (.aload_n 0, 1) := dk_42 (dk_at dksX6_feed_3 11 rfl rfl)
theorem dX6_feed_83 : decode cX6_feed 83 = .ok (.getfield 69, 3) := dk_180 0 69 (dk_at dksX6_feed_3 12 rfl rfl)
theorem dX6_feed_86 : decode cX6_feed 86 = .ok (.iload 7, 2) := dk_21 7 (dk_at dksX6_feed_3 15 rfl rfl)
theorem dX6_feed_88 : decode cX6_feed 88 = .ok (.bipush 24, 2) := dk_16 24 (dk_at dksX6_feed_3 17 rfl rfl)
theorem dX6_feed_90 : decode cX6_feed 90 = .ok (.bipush 8, 2) := dk_16 8 (dk_at dksX6_feed_3 19 rfl rfl)
theorem dX6_feed_92 : decode cX6_feed 92 = .ok (.iload 6, 2) := dk_21 6 (dk_at dksX6_feed_3 21 rfl rfl)
theorem dX6_feed_94 : decode cX6_feed 94 = .ok (.iconst 4, 1) := dk_7 (dk_at dksX6_feed_3 23 rfl rfl)
theorem dX6_feed_95 : decode cX6_feed 95 = .ok (.irem, 1) := dk_112 (dk_at dksX6_feed_4 0 rfl rfl)
theorem dX6_feed_96 : decode cX6_feed 96 = .ok (.imul, 1) := dk_104 (dk_at dksX6_feed_4 1 rfl rfl)
theorem dX6_feed_97 : decode cX6_feed 97 = .ok (.isub, 1) := dk_100 (dk_at dksX6_feed_4 2 rfl rfl)
theorem dX6_feed_98 : decode cX6_feed 98 = .ok (.iushr, 1) := dk_124 (dk_at dksX6_feed_4 3 rfl rfl)
theorem dX6_feed_99 : decode cX6_feed 99 = .ok (.sipush 255, 3) := dk_17 0 255 (dk_at dksX6_feed_4 4 rfl rfl)
theorem dX6_feed_102 : decode cX6_feed 102 = .ok (.iand, 1) := dk_126 (dk_at dksX6_feed_4 7 rfl rfl)
theorem dX6_feed_103 : decode cX6_feed 103 = .ok (.iastore, 1) := dk_79 (dk_at dksX6_feed_4 8 rfl rfl)
theorem dX6_feed_104 : decode cX6_feed 104 = .ok (.aload_n 0, 1) := dk_42 (dk_at dksX6_feed_4 9 rfl rfl)
theorem dX6_feed_105 : decode cX6_feed 105 = .ok (.dup, 1) := dk_89 (dk_at dksX6_feed_4 10 rfl rfl)
theorem dX6_feed_106 : decode cX6_feed 106 = .ok (.getfield 69, 3) := dk_180 0 69 (dk_at dksX6_feed_4 11 rfl rfl)
theorem dX6_feed_109 : decode cX6_feed 109 = .ok (.iconst 1, 1) := dk_4 (dk_at dksX6_feed_4 14 rfl rfl)
theorem dX6_feed_110 : decode cX6_feed 110 = .ok (.iadd, 1) := dk_96 (dk_at dksX6_feed_4 15 rfl rfl)
theorem dX6_feed_111 : decode cX6_feed 111 = .ok (.putfield 69, 3) := dk_181 0 69 (dk_at dksX6_feed_4 16 rfl rfl)
theorem dX6_feed_114 : decode cX6_feed 114 = .ok (.iinc 6 1, 3) := dk_132 6 1 (dk_at dksX6_feed_4 19 rfl rfl)
theorem dX6_feed_117 : decode cX6_feed 117 = .ok (.goto (-94), 3) := dk_167 255 162 (dk_at dksX6_feed_5 0 rfl rfl)
theorem dX6_feed_120 : decode cX6_feed 120 = .ok (.aload_n 0, 1) := dk_42 (dk_at dksX6_feed_5 3 rfl rfl)
theorem dX6_feed_121 : decode cX6_feed 121 = .ok (.getfield 69, 3) := dk_180 0 69 (dk_at dksX6_feed_5 4 rfl rfl)
theorem dX6_feed_124 : decode cX6_feed 124 = .ok (.ireturn, 1) := dk_172 (dk_at dksX6_feed_5 7 rfl rfl)
abbrev cX6_end : ByteArray := prog_19_method_20_code
def yX6_end : MethodName := ⟨RX6, "end", "(I)Z"⟩
def dkwX6_end_1 : List UInt8 := [4, 172]
abbrev dktX6_end_1 : List UInt8 := dkwX6_end_1 ++ []
def dkwX6_end_0 : List UInt8 := [42, 3, 181, 0, 41, 27, 3, 42, 180, 0, 69, 184, 0, 44, 154, 0, 5, 3, 172, 42, 27, 181, 0, 69]
abbrev dktX6_end_0 : List UInt8 := dkwX6_end_0 ++ dktX6_end_1
theorem dksX6_end_0 : cX6_end.data.toList.drop 0 = dktX6_end_0 := by decide +kernel
theorem dksX6_end_1 : cX6_end.data.toList.drop 24 = dktX6_end_1 := dk_seg dksX6_end_0 24 rfl rfl
theorem dX6_end_0 : decode cX6_end 0 = .ok (.aload_n 0, 1) := dk_42 (dk_at dksX6_end_0 0 rfl rfl)
theorem dX6_end_1 : decode cX6_end 1 = .ok (.iconst 0, 1) := dk_3 (dk_at dksX6_end_0 1 rfl rfl)
theorem dX6_end_2 : decode cX6_end 2 = .ok (.putfield 41, 3) := dk_181 0 41 (dk_at dksX6_end_0 2 rfl rfl)
theorem dX6_end_5 : decode cX6_end 5 = .ok (.iload_n 1, 1) := dk_27 (dk_at dksX6_end_0 5 rfl rfl)
theorem dX6_end_6 : decode cX6_end 6 = .ok (.iconst 0, 1) := dk_3 (dk_at dksX6_end_0 6 rfl rfl)
theorem dX6_end_7 : decode cX6_end 7 = .ok (.aload_n 0, 1) := dk_42 (dk_at dksX6_end_0 7 rfl rfl)
theorem dX6_end_8 : decode cX6_end 8 = .ok (.getfield 69, 3) := dk_180 0 69 (dk_at dksX6_end_0 8 rfl rfl)
theorem dX6_end_11 : decode cX6_end 11 = .ok (.invokestatic 44, 3) := dk_184 0 44 (dk_at dksX6_end_0 11 rfl rfl)
theorem dX6_end_14 : decode cX6_end 14 = .ok (.ifCond .ne 5, 3) := dk_154 0 5 (dk_at dksX6_end_0 14 rfl rfl)
theorem dX6_end_17 : decode cX6_end 17 = .ok (.iconst 0, 1) := dk_3 (dk_at dksX6_end_0 17 rfl rfl)
theorem dX6_end_18 : decode cX6_end 18 = .ok (.ireturn, 1) := dk_172 (dk_at dksX6_end_0 18 rfl rfl)
theorem dX6_end_19 : decode cX6_end 19 = .ok (.aload_n 0, 1) := dk_42 (dk_at dksX6_end_0 19 rfl rfl)
theorem dX6_end_20 : decode cX6_end 20 = .ok (.iload_n 1, 1) := dk_27 (dk_at dksX6_end_0 20 rfl rfl)
theorem dX6_end_21 : decode cX6_end 21 = .ok (.putfield 69, 3) := dk_181 0 69 (dk_at dksX6_end_0 21 rfl rfl)
theorem dX6_end_24 : decode cX6_end 24 = .ok (.iconst 1, 1) := dk_4 (dk_at dksX6_end_1 0 rfl rfl)
theorem dX6_end_25 : decode cX6_end 25 = .ok (.ireturn, 1) := dk_172 (dk_at dksX6_end_1 1 rfl rfl)
abbrev cX6_isIn : ByteArray := prog_19_method_3_code
def yX6_isIn : MethodName := ⟨RX6, "isIn", "(III)Z"⟩
def dkwX6_isIn_0 : List UInt8 := [26, 27, 161, 0, 12, 26, 28, 163, 0, 7, 4, 167, 0, 4, 3, 172]
abbrev dktX6_isIn_0 : List UInt8 := dkwX6_isIn_0 ++ []
theorem dksX6_isIn_0 : cX6_isIn.data.toList.drop 0 = dktX6_isIn_0 := by decide +kernel
theorem dX6_isIn_0 : decode cX6_isIn 0 = .ok (.iload_n 0, 1) := dk_26 (dk_at dksX6_isIn_0 0 rfl rfl)
theorem dX6_isIn_1 : decode cX6_isIn 1 = .ok (.iload_n 1, 1) := dk_27 (dk_at dksX6_isIn_0 1 rfl rfl)
theorem dX6_isIn_2 : decode cX6_isIn 2 = .ok (.if_icmp .lt 12, 3) := dk_161 0 12 (dk_at dksX6_isIn_0 2 rfl rfl)
theorem dX6_isIn_5 : decode cX6_isIn 5 = .ok (.iload_n 0, 1) := dk_26 (dk_at dksX6_isIn_0 5 rfl rfl)
theorem dX6_isIn_6 : decode cX6_isIn 6 = .ok (.iload_n 2, 1) := dk_28 (dk_at dksX6_isIn_0 6 rfl rfl)
theorem dX6_isIn_7 : decode cX6_isIn 7 = .ok (.if_icmp .gt 7, 3) := dk_163 0 7 (dk_at dksX6_isIn_0 7 rfl rfl)
theorem dX6_isIn_10 : decode cX6_isIn 10 = .ok (.iconst 1, 1) := dk_4 (dk_at dksX6_isIn_0 10 rfl rfl)
theorem dX6_isIn_11 : decode cX6_isIn 11 = .ok (.goto 4, 3) := dk_167 0 4 (dk_at dksX6_isIn_0 11 rfl rfl)
theorem dX6_isIn_14 : decode cX6_isIn 14 = .ok (.iconst 0, 1) := dk_3 (dk_at dksX6_isIn_0 14 rfl rfl)
theorem dX6_isIn_15 : decode cX6_isIn 15 = .ok (.ireturn, 1) := dk_172 (dk_at dksX6_isIn_0 15 rfl rfl)
abbrev cX6_valley : ByteArray := prog_19_method_39_code
def yX6_valley : MethodName := ⟨RX6, "valley", "()I"⟩
def dkwX6_valley_3 : List UInt8 := [181, 0, 188, 42, 180, 0, 7, 3, 46, 172]
abbrev dktX6_valley_3 : List UInt8 := dkwX6_valley_3 ++ []
def dkwX6_valley_2 : List UInt8 := [180, 0, 41, 158, 0, 9, 42, 182, 0, 185, 3, 172, 42, 180, 0, 7, 3, 92, 46, 4, 96, 79, 42, 3]
abbrev dktX6_valley_2 : List UInt8 := dkwX6_valley_2 ++ dktX6_valley_3
def dkwX6_valley_1 : List UInt8 := [167, 0, 19, 42, 180, 0, 7, 3, 46, 16, 12, 160, 0, 7, 5, 167, 0, 4, 3, 181, 0, 41, 42]
abbrev dktX6_valley_1 : List UInt8 := dkwX6_valley_1 ++ dktX6_valley_2
def dkwX6_valley_0 : List UInt8 := [42, 182, 0, 175, 42, 182, 0, 178, 42, 3, 182, 0, 181, 60, 42, 42, 180, 0, 25, 2, 159, 0, 7, 4]
abbrev dktX6_valley_0 : List UInt8 := dkwX6_valley_0 ++ dktX6_valley_1
theorem dksX6_valley_0 : cX6_valley.data.toList.drop 0 = dktX6_valley_0 := by decide +kernel
theorem dksX6_valley_1 : cX6_valley.data.toList.drop 24 = dktX6_valley_1 := dk_seg dksX6_valley_0 24 rfl rfl
theorem dksX6_valley_2 : cX6_valley.data.toList.drop 47 = dktX6_valley_2 := dk_seg dksX6_valley_1 23 rfl rfl
theorem dksX6_valley_3 : cX6_valley.data.toList.drop 71 = dktX6_valley_3 := dk_seg dksX6_valley_2 24 rfl rfl
theorem dX6_valley_0 : decode cX6_valley 0 = .ok (.aload_n 0, 1) := dk_42 (dk_at dksX6_valley_0 0 rfl rfl)
theorem dX6_valley_1 : decode cX6_valley 1 = .ok (.invokevirtual 175, 3) := dk_182 0 175 (dk_at dksX6_valley_0 1 rfl rfl)
theorem dX6_valley_4 : decode cX6_valley 4 = .ok (.aload_n 0, 1) := dk_42 (dk_at dksX6_valley_0 4 rfl rfl)
theorem dX6_valley_5 : decode cX6_valley 5 = .ok (.invokevirtual 178, 3) := dk_182 0 178 (dk_at dksX6_valley_0 5 rfl rfl)
theorem dX6_valley_8 : decode cX6_valley 8 = .ok (.aload_n 0, 1) := dk_42 (dk_at dksX6_valley_0 8 rfl rfl)
theorem dX6_valley_9 : decode cX6_valley 9 = .ok (.iconst 0, 1) := dk_3 (dk_at dksX6_valley_0 9 rfl rfl)
theorem dX6_valley_10 : decode cX6_valley 10 = .ok (.invokevirtual 181, 3) := dk_182 0 181 (dk_at dksX6_valley_0 10 rfl rfl)
theorem dX6_valley_13 : decode cX6_valley 13 = .ok (.istore_n 1, 1) := dk_60 (dk_at dksX6_valley_0 13 rfl rfl)
theorem dX6_valley_14 : decode cX6_valley 14 = .ok (.aload_n 0, 1) := dk_42 (dk_at dksX6_valley_0 14 rfl rfl)
theorem dX6_valley_15 : decode cX6_valley 15 = .ok (.aload_n 0, 1) := dk_42 (dk_at dksX6_valley_0 15 rfl rfl)
theorem dX6_valley_16 : decode cX6_valley 16 = .ok (.getfield 25, 3) := dk_180 0 25 (dk_at dksX6_valley_0 16 rfl rfl)
theorem dX6_valley_19 : decode cX6_valley 19 = .ok (.iconst (-1), 1) := dk_2 (dk_at dksX6_valley_0 19 rfl rfl)
theorem dX6_valley_20 : decode cX6_valley 20 = .ok (.if_icmp .eq 7, 3) := dk_159 0 7 (dk_at dksX6_valley_0 20 rfl rfl)
theorem dX6_valley_23 : decode cX6_valley 23 = .ok (.iconst 1, 1) := dk_4 (dk_at dksX6_valley_0 23 rfl rfl)
theorem dX6_valley_24 : decode cX6_valley 24 = .ok (.goto 19, 3) := dk_167 0 19 (dk_at dksX6_valley_1 0 rfl rfl)
theorem dX6_valley_27 : decode cX6_valley 27 = .ok (.aload_n 0, 1) := dk_42 (dk_at dksX6_valley_1 3 rfl rfl)
theorem dX6_valley_28 : decode cX6_valley 28 = .ok (.getfield 7, 3) := dk_180 0 7 (dk_at dksX6_valley_1 4 rfl rfl)
theorem dX6_valley_31 : decode cX6_valley 31 = .ok (.iconst 0, 1) := dk_3 (dk_at dksX6_valley_1 7 rfl rfl)
theorem dX6_valley_32 : decode cX6_valley 32 = .ok (.iaload, 1) := dk_46 (dk_at dksX6_valley_1 8 rfl rfl)
theorem dX6_valley_33 : decode cX6_valley 33 = .ok (.bipush 12, 2) := dk_16 12 (dk_at dksX6_valley_1 9 rfl rfl)
theorem dX6_valley_35 : decode cX6_valley 35 = .ok (.if_icmp .ne 7, 3) := dk_160 0 7 (dk_at dksX6_valley_1 11 rfl rfl)
theorem dX6_valley_38 : decode cX6_valley 38 = .ok (.iconst 2, 1) := dk_5 (dk_at dksX6_valley_1 14 rfl rfl)
theorem dX6_valley_39 : decode cX6_valley 39 = .ok (.goto 4, 3) := dk_167 0 4 (dk_at dksX6_valley_1 15 rfl rfl)
theorem dX6_valley_42 : decode cX6_valley 42 = .ok (.iconst 0, 1) := dk_3 (dk_at dksX6_valley_1 18 rfl rfl)
theorem dX6_valley_43 : decode cX6_valley 43 = .ok (.putfield 41, 3) := dk_181 0 41 (dk_at dksX6_valley_1 19 rfl rfl)
theorem dX6_valley_46 : decode cX6_valley 46 = .ok (.aload_n 0, 1) := dk_42 (dk_at dksX6_valley_1 22 rfl rfl)
theorem dX6_valley_47 : decode cX6_valley 47 = .ok (.getfield 41, 3) := dk_180 0 41 (dk_at dksX6_valley_2 0 rfl rfl)
theorem dX6_valley_50 : decode cX6_valley 50 = .ok (.ifCond .le 9, 3) := dk_158 0 9 (dk_at dksX6_valley_2 3 rfl rfl)
theorem dX6_valley_53 : decode cX6_valley 53 = .ok (.aload_n 0, 1) := dk_42 (dk_at dksX6_valley_2 6 rfl rfl)
theorem dX6_valley_54 : decode cX6_valley 54 = .ok (.invokevirtual 185, 3) := dk_182 0 185 (dk_at dksX6_valley_2 7 rfl rfl)
theorem dX6_valley_57 : decode cX6_valley 57 = .ok (.iconst 0, 1) := dk_3 (dk_at dksX6_valley_2 10 rfl rfl)
theorem dX6_valley_58 : decode cX6_valley 58 = .ok (.ireturn, 1) := dk_172 (dk_at dksX6_valley_2 11 rfl rfl)
theorem dX6_valley_59 : decode cX6_valley 59 = .ok (.aload_n 0, 1) := dk_42 (dk_at dksX6_valley_2 12 rfl rfl)
theorem dX6_valley_60 : decode cX6_valley 60 = .ok (.getfield 7, 3) := dk_180 0 7 (dk_at dksX6_valley_2 13 rfl rfl)
theorem dX6_valley_63 : decode cX6_valley 63 = .ok (.iconst 0, 1) := dk_3 (dk_at dksX6_valley_2 16 rfl rfl)
theorem dX6_valley_64 : decode cX6_valley 64 = .ok (.dup2, 1) := dk_92 (dk_at dksX6_valley_2 17 rfl rfl)
theorem dX6_valley_65 : decode cX6_valley 65 = .ok (.iaload, 1) := dk_46 (dk_at dksX6_valley_2 18 rfl rfl)
theorem dX6_valley_66 : decode cX6_valley 66 = .ok (.iconst 1, 1) := dk_4 (dk_at dksX6_valley_2 19 rfl rfl)
theorem dX6_valley_67 : decode cX6_valley 67 = .ok (.iadd, 1) := dk_96 (dk_at dksX6_valley_2 20 rfl rfl)
theorem dX6_valley_68 : decode cX6_valley 68 = .ok (.iastore, 1) := dk_79 (dk_at dksX6_valley_2 21 rfl rfl)
theorem dX6_valley_69 : decode cX6_valley 69 = .ok (.aload_n 0, 1) := dk_42 (dk_at dksX6_valley_2 22 rfl rfl)
theorem dX6_valley_70 : decode cX6_valley 70 = .ok (.iconst 0, 1) := dk_3 (dk_at dksX6_valley_2 23 rfl rfl)
theorem dX6_valley_71 : decode cX6_valley 71 = .ok (.putfield 188, 3) := dk_181 0 188 (dk_at dksX6_valley_3 0 rfl rfl)
theorem dX6_valley_74 : decode cX6_valley 74 = .ok (.aload_n 0, 1) := dk_42 (dk_at dksX6_valley_3 3 rfl rfl)
theorem dX6_valley_75 : decode cX6_valley 75 = .ok (.getfield 7, 3) := dk_180 0 7 (dk_at dksX6_valley_3 4 rfl rfl)
theorem dX6_valley_78 : decode cX6_valley 78 = .ok (.iconst 0, 1) := dk_3 (dk_at dksX6_valley_3 7 rfl rfl)
theorem dX6_valley_79 : decode cX6_valley 79 = .ok (.iaload, 1) := dk_46 (dk_at dksX6_valley_3 8 rfl rfl)
theorem dX6_valley_80 : decode cX6_valley 80 = .ok (.ireturn, 1) := dk_172 (dk_at dksX6_valley_3 9 rfl rfl)
abbrev cX6_putsAside : ByteArray := prog_19_method_37_code
def yX6_putsAside : MethodName := ⟨RX6, "putsAside", "()V"⟩
def dkwX6_putsAside_1 : List UInt8 := [167, 255, 234, 177]
abbrev dktX6_putsAside_1 : List UInt8 := dkwX6_putsAside_1 ++ []
def dkwX6_putsAside_0 : List UInt8 := [3, 60, 27, 17, 1, 113, 162, 0, 21, 42, 180, 0, 16, 27, 42, 180, 0, 7, 27, 46, 79, 132, 1, 1]
abbrev dktX6_putsAside_0 : List UInt8 := dkwX6_putsAside_0 ++ dktX6_putsAside_1
theorem dksX6_putsAside_0 : cX6_putsAside.data.toList.drop 0 = dktX6_putsAside_0 := by decide +kernel
theorem dksX6_putsAside_1 : cX6_putsAside.data.toList.drop 24 = dktX6_putsAside_1 := dk_seg dksX6_putsAside_0 24 rfl rfl
theorem dX6_putsAside_0 : decode cX6_putsAside 0 = .ok (.iconst 0, 1) := dk_3 (dk_at dksX6_putsAside_0 0 rfl rfl)
theorem dX6_putsAside_1 : decode cX6_putsAside 1 = .ok (.istore_n 1, 1) := dk_60 (dk_at dksX6_putsAside_0 1 rfl rfl)
theorem dX6_putsAside_2 : decode cX6_putsAside 2 = .ok (.iload_n 1, 1) := dk_27 (dk_at dksX6_putsAside_0 2 rfl rfl)
theorem dX6_putsAside_3 : decode cX6_putsAside 3 = .ok (.sipush 369, 3) := dk_17 1 113 (dk_at dksX6_putsAside_0 3 rfl rfl)
theorem dX6_putsAside_6 : decode cX6_putsAside 6 = .ok (.if_icmp .ge 21, 3) := dk_162 0 21 (dk_at dksX6_putsAside_0 6 rfl rfl)
theorem dX6_putsAside_9 : decode cX6_putsAside 9 = .ok (.aload_n 0, 1) := dk_42 (dk_at dksX6_putsAside_0 9 rfl rfl)
theorem dX6_putsAside_10 : decode cX6_putsAside 10 = .ok (.getfield 16, 3) := dk_180 0 16 (dk_at dksX6_putsAside_0 10 rfl rfl)
theorem dX6_putsAside_13 : decode cX6_putsAside 13 = .ok (.iload_n 1, 1) := dk_27 (dk_at dksX6_putsAside_0 13 rfl rfl)
theorem dX6_putsAside_14 : decode cX6_putsAside 14 = .ok (.aload_n 0, 1) := dk_42 (dk_at dksX6_putsAside_0 14 rfl rfl)
theorem dX6_putsAside_15 : decode cX6_putsAside 15 = .ok (.getfield 7, 3) := dk_180 0 7 (dk_at dksX6_putsAside_0 15 rfl rfl)
theorem dX6_putsAside_18 : decode cX6_putsAside 18 = .ok (.iload_n 1, 1) := dk_27 (dk_at dksX6_putsAside_0 18 rfl rfl)
theorem dX6_putsAside_19 : decode cX6_putsAside 19 = .ok (.iaload, 1) := dk_46 (dk_at dksX6_putsAside_0 19 rfl rfl)
theorem dX6_putsAside_20 : decode cX6_putsAside 20 = .ok (.iastore, 1) := dk_79 (dk_at dksX6_putsAside_0 20 rfl rfl)
theorem dX6_putsAside_21 : decode cX6_putsAside 21 = .ok (.iinc 1 1, 3) := dk_132 1 1 (dk_at dksX6_putsAside_0 21 rfl rfl)
theorem dX6_putsAside_24 : decode cX6_putsAside 24 = .ok (.goto (-22), 3) := dk_167 255 234 (dk_at dksX6_putsAside_1 0 rfl rfl)
theorem dX6_putsAside_27 : decode cX6_putsAside 27 = .ok (.return_, 1) := dk_177 (dk_at dksX6_putsAside_1 3 rfl rfl)
abbrev cX6_begins : ByteArray := prog_19_method_35_code
def yX6_begins : MethodName := ⟨RX6, "begins", "()V"⟩
def dkwX6_begins_1 : List UInt8 := [3, 181, 0, 75, 42, 3, 181, 0, 162, 177]
abbrev dktX6_begins_1 : List UInt8 := dkwX6_begins_1 ++ []
def dkwX6_begins_0 : List UInt8 := [42, 2, 181, 0, 25, 42, 2, 181, 0, 72, 42, 42, 180, 0, 69, 181, 0, 78, 42, 3, 181, 0, 69, 42]
abbrev dktX6_begins_0 : List UInt8 := dkwX6_begins_0 ++ dktX6_begins_1
theorem dksX6_begins_0 : cX6_begins.data.toList.drop 0 = dktX6_begins_0 := by decide +kernel
theorem dksX6_begins_1 : cX6_begins.data.toList.drop 24 = dktX6_begins_1 := dk_seg dksX6_begins_0 24 rfl rfl
theorem dX6_begins_0 : decode cX6_begins 0 = .ok (.aload_n 0, 1) := dk_42 (dk_at dksX6_begins_0 0 rfl rfl)
theorem dX6_begins_1 : decode cX6_begins 1 = .ok (.iconst (-1), 1) := dk_2 (dk_at dksX6_begins_0 1 rfl rfl)
theorem dX6_begins_2 : decode cX6_begins 2 = .ok (.putfield 25, 3) := dk_181 0 25 (dk_at dksX6_begins_0 2 rfl rfl)
theorem dX6_begins_5 : decode cX6_begins 5 = .ok (.aload_n 0, 1) := dk_42 (dk_at dksX6_begins_0 5 rfl rfl)
theorem dX6_begins_6 : decode cX6_begins 6 = .ok (.iconst (-1), 1) := dk_2 (dk_at dksX6_begins_0 6 rfl rfl)
theorem dX6_begins_7 : decode cX6_begins 7 = .ok (.putfield 72, 3) := dk_181 0 72 (dk_at dksX6_begins_0 7 rfl rfl)
theorem dX6_begins_10 : decode cX6_begins 10 = .ok (.aload_n 0, 1) := dk_42 (dk_at dksX6_begins_0 10 rfl rfl)
theorem dX6_begins_11 : decode cX6_begins 11 = .ok (.aload_n 0, 1) := dk_42 (dk_at dksX6_begins_0 11 rfl rfl)
theorem dX6_begins_12 : decode cX6_begins 12 = .ok (.getfield 69, 3) := dk_180 0 69 (dk_at dksX6_begins_0 12 rfl rfl)
theorem dX6_begins_15 : decode cX6_begins 15 = .ok (.putfield 78, 3) := dk_181 0 78 (dk_at dksX6_begins_0 15 rfl rfl)
theorem dX6_begins_18 : decode cX6_begins 18 = .ok (.aload_n 0, 1) := dk_42 (dk_at dksX6_begins_0 18 rfl rfl)
theorem dX6_begins_19 : decode cX6_begins 19 = .ok (.iconst 0, 1) := dk_3 (dk_at dksX6_begins_0 19 rfl rfl)
theorem dX6_begins_20 : decode cX6_begins 20 = .ok (.putfield 69, 3) := dk_181 0 69 (dk_at dksX6_begins_0 20 rfl rfl)
theorem dX6_begins_23 : decode cX6_begins 23 = .ok (.aload_n 0, 1) := dk_42 (dk_at dksX6_begins_0 23 rfl rfl)
theorem dX6_begins_24 : decode cX6_begins 24 = .ok (.iconst 0, 1) := dk_3 (dk_at dksX6_begins_1 0 rfl rfl)
theorem dX6_begins_25 : decode cX6_begins 25 = .ok (.putfield 75, 3) := dk_181 0 75 (dk_at dksX6_begins_1 1 rfl rfl)
theorem dX6_begins_28 : decode cX6_begins 28 = .ok (.aload_n 0, 1) := dk_42 (dk_at dksX6_begins_1 4 rfl rfl)
theorem dX6_begins_29 : decode cX6_begins 29 = .ok (.iconst 0, 1) := dk_3 (dk_at dksX6_begins_1 5 rfl rfl)
theorem dX6_begins_30 : decode cX6_begins 30 = .ok (.putfield 162, 3) := dk_181 0 162 (dk_at dksX6_begins_1 6 rfl rfl)
theorem dX6_begins_33 : decode cX6_begins 33 = .ok (.return_, 1) := dk_177 (dk_at dksX6_begins_1 9 rfl rfl)
abbrev cX6_read : ByteArray := prog_19_method_36_code
def yX6_read : MethodName := ⟨RX6, "read", "(Z)I"⟩
def dkwX6_read_6 : List UInt8 := [182, 0, 100, 167, 255, 138, 29, 172]
abbrev dktX6_read_6 : List UInt8 := dkwX6_read_6 ++ []
def dkwX6_read_5 : List UInt8 := [182, 0, 171, 153, 0, 16, 42, 89, 180, 0, 75, 4, 96, 181, 0, 75, 167, 255, 149, 42, 42, 180, 0, 75]
abbrev dktX6_read_5 : List UInt8 := dkwX6_read_5 ++ dktX6_read_6
def dkwX6_read_4 : List UInt8 := [160, 0, 14, 42, 180, 0, 75, 42, 180, 0, 78, 160, 0, 8, 3, 61, 167, 255, 171, 42, 16, 59]
abbrev dktX6_read_4 : List UInt8 := dkwX6_read_4 ++ dktX6_read_5
def dkwX6_read_3 : List UInt8 := [182, 0, 165, 167, 0, 7, 42, 182, 0, 168, 132, 3, 1, 42, 182, 0, 84, 42, 180, 0, 25, 2]
abbrev dktX6_read_3 : List UInt8 := dkwX6_read_3 ++ dktX6_read_4
def dkwX6_read_2 : List UInt8 := [167, 0, 5, 16, 14, 160, 0, 14, 42, 42, 180, 0, 75, 182, 0, 100, 167, 0, 18, 27, 153, 0, 10, 42]
abbrev dktX6_read_2 : List UInt8 := dkwX6_read_2 ++ dktX6_read_3
def dkwX6_read_1 : List UInt8 := [153, 0, 120, 42, 180, 0, 25, 2, 160, 0, 112, 42, 182, 0, 84, 29, 27, 153, 0, 8, 16, 12]
abbrev dktX6_read_1 : List UInt8 := dkwX6_read_1 ++ dktX6_read_2
def dkwX6_read_0 : List UInt8 := [42, 182, 0, 84, 42, 180, 0, 75, 42, 180, 0, 78, 162, 0, 7, 4, 167, 0, 4, 3, 61, 3, 62, 28]
abbrev dktX6_read_0 : List UInt8 := dkwX6_read_0 ++ dktX6_read_1
theorem dksX6_read_0 : cX6_read.data.toList.drop 0 = dktX6_read_0 := by decide +kernel
theorem dksX6_read_1 : cX6_read.data.toList.drop 24 = dktX6_read_1 := dk_seg dksX6_read_0 24 rfl rfl
theorem dksX6_read_2 : cX6_read.data.toList.drop 46 = dktX6_read_2 := dk_seg dksX6_read_1 22 rfl rfl
theorem dksX6_read_3 : cX6_read.data.toList.drop 70 = dktX6_read_3 := dk_seg dksX6_read_2 24 rfl rfl
theorem dksX6_read_4 : cX6_read.data.toList.drop 92 = dktX6_read_4 := dk_seg dksX6_read_3 22 rfl rfl
theorem dksX6_read_5 : cX6_read.data.toList.drop 114 = dktX6_read_5 := dk_seg dksX6_read_4 22 rfl rfl
theorem dksX6_read_6 : cX6_read.data.toList.drop 138 = dktX6_read_6 := dk_seg dksX6_read_5 24 rfl rfl
theorem dX6_read_0 : decode cX6_read 0 = .ok (.aload_n 0, 1) := dk_42 (dk_at dksX6_read_0 0 rfl rfl)
theorem dX6_read_1 : decode cX6_read 1 = .ok (.invokevirtual 84, 3) := dk_182 0 84 (dk_at dksX6_read_0 1 rfl rfl)
theorem dX6_read_4 : decode cX6_read 4 = .ok (.aload_n 0, 1) := dk_42 (dk_at dksX6_read_0 4 rfl rfl)
theorem dX6_read_5 : decode cX6_read 5 = .ok (.getfield 75, 3) := dk_180 0 75 (dk_at dksX6_read_0 5 rfl rfl)
theorem dX6_read_8 : decode cX6_read 8 = .ok (.aload_n 0, 1) := dk_42 (dk_at dksX6_read_0 8 rfl rfl)
theorem dX6_read_9 : decode cX6_read 9 = .ok (.getfield 78, 3) := dk_180 0 78 (dk_at dksX6_read_0 9 rfl rfl)
theorem dX6_read_12 : decode cX6_read 12 = .ok (.if_icmp .ge 7, 3) := dk_162 0 7 (dk_at dksX6_read_0 12 rfl rfl)
theorem dX6_read_15 : decode cX6_read 15 = .ok (.iconst 1, 1) := dk_4 (dk_at dksX6_read_0 15 rfl rfl)
theorem dX6_read_16 : decode cX6_read 16 = .ok (.goto 4, 3) := dk_167 0 4 (dk_at dksX6_read_0 16 rfl rfl)
theorem dX6_read_19 : decode cX6_read 19 = .ok (.iconst 0, 1) := dk_3 (dk_at dksX6_read_0 19 rfl rfl)
theorem dX6_read_20 : decode cX6_read 20 = .ok (.istore_n 2, 1) := dk_61 (dk_at dksX6_read_0 20 rfl rfl)
theorem dX6_read_21 : decode cX6_read 21 = .ok (.iconst 0, 1) := dk_3 (dk_at dksX6_read_0 21 rfl rfl)
theorem dX6_read_22 : decode cX6_read 22 = .ok (.istore_n 3, 1) := dk_62 (dk_at dksX6_read_0 22 rfl rfl)
theorem dX6_read_23 : decode cX6_read 23 = .ok (.iload_n 2, 1) := dk_28 (dk_at dksX6_read_0 23 rfl rfl)
theorem dX6_read_24 : decode cX6_read 24 = .ok (.ifCond .eq 120, 3) := dk_153 0 120 (dk_at dksX6_read_1 0 rfl rfl)
theorem dX6_read_27 : decode cX6_read 27 = .ok (.aload_n 0, 1) := dk_42 (dk_at dksX6_read_1 3 rfl rfl)
theorem dX6_read_28 : decode cX6_read 28 = .ok (.getfield 25, 3) := dk_180 0 25 (dk_at dksX6_read_1 4 rfl rfl)
theorem dX6_read_31 : decode cX6_read 31 = .ok (.iconst (-1), 1) := dk_2 (dk_at dksX6_read_1 7 rfl rfl)
theorem dX6_read_32 : decode cX6_read 32 = .ok (.if_icmp .ne 112, 3) := dk_160 0 112 (dk_at dksX6_read_1 8 rfl rfl)
theorem dX6_read_35 : decode cX6_read 35 = .ok (.aload_n 0, 1) := dk_42 (dk_at dksX6_read_1 11 rfl rfl)
theorem dX6_read_36 : decode cX6_read 36 = .ok (.invokevirtual 84, 3) := dk_182 0 84 (dk_at dksX6_read_1 12 rfl rfl)
theorem dX6_read_39 : decode cX6_read 39 = .ok (.iload_n 3, 1) := dk_29 (dk_at dksX6_read_1 15 rfl rfl)
theorem dX6_read_40 : decode cX6_read 40 = .ok (.iload_n 1, 1) := dk_27 (dk_at dksX6_read_1 16 rfl rfl)
theorem dX6_read_41 : decode cX6_read 41 = .ok (.ifCond .eq 8, 3) := dk_153 0 8 (dk_at dksX6_read_1 17 rfl rfl)
theorem dX6_read_44 : decode cX6_read 44 = .ok (.bipush 12, 2) := dk_16 12 (dk_at dksX6_read_1 20 rfl rfl)
theorem dX6_read_46 : decode cX6_read 46 = .ok (.goto 5, 3) := dk_167 0 5 (dk_at dksX6_read_2 0 rfl rfl)
theorem dX6_read_49 : decode cX6_read 49 = .ok (.bipush 14, 2) := dk_16 14 (dk_at dksX6_read_2 3 rfl rfl)
theorem dX6_read_51 : decode cX6_read 51 = .ok (.if_icmp .ne 14, 3) := dk_160 0 14 (dk_at dksX6_read_2 5 rfl rfl)
theorem dX6_read_54 : decode cX6_read 54 = .ok (.aload_n 0, 1) := dk_42 (dk_at dksX6_read_2 8 rfl rfl)
theorem dX6_read_55 : decode cX6_read 55 = .ok (.aload_n 0, 1) := dk_42 (dk_at dksX6_read_2 9 rfl rfl)
theorem dX6_read_56 : decode cX6_read 56 = .ok (.getfield 75, 3) := dk_180 0 75 (dk_at dksX6_read_2 10 rfl rfl)
theorem dX6_read_59 : decode cX6_read 59 = .ok (.invokevirtual 100, 3) := dk_182 0 100 (dk_at dksX6_read_2 13 rfl rfl)
theorem dX6_read_62 : decode cX6_read 62 = .ok (.goto 18, 3) := dk_167 0 18 (dk_at dksX6_read_2 16 rfl rfl)
theorem dX6_read_65 : decode cX6_read 65 = .ok (.iload_n 1, 1) := dk_27 (dk_at dksX6_read_2 19 rfl rfl)
theorem dX6_read_66 : decode cX6_read 66 = .ok (.ifCond .eq 10, 3) := dk_153 0 10 (dk_at dksX6_read_2 20 rfl rfl)
theorem dX6_read_69 : decode cX6_read 69 = .ok (.aload_n 0, 1) := dk_42 (dk_at dksX6_read_2 23 rfl rfl)
theorem dX6_read_70 : decode cX6_read 70 = .ok (.invokevirtual 165, 3) := dk_182 0 165 (dk_at dksX6_read_3 0 rfl rfl)
theorem dX6_read_73 : decode cX6_read 73 = .ok (.goto 7, 3) := dk_167 0 7 (dk_at dksX6_read_3 3 rfl rfl)
theorem dX6_read_76 : decode cX6_read 76 = .ok (.aload_n 0, 1) := dk_42 (dk_at dksX6_read_3 6 rfl rfl)
theorem dX6_read_77 : decode cX6_read 77 = .ok (.invokevirtual 168, 3) := dk_182 0 168 (dk_at dksX6_read_3 7 rfl rfl)
theorem dX6_read_80 : decode cX6_read 80 = .ok (.iinc 3 1, 3) := dk_132 3 1 (dk_at dksX6_read_3 10 rfl rfl)
theorem dX6_read_83 : decode cX6_read 83 = .ok (.aload_n 0, 1) := dk_42 (dk_at dksX6_read_3 13 rfl rfl)
theorem dX6_read_84 : decode cX6_read 84 = .ok (.invokevirtual 84, 3) := dk_182 0 84 (dk_at dksX6_read_3 14 rfl rfl)
theorem dX6_read_87 : decode cX6_read 87 = .ok (.aload_n 0, 1) := dk_42 (dk_at dksX6_read_3 17 rfl rfl)
theorem dX6_read_88 : decode cX6_read 88 = .ok (.getfield 25, 3) := dk_180 0 25 (dk_at dksX6_read_3 18 rfl rfl)
theorem dX6_read_91 : decode cX6_read 91 = .ok (.iconst (-1), 1) := dk_2 (dk_at dksX6_read_3 21 rfl rfl)
theorem dX6_read_92 : decode cX6_read 92 = .ok (.if_icmp .ne 14, 3) := dk_160 0 14 (dk_at dksX6_read_4 0 rfl rfl)
theorem dX6_read_95 : decode cX6_read 95 = .ok (.aload_n 0, 1) := dk_42 (dk_at dksX6_read_4 3 rfl rfl)
theorem dX6_read_96 : decode cX6_read 96 = .ok (.getfield 75, 3) := dk_180 0 75 (dk_at dksX6_read_4 4 rfl rfl)
theorem dX6_read_99 : decode cX6_read 99 = .ok (.aload_n 0, 1) := dk_42 (dk_at dksX6_read_4 7 rfl rfl)
theorem dX6_read_100 : decode cX6_read 100 = .ok (.getfield 78, 3) := dk_180 0 78 (dk_at dksX6_read_4 8 rfl rfl)
theorem dX6_read_103 : decode cX6_read 103 = .ok (.if_icmp .ne 8, 3) := dk_160 0 8 (dk_at dksX6_read_4 11 rfl rfl)
theorem dX6_read_106 : decode cX6_read 106 = .ok (.iconst 0, 1) := dk_3 (dk_at dksX6_read_4 14 rfl rfl)
theorem dX6_read_107 : decode cX6_read 107 = .ok (.istore_n 2, 1) := dk_61 (dk_at dksX6_read_4 15 rfl rfl)
theorem dX6_read_108 : decode cX6_read 108 = .ok (.goto (-85), 3) := dk_167 255 171 (dk_at dksX6_read_4 16 rfl rfl)
theorem dX6_read_111 : decode cX6_read 111 = .ok (.aload_n 0, 1) := dk_42 (dk_at dksX6_read_4 19 rfl rfl)
theorem dX6_read_112 : decode cX6_read 112 = .ok (.bipush 59, 2) := dk_16 59 (dk_at dksX6_read_4 20 rfl rfl)
theorem dX6_read_114 : decode cX6_read 114 = .ok (.invokevirtual 171, 3) := dk_182 0 171 (dk_at dksX6_read_5 0 rfl rfl)
theorem dX6_read_117 : decode cX6_read 117 = .ok (.ifCond .eq 16, 3) := dk_153 0 16 (dk_at dksX6_read_5 3 rfl rfl)
theorem dX6_read_120 : decode cX6_read 120 = .ok (.aload_n 0, 1) := dk_42 (dk_at dksX6_read_5 6 rfl rfl)
theorem dX6_read_121 : decode cX6_read 121 = .ok (.dup, 1) := dk_89 (dk_at dksX6_read_5 7 rfl rfl)
theorem dX6_read_122 : decode cX6_read 122 = .ok (.getfield 75, 3) := dk_180 0 75 (dk_at dksX6_read_5 8 rfl rfl)
theorem dX6_read_125 : decode cX6_read 125 = .ok (.iconst 1, 1) := dk_4 (dk_at dksX6_read_5 11 rfl rfl)
theorem dX6_read_126 : decode cX6_read 126 = .ok (.iadd, 1) := dk_96 (dk_at dksX6_read_5 12 rfl rfl)
theorem dX6_read_127 : decode cX6_read 127 = .ok (.putfield 75, 3) := dk_181 0 75 (dk_at dksX6_read_5 13 rfl rfl)
theorem dX6_read_130 : decode cX6_read 130 = .ok (.goto (-107), 3) := dk_167 255 149 (dk_at dksX6_read_5 16 rfl rfl)
theorem dX6_read_133 : decode cX6_read 133 = .ok (.aload_n 0, 1) := dk_42 (dk_at dksX6_read_5 19 rfl rfl)
theorem dX6_read_134 : decode cX6_read 134 = .ok (.aload_n 0, 1) := dk_42 (dk_at dksX6_read_5 20 rfl rfl)
theorem dX6_read_135 : decode cX6_read 135 = .ok (.getfield 75, 3) := dk_180 0 75 (dk_at dksX6_read_5 21 rfl rfl)
theorem dX6_read_138 : decode cX6_read 138 = .ok (.invokevirtual 100, 3) := dk_182 0 100 (dk_at dksX6_read_6 0 rfl rfl)
theorem dX6_read_141 : decode cX6_read 141 = .ok (.goto (-118), 3) := dk_167 255 138 (dk_at dksX6_read_6 3 rfl rfl)
theorem dX6_read_144 : decode cX6_read 144 = .ok (.iload_n 3, 1) := dk_29 (dk_at dksX6_read_6 6 rfl rfl)
theorem dX6_read_145 : decode cX6_read 145 = .ok (.ireturn, 1) := dk_172 (dk_at dksX6_read_6 7 rfl rfl)
abbrev cX6_skip : ByteArray := prog_19_method_22_code
def yX6_skip : MethodName := ⟨RX6, "skip", "()V"⟩
def dkwX6_skip_1 : List UInt8 := [42, 89, 180, 0, 75, 4, 96, 181, 0, 75, 167, 255, 222, 177]
abbrev dktX6_skip_1 : List UInt8 := dkwX6_skip_1 ++ []
def dkwX6_skip_0 : List UInt8 := [42, 180, 0, 75, 42, 180, 0, 78, 162, 0, 29, 42, 42, 180, 0, 75, 182, 0, 81, 16, 32, 160, 0, 16]
abbrev dktX6_skip_0 : List UInt8 := dkwX6_skip_0 ++ dktX6_skip_1
theorem dksX6_skip_0 : cX6_skip.data.toList.drop 0 = dktX6_skip_0 := by decide +kernel
theorem dksX6_skip_1 : cX6_skip.data.toList.drop 24 = dktX6_skip_1 := dk_seg dksX6_skip_0 24 rfl rfl
theorem dX6_skip_0 : decode cX6_skip 0 = .ok (.aload_n 0, 1) := dk_42 (dk_at dksX6_skip_0 0 rfl rfl)
theorem dX6_skip_1 : decode cX6_skip 1 = .ok (.getfield 75, 3) := dk_180 0 75 (dk_at dksX6_skip_0 1 rfl rfl)
theorem dX6_skip_4 : decode cX6_skip 4 = .ok (.aload_n 0, 1) := dk_42 (dk_at dksX6_skip_0 4 rfl rfl)
theorem dX6_skip_5 : decode cX6_skip 5 = .ok (.getfield 78, 3) := dk_180 0 78 (dk_at dksX6_skip_0 5 rfl rfl)
theorem dX6_skip_8 : decode cX6_skip 8 = .ok (.if_icmp .ge 29, 3) := dk_162 0 29 (dk_at dksX6_skip_0 8 rfl rfl)
theorem dX6_skip_11 : decode cX6_skip 11 = .ok (.aload_n 0, 1) := dk_42 (dk_at dksX6_skip_0 11 rfl rfl)
theorem dX6_skip_12 : decode cX6_skip 12 = .ok (.aload_n 0, 1) := dk_42 (dk_at dksX6_skip_0 12 rfl rfl)
theorem dX6_skip_13 : decode cX6_skip 13 = .ok (.getfield 75, 3) := dk_180 0 75 (dk_at dksX6_skip_0 13 rfl rfl)
theorem dX6_skip_16 : decode cX6_skip 16 = .ok (.invokevirtual 81, 3) := dk_182 0 81 (dk_at dksX6_skip_0 16 rfl rfl)
theorem dX6_skip_19 : decode cX6_skip 19 = .ok (.bipush 32, 2) := dk_16 32 (dk_at dksX6_skip_0 19 rfl rfl)
theorem dX6_skip_21 : decode cX6_skip 21 = .ok (.if_icmp .ne 16, 3) := dk_160 0 16 (dk_at dksX6_skip_0 21 rfl rfl)
theorem dX6_skip_24 : decode cX6_skip 24 = .ok (.aload_n 0, 1) := dk_42 (dk_at dksX6_skip_1 0 rfl rfl)
theorem dX6_skip_25 : decode cX6_skip 25 = .ok (.dup, 1) := dk_89 (dk_at dksX6_skip_1 1 rfl rfl)
theorem dX6_skip_26 : decode cX6_skip 26 = .ok (.getfield 75, 3) := dk_180 0 75 (dk_at dksX6_skip_1 2 rfl rfl)
theorem dX6_skip_29 : decode cX6_skip 29 = .ok (.iconst 1, 1) := dk_4 (dk_at dksX6_skip_1 5 rfl rfl)
theorem dX6_skip_30 : decode cX6_skip 30 = .ok (.iadd, 1) := dk_96 (dk_at dksX6_skip_1 6 rfl rfl)
theorem dX6_skip_31 : decode cX6_skip 31 = .ok (.putfield 75, 3) := dk_181 0 75 (dk_at dksX6_skip_1 7 rfl rfl)
theorem dX6_skip_34 : decode cX6_skip 34 = .ok (.goto (-34), 3) := dk_167 255 222 (dk_at dksX6_skip_1 10 rfl rfl)
theorem dX6_skip_37 : decode cX6_skip 37 = .ok (.return_, 1) := dk_177 (dk_at dksX6_skip_1 13 rfl rfl)
abbrev cX6_letter : ByteArray := prog_19_method_21_code
def yX6_letter : MethodName := ⟨RX6, "letter", "(I)I"⟩
def dkwX6_letter_1 : List UInt8 := [180, 0, 72, 27, 96, 46, 172]
abbrev dktX6_letter_1 : List UInt8 := dkwX6_letter_1 ++ []
def dkwX6_letter_0 : List UInt8 := [42, 180, 0, 72, 2, 160, 0, 12, 42, 180, 0, 22, 27, 46, 167, 0, 14, 42, 180, 0, 7, 42]
abbrev dktX6_letter_0 : List UInt8 := dkwX6_letter_0 ++ dktX6_letter_1
theorem dksX6_letter_0 : cX6_letter.data.toList.drop 0 = dktX6_letter_0 := by decide +kernel
theorem dksX6_letter_1 : cX6_letter.data.toList.drop 22 = dktX6_letter_1 := dk_seg dksX6_letter_0 22 rfl rfl
theorem dX6_letter_0 : decode cX6_letter 0 = .ok (.aload_n 0, 1) := dk_42 (dk_at dksX6_letter_0 0 rfl rfl)
theorem dX6_letter_1 : decode cX6_letter 1 = .ok (.getfield 72, 3) := dk_180 0 72 (dk_at dksX6_letter_0 1 rfl rfl)
theorem dX6_letter_4 : decode cX6_letter 4 = .ok (.iconst (-1), 1) := dk_2 (dk_at dksX6_letter_0 4 rfl rfl)
theorem dX6_letter_5 : decode cX6_letter 5 = .ok (.if_icmp .ne 12, 3) := dk_160 0 12 (dk_at dksX6_letter_0 5 rfl rfl)
theorem dX6_letter_8 : decode cX6_letter 8 = .ok (.aload_n 0, 1) := dk_42 (dk_at dksX6_letter_0 8 rfl rfl)
theorem dX6_letter_9 : decode cX6_letter 9 = .ok (.getfield 22, 3) := dk_180 0 22 (dk_at dksX6_letter_0 9 rfl rfl)
theorem dX6_letter_12 : decode cX6_letter 12 = .ok (.iload_n 1, 1) := dk_27 (dk_at dksX6_letter_0 12 rfl rfl)
theorem dX6_letter_13 : decode cX6_letter 13 = .ok (.iaload, 1) := dk_46 (dk_at dksX6_letter_0 13 rfl rfl)
theorem dX6_letter_14 : decode cX6_letter 14 = .ok (.goto 14, 3) := dk_167 0 14 (dk_at dksX6_letter_0 14 rfl rfl)
theorem dX6_letter_17 : decode cX6_letter 17 = .ok (.aload_n 0, 1) := dk_42 (dk_at dksX6_letter_0 17 rfl rfl)
theorem dX6_letter_18 : decode cX6_letter 18 = .ok (.getfield 7, 3) := dk_180 0 7 (dk_at dksX6_letter_0 18 rfl rfl)
theorem dX6_letter_21 : decode cX6_letter 21 = .ok (.aload_n 0, 1) := dk_42 (dk_at dksX6_letter_0 21 rfl rfl)
theorem dX6_letter_22 : decode cX6_letter 22 = .ok (.getfield 72, 3) := dk_180 0 72 (dk_at dksX6_letter_1 0 rfl rfl)
theorem dX6_letter_25 : decode cX6_letter 25 = .ok (.iload_n 1, 1) := dk_27 (dk_at dksX6_letter_1 3 rfl rfl)
theorem dX6_letter_26 : decode cX6_letter 26 = .ok (.iadd, 1) := dk_96 (dk_at dksX6_letter_1 4 rfl rfl)
theorem dX6_letter_27 : decode cX6_letter 27 = .ok (.iaload, 1) := dk_46 (dk_at dksX6_letter_1 5 rfl rfl)
theorem dX6_letter_28 : decode cX6_letter 28 = .ok (.ireturn, 1) := dk_172 (dk_at dksX6_letter_1 6 rfl rfl)
abbrev cX6_wrong : ByteArray := prog_19_method_25_code
def yX6_wrong : MethodName := ⟨RX6, "wrong", "(I)V"⟩
def dkwX6_wrong_0 : List UInt8 := [42, 180, 0, 25, 2, 160, 0, 8, 42, 27, 181, 0, 25, 177]
abbrev dktX6_wrong_0 : List UInt8 := dkwX6_wrong_0 ++ []
theorem dksX6_wrong_0 : cX6_wrong.data.toList.drop 0 = dktX6_wrong_0 := by decide +kernel
theorem dX6_wrong_0 : decode cX6_wrong 0 = .ok (.aload_n 0, 1) := dk_42 (dk_at dksX6_wrong_0 0 rfl rfl)
theorem dX6_wrong_1 : decode cX6_wrong 1 = .ok (.getfield 25, 3) := dk_180 0 25 (dk_at dksX6_wrong_0 1 rfl rfl)
theorem dX6_wrong_4 : decode cX6_wrong 4 = .ok (.iconst (-1), 1) := dk_2 (dk_at dksX6_wrong_0 4 rfl rfl)
theorem dX6_wrong_5 : decode cX6_wrong 5 = .ok (.if_icmp .ne 8, 3) := dk_160 0 8 (dk_at dksX6_wrong_0 5 rfl rfl)
theorem dX6_wrong_8 : decode cX6_wrong 8 = .ok (.aload_n 0, 1) := dk_42 (dk_at dksX6_wrong_0 8 rfl rfl)
theorem dX6_wrong_9 : decode cX6_wrong 9 = .ok (.iload_n 1, 1) := dk_27 (dk_at dksX6_wrong_0 9 rfl rfl)
theorem dX6_wrong_10 : decode cX6_wrong 10 = .ok (.putfield 25, 3) := dk_181 0 25 (dk_at dksX6_wrong_0 10 rfl rfl)
theorem dX6_wrong_13 : decode cX6_wrong 13 = .ok (.return_, 1) := dk_177 (dk_at dksX6_wrong_0 13 rfl rfl)
abbrev cX6_lawLine : ByteArray := prog_19_method_46_code
def yX6_lawLine : MethodName := ⟨RX6, "lawLine", "()V"⟩
def dkwX6_lawLine_6 : List UInt8 := [181, 0, 245, 42, 89, 180, 0, 248, 27, 5, 160, 0, 7, 28, 167, 0, 4, 3, 96, 181, 0, 248, 177]
abbrev dktX6_lawLine_6 : List UInt8 := dkwX6_lawLine_6 ++ []
def dkwX6_lawLine_5 : List UInt8 := [167, 0, 4, 3, 96, 181, 0, 242, 42, 89, 180, 0, 245, 27, 4, 160, 0, 7, 28, 167, 0, 4, 3, 96]
abbrev dktX6_lawLine_5 : List UInt8 := dkwX6_lawLine_5 ++ dktX6_lawLine_6
def dkwX6_lawLine_4 : List UInt8 := [180, 0, 25, 2, 160, 0, 7, 29, 154, 0, 4, 177, 42, 89, 180, 0, 242, 27, 154, 0, 7, 28]
abbrev dktX6_lawLine_4 : List UInt8 := dkwX6_lawLine_4 ++ dktX6_lawLine_5
def dkwX6_lawLine_3 : List UInt8 := [177, 42, 18, 240, 182, 0, 104, 153, 0, 10, 42, 182, 0, 224, 153, 0, 7, 4, 167, 0, 4, 3, 62, 42]
abbrev dktX6_lawLine_3 : List UInt8 := dkwX6_lawLine_3 ++ dktX6_lawLine_4
def dkwX6_lawLine_2 : List UInt8 := [42, 180, 0, 75, 182, 0, 100, 177, 42, 3, 16, 99, 182, 0, 108, 61, 42, 180, 0, 25, 2, 159, 0, 4]
abbrev dktX6_lawLine_2 : List UInt8 := dkwX6_lawLine_2 ++ dktX6_lawLine_3
def dkwX6_lawLine_1 : List UInt8 := [167, 0, 17, 42, 18, 238, 182, 0, 104, 153, 0, 7, 5, 167, 0, 4, 2, 60, 27, 2, 160, 0, 12, 42]
abbrev dktX6_lawLine_1 : List UInt8 := dkwX6_lawLine_1 ++ dktX6_lawLine_2
def dkwX6_lawLine_0 : List UInt8 := [42, 18, 234, 182, 0, 104, 153, 0, 7, 3, 167, 0, 30, 42, 18, 236, 182, 0, 104, 153, 0, 7, 4]
abbrev dktX6_lawLine_0 : List UInt8 := dkwX6_lawLine_0 ++ dktX6_lawLine_1
theorem dksX6_lawLine_0 : cX6_lawLine.data.toList.drop 0 = dktX6_lawLine_0 := by decide +kernel
theorem dksX6_lawLine_1 : cX6_lawLine.data.toList.drop 23 = dktX6_lawLine_1 := dk_seg dksX6_lawLine_0 23 rfl rfl
theorem dksX6_lawLine_2 : cX6_lawLine.data.toList.drop 47 = dktX6_lawLine_2 := dk_seg dksX6_lawLine_1 24 rfl rfl
theorem dksX6_lawLine_3 : cX6_lawLine.data.toList.drop 71 = dktX6_lawLine_3 := dk_seg dksX6_lawLine_2 24 rfl rfl
theorem dksX6_lawLine_4 : cX6_lawLine.data.toList.drop 95 = dktX6_lawLine_4 := dk_seg dksX6_lawLine_3 24 rfl rfl
theorem dksX6_lawLine_5 : cX6_lawLine.data.toList.drop 117 = dktX6_lawLine_5 := dk_seg dksX6_lawLine_4 22 rfl rfl
theorem dksX6_lawLine_6 : cX6_lawLine.data.toList.drop 141 = dktX6_lawLine_6 := dk_seg dksX6_lawLine_5 24 rfl rfl
theorem dX6_lawLine_0 : decode cX6_lawLine 0 = .ok (.aload_n 0, 1) := dk_42 (dk_at dksX6_lawLine_0 0 rfl rfl)
theorem dX6_lawLine_1 : decode cX6_lawLine 1 = .ok (.ldc 234, 2) := dk_18 234 (dk_at dksX6_lawLine_0 1 rfl rfl)
theorem dX6_lawLine_3 : decode cX6_lawLine 3 = .ok (.invokevirtual 104, 3) := dk_182 0 104 (dk_at dksX6_lawLine_0 3 rfl rfl)
theorem dX6_lawLine_6 : decode cX6_lawLine 6 = .ok (.ifCond .eq 7, 3) := dk_153 0 7 (dk_at dksX6_lawLine_0 6 rfl rfl)
theorem dX6_lawLine_9 : decode cX6_lawLine 9 = .ok (.iconst 0, 1) := dk_3 (dk_at dksX6_lawLine_0 9 rfl rfl)
theorem dX6_lawLine_10 : decode cX6_lawLine 10 = .ok (.goto 30, 3) := dk_167 0 30 (dk_at dksX6_lawLine_0 10 rfl rfl)
theorem dX6_lawLine_13 : decode cX6_lawLine 13 = .ok (.aload_n 0, 1) := dk_42 (dk_at dksX6_lawLine_0 13 rfl rfl)
theorem dX6_lawLine_14 : decode cX6_lawLine 14 = .ok (.ldc 236, 2) := dk_18 236 (dk_at dksX6_lawLine_0 14 rfl rfl)
theorem dX6_lawLine_16 : decode cX6_lawLine 16 = .ok (.invokevirtual 104, 3) := dk_182 0 104 (dk_at dksX6_lawLine_0 16 rfl rfl)
theorem dX6_lawLine_19 : decode cX6_lawLine 19 = .ok (.ifCond .eq 7, 3) := dk_153 0 7 (dk_at dksX6_lawLine_0 19 rfl rfl)
theorem dX6_lawLine_22 : decode cX6_lawLine 22 = .ok (.iconst 1, 1) := dk_4 (dk_at dksX6_lawLine_0 22 rfl rfl)
theorem dX6_lawLine_23 : decode cX6_lawLine 23 = .ok (.goto 17, 3) := dk_167 0 17 (dk_at dksX6_lawLine_1 0 rfl rfl)
theorem dX6_lawLine_26 : decode cX6_lawLine 26 = .ok (.aload_n 0, 1) := dk_42 (dk_at dksX6_lawLine_1 3 rfl rfl)
theorem dX6_lawLine_27 : decode cX6_lawLine 27 = .ok (.ldc 238, 2) := dk_18 238 (dk_at dksX6_lawLine_1 4 rfl rfl)
theorem dX6_lawLine_29 : decode cX6_lawLine 29 = .ok (.invokevirtual 104, 3) := dk_182 0 104 (dk_at dksX6_lawLine_1 6 rfl rfl)
theorem dX6_lawLine_32 : decode cX6_lawLine 32 = .ok (.ifCond .eq 7, 3) := dk_153 0 7 (dk_at dksX6_lawLine_1 9 rfl rfl)
theorem dX6_lawLine_35 : decode cX6_lawLine 35 = .ok (.iconst 2, 1) := dk_5 (dk_at dksX6_lawLine_1 12 rfl rfl)
theorem dX6_lawLine_36 : decode cX6_lawLine 36 = .ok (.goto 4, 3) := dk_167 0 4 (dk_at dksX6_lawLine_1 13 rfl rfl)
theorem dX6_lawLine_39 : decode cX6_lawLine 39 = .ok (.iconst (-1), 1) := dk_2 (dk_at dksX6_lawLine_1 16 rfl rfl)
theorem dX6_lawLine_40 : decode cX6_lawLine 40 = .ok (.istore_n 1, 1) := dk_60 (dk_at dksX6_lawLine_1 17 rfl rfl)
theorem dX6_lawLine_41 : decode cX6_lawLine 41 = .ok (.iload_n 1, 1) := dk_27 (dk_at dksX6_lawLine_1 18 rfl rfl)
theorem dX6_lawLine_42 : decode cX6_lawLine 42 = .ok (.iconst (-1), 1) := dk_2 (dk_at dksX6_lawLine_1 19 rfl rfl)
theorem dX6_lawLine_43 : decode cX6_lawLine 43 = .ok (.if_icmp .ne 12, 3) := dk_160 0 12 (dk_at dksX6_lawLine_1 20 rfl rfl)
theorem dX6_lawLine_46 : decode cX6_lawLine 46 = .ok (.aload_n 0, 1) := dk_42 (dk_at dksX6_lawLine_1 23 rfl rfl)
theorem dX6_lawLine_47 : decode cX6_lawLine 47 = .ok (.aload_n 0, 1) := dk_42 (dk_at dksX6_lawLine_2 0 rfl rfl)
theorem dX6_lawLine_48 : decode cX6_lawLine 48 = .ok (.getfield 75, 3) := dk_180 0 75 (dk_at dksX6_lawLine_2 1 rfl rfl)
theorem dX6_lawLine_51 : decode cX6_lawLine 51 = .ok (.invokevirtual 100, 3) := dk_182 0 100 (dk_at dksX6_lawLine_2 4 rfl rfl)
theorem dX6_lawLine_54 : decode cX6_lawLine 54 = .ok (.return_, 1) := dk_177 (dk_at dksX6_lawLine_2 7 rfl rfl)
theorem dX6_lawLine_55 : decode cX6_lawLine 55 = .ok (.aload_n 0, 1) := dk_42 (dk_at dksX6_lawLine_2 8 rfl rfl)
theorem dX6_lawLine_56 : decode cX6_lawLine 56 = .ok (.iconst 0, 1) := dk_3 (dk_at dksX6_lawLine_2 9 rfl rfl)
theorem dX6_lawLine_57 : decode cX6_lawLine 57 = .ok (.bipush 99, 2) := dk_16 99 (dk_at dksX6_lawLine_2 10 rfl rfl)
theorem dX6_lawLine_59 : decode cX6_lawLine 59 = .ok (.invokevirtual 108, 3) := dk_182 0 108 (dk_at dksX6_lawLine_2 12 rfl rfl)
theorem dX6_lawLine_62 : decode cX6_lawLine 62 = .ok (.istore_n 2, 1) := dk_61 (dk_at dksX6_lawLine_2 15 rfl rfl)
theorem dX6_lawLine_63 : decode cX6_lawLine 63 = .ok (.aload_n 0, 1) := dk_42 (dk_at dksX6_lawLine_2 16 rfl rfl)
theorem dX6_lawLine_64 : decode cX6_lawLine 64 = .ok (.getfield 25, 3) := dk_180 0 25 (dk_at dksX6_lawLine_2 17 rfl rfl)
theorem dX6_lawLine_67 : decode cX6_lawLine 67 = .ok (.iconst (-1), 1) := dk_2 (dk_at dksX6_lawLine_2 20 rfl rfl)
theorem dX6_lawLine_68 : decode cX6_lawLine 68 = .ok (.if_icmp .eq 4, 3) := dk_159 0 4 (dk_at dksX6_lawLine_2 21 rfl rfl)
theorem dX6_lawLine_71 : decode cX6_lawLine 71 = .ok (.return_, 1) := dk_177 (dk_at dksX6_lawLine_3 0 rfl rfl)
theorem dX6_lawLine_72 : decode cX6_lawLine 72 = .ok (.aload_n 0, 1) := dk_42 (dk_at dksX6_lawLine_3 1 rfl rfl)
theorem dX6_lawLine_73 : decode cX6_lawLine 73 = .ok (.ldc 240, 2) := dk_18 240 (dk_at dksX6_lawLine_3 2 rfl rfl)
theorem dX6_lawLine_75 : decode cX6_lawLine 75 = .ok (.invokevirtual 104, 3) := dk_182 0 104 (dk_at dksX6_lawLine_3 4 rfl rfl)
theorem dX6_lawLine_78 : decode cX6_lawLine 78 = .ok (.ifCond .eq 10, 3) := dk_153 0 10 (dk_at dksX6_lawLine_3 7 rfl rfl)
theorem dX6_lawLine_81 : decode cX6_lawLine 81 = .ok (.aload_n 0, 1) := dk_42 (dk_at dksX6_lawLine_3 10 rfl rfl)
theorem dX6_lawLine_82 : decode cX6_lawLine 82 = .ok (.invokevirtual 224, 3) := dk_182 0 224 (dk_at dksX6_lawLine_3 11 rfl rfl)
theorem dX6_lawLine_85 : decode cX6_lawLine 85 = .ok (.ifCond .eq 7, 3) := dk_153 0 7 (dk_at dksX6_lawLine_3 14 rfl rfl)
theorem dX6_lawLine_88 : decode cX6_lawLine 88 = .ok (.iconst 1, 1) := dk_4 (dk_at dksX6_lawLine_3 17 rfl rfl)
theorem dX6_lawLine_89 : decode cX6_lawLine 89 = .ok (.goto 4, 3) := dk_167 0 4 (dk_at dksX6_lawLine_3 18 rfl rfl)
theorem dX6_lawLine_92 : decode cX6_lawLine 92 = .ok (.iconst 0, 1) := dk_3 (dk_at dksX6_lawLine_3 21 rfl rfl)
theorem dX6_lawLine_93 : decode cX6_lawLine 93 = .ok (.istore_n 3, 1) := dk_62 (dk_at dksX6_lawLine_3 22 rfl rfl)
theorem dX6_lawLine_94 : decode cX6_lawLine 94 = .ok (.aload_n 0, 1) := dk_42 (dk_at dksX6_lawLine_3 23 rfl rfl)
theorem dX6_lawLine_95 : decode cX6_lawLine 95 = .ok (.getfield 25, 3) := dk_180 0 25 (dk_at dksX6_lawLine_4 0 rfl rfl)
theorem dX6_lawLine_98 : decode cX6_lawLine 98 = .ok (.iconst (-1), 1) := dk_2 (dk_at dksX6_lawLine_4 3 rfl rfl)
theorem dX6_lawLine_99 : decode cX6_lawLine 99 = .ok (.if_icmp .ne 7, 3) := dk_160 0 7 (dk_at dksX6_lawLine_4 4 rfl rfl)
theorem dX6_lawLine_102 : decode cX6_lawLine 102 = .ok (.iload_n 3, 1) := dk_29 (dk_at dksX6_lawLine_4 7 rfl rfl)
theorem dX6_lawLine_103 : decode cX6_lawLine 103 = .ok (.ifCond .ne 4, 3) := dk_154 0 4 (dk_at dksX6_lawLine_4 8 rfl rfl)
theorem dX6_lawLine_106 : decode cX6_lawLine 106 = .ok (.return_, 1) := dk_177 (dk_at dksX6_lawLine_4 11 rfl rfl)
theorem dX6_lawLine_107 : decode cX6_lawLine 107 = .ok (.aload_n 0, 1) := dk_42 (dk_at dksX6_lawLine_4 12 rfl rfl)
theorem dX6_lawLine_108 : decode cX6_lawLine 108 = .ok (.dup, 1) := dk_89 (dk_at dksX6_lawLine_4 13 rfl rfl)
theorem dX6_lawLine_109 : decode cX6_lawLine 109 = .ok (.getfield 242, 3) := dk_180 0 242 (dk_at dksX6_lawLine_4 14 rfl rfl)
theorem dX6_lawLine_112 : decode cX6_lawLine 112 = .ok (.iload_n 1, 1) := dk_27 (dk_at dksX6_lawLine_4 17 rfl rfl)
theorem dX6_lawLine_113 : decode cX6_lawLine 113 = .ok (.ifCond .ne 7, 3) := dk_154 0 7 (dk_at dksX6_lawLine_4 18 rfl rfl)
theorem dX6_lawLine_116 : decode cX6_lawLine 116 = .ok (.iload_n 2, 1) := dk_28 (dk_at dksX6_lawLine_4 21 rfl rfl)
theorem dX6_lawLine_117 : decode cX6_lawLine 117 = .ok (.goto 4, 3) := dk_167 0 4 (dk_at dksX6_lawLine_5 0 rfl rfl)
theorem dX6_lawLine_120 : decode cX6_lawLine 120 = .ok (.iconst 0, 1) := dk_3 (dk_at dksX6_lawLine_5 3 rfl rfl)
theorem dX6_lawLine_121 : decode cX6_lawLine 121 = .ok (.iadd, 1) := dk_96 (dk_at dksX6_lawLine_5 4 rfl rfl)
theorem dX6_lawLine_122 : decode cX6_lawLine 122 = .ok (.putfield 242, 3) := dk_181 0 242 (dk_at dksX6_lawLine_5 5 rfl rfl)
theorem dX6_lawLine_125 : decode cX6_lawLine 125 = .ok (.aload_n 0, 1) := dk_42 (dk_at dksX6_lawLine_5 8 rfl rfl)
theorem dX6_lawLine_126 : decode cX6_lawLine 126 = .ok (.dup, 1) := dk_89 (dk_at dksX6_lawLine_5 9 rfl rfl)
theorem dX6_lawLine_127 : decode cX6_lawLine 127 = .ok (.getfield 245, 3) := dk_180 0 245 (dk_at dksX6_lawLine_5 10 rfl rfl)
theorem dX6_lawLine_130 : decode cX6_lawLine 130 = .ok (.iload_n 1, 1) := dk_27 (dk_at dksX6_lawLine_5 13 rfl rfl)
theorem dX6_lawLine_131 : decode cX6_lawLine 131 = .ok (.iconst 1, 1) := dk_4 (dk_at dksX6_lawLine_5 14 rfl rfl)
theorem dX6_lawLine_132 : decode cX6_lawLine 132 = .ok (.if_icmp .ne 7, 3) := dk_160 0 7 (dk_at dksX6_lawLine_5 15 rfl rfl)
theorem dX6_lawLine_135 : decode cX6_lawLine 135 = .ok (.iload_n 2, 1) := dk_28 (dk_at dksX6_lawLine_5 18 rfl rfl)
theorem dX6_lawLine_136 : decode cX6_lawLine 136 = .ok (.goto 4, 3) := dk_167 0 4 (dk_at dksX6_lawLine_5 19 rfl rfl)
theorem dX6_lawLine_139 : decode cX6_lawLine 139 = .ok (.iconst 0, 1) := dk_3 (dk_at dksX6_lawLine_5 22 rfl rfl)
theorem dX6_lawLine_140 : decode cX6_lawLine 140 = .ok (.iadd, 1) := dk_96 (dk_at dksX6_lawLine_5 23 rfl rfl)
theorem dX6_lawLine_141 : decode cX6_lawLine 141 = .ok (.putfield 245, 3) := dk_181 0 245 (dk_at dksX6_lawLine_6 0 rfl rfl)
theorem dX6_lawLine_144 : decode cX6_lawLine 144 = .ok (.aload_n 0, 1) := dk_42 (dk_at dksX6_lawLine_6 3 rfl rfl)
theorem dX6_lawLine_145 : decode cX6_lawLine 145 = .ok (.dup, 1) := dk_89 (dk_at dksX6_lawLine_6 4 rfl rfl)
theorem dX6_lawLine_146 : decode cX6_lawLine 146 = .ok (.getfield 248, 3) := dk_180 0 248 (dk_at dksX6_lawLine_6 5 rfl rfl)
theorem dX6_lawLine_149 : decode cX6_lawLine 149 = .ok (.iload_n 1, 1) := dk_27 (dk_at dksX6_lawLine_6 8 rfl rfl)
theorem dX6_lawLine_150 : decode cX6_lawLine 150 = .ok (.iconst 2, 1) := dk_5 (dk_at dksX6_lawLine_6 9 rfl rfl)
theorem dX6_lawLine_151 : decode cX6_lawLine 151 = .ok (.if_icmp .ne 7, 3) := dk_160 0 7 (dk_at dksX6_lawLine_6 10 rfl rfl)
theorem dX6_lawLine_154 : decode cX6_lawLine 154 = .ok (.iload_n 2, 1) := dk_28 (dk_at dksX6_lawLine_6 13 rfl rfl)
theorem dX6_lawLine_155 : decode cX6_lawLine 155 = .ok (.goto 4, 3) := dk_167 0 4 (dk_at dksX6_lawLine_6 14 rfl rfl)
theorem dX6_lawLine_158 : decode cX6_lawLine 158 = .ok (.iconst 0, 1) := dk_3 (dk_at dksX6_lawLine_6 17 rfl rfl)
theorem dX6_lawLine_159 : decode cX6_lawLine 159 = .ok (.iadd, 1) := dk_96 (dk_at dksX6_lawLine_6 18 rfl rfl)
theorem dX6_lawLine_160 : decode cX6_lawLine 160 = .ok (.putfield 248, 3) := dk_181 0 248 (dk_at dksX6_lawLine_6 19 rfl rfl)
theorem dX6_lawLine_163 : decode cX6_lawLine 163 = .ok (.return_, 1) := dk_177 (dk_at dksX6_lawLine_6 22 rfl rfl)
abbrev cX6_has : ByteArray := prog_19_method_24_code
def yX6_has : MethodName := ⟨RX6, "has", "(Ljava/lang/String;)Z"⟩
def dkwX6_has_4 : List UInt8 := [4, 172]
abbrev dktX6_has_4 : List UInt8 := dkwX6_has_4 ++ []
def dkwX6_has_3 : List UInt8 := [182, 0, 81, 43, 29, 182, 0, 93, 159, 0, 5, 3, 172, 132, 3, 1, 167, 255, 225, 42, 28, 181, 0, 75]
abbrev dktX6_has_3 : List UInt8 := dkwX6_has_3 ++ dktX6_has_4
def dkwX6_has_2 : List UInt8 := [159, 0, 5, 3, 172, 3, 62, 29, 43, 182, 0, 87, 162, 0, 29, 42, 42, 180, 0, 75, 29, 96]
abbrev dktX6_has_2 : List UInt8 := dkwX6_has_2 ++ dktX6_has_3
def dkwX6_has_1 : List UInt8 := [16, 122, 184, 0, 44, 153, 0, 9, 132, 2, 1, 167, 255, 230, 28, 42, 180, 0, 75, 100, 43, 182, 0, 87]
abbrev dktX6_has_1 : List UInt8 := dkwX6_has_1 ++ dktX6_has_2
def dkwX6_has_0 : List UInt8 := [42, 182, 0, 84, 42, 180, 0, 75, 61, 28, 42, 180, 0, 78, 162, 0, 24, 42, 28, 182, 0, 81, 16, 97]
abbrev dktX6_has_0 : List UInt8 := dkwX6_has_0 ++ dktX6_has_1
theorem dksX6_has_0 : cX6_has.data.toList.drop 0 = dktX6_has_0 := by decide +kernel
theorem dksX6_has_1 : cX6_has.data.toList.drop 24 = dktX6_has_1 := dk_seg dksX6_has_0 24 rfl rfl
theorem dksX6_has_2 : cX6_has.data.toList.drop 48 = dktX6_has_2 := dk_seg dksX6_has_1 24 rfl rfl
theorem dksX6_has_3 : cX6_has.data.toList.drop 70 = dktX6_has_3 := dk_seg dksX6_has_2 22 rfl rfl
theorem dksX6_has_4 : cX6_has.data.toList.drop 94 = dktX6_has_4 := dk_seg dksX6_has_3 24 rfl rfl
theorem dX6_has_0 : decode cX6_has 0 = .ok (.aload_n 0, 1) := dk_42 (dk_at dksX6_has_0 0 rfl rfl)
theorem dX6_has_1 : decode cX6_has 1 = .ok (.invokevirtual 84, 3) := dk_182 0 84 (dk_at dksX6_has_0 1 rfl rfl)
theorem dX6_has_4 : decode cX6_has 4 = .ok (.aload_n 0, 1) := dk_42 (dk_at dksX6_has_0 4 rfl rfl)
theorem dX6_has_5 : decode cX6_has 5 = .ok (.getfield 75, 3) := dk_180 0 75 (dk_at dksX6_has_0 5 rfl rfl)
theorem dX6_has_8 : decode cX6_has 8 = .ok (.istore_n 2, 1) := dk_61 (dk_at dksX6_has_0 8 rfl rfl)
theorem dX6_has_9 : decode cX6_has 9 = .ok (.iload_n 2, 1) := dk_28 (dk_at dksX6_has_0 9 rfl rfl)
theorem dX6_has_10 : decode cX6_has 10 = .ok (.aload_n 0, 1) := dk_42 (dk_at dksX6_has_0 10 rfl rfl)
theorem dX6_has_11 : decode cX6_has 11 = .ok (.getfield 78, 3) := dk_180 0 78 (dk_at dksX6_has_0 11 rfl rfl)
theorem dX6_has_14 : decode cX6_has 14 = .ok (.if_icmp .ge 24, 3) := dk_162 0 24 (dk_at dksX6_has_0 14 rfl rfl)
theorem dX6_has_17 : decode cX6_has 17 = .ok (.aload_n 0, 1) := dk_42 (dk_at dksX6_has_0 17 rfl rfl)
theorem dX6_has_18 : decode cX6_has 18 = .ok (.iload_n 2, 1) := dk_28 (dk_at dksX6_has_0 18 rfl rfl)
theorem dX6_has_19 : decode cX6_has 19 = .ok (.invokevirtual 81, 3) := dk_182 0 81 (dk_at dksX6_has_0 19 rfl rfl)
theorem dX6_has_22 : decode cX6_has 22 = .ok (.bipush 97, 2) := dk_16 97 (dk_at dksX6_has_0 22 rfl rfl)
theorem dX6_has_24 : decode cX6_has 24 = .ok (.bipush 122, 2) := dk_16 122 (dk_at dksX6_has_1 0 rfl rfl)
theorem dX6_has_26 : decode cX6_has 26 = .ok (.invokestatic 44, 3) := dk_184 0 44 (dk_at dksX6_has_1 2 rfl rfl)
theorem dX6_has_29 : decode cX6_has 29 = .ok (.ifCond .eq 9, 3) := dk_153 0 9 (dk_at dksX6_has_1 5 rfl rfl)
theorem dX6_has_32 : decode cX6_has 32 = .ok (.iinc 2 1, 3) := dk_132 2 1 (dk_at dksX6_has_1 8 rfl rfl)
theorem dX6_has_35 : decode cX6_has 35 = .ok (.goto (-26), 3) := dk_167 255 230 (dk_at dksX6_has_1 11 rfl rfl)
theorem dX6_has_38 : decode cX6_has 38 = .ok (.iload_n 2, 1) := dk_28 (dk_at dksX6_has_1 14 rfl rfl)
theorem dX6_has_39 : decode cX6_has 39 = .ok (.aload_n 0, 1) := dk_42 (dk_at dksX6_has_1 15 rfl rfl)
theorem dX6_has_40 : decode cX6_has 40 = .ok (.getfield 75, 3) := dk_180 0 75 (dk_at dksX6_has_1 16 rfl rfl)
theorem dX6_has_43 : decode cX6_has 43 = .ok (.isub, 1) := dk_100 (dk_at dksX6_has_1 19 rfl rfl)
theorem dX6_has_44 : decode cX6_has 44 = .ok (.aload_n 1, 1) := dk_43 (dk_at dksX6_has_1 20 rfl rfl)
theorem dX6_has_45 : decode cX6_has 45 = .ok (.invokevirtual 87, 3) := dk_182 0 87 (dk_at dksX6_has_1 21 rfl rfl)
theorem dX6_has_48 : decode cX6_has 48 = .ok (.if_icmp .eq 5, 3) := dk_159 0 5 (dk_at dksX6_has_2 0 rfl rfl)
theorem dX6_has_51 : decode cX6_has 51 = .ok (.iconst 0, 1) := dk_3 (dk_at dksX6_has_2 3 rfl rfl)
theorem dX6_has_52 : decode cX6_has 52 = .ok (.ireturn, 1) := dk_172 (dk_at dksX6_has_2 4 rfl rfl)
theorem dX6_has_53 : decode cX6_has 53 = .ok (.iconst 0, 1) := dk_3 (dk_at dksX6_has_2 5 rfl rfl)
theorem dX6_has_54 : decode cX6_has 54 = .ok (.istore_n 3, 1) := dk_62 (dk_at dksX6_has_2 6 rfl rfl)
theorem dX6_has_55 : decode cX6_has 55 = .ok (.iload_n 3, 1) := dk_29 (dk_at dksX6_has_2 7 rfl rfl)
theorem dX6_has_56 : decode cX6_has 56 = .ok (.aload_n 1, 1) := dk_43 (dk_at dksX6_has_2 8 rfl rfl)
theorem dX6_has_57 : decode cX6_has 57 = .ok (.invokevirtual 87, 3) := dk_182 0 87 (dk_at dksX6_has_2 9 rfl rfl)
theorem dX6_has_60 : decode cX6_has 60 = .ok (.if_icmp .ge 29, 3) := dk_162 0 29 (dk_at dksX6_has_2 12 rfl rfl)
theorem dX6_has_63 : decode cX6_has 63 = .ok (.aload_n 0, 1) := dk_42 (dk_at dksX6_has_2 15 rfl rfl)
theorem dX6_has_64 : decode cX6_has 64 = .ok (.aload_n 0, 1) := dk_42 (dk_at dksX6_has_2 16 rfl rfl)
theorem dX6_has_65 : decode cX6_has 65 = .ok (.getfield 75, 3) := dk_180 0 75 (dk_at dksX6_has_2 17 rfl rfl)
theorem dX6_has_68 : decode cX6_has 68 = .ok (.iload_n 3, 1) := dk_29 (dk_at dksX6_has_2 20 rfl rfl)
theorem dX6_has_69 : decode cX6_has 69 = .ok (.iadd, 1) := dk_96 (dk_at dksX6_has_2 21 rfl rfl)
theorem dX6_has_70 : decode cX6_has 70 = .ok (.invokevirtual 81, 3) := dk_182 0 81 (dk_at dksX6_has_3 0 rfl rfl)
theorem dX6_has_73 : decode cX6_has 73 = .ok (.aload_n 1, 1) := dk_43 (dk_at dksX6_has_3 3 rfl rfl)
theorem dX6_has_74 : decode cX6_has 74 = .ok (.iload_n 3, 1) := dk_29 (dk_at dksX6_has_3 4 rfl rfl)
theorem dX6_has_75 : decode cX6_has 75 = .ok (.invokevirtual 93, 3) := dk_182 0 93 (dk_at dksX6_has_3 5 rfl rfl)
theorem dX6_has_78 : decode cX6_has 78 = .ok (.if_icmp .eq 5, 3) := dk_159 0 5 (dk_at dksX6_has_3 8 rfl rfl)
theorem dX6_has_81 : decode cX6_has 81 = .ok (.iconst 0, 1) := dk_3 (dk_at dksX6_has_3 11 rfl rfl)
theorem dX6_has_82 : decode cX6_has 82 = .ok (.ireturn, 1) := dk_172 (dk_at dksX6_has_3 12 rfl rfl)
theorem dX6_has_83 : decode cX6_has 83 = .ok (.iinc 3 1, 3) := dk_132 3 1 (dk_at dksX6_has_3 13 rfl rfl)
theorem dX6_has_86 : decode cX6_has 86 = .ok (.goto (-31), 3) := dk_167 255 225 (dk_at dksX6_has_3 16 rfl rfl)
theorem dX6_has_89 : decode cX6_has 89 = .ok (.aload_n 0, 1) := dk_42 (dk_at dksX6_has_3 19 rfl rfl)
theorem dX6_has_90 : decode cX6_has 90 = .ok (.iload_n 2, 1) := dk_28 (dk_at dksX6_has_3 20 rfl rfl)
theorem dX6_has_91 : decode cX6_has 91 = .ok (.putfield 75, 3) := dk_181 0 75 (dk_at dksX6_has_3 21 rfl rfl)
theorem dX6_has_94 : decode cX6_has 94 = .ok (.iconst 1, 1) := dk_4 (dk_at dksX6_has_4 0 rfl rfl)
theorem dX6_has_95 : decode cX6_has 95 = .ok (.ireturn, 1) := dk_172 (dk_at dksX6_has_4 1 rfl rfl)
abbrev cX6_figures : ByteArray := prog_19_method_27_code
def yX6_figures : MethodName := ⟨RX6, "figures", "(II)I"⟩
def dkwX6_figures_5 : List UInt8 := [164, 0, 8, 42, 29, 182, 0, 100, 21, 4, 172]
abbrev dktX6_figures_5 : List UInt8 := dkwX6_figures_5 ++ []
def dkwX6_figures_4 : List UInt8 := [159, 0, 25, 42, 180, 0, 75, 29, 100, 6, 163, 0, 15, 21, 4, 27, 161, 0, 9, 21, 4, 28]
abbrev dktX6_figures_4 : List UInt8 := dkwX6_figures_4 ++ dktX6_figures_5
def dkwX6_figures_3 : List UInt8 := [16, 48, 100, 54, 4, 42, 89, 180, 0, 75, 4, 96, 181, 0, 75, 167, 255, 188, 42, 180, 0, 75, 29]
abbrev dktX6_figures_3 : List UInt8 := dkwX6_figures_3 ++ dktX6_figures_4
def dkwX6_figures_2 : List UInt8 := [42, 180, 0, 75, 29, 100, 6, 163, 0, 35, 16, 10, 21, 4, 104, 42, 42, 180, 0, 75, 182, 0, 81, 96]
abbrev dktX6_figures_2 : List UInt8 := dkwX6_figures_2 ++ dktX6_figures_3
def dkwX6_figures_1 : List UInt8 := [180, 0, 78, 162, 0, 63, 42, 42, 180, 0, 75, 182, 0, 81, 16, 48, 16, 57, 184, 0, 44, 153, 0, 45]
abbrev dktX6_figures_1 : List UInt8 := dkwX6_figures_1 ++ dktX6_figures_2
def dkwX6_figures_0 : List UInt8 := [42, 180, 0, 25, 2, 159, 0, 5, 3, 172, 42, 182, 0, 97, 62, 3, 54, 4, 42, 180, 0, 75, 42]
abbrev dktX6_figures_0 : List UInt8 := dkwX6_figures_0 ++ dktX6_figures_1
theorem dksX6_figures_0 : cX6_figures.data.toList.drop 0 = dktX6_figures_0 := by decide +kernel
theorem dksX6_figures_1 : cX6_figures.data.toList.drop 23 = dktX6_figures_1 := dk_seg dksX6_figures_0 23 rfl rfl
theorem dksX6_figures_2 : cX6_figures.data.toList.drop 47 = dktX6_figures_2 := dk_seg dksX6_figures_1 24 rfl rfl
theorem dksX6_figures_3 : cX6_figures.data.toList.drop 71 = dktX6_figures_3 := dk_seg dksX6_figures_2 24 rfl rfl
theorem dksX6_figures_4 : cX6_figures.data.toList.drop 94 = dktX6_figures_4 := dk_seg dksX6_figures_3 23 rfl rfl
theorem dksX6_figures_5 : cX6_figures.data.toList.drop 116 = dktX6_figures_5 := dk_seg dksX6_figures_4 22 rfl rfl
theorem dX6_figures_0 : decode cX6_figures 0 = .ok (.aload_n 0, 1) := dk_42 (dk_at dksX6_figures_0 0 rfl rfl)
theorem dX6_figures_1 : decode cX6_figures 1 = .ok (.getfield 25, 3) := dk_180 0 25 (dk_at dksX6_figures_0 1 rfl rfl)
theorem dX6_figures_4 : decode cX6_figures 4 = .ok (.iconst (-1), 1) := dk_2 (dk_at dksX6_figures_0 4 rfl rfl)
theorem dX6_figures_5 : decode cX6_figures 5 = .ok (.if_icmp .eq 5, 3) := dk_159 0 5 (dk_at dksX6_figures_0 5 rfl rfl)
theorem dX6_figures_8 : decode cX6_figures 8 = .ok (.iconst 0, 1) := dk_3 (dk_at dksX6_figures_0 8 rfl rfl)
theorem dX6_figures_9 : decode cX6_figures 9 = .ok (.ireturn, 1) := dk_172 (dk_at dksX6_figures_0 9 rfl rfl)
theorem dX6_figures_10 : decode cX6_figures 10 = .ok (.aload_n 0, 1) := dk_42 (dk_at dksX6_figures_0 10 rfl rfl)
theorem dX6_figures_11 : decode cX6_figures 11 = .ok (.invokevirtual 97, 3) := dk_182 0 97 (dk_at dksX6_figures_0 11 rfl rfl)
theorem dX6_figures_14 : decode cX6_figures 14 = .ok (.istore_n 3, 1) := dk_62 (dk_at dksX6_figures_0 14 rfl rfl)
theorem dX6_figures_15 : decode cX6_figures 15 = .ok (.iconst 0, 1) := dk_3 (dk_at dksX6_figures_0 15 rfl rfl)
theorem dX6_figures_16 : decode cX6_figures 16 = .ok (.istore 4, 2) := dk_54 4 (dk_at dksX6_figures_0 16 rfl rfl)
theorem dX6_figures_18 : decode cX6_figures 18 = .ok (.aload_n 0, 1) := dk_42 (dk_at dksX6_figures_0 18 rfl rfl)
theorem dX6_figures_19 : decode cX6_figures 19 = .ok (.getfield 75, 3) := dk_180 0 75 (dk_at dksX6_figures_0 19 rfl rfl)
theorem dX6_figures_22 : decode cX6_figures 22 = .ok (.aload_n 0, 1) := dk_42 (dk_at dksX6_figures_0 22 rfl rfl)
theorem dX6_figures_23 : decode cX6_figures 23 = .ok (.getfield 78, 3) := dk_180 0 78 (dk_at dksX6_figures_1 0 rfl rfl)
theorem dX6_figures_26 : decode cX6_figures 26 = .ok (.if_icmp .ge 63, 3) := dk_162 0 63 (dk_at dksX6_figures_1 3 rfl rfl)
theorem dX6_figures_29 : decode cX6_figures 29 = .ok (.aload_n 0, 1) := dk_42 (dk_at dksX6_figures_1 6 rfl rfl)
theorem dX6_figures_30 : decode cX6_figures 30 = .ok (.aload_n 0, 1) := dk_42 (dk_at dksX6_figures_1 7 rfl rfl)
theorem dX6_figures_31 : decode cX6_figures 31 = .ok (.getfield 75, 3) := dk_180 0 75 (dk_at dksX6_figures_1 8 rfl rfl)
theorem dX6_figures_34 : decode cX6_figures 34 = .ok (.invokevirtual 81, 3) := dk_182 0 81 (dk_at dksX6_figures_1 11 rfl rfl)
theorem dX6_figures_37 : decode cX6_figures 37 = .ok (.bipush 48, 2) := dk_16 48 (dk_at dksX6_figures_1 14 rfl rfl)
theorem dX6_figures_39 : decode cX6_figures 39 = .ok (.bipush 57, 2) := dk_16 57 (dk_at dksX6_figures_1 16 rfl rfl)
theorem dX6_figures_41 : decode cX6_figures 41 = .ok (.invokestatic 44, 3) := dk_184 0 44 (dk_at dksX6_figures_1 18 rfl rfl)
theorem dX6_figures_44 : decode cX6_figures 44 = .ok (.ifCond .eq 45, 3) := dk_153 0 45 (dk_at dksX6_figures_1 21 rfl rfl)
theorem dX6_figures_47 : decode cX6_figures 47 = .ok (.aload_n 0, 1) := dk_42 (dk_at dksX6_figures_2 0 rfl rfl)
theorem dX6_figures_48 : decode cX6_figures 48 = .ok (.getfield 75, 3) := dk_180 0 75 (dk_at dksX6_figures_2 1 rfl rfl)
theorem dX6_figures_51 : decode cX6_figures 51 = .ok (.iload_n 3, 1) := dk_29 (dk_at dksX6_figures_2 4 rfl rfl)
theorem dX6_figures_52 : decode cX6_figures 52 = .ok (.isub, 1) := dk_100 (dk_at dksX6_figures_2 5 rfl rfl)
theorem dX6_figures_53 : decode cX6_figures 53 = .ok (.iconst 3, 1) := dk_6 (dk_at dksX6_figures_2 6 rfl rfl)
theorem dX6_figures_54 : decode cX6_figures 54 = .ok (.if_icmp .gt 35, 3) := dk_163 0 35 (dk_at dksX6_figures_2 7 rfl rfl)
theorem dX6_figures_57 : decode cX6_figures 57 = .ok (.bipush 10, 2) := dk_16 10 (dk_at dksX6_figures_2 10 rfl rfl)
theorem dX6_figures_59 : decode cX6_figures 59 = .ok (.iload 4, 2) := dk_21 4 (dk_at dksX6_figures_2 12 rfl rfl)
theorem dX6_figures_61 : decode cX6_figures 61 = .ok (.imul, 1) := dk_104 (dk_at dksX6_figures_2 14 rfl rfl)
theorem dX6_figures_62 : decode cX6_figures 62 = .ok (.aload_n 0, 1) := dk_42 (dk_at dksX6_figures_2 15 rfl rfl)
theorem dX6_figures_63 : decode cX6_figures 63 = .ok (.aload_n 0, 1) := dk_42 (dk_at dksX6_figures_2 16 rfl rfl)
theorem dX6_figures_64 : decode cX6_figures 64 = .ok (.getfield 75, 3) := dk_180 0 75 (dk_at dksX6_figures_2 17 rfl rfl)
theorem dX6_figures_67 : decode cX6_figures 67 = .ok (.invokevirtual 81, 3) := dk_182 0 81 (dk_at dksX6_figures_2 20 rfl rfl)
theorem dX6_figures_70 : decode cX6_figures 70 = .ok (.iadd, 1) := dk_96 (dk_at dksX6_figures_2 23 rfl rfl)
theorem dX6_figures_71 : decode cX6_figures 71 = .ok (.bipush 48, 2) := dk_16 48 (dk_at dksX6_figures_3 0 rfl rfl)
theorem dX6_figures_73 : decode cX6_figures 73 = .ok (.isub, 1) := dk_100 (dk_at dksX6_figures_3 2 rfl rfl)
theorem dX6_figures_74 : decode cX6_figures 74 = .ok (.istore 4, 2) := dk_54 4 (dk_at dksX6_figures_3 3 rfl rfl)
theorem dX6_figures_76 : decode cX6_figures 76 = .ok (.aload_n 0, 1) := dk_42 (dk_at dksX6_figures_3 5 rfl rfl)
theorem dX6_figures_77 : decode cX6_figures 77 = .ok (.dup, 1) := dk_89 (dk_at dksX6_figures_3 6 rfl rfl)
theorem dX6_figures_78 : decode cX6_figures 78 = .ok (.getfield 75, 3) := dk_180 0 75 (dk_at dksX6_figures_3 7 rfl rfl)
theorem dX6_figures_81 : decode cX6_figures 81 = .ok (.iconst 1, 1) := dk_4 (dk_at dksX6_figures_3 10 rfl rfl)
theorem dX6_figures_82 : decode cX6_figures 82 = .ok (.iadd, 1) := dk_96 (dk_at dksX6_figures_3 11 rfl rfl)
theorem dX6_figures_83 : decode cX6_figures 83 = .ok (.putfield 75, 3) := dk_181 0 75 (dk_at dksX6_figures_3 12 rfl rfl)
theorem dX6_figures_86 : decode cX6_figures 86 = .ok (.goto (-68), 3) := dk_167 255 188 (dk_at dksX6_figures_3 15 rfl rfl)
theorem dX6_figures_89 : decode cX6_figures 89 = .ok (.aload_n 0, 1) := dk_42 (dk_at dksX6_figures_3 18 rfl rfl)
theorem dX6_figures_90 : decode cX6_figures 90 = .ok (.getfield 75, 3) := dk_180 0 75 (dk_at dksX6_figures_3 19 rfl rfl)
theorem dX6_figures_93 : decode cX6_figures 93 = .ok (.iload_n 3, 1) := dk_29 (dk_at dksX6_figures_3 22 rfl rfl)
theorem dX6_figures_94 : decode cX6_figures 94 = .ok (.if_icmp .eq 25, 3) := dk_159 0 25 (dk_at dksX6_figures_4 0 rfl rfl)
theorem dX6_figures_97 : decode cX6_figures 97 = .ok (.aload_n 0, 1) := dk_42 (dk_at dksX6_figures_4 3 rfl rfl)
theorem dX6_figures_98 : decode cX6_figures 98 = .ok (.getfield 75, 3) := dk_180 0 75 (dk_at dksX6_figures_4 4 rfl rfl)
theorem dX6_figures_101 : decode cX6_figures 101 = .ok (.iload_n 3, 1) := dk_29 (dk_at dksX6_figures_4 7 rfl rfl)
theorem dX6_figures_102 : decode cX6_figures 102 = .ok (.isub, 1) := dk_100 (dk_at dksX6_figures_4 8 rfl rfl)
theorem dX6_figures_103 : decode cX6_figures 103 = .ok (.iconst 3, 1) := dk_6 (dk_at dksX6_figures_4 9 rfl rfl)
theorem dX6_figures_104 : decode cX6_figures 104 = .ok (.if_icmp .gt 15, 3) := dk_163 0 15 (dk_at dksX6_figures_4 10 rfl rfl)
theorem dX6_figures_107 : decode cX6_figures 107 = .ok (.iload 4, 2) := dk_21 4 (dk_at dksX6_figures_4 13 rfl rfl)
theorem dX6_figures_109 : decode cX6_figures 109 = .ok (.iload_n 1, 1) := dk_27 (dk_at dksX6_figures_4 15 rfl rfl)
theorem dX6_figures_110 : decode cX6_figures 110 = .ok (.if_icmp .lt 9, 3) := dk_161 0 9 (dk_at dksX6_figures_4 16 rfl rfl)
theorem dX6_figures_113 : decode cX6_figures 113 = .ok (.iload 4, 2) := dk_21 4 (dk_at dksX6_figures_4 19 rfl rfl)
theorem dX6_figures_115 : decode cX6_figures 115 = .ok (.iload_n 2, 1) := dk_28 (dk_at dksX6_figures_4 21 rfl rfl)
theorem dX6_figures_116 : decode cX6_figures 116 = .ok (.if_icmp .le 8, 3) := dk_164 0 8 (dk_at dksX6_figures_5 0 rfl rfl)
theorem dX6_figures_119 : decode cX6_figures 119 = .ok (.aload_n 0, 1) := dk_42 (dk_at dksX6_figures_5 3 rfl rfl)
theorem dX6_figures_120 : decode cX6_figures 120 = .ok (.iload_n 3, 1) := dk_29 (dk_at dksX6_figures_5 4 rfl rfl)
theorem dX6_figures_121 : decode cX6_figures 121 = .ok (.invokevirtual 100, 3) := dk_182 0 100 (dk_at dksX6_figures_5 5 rfl rfl)
theorem dX6_figures_124 : decode cX6_figures 124 = .ok (.iload 4, 2) := dk_21 4 (dk_at dksX6_figures_5 8 rfl rfl)
theorem dX6_figures_126 : decode cX6_figures 126 = .ok (.ireturn, 1) := dk_172 (dk_at dksX6_figures_5 10 rfl rfl)
abbrev cX6_here : ByteArray := prog_19_method_26_code
def yX6_here : MethodName := ⟨RX6, "here", "()I"⟩
def dkwX6_here_0 : List UInt8 := [42, 182, 0, 84, 42, 180, 0, 75, 172]
abbrev dktX6_here_0 : List UInt8 := dkwX6_here_0 ++ []
theorem dksX6_here_0 : cX6_here.data.toList.drop 0 = dktX6_here_0 := by decide +kernel
theorem dX6_here_0 : decode cX6_here 0 = .ok (.aload_n 0, 1) := dk_42 (dk_at dksX6_here_0 0 rfl rfl)
theorem dX6_here_1 : decode cX6_here 1 = .ok (.invokevirtual 84, 3) := dk_182 0 84 (dk_at dksX6_here_0 1 rfl rfl)
theorem dX6_here_4 : decode cX6_here 4 = .ok (.aload_n 0, 1) := dk_42 (dk_at dksX6_here_0 4 rfl rfl)
theorem dX6_here_5 : decode cX6_here 5 = .ok (.getfield 75, 3) := dk_180 0 75 (dk_at dksX6_here_0 5 rfl rfl)
theorem dX6_here_8 : decode cX6_here 8 = .ok (.ireturn, 1) := dk_172 (dk_at dksX6_here_0 8 rfl rfl)
abbrev cX6_some : ByteArray := prog_19_method_45_code
def yX6_some : MethodName := ⟨RX6, "some", "()Z"⟩
def dkwX6_some_1 : List UInt8 := [182, 0, 229, 61, 27, 154, 0, 7, 28, 153, 0, 7, 4, 167, 0, 4, 3, 60, 167, 255, 220, 27, 172]
abbrev dktX6_some_1 : List UInt8 := dkwX6_some_1 ++ []
def dkwX6_some_0 : List UInt8 := [42, 182, 0, 229, 60, 42, 180, 0, 25, 2, 160, 0, 34, 42, 18, 232, 182, 0, 104, 153, 0, 25, 42]
abbrev dktX6_some_0 : List UInt8 := dkwX6_some_0 ++ dktX6_some_1
theorem dksX6_some_0 : cX6_some.data.toList.drop 0 = dktX6_some_0 := by decide +kernel
theorem dksX6_some_1 : cX6_some.data.toList.drop 23 = dktX6_some_1 := dk_seg dksX6_some_0 23 rfl rfl
theorem dX6_some_0 : decode cX6_some 0 = .ok (.aload_n 0, 1) := dk_42 (dk_at dksX6_some_0 0 rfl rfl)
theorem dX6_some_1 : decode cX6_some 1 = .ok (.invokevirtual 229, 3) := dk_182 0 229 (dk_at dksX6_some_0 1 rfl rfl)
theorem dX6_some_4 : decode cX6_some 4 = .ok (.istore_n 1, 1) := dk_60 (dk_at dksX6_some_0 4 rfl rfl)
theorem dX6_some_5 : decode cX6_some 5 = .ok (.aload_n 0, 1) := dk_42 (dk_at dksX6_some_0 5 rfl rfl)
theorem dX6_some_6 : decode cX6_some 6 = .ok (.getfield 25, 3) := dk_180 0 25 (dk_at dksX6_some_0 6 rfl rfl)
theorem dX6_some_9 : decode cX6_some 9 = .ok (.iconst (-1), 1) := dk_2 (dk_at dksX6_some_0 9 rfl rfl)
theorem dX6_some_10 : decode cX6_some 10 = .ok (.if_icmp .ne 34, 3) := dk_160 0 34 (dk_at dksX6_some_0 10 rfl rfl)
theorem dX6_some_13 : decode cX6_some 13 = .ok (.aload_n 0, 1) := dk_42 (dk_at dksX6_some_0 13 rfl rfl)
theorem dX6_some_14 : decode cX6_some 14 = .ok (.ldc 232, 2) := dk_18 232 (dk_at dksX6_some_0 14 rfl rfl)
theorem dX6_some_16 : decode cX6_some 16 = .ok (.invokevirtual 104, 3) := dk_182 0 104 (dk_at dksX6_some_0 16 rfl rfl)
theorem dX6_some_19 : decode cX6_some 19 = .ok (.ifCond .eq 25, 3) := dk_153 0 25 (dk_at dksX6_some_0 19 rfl rfl)
theorem dX6_some_22 : decode cX6_some 22 = .ok (.aload_n 0, 1) := dk_42 (dk_at dksX6_some_0 22 rfl rfl)
theorem dX6_some_23 : decode cX6_some 23 = .ok (.invokevirtual 229, 3) := dk_182 0 229 (dk_at dksX6_some_1 0 rfl rfl)
theorem dX6_some_26 : decode cX6_some 26 = .ok (.istore_n 2, 1) := dk_61 (dk_at dksX6_some_1 3 rfl rfl)
theorem dX6_some_27 : decode cX6_some 27 = .ok (.iload_n 1, 1) := dk_27 (dk_at dksX6_some_1 4 rfl rfl)
theorem dX6_some_28 : decode cX6_some 28 = .ok (.ifCond .ne 7, 3) := dk_154 0 7 (dk_at dksX6_some_1 5 rfl rfl)
theorem dX6_some_31 : decode cX6_some 31 = .ok (.iload_n 2, 1) := dk_28 (dk_at dksX6_some_1 8 rfl rfl)
theorem dX6_some_32 : decode cX6_some 32 = .ok (.ifCond .eq 7, 3) := dk_153 0 7 (dk_at dksX6_some_1 9 rfl rfl)
theorem dX6_some_35 : decode cX6_some 35 = .ok (.iconst 1, 1) := dk_4 (dk_at dksX6_some_1 12 rfl rfl)
theorem dX6_some_36 : decode cX6_some 36 = .ok (.goto 4, 3) := dk_167 0 4 (dk_at dksX6_some_1 13 rfl rfl)
theorem dX6_some_39 : decode cX6_some 39 = .ok (.iconst 0, 1) := dk_3 (dk_at dksX6_some_1 16 rfl rfl)
theorem dX6_some_40 : decode cX6_some 40 = .ok (.istore_n 1, 1) := dk_60 (dk_at dksX6_some_1 17 rfl rfl)
theorem dX6_some_41 : decode cX6_some 41 = .ok (.goto (-36), 3) := dk_167 255 220 (dk_at dksX6_some_1 18 rfl rfl)
theorem dX6_some_44 : decode cX6_some 44 = .ok (.iload_n 1, 1) := dk_27 (dk_at dksX6_some_1 21 rfl rfl)
theorem dX6_some_45 : decode cX6_some 45 = .ok (.ireturn, 1) := dk_172 (dk_at dksX6_some_1 22 rfl rfl)
abbrev cX6_every : ByteArray := prog_19_method_44_code
def yX6_every : MethodName := ⟨RX6, "every", "()Z"⟩
def dkwX6_every_1 : List UInt8 := [182, 0, 221, 61, 27, 153, 0, 11, 28, 153, 0, 7, 4, 167, 0, 4, 3, 60, 167, 255, 220, 27, 172]
abbrev dktX6_every_1 : List UInt8 := dkwX6_every_1 ++ []
def dkwX6_every_0 : List UInt8 := [42, 182, 0, 221, 60, 42, 180, 0, 25, 2, 160, 0, 34, 42, 18, 227, 182, 0, 104, 153, 0, 25, 42]
abbrev dktX6_every_0 : List UInt8 := dkwX6_every_0 ++ dktX6_every_1
theorem dksX6_every_0 : cX6_every.data.toList.drop 0 = dktX6_every_0 := by decide +kernel
theorem dksX6_every_1 : cX6_every.data.toList.drop 23 = dktX6_every_1 := dk_seg dksX6_every_0 23 rfl rfl
theorem dX6_every_0 : decode cX6_every 0 = .ok (.aload_n 0, 1) := dk_42 (dk_at dksX6_every_0 0 rfl rfl)
theorem dX6_every_1 : decode cX6_every 1 = .ok (.invokevirtual 221, 3) := dk_182 0 221 (dk_at dksX6_every_0 1 rfl rfl)
theorem dX6_every_4 : decode cX6_every 4 = .ok (.istore_n 1, 1) := dk_60 (dk_at dksX6_every_0 4 rfl rfl)
theorem dX6_every_5 : decode cX6_every 5 = .ok (.aload_n 0, 1) := dk_42 (dk_at dksX6_every_0 5 rfl rfl)
theorem dX6_every_6 : decode cX6_every 6 = .ok (.getfield 25, 3) := dk_180 0 25 (dk_at dksX6_every_0 6 rfl rfl)
theorem dX6_every_9 : decode cX6_every 9 = .ok (.iconst (-1), 1) := dk_2 (dk_at dksX6_every_0 9 rfl rfl)
theorem dX6_every_10 : decode cX6_every 10 = .ok (.if_icmp .ne 34, 3) := dk_160 0 34 (dk_at dksX6_every_0 10 rfl rfl)
theorem dX6_every_13 : decode cX6_every 13 = .ok (.aload_n 0, 1) := dk_42 (dk_at dksX6_every_0 13 rfl rfl)
theorem dX6_every_14 : decode cX6_every 14 = .ok (.ldc 227, 2) := dk_18 227 (dk_at dksX6_every_0 14 rfl rfl)
theorem dX6_every_16 : decode cX6_every 16 = .ok (.invokevirtual 104, 3) := dk_182 0 104 (dk_at dksX6_every_0 16 rfl rfl)
theorem dX6_every_19 : decode cX6_every 19 = .ok (.ifCond .eq 25, 3) := dk_153 0 25 (dk_at dksX6_every_0 19 rfl rfl)
theorem dX6_every_22 : decode cX6_every 22 = .ok (.aload_n 0, 1) := dk_42 (dk_at dksX6_every_0 22 rfl rfl)
theorem dX6_every_23 : decode cX6_every 23 = .ok (.invokevirtual 221, 3) := dk_182 0 221 (dk_at dksX6_every_1 0 rfl rfl)
theorem dX6_every_26 : decode cX6_every 26 = .ok (.istore_n 2, 1) := dk_61 (dk_at dksX6_every_1 3 rfl rfl)
theorem dX6_every_27 : decode cX6_every 27 = .ok (.iload_n 1, 1) := dk_27 (dk_at dksX6_every_1 4 rfl rfl)
theorem dX6_every_28 : decode cX6_every 28 = .ok (.ifCond .eq 11, 3) := dk_153 0 11 (dk_at dksX6_every_1 5 rfl rfl)
theorem dX6_every_31 : decode cX6_every 31 = .ok (.iload_n 2, 1) := dk_28 (dk_at dksX6_every_1 8 rfl rfl)
theorem dX6_every_32 : decode cX6_every 32 = .ok (.ifCond .eq 7, 3) := dk_153 0 7 (dk_at dksX6_every_1 9 rfl rfl)
theorem dX6_every_35 : decode cX6_every 35 = .ok (.iconst 1, 1) := dk_4 (dk_at dksX6_every_1 12 rfl rfl)
theorem dX6_every_36 : decode cX6_every 36 = .ok (.goto 4, 3) := dk_167 0 4 (dk_at dksX6_every_1 13 rfl rfl)
theorem dX6_every_39 : decode cX6_every 39 = .ok (.iconst 0, 1) := dk_3 (dk_at dksX6_every_1 16 rfl rfl)
theorem dX6_every_40 : decode cX6_every 40 = .ok (.istore_n 1, 1) := dk_60 (dk_at dksX6_every_1 17 rfl rfl)
theorem dX6_every_41 : decode cX6_every 41 = .ok (.goto (-36), 3) := dk_167 255 220 (dk_at dksX6_every_1 18 rfl rfl)
theorem dX6_every_44 : decode cX6_every 44 = .ok (.iload_n 1, 1) := dk_27 (dk_at dksX6_every_1 21 rfl rfl)
theorem dX6_every_45 : decode cX6_every 45 = .ok (.ireturn, 1) := dk_172 (dk_at dksX6_every_1 22 rfl rfl)
abbrev cX6_atom : ByteArray := prog_19_method_43_code
def yX6_atom : MethodName := ⟨RX6, "atom", "()Z"⟩
def dkwX6_atom_6 : List UInt8 := [180, 0, 162, 4, 100, 181, 0, 162, 29, 172]
abbrev dktX6_atom_6 : List UInt8 := dkwX6_atom_6 ++ []
def dkwX6_atom_5 : List UInt8 := [154, 0, 11, 42, 42, 180, 0, 75, 182, 0, 100, 42, 89, 180, 0, 75, 4, 96, 181, 0, 75, 42, 89]
abbrev dktX6_atom_5 : List UInt8 := dkwX6_atom_5 ++ dktX6_atom_6
def dkwX6_atom_4 : List UInt8 := [4, 96, 181, 0, 75, 42, 182, 0, 224, 62, 42, 180, 0, 25, 2, 160, 0, 20, 42, 16, 41, 182, 0, 171]
abbrev dktX6_atom_4 : List UInt8 := dkwX6_atom_4 ++ dktX6_atom_5
def dkwX6_atom_3 : List UInt8 := [153, 0, 19, 42, 182, 0, 221, 154, 0, 7, 4, 167, 0, 4, 3, 62, 167, 0, 53, 42, 89, 180, 0, 75]
abbrev dktX6_atom_3 : List UInt8 := dkwX6_atom_3 ++ dktX6_atom_4
def dkwX6_atom_2 : List UInt8 := [160, 0, 10, 42, 27, 182, 0, 100, 3, 172, 42, 89, 180, 0, 162, 4, 96, 181, 0, 162, 3, 62, 28]
abbrev dktX6_atom_2 : List UInt8 := dkwX6_atom_2 ++ dktX6_atom_3
def dkwX6_atom_1 : List UInt8 := [154, 0, 17, 42, 16, 40, 182, 0, 171, 154, 0, 8, 42, 182, 0, 217, 172, 42, 180, 0, 162, 16, 6]
abbrev dktX6_atom_1 : List UInt8 := dkwX6_atom_1 ++ dktX6_atom_2
def dkwX6_atom_0 : List UInt8 := [42, 180, 0, 25, 2, 159, 0, 5, 3, 172, 42, 182, 0, 97, 60, 42, 18, 215, 182, 0, 104, 61, 28]
abbrev dktX6_atom_0 : List UInt8 := dkwX6_atom_0 ++ dktX6_atom_1
theorem dksX6_atom_0 : cX6_atom.data.toList.drop 0 = dktX6_atom_0 := by decide +kernel
theorem dksX6_atom_1 : cX6_atom.data.toList.drop 23 = dktX6_atom_1 := dk_seg dksX6_atom_0 23 rfl rfl
theorem dksX6_atom_2 : cX6_atom.data.toList.drop 46 = dktX6_atom_2 := dk_seg dksX6_atom_1 23 rfl rfl
theorem dksX6_atom_3 : cX6_atom.data.toList.drop 69 = dktX6_atom_3 := dk_seg dksX6_atom_2 23 rfl rfl
theorem dksX6_atom_4 : cX6_atom.data.toList.drop 93 = dktX6_atom_4 := dk_seg dksX6_atom_3 24 rfl rfl
theorem dksX6_atom_5 : cX6_atom.data.toList.drop 117 = dktX6_atom_5 := dk_seg dksX6_atom_4 24 rfl rfl
theorem dksX6_atom_6 : cX6_atom.data.toList.drop 140 = dktX6_atom_6 := dk_seg dksX6_atom_5 23 rfl rfl
theorem dX6_atom_0 : decode cX6_atom 0 = .ok (.aload_n 0, 1) := dk_42 (dk_at dksX6_atom_0 0 rfl rfl)
theorem dX6_atom_1 : decode cX6_atom 1 = .ok (.getfield 25, 3) := dk_180 0 25 (dk_at dksX6_atom_0 1 rfl rfl)
theorem dX6_atom_4 : decode cX6_atom 4 = .ok (.iconst (-1), 1) := dk_2 (dk_at dksX6_atom_0 4 rfl rfl)
theorem dX6_atom_5 : decode cX6_atom 5 = .ok (.if_icmp .eq 5, 3) := dk_159 0 5 (dk_at dksX6_atom_0 5 rfl rfl)
theorem dX6_atom_8 : decode cX6_atom 8 = .ok (.iconst 0, 1) := dk_3 (dk_at dksX6_atom_0 8 rfl rfl)
theorem dX6_atom_9 : decode cX6_atom 9 = .ok (.ireturn, 1) := dk_172 (dk_at dksX6_atom_0 9 rfl rfl)
theorem dX6_atom_10 : decode cX6_atom 10 = .ok (.aload_n 0, 1) := dk_42 (dk_at dksX6_atom_0 10 rfl rfl)
theorem dX6_atom_11 : decode cX6_atom 11 = .ok (.invokevirtual 97, 3) := dk_182 0 97 (dk_at dksX6_atom_0 11 rfl rfl)
theorem dX6_atom_14 : decode cX6_atom 14 = .ok (.istore_n 1, 1) := dk_60 (dk_at dksX6_atom_0 14 rfl rfl)
theorem dX6_atom_15 : decode cX6_atom 15 = .ok (.aload_n 0, 1) := dk_42 (dk_at dksX6_atom_0 15 rfl rfl)
theorem dX6_atom_16 : decode cX6_atom 16 = .ok (.ldc 215, 2) := dk_18 215 (dk_at dksX6_atom_0 16 rfl rfl)
theorem dX6_atom_18 : decode cX6_atom 18 = .ok (.invokevirtual 104, 3) := dk_182 0 104 (dk_at dksX6_atom_0 18 rfl rfl)
theorem dX6_atom_21 : decode cX6_atom 21 = .ok (.istore_n 2, 1) := dk_61 (dk_at dksX6_atom_0 21 rfl rfl)
theorem dX6_atom_22 : decode cX6_atom 22 = .ok (.iload_n 2, 1) := dk_28 (dk_at dksX6_atom_0 22 rfl rfl)
theorem dX6_atom_23 : decode cX6_atom 23 = .ok (.ifCond .ne 17, 3) := dk_154 0 17 (dk_at dksX6_atom_1 0 rfl rfl)
theorem dX6_atom_26 : decode cX6_atom 26 = .ok (.aload_n 0, 1) := dk_42 (dk_at dksX6_atom_1 3 rfl rfl)
theorem dX6_atom_27 : decode cX6_atom 27 = .ok (.bipush 40, 2) := dk_16 40 (dk_at dksX6_atom_1 4 rfl rfl)
theorem dX6_atom_29 : decode cX6_atom 29 = .ok (.invokevirtual 171, 3) := dk_182 0 171 (dk_at dksX6_atom_1 6 rfl rfl)
theorem dX6_atom_32 : decode cX6_atom 32 = .ok (.ifCond .ne 8, 3) := dk_154 0 8 (dk_at dksX6_atom_1 9 rfl rfl)
theorem dX6_atom_35 : decode cX6_atom 35 = .ok (.aload_n 0, 1) := dk_42 (dk_at dksX6_atom_1 12 rfl rfl)
theorem dX6_atom_36 : decode cX6_atom 36 = .ok (.invokevirtual 217, 3) := dk_182 0 217 (dk_at dksX6_atom_1 13 rfl rfl)
theorem dX6_atom_39 : decode cX6_atom 39 = .ok (.ireturn, 1) := dk_172 (dk_at dksX6_atom_1 16 rfl rfl)
theorem dX6_atom_40 : decode cX6_atom 40 = .ok (.aload_n 0, 1) := dk_42 (dk_at dksX6_atom_1 17 rfl rfl)
theorem dX6_atom_41 : decode cX6_atom 41 = .ok (.getfield 162, 3) := dk_180 0 162 (dk_at dksX6_atom_1 18 rfl rfl)
theorem dX6_atom_44 : decode cX6_atom 44 = .ok (.bipush 6, 2) := dk_16 6 (dk_at dksX6_atom_1 21 rfl rfl)
theorem dX6_atom_46 : decode cX6_atom 46 = .ok (.if_icmp .ne 10, 3) := dk_160 0 10 (dk_at dksX6_atom_2 0 rfl rfl)
theorem dX6_atom_49 : decode cX6_atom 49 = .ok (.aload_n 0, 1) := dk_42 (dk_at dksX6_atom_2 3 rfl rfl)
theorem dX6_atom_50 : decode cX6_atom 50 = .ok (.iload_n 1, 1) := dk_27 (dk_at dksX6_atom_2 4 rfl rfl)
theorem dX6_atom_51 : decode cX6_atom 51 = .ok (.invokevirtual 100, 3) := dk_182 0 100 (dk_at dksX6_atom_2 5 rfl rfl)
theorem dX6_atom_54 : decode cX6_atom 54 = .ok (.iconst 0, 1) := dk_3 (dk_at dksX6_atom_2 8 rfl rfl)
theorem dX6_atom_55 : decode cX6_atom 55 = .ok (.ireturn, 1) := dk_172 (dk_at dksX6_atom_2 9 rfl rfl)
theorem dX6_atom_56 : decode cX6_atom 56 = .ok (.aload_n 0, 1) := dk_42 (dk_at dksX6_atom_2 10 rfl rfl)
theorem dX6_atom_57 : decode cX6_atom 57 = .ok (.dup, 1) := dk_89 (dk_at dksX6_atom_2 11 rfl rfl)
theorem dX6_atom_58 : decode cX6_atom 58 = .ok (.getfield 162, 3) := dk_180 0 162 (dk_at dksX6_atom_2 12 rfl rfl)
theorem dX6_atom_61 : decode cX6_atom 61 = .ok (.iconst 1, 1) := dk_4 (dk_at dksX6_atom_2 15 rfl rfl)
theorem dX6_atom_62 : decode cX6_atom 62 = .ok (.iadd, 1) := dk_96 (dk_at dksX6_atom_2 16 rfl rfl)
theorem dX6_atom_63 : decode cX6_atom 63 = .ok (.putfield 162, 3) := dk_181 0 162 (dk_at dksX6_atom_2 17 rfl rfl)
theorem dX6_atom_66 : decode cX6_atom 66 = .ok (.iconst 0, 1) := dk_3 (dk_at dksX6_atom_2 20 rfl rfl)
theorem dX6_atom_67 : decode cX6_atom 67 = .ok (.istore_n 3, 1) := dk_62 (dk_at dksX6_atom_2 21 rfl rfl)
theorem dX6_atom_68 : decode cX6_atom 68 = .ok (.iload_n 2, 1) := dk_28 (dk_at dksX6_atom_2 22 rfl rfl)
theorem dX6_atom_69 : decode cX6_atom 69 = .ok (.ifCond .eq 19, 3) := dk_153 0 19 (dk_at dksX6_atom_3 0 rfl rfl)
theorem dX6_atom_72 : decode cX6_atom 72 = .ok (.aload_n 0, 1) := dk_42 (dk_at dksX6_atom_3 3 rfl rfl)
theorem dX6_atom_73 : decode cX6_atom 73 = .ok (.invokevirtual 221, 3) := dk_182 0 221 (dk_at dksX6_atom_3 4 rfl rfl)
theorem dX6_atom_76 : decode cX6_atom 76 = .ok (.ifCond .ne 7, 3) := dk_154 0 7 (dk_at dksX6_atom_3 7 rfl rfl)
theorem dX6_atom_79 : decode cX6_atom 79 = .ok (.iconst 1, 1) := dk_4 (dk_at dksX6_atom_3 10 rfl rfl)
theorem dX6_atom_80 : decode cX6_atom 80 = .ok (.goto 4, 3) := dk_167 0 4 (dk_at dksX6_atom_3 11 rfl rfl)
theorem dX6_atom_83 : decode cX6_atom 83 = .ok (.iconst 0, 1) := dk_3 (dk_at dksX6_atom_3 14 rfl rfl)
theorem dX6_atom_84 : decode cX6_atom 84 = .ok (.istore_n 3, 1) := dk_62 (dk_at dksX6_atom_3 15 rfl rfl)
theorem dX6_atom_85 : decode cX6_atom 85 = .ok (.goto 53, 3) := dk_167 0 53 (dk_at dksX6_atom_3 16 rfl rfl)
theorem dX6_atom_88 : decode cX6_atom 88 = .ok (.aload_n 0, 1) := dk_42 (dk_at dksX6_atom_3 19 rfl rfl)
theorem dX6_atom_89 : decode cX6_atom 89 = .ok (.dup, 1) := dk_89 (dk_at dksX6_atom_3 20 rfl rfl)
theorem dX6_atom_90 : decode cX6_atom 90 = .ok (.getfield 75, 3) := dk_180 0 75 (dk_at dksX6_atom_3 21 rfl rfl)
theorem dX6_atom_93 : decode cX6_atom 93 = .ok (.iconst 1, 1) := dk_4 (dk_at dksX6_atom_4 0 rfl rfl)
theorem dX6_atom_94 : decode cX6_atom 94 = .ok (.iadd, 1) := dk_96 (dk_at dksX6_atom_4 1 rfl rfl)
theorem dX6_atom_95 : decode cX6_atom 95 = .ok (.putfield 75, 3) := dk_181 0 75 (dk_at dksX6_atom_4 2 rfl rfl)
theorem dX6_atom_98 : decode cX6_atom 98 = .ok (.aload_n 0, 1) := dk_42 (dk_at dksX6_atom_4 5 rfl rfl)
theorem dX6_atom_99 : decode cX6_atom 99 = .ok (.invokevirtual 224, 3) := dk_182 0 224 (dk_at dksX6_atom_4 6 rfl rfl)
theorem dX6_atom_102 : decode cX6_atom 102 = .ok (.istore_n 3, 1) := dk_62 (dk_at dksX6_atom_4 9 rfl rfl)
theorem dX6_atom_103 : decode cX6_atom 103 = .ok (.aload_n 0, 1) := dk_42 (dk_at dksX6_atom_4 10 rfl rfl)
theorem dX6_atom_104 : decode cX6_atom 104 = .ok (.getfield 25, 3) := dk_180 0 25 (dk_at dksX6_atom_4 11 rfl rfl)
theorem dX6_atom_107 : decode cX6_atom 107 = .ok (.iconst (-1), 1) := dk_2 (dk_at dksX6_atom_4 14 rfl rfl)
theorem dX6_atom_108 : decode cX6_atom 108 = .ok (.if_icmp .ne 20, 3) := dk_160 0 20 (dk_at dksX6_atom_4 15 rfl rfl)
theorem dX6_atom_111 : decode cX6_atom 111 = .ok (.aload_n 0, 1) := dk_42 (dk_at dksX6_atom_4 18 rfl rfl)
theorem dX6_atom_112 : decode cX6_atom 112 = .ok (.bipush 41, 2) := dk_16 41 (dk_at dksX6_atom_4 19 rfl rfl)
theorem dX6_atom_114 : decode cX6_atom 114 = .ok (.invokevirtual 171, 3) := dk_182 0 171 (dk_at dksX6_atom_4 21 rfl rfl)
theorem dX6_atom_117 : decode cX6_atom 117 = .ok (.ifCond .ne 11, 3) := dk_154 0 11 (dk_at dksX6_atom_5 0 rfl rfl)
theorem dX6_atom_120 : decode cX6_atom 120 = .ok (.aload_n 0, 1) := dk_42 (dk_at dksX6_atom_5 3 rfl rfl)
theorem dX6_atom_121 : decode cX6_atom 121 = .ok (.aload_n 0, 1) := dk_42 (dk_at dksX6_atom_5 4 rfl rfl)
theorem dX6_atom_122 : decode cX6_atom 122 = .ok (.getfield 75, 3) := dk_180 0 75 (dk_at dksX6_atom_5 5 rfl rfl)
theorem dX6_atom_125 : decode cX6_atom 125 = .ok (.invokevirtual 100, 3) := dk_182 0 100 (dk_at dksX6_atom_5 8 rfl rfl)
theorem dX6_atom_128 : decode cX6_atom 128 = .ok (.aload_n 0, 1) := dk_42 (dk_at dksX6_atom_5 11 rfl rfl)
theorem dX6_atom_129 : decode cX6_atom 129 = .ok (.dup, 1) := dk_89 (dk_at dksX6_atom_5 12 rfl rfl)
theorem dX6_atom_130 : decode cX6_atom 130 = .ok (.getfield 75, 3) := dk_180 0 75 (dk_at dksX6_atom_5 13 rfl rfl)
theorem dX6_atom_133 : decode cX6_atom 133 = .ok (.iconst 1, 1) := dk_4 (dk_at dksX6_atom_5 16 rfl rfl)
theorem dX6_atom_134 : decode cX6_atom 134 = .ok (.iadd, 1) := dk_96 (dk_at dksX6_atom_5 17 rfl rfl)
theorem dX6_atom_135 : decode cX6_atom 135 = .ok (.putfield 75, 3) := dk_181 0 75 (dk_at dksX6_atom_5 18 rfl rfl)
theorem dX6_atom_138 : decode cX6_atom 138 = .ok (.aload_n 0, 1) := dk_42 (dk_at dksX6_atom_5 21 rfl rfl)
theorem dX6_atom_139 : decode cX6_atom 139 = .ok (.dup, 1) := dk_89 (dk_at dksX6_atom_5 22 rfl rfl)
theorem dX6_atom_140 : decode cX6_atom 140 = .ok (.getfield 162, 3) := dk_180 0 162 (dk_at dksX6_atom_6 0 rfl rfl)
theorem dX6_atom_143 : decode cX6_atom 143 = .ok (.iconst 1, 1) := dk_4 (dk_at dksX6_atom_6 3 rfl rfl)
theorem dX6_atom_144 : decode cX6_atom 144 = .ok (.isub, 1) := dk_100 (dk_at dksX6_atom_6 4 rfl rfl)
theorem dX6_atom_145 : decode cX6_atom 145 = .ok (.putfield 162, 3) := dk_181 0 162 (dk_at dksX6_atom_6 5 rfl rfl)
theorem dX6_atom_148 : decode cX6_atom 148 = .ok (.iload_n 3, 1) := dk_29 (dk_at dksX6_atom_6 8 rfl rfl)
theorem dX6_atom_149 : decode cX6_atom 149 = .ok (.ireturn, 1) := dk_172 (dk_at dksX6_atom_6 9 rfl rfl)
abbrev cX6_isSign : ByteArray := prog_19_method_23_code
def yX6_isSign : MethodName := ⟨RX6, "isSign", "(I)Z"⟩
def dkwX6_isSign_1 : List UInt8 := [160, 0, 7, 4, 167, 0, 4, 3, 172]
abbrev dktX6_isSign_1 : List UInt8 := dkwX6_isSign_1 ++ []
def dkwX6_isSign_0 : List UInt8 := [42, 182, 0, 84, 42, 180, 0, 75, 42, 180, 0, 78, 162, 0, 19, 42, 42, 180, 0, 75, 182, 0, 81, 27]
abbrev dktX6_isSign_0 : List UInt8 := dkwX6_isSign_0 ++ dktX6_isSign_1
theorem dksX6_isSign_0 : cX6_isSign.data.toList.drop 0 = dktX6_isSign_0 := by decide +kernel
theorem dksX6_isSign_1 : cX6_isSign.data.toList.drop 24 = dktX6_isSign_1 := dk_seg dksX6_isSign_0 24 rfl rfl
theorem dX6_isSign_0 : decode cX6_isSign 0 = .ok (.aload_n 0, 1) := dk_42 (dk_at dksX6_isSign_0 0 rfl rfl)
theorem dX6_isSign_1 : decode cX6_isSign 1 = .ok (.invokevirtual 84, 3) := dk_182 0 84 (dk_at dksX6_isSign_0 1 rfl rfl)
theorem dX6_isSign_4 : decode cX6_isSign 4 = .ok (.aload_n 0, 1) := dk_42 (dk_at dksX6_isSign_0 4 rfl rfl)
theorem dX6_isSign_5 : decode cX6_isSign 5 = .ok (.getfield 75, 3) := dk_180 0 75 (dk_at dksX6_isSign_0 5 rfl rfl)
theorem dX6_isSign_8 : decode cX6_isSign 8 = .ok (.aload_n 0, 1) := dk_42 (dk_at dksX6_isSign_0 8 rfl rfl)
theorem dX6_isSign_9 : decode cX6_isSign 9 = .ok (.getfield 78, 3) := dk_180 0 78 (dk_at dksX6_isSign_0 9 rfl rfl)
theorem dX6_isSign_12 : decode cX6_isSign 12 = .ok (.if_icmp .ge 19, 3) := dk_162 0 19 (dk_at dksX6_isSign_0 12 rfl rfl)
theorem dX6_isSign_15 : decode cX6_isSign 15 = .ok (.aload_n 0, 1) := dk_42 (dk_at dksX6_isSign_0 15 rfl rfl)
theorem dX6_isSign_16 : decode cX6_isSign 16 = .ok (.aload_n 0, 1) := dk_42 (dk_at dksX6_isSign_0 16 rfl rfl)
theorem dX6_isSign_17 : decode cX6_isSign 17 = .ok (.getfield 75, 3) := dk_180 0 75 (dk_at dksX6_isSign_0 17 rfl rfl)
theorem dX6_isSign_20 : decode cX6_isSign 20 = .ok (.invokevirtual 81, 3) := dk_182 0 81 (dk_at dksX6_isSign_0 20 rfl rfl)
theorem dX6_isSign_23 : decode cX6_isSign 23 = .ok (.iload_n 1, 1) := dk_27 (dk_at dksX6_isSign_0 23 rfl rfl)
theorem dX6_isSign_24 : decode cX6_isSign 24 = .ok (.if_icmp .ne 7, 3) := dk_160 0 7 (dk_at dksX6_isSign_1 0 rfl rfl)
theorem dX6_isSign_27 : decode cX6_isSign 27 = .ok (.iconst 1, 1) := dk_4 (dk_at dksX6_isSign_1 3 rfl rfl)
theorem dX6_isSign_28 : decode cX6_isSign 28 = .ok (.goto 4, 3) := dk_167 0 4 (dk_at dksX6_isSign_1 4 rfl rfl)
theorem dX6_isSign_31 : decode cX6_isSign 31 = .ok (.iconst 0, 1) := dk_3 (dk_at dksX6_isSign_1 7 rfl rfl)
theorem dX6_isSign_32 : decode cX6_isSign 32 = .ok (.ireturn, 1) := dk_172 (dk_at dksX6_isSign_1 8 rfl rfl)
abbrev cX6_plain : ByteArray := prog_19_method_42_code
def yX6_plain : MethodName := ⟨RX6, "plain", "()Z"⟩
def dkwX6_plain_4 : List UInt8 := [27, 29, 162, 0, 7, 4, 167, 0, 17, 3, 167, 0, 13, 27, 29, 164, 0, 7, 4, 167, 0, 4, 3, 172]
abbrev dktX6_plain_4 : List UInt8 := dkwX6_plain_4 ++ []
def dkwX6_plain_3 : List UInt8 := [182, 0, 100, 3, 172, 42, 89, 180, 0, 75, 4, 96, 181, 0, 75, 42, 182, 0, 212, 62, 28, 153, 0, 16]
abbrev dktX6_plain_3 : List UInt8 := dkwX6_plain_3 ++ dktX6_plain_4
def dkwX6_plain_2 : List UInt8 := [182, 0, 171, 61, 28, 154, 0, 22, 42, 16, 62, 182, 0, 171, 154, 0, 13, 42, 42, 180, 0, 75]
abbrev dktX6_plain_2 : List UInt8 := dkwX6_plain_2 ++ dktX6_plain_3
def dkwX6_plain_1 : List UInt8 := [180, 0, 209, 172, 42, 182, 0, 212, 60, 42, 180, 0, 25, 2, 159, 0, 5, 3, 172, 42, 16, 60]
abbrev dktX6_plain_1 : List UInt8 := dkwX6_plain_1 ++ dktX6_plain_2
def dkwX6_plain_0 : List UInt8 := [42, 18, 201, 182, 0, 104, 153, 0, 8, 42, 180, 0, 203, 172, 42, 18, 207, 182, 0, 104, 153, 0, 8, 42]
abbrev dktX6_plain_0 : List UInt8 := dkwX6_plain_0 ++ dktX6_plain_1
theorem dksX6_plain_0 : cX6_plain.data.toList.drop 0 = dktX6_plain_0 := by decide +kernel
theorem dksX6_plain_1 : cX6_plain.data.toList.drop 24 = dktX6_plain_1 := dk_seg dksX6_plain_0 24 rfl rfl
theorem dksX6_plain_2 : cX6_plain.data.toList.drop 46 = dktX6_plain_2 := dk_seg dksX6_plain_1 22 rfl rfl
theorem dksX6_plain_3 : cX6_plain.data.toList.drop 68 = dktX6_plain_3 := dk_seg dksX6_plain_2 22 rfl rfl
theorem dksX6_plain_4 : cX6_plain.data.toList.drop 92 = dktX6_plain_4 := dk_seg dksX6_plain_3 24 rfl rfl
theorem dX6_plain_0 : decode cX6_plain 0 = .ok (.aload_n 0, 1) := dk_42 (dk_at dksX6_plain_0 0 rfl rfl)
theorem dX6_plain_1 : decode cX6_plain 1 = .ok (.ldc 201, 2) := dk_18 201 (dk_at dksX6_plain_0 1 rfl rfl)
theorem dX6_plain_3 : decode cX6_plain 3 = .ok (.invokevirtual 104, 3) := dk_182 0 104 (dk_at dksX6_plain_0 3 rfl rfl)
theorem dX6_plain_6 : decode cX6_plain 6 = .ok (.ifCond .eq 8, 3) := dk_153 0 8 (dk_at dksX6_plain_0 6 rfl rfl)
theorem dX6_plain_9 : decode cX6_plain 9 = .ok (.aload_n 0, 1) := dk_42 (dk_at dksX6_plain_0 9 rfl rfl)
theorem dX6_plain_10 : decode cX6_plain 10 = .ok (.getfield 203, 3) := dk_180 0 203 (dk_at dksX6_plain_0 10 rfl rfl)
theorem dX6_plain_13 : decode cX6_plain 13 = .ok (.ireturn, 1) := dk_172 (dk_at dksX6_plain_0 13 rfl rfl)
theorem dX6_plain_14 : decode cX6_plain 14 = .ok (.aload_n 0, 1) := dk_42 (dk_at dksX6_plain_0 14 rfl rfl)
theorem dX6_plain_15 : decode cX6_plain 15 = .ok (.ldc 207, 2) := dk_18 207 (dk_at dksX6_plain_0 15 rfl rfl)
theorem dX6_plain_17 : decode cX6_plain 17 = .ok (.invokevirtual 104, 3) := dk_182 0 104 (dk_at dksX6_plain_0 17 rfl rfl)
theorem dX6_plain_20 : decode cX6_plain 20 = .ok (.ifCond .eq 8, 3) := dk_153 0 8 (dk_at dksX6_plain_0 20 rfl rfl)
theorem dX6_plain_23 : decode cX6_plain 23 = .ok (.aload_n 0, 1) := dk_42 (dk_at dksX6_plain_0 23 rfl rfl)
theorem dX6_plain_24 : decode cX6_plain 24 = .ok (.getfield 209, 3) := dk_180 0 209 (dk_at dksX6_plain_1 0 rfl rfl)
theorem dX6_plain_27 : decode cX6_plain 27 = .ok (.ireturn, 1) := dk_172 (dk_at dksX6_plain_1 3 rfl rfl)
theorem dX6_plain_28 : decode cX6_plain 28 = .ok (.aload_n 0, 1) := dk_42 (dk_at dksX6_plain_1 4 rfl rfl)
theorem dX6_plain_29 : decode cX6_plain 29 = .ok (.invokevirtual 212, 3) := dk_182 0 212 (dk_at dksX6_plain_1 5 rfl rfl)
theorem dX6_plain_32 : decode cX6_plain 32 = .ok (.istore_n 1, 1) := dk_60 (dk_at dksX6_plain_1 8 rfl rfl)
theorem dX6_plain_33 : decode cX6_plain 33 = .ok (.aload_n 0, 1) := dk_42 (dk_at dksX6_plain_1 9 rfl rfl)
theorem dX6_plain_34 : decode cX6_plain 34 = .ok (.getfield 25, 3) := dk_180 0 25 (dk_at dksX6_plain_1 10 rfl rfl)
theorem dX6_plain_37 : decode cX6_plain 37 = .ok (.iconst (-1), 1) := dk_2 (dk_at dksX6_plain_1 13 rfl rfl)
theorem dX6_plain_38 : decode cX6_plain 38 = .ok (.if_icmp .eq 5, 3) := dk_159 0 5 (dk_at dksX6_plain_1 14 rfl rfl)
theorem dX6_plain_41 : decode cX6_plain 41 = .ok (.iconst 0, 1) := dk_3 (dk_at dksX6_plain_1 17 rfl rfl)
theorem dX6_plain_42 : decode cX6_plain 42 = .ok (.ireturn, 1) := dk_172 (dk_at dksX6_plain_1 18 rfl rfl)
theorem dX6_plain_43 : decode cX6_plain 43 = .ok (.aload_n 0, 1) := dk_42 (dk_at dksX6_plain_1 19 rfl rfl)
theorem dX6_plain_44 : decode cX6_plain 44 = .ok (.bipush 60, 2) := dk_16 60 (dk_at dksX6_plain_1 20 rfl rfl)
theorem dX6_plain_46 : decode cX6_plain 46 = .ok (.invokevirtual 171, 3) := dk_182 0 171 (dk_at dksX6_plain_2 0 rfl rfl)
theorem dX6_plain_49 : decode cX6_plain 49 = .ok (.istore_n 2, 1) := dk_61 (dk_at dksX6_plain_2 3 rfl rfl)
theorem dX6_plain_50 : decode cX6_plain 50 = .ok (.iload_n 2, 1) := dk_28 (dk_at dksX6_plain_2 4 rfl rfl)
theorem dX6_plain_51 : decode cX6_plain 51 = .ok (.ifCond .ne 22, 3) := dk_154 0 22 (dk_at dksX6_plain_2 5 rfl rfl)
theorem dX6_plain_54 : decode cX6_plain 54 = .ok (.aload_n 0, 1) := dk_42 (dk_at dksX6_plain_2 8 rfl rfl)
theorem dX6_plain_55 : decode cX6_plain 55 = .ok (.bipush 62, 2) := dk_16 62 (dk_at dksX6_plain_2 9 rfl rfl)
theorem dX6_plain_57 : decode cX6_plain 57 = .ok (.invokevirtual 171, 3) := dk_182 0 171 (dk_at dksX6_plain_2 11 rfl rfl)
theorem dX6_plain_60 : decode cX6_plain 60 = .ok (.ifCond .ne 13, 3) := dk_154 0 13 (dk_at dksX6_plain_2 14 rfl rfl)
theorem dX6_plain_63 : decode cX6_plain 63 = .ok (.aload_n 0, 1) := dk_42 (dk_at dksX6_plain_2 17 rfl rfl)
theorem dX6_plain_64 : decode cX6_plain 64 = .ok (.aload_n 0, 1) := dk_42 (dk_at dksX6_plain_2 18 rfl rfl)
theorem dX6_plain_65 : decode cX6_plain 65 = .ok (.getfield 75, 3) := dk_180 0 75 (dk_at dksX6_plain_2 19 rfl rfl)
theorem dX6_plain_68 : decode cX6_plain 68 = .ok (.invokevirtual 100, 3) := dk_182 0 100 (dk_at dksX6_plain_3 0 rfl rfl)
theorem dX6_plain_71 : decode cX6_plain 71 = .ok (.iconst 0, 1) := dk_3 (dk_at dksX6_plain_3 3 rfl rfl)
theorem dX6_plain_72 : decode cX6_plain 72 = .ok (.ireturn, 1) := dk_172 (dk_at dksX6_plain_3 4 rfl rfl)
theorem dX6_plain_73 : decode cX6_plain 73 = .ok (.aload_n 0, 1) := dk_42 (dk_at dksX6_plain_3 5 rfl rfl)
theorem dX6_plain_74 : decode cX6_plain 74 = .ok (.dup, 1) := dk_89 (dk_at dksX6_plain_3 6 rfl rfl)
theorem dX6_plain_75 : decode cX6_plain 75 = .ok (.getfield 75, 3) := dk_180 0 75 (dk_at dksX6_plain_3 7 rfl rfl)
theorem dX6_plain_78 : decode cX6_plain 78 = .ok (.iconst 1, 1) := dk_4 (dk_at dksX6_plain_3 10 rfl rfl)
theorem dX6_plain_79 : decode cX6_plain 79 = .ok (.iadd, 1) := dk_96 (dk_at dksX6_plain_3 11 rfl rfl)
theorem dX6_plain_80 : decode cX6_plain 80 = .ok (.putfield 75, 3) := dk_181 0 75 (dk_at dksX6_plain_3 12 rfl rfl)
theorem dX6_plain_83 : decode cX6_plain 83 = .ok (.aload_n 0, 1) := dk_42 (dk_at dksX6_plain_3 15 rfl rfl)
theorem dX6_plain_84 : decode cX6_plain 84 = .ok (.invokevirtual 212, 3) := dk_182 0 212 (dk_at dksX6_plain_3 16 rfl rfl)
theorem dX6_plain_87 : decode cX6_plain 87 = .ok (.istore_n 3, 1) := dk_62 (dk_at dksX6_plain_3 19 rfl rfl)
theorem dX6_plain_88 : decode cX6_plain 88 = .ok (.iload_n 2, 1) := dk_28 (dk_at dksX6_plain_3 20 rfl rfl)
theorem dX6_plain_89 : decode cX6_plain 89 = .ok (.ifCond .eq 16, 3) := dk_153 0 16 (dk_at dksX6_plain_3 21 rfl rfl)
theorem dX6_plain_92 : decode cX6_plain 92 = .ok (.iload_n 1, 1) := dk_27 (dk_at dksX6_plain_4 0 rfl rfl)
theorem dX6_plain_93 : decode cX6_plain 93 = .ok (.iload_n 3, 1) := dk_29 (dk_at dksX6_plain_4 1 rfl rfl)
theorem dX6_plain_94 : decode cX6_plain 94 = .ok (.if_icmp .ge 7, 3) := dk_162 0 7 (dk_at dksX6_plain_4 2 rfl rfl)
theorem dX6_plain_97 : decode cX6_plain 97 = .ok (.iconst 1, 1) := dk_4 (dk_at dksX6_plain_4 5 rfl rfl)
theorem dX6_plain_98 : decode cX6_plain 98 = .ok (.goto 17, 3) := dk_167 0 17 (dk_at dksX6_plain_4 6 rfl rfl)
theorem dX6_plain_101 : decode cX6_plain 101 = .ok (.iconst 0, 1) := dk_3 (dk_at dksX6_plain_4 9 rfl rfl)
theorem dX6_plain_102 : decode cX6_plain 102 = .ok (.goto 13, 3) := dk_167 0 13 (dk_at dksX6_plain_4 10 rfl rfl)
theorem dX6_plain_105 : decode cX6_plain 105 = .ok (.iload_n 1, 1) := dk_27 (dk_at dksX6_plain_4 13 rfl rfl)
theorem dX6_plain_106 : decode cX6_plain 106 = .ok (.iload_n 3, 1) := dk_29 (dk_at dksX6_plain_4 14 rfl rfl)
theorem dX6_plain_107 : decode cX6_plain 107 = .ok (.if_icmp .le 7, 3) := dk_164 0 7 (dk_at dksX6_plain_4 15 rfl rfl)
theorem dX6_plain_110 : decode cX6_plain 110 = .ok (.iconst 1, 1) := dk_4 (dk_at dksX6_plain_4 18 rfl rfl)
theorem dX6_plain_111 : decode cX6_plain 111 = .ok (.goto 4, 3) := dk_167 0 4 (dk_at dksX6_plain_4 19 rfl rfl)
theorem dX6_plain_114 : decode cX6_plain 114 = .ok (.iconst 0, 1) := dk_3 (dk_at dksX6_plain_4 22 rfl rfl)
theorem dX6_plain_115 : decode cX6_plain 115 = .ok (.ireturn, 1) := dk_172 (dk_at dksX6_plain_4 23 rfl rfl)
abbrev cX6_sum : ByteArray := prog_19_method_41_code
def yX6_sum : MethodName := ⟨RX6, "sum", "()I"⟩
def dkwX6_sum_1 : List UInt8 := [180, 0, 75, 4, 96, 181, 0, 75, 27, 42, 182, 0, 198, 96, 60, 167, 255, 222, 27, 172]
abbrev dktX6_sum_1 : List UInt8 := dkwX6_sum_1 ++ []
def dkwX6_sum_0 : List UInt8 := [42, 182, 0, 198, 60, 42, 180, 0, 25, 2, 160, 0, 32, 42, 16, 43, 182, 0, 171, 153, 0, 23, 42, 89]
abbrev dktX6_sum_0 : List UInt8 := dkwX6_sum_0 ++ dktX6_sum_1
theorem dksX6_sum_0 : cX6_sum.data.toList.drop 0 = dktX6_sum_0 := by decide +kernel
theorem dksX6_sum_1 : cX6_sum.data.toList.drop 24 = dktX6_sum_1 := dk_seg dksX6_sum_0 24 rfl rfl
theorem dX6_sum_0 : decode cX6_sum 0 = .ok (.aload_n 0, 1) := dk_42 (dk_at dksX6_sum_0 0 rfl rfl)
theorem dX6_sum_1 : decode cX6_sum 1 = .ok (.invokevirtual 198, 3) := dk_182 0 198 (dk_at dksX6_sum_0 1 rfl rfl)
theorem dX6_sum_4 : decode cX6_sum 4 = .ok (.istore_n 1, 1) := dk_60 (dk_at dksX6_sum_0 4 rfl rfl)
theorem dX6_sum_5 : decode cX6_sum 5 = .ok (.aload_n 0, 1) := dk_42 (dk_at dksX6_sum_0 5 rfl rfl)
theorem dX6_sum_6 : decode cX6_sum 6 = .ok (.getfield 25, 3) := dk_180 0 25 (dk_at dksX6_sum_0 6 rfl rfl)
theorem dX6_sum_9 : decode cX6_sum 9 = .ok (.iconst (-1), 1) := dk_2 (dk_at dksX6_sum_0 9 rfl rfl)
theorem dX6_sum_10 : decode cX6_sum 10 = .ok (.if_icmp .ne 32, 3) := dk_160 0 32 (dk_at dksX6_sum_0 10 rfl rfl)
theorem dX6_sum_13 : decode cX6_sum 13 = .ok (.aload_n 0, 1) := dk_42 (dk_at dksX6_sum_0 13 rfl rfl)
theorem dX6_sum_14 : decode cX6_sum 14 = .ok (.bipush 43, 2) := dk_16 43 (dk_at dksX6_sum_0 14 rfl rfl)
theorem dX6_sum_16 : decode cX6_sum 16 = .ok (.invokevirtual 171, 3) := dk_182 0 171 (dk_at dksX6_sum_0 16 rfl rfl)
theorem dX6_sum_19 : decode cX6_sum 19 = .ok (.ifCond .eq 23, 3) := dk_153 0 23 (dk_at dksX6_sum_0 19 rfl rfl)
theorem dX6_sum_22 : decode cX6_sum 22 = .ok (.aload_n 0, 1) := dk_42 (dk_at dksX6_sum_0 22 rfl rfl)
theorem dX6_sum_23 : decode cX6_sum 23 = .ok (.dup, 1) := dk_89 (dk_at dksX6_sum_0 23 rfl rfl)
theorem dX6_sum_24 : decode cX6_sum 24 = .ok (.getfield 75, 3) := dk_180 0 75 (dk_at dksX6_sum_1 0 rfl rfl)
theorem dX6_sum_27 : decode cX6_sum 27 = .ok (.iconst 1, 1) := dk_4 (dk_at dksX6_sum_1 3 rfl rfl)
theorem dX6_sum_28 : decode cX6_sum 28 = .ok (.iadd, 1) := dk_96 (dk_at dksX6_sum_1 4 rfl rfl)
theorem dX6_sum_29 : decode cX6_sum 29 = .ok (.putfield 75, 3) := dk_181 0 75 (dk_at dksX6_sum_1 5 rfl rfl)
theorem dX6_sum_32 : decode cX6_sum 32 = .ok (.iload_n 1, 1) := dk_27 (dk_at dksX6_sum_1 8 rfl rfl)
theorem dX6_sum_33 : decode cX6_sum 33 = .ok (.aload_n 0, 1) := dk_42 (dk_at dksX6_sum_1 9 rfl rfl)
theorem dX6_sum_34 : decode cX6_sum 34 = .ok (.invokevirtual 198, 3) := dk_182 0 198 (dk_at dksX6_sum_1 10 rfl rfl)
theorem dX6_sum_37 : decode cX6_sum 37 = .ok (.iadd, 1) := dk_96 (dk_at dksX6_sum_1 13 rfl rfl)
theorem dX6_sum_38 : decode cX6_sum 38 = .ok (.istore_n 1, 1) := dk_60 (dk_at dksX6_sum_1 14 rfl rfl)
theorem dX6_sum_39 : decode cX6_sum 39 = .ok (.goto (-34), 3) := dk_167 255 222 (dk_at dksX6_sum_1 15 rfl rfl)
theorem dX6_sum_42 : decode cX6_sum 42 = .ok (.iload_n 1, 1) := dk_27 (dk_at dksX6_sum_1 18 rfl rfl)
theorem dX6_sum_43 : decode cX6_sum 43 = .ok (.ireturn, 1) := dk_172 (dk_at dksX6_sum_1 19 rfl rfl)
abbrev cX6_part : ByteArray := prog_19_method_40_code
def yX6_part : MethodName := ⟨RX6, "part", "()I"⟩
def dkwX6_part_7 : List UInt8 := [172, 42, 180, 0, 29, 27, 46, 172]
abbrev dktX6_part_7 : List UInt8 := dkwX6_part_7 ++ []
def dkwX6_part_6 : List UInt8 := [153, 0, 8, 16, 6, 167, 0, 4, 2, 60, 27, 2, 160, 0, 13, 42, 42, 180, 0, 75, 182, 0, 100, 3]
abbrev dktX6_part_6 : List UInt8 := dkwX6_part_6 ++ dktX6_part_7
def dkwX6_part_5 : List UInt8 := [167, 0, 31, 42, 18, 196, 182, 0, 104, 153, 0, 7, 8, 167, 0, 18, 42, 18, 160, 182, 0, 104]
abbrev dktX6_part_5 : List UInt8 := dkwX6_part_5 ++ dktX6_part_6
def dkwX6_part_4 : List UInt8 := [18, 194, 182, 0, 104, 153, 0, 7, 6, 167, 0, 44, 42, 18, 151, 182, 0, 104, 153, 0, 7, 7]
abbrev dktX6_part_4 : List UInt8 := dkwX6_part_4 ++ dktX6_part_5
def dkwX6_part_3 : List UInt8 := [182, 0, 104, 153, 0, 7, 4, 167, 0, 70, 42, 18, 111, 182, 0, 104, 153, 0, 7, 5, 167, 0, 57, 42]
abbrev dktX6_part_3 : List UInt8 := dkwX6_part_3 ++ dktX6_part_4
def dkwX6_part_2 : List UInt8 := [17, 3, 231, 182, 0, 108, 172, 42, 18, 191, 182, 0, 104, 153, 0, 7, 3, 167, 0, 83, 42, 18, 193]
abbrev dktX6_part_2 : List UInt8 := dkwX6_part_2 ++ dktX6_part_3
def dkwX6_part_1 : List UInt8 := [162, 0, 30, 42, 42, 180, 0, 75, 182, 0, 81, 16, 48, 16, 57, 184, 0, 44, 153, 0, 12, 42, 3]
abbrev dktX6_part_1 : List UInt8 := dkwX6_part_1 ++ dktX6_part_2
def dkwX6_part_0 : List UInt8 := [42, 180, 0, 25, 2, 159, 0, 5, 3, 172, 42, 182, 0, 84, 42, 180, 0, 75, 42, 180, 0, 78]
abbrev dktX6_part_0 : List UInt8 := dkwX6_part_0 ++ dktX6_part_1
theorem dksX6_part_0 : cX6_part.data.toList.drop 0 = dktX6_part_0 := by decide +kernel
theorem dksX6_part_1 : cX6_part.data.toList.drop 22 = dktX6_part_1 := dk_seg dksX6_part_0 22 rfl rfl
theorem dksX6_part_2 : cX6_part.data.toList.drop 45 = dktX6_part_2 := dk_seg dksX6_part_1 23 rfl rfl
theorem dksX6_part_3 : cX6_part.data.toList.drop 68 = dktX6_part_3 := dk_seg dksX6_part_2 23 rfl rfl
theorem dksX6_part_4 : cX6_part.data.toList.drop 92 = dktX6_part_4 := dk_seg dksX6_part_3 24 rfl rfl
theorem dksX6_part_5 : cX6_part.data.toList.drop 114 = dktX6_part_5 := dk_seg dksX6_part_4 22 rfl rfl
theorem dksX6_part_6 : cX6_part.data.toList.drop 136 = dktX6_part_6 := dk_seg dksX6_part_5 22 rfl rfl
theorem dksX6_part_7 : cX6_part.data.toList.drop 160 = dktX6_part_7 := dk_seg dksX6_part_6 24 rfl rfl
theorem dX6_part_0 : decode cX6_part 0 = .ok (.aload_n 0, 1) := dk_42 (dk_at dksX6_part_0 0 rfl rfl)
theorem dX6_part_1 : decode cX6_part 1 = .ok (.getfield 25, 3) := dk_180 0 25 (dk_at dksX6_part_0 1 rfl rfl)
theorem dX6_part_4 : decode cX6_part 4 = .ok (.iconst (-1), 1) := dk_2 (dk_at dksX6_part_0 4 rfl rfl)
theorem dX6_part_5 : decode cX6_part 5 = .ok (.if_icmp .eq 5, 3) := dk_159 0 5 (dk_at dksX6_part_0 5 rfl rfl)
theorem dX6_part_8 : decode cX6_part 8 = .ok (.iconst 0, 1) := dk_3 (dk_at dksX6_part_0 8 rfl rfl)
theorem dX6_part_9 : decode cX6_part 9 = .ok (.ireturn, 1) := dk_172 (dk_at dksX6_part_0 9 rfl rfl)
theorem dX6_part_10 : decode cX6_part 10 = .ok (.aload_n 0, 1) := dk_42 (dk_at dksX6_part_0 10 rfl rfl)
theorem dX6_part_11 : decode cX6_part 11 = .ok (.invokevirtual 84, 3) := dk_182 0 84 (dk_at dksX6_part_0 11 rfl rfl)
theorem dX6_part_14 : decode cX6_part 14 = .ok (.aload_n 0, 1) := dk_42 (dk_at dksX6_part_0 14 rfl rfl)
theorem dX6_part_15 : decode cX6_part 15 = .ok (.getfield 75, 3) := dk_180 0 75 (dk_at dksX6_part_0 15 rfl rfl)
theorem dX6_part_18 : decode cX6_part 18 = .ok (.aload_n 0, 1) := dk_42 (dk_at dksX6_part_0 18 rfl rfl)
theorem dX6_part_19 : decode cX6_part 19 = .ok (.getfield 78, 3) := dk_180 0 78 (dk_at dksX6_part_0 19 rfl rfl)
theorem dX6_part_22 : decode cX6_part 22 = .ok (.if_icmp .ge 30, 3) := dk_162 0 30 (dk_at dksX6_part_1 0 rfl rfl)
theorem dX6_part_25 : decode cX6_part 25 = .ok (.aload_n 0, 1) := dk_42 (dk_at dksX6_part_1 3 rfl rfl)
theorem dX6_part_26 : decode cX6_part 26 = .ok (.aload_n 0, 1) := dk_42 (dk_at dksX6_part_1 4 rfl rfl)
theorem dX6_part_27 : decode cX6_part 27 = .ok (.getfield 75, 3) := dk_180 0 75 (dk_at dksX6_part_1 5 rfl rfl)
theorem dX6_part_30 : decode cX6_part 30 = .ok (.invokevirtual 81, 3) := dk_182 0 81 (dk_at dksX6_part_1 8 rfl rfl)
theorem dX6_part_33 : decode cX6_part 33 = .ok (.bipush 48, 2) := dk_16 48 (dk_at dksX6_part_1 11 rfl rfl)
theorem dX6_part_35 : decode cX6_part 35 = .ok (.bipush 57, 2) := dk_16 57 (dk_at dksX6_part_1 13 rfl rfl)
theorem dX6_part_37 : decode cX6_part 37 = .ok (.invokestatic 44, 3) := dk_184 0 44 (dk_at dksX6_part_1 15 rfl rfl)
theorem dX6_part_40 : decode cX6_part 40 = .ok (.ifCond .eq 12, 3) := dk_153 0 12 (dk_at dksX6_part_1 18 rfl rfl)
theorem dX6_part_43 : decode cX6_part 43 = .ok (.aload_n 0, 1) := dk_42 (dk_at dksX6_part_1 21 rfl rfl)
theorem dX6_part_44 : decode cX6_part 44 = .ok (.iconst 0, 1) := dk_3 (dk_at dksX6_part_1 22 rfl rfl)
theorem dX6_part_45 : decode cX6_part 45 = .ok (.sipush 999, 3) := dk_17 3 231 (dk_at dksX6_part_2 0 rfl rfl)
theorem dX6_part_48 : decode cX6_part 48 = .ok (.invokevirtual 108, 3) := dk_182 0 108 (dk_at dksX6_part_2 3 rfl rfl)
theorem dX6_part_51 : decode cX6_part 51 = .ok (.ireturn, 1) := dk_172 (dk_at dksX6_part_2 6 rfl rfl)
theorem dX6_part_52 : decode cX6_part 52 = .ok (.aload_n 0, 1) := dk_42 (dk_at dksX6_part_2 7 rfl rfl)
theorem dX6_part_53 : decode cX6_part 53 = .ok (.ldc 191, 2) := dk_18 191 (dk_at dksX6_part_2 8 rfl rfl)
theorem dX6_part_55 : decode cX6_part 55 = .ok (.invokevirtual 104, 3) := dk_182 0 104 (dk_at dksX6_part_2 10 rfl rfl)
theorem dX6_part_58 : decode cX6_part 58 = .ok (.ifCond .eq 7, 3) := dk_153 0 7 (dk_at dksX6_part_2 13 rfl rfl)
theorem dX6_part_61 : decode cX6_part 61 = .ok (.iconst 0, 1) := dk_3 (dk_at dksX6_part_2 16 rfl rfl)
theorem dX6_part_62 : decode cX6_part 62 = .ok (.goto 83, 3) := dk_167 0 83 (dk_at dksX6_part_2 17 rfl rfl)
theorem dX6_part_65 : decode cX6_part 65 = .ok (.aload_n 0, 1) := dk_42 (dk_at dksX6_part_2 20 rfl rfl)
theorem dX6_part_66 : decode cX6_part 66 = .ok (.ldc 193, 2) := dk_18 193 (dk_at dksX6_part_2 21 rfl rfl)
theorem dX6_part_68 : decode cX6_part 68 = .ok (.invokevirtual 104, 3) := dk_182 0 104 (dk_at dksX6_part_3 0 rfl rfl)
theorem dX6_part_71 : decode cX6_part 71 = .ok (.ifCond .eq 7, 3) := dk_153 0 7 (dk_at dksX6_part_3 3 rfl rfl)
theorem dX6_part_74 : decode cX6_part 74 = .ok (.iconst 1, 1) := dk_4 (dk_at dksX6_part_3 6 rfl rfl)
theorem dX6_part_75 : decode cX6_part 75 = .ok (.goto 70, 3) := dk_167 0 70 (dk_at dksX6_part_3 7 rfl rfl)
theorem dX6_part_78 : decode cX6_part 78 = .ok (.aload_n 0, 1) := dk_42 (dk_at dksX6_part_3 10 rfl rfl)
theorem dX6_part_79 : decode cX6_part 79 = .ok (.ldc 111, 2) := dk_18 111 (dk_at dksX6_part_3 11 rfl rfl)
theorem dX6_part_81 : decode cX6_part 81 = .ok (.invokevirtual 104, 3) := dk_182 0 104 (dk_at dksX6_part_3 13 rfl rfl)
theorem dX6_part_84 : decode cX6_part 84 = .ok (.ifCond .eq 7, 3) := dk_153 0 7 (dk_at dksX6_part_3 16 rfl rfl)
theorem dX6_part_87 : decode cX6_part 87 = .ok (.iconst 2, 1) := dk_5 (dk_at dksX6_part_3 19 rfl rfl)
theorem dX6_part_88 : decode cX6_part 88 = .ok (.goto 57, 3) := dk_167 0 57 (dk_at dksX6_part_3 20 rfl rfl)
theorem dX6_part_91 : decode cX6_part 91 = .ok (.aload_n 0, 1) := dk_42 (dk_at dksX6_part_3 23 rfl rfl)
theorem dX6_part_92 : decode cX6_part 92 = .ok (.ldc 194, 2) := dk_18 194 (dk_at dksX6_part_4 0 rfl rfl)
theorem dX6_part_94 : decode cX6_part 94 = .ok (.invokevirtual 104, 3) := dk_182 0 104 (dk_at dksX6_part_4 2 rfl rfl)
theorem dX6_part_97 : decode cX6_part 97 = .ok (.ifCond .eq 7, 3) := dk_153 0 7 (dk_at dksX6_part_4 5 rfl rfl)
theorem dX6_part_100 : decode cX6_part 100 = .ok (.iconst 3, 1) := dk_6 (dk_at dksX6_part_4 8 rfl rfl)
theorem dX6_part_101 : decode cX6_part 101 = .ok (.goto 44, 3) := dk_167 0 44 (dk_at dksX6_part_4 9 rfl rfl)
theorem dX6_part_104 : decode cX6_part 104 = .ok (.aload_n 0, 1) := dk_42 (dk_at dksX6_part_4 12 rfl rfl)
theorem dX6_part_105 : decode cX6_part 105 = .ok (.ldc 151, 2) := dk_18 151 (dk_at dksX6_part_4 13 rfl rfl)
theorem dX6_part_107 : decode cX6_part 107 = .ok (.invokevirtual 104, 3) := dk_182 0 104 (dk_at dksX6_part_4 15 rfl rfl)
theorem dX6_part_110 : decode cX6_part 110 = .ok (.ifCond .eq 7, 3) := dk_153 0 7 (dk_at dksX6_part_4 18 rfl rfl)
theorem dX6_part_113 : decode cX6_part 113 = .ok (.iconst 4, 1) := dk_7 (dk_at dksX6_part_4 21 rfl rfl)
theorem dX6_part_114 : decode cX6_part 114 = .ok (.goto 31, 3) := dk_167 0 31 (dk_at dksX6_part_5 0 rfl rfl)
theorem dX6_part_117 : decode cX6_part 117 = .ok (.aload_n 0, 1) := dk_42 (dk_at dksX6_part_5 3 rfl rfl)
theorem dX6_part_118 : decode cX6_part 118 = .ok (.ldc 196, 2) := dk_18 196 (dk_at dksX6_part_5 4 rfl rfl)
theorem dX6_part_120 : decode cX6_part 120 = .ok (.invokevirtual 104, 3) := dk_182 0 104 (dk_at dksX6_part_5 6 rfl rfl)
theorem dX6_part_123 : decode cX6_part 123 = .ok (.ifCond .eq 7, 3) := dk_153 0 7 (dk_at dksX6_part_5 9 rfl rfl)
theorem dX6_part_126 : decode cX6_part 126 = .ok (.iconst 5, 1) := dk_8 (dk_at dksX6_part_5 12 rfl rfl)
theorem dX6_part_127 : decode cX6_part 127 = .ok (.goto 18, 3) := dk_167 0 18 (dk_at dksX6_part_5 13 rfl rfl)
theorem dX6_part_130 : decode cX6_part 130 = .ok (.aload_n 0, 1) := dk_42 (dk_at dksX6_part_5 16 rfl rfl)
theorem dX6_part_131 : decode cX6_part 131 = .ok (.ldc 160, 2) := dk_18 160 (dk_at dksX6_part_5 17 rfl rfl)
theorem dX6_part_133 : decode cX6_part 133 = .ok (.invokevirtual 104, 3) := dk_182 0 104 (dk_at dksX6_part_5 19 rfl rfl)
theorem dX6_part_136 : decode cX6_part 136 = .ok (.ifCond .eq 8, 3) := dk_153 0 8 (dk_at dksX6_part_6 0 rfl rfl)
theorem dX6_part_139 : decode cX6_part 139 = .ok (.bipush 6, 2) := dk_16 6 (dk_at dksX6_part_6 3 rfl rfl)
theorem dX6_part_141 : decode cX6_part 141 = .ok (.goto 4, 3) := dk_167 0 4 (dk_at dksX6_part_6 5 rfl rfl)
theorem dX6_part_144 : decode cX6_part 144 = .ok (.iconst (-1), 1) := dk_2 (dk_at dksX6_part_6 8 rfl rfl)
theorem dX6_part_145 : decode cX6_part 145 = .ok (.istore_n 1, 1) := dk_60 (dk_at dksX6_part_6 9 rfl rfl)
theorem dX6_part_146 : decode cX6_part 146 = .ok (.iload_n 1, 1) := dk_27 (dk_at dksX6_part_6 10 rfl rfl)
theorem dX6_part_147 : decode cX6_part 147 = .ok (.iconst (-1), 1) := dk_2 (dk_at dksX6_part_6 11 rfl rfl)
theorem dX6_part_148 : decode cX6_part 148 = .ok (.if_icmp .ne 13, 3) := dk_160 0 13 (dk_at dksX6_part_6 12 rfl rfl)
theorem dX6_part_151 : decode cX6_part 151 = .ok (.aload_n 0, 1) := dk_42 (dk_at dksX6_part_6 15 rfl rfl)
theorem dX6_part_152 : decode cX6_part 152 = .ok (.aload_n 0, 1) := dk_42 (dk_at dksX6_part_6 16 rfl rfl)
theorem dX6_part_153 : decode cX6_part 153 = .ok (.getfield 75, 3) := dk_180 0 75 (dk_at dksX6_part_6 17 rfl rfl)
theorem dX6_part_156 : decode cX6_part 156 = .ok (.invokevirtual 100, 3) := dk_182 0 100 (dk_at dksX6_part_6 20 rfl rfl)
theorem dX6_part_159 : decode cX6_part 159 = .ok (.iconst 0, 1) := dk_3 (dk_at dksX6_part_6 23 rfl rfl)
theorem dX6_part_160 : decode cX6_part 160 = .ok (.ireturn, 1) := dk_172 (dk_at dksX6_part_7 0 rfl rfl)
theorem dX6_part_161 : decode cX6_part 161 = .ok (.aload_n 0, 1) := dk_42 (dk_at dksX6_part_7 1 rfl rfl)
theorem dX6_part_162 : decode cX6_part 162 = .ok (.getfield 29, 3) := dk_180 0 29 (dk_at dksX6_part_7 2 rfl rfl)
theorem dX6_part_165 : decode cX6_part 165 = .ok (.iload_n 1, 1) := dk_27 (dk_at dksX6_part_7 5 rfl rfl)
theorem dX6_part_166 : decode cX6_part 166 = .ok (.iaload, 1) := dk_46 (dk_at dksX6_part_7 6 rfl rfl)
theorem dX6_part_167 : decode cX6_part 167 = .ok (.ireturn, 1) := dk_172 (dk_at dksX6_part_7 7 rfl rfl)
abbrev cX6_valleyLine : ByteArray := prog_19_method_33_code
def yX6_valleyLine : MethodName := ⟨RX6, "valleyLine", "()V"⟩
def dkwX6_valleyLine_7 : List UInt8 := [167, 0, 11, 42, 42, 180, 0, 75, 182, 0, 100, 177]
abbrev dktX6_valleyLine_7 : List UInt8 := dkwX6_valleyLine_7 ++ []
def dkwX6_valleyLine_6 : List UInt8 := [182, 0, 157, 167, 0, 32, 42, 18, 160, 182, 0, 104, 153, 0, 15, 42, 8, 3, 17, 3, 231, 182, 0, 157]
abbrev dktX6_valleyLine_6 : List UInt8 := dkwX6_valleyLine_6 ++ dktX6_valleyLine_7
def dkwX6_valleyLine_5 : List UInt8 := [16, 21, 28, 96, 4, 79, 167, 0, 53, 42, 18, 155, 182, 0, 104, 153, 0, 15, 42, 16, 6, 4, 16, 99]
abbrev dktX6_valleyLine_5 : List UInt8 := dkwX6_valleyLine_5 ++ dktX6_valleyLine_6
def dkwX6_valleyLine_4 : List UInt8 := [153, 0, 32, 42, 3, 16, 11, 182, 0, 108, 61, 42, 180, 0, 25, 2, 160, 0, 13, 42, 180, 0, 7]
abbrev dktX6_valleyLine_4 : List UInt8 := dkwX6_valleyLine_4 ++ dktX6_valleyLine_5
def dkwX6_valleyLine_3 : List UInt8 := [160, 0, 13, 42, 180, 0, 7, 16, 9, 28, 96, 29, 79, 167, 0, 91, 42, 18, 153, 182, 0, 104]
abbrev dktX6_valleyLine_3 : List UInt8 := dkwX6_valleyLine_3 ++ dktX6_valleyLine_4
def dkwX6_valleyLine_2 : List UInt8 := [153, 0, 39, 42, 3, 16, 11, 182, 0, 108, 61, 42, 3, 6, 182, 0, 108, 62, 42, 180, 0, 25, 2]
abbrev dktX6_valleyLine_2 : List UInt8 := dkwX6_valleyLine_2 ++ dktX6_valleyLine_3
def dkwX6_valleyLine_1 : List UInt8 := [18, 146, 182, 0, 104, 153, 0, 11, 42, 27, 182, 0, 148, 167, 0, 136, 42, 18, 151, 182, 0, 104]
abbrev dktX6_valleyLine_1 : List UInt8 := dkwX6_valleyLine_1 ++ dktX6_valleyLine_2
def dkwX6_valleyLine_0 : List UInt8 := [42, 182, 0, 97, 60, 42, 18, 141, 182, 0, 104, 153, 0, 11, 42, 27, 182, 0, 143, 167, 0, 153, 42]
abbrev dktX6_valleyLine_0 : List UInt8 := dkwX6_valleyLine_0 ++ dktX6_valleyLine_1
theorem dksX6_valleyLine_0 : cX6_valleyLine.data.toList.drop 0 = dktX6_valleyLine_0 := by decide +kernel
theorem dksX6_valleyLine_1 : cX6_valleyLine.data.toList.drop 23 = dktX6_valleyLine_1 := dk_seg dksX6_valleyLine_0 23 rfl rfl
theorem dksX6_valleyLine_2 : cX6_valleyLine.data.toList.drop 45 = dktX6_valleyLine_2 := dk_seg dksX6_valleyLine_1 22 rfl rfl
theorem dksX6_valleyLine_3 : cX6_valleyLine.data.toList.drop 68 = dktX6_valleyLine_3 := dk_seg dksX6_valleyLine_2 23 rfl rfl
theorem dksX6_valleyLine_4 : cX6_valleyLine.data.toList.drop 90 = dktX6_valleyLine_4 := dk_seg dksX6_valleyLine_3 22 rfl rfl
theorem dksX6_valleyLine_5 : cX6_valleyLine.data.toList.drop 113 = dktX6_valleyLine_5 := dk_seg dksX6_valleyLine_4 23 rfl rfl
theorem dksX6_valleyLine_6 : cX6_valleyLine.data.toList.drop 137 = dktX6_valleyLine_6 := dk_seg dksX6_valleyLine_5 24 rfl rfl
theorem dksX6_valleyLine_7 : cX6_valleyLine.data.toList.drop 161 = dktX6_valleyLine_7 := dk_seg dksX6_valleyLine_6 24 rfl rfl
theorem dX6_valleyLine_0 : decode cX6_valleyLine 0 = .ok (.aload_n 0, 1) := dk_42 (dk_at dksX6_valleyLine_0 0 rfl rfl)
theorem dX6_valleyLine_1 : decode cX6_valleyLine 1 = .ok (.invokevirtual 97, 3) := dk_182 0 97 (dk_at dksX6_valleyLine_0 1 rfl rfl)
theorem dX6_valleyLine_4 : decode cX6_valleyLine 4 = .ok (.istore_n 1, 1) := dk_60 (dk_at dksX6_valleyLine_0 4 rfl rfl)
theorem dX6_valleyLine_5 : decode cX6_valleyLine 5 = .ok (.aload_n 0, 1) := dk_42 (dk_at dksX6_valleyLine_0 5 rfl rfl)
theorem dX6_valleyLine_6 : decode cX6_valleyLine 6 = .ok (.ldc 141, 2) := dk_18 141 (dk_at dksX6_valleyLine_0 6 rfl rfl)
theorem dX6_valleyLine_8 : decode cX6_valleyLine 8 = .ok (.invokevirtual 104, 3) := dk_182 0 104 (dk_at dksX6_valleyLine_0 8 rfl rfl)
theorem dX6_valleyLine_11 : decode cX6_valleyLine 11 = .ok (.ifCond .eq 11, 3) := dk_153 0 11 (dk_at dksX6_valleyLine_0 11 rfl rfl)
theorem dX6_valleyLine_14 : decode cX6_valleyLine 14 = .ok (.aload_n 0, 1) := dk_42 (dk_at dksX6_valleyLine_0 14 rfl rfl)
theorem dX6_valleyLine_15 : decode cX6_valleyLine 15 = .ok (.iload_n 1, 1) := dk_27 (dk_at dksX6_valleyLine_0 15 rfl rfl)
theorem dX6_valleyLine_16 : decode cX6_valleyLine 16 = .ok (.invokevirtual 143, 3) := dk_182 0 143 (dk_at dksX6_valleyLine_0 16 rfl rfl)
theorem dX6_valleyLine_19 : decode cX6_valleyLine 19 = .ok (.goto 153, 3) := dk_167 0 153 (dk_at dksX6_valleyLine_0 19 rfl rfl)
theorem dX6_valleyLine_22 : decode cX6_valleyLine 22 = .ok (.aload_n 0, 1) := dk_42 (dk_at dksX6_valleyLine_0 22 rfl rfl)
theorem dX6_valleyLine_23 : decode cX6_valleyLine 23 = .ok (.ldc 146, 2) := dk_18 146 (dk_at dksX6_valleyLine_1 0 rfl rfl)
theorem dX6_valleyLine_25 : decode cX6_valleyLine 25 = .ok (.invokevirtual 104, 3) := dk_182 0 104 (dk_at dksX6_valleyLine_1 2 rfl rfl)
theorem dX6_valleyLine_28 : decode cX6_valleyLine 28 = .ok (.ifCond .eq 11, 3) := dk_153 0 11 (dk_at dksX6_valleyLine_1 5 rfl rfl)
theorem dX6_valleyLine_31 : decode cX6_valleyLine 31 = .ok (.aload_n 0, 1) := dk_42 (dk_at dksX6_valleyLine_1 8 rfl rfl)
theorem dX6_valleyLine_32 : decode cX6_valleyLine 32 = .ok (.iload_n 1, 1) := dk_27 (dk_at dksX6_valleyLine_1 9 rfl rfl)
theorem dX6_valleyLine_33 : decode cX6_valleyLine 33 = .ok (.invokevirtual 148, 3) := dk_182 0 148 (dk_at dksX6_valleyLine_1 10 rfl rfl)
theorem dX6_valleyLine_36 : decode cX6_valleyLine 36 = .ok (.goto 136, 3) := dk_167 0 136 (dk_at dksX6_valleyLine_1 13 rfl rfl)
theorem dX6_valleyLine_39 : decode cX6_valleyLine 39 = .ok (.aload_n 0, 1) := dk_42 (dk_at dksX6_valleyLine_1 16 rfl rfl)
theorem dX6_valleyLine_40 : decode cX6_valleyLine 40 = .ok (.ldc 151, 2) := dk_18 151 (dk_at dksX6_valleyLine_1 17 rfl rfl)
theorem dX6_valleyLine_42 : decode cX6_valleyLine 42 = .ok (.invokevirtual 104, 3) := dk_182 0 104 (dk_at dksX6_valleyLine_1 19 rfl rfl)
theorem dX6_valleyLine_45 : decode cX6_valleyLine 45 = .ok (.ifCond .eq 39, 3) := dk_153 0 39 (dk_at dksX6_valleyLine_2 0 rfl rfl)
theorem dX6_valleyLine_48 : decode cX6_valleyLine 48 = .ok (.aload_n 0, 1) := dk_42 (dk_at dksX6_valleyLine_2 3 rfl rfl)
theorem dX6_valleyLine_49 : decode cX6_valleyLine 49 = .ok (.iconst 0, 1) := dk_3 (dk_at dksX6_valleyLine_2 4 rfl rfl)
theorem dX6_valleyLine_50 : decode cX6_valleyLine 50 = .ok (.bipush 11, 2) := dk_16 11 (dk_at dksX6_valleyLine_2 5 rfl rfl)
theorem dX6_valleyLine_52 : decode cX6_valleyLine 52 = .ok (.invokevirtual 108, 3) := dk_182 0 108 (dk_at dksX6_valleyLine_2 7 rfl rfl)
theorem dX6_valleyLine_55 : decode cX6_valleyLine 55 = .ok (.istore_n 2, 1) := dk_61 (dk_at dksX6_valleyLine_2 10 rfl rfl)
theorem dX6_valleyLine_56 : decode cX6_valleyLine 56 = .ok (.aload_n 0, 1) := dk_42 (dk_at dksX6_valleyLine_2 11 rfl rfl)
theorem dX6_valleyLine_57 : decode cX6_valleyLine 57 = .ok (.iconst 0, 1) := dk_3 (dk_at dksX6_valleyLine_2 12 rfl rfl)
theorem dX6_valleyLine_58 : decode cX6_valleyLine 58 = .ok (.iconst 3, 1) := dk_6 (dk_at dksX6_valleyLine_2 13 rfl rfl)
theorem dX6_valleyLine_59 : decode cX6_valleyLine 59 = .ok (.invokevirtual 108, 3) := dk_182 0 108 (dk_at dksX6_valleyLine_2 14 rfl rfl)
theorem dX6_valleyLine_62 : decode cX6_valleyLine 62 = .ok (.istore_n 3, 1) := dk_62 (dk_at dksX6_valleyLine_2 17 rfl rfl)
theorem dX6_valleyLine_63 : decode cX6_valleyLine 63 = .ok (.aload_n 0, 1) := dk_42 (dk_at dksX6_valleyLine_2 18 rfl rfl)
theorem dX6_valleyLine_64 : decode cX6_valleyLine 64 = .ok (.getfield 25, 3) := dk_180 0 25 (dk_at dksX6_valleyLine_2 19 rfl rfl)
theorem dX6_valleyLine_67 : decode cX6_valleyLine 67 = .ok (.iconst (-1), 1) := dk_2 (dk_at dksX6_valleyLine_2 22 rfl rfl)
theorem dX6_valleyLine_68 : decode cX6_valleyLine 68 = .ok (.if_icmp .ne 13, 3) := dk_160 0 13 (dk_at dksX6_valleyLine_3 0 rfl rfl)
theorem dX6_valleyLine_71 : decode cX6_valleyLine 71 = .ok (.aload_n 0, 1) := dk_42 (dk_at dksX6_valleyLine_3 3 rfl rfl)
theorem dX6_valleyLine_72 : decode cX6_valleyLine 72 = .ok (.getfield 7, 3) := dk_180 0 7 (dk_at dksX6_valleyLine_3 4 rfl rfl)
theorem dX6_valleyLine_75 : decode cX6_valleyLine 75 = .ok (.bipush 9, 2) := dk_16 9 (dk_at dksX6_valleyLine_3 7 rfl rfl)
theorem dX6_valleyLine_77 : decode cX6_valleyLine 77 = .ok (.iload_n 2, 1) := dk_28 (dk_at dksX6_valleyLine_3 9 rfl rfl)
theorem dX6_valleyLine_78 : decode cX6_valleyLine 78 = .ok (.iadd, 1) := dk_96 (dk_at dksX6_valleyLine_3 10 rfl rfl)
theorem dX6_valleyLine_79 : decode cX6_valleyLine 79 = .ok (.iload_n 3, 1) := dk_29 (dk_at dksX6_valleyLine_3 11 rfl rfl)
theorem dX6_valleyLine_80 : decode cX6_valleyLine 80 = .ok (.iastore, 1) := dk_79 (dk_at dksX6_valleyLine_3 12 rfl rfl)
theorem dX6_valleyLine_81 : decode cX6_valleyLine 81 = .ok (.goto 91, 3) := dk_167 0 91 (dk_at dksX6_valleyLine_3 13 rfl rfl)
theorem dX6_valleyLine_84 : decode cX6_valleyLine 84 = .ok (.aload_n 0, 1) := dk_42 (dk_at dksX6_valleyLine_3 16 rfl rfl)
theorem dX6_valleyLine_85 : decode cX6_valleyLine 85 = .ok (.ldc 153, 2) := dk_18 153 (dk_at dksX6_valleyLine_3 17 rfl rfl)
theorem dX6_valleyLine_87 : decode cX6_valleyLine 87 = .ok (.invokevirtual 104, 3) := dk_182 0 104 (dk_at dksX6_valleyLine_3 19 rfl rfl)
theorem dX6_valleyLine_90 : decode cX6_valleyLine 90 = .ok (.ifCond .eq 32, 3) := dk_153 0 32 (dk_at dksX6_valleyLine_4 0 rfl rfl)
theorem dX6_valleyLine_93 : decode cX6_valleyLine 93 = .ok (.aload_n 0, 1) := dk_42 (dk_at dksX6_valleyLine_4 3 rfl rfl)
theorem dX6_valleyLine_94 : decode cX6_valleyLine 94 = .ok (.iconst 0, 1) := dk_3 (dk_at dksX6_valleyLine_4 4 rfl rfl)
theorem dX6_valleyLine_95 : decode cX6_valleyLine 95 = .ok (.bipush 11, 2) := dk_16 11 (dk_at dksX6_valleyLine_4 5 rfl rfl)
theorem dX6_valleyLine_97 : decode cX6_valleyLine 97 = .ok (.invokevirtual 108, 3) := dk_182 0 108 (dk_at dksX6_valleyLine_4 7 rfl rfl)
theorem dX6_valleyLine_100 : decode cX6_valleyLine 100 = .ok (.istore_n 2, 1) := dk_61 (dk_at dksX6_valleyLine_4 10 rfl rfl)
theorem dX6_valleyLine_101 : decode cX6_valleyLine 101 = .ok (.aload_n 0, 1) := dk_42 (dk_at dksX6_valleyLine_4 11 rfl rfl)
theorem dX6_valleyLine_102 : decode cX6_valleyLine 102 = .ok (.getfield 25, 3) := dk_180 0 25 (dk_at dksX6_valleyLine_4 12 rfl rfl)
theorem dX6_valleyLine_105 : decode cX6_valleyLine 105 = .ok (.iconst (-1), 1) := dk_2 (dk_at dksX6_valleyLine_4 15 rfl rfl)
theorem dX6_valleyLine_106 : decode cX6_valleyLine 106 = .ok (.if_icmp .ne 13, 3) := dk_160 0 13 (dk_at dksX6_valleyLine_4 16 rfl rfl)
theorem dX6_valleyLine_109 : decode cX6_valleyLine 109 = .ok (.aload_n 0, 1) := dk_42 (dk_at dksX6_valleyLine_4 19 rfl rfl)
theorem dX6_valleyLine_110 : decode cX6_valleyLine 110 = .ok (.getfield 7, 3) := dk_180 0 7 (dk_at dksX6_valleyLine_4 20 rfl rfl)
theorem dX6_valleyLine_113 : decode cX6_valleyLine 113 = .ok (.bipush 21, 2) := dk_16 21 (dk_at dksX6_valleyLine_5 0 rfl rfl)
theorem dX6_valleyLine_115 : decode cX6_valleyLine 115 = .ok (.iload_n 2, 1) := dk_28 (dk_at dksX6_valleyLine_5 2 rfl rfl)
theorem dX6_valleyLine_116 : decode cX6_valleyLine 116 = .ok (.iadd, 1) := dk_96 (dk_at dksX6_valleyLine_5 3 rfl rfl)
theorem dX6_valleyLine_117 : decode cX6_valleyLine 117 = .ok (.iconst 1, 1) := dk_4 (dk_at dksX6_valleyLine_5 4 rfl rfl)
theorem dX6_valleyLine_118 : decode cX6_valleyLine 118 = .ok (.iastore, 1) := dk_79 (dk_at dksX6_valleyLine_5 5 rfl rfl)
theorem dX6_valleyLine_119 : decode cX6_valleyLine 119 = .ok (.goto 53, 3) := dk_167 0 53 (dk_at dksX6_valleyLine_5 6 rfl rfl)
theorem dX6_valleyLine_122 : decode cX6_valleyLine 122 = .ok (.aload_n 0, 1) := dk_42 (dk_at dksX6_valleyLine_5 9 rfl rfl)
theorem dX6_valleyLine_123 : decode cX6_valleyLine 123 = .ok (.ldc 155, 2) := dk_18 155 (dk_at dksX6_valleyLine_5 10 rfl rfl)
theorem dX6_valleyLine_125 : decode cX6_valleyLine 125 = .ok (.invokevirtual 104, 3) := dk_182 0 104 (dk_at dksX6_valleyLine_5 12 rfl rfl)
theorem dX6_valleyLine_128 : decode cX6_valleyLine 128 = .ok (.ifCond .eq 15, 3) := dk_153 0 15 (dk_at dksX6_valleyLine_5 15 rfl rfl)
theorem dX6_valleyLine_131 : decode cX6_valleyLine 131 = .ok (.aload_n 0, 1) := dk_42 (dk_at dksX6_valleyLine_5 18 rfl rfl)
theorem dX6_valleyLine_132 : decode cX6_valleyLine 132 = .ok (.bipush 6, 2) := dk_16 6 (dk_at dksX6_valleyLine_5 19 rfl rfl)
theorem dX6_valleyLine_134 : decode cX6_valleyLine 134 = .ok (.iconst 1, 1) := dk_4 (dk_at dksX6_valleyLine_5 21 rfl rfl)
theorem dX6_valleyLine_135 : decode cX6_valleyLine 135 = .ok (.bipush 99, 2) := dk_16 99 (dk_at dksX6_valleyLine_5 22 rfl rfl)
theorem dX6_valleyLine_137 : decode cX6_valleyLine 137 = .ok (.invokevirtual 157, 3) := dk_182 0 157 (dk_at dksX6_valleyLine_6 0 rfl rfl)
theorem dX6_valleyLine_140 : decode cX6_valleyLine 140 = .ok (.goto 32, 3) := dk_167 0 32 (dk_at dksX6_valleyLine_6 3 rfl rfl)
theorem dX6_valleyLine_143 : decode cX6_valleyLine 143 = .ok (.aload_n 0, 1) := dk_42 (dk_at dksX6_valleyLine_6 6 rfl rfl)
theorem dX6_valleyLine_144 : decode cX6_valleyLine 144 = .ok (.ldc 160, 2) := dk_18 160 (dk_at dksX6_valleyLine_6 7 rfl rfl)
theorem dX6_valleyLine_146 : decode cX6_valleyLine 146 = .ok (.invokevirtual 104, 3) := dk_182 0 104 (dk_at dksX6_valleyLine_6 9 rfl rfl)
theorem dX6_valleyLine_149 : decode cX6_valleyLine 149 = .ok (.ifCond .eq 15, 3) := dk_153 0 15 (dk_at dksX6_valleyLine_6 12 rfl rfl)
theorem dX6_valleyLine_152 : decode cX6_valleyLine 152 = .ok (.aload_n 0, 1) := dk_42 (dk_at dksX6_valleyLine_6 15 rfl rfl)
theorem dX6_valleyLine_153 : decode cX6_valleyLine 153 = .ok (.iconst 5, 1) := dk_8 (dk_at dksX6_valleyLine_6 16 rfl rfl)
theorem dX6_valleyLine_154 : decode cX6_valleyLine 154 = .ok (.iconst 0, 1) := dk_3 (dk_at dksX6_valleyLine_6 17 rfl rfl)
theorem dX6_valleyLine_155 : decode cX6_valleyLine 155 = .ok (.sipush 999, 3) := dk_17 3 231 (dk_at dksX6_valleyLine_6 18 rfl rfl)
theorem dX6_valleyLine_158 : decode cX6_valleyLine 158 = .ok (.invokevirtual 157, 3) := dk_182 0 157 (dk_at dksX6_valleyLine_6 21 rfl rfl)
theorem dX6_valleyLine_161 : decode cX6_valleyLine 161 = .ok (.goto 11, 3) := dk_167 0 11 (dk_at dksX6_valleyLine_7 0 rfl rfl)
theorem dX6_valleyLine_164 : decode cX6_valleyLine 164 = .ok (.aload_n 0, 1) := dk_42 (dk_at dksX6_valleyLine_7 3 rfl rfl)
theorem dX6_valleyLine_165 : decode cX6_valleyLine 165 = .ok (.aload_n 0, 1) := dk_42 (dk_at dksX6_valleyLine_7 4 rfl rfl)
theorem dX6_valleyLine_166 : decode cX6_valleyLine 166 = .ok (.getfield 75, 3) := dk_180 0 75 (dk_at dksX6_valleyLine_7 5 rfl rfl)
theorem dX6_valleyLine_169 : decode cX6_valleyLine 169 = .ok (.invokevirtual 100, 3) := dk_182 0 100 (dk_at dksX6_valleyLine_7 8 rfl rfl)
theorem dX6_valleyLine_172 : decode cX6_valleyLine 172 = .ok (.return_, 1) := dk_177 (dk_at dksX6_valleyLine_7 11 rfl rfl)
abbrev cX6_personLine : ByteArray := prog_19_method_29_code
def yX6_personLine : MethodName := ⟨RX6, "personLine", "(I)V"⟩
def dkwX6_personLine_6 : List UInt8 := [3, 182, 0, 120, 42, 180, 0, 7, 6, 92, 46, 4, 96, 79, 177]
abbrev dktX6_personLine_6 : List UInt8 := dkwX6_personLine_6 ++ []
def dkwX6_personLine_5 : List UInt8 := [182, 0, 120, 42, 21, 6, 6, 21, 5, 182, 0, 120, 42, 21, 6, 7, 3, 182, 0, 120, 42, 21, 6, 8]
abbrev dktX6_personLine_5 : List UInt8 := dkwX6_personLine_5 ++ dktX6_personLine_6
def dkwX6_personLine_4 : List UInt8 := [42, 21, 6, 3, 28, 182, 0, 120, 42, 21, 6, 4, 29, 182, 0, 120, 42, 21, 6, 5, 21, 4]
abbrev dktX6_personLine_4 : List UInt8 := dkwX6_personLine_4 ++ dktX6_personLine_5
def dkwX6_personLine_3 : List UInt8 := [167, 0, 5, 21, 4, 54, 5, 42, 180, 0, 25, 2, 159, 0, 4, 177, 42, 180, 0, 7, 6, 46, 54, 6]
abbrev dktX6_personLine_3 : List UInt8 := dkwX6_personLine_3 ++ dktX6_personLine_4
def dkwX6_personLine_2 : List UInt8 := [180, 0, 25, 2, 160, 0, 22, 42, 18, 118, 182, 0, 104, 153, 0, 13, 42, 3, 16, 11, 182, 0, 108]
abbrev dktX6_personLine_2 : List UInt8 := dkwX6_personLine_2 ++ dktX6_personLine_3
def dkwX6_personLine_1 : List UInt8 := [61, 42, 18, 111, 4, 16, 60, 182, 0, 113, 62, 42, 18, 117, 3, 16, 11, 182, 0, 113, 54, 4, 42]
abbrev dktX6_personLine_1 : List UInt8 := dkwX6_personLine_1 ++ dktX6_personLine_2
def dkwX6_personLine_0 : List UInt8 := [42, 180, 0, 7, 6, 46, 16, 6, 160, 0, 8, 42, 27, 182, 0, 100, 42, 3, 17, 3, 231, 182, 0, 108]
abbrev dktX6_personLine_0 : List UInt8 := dkwX6_personLine_0 ++ dktX6_personLine_1
theorem dksX6_personLine_0 : cX6_personLine.data.toList.drop 0 = dktX6_personLine_0 := by decide +kernel
theorem dksX6_personLine_1 : cX6_personLine.data.toList.drop 24 = dktX6_personLine_1 := dk_seg dksX6_personLine_0 24 rfl rfl
theorem dksX6_personLine_2 : cX6_personLine.data.toList.drop 47 = dktX6_personLine_2 := dk_seg dksX6_personLine_1 23 rfl rfl
theorem dksX6_personLine_3 : cX6_personLine.data.toList.drop 70 = dktX6_personLine_3 := dk_seg dksX6_personLine_2 23 rfl rfl
theorem dksX6_personLine_4 : cX6_personLine.data.toList.drop 94 = dktX6_personLine_4 := dk_seg dksX6_personLine_3 24 rfl rfl
theorem dksX6_personLine_5 : cX6_personLine.data.toList.drop 116 = dktX6_personLine_5 := dk_seg dksX6_personLine_4 22 rfl rfl
theorem dksX6_personLine_6 : cX6_personLine.data.toList.drop 140 = dktX6_personLine_6 := dk_seg dksX6_personLine_5 24 rfl rfl
theorem dX6_personLine_0 : decode cX6_personLine 0 = .ok (.aload_n 0, 1) := dk_42 (dk_at dksX6_personLine_0 0 rfl rfl)
theorem dX6_personLine_1 : decode cX6_personLine 1 = .ok (.getfield 7, 3) := dk_180 0 7 (dk_at dksX6_personLine_0 1 rfl rfl)
theorem dX6_personLine_4 : decode cX6_personLine 4 = .ok (.iconst 3, 1) := dk_6 (dk_at dksX6_personLine_0 4 rfl rfl)
theorem dX6_personLine_5 : decode cX6_personLine 5 = .ok (.iaload, 1) := dk_46 (dk_at dksX6_personLine_0 5 rfl rfl)
theorem dX6_personLine_6 : decode cX6_personLine 6 = .ok (.bipush 6, 2) := dk_16 6 (dk_at dksX6_personLine_0 6 rfl rfl)
theorem dX6_personLine_8 : decode cX6_personLine 8 = .ok (.if_icmp .ne 8, 3) := dk_160 0 8 (dk_at dksX6_personLine_0 8 rfl rfl)
theorem dX6_personLine_11 : decode cX6_personLine 11 = .ok (.aload_n 0, 1) := dk_42 (dk_at dksX6_personLine_0 11 rfl rfl)
theorem dX6_personLine_12 : decode cX6_personLine 12 = .ok (.iload_n 1, 1) := dk_27 (dk_at dksX6_personLine_0 12 rfl rfl)
theorem dX6_personLine_13 : decode cX6_personLine 13 = .ok (.invokevirtual 100, 3) := dk_182 0 100 (dk_at dksX6_personLine_0 13 rfl rfl)
theorem dX6_personLine_16 : decode cX6_personLine 16 = .ok (.aload_n 0, 1) := dk_42 (dk_at dksX6_personLine_0 16 rfl rfl)
theorem dX6_personLine_17 : decode cX6_personLine 17 = .ok (.iconst 0, 1) := dk_3 (dk_at dksX6_personLine_0 17 rfl rfl)
theorem dX6_personLine_18 : decode cX6_personLine 18 = .ok (.sipush 999, 3) := dk_17 3 231 (dk_at dksX6_personLine_0 18 rfl rfl)
theorem dX6_personLine_21 : decode cX6_personLine 21 = .ok (.invokevirtual 108, 3) := dk_182 0 108 (dk_at dksX6_personLine_0 21 rfl rfl)
theorem dX6_personLine_24 : decode cX6_personLine 24 = .ok (.istore_n 2, 1) := dk_61 (dk_at dksX6_personLine_1 0 rfl rfl)
theorem dX6_personLine_25 : decode cX6_personLine 25 = .ok (.aload_n 0, 1) := dk_42 (dk_at dksX6_personLine_1 1 rfl rfl)
theorem dX6_personLine_26 : decode cX6_personLine 26 = .ok (.ldc 111, 2) := dk_18 111 (dk_at dksX6_personLine_1 2 rfl rfl)
theorem dX6_personLine_28 : decode cX6_personLine 28 = .ok (.iconst 1, 1) := dk_4 (dk_at dksX6_personLine_1 4 rfl rfl)
theorem dX6_personLine_29 : decode cX6_personLine 29 = .ok (.bipush 60, 2) := dk_16 60 (dk_at dksX6_personLine_1 5 rfl rfl)
theorem dX6_personLine_31 : decode cX6_personLine 31 = .ok (.invokevirtual 113, 3) := dk_182 0 113 (dk_at dksX6_personLine_1 7 rfl rfl)
theorem dX6_personLine_34 : decode cX6_personLine 34 = .ok (.istore_n 3, 1) := dk_62 (dk_at dksX6_personLine_1 10 rfl rfl)
theorem dX6_personLine_35 : decode cX6_personLine 35 = .ok (.aload_n 0, 1) := dk_42 (dk_at dksX6_personLine_1 11 rfl rfl)
theorem dX6_personLine_36 : decode cX6_personLine 36 = .ok (.ldc 117, 2) := dk_18 117 (dk_at dksX6_personLine_1 12 rfl rfl)
theorem dX6_personLine_38 : decode cX6_personLine 38 = .ok (.iconst 0, 1) := dk_3 (dk_at dksX6_personLine_1 14 rfl rfl)
theorem dX6_personLine_39 : decode cX6_personLine 39 = .ok (.bipush 11, 2) := dk_16 11 (dk_at dksX6_personLine_1 15 rfl rfl)
theorem dX6_personLine_41 : decode cX6_personLine 41 = .ok (.invokevirtual 113, 3) := dk_182 0 113 (dk_at dksX6_personLine_1 17 rfl rfl)
theorem dX6_personLine_44 : decode cX6_personLine 44 = .ok (.istore 4, 2) := dk_54 4 (dk_at dksX6_personLine_1 20 rfl rfl)
theorem dX6_personLine_46 : decode cX6_personLine 46 = .ok (.aload_n 0, 1) := dk_42 (dk_at dksX6_personLine_1 22 rfl rfl)
theorem dX6_personLine_47 : decode cX6_personLine 47 = .ok (.getfield 25, 3) := dk_180 0 25 (dk_at dksX6_personLine_2 0 rfl rfl)
theorem dX6_personLine_50 : decode cX6_personLine 50 = .ok (.iconst (-1), 1) := dk_2 (dk_at dksX6_personLine_2 3 rfl rfl)
theorem dX6_personLine_51 : decode cX6_personLine 51 = .ok (.if_icmp .ne 22, 3) := dk_160 0 22 (dk_at dksX6_personLine_2 4 rfl rfl)
theorem dX6_personLine_54 : decode cX6_personLine 54 = .ok (.aload_n 0, 1) := dk_42 (dk_at dksX6_personLine_2 7 rfl rfl)
theorem dX6_personLine_55 : decode cX6_personLine 55 = .ok (.ldc 118, 2) := dk_18 118 (dk_at dksX6_personLine_2 8 rfl rfl)
theorem dX6_personLine_57 : decode cX6_personLine 57 = .ok (.invokevirtual 104, 3) := dk_182 0 104 (dk_at dksX6_personLine_2 10 rfl rfl)
theorem dX6_personLine_60 : decode cX6_personLine 60 = .ok (.ifCond .eq 13, 3) := dk_153 0 13 (dk_at dksX6_personLine_2 13 rfl rfl)
theorem dX6_personLine_63 : decode cX6_personLine 63 = .ok (.aload_n 0, 1) := dk_42 (dk_at dksX6_personLine_2 16 rfl rfl)
theorem dX6_personLine_64 : decode cX6_personLine 64 = .ok (.iconst 0, 1) := dk_3 (dk_at dksX6_personLine_2 17 rfl rfl)
theorem dX6_personLine_65 : decode cX6_personLine 65 = .ok (.bipush 11, 2) := dk_16 11 (dk_at dksX6_personLine_2 18 rfl rfl)
theorem dX6_personLine_67 : decode cX6_personLine 67 = .ok (.invokevirtual 108, 3) := dk_182 0 108 (dk_at dksX6_personLine_2 20 rfl rfl)
theorem dX6_personLine_70 : decode cX6_personLine 70 = .ok (.goto 5, 3) := dk_167 0 5 (dk_at dksX6_personLine_3 0 rfl rfl)
theorem dX6_personLine_73 : decode cX6_personLine 73 = .ok (.iload 4, 2) := dk_21 4 (dk_at dksX6_personLine_3 3 rfl rfl)
theorem dX6_personLine_75 : decode cX6_personLine 75 = .ok (.istore 5, 2) := dk_54 5 (dk_at dksX6_personLine_3 5 rfl rfl)
theorem dX6_personLine_77 : decode cX6_personLine 77 = .ok (.aload_n 0, 1) := dk_42 (dk_at dksX6_personLine_3 7 rfl rfl)
theorem dX6_personLine_78 : decode cX6_personLine 78 = .ok (.getfield 25, 3) := dk_180 0 25 (dk_at dksX6_personLine_3 8 rfl rfl)
theorem dX6_personLine_81 : decode cX6_personLine 81 = .ok (.iconst (-1), 1) := dk_2 (dk_at dksX6_personLine_3 11 rfl rfl)
theorem dX6_personLine_82 : decode cX6_personLine 82 = .ok (.if_icmp .eq 4, 3) := dk_159 0 4 (dk_at dksX6_personLine_3 12 rfl rfl)
theorem dX6_personLine_85 : decode cX6_personLine 85 = .ok (.return_, 1) := dk_177 (dk_at dksX6_personLine_3 15 rfl rfl)
theorem dX6_personLine_86 : decode cX6_personLine 86 = .ok (.aload_n 0, 1) := dk_42 (dk_at dksX6_personLine_3 16 rfl rfl)
theorem dX6_personLine_87 : decode cX6_personLine 87 = .ok (.getfield 7, 3) := dk_180 0 7 (dk_at dksX6_personLine_3 17 rfl rfl)
theorem dX6_personLine_90 : decode cX6_personLine 90 = .ok (.iconst 3, 1) := dk_6 (dk_at dksX6_personLine_3 20 rfl rfl)
theorem dX6_personLine_91 : decode cX6_personLine 91 = .ok (.iaload, 1) := dk_46 (dk_at dksX6_personLine_3 21 rfl rfl)
theorem dX6_personLine_92 : decode cX6_personLine 92 = .ok (.istore 6, 2) := dk_54 6 (dk_at dksX6_personLine_3 22 rfl rfl)
theorem dX6_personLine_94 : decode cX6_personLine 94 = .ok (.aload_n 0, 1) := dk_42 (dk_at dksX6_personLine_4 0 rfl rfl)
theorem dX6_personLine_95 : decode cX6_personLine 95 = .ok (.iload 6, 2) := dk_21 6 (dk_at dksX6_personLine_4 1 rfl rfl)
theorem dX6_personLine_97 : decode cX6_personLine 97 = .ok (.iconst 0, 1) := dk_3 (dk_at dksX6_personLine_4 3 rfl rfl)
theorem dX6_personLine_98 : decode cX6_personLine 98 = .ok (.iload_n 2, 1) := dk_28 (dk_at dksX6_personLine_4 4 rfl rfl)
theorem dX6_personLine_99 : decode cX6_personLine 99 = .ok (.invokevirtual 120, 3) := dk_182 0 120 (dk_at dksX6_personLine_4 5 rfl rfl)
theorem dX6_personLine_102 : decode cX6_personLine 102 = .ok (.aload_n 0, 1) := dk_42 (dk_at dksX6_personLine_4 8 rfl rfl)
theorem dX6_personLine_103 : decode cX6_personLine 103 = .ok (.iload 6, 2) := dk_21 6 (dk_at dksX6_personLine_4 9 rfl rfl)
theorem dX6_personLine_105 : decode cX6_personLine 105 = .ok (.iconst 1, 1) := dk_4 (dk_at dksX6_personLine_4 11 rfl rfl)
theorem dX6_personLine_106 : decode cX6_personLine 106 = .ok (.iload_n 3, 1) := dk_29 (dk_at dksX6_personLine_4 12 rfl rfl)
theorem dX6_personLine_107 : decode cX6_personLine 107 = .ok (.invokevirtual 120, 3) := dk_182 0 120 (dk_at dksX6_personLine_4 13 rfl rfl)
theorem dX6_personLine_110 : decode cX6_personLine 110 = .ok (.aload_n 0, 1) := dk_42 (dk_at dksX6_personLine_4 16 rfl rfl)
theorem dX6_personLine_111 : decode cX6_personLine 111 = .ok (.iload 6, 2) := dk_21 6 (dk_at dksX6_personLine_4 17 rfl rfl)
theorem dX6_personLine_113 : decode cX6_personLine 113 = .ok (.iconst 2, 1) := dk_5 (dk_at dksX6_personLine_4 19 rfl rfl)
theorem dX6_personLine_114 : decode cX6_personLine 114 = .ok (.iload 4, 2) := dk_21 4 (dk_at dksX6_personLine_4 20 rfl rfl)
theorem dX6_personLine_116 : decode cX6_personLine 116 = .ok (.invokevirtual 120, 3) := dk_182 0 120 (dk_at dksX6_personLine_5 0 rfl rfl)
theorem dX6_personLine_119 : decode cX6_personLine 119 = .ok (.aload_n 0, 1) := dk_42 (dk_at dksX6_personLine_5 3 rfl rfl)
theorem dX6_personLine_120 : decode cX6_personLine 120 = .ok (.iload 6, 2) := dk_21 6 (dk_at dksX6_personLine_5 4 rfl rfl)
theorem dX6_personLine_122 : decode cX6_personLine 122 = .ok (.iconst 3, 1) := dk_6 (dk_at dksX6_personLine_5 6 rfl rfl)
theorem dX6_personLine_123 : decode cX6_personLine 123 = .ok (.iload 5, 2) := dk_21 5 (dk_at dksX6_personLine_5 7 rfl rfl)
theorem dX6_personLine_125 : decode cX6_personLine 125 = .ok (.invokevirtual 120, 3) := dk_182 0 120 (dk_at dksX6_personLine_5 9 rfl rfl)
theorem dX6_personLine_128 : decode cX6_personLine 128 = .ok (.aload_n 0, 1) := dk_42 (dk_at dksX6_personLine_5 12 rfl rfl)
theorem dX6_personLine_129 : decode cX6_personLine 129 = .ok (.iload 6, 2) := dk_21 6 (dk_at dksX6_personLine_5 13 rfl rfl)
theorem dX6_personLine_131 : decode cX6_personLine 131 = .ok (.iconst 4, 1) := dk_7 (dk_at dksX6_personLine_5 15 rfl rfl)
theorem dX6_personLine_132 : decode cX6_personLine 132 = .ok (.iconst 0, 1) := dk_3 (dk_at dksX6_personLine_5 16 rfl rfl)
theorem dX6_personLine_133 : decode cX6_personLine 133 = .ok (.invokevirtual 120, 3) := dk_182 0 120 (dk_at dksX6_personLine_5 17 rfl rfl)
theorem dX6_personLine_136 : decode cX6_personLine 136 = .ok (.aload_n 0, 1) := dk_42 (dk_at dksX6_personLine_5 20 rfl rfl)
theorem dX6_personLine_137 : decode cX6_personLine 137 = .ok (.iload 6, 2) := dk_21 6 (dk_at dksX6_personLine_5 21 rfl rfl)
theorem dX6_personLine_139 : decode cX6_personLine 139 = .ok (.iconst 5, 1) := dk_8 (dk_at dksX6_personLine_5 23 rfl rfl)
theorem dX6_personLine_140 : decode cX6_personLine 140 = .ok (.iconst 0, 1) := dk_3 (dk_at dksX6_personLine_6 0 rfl rfl)
theorem dX6_personLine_141 : decode cX6_personLine 141 = .ok (.invokevirtual 120, 3) := dk_182 0 120 (dk_at dksX6_personLine_6 1 rfl rfl)
theorem dX6_personLine_144 : decode cX6_personLine 144 = .ok (.aload_n 0, 1) := dk_42 (dk_at dksX6_personLine_6 4 rfl rfl)
theorem dX6_personLine_145 : decode cX6_personLine 145 = .ok (.getfield 7, 3) := dk_180 0 7 (dk_at dksX6_personLine_6 5 rfl rfl)
theorem dX6_personLine_148 : decode cX6_personLine 148 = .ok (.iconst 3, 1) := dk_6 (dk_at dksX6_personLine_6 8 rfl rfl)
theorem dX6_personLine_149 : decode cX6_personLine 149 = .ok (.dup2, 1) := dk_92 (dk_at dksX6_personLine_6 9 rfl rfl)
theorem dX6_personLine_150 : decode cX6_personLine 150 = .ok (.iaload, 1) := dk_46 (dk_at dksX6_personLine_6 10 rfl rfl)
theorem dX6_personLine_151 : decode cX6_personLine 151 = .ok (.iconst 1, 1) := dk_4 (dk_at dksX6_personLine_6 11 rfl rfl)
theorem dX6_personLine_152 : decode cX6_personLine 152 = .ok (.iadd, 1) := dk_96 (dk_at dksX6_personLine_6 12 rfl rfl)
theorem dX6_personLine_153 : decode cX6_personLine 153 = .ok (.iastore, 1) := dk_79 (dk_at dksX6_personLine_6 13 rfl rfl)
theorem dX6_personLine_154 : decode cX6_personLine 154 = .ok (.return_, 1) := dk_177 (dk_at dksX6_personLine_6 14 rfl rfl)
abbrev cX6_after : ByteArray := prog_19_method_28_code
def yX6_after : MethodName := ⟨RX6, "after", "(Ljava/lang/String;II)I"⟩
def dkwX6_after_1 : List UInt8 := [42, 28, 29, 182, 0, 108, 172]
abbrev dktX6_after_1 : List UInt8 := dkwX6_after_1 ++ []
def dkwX6_after_0 : List UInt8 := [42, 180, 0, 25, 2, 160, 0, 19, 42, 43, 182, 0, 104, 154, 0, 11, 42, 42, 180, 0, 75, 182, 0, 100]
abbrev dktX6_after_0 : List UInt8 := dkwX6_after_0 ++ dktX6_after_1
theorem dksX6_after_0 : cX6_after.data.toList.drop 0 = dktX6_after_0 := by decide +kernel
theorem dksX6_after_1 : cX6_after.data.toList.drop 24 = dktX6_after_1 := dk_seg dksX6_after_0 24 rfl rfl
theorem dX6_after_0 : decode cX6_after 0 = .ok (.aload_n 0, 1) := dk_42 (dk_at dksX6_after_0 0 rfl rfl)
theorem dX6_after_1 : decode cX6_after 1 = .ok (.getfield 25, 3) := dk_180 0 25 (dk_at dksX6_after_0 1 rfl rfl)
theorem dX6_after_4 : decode cX6_after 4 = .ok (.iconst (-1), 1) := dk_2 (dk_at dksX6_after_0 4 rfl rfl)
theorem dX6_after_5 : decode cX6_after 5 = .ok (.if_icmp .ne 19, 3) := dk_160 0 19 (dk_at dksX6_after_0 5 rfl rfl)
theorem dX6_after_8 : decode cX6_after 8 = .ok (.aload_n 0, 1) := dk_42 (dk_at dksX6_after_0 8 rfl rfl)
theorem dX6_after_9 : decode cX6_after 9 = .ok (.aload_n 1, 1) := dk_43 (dk_at dksX6_after_0 9 rfl rfl)
theorem dX6_after_10 : decode cX6_after 10 = .ok (.invokevirtual 104, 3) := dk_182 0 104 (dk_at dksX6_after_0 10 rfl rfl)
theorem dX6_after_13 : decode cX6_after 13 = .ok (.ifCond .ne 11, 3) := dk_154 0 11 (dk_at dksX6_after_0 13 rfl rfl)
theorem dX6_after_16 : decode cX6_after 16 = .ok (.aload_n 0, 1) := dk_42 (dk_at dksX6_after_0 16 rfl rfl)
theorem dX6_after_17 : decode cX6_after 17 = .ok (.aload_n 0, 1) := dk_42 (dk_at dksX6_after_0 17 rfl rfl)
theorem dX6_after_18 : decode cX6_after 18 = .ok (.getfield 75, 3) := dk_180 0 75 (dk_at dksX6_after_0 18 rfl rfl)
theorem dX6_after_21 : decode cX6_after 21 = .ok (.invokevirtual 100, 3) := dk_182 0 100 (dk_at dksX6_after_0 21 rfl rfl)
theorem dX6_after_24 : decode cX6_after 24 = .ok (.aload_n 0, 1) := dk_42 (dk_at dksX6_after_1 0 rfl rfl)
theorem dX6_after_25 : decode cX6_after 25 = .ok (.iload_n 2, 1) := dk_28 (dk_at dksX6_after_1 1 rfl rfl)
theorem dX6_after_26 : decode cX6_after 26 = .ok (.iload_n 3, 1) := dk_29 (dk_at dksX6_after_1 2 rfl rfl)
theorem dX6_after_27 : decode cX6_after 27 = .ok (.invokevirtual 108, 3) := dk_182 0 108 (dk_at dksX6_after_1 3 rfl rfl)
theorem dX6_after_30 : decode cX6_after 30 = .ok (.ireturn, 1) := dk_172 (dk_at dksX6_after_1 6 rfl rfl)
abbrev cX6_put : ByteArray := prog_19_method_9_code
def yX6_put : MethodName := ⟨RX6, "put", "(III)V"⟩
def dkwX6_put_0 : List UInt8 := [42, 180, 0, 7, 16, 33, 16, 6, 27, 104, 96, 28, 96, 29, 79, 177]
abbrev dktX6_put_0 : List UInt8 := dkwX6_put_0 ++ []
theorem dksX6_put_0 : cX6_put.data.toList.drop 0 = dktX6_put_0 := by decide +kernel
theorem dX6_put_0 : decode cX6_put 0 = .ok (.aload_n 0, 1) := dk_42 (dk_at dksX6_put_0 0 rfl rfl)
theorem dX6_put_1 : decode cX6_put 1 = .ok (.getfield 7, 3) := dk_180 0 7 (dk_at dksX6_put_0 1 rfl rfl)
theorem dX6_put_4 : decode cX6_put 4 = .ok (.bipush 33, 2) := dk_16 33 (dk_at dksX6_put_0 4 rfl rfl)
theorem dX6_put_6 : decode cX6_put 6 = .ok (.bipush 6, 2) := dk_16 6 (dk_at dksX6_put_0 6 rfl rfl)
theorem dX6_put_8 : decode cX6_put 8 = .ok (.iload_n 1, 1) := dk_27 (dk_at dksX6_put_0 8 rfl rfl)
theorem dX6_put_9 : decode cX6_put 9 = .ok (.imul, 1) := dk_104 (dk_at dksX6_put_0 9 rfl rfl)
theorem dX6_put_10 : decode cX6_put 10 = .ok (.iadd, 1) := dk_96 (dk_at dksX6_put_0 10 rfl rfl)
theorem dX6_put_11 : decode cX6_put 11 = .ok (.iload_n 2, 1) := dk_28 (dk_at dksX6_put_0 11 rfl rfl)
theorem dX6_put_12 : decode cX6_put 12 = .ok (.iadd, 1) := dk_96 (dk_at dksX6_put_0 12 rfl rfl)
theorem dX6_put_13 : decode cX6_put 13 = .ok (.iload_n 3, 1) := dk_29 (dk_at dksX6_put_0 13 rfl rfl)
theorem dX6_put_14 : decode cX6_put 14 = .ok (.iastore, 1) := dk_79 (dk_at dksX6_put_0 14 rfl rfl)
theorem dX6_put_15 : decode cX6_put 15 = .ok (.return_, 1) := dk_177 (dk_at dksX6_put_0 15 rfl rfl)
abbrev cX6_stoneLine : ByteArray := prog_19_method_31_code
def yX6_stoneLine : MethodName := ⟨RX6, "stoneLine", "(I)V"⟩
def dkwX6_stoneLine_4 : List UInt8 := [182, 0, 134, 177]
abbrev dktX6_stoneLine_4 : List UInt8 := dkwX6_stoneLine_4 ++ []
def dkwX6_stoneLine_3 : List UInt8 := [182, 0, 127, 167, 0, 4, 29, 54, 5, 42, 180, 0, 25, 2, 160, 0, 13, 42, 29, 21, 4, 28, 21, 5]
abbrev dktX6_stoneLine_3 : List UInt8 := dkwX6_stoneLine_3 ++ dktX6_stoneLine_4
def dkwX6_stoneLine_2 : List UInt8 := [54, 4, 42, 180, 0, 25, 2, 160, 0, 23, 42, 18, 131, 182, 0, 104, 153, 0, 14, 42, 18, 132, 21, 4]
abbrev dktX6_stoneLine_2 : List UInt8 := dkwX6_stoneLine_2 ++ dktX6_stoneLine_3
def dkwX6_stoneLine_1 : List UInt8 := [42, 18, 124, 3, 42, 180, 0, 7, 6, 46, 4, 100, 182, 0, 113, 62, 42, 18, 125, 29, 182, 0, 127]
abbrev dktX6_stoneLine_1 : List UInt8 := dkwX6_stoneLine_1 ++ dktX6_stoneLine_2
def dkwX6_stoneLine_0 : List UInt8 := [42, 180, 0, 7, 7, 46, 16, 10, 160, 0, 8, 42, 27, 182, 0, 100, 42, 4, 16, 40, 182, 0, 108, 61]
abbrev dktX6_stoneLine_0 : List UInt8 := dkwX6_stoneLine_0 ++ dktX6_stoneLine_1
theorem dksX6_stoneLine_0 : cX6_stoneLine.data.toList.drop 0 = dktX6_stoneLine_0 := by decide +kernel
theorem dksX6_stoneLine_1 : cX6_stoneLine.data.toList.drop 24 = dktX6_stoneLine_1 := dk_seg dksX6_stoneLine_0 24 rfl rfl
theorem dksX6_stoneLine_2 : cX6_stoneLine.data.toList.drop 47 = dktX6_stoneLine_2 := dk_seg dksX6_stoneLine_1 23 rfl rfl
theorem dksX6_stoneLine_3 : cX6_stoneLine.data.toList.drop 71 = dktX6_stoneLine_3 := dk_seg dksX6_stoneLine_2 24 rfl rfl
theorem dksX6_stoneLine_4 : cX6_stoneLine.data.toList.drop 95 = dktX6_stoneLine_4 := dk_seg dksX6_stoneLine_3 24 rfl rfl
theorem dX6_stoneLine_0 : decode cX6_stoneLine 0 = .ok (.aload_n 0, 1) := dk_42 (dk_at dksX6_stoneLine_0 0 rfl rfl)
theorem dX6_stoneLine_1 : decode cX6_stoneLine 1 = .ok (.getfield 7, 3) := dk_180 0 7 (dk_at dksX6_stoneLine_0 1 rfl rfl)
theorem dX6_stoneLine_4 : decode cX6_stoneLine 4 = .ok (.iconst 4, 1) := dk_7 (dk_at dksX6_stoneLine_0 4 rfl rfl)
theorem dX6_stoneLine_5 : decode cX6_stoneLine 5 = .ok (.iaload, 1) := dk_46 (dk_at dksX6_stoneLine_0 5 rfl rfl)
theorem dX6_stoneLine_6 : decode cX6_stoneLine 6 = .ok (.bipush 10, 2) := dk_16 10 (dk_at dksX6_stoneLine_0 6 rfl rfl)
theorem dX6_stoneLine_8 : decode cX6_stoneLine 8 = .ok (.if_icmp .ne 8, 3) := dk_160 0 8 (dk_at dksX6_stoneLine_0 8 rfl rfl)
theorem dX6_stoneLine_11 : decode cX6_stoneLine 11 = .ok (.aload_n 0, 1) := dk_42 (dk_at dksX6_stoneLine_0 11 rfl rfl)
theorem dX6_stoneLine_12 : decode cX6_stoneLine 12 = .ok (.iload_n 1, 1) := dk_27 (dk_at dksX6_stoneLine_0 12 rfl rfl)
theorem dX6_stoneLine_13 : decode cX6_stoneLine 13 = .ok (.invokevirtual 100, 3) := dk_182 0 100 (dk_at dksX6_stoneLine_0 13 rfl rfl)
theorem dX6_stoneLine_16 : decode cX6_stoneLine 16 = .ok (.aload_n 0, 1) := dk_42 (dk_at dksX6_stoneLine_0 16 rfl rfl)
theorem dX6_stoneLine_17 : decode cX6_stoneLine 17 = .ok (.iconst 1, 1) := dk_4 (dk_at dksX6_stoneLine_0 17 rfl rfl)
theorem dX6_stoneLine_18 : decode cX6_stoneLine 18 = .ok (.bipush 40, 2) := dk_16 40 (dk_at dksX6_stoneLine_0 18 rfl rfl)
theorem dX6_stoneLine_20 : decode cX6_stoneLine 20 = .ok (.invokevirtual 108, 3) := dk_182 0 108 (dk_at dksX6_stoneLine_0 20 rfl rfl)
theorem dX6_stoneLine_23 : decode cX6_stoneLine 23 = .ok (.istore_n 2, 1) := dk_61 (dk_at dksX6_stoneLine_0 23 rfl rfl)
theorem dX6_stoneLine_24 : decode cX6_stoneLine 24 = .ok (.aload_n 0, 1) := dk_42 (dk_at dksX6_stoneLine_1 0 rfl rfl)
theorem dX6_stoneLine_25 : decode cX6_stoneLine 25 = .ok (.ldc 124, 2) := dk_18 124 (dk_at dksX6_stoneLine_1 1 rfl rfl)
theorem dX6_stoneLine_27 : decode cX6_stoneLine 27 = .ok (.iconst 0, 1) := dk_3 (dk_at dksX6_stoneLine_1 3 rfl rfl)
theorem dX6_stoneLine_28 : decode cX6_stoneLine 28 = .ok (.aload_n 0, 1) := dk_42 (dk_at dksX6_stoneLine_1 4 rfl rfl)
theorem dX6_stoneLine_29 : decode cX6_stoneLine 29 = .ok (.getfield 7, 3) := dk_180 0 7 (dk_at dksX6_stoneLine_1 5 rfl rfl)
theorem dX6_stoneLine_32 : decode cX6_stoneLine 32 = .ok (.iconst 3, 1) := dk_6 (dk_at dksX6_stoneLine_1 8 rfl rfl)
theorem dX6_stoneLine_33 : decode cX6_stoneLine 33 = .ok (.iaload, 1) := dk_46 (dk_at dksX6_stoneLine_1 9 rfl rfl)
theorem dX6_stoneLine_34 : decode cX6_stoneLine 34 = .ok (.iconst 1, 1) := dk_4 (dk_at dksX6_stoneLine_1 10 rfl rfl)
theorem dX6_stoneLine_35 : decode cX6_stoneLine 35 = .ok (.isub, 1) := dk_100 (dk_at dksX6_stoneLine_1 11 rfl rfl)
theorem dX6_stoneLine_36 : decode cX6_stoneLine 36 = .ok (.invokevirtual 113, 3) := dk_182 0 113 (dk_at dksX6_stoneLine_1 12 rfl rfl)
theorem dX6_stoneLine_39 : decode cX6_stoneLine 39 = .ok (.istore_n 3, 1) := dk_62 (dk_at dksX6_stoneLine_1 15 rfl rfl)
theorem dX6_stoneLine_40 : decode cX6_stoneLine 40 = .ok (.aload_n 0, 1) := dk_42 (dk_at dksX6_stoneLine_1 16 rfl rfl)
theorem dX6_stoneLine_41 : decode cX6_stoneLine 41 = .ok (.ldc 125, 2) := dk_18 125 (dk_at dksX6_stoneLine_1 17 rfl rfl)
theorem dX6_stoneLine_43 : decode cX6_stoneLine 43 = .ok (.iload_n 3, 1) := dk_29 (dk_at dksX6_stoneLine_1 19 rfl rfl)
theorem dX6_stoneLine_44 : decode cX6_stoneLine 44 = .ok (.invokevirtual 127, 3) := dk_182 0 127 (dk_at dksX6_stoneLine_1 20 rfl rfl)
theorem dX6_stoneLine_47 : decode cX6_stoneLine 47 = .ok (.istore 4, 2) := dk_54 4 (dk_at dksX6_stoneLine_2 0 rfl rfl)
theorem dX6_stoneLine_49 : decode cX6_stoneLine 49 = .ok (.aload_n 0, 1) := dk_42 (dk_at dksX6_stoneLine_2 2 rfl rfl)
theorem dX6_stoneLine_50 : decode cX6_stoneLine 50 = .ok (.getfield 25, 3) := dk_180 0 25 (dk_at dksX6_stoneLine_2 3 rfl rfl)
theorem dX6_stoneLine_53 : decode cX6_stoneLine 53 = .ok (.iconst (-1), 1) := dk_2 (dk_at dksX6_stoneLine_2 6 rfl rfl)
theorem dX6_stoneLine_54 : decode cX6_stoneLine 54 = .ok (.if_icmp .ne 23, 3) := dk_160 0 23 (dk_at dksX6_stoneLine_2 7 rfl rfl)
theorem dX6_stoneLine_57 : decode cX6_stoneLine 57 = .ok (.aload_n 0, 1) := dk_42 (dk_at dksX6_stoneLine_2 10 rfl rfl)
theorem dX6_stoneLine_58 : decode cX6_stoneLine 58 = .ok (.ldc 131, 2) := dk_18 131 (dk_at dksX6_stoneLine_2 11 rfl rfl)
theorem dX6_stoneLine_60 : decode cX6_stoneLine 60 = .ok (.invokevirtual 104, 3) := dk_182 0 104 (dk_at dksX6_stoneLine_2 13 rfl rfl)
theorem dX6_stoneLine_63 : decode cX6_stoneLine 63 = .ok (.ifCond .eq 14, 3) := dk_153 0 14 (dk_at dksX6_stoneLine_2 16 rfl rfl)
theorem dX6_stoneLine_66 : decode cX6_stoneLine 66 = .ok (.aload_n 0, 1) := dk_42 (dk_at dksX6_stoneLine_2 19 rfl rfl)
theorem dX6_stoneLine_67 : decode cX6_stoneLine 67 = .ok (.ldc 132, 2) := dk_18 132 (dk_at dksX6_stoneLine_2 20 rfl rfl)
theorem dX6_stoneLine_69 : decode cX6_stoneLine 69 = .ok (.iload 4, 2) := dk_21 4 (dk_at dksX6_stoneLine_2 22 rfl rfl)
theorem dX6_stoneLine_71 : decode cX6_stoneLine 71 = .ok (.invokevirtual 127, 3) := dk_182 0 127 (dk_at dksX6_stoneLine_3 0 rfl rfl)
theorem dX6_stoneLine_74 : decode cX6_stoneLine 74 = .ok (.goto 4, 3) := dk_167 0 4 (dk_at dksX6_stoneLine_3 3 rfl rfl)
theorem dX6_stoneLine_77 : decode cX6_stoneLine 77 = .ok (.iload_n 3, 1) := dk_29 (dk_at dksX6_stoneLine_3 6 rfl rfl)
theorem dX6_stoneLine_78 : decode cX6_stoneLine 78 = .ok (.istore 5, 2) := dk_54 5 (dk_at dksX6_stoneLine_3 7 rfl rfl)
theorem dX6_stoneLine_80 : decode cX6_stoneLine 80 = .ok (.aload_n 0, 1) := dk_42 (dk_at dksX6_stoneLine_3 9 rfl rfl)
theorem dX6_stoneLine_81 : decode cX6_stoneLine 81 = .ok (.getfield 25, 3) := dk_180 0 25 (dk_at dksX6_stoneLine_3 10 rfl rfl)
theorem dX6_stoneLine_84 : decode cX6_stoneLine 84 = .ok (.iconst (-1), 1) := dk_2 (dk_at dksX6_stoneLine_3 13 rfl rfl)
theorem dX6_stoneLine_85 : decode cX6_stoneLine 85 = .ok (.if_icmp .ne 13, 3) := dk_160 0 13 (dk_at dksX6_stoneLine_3 14 rfl rfl)
theorem dX6_stoneLine_88 : decode cX6_stoneLine 88 = .ok (.aload_n 0, 1) := dk_42 (dk_at dksX6_stoneLine_3 17 rfl rfl)
theorem dX6_stoneLine_89 : decode cX6_stoneLine 89 = .ok (.iload_n 3, 1) := dk_29 (dk_at dksX6_stoneLine_3 18 rfl rfl)
theorem dX6_stoneLine_90 : decode cX6_stoneLine 90 = .ok (.iload 4, 2) := dk_21 4 (dk_at dksX6_stoneLine_3 19 rfl rfl)
theorem dX6_stoneLine_92 : decode cX6_stoneLine 92 = .ok (.iload_n 2, 1) := dk_28 (dk_at dksX6_stoneLine_3 21 rfl rfl)
theorem dX6_stoneLine_93 : decode cX6_stoneLine 93 = .ok (.iload 5, 2) := dk_21 5 (dk_at dksX6_stoneLine_3 22 rfl rfl)
theorem dX6_stoneLine_95 : decode cX6_stoneLine 95 = .ok (.invokevirtual 134, 3) := dk_182 0 134 (dk_at dksX6_stoneLine_4 0 rfl rfl)
theorem dX6_stoneLine_98 : decode cX6_stoneLine 98 = .ok (.return_, 1) := dk_177 (dk_at dksX6_stoneLine_4 3 rfl rfl)
abbrev cX6_otherAfter : ByteArray := prog_19_method_30_code
def yX6_otherAfter : MethodName := ⟨RX6, "otherAfter", "(Ljava/lang/String;I)I"⟩
def dkwX6_otherAfter_2 : List UInt8 := [2, 160, 0, 14, 21, 4, 28, 160, 0, 8, 42, 29, 182, 0, 100, 21, 4, 172]
abbrev dktX6_otherAfter_2 : List UInt8 := dkwX6_otherAfter_2 ++ []
def dkwX6_otherAfter_1 : List UInt8 := [42, 182, 0, 97, 62, 42, 3, 42, 180, 0, 7, 6, 46, 4, 100, 182, 0, 108, 54, 4, 42, 180, 0, 25]
abbrev dktX6_otherAfter_1 : List UInt8 := dkwX6_otherAfter_1 ++ dktX6_otherAfter_2
def dkwX6_otherAfter_0 : List UInt8 := [42, 180, 0, 25, 2, 160, 0, 19, 42, 43, 182, 0, 104, 154, 0, 11, 42, 42, 180, 0, 75, 182, 0, 100]
abbrev dktX6_otherAfter_0 : List UInt8 := dkwX6_otherAfter_0 ++ dktX6_otherAfter_1
theorem dksX6_otherAfter_0 : cX6_otherAfter.data.toList.drop 0 = dktX6_otherAfter_0 := by decide +kernel
theorem dksX6_otherAfter_1 : cX6_otherAfter.data.toList.drop 24 = dktX6_otherAfter_1 := dk_seg dksX6_otherAfter_0 24 rfl rfl
theorem dksX6_otherAfter_2 : cX6_otherAfter.data.toList.drop 48 = dktX6_otherAfter_2 := dk_seg dksX6_otherAfter_1 24 rfl rfl
theorem dX6_otherAfter_0 : decode cX6_otherAfter 0 = .ok (.aload_n 0, 1) := dk_42 (dk_at dksX6_otherAfter_0 0 rfl rfl)
theorem dX6_otherAfter_1 : decode cX6_otherAfter 1 = .ok (.getfield 25, 3) := dk_180 0 25 (dk_at dksX6_otherAfter_0 1 rfl rfl)
theorem dX6_otherAfter_4 : decode cX6_otherAfter 4 = .ok (.iconst (-1), 1) := dk_2 (dk_at dksX6_otherAfter_0 4 rfl rfl)
theorem dX6_otherAfter_5 : decode cX6_otherAfter 5 = .ok (.if_icmp .ne 19, 3) := dk_160 0 19 (dk_at dksX6_otherAfter_0 5 rfl rfl)
theorem dX6_otherAfter_8 : decode cX6_otherAfter 8 = .ok (.aload_n 0, 1) := dk_42 (dk_at dksX6_otherAfter_0 8 rfl rfl)
theorem dX6_otherAfter_9 : decode cX6_otherAfter 9 = .ok (.aload_n 1, 1) := dk_43 (dk_at dksX6_otherAfter_0 9 rfl rfl)
theorem dX6_otherAfter_10 : decode cX6_otherAfter 10 = .ok (.invokevirtual 104, 3) := dk_182 0 104 (dk_at dksX6_otherAfter_0 10 rfl rfl)
theorem dX6_otherAfter_13 : decode cX6_otherAfter 13 = .ok (.ifCond .ne 11, 3) := dk_154 0 11 (dk_at dksX6_otherAfter_0 13 rfl rfl)
theorem dX6_otherAfter_16 : decode cX6_otherAfter 16 = .ok (.aload_n 0, 1) := dk_42 (dk_at dksX6_otherAfter_0 16 rfl rfl)
theorem dX6_otherAfter_17 : decode cX6_otherAfter 17 = .ok (.aload_n 0, 1) := dk_42 (dk_at dksX6_otherAfter_0 17 rfl rfl)
theorem dX6_otherAfter_18 : decode cX6_otherAfter 18 = .ok (.getfield 75, 3) := dk_180 0 75 (dk_at dksX6_otherAfter_0 18 rfl rfl)
theorem dX6_otherAfter_21 : decode cX6_otherAfter 21 = .ok (.invokevirtual 100, 3) := dk_182 0 100 (dk_at dksX6_otherAfter_0 21 rfl rfl)
theorem dX6_otherAfter_24 : decode cX6_otherAfter 24 = .ok (.aload_n 0, 1) := dk_42 (dk_at dksX6_otherAfter_1 0 rfl rfl)
theorem dX6_otherAfter_25 : decode cX6_otherAfter 25 = .ok (.invokevirtual 97, 3) := dk_182 0 97 (dk_at dksX6_otherAfter_1 1 rfl rfl)
theorem dX6_otherAfter_28 : decode cX6_otherAfter 28 = .ok (.istore_n 3, 1) := dk_62 (dk_at dksX6_otherAfter_1 4 rfl rfl)
theorem dX6_otherAfter_29 : decode cX6_otherAfter 29 = .ok (.aload_n 0, 1) := dk_42 (dk_at dksX6_otherAfter_1 5 rfl rfl)
theorem dX6_otherAfter_30 : decode cX6_otherAfter 30 = .ok (.iconst 0, 1) := dk_3 (dk_at dksX6_otherAfter_1 6 rfl rfl)
theorem dX6_otherAfter_31 : decode cX6_otherAfter 31 = .ok (.aload_n 0, 1) := dk_42 (dk_at dksX6_otherAfter_1 7 rfl rfl)
theorem dX6_otherAfter_32 : decode cX6_otherAfter 32 = .ok (.getfield 7, 3) := dk_180 0 7 (dk_at dksX6_otherAfter_1 8 rfl rfl)
theorem dX6_otherAfter_35 : decode cX6_otherAfter 35 = .ok (.iconst 3, 1) := dk_6 (dk_at dksX6_otherAfter_1 11 rfl rfl)
theorem dX6_otherAfter_36 : decode cX6_otherAfter 36 = .ok (.iaload, 1) := dk_46 (dk_at dksX6_otherAfter_1 12 rfl rfl)
theorem dX6_otherAfter_37 : decode cX6_otherAfter 37 = .ok (.iconst 1, 1) := dk_4 (dk_at dksX6_otherAfter_1 13 rfl rfl)
theorem dX6_otherAfter_38 : decode cX6_otherAfter 38 = .ok (.isub, 1) := dk_100 (dk_at dksX6_otherAfter_1 14 rfl rfl)
theorem dX6_otherAfter_39 : decode cX6_otherAfter 39 = .ok (.invokevirtual 108, 3) := dk_182 0 108 (dk_at dksX6_otherAfter_1 15 rfl rfl)
theorem dX6_otherAfter_42 : decode cX6_otherAfter 42 = .ok (.istore 4, 2) := dk_54 4 (dk_at dksX6_otherAfter_1 18 rfl rfl)
theorem dX6_otherAfter_44 : decode cX6_otherAfter 44 = .ok (.aload_n 0, 1) := dk_42 (dk_at dksX6_otherAfter_1 20 rfl rfl)
theorem dX6_otherAfter_45 : decode cX6_otherAfter 45 = .ok (.getfield 25, 3) := dk_180 0 25 (dk_at dksX6_otherAfter_1 21 rfl rfl)
theorem dX6_otherAfter_48 : decode cX6_otherAfter 48 = .ok (.iconst (-1), 1) := dk_2 (dk_at dksX6_otherAfter_2 0 rfl rfl)
theorem dX6_otherAfter_49 : decode cX6_otherAfter 49 = .ok (.if_icmp .ne 14, 3) := dk_160 0 14 (dk_at dksX6_otherAfter_2 1 rfl rfl)
theorem dX6_otherAfter_52 : decode cX6_otherAfter 52 = .ok (.iload 4, 2) := dk_21 4 (dk_at dksX6_otherAfter_2 4 rfl rfl)
theorem dX6_otherAfter_54 : decode cX6_otherAfter 54 = .ok (.iload_n 2, 1) := dk_28 (dk_at dksX6_otherAfter_2 6 rfl rfl)
theorem dX6_otherAfter_55 : decode cX6_otherAfter 55 = .ok (.if_icmp .ne 8, 3) := dk_160 0 8 (dk_at dksX6_otherAfter_2 7 rfl rfl)
theorem dX6_otherAfter_58 : decode cX6_otherAfter 58 = .ok (.aload_n 0, 1) := dk_42 (dk_at dksX6_otherAfter_2 10 rfl rfl)
theorem dX6_otherAfter_59 : decode cX6_otherAfter 59 = .ok (.iload_n 3, 1) := dk_29 (dk_at dksX6_otherAfter_2 11 rfl rfl)
theorem dX6_otherAfter_60 : decode cX6_otherAfter 60 = .ok (.invokevirtual 100, 3) := dk_182 0 100 (dk_at dksX6_otherAfter_2 12 rfl rfl)
theorem dX6_otherAfter_63 : decode cX6_otherAfter 63 = .ok (.iload 4, 2) := dk_21 4 (dk_at dksX6_otherAfter_2 15 rfl rfl)
theorem dX6_otherAfter_65 : decode cX6_otherAfter 65 = .ok (.ireturn, 1) := dk_172 (dk_at dksX6_otherAfter_2 17 rfl rfl)
abbrev cX6_adds : ByteArray := prog_19_method_32_code
def yX6_adds : MethodName := ⟨RX6, "adds", "(IIII)V"⟩
def dkwX6_adds_2 : List UInt8 := [182, 0, 138, 42, 21, 5, 8, 3, 182, 0, 138, 42, 180, 0, 7, 7, 92, 46, 4, 96, 79, 177]
abbrev dktX6_adds_2 : List UInt8 := dkwX6_adds_2 ++ []
def dkwX6_adds_1 : List UInt8 := [42, 21, 5, 5, 29, 182, 0, 138, 42, 21, 5, 6, 3, 182, 0, 138, 42, 21, 5, 7, 21, 4]
abbrev dktX6_adds_1 : List UInt8 := dkwX6_adds_1 ++ dktX6_adds_2
def dkwX6_adds_0 : List UInt8 := [42, 180, 0, 7, 7, 46, 54, 5, 42, 21, 5, 3, 27, 182, 0, 138, 42, 21, 5, 4, 28, 182, 0, 138]
abbrev dktX6_adds_0 : List UInt8 := dkwX6_adds_0 ++ dktX6_adds_1
theorem dksX6_adds_0 : cX6_adds.data.toList.drop 0 = dktX6_adds_0 := by decide +kernel
theorem dksX6_adds_1 : cX6_adds.data.toList.drop 24 = dktX6_adds_1 := dk_seg dksX6_adds_0 24 rfl rfl
theorem dksX6_adds_2 : cX6_adds.data.toList.drop 46 = dktX6_adds_2 := dk_seg dksX6_adds_1 22 rfl rfl
theorem dX6_adds_0 : decode cX6_adds 0 = .ok (.aload_n 0, 1) := dk_42 (dk_at dksX6_adds_0 0 rfl rfl)
theorem dX6_adds_1 : decode cX6_adds 1 = .ok (.getfield 7, 3) := dk_180 0 7 (dk_at dksX6_adds_0 1 rfl rfl)
theorem dX6_adds_4 : decode cX6_adds 4 = .ok (.iconst 4, 1) := dk_7 (dk_at dksX6_adds_0 4 rfl rfl)
theorem dX6_adds_5 : decode cX6_adds 5 = .ok (.iaload, 1) := dk_46 (dk_at dksX6_adds_0 5 rfl rfl)
theorem dX6_adds_6 : decode cX6_adds 6 = .ok (.istore 5, 2) := dk_54 5 (dk_at dksX6_adds_0 6 rfl rfl)
theorem dX6_adds_8 : decode cX6_adds 8 = .ok (.aload_n 0, 1) := dk_42 (dk_at dksX6_adds_0 8 rfl rfl)
theorem dX6_adds_9 : decode cX6_adds 9 = .ok (.iload 5, 2) := dk_21 5 (dk_at dksX6_adds_0 9 rfl rfl)
theorem dX6_adds_11 : decode cX6_adds 11 = .ok (.iconst 0, 1) := dk_3 (dk_at dksX6_adds_0 11 rfl rfl)
theorem dX6_adds_12 : decode cX6_adds 12 = .ok (.iload_n 1, 1) := dk_27 (dk_at dksX6_adds_0 12 rfl rfl)
theorem dX6_adds_13 : decode cX6_adds 13 = .ok (.invokevirtual 138, 3) := dk_182 0 138 (dk_at dksX6_adds_0 13 rfl rfl)
theorem dX6_adds_16 : decode cX6_adds 16 = .ok (.aload_n 0, 1) := dk_42 (dk_at dksX6_adds_0 16 rfl rfl)
theorem dX6_adds_17 : decode cX6_adds 17 = .ok (.iload 5, 2) := dk_21 5 (dk_at dksX6_adds_0 17 rfl rfl)
theorem dX6_adds_19 : decode cX6_adds 19 = .ok (.iconst 1, 1) := dk_4 (dk_at dksX6_adds_0 19 rfl rfl)
theorem dX6_adds_20 : decode cX6_adds 20 = .ok (.iload_n 2, 1) := dk_28 (dk_at dksX6_adds_0 20 rfl rfl)
theorem dX6_adds_21 : decode cX6_adds 21 = .ok (.invokevirtual 138, 3) := dk_182 0 138 (dk_at dksX6_adds_0 21 rfl rfl)
theorem dX6_adds_24 : decode cX6_adds 24 = .ok (.aload_n 0, 1) := dk_42 (dk_at dksX6_adds_1 0 rfl rfl)
theorem dX6_adds_25 : decode cX6_adds 25 = .ok (.iload 5, 2) := dk_21 5 (dk_at dksX6_adds_1 1 rfl rfl)
theorem dX6_adds_27 : decode cX6_adds 27 = .ok (.iconst 2, 1) := dk_5 (dk_at dksX6_adds_1 3 rfl rfl)
theorem dX6_adds_28 : decode cX6_adds 28 = .ok (.iload_n 3, 1) := dk_29 (dk_at dksX6_adds_1 4 rfl rfl)
theorem dX6_adds_29 : decode cX6_adds 29 = .ok (.invokevirtual 138, 3) := dk_182 0 138 (dk_at dksX6_adds_1 5 rfl rfl)
theorem dX6_adds_32 : decode cX6_adds 32 = .ok (.aload_n 0, 1) := dk_42 (dk_at dksX6_adds_1 8 rfl rfl)
theorem dX6_adds_33 : decode cX6_adds 33 = .ok (.iload 5, 2) := dk_21 5 (dk_at dksX6_adds_1 9 rfl rfl)
theorem dX6_adds_35 : decode cX6_adds 35 = .ok (.iconst 3, 1) := dk_6 (dk_at dksX6_adds_1 11 rfl rfl)
theorem dX6_adds_36 : decode cX6_adds 36 = .ok (.iconst 0, 1) := dk_3 (dk_at dksX6_adds_1 12 rfl rfl)
theorem dX6_adds_37 : decode cX6_adds 37 = .ok (.invokevirtual 138, 3) := dk_182 0 138 (dk_at dksX6_adds_1 13 rfl rfl)
theorem dX6_adds_40 : decode cX6_adds 40 = .ok (.aload_n 0, 1) := dk_42 (dk_at dksX6_adds_1 16 rfl rfl)
theorem dX6_adds_41 : decode cX6_adds 41 = .ok (.iload 5, 2) := dk_21 5 (dk_at dksX6_adds_1 17 rfl rfl)
theorem dX6_adds_43 : decode cX6_adds 43 = .ok (.iconst 4, 1) := dk_7 (dk_at dksX6_adds_1 19 rfl rfl)
theorem dX6_adds_44 : decode cX6_adds 44 = .ok (.iload 4, 2) := dk_21 4 (dk_at dksX6_adds_1 20 rfl rfl)
theorem dX6_adds_46 : decode cX6_adds 46 = .ok (.invokevirtual 138, 3) := dk_182 0 138 (dk_at dksX6_adds_2 0 rfl rfl)
theorem dX6_adds_49 : decode cX6_adds 49 = .ok (.aload_n 0, 1) := dk_42 (dk_at dksX6_adds_2 3 rfl rfl)
theorem dX6_adds_50 : decode cX6_adds 50 = .ok (.iload 5, 2) := dk_21 5 (dk_at dksX6_adds_2 4 rfl rfl)
theorem dX6_adds_52 : decode cX6_adds 52 = .ok (.iconst 5, 1) := dk_8 (dk_at dksX6_adds_2 6 rfl rfl)
theorem dX6_adds_53 : decode cX6_adds 53 = .ok (.iconst 0, 1) := dk_3 (dk_at dksX6_adds_2 7 rfl rfl)
theorem dX6_adds_54 : decode cX6_adds 54 = .ok (.invokevirtual 138, 3) := dk_182 0 138 (dk_at dksX6_adds_2 8 rfl rfl)
theorem dX6_adds_57 : decode cX6_adds 57 = .ok (.aload_n 0, 1) := dk_42 (dk_at dksX6_adds_2 11 rfl rfl)
theorem dX6_adds_58 : decode cX6_adds 58 = .ok (.getfield 7, 3) := dk_180 0 7 (dk_at dksX6_adds_2 12 rfl rfl)
theorem dX6_adds_61 : decode cX6_adds 61 = .ok (.iconst 4, 1) := dk_7 (dk_at dksX6_adds_2 15 rfl rfl)
theorem dX6_adds_62 : decode cX6_adds 62 = .ok (.dup2, 1) := dk_92 (dk_at dksX6_adds_2 16 rfl rfl)
theorem dX6_adds_63 : decode cX6_adds 63 = .ok (.iaload, 1) := dk_46 (dk_at dksX6_adds_2 17 rfl rfl)
theorem dX6_adds_64 : decode cX6_adds 64 = .ok (.iconst 1, 1) := dk_4 (dk_at dksX6_adds_2 18 rfl rfl)
theorem dX6_adds_65 : decode cX6_adds 65 = .ok (.iadd, 1) := dk_96 (dk_at dksX6_adds_2 19 rfl rfl)
theorem dX6_adds_66 : decode cX6_adds 66 = .ok (.iastore, 1) := dk_79 (dk_at dksX6_adds_2 20 rfl rfl)
theorem dX6_adds_67 : decode cX6_adds 67 = .ok (.return_, 1) := dk_177 (dk_at dksX6_adds_2 21 rfl rfl)
abbrev cX6_putStone : ByteArray := prog_19_method_11_code
def yX6_putStone : MethodName := ⟨RX6, "putStone", "(III)V"⟩
def dkwX6_putStone_0 : List UInt8 := [42, 180, 0, 7, 16, 69, 16, 6, 27, 104, 96, 28, 96, 29, 79, 177]
abbrev dktX6_putStone_0 : List UInt8 := dkwX6_putStone_0 ++ []
theorem dksX6_putStone_0 : cX6_putStone.data.toList.drop 0 = dktX6_putStone_0 := by decide +kernel
theorem dX6_putStone_0 : decode cX6_putStone 0 = .ok (.aload_n 0, 1) := dk_42 (dk_at dksX6_putStone_0 0 rfl rfl)
theorem dX6_putStone_1 : decode cX6_putStone 1 = .ok (.getfield 7, 3) := dk_180 0 7 (dk_at dksX6_putStone_0 1 rfl rfl)
theorem dX6_putStone_4 : decode cX6_putStone 4 = .ok (.bipush 69, 2) := dk_16 69 (dk_at dksX6_putStone_0 4 rfl rfl)
theorem dX6_putStone_6 : decode cX6_putStone 6 = .ok (.bipush 6, 2) := dk_16 6 (dk_at dksX6_putStone_0 6 rfl rfl)
theorem dX6_putStone_8 : decode cX6_putStone 8 = .ok (.iload_n 1, 1) := dk_27 (dk_at dksX6_putStone_0 8 rfl rfl)
theorem dX6_putStone_9 : decode cX6_putStone 9 = .ok (.imul, 1) := dk_104 (dk_at dksX6_putStone_0 9 rfl rfl)
theorem dX6_putStone_10 : decode cX6_putStone 10 = .ok (.iadd, 1) := dk_96 (dk_at dksX6_putStone_0 10 rfl rfl)
theorem dX6_putStone_11 : decode cX6_putStone 11 = .ok (.iload_n 2, 1) := dk_28 (dk_at dksX6_putStone_0 11 rfl rfl)
theorem dX6_putStone_12 : decode cX6_putStone 12 = .ok (.iadd, 1) := dk_96 (dk_at dksX6_putStone_0 12 rfl rfl)
theorem dX6_putStone_13 : decode cX6_putStone 13 = .ok (.iload_n 3, 1) := dk_29 (dk_at dksX6_putStone_0 13 rfl rfl)
theorem dX6_putStone_14 : decode cX6_putStone 14 = .ok (.iastore, 1) := dk_79 (dk_at dksX6_putStone_0 14 rfl rfl)
theorem dX6_putStone_15 : decode cX6_putStone 15 = .ok (.return_, 1) := dk_177 (dk_at dksX6_putStone_0 15 rfl rfl)
abbrev cX6_tells : ByteArray := prog_19_method_34_code
def yX6_tells : MethodName := ⟨RX6, "tells", "(III)V"⟩
def dkwX6_tells_1 : List UInt8 := [177]
abbrev dktX6_tells_1 : List UInt8 := dkwX6_tells_1 ++ []
def dkwX6_tells_0 : List UInt8 := [42, 28, 29, 182, 0, 108, 54, 4, 42, 180, 0, 25, 2, 160, 0, 11, 42, 180, 0, 7, 27, 21, 4, 79]
abbrev dktX6_tells_0 : List UInt8 := dkwX6_tells_0 ++ dktX6_tells_1
theorem dksX6_tells_0 : cX6_tells.data.toList.drop 0 = dktX6_tells_0 := by decide +kernel
theorem dksX6_tells_1 : cX6_tells.data.toList.drop 24 = dktX6_tells_1 := dk_seg dksX6_tells_0 24 rfl rfl
theorem dX6_tells_0 : decode cX6_tells 0 = .ok (.aload_n 0, 1) := dk_42 (dk_at dksX6_tells_0 0 rfl rfl)
theorem dX6_tells_1 : decode cX6_tells 1 = .ok (.iload_n 2, 1) := dk_28 (dk_at dksX6_tells_0 1 rfl rfl)
theorem dX6_tells_2 : decode cX6_tells 2 = .ok (.iload_n 3, 1) := dk_29 (dk_at dksX6_tells_0 2 rfl rfl)
theorem dX6_tells_3 : decode cX6_tells 3 = .ok (.invokevirtual 108, 3) := dk_182 0 108 (dk_at dksX6_tells_0 3 rfl rfl)
theorem dX6_tells_6 : decode cX6_tells 6 = .ok (.istore 4, 2) := dk_54 4 (dk_at dksX6_tells_0 6 rfl rfl)
theorem dX6_tells_8 : decode cX6_tells 8 = .ok (.aload_n 0, 1) := dk_42 (dk_at dksX6_tells_0 8 rfl rfl)
theorem dX6_tells_9 : decode cX6_tells 9 = .ok (.getfield 25, 3) := dk_180 0 25 (dk_at dksX6_tells_0 9 rfl rfl)
theorem dX6_tells_12 : decode cX6_tells 12 = .ok (.iconst (-1), 1) := dk_2 (dk_at dksX6_tells_0 12 rfl rfl)
theorem dX6_tells_13 : decode cX6_tells 13 = .ok (.if_icmp .ne 11, 3) := dk_160 0 11 (dk_at dksX6_tells_0 13 rfl rfl)
theorem dX6_tells_16 : decode cX6_tells 16 = .ok (.aload_n 0, 1) := dk_42 (dk_at dksX6_tells_0 16 rfl rfl)
theorem dX6_tells_17 : decode cX6_tells 17 = .ok (.getfield 7, 3) := dk_180 0 7 (dk_at dksX6_tells_0 17 rfl rfl)
theorem dX6_tells_20 : decode cX6_tells 20 = .ok (.iload_n 1, 1) := dk_27 (dk_at dksX6_tells_0 20 rfl rfl)
theorem dX6_tells_21 : decode cX6_tells 21 = .ok (.iload 4, 2) := dk_21 4 (dk_at dksX6_tells_0 21 rfl rfl)
theorem dX6_tells_23 : decode cX6_tells 23 = .ok (.iastore, 1) := dk_79 (dk_at dksX6_tells_0 23 rfl rfl)
theorem dX6_tells_24 : decode cX6_tells 24 = .ok (.return_, 1) := dk_177 (dk_at dksX6_tells_1 0 rfl rfl)
abbrev cX6_comesBack : ByteArray := prog_19_method_38_code
def yX6_comesBack : MethodName := ⟨RX6, "comesBack", "()V"⟩
def dkwX6_comesBack_1 : List UInt8 := [167, 255, 234, 177]
abbrev dktX6_comesBack_1 : List UInt8 := dkwX6_comesBack_1 ++ []
def dkwX6_comesBack_0 : List UInt8 := [3, 60, 27, 17, 1, 113, 162, 0, 21, 42, 180, 0, 7, 27, 42, 180, 0, 16, 27, 46, 79, 132, 1, 1]
abbrev dktX6_comesBack_0 : List UInt8 := dkwX6_comesBack_0 ++ dktX6_comesBack_1
theorem dksX6_comesBack_0 : cX6_comesBack.data.toList.drop 0 = dktX6_comesBack_0 := by decide +kernel
theorem dksX6_comesBack_1 : cX6_comesBack.data.toList.drop 24 = dktX6_comesBack_1 := dk_seg dksX6_comesBack_0 24 rfl rfl
theorem dX6_comesBack_0 : decode cX6_comesBack 0 = .ok (.iconst 0, 1) := dk_3 (dk_at dksX6_comesBack_0 0 rfl rfl)
theorem dX6_comesBack_1 : decode cX6_comesBack 1 = .ok (.istore_n 1, 1) := dk_60 (dk_at dksX6_comesBack_0 1 rfl rfl)
theorem dX6_comesBack_2 : decode cX6_comesBack 2 = .ok (.iload_n 1, 1) := dk_27 (dk_at dksX6_comesBack_0 2 rfl rfl)
theorem dX6_comesBack_3 : decode cX6_comesBack 3 = .ok (.sipush 369, 3) := dk_17 1 113 (dk_at dksX6_comesBack_0 3 rfl rfl)
theorem dX6_comesBack_6 : decode cX6_comesBack 6 = .ok (.if_icmp .ge 21, 3) := dk_162 0 21 (dk_at dksX6_comesBack_0 6 rfl rfl)
theorem dX6_comesBack_9 : decode cX6_comesBack 9 = .ok (.aload_n 0, 1) := dk_42 (dk_at dksX6_comesBack_0 9 rfl rfl)
theorem dX6_comesBack_10 : decode cX6_comesBack 10 = .ok (.getfield 7, 3) := dk_180 0 7 (dk_at dksX6_comesBack_0 10 rfl rfl)
theorem dX6_comesBack_13 : decode cX6_comesBack 13 = .ok (.iload_n 1, 1) := dk_27 (dk_at dksX6_comesBack_0 13 rfl rfl)
theorem dX6_comesBack_14 : decode cX6_comesBack 14 = .ok (.aload_n 0, 1) := dk_42 (dk_at dksX6_comesBack_0 14 rfl rfl)
theorem dX6_comesBack_15 : decode cX6_comesBack 15 = .ok (.getfield 16, 3) := dk_180 0 16 (dk_at dksX6_comesBack_0 15 rfl rfl)
theorem dX6_comesBack_18 : decode cX6_comesBack 18 = .ok (.iload_n 1, 1) := dk_27 (dk_at dksX6_comesBack_0 18 rfl rfl)
theorem dX6_comesBack_19 : decode cX6_comesBack 19 = .ok (.iaload, 1) := dk_46 (dk_at dksX6_comesBack_0 19 rfl rfl)
theorem dX6_comesBack_20 : decode cX6_comesBack 20 = .ok (.iastore, 1) := dk_79 (dk_at dksX6_comesBack_0 20 rfl rfl)
theorem dX6_comesBack_21 : decode cX6_comesBack 21 = .ok (.iinc 1 1, 3) := dk_132 1 1 (dk_at dksX6_comesBack_0 21 rfl rfl)
theorem dX6_comesBack_24 : decode cX6_comesBack 24 = .ok (.goto (-22), 3) := dk_167 255 234 (dk_at dksX6_comesBack_1 0 rfl rfl)
theorem dX6_comesBack_27 : decode cX6_comesBack 27 = .ok (.return_, 1) := dk_177 (dk_at dksX6_comesBack_1 3 rfl rfl)
abbrev cX6_law : ByteArray := prog_19_method_47_code
def yX6_law : MethodName := ⟨RX6, "law", "()I"⟩
def dkwX6_law_3 : List UInt8 := [42, 180, 0, 22, 28, 46, 79, 132, 2, 1, 167, 255, 229, 42, 3, 181, 0, 188, 27, 172]
abbrev dktX6_law_3 : List UInt8 := dkwX6_law_3 ++ []
def dkwX6_law_2 : List UInt8 := [42, 180, 0, 78, 79, 3, 61, 28, 42, 180, 0, 78, 162, 0, 25, 42, 180, 0, 7, 17, 1, 113, 28, 96]
abbrev dktX6_law_2 : List UInt8 := dkwX6_law_2 ++ dktX6_law_3
def dkwX6_law_1 : List UInt8 := [181, 0, 41, 42, 180, 0, 41, 158, 0, 5, 3, 172, 42, 180, 0, 7, 4, 27, 79, 42, 180, 0, 7, 5]
abbrev dktX6_law_1 : List UInt8 := dkwX6_law_1 ++ dktX6_law_2
def dkwX6_law_0 : List UInt8 := [42, 182, 0, 178, 42, 4, 182, 0, 181, 60, 42, 42, 180, 0, 25, 2, 159, 0, 7, 4, 167, 0, 4, 3]
abbrev dktX6_law_0 : List UInt8 := dkwX6_law_0 ++ dktX6_law_1
theorem dksX6_law_0 : cX6_law.data.toList.drop 0 = dktX6_law_0 := by decide +kernel
theorem dksX6_law_1 : cX6_law.data.toList.drop 24 = dktX6_law_1 := dk_seg dksX6_law_0 24 rfl rfl
theorem dksX6_law_2 : cX6_law.data.toList.drop 48 = dktX6_law_2 := dk_seg dksX6_law_1 24 rfl rfl
theorem dksX6_law_3 : cX6_law.data.toList.drop 72 = dktX6_law_3 := dk_seg dksX6_law_2 24 rfl rfl
theorem dX6_law_0 : decode cX6_law 0 = .ok (.aload_n 0, 1) := dk_42 (dk_at dksX6_law_0 0 rfl rfl)
theorem dX6_law_1 : decode cX6_law 1 = .ok (.invokevirtual 178, 3) := dk_182 0 178 (dk_at dksX6_law_0 1 rfl rfl)
theorem dX6_law_4 : decode cX6_law 4 = .ok (.aload_n 0, 1) := dk_42 (dk_at dksX6_law_0 4 rfl rfl)
theorem dX6_law_5 : decode cX6_law 5 = .ok (.iconst 1, 1) := dk_4 (dk_at dksX6_law_0 5 rfl rfl)
theorem dX6_law_6 : decode cX6_law 6 = .ok (.invokevirtual 181, 3) := dk_182 0 181 (dk_at dksX6_law_0 6 rfl rfl)
theorem dX6_law_9 : decode cX6_law 9 = .ok (.istore_n 1, 1) := dk_60 (dk_at dksX6_law_0 9 rfl rfl)
theorem dX6_law_10 : decode cX6_law 10 = .ok (.aload_n 0, 1) := dk_42 (dk_at dksX6_law_0 10 rfl rfl)
theorem dX6_law_11 : decode cX6_law 11 = .ok (.aload_n 0, 1) := dk_42 (dk_at dksX6_law_0 11 rfl rfl)
theorem dX6_law_12 : decode cX6_law 12 = .ok (.getfield 25, 3) := dk_180 0 25 (dk_at dksX6_law_0 12 rfl rfl)
theorem dX6_law_15 : decode cX6_law 15 = .ok (.iconst (-1), 1) := dk_2 (dk_at dksX6_law_0 15 rfl rfl)
theorem dX6_law_16 : decode cX6_law 16 = .ok (.if_icmp .eq 7, 3) := dk_159 0 7 (dk_at dksX6_law_0 16 rfl rfl)
theorem dX6_law_19 : decode cX6_law 19 = .ok (.iconst 1, 1) := dk_4 (dk_at dksX6_law_0 19 rfl rfl)
theorem dX6_law_20 : decode cX6_law 20 = .ok (.goto 4, 3) := dk_167 0 4 (dk_at dksX6_law_0 20 rfl rfl)
theorem dX6_law_23 : decode cX6_law 23 = .ok (.iconst 0, 1) := dk_3 (dk_at dksX6_law_0 23 rfl rfl)
theorem dX6_law_24 : decode cX6_law 24 = .ok (.putfield 41, 3) := dk_181 0 41 (dk_at dksX6_law_1 0 rfl rfl)
theorem dX6_law_27 : decode cX6_law 27 = .ok (.aload_n 0, 1) := dk_42 (dk_at dksX6_law_1 3 rfl rfl)
theorem dX6_law_28 : decode cX6_law 28 = .ok (.getfield 41, 3) := dk_180 0 41 (dk_at dksX6_law_1 4 rfl rfl)
theorem dX6_law_31 : decode cX6_law 31 = .ok (.ifCond .le 5, 3) := dk_158 0 5 (dk_at dksX6_law_1 7 rfl rfl)
theorem dX6_law_34 : decode cX6_law 34 = .ok (.iconst 0, 1) := dk_3 (dk_at dksX6_law_1 10 rfl rfl)
theorem dX6_law_35 : decode cX6_law 35 = .ok (.ireturn, 1) := dk_172 (dk_at dksX6_law_1 11 rfl rfl)
theorem dX6_law_36 : decode cX6_law 36 = .ok (.aload_n 0, 1) := dk_42 (dk_at dksX6_law_1 12 rfl rfl)
theorem dX6_law_37 : decode cX6_law 37 = .ok (.getfield 7, 3) := dk_180 0 7 (dk_at dksX6_law_1 13 rfl rfl)
theorem dX6_law_40 : decode cX6_law 40 = .ok (.iconst 1, 1) := dk_4 (dk_at dksX6_law_1 16 rfl rfl)
theorem dX6_law_41 : decode cX6_law 41 = .ok (.iload_n 1, 1) := dk_27 (dk_at dksX6_law_1 17 rfl rfl)
theorem dX6_law_42 : decode cX6_law 42 = .ok (.iastore, 1) := dk_79 (dk_at dksX6_law_1 18 rfl rfl)
theorem dX6_law_43 : decode cX6_law 43 = .ok (.aload_n 0, 1) := dk_42 (dk_at dksX6_law_1 19 rfl rfl)
theorem dX6_law_44 : decode cX6_law 44 = .ok (.getfield 7, 3) := dk_180 0 7 (dk_at dksX6_law_1 20 rfl rfl)
theorem dX6_law_47 : decode cX6_law 47 = .ok (.iconst 2, 1) := dk_5 (dk_at dksX6_law_1 23 rfl rfl)
theorem dX6_law_48 : decode cX6_law 48 = .ok (.aload_n 0, 1) := dk_42 (dk_at dksX6_law_2 0 rfl rfl)
theorem dX6_law_49 : decode cX6_law 49 = .ok (.getfield 78, 3) := dk_180 0 78 (dk_at dksX6_law_2 1 rfl rfl)
theorem dX6_law_52 : decode cX6_law 52 = .ok (.iastore, 1) := dk_79 (dk_at dksX6_law_2 4 rfl rfl)
theorem dX6_law_53 : decode cX6_law 53 = .ok (.iconst 0, 1) := dk_3 (dk_at dksX6_law_2 5 rfl rfl)
theorem dX6_law_54 : decode cX6_law 54 = .ok (.istore_n 2, 1) := dk_61 (dk_at dksX6_law_2 6 rfl rfl)
theorem dX6_law_55 : decode cX6_law 55 = .ok (.iload_n 2, 1) := dk_28 (dk_at dksX6_law_2 7 rfl rfl)
theorem dX6_law_56 : decode cX6_law 56 = .ok (.aload_n 0, 1) := dk_42 (dk_at dksX6_law_2 8 rfl rfl)
theorem dX6_law_57 : decode cX6_law 57 = .ok (.getfield 78, 3) := dk_180 0 78 (dk_at dksX6_law_2 9 rfl rfl)
theorem dX6_law_60 : decode cX6_law 60 = .ok (.if_icmp .ge 25, 3) := dk_162 0 25 (dk_at dksX6_law_2 12 rfl rfl)
theorem dX6_law_63 : decode cX6_law 63 = .ok (.aload_n 0, 1) := dk_42 (dk_at dksX6_law_2 15 rfl rfl)
theorem dX6_law_64 : decode cX6_law 64 = .ok (.getfield 7, 3) := dk_180 0 7 (dk_at dksX6_law_2 16 rfl rfl)
theorem dX6_law_67 : decode cX6_law 67 = .ok (.sipush 369, 3) := dk_17 1 113 (dk_at dksX6_law_2 19 rfl rfl)
theorem dX6_law_70 : decode cX6_law 70 = .ok (.iload_n 2, 1) := dk_28 (dk_at dksX6_law_2 22 rfl rfl)
theorem dX6_law_71 : decode cX6_law 71 = .ok (.iadd, 1) := dk_96 (dk_at dksX6_law_2 23 rfl rfl)
theorem dX6_law_72 : decode cX6_law 72 = .ok (.aload_n 0, 1) := dk_42 (dk_at dksX6_law_3 0 rfl rfl)
theorem dX6_law_73 : decode cX6_law 73 = .ok (.getfield 22, 3) := dk_180 0 22 (dk_at dksX6_law_3 1 rfl rfl)
theorem dX6_law_76 : decode cX6_law 76 = .ok (.iload_n 2, 1) := dk_28 (dk_at dksX6_law_3 4 rfl rfl)
theorem dX6_law_77 : decode cX6_law 77 = .ok (.iaload, 1) := dk_46 (dk_at dksX6_law_3 5 rfl rfl)
theorem dX6_law_78 : decode cX6_law 78 = .ok (.iastore, 1) := dk_79 (dk_at dksX6_law_3 6 rfl rfl)
theorem dX6_law_79 : decode cX6_law 79 = .ok (.iinc 2 1, 3) := dk_132 2 1 (dk_at dksX6_law_3 7 rfl rfl)
theorem dX6_law_82 : decode cX6_law 82 = .ok (.goto (-27), 3) := dk_167 255 229 (dk_at dksX6_law_3 10 rfl rfl)
theorem dX6_law_85 : decode cX6_law 85 = .ok (.aload_n 0, 1) := dk_42 (dk_at dksX6_law_3 13 rfl rfl)
theorem dX6_law_86 : decode cX6_law 86 = .ok (.iconst 0, 1) := dk_3 (dk_at dksX6_law_3 14 rfl rfl)
theorem dX6_law_87 : decode cX6_law 87 = .ok (.putfield 188, 3) := dk_181 0 188 (dk_at dksX6_law_3 15 rfl rfl)
theorem dX6_law_90 : decode cX6_law 90 = .ok (.iload_n 1, 1) := dk_27 (dk_at dksX6_law_3 18 rfl rfl)
theorem dX6_law_91 : decode cX6_law 91 = .ok (.ireturn, 1) := dk_172 (dk_at dksX6_law_3 19 rfl rfl)
abbrev cX6_fault : ByteArray := prog_19_method_48_code
def yX6_fault : MethodName := ⟨RX6, "fault", "()I"⟩
def dkwX6_fault_0 : List UInt8 := [42, 3, 181, 0, 41, 42, 180, 0, 25, 172]
abbrev dktX6_fault_0 : List UInt8 := dkwX6_fault_0 ++ []
theorem dksX6_fault_0 : cX6_fault.data.toList.drop 0 = dktX6_fault_0 := by decide +kernel
theorem dX6_fault_0 : decode cX6_fault 0 = .ok (.aload_n 0, 1) := dk_42 (dk_at dksX6_fault_0 0 rfl rfl)
theorem dX6_fault_1 : decode cX6_fault 1 = .ok (.iconst 0, 1) := dk_3 (dk_at dksX6_fault_0 1 rfl rfl)
theorem dX6_fault_2 : decode cX6_fault 2 = .ok (.putfield 41, 3) := dk_181 0 41 (dk_at dksX6_fault_0 2 rfl rfl)
theorem dX6_fault_5 : decode cX6_fault 5 = .ok (.aload_n 0, 1) := dk_42 (dk_at dksX6_fault_0 5 rfl rfl)
theorem dX6_fault_6 : decode cX6_fault 6 = .ok (.getfield 25, 3) := dk_180 0 25 (dk_at dksX6_fault_0 6 rfl rfl)
theorem dX6_fault_9 : decode cX6_fault 9 = .ok (.ireturn, 1) := dk_172 (dk_at dksX6_fault_0 9 rfl rfl)
abbrev cX6_person : ByteArray := prog_19_method_56_code
def yX6_person : MethodName := ⟨RX6, "person", "(II)I"⟩
def dkwX6_person_6 : List UInt8 := [167, 0, 4, 3, 172]
abbrev dktX6_person_6 : List UInt8 := dkwX6_person_6 ++ []
def dkwX6_person_5 : List UInt8 := [182, 0, 56, 42, 27, 3, 182, 1, 23, 2, 130, 126, 167, 0, 16, 42, 27, 182, 1, 5, 153, 0, 7, 4]
abbrev dktX6_person_5 : List UInt8 := dkwX6_person_5 ++ dktX6_person_6
def dkwX6_person_4 : List UInt8 := [16, 9, 160, 0, 14, 42, 42, 27, 4, 182, 1, 23, 182, 0, 60, 172, 28, 16, 10, 160, 0, 20, 42, 27]
abbrev dktX6_person_4 : List UInt8 := dkwX6_person_4 ++ dktX6_person_5
def dkwX6_person_3 : List UInt8 := [27, 182, 0, 56, 172, 28, 16, 8, 160, 0, 14, 42, 42, 27, 3, 182, 1, 23, 182, 0, 60, 172, 28]
abbrev dktX6_person_3 : List UInt8 := dkwX6_person_3 ++ dktX6_person_4
def dkwX6_person_2 : List UInt8 := [28, 182, 0, 66, 172, 28, 16, 6, 160, 0, 9, 42, 27, 182, 0, 63, 172, 28, 16, 7, 160, 0, 9, 42]
abbrev dktX6_person_2 : List UInt8 := dkwX6_person_2 ++ dktX6_person_3
def dkwX6_person_1 : List UInt8 := [167, 0, 4, 3, 181, 0, 41, 42, 180, 0, 41, 158, 0, 5, 3, 172, 28, 16, 6, 162, 0, 10, 42, 27]
abbrev dktX6_person_1 : List UInt8 := dkwX6_person_1 ++ dktX6_person_2
def dkwX6_person_0 : List UInt8 := [42, 42, 27, 182, 1, 20, 154, 0, 7, 4, 167, 0, 18, 28, 3, 16, 11, 184, 0, 44, 154, 0, 7, 5]
abbrev dktX6_person_0 : List UInt8 := dkwX6_person_0 ++ dktX6_person_1
theorem dksX6_person_0 : cX6_person.data.toList.drop 0 = dktX6_person_0 := by decide +kernel
theorem dksX6_person_1 : cX6_person.data.toList.drop 24 = dktX6_person_1 := dk_seg dksX6_person_0 24 rfl rfl
theorem dksX6_person_2 : cX6_person.data.toList.drop 48 = dktX6_person_2 := dk_seg dksX6_person_1 24 rfl rfl
theorem dksX6_person_3 : cX6_person.data.toList.drop 72 = dktX6_person_3 := dk_seg dksX6_person_2 24 rfl rfl
theorem dksX6_person_4 : cX6_person.data.toList.drop 95 = dktX6_person_4 := dk_seg dksX6_person_3 23 rfl rfl
theorem dksX6_person_5 : cX6_person.data.toList.drop 119 = dktX6_person_5 := dk_seg dksX6_person_4 24 rfl rfl
theorem dksX6_person_6 : cX6_person.data.toList.drop 143 = dktX6_person_6 := dk_seg dksX6_person_5 24 rfl rfl
theorem dX6_person_0 : decode cX6_person 0 = .ok (.aload_n 0, 1) := dk_42 (dk_at dksX6_person_0 0 rfl rfl)
theorem dX6_person_1 : decode cX6_person 1 = .ok (.aload_n 0, 1) := dk_42 (dk_at dksX6_person_0 1 rfl rfl)
theorem dX6_person_2 : decode cX6_person 2 = .ok (.iload_n 1, 1) := dk_27 (dk_at dksX6_person_0 2 rfl rfl)
theorem dX6_person_3 : decode cX6_person 3 = .ok (.invokevirtual 276, 3) := dk_182 1 20 (dk_at dksX6_person_0 3 rfl rfl)
theorem dX6_person_6 : decode cX6_person 6 = .ok (.ifCond .ne 7, 3) := dk_154 0 7 (dk_at dksX6_person_0 6 rfl rfl)
theorem dX6_person_9 : decode cX6_person 9 = .ok (.iconst 1, 1) := dk_4 (dk_at dksX6_person_0 9 rfl rfl)
theorem dX6_person_10 : decode cX6_person 10 = .ok (.goto 18, 3) := dk_167 0 18 (dk_at dksX6_person_0 10 rfl rfl)
theorem dX6_person_13 : decode cX6_person 13 = .ok (.iload_n 2, 1) := dk_28 (dk_at dksX6_person_0 13 rfl rfl)
theorem dX6_person_14 : decode cX6_person 14 = .ok (.iconst 0, 1) := dk_3 (dk_at dksX6_person_0 14 rfl rfl)
theorem dX6_person_15 : decode cX6_person 15 = .ok (.bipush 11, 2) := dk_16 11 (dk_at dksX6_person_0 15 rfl rfl)
theorem dX6_person_17 : decode cX6_person 17 = .ok (.invokestatic 44, 3) := dk_184 0 44 (dk_at dksX6_person_0 17 rfl rfl)
theorem dX6_person_20 : decode cX6_person 20 = .ok (.ifCond .ne 7, 3) := dk_154 0 7 (dk_at dksX6_person_0 20 rfl rfl)
theorem dX6_person_23 : decode cX6_person 23 = .ok (.iconst 2, 1) := dk_5 (dk_at dksX6_person_0 23 rfl rfl)
theorem dX6_person_24 : decode cX6_person 24 = .ok (.goto 4, 3) := dk_167 0 4 (dk_at dksX6_person_1 0 rfl rfl)
theorem dX6_person_27 : decode cX6_person 27 = .ok (.iconst 0, 1) := dk_3 (dk_at dksX6_person_1 3 rfl rfl)
theorem dX6_person_28 : decode cX6_person 28 = .ok (.putfield 41, 3) := dk_181 0 41 (dk_at dksX6_person_1 4 rfl rfl)
theorem dX6_person_31 : decode cX6_person 31 = .ok (.aload_n 0, 1) := dk_42 (dk_at dksX6_person_1 7 rfl rfl)
theorem dX6_person_32 : decode cX6_person 32 = .ok (.getfield 41, 3) := dk_180 0 41 (dk_at dksX6_person_1 8 rfl rfl)
theorem dX6_person_35 : decode cX6_person 35 = .ok (.ifCond .le 5, 3) := dk_158 0 5 (dk_at dksX6_person_1 11 rfl rfl)
theorem dX6_person_38 : decode cX6_person 38 = .ok (.iconst 0, 1) := dk_3 (dk_at dksX6_person_1 14 rfl rfl)
theorem dX6_person_39 : decode cX6_person 39 = .ok (.ireturn, 1) := dk_172 (dk_at dksX6_person_1 15 rfl rfl)
theorem dX6_person_40 : decode cX6_person 40 = .ok (.iload_n 2, 1) := dk_28 (dk_at dksX6_person_1 16 rfl rfl)
theorem dX6_person_41 : decode cX6_person 41 = .ok (.bipush 6, 2) := dk_16 6 (dk_at dksX6_person_1 17 rfl rfl)
theorem dX6_person_43 : decode cX6_person 43 = .ok (.if_icmp .ge 10, 3) := dk_162 0 10 (dk_at dksX6_person_1 19 rfl rfl)
theorem dX6_person_46 : decode cX6_person 46 = .ok (.aload_n 0, 1) := dk_42 (dk_at dksX6_person_1 22 rfl rfl)
theorem dX6_person_47 : decode cX6_person 47 = .ok (.iload_n 1, 1) := dk_27 (dk_at dksX6_person_1 23 rfl rfl)
theorem dX6_person_48 : decode cX6_person 48 = .ok (.iload_n 2, 1) := dk_28 (dk_at dksX6_person_2 0 rfl rfl)
theorem dX6_person_49 : decode cX6_person 49 = .ok (.invokevirtual 66, 3) := dk_182 0 66 (dk_at dksX6_person_2 1 rfl rfl)
theorem dX6_person_52 : decode cX6_person 52 = .ok (.ireturn, 1) := dk_172 (dk_at dksX6_person_2 4 rfl rfl)
theorem dX6_person_53 : decode cX6_person 53 = .ok (.iload_n 2, 1) := dk_28 (dk_at dksX6_person_2 5 rfl rfl)
theorem dX6_person_54 : decode cX6_person 54 = .ok (.bipush 6, 2) := dk_16 6 (dk_at dksX6_person_2 6 rfl rfl)
theorem dX6_person_56 : decode cX6_person 56 = .ok (.if_icmp .ne 9, 3) := dk_160 0 9 (dk_at dksX6_person_2 8 rfl rfl)
theorem dX6_person_59 : decode cX6_person 59 = .ok (.aload_n 0, 1) := dk_42 (dk_at dksX6_person_2 11 rfl rfl)
theorem dX6_person_60 : decode cX6_person 60 = .ok (.iload_n 1, 1) := dk_27 (dk_at dksX6_person_2 12 rfl rfl)
theorem dX6_person_61 : decode cX6_person 61 = .ok (.invokevirtual 63, 3) := dk_182 0 63 (dk_at dksX6_person_2 13 rfl rfl)
theorem dX6_person_64 : decode cX6_person 64 = .ok (.ireturn, 1) := dk_172 (dk_at dksX6_person_2 16 rfl rfl)
theorem dX6_person_65 : decode cX6_person 65 = .ok (.iload_n 2, 1) := dk_28 (dk_at dksX6_person_2 17 rfl rfl)
theorem dX6_person_66 : decode cX6_person 66 = .ok (.bipush 7, 2) := dk_16 7 (dk_at dksX6_person_2 18 rfl rfl)
theorem dX6_person_68 : decode cX6_person 68 = .ok (.if_icmp .ne 9, 3) := dk_160 0 9 (dk_at dksX6_person_2 20 rfl rfl)
theorem dX6_person_71 : decode cX6_person 71 = .ok (.aload_n 0, 1) := dk_42 (dk_at dksX6_person_2 23 rfl rfl)
theorem dX6_person_72 : decode cX6_person 72 = .ok (.iload_n 1, 1) := dk_27 (dk_at dksX6_person_3 0 rfl rfl)
theorem dX6_person_73 : decode cX6_person 73 = .ok (.invokevirtual 56, 3) := dk_182 0 56 (dk_at dksX6_person_3 1 rfl rfl)
theorem dX6_person_76 : decode cX6_person 76 = .ok (.ireturn, 1) := dk_172 (dk_at dksX6_person_3 4 rfl rfl)
theorem dX6_person_77 : decode cX6_person 77 = .ok (.iload_n 2, 1) := dk_28 (dk_at dksX6_person_3 5 rfl rfl)
theorem dX6_person_78 : decode cX6_person 78 = .ok (.bipush 8, 2) := dk_16 8 (dk_at dksX6_person_3 6 rfl rfl)
theorem dX6_person_80 : decode cX6_person 80 = .ok (.if_icmp .ne 14, 3) := dk_160 0 14 (dk_at dksX6_person_3 8 rfl rfl)
theorem dX6_person_83 : decode cX6_person 83 = .ok (.aload_n 0, 1) := dk_42 (dk_at dksX6_person_3 11 rfl rfl)
theorem dX6_person_84 : decode cX6_person 84 = .ok (.aload_n 0, 1) := dk_42 (dk_at dksX6_person_3 12 rfl rfl)
theorem dX6_person_85 : decode cX6_person 85 = .ok (.iload_n 1, 1) := dk_27 (dk_at dksX6_person_3 13 rfl rfl)
theorem dX6_person_86 : decode cX6_person 86 = .ok (.iconst 0, 1) := dk_3 (dk_at dksX6_person_3 14 rfl rfl)
theorem dX6_person_87 : decode cX6_person 87 = .ok (.invokevirtual 279, 3) := dk_182 1 23 (dk_at dksX6_person_3 15 rfl rfl)
theorem dX6_person_90 : decode cX6_person 90 = .ok (.invokevirtual 60, 3) := dk_182 0 60 (dk_at dksX6_person_3 18 rfl rfl)
theorem dX6_person_93 : decode cX6_person 93 = .ok (.ireturn, 1) := dk_172 (dk_at dksX6_person_3 21 rfl rfl)
theorem dX6_person_94 : decode cX6_person 94 = .ok (.iload_n 2, 1) := dk_28 (dk_at dksX6_person_3 22 rfl rfl)
theorem dX6_person_95 : decode cX6_person 95 = .ok (.bipush 9, 2) := dk_16 9 (dk_at dksX6_person_4 0 rfl rfl)
theorem dX6_person_97 : decode cX6_person 97 = .ok (.if_icmp .ne 14, 3) := dk_160 0 14 (dk_at dksX6_person_4 2 rfl rfl)
theorem dX6_person_100 : decode cX6_person 100 = .ok (.aload_n 0, 1) := dk_42 (dk_at dksX6_person_4 5 rfl rfl)
theorem dX6_person_101 : decode cX6_person 101 = .ok (.aload_n 0, 1) := dk_42 (dk_at dksX6_person_4 6 rfl rfl)
theorem dX6_person_102 : decode cX6_person 102 = .ok (.iload_n 1, 1) := dk_27 (dk_at dksX6_person_4 7 rfl rfl)
theorem dX6_person_103 : decode cX6_person 103 = .ok (.iconst 1, 1) := dk_4 (dk_at dksX6_person_4 8 rfl rfl)
theorem dX6_person_104 : decode cX6_person 104 = .ok (.invokevirtual 279, 3) := dk_182 1 23 (dk_at dksX6_person_4 9 rfl rfl)
theorem dX6_person_107 : decode cX6_person 107 = .ok (.invokevirtual 60, 3) := dk_182 0 60 (dk_at dksX6_person_4 12 rfl rfl)
theorem dX6_person_110 : decode cX6_person 110 = .ok (.ireturn, 1) := dk_172 (dk_at dksX6_person_4 15 rfl rfl)
theorem dX6_person_111 : decode cX6_person 111 = .ok (.iload_n 2, 1) := dk_28 (dk_at dksX6_person_4 16 rfl rfl)
theorem dX6_person_112 : decode cX6_person 112 = .ok (.bipush 10, 2) := dk_16 10 (dk_at dksX6_person_4 17 rfl rfl)
theorem dX6_person_114 : decode cX6_person 114 = .ok (.if_icmp .ne 20, 3) := dk_160 0 20 (dk_at dksX6_person_4 19 rfl rfl)
theorem dX6_person_117 : decode cX6_person 117 = .ok (.aload_n 0, 1) := dk_42 (dk_at dksX6_person_4 22 rfl rfl)
theorem dX6_person_118 : decode cX6_person 118 = .ok (.iload_n 1, 1) := dk_27 (dk_at dksX6_person_4 23 rfl rfl)
theorem dX6_person_119 : decode cX6_person 119 = .ok (.invokevirtual 56, 3) := dk_182 0 56 (dk_at dksX6_person_5 0 rfl rfl)
theorem dX6_person_122 : decode cX6_person 122 = .ok (.aload_n 0, 1) := dk_42 (dk_at dksX6_person_5 3 rfl rfl)
theorem dX6_person_123 : decode cX6_person 123 = .ok (.iload_n 1, 1) := dk_27 (dk_at dksX6_person_5 4 rfl rfl)
theorem dX6_person_124 : decode cX6_person 124 = .ok (.iconst 0, 1) := dk_3 (dk_at dksX6_person_5 5 rfl rfl)
theorem dX6_person_125 : decode cX6_person 125 = .ok (.invokevirtual 279, 3) := dk_182 1 23 (dk_at dksX6_person_5 6 rfl rfl)
theorem dX6_person_128 : decode cX6_person 128 = .ok (.iconst (-1), 1) := dk_2 (dk_at dksX6_person_5 9 rfl rfl)
theorem dX6_person_129 : decode cX6_person 129 = .ok (.ixor, 1) := dk_130 (dk_at dksX6_person_5 10 rfl rfl)
theorem dX6_person_130 : decode cX6_person 130 = .ok (.iand, 1) := dk_126 (dk_at dksX6_person_5 11 rfl rfl)
theorem dX6_person_131 : decode cX6_person 131 = .ok (.goto 16, 3) := dk_167 0 16 (dk_at dksX6_person_5 12 rfl rfl)
theorem dX6_person_134 : decode cX6_person 134 = .ok (.aload_n 0, 1) := dk_42 (dk_at dksX6_person_5 15 rfl rfl)
theorem dX6_person_135 : decode cX6_person 135 = .ok (.iload_n 1, 1) := dk_27 (dk_at dksX6_person_5 16 rfl rfl)
theorem dX6_person_136 : decode cX6_person 136 = .ok (.invokevirtual 261, 3) := dk_182 1 5 (dk_at dksX6_person_5 17 rfl rfl)
theorem dX6_person_139 : decode cX6_person 139 = .ok (.ifCond .eq 7, 3) := dk_153 0 7 (dk_at dksX6_person_5 20 rfl rfl)
theorem dX6_person_142 : decode cX6_person 142 = .ok (.iconst 1, 1) := dk_4 (dk_at dksX6_person_5 23 rfl rfl)
theorem dX6_person_143 : decode cX6_person 143 = .ok (.goto 4, 3) := dk_167 0 4 (dk_at dksX6_person_6 0 rfl rfl)
theorem dX6_person_146 : decode cX6_person 146 = .ok (.iconst 0, 1) := dk_3 (dk_at dksX6_person_6 3 rfl rfl)
theorem dX6_person_147 : decode cX6_person 147 = .ok (.ireturn, 1) := dk_172 (dk_at dksX6_person_6 4 rfl rfl)
abbrev cX6_isPerson : ByteArray := prog_19_method_12_code
def yX6_isPerson : MethodName := ⟨RX6, "isPerson", "(I)Z"⟩
def dkwX6_isPerson_0 : List UInt8 := [27, 3, 42, 180, 0, 7, 6, 46, 4, 100, 184, 0, 44, 172]
abbrev dktX6_isPerson_0 : List UInt8 := dkwX6_isPerson_0 ++ []
theorem dksX6_isPerson_0 : cX6_isPerson.data.toList.drop 0 = dktX6_isPerson_0 := by decide +kernel
theorem dX6_isPerson_0 : decode cX6_isPerson 0 = .ok (.iload_n 1, 1) := dk_27 (dk_at dksX6_isPerson_0 0 rfl rfl)
theorem dX6_isPerson_1 : decode cX6_isPerson 1 = .ok (.iconst 0, 1) := dk_3 (dk_at dksX6_isPerson_0 1 rfl rfl)
theorem dX6_isPerson_2 : decode cX6_isPerson 2 = .ok (.aload_n 0, 1) := dk_42 (dk_at dksX6_isPerson_0 2 rfl rfl)
theorem dX6_isPerson_3 : decode cX6_isPerson 3 = .ok (.getfield 7, 3) := dk_180 0 7 (dk_at dksX6_isPerson_0 3 rfl rfl)
theorem dX6_isPerson_6 : decode cX6_isPerson 6 = .ok (.iconst 3, 1) := dk_6 (dk_at dksX6_isPerson_0 6 rfl rfl)
theorem dX6_isPerson_7 : decode cX6_isPerson 7 = .ok (.iaload, 1) := dk_46 (dk_at dksX6_isPerson_0 7 rfl rfl)
theorem dX6_isPerson_8 : decode cX6_isPerson 8 = .ok (.iconst 1, 1) := dk_4 (dk_at dksX6_isPerson_0 8 rfl rfl)
theorem dX6_isPerson_9 : decode cX6_isPerson 9 = .ok (.isub, 1) := dk_100 (dk_at dksX6_isPerson_0 9 rfl rfl)
theorem dX6_isPerson_10 : decode cX6_isPerson 10 = .ok (.invokestatic 44, 3) := dk_184 0 44 (dk_at dksX6_isPerson_0 10 rfl rfl)
theorem dX6_isPerson_13 : decode cX6_isPerson 13 = .ok (.ireturn, 1) := dk_172 (dk_at dksX6_isPerson_0 13 rfl rfl)
abbrev cX6_of : ByteArray := prog_19_method_8_code
def yX6_of : MethodName := ⟨RX6, "of", "(II)I"⟩
def dkwX6_of_0 : List UInt8 := [42, 180, 0, 7, 16, 33, 16, 6, 27, 104, 96, 28, 96, 46, 172]
abbrev dktX6_of_0 : List UInt8 := dkwX6_of_0 ++ []
theorem dksX6_of_0 : cX6_of.data.toList.drop 0 = dktX6_of_0 := by decide +kernel
theorem dX6_of_0 : decode cX6_of 0 = .ok (.aload_n 0, 1) := dk_42 (dk_at dksX6_of_0 0 rfl rfl)
theorem dX6_of_1 : decode cX6_of 1 = .ok (.getfield 7, 3) := dk_180 0 7 (dk_at dksX6_of_0 1 rfl rfl)
theorem dX6_of_4 : decode cX6_of 4 = .ok (.bipush 33, 2) := dk_16 33 (dk_at dksX6_of_0 4 rfl rfl)
theorem dX6_of_6 : decode cX6_of 6 = .ok (.bipush 6, 2) := dk_16 6 (dk_at dksX6_of_0 6 rfl rfl)
theorem dX6_of_8 : decode cX6_of 8 = .ok (.iload_n 1, 1) := dk_27 (dk_at dksX6_of_0 8 rfl rfl)
theorem dX6_of_9 : decode cX6_of 9 = .ok (.imul, 1) := dk_104 (dk_at dksX6_of_0 9 rfl rfl)
theorem dX6_of_10 : decode cX6_of 10 = .ok (.iadd, 1) := dk_96 (dk_at dksX6_of_0 10 rfl rfl)
theorem dX6_of_11 : decode cX6_of 11 = .ok (.iload_n 2, 1) := dk_28 (dk_at dksX6_of_0 11 rfl rfl)
theorem dX6_of_12 : decode cX6_of 12 = .ok (.iadd, 1) := dk_96 (dk_at dksX6_of_0 12 rfl rfl)
theorem dX6_of_13 : decode cX6_of 13 = .ok (.iaload, 1) := dk_46 (dk_at dksX6_of_0 13 rfl rfl)
theorem dX6_of_14 : decode cX6_of 14 = .ok (.ireturn, 1) := dk_172 (dk_at dksX6_of_0 14 rfl rfl)
abbrev cX6_load : ByteArray := prog_19_method_17_code
def yX6_load : MethodName := ⟨RX6, "load", "(I)I"⟩
def dkwX6_load_0 : List UInt8 := [42, 42, 27, 182, 0, 56, 182, 0, 60, 172]
abbrev dktX6_load_0 : List UInt8 := dkwX6_load_0 ++ []
theorem dksX6_load_0 : cX6_load.data.toList.drop 0 = dktX6_load_0 := by decide +kernel
theorem dX6_load_0 : decode cX6_load 0 = .ok (.aload_n 0, 1) := dk_42 (dk_at dksX6_load_0 0 rfl rfl)
theorem dX6_load_1 : decode cX6_load 1 = .ok (.aload_n 0, 1) := dk_42 (dk_at dksX6_load_0 1 rfl rfl)
theorem dX6_load_2 : decode cX6_load 2 = .ok (.iload_n 1, 1) := dk_27 (dk_at dksX6_load_0 2 rfl rfl)
theorem dX6_load_3 : decode cX6_load 3 = .ok (.invokevirtual 56, 3) := dk_182 0 56 (dk_at dksX6_load_0 3 rfl rfl)
theorem dX6_load_6 : decode cX6_load 6 = .ok (.invokevirtual 60, 3) := dk_182 0 60 (dk_at dksX6_load_0 6 rfl rfl)
theorem dX6_load_9 : decode cX6_load 9 = .ok (.ireturn, 1) := dk_172 (dk_at dksX6_load_0 9 rfl rfl)
abbrev cX6_worn : ByteArray := prog_19_method_15_code
def yX6_worn : MethodName := ⟨RX6, "worn", "(I)I"⟩
def dkwX6_worn_2 : List UInt8 := [167, 255, 214, 28, 172]
abbrev dktX6_worn_2 : List UInt8 := dkwX6_worn_2 ++ []
def dkwX6_worn_1 : List UInt8 := [42, 29, 7, 182, 0, 48, 27, 160, 0, 9, 4, 29, 120, 167, 0, 4, 3, 128, 61, 132, 3, 1]
abbrev dktX6_worn_1 : List UInt8 := dkwX6_worn_1 ++ dktX6_worn_2
def dkwX6_worn_0 : List UInt8 := [3, 61, 3, 62, 29, 42, 180, 0, 7, 7, 46, 162, 0, 38, 28, 42, 29, 6, 182, 0, 48, 154, 0, 19]
abbrev dktX6_worn_0 : List UInt8 := dkwX6_worn_0 ++ dktX6_worn_1
theorem dksX6_worn_0 : cX6_worn.data.toList.drop 0 = dktX6_worn_0 := by decide +kernel
theorem dksX6_worn_1 : cX6_worn.data.toList.drop 24 = dktX6_worn_1 := dk_seg dksX6_worn_0 24 rfl rfl
theorem dksX6_worn_2 : cX6_worn.data.toList.drop 46 = dktX6_worn_2 := dk_seg dksX6_worn_1 22 rfl rfl
theorem dX6_worn_0 : decode cX6_worn 0 = .ok (.iconst 0, 1) := dk_3 (dk_at dksX6_worn_0 0 rfl rfl)
theorem dX6_worn_1 : decode cX6_worn 1 = .ok (.istore_n 2, 1) := dk_61 (dk_at dksX6_worn_0 1 rfl rfl)
theorem dX6_worn_2 : decode cX6_worn 2 = .ok (.iconst 0, 1) := dk_3 (dk_at dksX6_worn_0 2 rfl rfl)
theorem dX6_worn_3 : decode cX6_worn 3 = .ok (.istore_n 3, 1) := dk_62 (dk_at dksX6_worn_0 3 rfl rfl)
theorem dX6_worn_4 : decode cX6_worn 4 = .ok (.iload_n 3, 1) := dk_29 (dk_at dksX6_worn_0 4 rfl rfl)
theorem dX6_worn_5 : decode cX6_worn 5 = .ok (.aload_n 0, 1) := dk_42 (dk_at dksX6_worn_0 5 rfl rfl)
theorem dX6_worn_6 : decode cX6_worn 6 = .ok (.getfield 7, 3) := dk_180 0 7 (dk_at dksX6_worn_0 6 rfl rfl)
theorem dX6_worn_9 : decode cX6_worn 9 = .ok (.iconst 4, 1) := dk_7 (dk_at dksX6_worn_0 9 rfl rfl)
theorem dX6_worn_10 : decode cX6_worn 10 = .ok (.iaload, 1) := dk_46 (dk_at dksX6_worn_0 10 rfl rfl)
theorem dX6_worn_11 : decode cX6_worn 11 = .ok (.if_icmp .ge 38, 3) := dk_162 0 38 (dk_at dksX6_worn_0 11 rfl rfl)
theorem dX6_worn_14 : decode cX6_worn 14 = .ok (.iload_n 2, 1) := dk_28 (dk_at dksX6_worn_0 14 rfl rfl)
theorem dX6_worn_15 : decode cX6_worn 15 = .ok (.aload_n 0, 1) := dk_42 (dk_at dksX6_worn_0 15 rfl rfl)
theorem dX6_worn_16 : decode cX6_worn 16 = .ok (.iload_n 3, 1) := dk_29 (dk_at dksX6_worn_0 16 rfl rfl)
theorem dX6_worn_17 : decode cX6_worn 17 = .ok (.iconst 3, 1) := dk_6 (dk_at dksX6_worn_0 17 rfl rfl)
theorem dX6_worn_18 : decode cX6_worn 18 = .ok (.invokevirtual 48, 3) := dk_182 0 48 (dk_at dksX6_worn_0 18 rfl rfl)
theorem dX6_worn_21 : decode cX6_worn 21 = .ok (.ifCond .ne 19, 3) := dk_154 0 19 (dk_at dksX6_worn_0 21 rfl rfl)
theorem dX6_worn_24 : decode cX6_worn 24 = .ok (.aload_n 0, 1) := dk_42 (dk_at dksX6_worn_1 0 rfl rfl)
theorem dX6_worn_25 : decode cX6_worn 25 = .ok (.iload_n 3, 1) := dk_29 (dk_at dksX6_worn_1 1 rfl rfl)
theorem dX6_worn_26 : decode cX6_worn 26 = .ok (.iconst 4, 1) := dk_7 (dk_at dksX6_worn_1 2 rfl rfl)
theorem dX6_worn_27 : decode cX6_worn 27 = .ok (.invokevirtual 48, 3) := dk_182 0 48 (dk_at dksX6_worn_1 3 rfl rfl)
theorem dX6_worn_30 : decode cX6_worn 30 = .ok (.iload_n 1, 1) := dk_27 (dk_at dksX6_worn_1 6 rfl rfl)
theorem dX6_worn_31 : decode cX6_worn 31 = .ok (.if_icmp .ne 9, 3) := dk_160 0 9 (dk_at dksX6_worn_1 7 rfl rfl)
theorem dX6_worn_34 : decode cX6_worn 34 = .ok (.iconst 1, 1) := dk_4 (dk_at dksX6_worn_1 10 rfl rfl)
theorem dX6_worn_35 : decode cX6_worn 35 = .ok (.iload_n 3, 1) := dk_29 (dk_at dksX6_worn_1 11 rfl rfl)
theorem dX6_worn_36 : decode cX6_worn 36 = .ok (.ishl, 1) := dk_120 (dk_at dksX6_worn_1 12 rfl rfl)
theorem dX6_worn_37 : decode cX6_worn 37 = .ok (.goto 4, 3) := dk_167 0 4 (dk_at dksX6_worn_1 13 rfl rfl)
theorem dX6_worn_40 : decode cX6_worn 40 = .ok (.iconst 0, 1) := dk_3 (dk_at dksX6_worn_1 16 rfl rfl)
theorem dX6_worn_41 : decode cX6_worn 41 = .ok (.ior, 1) := dk_128 (dk_at dksX6_worn_1 17 rfl rfl)
theorem dX6_worn_42 : decode cX6_worn 42 = .ok (.istore_n 2, 1) := dk_61 (dk_at dksX6_worn_1 18 rfl rfl)
theorem dX6_worn_43 : decode cX6_worn 43 = .ok (.iinc 3 1, 3) := dk_132 3 1 (dk_at dksX6_worn_1 19 rfl rfl)
theorem dX6_worn_46 : decode cX6_worn 46 = .ok (.goto (-42), 3) := dk_167 255 214 (dk_at dksX6_worn_2 0 rfl rfl)
theorem dX6_worn_49 : decode cX6_worn 49 = .ok (.iload_n 2, 1) := dk_28 (dk_at dksX6_worn_2 3 rfl rfl)
theorem dX6_worn_50 : decode cX6_worn 50 = .ok (.ireturn, 1) := dk_172 (dk_at dksX6_worn_2 4 rfl rfl)
abbrev cX6_ofStone : ByteArray := prog_19_method_10_code
def yX6_ofStone : MethodName := ⟨RX6, "ofStone", "(II)I"⟩
def dkwX6_ofStone_0 : List UInt8 := [42, 180, 0, 7, 16, 69, 16, 6, 27, 104, 96, 28, 96, 46, 172]
abbrev dktX6_ofStone_0 : List UInt8 := dkwX6_ofStone_0 ++ []
theorem dksX6_ofStone_0 : cX6_ofStone.data.toList.drop 0 = dktX6_ofStone_0 := by decide +kernel
theorem dX6_ofStone_0 : decode cX6_ofStone 0 = .ok (.aload_n 0, 1) := dk_42 (dk_at dksX6_ofStone_0 0 rfl rfl)
theorem dX6_ofStone_1 : decode cX6_ofStone 1 = .ok (.getfield 7, 3) := dk_180 0 7 (dk_at dksX6_ofStone_0 1 rfl rfl)
theorem dX6_ofStone_4 : decode cX6_ofStone 4 = .ok (.bipush 69, 2) := dk_16 69 (dk_at dksX6_ofStone_0 4 rfl rfl)
theorem dX6_ofStone_6 : decode cX6_ofStone 6 = .ok (.bipush 6, 2) := dk_16 6 (dk_at dksX6_ofStone_0 6 rfl rfl)
theorem dX6_ofStone_8 : decode cX6_ofStone 8 = .ok (.iload_n 1, 1) := dk_27 (dk_at dksX6_ofStone_0 8 rfl rfl)
theorem dX6_ofStone_9 : decode cX6_ofStone 9 = .ok (.imul, 1) := dk_104 (dk_at dksX6_ofStone_0 9 rfl rfl)
theorem dX6_ofStone_10 : decode cX6_ofStone 10 = .ok (.iadd, 1) := dk_96 (dk_at dksX6_ofStone_0 10 rfl rfl)
theorem dX6_ofStone_11 : decode cX6_ofStone 11 = .ok (.iload_n 2, 1) := dk_28 (dk_at dksX6_ofStone_0 11 rfl rfl)
theorem dX6_ofStone_12 : decode cX6_ofStone 12 = .ok (.iadd, 1) := dk_96 (dk_at dksX6_ofStone_0 12 rfl rfl)
theorem dX6_ofStone_13 : decode cX6_ofStone 13 = .ok (.iaload, 1) := dk_46 (dk_at dksX6_ofStone_0 13 rfl rfl)
theorem dX6_ofStone_14 : decode cX6_ofStone 14 = .ok (.ireturn, 1) := dk_172 (dk_at dksX6_ofStone_0 14 rfl rfl)
abbrev cX6_weightOf : ByteArray := prog_19_method_16_code
def yX6_weightOf : MethodName := ⟨RX6, "weightOf", "(I)I"⟩
def dkwX6_weightOf_1 : List UInt8 := [29, 5, 182, 0, 48, 167, 0, 4, 3, 96, 61, 132, 3, 1, 167, 255, 222, 28, 172]
abbrev dktX6_weightOf_1 : List UInt8 := dkwX6_weightOf_1 ++ []
def dkwX6_weightOf_0 : List UInt8 := [3, 61, 3, 62, 29, 42, 180, 0, 7, 7, 46, 162, 0, 30, 28, 27, 29, 184, 0, 52, 153, 0, 12, 42]
abbrev dktX6_weightOf_0 : List UInt8 := dkwX6_weightOf_0 ++ dktX6_weightOf_1
theorem dksX6_weightOf_0 : cX6_weightOf.data.toList.drop 0 = dktX6_weightOf_0 := by decide +kernel
theorem dksX6_weightOf_1 : cX6_weightOf.data.toList.drop 24 = dktX6_weightOf_1 := dk_seg dksX6_weightOf_0 24 rfl rfl
theorem dX6_weightOf_0 : decode cX6_weightOf 0 = .ok (.iconst 0, 1) := dk_3 (dk_at dksX6_weightOf_0 0 rfl rfl)
theorem dX6_weightOf_1 : decode cX6_weightOf 1 = .ok (.istore_n 2, 1) := dk_61 (dk_at dksX6_weightOf_0 1 rfl rfl)
theorem dX6_weightOf_2 : decode cX6_weightOf 2 = .ok (.iconst 0, 1) := dk_3 (dk_at dksX6_weightOf_0 2 rfl rfl)
theorem dX6_weightOf_3 : decode cX6_weightOf 3 = .ok (.istore_n 3, 1) := dk_62 (dk_at dksX6_weightOf_0 3 rfl rfl)
theorem dX6_weightOf_4 : decode cX6_weightOf 4 = .ok (.iload_n 3, 1) := dk_29 (dk_at dksX6_weightOf_0 4 rfl rfl)
theorem dX6_weightOf_5 : decode cX6_weightOf 5 = .ok (.aload_n 0, 1) := dk_42 (dk_at dksX6_weightOf_0 5 rfl rfl)
theorem dX6_weightOf_6 : decode cX6_weightOf 6 = .ok (.getfield 7, 3) := dk_180 0 7 (dk_at dksX6_weightOf_0 6 rfl rfl)
theorem dX6_weightOf_9 : decode cX6_weightOf 9 = .ok (.iconst 4, 1) := dk_7 (dk_at dksX6_weightOf_0 9 rfl rfl)
theorem dX6_weightOf_10 : decode cX6_weightOf 10 = .ok (.iaload, 1) := dk_46 (dk_at dksX6_weightOf_0 10 rfl rfl)
theorem dX6_weightOf_11 : decode cX6_weightOf 11 = .ok (.if_icmp .ge 30, 3) := dk_162 0 30 (dk_at dksX6_weightOf_0 11 rfl rfl)
theorem dX6_weightOf_14 : decode cX6_weightOf 14 = .ok (.iload_n 2, 1) := dk_28 (dk_at dksX6_weightOf_0 14 rfl rfl)
theorem dX6_weightOf_15 : decode cX6_weightOf 15 = .ok (.iload_n 1, 1) := dk_27 (dk_at dksX6_weightOf_0 15 rfl rfl)
theorem dX6_weightOf_16 : decode cX6_weightOf 16 = .ok (.iload_n 3, 1) := dk_29 (dk_at dksX6_weightOf_0 16 rfl rfl)
theorem dX6_weightOf_17 : decode cX6_weightOf 17 = .ok (.invokestatic 52, 3) := dk_184 0 52 (dk_at dksX6_weightOf_0 17 rfl rfl)
theorem dX6_weightOf_20 : decode cX6_weightOf 20 = .ok (.ifCond .eq 12, 3) := dk_153 0 12 (dk_at dksX6_weightOf_0 20 rfl rfl)
theorem dX6_weightOf_23 : decode cX6_weightOf 23 = .ok (.aload_n 0, 1) := dk_42 (dk_at dksX6_weightOf_0 23 rfl rfl)
theorem dX6_weightOf_24 : decode cX6_weightOf 24 = .ok (.iload_n 3, 1) := dk_29 (dk_at dksX6_weightOf_1 0 rfl rfl)
theorem dX6_weightOf_25 : decode cX6_weightOf 25 = .ok (.iconst 2, 1) := dk_5 (dk_at dksX6_weightOf_1 1 rfl rfl)
theorem dX6_weightOf_26 : decode cX6_weightOf 26 = .ok (.invokevirtual 48, 3) := dk_182 0 48 (dk_at dksX6_weightOf_1 2 rfl rfl)
theorem dX6_weightOf_29 : decode cX6_weightOf 29 = .ok (.goto 4, 3) := dk_167 0 4 (dk_at dksX6_weightOf_1 5 rfl rfl)
theorem dX6_weightOf_32 : decode cX6_weightOf 32 = .ok (.iconst 0, 1) := dk_3 (dk_at dksX6_weightOf_1 8 rfl rfl)
theorem dX6_weightOf_33 : decode cX6_weightOf 33 = .ok (.iadd, 1) := dk_96 (dk_at dksX6_weightOf_1 9 rfl rfl)
theorem dX6_weightOf_34 : decode cX6_weightOf 34 = .ok (.istore_n 2, 1) := dk_61 (dk_at dksX6_weightOf_1 10 rfl rfl)
theorem dX6_weightOf_35 : decode cX6_weightOf 35 = .ok (.iinc 3 1, 3) := dk_132 3 1 (dk_at dksX6_weightOf_1 11 rfl rfl)
theorem dX6_weightOf_38 : decode cX6_weightOf 38 = .ok (.goto (-34), 3) := dk_167 255 222 (dk_at dksX6_weightOf_1 14 rfl rfl)
theorem dX6_weightOf_41 : decode cX6_weightOf 41 = .ok (.iload_n 2, 1) := dk_28 (dk_at dksX6_weightOf_1 17 rfl rfl)
theorem dX6_weightOf_42 : decode cX6_weightOf 42 = .ok (.ireturn, 1) := dk_172 (dk_at dksX6_weightOf_1 18 rfl rfl)
abbrev cX6_isOf : ByteArray := prog_19_method_6_code
def yX6_isOf : MethodName := ⟨RX6, "isOf", "(II)Z"⟩
def dkwX6_isOf_0 : List UInt8 := [26, 27, 122, 4, 126, 4, 160, 0, 7, 4, 167, 0, 4, 3, 172]
abbrev dktX6_isOf_0 : List UInt8 := dkwX6_isOf_0 ++ []
theorem dksX6_isOf_0 : cX6_isOf.data.toList.drop 0 = dktX6_isOf_0 := by decide +kernel
theorem dX6_isOf_0 : decode cX6_isOf 0 = .ok (.iload_n 0, 1) := dk_26 (dk_at dksX6_isOf_0 0 rfl rfl)
theorem dX6_isOf_1 : decode cX6_isOf 1 = .ok (.iload_n 1, 1) := dk_27 (dk_at dksX6_isOf_0 1 rfl rfl)
theorem dX6_isOf_2 : decode cX6_isOf 2 = .ok (.ishr, 1) := dk_122 (dk_at dksX6_isOf_0 2 rfl rfl)
theorem dX6_isOf_3 : decode cX6_isOf 3 = .ok (.iconst 1, 1) := dk_4 (dk_at dksX6_isOf_0 3 rfl rfl)
theorem dX6_isOf_4 : decode cX6_isOf 4 = .ok (.iand, 1) := dk_126 (dk_at dksX6_isOf_0 4 rfl rfl)
theorem dX6_isOf_5 : decode cX6_isOf 5 = .ok (.iconst 1, 1) := dk_4 (dk_at dksX6_isOf_0 5 rfl rfl)
theorem dX6_isOf_6 : decode cX6_isOf 6 = .ok (.if_icmp .ne 7, 3) := dk_160 0 7 (dk_at dksX6_isOf_0 6 rfl rfl)
theorem dX6_isOf_9 : decode cX6_isOf 9 = .ok (.iconst 1, 1) := dk_4 (dk_at dksX6_isOf_0 9 rfl rfl)
theorem dX6_isOf_10 : decode cX6_isOf 10 = .ok (.goto 4, 3) := dk_167 0 4 (dk_at dksX6_isOf_0 10 rfl rfl)
theorem dX6_isOf_13 : decode cX6_isOf 13 = .ok (.iconst 0, 1) := dk_3 (dk_at dksX6_isOf_0 13 rfl rfl)
theorem dX6_isOf_14 : decode cX6_isOf 14 = .ok (.ireturn, 1) := dk_172 (dk_at dksX6_isOf_0 14 rfl rfl)
abbrev cX6_owed : ByteArray := prog_19_method_55_code
def yX6_owed : MethodName := ⟨RX6, "owed", "(II)I"⟩
def dkwX6_owed_2 : List UInt8 := [62, 132, 4, 1, 167, 255, 209, 29, 172]
abbrev dktX6_owed_2 : List UInt8 := dkwX6_owed_2 ++ []
def dkwX6_owed_1 : List UInt8 := [5, 162, 0, 21, 42, 21, 4, 28, 182, 0, 48, 27, 160, 0, 10, 4, 21, 4, 120, 167, 0, 4, 3, 128]
abbrev dktX6_owed_1 : List UInt8 := dkwX6_owed_1 ++ dktX6_owed_2
def dkwX6_owed_0 : List UInt8 := [3, 62, 3, 54, 4, 21, 4, 42, 180, 0, 7, 7, 46, 162, 0, 42, 29, 42, 21, 4, 6, 182, 0, 48]
abbrev dktX6_owed_0 : List UInt8 := dkwX6_owed_0 ++ dktX6_owed_1
theorem dksX6_owed_0 : cX6_owed.data.toList.drop 0 = dktX6_owed_0 := by decide +kernel
theorem dksX6_owed_1 : cX6_owed.data.toList.drop 24 = dktX6_owed_1 := dk_seg dksX6_owed_0 24 rfl rfl
theorem dksX6_owed_2 : cX6_owed.data.toList.drop 48 = dktX6_owed_2 := dk_seg dksX6_owed_1 24 rfl rfl
theorem dX6_owed_0 : decode cX6_owed 0 = .ok (.iconst 0, 1) := dk_3 (dk_at dksX6_owed_0 0 rfl rfl)
theorem dX6_owed_1 : decode cX6_owed 1 = .ok (.istore_n 3, 1) := dk_62 (dk_at dksX6_owed_0 1 rfl rfl)
theorem dX6_owed_2 : decode cX6_owed 2 = .ok (.iconst 0, 1) := dk_3 (dk_at dksX6_owed_0 2 rfl rfl)
theorem dX6_owed_3 : decode cX6_owed 3 = .ok (.istore 4, 2) := dk_54 4 (dk_at dksX6_owed_0 3 rfl rfl)
theorem dX6_owed_5 : decode cX6_owed 5 = .ok (.iload 4, 2) := dk_21 4 (dk_at dksX6_owed_0 5 rfl rfl)
theorem dX6_owed_7 : decode cX6_owed 7 = .ok (.aload_n 0, 1) := dk_42 (dk_at dksX6_owed_0 7 rfl rfl)
theorem dX6_owed_8 : decode cX6_owed 8 = .ok (.getfield 7, 3) := dk_180 0 7 (dk_at dksX6_owed_0 8 rfl rfl)
theorem dX6_owed_11 : decode cX6_owed 11 = .ok (.iconst 4, 1) := dk_7 (dk_at dksX6_owed_0 11 rfl rfl)
theorem dX6_owed_12 : decode cX6_owed 12 = .ok (.iaload, 1) := dk_46 (dk_at dksX6_owed_0 12 rfl rfl)
theorem dX6_owed_13 : decode cX6_owed 13 = .ok (.if_icmp .ge 42, 3) := dk_162 0 42 (dk_at dksX6_owed_0 13 rfl rfl)
theorem dX6_owed_16 : decode cX6_owed 16 = .ok (.iload_n 3, 1) := dk_29 (dk_at dksX6_owed_0 16 rfl rfl)
theorem dX6_owed_17 : decode cX6_owed 17 = .ok (.aload_n 0, 1) := dk_42 (dk_at dksX6_owed_0 17 rfl rfl)
theorem dX6_owed_18 : decode cX6_owed 18 = .ok (.iload 4, 2) := dk_21 4 (dk_at dksX6_owed_0 18 rfl rfl)
theorem dX6_owed_20 : decode cX6_owed 20 = .ok (.iconst 3, 1) := dk_6 (dk_at dksX6_owed_0 20 rfl rfl)
theorem dX6_owed_21 : decode cX6_owed 21 = .ok (.invokevirtual 48, 3) := dk_182 0 48 (dk_at dksX6_owed_0 21 rfl rfl)
theorem dX6_owed_24 : decode cX6_owed 24 = .ok (.iconst 2, 1) := dk_5 (dk_at dksX6_owed_1 0 rfl rfl)
theorem dX6_owed_25 : decode cX6_owed 25 = .ok (.if_icmp .ge 21, 3) := dk_162 0 21 (dk_at dksX6_owed_1 1 rfl rfl)
theorem dX6_owed_28 : decode cX6_owed 28 = .ok (.aload_n 0, 1) := dk_42 (dk_at dksX6_owed_1 4 rfl rfl)
theorem dX6_owed_29 : decode cX6_owed 29 = .ok (.iload 4, 2) := dk_21 4 (dk_at dksX6_owed_1 5 rfl rfl)
theorem dX6_owed_31 : decode cX6_owed 31 = .ok (.iload_n 2, 1) := dk_28 (dk_at dksX6_owed_1 7 rfl rfl)
theorem dX6_owed_32 : decode cX6_owed 32 = .ok (.invokevirtual 48, 3) := dk_182 0 48 (dk_at dksX6_owed_1 8 rfl rfl)
theorem dX6_owed_35 : decode cX6_owed 35 = .ok (.iload_n 1, 1) := dk_27 (dk_at dksX6_owed_1 11 rfl rfl)
theorem dX6_owed_36 : decode cX6_owed 36 = .ok (.if_icmp .ne 10, 3) := dk_160 0 10 (dk_at dksX6_owed_1 12 rfl rfl)
theorem dX6_owed_39 : decode cX6_owed 39 = .ok (.iconst 1, 1) := dk_4 (dk_at dksX6_owed_1 15 rfl rfl)
theorem dX6_owed_40 : decode cX6_owed 40 = .ok (.iload 4, 2) := dk_21 4 (dk_at dksX6_owed_1 16 rfl rfl)
theorem dX6_owed_42 : decode cX6_owed 42 = .ok (.ishl, 1) := dk_120 (dk_at dksX6_owed_1 18 rfl rfl)
theorem dX6_owed_43 : decode cX6_owed 43 = .ok (.goto 4, 3) := dk_167 0 4 (dk_at dksX6_owed_1 19 rfl rfl)
theorem dX6_owed_46 : decode cX6_owed 46 = .ok (.iconst 0, 1) := dk_3 (dk_at dksX6_owed_1 22 rfl rfl)
theorem dX6_owed_47 : decode cX6_owed 47 = .ok (.ior, 1) := dk_128 (dk_at dksX6_owed_1 23 rfl rfl)
theorem dX6_owed_48 : decode cX6_owed 48 = .ok (.istore_n 3, 1) := dk_62 (dk_at dksX6_owed_2 0 rfl rfl)
theorem dX6_owed_49 : decode cX6_owed 49 = .ok (.iinc 4 1, 3) := dk_132 4 1 (dk_at dksX6_owed_2 1 rfl rfl)
theorem dX6_owed_52 : decode cX6_owed 52 = .ok (.goto (-47), 3) := dk_167 255 209 (dk_at dksX6_owed_2 4 rfl rfl)
theorem dX6_owed_55 : decode cX6_owed 55 = .ok (.iload_n 3, 1) := dk_29 (dk_at dksX6_owed_2 7 rfl rfl)
theorem dX6_owed_56 : decode cX6_owed 56 = .ok (.ireturn, 1) := dk_172 (dk_at dksX6_owed_2 8 rfl rfl)
abbrev cX6_isBowed : ByteArray := prog_19_method_18_code
def yX6_isBowed : MethodName := ⟨RX6, "isBowed", "(I)Z"⟩
def dkwX6_isBowed_1 : List UInt8 := [159, 0, 13, 42, 27, 8, 182, 0, 66, 4, 160, 0, 7, 4, 167, 0, 4, 3, 172]
abbrev dktX6_isBowed_1 : List UInt8 := dkwX6_isBowed_1 ++ []
def dkwX6_isBowed_0 : List UInt8 := [42, 27, 182, 0, 63, 42, 27, 4, 182, 0, 66, 163, 0, 24, 42, 27, 7, 182, 0, 66, 16, 99]
abbrev dktX6_isBowed_0 : List UInt8 := dkwX6_isBowed_0 ++ dktX6_isBowed_1
theorem dksX6_isBowed_0 : cX6_isBowed.data.toList.drop 0 = dktX6_isBowed_0 := by decide +kernel
theorem dksX6_isBowed_1 : cX6_isBowed.data.toList.drop 22 = dktX6_isBowed_1 := dk_seg dksX6_isBowed_0 22 rfl rfl
theorem dX6_isBowed_0 : decode cX6_isBowed 0 = .ok (.aload_n 0, 1) := dk_42 (dk_at dksX6_isBowed_0 0 rfl rfl)
theorem dX6_isBowed_1 : decode cX6_isBowed 1 = .ok (.iload_n 1, 1) := dk_27 (dk_at dksX6_isBowed_0 1 rfl rfl)
theorem dX6_isBowed_2 : decode cX6_isBowed 2 = .ok (.invokevirtual 63, 3) := dk_182 0 63 (dk_at dksX6_isBowed_0 2 rfl rfl)
theorem dX6_isBowed_5 : decode cX6_isBowed 5 = .ok (.aload_n 0, 1) := dk_42 (dk_at dksX6_isBowed_0 5 rfl rfl)
theorem dX6_isBowed_6 : decode cX6_isBowed 6 = .ok (.iload_n 1, 1) := dk_27 (dk_at dksX6_isBowed_0 6 rfl rfl)
theorem dX6_isBowed_7 : decode cX6_isBowed 7 = .ok (.iconst 1, 1) := dk_4 (dk_at dksX6_isBowed_0 7 rfl rfl)
theorem dX6_isBowed_8 : decode cX6_isBowed 8 = .ok (.invokevirtual 66, 3) := dk_182 0 66 (dk_at dksX6_isBowed_0 8 rfl rfl)
theorem dX6_isBowed_11 : decode cX6_isBowed 11 = .ok (.if_icmp .gt 24, 3) := dk_163 0 24 (dk_at dksX6_isBowed_0 11 rfl rfl)
theorem dX6_isBowed_14 : decode cX6_isBowed 14 = .ok (.aload_n 0, 1) := dk_42 (dk_at dksX6_isBowed_0 14 rfl rfl)
theorem dX6_isBowed_15 : decode cX6_isBowed 15 = .ok (.iload_n 1, 1) := dk_27 (dk_at dksX6_isBowed_0 15 rfl rfl)
theorem dX6_isBowed_16 : decode cX6_isBowed 16 = .ok (.iconst 4, 1) := dk_7 (dk_at dksX6_isBowed_0 16 rfl rfl)
theorem dX6_isBowed_17 : decode cX6_isBowed 17 = .ok (.invokevirtual 66, 3) := dk_182 0 66 (dk_at dksX6_isBowed_0 17 rfl rfl)
theorem dX6_isBowed_20 : decode cX6_isBowed 20 = .ok (.bipush 99, 2) := dk_16 99 (dk_at dksX6_isBowed_0 20 rfl rfl)
theorem dX6_isBowed_22 : decode cX6_isBowed 22 = .ok (.if_icmp .eq 13, 3) := dk_159 0 13 (dk_at dksX6_isBowed_1 0 rfl rfl)
theorem dX6_isBowed_25 : decode cX6_isBowed 25 = .ok (.aload_n 0, 1) := dk_42 (dk_at dksX6_isBowed_1 3 rfl rfl)
theorem dX6_isBowed_26 : decode cX6_isBowed 26 = .ok (.iload_n 1, 1) := dk_27 (dk_at dksX6_isBowed_1 4 rfl rfl)
theorem dX6_isBowed_27 : decode cX6_isBowed 27 = .ok (.iconst 5, 1) := dk_8 (dk_at dksX6_isBowed_1 5 rfl rfl)
theorem dX6_isBowed_28 : decode cX6_isBowed 28 = .ok (.invokevirtual 66, 3) := dk_182 0 66 (dk_at dksX6_isBowed_1 6 rfl rfl)
theorem dX6_isBowed_31 : decode cX6_isBowed 31 = .ok (.iconst 1, 1) := dk_4 (dk_at dksX6_isBowed_1 9 rfl rfl)
theorem dX6_isBowed_32 : decode cX6_isBowed 32 = .ok (.if_icmp .ne 7, 3) := dk_160 0 7 (dk_at dksX6_isBowed_1 10 rfl rfl)
theorem dX6_isBowed_35 : decode cX6_isBowed 35 = .ok (.iconst 1, 1) := dk_4 (dk_at dksX6_isBowed_1 13 rfl rfl)
theorem dX6_isBowed_36 : decode cX6_isBowed 36 = .ok (.goto 4, 3) := dk_167 0 4 (dk_at dksX6_isBowed_1 14 rfl rfl)
theorem dX6_isBowed_39 : decode cX6_isBowed 39 = .ok (.iconst 0, 1) := dk_3 (dk_at dksX6_isBowed_1 17 rfl rfl)
theorem dX6_isBowed_40 : decode cX6_isBowed 40 = .ok (.ireturn, 1) := dk_172 (dk_at dksX6_isBowed_1 18 rfl rfl)
abbrev cX6_does : ByteArray := prog_19_method_57_code
def yX6_does : MethodName := ⟨RX6, "does", "(II)I"⟩
def dkwX6_does_4 : List UInt8 := [184, 1, 2, 172]
abbrev dktX6_does_4 : List UInt8 := dkwX6_does_4 ++ []
def dkwX6_does_3 : List UInt8 := [180, 0, 7, 4, 46, 2, 160, 0, 10, 42, 180, 0, 248, 167, 0, 12, 16, 100, 42, 180, 0, 248]
abbrev dktX6_does_3 : List UInt8 := dkwX6_does_3 ++ dktX6_does_4
def dkwX6_does_2 : List UInt8 := [154, 0, 10, 42, 180, 0, 242, 167, 0, 41, 28, 4, 160, 0, 10, 42, 180, 0, 245, 167, 0, 29, 42]
abbrev dktX6_does_2 : List UInt8 := dkwX6_does_2 ++ dktX6_does_3
def dkwX6_does_1 : List UInt8 := [167, 0, 4, 3, 181, 0, 41, 42, 180, 0, 41, 158, 0, 5, 3, 172, 42, 27, 182, 0, 255, 28]
abbrev dktX6_does_1 : List UInt8 := dkwX6_does_1 ++ dktX6_does_2
def dkwX6_does_0 : List UInt8 := [42, 42, 27, 182, 1, 20, 154, 0, 7, 4, 167, 0, 17, 28, 3, 5, 184, 0, 44, 154, 0, 7, 5]
abbrev dktX6_does_0 : List UInt8 := dkwX6_does_0 ++ dktX6_does_1
theorem dksX6_does_0 : cX6_does.data.toList.drop 0 = dktX6_does_0 := by decide +kernel
theorem dksX6_does_1 : cX6_does.data.toList.drop 23 = dktX6_does_1 := dk_seg dksX6_does_0 23 rfl rfl
theorem dksX6_does_2 : cX6_does.data.toList.drop 45 = dktX6_does_2 := dk_seg dksX6_does_1 22 rfl rfl
theorem dksX6_does_3 : cX6_does.data.toList.drop 68 = dktX6_does_3 := dk_seg dksX6_does_2 23 rfl rfl
theorem dksX6_does_4 : cX6_does.data.toList.drop 90 = dktX6_does_4 := dk_seg dksX6_does_3 22 rfl rfl
theorem dX6_does_0 : decode cX6_does 0 = .ok (.aload_n 0, 1) := dk_42 (dk_at dksX6_does_0 0 rfl rfl)
theorem dX6_does_1 : decode cX6_does 1 = .ok (.aload_n 0, 1) := dk_42 (dk_at dksX6_does_0 1 rfl rfl)
theorem dX6_does_2 : decode cX6_does 2 = .ok (.iload_n 1, 1) := dk_27 (dk_at dksX6_does_0 2 rfl rfl)
theorem dX6_does_3 : decode cX6_does 3 = .ok (.invokevirtual 276, 3) := dk_182 1 20 (dk_at dksX6_does_0 3 rfl rfl)
theorem dX6_does_6 : decode cX6_does 6 = .ok (.ifCond .ne 7, 3) := dk_154 0 7 (dk_at dksX6_does_0 6 rfl rfl)
theorem dX6_does_9 : decode cX6_does 9 = .ok (.iconst 1, 1) := dk_4 (dk_at dksX6_does_0 9 rfl rfl)
theorem dX6_does_10 : decode cX6_does 10 = .ok (.goto 17, 3) := dk_167 0 17 (dk_at dksX6_does_0 10 rfl rfl)
theorem dX6_does_13 : decode cX6_does 13 = .ok (.iload_n 2, 1) := dk_28 (dk_at dksX6_does_0 13 rfl rfl)
theorem dX6_does_14 : decode cX6_does 14 = .ok (.iconst 0, 1) := dk_3 (dk_at dksX6_does_0 14 rfl rfl)
theorem dX6_does_15 : decode cX6_does 15 = .ok (.iconst 2, 1) := dk_5 (dk_at dksX6_does_0 15 rfl rfl)
theorem dX6_does_16 : decode cX6_does 16 = .ok (.invokestatic 44, 3) := dk_184 0 44 (dk_at dksX6_does_0 16 rfl rfl)
theorem dX6_does_19 : decode cX6_does 19 = .ok (.ifCond .ne 7, 3) := dk_154 0 7 (dk_at dksX6_does_0 19 rfl rfl)
theorem dX6_does_22 : decode cX6_does 22 = .ok (.iconst 2, 1) := dk_5 (dk_at dksX6_does_0 22 rfl rfl)
theorem dX6_does_23 : decode cX6_does 23 = .ok (.goto 4, 3) := dk_167 0 4 (dk_at dksX6_does_1 0 rfl rfl)
theorem dX6_does_26 : decode cX6_does 26 = .ok (.iconst 0, 1) := dk_3 (dk_at dksX6_does_1 3 rfl rfl)
theorem dX6_does_27 : decode cX6_does 27 = .ok (.putfield 41, 3) := dk_181 0 41 (dk_at dksX6_does_1 4 rfl rfl)
theorem dX6_does_30 : decode cX6_does 30 = .ok (.aload_n 0, 1) := dk_42 (dk_at dksX6_does_1 7 rfl rfl)
theorem dX6_does_31 : decode cX6_does 31 = .ok (.getfield 41, 3) := dk_180 0 41 (dk_at dksX6_does_1 8 rfl rfl)
theorem dX6_does_34 : decode cX6_does 34 = .ok (.ifCond .le 5, 3) := dk_158 0 5 (dk_at dksX6_does_1 11 rfl rfl)
theorem dX6_does_37 : decode cX6_does 37 = .ok (.iconst 0, 1) := dk_3 (dk_at dksX6_does_1 14 rfl rfl)
theorem dX6_does_38 : decode cX6_does 38 = .ok (.ireturn, 1) := dk_172 (dk_at dksX6_does_1 15 rfl rfl)
theorem dX6_does_39 : decode cX6_does 39 = .ok (.aload_n 0, 1) := dk_42 (dk_at dksX6_does_1 16 rfl rfl)
theorem dX6_does_40 : decode cX6_does 40 = .ok (.iload_n 1, 1) := dk_27 (dk_at dksX6_does_1 17 rfl rfl)
theorem dX6_does_41 : decode cX6_does 41 = .ok (.invokevirtual 255, 3) := dk_182 0 255 (dk_at dksX6_does_1 18 rfl rfl)
theorem dX6_does_44 : decode cX6_does 44 = .ok (.iload_n 2, 1) := dk_28 (dk_at dksX6_does_1 21 rfl rfl)
theorem dX6_does_45 : decode cX6_does 45 = .ok (.ifCond .ne 10, 3) := dk_154 0 10 (dk_at dksX6_does_2 0 rfl rfl)
theorem dX6_does_48 : decode cX6_does 48 = .ok (.aload_n 0, 1) := dk_42 (dk_at dksX6_does_2 3 rfl rfl)
theorem dX6_does_49 : decode cX6_does 49 = .ok (.getfield 242, 3) := dk_180 0 242 (dk_at dksX6_does_2 4 rfl rfl)
theorem dX6_does_52 : decode cX6_does 52 = .ok (.goto 41, 3) := dk_167 0 41 (dk_at dksX6_does_2 7 rfl rfl)
theorem dX6_does_55 : decode cX6_does 55 = .ok (.iload_n 2, 1) := dk_28 (dk_at dksX6_does_2 10 rfl rfl)
theorem dX6_does_56 : decode cX6_does 56 = .ok (.iconst 1, 1) := dk_4 (dk_at dksX6_does_2 11 rfl rfl)
theorem dX6_does_57 : decode cX6_does 57 = .ok (.if_icmp .ne 10, 3) := dk_160 0 10 (dk_at dksX6_does_2 12 rfl rfl)
theorem dX6_does_60 : decode cX6_does 60 = .ok (.aload_n 0, 1) := dk_42 (dk_at dksX6_does_2 15 rfl rfl)
theorem dX6_does_61 : decode cX6_does 61 = .ok (.getfield 245, 3) := dk_180 0 245 (dk_at dksX6_does_2 16 rfl rfl)
theorem dX6_does_64 : decode cX6_does 64 = .ok (.goto 29, 3) := dk_167 0 29 (dk_at dksX6_does_2 19 rfl rfl)
theorem dX6_does_67 : decode cX6_does 67 = .ok (.aload_n 0, 1) := dk_42 (dk_at dksX6_does_2 22 rfl rfl)
theorem dX6_does_68 : decode cX6_does 68 = .ok (.getfield 7, 3) := dk_180 0 7 (dk_at dksX6_does_3 0 rfl rfl)
theorem dX6_does_71 : decode cX6_does 71 = .ok (.iconst 1, 1) := dk_4 (dk_at dksX6_does_3 3 rfl rfl)
theorem dX6_does_72 : decode cX6_does 72 = .ok (.iaload, 1) := dk_46 (dk_at dksX6_does_3 4 rfl rfl)
theorem dX6_does_73 : decode cX6_does 73 = .ok (.iconst (-1), 1) := dk_2 (dk_at dksX6_does_3 5 rfl rfl)
theorem dX6_does_74 : decode cX6_does 74 = .ok (.if_icmp .ne 10, 3) := dk_160 0 10 (dk_at dksX6_does_3 6 rfl rfl)
theorem dX6_does_77 : decode cX6_does 77 = .ok (.aload_n 0, 1) := dk_42 (dk_at dksX6_does_3 9 rfl rfl)
theorem dX6_does_78 : decode cX6_does 78 = .ok (.getfield 248, 3) := dk_180 0 248 (dk_at dksX6_does_3 10 rfl rfl)
theorem dX6_does_81 : decode cX6_does 81 = .ok (.goto 12, 3) := dk_167 0 12 (dk_at dksX6_does_3 13 rfl rfl)
theorem dX6_does_84 : decode cX6_does 84 = .ok (.bipush 100, 2) := dk_16 100 (dk_at dksX6_does_3 16 rfl rfl)
theorem dX6_does_86 : decode cX6_does 86 = .ok (.aload_n 0, 1) := dk_42 (dk_at dksX6_does_3 18 rfl rfl)
theorem dX6_does_87 : decode cX6_does 87 = .ok (.getfield 248, 3) := dk_180 0 248 (dk_at dksX6_does_3 19 rfl rfl)
theorem dX6_does_90 : decode cX6_does 90 = .ok (.invokestatic 258, 3) := dk_184 1 2 (dk_at dksX6_does_4 0 rfl rfl)
theorem dX6_does_93 : decode cX6_does 93 = .ok (.ireturn, 1) := dk_172 (dk_at dksX6_does_4 3 rfl rfl)
abbrev cX6_asks : ByteArray := prog_19_method_49_code
def yX6_asks : MethodName := ⟨RX6, "asks", "(I)V"⟩
def dkwX6_asks_10 : List UInt8 := [42, 3, 181, 0, 75, 42, 3, 181, 0, 162, 42, 4, 182, 0, 181, 54, 5, 42, 21, 4, 181, 0, 25, 177]
abbrev dktX6_asks_10 : List UInt8 := dkwX6_asks_10 ++ []
def dkwX6_asks_9 : List UInt8 := [54, 4, 42, 2, 181, 0, 25, 42, 17, 1, 113, 181, 0, 72, 42, 42, 180, 0, 7, 5, 46, 181, 0, 78]
abbrev dktX6_asks_9 : List UInt8 := dkwX6_asks_9 ++ dktX6_asks_10
def dkwX6_asks_8 : List UInt8 := [167, 0, 4, 3, 181, 0, 203, 42, 28, 154, 0, 7, 4, 167, 0, 4, 3, 181, 0, 209, 42, 180, 0, 25]
abbrev dktX6_asks_8 : List UInt8 := dkwX6_asks_8 ++ dktX6_asks_9
def dkwX6_asks_7 : List UInt8 := [8, 46, 16, 24, 112, 79, 42, 42, 27, 5, 182, 0, 66, 42, 27, 6, 182, 0, 66, 160, 0, 7, 4]
abbrev dktX6_asks_7 : List UInt8 := dkwX6_asks_7 ++ dktX6_asks_8
def dkwX6_asks_6 : List UInt8 := [46, 79, 42, 180, 0, 29, 8, 42, 27, 7, 182, 0, 66, 79, 42, 180, 0, 29, 16, 6, 42, 180, 0, 7]
abbrev dktX6_asks_6 : List UInt8 := dkwX6_asks_6 ++ dktX6_asks_7
def dkwX6_asks_5 : List UInt8 := [27, 5, 182, 0, 66, 79, 42, 180, 0, 29, 7, 42, 180, 0, 7, 16, 9, 42, 27, 5, 182, 0, 66, 96]
abbrev dktX6_asks_5 : List UInt8 := dkwX6_asks_5 ++ dktX6_asks_6
def dkwX6_asks_4 : List UInt8 := [180, 0, 29, 4, 28, 79, 42, 180, 0, 29, 5, 42, 27, 4, 182, 0, 66, 79, 42, 180, 0, 29, 6, 42]
abbrev dktX6_asks_4 : List UInt8 := dkwX6_asks_4 ++ dktX6_asks_5
def dkwX6_asks_3 : List UInt8 := [100, 184, 0, 251, 167, 0, 4, 3, 181, 0, 248, 29, 153, 0, 4, 177, 42, 180, 0, 29, 3, 27, 79, 42]
abbrev dktX6_asks_3 : List UInt8 := dkwX6_asks_3 ++ dktX6_asks_4
def dkwX6_asks_2 : List UInt8 := [100, 184, 0, 251, 167, 0, 4, 3, 181, 0, 245, 42, 29, 153, 0, 18, 3, 28, 42, 27, 4, 182, 0, 66]
abbrev dktX6_asks_2 : List UInt8 := dkwX6_asks_2 ++ dktX6_asks_3
def dkwX6_asks_1 : List UInt8 := [153, 0, 9, 28, 7, 108, 167, 0, 4, 3, 181, 0, 242, 42, 29, 153, 0, 16, 3, 16, 10, 28, 7, 108]
abbrev dktX6_asks_1 : List UInt8 := dkwX6_asks_1 ++ dktX6_asks_2
def dkwX6_asks_0 : List UInt8 := [42, 27, 182, 0, 63, 61, 42, 180, 0, 7, 4, 46, 2, 160, 0, 7, 4, 167, 0, 4, 3, 62, 42, 29]
abbrev dktX6_asks_0 : List UInt8 := dkwX6_asks_0 ++ dktX6_asks_1
theorem dksX6_asks_0 : cX6_asks.data.toList.drop 0 = dktX6_asks_0 := by decide +kernel
theorem dksX6_asks_1 : cX6_asks.data.toList.drop 24 = dktX6_asks_1 := dk_seg dksX6_asks_0 24 rfl rfl
theorem dksX6_asks_2 : cX6_asks.data.toList.drop 48 = dktX6_asks_2 := dk_seg dksX6_asks_1 24 rfl rfl
theorem dksX6_asks_3 : cX6_asks.data.toList.drop 72 = dktX6_asks_3 := dk_seg dksX6_asks_2 24 rfl rfl
theorem dksX6_asks_4 : cX6_asks.data.toList.drop 96 = dktX6_asks_4 := dk_seg dksX6_asks_3 24 rfl rfl
theorem dksX6_asks_5 : cX6_asks.data.toList.drop 120 = dktX6_asks_5 := dk_seg dksX6_asks_4 24 rfl rfl
theorem dksX6_asks_6 : cX6_asks.data.toList.drop 144 = dktX6_asks_6 := dk_seg dksX6_asks_5 24 rfl rfl
theorem dksX6_asks_7 : cX6_asks.data.toList.drop 168 = dktX6_asks_7 := dk_seg dksX6_asks_6 24 rfl rfl
theorem dksX6_asks_8 : cX6_asks.data.toList.drop 191 = dktX6_asks_8 := dk_seg dksX6_asks_7 23 rfl rfl
theorem dksX6_asks_9 : cX6_asks.data.toList.drop 215 = dktX6_asks_9 := dk_seg dksX6_asks_8 24 rfl rfl
theorem dksX6_asks_10 : cX6_asks.data.toList.drop 239 = dktX6_asks_10 := dk_seg dksX6_asks_9 24 rfl rfl
theorem dX6_asks_0 : decode cX6_asks 0 = .ok (.aload_n 0, 1) := dk_42 (dk_at dksX6_asks_0 0 rfl rfl)
theorem dX6_asks_1 : decode cX6_asks 1 = .ok (.iload_n 1, 1) := dk_27 (dk_at dksX6_asks_0 1 rfl rfl)
theorem dX6_asks_2 : decode cX6_asks 2 = .ok (.invokevirtual 63, 3) := dk_182 0 63 (dk_at dksX6_asks_0 2 rfl rfl)
theorem dX6_asks_5 : decode cX6_asks 5 = .ok (.istore_n 2, 1) := dk_61 (dk_at dksX6_asks_0 5 rfl rfl)
theorem dX6_asks_6 : decode cX6_asks 6 = .ok (.aload_n 0, 1) := dk_42 (dk_at dksX6_asks_0 6 rfl rfl)
theorem dX6_asks_7 : decode cX6_asks 7 = .ok (.getfield 7, 3) := dk_180 0 7 (dk_at dksX6_asks_0 7 rfl rfl)
theorem dX6_asks_10 : decode cX6_asks 10 = .ok (.iconst 1, 1) := dk_4 (dk_at dksX6_asks_0 10 rfl rfl)
theorem dX6_asks_11 : decode cX6_asks 11 = .ok (.iaload, 1) := dk_46 (dk_at dksX6_asks_0 11 rfl rfl)
theorem dX6_asks_12 : decode cX6_asks 12 = .ok (.iconst (-1), 1) := dk_2 (dk_at dksX6_asks_0 12 rfl rfl)
theorem dX6_asks_13 : decode cX6_asks 13 = .ok (.if_icmp .ne 7, 3) := dk_160 0 7 (dk_at dksX6_asks_0 13 rfl rfl)
theorem dX6_asks_16 : decode cX6_asks 16 = .ok (.iconst 1, 1) := dk_4 (dk_at dksX6_asks_0 16 rfl rfl)
theorem dX6_asks_17 : decode cX6_asks 17 = .ok (.goto 4, 3) := dk_167 0 4 (dk_at dksX6_asks_0 17 rfl rfl)
theorem dX6_asks_20 : decode cX6_asks 20 = .ok (.iconst 0, 1) := dk_3 (dk_at dksX6_asks_0 20 rfl rfl)
theorem dX6_asks_21 : decode cX6_asks 21 = .ok (.istore_n 3, 1) := dk_62 (dk_at dksX6_asks_0 21 rfl rfl)
theorem dX6_asks_22 : decode cX6_asks 22 = .ok (.aload_n 0, 1) := dk_42 (dk_at dksX6_asks_0 22 rfl rfl)
theorem dX6_asks_23 : decode cX6_asks 23 = .ok (.iload_n 3, 1) := dk_29 (dk_at dksX6_asks_0 23 rfl rfl)
theorem dX6_asks_24 : decode cX6_asks 24 = .ok (.ifCond .eq 9, 3) := dk_153 0 9 (dk_at dksX6_asks_1 0 rfl rfl)
theorem dX6_asks_27 : decode cX6_asks 27 = .ok (.iload_n 2, 1) := dk_28 (dk_at dksX6_asks_1 3 rfl rfl)
theorem dX6_asks_28 : decode cX6_asks 28 = .ok (.iconst 4, 1) := dk_7 (dk_at dksX6_asks_1 4 rfl rfl)
theorem dX6_asks_29 : decode cX6_asks 29 = .ok (.idiv, 1) := dk_108 (dk_at dksX6_asks_1 5 rfl rfl)
theorem dX6_asks_30 : decode cX6_asks 30 = .ok (.goto 4, 3) := dk_167 0 4 (dk_at dksX6_asks_1 6 rfl rfl)
theorem dX6_asks_33 : decode cX6_asks 33 = .ok (.iconst 0, 1) := dk_3 (dk_at dksX6_asks_1 9 rfl rfl)
theorem dX6_asks_34 : decode cX6_asks 34 = .ok (.putfield 242, 3) := dk_181 0 242 (dk_at dksX6_asks_1 10 rfl rfl)
theorem dX6_asks_37 : decode cX6_asks 37 = .ok (.aload_n 0, 1) := dk_42 (dk_at dksX6_asks_1 13 rfl rfl)
theorem dX6_asks_38 : decode cX6_asks 38 = .ok (.iload_n 3, 1) := dk_29 (dk_at dksX6_asks_1 14 rfl rfl)
theorem dX6_asks_39 : decode cX6_asks 39 = .ok (.ifCond .eq 16, 3) := dk_153 0 16 (dk_at dksX6_asks_1 15 rfl rfl)
theorem dX6_asks_42 : decode cX6_asks 42 = .ok (.iconst 0, 1) := dk_3 (dk_at dksX6_asks_1 18 rfl rfl)
theorem dX6_asks_43 : decode cX6_asks 43 = .ok (.bipush 10, 2) := dk_16 10 (dk_at dksX6_asks_1 19 rfl rfl)
theorem dX6_asks_45 : decode cX6_asks 45 = .ok (.iload_n 2, 1) := dk_28 (dk_at dksX6_asks_1 21 rfl rfl)
theorem dX6_asks_46 : decode cX6_asks 46 = .ok (.iconst 4, 1) := dk_7 (dk_at dksX6_asks_1 22 rfl rfl)
theorem dX6_asks_47 : decode cX6_asks 47 = .ok (.idiv, 1) := dk_108 (dk_at dksX6_asks_1 23 rfl rfl)
theorem dX6_asks_48 : decode cX6_asks 48 = .ok (.isub, 1) := dk_100 (dk_at dksX6_asks_2 0 rfl rfl)
theorem dX6_asks_49 : decode cX6_asks 49 = .ok (.invokestatic 251, 3) := dk_184 0 251 (dk_at dksX6_asks_2 1 rfl rfl)
theorem dX6_asks_52 : decode cX6_asks 52 = .ok (.goto 4, 3) := dk_167 0 4 (dk_at dksX6_asks_2 4 rfl rfl)
theorem dX6_asks_55 : decode cX6_asks 55 = .ok (.iconst 0, 1) := dk_3 (dk_at dksX6_asks_2 7 rfl rfl)
theorem dX6_asks_56 : decode cX6_asks 56 = .ok (.putfield 245, 3) := dk_181 0 245 (dk_at dksX6_asks_2 8 rfl rfl)
theorem dX6_asks_59 : decode cX6_asks 59 = .ok (.aload_n 0, 1) := dk_42 (dk_at dksX6_asks_2 11 rfl rfl)
theorem dX6_asks_60 : decode cX6_asks 60 = .ok (.iload_n 3, 1) := dk_29 (dk_at dksX6_asks_2 12 rfl rfl)
theorem dX6_asks_61 : decode cX6_asks 61 = .ok (.ifCond .eq 18, 3) := dk_153 0 18 (dk_at dksX6_asks_2 13 rfl rfl)
theorem dX6_asks_64 : decode cX6_asks 64 = .ok (.iconst 0, 1) := dk_3 (dk_at dksX6_asks_2 16 rfl rfl)
theorem dX6_asks_65 : decode cX6_asks 65 = .ok (.iload_n 2, 1) := dk_28 (dk_at dksX6_asks_2 17 rfl rfl)
theorem dX6_asks_66 : decode cX6_asks 66 = .ok (.aload_n 0, 1) := dk_42 (dk_at dksX6_asks_2 18 rfl rfl)
theorem dX6_asks_67 : decode cX6_asks 67 = .ok (.iload_n 1, 1) := dk_27 (dk_at dksX6_asks_2 19 rfl rfl)
theorem dX6_asks_68 : decode cX6_asks 68 = .ok (.iconst 1, 1) := dk_4 (dk_at dksX6_asks_2 20 rfl rfl)
theorem dX6_asks_69 : decode cX6_asks 69 = .ok (.invokevirtual 66, 3) := dk_182 0 66 (dk_at dksX6_asks_2 21 rfl rfl)
theorem dX6_asks_72 : decode cX6_asks 72 = .ok (.isub, 1) := dk_100 (dk_at dksX6_asks_3 0 rfl rfl)
theorem dX6_asks_73 : decode cX6_asks 73 = .ok (.invokestatic 251, 3) := dk_184 0 251 (dk_at dksX6_asks_3 1 rfl rfl)
theorem dX6_asks_76 : decode cX6_asks 76 = .ok (.goto 4, 3) := dk_167 0 4 (dk_at dksX6_asks_3 4 rfl rfl)
theorem dX6_asks_79 : decode cX6_asks 79 = .ok (.iconst 0, 1) := dk_3 (dk_at dksX6_asks_3 7 rfl rfl)
theorem dX6_asks_80 : decode cX6_asks 80 = .ok (.putfield 248, 3) := dk_181 0 248 (dk_at dksX6_asks_3 8 rfl rfl)
theorem dX6_asks_83 : decode cX6_asks 83 = .ok (.iload_n 3, 1) := dk_29 (dk_at dksX6_asks_3 11 rfl rfl)
theorem dX6_asks_84 : decode cX6_asks 84 = .ok (.ifCond .eq 4, 3) := dk_153 0 4 (dk_at dksX6_asks_3 12 rfl rfl)
theorem dX6_asks_87 : decode cX6_asks 87 = .ok (.return_, 1) := dk_177 (dk_at dksX6_asks_3 15 rfl rfl)
theorem dX6_asks_88 : decode cX6_asks 88 = .ok (.aload_n 0, 1) := dk_42 (dk_at dksX6_asks_3 16 rfl rfl)
theorem dX6_asks_89 : decode cX6_asks 89 = .ok (.getfield 29, 3) := dk_180 0 29 (dk_at dksX6_asks_3 17 rfl rfl)
theorem dX6_asks_92 : decode cX6_asks 92 = .ok (.iconst 0, 1) := dk_3 (dk_at dksX6_asks_3 20 rfl rfl)
theorem dX6_asks_93 : decode cX6_asks 93 = .ok (.iload_n 1, 1) := dk_27 (dk_at dksX6_asks_3 21 rfl rfl)
theorem dX6_asks_94 : decode cX6_asks 94 = .ok (.iastore, 1) := dk_79 (dk_at dksX6_asks_3 22 rfl rfl)
theorem dX6_asks_95 : decode cX6_asks 95 = .ok (.aload_n 0, 1) := dk_42 (dk_at dksX6_asks_3 23 rfl rfl)
theorem dX6_asks_96 : decode cX6_asks 96 = .ok (.getfield 29, 3) := dk_180 0 29 (dk_at dksX6_asks_4 0 rfl rfl)
theorem dX6_asks_99 : decode cX6_asks 99 = .ok (.iconst 1, 1) := dk_4 (dk_at dksX6_asks_4 3 rfl rfl)
theorem dX6_asks_100 : decode cX6_asks 100 = .ok (.iload_n 2, 1) := dk_28 (dk_at dksX6_asks_4 4 rfl rfl)
theorem dX6_asks_101 : decode cX6_asks 101 = .ok (.iastore, 1) := dk_79 (dk_at dksX6_asks_4 5 rfl rfl)
theorem dX6_asks_102 : decode cX6_asks 102 = .ok (.aload_n 0, 1) := dk_42 (dk_at dksX6_asks_4 6 rfl rfl)
theorem dX6_asks_103 : decode cX6_asks 103 = .ok (.getfield 29, 3) := dk_180 0 29 (dk_at dksX6_asks_4 7 rfl rfl)
theorem dX6_asks_106 : decode cX6_asks 106 = .ok (.iconst 2, 1) := dk_5 (dk_at dksX6_asks_4 10 rfl rfl)
theorem dX6_asks_107 : decode cX6_asks 107 = .ok (.aload_n 0, 1) := dk_42 (dk_at dksX6_asks_4 11 rfl rfl)
theorem dX6_asks_108 : decode cX6_asks 108 = .ok (.iload_n 1, 1) := dk_27 (dk_at dksX6_asks_4 12 rfl rfl)
theorem dX6_asks_109 : decode cX6_asks 109 = .ok (.iconst 1, 1) := dk_4 (dk_at dksX6_asks_4 13 rfl rfl)
theorem dX6_asks_110 : decode cX6_asks 110 = .ok (.invokevirtual 66, 3) := dk_182 0 66 (dk_at dksX6_asks_4 14 rfl rfl)
theorem dX6_asks_113 : decode cX6_asks 113 = .ok (.iastore, 1) := dk_79 (dk_at dksX6_asks_4 17 rfl rfl)
theorem dX6_asks_114 : decode cX6_asks 114 = .ok (.aload_n 0, 1) := dk_42 (dk_at dksX6_asks_4 18 rfl rfl)
theorem dX6_asks_115 : decode cX6_asks 115 = .ok (.getfield 29, 3) := dk_180 0 29 (dk_at dksX6_asks_4 19 rfl rfl)
theorem dX6_asks_118 : decode cX6_asks 118 = .ok (.iconst 3, 1) := dk_6 (dk_at dksX6_asks_4 22 rfl rfl)
theorem dX6_asks_119 : decode cX6_asks 119 = .ok (.aload_n 0, 1) := dk_42 (dk_at dksX6_asks_4 23 rfl rfl)
theorem dX6_asks_120 : decode cX6_asks 120 = .ok (.iload_n 1, 1) := dk_27 (dk_at dksX6_asks_5 0 rfl rfl)
theorem dX6_asks_121 : decode cX6_asks 121 = .ok (.iconst 2, 1) := dk_5 (dk_at dksX6_asks_5 1 rfl rfl)
theorem dX6_asks_122 : decode cX6_asks 122 = .ok (.invokevirtual 66, 3) := dk_182 0 66 (dk_at dksX6_asks_5 2 rfl rfl)
theorem dX6_asks_125 : decode cX6_asks 125 = .ok (.iastore, 1) := dk_79 (dk_at dksX6_asks_5 5 rfl rfl)
theorem dX6_asks_126 : decode cX6_asks 126 = .ok (.aload_n 0, 1) := dk_42 (dk_at dksX6_asks_5 6 rfl rfl)
theorem dX6_asks_127 : decode cX6_asks 127 = .ok (.getfield 29, 3) := dk_180 0 29 (dk_at dksX6_asks_5 7 rfl rfl)
theorem dX6_asks_130 : decode cX6_asks 130 = .ok (.iconst 4, 1) := dk_7 (dk_at dksX6_asks_5 10 rfl rfl)
theorem dX6_asks_131 : decode cX6_asks 131 = .ok (.aload_n 0, 1) := dk_42 (dk_at dksX6_asks_5 11 rfl rfl)
theorem dX6_asks_132 : decode cX6_asks 132 = .ok (.getfield 7, 3) := dk_180 0 7 (dk_at dksX6_asks_5 12 rfl rfl)
theorem dX6_asks_135 : decode cX6_asks 135 = .ok (.bipush 9, 2) := dk_16 9 (dk_at dksX6_asks_5 15 rfl rfl)
theorem dX6_asks_137 : decode cX6_asks 137 = .ok (.aload_n 0, 1) := dk_42 (dk_at dksX6_asks_5 17 rfl rfl)
theorem dX6_asks_138 : decode cX6_asks 138 = .ok (.iload_n 1, 1) := dk_27 (dk_at dksX6_asks_5 18 rfl rfl)
theorem dX6_asks_139 : decode cX6_asks 139 = .ok (.iconst 2, 1) := dk_5 (dk_at dksX6_asks_5 19 rfl rfl)
theorem dX6_asks_140 : decode cX6_asks 140 = .ok (.invokevirtual 66, 3) := dk_182 0 66 (dk_at dksX6_asks_5 20 rfl rfl)
theorem dX6_asks_143 : decode cX6_asks 143 = .ok (.iadd, 1) := dk_96 (dk_at dksX6_asks_5 23 rfl rfl)
theorem dX6_asks_144 : decode cX6_asks 144 = .ok (.iaload, 1) := dk_46 (dk_at dksX6_asks_6 0 rfl rfl)
theorem dX6_asks_145 : decode cX6_asks 145 = .ok (.iastore, 1) := dk_79 (dk_at dksX6_asks_6 1 rfl rfl)
theorem dX6_asks_146 : decode cX6_asks 146 = .ok (.aload_n 0, 1) := dk_42 (dk_at dksX6_asks_6 2 rfl rfl)
theorem dX6_asks_147 : decode cX6_asks 147 = .ok (.getfield 29, 3) := dk_180 0 29 (dk_at dksX6_asks_6 3 rfl rfl)
theorem dX6_asks_150 : decode cX6_asks 150 = .ok (.iconst 5, 1) := dk_8 (dk_at dksX6_asks_6 6 rfl rfl)
theorem dX6_asks_151 : decode cX6_asks 151 = .ok (.aload_n 0, 1) := dk_42 (dk_at dksX6_asks_6 7 rfl rfl)
theorem dX6_asks_152 : decode cX6_asks 152 = .ok (.iload_n 1, 1) := dk_27 (dk_at dksX6_asks_6 8 rfl rfl)
theorem dX6_asks_153 : decode cX6_asks 153 = .ok (.iconst 4, 1) := dk_7 (dk_at dksX6_asks_6 9 rfl rfl)
theorem dX6_asks_154 : decode cX6_asks 154 = .ok (.invokevirtual 66, 3) := dk_182 0 66 (dk_at dksX6_asks_6 10 rfl rfl)
theorem dX6_asks_157 : decode cX6_asks 157 = .ok (.iastore, 1) := dk_79 (dk_at dksX6_asks_6 13 rfl rfl)
theorem dX6_asks_158 : decode cX6_asks 158 = .ok (.aload_n 0, 1) := dk_42 (dk_at dksX6_asks_6 14 rfl rfl)
theorem dX6_asks_159 : decode cX6_asks 159 = .ok (.getfield 29, 3) := dk_180 0 29 (dk_at dksX6_asks_6 15 rfl rfl)
theorem dX6_asks_162 : decode cX6_asks 162 = .ok (.bipush 6, 2) := dk_16 6 (dk_at dksX6_asks_6 18 rfl rfl)
theorem dX6_asks_164 : decode cX6_asks 164 = .ok (.aload_n 0, 1) := dk_42 (dk_at dksX6_asks_6 20 rfl rfl)
theorem dX6_asks_165 : decode cX6_asks 165 = .ok (.getfield 7, 3) := dk_180 0 7 (dk_at dksX6_asks_6 21 rfl rfl)
theorem dX6_asks_168 : decode cX6_asks 168 = .ok (.iconst 5, 1) := dk_8 (dk_at dksX6_asks_7 0 rfl rfl)
theorem dX6_asks_169 : decode cX6_asks 169 = .ok (.iaload, 1) := dk_46 (dk_at dksX6_asks_7 1 rfl rfl)
theorem dX6_asks_170 : decode cX6_asks 170 = .ok (.bipush 24, 2) := dk_16 24 (dk_at dksX6_asks_7 2 rfl rfl)
theorem dX6_asks_172 : decode cX6_asks 172 = .ok (.irem, 1) := dk_112 (dk_at dksX6_asks_7 4 rfl rfl)
theorem dX6_asks_173 : decode cX6_asks 173 = .ok (.iastore, 1) := dk_79 (dk_at dksX6_asks_7 5 rfl rfl)
theorem dX6_asks_174 : decode cX6_asks 174 = .ok (.aload_n 0, 1) := dk_42 (dk_at dksX6_asks_7 6 rfl rfl)
theorem dX6_asks_175 : decode cX6_asks 175 = .ok (.aload_n 0, 1) := dk_42 (dk_at dksX6_asks_7 7 rfl rfl)
theorem dX6_asks_176 : decode cX6_asks 176 = .ok (.iload_n 1, 1) := dk_27 (dk_at dksX6_asks_7 8 rfl rfl)
theorem dX6_asks_177 : decode cX6_asks 177 = .ok (.iconst 2, 1) := dk_5 (dk_at dksX6_asks_7 9 rfl rfl)
theorem dX6_asks_178 : decode cX6_asks 178 = .ok (.invokevirtual 66, 3) := dk_182 0 66 (dk_at dksX6_asks_7 10 rfl rfl)
theorem dX6_asks_181 : decode cX6_asks 181 = .ok (.aload_n 0, 1) := dk_42 (dk_at dksX6_asks_7 13 rfl rfl)
theorem dX6_asks_182 : decode cX6_asks 182 = .ok (.iload_n 1, 1) := dk_27 (dk_at dksX6_asks_7 14 rfl rfl)
theorem dX6_asks_183 : decode cX6_asks 183 = .ok (.iconst 3, 1) := dk_6 (dk_at dksX6_asks_7 15 rfl rfl)
theorem dX6_asks_184 : decode cX6_asks 184 = .ok (.invokevirtual 66, 3) := dk_182 0 66 (dk_at dksX6_asks_7 16 rfl rfl)
theorem dX6_asks_187 : decode cX6_asks 187 = .ok (.if_icmp .ne 7, 3) := dk_160 0 7 (dk_at dksX6_asks_7 19 rfl rfl)
theorem dX6_asks_190 : decode cX6_asks 190 = .ok (.iconst 1, 1) := dk_4 (dk_at dksX6_asks_7 22 rfl rfl)
theorem dX6_asks_191 : decode cX6_asks 191 = .ok (.goto 4, 3) := dk_167 0 4 (dk_at dksX6_asks_8 0 rfl rfl)
theorem dX6_asks_194 : decode cX6_asks 194 = .ok (.iconst 0, 1) := dk_3 (dk_at dksX6_asks_8 3 rfl rfl)
theorem dX6_asks_195 : decode cX6_asks 195 = .ok (.putfield 203, 3) := dk_181 0 203 (dk_at dksX6_asks_8 4 rfl rfl)
theorem dX6_asks_198 : decode cX6_asks 198 = .ok (.aload_n 0, 1) := dk_42 (dk_at dksX6_asks_8 7 rfl rfl)
theorem dX6_asks_199 : decode cX6_asks 199 = .ok (.iload_n 2, 1) := dk_28 (dk_at dksX6_asks_8 8 rfl rfl)
theorem dX6_asks_200 : decode cX6_asks 200 = .ok (.ifCond .ne 7, 3) := dk_154 0 7 (dk_at dksX6_asks_8 9 rfl rfl)
theorem dX6_asks_203 : decode cX6_asks 203 = .ok (.iconst 1, 1) := dk_4 (dk_at dksX6_asks_8 12 rfl rfl)
theorem dX6_asks_204 : decode cX6_asks 204 = .ok (.goto 4, 3) := dk_167 0 4 (dk_at dksX6_asks_8 13 rfl rfl)
theorem dX6_asks_207 : decode cX6_asks 207 = .ok (.iconst 0, 1) := dk_3 (dk_at dksX6_asks_8 16 rfl rfl)
theorem dX6_asks_208 : decode cX6_asks 208 = .ok (.putfield 209, 3) := dk_181 0 209 (dk_at dksX6_asks_8 17 rfl rfl)
theorem dX6_asks_211 : decode cX6_asks 211 = .ok (.aload_n 0, 1) := dk_42 (dk_at dksX6_asks_8 20 rfl rfl)
theorem dX6_asks_212 : decode cX6_asks 212 = .ok (.getfield 25, 3) := dk_180 0 25 (dk_at dksX6_asks_8 21 rfl rfl)
theorem dX6_asks_215 : decode cX6_asks 215 = .ok (.istore 4, 2) := dk_54 4 (dk_at dksX6_asks_9 0 rfl rfl)
theorem dX6_asks_217 : decode cX6_asks 217 = .ok (.aload_n 0, 1) := dk_42 (dk_at dksX6_asks_9 2 rfl rfl)
theorem dX6_asks_218 : decode cX6_asks 218 = .ok (.iconst (-1), 1) := dk_2 (dk_at dksX6_asks_9 3 rfl rfl)
theorem dX6_asks_219 : decode cX6_asks 219 = .ok (.putfield 25, 3) := dk_181 0 25 (dk_at dksX6_asks_9 4 rfl rfl)
theorem dX6_asks_222 : decode cX6_asks 222 = .ok (.aload_n 0, 1) := dk_42 (dk_at dksX6_asks_9 7 rfl rfl)
theorem dX6_asks_223 : decode cX6_asks 223 = .ok (.sipush 369, 3) := dk_17 1 113 (dk_at dksX6_asks_9 8 rfl rfl)
theorem dX6_asks_226 : decode cX6_asks 226 = .ok (.putfield 72, 3) := dk_181 0 72 (dk_at dksX6_asks_9 11 rfl rfl)
theorem dX6_asks_229 : decode cX6_asks 229 = .ok (.aload_n 0, 1) := dk_42 (dk_at dksX6_asks_9 14 rfl rfl)
theorem dX6_asks_230 : decode cX6_asks 230 = .ok (.aload_n 0, 1) := dk_42 (dk_at dksX6_asks_9 15 rfl rfl)
theorem dX6_asks_231 : decode cX6_asks 231 = .ok (.getfield 7, 3) := dk_180 0 7 (dk_at dksX6_asks_9 16 rfl rfl)
theorem dX6_asks_234 : decode cX6_asks 234 = .ok (.iconst 2, 1) := dk_5 (dk_at dksX6_asks_9 19 rfl rfl)
theorem dX6_asks_235 : decode cX6_asks 235 = .ok (.iaload, 1) := dk_46 (dk_at dksX6_asks_9 20 rfl rfl)
theorem dX6_asks_236 : decode cX6_asks 236 = .ok (.putfield 78, 3) := dk_181 0 78 (dk_at dksX6_asks_9 21 rfl rfl)
theorem dX6_asks_239 : decode cX6_asks 239 = .ok (.aload_n 0, 1) := dk_42 (dk_at dksX6_asks_10 0 rfl rfl)
theorem dX6_asks_240 : decode cX6_asks 240 = .ok (.iconst 0, 1) := dk_3 (dk_at dksX6_asks_10 1 rfl rfl)
theorem dX6_asks_241 : decode cX6_asks 241 = .ok (.putfield 75, 3) := dk_181 0 75 (dk_at dksX6_asks_10 2 rfl rfl)
theorem dX6_asks_244 : decode cX6_asks 244 = .ok (.aload_n 0, 1) := dk_42 (dk_at dksX6_asks_10 5 rfl rfl)
theorem dX6_asks_245 : decode cX6_asks 245 = .ok (.iconst 0, 1) := dk_3 (dk_at dksX6_asks_10 6 rfl rfl)
theorem dX6_asks_246 : decode cX6_asks 246 = .ok (.putfield 162, 3) := dk_181 0 162 (dk_at dksX6_asks_10 7 rfl rfl)
theorem dX6_asks_249 : decode cX6_asks 249 = .ok (.aload_n 0, 1) := dk_42 (dk_at dksX6_asks_10 10 rfl rfl)
theorem dX6_asks_250 : decode cX6_asks 250 = .ok (.iconst 1, 1) := dk_4 (dk_at dksX6_asks_10 11 rfl rfl)
theorem dX6_asks_251 : decode cX6_asks 251 = .ok (.invokevirtual 181, 3) := dk_182 0 181 (dk_at dksX6_asks_10 12 rfl rfl)
theorem dX6_asks_254 : decode cX6_asks 254 = .ok (.istore 5, 2) := dk_54 5 (dk_at dksX6_asks_10 15 rfl rfl)
theorem dX6_asks_256 : decode cX6_asks 256 = .ok (.aload_n 0, 1) := dk_42 (dk_at dksX6_asks_10 17 rfl rfl)
theorem dX6_asks_257 : decode cX6_asks 257 = .ok (.iload 4, 2) := dk_21 4 (dk_at dksX6_asks_10 18 rfl rfl)
theorem dX6_asks_259 : decode cX6_asks 259 = .ok (.putfield 25, 3) := dk_181 0 25 (dk_at dksX6_asks_10 20 rfl rfl)
theorem dX6_asks_262 : decode cX6_asks 262 = .ok (.return_, 1) := dk_177 (dk_at dksX6_asks_10 23 rfl rfl)
abbrev cX6_greater : ByteArray := prog_19_method_5_code
def yX6_greater : MethodName := ⟨RX6, "greater", "(II)I"⟩
def dkwX6_greater_0 : List UInt8 := [26, 27, 164, 0, 7, 26, 167, 0, 4, 27, 172]
abbrev dktX6_greater_0 : List UInt8 := dkwX6_greater_0 ++ []
theorem dksX6_greater_0 : cX6_greater.data.toList.drop 0 = dktX6_greater_0 := by decide +kernel
theorem dX6_greater_0 : decode cX6_greater 0 = .ok (.iload_n 0, 1) := dk_26 (dk_at dksX6_greater_0 0 rfl rfl)
theorem dX6_greater_1 : decode cX6_greater 1 = .ok (.iload_n 1, 1) := dk_27 (dk_at dksX6_greater_0 1 rfl rfl)
theorem dX6_greater_2 : decode cX6_greater 2 = .ok (.if_icmp .le 7, 3) := dk_164 0 7 (dk_at dksX6_greater_0 2 rfl rfl)
theorem dX6_greater_5 : decode cX6_greater 5 = .ok (.iload_n 0, 1) := dk_26 (dk_at dksX6_greater_0 5 rfl rfl)
theorem dX6_greater_6 : decode cX6_greater 6 = .ok (.goto 4, 3) := dk_167 0 4 (dk_at dksX6_greater_0 6 rfl rfl)
theorem dX6_greater_9 : decode cX6_greater 9 = .ok (.iload_n 1, 1) := dk_27 (dk_at dksX6_greater_0 9 rfl rfl)
theorem dX6_greater_10 : decode cX6_greater 10 = .ok (.ireturn, 1) := dk_172 (dk_at dksX6_greater_0 10 rfl rfl)
abbrev cX6_lesser : ByteArray := prog_19_method_4_code
def yX6_lesser : MethodName := ⟨RX6, "lesser", "(II)I"⟩
def dkwX6_lesser_0 : List UInt8 := [26, 27, 162, 0, 7, 26, 167, 0, 4, 27, 172]
abbrev dktX6_lesser_0 : List UInt8 := dkwX6_lesser_0 ++ []
theorem dksX6_lesser_0 : cX6_lesser.data.toList.drop 0 = dktX6_lesser_0 := by decide +kernel
theorem dX6_lesser_0 : decode cX6_lesser 0 = .ok (.iload_n 0, 1) := dk_26 (dk_at dksX6_lesser_0 0 rfl rfl)
theorem dX6_lesser_1 : decode cX6_lesser 1 = .ok (.iload_n 1, 1) := dk_27 (dk_at dksX6_lesser_0 1 rfl rfl)
theorem dX6_lesser_2 : decode cX6_lesser 2 = .ok (.if_icmp .ge 7, 3) := dk_162 0 7 (dk_at dksX6_lesser_0 2 rfl rfl)
theorem dX6_lesser_5 : decode cX6_lesser 5 = .ok (.iload_n 0, 1) := dk_26 (dk_at dksX6_lesser_0 5 rfl rfl)
theorem dX6_lesser_6 : decode cX6_lesser 6 = .ok (.goto 4, 3) := dk_167 0 4 (dk_at dksX6_lesser_0 6 rfl rfl)
theorem dX6_lesser_9 : decode cX6_lesser 9 = .ok (.iload_n 1, 1) := dk_27 (dk_at dksX6_lesser_0 9 rfl rfl)
theorem dX6_lesser_10 : decode cX6_lesser 10 = .ok (.ireturn, 1) := dk_172 (dk_at dksX6_lesser_0 10 rfl rfl)
abbrev cX6_stone : ByteArray := prog_19_method_58_code
def yX6_stone : MethodName := ⟨RX6, "stone", "(II)I"⟩
def dkwX6_stone_4 : List UInt8 := [167, 0, 18, 29, 4, 160, 0, 12, 42, 27, 8, 182, 0, 48, 167, 0, 4, 2, 172]
abbrev dktX6_stone_4 : List UInt8 := dkwX6_stone_4 ++ []
def dkwX6_stone_3 : List UInt8 := [182, 0, 48, 167, 0, 4, 2, 172, 29, 154, 0, 17, 42, 42, 27, 7, 182, 0, 48, 5, 182, 0, 66]
abbrev dktX6_stone_3 : List UInt8 := dkwX6_stone_3 ++ dktX6_stone_4
def dkwX6_stone_2 : List UInt8 := [7, 162, 0, 10, 42, 27, 28, 182, 0, 48, 172, 28, 7, 160, 0, 18, 29, 154, 0, 12, 42, 27, 7]
abbrev dktX6_stone_2 : List UInt8 := dkwX6_stone_2 ++ dktX6_stone_3
def dkwX6_stone_1 : List UInt8 := [167, 0, 4, 3, 181, 0, 41, 42, 180, 0, 41, 158, 0, 5, 3, 172, 42, 27, 6, 182, 0, 48, 62, 28]
abbrev dktX6_stone_1 : List UInt8 := dkwX6_stone_1 ++ dktX6_stone_2
def dkwX6_stone_0 : List UInt8 := [42, 42, 27, 182, 1, 26, 154, 0, 7, 4, 167, 0, 17, 28, 3, 8, 184, 0, 44, 154, 0, 7, 5]
abbrev dktX6_stone_0 : List UInt8 := dkwX6_stone_0 ++ dktX6_stone_1
theorem dksX6_stone_0 : cX6_stone.data.toList.drop 0 = dktX6_stone_0 := by decide +kernel
theorem dksX6_stone_1 : cX6_stone.data.toList.drop 23 = dktX6_stone_1 := dk_seg dksX6_stone_0 23 rfl rfl
theorem dksX6_stone_2 : cX6_stone.data.toList.drop 47 = dktX6_stone_2 := dk_seg dksX6_stone_1 24 rfl rfl
theorem dksX6_stone_3 : cX6_stone.data.toList.drop 70 = dktX6_stone_3 := dk_seg dksX6_stone_2 23 rfl rfl
theorem dksX6_stone_4 : cX6_stone.data.toList.drop 93 = dktX6_stone_4 := dk_seg dksX6_stone_3 23 rfl rfl
theorem dX6_stone_0 : decode cX6_stone 0 = .ok (.aload_n 0, 1) := dk_42 (dk_at dksX6_stone_0 0 rfl rfl)
theorem dX6_stone_1 : decode cX6_stone 1 = .ok (.aload_n 0, 1) := dk_42 (dk_at dksX6_stone_0 1 rfl rfl)
theorem dX6_stone_2 : decode cX6_stone 2 = .ok (.iload_n 1, 1) := dk_27 (dk_at dksX6_stone_0 2 rfl rfl)
theorem dX6_stone_3 : decode cX6_stone 3 = .ok (.invokevirtual 282, 3) := dk_182 1 26 (dk_at dksX6_stone_0 3 rfl rfl)
theorem dX6_stone_6 : decode cX6_stone 6 = .ok (.ifCond .ne 7, 3) := dk_154 0 7 (dk_at dksX6_stone_0 6 rfl rfl)
theorem dX6_stone_9 : decode cX6_stone 9 = .ok (.iconst 1, 1) := dk_4 (dk_at dksX6_stone_0 9 rfl rfl)
theorem dX6_stone_10 : decode cX6_stone 10 = .ok (.goto 17, 3) := dk_167 0 17 (dk_at dksX6_stone_0 10 rfl rfl)
theorem dX6_stone_13 : decode cX6_stone 13 = .ok (.iload_n 2, 1) := dk_28 (dk_at dksX6_stone_0 13 rfl rfl)
theorem dX6_stone_14 : decode cX6_stone 14 = .ok (.iconst 0, 1) := dk_3 (dk_at dksX6_stone_0 14 rfl rfl)
theorem dX6_stone_15 : decode cX6_stone 15 = .ok (.iconst 5, 1) := dk_8 (dk_at dksX6_stone_0 15 rfl rfl)
theorem dX6_stone_16 : decode cX6_stone 16 = .ok (.invokestatic 44, 3) := dk_184 0 44 (dk_at dksX6_stone_0 16 rfl rfl)
theorem dX6_stone_19 : decode cX6_stone 19 = .ok (.ifCond .ne 7, 3) := dk_154 0 7 (dk_at dksX6_stone_0 19 rfl rfl)
theorem dX6_stone_22 : decode cX6_stone 22 = .ok (.iconst 2, 1) := dk_5 (dk_at dksX6_stone_0 22 rfl rfl)
theorem dX6_stone_23 : decode cX6_stone 23 = .ok (.goto 4, 3) := dk_167 0 4 (dk_at dksX6_stone_1 0 rfl rfl)
theorem dX6_stone_26 : decode cX6_stone 26 = .ok (.iconst 0, 1) := dk_3 (dk_at dksX6_stone_1 3 rfl rfl)
theorem dX6_stone_27 : decode cX6_stone 27 = .ok (.putfield 41, 3) := dk_181 0 41 (dk_at dksX6_stone_1 4 rfl rfl)
theorem dX6_stone_30 : decode cX6_stone 30 = .ok (.aload_n 0, 1) := dk_42 (dk_at dksX6_stone_1 7 rfl rfl)
theorem dX6_stone_31 : decode cX6_stone 31 = .ok (.getfield 41, 3) := dk_180 0 41 (dk_at dksX6_stone_1 8 rfl rfl)
theorem dX6_stone_34 : decode cX6_stone 34 = .ok (.ifCond .le 5, 3) := dk_158 0 5 (dk_at dksX6_stone_1 11 rfl rfl)
theorem dX6_stone_37 : decode cX6_stone 37 = .ok (.iconst 0, 1) := dk_3 (dk_at dksX6_stone_1 14 rfl rfl)
theorem dX6_stone_38 : decode cX6_stone 38 = .ok (.ireturn, 1) := dk_172 (dk_at dksX6_stone_1 15 rfl rfl)
theorem dX6_stone_39 : decode cX6_stone 39 = .ok (.aload_n 0, 1) := dk_42 (dk_at dksX6_stone_1 16 rfl rfl)
theorem dX6_stone_40 : decode cX6_stone 40 = .ok (.iload_n 1, 1) := dk_27 (dk_at dksX6_stone_1 17 rfl rfl)
theorem dX6_stone_41 : decode cX6_stone 41 = .ok (.iconst 3, 1) := dk_6 (dk_at dksX6_stone_1 18 rfl rfl)
theorem dX6_stone_42 : decode cX6_stone 42 = .ok (.invokevirtual 48, 3) := dk_182 0 48 (dk_at dksX6_stone_1 19 rfl rfl)
theorem dX6_stone_45 : decode cX6_stone 45 = .ok (.istore_n 3, 1) := dk_62 (dk_at dksX6_stone_1 22 rfl rfl)
theorem dX6_stone_46 : decode cX6_stone 46 = .ok (.iload_n 2, 1) := dk_28 (dk_at dksX6_stone_1 23 rfl rfl)
theorem dX6_stone_47 : decode cX6_stone 47 = .ok (.iconst 4, 1) := dk_7 (dk_at dksX6_stone_2 0 rfl rfl)
theorem dX6_stone_48 : decode cX6_stone 48 = .ok (.if_icmp .ge 10, 3) := dk_162 0 10 (dk_at dksX6_stone_2 1 rfl rfl)
theorem dX6_stone_51 : decode cX6_stone 51 = .ok (.aload_n 0, 1) := dk_42 (dk_at dksX6_stone_2 4 rfl rfl)
theorem dX6_stone_52 : decode cX6_stone 52 = .ok (.iload_n 1, 1) := dk_27 (dk_at dksX6_stone_2 5 rfl rfl)
theorem dX6_stone_53 : decode cX6_stone 53 = .ok (.iload_n 2, 1) := dk_28 (dk_at dksX6_stone_2 6 rfl rfl)
theorem dX6_stone_54 : decode cX6_stone 54 = .ok (.invokevirtual 48, 3) := dk_182 0 48 (dk_at dksX6_stone_2 7 rfl rfl)
theorem dX6_stone_57 : decode cX6_stone 57 = .ok (.ireturn, 1) := dk_172 (dk_at dksX6_stone_2 10 rfl rfl)
theorem dX6_stone_58 : decode cX6_stone 58 = .ok (.iload_n 2, 1) := dk_28 (dk_at dksX6_stone_2 11 rfl rfl)
theorem dX6_stone_59 : decode cX6_stone 59 = .ok (.iconst 4, 1) := dk_7 (dk_at dksX6_stone_2 12 rfl rfl)
theorem dX6_stone_60 : decode cX6_stone 60 = .ok (.if_icmp .ne 18, 3) := dk_160 0 18 (dk_at dksX6_stone_2 13 rfl rfl)
theorem dX6_stone_63 : decode cX6_stone 63 = .ok (.iload_n 3, 1) := dk_29 (dk_at dksX6_stone_2 16 rfl rfl)
theorem dX6_stone_64 : decode cX6_stone 64 = .ok (.ifCond .ne 12, 3) := dk_154 0 12 (dk_at dksX6_stone_2 17 rfl rfl)
theorem dX6_stone_67 : decode cX6_stone 67 = .ok (.aload_n 0, 1) := dk_42 (dk_at dksX6_stone_2 20 rfl rfl)
theorem dX6_stone_68 : decode cX6_stone 68 = .ok (.iload_n 1, 1) := dk_27 (dk_at dksX6_stone_2 21 rfl rfl)
theorem dX6_stone_69 : decode cX6_stone 69 = .ok (.iconst 4, 1) := dk_7 (dk_at dksX6_stone_2 22 rfl rfl)
theorem dX6_stone_70 : decode cX6_stone 70 = .ok (.invokevirtual 48, 3) := dk_182 0 48 (dk_at dksX6_stone_3 0 rfl rfl)
theorem dX6_stone_73 : decode cX6_stone 73 = .ok (.goto 4, 3) := dk_167 0 4 (dk_at dksX6_stone_3 3 rfl rfl)
theorem dX6_stone_76 : decode cX6_stone 76 = .ok (.iconst (-1), 1) := dk_2 (dk_at dksX6_stone_3 6 rfl rfl)
theorem dX6_stone_77 : decode cX6_stone 77 = .ok (.ireturn, 1) := dk_172 (dk_at dksX6_stone_3 7 rfl rfl)
theorem dX6_stone_78 : decode cX6_stone 78 = .ok (.iload_n 3, 1) := dk_29 (dk_at dksX6_stone_3 8 rfl rfl)
theorem dX6_stone_79 : decode cX6_stone 79 = .ok (.ifCond .ne 17, 3) := dk_154 0 17 (dk_at dksX6_stone_3 9 rfl rfl)
theorem dX6_stone_82 : decode cX6_stone 82 = .ok (.aload_n 0, 1) := dk_42 (dk_at dksX6_stone_3 12 rfl rfl)
theorem dX6_stone_83 : decode cX6_stone 83 = .ok (.aload_n 0, 1) := dk_42 (dk_at dksX6_stone_3 13 rfl rfl)
theorem dX6_stone_84 : decode cX6_stone 84 = .ok (.iload_n 1, 1) := dk_27 (dk_at dksX6_stone_3 14 rfl rfl)
theorem dX6_stone_85 : decode cX6_stone 85 = .ok (.iconst 4, 1) := dk_7 (dk_at dksX6_stone_3 15 rfl rfl)
theorem dX6_stone_86 : decode cX6_stone 86 = .ok (.invokevirtual 48, 3) := dk_182 0 48 (dk_at dksX6_stone_3 16 rfl rfl)
theorem dX6_stone_89 : decode cX6_stone 89 = .ok (.iconst 2, 1) := dk_5 (dk_at dksX6_stone_3 19 rfl rfl)
theorem dX6_stone_90 : decode cX6_stone 90 = .ok (.invokevirtual 66, 3) := dk_182 0 66 (dk_at dksX6_stone_3 20 rfl rfl)
theorem dX6_stone_93 : decode cX6_stone 93 = .ok (.goto 18, 3) := dk_167 0 18 (dk_at dksX6_stone_4 0 rfl rfl)
theorem dX6_stone_96 : decode cX6_stone 96 = .ok (.iload_n 3, 1) := dk_29 (dk_at dksX6_stone_4 3 rfl rfl)
theorem dX6_stone_97 : decode cX6_stone 97 = .ok (.iconst 1, 1) := dk_4 (dk_at dksX6_stone_4 4 rfl rfl)
theorem dX6_stone_98 : decode cX6_stone 98 = .ok (.if_icmp .ne 12, 3) := dk_160 0 12 (dk_at dksX6_stone_4 5 rfl rfl)
theorem dX6_stone_101 : decode cX6_stone 101 = .ok (.aload_n 0, 1) := dk_42 (dk_at dksX6_stone_4 8 rfl rfl)
theorem dX6_stone_102 : decode cX6_stone 102 = .ok (.iload_n 1, 1) := dk_27 (dk_at dksX6_stone_4 9 rfl rfl)
theorem dX6_stone_103 : decode cX6_stone 103 = .ok (.iconst 5, 1) := dk_8 (dk_at dksX6_stone_4 10 rfl rfl)
theorem dX6_stone_104 : decode cX6_stone 104 = .ok (.invokevirtual 48, 3) := dk_182 0 48 (dk_at dksX6_stone_4 11 rfl rfl)
theorem dX6_stone_107 : decode cX6_stone 107 = .ok (.goto 4, 3) := dk_167 0 4 (dk_at dksX6_stone_4 14 rfl rfl)
theorem dX6_stone_110 : decode cX6_stone 110 = .ok (.iconst (-1), 1) := dk_2 (dk_at dksX6_stone_4 17 rfl rfl)
theorem dX6_stone_111 : decode cX6_stone 111 = .ok (.ireturn, 1) := dk_172 (dk_at dksX6_stone_4 18 rfl rfl)
abbrev cX6_isStone : ByteArray := prog_19_method_13_code
def yX6_isStone : MethodName := ⟨RX6, "isStone", "(I)Z"⟩
def dkwX6_isStone_0 : List UInt8 := [27, 3, 42, 180, 0, 7, 7, 46, 4, 100, 184, 0, 44, 172]
abbrev dktX6_isStone_0 : List UInt8 := dkwX6_isStone_0 ++ []
theorem dksX6_isStone_0 : cX6_isStone.data.toList.drop 0 = dktX6_isStone_0 := by decide +kernel
theorem dX6_isStone_0 : decode cX6_isStone 0 = .ok (.iload_n 1, 1) := dk_27 (dk_at dksX6_isStone_0 0 rfl rfl)
theorem dX6_isStone_1 : decode cX6_isStone 1 = .ok (.iconst 0, 1) := dk_3 (dk_at dksX6_isStone_0 1 rfl rfl)
theorem dX6_isStone_2 : decode cX6_isStone 2 = .ok (.aload_n 0, 1) := dk_42 (dk_at dksX6_isStone_0 2 rfl rfl)
theorem dX6_isStone_3 : decode cX6_isStone 3 = .ok (.getfield 7, 3) := dk_180 0 7 (dk_at dksX6_isStone_0 3 rfl rfl)
theorem dX6_isStone_6 : decode cX6_isStone 6 = .ok (.iconst 4, 1) := dk_7 (dk_at dksX6_isStone_0 6 rfl rfl)
theorem dX6_isStone_7 : decode cX6_isStone 7 = .ok (.iaload, 1) := dk_46 (dk_at dksX6_isStone_0 7 rfl rfl)
theorem dX6_isStone_8 : decode cX6_isStone 8 = .ok (.iconst 1, 1) := dk_4 (dk_at dksX6_isStone_0 8 rfl rfl)
theorem dX6_isStone_9 : decode cX6_isStone 9 = .ok (.isub, 1) := dk_100 (dk_at dksX6_isStone_0 9 rfl rfl)
theorem dX6_isStone_10 : decode cX6_isStone 10 = .ok (.invokestatic 44, 3) := dk_184 0 44 (dk_at dksX6_isStone_0 10 rfl rfl)
theorem dX6_isStone_13 : decode cX6_isStone 13 = .ok (.ireturn, 1) := dk_172 (dk_at dksX6_isStone_0 13 rfl rfl)
abbrev cX6_place : ByteArray := prog_19_method_61_code
def yX6_place : MethodName := ⟨RX6, "place", "(II)I"⟩
def dkwX6_place_3 : List UInt8 := [167, 0, 21, 28, 5, 160, 0, 11, 42, 27, 182, 1, 32, 167, 0, 8, 42, 27, 182, 1, 35, 172]
abbrev dktX6_place_3 : List UInt8 := dkwX6_place_3 ++ []
def dkwX6_place_2 : List UInt8 := [16, 9, 27, 96, 46, 167, 0, 38, 28, 4, 160, 0, 15, 42, 180, 0, 7, 16, 21, 27, 96, 46]
abbrev dktX6_place_2 : List UInt8 := dkwX6_place_2 ++ dktX6_place_3
def dkwX6_place_1 : List UInt8 := [167, 0, 4, 3, 181, 0, 41, 42, 180, 0, 41, 158, 0, 5, 3, 172, 28, 154, 0, 15, 42, 180, 0, 7]
abbrev dktX6_place_1 : List UInt8 := dkwX6_place_1 ++ dktX6_place_2
def dkwX6_place_0 : List UInt8 := [42, 27, 184, 1, 29, 154, 0, 7, 4, 167, 0, 17, 28, 3, 6, 184, 0, 44, 154, 0, 7, 5]
abbrev dktX6_place_0 : List UInt8 := dkwX6_place_0 ++ dktX6_place_1
theorem dksX6_place_0 : cX6_place.data.toList.drop 0 = dktX6_place_0 := by decide +kernel
theorem dksX6_place_1 : cX6_place.data.toList.drop 22 = dktX6_place_1 := dk_seg dksX6_place_0 22 rfl rfl
theorem dksX6_place_2 : cX6_place.data.toList.drop 46 = dktX6_place_2 := dk_seg dksX6_place_1 24 rfl rfl
theorem dksX6_place_3 : cX6_place.data.toList.drop 68 = dktX6_place_3 := dk_seg dksX6_place_2 22 rfl rfl
theorem dX6_place_0 : decode cX6_place 0 = .ok (.aload_n 0, 1) := dk_42 (dk_at dksX6_place_0 0 rfl rfl)
theorem dX6_place_1 : decode cX6_place 1 = .ok (.iload_n 1, 1) := dk_27 (dk_at dksX6_place_0 1 rfl rfl)
theorem dX6_place_2 : decode cX6_place 2 = .ok (.invokestatic 285, 3) := dk_184 1 29 (dk_at dksX6_place_0 2 rfl rfl)
theorem dX6_place_5 : decode cX6_place 5 = .ok (.ifCond .ne 7, 3) := dk_154 0 7 (dk_at dksX6_place_0 5 rfl rfl)
theorem dX6_place_8 : decode cX6_place 8 = .ok (.iconst 1, 1) := dk_4 (dk_at dksX6_place_0 8 rfl rfl)
theorem dX6_place_9 : decode cX6_place 9 = .ok (.goto 17, 3) := dk_167 0 17 (dk_at dksX6_place_0 9 rfl rfl)
theorem dX6_place_12 : decode cX6_place 12 = .ok (.iload_n 2, 1) := dk_28 (dk_at dksX6_place_0 12 rfl rfl)
theorem dX6_place_13 : decode cX6_place 13 = .ok (.iconst 0, 1) := dk_3 (dk_at dksX6_place_0 13 rfl rfl)
theorem dX6_place_14 : decode cX6_place 14 = .ok (.iconst 3, 1) := dk_6 (dk_at dksX6_place_0 14 rfl rfl)
theorem dX6_place_15 : decode cX6_place 15 = .ok (.invokestatic 44, 3) := dk_184 0 44 (dk_at dksX6_place_0 15 rfl rfl)
theorem dX6_place_18 : decode cX6_place 18 = .ok (.ifCond .ne 7, 3) := dk_154 0 7 (dk_at dksX6_place_0 18 rfl rfl)
theorem dX6_place_21 : decode cX6_place 21 = .ok (.iconst 2, 1) := dk_5 (dk_at dksX6_place_0 21 rfl rfl)
theorem dX6_place_22 : decode cX6_place 22 = .ok (.goto 4, 3) := dk_167 0 4 (dk_at dksX6_place_1 0 rfl rfl)
theorem dX6_place_25 : decode cX6_place 25 = .ok (.iconst 0, 1) := dk_3 (dk_at dksX6_place_1 3 rfl rfl)
theorem dX6_place_26 : decode cX6_place 26 = .ok (.putfield 41, 3) := dk_181 0 41 (dk_at dksX6_place_1 4 rfl rfl)
theorem dX6_place_29 : decode cX6_place 29 = .ok (.aload_n 0, 1) := dk_42 (dk_at dksX6_place_1 7 rfl rfl)
theorem dX6_place_30 : decode cX6_place 30 = .ok (.getfield 41, 3) := dk_180 0 41 (dk_at dksX6_place_1 8 rfl rfl)
theorem dX6_place_33 : decode cX6_place 33 = .ok (.ifCond .le 5, 3) := dk_158 0 5 (dk_at dksX6_place_1 11 rfl rfl)
theorem dX6_place_36 : decode cX6_place 36 = .ok (.iconst 0, 1) := dk_3 (dk_at dksX6_place_1 14 rfl rfl)
theorem dX6_place_37 : decode cX6_place 37 = .ok (.ireturn, 1) := dk_172 (dk_at dksX6_place_1 15 rfl rfl)
theorem dX6_place_38 : decode cX6_place 38 = .ok (.iload_n 2, 1) := dk_28 (dk_at dksX6_place_1 16 rfl rfl)
theorem dX6_place_39 : decode cX6_place 39 = .ok (.ifCond .ne 15, 3) := dk_154 0 15 (dk_at dksX6_place_1 17 rfl rfl)
theorem dX6_place_42 : decode cX6_place 42 = .ok (.aload_n 0, 1) := dk_42 (dk_at dksX6_place_1 20 rfl rfl)
theorem dX6_place_43 : decode cX6_place 43 = .ok (.getfield 7, 3) := dk_180 0 7 (dk_at dksX6_place_1 21 rfl rfl)
theorem dX6_place_46 : decode cX6_place 46 = .ok (.bipush 9, 2) := dk_16 9 (dk_at dksX6_place_2 0 rfl rfl)
theorem dX6_place_48 : decode cX6_place 48 = .ok (.iload_n 1, 1) := dk_27 (dk_at dksX6_place_2 2 rfl rfl)
theorem dX6_place_49 : decode cX6_place 49 = .ok (.iadd, 1) := dk_96 (dk_at dksX6_place_2 3 rfl rfl)
theorem dX6_place_50 : decode cX6_place 50 = .ok (.iaload, 1) := dk_46 (dk_at dksX6_place_2 4 rfl rfl)
theorem dX6_place_51 : decode cX6_place 51 = .ok (.goto 38, 3) := dk_167 0 38 (dk_at dksX6_place_2 5 rfl rfl)
theorem dX6_place_54 : decode cX6_place 54 = .ok (.iload_n 2, 1) := dk_28 (dk_at dksX6_place_2 8 rfl rfl)
theorem dX6_place_55 : decode cX6_place 55 = .ok (.iconst 1, 1) := dk_4 (dk_at dksX6_place_2 9 rfl rfl)
theorem dX6_place_56 : decode cX6_place 56 = .ok (.if_icmp .ne 15, 3) := dk_160 0 15 (dk_at dksX6_place_2 10 rfl rfl)
theorem dX6_place_59 : decode cX6_place 59 = .ok (.aload_n 0, 1) := dk_42 (dk_at dksX6_place_2 13 rfl rfl)
theorem dX6_place_60 : decode cX6_place 60 = .ok (.getfield 7, 3) := dk_180 0 7 (dk_at dksX6_place_2 14 rfl rfl)
theorem dX6_place_63 : decode cX6_place 63 = .ok (.bipush 21, 2) := dk_16 21 (dk_at dksX6_place_2 17 rfl rfl)
theorem dX6_place_65 : decode cX6_place 65 = .ok (.iload_n 1, 1) := dk_27 (dk_at dksX6_place_2 19 rfl rfl)
theorem dX6_place_66 : decode cX6_place 66 = .ok (.iadd, 1) := dk_96 (dk_at dksX6_place_2 20 rfl rfl)
theorem dX6_place_67 : decode cX6_place 67 = .ok (.iaload, 1) := dk_46 (dk_at dksX6_place_2 21 rfl rfl)
theorem dX6_place_68 : decode cX6_place 68 = .ok (.goto 21, 3) := dk_167 0 21 (dk_at dksX6_place_3 0 rfl rfl)
theorem dX6_place_71 : decode cX6_place 71 = .ok (.iload_n 2, 1) := dk_28 (dk_at dksX6_place_3 3 rfl rfl)
theorem dX6_place_72 : decode cX6_place 72 = .ok (.iconst 2, 1) := dk_5 (dk_at dksX6_place_3 4 rfl rfl)
theorem dX6_place_73 : decode cX6_place 73 = .ok (.if_icmp .ne 11, 3) := dk_160 0 11 (dk_at dksX6_place_3 5 rfl rfl)
theorem dX6_place_76 : decode cX6_place 76 = .ok (.aload_n 0, 1) := dk_42 (dk_at dksX6_place_3 8 rfl rfl)
theorem dX6_place_77 : decode cX6_place 77 = .ok (.iload_n 1, 1) := dk_27 (dk_at dksX6_place_3 9 rfl rfl)
theorem dX6_place_78 : decode cX6_place 78 = .ok (.invokevirtual 288, 3) := dk_182 1 32 (dk_at dksX6_place_3 10 rfl rfl)
theorem dX6_place_81 : decode cX6_place 81 = .ok (.goto 8, 3) := dk_167 0 8 (dk_at dksX6_place_3 13 rfl rfl)
theorem dX6_place_84 : decode cX6_place 84 = .ok (.aload_n 0, 1) := dk_42 (dk_at dksX6_place_3 16 rfl rfl)
theorem dX6_place_85 : decode cX6_place 85 = .ok (.iload_n 1, 1) := dk_27 (dk_at dksX6_place_3 17 rfl rfl)
theorem dX6_place_86 : decode cX6_place 86 = .ok (.invokevirtual 291, 3) := dk_182 1 35 (dk_at dksX6_place_3 18 rfl rfl)
theorem dX6_place_89 : decode cX6_place 89 = .ok (.ireturn, 1) := dk_172 (dk_at dksX6_place_3 21 rfl rfl)
abbrev cX6_isPlace : ByteArray := prog_19_method_14_code
def yX6_isPlace : MethodName := ⟨RX6, "isPlace", "(I)Z"⟩
def dkwX6_isPlace_0 : List UInt8 := [26, 3, 16, 11, 184, 0, 44, 172]
abbrev dktX6_isPlace_0 : List UInt8 := dkwX6_isPlace_0 ++ []
theorem dksX6_isPlace_0 : cX6_isPlace.data.toList.drop 0 = dktX6_isPlace_0 := by decide +kernel
theorem dX6_isPlace_0 : decode cX6_isPlace 0 = .ok (.iload_n 0, 1) := dk_26 (dk_at dksX6_isPlace_0 0 rfl rfl)
theorem dX6_isPlace_1 : decode cX6_isPlace 1 = .ok (.iconst 0, 1) := dk_3 (dk_at dksX6_isPlace_0 1 rfl rfl)
theorem dX6_isPlace_2 : decode cX6_isPlace 2 = .ok (.bipush 11, 2) := dk_16 11 (dk_at dksX6_isPlace_0 2 rfl rfl)
theorem dX6_isPlace_4 : decode cX6_isPlace 4 = .ok (.invokestatic 44, 3) := dk_184 0 44 (dk_at dksX6_isPlace_0 4 rfl rfl)
theorem dX6_isPlace_7 : decode cX6_isPlace 7 = .ok (.ireturn, 1) := dk_172 (dk_at dksX6_isPlace_0 7 rfl rfl)
abbrev cX6_thoseAt : ByteArray := prog_19_method_59_code
def yX6_thoseAt : MethodName := ⟨RX6, "thoseAt", "(I)I"⟩
def dkwX6_thoseAt_1 : List UInt8 := [160, 0, 9, 4, 29, 120, 167, 0, 4, 3, 128, 61, 132, 3, 1, 167, 255, 223, 28, 172]
abbrev dktX6_thoseAt_1 : List UInt8 := dkwX6_thoseAt_1 ++ []
def dkwX6_thoseAt_0 : List UInt8 := [3, 61, 3, 62, 29, 42, 180, 0, 7, 6, 46, 162, 0, 29, 28, 42, 29, 5, 182, 0, 66, 27]
abbrev dktX6_thoseAt_0 : List UInt8 := dkwX6_thoseAt_0 ++ dktX6_thoseAt_1
theorem dksX6_thoseAt_0 : cX6_thoseAt.data.toList.drop 0 = dktX6_thoseAt_0 := by decide +kernel
theorem dksX6_thoseAt_1 : cX6_thoseAt.data.toList.drop 22 = dktX6_thoseAt_1 := dk_seg dksX6_thoseAt_0 22 rfl rfl
theorem dX6_thoseAt_0 : decode cX6_thoseAt 0 = .ok (.iconst 0, 1) := dk_3 (dk_at dksX6_thoseAt_0 0 rfl rfl)
theorem dX6_thoseAt_1 : decode cX6_thoseAt 1 = .ok (.istore_n 2, 1) := dk_61 (dk_at dksX6_thoseAt_0 1 rfl rfl)
theorem dX6_thoseAt_2 : decode cX6_thoseAt 2 = .ok (.iconst 0, 1) := dk_3 (dk_at dksX6_thoseAt_0 2 rfl rfl)
theorem dX6_thoseAt_3 : decode cX6_thoseAt 3 = .ok (.istore_n 3, 1) := dk_62 (dk_at dksX6_thoseAt_0 3 rfl rfl)
theorem dX6_thoseAt_4 : decode cX6_thoseAt 4 = .ok (.iload_n 3, 1) := dk_29 (dk_at dksX6_thoseAt_0 4 rfl rfl)
theorem dX6_thoseAt_5 : decode cX6_thoseAt 5 = .ok (.aload_n 0, 1) := dk_42 (dk_at dksX6_thoseAt_0 5 rfl rfl)
theorem dX6_thoseAt_6 : decode cX6_thoseAt 6 = .ok (.getfield 7, 3) := dk_180 0 7 (dk_at dksX6_thoseAt_0 6 rfl rfl)
theorem dX6_thoseAt_9 : decode cX6_thoseAt 9 = .ok (.iconst 3, 1) := dk_6 (dk_at dksX6_thoseAt_0 9 rfl rfl)
theorem dX6_thoseAt_10 : decode cX6_thoseAt 10 = .ok (.iaload, 1) := dk_46 (dk_at dksX6_thoseAt_0 10 rfl rfl)
theorem dX6_thoseAt_11 : decode cX6_thoseAt 11 = .ok (.if_icmp .ge 29, 3) := dk_162 0 29 (dk_at dksX6_thoseAt_0 11 rfl rfl)
theorem dX6_thoseAt_14 : decode cX6_thoseAt 14 = .ok (.iload_n 2, 1) := dk_28 (dk_at dksX6_thoseAt_0 14 rfl rfl)
theorem dX6_thoseAt_15 : decode cX6_thoseAt 15 = .ok (.aload_n 0, 1) := dk_42 (dk_at dksX6_thoseAt_0 15 rfl rfl)
theorem dX6_thoseAt_16 : decode cX6_thoseAt 16 = .ok (.iload_n 3, 1) := dk_29 (dk_at dksX6_thoseAt_0 16 rfl rfl)
theorem dX6_thoseAt_17 : decode cX6_thoseAt 17 = .ok (.iconst 2, 1) := dk_5 (dk_at dksX6_thoseAt_0 17 rfl rfl)
theorem dX6_thoseAt_18 : decode cX6_thoseAt 18 = .ok (.invokevirtual 66, 3) := dk_182 0 66 (dk_at dksX6_thoseAt_0 18 rfl rfl)
theorem dX6_thoseAt_21 : decode cX6_thoseAt 21 = .ok (.iload_n 1, 1) := dk_27 (dk_at dksX6_thoseAt_0 21 rfl rfl)
theorem dX6_thoseAt_22 : decode cX6_thoseAt 22 = .ok (.if_icmp .ne 9, 3) := dk_160 0 9 (dk_at dksX6_thoseAt_1 0 rfl rfl)
theorem dX6_thoseAt_25 : decode cX6_thoseAt 25 = .ok (.iconst 1, 1) := dk_4 (dk_at dksX6_thoseAt_1 3 rfl rfl)
theorem dX6_thoseAt_26 : decode cX6_thoseAt 26 = .ok (.iload_n 3, 1) := dk_29 (dk_at dksX6_thoseAt_1 4 rfl rfl)
theorem dX6_thoseAt_27 : decode cX6_thoseAt 27 = .ok (.ishl, 1) := dk_120 (dk_at dksX6_thoseAt_1 5 rfl rfl)
theorem dX6_thoseAt_28 : decode cX6_thoseAt 28 = .ok (.goto 4, 3) := dk_167 0 4 (dk_at dksX6_thoseAt_1 6 rfl rfl)
theorem dX6_thoseAt_31 : decode cX6_thoseAt 31 = .ok (.iconst 0, 1) := dk_3 (dk_at dksX6_thoseAt_1 9 rfl rfl)
theorem dX6_thoseAt_32 : decode cX6_thoseAt 32 = .ok (.ior, 1) := dk_128 (dk_at dksX6_thoseAt_1 10 rfl rfl)
theorem dX6_thoseAt_33 : decode cX6_thoseAt 33 = .ok (.istore_n 2, 1) := dk_61 (dk_at dksX6_thoseAt_1 11 rfl rfl)
theorem dX6_thoseAt_34 : decode cX6_thoseAt 34 = .ok (.iinc 3 1, 3) := dk_132 3 1 (dk_at dksX6_thoseAt_1 12 rfl rfl)
theorem dX6_thoseAt_37 : decode cX6_thoseAt 37 = .ok (.goto (-33), 3) := dk_167 255 223 (dk_at dksX6_thoseAt_1 15 rfl rfl)
theorem dX6_thoseAt_40 : decode cX6_thoseAt 40 = .ok (.iload_n 2, 1) := dk_28 (dk_at dksX6_thoseAt_1 18 rfl rfl)
theorem dX6_thoseAt_41 : decode cX6_thoseAt 41 = .ok (.ireturn, 1) := dk_172 (dk_at dksX6_thoseAt_1 19 rfl rfl)
abbrev cX6_stonesAt : ByteArray := prog_19_method_60_code
def yX6_stonesAt : MethodName := ⟨RX6, "stonesAt", "(I)I"⟩
def dkwX6_stonesAt_2 : List UInt8 := [132, 3, 1, 167, 255, 213, 28, 172]
abbrev dktX6_stonesAt_2 : List UInt8 := dkwX6_stonesAt_2 ++ []
def dkwX6_stonesAt_1 : List UInt8 := [160, 0, 19, 42, 29, 8, 182, 0, 48, 27, 160, 0, 9, 4, 29, 120, 167, 0, 4, 3, 128, 61]
abbrev dktX6_stonesAt_1 : List UInt8 := dkwX6_stonesAt_1 ++ dktX6_stonesAt_2
def dkwX6_stonesAt_0 : List UInt8 := [3, 61, 3, 62, 29, 42, 180, 0, 7, 7, 46, 162, 0, 39, 28, 42, 29, 6, 182, 0, 48, 4]
abbrev dktX6_stonesAt_0 : List UInt8 := dkwX6_stonesAt_0 ++ dktX6_stonesAt_1
theorem dksX6_stonesAt_0 : cX6_stonesAt.data.toList.drop 0 = dktX6_stonesAt_0 := by decide +kernel
theorem dksX6_stonesAt_1 : cX6_stonesAt.data.toList.drop 22 = dktX6_stonesAt_1 := dk_seg dksX6_stonesAt_0 22 rfl rfl
theorem dksX6_stonesAt_2 : cX6_stonesAt.data.toList.drop 44 = dktX6_stonesAt_2 := dk_seg dksX6_stonesAt_1 22 rfl rfl
theorem dX6_stonesAt_0 : decode cX6_stonesAt 0 = .ok (.iconst 0, 1) := dk_3 (dk_at dksX6_stonesAt_0 0 rfl rfl)
theorem dX6_stonesAt_1 : decode cX6_stonesAt 1 = .ok (.istore_n 2, 1) := dk_61 (dk_at dksX6_stonesAt_0 1 rfl rfl)
theorem dX6_stonesAt_2 : decode cX6_stonesAt 2 = .ok (.iconst 0, 1) := dk_3 (dk_at dksX6_stonesAt_0 2 rfl rfl)
theorem dX6_stonesAt_3 : decode cX6_stonesAt 3 = .ok (.istore_n 3, 1) := dk_62 (dk_at dksX6_stonesAt_0 3 rfl rfl)
theorem dX6_stonesAt_4 : decode cX6_stonesAt 4 = .ok (.iload_n 3, 1) := dk_29 (dk_at dksX6_stonesAt_0 4 rfl rfl)
theorem dX6_stonesAt_5 : decode cX6_stonesAt 5 = .ok (.aload_n 0, 1) := dk_42 (dk_at dksX6_stonesAt_0 5 rfl rfl)
theorem dX6_stonesAt_6 : decode cX6_stonesAt 6 = .ok (.getfield 7, 3) := dk_180 0 7 (dk_at dksX6_stonesAt_0 6 rfl rfl)
theorem dX6_stonesAt_9 : decode cX6_stonesAt 9 = .ok (.iconst 4, 1) := dk_7 (dk_at dksX6_stonesAt_0 9 rfl rfl)
theorem dX6_stonesAt_10 : decode cX6_stonesAt 10 = .ok (.iaload, 1) := dk_46 (dk_at dksX6_stonesAt_0 10 rfl rfl)
theorem dX6_stonesAt_11 : decode cX6_stonesAt 11 = .ok (.if_icmp .ge 39, 3) := dk_162 0 39 (dk_at dksX6_stonesAt_0 11 rfl rfl)
theorem dX6_stonesAt_14 : decode cX6_stonesAt 14 = .ok (.iload_n 2, 1) := dk_28 (dk_at dksX6_stonesAt_0 14 rfl rfl)
theorem dX6_stonesAt_15 : decode cX6_stonesAt 15 = .ok (.aload_n 0, 1) := dk_42 (dk_at dksX6_stonesAt_0 15 rfl rfl)
theorem dX6_stonesAt_16 : decode cX6_stonesAt 16 = .ok (.iload_n 3, 1) := dk_29 (dk_at dksX6_stonesAt_0 16 rfl rfl)
theorem dX6_stonesAt_17 : decode cX6_stonesAt 17 = .ok (.iconst 3, 1) := dk_6 (dk_at dksX6_stonesAt_0 17 rfl rfl)
theorem dX6_stonesAt_18 : decode cX6_stonesAt 18 = .ok (.invokevirtual 48, 3) := dk_182 0 48 (dk_at dksX6_stonesAt_0 18 rfl rfl)
theorem dX6_stonesAt_21 : decode cX6_stonesAt 21 = .ok (.iconst 1, 1) := dk_4 (dk_at dksX6_stonesAt_0 21 rfl rfl)
theorem dX6_stonesAt_22 : decode cX6_stonesAt 22 = .ok (.if_icmp .ne 19, 3) := dk_160 0 19 (dk_at dksX6_stonesAt_1 0 rfl rfl)
theorem dX6_stonesAt_25 : decode cX6_stonesAt 25 = .ok (.aload_n 0, 1) := dk_42 (dk_at dksX6_stonesAt_1 3 rfl rfl)
theorem dX6_stonesAt_26 : decode cX6_stonesAt 26 = .ok (.iload_n 3, 1) := dk_29 (dk_at dksX6_stonesAt_1 4 rfl rfl)
theorem dX6_stonesAt_27 : decode cX6_stonesAt 27 = .ok (.iconst 5, 1) := dk_8 (dk_at dksX6_stonesAt_1 5 rfl rfl)
theorem dX6_stonesAt_28 : decode cX6_stonesAt 28 = .ok (.invokevirtual 48, 3) := dk_182 0 48 (dk_at dksX6_stonesAt_1 6 rfl rfl)
theorem dX6_stonesAt_31 : decode cX6_stonesAt 31 = .ok (.iload_n 1, 1) := dk_27 (dk_at dksX6_stonesAt_1 9 rfl rfl)
theorem dX6_stonesAt_32 : decode cX6_stonesAt 32 = .ok (.if_icmp .ne 9, 3) := dk_160 0 9 (dk_at dksX6_stonesAt_1 10 rfl rfl)
theorem dX6_stonesAt_35 : decode cX6_stonesAt 35 = .ok (.iconst 1, 1) := dk_4 (dk_at dksX6_stonesAt_1 13 rfl rfl)
theorem dX6_stonesAt_36 : decode cX6_stonesAt 36 = .ok (.iload_n 3, 1) := dk_29 (dk_at dksX6_stonesAt_1 14 rfl rfl)
theorem dX6_stonesAt_37 : decode cX6_stonesAt 37 = .ok (.ishl, 1) := dk_120 (dk_at dksX6_stonesAt_1 15 rfl rfl)
theorem dX6_stonesAt_38 : decode cX6_stonesAt 38 = .ok (.goto 4, 3) := dk_167 0 4 (dk_at dksX6_stonesAt_1 16 rfl rfl)
theorem dX6_stonesAt_41 : decode cX6_stonesAt 41 = .ok (.iconst 0, 1) := dk_3 (dk_at dksX6_stonesAt_1 19 rfl rfl)
theorem dX6_stonesAt_42 : decode cX6_stonesAt 42 = .ok (.ior, 1) := dk_128 (dk_at dksX6_stonesAt_1 20 rfl rfl)
theorem dX6_stonesAt_43 : decode cX6_stonesAt 43 = .ok (.istore_n 2, 1) := dk_61 (dk_at dksX6_stonesAt_1 21 rfl rfl)
theorem dX6_stonesAt_44 : decode cX6_stonesAt 44 = .ok (.iinc 3 1, 3) := dk_132 3 1 (dk_at dksX6_stonesAt_2 0 rfl rfl)
theorem dX6_stonesAt_47 : decode cX6_stonesAt 47 = .ok (.goto (-43), 3) := dk_167 255 213 (dk_at dksX6_stonesAt_2 3 rfl rfl)
theorem dX6_stonesAt_50 : decode cX6_stonesAt 50 = .ok (.iload_n 2, 1) := dk_28 (dk_at dksX6_stonesAt_2 6 rfl rfl)
theorem dX6_stonesAt_51 : decode cX6_stonesAt 51 = .ok (.ireturn, 1) := dk_172 (dk_at dksX6_stonesAt_2 7 rfl rfl)
abbrev cX6_lend : ByteArray := prog_19_method_65_code
def yX6_lend : MethodName := ⟨RX6, "lend", "(III)I"⟩
def dkwX6_lend_5 : List UInt8 := [100, 172]
abbrev dktX6_lend_5 : List UInt8 := dkwX6_lend_5 ++ []
def dkwX6_lend_4 : List UInt8 := [182, 0, 134, 42, 42, 180, 0, 7, 7, 46, 4, 100, 3, 29, 182, 1, 44, 42, 180, 0, 7, 7, 46, 4]
abbrev dktX6_lend_4 : List UInt8 := dkwX6_lend_4 ++ dktX6_lend_5
def dkwX6_lend_3 : List UInt8 := [180, 0, 41, 158, 0, 5, 3, 172, 42, 182, 1, 38, 42, 27, 28, 29, 182, 1, 41, 42, 28, 27, 29, 28]
abbrev dktX6_lend_3 : List UInt8 := dkwX6_lend_3 ++ dktX6_lend_4
def dkwX6_lend_2 : List UInt8 := [16, 10, 159, 0, 13, 42, 27, 3, 182, 0, 66, 29, 162, 0, 7, 6, 167, 0, 4, 3, 181, 0, 41, 42]
abbrev dktX6_lend_2 : List UInt8 := dkwX6_lend_2 ++ dktX6_lend_3
def dkwX6_lend_1 : List UInt8 := [159, 0, 13, 29, 4, 16, 40, 184, 0, 44, 154, 0, 7, 5, 167, 0, 29, 42, 180, 0, 7, 7, 46]
abbrev dktX6_lend_1 : List UInt8 := dkwX6_lend_1 ++ dktX6_lend_2
def dkwX6_lend_0 : List UInt8 := [42, 42, 27, 182, 1, 20, 153, 0, 11, 42, 28, 182, 1, 20, 154, 0, 7, 4, 167, 0, 48, 27, 28]
abbrev dktX6_lend_0 : List UInt8 := dkwX6_lend_0 ++ dktX6_lend_1
theorem dksX6_lend_0 : cX6_lend.data.toList.drop 0 = dktX6_lend_0 := by decide +kernel
theorem dksX6_lend_1 : cX6_lend.data.toList.drop 23 = dktX6_lend_1 := dk_seg dksX6_lend_0 23 rfl rfl
theorem dksX6_lend_2 : cX6_lend.data.toList.drop 46 = dktX6_lend_2 := dk_seg dksX6_lend_1 23 rfl rfl
theorem dksX6_lend_3 : cX6_lend.data.toList.drop 70 = dktX6_lend_3 := dk_seg dksX6_lend_2 24 rfl rfl
theorem dksX6_lend_4 : cX6_lend.data.toList.drop 94 = dktX6_lend_4 := dk_seg dksX6_lend_3 24 rfl rfl
theorem dksX6_lend_5 : cX6_lend.data.toList.drop 118 = dktX6_lend_5 := dk_seg dksX6_lend_4 24 rfl rfl
theorem dX6_lend_0 : decode cX6_lend 0 = .ok (.aload_n 0, 1) := dk_42 (dk_at dksX6_lend_0 0 rfl rfl)
theorem dX6_lend_1 : decode cX6_lend 1 = .ok (.aload_n 0, 1) := dk_42 (dk_at dksX6_lend_0 1 rfl rfl)
theorem dX6_lend_2 : decode cX6_lend 2 = .ok (.iload_n 1, 1) := dk_27 (dk_at dksX6_lend_0 2 rfl rfl)
theorem dX6_lend_3 : decode cX6_lend 3 = .ok (.invokevirtual 276, 3) := dk_182 1 20 (dk_at dksX6_lend_0 3 rfl rfl)
theorem dX6_lend_6 : decode cX6_lend 6 = .ok (.ifCond .eq 11, 3) := dk_153 0 11 (dk_at dksX6_lend_0 6 rfl rfl)
theorem dX6_lend_9 : decode cX6_lend 9 = .ok (.aload_n 0, 1) := dk_42 (dk_at dksX6_lend_0 9 rfl rfl)
theorem dX6_lend_10 : decode cX6_lend 10 = .ok (.iload_n 2, 1) := dk_28 (dk_at dksX6_lend_0 10 rfl rfl)
theorem dX6_lend_11 : decode cX6_lend 11 = .ok (.invokevirtual 276, 3) := dk_182 1 20 (dk_at dksX6_lend_0 11 rfl rfl)
theorem dX6_lend_14 : decode cX6_lend 14 = .ok (.ifCond .ne 7, 3) := dk_154 0 7 (dk_at dksX6_lend_0 14 rfl rfl)
theorem dX6_lend_17 : decode cX6_lend 17 = .ok (.iconst 1, 1) := dk_4 (dk_at dksX6_lend_0 17 rfl rfl)
theorem dX6_lend_18 : decode cX6_lend 18 = .ok (.goto 48, 3) := dk_167 0 48 (dk_at dksX6_lend_0 18 rfl rfl)
theorem dX6_lend_21 : decode cX6_lend 21 = .ok (.iload_n 1, 1) := dk_27 (dk_at dksX6_lend_0 21 rfl rfl)
theorem dX6_lend_22 : decode cX6_lend 22 = .ok (.iload_n 2, 1) := dk_28 (dk_at dksX6_lend_0 22 rfl rfl)
theorem dX6_lend_23 : decode cX6_lend 23 = .ok (.if_icmp .eq 13, 3) := dk_159 0 13 (dk_at dksX6_lend_1 0 rfl rfl)
theorem dX6_lend_26 : decode cX6_lend 26 = .ok (.iload_n 3, 1) := dk_29 (dk_at dksX6_lend_1 3 rfl rfl)
theorem dX6_lend_27 : decode cX6_lend 27 = .ok (.iconst 1, 1) := dk_4 (dk_at dksX6_lend_1 4 rfl rfl)
theorem dX6_lend_28 : decode cX6_lend 28 = .ok (.bipush 40, 2) := dk_16 40 (dk_at dksX6_lend_1 5 rfl rfl)
theorem dX6_lend_30 : decode cX6_lend 30 = .ok (.invokestatic 44, 3) := dk_184 0 44 (dk_at dksX6_lend_1 7 rfl rfl)
theorem dX6_lend_33 : decode cX6_lend 33 = .ok (.ifCond .ne 7, 3) := dk_154 0 7 (dk_at dksX6_lend_1 10 rfl rfl)
theorem dX6_lend_36 : decode cX6_lend 36 = .ok (.iconst 2, 1) := dk_5 (dk_at dksX6_lend_1 13 rfl rfl)
theorem dX6_lend_37 : decode cX6_lend 37 = .ok (.goto 29, 3) := dk_167 0 29 (dk_at dksX6_lend_1 14 rfl rfl)
theorem dX6_lend_40 : decode cX6_lend 40 = .ok (.aload_n 0, 1) := dk_42 (dk_at dksX6_lend_1 17 rfl rfl)
theorem dX6_lend_41 : decode cX6_lend 41 = .ok (.getfield 7, 3) := dk_180 0 7 (dk_at dksX6_lend_1 18 rfl rfl)
theorem dX6_lend_44 : decode cX6_lend 44 = .ok (.iconst 4, 1) := dk_7 (dk_at dksX6_lend_1 21 rfl rfl)
theorem dX6_lend_45 : decode cX6_lend 45 = .ok (.iaload, 1) := dk_46 (dk_at dksX6_lend_1 22 rfl rfl)
theorem dX6_lend_46 : decode cX6_lend 46 = .ok (.bipush 10, 2) := dk_16 10 (dk_at dksX6_lend_2 0 rfl rfl)
theorem dX6_lend_48 : decode cX6_lend 48 = .ok (.if_icmp .eq 13, 3) := dk_159 0 13 (dk_at dksX6_lend_2 2 rfl rfl)
theorem dX6_lend_51 : decode cX6_lend 51 = .ok (.aload_n 0, 1) := dk_42 (dk_at dksX6_lend_2 5 rfl rfl)
theorem dX6_lend_52 : decode cX6_lend 52 = .ok (.iload_n 1, 1) := dk_27 (dk_at dksX6_lend_2 6 rfl rfl)
theorem dX6_lend_53 : decode cX6_lend 53 = .ok (.iconst 0, 1) := dk_3 (dk_at dksX6_lend_2 7 rfl rfl)
theorem dX6_lend_54 : decode cX6_lend 54 = .ok (.invokevirtual 66, 3) := dk_182 0 66 (dk_at dksX6_lend_2 8 rfl rfl)
theorem dX6_lend_57 : decode cX6_lend 57 = .ok (.iload_n 3, 1) := dk_29 (dk_at dksX6_lend_2 11 rfl rfl)
theorem dX6_lend_58 : decode cX6_lend 58 = .ok (.if_icmp .ge 7, 3) := dk_162 0 7 (dk_at dksX6_lend_2 12 rfl rfl)
theorem dX6_lend_61 : decode cX6_lend 61 = .ok (.iconst 3, 1) := dk_6 (dk_at dksX6_lend_2 15 rfl rfl)
theorem dX6_lend_62 : decode cX6_lend 62 = .ok (.goto 4, 3) := dk_167 0 4 (dk_at dksX6_lend_2 16 rfl rfl)
theorem dX6_lend_65 : decode cX6_lend 65 = .ok (.iconst 0, 1) := dk_3 (dk_at dksX6_lend_2 19 rfl rfl)
theorem dX6_lend_66 : decode cX6_lend 66 = .ok (.putfield 41, 3) := dk_181 0 41 (dk_at dksX6_lend_2 20 rfl rfl)
theorem dX6_lend_69 : decode cX6_lend 69 = .ok (.aload_n 0, 1) := dk_42 (dk_at dksX6_lend_2 23 rfl rfl)
theorem dX6_lend_70 : decode cX6_lend 70 = .ok (.getfield 41, 3) := dk_180 0 41 (dk_at dksX6_lend_3 0 rfl rfl)
theorem dX6_lend_73 : decode cX6_lend 73 = .ok (.ifCond .le 5, 3) := dk_158 0 5 (dk_at dksX6_lend_3 3 rfl rfl)
theorem dX6_lend_76 : decode cX6_lend 76 = .ok (.iconst 0, 1) := dk_3 (dk_at dksX6_lend_3 6 rfl rfl)
theorem dX6_lend_77 : decode cX6_lend 77 = .ok (.ireturn, 1) := dk_172 (dk_at dksX6_lend_3 7 rfl rfl)
theorem dX6_lend_78 : decode cX6_lend 78 = .ok (.aload_n 0, 1) := dk_42 (dk_at dksX6_lend_3 8 rfl rfl)
theorem dX6_lend_79 : decode cX6_lend 79 = .ok (.invokevirtual 294, 3) := dk_182 1 38 (dk_at dksX6_lend_3 9 rfl rfl)
theorem dX6_lend_82 : decode cX6_lend 82 = .ok (.aload_n 0, 1) := dk_42 (dk_at dksX6_lend_3 12 rfl rfl)
theorem dX6_lend_83 : decode cX6_lend 83 = .ok (.iload_n 1, 1) := dk_27 (dk_at dksX6_lend_3 13 rfl rfl)
theorem dX6_lend_84 : decode cX6_lend 84 = .ok (.iload_n 2, 1) := dk_28 (dk_at dksX6_lend_3 14 rfl rfl)
theorem dX6_lend_85 : decode cX6_lend 85 = .ok (.iload_n 3, 1) := dk_29 (dk_at dksX6_lend_3 15 rfl rfl)
theorem dX6_lend_86 : decode cX6_lend 86 = .ok (.invokevirtual 297, 3) := dk_182 1 41 (dk_at dksX6_lend_3 16 rfl rfl)
theorem dX6_lend_89 : decode cX6_lend 89 = .ok (.aload_n 0, 1) := dk_42 (dk_at dksX6_lend_3 19 rfl rfl)
theorem dX6_lend_90 : decode cX6_lend 90 = .ok (.iload_n 2, 1) := dk_28 (dk_at dksX6_lend_3 20 rfl rfl)
theorem dX6_lend_91 : decode cX6_lend 91 = .ok (.iload_n 1, 1) := dk_27 (dk_at dksX6_lend_3 21 rfl rfl)
theorem dX6_lend_92 : decode cX6_lend 92 = .ok (.iload_n 3, 1) := dk_29 (dk_at dksX6_lend_3 22 rfl rfl)
theorem dX6_lend_93 : decode cX6_lend 93 = .ok (.iload_n 2, 1) := dk_28 (dk_at dksX6_lend_3 23 rfl rfl)
theorem dX6_lend_94 : decode cX6_lend 94 = .ok (.invokevirtual 134, 3) := dk_182 0 134 (dk_at dksX6_lend_4 0 rfl rfl)
theorem dX6_lend_97 : decode cX6_lend 97 = .ok (.aload_n 0, 1) := dk_42 (dk_at dksX6_lend_4 3 rfl rfl)
theorem dX6_lend_98 : decode cX6_lend 98 = .ok (.aload_n 0, 1) := dk_42 (dk_at dksX6_lend_4 4 rfl rfl)
theorem dX6_lend_99 : decode cX6_lend 99 = .ok (.getfield 7, 3) := dk_180 0 7 (dk_at dksX6_lend_4 5 rfl rfl)
theorem dX6_lend_102 : decode cX6_lend 102 = .ok (.iconst 4, 1) := dk_7 (dk_at dksX6_lend_4 8 rfl rfl)
theorem dX6_lend_103 : decode cX6_lend 103 = .ok (.iaload, 1) := dk_46 (dk_at dksX6_lend_4 9 rfl rfl)
theorem dX6_lend_104 : decode cX6_lend 104 = .ok (.iconst 1, 1) := dk_4 (dk_at dksX6_lend_4 10 rfl rfl)
theorem dX6_lend_105 : decode cX6_lend 105 = .ok (.isub, 1) := dk_100 (dk_at dksX6_lend_4 11 rfl rfl)
theorem dX6_lend_106 : decode cX6_lend 106 = .ok (.iconst 0, 1) := dk_3 (dk_at dksX6_lend_4 12 rfl rfl)
theorem dX6_lend_107 : decode cX6_lend 107 = .ok (.iload_n 3, 1) := dk_29 (dk_at dksX6_lend_4 13 rfl rfl)
theorem dX6_lend_108 : decode cX6_lend 108 = .ok (.invokevirtual 300, 3) := dk_182 1 44 (dk_at dksX6_lend_4 14 rfl rfl)
theorem dX6_lend_111 : decode cX6_lend 111 = .ok (.aload_n 0, 1) := dk_42 (dk_at dksX6_lend_4 17 rfl rfl)
theorem dX6_lend_112 : decode cX6_lend 112 = .ok (.getfield 7, 3) := dk_180 0 7 (dk_at dksX6_lend_4 18 rfl rfl)
theorem dX6_lend_115 : decode cX6_lend 115 = .ok (.iconst 4, 1) := dk_7 (dk_at dksX6_lend_4 21 rfl rfl)
theorem dX6_lend_116 : decode cX6_lend 116 = .ok (.iaload, 1) := dk_46 (dk_at dksX6_lend_4 22 rfl rfl)
theorem dX6_lend_117 : decode cX6_lend 117 = .ok (.iconst 1, 1) := dk_4 (dk_at dksX6_lend_4 23 rfl rfl)
theorem dX6_lend_118 : decode cX6_lend 118 = .ok (.isub, 1) := dk_100 (dk_at dksX6_lend_5 0 rfl rfl)
theorem dX6_lend_119 : decode cX6_lend 119 = .ok (.ireturn, 1) := dk_172 (dk_at dksX6_lend_5 1 rfl rfl)
abbrev cX6_remembers : ByteArray := prog_19_method_62_code
def yX6_remembers : MethodName := ⟨RX6, "remembers", "()V"⟩
def dkwX6_remembers_4 : List UInt8 := [181, 0, 188, 177]
abbrev dktX6_remembers_4 : List UInt8 := dkwX6_remembers_4 ++ []
def dkwX6_remembers_3 : List UInt8 := [27, 96, 42, 180, 0, 7, 27, 46, 79, 132, 1, 1, 167, 255, 225, 42, 89, 180, 0, 188, 4, 96]
abbrev dktX6_remembers_3 : List UInt8 := dkwX6_remembers_3 ++ dktX6_remembers_4
def dkwX6_remembers_2 : List UInt8 := [181, 0, 188, 3, 60, 27, 17, 1, 113, 162, 0, 30, 42, 180, 0, 19, 17, 1, 113, 42, 180, 0, 188, 104]
abbrev dktX6_remembers_2 : List UInt8 := dkwX6_remembers_2 ++ dktX6_remembers_3
def dkwX6_remembers_1 : List UInt8 := [180, 0, 19, 27, 17, 1, 113, 96, 46, 79, 132, 1, 1, 167, 255, 230, 42, 89, 180, 0, 188, 4, 100]
abbrev dktX6_remembers_1 : List UInt8 := dkwX6_remembers_1 ++ dktX6_remembers_2
def dkwX6_remembers_0 : List UInt8 := [42, 180, 0, 188, 16, 12, 160, 0, 44, 3, 60, 27, 17, 15, 219, 162, 0, 25, 42, 180, 0, 19, 27, 42]
abbrev dktX6_remembers_0 : List UInt8 := dkwX6_remembers_0 ++ dktX6_remembers_1
theorem dksX6_remembers_0 : cX6_remembers.data.toList.drop 0 = dktX6_remembers_0 := by decide +kernel
theorem dksX6_remembers_1 : cX6_remembers.data.toList.drop 24 = dktX6_remembers_1 := dk_seg dksX6_remembers_0 24 rfl rfl
theorem dksX6_remembers_2 : cX6_remembers.data.toList.drop 47 = dktX6_remembers_2 := dk_seg dksX6_remembers_1 23 rfl rfl
theorem dksX6_remembers_3 : cX6_remembers.data.toList.drop 71 = dktX6_remembers_3 := dk_seg dksX6_remembers_2 24 rfl rfl
theorem dksX6_remembers_4 : cX6_remembers.data.toList.drop 93 = dktX6_remembers_4 := dk_seg dksX6_remembers_3 22 rfl rfl
theorem dX6_remembers_0 : decode cX6_remembers 0 = .ok (.aload_n 0, 1) := dk_42 (dk_at dksX6_remembers_0 0 rfl rfl)
theorem dX6_remembers_1 : decode cX6_remembers 1 = .ok (.getfield 188, 3) := dk_180 0 188 (dk_at dksX6_remembers_0 1 rfl rfl)
theorem dX6_remembers_4 : decode cX6_remembers 4 = .ok (.bipush 12, 2) := dk_16 12 (dk_at dksX6_remembers_0 4 rfl rfl)
theorem dX6_remembers_6 : decode cX6_remembers 6 = .ok (.if_icmp .ne 44, 3) := dk_160 0 44 (dk_at dksX6_remembers_0 6 rfl rfl)
theorem dX6_remembers_9 : decode cX6_remembers 9 = .ok (.iconst 0, 1) := dk_3 (dk_at dksX6_remembers_0 9 rfl rfl)
theorem dX6_remembers_10 : decode cX6_remembers 10 = .ok (.istore_n 1, 1) := dk_60 (dk_at dksX6_remembers_0 10 rfl rfl)
theorem dX6_remembers_11 : decode cX6_remembers 11 = .ok (.iload_n 1, 1) := dk_27 (dk_at dksX6_remembers_0 11 rfl rfl)
theorem dX6_remembers_12 : decode cX6_remembers 12 = .ok (.sipush 4059, 3) := dk_17 15 219 (dk_at dksX6_remembers_0 12 rfl rfl)
theorem dX6_remembers_15 : decode cX6_remembers 15 = .ok (.if_icmp .ge 25, 3) := dk_162 0 25 (dk_at dksX6_remembers_0 15 rfl rfl)
theorem dX6_remembers_18 : decode cX6_remembers 18 = .ok (.aload_n 0, 1) := dk_42 (dk_at dksX6_remembers_0 18 rfl rfl)
theorem dX6_remembers_19 : decode cX6_remembers 19 = .ok (.getfield 19, 3) := dk_180 0 19 (dk_at dksX6_remembers_0 19 rfl rfl)
theorem dX6_remembers_22 : decode cX6_remembers 22 = .ok (.iload_n 1, 1) := dk_27 (dk_at dksX6_remembers_0 22 rfl rfl)
theorem dX6_remembers_23 : decode cX6_remembers 23 = .ok (.aload_n 0, 1) := dk_42 (dk_at dksX6_remembers_0 23 rfl rfl)
theorem dX6_remembers_24 : decode cX6_remembers 24 = .ok (.getfield 19, 3) := dk_180 0 19 (dk_at dksX6_remembers_1 0 rfl rfl)
theorem dX6_remembers_27 : decode cX6_remembers 27 = .ok (.iload_n 1, 1) := dk_27 (dk_at dksX6_remembers_1 3 rfl rfl)
theorem dX6_remembers_28 : decode cX6_remembers 28 = .ok (.sipush 369, 3) := dk_17 1 113 (dk_at dksX6_remembers_1 4 rfl rfl)
theorem dX6_remembers_31 : decode cX6_remembers 31 = .ok (.iadd, 1) := dk_96 (dk_at dksX6_remembers_1 7 rfl rfl)
theorem dX6_remembers_32 : decode cX6_remembers 32 = .ok (.iaload, 1) := dk_46 (dk_at dksX6_remembers_1 8 rfl rfl)
theorem dX6_remembers_33 : decode cX6_remembers 33 = .ok (.iastore, 1) := dk_79 (dk_at dksX6_remembers_1 9 rfl rfl)
theorem dX6_remembers_34 : decode cX6_remembers 34 = .ok (.iinc 1 1, 3) := dk_132 1 1 (dk_at dksX6_remembers_1 10 rfl rfl)
theorem dX6_remembers_37 : decode cX6_remembers 37 = .ok (.goto (-26), 3) := dk_167 255 230 (dk_at dksX6_remembers_1 13 rfl rfl)
theorem dX6_remembers_40 : decode cX6_remembers 40 = .ok (.aload_n 0, 1) := dk_42 (dk_at dksX6_remembers_1 16 rfl rfl)
theorem dX6_remembers_41 : decode cX6_remembers 41 = .ok (.dup, 1) := dk_89 (dk_at dksX6_remembers_1 17 rfl rfl)
theorem dX6_remembers_42 : decode cX6_remembers 42 = .ok (.getfield 188, 3) := dk_180 0 188 (dk_at dksX6_remembers_1 18 rfl rfl)
theorem dX6_remembers_45 : decode cX6_remembers 45 = .ok (.iconst 1, 1) := dk_4 (dk_at dksX6_remembers_1 21 rfl rfl)
theorem dX6_remembers_46 : decode cX6_remembers 46 = .ok (.isub, 1) := dk_100 (dk_at dksX6_remembers_1 22 rfl rfl)
theorem dX6_remembers_47 : decode cX6_remembers 47 = .ok (.putfield 188, 3) := dk_181 0 188 (dk_at dksX6_remembers_2 0 rfl rfl)
theorem dX6_remembers_50 : decode cX6_remembers 50 = .ok (.iconst 0, 1) := dk_3 (dk_at dksX6_remembers_2 3 rfl rfl)
theorem dX6_remembers_51 : decode cX6_remembers 51 = .ok (.istore_n 1, 1) := dk_60 (dk_at dksX6_remembers_2 4 rfl rfl)
theorem dX6_remembers_52 : decode cX6_remembers 52 = .ok (.iload_n 1, 1) := dk_27 (dk_at dksX6_remembers_2 5 rfl rfl)
theorem dX6_remembers_53 : decode cX6_remembers 53 = .ok (.sipush 369, 3) := dk_17 1 113 (dk_at dksX6_remembers_2 6 rfl rfl)
theorem dX6_remembers_56 : decode cX6_remembers 56 = .ok (.if_icmp .ge 30, 3) := dk_162 0 30 (dk_at dksX6_remembers_2 9 rfl rfl)
theorem dX6_remembers_59 : decode cX6_remembers 59 = .ok (.aload_n 0, 1) := dk_42 (dk_at dksX6_remembers_2 12 rfl rfl)
theorem dX6_remembers_60 : decode cX6_remembers 60 = .ok (.getfield 19, 3) := dk_180 0 19 (dk_at dksX6_remembers_2 13 rfl rfl)
theorem dX6_remembers_63 : decode cX6_remembers 63 = .ok (.sipush 369, 3) := dk_17 1 113 (dk_at dksX6_remembers_2 16 rfl rfl)
theorem dX6_remembers_66 : decode cX6_remembers 66 = .ok (.aload_n 0, 1) := dk_42 (dk_at dksX6_remembers_2 19 rfl rfl)
theorem dX6_remembers_67 : decode cX6_remembers 67 = .ok (.getfield 188, 3) := dk_180 0 188 (dk_at dksX6_remembers_2 20 rfl rfl)
theorem dX6_remembers_70 : decode cX6_remembers 70 = .ok (.imul, 1) := dk_104 (dk_at dksX6_remembers_2 23 rfl rfl)
theorem dX6_remembers_71 : decode cX6_remembers 71 = .ok (.iload_n 1, 1) := dk_27 (dk_at dksX6_remembers_3 0 rfl rfl)
theorem dX6_remembers_72 : decode cX6_remembers 72 = .ok (.iadd, 1) := dk_96 (dk_at dksX6_remembers_3 1 rfl rfl)
theorem dX6_remembers_73 : decode cX6_remembers 73 = .ok (.aload_n 0, 1) := dk_42 (dk_at dksX6_remembers_3 2 rfl rfl)
theorem dX6_remembers_74 : decode cX6_remembers 74 = .ok (.getfield 7, 3) := dk_180 0 7 (dk_at dksX6_remembers_3 3 rfl rfl)
theorem dX6_remembers_77 : decode cX6_remembers 77 = .ok (.iload_n 1, 1) := dk_27 (dk_at dksX6_remembers_3 6 rfl rfl)
theorem dX6_remembers_78 : decode cX6_remembers 78 = .ok (.iaload, 1) := dk_46 (dk_at dksX6_remembers_3 7 rfl rfl)
theorem dX6_remembers_79 : decode cX6_remembers 79 = .ok (.iastore, 1) := dk_79 (dk_at dksX6_remembers_3 8 rfl rfl)
theorem dX6_remembers_80 : decode cX6_remembers 80 = .ok (.iinc 1 1, 3) := dk_132 1 1 (dk_at dksX6_remembers_3 9 rfl rfl)
theorem dX6_remembers_83 : decode cX6_remembers 83 = .ok (.goto (-31), 3) := dk_167 255 225 (dk_at dksX6_remembers_3 12 rfl rfl)
theorem dX6_remembers_86 : decode cX6_remembers 86 = .ok (.aload_n 0, 1) := dk_42 (dk_at dksX6_remembers_3 15 rfl rfl)
theorem dX6_remembers_87 : decode cX6_remembers 87 = .ok (.dup, 1) := dk_89 (dk_at dksX6_remembers_3 16 rfl rfl)
theorem dX6_remembers_88 : decode cX6_remembers 88 = .ok (.getfield 188, 3) := dk_180 0 188 (dk_at dksX6_remembers_3 17 rfl rfl)
theorem dX6_remembers_91 : decode cX6_remembers 91 = .ok (.iconst 1, 1) := dk_4 (dk_at dksX6_remembers_3 20 rfl rfl)
theorem dX6_remembers_92 : decode cX6_remembers 92 = .ok (.iadd, 1) := dk_96 (dk_at dksX6_remembers_3 21 rfl rfl)
theorem dX6_remembers_93 : decode cX6_remembers 93 = .ok (.putfield 188, 3) := dk_181 0 188 (dk_at dksX6_remembers_4 0 rfl rfl)
theorem dX6_remembers_96 : decode cX6_remembers 96 = .ok (.return_, 1) := dk_177 (dk_at dksX6_remembers_4 3 rfl rfl)
abbrev cX6_moves : ByteArray := prog_19_method_64_code
def yX6_moves : MethodName := ⟨RX6, "moves", "(III)V"⟩
def dkwX6_moves_1 : List UInt8 := [182, 0, 66, 29, 96, 184, 1, 2, 182, 0, 120, 177]
abbrev dktX6_moves_1 : List UInt8 := dkwX6_moves_1 ++ []
def dkwX6_moves_0 : List UInt8 := [42, 27, 3, 42, 27, 3, 182, 0, 66, 29, 100, 182, 0, 120, 42, 28, 3, 17, 39, 15, 42, 28, 3]
abbrev dktX6_moves_0 : List UInt8 := dkwX6_moves_0 ++ dktX6_moves_1
theorem dksX6_moves_0 : cX6_moves.data.toList.drop 0 = dktX6_moves_0 := by decide +kernel
theorem dksX6_moves_1 : cX6_moves.data.toList.drop 23 = dktX6_moves_1 := dk_seg dksX6_moves_0 23 rfl rfl
theorem dX6_moves_0 : decode cX6_moves 0 = .ok (.aload_n 0, 1) := dk_42 (dk_at dksX6_moves_0 0 rfl rfl)
theorem dX6_moves_1 : decode cX6_moves 1 = .ok (.iload_n 1, 1) := dk_27 (dk_at dksX6_moves_0 1 rfl rfl)
theorem dX6_moves_2 : decode cX6_moves 2 = .ok (.iconst 0, 1) := dk_3 (dk_at dksX6_moves_0 2 rfl rfl)
theorem dX6_moves_3 : decode cX6_moves 3 = .ok (.aload_n 0, 1) := dk_42 (dk_at dksX6_moves_0 3 rfl rfl)
theorem dX6_moves_4 : decode cX6_moves 4 = .ok (.iload_n 1, 1) := dk_27 (dk_at dksX6_moves_0 4 rfl rfl)
theorem dX6_moves_5 : decode cX6_moves 5 = .ok (.iconst 0, 1) := dk_3 (dk_at dksX6_moves_0 5 rfl rfl)
theorem dX6_moves_6 : decode cX6_moves 6 = .ok (.invokevirtual 66, 3) := dk_182 0 66 (dk_at dksX6_moves_0 6 rfl rfl)
theorem dX6_moves_9 : decode cX6_moves 9 = .ok (.iload_n 3, 1) := dk_29 (dk_at dksX6_moves_0 9 rfl rfl)
theorem dX6_moves_10 : decode cX6_moves 10 = .ok (.isub, 1) := dk_100 (dk_at dksX6_moves_0 10 rfl rfl)
theorem dX6_moves_11 : decode cX6_moves 11 = .ok (.invokevirtual 120, 3) := dk_182 0 120 (dk_at dksX6_moves_0 11 rfl rfl)
theorem dX6_moves_14 : decode cX6_moves 14 = .ok (.aload_n 0, 1) := dk_42 (dk_at dksX6_moves_0 14 rfl rfl)
theorem dX6_moves_15 : decode cX6_moves 15 = .ok (.iload_n 2, 1) := dk_28 (dk_at dksX6_moves_0 15 rfl rfl)
theorem dX6_moves_16 : decode cX6_moves 16 = .ok (.iconst 0, 1) := dk_3 (dk_at dksX6_moves_0 16 rfl rfl)
theorem dX6_moves_17 : decode cX6_moves 17 = .ok (.sipush 9999, 3) := dk_17 39 15 (dk_at dksX6_moves_0 17 rfl rfl)
theorem dX6_moves_20 : decode cX6_moves 20 = .ok (.aload_n 0, 1) := dk_42 (dk_at dksX6_moves_0 20 rfl rfl)
theorem dX6_moves_21 : decode cX6_moves 21 = .ok (.iload_n 2, 1) := dk_28 (dk_at dksX6_moves_0 21 rfl rfl)
theorem dX6_moves_22 : decode cX6_moves 22 = .ok (.iconst 0, 1) := dk_3 (dk_at dksX6_moves_0 22 rfl rfl)
theorem dX6_moves_23 : decode cX6_moves 23 = .ok (.invokevirtual 66, 3) := dk_182 0 66 (dk_at dksX6_moves_1 0 rfl rfl)
theorem dX6_moves_26 : decode cX6_moves 26 = .ok (.iload_n 3, 1) := dk_29 (dk_at dksX6_moves_1 3 rfl rfl)
theorem dX6_moves_27 : decode cX6_moves 27 = .ok (.iadd, 1) := dk_96 (dk_at dksX6_moves_1 4 rfl rfl)
theorem dX6_moves_28 : decode cX6_moves 28 = .ok (.invokestatic 258, 3) := dk_184 1 2 (dk_at dksX6_moves_1 5 rfl rfl)
theorem dX6_moves_31 : decode cX6_moves 31 = .ok (.invokevirtual 120, 3) := dk_182 0 120 (dk_at dksX6_moves_1 8 rfl rfl)
theorem dX6_moves_34 : decode cX6_moves 34 = .ok (.return_, 1) := dk_177 (dk_at dksX6_moves_1 11 rfl rfl)
abbrev cX6_logs : ByteArray := prog_19_method_63_code
def yX6_logs : MethodName := ⟨RX6, "logs", "(III)V"⟩
def dkwX6_logs_4 : List UInt8 := [180, 0, 7, 16, 7, 46, 4, 96, 184, 1, 2, 79, 177]
abbrev dktX6_logs_4 : List UInt8 := dkwX6_logs_4 ++ []
def dkwX6_logs_3 : List UInt8 := [17, 0, 131, 28, 79, 42, 180, 0, 7, 17, 0, 132, 29, 79, 42, 180, 0, 7, 16, 7, 16, 60, 42]
abbrev dktX6_logs_3 : List UInt8 := dkwX6_logs_3 ++ dktX6_logs_4
def dkwX6_logs_2 : List UInt8 := [17, 0, 129, 42, 180, 0, 7, 8, 46, 79, 42, 180, 0, 7, 17, 0, 130, 27, 79, 42, 180, 0, 7]
abbrev dktX6_logs_2 : List UInt8 := dkwX6_logs_2 ++ dktX6_logs_3
def dkwX6_logs_1 : List UInt8 := [180, 0, 7, 17, 0, 129, 21, 4, 96, 7, 100, 46, 79, 132, 4, 255, 167, 255, 223, 42, 180, 0, 7]
abbrev dktX6_logs_1 : List UInt8 := dkwX6_logs_1 ++ dktX6_logs_2
def dkwX6_logs_0 : List UInt8 := [17, 0, 239, 54, 4, 21, 4, 7, 161, 0, 33, 42, 180, 0, 7, 17, 0, 129, 21, 4, 96, 42]
abbrev dktX6_logs_0 : List UInt8 := dkwX6_logs_0 ++ dktX6_logs_1
theorem dksX6_logs_0 : cX6_logs.data.toList.drop 0 = dktX6_logs_0 := by decide +kernel
theorem dksX6_logs_1 : cX6_logs.data.toList.drop 22 = dktX6_logs_1 := dk_seg dksX6_logs_0 22 rfl rfl
theorem dksX6_logs_2 : cX6_logs.data.toList.drop 45 = dktX6_logs_2 := dk_seg dksX6_logs_1 23 rfl rfl
theorem dksX6_logs_3 : cX6_logs.data.toList.drop 68 = dktX6_logs_3 := dk_seg dksX6_logs_2 23 rfl rfl
theorem dksX6_logs_4 : cX6_logs.data.toList.drop 91 = dktX6_logs_4 := dk_seg dksX6_logs_3 23 rfl rfl
theorem dX6_logs_0 : decode cX6_logs 0 = .ok (.sipush 239, 3) := dk_17 0 239 (dk_at dksX6_logs_0 0 rfl rfl)
theorem dX6_logs_3 : decode cX6_logs 3 = .ok (.istore 4, 2) := dk_54 4 (dk_at dksX6_logs_0 3 rfl rfl)
theorem dX6_logs_5 : decode cX6_logs 5 = .ok (.iload 4, 2) := dk_21 4 (dk_at dksX6_logs_0 5 rfl rfl)
theorem dX6_logs_7 : decode cX6_logs 7 = .ok (.iconst 4, 1) := dk_7 (dk_at dksX6_logs_0 7 rfl rfl)
theorem dX6_logs_8 : decode cX6_logs 8 = .ok (.if_icmp .lt 33, 3) := dk_161 0 33 (dk_at dksX6_logs_0 8 rfl rfl)
theorem dX6_logs_11 : decode cX6_logs 11 = .ok (.aload_n 0, 1) := dk_42 (dk_at dksX6_logs_0 11 rfl rfl)
theorem dX6_logs_12 : decode cX6_logs 12 = .ok (.getfield 7, 3) := dk_180 0 7 (dk_at dksX6_logs_0 12 rfl rfl)
theorem dX6_logs_15 : decode cX6_logs 15 = .ok (.sipush 129, 3) := dk_17 0 129 (dk_at dksX6_logs_0 15 rfl rfl)
theorem dX6_logs_18 : decode cX6_logs 18 = .ok (.iload 4, 2) := dk_21 4 (dk_at dksX6_logs_0 18 rfl rfl)
theorem dX6_logs_20 : decode cX6_logs 20 = .ok (.iadd, 1) := dk_96 (dk_at dksX6_logs_0 20 rfl rfl)
theorem dX6_logs_21 : decode cX6_logs 21 = .ok (.aload_n 0, 1) := dk_42 (dk_at dksX6_logs_0 21 rfl rfl)
theorem dX6_logs_22 : decode cX6_logs 22 = .ok (.getfield 7, 3) := dk_180 0 7 (dk_at dksX6_logs_1 0 rfl rfl)
theorem dX6_logs_25 : decode cX6_logs 25 = .ok (.sipush 129, 3) := dk_17 0 129 (dk_at dksX6_logs_1 3 rfl rfl)
theorem dX6_logs_28 : decode cX6_logs 28 = .ok (.iload 4, 2) := dk_21 4 (dk_at dksX6_logs_1 6 rfl rfl)
theorem dX6_logs_30 : decode cX6_logs 30 = .ok (.iadd, 1) := dk_96 (dk_at dksX6_logs_1 8 rfl rfl)
theorem dX6_logs_31 : decode cX6_logs 31 = .ok (.iconst 4, 1) := dk_7 (dk_at dksX6_logs_1 9 rfl rfl)
theorem dX6_logs_32 : decode cX6_logs 32 = .ok (.isub, 1) := dk_100 (dk_at dksX6_logs_1 10 rfl rfl)
theorem dX6_logs_33 : decode cX6_logs 33 = .ok (.iaload, 1) := dk_46 (dk_at dksX6_logs_1 11 rfl rfl)
theorem dX6_logs_34 : decode cX6_logs 34 = .ok (.iastore, 1) := dk_79 (dk_at dksX6_logs_1 12 rfl rfl)
theorem dX6_logs_35 : decode cX6_logs 35 = .ok (.iinc 4 (-1), 3) := dk_132 4 255 (dk_at dksX6_logs_1 13 rfl rfl)
theorem dX6_logs_38 : decode cX6_logs 38 = .ok (.goto (-33), 3) := dk_167 255 223 (dk_at dksX6_logs_1 16 rfl rfl)
theorem dX6_logs_41 : decode cX6_logs 41 = .ok (.aload_n 0, 1) := dk_42 (dk_at dksX6_logs_1 19 rfl rfl)
theorem dX6_logs_42 : decode cX6_logs 42 = .ok (.getfield 7, 3) := dk_180 0 7 (dk_at dksX6_logs_1 20 rfl rfl)
theorem dX6_logs_45 : decode cX6_logs 45 = .ok (.sipush 129, 3) := dk_17 0 129 (dk_at dksX6_logs_2 0 rfl rfl)
theorem dX6_logs_48 : decode cX6_logs 48 = .ok (.aload_n 0, 1) := dk_42 (dk_at dksX6_logs_2 3 rfl rfl)
theorem dX6_logs_49 : decode cX6_logs 49 = .ok (.getfield 7, 3) := dk_180 0 7 (dk_at dksX6_logs_2 4 rfl rfl)
theorem dX6_logs_52 : decode cX6_logs 52 = .ok (.iconst 5, 1) := dk_8 (dk_at dksX6_logs_2 7 rfl rfl)
theorem dX6_logs_53 : decode cX6_logs 53 = .ok (.iaload, 1) := dk_46 (dk_at dksX6_logs_2 8 rfl rfl)
theorem dX6_logs_54 : decode cX6_logs 54 = .ok (.iastore, 1) := dk_79 (dk_at dksX6_logs_2 9 rfl rfl)
theorem dX6_logs_55 : decode cX6_logs 55 = .ok (.aload_n 0, 1) := dk_42 (dk_at dksX6_logs_2 10 rfl rfl)
theorem dX6_logs_56 : decode cX6_logs 56 = .ok (.getfield 7, 3) := dk_180 0 7 (dk_at dksX6_logs_2 11 rfl rfl)
theorem dX6_logs_59 : decode cX6_logs 59 = .ok (.sipush 130, 3) := dk_17 0 130 (dk_at dksX6_logs_2 14 rfl rfl)
theorem dX6_logs_62 : decode cX6_logs 62 = .ok (.iload_n 1, 1) := dk_27 (dk_at dksX6_logs_2 17 rfl rfl)
theorem dX6_logs_63 : decode cX6_logs 63 = .ok (.iastore, 1) := dk_79 (dk_at dksX6_logs_2 18 rfl rfl)
theorem dX6_logs_64 : decode cX6_logs 64 = .ok (.aload_n 0, 1) := dk_42 (dk_at dksX6_logs_2 19 rfl rfl)
theorem dX6_logs_65 : decode cX6_logs 65 = .ok (.getfield 7, 3) := dk_180 0 7 (dk_at dksX6_logs_2 20 rfl rfl)
theorem dX6_logs_68 : decode cX6_logs 68 = .ok (.sipush 131, 3) := dk_17 0 131 (dk_at dksX6_logs_3 0 rfl rfl)
theorem dX6_logs_71 : decode cX6_logs 71 = .ok (.iload_n 2, 1) := dk_28 (dk_at dksX6_logs_3 3 rfl rfl)
theorem dX6_logs_72 : decode cX6_logs 72 = .ok (.iastore, 1) := dk_79 (dk_at dksX6_logs_3 4 rfl rfl)
theorem dX6_logs_73 : decode cX6_logs 73 = .ok (.aload_n 0, 1) := dk_42 (dk_at dksX6_logs_3 5 rfl rfl)
theorem dX6_logs_74 : decode cX6_logs 74 = .ok (.getfield 7, 3) := dk_180 0 7 (dk_at dksX6_logs_3 6 rfl rfl)
theorem dX6_logs_77 : decode cX6_logs 77 = .ok (.sipush 132, 3) := dk_17 0 132 (dk_at dksX6_logs_3 9 rfl rfl)
theorem dX6_logs_80 : decode cX6_logs 80 = .ok (.iload_n 3, 1) := dk_29 (dk_at dksX6_logs_3 12 rfl rfl)
theorem dX6_logs_81 : decode cX6_logs 81 = .ok (.iastore, 1) := dk_79 (dk_at dksX6_logs_3 13 rfl rfl)
theorem dX6_logs_82 : decode cX6_logs 82 = .ok (.aload_n 0, 1) := dk_42 (dk_at dksX6_logs_3 14 rfl rfl)
theorem dX6_logs_83 : decode cX6_logs 83 = .ok (.getfield 7, 3) := dk_180 0 7 (dk_at dksX6_logs_3 15 rfl rfl)
theorem dX6_logs_86 : decode cX6_logs 86 = .ok (.bipush 7, 2) := dk_16 7 (dk_at dksX6_logs_3 18 rfl rfl)
theorem dX6_logs_88 : decode cX6_logs 88 = .ok (.bipush 60, 2) := dk_16 60 (dk_at dksX6_logs_3 20 rfl rfl)
theorem dX6_logs_90 : decode cX6_logs 90 = .ok (.aload_n 0, 1) := dk_42 (dk_at dksX6_logs_3 22 rfl rfl)
theorem dX6_logs_91 : decode cX6_logs 91 = .ok (.getfield 7, 3) := dk_180 0 7 (dk_at dksX6_logs_4 0 rfl rfl)
theorem dX6_logs_94 : decode cX6_logs 94 = .ok (.bipush 7, 2) := dk_16 7 (dk_at dksX6_logs_4 3 rfl rfl)
theorem dX6_logs_96 : decode cX6_logs 96 = .ok (.iaload, 1) := dk_46 (dk_at dksX6_logs_4 5 rfl rfl)
theorem dX6_logs_97 : decode cX6_logs 97 = .ok (.iconst 1, 1) := dk_4 (dk_at dksX6_logs_4 6 rfl rfl)
theorem dX6_logs_98 : decode cX6_logs 98 = .ok (.iadd, 1) := dk_96 (dk_at dksX6_logs_4 7 rfl rfl)
theorem dX6_logs_99 : decode cX6_logs 99 = .ok (.invokestatic 258, 3) := dk_184 1 2 (dk_at dksX6_logs_4 8 rfl rfl)
theorem dX6_logs_102 : decode cX6_logs 102 = .ok (.iastore, 1) := dk_79 (dk_at dksX6_logs_4 11 rfl rfl)
theorem dX6_logs_103 : decode cX6_logs 103 = .ok (.return_, 1) := dk_177 (dk_at dksX6_logs_4 12 rfl rfl)
abbrev cX6_pay : ByteArray := prog_19_method_66_code
def yX6_pay : MethodName := ⟨RX6, "pay", "(I)I"⟩
def dkwX6_pay_4 : List UInt8 := [42, 27, 6, 5, 182, 0, 138, 42, 27, 4, 29, 182, 1, 44, 42, 28, 3, 182, 0, 66, 172]
abbrev dktX6_pay_4 : List UInt8 := dkwX6_pay_4 ++ []
def dkwX6_pay_3 : List UInt8 := [180, 0, 41, 158, 0, 5, 3, 172, 42, 182, 1, 38, 42, 28, 42, 27, 4, 182, 0, 48, 29, 182, 1, 41]
abbrev dktX6_pay_3 : List UInt8 := dkwX6_pay_3 ++ dktX6_pay_4
def dkwX6_pay_2 : List UInt8 := [159, 0, 13, 42, 28, 3, 182, 0, 66, 29, 162, 0, 7, 5, 167, 0, 4, 3, 181, 0, 41, 42]
abbrev dktX6_pay_2 : List UInt8 := dkwX6_pay_2 ++ dktX6_pay_3
def dkwX6_pay_1 : List UInt8 := [3, 172, 42, 27, 3, 182, 0, 48, 61, 42, 27, 5, 182, 0, 48, 62, 42, 42, 27, 6, 182, 0, 48, 5]
abbrev dktX6_pay_1 : List UInt8 := dkwX6_pay_1 ++ dktX6_pay_2
def dkwX6_pay_0 : List UInt8 := [42, 42, 27, 182, 1, 26, 154, 0, 7, 4, 167, 0, 4, 3, 181, 0, 41, 42, 180, 0, 41, 158, 0, 5]
abbrev dktX6_pay_0 : List UInt8 := dkwX6_pay_0 ++ dktX6_pay_1
theorem dksX6_pay_0 : cX6_pay.data.toList.drop 0 = dktX6_pay_0 := by decide +kernel
theorem dksX6_pay_1 : cX6_pay.data.toList.drop 24 = dktX6_pay_1 := dk_seg dksX6_pay_0 24 rfl rfl
theorem dksX6_pay_2 : cX6_pay.data.toList.drop 48 = dktX6_pay_2 := dk_seg dksX6_pay_1 24 rfl rfl
theorem dksX6_pay_3 : cX6_pay.data.toList.drop 70 = dktX6_pay_3 := dk_seg dksX6_pay_2 22 rfl rfl
theorem dksX6_pay_4 : cX6_pay.data.toList.drop 94 = dktX6_pay_4 := dk_seg dksX6_pay_3 24 rfl rfl
theorem dX6_pay_0 : decode cX6_pay 0 = .ok (.aload_n 0, 1) := dk_42 (dk_at dksX6_pay_0 0 rfl rfl)
theorem dX6_pay_1 : decode cX6_pay 1 = .ok (.aload_n 0, 1) := dk_42 (dk_at dksX6_pay_0 1 rfl rfl)
theorem dX6_pay_2 : decode cX6_pay 2 = .ok (.iload_n 1, 1) := dk_27 (dk_at dksX6_pay_0 2 rfl rfl)
theorem dX6_pay_3 : decode cX6_pay 3 = .ok (.invokevirtual 282, 3) := dk_182 1 26 (dk_at dksX6_pay_0 3 rfl rfl)
theorem dX6_pay_6 : decode cX6_pay 6 = .ok (.ifCond .ne 7, 3) := dk_154 0 7 (dk_at dksX6_pay_0 6 rfl rfl)
theorem dX6_pay_9 : decode cX6_pay 9 = .ok (.iconst 1, 1) := dk_4 (dk_at dksX6_pay_0 9 rfl rfl)
theorem dX6_pay_10 : decode cX6_pay 10 = .ok (.goto 4, 3) := dk_167 0 4 (dk_at dksX6_pay_0 10 rfl rfl)
theorem dX6_pay_13 : decode cX6_pay 13 = .ok (.iconst 0, 1) := dk_3 (dk_at dksX6_pay_0 13 rfl rfl)
theorem dX6_pay_14 : decode cX6_pay 14 = .ok (.putfield 41, 3) := dk_181 0 41 (dk_at dksX6_pay_0 14 rfl rfl)
theorem dX6_pay_17 : decode cX6_pay 17 = .ok (.aload_n 0, 1) := dk_42 (dk_at dksX6_pay_0 17 rfl rfl)
theorem dX6_pay_18 : decode cX6_pay 18 = .ok (.getfield 41, 3) := dk_180 0 41 (dk_at dksX6_pay_0 18 rfl rfl)
theorem dX6_pay_21 : decode cX6_pay 21 = .ok (.ifCond .le 5, 3) := dk_158 0 5 (dk_at dksX6_pay_0 21 rfl rfl)
theorem dX6_pay_24 : decode cX6_pay 24 = .ok (.iconst 0, 1) := dk_3 (dk_at dksX6_pay_1 0 rfl rfl)
theorem dX6_pay_25 : decode cX6_pay 25 = .ok (.ireturn, 1) := dk_172 (dk_at dksX6_pay_1 1 rfl rfl)
theorem dX6_pay_26 : decode cX6_pay 26 = .ok (.aload_n 0, 1) := dk_42 (dk_at dksX6_pay_1 2 rfl rfl)
theorem dX6_pay_27 : decode cX6_pay 27 = .ok (.iload_n 1, 1) := dk_27 (dk_at dksX6_pay_1 3 rfl rfl)
theorem dX6_pay_28 : decode cX6_pay 28 = .ok (.iconst 0, 1) := dk_3 (dk_at dksX6_pay_1 4 rfl rfl)
theorem dX6_pay_29 : decode cX6_pay 29 = .ok (.invokevirtual 48, 3) := dk_182 0 48 (dk_at dksX6_pay_1 5 rfl rfl)
theorem dX6_pay_32 : decode cX6_pay 32 = .ok (.istore_n 2, 1) := dk_61 (dk_at dksX6_pay_1 8 rfl rfl)
theorem dX6_pay_33 : decode cX6_pay 33 = .ok (.aload_n 0, 1) := dk_42 (dk_at dksX6_pay_1 9 rfl rfl)
theorem dX6_pay_34 : decode cX6_pay 34 = .ok (.iload_n 1, 1) := dk_27 (dk_at dksX6_pay_1 10 rfl rfl)
theorem dX6_pay_35 : decode cX6_pay 35 = .ok (.iconst 2, 1) := dk_5 (dk_at dksX6_pay_1 11 rfl rfl)
theorem dX6_pay_36 : decode cX6_pay 36 = .ok (.invokevirtual 48, 3) := dk_182 0 48 (dk_at dksX6_pay_1 12 rfl rfl)
theorem dX6_pay_39 : decode cX6_pay 39 = .ok (.istore_n 3, 1) := dk_62 (dk_at dksX6_pay_1 15 rfl rfl)
theorem dX6_pay_40 : decode cX6_pay 40 = .ok (.aload_n 0, 1) := dk_42 (dk_at dksX6_pay_1 16 rfl rfl)
theorem dX6_pay_41 : decode cX6_pay 41 = .ok (.aload_n 0, 1) := dk_42 (dk_at dksX6_pay_1 17 rfl rfl)
theorem dX6_pay_42 : decode cX6_pay 42 = .ok (.iload_n 1, 1) := dk_27 (dk_at dksX6_pay_1 18 rfl rfl)
theorem dX6_pay_43 : decode cX6_pay 43 = .ok (.iconst 3, 1) := dk_6 (dk_at dksX6_pay_1 19 rfl rfl)
theorem dX6_pay_44 : decode cX6_pay 44 = .ok (.invokevirtual 48, 3) := dk_182 0 48 (dk_at dksX6_pay_1 20 rfl rfl)
theorem dX6_pay_47 : decode cX6_pay 47 = .ok (.iconst 2, 1) := dk_5 (dk_at dksX6_pay_1 23 rfl rfl)
theorem dX6_pay_48 : decode cX6_pay 48 = .ok (.if_icmp .eq 13, 3) := dk_159 0 13 (dk_at dksX6_pay_2 0 rfl rfl)
theorem dX6_pay_51 : decode cX6_pay 51 = .ok (.aload_n 0, 1) := dk_42 (dk_at dksX6_pay_2 3 rfl rfl)
theorem dX6_pay_52 : decode cX6_pay 52 = .ok (.iload_n 2, 1) := dk_28 (dk_at dksX6_pay_2 4 rfl rfl)
theorem dX6_pay_53 : decode cX6_pay 53 = .ok (.iconst 0, 1) := dk_3 (dk_at dksX6_pay_2 5 rfl rfl)
theorem dX6_pay_54 : decode cX6_pay 54 = .ok (.invokevirtual 66, 3) := dk_182 0 66 (dk_at dksX6_pay_2 6 rfl rfl)
theorem dX6_pay_57 : decode cX6_pay 57 = .ok (.iload_n 3, 1) := dk_29 (dk_at dksX6_pay_2 9 rfl rfl)
theorem dX6_pay_58 : decode cX6_pay 58 = .ok (.if_icmp .ge 7, 3) := dk_162 0 7 (dk_at dksX6_pay_2 10 rfl rfl)
theorem dX6_pay_61 : decode cX6_pay 61 = .ok (.iconst 2, 1) := dk_5 (dk_at dksX6_pay_2 13 rfl rfl)
theorem dX6_pay_62 : decode cX6_pay 62 = .ok (.goto 4, 3) := dk_167 0 4 (dk_at dksX6_pay_2 14 rfl rfl)
theorem dX6_pay_65 : decode cX6_pay 65 = .ok (.iconst 0, 1) := dk_3 (dk_at dksX6_pay_2 17 rfl rfl)
theorem dX6_pay_66 : decode cX6_pay 66 = .ok (.putfield 41, 3) := dk_181 0 41 (dk_at dksX6_pay_2 18 rfl rfl)
theorem dX6_pay_69 : decode cX6_pay 69 = .ok (.aload_n 0, 1) := dk_42 (dk_at dksX6_pay_2 21 rfl rfl)
theorem dX6_pay_70 : decode cX6_pay 70 = .ok (.getfield 41, 3) := dk_180 0 41 (dk_at dksX6_pay_3 0 rfl rfl)
theorem dX6_pay_73 : decode cX6_pay 73 = .ok (.ifCond .le 5, 3) := dk_158 0 5 (dk_at dksX6_pay_3 3 rfl rfl)
theorem dX6_pay_76 : decode cX6_pay 76 = .ok (.iconst 0, 1) := dk_3 (dk_at dksX6_pay_3 6 rfl rfl)
theorem dX6_pay_77 : decode cX6_pay 77 = .ok (.ireturn, 1) := dk_172 (dk_at dksX6_pay_3 7 rfl rfl)
theorem dX6_pay_78 : decode cX6_pay 78 = .ok (.aload_n 0, 1) := dk_42 (dk_at dksX6_pay_3 8 rfl rfl)
theorem dX6_pay_79 : decode cX6_pay 79 = .ok (.invokevirtual 294, 3) := dk_182 1 38 (dk_at dksX6_pay_3 9 rfl rfl)
theorem dX6_pay_82 : decode cX6_pay 82 = .ok (.aload_n 0, 1) := dk_42 (dk_at dksX6_pay_3 12 rfl rfl)
theorem dX6_pay_83 : decode cX6_pay 83 = .ok (.iload_n 2, 1) := dk_28 (dk_at dksX6_pay_3 13 rfl rfl)
theorem dX6_pay_84 : decode cX6_pay 84 = .ok (.aload_n 0, 1) := dk_42 (dk_at dksX6_pay_3 14 rfl rfl)
theorem dX6_pay_85 : decode cX6_pay 85 = .ok (.iload_n 1, 1) := dk_27 (dk_at dksX6_pay_3 15 rfl rfl)
theorem dX6_pay_86 : decode cX6_pay 86 = .ok (.iconst 1, 1) := dk_4 (dk_at dksX6_pay_3 16 rfl rfl)
theorem dX6_pay_87 : decode cX6_pay 87 = .ok (.invokevirtual 48, 3) := dk_182 0 48 (dk_at dksX6_pay_3 17 rfl rfl)
theorem dX6_pay_90 : decode cX6_pay 90 = .ok (.iload_n 3, 1) := dk_29 (dk_at dksX6_pay_3 20 rfl rfl)
theorem dX6_pay_91 : decode cX6_pay 91 = .ok (.invokevirtual 297, 3) := dk_182 1 41 (dk_at dksX6_pay_3 21 rfl rfl)
theorem dX6_pay_94 : decode cX6_pay 94 = .ok (.aload_n 0, 1) := dk_42 (dk_at dksX6_pay_4 0 rfl rfl)
theorem dX6_pay_95 : decode cX6_pay 95 = .ok (.iload_n 1, 1) := dk_27 (dk_at dksX6_pay_4 1 rfl rfl)
theorem dX6_pay_96 : decode cX6_pay 96 = .ok (.iconst 3, 1) := dk_6 (dk_at dksX6_pay_4 2 rfl rfl)
theorem dX6_pay_97 : decode cX6_pay 97 = .ok (.iconst 2, 1) := dk_5 (dk_at dksX6_pay_4 3 rfl rfl)
theorem dX6_pay_98 : decode cX6_pay 98 = .ok (.invokevirtual 138, 3) := dk_182 0 138 (dk_at dksX6_pay_4 4 rfl rfl)
theorem dX6_pay_101 : decode cX6_pay 101 = .ok (.aload_n 0, 1) := dk_42 (dk_at dksX6_pay_4 7 rfl rfl)
theorem dX6_pay_102 : decode cX6_pay 102 = .ok (.iload_n 1, 1) := dk_27 (dk_at dksX6_pay_4 8 rfl rfl)
theorem dX6_pay_103 : decode cX6_pay 103 = .ok (.iconst 1, 1) := dk_4 (dk_at dksX6_pay_4 9 rfl rfl)
theorem dX6_pay_104 : decode cX6_pay 104 = .ok (.iload_n 3, 1) := dk_29 (dk_at dksX6_pay_4 10 rfl rfl)
theorem dX6_pay_105 : decode cX6_pay 105 = .ok (.invokevirtual 300, 3) := dk_182 1 44 (dk_at dksX6_pay_4 11 rfl rfl)
theorem dX6_pay_108 : decode cX6_pay 108 = .ok (.aload_n 0, 1) := dk_42 (dk_at dksX6_pay_4 14 rfl rfl)
theorem dX6_pay_109 : decode cX6_pay 109 = .ok (.iload_n 2, 1) := dk_28 (dk_at dksX6_pay_4 15 rfl rfl)
theorem dX6_pay_110 : decode cX6_pay 110 = .ok (.iconst 0, 1) := dk_3 (dk_at dksX6_pay_4 16 rfl rfl)
theorem dX6_pay_111 : decode cX6_pay 111 = .ok (.invokevirtual 66, 3) := dk_182 0 66 (dk_at dksX6_pay_4 17 rfl rfl)
theorem dX6_pay_114 : decode cX6_pay 114 = .ok (.ireturn, 1) := dk_172 (dk_at dksX6_pay_4 20 rfl rfl)
abbrev cX6_split : ByteArray := prog_19_method_67_code
def yX6_split : MethodName := ⟨RX6, "split", "(I)I"⟩
def dkwX6_split_6 : List UInt8 := [96, 79, 29, 172]
abbrev dktX6_split_6 : List UInt8 := dkwX6_split_6 ++ []
def dkwX6_split_5 : List UInt8 := [5, 108, 182, 0, 138, 42, 27, 5, 28, 28, 5, 108, 100, 182, 0, 138, 42, 180, 0, 7, 7, 92, 46, 4]
abbrev dktX6_split_5 : List UInt8 := dkwX6_split_5 ++ dktX6_split_6
def dkwX6_split_4 : List UInt8 := [42, 29, 21, 4, 42, 27, 21, 4, 182, 0, 48, 182, 0, 138, 132, 4, 1, 167, 255, 232, 42, 29, 5, 28]
abbrev dktX6_split_4 : List UInt8 := dkwX6_split_4 ++ dktX6_split_5
def dkwX6_split_3 : List UInt8 := [42, 180, 0, 7, 7, 46, 62, 42, 27, 5, 28, 182, 1, 44, 3, 54, 4, 21, 4, 16, 6, 162, 0, 23]
abbrev dktX6_split_3 : List UInt8 := dkwX6_split_3 ++ dktX6_split_4
def dkwX6_split_2 : List UInt8 := [3, 181, 0, 41, 42, 180, 0, 41, 158, 0, 5, 3, 172, 42, 182, 1, 38, 42, 27, 5, 182, 0, 48, 61]
abbrev dktX6_split_2 : List UInt8 := dkwX6_split_2 ++ dktX6_split_3
def dkwX6_split_1 : List UInt8 := [27, 5, 182, 0, 48, 4, 159, 0, 14, 42, 180, 0, 7, 7, 46, 16, 10, 160, 0, 7, 5, 167, 0, 4]
abbrev dktX6_split_1 : List UInt8 := dkwX6_split_1 ++ dktX6_split_2
def dkwX6_split_0 : List UInt8 := [42, 42, 27, 182, 1, 26, 154, 0, 7, 4, 167, 0, 39, 42, 27, 6, 182, 0, 48, 5, 159, 0, 24, 42]
abbrev dktX6_split_0 : List UInt8 := dkwX6_split_0 ++ dktX6_split_1
theorem dksX6_split_0 : cX6_split.data.toList.drop 0 = dktX6_split_0 := by decide +kernel
theorem dksX6_split_1 : cX6_split.data.toList.drop 24 = dktX6_split_1 := dk_seg dksX6_split_0 24 rfl rfl
theorem dksX6_split_2 : cX6_split.data.toList.drop 48 = dktX6_split_2 := dk_seg dksX6_split_1 24 rfl rfl
theorem dksX6_split_3 : cX6_split.data.toList.drop 72 = dktX6_split_3 := dk_seg dksX6_split_2 24 rfl rfl
theorem dksX6_split_4 : cX6_split.data.toList.drop 96 = dktX6_split_4 := dk_seg dksX6_split_3 24 rfl rfl
theorem dksX6_split_5 : cX6_split.data.toList.drop 120 = dktX6_split_5 := dk_seg dksX6_split_4 24 rfl rfl
theorem dksX6_split_6 : cX6_split.data.toList.drop 144 = dktX6_split_6 := dk_seg dksX6_split_5 24 rfl rfl
theorem dX6_split_0 : decode cX6_split 0 = .ok (.aload_n 0, 1) := dk_42 (dk_at dksX6_split_0 0 rfl rfl)
theorem dX6_split_1 : decode cX6_split 1 = .ok (.aload_n 0, 1) := dk_42 (dk_at dksX6_split_0 1 rfl rfl)
theorem dX6_split_2 : decode cX6_split 2 = .ok (.iload_n 1, 1) := dk_27 (dk_at dksX6_split_0 2 rfl rfl)
theorem dX6_split_3 : decode cX6_split 3 = .ok (.invokevirtual 282, 3) := dk_182 1 26 (dk_at dksX6_split_0 3 rfl rfl)
theorem dX6_split_6 : decode cX6_split 6 = .ok (.ifCond .ne 7, 3) := dk_154 0 7 (dk_at dksX6_split_0 6 rfl rfl)
theorem dX6_split_9 : decode cX6_split 9 = .ok (.iconst 1, 1) := dk_4 (dk_at dksX6_split_0 9 rfl rfl)
theorem dX6_split_10 : decode cX6_split 10 = .ok (.goto 39, 3) := dk_167 0 39 (dk_at dksX6_split_0 10 rfl rfl)
theorem dX6_split_13 : decode cX6_split 13 = .ok (.aload_n 0, 1) := dk_42 (dk_at dksX6_split_0 13 rfl rfl)
theorem dX6_split_14 : decode cX6_split 14 = .ok (.iload_n 1, 1) := dk_27 (dk_at dksX6_split_0 14 rfl rfl)
theorem dX6_split_15 : decode cX6_split 15 = .ok (.iconst 3, 1) := dk_6 (dk_at dksX6_split_0 15 rfl rfl)
theorem dX6_split_16 : decode cX6_split 16 = .ok (.invokevirtual 48, 3) := dk_182 0 48 (dk_at dksX6_split_0 16 rfl rfl)
theorem dX6_split_19 : decode cX6_split 19 = .ok (.iconst 2, 1) := dk_5 (dk_at dksX6_split_0 19 rfl rfl)
theorem dX6_split_20 : decode cX6_split 20 = .ok (.if_icmp .eq 24, 3) := dk_159 0 24 (dk_at dksX6_split_0 20 rfl rfl)
theorem dX6_split_23 : decode cX6_split 23 = .ok (.aload_n 0, 1) := dk_42 (dk_at dksX6_split_0 23 rfl rfl)
theorem dX6_split_24 : decode cX6_split 24 = .ok (.iload_n 1, 1) := dk_27 (dk_at dksX6_split_1 0 rfl rfl)
theorem dX6_split_25 : decode cX6_split 25 = .ok (.iconst 2, 1) := dk_5 (dk_at dksX6_split_1 1 rfl rfl)
theorem dX6_split_26 : decode cX6_split 26 = .ok (.invokevirtual 48, 3) := dk_182 0 48 (dk_at dksX6_split_1 2 rfl rfl)
theorem dX6_split_29 : decode cX6_split 29 = .ok (.iconst 1, 1) := dk_4 (dk_at dksX6_split_1 5 rfl rfl)
theorem dX6_split_30 : decode cX6_split 30 = .ok (.if_icmp .eq 14, 3) := dk_159 0 14 (dk_at dksX6_split_1 6 rfl rfl)
theorem dX6_split_33 : decode cX6_split 33 = .ok (.aload_n 0, 1) := dk_42 (dk_at dksX6_split_1 9 rfl rfl)
theorem dX6_split_34 : decode cX6_split 34 = .ok (.getfield 7, 3) := dk_180 0 7 (dk_at dksX6_split_1 10 rfl rfl)
theorem dX6_split_37 : decode cX6_split 37 = .ok (.iconst 4, 1) := dk_7 (dk_at dksX6_split_1 13 rfl rfl)
theorem dX6_split_38 : decode cX6_split 38 = .ok (.iaload, 1) := dk_46 (dk_at dksX6_split_1 14 rfl rfl)
theorem dX6_split_39 : decode cX6_split 39 = .ok (.bipush 10, 2) := dk_16 10 (dk_at dksX6_split_1 15 rfl rfl)
theorem dX6_split_41 : decode cX6_split 41 = .ok (.if_icmp .ne 7, 3) := dk_160 0 7 (dk_at dksX6_split_1 17 rfl rfl)
theorem dX6_split_44 : decode cX6_split 44 = .ok (.iconst 2, 1) := dk_5 (dk_at dksX6_split_1 20 rfl rfl)
theorem dX6_split_45 : decode cX6_split 45 = .ok (.goto 4, 3) := dk_167 0 4 (dk_at dksX6_split_1 21 rfl rfl)
theorem dX6_split_48 : decode cX6_split 48 = .ok (.iconst 0, 1) := dk_3 (dk_at dksX6_split_2 0 rfl rfl)
theorem dX6_split_49 : decode cX6_split 49 = .ok (.putfield 41, 3) := dk_181 0 41 (dk_at dksX6_split_2 1 rfl rfl)
theorem dX6_split_52 : decode cX6_split 52 = .ok (.aload_n 0, 1) := dk_42 (dk_at dksX6_split_2 4 rfl rfl)
theorem dX6_split_53 : decode cX6_split 53 = .ok (.getfield 41, 3) := dk_180 0 41 (dk_at dksX6_split_2 5 rfl rfl)
theorem dX6_split_56 : decode cX6_split 56 = .ok (.ifCond .le 5, 3) := dk_158 0 5 (dk_at dksX6_split_2 8 rfl rfl)
theorem dX6_split_59 : decode cX6_split 59 = .ok (.iconst 0, 1) := dk_3 (dk_at dksX6_split_2 11 rfl rfl)
theorem dX6_split_60 : decode cX6_split 60 = .ok (.ireturn, 1) := dk_172 (dk_at dksX6_split_2 12 rfl rfl)
theorem dX6_split_61 : decode cX6_split 61 = .ok (.aload_n 0, 1) := dk_42 (dk_at dksX6_split_2 13 rfl rfl)
theorem dX6_split_62 : decode cX6_split 62 = .ok (.invokevirtual 294, 3) := dk_182 1 38 (dk_at dksX6_split_2 14 rfl rfl)
theorem dX6_split_65 : decode cX6_split 65 = .ok (.aload_n 0, 1) := dk_42 (dk_at dksX6_split_2 17 rfl rfl)
theorem dX6_split_66 : decode cX6_split 66 = .ok (.iload_n 1, 1) := dk_27 (dk_at dksX6_split_2 18 rfl rfl)
theorem dX6_split_67 : decode cX6_split 67 = .ok (.iconst 2, 1) := dk_5 (dk_at dksX6_split_2 19 rfl rfl)
theorem dX6_split_68 : decode cX6_split 68 = .ok (.invokevirtual 48, 3) := dk_182 0 48 (dk_at dksX6_split_2 20 rfl rfl)
theorem dX6_split_71 : decode cX6_split 71 = .ok (.istore_n 2, 1) := dk_61 (dk_at dksX6_split_2 23 rfl rfl)
theorem dX6_split_72 : decode cX6_split 72 = .ok (.aload_n 0, 1) := dk_42 (dk_at dksX6_split_3 0 rfl rfl)
theorem dX6_split_73 : decode cX6_split 73 = .ok (.getfield 7, 3) := dk_180 0 7 (dk_at dksX6_split_3 1 rfl rfl)
theorem dX6_split_76 : decode cX6_split 76 = .ok (.iconst 4, 1) := dk_7 (dk_at dksX6_split_3 4 rfl rfl)
theorem dX6_split_77 : decode cX6_split 77 = .ok (.iaload, 1) := dk_46 (dk_at dksX6_split_3 5 rfl rfl)
theorem dX6_split_78 : decode cX6_split 78 = .ok (.istore_n 3, 1) := dk_62 (dk_at dksX6_split_3 6 rfl rfl)
theorem dX6_split_79 : decode cX6_split 79 = .ok (.aload_n 0, 1) := dk_42 (dk_at dksX6_split_3 7 rfl rfl)
theorem dX6_split_80 : decode cX6_split 80 = .ok (.iload_n 1, 1) := dk_27 (dk_at dksX6_split_3 8 rfl rfl)
theorem dX6_split_81 : decode cX6_split 81 = .ok (.iconst 2, 1) := dk_5 (dk_at dksX6_split_3 9 rfl rfl)
theorem dX6_split_82 : decode cX6_split 82 = .ok (.iload_n 2, 1) := dk_28 (dk_at dksX6_split_3 10 rfl rfl)
theorem dX6_split_83 : decode cX6_split 83 = .ok (.invokevirtual 300, 3) := dk_182 1 44 (dk_at dksX6_split_3 11 rfl rfl)
theorem dX6_split_86 : decode cX6_split 86 = .ok (.iconst 0, 1) := dk_3 (dk_at dksX6_split_3 14 rfl rfl)
theorem dX6_split_87 : decode cX6_split 87 = .ok (.istore 4, 2) := dk_54 4 (dk_at dksX6_split_3 15 rfl rfl)
theorem dX6_split_89 : decode cX6_split 89 = .ok (.iload 4, 2) := dk_21 4 (dk_at dksX6_split_3 17 rfl rfl)
theorem dX6_split_91 : decode cX6_split 91 = .ok (.bipush 6, 2) := dk_16 6 (dk_at dksX6_split_3 19 rfl rfl)
theorem dX6_split_93 : decode cX6_split 93 = .ok (.if_icmp .ge 23, 3) := dk_162 0 23 (dk_at dksX6_split_3 21 rfl rfl)
theorem dX6_split_96 : decode cX6_split 96 = .ok (.aload_n 0, 1) := dk_42 (dk_at dksX6_split_4 0 rfl rfl)
theorem dX6_split_97 : decode cX6_split 97 = .ok (.iload_n 3, 1) := dk_29 (dk_at dksX6_split_4 1 rfl rfl)
theorem dX6_split_98 : decode cX6_split 98 = .ok (.iload 4, 2) := dk_21 4 (dk_at dksX6_split_4 2 rfl rfl)
theorem dX6_split_100 : decode cX6_split 100 = .ok (.aload_n 0, 1) := dk_42 (dk_at dksX6_split_4 4 rfl rfl)
theorem dX6_split_101 : decode cX6_split 101 = .ok (.iload_n 1, 1) := dk_27 (dk_at dksX6_split_4 5 rfl rfl)
theorem dX6_split_102 : decode cX6_split 102 = .ok (.iload 4, 2) := dk_21 4 (dk_at dksX6_split_4 6 rfl rfl)
theorem dX6_split_104 : decode cX6_split 104 = .ok (.invokevirtual 48, 3) := dk_182 0 48 (dk_at dksX6_split_4 8 rfl rfl)
theorem dX6_split_107 : decode cX6_split 107 = .ok (.invokevirtual 138, 3) := dk_182 0 138 (dk_at dksX6_split_4 11 rfl rfl)
theorem dX6_split_110 : decode cX6_split 110 = .ok (.iinc 4 1, 3) := dk_132 4 1 (dk_at dksX6_split_4 14 rfl rfl)
theorem dX6_split_113 : decode cX6_split 113 = .ok (.goto (-24), 3) := dk_167 255 232 (dk_at dksX6_split_4 17 rfl rfl)
theorem dX6_split_116 : decode cX6_split 116 = .ok (.aload_n 0, 1) := dk_42 (dk_at dksX6_split_4 20 rfl rfl)
theorem dX6_split_117 : decode cX6_split 117 = .ok (.iload_n 3, 1) := dk_29 (dk_at dksX6_split_4 21 rfl rfl)
theorem dX6_split_118 : decode cX6_split 118 = .ok (.iconst 2, 1) := dk_5 (dk_at dksX6_split_4 22 rfl rfl)
theorem dX6_split_119 : decode cX6_split 119 = .ok (.iload_n 2, 1) := dk_28 (dk_at dksX6_split_4 23 rfl rfl)
theorem dX6_split_120 : decode cX6_split 120 = .ok (.iconst 2, 1) := dk_5 (dk_at dksX6_split_5 0 rfl rfl)
theorem dX6_split_121 : decode cX6_split 121 = .ok (.idiv, 1) := dk_108 (dk_at dksX6_split_5 1 rfl rfl)
theorem dX6_split_122 : decode cX6_split 122 = .ok (.invokevirtual 138, 3) := dk_182 0 138 (dk_at dksX6_split_5 2 rfl rfl)
theorem dX6_split_125 : decode cX6_split 125 = .ok (.aload_n 0, 1) := dk_42 (dk_at dksX6_split_5 5 rfl rfl)
theorem dX6_split_126 : decode cX6_split 126 = .ok (.iload_n 1, 1) := dk_27 (dk_at dksX6_split_5 6 rfl rfl)
theorem dX6_split_127 : decode cX6_split 127 = .ok (.iconst 2, 1) := dk_5 (dk_at dksX6_split_5 7 rfl rfl)
theorem dX6_split_128 : decode cX6_split 128 = .ok (.iload_n 2, 1) := dk_28 (dk_at dksX6_split_5 8 rfl rfl)
theorem dX6_split_129 : decode cX6_split 129 = .ok (.iload_n 2, 1) := dk_28 (dk_at dksX6_split_5 9 rfl rfl)
theorem dX6_split_130 : decode cX6_split 130 = .ok (.iconst 2, 1) := dk_5 (dk_at dksX6_split_5 10 rfl rfl)
theorem dX6_split_131 : decode cX6_split 131 = .ok (.idiv, 1) := dk_108 (dk_at dksX6_split_5 11 rfl rfl)
theorem dX6_split_132 : decode cX6_split 132 = .ok (.isub, 1) := dk_100 (dk_at dksX6_split_5 12 rfl rfl)
theorem dX6_split_133 : decode cX6_split 133 = .ok (.invokevirtual 138, 3) := dk_182 0 138 (dk_at dksX6_split_5 13 rfl rfl)
theorem dX6_split_136 : decode cX6_split 136 = .ok (.aload_n 0, 1) := dk_42 (dk_at dksX6_split_5 16 rfl rfl)
theorem dX6_split_137 : decode cX6_split 137 = .ok (.getfield 7, 3) := dk_180 0 7 (dk_at dksX6_split_5 17 rfl rfl)
theorem dX6_split_140 : decode cX6_split 140 = .ok (.iconst 4, 1) := dk_7 (dk_at dksX6_split_5 20 rfl rfl)
theorem dX6_split_141 : decode cX6_split 141 = .ok (.dup2, 1) := dk_92 (dk_at dksX6_split_5 21 rfl rfl)
theorem dX6_split_142 : decode cX6_split 142 = .ok (.iaload, 1) := dk_46 (dk_at dksX6_split_5 22 rfl rfl)
theorem dX6_split_143 : decode cX6_split 143 = .ok (.iconst 1, 1) := dk_4 (dk_at dksX6_split_5 23 rfl rfl)
theorem dX6_split_144 : decode cX6_split 144 = .ok (.iadd, 1) := dk_96 (dk_at dksX6_split_6 0 rfl rfl)
theorem dX6_split_145 : decode cX6_split 145 = .ok (.iastore, 1) := dk_79 (dk_at dksX6_split_6 1 rfl rfl)
theorem dX6_split_146 : decode cX6_split 146 = .ok (.iload_n 3, 1) := dk_29 (dk_at dksX6_split_6 2 rfl rfl)
theorem dX6_split_147 : decode cX6_split 147 = .ok (.ireturn, 1) := dk_172 (dk_at dksX6_split_6 3 rfl rfl)
abbrev cX6_pass : ByteArray := prog_19_method_68_code
def yX6_pass : MethodName := ⟨RX6, "pass", "(II)I"⟩
def dkwX6_pass_5 : List UInt8 := [42, 27, 5, 182, 0, 48, 182, 1, 44, 42, 27, 7, 28, 182, 0, 138, 21, 4, 172]
abbrev dktX6_pass_5 : List UInt8 := dkwX6_pass_5 ++ []
def dkwX6_pass_4 : List UInt8 := [6, 167, 0, 4, 3, 181, 0, 41, 42, 180, 0, 41, 158, 0, 5, 3, 172, 42, 182, 1, 38, 42, 27, 6]
abbrev dktX6_pass_4 : List UInt8 := dkwX6_pass_4 ++ dktX6_pass_5
def dkwX6_pass_3 : List UInt8 := [5, 167, 0, 28, 29, 153, 0, 19, 42, 28, 5, 182, 0, 66, 42, 21, 4, 5, 182, 0, 66, 159, 0, 7]
abbrev dktX6_pass_3 : List UInt8 := dkwX6_pass_3 ++ dktX6_pass_4
def dkwX6_pass_2 : List UInt8 := [167, 0, 4, 3, 62, 42, 27, 7, 182, 0, 48, 54, 4, 42, 29, 153, 0, 13, 21, 4, 28, 160, 0, 7]
abbrev dktX6_pass_2 : List UInt8 := dkwX6_pass_2 ++ dktX6_pass_3
def dkwX6_pass_1 : List UInt8 := [181, 0, 41, 42, 180, 0, 41, 158, 0, 5, 3, 172, 42, 27, 6, 182, 0, 48, 154, 0, 7, 4]
abbrev dktX6_pass_1 : List UInt8 := dkwX6_pass_1 ++ dktX6_pass_2
def dkwX6_pass_0 : List UInt8 := [42, 42, 27, 182, 1, 26, 153, 0, 11, 42, 28, 182, 1, 20, 154, 0, 7, 4, 167, 0, 4, 3]
abbrev dktX6_pass_0 : List UInt8 := dkwX6_pass_0 ++ dktX6_pass_1
theorem dksX6_pass_0 : cX6_pass.data.toList.drop 0 = dktX6_pass_0 := by decide +kernel
theorem dksX6_pass_1 : cX6_pass.data.toList.drop 22 = dktX6_pass_1 := dk_seg dksX6_pass_0 22 rfl rfl
theorem dksX6_pass_2 : cX6_pass.data.toList.drop 44 = dktX6_pass_2 := dk_seg dksX6_pass_1 22 rfl rfl
theorem dksX6_pass_3 : cX6_pass.data.toList.drop 68 = dktX6_pass_3 := dk_seg dksX6_pass_2 24 rfl rfl
theorem dksX6_pass_4 : cX6_pass.data.toList.drop 92 = dktX6_pass_4 := dk_seg dksX6_pass_3 24 rfl rfl
theorem dksX6_pass_5 : cX6_pass.data.toList.drop 116 = dktX6_pass_5 := dk_seg dksX6_pass_4 24 rfl rfl
theorem dX6_pass_0 : decode cX6_pass 0 = .ok (.aload_n 0, 1) := dk_42 (dk_at dksX6_pass_0 0 rfl rfl)
theorem dX6_pass_1 : decode cX6_pass 1 = .ok (.aload_n 0, 1) := dk_42 (dk_at dksX6_pass_0 1 rfl rfl)
theorem dX6_pass_2 : decode cX6_pass 2 = .ok (.iload_n 1, 1) := dk_27 (dk_at dksX6_pass_0 2 rfl rfl)
theorem dX6_pass_3 : decode cX6_pass 3 = .ok (.invokevirtual 282, 3) := dk_182 1 26 (dk_at dksX6_pass_0 3 rfl rfl)
theorem dX6_pass_6 : decode cX6_pass 6 = .ok (.ifCond .eq 11, 3) := dk_153 0 11 (dk_at dksX6_pass_0 6 rfl rfl)
theorem dX6_pass_9 : decode cX6_pass 9 = .ok (.aload_n 0, 1) := dk_42 (dk_at dksX6_pass_0 9 rfl rfl)
theorem dX6_pass_10 : decode cX6_pass 10 = .ok (.iload_n 2, 1) := dk_28 (dk_at dksX6_pass_0 10 rfl rfl)
theorem dX6_pass_11 : decode cX6_pass 11 = .ok (.invokevirtual 276, 3) := dk_182 1 20 (dk_at dksX6_pass_0 11 rfl rfl)
theorem dX6_pass_14 : decode cX6_pass 14 = .ok (.ifCond .ne 7, 3) := dk_154 0 7 (dk_at dksX6_pass_0 14 rfl rfl)
theorem dX6_pass_17 : decode cX6_pass 17 = .ok (.iconst 1, 1) := dk_4 (dk_at dksX6_pass_0 17 rfl rfl)
theorem dX6_pass_18 : decode cX6_pass 18 = .ok (.goto 4, 3) := dk_167 0 4 (dk_at dksX6_pass_0 18 rfl rfl)
theorem dX6_pass_21 : decode cX6_pass 21 = .ok (.iconst 0, 1) := dk_3 (dk_at dksX6_pass_0 21 rfl rfl)
theorem dX6_pass_22 : decode cX6_pass 22 = .ok (.putfield 41, 3) := dk_181 0 41 (dk_at dksX6_pass_1 0 rfl rfl)
theorem dX6_pass_25 : decode cX6_pass 25 = .ok (.aload_n 0, 1) := dk_42 (dk_at dksX6_pass_1 3 rfl rfl)
theorem dX6_pass_26 : decode cX6_pass 26 = .ok (.getfield 41, 3) := dk_180 0 41 (dk_at dksX6_pass_1 4 rfl rfl)
theorem dX6_pass_29 : decode cX6_pass 29 = .ok (.ifCond .le 5, 3) := dk_158 0 5 (dk_at dksX6_pass_1 7 rfl rfl)
theorem dX6_pass_32 : decode cX6_pass 32 = .ok (.iconst 0, 1) := dk_3 (dk_at dksX6_pass_1 10 rfl rfl)
theorem dX6_pass_33 : decode cX6_pass 33 = .ok (.ireturn, 1) := dk_172 (dk_at dksX6_pass_1 11 rfl rfl)
theorem dX6_pass_34 : decode cX6_pass 34 = .ok (.aload_n 0, 1) := dk_42 (dk_at dksX6_pass_1 12 rfl rfl)
theorem dX6_pass_35 : decode cX6_pass 35 = .ok (.iload_n 1, 1) := dk_27 (dk_at dksX6_pass_1 13 rfl rfl)
theorem dX6_pass_36 : decode cX6_pass 36 = .ok (.iconst 3, 1) := dk_6 (dk_at dksX6_pass_1 14 rfl rfl)
theorem dX6_pass_37 : decode cX6_pass 37 = .ok (.invokevirtual 48, 3) := dk_182 0 48 (dk_at dksX6_pass_1 15 rfl rfl)
theorem dX6_pass_40 : decode cX6_pass 40 = .ok (.ifCond .ne 7, 3) := dk_154 0 7 (dk_at dksX6_pass_1 18 rfl rfl)
theorem dX6_pass_43 : decode cX6_pass 43 = .ok (.iconst 1, 1) := dk_4 (dk_at dksX6_pass_1 21 rfl rfl)
theorem dX6_pass_44 : decode cX6_pass 44 = .ok (.goto 4, 3) := dk_167 0 4 (dk_at dksX6_pass_2 0 rfl rfl)
theorem dX6_pass_47 : decode cX6_pass 47 = .ok (.iconst 0, 1) := dk_3 (dk_at dksX6_pass_2 3 rfl rfl)
theorem dX6_pass_48 : decode cX6_pass 48 = .ok (.istore_n 3, 1) := dk_62 (dk_at dksX6_pass_2 4 rfl rfl)
theorem dX6_pass_49 : decode cX6_pass 49 = .ok (.aload_n 0, 1) := dk_42 (dk_at dksX6_pass_2 5 rfl rfl)
theorem dX6_pass_50 : decode cX6_pass 50 = .ok (.iload_n 1, 1) := dk_27 (dk_at dksX6_pass_2 6 rfl rfl)
theorem dX6_pass_51 : decode cX6_pass 51 = .ok (.iconst 4, 1) := dk_7 (dk_at dksX6_pass_2 7 rfl rfl)
theorem dX6_pass_52 : decode cX6_pass 52 = .ok (.invokevirtual 48, 3) := dk_182 0 48 (dk_at dksX6_pass_2 8 rfl rfl)
theorem dX6_pass_55 : decode cX6_pass 55 = .ok (.istore 4, 2) := dk_54 4 (dk_at dksX6_pass_2 11 rfl rfl)
theorem dX6_pass_57 : decode cX6_pass 57 = .ok (.aload_n 0, 1) := dk_42 (dk_at dksX6_pass_2 13 rfl rfl)
theorem dX6_pass_58 : decode cX6_pass 58 = .ok (.iload_n 3, 1) := dk_29 (dk_at dksX6_pass_2 14 rfl rfl)
theorem dX6_pass_59 : decode cX6_pass 59 = .ok (.ifCond .eq 13, 3) := dk_153 0 13 (dk_at dksX6_pass_2 15 rfl rfl)
theorem dX6_pass_62 : decode cX6_pass 62 = .ok (.iload 4, 2) := dk_21 4 (dk_at dksX6_pass_2 18 rfl rfl)
theorem dX6_pass_64 : decode cX6_pass 64 = .ok (.iload_n 2, 1) := dk_28 (dk_at dksX6_pass_2 20 rfl rfl)
theorem dX6_pass_65 : decode cX6_pass 65 = .ok (.if_icmp .ne 7, 3) := dk_160 0 7 (dk_at dksX6_pass_2 21 rfl rfl)
theorem dX6_pass_68 : decode cX6_pass 68 = .ok (.iconst 2, 1) := dk_5 (dk_at dksX6_pass_3 0 rfl rfl)
theorem dX6_pass_69 : decode cX6_pass 69 = .ok (.goto 28, 3) := dk_167 0 28 (dk_at dksX6_pass_3 1 rfl rfl)
theorem dX6_pass_72 : decode cX6_pass 72 = .ok (.iload_n 3, 1) := dk_29 (dk_at dksX6_pass_3 4 rfl rfl)
theorem dX6_pass_73 : decode cX6_pass 73 = .ok (.ifCond .eq 19, 3) := dk_153 0 19 (dk_at dksX6_pass_3 5 rfl rfl)
theorem dX6_pass_76 : decode cX6_pass 76 = .ok (.aload_n 0, 1) := dk_42 (dk_at dksX6_pass_3 8 rfl rfl)
theorem dX6_pass_77 : decode cX6_pass 77 = .ok (.iload_n 2, 1) := dk_28 (dk_at dksX6_pass_3 9 rfl rfl)
theorem dX6_pass_78 : decode cX6_pass 78 = .ok (.iconst 2, 1) := dk_5 (dk_at dksX6_pass_3 10 rfl rfl)
theorem dX6_pass_79 : decode cX6_pass 79 = .ok (.invokevirtual 66, 3) := dk_182 0 66 (dk_at dksX6_pass_3 11 rfl rfl)
theorem dX6_pass_82 : decode cX6_pass 82 = .ok (.aload_n 0, 1) := dk_42 (dk_at dksX6_pass_3 14 rfl rfl)
theorem dX6_pass_83 : decode cX6_pass 83 = .ok (.iload 4, 2) := dk_21 4 (dk_at dksX6_pass_3 15 rfl rfl)
theorem dX6_pass_85 : decode cX6_pass 85 = .ok (.iconst 2, 1) := dk_5 (dk_at dksX6_pass_3 17 rfl rfl)
theorem dX6_pass_86 : decode cX6_pass 86 = .ok (.invokevirtual 66, 3) := dk_182 0 66 (dk_at dksX6_pass_3 18 rfl rfl)
theorem dX6_pass_89 : decode cX6_pass 89 = .ok (.if_icmp .eq 7, 3) := dk_159 0 7 (dk_at dksX6_pass_3 21 rfl rfl)
theorem dX6_pass_92 : decode cX6_pass 92 = .ok (.iconst 3, 1) := dk_6 (dk_at dksX6_pass_4 0 rfl rfl)
theorem dX6_pass_93 : decode cX6_pass 93 = .ok (.goto 4, 3) := dk_167 0 4 (dk_at dksX6_pass_4 1 rfl rfl)
theorem dX6_pass_96 : decode cX6_pass 96 = .ok (.iconst 0, 1) := dk_3 (dk_at dksX6_pass_4 4 rfl rfl)
theorem dX6_pass_97 : decode cX6_pass 97 = .ok (.putfield 41, 3) := dk_181 0 41 (dk_at dksX6_pass_4 5 rfl rfl)
theorem dX6_pass_100 : decode cX6_pass 100 = .ok (.aload_n 0, 1) := dk_42 (dk_at dksX6_pass_4 8 rfl rfl)
theorem dX6_pass_101 : decode cX6_pass 101 = .ok (.getfield 41, 3) := dk_180 0 41 (dk_at dksX6_pass_4 9 rfl rfl)
theorem dX6_pass_104 : decode cX6_pass 104 = .ok (.ifCond .le 5, 3) := dk_158 0 5 (dk_at dksX6_pass_4 12 rfl rfl)
theorem dX6_pass_107 : decode cX6_pass 107 = .ok (.iconst 0, 1) := dk_3 (dk_at dksX6_pass_4 15 rfl rfl)
theorem dX6_pass_108 : decode cX6_pass 108 = .ok (.ireturn, 1) := dk_172 (dk_at dksX6_pass_4 16 rfl rfl)
theorem dX6_pass_109 : decode cX6_pass 109 = .ok (.aload_n 0, 1) := dk_42 (dk_at dksX6_pass_4 17 rfl rfl)
theorem dX6_pass_110 : decode cX6_pass 110 = .ok (.invokevirtual 294, 3) := dk_182 1 38 (dk_at dksX6_pass_4 18 rfl rfl)
theorem dX6_pass_113 : decode cX6_pass 113 = .ok (.aload_n 0, 1) := dk_42 (dk_at dksX6_pass_4 21 rfl rfl)
theorem dX6_pass_114 : decode cX6_pass 114 = .ok (.iload_n 1, 1) := dk_27 (dk_at dksX6_pass_4 22 rfl rfl)
theorem dX6_pass_115 : decode cX6_pass 115 = .ok (.iconst 3, 1) := dk_6 (dk_at dksX6_pass_4 23 rfl rfl)
theorem dX6_pass_116 : decode cX6_pass 116 = .ok (.aload_n 0, 1) := dk_42 (dk_at dksX6_pass_5 0 rfl rfl)
theorem dX6_pass_117 : decode cX6_pass 117 = .ok (.iload_n 1, 1) := dk_27 (dk_at dksX6_pass_5 1 rfl rfl)
theorem dX6_pass_118 : decode cX6_pass 118 = .ok (.iconst 2, 1) := dk_5 (dk_at dksX6_pass_5 2 rfl rfl)
theorem dX6_pass_119 : decode cX6_pass 119 = .ok (.invokevirtual 48, 3) := dk_182 0 48 (dk_at dksX6_pass_5 3 rfl rfl)
theorem dX6_pass_122 : decode cX6_pass 122 = .ok (.invokevirtual 300, 3) := dk_182 1 44 (dk_at dksX6_pass_5 6 rfl rfl)
theorem dX6_pass_125 : decode cX6_pass 125 = .ok (.aload_n 0, 1) := dk_42 (dk_at dksX6_pass_5 9 rfl rfl)
theorem dX6_pass_126 : decode cX6_pass 126 = .ok (.iload_n 1, 1) := dk_27 (dk_at dksX6_pass_5 10 rfl rfl)
theorem dX6_pass_127 : decode cX6_pass 127 = .ok (.iconst 4, 1) := dk_7 (dk_at dksX6_pass_5 11 rfl rfl)
theorem dX6_pass_128 : decode cX6_pass 128 = .ok (.iload_n 2, 1) := dk_28 (dk_at dksX6_pass_5 12 rfl rfl)
theorem dX6_pass_129 : decode cX6_pass 129 = .ok (.invokevirtual 138, 3) := dk_182 0 138 (dk_at dksX6_pass_5 13 rfl rfl)
theorem dX6_pass_132 : decode cX6_pass 132 = .ok (.iload 4, 2) := dk_21 4 (dk_at dksX6_pass_5 16 rfl rfl)
theorem dX6_pass_134 : decode cX6_pass 134 = .ok (.ireturn, 1) := dk_172 (dk_at dksX6_pass_5 18 rfl rfl)
abbrev cX6_lay : ByteArray := prog_19_method_69_code
def yX6_lay : MethodName := ⟨RX6, "lay", "(I)I"⟩
def dkwX6_lay_5 : List UInt8 := [42, 27, 8, 28, 182, 0, 138, 28, 172]
abbrev dktX6_lay_5 : List UInt8 := dkwX6_lay_5 ++ []
def dkwX6_lay_4 : List UInt8 := [172, 42, 182, 1, 38, 42, 27, 7, 42, 27, 5, 182, 0, 48, 182, 1, 44, 42, 27, 6, 4, 182, 0, 138]
abbrev dktX6_lay_4 : List UInt8 := dkwX6_lay_4 ++ dktX6_lay_5
def dkwX6_lay_3 : List UInt8 := [5, 182, 0, 66, 28, 159, 0, 7, 5, 167, 0, 4, 3, 181, 0, 41, 42, 180, 0, 41, 158, 0, 5, 3]
abbrev dktX6_lay_3 : List UInt8 := dkwX6_lay_3 ++ dktX6_lay_4
def dkwX6_lay_2 : List UInt8 := [182, 0, 66, 61, 42, 42, 180, 0, 7, 16, 21, 28, 96, 46, 154, 0, 22, 42, 42, 27, 4, 182, 0, 48]
abbrev dktX6_lay_2 : List UInt8 := dkwX6_lay_2 ++ dktX6_lay_3
def dkwX6_lay_1 : List UInt8 := [167, 0, 4, 3, 181, 0, 41, 42, 180, 0, 41, 158, 0, 5, 3, 172, 42, 42, 27, 7, 182, 0, 48, 5]
abbrev dktX6_lay_1 : List UInt8 := dkwX6_lay_1 ++ dktX6_lay_2
def dkwX6_lay_0 : List UInt8 := [42, 42, 27, 182, 1, 26, 154, 0, 7, 4, 167, 0, 17, 42, 27, 6, 182, 0, 48, 153, 0, 7, 5]
abbrev dktX6_lay_0 : List UInt8 := dkwX6_lay_0 ++ dktX6_lay_1
theorem dksX6_lay_0 : cX6_lay.data.toList.drop 0 = dktX6_lay_0 := by decide +kernel
theorem dksX6_lay_1 : cX6_lay.data.toList.drop 23 = dktX6_lay_1 := dk_seg dksX6_lay_0 23 rfl rfl
theorem dksX6_lay_2 : cX6_lay.data.toList.drop 47 = dktX6_lay_2 := dk_seg dksX6_lay_1 24 rfl rfl
theorem dksX6_lay_3 : cX6_lay.data.toList.drop 71 = dktX6_lay_3 := dk_seg dksX6_lay_2 24 rfl rfl
theorem dksX6_lay_4 : cX6_lay.data.toList.drop 95 = dktX6_lay_4 := dk_seg dksX6_lay_3 24 rfl rfl
theorem dksX6_lay_5 : cX6_lay.data.toList.drop 119 = dktX6_lay_5 := dk_seg dksX6_lay_4 24 rfl rfl
theorem dX6_lay_0 : decode cX6_lay 0 = .ok (.aload_n 0, 1) := dk_42 (dk_at dksX6_lay_0 0 rfl rfl)
theorem dX6_lay_1 : decode cX6_lay 1 = .ok (.aload_n 0, 1) := dk_42 (dk_at dksX6_lay_0 1 rfl rfl)
theorem dX6_lay_2 : decode cX6_lay 2 = .ok (.iload_n 1, 1) := dk_27 (dk_at dksX6_lay_0 2 rfl rfl)
theorem dX6_lay_3 : decode cX6_lay 3 = .ok (.invokevirtual 282, 3) := dk_182 1 26 (dk_at dksX6_lay_0 3 rfl rfl)
theorem dX6_lay_6 : decode cX6_lay 6 = .ok (.ifCond .ne 7, 3) := dk_154 0 7 (dk_at dksX6_lay_0 6 rfl rfl)
theorem dX6_lay_9 : decode cX6_lay 9 = .ok (.iconst 1, 1) := dk_4 (dk_at dksX6_lay_0 9 rfl rfl)
theorem dX6_lay_10 : decode cX6_lay 10 = .ok (.goto 17, 3) := dk_167 0 17 (dk_at dksX6_lay_0 10 rfl rfl)
theorem dX6_lay_13 : decode cX6_lay 13 = .ok (.aload_n 0, 1) := dk_42 (dk_at dksX6_lay_0 13 rfl rfl)
theorem dX6_lay_14 : decode cX6_lay 14 = .ok (.iload_n 1, 1) := dk_27 (dk_at dksX6_lay_0 14 rfl rfl)
theorem dX6_lay_15 : decode cX6_lay 15 = .ok (.iconst 3, 1) := dk_6 (dk_at dksX6_lay_0 15 rfl rfl)
theorem dX6_lay_16 : decode cX6_lay 16 = .ok (.invokevirtual 48, 3) := dk_182 0 48 (dk_at dksX6_lay_0 16 rfl rfl)
theorem dX6_lay_19 : decode cX6_lay 19 = .ok (.ifCond .eq 7, 3) := dk_153 0 7 (dk_at dksX6_lay_0 19 rfl rfl)
theorem dX6_lay_22 : decode cX6_lay 22 = .ok (.iconst 2, 1) := dk_5 (dk_at dksX6_lay_0 22 rfl rfl)
theorem dX6_lay_23 : decode cX6_lay 23 = .ok (.goto 4, 3) := dk_167 0 4 (dk_at dksX6_lay_1 0 rfl rfl)
theorem dX6_lay_26 : decode cX6_lay 26 = .ok (.iconst 0, 1) := dk_3 (dk_at dksX6_lay_1 3 rfl rfl)
theorem dX6_lay_27 : decode cX6_lay 27 = .ok (.putfield 41, 3) := dk_181 0 41 (dk_at dksX6_lay_1 4 rfl rfl)
theorem dX6_lay_30 : decode cX6_lay 30 = .ok (.aload_n 0, 1) := dk_42 (dk_at dksX6_lay_1 7 rfl rfl)
theorem dX6_lay_31 : decode cX6_lay 31 = .ok (.getfield 41, 3) := dk_180 0 41 (dk_at dksX6_lay_1 8 rfl rfl)
theorem dX6_lay_34 : decode cX6_lay 34 = .ok (.ifCond .le 5, 3) := dk_158 0 5 (dk_at dksX6_lay_1 11 rfl rfl)
theorem dX6_lay_37 : decode cX6_lay 37 = .ok (.iconst 0, 1) := dk_3 (dk_at dksX6_lay_1 14 rfl rfl)
theorem dX6_lay_38 : decode cX6_lay 38 = .ok (.ireturn, 1) := dk_172 (dk_at dksX6_lay_1 15 rfl rfl)
theorem dX6_lay_39 : decode cX6_lay 39 = .ok (.aload_n 0, 1) := dk_42 (dk_at dksX6_lay_1 16 rfl rfl)
theorem dX6_lay_40 : decode cX6_lay 40 = .ok (.aload_n 0, 1) := dk_42 (dk_at dksX6_lay_1 17 rfl rfl)
theorem dX6_lay_41 : decode cX6_lay 41 = .ok (.iload_n 1, 1) := dk_27 (dk_at dksX6_lay_1 18 rfl rfl)
theorem dX6_lay_42 : decode cX6_lay 42 = .ok (.iconst 4, 1) := dk_7 (dk_at dksX6_lay_1 19 rfl rfl)
theorem dX6_lay_43 : decode cX6_lay 43 = .ok (.invokevirtual 48, 3) := dk_182 0 48 (dk_at dksX6_lay_1 20 rfl rfl)
theorem dX6_lay_46 : decode cX6_lay 46 = .ok (.iconst 2, 1) := dk_5 (dk_at dksX6_lay_1 23 rfl rfl)
theorem dX6_lay_47 : decode cX6_lay 47 = .ok (.invokevirtual 66, 3) := dk_182 0 66 (dk_at dksX6_lay_2 0 rfl rfl)
theorem dX6_lay_50 : decode cX6_lay 50 = .ok (.istore_n 2, 1) := dk_61 (dk_at dksX6_lay_2 3 rfl rfl)
theorem dX6_lay_51 : decode cX6_lay 51 = .ok (.aload_n 0, 1) := dk_42 (dk_at dksX6_lay_2 4 rfl rfl)
theorem dX6_lay_52 : decode cX6_lay 52 = .ok (.aload_n 0, 1) := dk_42 (dk_at dksX6_lay_2 5 rfl rfl)
theorem dX6_lay_53 : decode cX6_lay 53 = .ok (.getfield 7, 3) := dk_180 0 7 (dk_at dksX6_lay_2 6 rfl rfl)
theorem dX6_lay_56 : decode cX6_lay 56 = .ok (.bipush 21, 2) := dk_16 21 (dk_at dksX6_lay_2 9 rfl rfl)
theorem dX6_lay_58 : decode cX6_lay 58 = .ok (.iload_n 2, 1) := dk_28 (dk_at dksX6_lay_2 11 rfl rfl)
theorem dX6_lay_59 : decode cX6_lay 59 = .ok (.iadd, 1) := dk_96 (dk_at dksX6_lay_2 12 rfl rfl)
theorem dX6_lay_60 : decode cX6_lay 60 = .ok (.iaload, 1) := dk_46 (dk_at dksX6_lay_2 13 rfl rfl)
theorem dX6_lay_61 : decode cX6_lay 61 = .ok (.ifCond .ne 22, 3) := dk_154 0 22 (dk_at dksX6_lay_2 14 rfl rfl)
theorem dX6_lay_64 : decode cX6_lay 64 = .ok (.aload_n 0, 1) := dk_42 (dk_at dksX6_lay_2 17 rfl rfl)
theorem dX6_lay_65 : decode cX6_lay 65 = .ok (.aload_n 0, 1) := dk_42 (dk_at dksX6_lay_2 18 rfl rfl)
theorem dX6_lay_66 : decode cX6_lay 66 = .ok (.iload_n 1, 1) := dk_27 (dk_at dksX6_lay_2 19 rfl rfl)
theorem dX6_lay_67 : decode cX6_lay 67 = .ok (.iconst 1, 1) := dk_4 (dk_at dksX6_lay_2 20 rfl rfl)
theorem dX6_lay_68 : decode cX6_lay 68 = .ok (.invokevirtual 48, 3) := dk_182 0 48 (dk_at dksX6_lay_2 21 rfl rfl)
theorem dX6_lay_71 : decode cX6_lay 71 = .ok (.iconst 2, 1) := dk_5 (dk_at dksX6_lay_3 0 rfl rfl)
theorem dX6_lay_72 : decode cX6_lay 72 = .ok (.invokevirtual 66, 3) := dk_182 0 66 (dk_at dksX6_lay_3 1 rfl rfl)
theorem dX6_lay_75 : decode cX6_lay 75 = .ok (.iload_n 2, 1) := dk_28 (dk_at dksX6_lay_3 4 rfl rfl)
theorem dX6_lay_76 : decode cX6_lay 76 = .ok (.if_icmp .eq 7, 3) := dk_159 0 7 (dk_at dksX6_lay_3 5 rfl rfl)
theorem dX6_lay_79 : decode cX6_lay 79 = .ok (.iconst 2, 1) := dk_5 (dk_at dksX6_lay_3 8 rfl rfl)
theorem dX6_lay_80 : decode cX6_lay 80 = .ok (.goto 4, 3) := dk_167 0 4 (dk_at dksX6_lay_3 9 rfl rfl)
theorem dX6_lay_83 : decode cX6_lay 83 = .ok (.iconst 0, 1) := dk_3 (dk_at dksX6_lay_3 12 rfl rfl)
theorem dX6_lay_84 : decode cX6_lay 84 = .ok (.putfield 41, 3) := dk_181 0 41 (dk_at dksX6_lay_3 13 rfl rfl)
theorem dX6_lay_87 : decode cX6_lay 87 = .ok (.aload_n 0, 1) := dk_42 (dk_at dksX6_lay_3 16 rfl rfl)
theorem dX6_lay_88 : decode cX6_lay 88 = .ok (.getfield 41, 3) := dk_180 0 41 (dk_at dksX6_lay_3 17 rfl rfl)
theorem dX6_lay_91 : decode cX6_lay 91 = .ok (.ifCond .le 5, 3) := dk_158 0 5 (dk_at dksX6_lay_3 20 rfl rfl)
theorem dX6_lay_94 : decode cX6_lay 94 = .ok (.iconst 0, 1) := dk_3 (dk_at dksX6_lay_3 23 rfl rfl)
theorem dX6_lay_95 : decode cX6_lay 95 = .ok (.ireturn, 1) := dk_172 (dk_at dksX6_lay_4 0 rfl rfl)
theorem dX6_lay_96 : decode cX6_lay 96 = .ok (.aload_n 0, 1) := dk_42 (dk_at dksX6_lay_4 1 rfl rfl)
theorem dX6_lay_97 : decode cX6_lay 97 = .ok (.invokevirtual 294, 3) := dk_182 1 38 (dk_at dksX6_lay_4 2 rfl rfl)
theorem dX6_lay_100 : decode cX6_lay 100 = .ok (.aload_n 0, 1) := dk_42 (dk_at dksX6_lay_4 5 rfl rfl)
theorem dX6_lay_101 : decode cX6_lay 101 = .ok (.iload_n 1, 1) := dk_27 (dk_at dksX6_lay_4 6 rfl rfl)
theorem dX6_lay_102 : decode cX6_lay 102 = .ok (.iconst 4, 1) := dk_7 (dk_at dksX6_lay_4 7 rfl rfl)
theorem dX6_lay_103 : decode cX6_lay 103 = .ok (.aload_n 0, 1) := dk_42 (dk_at dksX6_lay_4 8 rfl rfl)
theorem dX6_lay_104 : decode cX6_lay 104 = .ok (.iload_n 1, 1) := dk_27 (dk_at dksX6_lay_4 9 rfl rfl)
theorem dX6_lay_105 : decode cX6_lay 105 = .ok (.iconst 2, 1) := dk_5 (dk_at dksX6_lay_4 10 rfl rfl)
theorem dX6_lay_106 : decode cX6_lay 106 = .ok (.invokevirtual 48, 3) := dk_182 0 48 (dk_at dksX6_lay_4 11 rfl rfl)
theorem dX6_lay_109 : decode cX6_lay 109 = .ok (.invokevirtual 300, 3) := dk_182 1 44 (dk_at dksX6_lay_4 14 rfl rfl)
theorem dX6_lay_112 : decode cX6_lay 112 = .ok (.aload_n 0, 1) := dk_42 (dk_at dksX6_lay_4 17 rfl rfl)
theorem dX6_lay_113 : decode cX6_lay 113 = .ok (.iload_n 1, 1) := dk_27 (dk_at dksX6_lay_4 18 rfl rfl)
theorem dX6_lay_114 : decode cX6_lay 114 = .ok (.iconst 3, 1) := dk_6 (dk_at dksX6_lay_4 19 rfl rfl)
theorem dX6_lay_115 : decode cX6_lay 115 = .ok (.iconst 1, 1) := dk_4 (dk_at dksX6_lay_4 20 rfl rfl)
theorem dX6_lay_116 : decode cX6_lay 116 = .ok (.invokevirtual 138, 3) := dk_182 0 138 (dk_at dksX6_lay_4 21 rfl rfl)
theorem dX6_lay_119 : decode cX6_lay 119 = .ok (.aload_n 0, 1) := dk_42 (dk_at dksX6_lay_5 0 rfl rfl)
theorem dX6_lay_120 : decode cX6_lay 120 = .ok (.iload_n 1, 1) := dk_27 (dk_at dksX6_lay_5 1 rfl rfl)
theorem dX6_lay_121 : decode cX6_lay 121 = .ok (.iconst 5, 1) := dk_8 (dk_at dksX6_lay_5 2 rfl rfl)
theorem dX6_lay_122 : decode cX6_lay 122 = .ok (.iload_n 2, 1) := dk_28 (dk_at dksX6_lay_5 3 rfl rfl)
theorem dX6_lay_123 : decode cX6_lay 123 = .ok (.invokevirtual 138, 3) := dk_182 0 138 (dk_at dksX6_lay_5 4 rfl rfl)
theorem dX6_lay_126 : decode cX6_lay 126 = .ok (.iload_n 2, 1) := dk_28 (dk_at dksX6_lay_5 7 rfl rfl)
theorem dX6_lay_127 : decode cX6_lay 127 = .ok (.ireturn, 1) := dk_172 (dk_at dksX6_lay_5 8 rfl rfl)
abbrev cX6_lift : ByteArray := prog_19_method_70_code
def yX6_lift : MethodName := ⟨RX6, "lift", "(II)I"⟩
def dkwX6_lift_4 : List UInt8 := [182, 0, 63, 172]
abbrev dktX6_lift_4 : List UInt8 := dkwX6_lift_4 ++ []
def dkwX6_lift_3 : List UInt8 := [27, 5, 182, 0, 48, 182, 1, 44, 42, 27, 6, 3, 182, 0, 138, 42, 27, 7, 28, 182, 0, 138, 42, 28]
abbrev dktX6_lift_3 : List UInt8 := dkwX6_lift_3 ++ dktX6_lift_4
def dkwX6_lift_2 : List UInt8 := [167, 0, 4, 3, 181, 0, 41, 42, 180, 0, 41, 158, 0, 5, 3, 172, 42, 182, 1, 38, 42, 27, 8, 42]
abbrev dktX6_lift_2 : List UInt8 := dkwX6_lift_2 ++ dktX6_lift_3
def dkwX6_lift_1 : List UInt8 := [182, 0, 48, 4, 160, 0, 18, 42, 27, 8, 182, 0, 48, 42, 28, 5, 182, 0, 66, 159, 0, 7, 5]
abbrev dktX6_lift_1 : List UInt8 := dkwX6_lift_1 ++ dktX6_lift_2
def dkwX6_lift_0 : List UInt8 := [42, 42, 27, 182, 1, 26, 153, 0, 11, 42, 28, 182, 1, 20, 154, 0, 7, 4, 167, 0, 33, 42, 27, 6]
abbrev dktX6_lift_0 : List UInt8 := dkwX6_lift_0 ++ dktX6_lift_1
theorem dksX6_lift_0 : cX6_lift.data.toList.drop 0 = dktX6_lift_0 := by decide +kernel
theorem dksX6_lift_1 : cX6_lift.data.toList.drop 24 = dktX6_lift_1 := dk_seg dksX6_lift_0 24 rfl rfl
theorem dksX6_lift_2 : cX6_lift.data.toList.drop 47 = dktX6_lift_2 := dk_seg dksX6_lift_1 23 rfl rfl
theorem dksX6_lift_3 : cX6_lift.data.toList.drop 71 = dktX6_lift_3 := dk_seg dksX6_lift_2 24 rfl rfl
theorem dksX6_lift_4 : cX6_lift.data.toList.drop 95 = dktX6_lift_4 := dk_seg dksX6_lift_3 24 rfl rfl
theorem dX6_lift_0 : decode cX6_lift 0 = .ok (.aload_n 0, 1) := dk_42 (dk_at dksX6_lift_0 0 rfl rfl)
theorem dX6_lift_1 : decode cX6_lift 1 = .ok (.aload_n 0, 1) := dk_42 (dk_at dksX6_lift_0 1 rfl rfl)
theorem dX6_lift_2 : decode cX6_lift 2 = .ok (.iload_n 1, 1) := dk_27 (dk_at dksX6_lift_0 2 rfl rfl)
theorem dX6_lift_3 : decode cX6_lift 3 = .ok (.invokevirtual 282, 3) := dk_182 1 26 (dk_at dksX6_lift_0 3 rfl rfl)
theorem dX6_lift_6 : decode cX6_lift 6 = .ok (.ifCond .eq 11, 3) := dk_153 0 11 (dk_at dksX6_lift_0 6 rfl rfl)
theorem dX6_lift_9 : decode cX6_lift 9 = .ok (.aload_n 0, 1) := dk_42 (dk_at dksX6_lift_0 9 rfl rfl)
theorem dX6_lift_10 : decode cX6_lift 10 = .ok (.iload_n 2, 1) := dk_28 (dk_at dksX6_lift_0 10 rfl rfl)
theorem dX6_lift_11 : decode cX6_lift 11 = .ok (.invokevirtual 276, 3) := dk_182 1 20 (dk_at dksX6_lift_0 11 rfl rfl)
theorem dX6_lift_14 : decode cX6_lift 14 = .ok (.ifCond .ne 7, 3) := dk_154 0 7 (dk_at dksX6_lift_0 14 rfl rfl)
theorem dX6_lift_17 : decode cX6_lift 17 = .ok (.iconst 1, 1) := dk_4 (dk_at dksX6_lift_0 17 rfl rfl)
theorem dX6_lift_18 : decode cX6_lift 18 = .ok (.goto 33, 3) := dk_167 0 33 (dk_at dksX6_lift_0 18 rfl rfl)
theorem dX6_lift_21 : decode cX6_lift 21 = .ok (.aload_n 0, 1) := dk_42 (dk_at dksX6_lift_0 21 rfl rfl)
theorem dX6_lift_22 : decode cX6_lift 22 = .ok (.iload_n 1, 1) := dk_27 (dk_at dksX6_lift_0 22 rfl rfl)
theorem dX6_lift_23 : decode cX6_lift 23 = .ok (.iconst 3, 1) := dk_6 (dk_at dksX6_lift_0 23 rfl rfl)
theorem dX6_lift_24 : decode cX6_lift 24 = .ok (.invokevirtual 48, 3) := dk_182 0 48 (dk_at dksX6_lift_1 0 rfl rfl)
theorem dX6_lift_27 : decode cX6_lift 27 = .ok (.iconst 1, 1) := dk_4 (dk_at dksX6_lift_1 3 rfl rfl)
theorem dX6_lift_28 : decode cX6_lift 28 = .ok (.if_icmp .ne 18, 3) := dk_160 0 18 (dk_at dksX6_lift_1 4 rfl rfl)
theorem dX6_lift_31 : decode cX6_lift 31 = .ok (.aload_n 0, 1) := dk_42 (dk_at dksX6_lift_1 7 rfl rfl)
theorem dX6_lift_32 : decode cX6_lift 32 = .ok (.iload_n 1, 1) := dk_27 (dk_at dksX6_lift_1 8 rfl rfl)
theorem dX6_lift_33 : decode cX6_lift 33 = .ok (.iconst 5, 1) := dk_8 (dk_at dksX6_lift_1 9 rfl rfl)
theorem dX6_lift_34 : decode cX6_lift 34 = .ok (.invokevirtual 48, 3) := dk_182 0 48 (dk_at dksX6_lift_1 10 rfl rfl)
theorem dX6_lift_37 : decode cX6_lift 37 = .ok (.aload_n 0, 1) := dk_42 (dk_at dksX6_lift_1 13 rfl rfl)
theorem dX6_lift_38 : decode cX6_lift 38 = .ok (.iload_n 2, 1) := dk_28 (dk_at dksX6_lift_1 14 rfl rfl)
theorem dX6_lift_39 : decode cX6_lift 39 = .ok (.iconst 2, 1) := dk_5 (dk_at dksX6_lift_1 15 rfl rfl)
theorem dX6_lift_40 : decode cX6_lift 40 = .ok (.invokevirtual 66, 3) := dk_182 0 66 (dk_at dksX6_lift_1 16 rfl rfl)
theorem dX6_lift_43 : decode cX6_lift 43 = .ok (.if_icmp .eq 7, 3) := dk_159 0 7 (dk_at dksX6_lift_1 19 rfl rfl)
theorem dX6_lift_46 : decode cX6_lift 46 = .ok (.iconst 2, 1) := dk_5 (dk_at dksX6_lift_1 22 rfl rfl)
theorem dX6_lift_47 : decode cX6_lift 47 = .ok (.goto 4, 3) := dk_167 0 4 (dk_at dksX6_lift_2 0 rfl rfl)
theorem dX6_lift_50 : decode cX6_lift 50 = .ok (.iconst 0, 1) := dk_3 (dk_at dksX6_lift_2 3 rfl rfl)
theorem dX6_lift_51 : decode cX6_lift 51 = .ok (.putfield 41, 3) := dk_181 0 41 (dk_at dksX6_lift_2 4 rfl rfl)
theorem dX6_lift_54 : decode cX6_lift 54 = .ok (.aload_n 0, 1) := dk_42 (dk_at dksX6_lift_2 7 rfl rfl)
theorem dX6_lift_55 : decode cX6_lift 55 = .ok (.getfield 41, 3) := dk_180 0 41 (dk_at dksX6_lift_2 8 rfl rfl)
theorem dX6_lift_58 : decode cX6_lift 58 = .ok (.ifCond .le 5, 3) := dk_158 0 5 (dk_at dksX6_lift_2 11 rfl rfl)
theorem dX6_lift_61 : decode cX6_lift 61 = .ok (.iconst 0, 1) := dk_3 (dk_at dksX6_lift_2 14 rfl rfl)
theorem dX6_lift_62 : decode cX6_lift 62 = .ok (.ireturn, 1) := dk_172 (dk_at dksX6_lift_2 15 rfl rfl)
theorem dX6_lift_63 : decode cX6_lift 63 = .ok (.aload_n 0, 1) := dk_42 (dk_at dksX6_lift_2 16 rfl rfl)
theorem dX6_lift_64 : decode cX6_lift 64 = .ok (.invokevirtual 294, 3) := dk_182 1 38 (dk_at dksX6_lift_2 17 rfl rfl)
theorem dX6_lift_67 : decode cX6_lift 67 = .ok (.aload_n 0, 1) := dk_42 (dk_at dksX6_lift_2 20 rfl rfl)
theorem dX6_lift_68 : decode cX6_lift 68 = .ok (.iload_n 1, 1) := dk_27 (dk_at dksX6_lift_2 21 rfl rfl)
theorem dX6_lift_69 : decode cX6_lift 69 = .ok (.iconst 5, 1) := dk_8 (dk_at dksX6_lift_2 22 rfl rfl)
theorem dX6_lift_70 : decode cX6_lift 70 = .ok (.aload_n 0, 1) := dk_42 (dk_at dksX6_lift_2 23 rfl rfl)
theorem dX6_lift_71 : decode cX6_lift 71 = .ok (.iload_n 1, 1) := dk_27 (dk_at dksX6_lift_3 0 rfl rfl)
theorem dX6_lift_72 : decode cX6_lift 72 = .ok (.iconst 2, 1) := dk_5 (dk_at dksX6_lift_3 1 rfl rfl)
theorem dX6_lift_73 : decode cX6_lift 73 = .ok (.invokevirtual 48, 3) := dk_182 0 48 (dk_at dksX6_lift_3 2 rfl rfl)
theorem dX6_lift_76 : decode cX6_lift 76 = .ok (.invokevirtual 300, 3) := dk_182 1 44 (dk_at dksX6_lift_3 5 rfl rfl)
theorem dX6_lift_79 : decode cX6_lift 79 = .ok (.aload_n 0, 1) := dk_42 (dk_at dksX6_lift_3 8 rfl rfl)
theorem dX6_lift_80 : decode cX6_lift 80 = .ok (.iload_n 1, 1) := dk_27 (dk_at dksX6_lift_3 9 rfl rfl)
theorem dX6_lift_81 : decode cX6_lift 81 = .ok (.iconst 3, 1) := dk_6 (dk_at dksX6_lift_3 10 rfl rfl)
theorem dX6_lift_82 : decode cX6_lift 82 = .ok (.iconst 0, 1) := dk_3 (dk_at dksX6_lift_3 11 rfl rfl)
theorem dX6_lift_83 : decode cX6_lift 83 = .ok (.invokevirtual 138, 3) := dk_182 0 138 (dk_at dksX6_lift_3 12 rfl rfl)
theorem dX6_lift_86 : decode cX6_lift 86 = .ok (.aload_n 0, 1) := dk_42 (dk_at dksX6_lift_3 15 rfl rfl)
theorem dX6_lift_87 : decode cX6_lift 87 = .ok (.iload_n 1, 1) := dk_27 (dk_at dksX6_lift_3 16 rfl rfl)
theorem dX6_lift_88 : decode cX6_lift 88 = .ok (.iconst 4, 1) := dk_7 (dk_at dksX6_lift_3 17 rfl rfl)
theorem dX6_lift_89 : decode cX6_lift 89 = .ok (.iload_n 2, 1) := dk_28 (dk_at dksX6_lift_3 18 rfl rfl)
theorem dX6_lift_90 : decode cX6_lift 90 = .ok (.invokevirtual 138, 3) := dk_182 0 138 (dk_at dksX6_lift_3 19 rfl rfl)
theorem dX6_lift_93 : decode cX6_lift 93 = .ok (.aload_n 0, 1) := dk_42 (dk_at dksX6_lift_3 22 rfl rfl)
theorem dX6_lift_94 : decode cX6_lift 94 = .ok (.iload_n 2, 1) := dk_28 (dk_at dksX6_lift_3 23 rfl rfl)
theorem dX6_lift_95 : decode cX6_lift 95 = .ok (.invokevirtual 63, 3) := dk_182 0 63 (dk_at dksX6_lift_4 0 rfl rfl)
theorem dX6_lift_98 : decode cX6_lift 98 = .ok (.ireturn, 1) := dk_172 (dk_at dksX6_lift_4 3 rfl rfl)
abbrev cX6_goal : ByteArray := prog_19_method_71_code
def yX6_goal : MethodName := ⟨RX6, "goal", "(II)I"⟩
def dkwX6_goal_2 : List UInt8 := [182, 0, 120, 29, 172]
abbrev dktX6_goal_2 : List UInt8 := dkwX6_goal_2 ++ []
def dkwX6_goal_1 : List UInt8 := [42, 180, 0, 41, 158, 0, 5, 3, 172, 42, 182, 1, 38, 42, 27, 6, 182, 0, 66, 62, 42, 27, 6, 28]
abbrev dktX6_goal_1 : List UInt8 := dkwX6_goal_1 ++ dktX6_goal_2
def dkwX6_goal_0 : List UInt8 := [42, 42, 27, 182, 1, 20, 153, 0, 10, 28, 184, 1, 29, 154, 0, 7, 4, 167, 0, 4, 3, 181, 0, 41]
abbrev dktX6_goal_0 : List UInt8 := dkwX6_goal_0 ++ dktX6_goal_1
theorem dksX6_goal_0 : cX6_goal.data.toList.drop 0 = dktX6_goal_0 := by decide +kernel
theorem dksX6_goal_1 : cX6_goal.data.toList.drop 24 = dktX6_goal_1 := dk_seg dksX6_goal_0 24 rfl rfl
theorem dksX6_goal_2 : cX6_goal.data.toList.drop 48 = dktX6_goal_2 := dk_seg dksX6_goal_1 24 rfl rfl
theorem dX6_goal_0 : decode cX6_goal 0 = .ok (.aload_n 0, 1) := dk_42 (dk_at dksX6_goal_0 0 rfl rfl)
theorem dX6_goal_1 : decode cX6_goal 1 = .ok (.aload_n 0, 1) := dk_42 (dk_at dksX6_goal_0 1 rfl rfl)
theorem dX6_goal_2 : decode cX6_goal 2 = .ok (.iload_n 1, 1) := dk_27 (dk_at dksX6_goal_0 2 rfl rfl)
theorem dX6_goal_3 : decode cX6_goal 3 = .ok (.invokevirtual 276, 3) := dk_182 1 20 (dk_at dksX6_goal_0 3 rfl rfl)
theorem dX6_goal_6 : decode cX6_goal 6 = .ok (.ifCond .eq 10, 3) := dk_153 0 10 (dk_at dksX6_goal_0 6 rfl rfl)
theorem dX6_goal_9 : decode cX6_goal 9 = .ok (.iload_n 2, 1) := dk_28 (dk_at dksX6_goal_0 9 rfl rfl)
theorem dX6_goal_10 : decode cX6_goal 10 = .ok (.invokestatic 285, 3) := dk_184 1 29 (dk_at dksX6_goal_0 10 rfl rfl)
theorem dX6_goal_13 : decode cX6_goal 13 = .ok (.ifCond .ne 7, 3) := dk_154 0 7 (dk_at dksX6_goal_0 13 rfl rfl)
theorem dX6_goal_16 : decode cX6_goal 16 = .ok (.iconst 1, 1) := dk_4 (dk_at dksX6_goal_0 16 rfl rfl)
theorem dX6_goal_17 : decode cX6_goal 17 = .ok (.goto 4, 3) := dk_167 0 4 (dk_at dksX6_goal_0 17 rfl rfl)
theorem dX6_goal_20 : decode cX6_goal 20 = .ok (.iconst 0, 1) := dk_3 (dk_at dksX6_goal_0 20 rfl rfl)
theorem dX6_goal_21 : decode cX6_goal 21 = .ok (.putfield 41, 3) := dk_181 0 41 (dk_at dksX6_goal_0 21 rfl rfl)
theorem dX6_goal_24 : decode cX6_goal 24 = .ok (.aload_n 0, 1) := dk_42 (dk_at dksX6_goal_1 0 rfl rfl)
theorem dX6_goal_25 : decode cX6_goal 25 = .ok (.getfield 41, 3) := dk_180 0 41 (dk_at dksX6_goal_1 1 rfl rfl)
theorem dX6_goal_28 : decode cX6_goal 28 = .ok (.ifCond .le 5, 3) := dk_158 0 5 (dk_at dksX6_goal_1 4 rfl rfl)
theorem dX6_goal_31 : decode cX6_goal 31 = .ok (.iconst 0, 1) := dk_3 (dk_at dksX6_goal_1 7 rfl rfl)
theorem dX6_goal_32 : decode cX6_goal 32 = .ok (.ireturn, 1) := dk_172 (dk_at dksX6_goal_1 8 rfl rfl)
theorem dX6_goal_33 : decode cX6_goal 33 = .ok (.aload_n 0, 1) := dk_42 (dk_at dksX6_goal_1 9 rfl rfl)
theorem dX6_goal_34 : decode cX6_goal 34 = .ok (.invokevirtual 294, 3) := dk_182 1 38 (dk_at dksX6_goal_1 10 rfl rfl)
theorem dX6_goal_37 : decode cX6_goal 37 = .ok (.aload_n 0, 1) := dk_42 (dk_at dksX6_goal_1 13 rfl rfl)
theorem dX6_goal_38 : decode cX6_goal 38 = .ok (.iload_n 1, 1) := dk_27 (dk_at dksX6_goal_1 14 rfl rfl)
theorem dX6_goal_39 : decode cX6_goal 39 = .ok (.iconst 3, 1) := dk_6 (dk_at dksX6_goal_1 15 rfl rfl)
theorem dX6_goal_40 : decode cX6_goal 40 = .ok (.invokevirtual 66, 3) := dk_182 0 66 (dk_at dksX6_goal_1 16 rfl rfl)
theorem dX6_goal_43 : decode cX6_goal 43 = .ok (.istore_n 3, 1) := dk_62 (dk_at dksX6_goal_1 19 rfl rfl)
theorem dX6_goal_44 : decode cX6_goal 44 = .ok (.aload_n 0, 1) := dk_42 (dk_at dksX6_goal_1 20 rfl rfl)
theorem dX6_goal_45 : decode cX6_goal 45 = .ok (.iload_n 1, 1) := dk_27 (dk_at dksX6_goal_1 21 rfl rfl)
theorem dX6_goal_46 : decode cX6_goal 46 = .ok (.iconst 3, 1) := dk_6 (dk_at dksX6_goal_1 22 rfl rfl)
theorem dX6_goal_47 : decode cX6_goal 47 = .ok (.iload_n 2, 1) := dk_28 (dk_at dksX6_goal_1 23 rfl rfl)
theorem dX6_goal_48 : decode cX6_goal 48 = .ok (.invokevirtual 120, 3) := dk_182 0 120 (dk_at dksX6_goal_2 0 rfl rfl)
theorem dX6_goal_51 : decode cX6_goal 51 = .ok (.iload_n 3, 1) := dk_29 (dk_at dksX6_goal_2 3 rfl rfl)
theorem dX6_goal_52 : decode cX6_goal 52 = .ok (.ireturn, 1) := dk_172 (dk_at dksX6_goal_2 4 rfl rfl)
abbrev cX6_rest : ByteArray := prog_19_method_72_code
def yX6_rest : MethodName := ⟨RX6, "rest", "(I)I"⟩
def dkwX6_rest_2 : List UInt8 := [182, 0, 120, 28, 172]
abbrev dktX6_rest_2 : List UInt8 := dkwX6_rest_2 ++ []
def dkwX6_rest_1 : List UInt8 := [3, 172, 42, 182, 1, 38, 42, 27, 7, 182, 0, 66, 61, 42, 27, 7, 3, 182, 0, 120, 42, 27, 8, 3]
abbrev dktX6_rest_1 : List UInt8 := dkwX6_rest_1 ++ dktX6_rest_2
def dkwX6_rest_0 : List UInt8 := [42, 42, 27, 182, 1, 20, 154, 0, 7, 4, 167, 0, 4, 3, 181, 0, 41, 42, 180, 0, 41, 158, 0, 5]
abbrev dktX6_rest_0 : List UInt8 := dkwX6_rest_0 ++ dktX6_rest_1
theorem dksX6_rest_0 : cX6_rest.data.toList.drop 0 = dktX6_rest_0 := by decide +kernel
theorem dksX6_rest_1 : cX6_rest.data.toList.drop 24 = dktX6_rest_1 := dk_seg dksX6_rest_0 24 rfl rfl
theorem dksX6_rest_2 : cX6_rest.data.toList.drop 48 = dktX6_rest_2 := dk_seg dksX6_rest_1 24 rfl rfl
theorem dX6_rest_0 : decode cX6_rest 0 = .ok (.aload_n 0, 1) := dk_42 (dk_at dksX6_rest_0 0 rfl rfl)
theorem dX6_rest_1 : decode cX6_rest 1 = .ok (.aload_n 0, 1) := dk_42 (dk_at dksX6_rest_0 1 rfl rfl)
theorem dX6_rest_2 : decode cX6_rest 2 = .ok (.iload_n 1, 1) := dk_27 (dk_at dksX6_rest_0 2 rfl rfl)
theorem dX6_rest_3 : decode cX6_rest 3 = .ok (.invokevirtual 276, 3) := dk_182 1 20 (dk_at dksX6_rest_0 3 rfl rfl)
theorem dX6_rest_6 : decode cX6_rest 6 = .ok (.ifCond .ne 7, 3) := dk_154 0 7 (dk_at dksX6_rest_0 6 rfl rfl)
theorem dX6_rest_9 : decode cX6_rest 9 = .ok (.iconst 1, 1) := dk_4 (dk_at dksX6_rest_0 9 rfl rfl)
theorem dX6_rest_10 : decode cX6_rest 10 = .ok (.goto 4, 3) := dk_167 0 4 (dk_at dksX6_rest_0 10 rfl rfl)
theorem dX6_rest_13 : decode cX6_rest 13 = .ok (.iconst 0, 1) := dk_3 (dk_at dksX6_rest_0 13 rfl rfl)
theorem dX6_rest_14 : decode cX6_rest 14 = .ok (.putfield 41, 3) := dk_181 0 41 (dk_at dksX6_rest_0 14 rfl rfl)
theorem dX6_rest_17 : decode cX6_rest 17 = .ok (.aload_n 0, 1) := dk_42 (dk_at dksX6_rest_0 17 rfl rfl)
theorem dX6_rest_18 : decode cX6_rest 18 = .ok (.getfield 41, 3) := dk_180 0 41 (dk_at dksX6_rest_0 18 rfl rfl)
theorem dX6_rest_21 : decode cX6_rest 21 = .ok (.ifCond .le 5, 3) := dk_158 0 5 (dk_at dksX6_rest_0 21 rfl rfl)
theorem dX6_rest_24 : decode cX6_rest 24 = .ok (.iconst 0, 1) := dk_3 (dk_at dksX6_rest_1 0 rfl rfl)
theorem dX6_rest_25 : decode cX6_rest 25 = .ok (.ireturn, 1) := dk_172 (dk_at dksX6_rest_1 1 rfl rfl)
theorem dX6_rest_26 : decode cX6_rest 26 = .ok (.aload_n 0, 1) := dk_42 (dk_at dksX6_rest_1 2 rfl rfl)
theorem dX6_rest_27 : decode cX6_rest 27 = .ok (.invokevirtual 294, 3) := dk_182 1 38 (dk_at dksX6_rest_1 3 rfl rfl)
theorem dX6_rest_30 : decode cX6_rest 30 = .ok (.aload_n 0, 1) := dk_42 (dk_at dksX6_rest_1 6 rfl rfl)
theorem dX6_rest_31 : decode cX6_rest 31 = .ok (.iload_n 1, 1) := dk_27 (dk_at dksX6_rest_1 7 rfl rfl)
theorem dX6_rest_32 : decode cX6_rest 32 = .ok (.iconst 4, 1) := dk_7 (dk_at dksX6_rest_1 8 rfl rfl)
theorem dX6_rest_33 : decode cX6_rest 33 = .ok (.invokevirtual 66, 3) := dk_182 0 66 (dk_at dksX6_rest_1 9 rfl rfl)
theorem dX6_rest_36 : decode cX6_rest 36 = .ok (.istore_n 2, 1) := dk_61 (dk_at dksX6_rest_1 12 rfl rfl)
theorem dX6_rest_37 : decode cX6_rest 37 = .ok (.aload_n 0, 1) := dk_42 (dk_at dksX6_rest_1 13 rfl rfl)
theorem dX6_rest_38 : decode cX6_rest 38 = .ok (.iload_n 1, 1) := dk_27 (dk_at dksX6_rest_1 14 rfl rfl)
theorem dX6_rest_39 : decode cX6_rest 39 = .ok (.iconst 4, 1) := dk_7 (dk_at dksX6_rest_1 15 rfl rfl)
theorem dX6_rest_40 : decode cX6_rest 40 = .ok (.iconst 0, 1) := dk_3 (dk_at dksX6_rest_1 16 rfl rfl)
theorem dX6_rest_41 : decode cX6_rest 41 = .ok (.invokevirtual 120, 3) := dk_182 0 120 (dk_at dksX6_rest_1 17 rfl rfl)
theorem dX6_rest_44 : decode cX6_rest 44 = .ok (.aload_n 0, 1) := dk_42 (dk_at dksX6_rest_1 20 rfl rfl)
theorem dX6_rest_45 : decode cX6_rest 45 = .ok (.iload_n 1, 1) := dk_27 (dk_at dksX6_rest_1 21 rfl rfl)
theorem dX6_rest_46 : decode cX6_rest 46 = .ok (.iconst 5, 1) := dk_8 (dk_at dksX6_rest_1 22 rfl rfl)
theorem dX6_rest_47 : decode cX6_rest 47 = .ok (.iconst 0, 1) := dk_3 (dk_at dksX6_rest_1 23 rfl rfl)
theorem dX6_rest_48 : decode cX6_rest 48 = .ok (.invokevirtual 120, 3) := dk_182 0 120 (dk_at dksX6_rest_2 0 rfl rfl)
theorem dX6_rest_51 : decode cX6_rest 51 = .ok (.iload_n 2, 1) := dk_28 (dk_at dksX6_rest_2 3 rfl rfl)
theorem dX6_rest_52 : decode cX6_rest 52 = .ok (.ireturn, 1) := dk_172 (dk_at dksX6_rest_2 4 rfl rfl)
abbrev cX6_hours : ByteArray := prog_19_method_73_code
def yX6_hours : MethodName := ⟨RX6, "hours", "(I)I"⟩
def dkwX6_hours_1 : List UInt8 := [158, 0, 5, 3, 172, 42, 182, 1, 38, 42, 27, 4, 182, 1, 47, 172]
abbrev dktX6_hours_1 : List UInt8 := dkwX6_hours_1 ++ []
def dkwX6_hours_0 : List UInt8 := [42, 27, 4, 16, 100, 184, 0, 44, 154, 0, 7, 4, 167, 0, 4, 3, 181, 0, 41, 42, 180, 0, 41]
abbrev dktX6_hours_0 : List UInt8 := dkwX6_hours_0 ++ dktX6_hours_1
theorem dksX6_hours_0 : cX6_hours.data.toList.drop 0 = dktX6_hours_0 := by decide +kernel
theorem dksX6_hours_1 : cX6_hours.data.toList.drop 23 = dktX6_hours_1 := dk_seg dksX6_hours_0 23 rfl rfl
theorem dX6_hours_0 : decode cX6_hours 0 = .ok (.aload_n 0, 1) := dk_42 (dk_at dksX6_hours_0 0 rfl rfl)
theorem dX6_hours_1 : decode cX6_hours 1 = .ok (.iload_n 1, 1) := dk_27 (dk_at dksX6_hours_0 1 rfl rfl)
theorem dX6_hours_2 : decode cX6_hours 2 = .ok (.iconst 1, 1) := dk_4 (dk_at dksX6_hours_0 2 rfl rfl)
theorem dX6_hours_3 : decode cX6_hours 3 = .ok (.bipush 100, 2) := dk_16 100 (dk_at dksX6_hours_0 3 rfl rfl)
theorem dX6_hours_5 : decode cX6_hours 5 = .ok (.invokestatic 44, 3) := dk_184 0 44 (dk_at dksX6_hours_0 5 rfl rfl)
theorem dX6_hours_8 : decode cX6_hours 8 = .ok (.ifCond .ne 7, 3) := dk_154 0 7 (dk_at dksX6_hours_0 8 rfl rfl)
theorem dX6_hours_11 : decode cX6_hours 11 = .ok (.iconst 1, 1) := dk_4 (dk_at dksX6_hours_0 11 rfl rfl)
theorem dX6_hours_12 : decode cX6_hours 12 = .ok (.goto 4, 3) := dk_167 0 4 (dk_at dksX6_hours_0 12 rfl rfl)
theorem dX6_hours_15 : decode cX6_hours 15 = .ok (.iconst 0, 1) := dk_3 (dk_at dksX6_hours_0 15 rfl rfl)
theorem dX6_hours_16 : decode cX6_hours 16 = .ok (.putfield 41, 3) := dk_181 0 41 (dk_at dksX6_hours_0 16 rfl rfl)
theorem dX6_hours_19 : decode cX6_hours 19 = .ok (.aload_n 0, 1) := dk_42 (dk_at dksX6_hours_0 19 rfl rfl)
theorem dX6_hours_20 : decode cX6_hours 20 = .ok (.getfield 41, 3) := dk_180 0 41 (dk_at dksX6_hours_0 20 rfl rfl)
theorem dX6_hours_23 : decode cX6_hours 23 = .ok (.ifCond .le 5, 3) := dk_158 0 5 (dk_at dksX6_hours_1 0 rfl rfl)
theorem dX6_hours_26 : decode cX6_hours 26 = .ok (.iconst 0, 1) := dk_3 (dk_at dksX6_hours_1 3 rfl rfl)
theorem dX6_hours_27 : decode cX6_hours 27 = .ok (.ireturn, 1) := dk_172 (dk_at dksX6_hours_1 4 rfl rfl)
theorem dX6_hours_28 : decode cX6_hours 28 = .ok (.aload_n 0, 1) := dk_42 (dk_at dksX6_hours_1 5 rfl rfl)
theorem dX6_hours_29 : decode cX6_hours 29 = .ok (.invokevirtual 294, 3) := dk_182 1 38 (dk_at dksX6_hours_1 6 rfl rfl)
theorem dX6_hours_32 : decode cX6_hours 32 = .ok (.aload_n 0, 1) := dk_42 (dk_at dksX6_hours_1 9 rfl rfl)
theorem dX6_hours_33 : decode cX6_hours 33 = .ok (.iload_n 1, 1) := dk_27 (dk_at dksX6_hours_1 10 rfl rfl)
theorem dX6_hours_34 : decode cX6_hours 34 = .ok (.iconst 1, 1) := dk_4 (dk_at dksX6_hours_1 11 rfl rfl)
theorem dX6_hours_35 : decode cX6_hours 35 = .ok (.invokevirtual 303, 3) := dk_182 1 47 (dk_at dksX6_hours_1 12 rfl rfl)
theorem dX6_hours_38 : decode cX6_hours 38 = .ok (.ireturn, 1) := dk_172 (dk_at dksX6_hours_1 15 rfl rfl)
abbrev cX6_passes : ByteArray := prog_19_method_53_code
def yX6_passes : MethodName := ⟨RX6, "passes", "(IZ)I"⟩
def dkwX6_passes_8 : List UInt8 := [182, 1, 17, 132, 4, 1, 167, 255, 74, 29, 172]
abbrev dktX6_passes_8 : List UInt8 := dkwX6_passes_8 ++ []
def dkwX6_passes_7 : List UInt8 := [180, 0, 7, 8, 92, 46, 4, 96, 79, 42, 180, 0, 7, 8, 46, 16, 24, 112, 154, 0, 7, 42]
abbrev dktX6_passes_7 : List UInt8 := dkwX6_passes_7 ++ dktX6_passes_8
def dkwX6_passes_6 : List UInt8 := [132, 5, 1, 167, 255, 156, 42, 180, 0, 7, 8, 46, 17, 39, 15, 160, 0, 6, 167, 0, 29, 42]
abbrev dktX6_passes_6 : List UInt8 := dkwX6_passes_6 ++ dktX6_passes_7
def dkwX6_passes_5 : List UInt8 := [180, 0, 248, 184, 1, 2, 161, 0, 6, 167, 0, 14, 42, 21, 5, 8, 4, 182, 0, 120, 132, 3, 1]
abbrev dktX6_passes_5 : List UInt8 := dkwX6_passes_5 ++ dktX6_passes_6
def dkwX6_passes_4 : List UInt8 := [182, 0, 120, 42, 21, 5, 182, 0, 255, 28, 153, 0, 35, 42, 16, 100, 182, 1, 14, 16, 100, 42]
abbrev dktX6_passes_4 : List UInt8 := dkwX6_passes_4 ++ dktX6_passes_5
def dkwX6_passes_3 : List UInt8 := [182, 0, 255, 42, 21, 5, 7, 16, 99, 42, 21, 5, 7, 182, 0, 66, 42, 180, 0, 242, 96, 184, 1, 2]
abbrev dktX6_passes_3 : List UInt8 := dkwX6_passes_3 ++ dktX6_passes_4
def dkwX6_passes_2 : List UInt8 := [6, 46, 162, 0, 95, 42, 21, 5, 8, 182, 0, 66, 4, 160, 0, 6, 167, 0, 75, 42, 21, 5]
abbrev dktX6_passes_2 : List UInt8 := dkwX6_passes_2 ++ dktX6_passes_3
def dkwX6_passes_1 : List UInt8 := [162, 0, 15, 42, 21, 5, 182, 1, 11, 132, 5, 1, 167, 255, 236, 3, 54, 5, 21, 5, 42, 180, 0, 7]
abbrev dktX6_passes_1 : List UInt8 := dkwX6_passes_1 ++ dktX6_passes_2
def dkwX6_passes_0 : List UInt8 := [3, 62, 3, 54, 4, 21, 4, 27, 162, 0, 182, 3, 54, 5, 21, 5, 42, 180, 0, 7, 6, 46]
abbrev dktX6_passes_0 : List UInt8 := dkwX6_passes_0 ++ dktX6_passes_1
theorem dksX6_passes_0 : cX6_passes.data.toList.drop 0 = dktX6_passes_0 := by decide +kernel
theorem dksX6_passes_1 : cX6_passes.data.toList.drop 22 = dktX6_passes_1 := dk_seg dksX6_passes_0 22 rfl rfl
theorem dksX6_passes_2 : cX6_passes.data.toList.drop 46 = dktX6_passes_2 := dk_seg dksX6_passes_1 24 rfl rfl
theorem dksX6_passes_3 : cX6_passes.data.toList.drop 68 = dktX6_passes_3 := dk_seg dksX6_passes_2 22 rfl rfl
theorem dksX6_passes_4 : cX6_passes.data.toList.drop 92 = dktX6_passes_4 := dk_seg dksX6_passes_3 24 rfl rfl
theorem dksX6_passes_5 : cX6_passes.data.toList.drop 114 = dktX6_passes_5 := dk_seg dksX6_passes_4 22 rfl rfl
theorem dksX6_passes_6 : cX6_passes.data.toList.drop 137 = dktX6_passes_6 := dk_seg dksX6_passes_5 23 rfl rfl
theorem dksX6_passes_7 : cX6_passes.data.toList.drop 159 = dktX6_passes_7 := dk_seg dksX6_passes_6 22 rfl rfl
theorem dksX6_passes_8 : cX6_passes.data.toList.drop 181 = dktX6_passes_8 := dk_seg dksX6_passes_7 22 rfl rfl
theorem dX6_passes_0 : decode cX6_passes 0 = .ok (.iconst 0, 1) := dk_3 (dk_at dksX6_passes_0 0 rfl rfl)
theorem dX6_passes_1 : decode cX6_passes 1 = .ok (.istore_n 3, 1) := dk_62 (dk_at dksX6_passes_0 1 rfl rfl)
theorem dX6_passes_2 : decode cX6_passes 2 = .ok (.iconst 0, 1) := dk_3 (dk_at dksX6_passes_0 2 rfl rfl)
theorem dX6_passes_3 : decode cX6_passes 3 = .ok (.istore 4, 2) := dk_54 4 (dk_at dksX6_passes_0 3 rfl rfl)
theorem dX6_passes_5 : decode cX6_passes 5 = .ok (.iload 4, 2) := dk_21 4 (dk_at dksX6_passes_0 5 rfl rfl)
theorem dX6_passes_7 : decode cX6_passes 7 = .ok (.iload_n 1, 1) := dk_27 (dk_at dksX6_passes_0 7 rfl rfl)
theorem dX6_passes_8 : decode cX6_passes 8 = .ok (.if_icmp .ge 182, 3) := dk_162 0 182 (dk_at dksX6_passes_0 8 rfl rfl)
theorem dX6_passes_11 : decode cX6_passes 11 = .ok (.iconst 0, 1) := dk_3 (dk_at dksX6_passes_0 11 rfl rfl)
theorem dX6_passes_12 : decode cX6_passes 12 = .ok (.istore 5, 2) := dk_54 5 (dk_at dksX6_passes_0 12 rfl rfl)
theorem dX6_passes_14 : decode cX6_passes 14 = .ok (.iload 5, 2) := dk_21 5 (dk_at dksX6_passes_0 14 rfl rfl)
theorem dX6_passes_16 : decode cX6_passes 16 = .ok (.aload_n 0, 1) := dk_42 (dk_at dksX6_passes_0 16 rfl rfl)
theorem dX6_passes_17 : decode cX6_passes 17 = .ok (.getfield 7, 3) := dk_180 0 7 (dk_at dksX6_passes_0 17 rfl rfl)
theorem dX6_passes_20 : decode cX6_passes 20 = .ok (.iconst 3, 1) := dk_6 (dk_at dksX6_passes_0 20 rfl rfl)
theorem dX6_passes_21 : decode cX6_passes 21 = .ok (.iaload, 1) := dk_46 (dk_at dksX6_passes_0 21 rfl rfl)
theorem dX6_passes_22 : decode cX6_passes 22 = .ok (.if_icmp .ge 15, 3) := dk_162 0 15 (dk_at dksX6_passes_1 0 rfl rfl)
theorem dX6_passes_25 : decode cX6_passes 25 = .ok (.aload_n 0, 1) := dk_42 (dk_at dksX6_passes_1 3 rfl rfl)
theorem dX6_passes_26 : decode cX6_passes 26 = .ok (.iload 5, 2) := dk_21 5 (dk_at dksX6_passes_1 4 rfl rfl)
theorem dX6_passes_28 : decode cX6_passes 28 = .ok (.invokevirtual 267, 3) := dk_182 1 11 (dk_at dksX6_passes_1 6 rfl rfl)
theorem dX6_passes_31 : decode cX6_passes 31 = .ok (.iinc 5 1, 3) := dk_132 5 1 (dk_at dksX6_passes_1 9 rfl rfl)
theorem dX6_passes_34 : decode cX6_passes 34 = .ok (.goto (-20), 3) := dk_167 255 236 (dk_at dksX6_passes_1 12 rfl rfl)
theorem dX6_passes_37 : decode cX6_passes 37 = .ok (.iconst 0, 1) := dk_3 (dk_at dksX6_passes_1 15 rfl rfl)
theorem dX6_passes_38 : decode cX6_passes 38 = .ok (.istore 5, 2) := dk_54 5 (dk_at dksX6_passes_1 16 rfl rfl)
theorem dX6_passes_40 : decode cX6_passes 40 = .ok (.iload 5, 2) := dk_21 5 (dk_at dksX6_passes_1 18 rfl rfl)
theorem dX6_passes_42 : decode cX6_passes 42 = .ok (.aload_n 0, 1) := dk_42 (dk_at dksX6_passes_1 20 rfl rfl)
theorem dX6_passes_43 : decode cX6_passes 43 = .ok (.getfield 7, 3) := dk_180 0 7 (dk_at dksX6_passes_1 21 rfl rfl)
theorem dX6_passes_46 : decode cX6_passes 46 = .ok (.iconst 3, 1) := dk_6 (dk_at dksX6_passes_2 0 rfl rfl)
theorem dX6_passes_47 : decode cX6_passes 47 = .ok (.iaload, 1) := dk_46 (dk_at dksX6_passes_2 1 rfl rfl)
theorem dX6_passes_48 : decode cX6_passes 48 = .ok (.if_icmp .ge 95, 3) := dk_162 0 95 (dk_at dksX6_passes_2 2 rfl rfl)
theorem dX6_passes_51 : decode cX6_passes 51 = .ok (.aload_n 0, 1) := dk_42 (dk_at dksX6_passes_2 5 rfl rfl)
theorem dX6_passes_52 : decode cX6_passes 52 = .ok (.iload 5, 2) := dk_21 5 (dk_at dksX6_passes_2 6 rfl rfl)
theorem dX6_passes_54 : decode cX6_passes 54 = .ok (.iconst 5, 1) := dk_8 (dk_at dksX6_passes_2 8 rfl rfl)
theorem dX6_passes_55 : decode cX6_passes 55 = .ok (.invokevirtual 66, 3) := dk_182 0 66 (dk_at dksX6_passes_2 9 rfl rfl)
theorem dX6_passes_58 : decode cX6_passes 58 = .ok (.iconst 1, 1) := dk_4 (dk_at dksX6_passes_2 12 rfl rfl)
theorem dX6_passes_59 : decode cX6_passes 59 = .ok (.if_icmp .ne 6, 3) := dk_160 0 6 (dk_at dksX6_passes_2 13 rfl rfl)
theorem dX6_passes_62 : decode cX6_passes 62 = .ok (.goto 75, 3) := dk_167 0 75 (dk_at dksX6_passes_2 16 rfl rfl)
theorem dX6_passes_65 : decode cX6_passes 65 = .ok (.aload_n 0, 1) := dk_42 (dk_at dksX6_passes_2 19 rfl rfl)
theorem dX6_passes_66 : decode cX6_passes 66 = .ok (.iload 5, 2) := dk_21 5 (dk_at dksX6_passes_2 20 rfl rfl)
theorem dX6_passes_68 : decode cX6_passes 68 = .ok (.invokevirtual 255, 3) := dk_182 0 255 (dk_at dksX6_passes_3 0 rfl rfl)
theorem dX6_passes_71 : decode cX6_passes 71 = .ok (.aload_n 0, 1) := dk_42 (dk_at dksX6_passes_3 3 rfl rfl)
theorem dX6_passes_72 : decode cX6_passes 72 = .ok (.iload 5, 2) := dk_21 5 (dk_at dksX6_passes_3 4 rfl rfl)
theorem dX6_passes_74 : decode cX6_passes 74 = .ok (.iconst 4, 1) := dk_7 (dk_at dksX6_passes_3 6 rfl rfl)
theorem dX6_passes_75 : decode cX6_passes 75 = .ok (.bipush 99, 2) := dk_16 99 (dk_at dksX6_passes_3 7 rfl rfl)
theorem dX6_passes_77 : decode cX6_passes 77 = .ok (.aload_n 0, 1) := dk_42 (dk_at dksX6_passes_3 9 rfl rfl)
theorem dX6_passes_78 : decode cX6_passes 78 = .ok (.iload 5, 2) := dk_21 5 (dk_at dksX6_passes_3 10 rfl rfl)
theorem dX6_passes_80 : decode cX6_passes 80 = .ok (.iconst 4, 1) := dk_7 (dk_at dksX6_passes_3 12 rfl rfl)
theorem dX6_passes_81 : decode cX6_passes 81 = .ok (.invokevirtual 66, 3) := dk_182 0 66 (dk_at dksX6_passes_3 13 rfl rfl)
theorem dX6_passes_84 : decode cX6_passes 84 = .ok (.aload_n 0, 1) := dk_42 (dk_at dksX6_passes_3 16 rfl rfl)
theorem dX6_passes_85 : decode cX6_passes 85 = .ok (.getfield 242, 3) := dk_180 0 242 (dk_at dksX6_passes_3 17 rfl rfl)
theorem dX6_passes_88 : decode cX6_passes 88 = .ok (.iadd, 1) := dk_96 (dk_at dksX6_passes_3 20 rfl rfl)
theorem dX6_passes_89 : decode cX6_passes 89 = .ok (.invokestatic 258, 3) := dk_184 1 2 (dk_at dksX6_passes_3 21 rfl rfl)
theorem dX6_passes_92 : decode cX6_passes 92 = .ok (.invokevirtual 120, 3) := dk_182 0 120 (dk_at dksX6_passes_4 0 rfl rfl)
theorem dX6_passes_95 : decode cX6_passes 95 = .ok (.aload_n 0, 1) := dk_42 (dk_at dksX6_passes_4 3 rfl rfl)
theorem dX6_passes_96 : decode cX6_passes 96 = .ok (.iload 5, 2) := dk_21 5 (dk_at dksX6_passes_4 4 rfl rfl)
theorem dX6_passes_98 : decode cX6_passes 98 = .ok (.invokevirtual 255, 3) := dk_182 0 255 (dk_at dksX6_passes_4 6 rfl rfl)
theorem dX6_passes_101 : decode cX6_passes 101 = .ok (.iload_n 2, 1) := dk_28 (dk_at dksX6_passes_4 9 rfl rfl)
theorem dX6_passes_102 : decode cX6_passes 102 = .ok (.ifCond .eq 35, 3) := dk_153 0 35 (dk_at dksX6_passes_4 10 rfl rfl)
theorem dX6_passes_105 : decode cX6_passes 105 = .ok (.aload_n 0, 1) := dk_42 (dk_at dksX6_passes_4 13 rfl rfl)
theorem dX6_passes_106 : decode cX6_passes 106 = .ok (.bipush 100, 2) := dk_16 100 (dk_at dksX6_passes_4 14 rfl rfl)
theorem dX6_passes_108 : decode cX6_passes 108 = .ok (.invokevirtual 270, 3) := dk_182 1 14 (dk_at dksX6_passes_4 16 rfl rfl)
theorem dX6_passes_111 : decode cX6_passes 111 = .ok (.bipush 100, 2) := dk_16 100 (dk_at dksX6_passes_4 19 rfl rfl)
theorem dX6_passes_113 : decode cX6_passes 113 = .ok (.aload_n 0, 1) := dk_42 (dk_at dksX6_passes_4 21 rfl rfl)
theorem dX6_passes_114 : decode cX6_passes 114 = .ok (.getfield 248, 3) := dk_180 0 248 (dk_at dksX6_passes_5 0 rfl rfl)
theorem dX6_passes_117 : decode cX6_passes 117 = .ok (.invokestatic 258, 3) := dk_184 1 2 (dk_at dksX6_passes_5 3 rfl rfl)
theorem dX6_passes_120 : decode cX6_passes 120 = .ok (.if_icmp .lt 6, 3) := dk_161 0 6 (dk_at dksX6_passes_5 6 rfl rfl)
theorem dX6_passes_123 : decode cX6_passes 123 = .ok (.goto 14, 3) := dk_167 0 14 (dk_at dksX6_passes_5 9 rfl rfl)
theorem dX6_passes_126 : decode cX6_passes 126 = .ok (.aload_n 0, 1) := dk_42 (dk_at dksX6_passes_5 12 rfl rfl)
theorem dX6_passes_127 : decode cX6_passes 127 = .ok (.iload 5, 2) := dk_21 5 (dk_at dksX6_passes_5 13 rfl rfl)
theorem dX6_passes_129 : decode cX6_passes 129 = .ok (.iconst 5, 1) := dk_8 (dk_at dksX6_passes_5 15 rfl rfl)
theorem dX6_passes_130 : decode cX6_passes 130 = .ok (.iconst 1, 1) := dk_4 (dk_at dksX6_passes_5 16 rfl rfl)
theorem dX6_passes_131 : decode cX6_passes 131 = .ok (.invokevirtual 120, 3) := dk_182 0 120 (dk_at dksX6_passes_5 17 rfl rfl)
theorem dX6_passes_134 : decode cX6_passes 134 = .ok (.iinc 3 1, 3) := dk_132 3 1 (dk_at dksX6_passes_5 20 rfl rfl)
theorem dX6_passes_137 : decode cX6_passes 137 = .ok (.iinc 5 1, 3) := dk_132 5 1 (dk_at dksX6_passes_6 0 rfl rfl)
theorem dX6_passes_140 : decode cX6_passes 140 = .ok (.goto (-100), 3) := dk_167 255 156 (dk_at dksX6_passes_6 3 rfl rfl)
theorem dX6_passes_143 : decode cX6_passes 143 = .ok (.aload_n 0, 1) := dk_42 (dk_at dksX6_passes_6 6 rfl rfl)
theorem dX6_passes_144 : decode cX6_passes 144 = .ok (.getfield 7, 3) := dk_180 0 7 (dk_at dksX6_passes_6 7 rfl rfl)
theorem dX6_passes_147 : decode cX6_passes 147 = .ok (.iconst 5, 1) := dk_8 (dk_at dksX6_passes_6 10 rfl rfl)
theorem dX6_passes_148 : decode cX6_passes 148 = .ok (.iaload, 1) := dk_46 (dk_at dksX6_passes_6 11 rfl rfl)
theorem dX6_passes_149 : decode cX6_passes 149 = .ok (.sipush 9999, 3) := dk_17 39 15 (dk_at dksX6_passes_6 12 rfl rfl)
theorem dX6_passes_152 : decode cX6_passes 152 = .ok (.if_icmp .ne 6, 3) := dk_160 0 6 (dk_at dksX6_passes_6 15 rfl rfl)
theorem dX6_passes_155 : decode cX6_passes 155 = .ok (.goto 29, 3) := dk_167 0 29 (dk_at dksX6_passes_6 18 rfl rfl)
theorem dX6_passes_158 : decode cX6_passes 158 = .ok (.aload_n 0, 1) := dk_42 (dk_at dksX6_passes_6 21 rfl rfl)
theorem dX6_passes_159 : decode cX6_passes 159 = .ok (.getfield 7, 3) := dk_180 0 7 (dk_at dksX6_passes_7 0 rfl rfl)
theorem dX6_passes_162 : decode cX6_passes 162 = .ok (.iconst 5, 1) := dk_8 (dk_at dksX6_passes_7 3 rfl rfl)
theorem dX6_passes_163 : decode cX6_passes 163 = .ok (.dup2, 1) := dk_92 (dk_at dksX6_passes_7 4 rfl rfl)
theorem dX6_passes_164 : decode cX6_passes 164 = .ok (.iaload, 1) := dk_46 (dk_at dksX6_passes_7 5 rfl rfl)
theorem dX6_passes_165 : decode cX6_passes 165 = .ok (.iconst 1, 1) := dk_4 (dk_at dksX6_passes_7 6 rfl rfl)
theorem dX6_passes_166 : decode cX6_passes 166 = .ok (.iadd, 1) := dk_96 (dk_at dksX6_passes_7 7 rfl rfl)
theorem dX6_passes_167 : decode cX6_passes 167 = .ok (.iastore, 1) := dk_79 (dk_at dksX6_passes_7 8 rfl rfl)
theorem dX6_passes_168 : decode cX6_passes 168 = .ok (.aload_n 0, 1) := dk_42 (dk_at dksX6_passes_7 9 rfl rfl)
theorem dX6_passes_169 : decode cX6_passes 169 = .ok (.getfield 7, 3) := dk_180 0 7 (dk_at dksX6_passes_7 10 rfl rfl)
theorem dX6_passes_172 : decode cX6_passes 172 = .ok (.iconst 5, 1) := dk_8 (dk_at dksX6_passes_7 13 rfl rfl)
theorem dX6_passes_173 : decode cX6_passes 173 = .ok (.iaload, 1) := dk_46 (dk_at dksX6_passes_7 14 rfl rfl)
theorem dX6_passes_174 : decode cX6_passes 174 = .ok (.bipush 24, 2) := dk_16 24 (dk_at dksX6_passes_7 15 rfl rfl)
theorem dX6_passes_176 : decode cX6_passes 176 = .ok (.irem, 1) := dk_112 (dk_at dksX6_passes_7 17 rfl rfl)
theorem dX6_passes_177 : decode cX6_passes 177 = .ok (.ifCond .ne 7, 3) := dk_154 0 7 (dk_at dksX6_passes_7 18 rfl rfl)
theorem dX6_passes_180 : decode cX6_passes 180 = .ok (.aload_n 0, 1) := dk_42 (dk_at dksX6_passes_7 21 rfl rfl)
theorem dX6_passes_181 : decode cX6_passes 181 = .ok (.invokevirtual 273, 3) := dk_182 1 17 (dk_at dksX6_passes_8 0 rfl rfl)
theorem dX6_passes_184 : decode cX6_passes 184 = .ok (.iinc 4 1, 3) := dk_132 4 1 (dk_at dksX6_passes_8 3 rfl rfl)
theorem dX6_passes_187 : decode cX6_passes 187 = .ok (.goto (-182), 3) := dk_167 255 74 (dk_at dksX6_passes_8 6 rfl rfl)
theorem dX6_passes_190 : decode cX6_passes 190 = .ok (.iload_n 3, 1) := dk_29 (dk_at dksX6_passes_8 9 rfl rfl)
theorem dX6_passes_191 : decode cX6_passes 191 = .ok (.ireturn, 1) := dk_172 (dk_at dksX6_passes_8 10 rfl rfl)
abbrev cX6_walks : ByteArray := prog_19_method_52_code
def yX6_walks : MethodName := ⟨RX6, "walks", "(I)V"⟩
def dkwX6_walks_4 : List UInt8 := [182, 0, 120, 177]
abbrev dktX6_walks_4 : List UInt8 := dkwX6_walks_4 ++ []
def dkwX6_walks_3 : List UInt8 := [182, 1, 5, 154, 0, 24, 42, 42, 27, 182, 0, 63, 28, 29, 182, 1, 8, 153, 0, 10, 42, 27, 5, 29]
abbrev dktX6_walks_3 : List UInt8 := dkwX6_walks_3 ++ dktX6_walks_4
def dkwX6_walks_2 : List UInt8 := [42, 27, 3, 182, 0, 66, 42, 180, 0, 245, 96, 184, 1, 2, 182, 0, 120, 167, 0, 32, 42, 27]
abbrev dktX6_walks_2 : List UInt8 := dkwX6_walks_2 ++ dktX6_walks_3
def dkwX6_walks_1 : List UInt8 := [4, 100, 62, 28, 42, 27, 6, 182, 0, 66, 160, 0, 34, 42, 27, 182, 0, 255, 42, 27, 3, 17, 39, 15]
abbrev dktX6_walks_1 : List UInt8 := dkwX6_walks_1 ++ dktX6_walks_2
def dkwX6_walks_0 : List UInt8 := [42, 27, 5, 182, 0, 66, 61, 28, 42, 27, 6, 182, 0, 66, 162, 0, 9, 28, 4, 96, 167, 0, 6, 28]
abbrev dktX6_walks_0 : List UInt8 := dkwX6_walks_0 ++ dktX6_walks_1
theorem dksX6_walks_0 : cX6_walks.data.toList.drop 0 = dktX6_walks_0 := by decide +kernel
theorem dksX6_walks_1 : cX6_walks.data.toList.drop 24 = dktX6_walks_1 := dk_seg dksX6_walks_0 24 rfl rfl
theorem dksX6_walks_2 : cX6_walks.data.toList.drop 48 = dktX6_walks_2 := dk_seg dksX6_walks_1 24 rfl rfl
theorem dksX6_walks_3 : cX6_walks.data.toList.drop 70 = dktX6_walks_3 := dk_seg dksX6_walks_2 22 rfl rfl
theorem dksX6_walks_4 : cX6_walks.data.toList.drop 94 = dktX6_walks_4 := dk_seg dksX6_walks_3 24 rfl rfl
theorem dX6_walks_0 : decode cX6_walks 0 = .ok (.aload_n 0, 1) := dk_42 (dk_at dksX6_walks_0 0 rfl rfl)
theorem dX6_walks_1 : decode cX6_walks 1 = .ok (.iload_n 1, 1) := dk_27 (dk_at dksX6_walks_0 1 rfl rfl)
theorem dX6_walks_2 : decode cX6_walks 2 = .ok (.iconst 2, 1) := dk_5 (dk_at dksX6_walks_0 2 rfl rfl)
theorem dX6_walks_3 : decode cX6_walks 3 = .ok (.invokevirtual 66, 3) := dk_182 0 66 (dk_at dksX6_walks_0 3 rfl rfl)
theorem dX6_walks_6 : decode cX6_walks 6 = .ok (.istore_n 2, 1) := dk_61 (dk_at dksX6_walks_0 6 rfl rfl)
theorem dX6_walks_7 : decode cX6_walks 7 = .ok (.iload_n 2, 1) := dk_28 (dk_at dksX6_walks_0 7 rfl rfl)
theorem dX6_walks_8 : decode cX6_walks 8 = .ok (.aload_n 0, 1) := dk_42 (dk_at dksX6_walks_0 8 rfl rfl)
theorem dX6_walks_9 : decode cX6_walks 9 = .ok (.iload_n 1, 1) := dk_27 (dk_at dksX6_walks_0 9 rfl rfl)
theorem dX6_walks_10 : decode cX6_walks 10 = .ok (.iconst 3, 1) := dk_6 (dk_at dksX6_walks_0 10 rfl rfl)
theorem dX6_walks_11 : decode cX6_walks 11 = .ok (.invokevirtual 66, 3) := dk_182 0 66 (dk_at dksX6_walks_0 11 rfl rfl)
theorem dX6_walks_14 : decode cX6_walks 14 = .ok (.if_icmp .ge 9, 3) := dk_162 0 9 (dk_at dksX6_walks_0 14 rfl rfl)
theorem dX6_walks_17 : decode cX6_walks 17 = .ok (.iload_n 2, 1) := dk_28 (dk_at dksX6_walks_0 17 rfl rfl)
theorem dX6_walks_18 : decode cX6_walks 18 = .ok (.iconst 1, 1) := dk_4 (dk_at dksX6_walks_0 18 rfl rfl)
theorem dX6_walks_19 : decode cX6_walks 19 = .ok (.iadd, 1) := dk_96 (dk_at dksX6_walks_0 19 rfl rfl)
theorem dX6_walks_20 : decode cX6_walks 20 = .ok (.goto 6, 3) := dk_167 0 6 (dk_at dksX6_walks_0 20 rfl rfl)
theorem dX6_walks_23 : decode cX6_walks 23 = .ok (.iload_n 2, 1) := dk_28 (dk_at dksX6_walks_0 23 rfl rfl)
theorem dX6_walks_24 : decode cX6_walks 24 = .ok (.iconst 1, 1) := dk_4 (dk_at dksX6_walks_1 0 rfl rfl)
theorem dX6_walks_25 : decode cX6_walks 25 = .ok (.isub, 1) := dk_100 (dk_at dksX6_walks_1 1 rfl rfl)
theorem dX6_walks_26 : decode cX6_walks 26 = .ok (.istore_n 3, 1) := dk_62 (dk_at dksX6_walks_1 2 rfl rfl)
theorem dX6_walks_27 : decode cX6_walks 27 = .ok (.iload_n 2, 1) := dk_28 (dk_at dksX6_walks_1 3 rfl rfl)
theorem dX6_walks_28 : decode cX6_walks 28 = .ok (.aload_n 0, 1) := dk_42 (dk_at dksX6_walks_1 4 rfl rfl)
theorem dX6_walks_29 : decode cX6_walks 29 = .ok (.iload_n 1, 1) := dk_27 (dk_at dksX6_walks_1 5 rfl rfl)
theorem dX6_walks_30 : decode cX6_walks 30 = .ok (.iconst 3, 1) := dk_6 (dk_at dksX6_walks_1 6 rfl rfl)
theorem dX6_walks_31 : decode cX6_walks 31 = .ok (.invokevirtual 66, 3) := dk_182 0 66 (dk_at dksX6_walks_1 7 rfl rfl)
theorem dX6_walks_34 : decode cX6_walks 34 = .ok (.if_icmp .ne 34, 3) := dk_160 0 34 (dk_at dksX6_walks_1 10 rfl rfl)
theorem dX6_walks_37 : decode cX6_walks 37 = .ok (.aload_n 0, 1) := dk_42 (dk_at dksX6_walks_1 13 rfl rfl)
theorem dX6_walks_38 : decode cX6_walks 38 = .ok (.iload_n 1, 1) := dk_27 (dk_at dksX6_walks_1 14 rfl rfl)
theorem dX6_walks_39 : decode cX6_walks 39 = .ok (.invokevirtual 255, 3) := dk_182 0 255 (dk_at dksX6_walks_1 15 rfl rfl)
theorem dX6_walks_42 : decode cX6_walks 42 = .ok (.aload_n 0, 1) := dk_42 (dk_at dksX6_walks_1 18 rfl rfl)
theorem dX6_walks_43 : decode cX6_walks 43 = .ok (.iload_n 1, 1) := dk_27 (dk_at dksX6_walks_1 19 rfl rfl)
theorem dX6_walks_44 : decode cX6_walks 44 = .ok (.iconst 0, 1) := dk_3 (dk_at dksX6_walks_1 20 rfl rfl)
theorem dX6_walks_45 : decode cX6_walks 45 = .ok (.sipush 9999, 3) := dk_17 39 15 (dk_at dksX6_walks_1 21 rfl rfl)
theorem dX6_walks_48 : decode cX6_walks 48 = .ok (.aload_n 0, 1) := dk_42 (dk_at dksX6_walks_2 0 rfl rfl)
theorem dX6_walks_49 : decode cX6_walks 49 = .ok (.iload_n 1, 1) := dk_27 (dk_at dksX6_walks_2 1 rfl rfl)
theorem dX6_walks_50 : decode cX6_walks 50 = .ok (.iconst 0, 1) := dk_3 (dk_at dksX6_walks_2 2 rfl rfl)
theorem dX6_walks_51 : decode cX6_walks 51 = .ok (.invokevirtual 66, 3) := dk_182 0 66 (dk_at dksX6_walks_2 3 rfl rfl)
theorem dX6_walks_54 : decode cX6_walks 54 = .ok (.aload_n 0, 1) := dk_42 (dk_at dksX6_walks_2 6 rfl rfl)
theorem dX6_walks_55 : decode cX6_walks 55 = .ok (.getfield 245, 3) := dk_180 0 245 (dk_at dksX6_walks_2 7 rfl rfl)
theorem dX6_walks_58 : decode cX6_walks 58 = .ok (.iadd, 1) := dk_96 (dk_at dksX6_walks_2 10 rfl rfl)
theorem dX6_walks_59 : decode cX6_walks 59 = .ok (.invokestatic 258, 3) := dk_184 1 2 (dk_at dksX6_walks_2 11 rfl rfl)
theorem dX6_walks_62 : decode cX6_walks 62 = .ok (.invokevirtual 120, 3) := dk_182 0 120 (dk_at dksX6_walks_2 14 rfl rfl)
theorem dX6_walks_65 : decode cX6_walks 65 = .ok (.goto 32, 3) := dk_167 0 32 (dk_at dksX6_walks_2 17 rfl rfl)
theorem dX6_walks_68 : decode cX6_walks 68 = .ok (.aload_n 0, 1) := dk_42 (dk_at dksX6_walks_2 20 rfl rfl)
theorem dX6_walks_69 : decode cX6_walks 69 = .ok (.iload_n 1, 1) := dk_27 (dk_at dksX6_walks_2 21 rfl rfl)
theorem dX6_walks_70 : decode cX6_walks 70 = .ok (.invokevirtual 261, 3) := dk_182 1 5 (dk_at dksX6_walks_3 0 rfl rfl)
theorem dX6_walks_73 : decode cX6_walks 73 = .ok (.ifCond .ne 24, 3) := dk_154 0 24 (dk_at dksX6_walks_3 3 rfl rfl)
theorem dX6_walks_76 : decode cX6_walks 76 = .ok (.aload_n 0, 1) := dk_42 (dk_at dksX6_walks_3 6 rfl rfl)
theorem dX6_walks_77 : decode cX6_walks 77 = .ok (.aload_n 0, 1) := dk_42 (dk_at dksX6_walks_3 7 rfl rfl)
theorem dX6_walks_78 : decode cX6_walks 78 = .ok (.iload_n 1, 1) := dk_27 (dk_at dksX6_walks_3 8 rfl rfl)
theorem dX6_walks_79 : decode cX6_walks 79 = .ok (.invokevirtual 63, 3) := dk_182 0 63 (dk_at dksX6_walks_3 9 rfl rfl)
theorem dX6_walks_82 : decode cX6_walks 82 = .ok (.iload_n 2, 1) := dk_28 (dk_at dksX6_walks_3 12 rfl rfl)
theorem dX6_walks_83 : decode cX6_walks 83 = .ok (.iload_n 3, 1) := dk_29 (dk_at dksX6_walks_3 13 rfl rfl)
theorem dX6_walks_84 : decode cX6_walks 84 = .ok (.invokevirtual 264, 3) := dk_182 1 8 (dk_at dksX6_walks_3 14 rfl rfl)
theorem dX6_walks_87 : decode cX6_walks 87 = .ok (.ifCond .eq 10, 3) := dk_153 0 10 (dk_at dksX6_walks_3 17 rfl rfl)
theorem dX6_walks_90 : decode cX6_walks 90 = .ok (.aload_n 0, 1) := dk_42 (dk_at dksX6_walks_3 20 rfl rfl)
theorem dX6_walks_91 : decode cX6_walks 91 = .ok (.iload_n 1, 1) := dk_27 (dk_at dksX6_walks_3 21 rfl rfl)
theorem dX6_walks_92 : decode cX6_walks 92 = .ok (.iconst 2, 1) := dk_5 (dk_at dksX6_walks_3 22 rfl rfl)
theorem dX6_walks_93 : decode cX6_walks 93 = .ok (.iload_n 3, 1) := dk_29 (dk_at dksX6_walks_3 23 rfl rfl)
theorem dX6_walks_94 : decode cX6_walks 94 = .ok (.invokevirtual 120, 3) := dk_182 0 120 (dk_at dksX6_walks_4 0 rfl rfl)
theorem dX6_walks_97 : decode cX6_walks 97 = .ok (.return_, 1) := dk_177 (dk_at dksX6_walks_4 3 rfl rfl)
abbrev cX6_mayGo : ByteArray := prog_19_method_51_code
def yX6_mayGo : MethodName := ⟨RX6, "mayGo", "(III)Z"⟩
def dkwX6_mayGo_1 : List UInt8 := [172]
abbrev dktX6_mayGo_1 : List UInt8 := dkwX6_mayGo_1 ++ []
def dkwX6_mayGo_0 : List UInt8 := [28, 29, 96, 16, 11, 160, 0, 14, 27, 42, 180, 0, 7, 16, 6, 46, 163, 0, 7, 4, 167, 0, 4, 3]
abbrev dktX6_mayGo_0 : List UInt8 := dkwX6_mayGo_0 ++ dktX6_mayGo_1
theorem dksX6_mayGo_0 : cX6_mayGo.data.toList.drop 0 = dktX6_mayGo_0 := by decide +kernel
theorem dksX6_mayGo_1 : cX6_mayGo.data.toList.drop 24 = dktX6_mayGo_1 := dk_seg dksX6_mayGo_0 24 rfl rfl
theorem dX6_mayGo_0 : decode cX6_mayGo 0 = .ok (.iload_n 2, 1) := dk_28 (dk_at dksX6_mayGo_0 0 rfl rfl)
theorem dX6_mayGo_1 : decode cX6_mayGo 1 = .ok (.iload_n 3, 1) := dk_29 (dk_at dksX6_mayGo_0 1 rfl rfl)
theorem dX6_mayGo_2 : decode cX6_mayGo 2 = .ok (.iadd, 1) := dk_96 (dk_at dksX6_mayGo_0 2 rfl rfl)
theorem dX6_mayGo_3 : decode cX6_mayGo 3 = .ok (.bipush 11, 2) := dk_16 11 (dk_at dksX6_mayGo_0 3 rfl rfl)
theorem dX6_mayGo_5 : decode cX6_mayGo 5 = .ok (.if_icmp .ne 14, 3) := dk_160 0 14 (dk_at dksX6_mayGo_0 5 rfl rfl)
theorem dX6_mayGo_8 : decode cX6_mayGo 8 = .ok (.iload_n 1, 1) := dk_27 (dk_at dksX6_mayGo_0 8 rfl rfl)
theorem dX6_mayGo_9 : decode cX6_mayGo 9 = .ok (.aload_n 0, 1) := dk_42 (dk_at dksX6_mayGo_0 9 rfl rfl)
theorem dX6_mayGo_10 : decode cX6_mayGo 10 = .ok (.getfield 7, 3) := dk_180 0 7 (dk_at dksX6_mayGo_0 10 rfl rfl)
theorem dX6_mayGo_13 : decode cX6_mayGo 13 = .ok (.bipush 6, 2) := dk_16 6 (dk_at dksX6_mayGo_0 13 rfl rfl)
theorem dX6_mayGo_15 : decode cX6_mayGo 15 = .ok (.iaload, 1) := dk_46 (dk_at dksX6_mayGo_0 15 rfl rfl)
theorem dX6_mayGo_16 : decode cX6_mayGo 16 = .ok (.if_icmp .gt 7, 3) := dk_163 0 7 (dk_at dksX6_mayGo_0 16 rfl rfl)
theorem dX6_mayGo_19 : decode cX6_mayGo 19 = .ok (.iconst 1, 1) := dk_4 (dk_at dksX6_mayGo_0 19 rfl rfl)
theorem dX6_mayGo_20 : decode cX6_mayGo 20 = .ok (.goto 4, 3) := dk_167 0 4 (dk_at dksX6_mayGo_0 20 rfl rfl)
theorem dX6_mayGo_23 : decode cX6_mayGo 23 = .ok (.iconst 0, 1) := dk_3 (dk_at dksX6_mayGo_0 23 rfl rfl)
theorem dX6_mayGo_24 : decode cX6_mayGo 24 = .ok (.ireturn, 1) := dk_172 (dk_at dksX6_mayGo_1 0 rfl rfl)
abbrev cX6_draw : ByteArray := prog_19_method_50_code
def yX6_draw : MethodName := ⟨RX6, "draw", "(I)I"⟩
def dkwX6_draw_1 : List UInt8 := [180, 0, 7, 16, 8, 46, 16, 16, 124, 17, 127, 255, 126, 27, 112, 172]
abbrev dktX6_draw_1 : List UInt8 := dkwX6_draw_1 ++ []
def dkwX6_draw_0 : List UInt8 := [42, 180, 0, 7, 16, 8, 18, 254, 42, 180, 0, 7, 16, 8, 46, 104, 17, 48, 57, 96, 79, 42]
abbrev dktX6_draw_0 : List UInt8 := dkwX6_draw_0 ++ dktX6_draw_1
theorem dksX6_draw_0 : cX6_draw.data.toList.drop 0 = dktX6_draw_0 := by decide +kernel
theorem dksX6_draw_1 : cX6_draw.data.toList.drop 22 = dktX6_draw_1 := dk_seg dksX6_draw_0 22 rfl rfl
theorem dX6_draw_0 : decode cX6_draw 0 = .ok (.aload_n 0, 1) := dk_42 (dk_at dksX6_draw_0 0 rfl rfl)
theorem dX6_draw_1 : decode cX6_draw 1 = .ok (.getfield 7, 3) := dk_180 0 7 (dk_at dksX6_draw_0 1 rfl rfl)
theorem dX6_draw_4 : decode cX6_draw 4 = .ok (.bipush 8, 2) := dk_16 8 (dk_at dksX6_draw_0 4 rfl rfl)
theorem dX6_draw_6 : decode cX6_draw 6 = .ok (.ldc 254, 2) := dk_18 254 (dk_at dksX6_draw_0 6 rfl rfl)
theorem dX6_draw_8 : decode cX6_draw 8 = .ok (.aload_n 0, 1) := dk_42 (dk_at dksX6_draw_0 8 rfl rfl)
theorem dX6_draw_9 : decode cX6_draw 9 = .ok (.getfield 7, 3) := dk_180 0 7 (dk_at dksX6_draw_0 9 rfl rfl)
theorem dX6_draw_12 : decode cX6_draw 12 = .ok (.bipush 8, 2) := dk_16 8 (dk_at dksX6_draw_0 12 rfl rfl)
theorem dX6_draw_14 : decode cX6_draw 14 = .ok (.iaload, 1) := dk_46 (dk_at dksX6_draw_0 14 rfl rfl)
theorem dX6_draw_15 : decode cX6_draw 15 = .ok (.imul, 1) := dk_104 (dk_at dksX6_draw_0 15 rfl rfl)
theorem dX6_draw_16 : decode cX6_draw 16 = .ok (.sipush 12345, 3) := dk_17 48 57 (dk_at dksX6_draw_0 16 rfl rfl)
theorem dX6_draw_19 : decode cX6_draw 19 = .ok (.iadd, 1) := dk_96 (dk_at dksX6_draw_0 19 rfl rfl)
theorem dX6_draw_20 : decode cX6_draw 20 = .ok (.iastore, 1) := dk_79 (dk_at dksX6_draw_0 20 rfl rfl)
theorem dX6_draw_21 : decode cX6_draw 21 = .ok (.aload_n 0, 1) := dk_42 (dk_at dksX6_draw_0 21 rfl rfl)
theorem dX6_draw_22 : decode cX6_draw 22 = .ok (.getfield 7, 3) := dk_180 0 7 (dk_at dksX6_draw_1 0 rfl rfl)
theorem dX6_draw_25 : decode cX6_draw 25 = .ok (.bipush 8, 2) := dk_16 8 (dk_at dksX6_draw_1 3 rfl rfl)
theorem dX6_draw_27 : decode cX6_draw 27 = .ok (.iaload, 1) := dk_46 (dk_at dksX6_draw_1 5 rfl rfl)
theorem dX6_draw_28 : decode cX6_draw 28 = .ok (.bipush 16, 2) := dk_16 16 (dk_at dksX6_draw_1 6 rfl rfl)
theorem dX6_draw_30 : decode cX6_draw 30 = .ok (.iushr, 1) := dk_124 (dk_at dksX6_draw_1 8 rfl rfl)
theorem dX6_draw_31 : decode cX6_draw 31 = .ok (.sipush 32767, 3) := dk_17 127 255 (dk_at dksX6_draw_1 9 rfl rfl)
theorem dX6_draw_34 : decode cX6_draw 34 = .ok (.iand, 1) := dk_126 (dk_at dksX6_draw_1 12 rfl rfl)
theorem dX6_draw_35 : decode cX6_draw 35 = .ok (.iload_n 1, 1) := dk_27 (dk_at dksX6_draw_1 13 rfl rfl)
theorem dX6_draw_36 : decode cX6_draw 36 = .ok (.irem, 1) := dk_112 (dk_at dksX6_draw_1 14 rfl rfl)
theorem dX6_draw_37 : decode cX6_draw 37 = .ok (.ireturn, 1) := dk_172 (dk_at dksX6_draw_1 15 rfl rfl)
abbrev cX6_dawns : ByteArray := prog_19_method_54_code
def yX6_dawns : MethodName := ⟨RX6, "dawns", "()V"⟩
def dkwX6_dawns_3 : List UInt8 := [182, 0, 120, 132, 1, 1, 167, 255, 229, 177]
abbrev dktX6_dawns_3 : List UInt8 := dkwX6_dawns_3 ++ []
def dkwX6_dawns_2 : List UInt8 := [60, 27, 42, 180, 0, 7, 6, 46, 162, 0, 23, 42, 27, 7, 42, 27, 7, 182, 0, 66, 5, 108]
abbrev dktX6_dawns_2 : List UInt8 := dkwX6_dawns_2 ++ dktX6_dawns_3
def dkwX6_dawns_1 : List UInt8 := [5, 16, 40, 42, 27, 5, 182, 0, 48, 4, 96, 184, 1, 2, 182, 0, 138, 132, 1, 1, 167, 255, 214, 3]
abbrev dktX6_dawns_1 : List UInt8 := dkwX6_dawns_1 ++ dktX6_dawns_2
def dkwX6_dawns_0 : List UInt8 := [3, 60, 27, 42, 180, 0, 7, 7, 46, 162, 0, 38, 42, 27, 6, 182, 0, 48, 5, 162, 0, 22, 42, 27]
abbrev dktX6_dawns_0 : List UInt8 := dkwX6_dawns_0 ++ dktX6_dawns_1
theorem dksX6_dawns_0 : cX6_dawns.data.toList.drop 0 = dktX6_dawns_0 := by decide +kernel
theorem dksX6_dawns_1 : cX6_dawns.data.toList.drop 24 = dktX6_dawns_1 := dk_seg dksX6_dawns_0 24 rfl rfl
theorem dksX6_dawns_2 : cX6_dawns.data.toList.drop 48 = dktX6_dawns_2 := dk_seg dksX6_dawns_1 24 rfl rfl
theorem dksX6_dawns_3 : cX6_dawns.data.toList.drop 70 = dktX6_dawns_3 := dk_seg dksX6_dawns_2 22 rfl rfl
theorem dX6_dawns_0 : decode cX6_dawns 0 = .ok (.iconst 0, 1) := dk_3 (dk_at dksX6_dawns_0 0 rfl rfl)
theorem dX6_dawns_1 : decode cX6_dawns 1 = .ok (.istore_n 1, 1) := dk_60 (dk_at dksX6_dawns_0 1 rfl rfl)
theorem dX6_dawns_2 : decode cX6_dawns 2 = .ok (.iload_n 1, 1) := dk_27 (dk_at dksX6_dawns_0 2 rfl rfl)
theorem dX6_dawns_3 : decode cX6_dawns 3 = .ok (.aload_n 0, 1) := dk_42 (dk_at dksX6_dawns_0 3 rfl rfl)
theorem dX6_dawns_4 : decode cX6_dawns 4 = .ok (.getfield 7, 3) := dk_180 0 7 (dk_at dksX6_dawns_0 4 rfl rfl)
theorem dX6_dawns_7 : decode cX6_dawns 7 = .ok (.iconst 4, 1) := dk_7 (dk_at dksX6_dawns_0 7 rfl rfl)
theorem dX6_dawns_8 : decode cX6_dawns 8 = .ok (.iaload, 1) := dk_46 (dk_at dksX6_dawns_0 8 rfl rfl)
theorem dX6_dawns_9 : decode cX6_dawns 9 = .ok (.if_icmp .ge 38, 3) := dk_162 0 38 (dk_at dksX6_dawns_0 9 rfl rfl)
theorem dX6_dawns_12 : decode cX6_dawns 12 = .ok (.aload_n 0, 1) := dk_42 (dk_at dksX6_dawns_0 12 rfl rfl)
theorem dX6_dawns_13 : decode cX6_dawns 13 = .ok (.iload_n 1, 1) := dk_27 (dk_at dksX6_dawns_0 13 rfl rfl)
theorem dX6_dawns_14 : decode cX6_dawns 14 = .ok (.iconst 3, 1) := dk_6 (dk_at dksX6_dawns_0 14 rfl rfl)
theorem dX6_dawns_15 : decode cX6_dawns 15 = .ok (.invokevirtual 48, 3) := dk_182 0 48 (dk_at dksX6_dawns_0 15 rfl rfl)
theorem dX6_dawns_18 : decode cX6_dawns 18 = .ok (.iconst 2, 1) := dk_5 (dk_at dksX6_dawns_0 18 rfl rfl)
theorem dX6_dawns_19 : decode cX6_dawns 19 = .ok (.if_icmp .ge 22, 3) := dk_162 0 22 (dk_at dksX6_dawns_0 19 rfl rfl)
theorem dX6_dawns_22 : decode cX6_dawns 22 = .ok (.aload_n 0, 1) := dk_42 (dk_at dksX6_dawns_0 22 rfl rfl)
theorem dX6_dawns_23 : decode cX6_dawns 23 = .ok (.iload_n 1, 1) := dk_27 (dk_at dksX6_dawns_0 23 rfl rfl)
theorem dX6_dawns_24 : decode cX6_dawns 24 = .ok (.iconst 2, 1) := dk_5 (dk_at dksX6_dawns_1 0 rfl rfl)
theorem dX6_dawns_25 : decode cX6_dawns 25 = .ok (.bipush 40, 2) := dk_16 40 (dk_at dksX6_dawns_1 1 rfl rfl)
theorem dX6_dawns_27 : decode cX6_dawns 27 = .ok (.aload_n 0, 1) := dk_42 (dk_at dksX6_dawns_1 3 rfl rfl)
theorem dX6_dawns_28 : decode cX6_dawns 28 = .ok (.iload_n 1, 1) := dk_27 (dk_at dksX6_dawns_1 4 rfl rfl)
theorem dX6_dawns_29 : decode cX6_dawns 29 = .ok (.iconst 2, 1) := dk_5 (dk_at dksX6_dawns_1 5 rfl rfl)
theorem dX6_dawns_30 : decode cX6_dawns 30 = .ok (.invokevirtual 48, 3) := dk_182 0 48 (dk_at dksX6_dawns_1 6 rfl rfl)
theorem dX6_dawns_33 : decode cX6_dawns 33 = .ok (.iconst 1, 1) := dk_4 (dk_at dksX6_dawns_1 9 rfl rfl)
theorem dX6_dawns_34 : decode cX6_dawns 34 = .ok (.iadd, 1) := dk_96 (dk_at dksX6_dawns_1 10 rfl rfl)
theorem dX6_dawns_35 : decode cX6_dawns 35 = .ok (.invokestatic 258, 3) := dk_184 1 2 (dk_at dksX6_dawns_1 11 rfl rfl)
theorem dX6_dawns_38 : decode cX6_dawns 38 = .ok (.invokevirtual 138, 3) := dk_182 0 138 (dk_at dksX6_dawns_1 14 rfl rfl)
theorem dX6_dawns_41 : decode cX6_dawns 41 = .ok (.iinc 1 1, 3) := dk_132 1 1 (dk_at dksX6_dawns_1 17 rfl rfl)
theorem dX6_dawns_44 : decode cX6_dawns 44 = .ok (.goto (-42), 3) := dk_167 255 214 (dk_at dksX6_dawns_1 20 rfl rfl)
theorem dX6_dawns_47 : decode cX6_dawns 47 = .ok (.iconst 0, 1) := dk_3 (dk_at dksX6_dawns_1 23 rfl rfl)
theorem dX6_dawns_48 : decode cX6_dawns 48 = .ok (.istore_n 1, 1) := dk_60 (dk_at dksX6_dawns_2 0 rfl rfl)
theorem dX6_dawns_49 : decode cX6_dawns 49 = .ok (.iload_n 1, 1) := dk_27 (dk_at dksX6_dawns_2 1 rfl rfl)
theorem dX6_dawns_50 : decode cX6_dawns 50 = .ok (.aload_n 0, 1) := dk_42 (dk_at dksX6_dawns_2 2 rfl rfl)
theorem dX6_dawns_51 : decode cX6_dawns 51 = .ok (.getfield 7, 3) := dk_180 0 7 (dk_at dksX6_dawns_2 3 rfl rfl)
theorem dX6_dawns_54 : decode cX6_dawns 54 = .ok (.iconst 3, 1) := dk_6 (dk_at dksX6_dawns_2 6 rfl rfl)
theorem dX6_dawns_55 : decode cX6_dawns 55 = .ok (.iaload, 1) := dk_46 (dk_at dksX6_dawns_2 7 rfl rfl)
theorem dX6_dawns_56 : decode cX6_dawns 56 = .ok (.if_icmp .ge 23, 3) := dk_162 0 23 (dk_at dksX6_dawns_2 8 rfl rfl)
theorem dX6_dawns_59 : decode cX6_dawns 59 = .ok (.aload_n 0, 1) := dk_42 (dk_at dksX6_dawns_2 11 rfl rfl)
theorem dX6_dawns_60 : decode cX6_dawns 60 = .ok (.iload_n 1, 1) := dk_27 (dk_at dksX6_dawns_2 12 rfl rfl)
theorem dX6_dawns_61 : decode cX6_dawns 61 = .ok (.iconst 4, 1) := dk_7 (dk_at dksX6_dawns_2 13 rfl rfl)
theorem dX6_dawns_62 : decode cX6_dawns 62 = .ok (.aload_n 0, 1) := dk_42 (dk_at dksX6_dawns_2 14 rfl rfl)
theorem dX6_dawns_63 : decode cX6_dawns 63 = .ok (.iload_n 1, 1) := dk_27 (dk_at dksX6_dawns_2 15 rfl rfl)
theorem dX6_dawns_64 : decode cX6_dawns 64 = .ok (.iconst 4, 1) := dk_7 (dk_at dksX6_dawns_2 16 rfl rfl)
theorem dX6_dawns_65 : decode cX6_dawns 65 = .ok (.invokevirtual 66, 3) := dk_182 0 66 (dk_at dksX6_dawns_2 17 rfl rfl)
theorem dX6_dawns_68 : decode cX6_dawns 68 = .ok (.iconst 2, 1) := dk_5 (dk_at dksX6_dawns_2 20 rfl rfl)
theorem dX6_dawns_69 : decode cX6_dawns 69 = .ok (.idiv, 1) := dk_108 (dk_at dksX6_dawns_2 21 rfl rfl)
theorem dX6_dawns_70 : decode cX6_dawns 70 = .ok (.invokevirtual 120, 3) := dk_182 0 120 (dk_at dksX6_dawns_3 0 rfl rfl)
theorem dX6_dawns_73 : decode cX6_dawns 73 = .ok (.iinc 1 1, 3) := dk_132 1 1 (dk_at dksX6_dawns_3 3 rfl rfl)
theorem dX6_dawns_76 : decode cX6_dawns 76 = .ok (.goto (-27), 3) := dk_167 255 229 (dk_at dksX6_dawns_3 6 rfl rfl)
theorem dX6_dawns_79 : decode cX6_dawns 79 = .ok (.return_, 1) := dk_177 (dk_at dksX6_dawns_3 9 rfl rfl)
abbrev cX6_way : ByteArray := prog_19_method_75_code
def yX6_way : MethodName := ⟨RX6, "way", "(II)I"⟩
def dkwX6_way_1 : List UInt8 := [42, 180, 0, 41, 158, 0, 7, 3, 167, 0, 9, 42, 27, 28, 182, 1, 51, 172]
abbrev dktX6_way_1 : List UInt8 := dkwX6_way_1 ++ []
def dkwX6_way_0 : List UInt8 := [42, 42, 27, 182, 1, 20, 153, 0, 10, 28, 184, 1, 29, 154, 0, 7, 4, 167, 0, 4, 3, 181, 0, 41]
abbrev dktX6_way_0 : List UInt8 := dkwX6_way_0 ++ dktX6_way_1
theorem dksX6_way_0 : cX6_way.data.toList.drop 0 = dktX6_way_0 := by decide +kernel
theorem dksX6_way_1 : cX6_way.data.toList.drop 24 = dktX6_way_1 := dk_seg dksX6_way_0 24 rfl rfl
theorem dX6_way_0 : decode cX6_way 0 = .ok (.aload_n 0, 1) := dk_42 (dk_at dksX6_way_0 0 rfl rfl)
theorem dX6_way_1 : decode cX6_way 1 = .ok (.aload_n 0, 1) := dk_42 (dk_at dksX6_way_0 1 rfl rfl)
theorem dX6_way_2 : decode cX6_way 2 = .ok (.iload_n 1, 1) := dk_27 (dk_at dksX6_way_0 2 rfl rfl)
theorem dX6_way_3 : decode cX6_way 3 = .ok (.invokevirtual 276, 3) := dk_182 1 20 (dk_at dksX6_way_0 3 rfl rfl)
theorem dX6_way_6 : decode cX6_way 6 = .ok (.ifCond .eq 10, 3) := dk_153 0 10 (dk_at dksX6_way_0 6 rfl rfl)
theorem dX6_way_9 : decode cX6_way 9 = .ok (.iload_n 2, 1) := dk_28 (dk_at dksX6_way_0 9 rfl rfl)
theorem dX6_way_10 : decode cX6_way 10 = .ok (.invokestatic 285, 3) := dk_184 1 29 (dk_at dksX6_way_0 10 rfl rfl)
theorem dX6_way_13 : decode cX6_way 13 = .ok (.ifCond .ne 7, 3) := dk_154 0 7 (dk_at dksX6_way_0 13 rfl rfl)
theorem dX6_way_16 : decode cX6_way 16 = .ok (.iconst 1, 1) := dk_4 (dk_at dksX6_way_0 16 rfl rfl)
theorem dX6_way_17 : decode cX6_way 17 = .ok (.goto 4, 3) := dk_167 0 4 (dk_at dksX6_way_0 17 rfl rfl)
theorem dX6_way_20 : decode cX6_way 20 = .ok (.iconst 0, 1) := dk_3 (dk_at dksX6_way_0 20 rfl rfl)
theorem dX6_way_21 : decode cX6_way 21 = .ok (.putfield 41, 3) := dk_181 0 41 (dk_at dksX6_way_0 21 rfl rfl)
theorem dX6_way_24 : decode cX6_way 24 = .ok (.aload_n 0, 1) := dk_42 (dk_at dksX6_way_1 0 rfl rfl)
theorem dX6_way_25 : decode cX6_way 25 = .ok (.getfield 41, 3) := dk_180 0 41 (dk_at dksX6_way_1 1 rfl rfl)
theorem dX6_way_28 : decode cX6_way 28 = .ok (.ifCond .le 7, 3) := dk_158 0 7 (dk_at dksX6_way_1 4 rfl rfl)
theorem dX6_way_31 : decode cX6_way 31 = .ok (.iconst 0, 1) := dk_3 (dk_at dksX6_way_1 7 rfl rfl)
theorem dX6_way_32 : decode cX6_way 32 = .ok (.goto 9, 3) := dk_167 0 9 (dk_at dksX6_way_1 8 rfl rfl)
theorem dX6_way_35 : decode cX6_way 35 = .ok (.aload_n 0, 1) := dk_42 (dk_at dksX6_way_1 11 rfl rfl)
theorem dX6_way_36 : decode cX6_way 36 = .ok (.iload_n 1, 1) := dk_27 (dk_at dksX6_way_1 12 rfl rfl)
theorem dX6_way_37 : decode cX6_way 37 = .ok (.iload_n 2, 1) := dk_28 (dk_at dksX6_way_1 13 rfl rfl)
theorem dX6_way_38 : decode cX6_way 38 = .ok (.invokevirtual 307, 3) := dk_182 1 51 (dk_at dksX6_way_1 14 rfl rfl)
theorem dX6_way_41 : decode cX6_way 41 = .ok (.ireturn, 1) := dk_172 (dk_at dksX6_way_1 17 rfl rfl)
abbrev cX6_wayOf : ByteArray := prog_19_method_74_code
def yX6_wayOf : MethodName := ⟨RX6, "wayOf", "(II)I"⟩
def dkwX6_wayOf_3 : List UInt8 := [21, 6, 96, 46, 104, 96, 96, 54, 4, 21, 6, 54, 5, 167, 255, 191, 21, 4, 172]
abbrev dktX6_wayOf_3 : List UInt8 := dkwX6_wayOf_3 ++ []
def dkwX6_wayOf_2 : List UInt8 := [21, 6, 182, 1, 8, 154, 0, 5, 2, 172, 21, 4, 4, 29, 16, 10, 108, 42, 180, 0, 7, 16, 9]
abbrev dktX6_wayOf_2 : List UInt8 := dkwX6_wayOf_2 ++ dktX6_wayOf_3
def dkwX6_wayOf_1 : List UInt8 := [21, 5, 28, 162, 0, 10, 21, 5, 4, 96, 167, 0, 7, 21, 5, 4, 100, 54, 6, 42, 29, 21, 5]
abbrev dktX6_wayOf_1 : List UInt8 := dkwX6_wayOf_1 ++ dktX6_wayOf_2
def dkwX6_wayOf_0 : List UInt8 := [42, 27, 182, 0, 63, 62, 3, 54, 4, 42, 27, 5, 182, 0, 66, 54, 5, 21, 5, 28, 159, 0, 65]
abbrev dktX6_wayOf_0 : List UInt8 := dkwX6_wayOf_0 ++ dktX6_wayOf_1
theorem dksX6_wayOf_0 : cX6_wayOf.data.toList.drop 0 = dktX6_wayOf_0 := by decide +kernel
theorem dksX6_wayOf_1 : cX6_wayOf.data.toList.drop 23 = dktX6_wayOf_1 := dk_seg dksX6_wayOf_0 23 rfl rfl
theorem dksX6_wayOf_2 : cX6_wayOf.data.toList.drop 46 = dktX6_wayOf_2 := dk_seg dksX6_wayOf_1 23 rfl rfl
theorem dksX6_wayOf_3 : cX6_wayOf.data.toList.drop 69 = dktX6_wayOf_3 := dk_seg dksX6_wayOf_2 23 rfl rfl
theorem dX6_wayOf_0 : decode cX6_wayOf 0 = .ok (.aload_n 0, 1) := dk_42 (dk_at dksX6_wayOf_0 0 rfl rfl)
theorem dX6_wayOf_1 : decode cX6_wayOf 1 = .ok (.iload_n 1, 1) := dk_27 (dk_at dksX6_wayOf_0 1 rfl rfl)
theorem dX6_wayOf_2 : decode cX6_wayOf 2 = .ok (.invokevirtual 63, 3) := dk_182 0 63 (dk_at dksX6_wayOf_0 2 rfl rfl)
theorem dX6_wayOf_5 : decode cX6_wayOf 5 = .ok (.istore_n 3, 1) := dk_62 (dk_at dksX6_wayOf_0 5 rfl rfl)
theorem dX6_wayOf_6 : decode cX6_wayOf 6 = .ok (.iconst 0, 1) := dk_3 (dk_at dksX6_wayOf_0 6 rfl rfl)
theorem dX6_wayOf_7 : decode cX6_wayOf 7 = .ok (.istore 4, 2) := dk_54 4 (dk_at dksX6_wayOf_0 7 rfl rfl)
theorem dX6_wayOf_9 : decode cX6_wayOf 9 = .ok (.aload_n 0, 1) := dk_42 (dk_at dksX6_wayOf_0 9 rfl rfl)
theorem dX6_wayOf_10 : decode cX6_wayOf 10 = .ok (.iload_n 1, 1) := dk_27 (dk_at dksX6_wayOf_0 10 rfl rfl)
theorem dX6_wayOf_11 : decode cX6_wayOf 11 = .ok (.iconst 2, 1) := dk_5 (dk_at dksX6_wayOf_0 11 rfl rfl)
theorem dX6_wayOf_12 : decode cX6_wayOf 12 = .ok (.invokevirtual 66, 3) := dk_182 0 66 (dk_at dksX6_wayOf_0 12 rfl rfl)
theorem dX6_wayOf_15 : decode cX6_wayOf 15 = .ok (.istore 5, 2) := dk_54 5 (dk_at dksX6_wayOf_0 15 rfl rfl)
theorem dX6_wayOf_17 : decode cX6_wayOf 17 = .ok (.iload 5, 2) := dk_21 5 (dk_at dksX6_wayOf_0 17 rfl rfl)
theorem dX6_wayOf_19 : decode cX6_wayOf 19 = .ok (.iload_n 2, 1) := dk_28 (dk_at dksX6_wayOf_0 19 rfl rfl)
theorem dX6_wayOf_20 : decode cX6_wayOf 20 = .ok (.if_icmp .eq 65, 3) := dk_159 0 65 (dk_at dksX6_wayOf_0 20 rfl rfl)
theorem dX6_wayOf_23 : decode cX6_wayOf 23 = .ok (.iload 5, 2) := dk_21 5 (dk_at dksX6_wayOf_1 0 rfl rfl)
theorem dX6_wayOf_25 : decode cX6_wayOf 25 = .ok (.iload_n 2, 1) := dk_28 (dk_at dksX6_wayOf_1 2 rfl rfl)
theorem dX6_wayOf_26 : decode cX6_wayOf 26 = .ok (.if_icmp .ge 10, 3) := dk_162 0 10 (dk_at dksX6_wayOf_1 3 rfl rfl)
theorem dX6_wayOf_29 : decode cX6_wayOf 29 = .ok (.iload 5, 2) := dk_21 5 (dk_at dksX6_wayOf_1 6 rfl rfl)
theorem dX6_wayOf_31 : decode cX6_wayOf 31 = .ok (.iconst 1, 1) := dk_4 (dk_at dksX6_wayOf_1 8 rfl rfl)
theorem dX6_wayOf_32 : decode cX6_wayOf 32 = .ok (.iadd, 1) := dk_96 (dk_at dksX6_wayOf_1 9 rfl rfl)
theorem dX6_wayOf_33 : decode cX6_wayOf 33 = .ok (.goto 7, 3) := dk_167 0 7 (dk_at dksX6_wayOf_1 10 rfl rfl)
theorem dX6_wayOf_36 : decode cX6_wayOf 36 = .ok (.iload 5, 2) := dk_21 5 (dk_at dksX6_wayOf_1 13 rfl rfl)
theorem dX6_wayOf_38 : decode cX6_wayOf 38 = .ok (.iconst 1, 1) := dk_4 (dk_at dksX6_wayOf_1 15 rfl rfl)
theorem dX6_wayOf_39 : decode cX6_wayOf 39 = .ok (.isub, 1) := dk_100 (dk_at dksX6_wayOf_1 16 rfl rfl)
theorem dX6_wayOf_40 : decode cX6_wayOf 40 = .ok (.istore 6, 2) := dk_54 6 (dk_at dksX6_wayOf_1 17 rfl rfl)
theorem dX6_wayOf_42 : decode cX6_wayOf 42 = .ok (.aload_n 0, 1) := dk_42 (dk_at dksX6_wayOf_1 19 rfl rfl)
theorem dX6_wayOf_43 : decode cX6_wayOf 43 = .ok (.iload_n 3, 1) := dk_29 (dk_at dksX6_wayOf_1 20 rfl rfl)
theorem dX6_wayOf_44 : decode cX6_wayOf 44 = .ok (.iload 5, 2) := dk_21 5 (dk_at dksX6_wayOf_1 21 rfl rfl)
theorem dX6_wayOf_46 : decode cX6_wayOf 46 = .ok (.iload 6, 2) := dk_21 6 (dk_at dksX6_wayOf_2 0 rfl rfl)
theorem dX6_wayOf_48 : decode cX6_wayOf 48 = .ok (.invokevirtual 264, 3) := dk_182 1 8 (dk_at dksX6_wayOf_2 2 rfl rfl)
theorem dX6_wayOf_51 : decode cX6_wayOf 51 = .ok (.ifCond .ne 5, 3) := dk_154 0 5 (dk_at dksX6_wayOf_2 5 rfl rfl)
theorem dX6_wayOf_54 : decode cX6_wayOf 54 = .ok (.iconst (-1), 1) := dk_2 (dk_at dksX6_wayOf_2 8 rfl rfl)
theorem dX6_wayOf_55 : decode cX6_wayOf 55 = .ok (.ireturn, 1) := dk_172 (dk_at dksX6_wayOf_2 9 rfl rfl)
theorem dX6_wayOf_56 : decode cX6_wayOf 56 = .ok (.iload 4, 2) := dk_21 4 (dk_at dksX6_wayOf_2 10 rfl rfl)
theorem dX6_wayOf_58 : decode cX6_wayOf 58 = .ok (.iconst 1, 1) := dk_4 (dk_at dksX6_wayOf_2 12 rfl rfl)
theorem dX6_wayOf_59 : decode cX6_wayOf 59 = .ok (.iload_n 3, 1) := dk_29 (dk_at dksX6_wayOf_2 13 rfl rfl)
theorem dX6_wayOf_60 : decode cX6_wayOf 60 = .ok (.bipush 10, 2) := dk_16 10 (dk_at dksX6_wayOf_2 14 rfl rfl)
theorem dX6_wayOf_62 : decode cX6_wayOf 62 = .ok (.idiv, 1) := dk_108 (dk_at dksX6_wayOf_2 16 rfl rfl)
theorem dX6_wayOf_63 : decode cX6_wayOf 63 = .ok (.aload_n 0, 1) := dk_42 (dk_at dksX6_wayOf_2 17 rfl rfl)
theorem dX6_wayOf_64 : decode cX6_wayOf 64 = .ok (.getfield 7, 3) := dk_180 0 7 (dk_at dksX6_wayOf_2 18 rfl rfl)
theorem dX6_wayOf_67 : decode cX6_wayOf 67 = .ok (.bipush 9, 2) := dk_16 9 (dk_at dksX6_wayOf_2 21 rfl rfl)
theorem dX6_wayOf_69 : decode cX6_wayOf 69 = .ok (.iload 6, 2) := dk_21 6 (dk_at dksX6_wayOf_3 0 rfl rfl)
theorem dX6_wayOf_71 : decode cX6_wayOf 71 = .ok (.iadd, 1) := dk_96 (dk_at dksX6_wayOf_3 2 rfl rfl)
theorem dX6_wayOf_72 : decode cX6_wayOf 72 = .ok (.iaload, 1) := dk_46 (dk_at dksX6_wayOf_3 3 rfl rfl)
theorem dX6_wayOf_73 : decode cX6_wayOf 73 = .ok (.imul, 1) := dk_104 (dk_at dksX6_wayOf_3 4 rfl rfl)
theorem dX6_wayOf_74 : decode cX6_wayOf 74 = .ok (.iadd, 1) := dk_96 (dk_at dksX6_wayOf_3 5 rfl rfl)
theorem dX6_wayOf_75 : decode cX6_wayOf 75 = .ok (.iadd, 1) := dk_96 (dk_at dksX6_wayOf_3 6 rfl rfl)
theorem dX6_wayOf_76 : decode cX6_wayOf 76 = .ok (.istore 4, 2) := dk_54 4 (dk_at dksX6_wayOf_3 7 rfl rfl)
theorem dX6_wayOf_78 : decode cX6_wayOf 78 = .ok (.iload 6, 2) := dk_21 6 (dk_at dksX6_wayOf_3 9 rfl rfl)
theorem dX6_wayOf_80 : decode cX6_wayOf 80 = .ok (.istore 5, 2) := dk_54 5 (dk_at dksX6_wayOf_3 11 rfl rfl)
theorem dX6_wayOf_82 : decode cX6_wayOf 82 = .ok (.goto (-65), 3) := dk_167 255 191 (dk_at dksX6_wayOf_3 13 rfl rfl)
theorem dX6_wayOf_85 : decode cX6_wayOf 85 = .ok (.iload 4, 2) := dk_21 4 (dk_at dksX6_wayOf_3 16 rfl rfl)
theorem dX6_wayOf_87 : decode cX6_wayOf 87 = .ok (.ireturn, 1) := dk_172 (dk_at dksX6_wayOf_3 18 rfl rfl)
abbrev cX6_soonest : ByteArray := prog_19_method_76_code
def yX6_soonest : MethodName := ⟨RX6, "soonest", "(I)I"⟩
def dkwX6_soonest_4 : List UInt8 := [3, 167, 0, 4, 28, 172]
abbrev dktX6_soonest_4 : List UInt8 := dkwX6_soonest_4 ++ []
def dkwX6_soonest_3 : List UInt8 := [42, 28, 27, 182, 1, 51, 162, 0, 5, 29, 61, 132, 3, 1, 167, 255, 192, 42, 180, 0, 41, 158, 0, 7]
abbrev dktX6_soonest_3 : List UInt8 := dkwX6_soonest_3 ++ dktX6_soonest_4
def dkwX6_soonest_2 : List UInt8 := [167, 0, 9, 42, 29, 27, 182, 1, 51, 54, 4, 21, 4, 2, 159, 0, 21, 28, 2, 159, 0, 14, 21, 4]
abbrev dktX6_soonest_2 : List UInt8 := dkwX6_soonest_2 ++ dktX6_soonest_3
def dkwX6_soonest_1 : List UInt8 := [180, 0, 7, 6, 46, 162, 0, 60, 42, 180, 0, 41, 154, 0, 53, 42, 29, 182, 1, 5, 153, 0, 7, 2]
abbrev dktX6_soonest_1 : List UInt8 := dkwX6_soonest_1 ++ dktX6_soonest_2
def dkwX6_soonest_0 : List UInt8 := [42, 27, 184, 1, 29, 154, 0, 7, 4, 167, 0, 4, 3, 181, 0, 41, 2, 61, 3, 62, 29, 42]
abbrev dktX6_soonest_0 : List UInt8 := dkwX6_soonest_0 ++ dktX6_soonest_1
theorem dksX6_soonest_0 : cX6_soonest.data.toList.drop 0 = dktX6_soonest_0 := by decide +kernel
theorem dksX6_soonest_1 : cX6_soonest.data.toList.drop 22 = dktX6_soonest_1 := dk_seg dksX6_soonest_0 22 rfl rfl
theorem dksX6_soonest_2 : cX6_soonest.data.toList.drop 46 = dktX6_soonest_2 := dk_seg dksX6_soonest_1 24 rfl rfl
theorem dksX6_soonest_3 : cX6_soonest.data.toList.drop 70 = dktX6_soonest_3 := dk_seg dksX6_soonest_2 24 rfl rfl
theorem dksX6_soonest_4 : cX6_soonest.data.toList.drop 94 = dktX6_soonest_4 := dk_seg dksX6_soonest_3 24 rfl rfl
theorem dX6_soonest_0 : decode cX6_soonest 0 = .ok (.aload_n 0, 1) := dk_42 (dk_at dksX6_soonest_0 0 rfl rfl)
theorem dX6_soonest_1 : decode cX6_soonest 1 = .ok (.iload_n 1, 1) := dk_27 (dk_at dksX6_soonest_0 1 rfl rfl)
theorem dX6_soonest_2 : decode cX6_soonest 2 = .ok (.invokestatic 285, 3) := dk_184 1 29 (dk_at dksX6_soonest_0 2 rfl rfl)
theorem dX6_soonest_5 : decode cX6_soonest 5 = .ok (.ifCond .ne 7, 3) := dk_154 0 7 (dk_at dksX6_soonest_0 5 rfl rfl)
theorem dX6_soonest_8 : decode cX6_soonest 8 = .ok (.iconst 1, 1) := dk_4 (dk_at dksX6_soonest_0 8 rfl rfl)
theorem dX6_soonest_9 : decode cX6_soonest 9 = .ok (.goto 4, 3) := dk_167 0 4 (dk_at dksX6_soonest_0 9 rfl rfl)
theorem dX6_soonest_12 : decode cX6_soonest 12 = .ok (.iconst 0, 1) := dk_3 (dk_at dksX6_soonest_0 12 rfl rfl)
theorem dX6_soonest_13 : decode cX6_soonest 13 = .ok (.putfield 41, 3) := dk_181 0 41 (dk_at dksX6_soonest_0 13 rfl rfl)
theorem dX6_soonest_16 : decode cX6_soonest 16 = .ok (.iconst (-1), 1) := dk_2 (dk_at dksX6_soonest_0 16 rfl rfl)
theorem dX6_soonest_17 : decode cX6_soonest 17 = .ok (.istore_n 2, 1) := dk_61 (dk_at dksX6_soonest_0 17 rfl rfl)
theorem dX6_soonest_18 : decode cX6_soonest 18 = .ok (.iconst 0, 1) := dk_3 (dk_at dksX6_soonest_0 18 rfl rfl)
theorem dX6_soonest_19 : decode cX6_soonest 19 = .ok (.istore_n 3, 1) := dk_62 (dk_at dksX6_soonest_0 19 rfl rfl)
theorem dX6_soonest_20 : decode cX6_soonest 20 = .ok (.iload_n 3, 1) := dk_29 (dk_at dksX6_soonest_0 20 rfl rfl)
theorem dX6_soonest_21 : decode cX6_soonest 21 = .ok (.aload_n 0, 1) := dk_42 (dk_at dksX6_soonest_0 21 rfl rfl)
theorem dX6_soonest_22 : decode cX6_soonest 22 = .ok (.getfield 7, 3) := dk_180 0 7 (dk_at dksX6_soonest_1 0 rfl rfl)
theorem dX6_soonest_25 : decode cX6_soonest 25 = .ok (.iconst 3, 1) := dk_6 (dk_at dksX6_soonest_1 3 rfl rfl)
theorem dX6_soonest_26 : decode cX6_soonest 26 = .ok (.iaload, 1) := dk_46 (dk_at dksX6_soonest_1 4 rfl rfl)
theorem dX6_soonest_27 : decode cX6_soonest 27 = .ok (.if_icmp .ge 60, 3) := dk_162 0 60 (dk_at dksX6_soonest_1 5 rfl rfl)
theorem dX6_soonest_30 : decode cX6_soonest 30 = .ok (.aload_n 0, 1) := dk_42 (dk_at dksX6_soonest_1 8 rfl rfl)
theorem dX6_soonest_31 : decode cX6_soonest 31 = .ok (.getfield 41, 3) := dk_180 0 41 (dk_at dksX6_soonest_1 9 rfl rfl)
theorem dX6_soonest_34 : decode cX6_soonest 34 = .ok (.ifCond .ne 53, 3) := dk_154 0 53 (dk_at dksX6_soonest_1 12 rfl rfl)
theorem dX6_soonest_37 : decode cX6_soonest 37 = .ok (.aload_n 0, 1) := dk_42 (dk_at dksX6_soonest_1 15 rfl rfl)
theorem dX6_soonest_38 : decode cX6_soonest 38 = .ok (.iload_n 3, 1) := dk_29 (dk_at dksX6_soonest_1 16 rfl rfl)
theorem dX6_soonest_39 : decode cX6_soonest 39 = .ok (.invokevirtual 261, 3) := dk_182 1 5 (dk_at dksX6_soonest_1 17 rfl rfl)
theorem dX6_soonest_42 : decode cX6_soonest 42 = .ok (.ifCond .eq 7, 3) := dk_153 0 7 (dk_at dksX6_soonest_1 20 rfl rfl)
theorem dX6_soonest_45 : decode cX6_soonest 45 = .ok (.iconst (-1), 1) := dk_2 (dk_at dksX6_soonest_1 23 rfl rfl)
theorem dX6_soonest_46 : decode cX6_soonest 46 = .ok (.goto 9, 3) := dk_167 0 9 (dk_at dksX6_soonest_2 0 rfl rfl)
theorem dX6_soonest_49 : decode cX6_soonest 49 = .ok (.aload_n 0, 1) := dk_42 (dk_at dksX6_soonest_2 3 rfl rfl)
theorem dX6_soonest_50 : decode cX6_soonest 50 = .ok (.iload_n 3, 1) := dk_29 (dk_at dksX6_soonest_2 4 rfl rfl)
theorem dX6_soonest_51 : decode cX6_soonest 51 = .ok (.iload_n 1, 1) := dk_27 (dk_at dksX6_soonest_2 5 rfl rfl)
theorem dX6_soonest_52 : decode cX6_soonest 52 = .ok (.invokevirtual 307, 3) := dk_182 1 51 (dk_at dksX6_soonest_2 6 rfl rfl)
theorem dX6_soonest_55 : decode cX6_soonest 55 = .ok (.istore 4, 2) := dk_54 4 (dk_at dksX6_soonest_2 9 rfl rfl)
theorem dX6_soonest_57 : decode cX6_soonest 57 = .ok (.iload 4, 2) := dk_21 4 (dk_at dksX6_soonest_2 11 rfl rfl)
theorem dX6_soonest_59 : decode cX6_soonest 59 = .ok (.iconst (-1), 1) := dk_2 (dk_at dksX6_soonest_2 13 rfl rfl)
theorem dX6_soonest_60 : decode cX6_soonest 60 = .ok (.if_icmp .eq 21, 3) := dk_159 0 21 (dk_at dksX6_soonest_2 14 rfl rfl)
theorem dX6_soonest_63 : decode cX6_soonest 63 = .ok (.iload_n 2, 1) := dk_28 (dk_at dksX6_soonest_2 17 rfl rfl)
theorem dX6_soonest_64 : decode cX6_soonest 64 = .ok (.iconst (-1), 1) := dk_2 (dk_at dksX6_soonest_2 18 rfl rfl)
theorem dX6_soonest_65 : decode cX6_soonest 65 = .ok (.if_icmp .eq 14, 3) := dk_159 0 14 (dk_at dksX6_soonest_2 19 rfl rfl)
theorem dX6_soonest_68 : decode cX6_soonest 68 = .ok (.iload 4, 2) := dk_21 4 (dk_at dksX6_soonest_2 22 rfl rfl)
theorem dX6_soonest_70 : decode cX6_soonest 70 = .ok (.aload_n 0, 1) := dk_42 (dk_at dksX6_soonest_3 0 rfl rfl)
theorem dX6_soonest_71 : decode cX6_soonest 71 = .ok (.iload_n 2, 1) := dk_28 (dk_at dksX6_soonest_3 1 rfl rfl)
theorem dX6_soonest_72 : decode cX6_soonest 72 = .ok (.iload_n 1, 1) := dk_27 (dk_at dksX6_soonest_3 2 rfl rfl)
theorem dX6_soonest_73 : decode cX6_soonest 73 = .ok (.invokevirtual 307, 3) := dk_182 1 51 (dk_at dksX6_soonest_3 3 rfl rfl)
theorem dX6_soonest_76 : decode cX6_soonest 76 = .ok (.if_icmp .ge 5, 3) := dk_162 0 5 (dk_at dksX6_soonest_3 6 rfl rfl)
theorem dX6_soonest_79 : decode cX6_soonest 79 = .ok (.iload_n 3, 1) := dk_29 (dk_at dksX6_soonest_3 9 rfl rfl)
theorem dX6_soonest_80 : decode cX6_soonest 80 = .ok (.istore_n 2, 1) := dk_61 (dk_at dksX6_soonest_3 10 rfl rfl)
theorem dX6_soonest_81 : decode cX6_soonest 81 = .ok (.iinc 3 1, 3) := dk_132 3 1 (dk_at dksX6_soonest_3 11 rfl rfl)
theorem dX6_soonest_84 : decode cX6_soonest 84 = .ok (.goto (-64), 3) := dk_167 255 192 (dk_at dksX6_soonest_3 14 rfl rfl)
theorem dX6_soonest_87 : decode cX6_soonest 87 = .ok (.aload_n 0, 1) := dk_42 (dk_at dksX6_soonest_3 17 rfl rfl)
theorem dX6_soonest_88 : decode cX6_soonest 88 = .ok (.getfield 41, 3) := dk_180 0 41 (dk_at dksX6_soonest_3 18 rfl rfl)
theorem dX6_soonest_91 : decode cX6_soonest 91 = .ok (.ifCond .le 7, 3) := dk_158 0 7 (dk_at dksX6_soonest_3 21 rfl rfl)
theorem dX6_soonest_94 : decode cX6_soonest 94 = .ok (.iconst 0, 1) := dk_3 (dk_at dksX6_soonest_4 0 rfl rfl)
theorem dX6_soonest_95 : decode cX6_soonest 95 = .ok (.goto 4, 3) := dk_167 0 4 (dk_at dksX6_soonest_4 1 rfl rfl)
theorem dX6_soonest_98 : decode cX6_soonest 98 = .ok (.iload_n 2, 1) := dk_28 (dk_at dksX6_soonest_4 4 rfl rfl)
theorem dX6_soonest_99 : decode cX6_soonest 99 = .ok (.ireturn, 1) := dk_172 (dk_at dksX6_soonest_4 5 rfl rfl)
abbrev cX6_cross : ByteArray := prog_19_method_77_code
def yX6_cross : MethodName := ⟨RX6, "cross", "(I)Z"⟩
def dkwX6_cross_1 : List UInt8 := [42, 27, 182, 0, 63, 42, 180, 0, 7, 16, 6, 46, 163, 0, 7, 4, 167, 0, 4, 3, 172]
abbrev dktX6_cross_1 : List UInt8 := dkwX6_cross_1 ++ []
def dkwX6_cross_0 : List UInt8 := [42, 42, 27, 182, 1, 20, 154, 0, 7, 4, 167, 0, 4, 3, 181, 0, 41, 42, 180, 0, 41, 154, 0, 22]
abbrev dktX6_cross_0 : List UInt8 := dkwX6_cross_0 ++ dktX6_cross_1
theorem dksX6_cross_0 : cX6_cross.data.toList.drop 0 = dktX6_cross_0 := by decide +kernel
theorem dksX6_cross_1 : cX6_cross.data.toList.drop 24 = dktX6_cross_1 := dk_seg dksX6_cross_0 24 rfl rfl
theorem dX6_cross_0 : decode cX6_cross 0 = .ok (.aload_n 0, 1) := dk_42 (dk_at dksX6_cross_0 0 rfl rfl)
theorem dX6_cross_1 : decode cX6_cross 1 = .ok (.aload_n 0, 1) := dk_42 (dk_at dksX6_cross_0 1 rfl rfl)
theorem dX6_cross_2 : decode cX6_cross 2 = .ok (.iload_n 1, 1) := dk_27 (dk_at dksX6_cross_0 2 rfl rfl)
theorem dX6_cross_3 : decode cX6_cross 3 = .ok (.invokevirtual 276, 3) := dk_182 1 20 (dk_at dksX6_cross_0 3 rfl rfl)
theorem dX6_cross_6 : decode cX6_cross 6 = .ok (.ifCond .ne 7, 3) := dk_154 0 7 (dk_at dksX6_cross_0 6 rfl rfl)
theorem dX6_cross_9 : decode cX6_cross 9 = .ok (.iconst 1, 1) := dk_4 (dk_at dksX6_cross_0 9 rfl rfl)
theorem dX6_cross_10 : decode cX6_cross 10 = .ok (.goto 4, 3) := dk_167 0 4 (dk_at dksX6_cross_0 10 rfl rfl)
theorem dX6_cross_13 : decode cX6_cross 13 = .ok (.iconst 0, 1) := dk_3 (dk_at dksX6_cross_0 13 rfl rfl)
theorem dX6_cross_14 : decode cX6_cross 14 = .ok (.putfield 41, 3) := dk_181 0 41 (dk_at dksX6_cross_0 14 rfl rfl)
theorem dX6_cross_17 : decode cX6_cross 17 = .ok (.aload_n 0, 1) := dk_42 (dk_at dksX6_cross_0 17 rfl rfl)
theorem dX6_cross_18 : decode cX6_cross 18 = .ok (.getfield 41, 3) := dk_180 0 41 (dk_at dksX6_cross_0 18 rfl rfl)
theorem dX6_cross_21 : decode cX6_cross 21 = .ok (.ifCond .ne 22, 3) := dk_154 0 22 (dk_at dksX6_cross_0 21 rfl rfl)
theorem dX6_cross_24 : decode cX6_cross 24 = .ok (.aload_n 0, 1) := dk_42 (dk_at dksX6_cross_1 0 rfl rfl)
theorem dX6_cross_25 : decode cX6_cross 25 = .ok (.iload_n 1, 1) := dk_27 (dk_at dksX6_cross_1 1 rfl rfl)
theorem dX6_cross_26 : decode cX6_cross 26 = .ok (.invokevirtual 63, 3) := dk_182 0 63 (dk_at dksX6_cross_1 2 rfl rfl)
theorem dX6_cross_29 : decode cX6_cross 29 = .ok (.aload_n 0, 1) := dk_42 (dk_at dksX6_cross_1 5 rfl rfl)
theorem dX6_cross_30 : decode cX6_cross 30 = .ok (.getfield 7, 3) := dk_180 0 7 (dk_at dksX6_cross_1 6 rfl rfl)
theorem dX6_cross_33 : decode cX6_cross 33 = .ok (.bipush 6, 2) := dk_16 6 (dk_at dksX6_cross_1 9 rfl rfl)
theorem dX6_cross_35 : decode cX6_cross 35 = .ok (.iaload, 1) := dk_46 (dk_at dksX6_cross_1 11 rfl rfl)
theorem dX6_cross_36 : decode cX6_cross 36 = .ok (.if_icmp .gt 7, 3) := dk_163 0 7 (dk_at dksX6_cross_1 12 rfl rfl)
theorem dX6_cross_39 : decode cX6_cross 39 = .ok (.iconst 1, 1) := dk_4 (dk_at dksX6_cross_1 15 rfl rfl)
theorem dX6_cross_40 : decode cX6_cross 40 = .ok (.goto 4, 3) := dk_167 0 4 (dk_at dksX6_cross_1 16 rfl rfl)
theorem dX6_cross_43 : decode cX6_cross 43 = .ok (.iconst 0, 1) := dk_3 (dk_at dksX6_cross_1 19 rfl rfl)
theorem dX6_cross_44 : decode cX6_cross 44 = .ok (.ireturn, 1) := dk_172 (dk_at dksX6_cross_1 20 rfl rfl)
abbrev cX6_shed : ByteArray := prog_19_method_78_code
def yX6_shed : MethodName := ⟨RX6, "shed", "(I)I"⟩
def dkwX6_shed_5 : List UInt8 := [167, 255, 194, 21, 4, 172]
abbrev dktX6_shed_5 : List UInt8 := dkwX6_shed_5 ++ []
def dkwX6_shed_4 : List UInt8 := [159, 0, 16, 21, 5, 184, 1, 54, 21, 4, 184, 1, 54, 162, 0, 7, 21, 5, 54, 4, 132, 5, 1]
abbrev dktX6_shed_4 : List UInt8 := dkwX6_shed_4 ++ dktX6_shed_5
def dkwX6_shed_3 : List UInt8 := [130, 126, 154, 0, 40, 42, 28, 21, 5, 2, 130, 126, 182, 0, 60, 29, 163, 0, 26, 21, 4, 2]
abbrev dktX6_shed_3 : List UInt8 := dkwX6_shed_3 ++ dktX6_shed_4
def dkwX6_shed_2 : List UInt8 := [62, 2, 54, 4, 3, 54, 5, 21, 5, 4, 42, 180, 0, 7, 7, 46, 120, 162, 0, 55, 21, 5, 28, 2]
abbrev dktX6_shed_2 : List UInt8 := dkwX6_shed_2 ++ dktX6_shed_3
def dkwX6_shed_1 : List UInt8 := [3, 172, 42, 27, 182, 0, 56, 61, 42, 180, 0, 7, 16, 6, 46, 42, 27, 4, 182, 0, 66, 184, 1, 2]
abbrev dktX6_shed_1 : List UInt8 := dkwX6_shed_1 ++ dktX6_shed_2
def dkwX6_shed_0 : List UInt8 := [42, 42, 27, 182, 1, 20, 154, 0, 7, 4, 167, 0, 4, 3, 181, 0, 41, 42, 180, 0, 41, 158, 0, 5]
abbrev dktX6_shed_0 : List UInt8 := dkwX6_shed_0 ++ dktX6_shed_1
theorem dksX6_shed_0 : cX6_shed.data.toList.drop 0 = dktX6_shed_0 := by decide +kernel
theorem dksX6_shed_1 : cX6_shed.data.toList.drop 24 = dktX6_shed_1 := dk_seg dksX6_shed_0 24 rfl rfl
theorem dksX6_shed_2 : cX6_shed.data.toList.drop 48 = dktX6_shed_2 := dk_seg dksX6_shed_1 24 rfl rfl
theorem dksX6_shed_3 : cX6_shed.data.toList.drop 72 = dktX6_shed_3 := dk_seg dksX6_shed_2 24 rfl rfl
theorem dksX6_shed_4 : cX6_shed.data.toList.drop 94 = dktX6_shed_4 := dk_seg dksX6_shed_3 22 rfl rfl
theorem dksX6_shed_5 : cX6_shed.data.toList.drop 117 = dktX6_shed_5 := dk_seg dksX6_shed_4 23 rfl rfl
theorem dX6_shed_0 : decode cX6_shed 0 = .ok (.aload_n 0, 1) := dk_42 (dk_at dksX6_shed_0 0 rfl rfl)
theorem dX6_shed_1 : decode cX6_shed 1 = .ok (.aload_n 0, 1) := dk_42 (dk_at dksX6_shed_0 1 rfl rfl)
theorem dX6_shed_2 : decode cX6_shed 2 = .ok (.iload_n 1, 1) := dk_27 (dk_at dksX6_shed_0 2 rfl rfl)
theorem dX6_shed_3 : decode cX6_shed 3 = .ok (.invokevirtual 276, 3) := dk_182 1 20 (dk_at dksX6_shed_0 3 rfl rfl)
theorem dX6_shed_6 : decode cX6_shed 6 = .ok (.ifCond .ne 7, 3) := dk_154 0 7 (dk_at dksX6_shed_0 6 rfl rfl)
theorem dX6_shed_9 : decode cX6_shed 9 = .ok (.iconst 1, 1) := dk_4 (dk_at dksX6_shed_0 9 rfl rfl)
theorem dX6_shed_10 : decode cX6_shed 10 = .ok (.goto 4, 3) := dk_167 0 4 (dk_at dksX6_shed_0 10 rfl rfl)
theorem dX6_shed_13 : decode cX6_shed 13 = .ok (.iconst 0, 1) := dk_3 (dk_at dksX6_shed_0 13 rfl rfl)
theorem dX6_shed_14 : decode cX6_shed 14 = .ok (.putfield 41, 3) := dk_181 0 41 (dk_at dksX6_shed_0 14 rfl rfl)
theorem dX6_shed_17 : decode cX6_shed 17 = .ok (.aload_n 0, 1) := dk_42 (dk_at dksX6_shed_0 17 rfl rfl)
theorem dX6_shed_18 : decode cX6_shed 18 = .ok (.getfield 41, 3) := dk_180 0 41 (dk_at dksX6_shed_0 18 rfl rfl)
theorem dX6_shed_21 : decode cX6_shed 21 = .ok (.ifCond .le 5, 3) := dk_158 0 5 (dk_at dksX6_shed_0 21 rfl rfl)
theorem dX6_shed_24 : decode cX6_shed 24 = .ok (.iconst 0, 1) := dk_3 (dk_at dksX6_shed_1 0 rfl rfl)
theorem dX6_shed_25 : decode cX6_shed 25 = .ok (.ireturn, 1) := dk_172 (dk_at dksX6_shed_1 1 rfl rfl)
theorem dX6_shed_26 : decode cX6_shed 26 = .ok (.aload_n 0, 1) := dk_42 (dk_at dksX6_shed_1 2 rfl rfl)
theorem dX6_shed_27 : decode cX6_shed 27 = .ok (.iload_n 1, 1) := dk_27 (dk_at dksX6_shed_1 3 rfl rfl)
theorem dX6_shed_28 : decode cX6_shed 28 = .ok (.invokevirtual 56, 3) := dk_182 0 56 (dk_at dksX6_shed_1 4 rfl rfl)
theorem dX6_shed_31 : decode cX6_shed 31 = .ok (.istore_n 2, 1) := dk_61 (dk_at dksX6_shed_1 7 rfl rfl)
theorem dX6_shed_32 : decode cX6_shed 32 = .ok (.aload_n 0, 1) := dk_42 (dk_at dksX6_shed_1 8 rfl rfl)
theorem dX6_shed_33 : decode cX6_shed 33 = .ok (.getfield 7, 3) := dk_180 0 7 (dk_at dksX6_shed_1 9 rfl rfl)
theorem dX6_shed_36 : decode cX6_shed 36 = .ok (.bipush 6, 2) := dk_16 6 (dk_at dksX6_shed_1 12 rfl rfl)
theorem dX6_shed_38 : decode cX6_shed 38 = .ok (.iaload, 1) := dk_46 (dk_at dksX6_shed_1 14 rfl rfl)
theorem dX6_shed_39 : decode cX6_shed 39 = .ok (.aload_n 0, 1) := dk_42 (dk_at dksX6_shed_1 15 rfl rfl)
theorem dX6_shed_40 : decode cX6_shed 40 = .ok (.iload_n 1, 1) := dk_27 (dk_at dksX6_shed_1 16 rfl rfl)
theorem dX6_shed_41 : decode cX6_shed 41 = .ok (.iconst 1, 1) := dk_4 (dk_at dksX6_shed_1 17 rfl rfl)
theorem dX6_shed_42 : decode cX6_shed 42 = .ok (.invokevirtual 66, 3) := dk_182 0 66 (dk_at dksX6_shed_1 18 rfl rfl)
theorem dX6_shed_45 : decode cX6_shed 45 = .ok (.invokestatic 258, 3) := dk_184 1 2 (dk_at dksX6_shed_1 21 rfl rfl)
theorem dX6_shed_48 : decode cX6_shed 48 = .ok (.istore_n 3, 1) := dk_62 (dk_at dksX6_shed_2 0 rfl rfl)
theorem dX6_shed_49 : decode cX6_shed 49 = .ok (.iconst (-1), 1) := dk_2 (dk_at dksX6_shed_2 1 rfl rfl)
theorem dX6_shed_50 : decode cX6_shed 50 = .ok (.istore 4, 2) := dk_54 4 (dk_at dksX6_shed_2 2 rfl rfl)
theorem dX6_shed_52 : decode cX6_shed 52 = .ok (.iconst 0, 1) := dk_3 (dk_at dksX6_shed_2 4 rfl rfl)
theorem dX6_shed_53 : decode cX6_shed 53 = .ok (.istore 5, 2) := dk_54 5 (dk_at dksX6_shed_2 5 rfl rfl)
theorem dX6_shed_55 : decode cX6_shed 55 = .ok (.iload 5, 2) := dk_21 5 (dk_at dksX6_shed_2 7 rfl rfl)
theorem dX6_shed_57 : decode cX6_shed 57 = .ok (.iconst 1, 1) := dk_4 (dk_at dksX6_shed_2 9 rfl rfl)
theorem dX6_shed_58 : decode cX6_shed 58 = .ok (.aload_n 0, 1) := dk_42 (dk_at dksX6_shed_2 10 rfl rfl)
theorem dX6_shed_59 : decode cX6_shed 59 = .ok (.getfield 7, 3) := dk_180 0 7 (dk_at dksX6_shed_2 11 rfl rfl)
theorem dX6_shed_62 : decode cX6_shed 62 = .ok (.iconst 4, 1) := dk_7 (dk_at dksX6_shed_2 14 rfl rfl)
theorem dX6_shed_63 : decode cX6_shed 63 = .ok (.iaload, 1) := dk_46 (dk_at dksX6_shed_2 15 rfl rfl)
theorem dX6_shed_64 : decode cX6_shed 64 = .ok (.ishl, 1) := dk_120 (dk_at dksX6_shed_2 16 rfl rfl)
theorem dX6_shed_65 : decode cX6_shed 65 = .ok (.if_icmp .ge 55, 3) := dk_162 0 55 (dk_at dksX6_shed_2 17 rfl rfl)
theorem dX6_shed_68 : decode cX6_shed 68 = .ok (.iload 5, 2) := dk_21 5 (dk_at dksX6_shed_2 20 rfl rfl)
theorem dX6_shed_70 : decode cX6_shed 70 = .ok (.iload_n 2, 1) := dk_28 (dk_at dksX6_shed_2 22 rfl rfl)
theorem dX6_shed_71 : decode cX6_shed 71 = .ok (.iconst (-1), 1) := dk_2 (dk_at dksX6_shed_2 23 rfl rfl)
theorem dX6_shed_72 : decode cX6_shed 72 = .ok (.ixor, 1) := dk_130 (dk_at dksX6_shed_3 0 rfl rfl)
theorem dX6_shed_73 : decode cX6_shed 73 = .ok (.iand, 1) := dk_126 (dk_at dksX6_shed_3 1 rfl rfl)
theorem dX6_shed_74 : decode cX6_shed 74 = .ok (.ifCond .ne 40, 3) := dk_154 0 40 (dk_at dksX6_shed_3 2 rfl rfl)
theorem dX6_shed_77 : decode cX6_shed 77 = .ok (.aload_n 0, 1) := dk_42 (dk_at dksX6_shed_3 5 rfl rfl)
theorem dX6_shed_78 : decode cX6_shed 78 = .ok (.iload_n 2, 1) := dk_28 (dk_at dksX6_shed_3 6 rfl rfl)
theorem dX6_shed_79 : decode cX6_shed 79 = .ok (.iload 5, 2) := dk_21 5 (dk_at dksX6_shed_3 7 rfl rfl)
theorem dX6_shed_81 : decode cX6_shed 81 = .ok (.iconst (-1), 1) := dk_2 (dk_at dksX6_shed_3 9 rfl rfl)
theorem dX6_shed_82 : decode cX6_shed 82 = .ok (.ixor, 1) := dk_130 (dk_at dksX6_shed_3 10 rfl rfl)
theorem dX6_shed_83 : decode cX6_shed 83 = .ok (.iand, 1) := dk_126 (dk_at dksX6_shed_3 11 rfl rfl)
theorem dX6_shed_84 : decode cX6_shed 84 = .ok (.invokevirtual 60, 3) := dk_182 0 60 (dk_at dksX6_shed_3 12 rfl rfl)
theorem dX6_shed_87 : decode cX6_shed 87 = .ok (.iload_n 3, 1) := dk_29 (dk_at dksX6_shed_3 15 rfl rfl)
theorem dX6_shed_88 : decode cX6_shed 88 = .ok (.if_icmp .gt 26, 3) := dk_163 0 26 (dk_at dksX6_shed_3 16 rfl rfl)
theorem dX6_shed_91 : decode cX6_shed 91 = .ok (.iload 4, 2) := dk_21 4 (dk_at dksX6_shed_3 19 rfl rfl)
theorem dX6_shed_93 : decode cX6_shed 93 = .ok (.iconst (-1), 1) := dk_2 (dk_at dksX6_shed_3 21 rfl rfl)
theorem dX6_shed_94 : decode cX6_shed 94 = .ok (.if_icmp .eq 16, 3) := dk_159 0 16 (dk_at dksX6_shed_4 0 rfl rfl)
theorem dX6_shed_97 : decode cX6_shed 97 = .ok (.iload 5, 2) := dk_21 5 (dk_at dksX6_shed_4 3 rfl rfl)
theorem dX6_shed_99 : decode cX6_shed 99 = .ok (.invokestatic 310, 3) := dk_184 1 54 (dk_at dksX6_shed_4 5 rfl rfl)
theorem dX6_shed_102 : decode cX6_shed 102 = .ok (.iload 4, 2) := dk_21 4 (dk_at dksX6_shed_4 8 rfl rfl)
theorem dX6_shed_104 : decode cX6_shed 104 = .ok (.invokestatic 310, 3) := dk_184 1 54 (dk_at dksX6_shed_4 10 rfl rfl)
theorem dX6_shed_107 : decode cX6_shed 107 = .ok (.if_icmp .ge 7, 3) := dk_162 0 7 (dk_at dksX6_shed_4 13 rfl rfl)
theorem dX6_shed_110 : decode cX6_shed 110 = .ok (.iload 5, 2) := dk_21 5 (dk_at dksX6_shed_4 16 rfl rfl)
theorem dX6_shed_112 : decode cX6_shed 112 = .ok (.istore 4, 2) := dk_54 4 (dk_at dksX6_shed_4 18 rfl rfl)
theorem dX6_shed_114 : decode cX6_shed 114 = .ok (.iinc 5 1, 3) := dk_132 5 1 (dk_at dksX6_shed_4 20 rfl rfl)
theorem dX6_shed_117 : decode cX6_shed 117 = .ok (.goto (-62), 3) := dk_167 255 194 (dk_at dksX6_shed_5 0 rfl rfl)
theorem dX6_shed_120 : decode cX6_shed 120 = .ok (.iload 4, 2) := dk_21 4 (dk_at dksX6_shed_5 3 rfl rfl)
theorem dX6_shed_122 : decode cX6_shed 122 = .ok (.ireturn, 1) := dk_172 (dk_at dksX6_shed_5 5 rfl rfl)
abbrev cX6_bits : ByteArray := prog_19_method_7_code
def yX6_bits : MethodName := ⟨RX6, "bits", "(I)I"⟩
def dkwX6_bits_1 : List UInt8 := [27, 172]
abbrev dktX6_bits_1 : List UInt8 := dkwX6_bits_1 ++ []
def dkwX6_bits_0 : List UInt8 := [3, 60, 3, 61, 28, 16, 31, 162, 0, 17, 27, 26, 28, 122, 4, 126, 96, 60, 132, 2, 1, 167, 255, 239]
abbrev dktX6_bits_0 : List UInt8 := dkwX6_bits_0 ++ dktX6_bits_1
theorem dksX6_bits_0 : cX6_bits.data.toList.drop 0 = dktX6_bits_0 := by decide +kernel
theorem dksX6_bits_1 : cX6_bits.data.toList.drop 24 = dktX6_bits_1 := dk_seg dksX6_bits_0 24 rfl rfl
theorem dX6_bits_0 : decode cX6_bits 0 = .ok (.iconst 0, 1) := dk_3 (dk_at dksX6_bits_0 0 rfl rfl)
theorem dX6_bits_1 : decode cX6_bits 1 = .ok (.istore_n 1, 1) := dk_60 (dk_at dksX6_bits_0 1 rfl rfl)
theorem dX6_bits_2 : decode cX6_bits 2 = .ok (.iconst 0, 1) := dk_3 (dk_at dksX6_bits_0 2 rfl rfl)
theorem dX6_bits_3 : decode cX6_bits 3 = .ok (.istore_n 2, 1) := dk_61 (dk_at dksX6_bits_0 3 rfl rfl)
theorem dX6_bits_4 : decode cX6_bits 4 = .ok (.iload_n 2, 1) := dk_28 (dk_at dksX6_bits_0 4 rfl rfl)
theorem dX6_bits_5 : decode cX6_bits 5 = .ok (.bipush 31, 2) := dk_16 31 (dk_at dksX6_bits_0 5 rfl rfl)
theorem dX6_bits_7 : decode cX6_bits 7 = .ok (.if_icmp .ge 17, 3) := dk_162 0 17 (dk_at dksX6_bits_0 7 rfl rfl)
theorem dX6_bits_10 : decode cX6_bits 10 = .ok (.iload_n 1, 1) := dk_27 (dk_at dksX6_bits_0 10 rfl rfl)
theorem dX6_bits_11 : decode cX6_bits 11 = .ok (.iload_n 0, 1) := dk_26 (dk_at dksX6_bits_0 11 rfl rfl)
theorem dX6_bits_12 : decode cX6_bits 12 = .ok (.iload_n 2, 1) := dk_28 (dk_at dksX6_bits_0 12 rfl rfl)
theorem dX6_bits_13 : decode cX6_bits 13 = .ok (.ishr, 1) := dk_122 (dk_at dksX6_bits_0 13 rfl rfl)
theorem dX6_bits_14 : decode cX6_bits 14 = .ok (.iconst 1, 1) := dk_4 (dk_at dksX6_bits_0 14 rfl rfl)
theorem dX6_bits_15 : decode cX6_bits 15 = .ok (.iand, 1) := dk_126 (dk_at dksX6_bits_0 15 rfl rfl)
theorem dX6_bits_16 : decode cX6_bits 16 = .ok (.iadd, 1) := dk_96 (dk_at dksX6_bits_0 16 rfl rfl)
theorem dX6_bits_17 : decode cX6_bits 17 = .ok (.istore_n 1, 1) := dk_60 (dk_at dksX6_bits_0 17 rfl rfl)
theorem dX6_bits_18 : decode cX6_bits 18 = .ok (.iinc 2 1, 3) := dk_132 2 1 (dk_at dksX6_bits_0 18 rfl rfl)
theorem dX6_bits_21 : decode cX6_bits 21 = .ok (.goto (-17), 3) := dk_167 255 239 (dk_at dksX6_bits_0 21 rfl rfl)
theorem dX6_bits_24 : decode cX6_bits 24 = .ok (.iload_n 1, 1) := dk_27 (dk_at dksX6_bits_1 0 rfl rfl)
theorem dX6_bits_25 : decode cX6_bits 25 = .ok (.ireturn, 1) := dk_172 (dk_at dksX6_bits_1 1 rfl rfl)
abbrev cX6_share : ByteArray := prog_19_method_82_code
def yX6_share : MethodName := ⟨RX6, "share", "(II)I"⟩
def dkwX6_share_9 : List UInt8 := [132, 8, 1, 167, 255, 233, 132, 9, 1, 167, 255, 198, 29, 21, 8, 184, 1, 61, 172]
abbrev dktX6_share_9 : List UInt8 := dkwX6_share_9 ++ []
def dkwX6_share_8 : List UInt8 := [54, 8, 42, 21, 8, 42, 21, 10, 5, 182, 0, 48, 21, 7, 21, 4, 182, 1, 64, 154, 0, 9]
abbrev dktX6_share_8 : List UInt8 := dkwX6_share_8 ++ dktX6_share_9
def dkwX6_share_7 : List UInt8 := [163, 0, 58, 21, 5, 21, 9, 184, 1, 61, 54, 10, 21, 7, 4, 21, 10, 120, 2, 130, 126, 54, 7, 3]
abbrev dktX6_share_7 : List UInt8 := dkwX6_share_7 ++ dktX6_share_8
def dkwX6_share_6 : List UInt8 := [21, 7, 21, 6, 79, 132, 7, 1, 167, 255, 237, 21, 5, 54, 7, 3, 54, 8, 3, 54, 9, 21, 9, 28]
abbrev dktX6_share_6 : List UInt8 := dkwX6_share_6 ++ dktX6_share_7
def dkwX6_share_5 : List UInt8 := [4, 100, 184, 0, 44, 154, 0, 5, 2, 172, 3, 54, 7, 21, 7, 21, 4, 162, 0, 18, 42, 180, 0, 38]
abbrev dktX6_share_5 : List UInt8 := dkwX6_share_5 ++ dktX6_share_6
def dkwX6_share_4 : List UInt8 := [21, 5, 21, 4, 182, 1, 58, 54, 6, 28, 2, 160, 0, 6, 21, 6, 172, 28, 3, 21, 5, 184, 1, 54]
abbrev dktX6_share_4 : List UInt8 := dkwX6_share_4 ++ dktX6_share_5
def dkwX6_share_3 : List UInt8 := [182, 0, 56, 167, 0, 4, 3, 128, 54, 5, 132, 6, 1, 167, 255, 218, 21, 4, 154, 0, 5, 2, 172, 42]
abbrev dktX6_share_3 : List UInt8 := dkwX6_share_3 ++ dktX6_share_4
def dkwX6_share_2 : List UInt8 := [180, 0, 7, 6, 46, 162, 0, 33, 21, 5, 29, 21, 6, 184, 0, 52, 153, 0, 12, 42, 21, 6]
abbrev dktX6_share_2 : List UInt8 := dkwX6_share_2 ++ dktX6_share_3
def dkwX6_share_1 : List UInt8 := [172, 42, 27, 182, 1, 32, 62, 29, 184, 1, 54, 54, 4, 3, 54, 5, 3, 54, 6, 21, 6, 42]
abbrev dktX6_share_1 : List UInt8 := dkwX6_share_1 ++ dktX6_share_2
def dkwX6_share_0 : List UInt8 := [42, 27, 184, 1, 29, 154, 0, 7, 4, 167, 0, 4, 3, 181, 0, 41, 42, 180, 0, 41, 158, 0, 5, 3]
abbrev dktX6_share_0 : List UInt8 := dkwX6_share_0 ++ dktX6_share_1
theorem dksX6_share_0 : cX6_share.data.toList.drop 0 = dktX6_share_0 := by decide +kernel
theorem dksX6_share_1 : cX6_share.data.toList.drop 24 = dktX6_share_1 := dk_seg dksX6_share_0 24 rfl rfl
theorem dksX6_share_2 : cX6_share.data.toList.drop 46 = dktX6_share_2 := dk_seg dksX6_share_1 22 rfl rfl
theorem dksX6_share_3 : cX6_share.data.toList.drop 68 = dktX6_share_3 := dk_seg dksX6_share_2 22 rfl rfl
theorem dksX6_share_4 : cX6_share.data.toList.drop 92 = dktX6_share_4 := dk_seg dksX6_share_3 24 rfl rfl
theorem dksX6_share_5 : cX6_share.data.toList.drop 116 = dktX6_share_5 := dk_seg dksX6_share_4 24 rfl rfl
theorem dksX6_share_6 : cX6_share.data.toList.drop 140 = dktX6_share_6 := dk_seg dksX6_share_5 24 rfl rfl
theorem dksX6_share_7 : cX6_share.data.toList.drop 164 = dktX6_share_7 := dk_seg dksX6_share_6 24 rfl rfl
theorem dksX6_share_8 : cX6_share.data.toList.drop 188 = dktX6_share_8 := dk_seg dksX6_share_7 24 rfl rfl
theorem dksX6_share_9 : cX6_share.data.toList.drop 210 = dktX6_share_9 := dk_seg dksX6_share_8 22 rfl rfl
theorem dX6_share_0 : decode cX6_share 0 = .ok (.aload_n 0, 1) := dk_42 (dk_at dksX6_share_0 0 rfl rfl)
theorem dX6_share_1 : decode cX6_share 1 = .ok (.iload_n 1, 1) := dk_27 (dk_at dksX6_share_0 1 rfl rfl)
theorem dX6_share_2 : decode cX6_share 2 = .ok (.invokestatic 285, 3) := dk_184 1 29 (dk_at dksX6_share_0 2 rfl rfl)
theorem dX6_share_5 : decode cX6_share 5 = .ok (.ifCond .ne 7, 3) := dk_154 0 7 (dk_at dksX6_share_0 5 rfl rfl)
theorem dX6_share_8 : decode cX6_share 8 = .ok (.iconst 1, 1) := dk_4 (dk_at dksX6_share_0 8 rfl rfl)
theorem dX6_share_9 : decode cX6_share 9 = .ok (.goto 4, 3) := dk_167 0 4 (dk_at dksX6_share_0 9 rfl rfl)
theorem dX6_share_12 : decode cX6_share 12 = .ok (.iconst 0, 1) := dk_3 (dk_at dksX6_share_0 12 rfl rfl)
theorem dX6_share_13 : decode cX6_share 13 = .ok (.putfield 41, 3) := dk_181 0 41 (dk_at dksX6_share_0 13 rfl rfl)
theorem dX6_share_16 : decode cX6_share 16 = .ok (.aload_n 0, 1) := dk_42 (dk_at dksX6_share_0 16 rfl rfl)
theorem dX6_share_17 : decode cX6_share 17 = .ok (.getfield 41, 3) := dk_180 0 41 (dk_at dksX6_share_0 17 rfl rfl)
theorem dX6_share_20 : decode cX6_share 20 = .ok (.ifCond .le 5, 3) := dk_158 0 5 (dk_at dksX6_share_0 20 rfl rfl)
theorem dX6_share_23 : decode cX6_share 23 = .ok (.iconst 0, 1) := dk_3 (dk_at dksX6_share_0 23 rfl rfl)
theorem dX6_share_24 : decode cX6_share 24 = .ok (.ireturn, 1) := dk_172 (dk_at dksX6_share_1 0 rfl rfl)
theorem dX6_share_25 : decode cX6_share 25 = .ok (.aload_n 0, 1) := dk_42 (dk_at dksX6_share_1 1 rfl rfl)
theorem dX6_share_26 : decode cX6_share 26 = .ok (.iload_n 1, 1) := dk_27 (dk_at dksX6_share_1 2 rfl rfl)
theorem dX6_share_27 : decode cX6_share 27 = .ok (.invokevirtual 288, 3) := dk_182 1 32 (dk_at dksX6_share_1 3 rfl rfl)
theorem dX6_share_30 : decode cX6_share 30 = .ok (.istore_n 3, 1) := dk_62 (dk_at dksX6_share_1 6 rfl rfl)
theorem dX6_share_31 : decode cX6_share 31 = .ok (.iload_n 3, 1) := dk_29 (dk_at dksX6_share_1 7 rfl rfl)
theorem dX6_share_32 : decode cX6_share 32 = .ok (.invokestatic 310, 3) := dk_184 1 54 (dk_at dksX6_share_1 8 rfl rfl)
theorem dX6_share_35 : decode cX6_share 35 = .ok (.istore 4, 2) := dk_54 4 (dk_at dksX6_share_1 11 rfl rfl)
theorem dX6_share_37 : decode cX6_share 37 = .ok (.iconst 0, 1) := dk_3 (dk_at dksX6_share_1 13 rfl rfl)
theorem dX6_share_38 : decode cX6_share 38 = .ok (.istore 5, 2) := dk_54 5 (dk_at dksX6_share_1 14 rfl rfl)
theorem dX6_share_40 : decode cX6_share 40 = .ok (.iconst 0, 1) := dk_3 (dk_at dksX6_share_1 16 rfl rfl)
theorem dX6_share_41 : decode cX6_share 41 = .ok (.istore 6, 2) := dk_54 6 (dk_at dksX6_share_1 17 rfl rfl)
theorem dX6_share_43 : decode cX6_share 43 = .ok (.iload 6, 2) := dk_21 6 (dk_at dksX6_share_1 19 rfl rfl)
theorem dX6_share_45 : decode cX6_share 45 = .ok (.aload_n 0, 1) := dk_42 (dk_at dksX6_share_1 21 rfl rfl)
theorem dX6_share_46 : decode cX6_share 46 = .ok (.getfield 7, 3) := dk_180 0 7 (dk_at dksX6_share_2 0 rfl rfl)
theorem dX6_share_49 : decode cX6_share 49 = .ok (.iconst 3, 1) := dk_6 (dk_at dksX6_share_2 3 rfl rfl)
theorem dX6_share_50 : decode cX6_share 50 = .ok (.iaload, 1) := dk_46 (dk_at dksX6_share_2 4 rfl rfl)
theorem dX6_share_51 : decode cX6_share 51 = .ok (.if_icmp .ge 33, 3) := dk_162 0 33 (dk_at dksX6_share_2 5 rfl rfl)
theorem dX6_share_54 : decode cX6_share 54 = .ok (.iload 5, 2) := dk_21 5 (dk_at dksX6_share_2 8 rfl rfl)
theorem dX6_share_56 : decode cX6_share 56 = .ok (.iload_n 3, 1) := dk_29 (dk_at dksX6_share_2 10 rfl rfl)
theorem dX6_share_57 : decode cX6_share 57 = .ok (.iload 6, 2) := dk_21 6 (dk_at dksX6_share_2 11 rfl rfl)
theorem dX6_share_59 : decode cX6_share 59 = .ok (.invokestatic 52, 3) := dk_184 0 52 (dk_at dksX6_share_2 13 rfl rfl)
theorem dX6_share_62 : decode cX6_share 62 = .ok (.ifCond .eq 12, 3) := dk_153 0 12 (dk_at dksX6_share_2 16 rfl rfl)
theorem dX6_share_65 : decode cX6_share 65 = .ok (.aload_n 0, 1) := dk_42 (dk_at dksX6_share_2 19 rfl rfl)
theorem dX6_share_66 : decode cX6_share 66 = .ok (.iload 6, 2) := dk_21 6 (dk_at dksX6_share_2 20 rfl rfl)
theorem dX6_share_68 : decode cX6_share 68 = .ok (.invokevirtual 56, 3) := dk_182 0 56 (dk_at dksX6_share_3 0 rfl rfl)
theorem dX6_share_71 : decode cX6_share 71 = .ok (.goto 4, 3) := dk_167 0 4 (dk_at dksX6_share_3 3 rfl rfl)
theorem dX6_share_74 : decode cX6_share 74 = .ok (.iconst 0, 1) := dk_3 (dk_at dksX6_share_3 6 rfl rfl)
theorem dX6_share_75 : decode cX6_share 75 = .ok (.ior, 1) := dk_128 (dk_at dksX6_share_3 7 rfl rfl)
theorem dX6_share_76 : decode cX6_share 76 = .ok (.istore 5, 2) := dk_54 5 (dk_at dksX6_share_3 8 rfl rfl)
theorem dX6_share_78 : decode cX6_share 78 = .ok (.iinc 6 1, 3) := dk_132 6 1 (dk_at dksX6_share_3 10 rfl rfl)
theorem dX6_share_81 : decode cX6_share 81 = .ok (.goto (-38), 3) := dk_167 255 218 (dk_at dksX6_share_3 13 rfl rfl)
theorem dX6_share_84 : decode cX6_share 84 = .ok (.iload 4, 2) := dk_21 4 (dk_at dksX6_share_3 16 rfl rfl)
theorem dX6_share_86 : decode cX6_share 86 = .ok (.ifCond .ne 5, 3) := dk_154 0 5 (dk_at dksX6_share_3 18 rfl rfl)
theorem dX6_share_89 : decode cX6_share 89 = .ok (.iconst (-1), 1) := dk_2 (dk_at dksX6_share_3 21 rfl rfl)
theorem dX6_share_90 : decode cX6_share 90 = .ok (.ireturn, 1) := dk_172 (dk_at dksX6_share_3 22 rfl rfl)
theorem dX6_share_91 : decode cX6_share 91 = .ok (.aload_n 0, 1) := dk_42 (dk_at dksX6_share_3 23 rfl rfl)
theorem dX6_share_92 : decode cX6_share 92 = .ok (.iload 5, 2) := dk_21 5 (dk_at dksX6_share_4 0 rfl rfl)
theorem dX6_share_94 : decode cX6_share 94 = .ok (.iload 4, 2) := dk_21 4 (dk_at dksX6_share_4 2 rfl rfl)
theorem dX6_share_96 : decode cX6_share 96 = .ok (.invokevirtual 314, 3) := dk_182 1 58 (dk_at dksX6_share_4 4 rfl rfl)
theorem dX6_share_99 : decode cX6_share 99 = .ok (.istore 6, 2) := dk_54 6 (dk_at dksX6_share_4 7 rfl rfl)
theorem dX6_share_101 : decode cX6_share 101 = .ok (.iload_n 2, 1) := dk_28 (dk_at dksX6_share_4 9 rfl rfl)
theorem dX6_share_102 : decode cX6_share 102 = .ok (.iconst (-1), 1) := dk_2 (dk_at dksX6_share_4 10 rfl rfl)
theorem dX6_share_103 : decode cX6_share 103 = .ok (.if_icmp .ne 6, 3) := dk_160 0 6 (dk_at dksX6_share_4 11 rfl rfl)
theorem dX6_share_106 : decode cX6_share 106 = .ok (.iload 6, 2) := dk_21 6 (dk_at dksX6_share_4 14 rfl rfl)
theorem dX6_share_108 : decode cX6_share 108 = .ok (.ireturn, 1) := dk_172 (dk_at dksX6_share_4 16 rfl rfl)
theorem dX6_share_109 : decode cX6_share 109 = .ok (.iload_n 2, 1) := dk_28 (dk_at dksX6_share_4 17 rfl rfl)
theorem dX6_share_110 : decode cX6_share 110 = .ok (.iconst 0, 1) := dk_3 (dk_at dksX6_share_4 18 rfl rfl)
theorem dX6_share_111 : decode cX6_share 111 = .ok (.iload 5, 2) := dk_21 5 (dk_at dksX6_share_4 19 rfl rfl)
theorem dX6_share_113 : decode cX6_share 113 = .ok (.invokestatic 310, 3) := dk_184 1 54 (dk_at dksX6_share_4 21 rfl rfl)
theorem dX6_share_116 : decode cX6_share 116 = .ok (.iconst 1, 1) := dk_4 (dk_at dksX6_share_5 0 rfl rfl)
theorem dX6_share_117 : decode cX6_share 117 = .ok (.isub, 1) := dk_100 (dk_at dksX6_share_5 1 rfl rfl)
theorem dX6_share_118 : decode cX6_share 118 = .ok (.invokestatic 44, 3) := dk_184 0 44 (dk_at dksX6_share_5 2 rfl rfl)
theorem dX6_share_121 : decode cX6_share 121 = .ok (.ifCond .ne 5, 3) := dk_154 0 5 (dk_at dksX6_share_5 5 rfl rfl)
theorem dX6_share_124 : decode cX6_share 124 = .ok (.iconst (-1), 1) := dk_2 (dk_at dksX6_share_5 8 rfl rfl)
theorem dX6_share_125 : decode cX6_share 125 = .ok (.ireturn, 1) := dk_172 (dk_at dksX6_share_5 9 rfl rfl)
theorem dX6_share_126 : decode cX6_share 126 = .ok (.iconst 0, 1) := dk_3 (dk_at dksX6_share_5 10 rfl rfl)
theorem dX6_share_127 : decode cX6_share 127 = .ok (.istore 7, 2) := dk_54 7 (dk_at dksX6_share_5 11 rfl rfl)
theorem dX6_share_129 : decode cX6_share 129 = .ok (.iload 7, 2) := dk_21 7 (dk_at dksX6_share_5 13 rfl rfl)
theorem dX6_share_131 : decode cX6_share 131 = .ok (.iload 4, 2) := dk_21 4 (dk_at dksX6_share_5 15 rfl rfl)
theorem dX6_share_133 : decode cX6_share 133 = .ok (.if_icmp .ge 18, 3) := dk_162 0 18 (dk_at dksX6_share_5 17 rfl rfl)
theorem dX6_share_136 : decode cX6_share 136 = .ok (.aload_n 0, 1) := dk_42 (dk_at dksX6_share_5 20 rfl rfl)
theorem dX6_share_137 : decode cX6_share 137 = .ok (.getfield 38, 3) := dk_180 0 38 (dk_at dksX6_share_5 21 rfl rfl)
theorem dX6_share_140 : decode cX6_share 140 = .ok (.iload 7, 2) := dk_21 7 (dk_at dksX6_share_6 0 rfl rfl)
theorem dX6_share_142 : decode cX6_share 142 = .ok (.iload 6, 2) := dk_21 6 (dk_at dksX6_share_6 2 rfl rfl)
theorem dX6_share_144 : decode cX6_share 144 = .ok (.iastore, 1) := dk_79 (dk_at dksX6_share_6 4 rfl rfl)
theorem dX6_share_145 : decode cX6_share 145 = .ok (.iinc 7 1, 3) := dk_132 7 1 (dk_at dksX6_share_6 5 rfl rfl)
theorem dX6_share_148 : decode cX6_share 148 = .ok (.goto (-19), 3) := dk_167 255 237 (dk_at dksX6_share_6 8 rfl rfl)
theorem dX6_share_151 : decode cX6_share 151 = .ok (.iload 5, 2) := dk_21 5 (dk_at dksX6_share_6 11 rfl rfl)
theorem dX6_share_153 : decode cX6_share 153 = .ok (.istore 7, 2) := dk_54 7 (dk_at dksX6_share_6 13 rfl rfl)
theorem dX6_share_155 : decode cX6_share 155 = .ok (.iconst 0, 1) := dk_3 (dk_at dksX6_share_6 15 rfl rfl)
theorem dX6_share_156 : decode cX6_share 156 = .ok (.istore 8, 2) := dk_54 8 (dk_at dksX6_share_6 16 rfl rfl)
theorem dX6_share_158 : decode cX6_share 158 = .ok (.iconst 0, 1) := dk_3 (dk_at dksX6_share_6 18 rfl rfl)
theorem dX6_share_159 : decode cX6_share 159 = .ok (.istore 9, 2) := dk_54 9 (dk_at dksX6_share_6 19 rfl rfl)
theorem dX6_share_161 : decode cX6_share 161 = .ok (.iload 9, 2) := dk_21 9 (dk_at dksX6_share_6 21 rfl rfl)
theorem dX6_share_163 : decode cX6_share 163 = .ok (.iload_n 2, 1) := dk_28 (dk_at dksX6_share_6 23 rfl rfl)
theorem dX6_share_164 : decode cX6_share 164 = .ok (.if_icmp .gt 58, 3) := dk_163 0 58 (dk_at dksX6_share_7 0 rfl rfl)
theorem dX6_share_167 : decode cX6_share 167 = .ok (.iload 5, 2) := dk_21 5 (dk_at dksX6_share_7 3 rfl rfl)
theorem dX6_share_169 : decode cX6_share 169 = .ok (.iload 9, 2) := dk_21 9 (dk_at dksX6_share_7 5 rfl rfl)
theorem dX6_share_171 : decode cX6_share 171 = .ok (.invokestatic 317, 3) := dk_184 1 61 (dk_at dksX6_share_7 7 rfl rfl)
theorem dX6_share_174 : decode cX6_share 174 = .ok (.istore 10, 2) := dk_54 10 (dk_at dksX6_share_7 10 rfl rfl)
theorem dX6_share_176 : decode cX6_share 176 = .ok (.iload 7, 2) := dk_21 7 (dk_at dksX6_share_7 12 rfl rfl)
theorem dX6_share_178 : decode cX6_share 178 = .ok (.iconst 1, 1) := dk_4 (dk_at dksX6_share_7 14 rfl rfl)
theorem dX6_share_179 : decode cX6_share 179 = .ok (.iload 10, 2) := dk_21 10 (dk_at dksX6_share_7 15 rfl rfl)
theorem dX6_share_181 : decode cX6_share 181 = .ok (.ishl, 1) := dk_120 (dk_at dksX6_share_7 17 rfl rfl)
theorem dX6_share_182 : decode cX6_share 182 = .ok (.iconst (-1), 1) := dk_2 (dk_at dksX6_share_7 18 rfl rfl)
theorem dX6_share_183 : decode cX6_share 183 = .ok (.ixor, 1) := dk_130 (dk_at dksX6_share_7 19 rfl rfl)
theorem dX6_share_184 : decode cX6_share 184 = .ok (.iand, 1) := dk_126 (dk_at dksX6_share_7 20 rfl rfl)
theorem dX6_share_185 : decode cX6_share 185 = .ok (.istore 7, 2) := dk_54 7 (dk_at dksX6_share_7 21 rfl rfl)
theorem dX6_share_187 : decode cX6_share 187 = .ok (.iconst 0, 1) := dk_3 (dk_at dksX6_share_7 23 rfl rfl)
theorem dX6_share_188 : decode cX6_share 188 = .ok (.istore 8, 2) := dk_54 8 (dk_at dksX6_share_8 0 rfl rfl)
theorem dX6_share_190 : decode cX6_share 190 = .ok (.aload_n 0, 1) := dk_42 (dk_at dksX6_share_8 2 rfl rfl)
theorem dX6_share_191 : decode cX6_share 191 = .ok (.iload 8, 2) := dk_21 8 (dk_at dksX6_share_8 3 rfl rfl)
theorem dX6_share_193 : decode cX6_share 193 = .ok (.aload_n 0, 1) := dk_42 (dk_at dksX6_share_8 5 rfl rfl)
theorem dX6_share_194 : decode cX6_share 194 = .ok (.iload 10, 2) := dk_21 10 (dk_at dksX6_share_8 6 rfl rfl)
theorem dX6_share_196 : decode cX6_share 196 = .ok (.iconst 2, 1) := dk_5 (dk_at dksX6_share_8 8 rfl rfl)
theorem dX6_share_197 : decode cX6_share 197 = .ok (.invokevirtual 48, 3) := dk_182 0 48 (dk_at dksX6_share_8 9 rfl rfl)
theorem dX6_share_200 : decode cX6_share 200 = .ok (.iload 7, 2) := dk_21 7 (dk_at dksX6_share_8 12 rfl rfl)
theorem dX6_share_202 : decode cX6_share 202 = .ok (.iload 4, 2) := dk_21 4 (dk_at dksX6_share_8 14 rfl rfl)
theorem dX6_share_204 : decode cX6_share 204 = .ok (.invokevirtual 320, 3) := dk_182 1 64 (dk_at dksX6_share_8 16 rfl rfl)
theorem dX6_share_207 : decode cX6_share 207 = .ok (.ifCond .ne 9, 3) := dk_154 0 9 (dk_at dksX6_share_8 19 rfl rfl)
theorem dX6_share_210 : decode cX6_share 210 = .ok (.iinc 8 1, 3) := dk_132 8 1 (dk_at dksX6_share_9 0 rfl rfl)
theorem dX6_share_213 : decode cX6_share 213 = .ok (.goto (-23), 3) := dk_167 255 233 (dk_at dksX6_share_9 3 rfl rfl)
theorem dX6_share_216 : decode cX6_share 216 = .ok (.iinc 9 1, 3) := dk_132 9 1 (dk_at dksX6_share_9 6 rfl rfl)
theorem dX6_share_219 : decode cX6_share 219 = .ok (.goto (-58), 3) := dk_167 255 198 (dk_at dksX6_share_9 9 rfl rfl)
theorem dX6_share_222 : decode cX6_share 222 = .ok (.iload_n 3, 1) := dk_29 (dk_at dksX6_share_9 12 rfl rfl)
theorem dX6_share_223 : decode cX6_share 223 = .ok (.iload 8, 2) := dk_21 8 (dk_at dksX6_share_9 13 rfl rfl)
theorem dX6_share_225 : decode cX6_share 225 = .ok (.invokestatic 317, 3) := dk_184 1 61 (dk_at dksX6_share_9 15 rfl rfl)
theorem dX6_share_228 : decode cX6_share 228 = .ok (.ireturn, 1) := dk_172 (dk_at dksX6_share_9 18 rfl rfl)
abbrev cX6_leastBy : ByteArray := prog_19_method_79_code
def yX6_leastBy : MethodName := ⟨RX6, "leastBy", "(II)I"⟩
def dkwX6_leastBy_8 : List UInt8 := [167, 255, 214, 132, 3, 1, 167, 255, 101, 42, 180, 0, 32, 27, 46, 172]
abbrev dktX6_leastBy_8 : List UInt8 := dkwX6_leastBy_8 ++ []
def dkwX6_leastBy_7 : List UInt8 := [154, 0, 13, 42, 180, 0, 35, 21, 4, 46, 167, 0, 10, 42, 180, 0, 32, 21, 4, 46, 79, 132, 4, 1]
abbrev dktX6_leastBy_7 : List UInt8 := dkwX6_leastBy_7 ++ dktX6_leastBy_8
def dkwX6_leastBy_6 : List UInt8 := [167, 255, 163, 3, 54, 4, 21, 4, 27, 163, 0, 42, 42, 180, 0, 32, 21, 4, 21, 4, 27, 2, 130, 126]
abbrev dktX6_leastBy_6 : List UInt8 := dkwX6_leastBy_6 ++ dktX6_leastBy_7
def dkwX6_leastBy_5 : List UInt8 := [184, 0, 251, 184, 1, 2, 79, 21, 5, 4, 100, 21, 4, 126, 54, 5, 167, 255, 204, 132, 4, 255]
abbrev dktX6_leastBy_5 : List UInt8 := dkwX6_leastBy_5 ++ dktX6_leastBy_6
def dkwX6_leastBy_4 : List UInt8 := [180, 0, 35, 21, 4, 46, 42, 21, 5, 182, 0, 60, 42, 180, 0, 32, 21, 4, 21, 5, 2, 130, 126, 46]
abbrev dktX6_leastBy_4 : List UInt8 := dkwX6_leastBy_4 ++ dktX6_leastBy_5
def dkwX6_leastBy_3 : List UInt8 := [180, 0, 32, 21, 4, 46, 79, 21, 4, 54, 5, 21, 5, 158, 0, 53, 42, 180, 0, 35, 21, 4, 42]
abbrev dktX6_leastBy_3 : List UInt8 := dkwX6_leastBy_3 ++ dktX6_leastBy_4
def dkwX6_leastBy_2 : List UInt8 := [155, 0, 94, 21, 4, 27, 2, 130, 126, 153, 0, 6, 167, 0, 76, 42, 180, 0, 35, 21, 4, 42]
abbrev dktX6_leastBy_2 : List UInt8 := dkwX6_leastBy_2 ++ dktX6_leastBy_3
def dkwX6_leastBy_1 : List UInt8 := [19, 1, 57, 79, 132, 3, 1, 167, 255, 229, 3, 62, 29, 28, 162, 0, 156, 27, 54, 4, 21, 4]
abbrev dktX6_leastBy_1 : List UInt8 := dkwX6_leastBy_1 ++ dktX6_leastBy_2
def dkwX6_leastBy_0 : List UInt8 := [3, 62, 29, 17, 4, 0, 162, 0, 26, 42, 180, 0, 32, 29, 29, 154, 0, 7, 3, 167, 0, 6]
abbrev dktX6_leastBy_0 : List UInt8 := dkwX6_leastBy_0 ++ dktX6_leastBy_1
theorem dksX6_leastBy_0 : cX6_leastBy.data.toList.drop 0 = dktX6_leastBy_0 := by decide +kernel
theorem dksX6_leastBy_1 : cX6_leastBy.data.toList.drop 22 = dktX6_leastBy_1 := dk_seg dksX6_leastBy_0 22 rfl rfl
theorem dksX6_leastBy_2 : cX6_leastBy.data.toList.drop 44 = dktX6_leastBy_2 := dk_seg dksX6_leastBy_1 22 rfl rfl
theorem dksX6_leastBy_3 : cX6_leastBy.data.toList.drop 66 = dktX6_leastBy_3 := dk_seg dksX6_leastBy_2 22 rfl rfl
theorem dksX6_leastBy_4 : cX6_leastBy.data.toList.drop 89 = dktX6_leastBy_4 := dk_seg dksX6_leastBy_3 23 rfl rfl
theorem dksX6_leastBy_5 : cX6_leastBy.data.toList.drop 113 = dktX6_leastBy_5 := dk_seg dksX6_leastBy_4 24 rfl rfl
theorem dksX6_leastBy_6 : cX6_leastBy.data.toList.drop 135 = dktX6_leastBy_6 := dk_seg dksX6_leastBy_5 22 rfl rfl
theorem dksX6_leastBy_7 : cX6_leastBy.data.toList.drop 159 = dktX6_leastBy_7 := dk_seg dksX6_leastBy_6 24 rfl rfl
theorem dksX6_leastBy_8 : cX6_leastBy.data.toList.drop 183 = dktX6_leastBy_8 := dk_seg dksX6_leastBy_7 24 rfl rfl
theorem dX6_leastBy_0 : decode cX6_leastBy 0 = .ok (.iconst 0, 1) := dk_3 (dk_at dksX6_leastBy_0 0 rfl rfl)
theorem dX6_leastBy_1 : decode cX6_leastBy 1 = .ok (.istore_n 3, 1) := dk_62 (dk_at dksX6_leastBy_0 1 rfl rfl)
theorem dX6_leastBy_2 : decode cX6_leastBy 2 = .ok (.iload_n 3, 1) := dk_29 (dk_at dksX6_leastBy_0 2 rfl rfl)
theorem dX6_leastBy_3 : decode cX6_leastBy 3 = .ok (.sipush 1024, 3) := dk_17 4 0 (dk_at dksX6_leastBy_0 3 rfl rfl)
theorem dX6_leastBy_6 : decode cX6_leastBy 6 = .ok (.if_icmp .ge 26, 3) := dk_162 0 26 (dk_at dksX6_leastBy_0 6 rfl rfl)
theorem dX6_leastBy_9 : decode cX6_leastBy 9 = .ok (.aload_n 0, 1) := dk_42 (dk_at dksX6_leastBy_0 9 rfl rfl)
theorem dX6_leastBy_10 : decode cX6_leastBy 10 = .ok (.getfield 32, 3) := dk_180 0 32 (dk_at dksX6_leastBy_0 10 rfl rfl)
theorem dX6_leastBy_13 : decode cX6_leastBy 13 = .ok (.iload_n 3, 1) := dk_29 (dk_at dksX6_leastBy_0 13 rfl rfl)
theorem dX6_leastBy_14 : decode cX6_leastBy 14 = .ok (.iload_n 3, 1) := dk_29 (dk_at dksX6_leastBy_0 14 rfl rfl)
theorem dX6_leastBy_15 : decode cX6_leastBy 15 = .ok (.ifCond .ne 7, 3) := dk_154 0 7 (dk_at dksX6_leastBy_0 15 rfl rfl)
theorem dX6_leastBy_18 : decode cX6_leastBy 18 = .ok (.iconst 0, 1) := dk_3 (dk_at dksX6_leastBy_0 18 rfl rfl)
theorem dX6_leastBy_19 : decode cX6_leastBy 19 = .ok (.goto 6, 3) := dk_167 0 6 (dk_at dksX6_leastBy_0 19 rfl rfl)
theorem dX6_leastBy_22 : decode cX6_leastBy 22 = .ok (.ldc_w 313, 3) := dk_19 1 57 (dk_at dksX6_leastBy_1 0 rfl rfl)
theorem dX6_leastBy_25 : decode cX6_leastBy 25 = .ok (.iastore, 1) := dk_79 (dk_at dksX6_leastBy_1 3 rfl rfl)
theorem dX6_leastBy_26 : decode cX6_leastBy 26 = .ok (.iinc 3 1, 3) := dk_132 3 1 (dk_at dksX6_leastBy_1 4 rfl rfl)
theorem dX6_leastBy_29 : decode cX6_leastBy 29 = .ok (.goto (-27), 3) := dk_167 255 229 (dk_at dksX6_leastBy_1 7 rfl rfl)
theorem dX6_leastBy_32 : decode cX6_leastBy 32 = .ok (.iconst 0, 1) := dk_3 (dk_at dksX6_leastBy_1 10 rfl rfl)
theorem dX6_leastBy_33 : decode cX6_leastBy 33 = .ok (.istore_n 3, 1) := dk_62 (dk_at dksX6_leastBy_1 11 rfl rfl)
theorem dX6_leastBy_34 : decode cX6_leastBy 34 = .ok (.iload_n 3, 1) := dk_29 (dk_at dksX6_leastBy_1 12 rfl rfl)
theorem dX6_leastBy_35 : decode cX6_leastBy 35 = .ok (.iload_n 2, 1) := dk_28 (dk_at dksX6_leastBy_1 13 rfl rfl)
theorem dX6_leastBy_36 : decode cX6_leastBy 36 = .ok (.if_icmp .ge 156, 3) := dk_162 0 156 (dk_at dksX6_leastBy_1 14 rfl rfl)
theorem dX6_leastBy_39 : decode cX6_leastBy 39 = .ok (.iload_n 1, 1) := dk_27 (dk_at dksX6_leastBy_1 17 rfl rfl)
theorem dX6_leastBy_40 : decode cX6_leastBy 40 = .ok (.istore 4, 2) := dk_54 4 (dk_at dksX6_leastBy_1 18 rfl rfl)
theorem dX6_leastBy_42 : decode cX6_leastBy 42 = .ok (.iload 4, 2) := dk_21 4 (dk_at dksX6_leastBy_1 20 rfl rfl)
theorem dX6_leastBy_44 : decode cX6_leastBy 44 = .ok (.ifCond .lt 94, 3) := dk_155 0 94 (dk_at dksX6_leastBy_2 0 rfl rfl)
theorem dX6_leastBy_47 : decode cX6_leastBy 47 = .ok (.iload 4, 2) := dk_21 4 (dk_at dksX6_leastBy_2 3 rfl rfl)
theorem dX6_leastBy_49 : decode cX6_leastBy 49 = .ok (.iload_n 1, 1) := dk_27 (dk_at dksX6_leastBy_2 5 rfl rfl)
theorem dX6_leastBy_50 : decode cX6_leastBy 50 = .ok (.iconst (-1), 1) := dk_2 (dk_at dksX6_leastBy_2 6 rfl rfl)
theorem dX6_leastBy_51 : decode cX6_leastBy 51 = .ok (.ixor, 1) := dk_130 (dk_at dksX6_leastBy_2 7 rfl rfl)
theorem dX6_leastBy_52 : decode cX6_leastBy 52 = .ok (.iand, 1) := dk_126 (dk_at dksX6_leastBy_2 8 rfl rfl)
theorem dX6_leastBy_53 : decode cX6_leastBy 53 = .ok (.ifCond .eq 6, 3) := dk_153 0 6 (dk_at dksX6_leastBy_2 9 rfl rfl)
theorem dX6_leastBy_56 : decode cX6_leastBy 56 = .ok (.goto 76, 3) := dk_167 0 76 (dk_at dksX6_leastBy_2 12 rfl rfl)
theorem dX6_leastBy_59 : decode cX6_leastBy 59 = .ok (.aload_n 0, 1) := dk_42 (dk_at dksX6_leastBy_2 15 rfl rfl)
theorem dX6_leastBy_60 : decode cX6_leastBy 60 = .ok (.getfield 35, 3) := dk_180 0 35 (dk_at dksX6_leastBy_2 16 rfl rfl)
theorem dX6_leastBy_63 : decode cX6_leastBy 63 = .ok (.iload 4, 2) := dk_21 4 (dk_at dksX6_leastBy_2 19 rfl rfl)
theorem dX6_leastBy_65 : decode cX6_leastBy 65 = .ok (.aload_n 0, 1) := dk_42 (dk_at dksX6_leastBy_2 21 rfl rfl)
theorem dX6_leastBy_66 : decode cX6_leastBy 66 = .ok (.getfield 32, 3) := dk_180 0 32 (dk_at dksX6_leastBy_3 0 rfl rfl)
theorem dX6_leastBy_69 : decode cX6_leastBy 69 = .ok (.iload 4, 2) := dk_21 4 (dk_at dksX6_leastBy_3 3 rfl rfl)
theorem dX6_leastBy_71 : decode cX6_leastBy 71 = .ok (.iaload, 1) := dk_46 (dk_at dksX6_leastBy_3 5 rfl rfl)
theorem dX6_leastBy_72 : decode cX6_leastBy 72 = .ok (.iastore, 1) := dk_79 (dk_at dksX6_leastBy_3 6 rfl rfl)
theorem dX6_leastBy_73 : decode cX6_leastBy 73 = .ok (.iload 4, 2) := dk_21 4 (dk_at dksX6_leastBy_3 7 rfl rfl)
theorem dX6_leastBy_75 : decode cX6_leastBy 75 = .ok (.istore 5, 2) := dk_54 5 (dk_at dksX6_leastBy_3 9 rfl rfl)
theorem dX6_leastBy_77 : decode cX6_leastBy 77 = .ok (.iload 5, 2) := dk_21 5 (dk_at dksX6_leastBy_3 11 rfl rfl)
theorem dX6_leastBy_79 : decode cX6_leastBy 79 = .ok (.ifCond .le 53, 3) := dk_158 0 53 (dk_at dksX6_leastBy_3 13 rfl rfl)
theorem dX6_leastBy_82 : decode cX6_leastBy 82 = .ok (.aload_n 0, 1) := dk_42 (dk_at dksX6_leastBy_3 16 rfl rfl)
theorem dX6_leastBy_83 : decode cX6_leastBy 83 = .ok (.getfield 35, 3) := dk_180 0 35 (dk_at dksX6_leastBy_3 17 rfl rfl)
theorem dX6_leastBy_86 : decode cX6_leastBy 86 = .ok (.iload 4, 2) := dk_21 4 (dk_at dksX6_leastBy_3 20 rfl rfl)
theorem dX6_leastBy_88 : decode cX6_leastBy 88 = .ok (.aload_n 0, 1) := dk_42 (dk_at dksX6_leastBy_3 22 rfl rfl)
theorem dX6_leastBy_89 : decode cX6_leastBy 89 = .ok (.getfield 35, 3) := dk_180 0 35 (dk_at dksX6_leastBy_4 0 rfl rfl)
theorem dX6_leastBy_92 : decode cX6_leastBy 92 = .ok (.iload 4, 2) := dk_21 4 (dk_at dksX6_leastBy_4 3 rfl rfl)
theorem dX6_leastBy_94 : decode cX6_leastBy 94 = .ok (.iaload, 1) := dk_46 (dk_at dksX6_leastBy_4 5 rfl rfl)
theorem dX6_leastBy_95 : decode cX6_leastBy 95 = .ok (.aload_n 0, 1) := dk_42 (dk_at dksX6_leastBy_4 6 rfl rfl)
theorem dX6_leastBy_96 : decode cX6_leastBy 96 = .ok (.iload 5, 2) := dk_21 5 (dk_at dksX6_leastBy_4 7 rfl rfl)
theorem dX6_leastBy_98 : decode cX6_leastBy 98 = .ok (.invokevirtual 60, 3) := dk_182 0 60 (dk_at dksX6_leastBy_4 9 rfl rfl)
theorem dX6_leastBy_101 : decode cX6_leastBy 101 = .ok (.aload_n 0, 1) := dk_42 (dk_at dksX6_leastBy_4 12 rfl rfl)
theorem dX6_leastBy_102 : decode cX6_leastBy 102 = .ok (.getfield 32, 3) := dk_180 0 32 (dk_at dksX6_leastBy_4 13 rfl rfl)
theorem dX6_leastBy_105 : decode cX6_leastBy 105 = .ok (.iload 4, 2) := dk_21 4 (dk_at dksX6_leastBy_4 16 rfl rfl)
theorem dX6_leastBy_107 : decode cX6_leastBy 107 = .ok (.iload 5, 2) := dk_21 5 (dk_at dksX6_leastBy_4 18 rfl rfl)
theorem dX6_leastBy_109 : decode cX6_leastBy 109 = .ok (.iconst (-1), 1) := dk_2 (dk_at dksX6_leastBy_4 20 rfl rfl)
theorem dX6_leastBy_110 : decode cX6_leastBy 110 = .ok (.ixor, 1) := dk_130 (dk_at dksX6_leastBy_4 21 rfl rfl)
theorem dX6_leastBy_111 : decode cX6_leastBy 111 = .ok (.iand, 1) := dk_126 (dk_at dksX6_leastBy_4 22 rfl rfl)
theorem dX6_leastBy_112 : decode cX6_leastBy 112 = .ok (.iaload, 1) := dk_46 (dk_at dksX6_leastBy_4 23 rfl rfl)
theorem dX6_leastBy_113 : decode cX6_leastBy 113 = .ok (.invokestatic 251, 3) := dk_184 0 251 (dk_at dksX6_leastBy_5 0 rfl rfl)
theorem dX6_leastBy_116 : decode cX6_leastBy 116 = .ok (.invokestatic 258, 3) := dk_184 1 2 (dk_at dksX6_leastBy_5 3 rfl rfl)
theorem dX6_leastBy_119 : decode cX6_leastBy 119 = .ok (.iastore, 1) := dk_79 (dk_at dksX6_leastBy_5 6 rfl rfl)
theorem dX6_leastBy_120 : decode cX6_leastBy 120 = .ok (.iload 5, 2) := dk_21 5 (dk_at dksX6_leastBy_5 7 rfl rfl)
theorem dX6_leastBy_122 : decode cX6_leastBy 122 = .ok (.iconst 1, 1) := dk_4 (dk_at dksX6_leastBy_5 9 rfl rfl)
theorem dX6_leastBy_123 : decode cX6_leastBy 123 = .ok (.isub, 1) := dk_100 (dk_at dksX6_leastBy_5 10 rfl rfl)
theorem dX6_leastBy_124 : decode cX6_leastBy 124 = .ok (.iload 4, 2) := dk_21 4 (dk_at dksX6_leastBy_5 11 rfl rfl)
theorem dX6_leastBy_126 : decode cX6_leastBy 126 = .ok (.iand, 1) := dk_126 (dk_at dksX6_leastBy_5 13 rfl rfl)
theorem dX6_leastBy_127 : decode cX6_leastBy 127 = .ok (.istore 5, 2) := dk_54 5 (dk_at dksX6_leastBy_5 14 rfl rfl)
theorem dX6_leastBy_129 : decode cX6_leastBy 129 = .ok (.goto (-52), 3) := dk_167 255 204 (dk_at dksX6_leastBy_5 16 rfl rfl)
theorem dX6_leastBy_132 : decode cX6_leastBy 132 = .ok (.iinc 4 (-1), 3) := dk_132 4 255 (dk_at dksX6_leastBy_5 19 rfl rfl)
theorem dX6_leastBy_135 : decode cX6_leastBy 135 = .ok (.goto (-93), 3) := dk_167 255 163 (dk_at dksX6_leastBy_6 0 rfl rfl)
theorem dX6_leastBy_138 : decode cX6_leastBy 138 = .ok (.iconst 0, 1) := dk_3 (dk_at dksX6_leastBy_6 3 rfl rfl)
theorem dX6_leastBy_139 : decode cX6_leastBy 139 = .ok (.istore 4, 2) := dk_54 4 (dk_at dksX6_leastBy_6 4 rfl rfl)
theorem dX6_leastBy_141 : decode cX6_leastBy 141 = .ok (.iload 4, 2) := dk_21 4 (dk_at dksX6_leastBy_6 6 rfl rfl)
theorem dX6_leastBy_143 : decode cX6_leastBy 143 = .ok (.iload_n 1, 1) := dk_27 (dk_at dksX6_leastBy_6 8 rfl rfl)
theorem dX6_leastBy_144 : decode cX6_leastBy 144 = .ok (.if_icmp .gt 42, 3) := dk_163 0 42 (dk_at dksX6_leastBy_6 9 rfl rfl)
theorem dX6_leastBy_147 : decode cX6_leastBy 147 = .ok (.aload_n 0, 1) := dk_42 (dk_at dksX6_leastBy_6 12 rfl rfl)
theorem dX6_leastBy_148 : decode cX6_leastBy 148 = .ok (.getfield 32, 3) := dk_180 0 32 (dk_at dksX6_leastBy_6 13 rfl rfl)
theorem dX6_leastBy_151 : decode cX6_leastBy 151 = .ok (.iload 4, 2) := dk_21 4 (dk_at dksX6_leastBy_6 16 rfl rfl)
theorem dX6_leastBy_153 : decode cX6_leastBy 153 = .ok (.iload 4, 2) := dk_21 4 (dk_at dksX6_leastBy_6 18 rfl rfl)
theorem dX6_leastBy_155 : decode cX6_leastBy 155 = .ok (.iload_n 1, 1) := dk_27 (dk_at dksX6_leastBy_6 20 rfl rfl)
theorem dX6_leastBy_156 : decode cX6_leastBy 156 = .ok (.iconst (-1), 1) := dk_2 (dk_at dksX6_leastBy_6 21 rfl rfl)
theorem dX6_leastBy_157 : decode cX6_leastBy 157 = .ok (.ixor, 1) := dk_130 (dk_at dksX6_leastBy_6 22 rfl rfl)
theorem dX6_leastBy_158 : decode cX6_leastBy 158 = .ok (.iand, 1) := dk_126 (dk_at dksX6_leastBy_6 23 rfl rfl)
theorem dX6_leastBy_159 : decode cX6_leastBy 159 = .ok (.ifCond .ne 13, 3) := dk_154 0 13 (dk_at dksX6_leastBy_7 0 rfl rfl)
theorem dX6_leastBy_162 : decode cX6_leastBy 162 = .ok (.aload_n 0, 1) := dk_42 (dk_at dksX6_leastBy_7 3 rfl rfl)
theorem dX6_leastBy_163 : decode cX6_leastBy 163 = .ok (.getfield 35, 3) := dk_180 0 35 (dk_at dksX6_leastBy_7 4 rfl rfl)
theorem dX6_leastBy_166 : decode cX6_leastBy 166 = .ok (.iload 4, 2) := dk_21 4 (dk_at dksX6_leastBy_7 7 rfl rfl)
theorem dX6_leastBy_168 : decode cX6_leastBy 168 = .ok (.iaload, 1) := dk_46 (dk_at dksX6_leastBy_7 9 rfl rfl)
theorem dX6_leastBy_169 : decode cX6_leastBy 169 = .ok (.goto 10, 3) := dk_167 0 10 (dk_at dksX6_leastBy_7 10 rfl rfl)
theorem dX6_leastBy_172 : decode cX6_leastBy 172 = .ok (.aload_n 0, 1) := dk_42 (dk_at dksX6_leastBy_7 13 rfl rfl)
theorem dX6_leastBy_173 : decode cX6_leastBy 173 = .ok (.getfield 32, 3) := dk_180 0 32 (dk_at dksX6_leastBy_7 14 rfl rfl)
theorem dX6_leastBy_176 : decode cX6_leastBy 176 = .ok (.iload 4, 2) := dk_21 4 (dk_at dksX6_leastBy_7 17 rfl rfl)
theorem dX6_leastBy_178 : decode cX6_leastBy 178 = .ok (.iaload, 1) := dk_46 (dk_at dksX6_leastBy_7 19 rfl rfl)
theorem dX6_leastBy_179 : decode cX6_leastBy 179 = .ok (.iastore, 1) := dk_79 (dk_at dksX6_leastBy_7 20 rfl rfl)
theorem dX6_leastBy_180 : decode cX6_leastBy 180 = .ok (.iinc 4 1, 3) := dk_132 4 1 (dk_at dksX6_leastBy_7 21 rfl rfl)
theorem dX6_leastBy_183 : decode cX6_leastBy 183 = .ok (.goto (-42), 3) := dk_167 255 214 (dk_at dksX6_leastBy_8 0 rfl rfl)
theorem dX6_leastBy_186 : decode cX6_leastBy 186 = .ok (.iinc 3 1, 3) := dk_132 3 1 (dk_at dksX6_leastBy_8 3 rfl rfl)
theorem dX6_leastBy_189 : decode cX6_leastBy 189 = .ok (.goto (-155), 3) := dk_167 255 101 (dk_at dksX6_leastBy_8 6 rfl rfl)
theorem dX6_leastBy_192 : decode cX6_leastBy 192 = .ok (.aload_n 0, 1) := dk_42 (dk_at dksX6_leastBy_8 9 rfl rfl)
theorem dX6_leastBy_193 : decode cX6_leastBy 193 = .ok (.getfield 32, 3) := dk_180 0 32 (dk_at dksX6_leastBy_8 10 rfl rfl)
theorem dX6_leastBy_196 : decode cX6_leastBy 196 = .ok (.iload_n 1, 1) := dk_27 (dk_at dksX6_leastBy_8 13 rfl rfl)
theorem dX6_leastBy_197 : decode cX6_leastBy 197 = .ok (.iaload, 1) := dk_46 (dk_at dksX6_leastBy_8 14 rfl rfl)
theorem dX6_leastBy_198 : decode cX6_leastBy 198 = .ok (.ireturn, 1) := dk_172 (dk_at dksX6_leastBy_8 15 rfl rfl)
abbrev cX6_kth : ByteArray := prog_19_method_81_code
def yX6_kth : MethodName := ⟨RX6, "kth", "(II)I"⟩
def dkwX6_kth_1 : List UInt8 := [160, 0, 5, 29, 172, 132, 2, 1, 132, 3, 1, 167, 255, 226, 2, 172]
abbrev dktX6_kth_1 : List UInt8 := dkwX6_kth_1 ++ []
def dkwX6_kth_0 : List UInt8 := [3, 61, 3, 62, 29, 16, 31, 162, 0, 30, 26, 29, 184, 0, 52, 154, 0, 6, 167, 0, 13, 28, 27]
abbrev dktX6_kth_0 : List UInt8 := dkwX6_kth_0 ++ dktX6_kth_1
theorem dksX6_kth_0 : cX6_kth.data.toList.drop 0 = dktX6_kth_0 := by decide +kernel
theorem dksX6_kth_1 : cX6_kth.data.toList.drop 23 = dktX6_kth_1 := dk_seg dksX6_kth_0 23 rfl rfl
theorem dX6_kth_0 : decode cX6_kth 0 = .ok (.iconst 0, 1) := dk_3 (dk_at dksX6_kth_0 0 rfl rfl)
theorem dX6_kth_1 : decode cX6_kth 1 = .ok (.istore_n 2, 1) := dk_61 (dk_at dksX6_kth_0 1 rfl rfl)
theorem dX6_kth_2 : decode cX6_kth 2 = .ok (.iconst 0, 1) := dk_3 (dk_at dksX6_kth_0 2 rfl rfl)
theorem dX6_kth_3 : decode cX6_kth 3 = .ok (.istore_n 3, 1) := dk_62 (dk_at dksX6_kth_0 3 rfl rfl)
theorem dX6_kth_4 : decode cX6_kth 4 = .ok (.iload_n 3, 1) := dk_29 (dk_at dksX6_kth_0 4 rfl rfl)
theorem dX6_kth_5 : decode cX6_kth 5 = .ok (.bipush 31, 2) := dk_16 31 (dk_at dksX6_kth_0 5 rfl rfl)
theorem dX6_kth_7 : decode cX6_kth 7 = .ok (.if_icmp .ge 30, 3) := dk_162 0 30 (dk_at dksX6_kth_0 7 rfl rfl)
theorem dX6_kth_10 : decode cX6_kth 10 = .ok (.iload_n 0, 1) := dk_26 (dk_at dksX6_kth_0 10 rfl rfl)
theorem dX6_kth_11 : decode cX6_kth 11 = .ok (.iload_n 3, 1) := dk_29 (dk_at dksX6_kth_0 11 rfl rfl)
theorem dX6_kth_12 : decode cX6_kth 12 = .ok (.invokestatic 52, 3) := dk_184 0 52 (dk_at dksX6_kth_0 12 rfl rfl)
theorem dX6_kth_15 : decode cX6_kth 15 = .ok (.ifCond .ne 6, 3) := dk_154 0 6 (dk_at dksX6_kth_0 15 rfl rfl)
theorem dX6_kth_18 : decode cX6_kth 18 = .ok (.goto 13, 3) := dk_167 0 13 (dk_at dksX6_kth_0 18 rfl rfl)
theorem dX6_kth_21 : decode cX6_kth 21 = .ok (.iload_n 2, 1) := dk_28 (dk_at dksX6_kth_0 21 rfl rfl)
theorem dX6_kth_22 : decode cX6_kth 22 = .ok (.iload_n 1, 1) := dk_27 (dk_at dksX6_kth_0 22 rfl rfl)
theorem dX6_kth_23 : decode cX6_kth 23 = .ok (.if_icmp .ne 5, 3) := dk_160 0 5 (dk_at dksX6_kth_1 0 rfl rfl)
theorem dX6_kth_26 : decode cX6_kth 26 = .ok (.iload_n 3, 1) := dk_29 (dk_at dksX6_kth_1 3 rfl rfl)
theorem dX6_kth_27 : decode cX6_kth 27 = .ok (.ireturn, 1) := dk_172 (dk_at dksX6_kth_1 4 rfl rfl)
theorem dX6_kth_28 : decode cX6_kth 28 = .ok (.iinc 2 1, 3) := dk_132 2 1 (dk_at dksX6_kth_1 5 rfl rfl)
theorem dX6_kth_31 : decode cX6_kth 31 = .ok (.iinc 3 1, 3) := dk_132 3 1 (dk_at dksX6_kth_1 8 rfl rfl)
theorem dX6_kth_34 : decode cX6_kth 34 = .ok (.goto (-30), 3) := dk_167 255 226 (dk_at dksX6_kth_1 11 rfl rfl)
theorem dX6_kth_37 : decode cX6_kth 37 = .ok (.iconst (-1), 1) := dk_2 (dk_at dksX6_kth_1 14 rfl rfl)
theorem dX6_kth_38 : decode cX6_kth 38 = .ok (.ireturn, 1) := dk_172 (dk_at dksX6_kth_1 15 rfl rfl)
abbrev cX6_gives : ByteArray := prog_19_method_83_code
def yX6_gives : MethodName := ⟨RX6, "gives", "(IIII)Z"⟩
def dkwX6_gives_1 : List UInt8 := [21, 4, 182, 1, 68, 153, 0, 5, 4, 172, 42, 180, 0, 38, 27, 92, 46, 28, 96, 79, 3, 172]
abbrev dktX6_gives_1 : List UInt8 := dkwX6_gives_1 ++ []
def dkwX6_gives_0 : List UInt8 := [28, 42, 180, 0, 38, 27, 46, 164, 0, 5, 3, 172, 42, 180, 0, 38, 27, 92, 46, 28, 100, 79, 42, 29]
abbrev dktX6_gives_0 : List UInt8 := dkwX6_gives_0 ++ dktX6_gives_1
theorem dksX6_gives_0 : cX6_gives.data.toList.drop 0 = dktX6_gives_0 := by decide +kernel
theorem dksX6_gives_1 : cX6_gives.data.toList.drop 24 = dktX6_gives_1 := dk_seg dksX6_gives_0 24 rfl rfl
theorem dX6_gives_0 : decode cX6_gives 0 = .ok (.iload_n 2, 1) := dk_28 (dk_at dksX6_gives_0 0 rfl rfl)
theorem dX6_gives_1 : decode cX6_gives 1 = .ok (.aload_n 0, 1) := dk_42 (dk_at dksX6_gives_0 1 rfl rfl)
theorem dX6_gives_2 : decode cX6_gives 2 = .ok (.getfield 38, 3) := dk_180 0 38 (dk_at dksX6_gives_0 2 rfl rfl)
theorem dX6_gives_5 : decode cX6_gives 5 = .ok (.iload_n 1, 1) := dk_27 (dk_at dksX6_gives_0 5 rfl rfl)
theorem dX6_gives_6 : decode cX6_gives 6 = .ok (.iaload, 1) := dk_46 (dk_at dksX6_gives_0 6 rfl rfl)
theorem dX6_gives_7 : decode cX6_gives 7 = .ok (.if_icmp .le 5, 3) := dk_164 0 5 (dk_at dksX6_gives_0 7 rfl rfl)
theorem dX6_gives_10 : decode cX6_gives 10 = .ok (.iconst 0, 1) := dk_3 (dk_at dksX6_gives_0 10 rfl rfl)
theorem dX6_gives_11 : decode cX6_gives 11 = .ok (.ireturn, 1) := dk_172 (dk_at dksX6_gives_0 11 rfl rfl)
theorem dX6_gives_12 : decode cX6_gives 12 = .ok (.aload_n 0, 1) := dk_42 (dk_at dksX6_gives_0 12 rfl rfl)
theorem dX6_gives_13 : decode cX6_gives 13 = .ok (.getfield 38, 3) := dk_180 0 38 (dk_at dksX6_gives_0 13 rfl rfl)
theorem dX6_gives_16 : decode cX6_gives 16 = .ok (.iload_n 1, 1) := dk_27 (dk_at dksX6_gives_0 16 rfl rfl)
theorem dX6_gives_17 : decode cX6_gives 17 = .ok (.dup2, 1) := dk_92 (dk_at dksX6_gives_0 17 rfl rfl)
theorem dX6_gives_18 : decode cX6_gives 18 = .ok (.iaload, 1) := dk_46 (dk_at dksX6_gives_0 18 rfl rfl)
theorem dX6_gives_19 : decode cX6_gives 19 = .ok (.iload_n 2, 1) := dk_28 (dk_at dksX6_gives_0 19 rfl rfl)
theorem dX6_gives_20 : decode cX6_gives 20 = .ok (.isub, 1) := dk_100 (dk_at dksX6_gives_0 20 rfl rfl)
theorem dX6_gives_21 : decode cX6_gives 21 = .ok (.iastore, 1) := dk_79 (dk_at dksX6_gives_0 21 rfl rfl)
theorem dX6_gives_22 : decode cX6_gives 22 = .ok (.aload_n 0, 1) := dk_42 (dk_at dksX6_gives_0 22 rfl rfl)
theorem dX6_gives_23 : decode cX6_gives 23 = .ok (.iload_n 3, 1) := dk_29 (dk_at dksX6_gives_0 23 rfl rfl)
theorem dX6_gives_24 : decode cX6_gives 24 = .ok (.iload 4, 2) := dk_21 4 (dk_at dksX6_gives_1 0 rfl rfl)
theorem dX6_gives_26 : decode cX6_gives 26 = .ok (.invokevirtual 324, 3) := dk_182 1 68 (dk_at dksX6_gives_1 2 rfl rfl)
theorem dX6_gives_29 : decode cX6_gives 29 = .ok (.ifCond .eq 5, 3) := dk_153 0 5 (dk_at dksX6_gives_1 5 rfl rfl)
theorem dX6_gives_32 : decode cX6_gives 32 = .ok (.iconst 1, 1) := dk_4 (dk_at dksX6_gives_1 8 rfl rfl)
theorem dX6_gives_33 : decode cX6_gives 33 = .ok (.ireturn, 1) := dk_172 (dk_at dksX6_gives_1 9 rfl rfl)
theorem dX6_gives_34 : decode cX6_gives 34 = .ok (.aload_n 0, 1) := dk_42 (dk_at dksX6_gives_1 10 rfl rfl)
theorem dX6_gives_35 : decode cX6_gives 35 = .ok (.getfield 38, 3) := dk_180 0 38 (dk_at dksX6_gives_1 11 rfl rfl)
theorem dX6_gives_38 : decode cX6_gives 38 = .ok (.iload_n 1, 1) := dk_27 (dk_at dksX6_gives_1 14 rfl rfl)
theorem dX6_gives_39 : decode cX6_gives 39 = .ok (.dup2, 1) := dk_92 (dk_at dksX6_gives_1 15 rfl rfl)
theorem dX6_gives_40 : decode cX6_gives 40 = .ok (.iaload, 1) := dk_46 (dk_at dksX6_gives_1 16 rfl rfl)
theorem dX6_gives_41 : decode cX6_gives 41 = .ok (.iload_n 2, 1) := dk_28 (dk_at dksX6_gives_1 17 rfl rfl)
theorem dX6_gives_42 : decode cX6_gives 42 = .ok (.iadd, 1) := dk_96 (dk_at dksX6_gives_1 18 rfl rfl)
theorem dX6_gives_43 : decode cX6_gives 43 = .ok (.iastore, 1) := dk_79 (dk_at dksX6_gives_1 19 rfl rfl)
theorem dX6_gives_44 : decode cX6_gives 44 = .ok (.iconst 0, 1) := dk_3 (dk_at dksX6_gives_1 20 rfl rfl)
theorem dX6_gives_45 : decode cX6_gives 45 = .ok (.ireturn, 1) := dk_172 (dk_at dksX6_gives_1 21 rfl rfl)
abbrev cX6_canGive : ByteArray := prog_19_method_80_code
def yX6_canGive : MethodName := ⟨RX6, "canGive", "(II)Z"⟩
def dkwX6_canGive_6 : List UInt8 := [132, 3, 1, 167, 255, 142, 42, 180, 0, 32, 27, 46, 4, 160, 0, 7, 4, 167, 0, 4, 3, 172]
abbrev dktX6_canGive_6 : List UInt8 := dkwX6_canGive_6 ++ []
def dkwX6_canGive_5 : List UInt8 := [167, 0, 4, 3, 79, 21, 5, 4, 100, 21, 4, 126, 54, 5, 167, 255, 194, 132, 4, 255, 167, 255, 156]
abbrev dktX6_canGive_5 : List UInt8 := dkwX6_canGive_5 ++ dktX6_canGive_6
def dkwX6_canGive_4 : List UInt8 := [182, 0, 60, 42, 180, 0, 38, 29, 46, 163, 0, 18, 42, 180, 0, 32, 21, 4, 21, 5, 2, 130, 126, 46]
abbrev dktX6_canGive_4 : List UInt8 := dkwX6_canGive_4 ++ dktX6_canGive_5
def dkwX6_canGive_3 : List UInt8 := [21, 5, 158, 0, 63, 42, 180, 0, 32, 21, 4, 46, 154, 0, 53, 42, 180, 0, 32, 21, 4, 42, 21, 5]
abbrev dktX6_canGive_3 : List UInt8 := dkwX6_canGive_3 ++ dktX6_canGive_4
def dkwX6_canGive_2 : List UInt8 := [2, 130, 126, 154, 0, 86, 42, 180, 0, 32, 21, 4, 46, 4, 160, 0, 6, 167, 0, 72, 21, 4, 54, 5]
abbrev dktX6_canGive_2 : List UInt8 := dkwX6_canGive_2 ++ dktX6_canGive_3
def dkwX6_canGive_1 : List UInt8 := [132, 3, 1, 167, 255, 231, 3, 62, 29, 28, 162, 0, 115, 27, 54, 4, 21, 4, 155, 0, 101, 21, 4, 27]
abbrev dktX6_canGive_1 : List UInt8 := dkwX6_canGive_1 ++ dktX6_canGive_2
def dkwX6_canGive_0 : List UInt8 := [3, 62, 29, 17, 4, 0, 162, 0, 24, 42, 180, 0, 32, 29, 29, 154, 0, 7, 4, 167, 0, 4, 3, 79]
abbrev dktX6_canGive_0 : List UInt8 := dkwX6_canGive_0 ++ dktX6_canGive_1
theorem dksX6_canGive_0 : cX6_canGive.data.toList.drop 0 = dktX6_canGive_0 := by decide +kernel
theorem dksX6_canGive_1 : cX6_canGive.data.toList.drop 24 = dktX6_canGive_1 := dk_seg dksX6_canGive_0 24 rfl rfl
theorem dksX6_canGive_2 : cX6_canGive.data.toList.drop 48 = dktX6_canGive_2 := dk_seg dksX6_canGive_1 24 rfl rfl
theorem dksX6_canGive_3 : cX6_canGive.data.toList.drop 72 = dktX6_canGive_3 := dk_seg dksX6_canGive_2 24 rfl rfl
theorem dksX6_canGive_4 : cX6_canGive.data.toList.drop 96 = dktX6_canGive_4 := dk_seg dksX6_canGive_3 24 rfl rfl
theorem dksX6_canGive_5 : cX6_canGive.data.toList.drop 120 = dktX6_canGive_5 := dk_seg dksX6_canGive_4 24 rfl rfl
theorem dksX6_canGive_6 : cX6_canGive.data.toList.drop 143 = dktX6_canGive_6 := dk_seg dksX6_canGive_5 23 rfl rfl
theorem dX6_canGive_0 : decode cX6_canGive 0 = .ok (.iconst 0, 1) := dk_3 (dk_at dksX6_canGive_0 0 rfl rfl)
theorem dX6_canGive_1 : decode cX6_canGive 1 = .ok (.istore_n 3, 1) := dk_62 (dk_at dksX6_canGive_0 1 rfl rfl)
theorem dX6_canGive_2 : decode cX6_canGive 2 = .ok (.iload_n 3, 1) := dk_29 (dk_at dksX6_canGive_0 2 rfl rfl)
theorem dX6_canGive_3 : decode cX6_canGive 3 = .ok (.sipush 1024, 3) := dk_17 4 0 (dk_at dksX6_canGive_0 3 rfl rfl)
theorem dX6_canGive_6 : decode cX6_canGive 6 = .ok (.if_icmp .ge 24, 3) := dk_162 0 24 (dk_at dksX6_canGive_0 6 rfl rfl)
theorem dX6_canGive_9 : decode cX6_canGive 9 = .ok (.aload_n 0, 1) := dk_42 (dk_at dksX6_canGive_0 9 rfl rfl)
theorem dX6_canGive_10 : decode cX6_canGive 10 = .ok (.getfield 32, 3) := dk_180 0 32 (dk_at dksX6_canGive_0 10 rfl rfl)
theorem dX6_canGive_13 : decode cX6_canGive 13 = .ok (.iload_n 3, 1) := dk_29 (dk_at dksX6_canGive_0 13 rfl rfl)
theorem dX6_canGive_14 : decode cX6_canGive 14 = .ok (.iload_n 3, 1) := dk_29 (dk_at dksX6_canGive_0 14 rfl rfl)
theorem dX6_canGive_15 : decode cX6_canGive 15 = .ok (.ifCond .ne 7, 3) := dk_154 0 7 (dk_at dksX6_canGive_0 15 rfl rfl)
theorem dX6_canGive_18 : decode cX6_canGive 18 = .ok (.iconst 1, 1) := dk_4 (dk_at dksX6_canGive_0 18 rfl rfl)
theorem dX6_canGive_19 : decode cX6_canGive 19 = .ok (.goto 4, 3) := dk_167 0 4 (dk_at dksX6_canGive_0 19 rfl rfl)
theorem dX6_canGive_22 : decode cX6_canGive 22 = .ok (.iconst 0, 1) := dk_3 (dk_at dksX6_canGive_0 22 rfl rfl)
theorem dX6_canGive_23 : decode cX6_canGive 23 = .ok (.iastore, 1) := dk_79 (dk_at dksX6_canGive_0 23 rfl rfl)
theorem dX6_canGive_24 : decode cX6_canGive 24 = .ok (.iinc 3 1, 3) := dk_132 3 1 (dk_at dksX6_canGive_1 0 rfl rfl)
theorem dX6_canGive_27 : decode cX6_canGive 27 = .ok (.goto (-25), 3) := dk_167 255 231 (dk_at dksX6_canGive_1 3 rfl rfl)
theorem dX6_canGive_30 : decode cX6_canGive 30 = .ok (.iconst 0, 1) := dk_3 (dk_at dksX6_canGive_1 6 rfl rfl)
theorem dX6_canGive_31 : decode cX6_canGive 31 = .ok (.istore_n 3, 1) := dk_62 (dk_at dksX6_canGive_1 7 rfl rfl)
theorem dX6_canGive_32 : decode cX6_canGive 32 = .ok (.iload_n 3, 1) := dk_29 (dk_at dksX6_canGive_1 8 rfl rfl)
theorem dX6_canGive_33 : decode cX6_canGive 33 = .ok (.iload_n 2, 1) := dk_28 (dk_at dksX6_canGive_1 9 rfl rfl)
theorem dX6_canGive_34 : decode cX6_canGive 34 = .ok (.if_icmp .ge 115, 3) := dk_162 0 115 (dk_at dksX6_canGive_1 10 rfl rfl)
theorem dX6_canGive_37 : decode cX6_canGive 37 = .ok (.iload_n 1, 1) := dk_27 (dk_at dksX6_canGive_1 13 rfl rfl)
theorem dX6_canGive_38 : decode cX6_canGive 38 = .ok (.istore 4, 2) := dk_54 4 (dk_at dksX6_canGive_1 14 rfl rfl)
theorem dX6_canGive_40 : decode cX6_canGive 40 = .ok (.iload 4, 2) := dk_21 4 (dk_at dksX6_canGive_1 16 rfl rfl)
theorem dX6_canGive_42 : decode cX6_canGive 42 = .ok (.ifCond .lt 101, 3) := dk_155 0 101 (dk_at dksX6_canGive_1 18 rfl rfl)
theorem dX6_canGive_45 : decode cX6_canGive 45 = .ok (.iload 4, 2) := dk_21 4 (dk_at dksX6_canGive_1 21 rfl rfl)
theorem dX6_canGive_47 : decode cX6_canGive 47 = .ok (.iload_n 1, 1) := dk_27 (dk_at dksX6_canGive_1 23 rfl rfl)
theorem dX6_canGive_48 : decode cX6_canGive 48 = .ok (.iconst (-1), 1) := dk_2 (dk_at dksX6_canGive_2 0 rfl rfl)
theorem dX6_canGive_49 : decode cX6_canGive 49 = .ok (.ixor, 1) := dk_130 (dk_at dksX6_canGive_2 1 rfl rfl)
theorem dX6_canGive_50 : decode cX6_canGive 50 = .ok (.iand, 1) := dk_126 (dk_at dksX6_canGive_2 2 rfl rfl)
theorem dX6_canGive_51 : decode cX6_canGive 51 = .ok (.ifCond .ne 86, 3) := dk_154 0 86 (dk_at dksX6_canGive_2 3 rfl rfl)
theorem dX6_canGive_54 : decode cX6_canGive 54 = .ok (.aload_n 0, 1) := dk_42 (dk_at dksX6_canGive_2 6 rfl rfl)
theorem dX6_canGive_55 : decode cX6_canGive 55 = .ok (.getfield 32, 3) := dk_180 0 32 (dk_at dksX6_canGive_2 7 rfl rfl)
theorem dX6_canGive_58 : decode cX6_canGive 58 = .ok (.iload 4, 2) := dk_21 4 (dk_at dksX6_canGive_2 10 rfl rfl)
theorem dX6_canGive_60 : decode cX6_canGive 60 = .ok (.iaload, 1) := dk_46 (dk_at dksX6_canGive_2 12 rfl rfl)
theorem dX6_canGive_61 : decode cX6_canGive 61 = .ok (.iconst 1, 1) := dk_4 (dk_at dksX6_canGive_2 13 rfl rfl)
theorem dX6_canGive_62 : decode cX6_canGive 62 = .ok (.if_icmp .ne 6, 3) := dk_160 0 6 (dk_at dksX6_canGive_2 14 rfl rfl)
theorem dX6_canGive_65 : decode cX6_canGive 65 = .ok (.goto 72, 3) := dk_167 0 72 (dk_at dksX6_canGive_2 17 rfl rfl)
theorem dX6_canGive_68 : decode cX6_canGive 68 = .ok (.iload 4, 2) := dk_21 4 (dk_at dksX6_canGive_2 20 rfl rfl)
theorem dX6_canGive_70 : decode cX6_canGive 70 = .ok (.istore 5, 2) := dk_54 5 (dk_at dksX6_canGive_2 22 rfl rfl)
theorem dX6_canGive_72 : decode cX6_canGive 72 = .ok (.iload 5, 2) := dk_21 5 (dk_at dksX6_canGive_3 0 rfl rfl)
theorem dX6_canGive_74 : decode cX6_canGive 74 = .ok (.ifCond .le 63, 3) := dk_158 0 63 (dk_at dksX6_canGive_3 2 rfl rfl)
theorem dX6_canGive_77 : decode cX6_canGive 77 = .ok (.aload_n 0, 1) := dk_42 (dk_at dksX6_canGive_3 5 rfl rfl)
theorem dX6_canGive_78 : decode cX6_canGive 78 = .ok (.getfield 32, 3) := dk_180 0 32 (dk_at dksX6_canGive_3 6 rfl rfl)
theorem dX6_canGive_81 : decode cX6_canGive 81 = .ok (.iload 4, 2) := dk_21 4 (dk_at dksX6_canGive_3 9 rfl rfl)
theorem dX6_canGive_83 : decode cX6_canGive 83 = .ok (.iaload, 1) := dk_46 (dk_at dksX6_canGive_3 11 rfl rfl)
theorem dX6_canGive_84 : decode cX6_canGive 84 = .ok (.ifCond .ne 53, 3) := dk_154 0 53 (dk_at dksX6_canGive_3 12 rfl rfl)
theorem dX6_canGive_87 : decode cX6_canGive 87 = .ok (.aload_n 0, 1) := dk_42 (dk_at dksX6_canGive_3 15 rfl rfl)
theorem dX6_canGive_88 : decode cX6_canGive 88 = .ok (.getfield 32, 3) := dk_180 0 32 (dk_at dksX6_canGive_3 16 rfl rfl)
theorem dX6_canGive_91 : decode cX6_canGive 91 = .ok (.iload 4, 2) := dk_21 4 (dk_at dksX6_canGive_3 19 rfl rfl)
theorem dX6_canGive_93 : decode cX6_canGive 93 = .ok (.aload_n 0, 1) := dk_42 (dk_at dksX6_canGive_3 21 rfl rfl)
theorem dX6_canGive_94 : decode cX6_canGive 94 = .ok (.iload 5, 2) := dk_21 5 (dk_at dksX6_canGive_3 22 rfl rfl)
theorem dX6_canGive_96 : decode cX6_canGive 96 = .ok (.invokevirtual 60, 3) := dk_182 0 60 (dk_at dksX6_canGive_4 0 rfl rfl)
theorem dX6_canGive_99 : decode cX6_canGive 99 = .ok (.aload_n 0, 1) := dk_42 (dk_at dksX6_canGive_4 3 rfl rfl)
theorem dX6_canGive_100 : decode cX6_canGive 100 = .ok (.getfield 38, 3) := dk_180 0 38 (dk_at dksX6_canGive_4 4 rfl rfl)
theorem dX6_canGive_103 : decode cX6_canGive 103 = .ok (.iload_n 3, 1) := dk_29 (dk_at dksX6_canGive_4 7 rfl rfl)
theorem dX6_canGive_104 : decode cX6_canGive 104 = .ok (.iaload, 1) := dk_46 (dk_at dksX6_canGive_4 8 rfl rfl)
theorem dX6_canGive_105 : decode cX6_canGive 105 = .ok (.if_icmp .gt 18, 3) := dk_163 0 18 (dk_at dksX6_canGive_4 9 rfl rfl)
theorem dX6_canGive_108 : decode cX6_canGive 108 = .ok (.aload_n 0, 1) := dk_42 (dk_at dksX6_canGive_4 12 rfl rfl)
theorem dX6_canGive_109 : decode cX6_canGive 109 = .ok (.getfield 32, 3) := dk_180 0 32 (dk_at dksX6_canGive_4 13 rfl rfl)
theorem dX6_canGive_112 : decode cX6_canGive 112 = .ok (.iload 4, 2) := dk_21 4 (dk_at dksX6_canGive_4 16 rfl rfl)
theorem dX6_canGive_114 : decode cX6_canGive 114 = .ok (.iload 5, 2) := dk_21 5 (dk_at dksX6_canGive_4 18 rfl rfl)
theorem dX6_canGive_116 : decode cX6_canGive 116 = .ok (.iconst (-1), 1) := dk_2 (dk_at dksX6_canGive_4 20 rfl rfl)
theorem dX6_canGive_117 : decode cX6_canGive 117 = .ok (.ixor, 1) := dk_130 (dk_at dksX6_canGive_4 21 rfl rfl)
theorem dX6_canGive_118 : decode cX6_canGive 118 = .ok (.iand, 1) := dk_126 (dk_at dksX6_canGive_4 22 rfl rfl)
theorem dX6_canGive_119 : decode cX6_canGive 119 = .ok (.iaload, 1) := dk_46 (dk_at dksX6_canGive_4 23 rfl rfl)
theorem dX6_canGive_120 : decode cX6_canGive 120 = .ok (.goto 4, 3) := dk_167 0 4 (dk_at dksX6_canGive_5 0 rfl rfl)
theorem dX6_canGive_123 : decode cX6_canGive 123 = .ok (.iconst 0, 1) := dk_3 (dk_at dksX6_canGive_5 3 rfl rfl)
theorem dX6_canGive_124 : decode cX6_canGive 124 = .ok (.iastore, 1) := dk_79 (dk_at dksX6_canGive_5 4 rfl rfl)
theorem dX6_canGive_125 : decode cX6_canGive 125 = .ok (.iload 5, 2) := dk_21 5 (dk_at dksX6_canGive_5 5 rfl rfl)
theorem dX6_canGive_127 : decode cX6_canGive 127 = .ok (.iconst 1, 1) := dk_4 (dk_at dksX6_canGive_5 7 rfl rfl)
theorem dX6_canGive_128 : decode cX6_canGive 128 = .ok (.isub, 1) := dk_100 (dk_at dksX6_canGive_5 8 rfl rfl)
theorem dX6_canGive_129 : decode cX6_canGive 129 = .ok (.iload 4, 2) := dk_21 4 (dk_at dksX6_canGive_5 9 rfl rfl)
theorem dX6_canGive_131 : decode cX6_canGive 131 = .ok (.iand, 1) := dk_126 (dk_at dksX6_canGive_5 11 rfl rfl)
theorem dX6_canGive_132 : decode cX6_canGive 132 = .ok (.istore 5, 2) := dk_54 5 (dk_at dksX6_canGive_5 12 rfl rfl)
theorem dX6_canGive_134 : decode cX6_canGive 134 = .ok (.goto (-62), 3) := dk_167 255 194 (dk_at dksX6_canGive_5 14 rfl rfl)
theorem dX6_canGive_137 : decode cX6_canGive 137 = .ok (.iinc 4 (-1), 3) := dk_132 4 255 (dk_at dksX6_canGive_5 17 rfl rfl)
theorem dX6_canGive_140 : decode cX6_canGive 140 = .ok (.goto (-100), 3) := dk_167 255 156 (dk_at dksX6_canGive_5 20 rfl rfl)
theorem dX6_canGive_143 : decode cX6_canGive 143 = .ok (.iinc 3 1, 3) := dk_132 3 1 (dk_at dksX6_canGive_6 0 rfl rfl)
theorem dX6_canGive_146 : decode cX6_canGive 146 = .ok (.goto (-114), 3) := dk_167 255 142 (dk_at dksX6_canGive_6 3 rfl rfl)
theorem dX6_canGive_149 : decode cX6_canGive 149 = .ok (.aload_n 0, 1) := dk_42 (dk_at dksX6_canGive_6 6 rfl rfl)
theorem dX6_canGive_150 : decode cX6_canGive 150 = .ok (.getfield 32, 3) := dk_180 0 32 (dk_at dksX6_canGive_6 7 rfl rfl)
theorem dX6_canGive_153 : decode cX6_canGive 153 = .ok (.iload_n 1, 1) := dk_27 (dk_at dksX6_canGive_6 10 rfl rfl)
theorem dX6_canGive_154 : decode cX6_canGive 154 = .ok (.iaload, 1) := dk_46 (dk_at dksX6_canGive_6 11 rfl rfl)
theorem dX6_canGive_155 : decode cX6_canGive 155 = .ok (.iconst 1, 1) := dk_4 (dk_at dksX6_canGive_6 12 rfl rfl)
theorem dX6_canGive_156 : decode cX6_canGive 156 = .ok (.if_icmp .ne 7, 3) := dk_160 0 7 (dk_at dksX6_canGive_6 13 rfl rfl)
theorem dX6_canGive_159 : decode cX6_canGive 159 = .ok (.iconst 1, 1) := dk_4 (dk_at dksX6_canGive_6 16 rfl rfl)
theorem dX6_canGive_160 : decode cX6_canGive 160 = .ok (.goto 4, 3) := dk_167 0 4 (dk_at dksX6_canGive_6 17 rfl rfl)
theorem dX6_canGive_163 : decode cX6_canGive 163 = .ok (.iconst 0, 1) := dk_3 (dk_at dksX6_canGive_6 20 rfl rfl)
theorem dX6_canGive_164 : decode cX6_canGive 164 = .ok (.ireturn, 1) := dk_172 (dk_at dksX6_canGive_6 21 rfl rfl)
abbrev cX6_goes : ByteArray := prog_19_method_84_code
def yX6_goes : MethodName := ⟨RX6, "goes", "()I"⟩
def dkwX6_goes_7 : List UInt8 := [100, 46, 61, 28, 19, 1, 57, 160, 0, 7, 2, 167, 0, 4, 28, 172]
abbrev dktX6_goes_7 : List UInt8 := dkwX6_goes_7 ++ []
def dkwX6_goes_6 : List UInt8 := [167, 255, 153, 42, 180, 0, 32, 28, 29, 79, 132, 2, 1, 167, 255, 118, 42, 180, 0, 32, 4, 27, 120, 4]
abbrev dktX6_goes_6 : List UInt8 := dkwX6_goes_6 ++ dktX6_goes_7
def dkwX6_goes_5 : List UInt8 := [180, 0, 32, 28, 21, 4, 2, 130, 126, 46, 96, 184, 1, 2, 62, 21, 4, 4, 100, 28, 126, 54, 4]
abbrev dktX6_goes_5 : List UInt8 := dkwX6_goes_5 ++ dktX6_goes_6
def dkwX6_goes_4 : List UInt8 := [46, 163, 0, 38, 42, 180, 0, 32, 28, 21, 4, 2, 130, 126, 46, 19, 1, 57, 159, 0, 21, 29, 4, 42]
abbrev dktX6_goes_4 : List UInt8 := dkwX6_goes_4 ++ dktX6_goes_5
def dkwX6_goes_3 : List UInt8 := [182, 0, 63, 167, 0, 4, 3, 96, 54, 5, 132, 6, 1, 167, 255, 222, 21, 5, 42, 180, 0, 7, 16, 6]
abbrev dktX6_goes_3 : List UInt8 := dkwX6_goes_3 ++ dktX6_goes_4
def dkwX6_goes_2 : List UInt8 := [54, 6, 21, 6, 27, 162, 0, 34, 21, 5, 21, 4, 21, 6, 184, 0, 52, 153, 0, 12, 42, 21, 6]
abbrev dktX6_goes_2 : List UInt8 := dkwX6_goes_2 ++ dktX6_goes_3
def dkwX6_goes_1 : List UInt8 := [154, 0, 7, 3, 167, 0, 6, 19, 1, 57, 62, 28, 54, 4, 21, 4, 158, 0, 104, 3, 54, 5, 3]
abbrev dktX6_goes_1 : List UInt8 := dkwX6_goes_1 ++ dktX6_goes_2
def dkwX6_goes_0 : List UInt8 := [42, 3, 181, 0, 41, 42, 180, 0, 7, 6, 46, 60, 3, 61, 28, 4, 27, 120, 162, 0, 137, 28]
abbrev dktX6_goes_0 : List UInt8 := dkwX6_goes_0 ++ dktX6_goes_1
theorem dksX6_goes_0 : cX6_goes.data.toList.drop 0 = dktX6_goes_0 := by decide +kernel
theorem dksX6_goes_1 : cX6_goes.data.toList.drop 22 = dktX6_goes_1 := dk_seg dksX6_goes_0 22 rfl rfl
theorem dksX6_goes_2 : cX6_goes.data.toList.drop 45 = dktX6_goes_2 := dk_seg dksX6_goes_1 23 rfl rfl
theorem dksX6_goes_3 : cX6_goes.data.toList.drop 68 = dktX6_goes_3 := dk_seg dksX6_goes_2 23 rfl rfl
theorem dksX6_goes_4 : cX6_goes.data.toList.drop 92 = dktX6_goes_4 := dk_seg dksX6_goes_3 24 rfl rfl
theorem dksX6_goes_5 : cX6_goes.data.toList.drop 116 = dktX6_goes_5 := dk_seg dksX6_goes_4 24 rfl rfl
theorem dksX6_goes_6 : cX6_goes.data.toList.drop 139 = dktX6_goes_6 := dk_seg dksX6_goes_5 23 rfl rfl
theorem dksX6_goes_7 : cX6_goes.data.toList.drop 163 = dktX6_goes_7 := dk_seg dksX6_goes_6 24 rfl rfl
theorem dX6_goes_0 : decode cX6_goes 0 = .ok (.aload_n 0, 1) := dk_42 (dk_at dksX6_goes_0 0 rfl rfl)
theorem dX6_goes_1 : decode cX6_goes 1 = .ok (.iconst 0, 1) := dk_3 (dk_at dksX6_goes_0 1 rfl rfl)
theorem dX6_goes_2 : decode cX6_goes 2 = .ok (.putfield 41, 3) := dk_181 0 41 (dk_at dksX6_goes_0 2 rfl rfl)
theorem dX6_goes_5 : decode cX6_goes 5 = .ok (.aload_n 0, 1) := dk_42 (dk_at dksX6_goes_0 5 rfl rfl)
theorem dX6_goes_6 : decode cX6_goes 6 = .ok (.getfield 7, 3) := dk_180 0 7 (dk_at dksX6_goes_0 6 rfl rfl)
theorem dX6_goes_9 : decode cX6_goes 9 = .ok (.iconst 3, 1) := dk_6 (dk_at dksX6_goes_0 9 rfl rfl)
theorem dX6_goes_10 : decode cX6_goes 10 = .ok (.iaload, 1) := dk_46 (dk_at dksX6_goes_0 10 rfl rfl)
theorem dX6_goes_11 : decode cX6_goes 11 = .ok (.istore_n 1, 1) := dk_60 (dk_at dksX6_goes_0 11 rfl rfl)
theorem dX6_goes_12 : decode cX6_goes 12 = .ok (.iconst 0, 1) := dk_3 (dk_at dksX6_goes_0 12 rfl rfl)
theorem dX6_goes_13 : decode cX6_goes 13 = .ok (.istore_n 2, 1) := dk_61 (dk_at dksX6_goes_0 13 rfl rfl)
theorem dX6_goes_14 : decode cX6_goes 14 = .ok (.iload_n 2, 1) := dk_28 (dk_at dksX6_goes_0 14 rfl rfl)
theorem dX6_goes_15 : decode cX6_goes 15 = .ok (.iconst 1, 1) := dk_4 (dk_at dksX6_goes_0 15 rfl rfl)
theorem dX6_goes_16 : decode cX6_goes 16 = .ok (.iload_n 1, 1) := dk_27 (dk_at dksX6_goes_0 16 rfl rfl)
theorem dX6_goes_17 : decode cX6_goes 17 = .ok (.ishl, 1) := dk_120 (dk_at dksX6_goes_0 17 rfl rfl)
theorem dX6_goes_18 : decode cX6_goes 18 = .ok (.if_icmp .ge 137, 3) := dk_162 0 137 (dk_at dksX6_goes_0 18 rfl rfl)
theorem dX6_goes_21 : decode cX6_goes 21 = .ok (.iload_n 2, 1) := dk_28 (dk_at dksX6_goes_0 21 rfl rfl)
theorem dX6_goes_22 : decode cX6_goes 22 = .ok (.ifCond .ne 7, 3) := dk_154 0 7 (dk_at dksX6_goes_1 0 rfl rfl)
theorem dX6_goes_25 : decode cX6_goes 25 = .ok (.iconst 0, 1) := dk_3 (dk_at dksX6_goes_1 3 rfl rfl)
theorem dX6_goes_26 : decode cX6_goes 26 = .ok (.goto 6, 3) := dk_167 0 6 (dk_at dksX6_goes_1 4 rfl rfl)
theorem dX6_goes_29 : decode cX6_goes 29 = .ok (.ldc_w 313, 3) := dk_19 1 57 (dk_at dksX6_goes_1 7 rfl rfl)
theorem dX6_goes_32 : decode cX6_goes 32 = .ok (.istore_n 3, 1) := dk_62 (dk_at dksX6_goes_1 10 rfl rfl)
theorem dX6_goes_33 : decode cX6_goes 33 = .ok (.iload_n 2, 1) := dk_28 (dk_at dksX6_goes_1 11 rfl rfl)
theorem dX6_goes_34 : decode cX6_goes 34 = .ok (.istore 4, 2) := dk_54 4 (dk_at dksX6_goes_1 12 rfl rfl)
theorem dX6_goes_36 : decode cX6_goes 36 = .ok (.iload 4, 2) := dk_21 4 (dk_at dksX6_goes_1 14 rfl rfl)
theorem dX6_goes_38 : decode cX6_goes 38 = .ok (.ifCond .le 104, 3) := dk_158 0 104 (dk_at dksX6_goes_1 16 rfl rfl)
theorem dX6_goes_41 : decode cX6_goes 41 = .ok (.iconst 0, 1) := dk_3 (dk_at dksX6_goes_1 19 rfl rfl)
theorem dX6_goes_42 : decode cX6_goes 42 = .ok (.istore 5, 2) := dk_54 5 (dk_at dksX6_goes_1 20 rfl rfl)
theorem dX6_goes_44 : decode cX6_goes 44 = .ok (.iconst 0, 1) := dk_3 (dk_at dksX6_goes_1 22 rfl rfl)
theorem dX6_goes_45 : decode cX6_goes 45 = .ok (.istore 6, 2) := dk_54 6 (dk_at dksX6_goes_2 0 rfl rfl)
theorem dX6_goes_47 : decode cX6_goes 47 = .ok (.iload 6, 2) := dk_21 6 (dk_at dksX6_goes_2 2 rfl rfl)
theorem dX6_goes_49 : decode cX6_goes 49 = .ok (.iload_n 1, 1) := dk_27 (dk_at dksX6_goes_2 4 rfl rfl)
theorem dX6_goes_50 : decode cX6_goes 50 = .ok (.if_icmp .ge 34, 3) := dk_162 0 34 (dk_at dksX6_goes_2 5 rfl rfl)
theorem dX6_goes_53 : decode cX6_goes 53 = .ok (.iload 5, 2) := dk_21 5 (dk_at dksX6_goes_2 8 rfl rfl)
theorem dX6_goes_55 : decode cX6_goes 55 = .ok (.iload 4, 2) := dk_21 4 (dk_at dksX6_goes_2 10 rfl rfl)
theorem dX6_goes_57 : decode cX6_goes 57 = .ok (.iload 6, 2) := dk_21 6 (dk_at dksX6_goes_2 12 rfl rfl)
theorem dX6_goes_59 : decode cX6_goes 59 = .ok (.invokestatic 52, 3) := dk_184 0 52 (dk_at dksX6_goes_2 14 rfl rfl)
theorem dX6_goes_62 : decode cX6_goes 62 = .ok (.ifCond .eq 12, 3) := dk_153 0 12 (dk_at dksX6_goes_2 17 rfl rfl)
theorem dX6_goes_65 : decode cX6_goes 65 = .ok (.aload_n 0, 1) := dk_42 (dk_at dksX6_goes_2 20 rfl rfl)
theorem dX6_goes_66 : decode cX6_goes 66 = .ok (.iload 6, 2) := dk_21 6 (dk_at dksX6_goes_2 21 rfl rfl)
theorem dX6_goes_68 : decode cX6_goes 68 = .ok (.invokevirtual 63, 3) := dk_182 0 63 (dk_at dksX6_goes_3 0 rfl rfl)
theorem dX6_goes_71 : decode cX6_goes 71 = .ok (.goto 4, 3) := dk_167 0 4 (dk_at dksX6_goes_3 3 rfl rfl)
theorem dX6_goes_74 : decode cX6_goes 74 = .ok (.iconst 0, 1) := dk_3 (dk_at dksX6_goes_3 6 rfl rfl)
theorem dX6_goes_75 : decode cX6_goes 75 = .ok (.iadd, 1) := dk_96 (dk_at dksX6_goes_3 7 rfl rfl)
theorem dX6_goes_76 : decode cX6_goes 76 = .ok (.istore 5, 2) := dk_54 5 (dk_at dksX6_goes_3 8 rfl rfl)
theorem dX6_goes_78 : decode cX6_goes 78 = .ok (.iinc 6 1, 3) := dk_132 6 1 (dk_at dksX6_goes_3 10 rfl rfl)
theorem dX6_goes_81 : decode cX6_goes 81 = .ok (.goto (-34), 3) := dk_167 255 222 (dk_at dksX6_goes_3 13 rfl rfl)
theorem dX6_goes_84 : decode cX6_goes 84 = .ok (.iload 5, 2) := dk_21 5 (dk_at dksX6_goes_3 16 rfl rfl)
theorem dX6_goes_86 : decode cX6_goes 86 = .ok (.aload_n 0, 1) := dk_42 (dk_at dksX6_goes_3 18 rfl rfl)
theorem dX6_goes_87 : decode cX6_goes 87 = .ok (.getfield 7, 3) := dk_180 0 7 (dk_at dksX6_goes_3 19 rfl rfl)
theorem dX6_goes_90 : decode cX6_goes 90 = .ok (.bipush 6, 2) := dk_16 6 (dk_at dksX6_goes_3 22 rfl rfl)
theorem dX6_goes_92 : decode cX6_goes 92 = .ok (.iaload, 1) := dk_46 (dk_at dksX6_goes_4 0 rfl rfl)
theorem dX6_goes_93 : decode cX6_goes 93 = .ok (.if_icmp .gt 38, 3) := dk_163 0 38 (dk_at dksX6_goes_4 1 rfl rfl)
theorem dX6_goes_96 : decode cX6_goes 96 = .ok (.aload_n 0, 1) := dk_42 (dk_at dksX6_goes_4 4 rfl rfl)
theorem dX6_goes_97 : decode cX6_goes 97 = .ok (.getfield 32, 3) := dk_180 0 32 (dk_at dksX6_goes_4 5 rfl rfl)
theorem dX6_goes_100 : decode cX6_goes 100 = .ok (.iload_n 2, 1) := dk_28 (dk_at dksX6_goes_4 8 rfl rfl)
theorem dX6_goes_101 : decode cX6_goes 101 = .ok (.iload 4, 2) := dk_21 4 (dk_at dksX6_goes_4 9 rfl rfl)
theorem dX6_goes_103 : decode cX6_goes 103 = .ok (.iconst (-1), 1) := dk_2 (dk_at dksX6_goes_4 11 rfl rfl)
theorem dX6_goes_104 : decode cX6_goes 104 = .ok (.ixor, 1) := dk_130 (dk_at dksX6_goes_4 12 rfl rfl)
theorem dX6_goes_105 : decode cX6_goes 105 = .ok (.iand, 1) := dk_126 (dk_at dksX6_goes_4 13 rfl rfl)
theorem dX6_goes_106 : decode cX6_goes 106 = .ok (.iaload, 1) := dk_46 (dk_at dksX6_goes_4 14 rfl rfl)
theorem dX6_goes_107 : decode cX6_goes 107 = .ok (.ldc_w 313, 3) := dk_19 1 57 (dk_at dksX6_goes_4 15 rfl rfl)
theorem dX6_goes_110 : decode cX6_goes 110 = .ok (.if_icmp .eq 21, 3) := dk_159 0 21 (dk_at dksX6_goes_4 18 rfl rfl)
theorem dX6_goes_113 : decode cX6_goes 113 = .ok (.iload_n 3, 1) := dk_29 (dk_at dksX6_goes_4 21 rfl rfl)
theorem dX6_goes_114 : decode cX6_goes 114 = .ok (.iconst 1, 1) := dk_4 (dk_at dksX6_goes_4 22 rfl rfl)
theorem dX6_goes_115 : decode cX6_goes 115 = .ok (.aload_n 0, 1) := dk_42 (dk_at dksX6_goes_4 23 rfl rfl)
theorem dX6_goes_116 : decode cX6_goes 116 = .ok (.getfield 32, 3) := dk_180 0 32 (dk_at dksX6_goes_5 0 rfl rfl)
theorem dX6_goes_119 : decode cX6_goes 119 = .ok (.iload_n 2, 1) := dk_28 (dk_at dksX6_goes_5 3 rfl rfl)
theorem dX6_goes_120 : decode cX6_goes 120 = .ok (.iload 4, 2) := dk_21 4 (dk_at dksX6_goes_5 4 rfl rfl)
theorem dX6_goes_122 : decode cX6_goes 122 = .ok (.iconst (-1), 1) := dk_2 (dk_at dksX6_goes_5 6 rfl rfl)
theorem dX6_goes_123 : decode cX6_goes 123 = .ok (.ixor, 1) := dk_130 (dk_at dksX6_goes_5 7 rfl rfl)
theorem dX6_goes_124 : decode cX6_goes 124 = .ok (.iand, 1) := dk_126 (dk_at dksX6_goes_5 8 rfl rfl)
theorem dX6_goes_125 : decode cX6_goes 125 = .ok (.iaload, 1) := dk_46 (dk_at dksX6_goes_5 9 rfl rfl)
theorem dX6_goes_126 : decode cX6_goes 126 = .ok (.iadd, 1) := dk_96 (dk_at dksX6_goes_5 10 rfl rfl)
theorem dX6_goes_127 : decode cX6_goes 127 = .ok (.invokestatic 258, 3) := dk_184 1 2 (dk_at dksX6_goes_5 11 rfl rfl)
theorem dX6_goes_130 : decode cX6_goes 130 = .ok (.istore_n 3, 1) := dk_62 (dk_at dksX6_goes_5 14 rfl rfl)
theorem dX6_goes_131 : decode cX6_goes 131 = .ok (.iload 4, 2) := dk_21 4 (dk_at dksX6_goes_5 15 rfl rfl)
theorem dX6_goes_133 : decode cX6_goes 133 = .ok (.iconst 1, 1) := dk_4 (dk_at dksX6_goes_5 17 rfl rfl)
theorem dX6_goes_134 : decode cX6_goes 134 = .ok (.isub, 1) := dk_100 (dk_at dksX6_goes_5 18 rfl rfl)
theorem dX6_goes_135 : decode cX6_goes 135 = .ok (.iload_n 2, 1) := dk_28 (dk_at dksX6_goes_5 19 rfl rfl)
theorem dX6_goes_136 : decode cX6_goes 136 = .ok (.iand, 1) := dk_126 (dk_at dksX6_goes_5 20 rfl rfl)
theorem dX6_goes_137 : decode cX6_goes 137 = .ok (.istore 4, 2) := dk_54 4 (dk_at dksX6_goes_5 21 rfl rfl)
theorem dX6_goes_139 : decode cX6_goes 139 = .ok (.goto (-103), 3) := dk_167 255 153 (dk_at dksX6_goes_6 0 rfl rfl)
theorem dX6_goes_142 : decode cX6_goes 142 = .ok (.aload_n 0, 1) := dk_42 (dk_at dksX6_goes_6 3 rfl rfl)
theorem dX6_goes_143 : decode cX6_goes 143 = .ok (.getfield 32, 3) := dk_180 0 32 (dk_at dksX6_goes_6 4 rfl rfl)
theorem dX6_goes_146 : decode cX6_goes 146 = .ok (.iload_n 2, 1) := dk_28 (dk_at dksX6_goes_6 7 rfl rfl)
theorem dX6_goes_147 : decode cX6_goes 147 = .ok (.iload_n 3, 1) := dk_29 (dk_at dksX6_goes_6 8 rfl rfl)
theorem dX6_goes_148 : decode cX6_goes 148 = .ok (.iastore, 1) := dk_79 (dk_at dksX6_goes_6 9 rfl rfl)
theorem dX6_goes_149 : decode cX6_goes 149 = .ok (.iinc 2 1, 3) := dk_132 2 1 (dk_at dksX6_goes_6 10 rfl rfl)
theorem dX6_goes_152 : decode cX6_goes 152 = .ok (.goto (-138), 3) := dk_167 255 118 (dk_at dksX6_goes_6 13 rfl rfl)
theorem dX6_goes_155 : decode cX6_goes 155 = .ok (.aload_n 0, 1) := dk_42 (dk_at dksX6_goes_6 16 rfl rfl)
theorem dX6_goes_156 : decode cX6_goes 156 = .ok (.getfield 32, 3) := dk_180 0 32 (dk_at dksX6_goes_6 17 rfl rfl)
theorem dX6_goes_159 : decode cX6_goes 159 = .ok (.iconst 1, 1) := dk_4 (dk_at dksX6_goes_6 20 rfl rfl)
theorem dX6_goes_160 : decode cX6_goes 160 = .ok (.iload_n 1, 1) := dk_27 (dk_at dksX6_goes_6 21 rfl rfl)
theorem dX6_goes_161 : decode cX6_goes 161 = .ok (.ishl, 1) := dk_120 (dk_at dksX6_goes_6 22 rfl rfl)
theorem dX6_goes_162 : decode cX6_goes 162 = .ok (.iconst 1, 1) := dk_4 (dk_at dksX6_goes_6 23 rfl rfl)
theorem dX6_goes_163 : decode cX6_goes 163 = .ok (.isub, 1) := dk_100 (dk_at dksX6_goes_7 0 rfl rfl)
theorem dX6_goes_164 : decode cX6_goes 164 = .ok (.iaload, 1) := dk_46 (dk_at dksX6_goes_7 1 rfl rfl)
theorem dX6_goes_165 : decode cX6_goes 165 = .ok (.istore_n 2, 1) := dk_61 (dk_at dksX6_goes_7 2 rfl rfl)
theorem dX6_goes_166 : decode cX6_goes 166 = .ok (.iload_n 2, 1) := dk_28 (dk_at dksX6_goes_7 3 rfl rfl)
theorem dX6_goes_167 : decode cX6_goes 167 = .ok (.ldc_w 313, 3) := dk_19 1 57 (dk_at dksX6_goes_7 4 rfl rfl)
theorem dX6_goes_170 : decode cX6_goes 170 = .ok (.if_icmp .ne 7, 3) := dk_160 0 7 (dk_at dksX6_goes_7 7 rfl rfl)
theorem dX6_goes_173 : decode cX6_goes 173 = .ok (.iconst (-1), 1) := dk_2 (dk_at dksX6_goes_7 10 rfl rfl)
theorem dX6_goes_174 : decode cX6_goes 174 = .ok (.goto 4, 3) := dk_167 0 4 (dk_at dksX6_goes_7 11 rfl rfl)
theorem dX6_goes_177 : decode cX6_goes 177 = .ok (.iload_n 2, 1) := dk_28 (dk_at dksX6_goes_7 14 rfl rfl)
theorem dX6_goes_178 : decode cX6_goes 178 = .ok (.ireturn, 1) := dk_172 (dk_at dksX6_goes_7 15 rfl rfl)
abbrev cX6_pays : ByteArray := prog_19_method_85_code
def yX6_pays : MethodName := ⟨RX6, "pays", "(IZ)I"⟩
def dkwX6_pays_4 : List UInt8 := [54, 4, 132, 5, 1, 167, 255, 197, 28, 153, 0, 12, 42, 21, 4, 182, 0, 60, 167, 0, 5, 21, 4, 172]
abbrev dktX6_pays_4 : List UInt8 := dkwX6_pays_4 ++ []
def dkwX6_pays_3 : List UInt8 := [182, 0, 66, 163, 0, 22, 42, 21, 5, 182, 0, 60, 42, 21, 4, 182, 0, 60, 164, 0, 7, 21, 5]
abbrev dktX6_pays_3 : List UInt8 := dkwX6_pays_3 ++ dktX6_pays_4
def dkwX6_pays_2 : List UInt8 := [120, 162, 0, 52, 21, 5, 29, 2, 130, 126, 154, 0, 37, 42, 21, 5, 182, 0, 60, 42, 27, 3]
abbrev dktX6_pays_2 : List UInt8 := dkwX6_pays_2 ++ dktX6_pays_3
def dkwX6_pays_1 : List UInt8 := [3, 172, 42, 27, 3, 182, 1, 23, 62, 3, 54, 4, 3, 54, 5, 21, 5, 4, 42, 180, 0, 7, 7, 46]
abbrev dktX6_pays_1 : List UInt8 := dkwX6_pays_1 ++ dktX6_pays_2
def dkwX6_pays_0 : List UInt8 := [42, 42, 27, 182, 1, 20, 154, 0, 7, 4, 167, 0, 4, 3, 181, 0, 41, 42, 180, 0, 41, 158, 0, 5]
abbrev dktX6_pays_0 : List UInt8 := dkwX6_pays_0 ++ dktX6_pays_1
theorem dksX6_pays_0 : cX6_pays.data.toList.drop 0 = dktX6_pays_0 := by decide +kernel
theorem dksX6_pays_1 : cX6_pays.data.toList.drop 24 = dktX6_pays_1 := dk_seg dksX6_pays_0 24 rfl rfl
theorem dksX6_pays_2 : cX6_pays.data.toList.drop 48 = dktX6_pays_2 := dk_seg dksX6_pays_1 24 rfl rfl
theorem dksX6_pays_3 : cX6_pays.data.toList.drop 70 = dktX6_pays_3 := dk_seg dksX6_pays_2 22 rfl rfl
theorem dksX6_pays_4 : cX6_pays.data.toList.drop 93 = dktX6_pays_4 := dk_seg dksX6_pays_3 23 rfl rfl
theorem dX6_pays_0 : decode cX6_pays 0 = .ok (.aload_n 0, 1) := dk_42 (dk_at dksX6_pays_0 0 rfl rfl)
theorem dX6_pays_1 : decode cX6_pays 1 = .ok (.aload_n 0, 1) := dk_42 (dk_at dksX6_pays_0 1 rfl rfl)
theorem dX6_pays_2 : decode cX6_pays 2 = .ok (.iload_n 1, 1) := dk_27 (dk_at dksX6_pays_0 2 rfl rfl)
theorem dX6_pays_3 : decode cX6_pays 3 = .ok (.invokevirtual 276, 3) := dk_182 1 20 (dk_at dksX6_pays_0 3 rfl rfl)
theorem dX6_pays_6 : decode cX6_pays 6 = .ok (.ifCond .ne 7, 3) := dk_154 0 7 (dk_at dksX6_pays_0 6 rfl rfl)
theorem dX6_pays_9 : decode cX6_pays 9 = .ok (.iconst 1, 1) := dk_4 (dk_at dksX6_pays_0 9 rfl rfl)
theorem dX6_pays_10 : decode cX6_pays 10 = .ok (.goto 4, 3) := dk_167 0 4 (dk_at dksX6_pays_0 10 rfl rfl)
theorem dX6_pays_13 : decode cX6_pays 13 = .ok (.iconst 0, 1) := dk_3 (dk_at dksX6_pays_0 13 rfl rfl)
theorem dX6_pays_14 : decode cX6_pays 14 = .ok (.putfield 41, 3) := dk_181 0 41 (dk_at dksX6_pays_0 14 rfl rfl)
theorem dX6_pays_17 : decode cX6_pays 17 = .ok (.aload_n 0, 1) := dk_42 (dk_at dksX6_pays_0 17 rfl rfl)
theorem dX6_pays_18 : decode cX6_pays 18 = .ok (.getfield 41, 3) := dk_180 0 41 (dk_at dksX6_pays_0 18 rfl rfl)
theorem dX6_pays_21 : decode cX6_pays 21 = .ok (.ifCond .le 5, 3) := dk_158 0 5 (dk_at dksX6_pays_0 21 rfl rfl)
theorem dX6_pays_24 : decode cX6_pays 24 = .ok (.iconst 0, 1) := dk_3 (dk_at dksX6_pays_1 0 rfl rfl)
theorem dX6_pays_25 : decode cX6_pays 25 = .ok (.ireturn, 1) := dk_172 (dk_at dksX6_pays_1 1 rfl rfl)
theorem dX6_pays_26 : decode cX6_pays 26 = .ok (.aload_n 0, 1) := dk_42 (dk_at dksX6_pays_1 2 rfl rfl)
theorem dX6_pays_27 : decode cX6_pays 27 = .ok (.iload_n 1, 1) := dk_27 (dk_at dksX6_pays_1 3 rfl rfl)
theorem dX6_pays_28 : decode cX6_pays 28 = .ok (.iconst 0, 1) := dk_3 (dk_at dksX6_pays_1 4 rfl rfl)
theorem dX6_pays_29 : decode cX6_pays 29 = .ok (.invokevirtual 279, 3) := dk_182 1 23 (dk_at dksX6_pays_1 5 rfl rfl)
theorem dX6_pays_32 : decode cX6_pays 32 = .ok (.istore_n 3, 1) := dk_62 (dk_at dksX6_pays_1 8 rfl rfl)
theorem dX6_pays_33 : decode cX6_pays 33 = .ok (.iconst 0, 1) := dk_3 (dk_at dksX6_pays_1 9 rfl rfl)
theorem dX6_pays_34 : decode cX6_pays 34 = .ok (.istore 4, 2) := dk_54 4 (dk_at dksX6_pays_1 10 rfl rfl)
theorem dX6_pays_36 : decode cX6_pays 36 = .ok (.iconst 0, 1) := dk_3 (dk_at dksX6_pays_1 12 rfl rfl)
theorem dX6_pays_37 : decode cX6_pays 37 = .ok (.istore 5, 2) := dk_54 5 (dk_at dksX6_pays_1 13 rfl rfl)
theorem dX6_pays_39 : decode cX6_pays 39 = .ok (.iload 5, 2) := dk_21 5 (dk_at dksX6_pays_1 15 rfl rfl)
theorem dX6_pays_41 : decode cX6_pays 41 = .ok (.iconst 1, 1) := dk_4 (dk_at dksX6_pays_1 17 rfl rfl)
theorem dX6_pays_42 : decode cX6_pays 42 = .ok (.aload_n 0, 1) := dk_42 (dk_at dksX6_pays_1 18 rfl rfl)
theorem dX6_pays_43 : decode cX6_pays 43 = .ok (.getfield 7, 3) := dk_180 0 7 (dk_at dksX6_pays_1 19 rfl rfl)
theorem dX6_pays_46 : decode cX6_pays 46 = .ok (.iconst 4, 1) := dk_7 (dk_at dksX6_pays_1 22 rfl rfl)
theorem dX6_pays_47 : decode cX6_pays 47 = .ok (.iaload, 1) := dk_46 (dk_at dksX6_pays_1 23 rfl rfl)
theorem dX6_pays_48 : decode cX6_pays 48 = .ok (.ishl, 1) := dk_120 (dk_at dksX6_pays_2 0 rfl rfl)
theorem dX6_pays_49 : decode cX6_pays 49 = .ok (.if_icmp .ge 52, 3) := dk_162 0 52 (dk_at dksX6_pays_2 1 rfl rfl)
theorem dX6_pays_52 : decode cX6_pays 52 = .ok (.iload 5, 2) := dk_21 5 (dk_at dksX6_pays_2 4 rfl rfl)
theorem dX6_pays_54 : decode cX6_pays 54 = .ok (.iload_n 3, 1) := dk_29 (dk_at dksX6_pays_2 6 rfl rfl)
theorem dX6_pays_55 : decode cX6_pays 55 = .ok (.iconst (-1), 1) := dk_2 (dk_at dksX6_pays_2 7 rfl rfl)
theorem dX6_pays_56 : decode cX6_pays 56 = .ok (.ixor, 1) := dk_130 (dk_at dksX6_pays_2 8 rfl rfl)
theorem dX6_pays_57 : decode cX6_pays 57 = .ok (.iand, 1) := dk_126 (dk_at dksX6_pays_2 9 rfl rfl)
theorem dX6_pays_58 : decode cX6_pays 58 = .ok (.ifCond .ne 37, 3) := dk_154 0 37 (dk_at dksX6_pays_2 10 rfl rfl)
theorem dX6_pays_61 : decode cX6_pays 61 = .ok (.aload_n 0, 1) := dk_42 (dk_at dksX6_pays_2 13 rfl rfl)
theorem dX6_pays_62 : decode cX6_pays 62 = .ok (.iload 5, 2) := dk_21 5 (dk_at dksX6_pays_2 14 rfl rfl)
theorem dX6_pays_64 : decode cX6_pays 64 = .ok (.invokevirtual 60, 3) := dk_182 0 60 (dk_at dksX6_pays_2 16 rfl rfl)
theorem dX6_pays_67 : decode cX6_pays 67 = .ok (.aload_n 0, 1) := dk_42 (dk_at dksX6_pays_2 19 rfl rfl)
theorem dX6_pays_68 : decode cX6_pays 68 = .ok (.iload_n 1, 1) := dk_27 (dk_at dksX6_pays_2 20 rfl rfl)
theorem dX6_pays_69 : decode cX6_pays 69 = .ok (.iconst 0, 1) := dk_3 (dk_at dksX6_pays_2 21 rfl rfl)
theorem dX6_pays_70 : decode cX6_pays 70 = .ok (.invokevirtual 66, 3) := dk_182 0 66 (dk_at dksX6_pays_3 0 rfl rfl)
theorem dX6_pays_73 : decode cX6_pays 73 = .ok (.if_icmp .gt 22, 3) := dk_163 0 22 (dk_at dksX6_pays_3 3 rfl rfl)
theorem dX6_pays_76 : decode cX6_pays 76 = .ok (.aload_n 0, 1) := dk_42 (dk_at dksX6_pays_3 6 rfl rfl)
theorem dX6_pays_77 : decode cX6_pays 77 = .ok (.iload 5, 2) := dk_21 5 (dk_at dksX6_pays_3 7 rfl rfl)
theorem dX6_pays_79 : decode cX6_pays 79 = .ok (.invokevirtual 60, 3) := dk_182 0 60 (dk_at dksX6_pays_3 9 rfl rfl)
theorem dX6_pays_82 : decode cX6_pays 82 = .ok (.aload_n 0, 1) := dk_42 (dk_at dksX6_pays_3 12 rfl rfl)
theorem dX6_pays_83 : decode cX6_pays 83 = .ok (.iload 4, 2) := dk_21 4 (dk_at dksX6_pays_3 13 rfl rfl)
theorem dX6_pays_85 : decode cX6_pays 85 = .ok (.invokevirtual 60, 3) := dk_182 0 60 (dk_at dksX6_pays_3 15 rfl rfl)
theorem dX6_pays_88 : decode cX6_pays 88 = .ok (.if_icmp .le 7, 3) := dk_164 0 7 (dk_at dksX6_pays_3 18 rfl rfl)
theorem dX6_pays_91 : decode cX6_pays 91 = .ok (.iload 5, 2) := dk_21 5 (dk_at dksX6_pays_3 21 rfl rfl)
theorem dX6_pays_93 : decode cX6_pays 93 = .ok (.istore 4, 2) := dk_54 4 (dk_at dksX6_pays_4 0 rfl rfl)
theorem dX6_pays_95 : decode cX6_pays 95 = .ok (.iinc 5 1, 3) := dk_132 5 1 (dk_at dksX6_pays_4 2 rfl rfl)
theorem dX6_pays_98 : decode cX6_pays 98 = .ok (.goto (-59), 3) := dk_167 255 197 (dk_at dksX6_pays_4 5 rfl rfl)
theorem dX6_pays_101 : decode cX6_pays 101 = .ok (.iload_n 2, 1) := dk_28 (dk_at dksX6_pays_4 8 rfl rfl)
theorem dX6_pays_102 : decode cX6_pays 102 = .ok (.ifCond .eq 12, 3) := dk_153 0 12 (dk_at dksX6_pays_4 9 rfl rfl)
theorem dX6_pays_105 : decode cX6_pays 105 = .ok (.aload_n 0, 1) := dk_42 (dk_at dksX6_pays_4 12 rfl rfl)
theorem dX6_pays_106 : decode cX6_pays 106 = .ok (.iload 4, 2) := dk_21 4 (dk_at dksX6_pays_4 13 rfl rfl)
theorem dX6_pays_108 : decode cX6_pays 108 = .ok (.invokevirtual 60, 3) := dk_182 0 60 (dk_at dksX6_pays_4 15 rfl rfl)
theorem dX6_pays_111 : decode cX6_pays 111 = .ok (.goto 5, 3) := dk_167 0 5 (dk_at dksX6_pays_4 18 rfl rfl)
theorem dX6_pays_114 : decode cX6_pays 114 = .ok (.iload 4, 2) := dk_21 4 (dk_at dksX6_pays_4 21 rfl rfl)
theorem dX6_pays_116 : decode cX6_pays 116 = .ok (.ireturn, 1) := dk_172 (dk_at dksX6_pays_4 23 rfl rfl)
abbrev cX6_first : ByteArray := prog_19_method_86_code
def yX6_first : MethodName := ⟨RX6, "first", "(I)I"⟩
def dkwX6_first_3 : List UInt8 := [182, 1, 47, 54, 4, 132, 3, 1, 167, 255, 212, 42, 182, 0, 185, 28, 172]
abbrev dktX6_first_3 : List UInt8 := dkwX6_first_3 ++ []
def dkwX6_first_2 : List UInt8 := [3, 182, 0, 66, 42, 42, 27, 3, 182, 1, 23, 182, 0, 60, 161, 0, 5, 29, 61, 42, 4, 3]
abbrev dktX6_first_2 : List UInt8 := dkwX6_first_2 ++ dktX6_first_3
def dkwX6_first_1 : List UInt8 := [3, 172, 42, 182, 0, 175, 2, 61, 3, 62, 29, 17, 0, 200, 163, 0, 43, 28, 2, 160, 0, 38, 42, 27]
abbrev dktX6_first_1 : List UInt8 := dkwX6_first_1 ++ dktX6_first_2
def dkwX6_first_0 : List UInt8 := [42, 42, 27, 182, 1, 20, 154, 0, 7, 4, 167, 0, 4, 3, 181, 0, 41, 42, 180, 0, 41, 158, 0, 5]
abbrev dktX6_first_0 : List UInt8 := dkwX6_first_0 ++ dktX6_first_1
theorem dksX6_first_0 : cX6_first.data.toList.drop 0 = dktX6_first_0 := by decide +kernel
theorem dksX6_first_1 : cX6_first.data.toList.drop 24 = dktX6_first_1 := dk_seg dksX6_first_0 24 rfl rfl
theorem dksX6_first_2 : cX6_first.data.toList.drop 48 = dktX6_first_2 := dk_seg dksX6_first_1 24 rfl rfl
theorem dksX6_first_3 : cX6_first.data.toList.drop 70 = dktX6_first_3 := dk_seg dksX6_first_2 22 rfl rfl
theorem dX6_first_0 : decode cX6_first 0 = .ok (.aload_n 0, 1) := dk_42 (dk_at dksX6_first_0 0 rfl rfl)
theorem dX6_first_1 : decode cX6_first 1 = .ok (.aload_n 0, 1) := dk_42 (dk_at dksX6_first_0 1 rfl rfl)
theorem dX6_first_2 : decode cX6_first 2 = .ok (.iload_n 1, 1) := dk_27 (dk_at dksX6_first_0 2 rfl rfl)
theorem dX6_first_3 : decode cX6_first 3 = .ok (.invokevirtual 276, 3) := dk_182 1 20 (dk_at dksX6_first_0 3 rfl rfl)
theorem dX6_first_6 : decode cX6_first 6 = .ok (.ifCond .ne 7, 3) := dk_154 0 7 (dk_at dksX6_first_0 6 rfl rfl)
theorem dX6_first_9 : decode cX6_first 9 = .ok (.iconst 1, 1) := dk_4 (dk_at dksX6_first_0 9 rfl rfl)
theorem dX6_first_10 : decode cX6_first 10 = .ok (.goto 4, 3) := dk_167 0 4 (dk_at dksX6_first_0 10 rfl rfl)
theorem dX6_first_13 : decode cX6_first 13 = .ok (.iconst 0, 1) := dk_3 (dk_at dksX6_first_0 13 rfl rfl)
theorem dX6_first_14 : decode cX6_first 14 = .ok (.putfield 41, 3) := dk_181 0 41 (dk_at dksX6_first_0 14 rfl rfl)
theorem dX6_first_17 : decode cX6_first 17 = .ok (.aload_n 0, 1) := dk_42 (dk_at dksX6_first_0 17 rfl rfl)
theorem dX6_first_18 : decode cX6_first 18 = .ok (.getfield 41, 3) := dk_180 0 41 (dk_at dksX6_first_0 18 rfl rfl)
theorem dX6_first_21 : decode cX6_first 21 = .ok (.ifCond .le 5, 3) := dk_158 0 5 (dk_at dksX6_first_0 21 rfl rfl)
theorem dX6_first_24 : decode cX6_first 24 = .ok (.iconst 0, 1) := dk_3 (dk_at dksX6_first_1 0 rfl rfl)
theorem dX6_first_25 : decode cX6_first 25 = .ok (.ireturn, 1) := dk_172 (dk_at dksX6_first_1 1 rfl rfl)
theorem dX6_first_26 : decode cX6_first 26 = .ok (.aload_n 0, 1) := dk_42 (dk_at dksX6_first_1 2 rfl rfl)
theorem dX6_first_27 : decode cX6_first 27 = .ok (.invokevirtual 175, 3) := dk_182 0 175 (dk_at dksX6_first_1 3 rfl rfl)
theorem dX6_first_30 : decode cX6_first 30 = .ok (.iconst (-1), 1) := dk_2 (dk_at dksX6_first_1 6 rfl rfl)
theorem dX6_first_31 : decode cX6_first 31 = .ok (.istore_n 2, 1) := dk_61 (dk_at dksX6_first_1 7 rfl rfl)
theorem dX6_first_32 : decode cX6_first 32 = .ok (.iconst 0, 1) := dk_3 (dk_at dksX6_first_1 8 rfl rfl)
theorem dX6_first_33 : decode cX6_first 33 = .ok (.istore_n 3, 1) := dk_62 (dk_at dksX6_first_1 9 rfl rfl)
theorem dX6_first_34 : decode cX6_first 34 = .ok (.iload_n 3, 1) := dk_29 (dk_at dksX6_first_1 10 rfl rfl)
theorem dX6_first_35 : decode cX6_first 35 = .ok (.sipush 200, 3) := dk_17 0 200 (dk_at dksX6_first_1 11 rfl rfl)
theorem dX6_first_38 : decode cX6_first 38 = .ok (.if_icmp .gt 43, 3) := dk_163 0 43 (dk_at dksX6_first_1 14 rfl rfl)
theorem dX6_first_41 : decode cX6_first 41 = .ok (.iload_n 2, 1) := dk_28 (dk_at dksX6_first_1 17 rfl rfl)
theorem dX6_first_42 : decode cX6_first 42 = .ok (.iconst (-1), 1) := dk_2 (dk_at dksX6_first_1 18 rfl rfl)
theorem dX6_first_43 : decode cX6_first 43 = .ok (.if_icmp .ne 38, 3) := dk_160 0 38 (dk_at dksX6_first_1 19 rfl rfl)
theorem dX6_first_46 : decode cX6_first 46 = .ok (.aload_n 0, 1) := dk_42 (dk_at dksX6_first_1 22 rfl rfl)
theorem dX6_first_47 : decode cX6_first 47 = .ok (.iload_n 1, 1) := dk_27 (dk_at dksX6_first_1 23 rfl rfl)
theorem dX6_first_48 : decode cX6_first 48 = .ok (.iconst 0, 1) := dk_3 (dk_at dksX6_first_2 0 rfl rfl)
theorem dX6_first_49 : decode cX6_first 49 = .ok (.invokevirtual 66, 3) := dk_182 0 66 (dk_at dksX6_first_2 1 rfl rfl)
theorem dX6_first_52 : decode cX6_first 52 = .ok (.aload_n 0, 1) := dk_42 (dk_at dksX6_first_2 4 rfl rfl)
theorem dX6_first_53 : decode cX6_first 53 = .ok (.aload_n 0, 1) := dk_42 (dk_at dksX6_first_2 5 rfl rfl)
theorem dX6_first_54 : decode cX6_first 54 = .ok (.iload_n 1, 1) := dk_27 (dk_at dksX6_first_2 6 rfl rfl)
theorem dX6_first_55 : decode cX6_first 55 = .ok (.iconst 0, 1) := dk_3 (dk_at dksX6_first_2 7 rfl rfl)
theorem dX6_first_56 : decode cX6_first 56 = .ok (.invokevirtual 279, 3) := dk_182 1 23 (dk_at dksX6_first_2 8 rfl rfl)
theorem dX6_first_59 : decode cX6_first 59 = .ok (.invokevirtual 60, 3) := dk_182 0 60 (dk_at dksX6_first_2 11 rfl rfl)
theorem dX6_first_62 : decode cX6_first 62 = .ok (.if_icmp .lt 5, 3) := dk_161 0 5 (dk_at dksX6_first_2 14 rfl rfl)
theorem dX6_first_65 : decode cX6_first 65 = .ok (.iload_n 3, 1) := dk_29 (dk_at dksX6_first_2 17 rfl rfl)
theorem dX6_first_66 : decode cX6_first 66 = .ok (.istore_n 2, 1) := dk_61 (dk_at dksX6_first_2 18 rfl rfl)
theorem dX6_first_67 : decode cX6_first 67 = .ok (.aload_n 0, 1) := dk_42 (dk_at dksX6_first_2 19 rfl rfl)
theorem dX6_first_68 : decode cX6_first 68 = .ok (.iconst 1, 1) := dk_4 (dk_at dksX6_first_2 20 rfl rfl)
theorem dX6_first_69 : decode cX6_first 69 = .ok (.iconst 0, 1) := dk_3 (dk_at dksX6_first_2 21 rfl rfl)
theorem dX6_first_70 : decode cX6_first 70 = .ok (.invokevirtual 303, 3) := dk_182 1 47 (dk_at dksX6_first_3 0 rfl rfl)
theorem dX6_first_73 : decode cX6_first 73 = .ok (.istore 4, 2) := dk_54 4 (dk_at dksX6_first_3 3 rfl rfl)
theorem dX6_first_75 : decode cX6_first 75 = .ok (.iinc 3 1, 3) := dk_132 3 1 (dk_at dksX6_first_3 5 rfl rfl)
theorem dX6_first_78 : decode cX6_first 78 = .ok (.goto (-44), 3) := dk_167 255 212 (dk_at dksX6_first_3 8 rfl rfl)
theorem dX6_first_81 : decode cX6_first 81 = .ok (.aload_n 0, 1) := dk_42 (dk_at dksX6_first_3 11 rfl rfl)
theorem dX6_first_82 : decode cX6_first 82 = .ok (.invokevirtual 185, 3) := dk_182 0 185 (dk_at dksX6_first_3 12 rfl rfl)
theorem dX6_first_85 : decode cX6_first 85 = .ok (.iload_n 2, 1) := dk_28 (dk_at dksX6_first_3 15 rfl rfl)
theorem dX6_first_86 : decode cX6_first 86 = .ok (.ireturn, 1) := dk_172 (dk_at dksX6_first_3 16 rfl rfl)
abbrev cX6_owes : ByteArray := prog_19_method_87_code
def yX6_owes : MethodName := ⟨RX6, "owes", "(II)Z"⟩
def dkwX6_owes_5 : List UInt8 := [167, 255, 189, 29, 28, 184, 0, 52, 172]
abbrev dktX6_owes_5 : List UInt8 := dkwX6_owes_5 ++ []
def dkwX6_owes_4 : List UInt8 := [153, 0, 15, 29, 4, 42, 21, 5, 4, 182, 0, 48, 120, 128, 62, 132, 5, 1, 167, 255, 205, 132, 4, 1]
abbrev dktX6_owes_4 : List UInt8 := dkwX6_owes_4 ++ dktX6_owes_5
def dkwX6_owes_3 : List UInt8 := [42, 21, 5, 6, 182, 0, 48, 5, 162, 0, 29, 29, 42, 21, 5, 3, 182, 0, 48, 184, 0, 52]
abbrev dktX6_owes_3 : List UInt8 := dkwX6_owes_3 ++ dktX6_owes_4
def dkwX6_owes_2 : List UInt8 := [3, 54, 4, 21, 4, 16, 6, 162, 0, 66, 3, 54, 5, 21, 5, 42, 180, 0, 7, 7, 46, 162, 0, 46]
abbrev dktX6_owes_2 : List UInt8 := dkwX6_owes_2 ++ dktX6_owes_3
def dkwX6_owes_1 : List UInt8 := [160, 0, 7, 5, 167, 0, 4, 3, 181, 0, 41, 42, 180, 0, 41, 158, 0, 5, 3, 172, 4, 27, 120, 62]
abbrev dktX6_owes_1 : List UInt8 := dkwX6_owes_1 ++ dktX6_owes_2
def dkwX6_owes_0 : List UInt8 := [42, 42, 27, 182, 1, 20, 153, 0, 11, 42, 28, 182, 1, 20, 154, 0, 7, 4, 167, 0, 13, 27, 28]
abbrev dktX6_owes_0 : List UInt8 := dkwX6_owes_0 ++ dktX6_owes_1
theorem dksX6_owes_0 : cX6_owes.data.toList.drop 0 = dktX6_owes_0 := by decide +kernel
theorem dksX6_owes_1 : cX6_owes.data.toList.drop 23 = dktX6_owes_1 := dk_seg dksX6_owes_0 23 rfl rfl
theorem dksX6_owes_2 : cX6_owes.data.toList.drop 47 = dktX6_owes_2 := dk_seg dksX6_owes_1 24 rfl rfl
theorem dksX6_owes_3 : cX6_owes.data.toList.drop 71 = dktX6_owes_3 := dk_seg dksX6_owes_2 24 rfl rfl
theorem dksX6_owes_4 : cX6_owes.data.toList.drop 93 = dktX6_owes_4 := dk_seg dksX6_owes_3 22 rfl rfl
theorem dksX6_owes_5 : cX6_owes.data.toList.drop 117 = dktX6_owes_5 := dk_seg dksX6_owes_4 24 rfl rfl
theorem dX6_owes_0 : decode cX6_owes 0 = .ok (.aload_n 0, 1) := dk_42 (dk_at dksX6_owes_0 0 rfl rfl)
theorem dX6_owes_1 : decode cX6_owes 1 = .ok (.aload_n 0, 1) := dk_42 (dk_at dksX6_owes_0 1 rfl rfl)
theorem dX6_owes_2 : decode cX6_owes 2 = .ok (.iload_n 1, 1) := dk_27 (dk_at dksX6_owes_0 2 rfl rfl)
theorem dX6_owes_3 : decode cX6_owes 3 = .ok (.invokevirtual 276, 3) := dk_182 1 20 (dk_at dksX6_owes_0 3 rfl rfl)
theorem dX6_owes_6 : decode cX6_owes 6 = .ok (.ifCond .eq 11, 3) := dk_153 0 11 (dk_at dksX6_owes_0 6 rfl rfl)
theorem dX6_owes_9 : decode cX6_owes 9 = .ok (.aload_n 0, 1) := dk_42 (dk_at dksX6_owes_0 9 rfl rfl)
theorem dX6_owes_10 : decode cX6_owes 10 = .ok (.iload_n 2, 1) := dk_28 (dk_at dksX6_owes_0 10 rfl rfl)
theorem dX6_owes_11 : decode cX6_owes 11 = .ok (.invokevirtual 276, 3) := dk_182 1 20 (dk_at dksX6_owes_0 11 rfl rfl)
theorem dX6_owes_14 : decode cX6_owes 14 = .ok (.ifCond .ne 7, 3) := dk_154 0 7 (dk_at dksX6_owes_0 14 rfl rfl)
theorem dX6_owes_17 : decode cX6_owes 17 = .ok (.iconst 1, 1) := dk_4 (dk_at dksX6_owes_0 17 rfl rfl)
theorem dX6_owes_18 : decode cX6_owes 18 = .ok (.goto 13, 3) := dk_167 0 13 (dk_at dksX6_owes_0 18 rfl rfl)
theorem dX6_owes_21 : decode cX6_owes 21 = .ok (.iload_n 1, 1) := dk_27 (dk_at dksX6_owes_0 21 rfl rfl)
theorem dX6_owes_22 : decode cX6_owes 22 = .ok (.iload_n 2, 1) := dk_28 (dk_at dksX6_owes_0 22 rfl rfl)
theorem dX6_owes_23 : decode cX6_owes 23 = .ok (.if_icmp .ne 7, 3) := dk_160 0 7 (dk_at dksX6_owes_1 0 rfl rfl)
theorem dX6_owes_26 : decode cX6_owes 26 = .ok (.iconst 2, 1) := dk_5 (dk_at dksX6_owes_1 3 rfl rfl)
theorem dX6_owes_27 : decode cX6_owes 27 = .ok (.goto 4, 3) := dk_167 0 4 (dk_at dksX6_owes_1 4 rfl rfl)
theorem dX6_owes_30 : decode cX6_owes 30 = .ok (.iconst 0, 1) := dk_3 (dk_at dksX6_owes_1 7 rfl rfl)
theorem dX6_owes_31 : decode cX6_owes 31 = .ok (.putfield 41, 3) := dk_181 0 41 (dk_at dksX6_owes_1 8 rfl rfl)
theorem dX6_owes_34 : decode cX6_owes 34 = .ok (.aload_n 0, 1) := dk_42 (dk_at dksX6_owes_1 11 rfl rfl)
theorem dX6_owes_35 : decode cX6_owes 35 = .ok (.getfield 41, 3) := dk_180 0 41 (dk_at dksX6_owes_1 12 rfl rfl)
theorem dX6_owes_38 : decode cX6_owes 38 = .ok (.ifCond .le 5, 3) := dk_158 0 5 (dk_at dksX6_owes_1 15 rfl rfl)
theorem dX6_owes_41 : decode cX6_owes 41 = .ok (.iconst 0, 1) := dk_3 (dk_at dksX6_owes_1 18 rfl rfl)
theorem dX6_owes_42 : decode cX6_owes 42 = .ok (.ireturn, 1) := dk_172 (dk_at dksX6_owes_1 19 rfl rfl)
theorem dX6_owes_43 : decode cX6_owes 43 = .ok (.iconst 1, 1) := dk_4 (dk_at dksX6_owes_1 20 rfl rfl)
theorem dX6_owes_44 : decode cX6_owes 44 = .ok (.iload_n 1, 1) := dk_27 (dk_at dksX6_owes_1 21 rfl rfl)
theorem dX6_owes_45 : decode cX6_owes 45 = .ok (.ishl, 1) := dk_120 (dk_at dksX6_owes_1 22 rfl rfl)
theorem dX6_owes_46 : decode cX6_owes 46 = .ok (.istore_n 3, 1) := dk_62 (dk_at dksX6_owes_1 23 rfl rfl)
theorem dX6_owes_47 : decode cX6_owes 47 = .ok (.iconst 0, 1) := dk_3 (dk_at dksX6_owes_2 0 rfl rfl)
theorem dX6_owes_48 : decode cX6_owes 48 = .ok (.istore 4, 2) := dk_54 4 (dk_at dksX6_owes_2 1 rfl rfl)
theorem dX6_owes_50 : decode cX6_owes 50 = .ok (.iload 4, 2) := dk_21 4 (dk_at dksX6_owes_2 3 rfl rfl)
theorem dX6_owes_52 : decode cX6_owes 52 = .ok (.bipush 6, 2) := dk_16 6 (dk_at dksX6_owes_2 5 rfl rfl)
theorem dX6_owes_54 : decode cX6_owes 54 = .ok (.if_icmp .ge 66, 3) := dk_162 0 66 (dk_at dksX6_owes_2 7 rfl rfl)
theorem dX6_owes_57 : decode cX6_owes 57 = .ok (.iconst 0, 1) := dk_3 (dk_at dksX6_owes_2 10 rfl rfl)
theorem dX6_owes_58 : decode cX6_owes 58 = .ok (.istore 5, 2) := dk_54 5 (dk_at dksX6_owes_2 11 rfl rfl)
theorem dX6_owes_60 : decode cX6_owes 60 = .ok (.iload 5, 2) := dk_21 5 (dk_at dksX6_owes_2 13 rfl rfl)
theorem dX6_owes_62 : decode cX6_owes 62 = .ok (.aload_n 0, 1) := dk_42 (dk_at dksX6_owes_2 15 rfl rfl)
theorem dX6_owes_63 : decode cX6_owes 63 = .ok (.getfield 7, 3) := dk_180 0 7 (dk_at dksX6_owes_2 16 rfl rfl)
theorem dX6_owes_66 : decode cX6_owes 66 = .ok (.iconst 4, 1) := dk_7 (dk_at dksX6_owes_2 19 rfl rfl)
theorem dX6_owes_67 : decode cX6_owes 67 = .ok (.iaload, 1) := dk_46 (dk_at dksX6_owes_2 20 rfl rfl)
theorem dX6_owes_68 : decode cX6_owes 68 = .ok (.if_icmp .ge 46, 3) := dk_162 0 46 (dk_at dksX6_owes_2 21 rfl rfl)
theorem dX6_owes_71 : decode cX6_owes 71 = .ok (.aload_n 0, 1) := dk_42 (dk_at dksX6_owes_3 0 rfl rfl)
theorem dX6_owes_72 : decode cX6_owes 72 = .ok (.iload 5, 2) := dk_21 5 (dk_at dksX6_owes_3 1 rfl rfl)
theorem dX6_owes_74 : decode cX6_owes 74 = .ok (.iconst 3, 1) := dk_6 (dk_at dksX6_owes_3 3 rfl rfl)
theorem dX6_owes_75 : decode cX6_owes 75 = .ok (.invokevirtual 48, 3) := dk_182 0 48 (dk_at dksX6_owes_3 4 rfl rfl)
theorem dX6_owes_78 : decode cX6_owes 78 = .ok (.iconst 2, 1) := dk_5 (dk_at dksX6_owes_3 7 rfl rfl)
theorem dX6_owes_79 : decode cX6_owes 79 = .ok (.if_icmp .ge 29, 3) := dk_162 0 29 (dk_at dksX6_owes_3 8 rfl rfl)
theorem dX6_owes_82 : decode cX6_owes 82 = .ok (.iload_n 3, 1) := dk_29 (dk_at dksX6_owes_3 11 rfl rfl)
theorem dX6_owes_83 : decode cX6_owes 83 = .ok (.aload_n 0, 1) := dk_42 (dk_at dksX6_owes_3 12 rfl rfl)
theorem dX6_owes_84 : decode cX6_owes 84 = .ok (.iload 5, 2) := dk_21 5 (dk_at dksX6_owes_3 13 rfl rfl)
theorem dX6_owes_86 : decode cX6_owes 86 = .ok (.iconst 0, 1) := dk_3 (dk_at dksX6_owes_3 15 rfl rfl)
theorem dX6_owes_87 : decode cX6_owes 87 = .ok (.invokevirtual 48, 3) := dk_182 0 48 (dk_at dksX6_owes_3 16 rfl rfl)
theorem dX6_owes_90 : decode cX6_owes 90 = .ok (.invokestatic 52, 3) := dk_184 0 52 (dk_at dksX6_owes_3 19 rfl rfl)
theorem dX6_owes_93 : decode cX6_owes 93 = .ok (.ifCond .eq 15, 3) := dk_153 0 15 (dk_at dksX6_owes_4 0 rfl rfl)
theorem dX6_owes_96 : decode cX6_owes 96 = .ok (.iload_n 3, 1) := dk_29 (dk_at dksX6_owes_4 3 rfl rfl)
theorem dX6_owes_97 : decode cX6_owes 97 = .ok (.iconst 1, 1) := dk_4 (dk_at dksX6_owes_4 4 rfl rfl)
theorem dX6_owes_98 : decode cX6_owes 98 = .ok (.aload_n 0, 1) := dk_42 (dk_at dksX6_owes_4 5 rfl rfl)
theorem dX6_owes_99 : decode cX6_owes 99 = .ok (.iload 5, 2) := dk_21 5 (dk_at dksX6_owes_4 6 rfl rfl)
theorem dX6_owes_101 : decode cX6_owes 101 = .ok (.iconst 1, 1) := dk_4 (dk_at dksX6_owes_4 8 rfl rfl)
theorem dX6_owes_102 : decode cX6_owes 102 = .ok (.invokevirtual 48, 3) := dk_182 0 48 (dk_at dksX6_owes_4 9 rfl rfl)
theorem dX6_owes_105 : decode cX6_owes 105 = .ok (.ishl, 1) := dk_120 (dk_at dksX6_owes_4 12 rfl rfl)
theorem dX6_owes_106 : decode cX6_owes 106 = .ok (.ior, 1) := dk_128 (dk_at dksX6_owes_4 13 rfl rfl)
theorem dX6_owes_107 : decode cX6_owes 107 = .ok (.istore_n 3, 1) := dk_62 (dk_at dksX6_owes_4 14 rfl rfl)
theorem dX6_owes_108 : decode cX6_owes 108 = .ok (.iinc 5 1, 3) := dk_132 5 1 (dk_at dksX6_owes_4 15 rfl rfl)
theorem dX6_owes_111 : decode cX6_owes 111 = .ok (.goto (-51), 3) := dk_167 255 205 (dk_at dksX6_owes_4 18 rfl rfl)
theorem dX6_owes_114 : decode cX6_owes 114 = .ok (.iinc 4 1, 3) := dk_132 4 1 (dk_at dksX6_owes_4 21 rfl rfl)
theorem dX6_owes_117 : decode cX6_owes 117 = .ok (.goto (-67), 3) := dk_167 255 189 (dk_at dksX6_owes_5 0 rfl rfl)
theorem dX6_owes_120 : decode cX6_owes 120 = .ok (.iload_n 3, 1) := dk_29 (dk_at dksX6_owes_5 3 rfl rfl)
theorem dX6_owes_121 : decode cX6_owes 121 = .ok (.iload_n 2, 1) := dk_28 (dk_at dksX6_owes_5 4 rfl rfl)
theorem dX6_owes_122 : decode cX6_owes 122 = .ok (.invokestatic 52, 3) := dk_184 0 52 (dk_at dksX6_owes_5 5 rfl rfl)
theorem dX6_owes_125 : decode cX6_owes 125 = .ok (.ireturn, 1) := dk_172 (dk_at dksX6_owes_5 8 rfl rfl)
abbrev cX6_rests : ByteArray := prog_19_method_90_code
def yX6_rests : MethodName := ⟨RX6, "rests", "(III)I"⟩
def dkwX6_rests_6 : List UInt8 := [21, 4, 172]
abbrev dktX6_rests_6 : List UInt8 := dkwX6_rests_6 ++ []
def dkwX6_rests_5 : List UInt8 := [21, 7, 182, 1, 75, 163, 0, 12, 21, 4, 4, 21, 5, 120, 128, 54, 4, 132, 5, 1, 167, 255, 180]
abbrev dktX6_rests_5 : List UInt8 := dkwX6_rests_5 ++ dktX6_rests_6
def dkwX6_rests_4 : List UInt8 := [184, 1, 71, 163, 0, 37, 42, 28, 29, 21, 6, 4, 21, 7, 100, 182, 1, 75, 42, 28, 29, 21, 6]
abbrev dktX6_rests_4 : List UInt8 := dkwX6_rests_4 ++ dktX6_rests_5
def dkwX6_rests_3 : List UInt8 := [54, 6, 21, 5, 5, 112, 54, 7, 29, 4, 21, 6, 100, 21, 7, 184, 1, 71, 29, 21, 6, 21, 7]
abbrev dktX6_rests_3 : List UInt8 := dkwX6_rests_3 ++ dktX6_rests_4
def dkwX6_rests_2 : List UInt8 := [180, 0, 41, 158, 0, 5, 3, 172, 3, 54, 4, 3, 54, 5, 21, 5, 7, 162, 0, 76, 21, 5, 5, 108]
abbrev dktX6_rests_2 : List UInt8 := dkwX6_rests_2 ++ dktX6_rests_3
def dkwX6_rests_1 : List UInt8 := [159, 0, 13, 29, 4, 16, 40, 184, 0, 44, 154, 0, 7, 5, 167, 0, 4, 3, 181, 0, 41, 42]
abbrev dktX6_rests_1 : List UInt8 := dkwX6_rests_1 ++ dktX6_rests_2
def dkwX6_rests_0 : List UInt8 := [42, 42, 27, 182, 1, 20, 153, 0, 11, 42, 28, 182, 1, 20, 154, 0, 7, 4, 167, 0, 23, 27, 28]
abbrev dktX6_rests_0 : List UInt8 := dkwX6_rests_0 ++ dktX6_rests_1
theorem dksX6_rests_0 : cX6_rests.data.toList.drop 0 = dktX6_rests_0 := by decide +kernel
theorem dksX6_rests_1 : cX6_rests.data.toList.drop 23 = dktX6_rests_1 := dk_seg dksX6_rests_0 23 rfl rfl
theorem dksX6_rests_2 : cX6_rests.data.toList.drop 45 = dktX6_rests_2 := dk_seg dksX6_rests_1 22 rfl rfl
theorem dksX6_rests_3 : cX6_rests.data.toList.drop 69 = dktX6_rests_3 := dk_seg dksX6_rests_2 24 rfl rfl
theorem dksX6_rests_4 : cX6_rests.data.toList.drop 92 = dktX6_rests_4 := dk_seg dksX6_rests_3 23 rfl rfl
theorem dksX6_rests_5 : cX6_rests.data.toList.drop 115 = dktX6_rests_5 := dk_seg dksX6_rests_4 23 rfl rfl
theorem dksX6_rests_6 : cX6_rests.data.toList.drop 138 = dktX6_rests_6 := dk_seg dksX6_rests_5 23 rfl rfl
theorem dX6_rests_0 : decode cX6_rests 0 = .ok (.aload_n 0, 1) := dk_42 (dk_at dksX6_rests_0 0 rfl rfl)
theorem dX6_rests_1 : decode cX6_rests 1 = .ok (.aload_n 0, 1) := dk_42 (dk_at dksX6_rests_0 1 rfl rfl)
theorem dX6_rests_2 : decode cX6_rests 2 = .ok (.iload_n 1, 1) := dk_27 (dk_at dksX6_rests_0 2 rfl rfl)
theorem dX6_rests_3 : decode cX6_rests 3 = .ok (.invokevirtual 276, 3) := dk_182 1 20 (dk_at dksX6_rests_0 3 rfl rfl)
theorem dX6_rests_6 : decode cX6_rests 6 = .ok (.ifCond .eq 11, 3) := dk_153 0 11 (dk_at dksX6_rests_0 6 rfl rfl)
theorem dX6_rests_9 : decode cX6_rests 9 = .ok (.aload_n 0, 1) := dk_42 (dk_at dksX6_rests_0 9 rfl rfl)
theorem dX6_rests_10 : decode cX6_rests 10 = .ok (.iload_n 2, 1) := dk_28 (dk_at dksX6_rests_0 10 rfl rfl)
theorem dX6_rests_11 : decode cX6_rests 11 = .ok (.invokevirtual 276, 3) := dk_182 1 20 (dk_at dksX6_rests_0 11 rfl rfl)
theorem dX6_rests_14 : decode cX6_rests 14 = .ok (.ifCond .ne 7, 3) := dk_154 0 7 (dk_at dksX6_rests_0 14 rfl rfl)
theorem dX6_rests_17 : decode cX6_rests 17 = .ok (.iconst 1, 1) := dk_4 (dk_at dksX6_rests_0 17 rfl rfl)
theorem dX6_rests_18 : decode cX6_rests 18 = .ok (.goto 23, 3) := dk_167 0 23 (dk_at dksX6_rests_0 18 rfl rfl)
theorem dX6_rests_21 : decode cX6_rests 21 = .ok (.iload_n 1, 1) := dk_27 (dk_at dksX6_rests_0 21 rfl rfl)
theorem dX6_rests_22 : decode cX6_rests 22 = .ok (.iload_n 2, 1) := dk_28 (dk_at dksX6_rests_0 22 rfl rfl)
theorem dX6_rests_23 : decode cX6_rests 23 = .ok (.if_icmp .eq 13, 3) := dk_159 0 13 (dk_at dksX6_rests_1 0 rfl rfl)
theorem dX6_rests_26 : decode cX6_rests 26 = .ok (.iload_n 3, 1) := dk_29 (dk_at dksX6_rests_1 3 rfl rfl)
theorem dX6_rests_27 : decode cX6_rests 27 = .ok (.iconst 1, 1) := dk_4 (dk_at dksX6_rests_1 4 rfl rfl)
theorem dX6_rests_28 : decode cX6_rests 28 = .ok (.bipush 40, 2) := dk_16 40 (dk_at dksX6_rests_1 5 rfl rfl)
theorem dX6_rests_30 : decode cX6_rests 30 = .ok (.invokestatic 44, 3) := dk_184 0 44 (dk_at dksX6_rests_1 7 rfl rfl)
theorem dX6_rests_33 : decode cX6_rests 33 = .ok (.ifCond .ne 7, 3) := dk_154 0 7 (dk_at dksX6_rests_1 10 rfl rfl)
theorem dX6_rests_36 : decode cX6_rests 36 = .ok (.iconst 2, 1) := dk_5 (dk_at dksX6_rests_1 13 rfl rfl)
theorem dX6_rests_37 : decode cX6_rests 37 = .ok (.goto 4, 3) := dk_167 0 4 (dk_at dksX6_rests_1 14 rfl rfl)
theorem dX6_rests_40 : decode cX6_rests 40 = .ok (.iconst 0, 1) := dk_3 (dk_at dksX6_rests_1 17 rfl rfl)
theorem dX6_rests_41 : decode cX6_rests 41 = .ok (.putfield 41, 3) := dk_181 0 41 (dk_at dksX6_rests_1 18 rfl rfl)
theorem dX6_rests_44 : decode cX6_rests 44 = .ok (.aload_n 0, 1) := dk_42 (dk_at dksX6_rests_1 21 rfl rfl)
theorem dX6_rests_45 : decode cX6_rests 45 = .ok (.getfield 41, 3) := dk_180 0 41 (dk_at dksX6_rests_2 0 rfl rfl)
theorem dX6_rests_48 : decode cX6_rests 48 = .ok (.ifCond .le 5, 3) := dk_158 0 5 (dk_at dksX6_rests_2 3 rfl rfl)
theorem dX6_rests_51 : decode cX6_rests 51 = .ok (.iconst 0, 1) := dk_3 (dk_at dksX6_rests_2 6 rfl rfl)
theorem dX6_rests_52 : decode cX6_rests 52 = .ok (.ireturn, 1) := dk_172 (dk_at dksX6_rests_2 7 rfl rfl)
theorem dX6_rests_53 : decode cX6_rests 53 = .ok (.iconst 0, 1) := dk_3 (dk_at dksX6_rests_2 8 rfl rfl)
theorem dX6_rests_54 : decode cX6_rests 54 = .ok (.istore 4, 2) := dk_54 4 (dk_at dksX6_rests_2 9 rfl rfl)
theorem dX6_rests_56 : decode cX6_rests 56 = .ok (.iconst 0, 1) := dk_3 (dk_at dksX6_rests_2 11 rfl rfl)
theorem dX6_rests_57 : decode cX6_rests 57 = .ok (.istore 5, 2) := dk_54 5 (dk_at dksX6_rests_2 12 rfl rfl)
theorem dX6_rests_59 : decode cX6_rests 59 = .ok (.iload 5, 2) := dk_21 5 (dk_at dksX6_rests_2 14 rfl rfl)
theorem dX6_rests_61 : decode cX6_rests 61 = .ok (.iconst 4, 1) := dk_7 (dk_at dksX6_rests_2 16 rfl rfl)
theorem dX6_rests_62 : decode cX6_rests 62 = .ok (.if_icmp .ge 76, 3) := dk_162 0 76 (dk_at dksX6_rests_2 17 rfl rfl)
theorem dX6_rests_65 : decode cX6_rests 65 = .ok (.iload 5, 2) := dk_21 5 (dk_at dksX6_rests_2 20 rfl rfl)
theorem dX6_rests_67 : decode cX6_rests 67 = .ok (.iconst 2, 1) := dk_5 (dk_at dksX6_rests_2 22 rfl rfl)
theorem dX6_rests_68 : decode cX6_rests 68 = .ok (.idiv, 1) := dk_108 (dk_at dksX6_rests_2 23 rfl rfl)
theorem dX6_rests_69 : decode cX6_rests 69 = .ok (.istore 6, 2) := dk_54 6 (dk_at dksX6_rests_3 0 rfl rfl)
theorem dX6_rests_71 : decode cX6_rests 71 = .ok (.iload 5, 2) := dk_21 5 (dk_at dksX6_rests_3 2 rfl rfl)
theorem dX6_rests_73 : decode cX6_rests 73 = .ok (.iconst 2, 1) := dk_5 (dk_at dksX6_rests_3 4 rfl rfl)
theorem dX6_rests_74 : decode cX6_rests 74 = .ok (.irem, 1) := dk_112 (dk_at dksX6_rests_3 5 rfl rfl)
theorem dX6_rests_75 : decode cX6_rests 75 = .ok (.istore 7, 2) := dk_54 7 (dk_at dksX6_rests_3 6 rfl rfl)
theorem dX6_rests_77 : decode cX6_rests 77 = .ok (.iload_n 3, 1) := dk_29 (dk_at dksX6_rests_3 8 rfl rfl)
theorem dX6_rests_78 : decode cX6_rests 78 = .ok (.iconst 1, 1) := dk_4 (dk_at dksX6_rests_3 9 rfl rfl)
theorem dX6_rests_79 : decode cX6_rests 79 = .ok (.iload 6, 2) := dk_21 6 (dk_at dksX6_rests_3 10 rfl rfl)
theorem dX6_rests_81 : decode cX6_rests 81 = .ok (.isub, 1) := dk_100 (dk_at dksX6_rests_3 12 rfl rfl)
theorem dX6_rests_82 : decode cX6_rests 82 = .ok (.iload 7, 2) := dk_21 7 (dk_at dksX6_rests_3 13 rfl rfl)
theorem dX6_rests_84 : decode cX6_rests 84 = .ok (.invokestatic 327, 3) := dk_184 1 71 (dk_at dksX6_rests_3 15 rfl rfl)
theorem dX6_rests_87 : decode cX6_rests 87 = .ok (.iload_n 3, 1) := dk_29 (dk_at dksX6_rests_3 18 rfl rfl)
theorem dX6_rests_88 : decode cX6_rests 88 = .ok (.iload 6, 2) := dk_21 6 (dk_at dksX6_rests_3 19 rfl rfl)
theorem dX6_rests_90 : decode cX6_rests 90 = .ok (.iload 7, 2) := dk_21 7 (dk_at dksX6_rests_3 21 rfl rfl)
theorem dX6_rests_92 : decode cX6_rests 92 = .ok (.invokestatic 327, 3) := dk_184 1 71 (dk_at dksX6_rests_4 0 rfl rfl)
theorem dX6_rests_95 : decode cX6_rests 95 = .ok (.if_icmp .gt 37, 3) := dk_163 0 37 (dk_at dksX6_rests_4 3 rfl rfl)
theorem dX6_rests_98 : decode cX6_rests 98 = .ok (.aload_n 0, 1) := dk_42 (dk_at dksX6_rests_4 6 rfl rfl)
theorem dX6_rests_99 : decode cX6_rests 99 = .ok (.iload_n 2, 1) := dk_28 (dk_at dksX6_rests_4 7 rfl rfl)
theorem dX6_rests_100 : decode cX6_rests 100 = .ok (.iload_n 3, 1) := dk_29 (dk_at dksX6_rests_4 8 rfl rfl)
theorem dX6_rests_101 : decode cX6_rests 101 = .ok (.iload 6, 2) := dk_21 6 (dk_at dksX6_rests_4 9 rfl rfl)
theorem dX6_rests_103 : decode cX6_rests 103 = .ok (.iconst 1, 1) := dk_4 (dk_at dksX6_rests_4 11 rfl rfl)
theorem dX6_rests_104 : decode cX6_rests 104 = .ok (.iload 7, 2) := dk_21 7 (dk_at dksX6_rests_4 12 rfl rfl)
theorem dX6_rests_106 : decode cX6_rests 106 = .ok (.isub, 1) := dk_100 (dk_at dksX6_rests_4 14 rfl rfl)
theorem dX6_rests_107 : decode cX6_rests 107 = .ok (.invokevirtual 331, 3) := dk_182 1 75 (dk_at dksX6_rests_4 15 rfl rfl)
theorem dX6_rests_110 : decode cX6_rests 110 = .ok (.aload_n 0, 1) := dk_42 (dk_at dksX6_rests_4 18 rfl rfl)
theorem dX6_rests_111 : decode cX6_rests 111 = .ok (.iload_n 2, 1) := dk_28 (dk_at dksX6_rests_4 19 rfl rfl)
theorem dX6_rests_112 : decode cX6_rests 112 = .ok (.iload_n 3, 1) := dk_29 (dk_at dksX6_rests_4 20 rfl rfl)
theorem dX6_rests_113 : decode cX6_rests 113 = .ok (.iload 6, 2) := dk_21 6 (dk_at dksX6_rests_4 21 rfl rfl)
theorem dX6_rests_115 : decode cX6_rests 115 = .ok (.iload 7, 2) := dk_21 7 (dk_at dksX6_rests_5 0 rfl rfl)
theorem dX6_rests_117 : decode cX6_rests 117 = .ok (.invokevirtual 331, 3) := dk_182 1 75 (dk_at dksX6_rests_5 2 rfl rfl)
theorem dX6_rests_120 : decode cX6_rests 120 = .ok (.if_icmp .gt 12, 3) := dk_163 0 12 (dk_at dksX6_rests_5 5 rfl rfl)
theorem dX6_rests_123 : decode cX6_rests 123 = .ok (.iload 4, 2) := dk_21 4 (dk_at dksX6_rests_5 8 rfl rfl)
theorem dX6_rests_125 : decode cX6_rests 125 = .ok (.iconst 1, 1) := dk_4 (dk_at dksX6_rests_5 10 rfl rfl)
theorem dX6_rests_126 : decode cX6_rests 126 = .ok (.iload 5, 2) := dk_21 5 (dk_at dksX6_rests_5 11 rfl rfl)
theorem dX6_rests_128 : decode cX6_rests 128 = .ok (.ishl, 1) := dk_120 (dk_at dksX6_rests_5 13 rfl rfl)
theorem dX6_rests_129 : decode cX6_rests 129 = .ok (.ior, 1) := dk_128 (dk_at dksX6_rests_5 14 rfl rfl)
theorem dX6_rests_130 : decode cX6_rests 130 = .ok (.istore 4, 2) := dk_54 4 (dk_at dksX6_rests_5 15 rfl rfl)
theorem dX6_rests_132 : decode cX6_rests 132 = .ok (.iinc 5 1, 3) := dk_132 5 1 (dk_at dksX6_rests_5 17 rfl rfl)
theorem dX6_rests_135 : decode cX6_rests 135 = .ok (.goto (-76), 3) := dk_167 255 180 (dk_at dksX6_rests_5 20 rfl rfl)
theorem dX6_rests_138 : decode cX6_rests 138 = .ok (.iload 4, 2) := dk_21 4 (dk_at dksX6_rests_6 0 rfl rfl)
theorem dX6_rests_140 : decode cX6_rests 140 = .ok (.ireturn, 1) := dk_172 (dk_at dksX6_rests_6 2 rfl rfl)
abbrev cX6_lenderHas : ByteArray := prog_19_method_88_code
def yX6_lenderHas : MethodName := ⟨RX6, "lenderHas", "(III)I"⟩
def dkwX6_lenderHas_0 : List UInt8 := [27, 154, 0, 7, 26, 167, 0, 6, 26, 5, 108, 62, 28, 154, 0, 7, 29, 167, 0, 5, 29, 116, 172]
abbrev dktX6_lenderHas_0 : List UInt8 := dkwX6_lenderHas_0 ++ []
theorem dksX6_lenderHas_0 : cX6_lenderHas.data.toList.drop 0 = dktX6_lenderHas_0 := by decide +kernel
theorem dX6_lenderHas_0 : decode cX6_lenderHas 0 = .ok (.iload_n 1, 1) := dk_27 (dk_at dksX6_lenderHas_0 0 rfl rfl)
theorem dX6_lenderHas_1 : decode cX6_lenderHas 1 = .ok (.ifCond .ne 7, 3) := dk_154 0 7 (dk_at dksX6_lenderHas_0 1 rfl rfl)
theorem dX6_lenderHas_4 : decode cX6_lenderHas 4 = .ok (.iload_n 0, 1) := dk_26 (dk_at dksX6_lenderHas_0 4 rfl rfl)
theorem dX6_lenderHas_5 : decode cX6_lenderHas 5 = .ok (.goto 6, 3) := dk_167 0 6 (dk_at dksX6_lenderHas_0 5 rfl rfl)
theorem dX6_lenderHas_8 : decode cX6_lenderHas 8 = .ok (.iload_n 0, 1) := dk_26 (dk_at dksX6_lenderHas_0 8 rfl rfl)
theorem dX6_lenderHas_9 : decode cX6_lenderHas 9 = .ok (.iconst 2, 1) := dk_5 (dk_at dksX6_lenderHas_0 9 rfl rfl)
theorem dX6_lenderHas_10 : decode cX6_lenderHas 10 = .ok (.idiv, 1) := dk_108 (dk_at dksX6_lenderHas_0 10 rfl rfl)
theorem dX6_lenderHas_11 : decode cX6_lenderHas 11 = .ok (.istore_n 3, 1) := dk_62 (dk_at dksX6_lenderHas_0 11 rfl rfl)
theorem dX6_lenderHas_12 : decode cX6_lenderHas 12 = .ok (.iload_n 2, 1) := dk_28 (dk_at dksX6_lenderHas_0 12 rfl rfl)
theorem dX6_lenderHas_13 : decode cX6_lenderHas 13 = .ok (.ifCond .ne 7, 3) := dk_154 0 7 (dk_at dksX6_lenderHas_0 13 rfl rfl)
theorem dX6_lenderHas_16 : decode cX6_lenderHas 16 = .ok (.iload_n 3, 1) := dk_29 (dk_at dksX6_lenderHas_0 16 rfl rfl)
theorem dX6_lenderHas_17 : decode cX6_lenderHas 17 = .ok (.goto 5, 3) := dk_167 0 5 (dk_at dksX6_lenderHas_0 17 rfl rfl)
theorem dX6_lenderHas_20 : decode cX6_lenderHas 20 = .ok (.iload_n 3, 1) := dk_29 (dk_at dksX6_lenderHas_0 20 rfl rfl)
theorem dX6_lenderHas_21 : decode cX6_lenderHas 21 = .ok (.ineg, 1) := dk_116 (dk_at dksX6_lenderHas_0 21 rfl rfl)
theorem dX6_lenderHas_22 : decode cX6_lenderHas 22 = .ok (.ireturn, 1) := dk_172 (dk_at dksX6_lenderHas_0 22 rfl rfl)
abbrev cX6_debtorHas : ByteArray := prog_19_method_89_code
def yX6_debtorHas : MethodName := ⟨RX6, "debtorHas", "(IIII)I"⟩
def dkwX6_debtorHas_1 : List UInt8 := [154, 0, 7, 28, 167, 0, 6, 28, 5, 108, 100, 172]
abbrev dktX6_debtorHas_1 : List UInt8 := dkwX6_debtorHas_1 ++ []
def dkwX6_debtorHas_0 : List UInt8 := [21, 4, 4, 160, 0, 8, 16, 246, 167, 0, 27, 42, 27, 4, 182, 0, 66, 42, 27, 182, 0, 63, 100, 29]
abbrev dktX6_debtorHas_0 : List UInt8 := dkwX6_debtorHas_0 ++ dktX6_debtorHas_1
theorem dksX6_debtorHas_0 : cX6_debtorHas.data.toList.drop 0 = dktX6_debtorHas_0 := by decide +kernel
theorem dksX6_debtorHas_1 : cX6_debtorHas.data.toList.drop 24 = dktX6_debtorHas_1 := dk_seg dksX6_debtorHas_0 24 rfl rfl
theorem dX6_debtorHas_0 : decode cX6_debtorHas 0 = .ok (.iload 4, 2) := dk_21 4 (dk_at dksX6_debtorHas_0 0 rfl rfl)
theorem dX6_debtorHas_2 : decode cX6_debtorHas 2 = .ok (.iconst 1, 1) := dk_4 (dk_at dksX6_debtorHas_0 2 rfl rfl)
theorem dX6_debtorHas_3 : decode cX6_debtorHas 3 = .ok (.if_icmp .ne 8, 3) := dk_160 0 8 (dk_at dksX6_debtorHas_0 3 rfl rfl)
theorem dX6_debtorHas_6 : decode cX6_debtorHas 6 = .ok (.bipush (-10), 2) := dk_16 246 (dk_at dksX6_debtorHas_0 6 rfl rfl)
theorem dX6_debtorHas_8 : decode cX6_debtorHas 8 = .ok (.goto 27, 3) := dk_167 0 27 (dk_at dksX6_debtorHas_0 8 rfl rfl)
theorem dX6_debtorHas_11 : decode cX6_debtorHas 11 = .ok (.aload_n 0, 1) := dk_42 (dk_at dksX6_debtorHas_0 11 rfl rfl)
theorem dX6_debtorHas_12 : decode cX6_debtorHas 12 = .ok (.iload_n 1, 1) := dk_27 (dk_at dksX6_debtorHas_0 12 rfl rfl)
theorem dX6_debtorHas_13 : decode cX6_debtorHas 13 = .ok (.iconst 1, 1) := dk_4 (dk_at dksX6_debtorHas_0 13 rfl rfl)
theorem dX6_debtorHas_14 : decode cX6_debtorHas 14 = .ok (.invokevirtual 66, 3) := dk_182 0 66 (dk_at dksX6_debtorHas_0 14 rfl rfl)
theorem dX6_debtorHas_17 : decode cX6_debtorHas 17 = .ok (.aload_n 0, 1) := dk_42 (dk_at dksX6_debtorHas_0 17 rfl rfl)
theorem dX6_debtorHas_18 : decode cX6_debtorHas 18 = .ok (.iload_n 1, 1) := dk_27 (dk_at dksX6_debtorHas_0 18 rfl rfl)
theorem dX6_debtorHas_19 : decode cX6_debtorHas 19 = .ok (.invokevirtual 63, 3) := dk_182 0 63 (dk_at dksX6_debtorHas_0 19 rfl rfl)
theorem dX6_debtorHas_22 : decode cX6_debtorHas 22 = .ok (.isub, 1) := dk_100 (dk_at dksX6_debtorHas_0 22 rfl rfl)
theorem dX6_debtorHas_23 : decode cX6_debtorHas 23 = .ok (.iload_n 3, 1) := dk_29 (dk_at dksX6_debtorHas_0 23 rfl rfl)
theorem dX6_debtorHas_24 : decode cX6_debtorHas 24 = .ok (.ifCond .ne 7, 3) := dk_154 0 7 (dk_at dksX6_debtorHas_1 0 rfl rfl)
theorem dX6_debtorHas_27 : decode cX6_debtorHas 27 = .ok (.iload_n 2, 1) := dk_28 (dk_at dksX6_debtorHas_1 3 rfl rfl)
theorem dX6_debtorHas_28 : decode cX6_debtorHas 28 = .ok (.goto 6, 3) := dk_167 0 6 (dk_at dksX6_debtorHas_1 4 rfl rfl)
theorem dX6_debtorHas_31 : decode cX6_debtorHas 31 = .ok (.iload_n 2, 1) := dk_28 (dk_at dksX6_debtorHas_1 7 rfl rfl)
theorem dX6_debtorHas_32 : decode cX6_debtorHas 32 = .ok (.iconst 2, 1) := dk_5 (dk_at dksX6_debtorHas_1 8 rfl rfl)
theorem dX6_debtorHas_33 : decode cX6_debtorHas 33 = .ok (.idiv, 1) := dk_108 (dk_at dksX6_debtorHas_1 9 rfl rfl)
theorem dX6_debtorHas_34 : decode cX6_debtorHas 34 = .ok (.isub, 1) := dk_100 (dk_at dksX6_debtorHas_1 10 rfl rfl)
theorem dX6_debtorHas_35 : decode cX6_debtorHas 35 = .ok (.ireturn, 1) := dk_172 (dk_at dksX6_debtorHas_1 11 rfl rfl)
abbrev cX6_scales : ByteArray := prog_19_method_93_code
def yX6_scales : MethodName := ⟨RX6, "scales", "(Z)I"⟩
def dkwX6_scales_1 : List UInt8 := [158, 0, 5, 3, 172, 27, 153, 0, 10, 28, 16, 10, 122, 167, 0, 8, 28, 17, 3, 255, 126, 172]
abbrev dktX6_scales_1 : List UInt8 := dkwX6_scales_1 ++ []
def dkwX6_scales_0 : List UInt8 := [42, 182, 1, 82, 61, 42, 28, 2, 160, 0, 7, 4, 167, 0, 4, 3, 181, 0, 41, 42, 180, 0, 41]
abbrev dktX6_scales_0 : List UInt8 := dkwX6_scales_0 ++ dktX6_scales_1
theorem dksX6_scales_0 : cX6_scales.data.toList.drop 0 = dktX6_scales_0 := by decide +kernel
theorem dksX6_scales_1 : cX6_scales.data.toList.drop 23 = dktX6_scales_1 := dk_seg dksX6_scales_0 23 rfl rfl
theorem dX6_scales_0 : decode cX6_scales 0 = .ok (.aload_n 0, 1) := dk_42 (dk_at dksX6_scales_0 0 rfl rfl)
theorem dX6_scales_1 : decode cX6_scales 1 = .ok (.invokevirtual 338, 3) := dk_182 1 82 (dk_at dksX6_scales_0 1 rfl rfl)
theorem dX6_scales_4 : decode cX6_scales 4 = .ok (.istore_n 2, 1) := dk_61 (dk_at dksX6_scales_0 4 rfl rfl)
theorem dX6_scales_5 : decode cX6_scales 5 = .ok (.aload_n 0, 1) := dk_42 (dk_at dksX6_scales_0 5 rfl rfl)
theorem dX6_scales_6 : decode cX6_scales 6 = .ok (.iload_n 2, 1) := dk_28 (dk_at dksX6_scales_0 6 rfl rfl)
theorem dX6_scales_7 : decode cX6_scales 7 = .ok (.iconst (-1), 1) := dk_2 (dk_at dksX6_scales_0 7 rfl rfl)
theorem dX6_scales_8 : decode cX6_scales 8 = .ok (.if_icmp .ne 7, 3) := dk_160 0 7 (dk_at dksX6_scales_0 8 rfl rfl)
theorem dX6_scales_11 : decode cX6_scales 11 = .ok (.iconst 1, 1) := dk_4 (dk_at dksX6_scales_0 11 rfl rfl)
theorem dX6_scales_12 : decode cX6_scales 12 = .ok (.goto 4, 3) := dk_167 0 4 (dk_at dksX6_scales_0 12 rfl rfl)
theorem dX6_scales_15 : decode cX6_scales 15 = .ok (.iconst 0, 1) := dk_3 (dk_at dksX6_scales_0 15 rfl rfl)
theorem dX6_scales_16 : decode cX6_scales 16 = .ok (.putfield 41, 3) := dk_181 0 41 (dk_at dksX6_scales_0 16 rfl rfl)
theorem dX6_scales_19 : decode cX6_scales 19 = .ok (.aload_n 0, 1) := dk_42 (dk_at dksX6_scales_0 19 rfl rfl)
theorem dX6_scales_20 : decode cX6_scales 20 = .ok (.getfield 41, 3) := dk_180 0 41 (dk_at dksX6_scales_0 20 rfl rfl)
theorem dX6_scales_23 : decode cX6_scales 23 = .ok (.ifCond .le 5, 3) := dk_158 0 5 (dk_at dksX6_scales_1 0 rfl rfl)
theorem dX6_scales_26 : decode cX6_scales 26 = .ok (.iconst 0, 1) := dk_3 (dk_at dksX6_scales_1 3 rfl rfl)
theorem dX6_scales_27 : decode cX6_scales 27 = .ok (.ireturn, 1) := dk_172 (dk_at dksX6_scales_1 4 rfl rfl)
theorem dX6_scales_28 : decode cX6_scales 28 = .ok (.iload_n 1, 1) := dk_27 (dk_at dksX6_scales_1 5 rfl rfl)
theorem dX6_scales_29 : decode cX6_scales 29 = .ok (.ifCond .eq 10, 3) := dk_153 0 10 (dk_at dksX6_scales_1 6 rfl rfl)
theorem dX6_scales_32 : decode cX6_scales 32 = .ok (.iload_n 2, 1) := dk_28 (dk_at dksX6_scales_1 9 rfl rfl)
theorem dX6_scales_33 : decode cX6_scales 33 = .ok (.bipush 10, 2) := dk_16 10 (dk_at dksX6_scales_1 10 rfl rfl)
theorem dX6_scales_35 : decode cX6_scales 35 = .ok (.ishr, 1) := dk_122 (dk_at dksX6_scales_1 12 rfl rfl)
theorem dX6_scales_36 : decode cX6_scales 36 = .ok (.goto 8, 3) := dk_167 0 8 (dk_at dksX6_scales_1 13 rfl rfl)
theorem dX6_scales_39 : decode cX6_scales 39 = .ok (.iload_n 2, 1) := dk_28 (dk_at dksX6_scales_1 16 rfl rfl)
theorem dX6_scales_40 : decode cX6_scales 40 = .ok (.sipush 1023, 3) := dk_17 3 255 (dk_at dksX6_scales_1 17 rfl rfl)
theorem dX6_scales_43 : decode cX6_scales 43 = .ok (.iand, 1) := dk_126 (dk_at dksX6_scales_1 20 rfl rfl)
theorem dX6_scales_44 : decode cX6_scales 44 = .ok (.ireturn, 1) := dk_172 (dk_at dksX6_scales_1 21 rfl rfl)
abbrev cX6_cases : ByteArray := prog_19_method_92_code
def yX6_cases : MethodName := ⟨RX6, "cases", "()I"⟩
def dkwX6_cases_11 : List UInt8 := [167, 0, 5, 21, 4, 120, 167, 0, 4, 3, 128, 62, 132, 4, 1, 167, 255, 106, 29, 172]
abbrev dktX6_cases_11 : List UInt8 := dkwX6_cases_11 ++ []
def dkwX6_cases_10 : List UInt8 := [3, 54, 6, 132, 7, 3, 167, 255, 192, 29, 21, 6, 153, 0, 20, 4, 21, 5, 153, 0, 8, 16, 10]
abbrev dktX6_cases_10 : List UInt8 := dkwX6_cases_10 ++ dktX6_cases_11
def dkwX6_cases_9 : List UInt8 := [167, 0, 5, 21, 4, 182, 1, 79, 42, 180, 0, 22, 21, 7, 5, 96, 46, 160, 0, 7, 4, 167, 0, 4]
abbrev dktX6_cases_9 : List UInt8 := dkwX6_cases_9 ++ dktX6_cases_10
def dkwX6_cases_8 : List UInt8 := [42, 42, 180, 0, 22, 21, 7, 46, 42, 180, 0, 22, 21, 7, 4, 96, 46, 21, 5, 153, 0, 7, 2]
abbrev dktX6_cases_8 : List UInt8 := dkwX6_cases_8 ++ dktX6_cases_9
def dkwX6_cases_7 : List UInt8 := [154, 0, 7, 4, 167, 0, 4, 3, 54, 6, 3, 54, 7, 21, 7, 27, 162, 0, 64, 21, 6, 153, 0, 59]
abbrev dktX6_cases_7 : List UInt8 := dkwX6_cases_7 ++ dktX6_cases_8
def dkwX6_cases_6 : List UInt8 := [7, 46, 160, 0, 7, 4, 167, 0, 4, 3, 54, 5, 21, 5, 154, 0, 13, 42, 21, 4, 6, 182, 0, 48]
abbrev dktX6_cases_6 : List UInt8 := dkwX6_cases_6 ++ dktX6_cases_7
def dkwX6_cases_5 : List UInt8 := [2, 172, 3, 62, 3, 54, 4, 21, 4, 42, 180, 0, 7, 7, 46, 163, 0, 145, 21, 4, 42, 180, 0, 7]
abbrev dktX6_cases_5 : List UInt8 := dkwX6_cases_5 ++ dktX6_cases_6
def dkwX6_cases_4 : List UInt8 := [29, 5, 96, 46, 6, 162, 0, 7, 4, 167, 0, 4, 3, 61, 132, 3, 3, 167, 255, 177, 28, 154, 0, 5]
abbrev dktX6_cases_4 : List UInt8 := dkwX6_cases_4 ++ dktX6_cases_5
def dkwX6_cases_3 : List UInt8 := [162, 0, 36, 42, 180, 0, 22, 29, 46, 42, 180, 0, 22, 29, 4, 96, 46, 159, 0, 19, 42, 180, 0, 22]
abbrev dktX6_cases_3 : List UInt8 := dkwX6_cases_3 ++ dktX6_cases_4
def dkwX6_cases_2 : List UInt8 := [180, 0, 7, 6, 46, 162, 0, 53, 42, 180, 0, 22, 29, 4, 96, 46, 42, 180, 0, 7, 6, 46]
abbrev dktX6_cases_2 : List UInt8 := dkwX6_cases_2 ++ dktX6_cases_3
def dkwX6_cases_1 : List UInt8 := [167, 0, 4, 3, 61, 3, 62, 29, 27, 162, 0, 80, 28, 153, 0, 76, 42, 180, 0, 22, 29, 46, 42]
abbrev dktX6_cases_1 : List UInt8 := dkwX6_cases_1 ++ dktX6_cases_2
def dkwX6_cases_0 : List UInt8 := [42, 180, 0, 69, 60, 42, 3, 181, 0, 69, 27, 6, 112, 154, 0, 13, 27, 16, 36, 163, 0, 7, 4]
abbrev dktX6_cases_0 : List UInt8 := dkwX6_cases_0 ++ dktX6_cases_1
theorem dksX6_cases_0 : cX6_cases.data.toList.drop 0 = dktX6_cases_0 := by decide +kernel
theorem dksX6_cases_1 : cX6_cases.data.toList.drop 23 = dktX6_cases_1 := dk_seg dksX6_cases_0 23 rfl rfl
theorem dksX6_cases_2 : cX6_cases.data.toList.drop 46 = dktX6_cases_2 := dk_seg dksX6_cases_1 23 rfl rfl
theorem dksX6_cases_3 : cX6_cases.data.toList.drop 68 = dktX6_cases_3 := dk_seg dksX6_cases_2 22 rfl rfl
theorem dksX6_cases_4 : cX6_cases.data.toList.drop 92 = dktX6_cases_4 := dk_seg dksX6_cases_3 24 rfl rfl
theorem dksX6_cases_5 : cX6_cases.data.toList.drop 116 = dktX6_cases_5 := dk_seg dksX6_cases_4 24 rfl rfl
theorem dksX6_cases_6 : cX6_cases.data.toList.drop 140 = dktX6_cases_6 := dk_seg dksX6_cases_5 24 rfl rfl
theorem dksX6_cases_7 : cX6_cases.data.toList.drop 164 = dktX6_cases_7 := dk_seg dksX6_cases_6 24 rfl rfl
theorem dksX6_cases_8 : cX6_cases.data.toList.drop 188 = dktX6_cases_8 := dk_seg dksX6_cases_7 24 rfl rfl
theorem dksX6_cases_9 : cX6_cases.data.toList.drop 211 = dktX6_cases_9 := dk_seg dksX6_cases_8 23 rfl rfl
theorem dksX6_cases_10 : cX6_cases.data.toList.drop 235 = dktX6_cases_10 := dk_seg dksX6_cases_9 24 rfl rfl
theorem dksX6_cases_11 : cX6_cases.data.toList.drop 258 = dktX6_cases_11 := dk_seg dksX6_cases_10 23 rfl rfl
theorem dX6_cases_0 : decode cX6_cases 0 = .ok (.aload_n 0, 1) := dk_42 (dk_at dksX6_cases_0 0 rfl rfl)
theorem dX6_cases_1 : decode cX6_cases 1 = .ok (.getfield 69, 3) := dk_180 0 69 (dk_at dksX6_cases_0 1 rfl rfl)
theorem dX6_cases_4 : decode cX6_cases 4 = .ok (.istore_n 1, 1) := dk_60 (dk_at dksX6_cases_0 4 rfl rfl)
theorem dX6_cases_5 : decode cX6_cases 5 = .ok (.aload_n 0, 1) := dk_42 (dk_at dksX6_cases_0 5 rfl rfl)
theorem dX6_cases_6 : decode cX6_cases 6 = .ok (.iconst 0, 1) := dk_3 (dk_at dksX6_cases_0 6 rfl rfl)
theorem dX6_cases_7 : decode cX6_cases 7 = .ok (.putfield 69, 3) := dk_181 0 69 (dk_at dksX6_cases_0 7 rfl rfl)
theorem dX6_cases_10 : decode cX6_cases 10 = .ok (.iload_n 1, 1) := dk_27 (dk_at dksX6_cases_0 10 rfl rfl)
theorem dX6_cases_11 : decode cX6_cases 11 = .ok (.iconst 3, 1) := dk_6 (dk_at dksX6_cases_0 11 rfl rfl)
theorem dX6_cases_12 : decode cX6_cases 12 = .ok (.irem, 1) := dk_112 (dk_at dksX6_cases_0 12 rfl rfl)
theorem dX6_cases_13 : decode cX6_cases 13 = .ok (.ifCond .ne 13, 3) := dk_154 0 13 (dk_at dksX6_cases_0 13 rfl rfl)
theorem dX6_cases_16 : decode cX6_cases 16 = .ok (.iload_n 1, 1) := dk_27 (dk_at dksX6_cases_0 16 rfl rfl)
theorem dX6_cases_17 : decode cX6_cases 17 = .ok (.bipush 36, 2) := dk_16 36 (dk_at dksX6_cases_0 17 rfl rfl)
theorem dX6_cases_19 : decode cX6_cases 19 = .ok (.if_icmp .gt 7, 3) := dk_163 0 7 (dk_at dksX6_cases_0 19 rfl rfl)
theorem dX6_cases_22 : decode cX6_cases 22 = .ok (.iconst 1, 1) := dk_4 (dk_at dksX6_cases_0 22 rfl rfl)
theorem dX6_cases_23 : decode cX6_cases 23 = .ok (.goto 4, 3) := dk_167 0 4 (dk_at dksX6_cases_1 0 rfl rfl)
theorem dX6_cases_26 : decode cX6_cases 26 = .ok (.iconst 0, 1) := dk_3 (dk_at dksX6_cases_1 3 rfl rfl)
theorem dX6_cases_27 : decode cX6_cases 27 = .ok (.istore_n 2, 1) := dk_61 (dk_at dksX6_cases_1 4 rfl rfl)
theorem dX6_cases_28 : decode cX6_cases 28 = .ok (.iconst 0, 1) := dk_3 (dk_at dksX6_cases_1 5 rfl rfl)
theorem dX6_cases_29 : decode cX6_cases 29 = .ok (.istore_n 3, 1) := dk_62 (dk_at dksX6_cases_1 6 rfl rfl)
theorem dX6_cases_30 : decode cX6_cases 30 = .ok (.iload_n 3, 1) := dk_29 (dk_at dksX6_cases_1 7 rfl rfl)
theorem dX6_cases_31 : decode cX6_cases 31 = .ok (.iload_n 1, 1) := dk_27 (dk_at dksX6_cases_1 8 rfl rfl)
theorem dX6_cases_32 : decode cX6_cases 32 = .ok (.if_icmp .ge 80, 3) := dk_162 0 80 (dk_at dksX6_cases_1 9 rfl rfl)
theorem dX6_cases_35 : decode cX6_cases 35 = .ok (.iload_n 2, 1) := dk_28 (dk_at dksX6_cases_1 12 rfl rfl)
theorem dX6_cases_36 : decode cX6_cases 36 = .ok (.ifCond .eq 76, 3) := dk_153 0 76 (dk_at dksX6_cases_1 13 rfl rfl)
theorem dX6_cases_39 : decode cX6_cases 39 = .ok (.aload_n 0, 1) := dk_42 (dk_at dksX6_cases_1 16 rfl rfl)
theorem dX6_cases_40 : decode cX6_cases 40 = .ok (.getfield 22, 3) := dk_180 0 22 (dk_at dksX6_cases_1 17 rfl rfl)
theorem dX6_cases_43 : decode cX6_cases 43 = .ok (.iload_n 3, 1) := dk_29 (dk_at dksX6_cases_1 20 rfl rfl)
theorem dX6_cases_44 : decode cX6_cases 44 = .ok (.iaload, 1) := dk_46 (dk_at dksX6_cases_1 21 rfl rfl)
theorem dX6_cases_45 : decode cX6_cases 45 = .ok (.aload_n 0, 1) := dk_42 (dk_at dksX6_cases_1 22 rfl rfl)
theorem dX6_cases_46 : decode cX6_cases 46 = .ok (.getfield 7, 3) := dk_180 0 7 (dk_at dksX6_cases_2 0 rfl rfl)
theorem dX6_cases_49 : decode cX6_cases 49 = .ok (.iconst 3, 1) := dk_6 (dk_at dksX6_cases_2 3 rfl rfl)
theorem dX6_cases_50 : decode cX6_cases 50 = .ok (.iaload, 1) := dk_46 (dk_at dksX6_cases_2 4 rfl rfl)
theorem dX6_cases_51 : decode cX6_cases 51 = .ok (.if_icmp .ge 53, 3) := dk_162 0 53 (dk_at dksX6_cases_2 5 rfl rfl)
theorem dX6_cases_54 : decode cX6_cases 54 = .ok (.aload_n 0, 1) := dk_42 (dk_at dksX6_cases_2 8 rfl rfl)
theorem dX6_cases_55 : decode cX6_cases 55 = .ok (.getfield 22, 3) := dk_180 0 22 (dk_at dksX6_cases_2 9 rfl rfl)
theorem dX6_cases_58 : decode cX6_cases 58 = .ok (.iload_n 3, 1) := dk_29 (dk_at dksX6_cases_2 12 rfl rfl)
theorem dX6_cases_59 : decode cX6_cases 59 = .ok (.iconst 1, 1) := dk_4 (dk_at dksX6_cases_2 13 rfl rfl)
theorem dX6_cases_60 : decode cX6_cases 60 = .ok (.iadd, 1) := dk_96 (dk_at dksX6_cases_2 14 rfl rfl)
theorem dX6_cases_61 : decode cX6_cases 61 = .ok (.iaload, 1) := dk_46 (dk_at dksX6_cases_2 15 rfl rfl)
theorem dX6_cases_62 : decode cX6_cases 62 = .ok (.aload_n 0, 1) := dk_42 (dk_at dksX6_cases_2 16 rfl rfl)
theorem dX6_cases_63 : decode cX6_cases 63 = .ok (.getfield 7, 3) := dk_180 0 7 (dk_at dksX6_cases_2 17 rfl rfl)
theorem dX6_cases_66 : decode cX6_cases 66 = .ok (.iconst 3, 1) := dk_6 (dk_at dksX6_cases_2 20 rfl rfl)
theorem dX6_cases_67 : decode cX6_cases 67 = .ok (.iaload, 1) := dk_46 (dk_at dksX6_cases_2 21 rfl rfl)
theorem dX6_cases_68 : decode cX6_cases 68 = .ok (.if_icmp .ge 36, 3) := dk_162 0 36 (dk_at dksX6_cases_3 0 rfl rfl)
theorem dX6_cases_71 : decode cX6_cases 71 = .ok (.aload_n 0, 1) := dk_42 (dk_at dksX6_cases_3 3 rfl rfl)
theorem dX6_cases_72 : decode cX6_cases 72 = .ok (.getfield 22, 3) := dk_180 0 22 (dk_at dksX6_cases_3 4 rfl rfl)
theorem dX6_cases_75 : decode cX6_cases 75 = .ok (.iload_n 3, 1) := dk_29 (dk_at dksX6_cases_3 7 rfl rfl)
theorem dX6_cases_76 : decode cX6_cases 76 = .ok (.iaload, 1) := dk_46 (dk_at dksX6_cases_3 8 rfl rfl)
theorem dX6_cases_77 : decode cX6_cases 77 = .ok (.aload_n 0, 1) := dk_42 (dk_at dksX6_cases_3 9 rfl rfl)
theorem dX6_cases_78 : decode cX6_cases 78 = .ok (.getfield 22, 3) := dk_180 0 22 (dk_at dksX6_cases_3 10 rfl rfl)
theorem dX6_cases_81 : decode cX6_cases 81 = .ok (.iload_n 3, 1) := dk_29 (dk_at dksX6_cases_3 13 rfl rfl)
theorem dX6_cases_82 : decode cX6_cases 82 = .ok (.iconst 1, 1) := dk_4 (dk_at dksX6_cases_3 14 rfl rfl)
theorem dX6_cases_83 : decode cX6_cases 83 = .ok (.iadd, 1) := dk_96 (dk_at dksX6_cases_3 15 rfl rfl)
theorem dX6_cases_84 : decode cX6_cases 84 = .ok (.iaload, 1) := dk_46 (dk_at dksX6_cases_3 16 rfl rfl)
theorem dX6_cases_85 : decode cX6_cases 85 = .ok (.if_icmp .eq 19, 3) := dk_159 0 19 (dk_at dksX6_cases_3 17 rfl rfl)
theorem dX6_cases_88 : decode cX6_cases 88 = .ok (.aload_n 0, 1) := dk_42 (dk_at dksX6_cases_3 20 rfl rfl)
theorem dX6_cases_89 : decode cX6_cases 89 = .ok (.getfield 22, 3) := dk_180 0 22 (dk_at dksX6_cases_3 21 rfl rfl)
theorem dX6_cases_92 : decode cX6_cases 92 = .ok (.iload_n 3, 1) := dk_29 (dk_at dksX6_cases_4 0 rfl rfl)
theorem dX6_cases_93 : decode cX6_cases 93 = .ok (.iconst 2, 1) := dk_5 (dk_at dksX6_cases_4 1 rfl rfl)
theorem dX6_cases_94 : decode cX6_cases 94 = .ok (.iadd, 1) := dk_96 (dk_at dksX6_cases_4 2 rfl rfl)
theorem dX6_cases_95 : decode cX6_cases 95 = .ok (.iaload, 1) := dk_46 (dk_at dksX6_cases_4 3 rfl rfl)
theorem dX6_cases_96 : decode cX6_cases 96 = .ok (.iconst 3, 1) := dk_6 (dk_at dksX6_cases_4 4 rfl rfl)
theorem dX6_cases_97 : decode cX6_cases 97 = .ok (.if_icmp .ge 7, 3) := dk_162 0 7 (dk_at dksX6_cases_4 5 rfl rfl)
theorem dX6_cases_100 : decode cX6_cases 100 = .ok (.iconst 1, 1) := dk_4 (dk_at dksX6_cases_4 8 rfl rfl)
theorem dX6_cases_101 : decode cX6_cases 101 = .ok (.goto 4, 3) := dk_167 0 4 (dk_at dksX6_cases_4 9 rfl rfl)
theorem dX6_cases_104 : decode cX6_cases 104 = .ok (.iconst 0, 1) := dk_3 (dk_at dksX6_cases_4 12 rfl rfl)
theorem dX6_cases_105 : decode cX6_cases 105 = .ok (.istore_n 2, 1) := dk_61 (dk_at dksX6_cases_4 13 rfl rfl)
theorem dX6_cases_106 : decode cX6_cases 106 = .ok (.iinc 3 3, 3) := dk_132 3 3 (dk_at dksX6_cases_4 14 rfl rfl)
theorem dX6_cases_109 : decode cX6_cases 109 = .ok (.goto (-79), 3) := dk_167 255 177 (dk_at dksX6_cases_4 17 rfl rfl)
theorem dX6_cases_112 : decode cX6_cases 112 = .ok (.iload_n 2, 1) := dk_28 (dk_at dksX6_cases_4 20 rfl rfl)
theorem dX6_cases_113 : decode cX6_cases 113 = .ok (.ifCond .ne 5, 3) := dk_154 0 5 (dk_at dksX6_cases_4 21 rfl rfl)
theorem dX6_cases_116 : decode cX6_cases 116 = .ok (.iconst (-1), 1) := dk_2 (dk_at dksX6_cases_5 0 rfl rfl)
theorem dX6_cases_117 : decode cX6_cases 117 = .ok (.ireturn, 1) := dk_172 (dk_at dksX6_cases_5 1 rfl rfl)
theorem dX6_cases_118 : decode cX6_cases 118 = .ok (.iconst 0, 1) := dk_3 (dk_at dksX6_cases_5 2 rfl rfl)
theorem dX6_cases_119 : decode cX6_cases 119 = .ok (.istore_n 3, 1) := dk_62 (dk_at dksX6_cases_5 3 rfl rfl)
theorem dX6_cases_120 : decode cX6_cases 120 = .ok (.iconst 0, 1) := dk_3 (dk_at dksX6_cases_5 4 rfl rfl)
theorem dX6_cases_121 : decode cX6_cases 121 = .ok (.istore 4, 2) := dk_54 4 (dk_at dksX6_cases_5 5 rfl rfl)
theorem dX6_cases_123 : decode cX6_cases 123 = .ok (.iload 4, 2) := dk_21 4 (dk_at dksX6_cases_5 7 rfl rfl)
theorem dX6_cases_125 : decode cX6_cases 125 = .ok (.aload_n 0, 1) := dk_42 (dk_at dksX6_cases_5 9 rfl rfl)
theorem dX6_cases_126 : decode cX6_cases 126 = .ok (.getfield 7, 3) := dk_180 0 7 (dk_at dksX6_cases_5 10 rfl rfl)
theorem dX6_cases_129 : decode cX6_cases 129 = .ok (.iconst 4, 1) := dk_7 (dk_at dksX6_cases_5 13 rfl rfl)
theorem dX6_cases_130 : decode cX6_cases 130 = .ok (.iaload, 1) := dk_46 (dk_at dksX6_cases_5 14 rfl rfl)
theorem dX6_cases_131 : decode cX6_cases 131 = .ok (.if_icmp .gt 145, 3) := dk_163 0 145 (dk_at dksX6_cases_5 15 rfl rfl)
theorem dX6_cases_134 : decode cX6_cases 134 = .ok (.iload 4, 2) := dk_21 4 (dk_at dksX6_cases_5 18 rfl rfl)
theorem dX6_cases_136 : decode cX6_cases 136 = .ok (.aload_n 0, 1) := dk_42 (dk_at dksX6_cases_5 20 rfl rfl)
theorem dX6_cases_137 : decode cX6_cases 137 = .ok (.getfield 7, 3) := dk_180 0 7 (dk_at dksX6_cases_5 21 rfl rfl)
theorem dX6_cases_140 : decode cX6_cases 140 = .ok (.iconst 4, 1) := dk_7 (dk_at dksX6_cases_6 0 rfl rfl)
theorem dX6_cases_141 : decode cX6_cases 141 = .ok (.iaload, 1) := dk_46 (dk_at dksX6_cases_6 1 rfl rfl)
theorem dX6_cases_142 : decode cX6_cases 142 = .ok (.if_icmp .ne 7, 3) := dk_160 0 7 (dk_at dksX6_cases_6 2 rfl rfl)
theorem dX6_cases_145 : decode cX6_cases 145 = .ok (.iconst 1, 1) := dk_4 (dk_at dksX6_cases_6 5 rfl rfl)
theorem dX6_cases_146 : decode cX6_cases 146 = .ok (.goto 4, 3) := dk_167 0 4 (dk_at dksX6_cases_6 6 rfl rfl)
theorem dX6_cases_149 : decode cX6_cases 149 = .ok (.iconst 0, 1) := dk_3 (dk_at dksX6_cases_6 9 rfl rfl)
theorem dX6_cases_150 : decode cX6_cases 150 = .ok (.istore 5, 2) := dk_54 5 (dk_at dksX6_cases_6 10 rfl rfl)
theorem dX6_cases_152 : decode cX6_cases 152 = .ok (.iload 5, 2) := dk_21 5 (dk_at dksX6_cases_6 12 rfl rfl)
theorem dX6_cases_154 : decode cX6_cases 154 = .ok (.ifCond .ne 13, 3) := dk_154 0 13 (dk_at dksX6_cases_6 14 rfl rfl)
theorem dX6_cases_157 : decode cX6_cases 157 = .ok (.aload_n 0, 1) := dk_42 (dk_at dksX6_cases_6 17 rfl rfl)
theorem dX6_cases_158 : decode cX6_cases 158 = .ok (.iload 4, 2) := dk_21 4 (dk_at dksX6_cases_6 18 rfl rfl)
theorem dX6_cases_160 : decode cX6_cases 160 = .ok (.iconst 3, 1) := dk_6 (dk_at dksX6_cases_6 20 rfl rfl)
theorem dX6_cases_161 : decode cX6_cases 161 = .ok (.invokevirtual 48, 3) := dk_182 0 48 (dk_at dksX6_cases_6 21 rfl rfl)
theorem dX6_cases_164 : decode cX6_cases 164 = .ok (.ifCond .ne 7, 3) := dk_154 0 7 (dk_at dksX6_cases_7 0 rfl rfl)
theorem dX6_cases_167 : decode cX6_cases 167 = .ok (.iconst 1, 1) := dk_4 (dk_at dksX6_cases_7 3 rfl rfl)
theorem dX6_cases_168 : decode cX6_cases 168 = .ok (.goto 4, 3) := dk_167 0 4 (dk_at dksX6_cases_7 4 rfl rfl)
theorem dX6_cases_171 : decode cX6_cases 171 = .ok (.iconst 0, 1) := dk_3 (dk_at dksX6_cases_7 7 rfl rfl)
theorem dX6_cases_172 : decode cX6_cases 172 = .ok (.istore 6, 2) := dk_54 6 (dk_at dksX6_cases_7 8 rfl rfl)
theorem dX6_cases_174 : decode cX6_cases 174 = .ok (.iconst 0, 1) := dk_3 (dk_at dksX6_cases_7 10 rfl rfl)
theorem dX6_cases_175 : decode cX6_cases 175 = .ok (.istore 7, 2) := dk_54 7 (dk_at dksX6_cases_7 11 rfl rfl)
theorem dX6_cases_177 : decode cX6_cases 177 = .ok (.iload 7, 2) := dk_21 7 (dk_at dksX6_cases_7 13 rfl rfl)
theorem dX6_cases_179 : decode cX6_cases 179 = .ok (.iload_n 1, 1) := dk_27 (dk_at dksX6_cases_7 15 rfl rfl)
theorem dX6_cases_180 : decode cX6_cases 180 = .ok (.if_icmp .ge 64, 3) := dk_162 0 64 (dk_at dksX6_cases_7 16 rfl rfl)
theorem dX6_cases_183 : decode cX6_cases 183 = .ok (.iload 6, 2) := dk_21 6 (dk_at dksX6_cases_7 19 rfl rfl)
theorem dX6_cases_185 : decode cX6_cases 185 = .ok (.ifCond .eq 59, 3) := dk_153 0 59 (dk_at dksX6_cases_7 21 rfl rfl)
theorem dX6_cases_188 : decode cX6_cases 188 = .ok (.aload_n 0, 1) := dk_42 (dk_at dksX6_cases_8 0 rfl rfl)
theorem dX6_cases_189 : decode cX6_cases 189 = .ok (.aload_n 0, 1) := dk_42 (dk_at dksX6_cases_8 1 rfl rfl)
theorem dX6_cases_190 : decode cX6_cases 190 = .ok (.getfield 22, 3) := dk_180 0 22 (dk_at dksX6_cases_8 2 rfl rfl)
theorem dX6_cases_193 : decode cX6_cases 193 = .ok (.iload 7, 2) := dk_21 7 (dk_at dksX6_cases_8 5 rfl rfl)
theorem dX6_cases_195 : decode cX6_cases 195 = .ok (.iaload, 1) := dk_46 (dk_at dksX6_cases_8 7 rfl rfl)
theorem dX6_cases_196 : decode cX6_cases 196 = .ok (.aload_n 0, 1) := dk_42 (dk_at dksX6_cases_8 8 rfl rfl)
theorem dX6_cases_197 : decode cX6_cases 197 = .ok (.getfield 22, 3) := dk_180 0 22 (dk_at dksX6_cases_8 9 rfl rfl)
theorem dX6_cases_200 : decode cX6_cases 200 = .ok (.iload 7, 2) := dk_21 7 (dk_at dksX6_cases_8 12 rfl rfl)
theorem dX6_cases_202 : decode cX6_cases 202 = .ok (.iconst 1, 1) := dk_4 (dk_at dksX6_cases_8 14 rfl rfl)
theorem dX6_cases_203 : decode cX6_cases 203 = .ok (.iadd, 1) := dk_96 (dk_at dksX6_cases_8 15 rfl rfl)
theorem dX6_cases_204 : decode cX6_cases 204 = .ok (.iaload, 1) := dk_46 (dk_at dksX6_cases_8 16 rfl rfl)
theorem dX6_cases_205 : decode cX6_cases 205 = .ok (.iload 5, 2) := dk_21 5 (dk_at dksX6_cases_8 17 rfl rfl)
theorem dX6_cases_207 : decode cX6_cases 207 = .ok (.ifCond .eq 7, 3) := dk_153 0 7 (dk_at dksX6_cases_8 19 rfl rfl)
theorem dX6_cases_210 : decode cX6_cases 210 = .ok (.iconst (-1), 1) := dk_2 (dk_at dksX6_cases_8 22 rfl rfl)
theorem dX6_cases_211 : decode cX6_cases 211 = .ok (.goto 5, 3) := dk_167 0 5 (dk_at dksX6_cases_9 0 rfl rfl)
theorem dX6_cases_214 : decode cX6_cases 214 = .ok (.iload 4, 2) := dk_21 4 (dk_at dksX6_cases_9 3 rfl rfl)
theorem dX6_cases_216 : decode cX6_cases 216 = .ok (.invokevirtual 335, 3) := dk_182 1 79 (dk_at dksX6_cases_9 5 rfl rfl)
theorem dX6_cases_219 : decode cX6_cases 219 = .ok (.aload_n 0, 1) := dk_42 (dk_at dksX6_cases_9 8 rfl rfl)
theorem dX6_cases_220 : decode cX6_cases 220 = .ok (.getfield 22, 3) := dk_180 0 22 (dk_at dksX6_cases_9 9 rfl rfl)
theorem dX6_cases_223 : decode cX6_cases 223 = .ok (.iload 7, 2) := dk_21 7 (dk_at dksX6_cases_9 12 rfl rfl)
theorem dX6_cases_225 : decode cX6_cases 225 = .ok (.iconst 2, 1) := dk_5 (dk_at dksX6_cases_9 14 rfl rfl)
theorem dX6_cases_226 : decode cX6_cases 226 = .ok (.iadd, 1) := dk_96 (dk_at dksX6_cases_9 15 rfl rfl)
theorem dX6_cases_227 : decode cX6_cases 227 = .ok (.iaload, 1) := dk_46 (dk_at dksX6_cases_9 16 rfl rfl)
theorem dX6_cases_228 : decode cX6_cases 228 = .ok (.if_icmp .ne 7, 3) := dk_160 0 7 (dk_at dksX6_cases_9 17 rfl rfl)
theorem dX6_cases_231 : decode cX6_cases 231 = .ok (.iconst 1, 1) := dk_4 (dk_at dksX6_cases_9 20 rfl rfl)
theorem dX6_cases_232 : decode cX6_cases 232 = .ok (.goto 4, 3) := dk_167 0 4 (dk_at dksX6_cases_9 21 rfl rfl)
theorem dX6_cases_235 : decode cX6_cases 235 = .ok (.iconst 0, 1) := dk_3 (dk_at dksX6_cases_10 0 rfl rfl)
theorem dX6_cases_236 : decode cX6_cases 236 = .ok (.istore 6, 2) := dk_54 6 (dk_at dksX6_cases_10 1 rfl rfl)
theorem dX6_cases_238 : decode cX6_cases 238 = .ok (.iinc 7 3, 3) := dk_132 7 3 (dk_at dksX6_cases_10 3 rfl rfl)
theorem dX6_cases_241 : decode cX6_cases 241 = .ok (.goto (-64), 3) := dk_167 255 192 (dk_at dksX6_cases_10 6 rfl rfl)
theorem dX6_cases_244 : decode cX6_cases 244 = .ok (.iload_n 3, 1) := dk_29 (dk_at dksX6_cases_10 9 rfl rfl)
theorem dX6_cases_245 : decode cX6_cases 245 = .ok (.iload 6, 2) := dk_21 6 (dk_at dksX6_cases_10 10 rfl rfl)
theorem dX6_cases_247 : decode cX6_cases 247 = .ok (.ifCond .eq 20, 3) := dk_153 0 20 (dk_at dksX6_cases_10 12 rfl rfl)
theorem dX6_cases_250 : decode cX6_cases 250 = .ok (.iconst 1, 1) := dk_4 (dk_at dksX6_cases_10 15 rfl rfl)
theorem dX6_cases_251 : decode cX6_cases 251 = .ok (.iload 5, 2) := dk_21 5 (dk_at dksX6_cases_10 16 rfl rfl)
theorem dX6_cases_253 : decode cX6_cases 253 = .ok (.ifCond .eq 8, 3) := dk_153 0 8 (dk_at dksX6_cases_10 18 rfl rfl)
theorem dX6_cases_256 : decode cX6_cases 256 = .ok (.bipush 10, 2) := dk_16 10 (dk_at dksX6_cases_10 21 rfl rfl)
theorem dX6_cases_258 : decode cX6_cases 258 = .ok (.goto 5, 3) := dk_167 0 5 (dk_at dksX6_cases_11 0 rfl rfl)
theorem dX6_cases_261 : decode cX6_cases 261 = .ok (.iload 4, 2) := dk_21 4 (dk_at dksX6_cases_11 3 rfl rfl)
theorem dX6_cases_263 : decode cX6_cases 263 = .ok (.ishl, 1) := dk_120 (dk_at dksX6_cases_11 5 rfl rfl)
theorem dX6_cases_264 : decode cX6_cases 264 = .ok (.goto 4, 3) := dk_167 0 4 (dk_at dksX6_cases_11 6 rfl rfl)
theorem dX6_cases_267 : decode cX6_cases 267 = .ok (.iconst 0, 1) := dk_3 (dk_at dksX6_cases_11 9 rfl rfl)
theorem dX6_cases_268 : decode cX6_cases 268 = .ok (.ior, 1) := dk_128 (dk_at dksX6_cases_11 10 rfl rfl)
theorem dX6_cases_269 : decode cX6_cases 269 = .ok (.istore_n 3, 1) := dk_62 (dk_at dksX6_cases_11 11 rfl rfl)
theorem dX6_cases_270 : decode cX6_cases 270 = .ok (.iinc 4 1, 3) := dk_132 4 1 (dk_at dksX6_cases_11 12 rfl rfl)
theorem dX6_cases_273 : decode cX6_cases 273 = .ok (.goto (-150), 3) := dk_167 255 106 (dk_at dksX6_cases_11 15 rfl rfl)
theorem dX6_cases_276 : decode cX6_cases 276 = .ok (.iload_n 3, 1) := dk_29 (dk_at dksX6_cases_11 18 rfl rfl)
theorem dX6_cases_277 : decode cX6_cases 277 = .ok (.ireturn, 1) := dk_172 (dk_at dksX6_cases_11 19 rfl rfl)
abbrev cX6_sinks : ByteArray := prog_19_method_91_code
def yX6_sinks : MethodName := ⟨RX6, "sinks", "(III)I"⟩
def dkwX6_sinks_3 : List UInt8 := [54, 4, 21, 4, 158, 0, 7, 3, 167, 0, 13, 21, 4, 154, 0, 7, 4, 167, 0, 4, 5, 172]
abbrev dktX6_sinks_3 : List UInt8 := dkwX6_sinks_3 ++ []
def dkwX6_sinks_2 : List UInt8 := [21, 5, 167, 0, 20, 42, 29, 7, 182, 0, 48, 28, 160, 0, 9, 21, 5, 116, 167, 0, 4, 3, 100]
abbrev dktX6_sinks_2 : List UInt8 := dkwX6_sinks_2 ++ dktX6_sinks_3
def dkwX6_sinks_1 : List UInt8 := [42, 29, 5, 182, 0, 48, 5, 108, 100, 54, 5, 21, 4, 42, 29, 7, 182, 0, 48, 27, 160, 0, 8]
abbrev dktX6_sinks_1 : List UInt8 := dkwX6_sinks_1 ++ dktX6_sinks_2
def dkwX6_sinks_0 : List UInt8 := [42, 27, 182, 0, 63, 42, 28, 182, 0, 63, 100, 54, 4, 29, 2, 159, 0, 57, 42, 29, 5, 182, 0, 48]
abbrev dktX6_sinks_0 : List UInt8 := dkwX6_sinks_0 ++ dktX6_sinks_1
theorem dksX6_sinks_0 : cX6_sinks.data.toList.drop 0 = dktX6_sinks_0 := by decide +kernel
theorem dksX6_sinks_1 : cX6_sinks.data.toList.drop 24 = dktX6_sinks_1 := dk_seg dksX6_sinks_0 24 rfl rfl
theorem dksX6_sinks_2 : cX6_sinks.data.toList.drop 47 = dktX6_sinks_2 := dk_seg dksX6_sinks_1 23 rfl rfl
theorem dksX6_sinks_3 : cX6_sinks.data.toList.drop 70 = dktX6_sinks_3 := dk_seg dksX6_sinks_2 23 rfl rfl
theorem dX6_sinks_0 : decode cX6_sinks 0 = .ok (.aload_n 0, 1) := dk_42 (dk_at dksX6_sinks_0 0 rfl rfl)
theorem dX6_sinks_1 : decode cX6_sinks 1 = .ok (.iload_n 1, 1) := dk_27 (dk_at dksX6_sinks_0 1 rfl rfl)
theorem dX6_sinks_2 : decode cX6_sinks 2 = .ok (.invokevirtual 63, 3) := dk_182 0 63 (dk_at dksX6_sinks_0 2 rfl rfl)
theorem dX6_sinks_5 : decode cX6_sinks 5 = .ok (.aload_n 0, 1) := dk_42 (dk_at dksX6_sinks_0 5 rfl rfl)
theorem dX6_sinks_6 : decode cX6_sinks 6 = .ok (.iload_n 2, 1) := dk_28 (dk_at dksX6_sinks_0 6 rfl rfl)
theorem dX6_sinks_7 : decode cX6_sinks 7 = .ok (.invokevirtual 63, 3) := dk_182 0 63 (dk_at dksX6_sinks_0 7 rfl rfl)
theorem dX6_sinks_10 : decode cX6_sinks 10 = .ok (.isub, 1) := dk_100 (dk_at dksX6_sinks_0 10 rfl rfl)
theorem dX6_sinks_11 : decode cX6_sinks 11 = .ok (.istore 4, 2) := dk_54 4 (dk_at dksX6_sinks_0 11 rfl rfl)
theorem dX6_sinks_13 : decode cX6_sinks 13 = .ok (.iload_n 3, 1) := dk_29 (dk_at dksX6_sinks_0 13 rfl rfl)
theorem dX6_sinks_14 : decode cX6_sinks 14 = .ok (.iconst (-1), 1) := dk_2 (dk_at dksX6_sinks_0 14 rfl rfl)
theorem dX6_sinks_15 : decode cX6_sinks 15 = .ok (.if_icmp .eq 57, 3) := dk_159 0 57 (dk_at dksX6_sinks_0 15 rfl rfl)
theorem dX6_sinks_18 : decode cX6_sinks 18 = .ok (.aload_n 0, 1) := dk_42 (dk_at dksX6_sinks_0 18 rfl rfl)
theorem dX6_sinks_19 : decode cX6_sinks 19 = .ok (.iload_n 3, 1) := dk_29 (dk_at dksX6_sinks_0 19 rfl rfl)
theorem dX6_sinks_20 : decode cX6_sinks 20 = .ok (.iconst 2, 1) := dk_5 (dk_at dksX6_sinks_0 20 rfl rfl)
theorem dX6_sinks_21 : decode cX6_sinks 21 = .ok (.invokevirtual 48, 3) := dk_182 0 48 (dk_at dksX6_sinks_0 21 rfl rfl)
theorem dX6_sinks_24 : decode cX6_sinks 24 = .ok (.aload_n 0, 1) := dk_42 (dk_at dksX6_sinks_1 0 rfl rfl)
theorem dX6_sinks_25 : decode cX6_sinks 25 = .ok (.iload_n 3, 1) := dk_29 (dk_at dksX6_sinks_1 1 rfl rfl)
theorem dX6_sinks_26 : decode cX6_sinks 26 = .ok (.iconst 2, 1) := dk_5 (dk_at dksX6_sinks_1 2 rfl rfl)
theorem dX6_sinks_27 : decode cX6_sinks 27 = .ok (.invokevirtual 48, 3) := dk_182 0 48 (dk_at dksX6_sinks_1 3 rfl rfl)
theorem dX6_sinks_30 : decode cX6_sinks 30 = .ok (.iconst 2, 1) := dk_5 (dk_at dksX6_sinks_1 6 rfl rfl)
theorem dX6_sinks_31 : decode cX6_sinks 31 = .ok (.idiv, 1) := dk_108 (dk_at dksX6_sinks_1 7 rfl rfl)
theorem dX6_sinks_32 : decode cX6_sinks 32 = .ok (.isub, 1) := dk_100 (dk_at dksX6_sinks_1 8 rfl rfl)
theorem dX6_sinks_33 : decode cX6_sinks 33 = .ok (.istore 5, 2) := dk_54 5 (dk_at dksX6_sinks_1 9 rfl rfl)
theorem dX6_sinks_35 : decode cX6_sinks 35 = .ok (.iload 4, 2) := dk_21 4 (dk_at dksX6_sinks_1 11 rfl rfl)
theorem dX6_sinks_37 : decode cX6_sinks 37 = .ok (.aload_n 0, 1) := dk_42 (dk_at dksX6_sinks_1 13 rfl rfl)
theorem dX6_sinks_38 : decode cX6_sinks 38 = .ok (.iload_n 3, 1) := dk_29 (dk_at dksX6_sinks_1 14 rfl rfl)
theorem dX6_sinks_39 : decode cX6_sinks 39 = .ok (.iconst 4, 1) := dk_7 (dk_at dksX6_sinks_1 15 rfl rfl)
theorem dX6_sinks_40 : decode cX6_sinks 40 = .ok (.invokevirtual 48, 3) := dk_182 0 48 (dk_at dksX6_sinks_1 16 rfl rfl)
theorem dX6_sinks_43 : decode cX6_sinks 43 = .ok (.iload_n 1, 1) := dk_27 (dk_at dksX6_sinks_1 19 rfl rfl)
theorem dX6_sinks_44 : decode cX6_sinks 44 = .ok (.if_icmp .ne 8, 3) := dk_160 0 8 (dk_at dksX6_sinks_1 20 rfl rfl)
theorem dX6_sinks_47 : decode cX6_sinks 47 = .ok (.iload 5, 2) := dk_21 5 (dk_at dksX6_sinks_2 0 rfl rfl)
theorem dX6_sinks_49 : decode cX6_sinks 49 = .ok (.goto 20, 3) := dk_167 0 20 (dk_at dksX6_sinks_2 2 rfl rfl)
theorem dX6_sinks_52 : decode cX6_sinks 52 = .ok (.aload_n 0, 1) := dk_42 (dk_at dksX6_sinks_2 5 rfl rfl)
theorem dX6_sinks_53 : decode cX6_sinks 53 = .ok (.iload_n 3, 1) := dk_29 (dk_at dksX6_sinks_2 6 rfl rfl)
theorem dX6_sinks_54 : decode cX6_sinks 54 = .ok (.iconst 4, 1) := dk_7 (dk_at dksX6_sinks_2 7 rfl rfl)
theorem dX6_sinks_55 : decode cX6_sinks 55 = .ok (.invokevirtual 48, 3) := dk_182 0 48 (dk_at dksX6_sinks_2 8 rfl rfl)
theorem dX6_sinks_58 : decode cX6_sinks 58 = .ok (.iload_n 2, 1) := dk_28 (dk_at dksX6_sinks_2 11 rfl rfl)
theorem dX6_sinks_59 : decode cX6_sinks 59 = .ok (.if_icmp .ne 9, 3) := dk_160 0 9 (dk_at dksX6_sinks_2 12 rfl rfl)
theorem dX6_sinks_62 : decode cX6_sinks 62 = .ok (.iload 5, 2) := dk_21 5 (dk_at dksX6_sinks_2 15 rfl rfl)
theorem dX6_sinks_64 : decode cX6_sinks 64 = .ok (.ineg, 1) := dk_116 (dk_at dksX6_sinks_2 17 rfl rfl)
theorem dX6_sinks_65 : decode cX6_sinks 65 = .ok (.goto 4, 3) := dk_167 0 4 (dk_at dksX6_sinks_2 18 rfl rfl)
theorem dX6_sinks_68 : decode cX6_sinks 68 = .ok (.iconst 0, 1) := dk_3 (dk_at dksX6_sinks_2 21 rfl rfl)
theorem dX6_sinks_69 : decode cX6_sinks 69 = .ok (.isub, 1) := dk_100 (dk_at dksX6_sinks_2 22 rfl rfl)
theorem dX6_sinks_70 : decode cX6_sinks 70 = .ok (.istore 4, 2) := dk_54 4 (dk_at dksX6_sinks_3 0 rfl rfl)
theorem dX6_sinks_72 : decode cX6_sinks 72 = .ok (.iload 4, 2) := dk_21 4 (dk_at dksX6_sinks_3 2 rfl rfl)
theorem dX6_sinks_74 : decode cX6_sinks 74 = .ok (.ifCond .le 7, 3) := dk_158 0 7 (dk_at dksX6_sinks_3 4 rfl rfl)
theorem dX6_sinks_77 : decode cX6_sinks 77 = .ok (.iconst 0, 1) := dk_3 (dk_at dksX6_sinks_3 7 rfl rfl)
theorem dX6_sinks_78 : decode cX6_sinks 78 = .ok (.goto 13, 3) := dk_167 0 13 (dk_at dksX6_sinks_3 8 rfl rfl)
theorem dX6_sinks_81 : decode cX6_sinks 81 = .ok (.iload 4, 2) := dk_21 4 (dk_at dksX6_sinks_3 11 rfl rfl)
theorem dX6_sinks_83 : decode cX6_sinks 83 = .ok (.ifCond .ne 7, 3) := dk_154 0 7 (dk_at dksX6_sinks_3 13 rfl rfl)
theorem dX6_sinks_86 : decode cX6_sinks 86 = .ok (.iconst 1, 1) := dk_4 (dk_at dksX6_sinks_3 16 rfl rfl)
theorem dX6_sinks_87 : decode cX6_sinks 87 = .ok (.goto 4, 3) := dk_167 0 4 (dk_at dksX6_sinks_3 17 rfl rfl)
theorem dX6_sinks_90 : decode cX6_sinks 90 = .ok (.iconst 2, 1) := dk_5 (dk_at dksX6_sinks_3 20 rfl rfl)
theorem dX6_sinks_91 : decode cX6_sinks 91 = .ok (.ireturn, 1) := dk_172 (dk_at dksX6_sinks_3 21 rfl rfl)
abbrev cX6_weigh : ByteArray := prog_19_method_94_code
def yX6_weigh : MethodName := ⟨RX6, "weigh", "()I"⟩
def dkwX6_weigh_8 : List UInt8 := [16, 10, 21, 4, 104, 21, 5, 96, 61, 132, 5, 1, 167, 255, 130, 132, 4, 1, 167, 255, 107, 28, 172]
abbrev dktX6_weigh_8 : List UInt8 := dkwX6_weigh_8 ++ []
def dkwX6_weigh_7 : List UInt8 := [184, 0, 251, 54, 6, 132, 7, 1, 167, 255, 174, 21, 6, 29, 161, 0, 6, 167, 0, 15, 21, 6, 62]
abbrev dktX6_weigh_7 : List UInt8 := dkwX6_weigh_7 ++ dktX6_weigh_8
def dkwX6_weigh_6 : List UInt8 := [21, 7, 160, 0, 7, 4, 167, 0, 4, 3, 96, 54, 8, 132, 9, 1, 167, 255, 201, 21, 6, 21, 8]
abbrev dktX6_weigh_6 : List UInt8 := dkwX6_weigh_6 ++ dktX6_weigh_7
def dkwX6_weigh_5 : List UInt8 := [153, 0, 33, 42, 21, 4, 21, 5, 21, 9, 16, 10, 160, 0, 7, 2, 167, 0, 5, 21, 9, 182, 1, 79]
abbrev dktX6_weigh_5 : List UInt8 := dkwX6_weigh_5 ++ dktX6_weigh_6
def dkwX6_weigh_4 : List UInt8 := [162, 0, 82, 3, 54, 8, 3, 54, 9, 21, 9, 16, 10, 163, 0, 54, 21, 8, 27, 21, 9, 184, 0, 52]
abbrev dktX6_weigh_4 : List UInt8 := dkwX6_weigh_4 ++ dktX6_weigh_5
def dkwX6_weigh_3 : List UInt8 := [54, 5, 21, 5, 42, 180, 0, 7, 6, 46, 162, 0, 121, 3, 54, 6, 3, 54, 7, 21, 7, 6]
abbrev dktX6_weigh_3 : List UInt8 := dkwX6_weigh_3 ++ dktX6_weigh_4
def dkwX6_weigh_2 : List UInt8 := [2, 61, 19, 1, 57, 62, 3, 54, 4, 21, 4, 42, 180, 0, 7, 6, 46, 162, 0, 144, 21, 4, 4, 96]
abbrev dktX6_weigh_2 : List UInt8 := dkwX6_weigh_2 ++ dktX6_weigh_3
def dkwX6_weigh_1 : List UInt8 := [157, 0, 11, 27, 184, 1, 54, 5, 162, 0, 16, 42, 180, 0, 41, 158, 0, 7, 3, 167, 0, 4, 2, 172]
abbrev dktX6_weigh_1 : List UInt8 := dkwX6_weigh_1 ++ dktX6_weigh_2
def dkwX6_weigh_0 : List UInt8 := [42, 182, 1, 82, 60, 42, 27, 2, 160, 0, 7, 4, 167, 0, 4, 3, 181, 0, 41, 42, 180, 0, 41]
abbrev dktX6_weigh_0 : List UInt8 := dkwX6_weigh_0 ++ dktX6_weigh_1
theorem dksX6_weigh_0 : cX6_weigh.data.toList.drop 0 = dktX6_weigh_0 := by decide +kernel
theorem dksX6_weigh_1 : cX6_weigh.data.toList.drop 23 = dktX6_weigh_1 := dk_seg dksX6_weigh_0 23 rfl rfl
theorem dksX6_weigh_2 : cX6_weigh.data.toList.drop 47 = dktX6_weigh_2 := dk_seg dksX6_weigh_1 24 rfl rfl
theorem dksX6_weigh_3 : cX6_weigh.data.toList.drop 71 = dktX6_weigh_3 := dk_seg dksX6_weigh_2 24 rfl rfl
theorem dksX6_weigh_4 : cX6_weigh.data.toList.drop 93 = dktX6_weigh_4 := dk_seg dksX6_weigh_3 22 rfl rfl
theorem dksX6_weigh_5 : cX6_weigh.data.toList.drop 117 = dktX6_weigh_5 := dk_seg dksX6_weigh_4 24 rfl rfl
theorem dksX6_weigh_6 : cX6_weigh.data.toList.drop 141 = dktX6_weigh_6 := dk_seg dksX6_weigh_5 24 rfl rfl
theorem dksX6_weigh_7 : cX6_weigh.data.toList.drop 164 = dktX6_weigh_7 := dk_seg dksX6_weigh_6 23 rfl rfl
theorem dksX6_weigh_8 : cX6_weigh.data.toList.drop 187 = dktX6_weigh_8 := dk_seg dksX6_weigh_7 23 rfl rfl
theorem dX6_weigh_0 : decode cX6_weigh 0 = .ok (.aload_n 0, 1) := dk_42 (dk_at dksX6_weigh_0 0 rfl rfl)
theorem dX6_weigh_1 : decode cX6_weigh 1 = .ok (.invokevirtual 338, 3) := dk_182 1 82 (dk_at dksX6_weigh_0 1 rfl rfl)
theorem dX6_weigh_4 : decode cX6_weigh 4 = .ok (.istore_n 1, 1) := dk_60 (dk_at dksX6_weigh_0 4 rfl rfl)
theorem dX6_weigh_5 : decode cX6_weigh 5 = .ok (.aload_n 0, 1) := dk_42 (dk_at dksX6_weigh_0 5 rfl rfl)
theorem dX6_weigh_6 : decode cX6_weigh 6 = .ok (.iload_n 1, 1) := dk_27 (dk_at dksX6_weigh_0 6 rfl rfl)
theorem dX6_weigh_7 : decode cX6_weigh 7 = .ok (.iconst (-1), 1) := dk_2 (dk_at dksX6_weigh_0 7 rfl rfl)
theorem dX6_weigh_8 : decode cX6_weigh 8 = .ok (.if_icmp .ne 7, 3) := dk_160 0 7 (dk_at dksX6_weigh_0 8 rfl rfl)
theorem dX6_weigh_11 : decode cX6_weigh 11 = .ok (.iconst 1, 1) := dk_4 (dk_at dksX6_weigh_0 11 rfl rfl)
theorem dX6_weigh_12 : decode cX6_weigh 12 = .ok (.goto 4, 3) := dk_167 0 4 (dk_at dksX6_weigh_0 12 rfl rfl)
theorem dX6_weigh_15 : decode cX6_weigh 15 = .ok (.iconst 0, 1) := dk_3 (dk_at dksX6_weigh_0 15 rfl rfl)
theorem dX6_weigh_16 : decode cX6_weigh 16 = .ok (.putfield 41, 3) := dk_181 0 41 (dk_at dksX6_weigh_0 16 rfl rfl)
theorem dX6_weigh_19 : decode cX6_weigh 19 = .ok (.aload_n 0, 1) := dk_42 (dk_at dksX6_weigh_0 19 rfl rfl)
theorem dX6_weigh_20 : decode cX6_weigh 20 = .ok (.getfield 41, 3) := dk_180 0 41 (dk_at dksX6_weigh_0 20 rfl rfl)
theorem dX6_weigh_23 : decode cX6_weigh 23 = .ok (.ifCond .gt 11, 3) := dk_157 0 11 (dk_at dksX6_weigh_1 0 rfl rfl)
theorem dX6_weigh_26 : decode cX6_weigh 26 = .ok (.iload_n 1, 1) := dk_27 (dk_at dksX6_weigh_1 3 rfl rfl)
theorem dX6_weigh_27 : decode cX6_weigh 27 = .ok (.invokestatic 310, 3) := dk_184 1 54 (dk_at dksX6_weigh_1 4 rfl rfl)
theorem dX6_weigh_30 : decode cX6_weigh 30 = .ok (.iconst 2, 1) := dk_5 (dk_at dksX6_weigh_1 7 rfl rfl)
theorem dX6_weigh_31 : decode cX6_weigh 31 = .ok (.if_icmp .ge 16, 3) := dk_162 0 16 (dk_at dksX6_weigh_1 8 rfl rfl)
theorem dX6_weigh_34 : decode cX6_weigh 34 = .ok (.aload_n 0, 1) := dk_42 (dk_at dksX6_weigh_1 11 rfl rfl)
theorem dX6_weigh_35 : decode cX6_weigh 35 = .ok (.getfield 41, 3) := dk_180 0 41 (dk_at dksX6_weigh_1 12 rfl rfl)
theorem dX6_weigh_38 : decode cX6_weigh 38 = .ok (.ifCond .le 7, 3) := dk_158 0 7 (dk_at dksX6_weigh_1 15 rfl rfl)
theorem dX6_weigh_41 : decode cX6_weigh 41 = .ok (.iconst 0, 1) := dk_3 (dk_at dksX6_weigh_1 18 rfl rfl)
theorem dX6_weigh_42 : decode cX6_weigh 42 = .ok (.goto 4, 3) := dk_167 0 4 (dk_at dksX6_weigh_1 19 rfl rfl)
theorem dX6_weigh_45 : decode cX6_weigh 45 = .ok (.iconst (-1), 1) := dk_2 (dk_at dksX6_weigh_1 22 rfl rfl)
theorem dX6_weigh_46 : decode cX6_weigh 46 = .ok (.ireturn, 1) := dk_172 (dk_at dksX6_weigh_1 23 rfl rfl)
theorem dX6_weigh_47 : decode cX6_weigh 47 = .ok (.iconst (-1), 1) := dk_2 (dk_at dksX6_weigh_2 0 rfl rfl)
theorem dX6_weigh_48 : decode cX6_weigh 48 = .ok (.istore_n 2, 1) := dk_61 (dk_at dksX6_weigh_2 1 rfl rfl)
theorem dX6_weigh_49 : decode cX6_weigh 49 = .ok (.ldc_w 313, 3) := dk_19 1 57 (dk_at dksX6_weigh_2 2 rfl rfl)
theorem dX6_weigh_52 : decode cX6_weigh 52 = .ok (.istore_n 3, 1) := dk_62 (dk_at dksX6_weigh_2 5 rfl rfl)
theorem dX6_weigh_53 : decode cX6_weigh 53 = .ok (.iconst 0, 1) := dk_3 (dk_at dksX6_weigh_2 6 rfl rfl)
theorem dX6_weigh_54 : decode cX6_weigh 54 = .ok (.istore 4, 2) := dk_54 4 (dk_at dksX6_weigh_2 7 rfl rfl)
theorem dX6_weigh_56 : decode cX6_weigh 56 = .ok (.iload 4, 2) := dk_21 4 (dk_at dksX6_weigh_2 9 rfl rfl)
theorem dX6_weigh_58 : decode cX6_weigh 58 = .ok (.aload_n 0, 1) := dk_42 (dk_at dksX6_weigh_2 11 rfl rfl)
theorem dX6_weigh_59 : decode cX6_weigh 59 = .ok (.getfield 7, 3) := dk_180 0 7 (dk_at dksX6_weigh_2 12 rfl rfl)
theorem dX6_weigh_62 : decode cX6_weigh 62 = .ok (.iconst 3, 1) := dk_6 (dk_at dksX6_weigh_2 15 rfl rfl)
theorem dX6_weigh_63 : decode cX6_weigh 63 = .ok (.iaload, 1) := dk_46 (dk_at dksX6_weigh_2 16 rfl rfl)
theorem dX6_weigh_64 : decode cX6_weigh 64 = .ok (.if_icmp .ge 144, 3) := dk_162 0 144 (dk_at dksX6_weigh_2 17 rfl rfl)
theorem dX6_weigh_67 : decode cX6_weigh 67 = .ok (.iload 4, 2) := dk_21 4 (dk_at dksX6_weigh_2 20 rfl rfl)
theorem dX6_weigh_69 : decode cX6_weigh 69 = .ok (.iconst 1, 1) := dk_4 (dk_at dksX6_weigh_2 22 rfl rfl)
theorem dX6_weigh_70 : decode cX6_weigh 70 = .ok (.iadd, 1) := dk_96 (dk_at dksX6_weigh_2 23 rfl rfl)
theorem dX6_weigh_71 : decode cX6_weigh 71 = .ok (.istore 5, 2) := dk_54 5 (dk_at dksX6_weigh_3 0 rfl rfl)
theorem dX6_weigh_73 : decode cX6_weigh 73 = .ok (.iload 5, 2) := dk_21 5 (dk_at dksX6_weigh_3 2 rfl rfl)
theorem dX6_weigh_75 : decode cX6_weigh 75 = .ok (.aload_n 0, 1) := dk_42 (dk_at dksX6_weigh_3 4 rfl rfl)
theorem dX6_weigh_76 : decode cX6_weigh 76 = .ok (.getfield 7, 3) := dk_180 0 7 (dk_at dksX6_weigh_3 5 rfl rfl)
theorem dX6_weigh_79 : decode cX6_weigh 79 = .ok (.iconst 3, 1) := dk_6 (dk_at dksX6_weigh_3 8 rfl rfl)
theorem dX6_weigh_80 : decode cX6_weigh 80 = .ok (.iaload, 1) := dk_46 (dk_at dksX6_weigh_3 9 rfl rfl)
theorem dX6_weigh_81 : decode cX6_weigh 81 = .ok (.if_icmp .ge 121, 3) := dk_162 0 121 (dk_at dksX6_weigh_3 10 rfl rfl)
theorem dX6_weigh_84 : decode cX6_weigh 84 = .ok (.iconst 0, 1) := dk_3 (dk_at dksX6_weigh_3 13 rfl rfl)
theorem dX6_weigh_85 : decode cX6_weigh 85 = .ok (.istore 6, 2) := dk_54 6 (dk_at dksX6_weigh_3 14 rfl rfl)
theorem dX6_weigh_87 : decode cX6_weigh 87 = .ok (.iconst 0, 1) := dk_3 (dk_at dksX6_weigh_3 16 rfl rfl)
theorem dX6_weigh_88 : decode cX6_weigh 88 = .ok (.istore 7, 2) := dk_54 7 (dk_at dksX6_weigh_3 17 rfl rfl)
theorem dX6_weigh_90 : decode cX6_weigh 90 = .ok (.iload 7, 2) := dk_21 7 (dk_at dksX6_weigh_3 19 rfl rfl)
theorem dX6_weigh_92 : decode cX6_weigh 92 = .ok (.iconst 3, 1) := dk_6 (dk_at dksX6_weigh_3 21 rfl rfl)
theorem dX6_weigh_93 : decode cX6_weigh 93 = .ok (.if_icmp .ge 82, 3) := dk_162 0 82 (dk_at dksX6_weigh_4 0 rfl rfl)
theorem dX6_weigh_96 : decode cX6_weigh 96 = .ok (.iconst 0, 1) := dk_3 (dk_at dksX6_weigh_4 3 rfl rfl)
theorem dX6_weigh_97 : decode cX6_weigh 97 = .ok (.istore 8, 2) := dk_54 8 (dk_at dksX6_weigh_4 4 rfl rfl)
theorem dX6_weigh_99 : decode cX6_weigh 99 = .ok (.iconst 0, 1) := dk_3 (dk_at dksX6_weigh_4 6 rfl rfl)
theorem dX6_weigh_100 : decode cX6_weigh 100 = .ok (.istore 9, 2) := dk_54 9 (dk_at dksX6_weigh_4 7 rfl rfl)
theorem dX6_weigh_102 : decode cX6_weigh 102 = .ok (.iload 9, 2) := dk_21 9 (dk_at dksX6_weigh_4 9 rfl rfl)
theorem dX6_weigh_104 : decode cX6_weigh 104 = .ok (.bipush 10, 2) := dk_16 10 (dk_at dksX6_weigh_4 11 rfl rfl)
theorem dX6_weigh_106 : decode cX6_weigh 106 = .ok (.if_icmp .gt 54, 3) := dk_163 0 54 (dk_at dksX6_weigh_4 13 rfl rfl)
theorem dX6_weigh_109 : decode cX6_weigh 109 = .ok (.iload 8, 2) := dk_21 8 (dk_at dksX6_weigh_4 16 rfl rfl)
theorem dX6_weigh_111 : decode cX6_weigh 111 = .ok (.iload_n 1, 1) := dk_27 (dk_at dksX6_weigh_4 18 rfl rfl)
theorem dX6_weigh_112 : decode cX6_weigh 112 = .ok (.iload 9, 2) := dk_21 9 (dk_at dksX6_weigh_4 19 rfl rfl)
theorem dX6_weigh_114 : decode cX6_weigh 114 = .ok (.invokestatic 52, 3) := dk_184 0 52 (dk_at dksX6_weigh_4 21 rfl rfl)
theorem dX6_weigh_117 : decode cX6_weigh 117 = .ok (.ifCond .eq 33, 3) := dk_153 0 33 (dk_at dksX6_weigh_5 0 rfl rfl)
theorem dX6_weigh_120 : decode cX6_weigh 120 = .ok (.aload_n 0, 1) := dk_42 (dk_at dksX6_weigh_5 3 rfl rfl)
theorem dX6_weigh_121 : decode cX6_weigh 121 = .ok (.iload 4, 2) := dk_21 4 (dk_at dksX6_weigh_5 4 rfl rfl)
theorem dX6_weigh_123 : decode cX6_weigh 123 = .ok (.iload 5, 2) := dk_21 5 (dk_at dksX6_weigh_5 6 rfl rfl)
theorem dX6_weigh_125 : decode cX6_weigh 125 = .ok (.iload 9, 2) := dk_21 9 (dk_at dksX6_weigh_5 8 rfl rfl)
theorem dX6_weigh_127 : decode cX6_weigh 127 = .ok (.bipush 10, 2) := dk_16 10 (dk_at dksX6_weigh_5 10 rfl rfl)
theorem dX6_weigh_129 : decode cX6_weigh 129 = .ok (.if_icmp .ne 7, 3) := dk_160 0 7 (dk_at dksX6_weigh_5 12 rfl rfl)
theorem dX6_weigh_132 : decode cX6_weigh 132 = .ok (.iconst (-1), 1) := dk_2 (dk_at dksX6_weigh_5 15 rfl rfl)
theorem dX6_weigh_133 : decode cX6_weigh 133 = .ok (.goto 5, 3) := dk_167 0 5 (dk_at dksX6_weigh_5 16 rfl rfl)
theorem dX6_weigh_136 : decode cX6_weigh 136 = .ok (.iload 9, 2) := dk_21 9 (dk_at dksX6_weigh_5 19 rfl rfl)
theorem dX6_weigh_138 : decode cX6_weigh 138 = .ok (.invokevirtual 335, 3) := dk_182 1 79 (dk_at dksX6_weigh_5 21 rfl rfl)
theorem dX6_weigh_141 : decode cX6_weigh 141 = .ok (.iload 7, 2) := dk_21 7 (dk_at dksX6_weigh_6 0 rfl rfl)
theorem dX6_weigh_143 : decode cX6_weigh 143 = .ok (.if_icmp .ne 7, 3) := dk_160 0 7 (dk_at dksX6_weigh_6 2 rfl rfl)
theorem dX6_weigh_146 : decode cX6_weigh 146 = .ok (.iconst 1, 1) := dk_4 (dk_at dksX6_weigh_6 5 rfl rfl)
theorem dX6_weigh_147 : decode cX6_weigh 147 = .ok (.goto 4, 3) := dk_167 0 4 (dk_at dksX6_weigh_6 6 rfl rfl)
theorem dX6_weigh_150 : decode cX6_weigh 150 = .ok (.iconst 0, 1) := dk_3 (dk_at dksX6_weigh_6 9 rfl rfl)
theorem dX6_weigh_151 : decode cX6_weigh 151 = .ok (.iadd, 1) := dk_96 (dk_at dksX6_weigh_6 10 rfl rfl)
theorem dX6_weigh_152 : decode cX6_weigh 152 = .ok (.istore 8, 2) := dk_54 8 (dk_at dksX6_weigh_6 11 rfl rfl)
theorem dX6_weigh_154 : decode cX6_weigh 154 = .ok (.iinc 9 1, 3) := dk_132 9 1 (dk_at dksX6_weigh_6 13 rfl rfl)
theorem dX6_weigh_157 : decode cX6_weigh 157 = .ok (.goto (-55), 3) := dk_167 255 201 (dk_at dksX6_weigh_6 16 rfl rfl)
theorem dX6_weigh_160 : decode cX6_weigh 160 = .ok (.iload 6, 2) := dk_21 6 (dk_at dksX6_weigh_6 19 rfl rfl)
theorem dX6_weigh_162 : decode cX6_weigh 162 = .ok (.iload 8, 2) := dk_21 8 (dk_at dksX6_weigh_6 21 rfl rfl)
theorem dX6_weigh_164 : decode cX6_weigh 164 = .ok (.invokestatic 251, 3) := dk_184 0 251 (dk_at dksX6_weigh_7 0 rfl rfl)
theorem dX6_weigh_167 : decode cX6_weigh 167 = .ok (.istore 6, 2) := dk_54 6 (dk_at dksX6_weigh_7 3 rfl rfl)
theorem dX6_weigh_169 : decode cX6_weigh 169 = .ok (.iinc 7 1, 3) := dk_132 7 1 (dk_at dksX6_weigh_7 5 rfl rfl)
theorem dX6_weigh_172 : decode cX6_weigh 172 = .ok (.goto (-82), 3) := dk_167 255 174 (dk_at dksX6_weigh_7 8 rfl rfl)
theorem dX6_weigh_175 : decode cX6_weigh 175 = .ok (.iload 6, 2) := dk_21 6 (dk_at dksX6_weigh_7 11 rfl rfl)
theorem dX6_weigh_177 : decode cX6_weigh 177 = .ok (.iload_n 3, 1) := dk_29 (dk_at dksX6_weigh_7 13 rfl rfl)
theorem dX6_weigh_178 : decode cX6_weigh 178 = .ok (.if_icmp .lt 6, 3) := dk_161 0 6 (dk_at dksX6_weigh_7 14 rfl rfl)
theorem dX6_weigh_181 : decode cX6_weigh 181 = .ok (.goto 15, 3) := dk_167 0 15 (dk_at dksX6_weigh_7 17 rfl rfl)
theorem dX6_weigh_184 : decode cX6_weigh 184 = .ok (.iload 6, 2) := dk_21 6 (dk_at dksX6_weigh_7 20 rfl rfl)
theorem dX6_weigh_186 : decode cX6_weigh 186 = .ok (.istore_n 3, 1) := dk_62 (dk_at dksX6_weigh_7 22 rfl rfl)
theorem dX6_weigh_187 : decode cX6_weigh 187 = .ok (.bipush 10, 2) := dk_16 10 (dk_at dksX6_weigh_8 0 rfl rfl)
theorem dX6_weigh_189 : decode cX6_weigh 189 = .ok (.iload 4, 2) := dk_21 4 (dk_at dksX6_weigh_8 2 rfl rfl)
theorem dX6_weigh_191 : decode cX6_weigh 191 = .ok (.imul, 1) := dk_104 (dk_at dksX6_weigh_8 4 rfl rfl)
theorem dX6_weigh_192 : decode cX6_weigh 192 = .ok (.iload 5, 2) := dk_21 5 (dk_at dksX6_weigh_8 5 rfl rfl)
theorem dX6_weigh_194 : decode cX6_weigh 194 = .ok (.iadd, 1) := dk_96 (dk_at dksX6_weigh_8 7 rfl rfl)
theorem dX6_weigh_195 : decode cX6_weigh 195 = .ok (.istore_n 2, 1) := dk_61 (dk_at dksX6_weigh_8 8 rfl rfl)
theorem dX6_weigh_196 : decode cX6_weigh 196 = .ok (.iinc 5 1, 3) := dk_132 5 1 (dk_at dksX6_weigh_8 9 rfl rfl)
theorem dX6_weigh_199 : decode cX6_weigh 199 = .ok (.goto (-126), 3) := dk_167 255 130 (dk_at dksX6_weigh_8 12 rfl rfl)
theorem dX6_weigh_202 : decode cX6_weigh 202 = .ok (.iinc 4 1, 3) := dk_132 4 1 (dk_at dksX6_weigh_8 15 rfl rfl)
theorem dX6_weigh_205 : decode cX6_weigh 205 = .ok (.goto (-149), 3) := dk_167 255 107 (dk_at dksX6_weigh_8 18 rfl rfl)
theorem dX6_weigh_208 : decode cX6_weigh 208 = .ok (.iload_n 2, 1) := dk_28 (dk_at dksX6_weigh_8 21 rfl rfl)
theorem dX6_weigh_209 : decode cX6_weigh 209 = .ok (.ireturn, 1) := dk_172 (dk_at dksX6_weigh_8 22 rfl rfl)
abbrev cX6_meet : ByteArray := prog_19_method_96_code
def yX6_meet : MethodName := ⟨RX6, "meet", "()I"⟩
def dkwX6_meet_2 : List UInt8 := [162, 0, 5, 28, 60, 132, 2, 1, 167, 255, 209, 27, 172]
abbrev dktX6_meet_2 : List UInt8 := dkwX6_meet_2 ++ []
def dkwX6_meet_1 : List UInt8 := [42, 28, 182, 1, 85, 2, 159, 0, 23, 27, 2, 159, 0, 16, 42, 28, 182, 1, 85, 42, 27, 182, 1, 85]
abbrev dktX6_meet_1 : List UInt8 := dkwX6_meet_1 ++ dktX6_meet_2
def dkwX6_meet_0 : List UInt8 := [42, 3, 181, 0, 41, 2, 60, 3, 61, 28, 16, 12, 162, 0, 47, 42, 180, 0, 7, 6, 46, 158, 0, 38]
abbrev dktX6_meet_0 : List UInt8 := dkwX6_meet_0 ++ dktX6_meet_1
theorem dksX6_meet_0 : cX6_meet.data.toList.drop 0 = dktX6_meet_0 := by decide +kernel
theorem dksX6_meet_1 : cX6_meet.data.toList.drop 24 = dktX6_meet_1 := dk_seg dksX6_meet_0 24 rfl rfl
theorem dksX6_meet_2 : cX6_meet.data.toList.drop 48 = dktX6_meet_2 := dk_seg dksX6_meet_1 24 rfl rfl
theorem dX6_meet_0 : decode cX6_meet 0 = .ok (.aload_n 0, 1) := dk_42 (dk_at dksX6_meet_0 0 rfl rfl)
theorem dX6_meet_1 : decode cX6_meet 1 = .ok (.iconst 0, 1) := dk_3 (dk_at dksX6_meet_0 1 rfl rfl)
theorem dX6_meet_2 : decode cX6_meet 2 = .ok (.putfield 41, 3) := dk_181 0 41 (dk_at dksX6_meet_0 2 rfl rfl)
theorem dX6_meet_5 : decode cX6_meet 5 = .ok (.iconst (-1), 1) := dk_2 (dk_at dksX6_meet_0 5 rfl rfl)
theorem dX6_meet_6 : decode cX6_meet 6 = .ok (.istore_n 1, 1) := dk_60 (dk_at dksX6_meet_0 6 rfl rfl)
theorem dX6_meet_7 : decode cX6_meet 7 = .ok (.iconst 0, 1) := dk_3 (dk_at dksX6_meet_0 7 rfl rfl)
theorem dX6_meet_8 : decode cX6_meet 8 = .ok (.istore_n 2, 1) := dk_61 (dk_at dksX6_meet_0 8 rfl rfl)
theorem dX6_meet_9 : decode cX6_meet 9 = .ok (.iload_n 2, 1) := dk_28 (dk_at dksX6_meet_0 9 rfl rfl)
theorem dX6_meet_10 : decode cX6_meet 10 = .ok (.bipush 12, 2) := dk_16 12 (dk_at dksX6_meet_0 10 rfl rfl)
theorem dX6_meet_12 : decode cX6_meet 12 = .ok (.if_icmp .ge 47, 3) := dk_162 0 47 (dk_at dksX6_meet_0 12 rfl rfl)
theorem dX6_meet_15 : decode cX6_meet 15 = .ok (.aload_n 0, 1) := dk_42 (dk_at dksX6_meet_0 15 rfl rfl)
theorem dX6_meet_16 : decode cX6_meet 16 = .ok (.getfield 7, 3) := dk_180 0 7 (dk_at dksX6_meet_0 16 rfl rfl)
theorem dX6_meet_19 : decode cX6_meet 19 = .ok (.iconst 3, 1) := dk_6 (dk_at dksX6_meet_0 19 rfl rfl)
theorem dX6_meet_20 : decode cX6_meet 20 = .ok (.iaload, 1) := dk_46 (dk_at dksX6_meet_0 20 rfl rfl)
theorem dX6_meet_21 : decode cX6_meet 21 = .ok (.ifCond .le 38, 3) := dk_158 0 38 (dk_at dksX6_meet_0 21 rfl rfl)
theorem dX6_meet_24 : decode cX6_meet 24 = .ok (.aload_n 0, 1) := dk_42 (dk_at dksX6_meet_1 0 rfl rfl)
theorem dX6_meet_25 : decode cX6_meet 25 = .ok (.iload_n 2, 1) := dk_28 (dk_at dksX6_meet_1 1 rfl rfl)
theorem dX6_meet_26 : decode cX6_meet 26 = .ok (.invokevirtual 341, 3) := dk_182 1 85 (dk_at dksX6_meet_1 2 rfl rfl)
theorem dX6_meet_29 : decode cX6_meet 29 = .ok (.iconst (-1), 1) := dk_2 (dk_at dksX6_meet_1 5 rfl rfl)
theorem dX6_meet_30 : decode cX6_meet 30 = .ok (.if_icmp .eq 23, 3) := dk_159 0 23 (dk_at dksX6_meet_1 6 rfl rfl)
theorem dX6_meet_33 : decode cX6_meet 33 = .ok (.iload_n 1, 1) := dk_27 (dk_at dksX6_meet_1 9 rfl rfl)
theorem dX6_meet_34 : decode cX6_meet 34 = .ok (.iconst (-1), 1) := dk_2 (dk_at dksX6_meet_1 10 rfl rfl)
theorem dX6_meet_35 : decode cX6_meet 35 = .ok (.if_icmp .eq 16, 3) := dk_159 0 16 (dk_at dksX6_meet_1 11 rfl rfl)
theorem dX6_meet_38 : decode cX6_meet 38 = .ok (.aload_n 0, 1) := dk_42 (dk_at dksX6_meet_1 14 rfl rfl)
theorem dX6_meet_39 : decode cX6_meet 39 = .ok (.iload_n 2, 1) := dk_28 (dk_at dksX6_meet_1 15 rfl rfl)
theorem dX6_meet_40 : decode cX6_meet 40 = .ok (.invokevirtual 341, 3) := dk_182 1 85 (dk_at dksX6_meet_1 16 rfl rfl)
theorem dX6_meet_43 : decode cX6_meet 43 = .ok (.aload_n 0, 1) := dk_42 (dk_at dksX6_meet_1 19 rfl rfl)
theorem dX6_meet_44 : decode cX6_meet 44 = .ok (.iload_n 1, 1) := dk_27 (dk_at dksX6_meet_1 20 rfl rfl)
theorem dX6_meet_45 : decode cX6_meet 45 = .ok (.invokevirtual 341, 3) := dk_182 1 85 (dk_at dksX6_meet_1 21 rfl rfl)
theorem dX6_meet_48 : decode cX6_meet 48 = .ok (.if_icmp .ge 5, 3) := dk_162 0 5 (dk_at dksX6_meet_2 0 rfl rfl)
theorem dX6_meet_51 : decode cX6_meet 51 = .ok (.iload_n 2, 1) := dk_28 (dk_at dksX6_meet_2 3 rfl rfl)
theorem dX6_meet_52 : decode cX6_meet 52 = .ok (.istore_n 1, 1) := dk_60 (dk_at dksX6_meet_2 4 rfl rfl)
theorem dX6_meet_53 : decode cX6_meet 53 = .ok (.iinc 2 1, 3) := dk_132 2 1 (dk_at dksX6_meet_2 5 rfl rfl)
theorem dX6_meet_56 : decode cX6_meet 56 = .ok (.goto (-47), 3) := dk_167 255 209 (dk_at dksX6_meet_2 8 rfl rfl)
theorem dX6_meet_59 : decode cX6_meet 59 = .ok (.iload_n 1, 1) := dk_27 (dk_at dksX6_meet_2 11 rfl rfl)
theorem dX6_meet_60 : decode cX6_meet 60 = .ok (.ireturn, 1) := dk_172 (dk_at dksX6_meet_2 12 rfl rfl)
abbrev cX6_waysTo : ByteArray := prog_19_method_95_code
def yX6_waysTo : MethodName := ⟨RX6, "waysTo", "(I)I"⟩
def dkwX6_waysTo_1 : List UInt8 := [2, 172, 28, 42, 29, 27, 182, 1, 51, 96, 61, 132, 3, 1, 167, 255, 222, 28, 172]
abbrev dktX6_waysTo_1 : List UInt8 := dkwX6_waysTo_1 ++ []
def dkwX6_waysTo_0 : List UInt8 := [3, 61, 3, 62, 29, 42, 180, 0, 7, 6, 46, 162, 0, 30, 42, 29, 27, 182, 1, 51, 2, 160, 0, 5]
abbrev dktX6_waysTo_0 : List UInt8 := dkwX6_waysTo_0 ++ dktX6_waysTo_1
theorem dksX6_waysTo_0 : cX6_waysTo.data.toList.drop 0 = dktX6_waysTo_0 := by decide +kernel
theorem dksX6_waysTo_1 : cX6_waysTo.data.toList.drop 24 = dktX6_waysTo_1 := dk_seg dksX6_waysTo_0 24 rfl rfl
theorem dX6_waysTo_0 : decode cX6_waysTo 0 = .ok (.iconst 0, 1) := dk_3 (dk_at dksX6_waysTo_0 0 rfl rfl)
theorem dX6_waysTo_1 : decode cX6_waysTo 1 = .ok (.istore_n 2, 1) := dk_61 (dk_at dksX6_waysTo_0 1 rfl rfl)
theorem dX6_waysTo_2 : decode cX6_waysTo 2 = .ok (.iconst 0, 1) := dk_3 (dk_at dksX6_waysTo_0 2 rfl rfl)
theorem dX6_waysTo_3 : decode cX6_waysTo 3 = .ok (.istore_n 3, 1) := dk_62 (dk_at dksX6_waysTo_0 3 rfl rfl)
theorem dX6_waysTo_4 : decode cX6_waysTo 4 = .ok (.iload_n 3, 1) := dk_29 (dk_at dksX6_waysTo_0 4 rfl rfl)
theorem dX6_waysTo_5 : decode cX6_waysTo 5 = .ok (.aload_n 0, 1) := dk_42 (dk_at dksX6_waysTo_0 5 rfl rfl)
theorem dX6_waysTo_6 : decode cX6_waysTo 6 = .ok (.getfield 7, 3) := dk_180 0 7 (dk_at dksX6_waysTo_0 6 rfl rfl)
theorem dX6_waysTo_9 : decode cX6_waysTo 9 = .ok (.iconst 3, 1) := dk_6 (dk_at dksX6_waysTo_0 9 rfl rfl)
theorem dX6_waysTo_10 : decode cX6_waysTo 10 = .ok (.iaload, 1) := dk_46 (dk_at dksX6_waysTo_0 10 rfl rfl)
theorem dX6_waysTo_11 : decode cX6_waysTo 11 = .ok (.if_icmp .ge 30, 3) := dk_162 0 30 (dk_at dksX6_waysTo_0 11 rfl rfl)
theorem dX6_waysTo_14 : decode cX6_waysTo 14 = .ok (.aload_n 0, 1) := dk_42 (dk_at dksX6_waysTo_0 14 rfl rfl)
theorem dX6_waysTo_15 : decode cX6_waysTo 15 = .ok (.iload_n 3, 1) := dk_29 (dk_at dksX6_waysTo_0 15 rfl rfl)
theorem dX6_waysTo_16 : decode cX6_waysTo 16 = .ok (.iload_n 1, 1) := dk_27 (dk_at dksX6_waysTo_0 16 rfl rfl)
theorem dX6_waysTo_17 : decode cX6_waysTo 17 = .ok (.invokevirtual 307, 3) := dk_182 1 51 (dk_at dksX6_waysTo_0 17 rfl rfl)
theorem dX6_waysTo_20 : decode cX6_waysTo 20 = .ok (.iconst (-1), 1) := dk_2 (dk_at dksX6_waysTo_0 20 rfl rfl)
theorem dX6_waysTo_21 : decode cX6_waysTo 21 = .ok (.if_icmp .ne 5, 3) := dk_160 0 5 (dk_at dksX6_waysTo_0 21 rfl rfl)
theorem dX6_waysTo_24 : decode cX6_waysTo 24 = .ok (.iconst (-1), 1) := dk_2 (dk_at dksX6_waysTo_1 0 rfl rfl)
theorem dX6_waysTo_25 : decode cX6_waysTo 25 = .ok (.ireturn, 1) := dk_172 (dk_at dksX6_waysTo_1 1 rfl rfl)
theorem dX6_waysTo_26 : decode cX6_waysTo 26 = .ok (.iload_n 2, 1) := dk_28 (dk_at dksX6_waysTo_1 2 rfl rfl)
theorem dX6_waysTo_27 : decode cX6_waysTo 27 = .ok (.aload_n 0, 1) := dk_42 (dk_at dksX6_waysTo_1 3 rfl rfl)
theorem dX6_waysTo_28 : decode cX6_waysTo 28 = .ok (.iload_n 3, 1) := dk_29 (dk_at dksX6_waysTo_1 4 rfl rfl)
theorem dX6_waysTo_29 : decode cX6_waysTo 29 = .ok (.iload_n 1, 1) := dk_27 (dk_at dksX6_waysTo_1 5 rfl rfl)
theorem dX6_waysTo_30 : decode cX6_waysTo 30 = .ok (.invokevirtual 307, 3) := dk_182 1 51 (dk_at dksX6_waysTo_1 6 rfl rfl)
theorem dX6_waysTo_33 : decode cX6_waysTo 33 = .ok (.iadd, 1) := dk_96 (dk_at dksX6_waysTo_1 9 rfl rfl)
theorem dX6_waysTo_34 : decode cX6_waysTo 34 = .ok (.istore_n 2, 1) := dk_61 (dk_at dksX6_waysTo_1 10 rfl rfl)
theorem dX6_waysTo_35 : decode cX6_waysTo 35 = .ok (.iinc 3 1, 3) := dk_132 3 1 (dk_at dksX6_waysTo_1 11 rfl rfl)
theorem dX6_waysTo_38 : decode cX6_waysTo 38 = .ok (.goto (-34), 3) := dk_167 255 222 (dk_at dksX6_waysTo_1 14 rfl rfl)
theorem dX6_waysTo_41 : decode cX6_waysTo 41 = .ok (.iload_n 2, 1) := dk_28 (dk_at dksX6_waysTo_1 17 rfl rfl)
theorem dX6_waysTo_42 : decode cX6_waysTo 42 = .ok (.ireturn, 1) := dk_172 (dk_at dksX6_waysTo_1 18 rfl rfl)
abbrev cX6_last : ByteArray := prog_19_method_97_code
def yX6_last : MethodName := ⟨RX6, "last", "(Z)I"⟩
def dkwX6_last_3 : List UInt8 := [167, 255, 217, 42, 4, 3, 182, 1, 47, 54, 4, 132, 3, 1, 167, 255, 188, 42, 182, 0, 185, 28, 172]
abbrev dktX6_last_3 : List UInt8 := dkwX6_last_3 ++ []
def dkwX6_last_2 : List UInt8 := [21, 4, 182, 1, 5, 153, 0, 14, 27, 153, 0, 8, 21, 4, 167, 0, 4, 29, 61, 132, 4, 1]
abbrev dktX6_last_2 : List UInt8 := dkwX6_last_2 ++ dktX6_last_3
def dkwX6_last_1 : List UInt8 := [160, 0, 62, 3, 54, 4, 21, 4, 42, 180, 0, 7, 6, 46, 162, 0, 34, 28, 2, 160, 0, 29, 42]
abbrev dktX6_last_1 : List UInt8 := dkwX6_last_1 ++ dktX6_last_2
def dkwX6_last_0 : List UInt8 := [42, 3, 181, 0, 41, 42, 182, 0, 175, 2, 61, 3, 62, 29, 17, 0, 200, 163, 0, 67, 28, 2]
abbrev dktX6_last_0 : List UInt8 := dkwX6_last_0 ++ dktX6_last_1
theorem dksX6_last_0 : cX6_last.data.toList.drop 0 = dktX6_last_0 := by decide +kernel
theorem dksX6_last_1 : cX6_last.data.toList.drop 22 = dktX6_last_1 := dk_seg dksX6_last_0 22 rfl rfl
theorem dksX6_last_2 : cX6_last.data.toList.drop 45 = dktX6_last_2 := dk_seg dksX6_last_1 23 rfl rfl
theorem dksX6_last_3 : cX6_last.data.toList.drop 67 = dktX6_last_3 := dk_seg dksX6_last_2 22 rfl rfl
theorem dX6_last_0 : decode cX6_last 0 = .ok (.aload_n 0, 1) := dk_42 (dk_at dksX6_last_0 0 rfl rfl)
theorem dX6_last_1 : decode cX6_last 1 = .ok (.iconst 0, 1) := dk_3 (dk_at dksX6_last_0 1 rfl rfl)
theorem dX6_last_2 : decode cX6_last 2 = .ok (.putfield 41, 3) := dk_181 0 41 (dk_at dksX6_last_0 2 rfl rfl)
theorem dX6_last_5 : decode cX6_last 5 = .ok (.aload_n 0, 1) := dk_42 (dk_at dksX6_last_0 5 rfl rfl)
theorem dX6_last_6 : decode cX6_last 6 = .ok (.invokevirtual 175, 3) := dk_182 0 175 (dk_at dksX6_last_0 6 rfl rfl)
theorem dX6_last_9 : decode cX6_last 9 = .ok (.iconst (-1), 1) := dk_2 (dk_at dksX6_last_0 9 rfl rfl)
theorem dX6_last_10 : decode cX6_last 10 = .ok (.istore_n 2, 1) := dk_61 (dk_at dksX6_last_0 10 rfl rfl)
theorem dX6_last_11 : decode cX6_last 11 = .ok (.iconst 0, 1) := dk_3 (dk_at dksX6_last_0 11 rfl rfl)
theorem dX6_last_12 : decode cX6_last 12 = .ok (.istore_n 3, 1) := dk_62 (dk_at dksX6_last_0 12 rfl rfl)
theorem dX6_last_13 : decode cX6_last 13 = .ok (.iload_n 3, 1) := dk_29 (dk_at dksX6_last_0 13 rfl rfl)
theorem dX6_last_14 : decode cX6_last 14 = .ok (.sipush 200, 3) := dk_17 0 200 (dk_at dksX6_last_0 14 rfl rfl)
theorem dX6_last_17 : decode cX6_last 17 = .ok (.if_icmp .gt 67, 3) := dk_163 0 67 (dk_at dksX6_last_0 17 rfl rfl)
theorem dX6_last_20 : decode cX6_last 20 = .ok (.iload_n 2, 1) := dk_28 (dk_at dksX6_last_0 20 rfl rfl)
theorem dX6_last_21 : decode cX6_last 21 = .ok (.iconst (-1), 1) := dk_2 (dk_at dksX6_last_0 21 rfl rfl)
theorem dX6_last_22 : decode cX6_last 22 = .ok (.if_icmp .ne 62, 3) := dk_160 0 62 (dk_at dksX6_last_1 0 rfl rfl)
theorem dX6_last_25 : decode cX6_last 25 = .ok (.iconst 0, 1) := dk_3 (dk_at dksX6_last_1 3 rfl rfl)
theorem dX6_last_26 : decode cX6_last 26 = .ok (.istore 4, 2) := dk_54 4 (dk_at dksX6_last_1 4 rfl rfl)
theorem dX6_last_28 : decode cX6_last 28 = .ok (.iload 4, 2) := dk_21 4 (dk_at dksX6_last_1 6 rfl rfl)
theorem dX6_last_30 : decode cX6_last 30 = .ok (.aload_n 0, 1) := dk_42 (dk_at dksX6_last_1 8 rfl rfl)
theorem dX6_last_31 : decode cX6_last 31 = .ok (.getfield 7, 3) := dk_180 0 7 (dk_at dksX6_last_1 9 rfl rfl)
theorem dX6_last_34 : decode cX6_last 34 = .ok (.iconst 3, 1) := dk_6 (dk_at dksX6_last_1 12 rfl rfl)
theorem dX6_last_35 : decode cX6_last 35 = .ok (.iaload, 1) := dk_46 (dk_at dksX6_last_1 13 rfl rfl)
theorem dX6_last_36 : decode cX6_last 36 = .ok (.if_icmp .ge 34, 3) := dk_162 0 34 (dk_at dksX6_last_1 14 rfl rfl)
theorem dX6_last_39 : decode cX6_last 39 = .ok (.iload_n 2, 1) := dk_28 (dk_at dksX6_last_1 17 rfl rfl)
theorem dX6_last_40 : decode cX6_last 40 = .ok (.iconst (-1), 1) := dk_2 (dk_at dksX6_last_1 18 rfl rfl)
theorem dX6_last_41 : decode cX6_last 41 = .ok (.if_icmp .ne 29, 3) := dk_160 0 29 (dk_at dksX6_last_1 19 rfl rfl)
theorem dX6_last_44 : decode cX6_last 44 = .ok (.aload_n 0, 1) := dk_42 (dk_at dksX6_last_1 22 rfl rfl)
theorem dX6_last_45 : decode cX6_last 45 = .ok (.iload 4, 2) := dk_21 4 (dk_at dksX6_last_2 0 rfl rfl)
theorem dX6_last_47 : decode cX6_last 47 = .ok (.invokevirtual 261, 3) := dk_182 1 5 (dk_at dksX6_last_2 2 rfl rfl)
theorem dX6_last_50 : decode cX6_last 50 = .ok (.ifCond .eq 14, 3) := dk_153 0 14 (dk_at dksX6_last_2 5 rfl rfl)
theorem dX6_last_53 : decode cX6_last 53 = .ok (.iload_n 1, 1) := dk_27 (dk_at dksX6_last_2 8 rfl rfl)
theorem dX6_last_54 : decode cX6_last 54 = .ok (.ifCond .eq 8, 3) := dk_153 0 8 (dk_at dksX6_last_2 9 rfl rfl)
theorem dX6_last_57 : decode cX6_last 57 = .ok (.iload 4, 2) := dk_21 4 (dk_at dksX6_last_2 12 rfl rfl)
theorem dX6_last_59 : decode cX6_last 59 = .ok (.goto 4, 3) := dk_167 0 4 (dk_at dksX6_last_2 14 rfl rfl)
theorem dX6_last_62 : decode cX6_last 62 = .ok (.iload_n 3, 1) := dk_29 (dk_at dksX6_last_2 17 rfl rfl)
theorem dX6_last_63 : decode cX6_last 63 = .ok (.istore_n 2, 1) := dk_61 (dk_at dksX6_last_2 18 rfl rfl)
theorem dX6_last_64 : decode cX6_last 64 = .ok (.iinc 4 1, 3) := dk_132 4 1 (dk_at dksX6_last_2 19 rfl rfl)
theorem dX6_last_67 : decode cX6_last 67 = .ok (.goto (-39), 3) := dk_167 255 217 (dk_at dksX6_last_3 0 rfl rfl)
theorem dX6_last_70 : decode cX6_last 70 = .ok (.aload_n 0, 1) := dk_42 (dk_at dksX6_last_3 3 rfl rfl)
theorem dX6_last_71 : decode cX6_last 71 = .ok (.iconst 1, 1) := dk_4 (dk_at dksX6_last_3 4 rfl rfl)
theorem dX6_last_72 : decode cX6_last 72 = .ok (.iconst 0, 1) := dk_3 (dk_at dksX6_last_3 5 rfl rfl)
theorem dX6_last_73 : decode cX6_last 73 = .ok (.invokevirtual 303, 3) := dk_182 1 47 (dk_at dksX6_last_3 6 rfl rfl)
theorem dX6_last_76 : decode cX6_last 76 = .ok (.istore 4, 2) := dk_54 4 (dk_at dksX6_last_3 9 rfl rfl)
theorem dX6_last_78 : decode cX6_last 78 = .ok (.iinc 3 1, 3) := dk_132 3 1 (dk_at dksX6_last_3 11 rfl rfl)
theorem dX6_last_81 : decode cX6_last 81 = .ok (.goto (-68), 3) := dk_167 255 188 (dk_at dksX6_last_3 14 rfl rfl)
theorem dX6_last_84 : decode cX6_last 84 = .ok (.aload_n 0, 1) := dk_42 (dk_at dksX6_last_3 17 rfl rfl)
theorem dX6_last_85 : decode cX6_last 85 = .ok (.invokevirtual 185, 3) := dk_182 0 185 (dk_at dksX6_last_3 18 rfl rfl)
theorem dX6_last_88 : decode cX6_last 88 = .ok (.iload_n 2, 1) := dk_28 (dk_at dksX6_last_3 21 rfl rfl)
theorem dX6_last_89 : decode cX6_last 89 = .ok (.ireturn, 1) := dk_172 (dk_at dksX6_last_3 22 rfl rfl)
abbrev cX6_heap : ByteArray := prog_19_method_98_code
def yX6_heap : MethodName := ⟨RX6, "heap", "()I"⟩
def dkwX6_heap_2 : List UInt8 := [167, 255, 222, 27, 172]
abbrev dktX6_heap_2 : List UInt8 := dkwX6_heap_2 ++ []
def dkwX6_heap_1 : List UInt8 := [182, 0, 60, 54, 4, 21, 4, 28, 163, 0, 6, 167, 0, 8, 21, 4, 61, 29, 60, 132, 3, 1]
abbrev dktX6_heap_1 : List UInt8 := dkwX6_heap_1 ++ dktX6_heap_2
def dkwX6_heap_0 : List UInt8 := [42, 3, 181, 0, 41, 2, 60, 3, 61, 3, 62, 29, 16, 12, 162, 0, 34, 42, 42, 29, 182, 1, 35]
abbrev dktX6_heap_0 : List UInt8 := dkwX6_heap_0 ++ dktX6_heap_1
theorem dksX6_heap_0 : cX6_heap.data.toList.drop 0 = dktX6_heap_0 := by decide +kernel
theorem dksX6_heap_1 : cX6_heap.data.toList.drop 23 = dktX6_heap_1 := dk_seg dksX6_heap_0 23 rfl rfl
theorem dksX6_heap_2 : cX6_heap.data.toList.drop 45 = dktX6_heap_2 := dk_seg dksX6_heap_1 22 rfl rfl
theorem dX6_heap_0 : decode cX6_heap 0 = .ok (.aload_n 0, 1) := dk_42 (dk_at dksX6_heap_0 0 rfl rfl)
theorem dX6_heap_1 : decode cX6_heap 1 = .ok (.iconst 0, 1) := dk_3 (dk_at dksX6_heap_0 1 rfl rfl)
theorem dX6_heap_2 : decode cX6_heap 2 = .ok (.putfield 41, 3) := dk_181 0 41 (dk_at dksX6_heap_0 2 rfl rfl)
theorem dX6_heap_5 : decode cX6_heap 5 = .ok (.iconst (-1), 1) := dk_2 (dk_at dksX6_heap_0 5 rfl rfl)
theorem dX6_heap_6 : decode cX6_heap 6 = .ok (.istore_n 1, 1) := dk_60 (dk_at dksX6_heap_0 6 rfl rfl)
theorem dX6_heap_7 : decode cX6_heap 7 = .ok (.iconst 0, 1) := dk_3 (dk_at dksX6_heap_0 7 rfl rfl)
theorem dX6_heap_8 : decode cX6_heap 8 = .ok (.istore_n 2, 1) := dk_61 (dk_at dksX6_heap_0 8 rfl rfl)
theorem dX6_heap_9 : decode cX6_heap 9 = .ok (.iconst 0, 1) := dk_3 (dk_at dksX6_heap_0 9 rfl rfl)
theorem dX6_heap_10 : decode cX6_heap 10 = .ok (.istore_n 3, 1) := dk_62 (dk_at dksX6_heap_0 10 rfl rfl)
theorem dX6_heap_11 : decode cX6_heap 11 = .ok (.iload_n 3, 1) := dk_29 (dk_at dksX6_heap_0 11 rfl rfl)
theorem dX6_heap_12 : decode cX6_heap 12 = .ok (.bipush 12, 2) := dk_16 12 (dk_at dksX6_heap_0 12 rfl rfl)
theorem dX6_heap_14 : decode cX6_heap 14 = .ok (.if_icmp .ge 34, 3) := dk_162 0 34 (dk_at dksX6_heap_0 14 rfl rfl)
theorem dX6_heap_17 : decode cX6_heap 17 = .ok (.aload_n 0, 1) := dk_42 (dk_at dksX6_heap_0 17 rfl rfl)
theorem dX6_heap_18 : decode cX6_heap 18 = .ok (.aload_n 0, 1) := dk_42 (dk_at dksX6_heap_0 18 rfl rfl)
theorem dX6_heap_19 : decode cX6_heap 19 = .ok (.iload_n 3, 1) := dk_29 (dk_at dksX6_heap_0 19 rfl rfl)
theorem dX6_heap_20 : decode cX6_heap 20 = .ok (.invokevirtual 291, 3) := dk_182 1 35 (dk_at dksX6_heap_0 20 rfl rfl)
theorem dX6_heap_23 : decode cX6_heap 23 = .ok (.invokevirtual 60, 3) := dk_182 0 60 (dk_at dksX6_heap_1 0 rfl rfl)
theorem dX6_heap_26 : decode cX6_heap 26 = .ok (.istore 4, 2) := dk_54 4 (dk_at dksX6_heap_1 3 rfl rfl)
theorem dX6_heap_28 : decode cX6_heap 28 = .ok (.iload 4, 2) := dk_21 4 (dk_at dksX6_heap_1 5 rfl rfl)
theorem dX6_heap_30 : decode cX6_heap 30 = .ok (.iload_n 2, 1) := dk_28 (dk_at dksX6_heap_1 7 rfl rfl)
theorem dX6_heap_31 : decode cX6_heap 31 = .ok (.if_icmp .gt 6, 3) := dk_163 0 6 (dk_at dksX6_heap_1 8 rfl rfl)
theorem dX6_heap_34 : decode cX6_heap 34 = .ok (.goto 8, 3) := dk_167 0 8 (dk_at dksX6_heap_1 11 rfl rfl)
theorem dX6_heap_37 : decode cX6_heap 37 = .ok (.iload 4, 2) := dk_21 4 (dk_at dksX6_heap_1 14 rfl rfl)
theorem dX6_heap_39 : decode cX6_heap 39 = .ok (.istore_n 2, 1) := dk_61 (dk_at dksX6_heap_1 16 rfl rfl)
theorem dX6_heap_40 : decode cX6_heap 40 = .ok (.iload_n 3, 1) := dk_29 (dk_at dksX6_heap_1 17 rfl rfl)
theorem dX6_heap_41 : decode cX6_heap 41 = .ok (.istore_n 1, 1) := dk_60 (dk_at dksX6_heap_1 18 rfl rfl)
theorem dX6_heap_42 : decode cX6_heap 42 = .ok (.iinc 3 1, 3) := dk_132 3 1 (dk_at dksX6_heap_1 19 rfl rfl)
theorem dX6_heap_45 : decode cX6_heap 45 = .ok (.goto (-34), 3) := dk_167 255 222 (dk_at dksX6_heap_2 0 rfl rfl)
theorem dX6_heap_48 : decode cX6_heap 48 = .ok (.iload_n 1, 1) := dk_27 (dk_at dksX6_heap_2 3 rfl rfl)
theorem dX6_heap_49 : decode cX6_heap 49 = .ok (.ireturn, 1) := dk_172 (dk_at dksX6_heap_2 4 rfl rfl)
abbrev cX6_pairs : ByteArray := prog_19_method_99_code
def yX6_pairs : MethodName := ⟨RX6, "pairs", "()I"⟩
def dkwX6_pairs_2 : List UInt8 := [167, 0, 4, 3, 96, 60, 132, 3, 1, 167, 255, 222, 132, 2, 1, 167, 255, 202, 27, 172]
abbrev dktX6_pairs_2 : List UInt8 := dkwX6_pairs_2 ++ []
def dkwX6_pairs_1 : List UInt8 := [42, 180, 0, 7, 6, 46, 162, 0, 30, 27, 42, 28, 182, 0, 63, 42, 29, 182, 0, 63, 160, 0, 7, 4]
abbrev dktX6_pairs_1 : List UInt8 := dkwX6_pairs_1 ++ dktX6_pairs_2
def dkwX6_pairs_0 : List UInt8 := [42, 3, 181, 0, 41, 3, 60, 3, 61, 28, 42, 180, 0, 7, 6, 46, 162, 0, 50, 28, 4, 96, 62, 29]
abbrev dktX6_pairs_0 : List UInt8 := dkwX6_pairs_0 ++ dktX6_pairs_1
theorem dksX6_pairs_0 : cX6_pairs.data.toList.drop 0 = dktX6_pairs_0 := by decide +kernel
theorem dksX6_pairs_1 : cX6_pairs.data.toList.drop 24 = dktX6_pairs_1 := dk_seg dksX6_pairs_0 24 rfl rfl
theorem dksX6_pairs_2 : cX6_pairs.data.toList.drop 48 = dktX6_pairs_2 := dk_seg dksX6_pairs_1 24 rfl rfl
theorem dX6_pairs_0 : decode cX6_pairs 0 = .ok (.aload_n 0, 1) := dk_42 (dk_at dksX6_pairs_0 0 rfl rfl)
theorem dX6_pairs_1 : decode cX6_pairs 1 = .ok (.iconst 0, 1) := dk_3 (dk_at dksX6_pairs_0 1 rfl rfl)
theorem dX6_pairs_2 : decode cX6_pairs 2 = .ok (.putfield 41, 3) := dk_181 0 41 (dk_at dksX6_pairs_0 2 rfl rfl)
theorem dX6_pairs_5 : decode cX6_pairs 5 = .ok (.iconst 0, 1) := dk_3 (dk_at dksX6_pairs_0 5 rfl rfl)
theorem dX6_pairs_6 : decode cX6_pairs 6 = .ok (.istore_n 1, 1) := dk_60 (dk_at dksX6_pairs_0 6 rfl rfl)
theorem dX6_pairs_7 : decode cX6_pairs 7 = .ok (.iconst 0, 1) := dk_3 (dk_at dksX6_pairs_0 7 rfl rfl)
theorem dX6_pairs_8 : decode cX6_pairs 8 = .ok (.istore_n 2, 1) := dk_61 (dk_at dksX6_pairs_0 8 rfl rfl)
theorem dX6_pairs_9 : decode cX6_pairs 9 = .ok (.iload_n 2, 1) := dk_28 (dk_at dksX6_pairs_0 9 rfl rfl)
theorem dX6_pairs_10 : decode cX6_pairs 10 = .ok (.aload_n 0, 1) := dk_42 (dk_at dksX6_pairs_0 10 rfl rfl)
theorem dX6_pairs_11 : decode cX6_pairs 11 = .ok (.getfield 7, 3) := dk_180 0 7 (dk_at dksX6_pairs_0 11 rfl rfl)
theorem dX6_pairs_14 : decode cX6_pairs 14 = .ok (.iconst 3, 1) := dk_6 (dk_at dksX6_pairs_0 14 rfl rfl)
theorem dX6_pairs_15 : decode cX6_pairs 15 = .ok (.iaload, 1) := dk_46 (dk_at dksX6_pairs_0 15 rfl rfl)
theorem dX6_pairs_16 : decode cX6_pairs 16 = .ok (.if_icmp .ge 50, 3) := dk_162 0 50 (dk_at dksX6_pairs_0 16 rfl rfl)
theorem dX6_pairs_19 : decode cX6_pairs 19 = .ok (.iload_n 2, 1) := dk_28 (dk_at dksX6_pairs_0 19 rfl rfl)
theorem dX6_pairs_20 : decode cX6_pairs 20 = .ok (.iconst 1, 1) := dk_4 (dk_at dksX6_pairs_0 20 rfl rfl)
theorem dX6_pairs_21 : decode cX6_pairs 21 = .ok (.iadd, 1) := dk_96 (dk_at dksX6_pairs_0 21 rfl rfl)
theorem dX6_pairs_22 : decode cX6_pairs 22 = .ok (.istore_n 3, 1) := dk_62 (dk_at dksX6_pairs_0 22 rfl rfl)
theorem dX6_pairs_23 : decode cX6_pairs 23 = .ok (.iload_n 3, 1) := dk_29 (dk_at dksX6_pairs_0 23 rfl rfl)
theorem dX6_pairs_24 : decode cX6_pairs 24 = .ok (.aload_n 0, 1) := dk_42 (dk_at dksX6_pairs_1 0 rfl rfl)
theorem dX6_pairs_25 : decode cX6_pairs 25 = .ok (.getfield 7, 3) := dk_180 0 7 (dk_at dksX6_pairs_1 1 rfl rfl)
theorem dX6_pairs_28 : decode cX6_pairs 28 = .ok (.iconst 3, 1) := dk_6 (dk_at dksX6_pairs_1 4 rfl rfl)
theorem dX6_pairs_29 : decode cX6_pairs 29 = .ok (.iaload, 1) := dk_46 (dk_at dksX6_pairs_1 5 rfl rfl)
theorem dX6_pairs_30 : decode cX6_pairs 30 = .ok (.if_icmp .ge 30, 3) := dk_162 0 30 (dk_at dksX6_pairs_1 6 rfl rfl)
theorem dX6_pairs_33 : decode cX6_pairs 33 = .ok (.iload_n 1, 1) := dk_27 (dk_at dksX6_pairs_1 9 rfl rfl)
theorem dX6_pairs_34 : decode cX6_pairs 34 = .ok (.aload_n 0, 1) := dk_42 (dk_at dksX6_pairs_1 10 rfl rfl)
theorem dX6_pairs_35 : decode cX6_pairs 35 = .ok (.iload_n 2, 1) := dk_28 (dk_at dksX6_pairs_1 11 rfl rfl)
theorem dX6_pairs_36 : decode cX6_pairs 36 = .ok (.invokevirtual 63, 3) := dk_182 0 63 (dk_at dksX6_pairs_1 12 rfl rfl)
theorem dX6_pairs_39 : decode cX6_pairs 39 = .ok (.aload_n 0, 1) := dk_42 (dk_at dksX6_pairs_1 15 rfl rfl)
theorem dX6_pairs_40 : decode cX6_pairs 40 = .ok (.iload_n 3, 1) := dk_29 (dk_at dksX6_pairs_1 16 rfl rfl)
theorem dX6_pairs_41 : decode cX6_pairs 41 = .ok (.invokevirtual 63, 3) := dk_182 0 63 (dk_at dksX6_pairs_1 17 rfl rfl)
theorem dX6_pairs_44 : decode cX6_pairs 44 = .ok (.if_icmp .ne 7, 3) := dk_160 0 7 (dk_at dksX6_pairs_1 20 rfl rfl)
theorem dX6_pairs_47 : decode cX6_pairs 47 = .ok (.iconst 1, 1) := dk_4 (dk_at dksX6_pairs_1 23 rfl rfl)
theorem dX6_pairs_48 : decode cX6_pairs 48 = .ok (.goto 4, 3) := dk_167 0 4 (dk_at dksX6_pairs_2 0 rfl rfl)
theorem dX6_pairs_51 : decode cX6_pairs 51 = .ok (.iconst 0, 1) := dk_3 (dk_at dksX6_pairs_2 3 rfl rfl)
theorem dX6_pairs_52 : decode cX6_pairs 52 = .ok (.iadd, 1) := dk_96 (dk_at dksX6_pairs_2 4 rfl rfl)
theorem dX6_pairs_53 : decode cX6_pairs 53 = .ok (.istore_n 1, 1) := dk_60 (dk_at dksX6_pairs_2 5 rfl rfl)
theorem dX6_pairs_54 : decode cX6_pairs 54 = .ok (.iinc 3 1, 3) := dk_132 3 1 (dk_at dksX6_pairs_2 6 rfl rfl)
theorem dX6_pairs_57 : decode cX6_pairs 57 = .ok (.goto (-34), 3) := dk_167 255 222 (dk_at dksX6_pairs_2 9 rfl rfl)
theorem dX6_pairs_60 : decode cX6_pairs 60 = .ok (.iinc 2 1, 3) := dk_132 2 1 (dk_at dksX6_pairs_2 12 rfl rfl)
theorem dX6_pairs_63 : decode cX6_pairs 63 = .ok (.goto (-54), 3) := dk_167 255 202 (dk_at dksX6_pairs_2 15 rfl rfl)
theorem dX6_pairs_66 : decode cX6_pairs 66 = .ok (.iload_n 1, 1) := dk_27 (dk_at dksX6_pairs_2 18 rfl rfl)
theorem dX6_pairs_67 : decode cX6_pairs 67 = .ok (.ireturn, 1) := dk_172 (dk_at dksX6_pairs_2 19 rfl rfl)
abbrev cX6_heaviest : ByteArray := prog_19_method_100_code
def yX6_heaviest : MethodName := ⟨RX6, "heaviest", "()I"⟩
def dkwX6_heaviest_1 : List UInt8 := [42, 28, 182, 0, 63, 42, 27, 182, 0, 63, 164, 0, 5, 28, 60, 132, 2, 1, 167, 255, 223, 27, 172]
abbrev dktX6_heaviest_1 : List UInt8 := dkwX6_heaviest_1 ++ []
def dkwX6_heaviest_0 : List UInt8 := [42, 3, 181, 0, 41, 2, 60, 3, 61, 28, 42, 180, 0, 7, 6, 46, 162, 0, 29, 27, 2, 159, 0, 16]
abbrev dktX6_heaviest_0 : List UInt8 := dkwX6_heaviest_0 ++ dktX6_heaviest_1
theorem dksX6_heaviest_0 : cX6_heaviest.data.toList.drop 0 = dktX6_heaviest_0 := by decide +kernel
theorem dksX6_heaviest_1 : cX6_heaviest.data.toList.drop 24 = dktX6_heaviest_1 := dk_seg dksX6_heaviest_0 24 rfl rfl
theorem dX6_heaviest_0 : decode cX6_heaviest 0 = .ok (.aload_n 0, 1) := dk_42 (dk_at dksX6_heaviest_0 0 rfl rfl)
theorem dX6_heaviest_1 : decode cX6_heaviest 1 = .ok (.iconst 0, 1) := dk_3 (dk_at dksX6_heaviest_0 1 rfl rfl)
theorem dX6_heaviest_2 : decode cX6_heaviest 2 = .ok (.putfield 41, 3) := dk_181 0 41 (dk_at dksX6_heaviest_0 2 rfl rfl)
theorem dX6_heaviest_5 : decode cX6_heaviest 5 = .ok (.iconst (-1), 1) := dk_2 (dk_at dksX6_heaviest_0 5 rfl rfl)
theorem dX6_heaviest_6 : decode cX6_heaviest 6 = .ok (.istore_n 1, 1) := dk_60 (dk_at dksX6_heaviest_0 6 rfl rfl)
theorem dX6_heaviest_7 : decode cX6_heaviest 7 = .ok (.iconst 0, 1) := dk_3 (dk_at dksX6_heaviest_0 7 rfl rfl)
theorem dX6_heaviest_8 : decode cX6_heaviest 8 = .ok (.istore_n 2, 1) := dk_61 (dk_at dksX6_heaviest_0 8 rfl rfl)
theorem dX6_heaviest_9 : decode cX6_heaviest 9 = .ok (.iload_n 2, 1) := dk_28 (dk_at dksX6_heaviest_0 9 rfl rfl)
theorem dX6_heaviest_10 : decode cX6_heaviest 10 = .ok (.aload_n 0, 1) := dk_42 (dk_at dksX6_heaviest_0 10 rfl rfl)
theorem dX6_heaviest_11 : decode cX6_heaviest 11 = .ok (.getfield 7, 3) := dk_180 0 7 (dk_at dksX6_heaviest_0 11 rfl rfl)
theorem dX6_heaviest_14 : decode cX6_heaviest 14 = .ok (.iconst 3, 1) := dk_6 (dk_at dksX6_heaviest_0 14 rfl rfl)
theorem dX6_heaviest_15 : decode cX6_heaviest 15 = .ok (.iaload, 1) := dk_46 (dk_at dksX6_heaviest_0 15 rfl rfl)
theorem dX6_heaviest_16 : decode cX6_heaviest 16 = .ok (.if_icmp .ge 29, 3) := dk_162 0 29 (dk_at dksX6_heaviest_0 16 rfl rfl)
theorem dX6_heaviest_19 : decode cX6_heaviest 19 = .ok (.iload_n 1, 1) := dk_27 (dk_at dksX6_heaviest_0 19 rfl rfl)
theorem dX6_heaviest_20 : decode cX6_heaviest 20 = .ok (.iconst (-1), 1) := dk_2 (dk_at dksX6_heaviest_0 20 rfl rfl)
theorem dX6_heaviest_21 : decode cX6_heaviest 21 = .ok (.if_icmp .eq 16, 3) := dk_159 0 16 (dk_at dksX6_heaviest_0 21 rfl rfl)
theorem dX6_heaviest_24 : decode cX6_heaviest 24 = .ok (.aload_n 0, 1) := dk_42 (dk_at dksX6_heaviest_1 0 rfl rfl)
theorem dX6_heaviest_25 : decode cX6_heaviest 25 = .ok (.iload_n 2, 1) := dk_28 (dk_at dksX6_heaviest_1 1 rfl rfl)
theorem dX6_heaviest_26 : decode cX6_heaviest 26 = .ok (.invokevirtual 63, 3) := dk_182 0 63 (dk_at dksX6_heaviest_1 2 rfl rfl)
theorem dX6_heaviest_29 : decode cX6_heaviest 29 = .ok (.aload_n 0, 1) := dk_42 (dk_at dksX6_heaviest_1 5 rfl rfl)
theorem dX6_heaviest_30 : decode cX6_heaviest 30 = .ok (.iload_n 1, 1) := dk_27 (dk_at dksX6_heaviest_1 6 rfl rfl)
theorem dX6_heaviest_31 : decode cX6_heaviest 31 = .ok (.invokevirtual 63, 3) := dk_182 0 63 (dk_at dksX6_heaviest_1 7 rfl rfl)
theorem dX6_heaviest_34 : decode cX6_heaviest 34 = .ok (.if_icmp .le 5, 3) := dk_164 0 5 (dk_at dksX6_heaviest_1 10 rfl rfl)
theorem dX6_heaviest_37 : decode cX6_heaviest 37 = .ok (.iload_n 2, 1) := dk_28 (dk_at dksX6_heaviest_1 13 rfl rfl)
theorem dX6_heaviest_38 : decode cX6_heaviest 38 = .ok (.istore_n 1, 1) := dk_60 (dk_at dksX6_heaviest_1 14 rfl rfl)
theorem dX6_heaviest_39 : decode cX6_heaviest 39 = .ok (.iinc 2 1, 3) := dk_132 2 1 (dk_at dksX6_heaviest_1 15 rfl rfl)
theorem dX6_heaviest_42 : decode cX6_heaviest 42 = .ok (.goto (-33), 3) := dk_167 255 223 (dk_at dksX6_heaviest_1 18 rfl rfl)
theorem dX6_heaviest_45 : decode cX6_heaviest 45 = .ok (.iload_n 1, 1) := dk_27 (dk_at dksX6_heaviest_1 21 rfl rfl)
theorem dX6_heaviest_46 : decode cX6_heaviest 46 = .ok (.ireturn, 1) := dk_172 (dk_at dksX6_heaviest_1 22 rfl rfl)
abbrev cX6_gravel : ByteArray := prog_19_method_102_code
def yX6_gravel : MethodName := ⟨RX6, "gravel", "(I)I"⟩
def dkwX6_gravel_2 : List UInt8 := [182, 1, 88, 28, 100, 54, 4, 42, 182, 0, 185, 21, 4, 172]
abbrev dktX6_gravel_2 : List UInt8 := dkwX6_gravel_2 ++ []
def dkwX6_gravel_1 : List UInt8 := [158, 0, 5, 3, 172, 42, 182, 0, 175, 42, 182, 1, 88, 61, 42, 27, 3, 182, 1, 47, 62, 42]
abbrev dktX6_gravel_1 : List UInt8 := dkwX6_gravel_1 ++ dktX6_gravel_2
def dkwX6_gravel_0 : List UInt8 := [42, 27, 3, 17, 0, 200, 184, 0, 44, 154, 0, 7, 4, 167, 0, 4, 3, 181, 0, 41, 42, 180, 0, 41]
abbrev dktX6_gravel_0 : List UInt8 := dkwX6_gravel_0 ++ dktX6_gravel_1
theorem dksX6_gravel_0 : cX6_gravel.data.toList.drop 0 = dktX6_gravel_0 := by decide +kernel
theorem dksX6_gravel_1 : cX6_gravel.data.toList.drop 24 = dktX6_gravel_1 := dk_seg dksX6_gravel_0 24 rfl rfl
theorem dksX6_gravel_2 : cX6_gravel.data.toList.drop 46 = dktX6_gravel_2 := dk_seg dksX6_gravel_1 22 rfl rfl
theorem dX6_gravel_0 : decode cX6_gravel 0 = .ok (.aload_n 0, 1) := dk_42 (dk_at dksX6_gravel_0 0 rfl rfl)
theorem dX6_gravel_1 : decode cX6_gravel 1 = .ok (.iload_n 1, 1) := dk_27 (dk_at dksX6_gravel_0 1 rfl rfl)
theorem dX6_gravel_2 : decode cX6_gravel 2 = .ok (.iconst 0, 1) := dk_3 (dk_at dksX6_gravel_0 2 rfl rfl)
theorem dX6_gravel_3 : decode cX6_gravel 3 = .ok (.sipush 200, 3) := dk_17 0 200 (dk_at dksX6_gravel_0 3 rfl rfl)
theorem dX6_gravel_6 : decode cX6_gravel 6 = .ok (.invokestatic 44, 3) := dk_184 0 44 (dk_at dksX6_gravel_0 6 rfl rfl)
theorem dX6_gravel_9 : decode cX6_gravel 9 = .ok (.ifCond .ne 7, 3) := dk_154 0 7 (dk_at dksX6_gravel_0 9 rfl rfl)
theorem dX6_gravel_12 : decode cX6_gravel 12 = .ok (.iconst 1, 1) := dk_4 (dk_at dksX6_gravel_0 12 rfl rfl)
theorem dX6_gravel_13 : decode cX6_gravel 13 = .ok (.goto 4, 3) := dk_167 0 4 (dk_at dksX6_gravel_0 13 rfl rfl)
theorem dX6_gravel_16 : decode cX6_gravel 16 = .ok (.iconst 0, 1) := dk_3 (dk_at dksX6_gravel_0 16 rfl rfl)
theorem dX6_gravel_17 : decode cX6_gravel 17 = .ok (.putfield 41, 3) := dk_181 0 41 (dk_at dksX6_gravel_0 17 rfl rfl)
theorem dX6_gravel_20 : decode cX6_gravel 20 = .ok (.aload_n 0, 1) := dk_42 (dk_at dksX6_gravel_0 20 rfl rfl)
theorem dX6_gravel_21 : decode cX6_gravel 21 = .ok (.getfield 41, 3) := dk_180 0 41 (dk_at dksX6_gravel_0 21 rfl rfl)
theorem dX6_gravel_24 : decode cX6_gravel 24 = .ok (.ifCond .le 5, 3) := dk_158 0 5 (dk_at dksX6_gravel_1 0 rfl rfl)
theorem dX6_gravel_27 : decode cX6_gravel 27 = .ok (.iconst 0, 1) := dk_3 (dk_at dksX6_gravel_1 3 rfl rfl)
theorem dX6_gravel_28 : decode cX6_gravel 28 = .ok (.ireturn, 1) := dk_172 (dk_at dksX6_gravel_1 4 rfl rfl)
theorem dX6_gravel_29 : decode cX6_gravel 29 = .ok (.aload_n 0, 1) := dk_42 (dk_at dksX6_gravel_1 5 rfl rfl)
theorem dX6_gravel_30 : decode cX6_gravel 30 = .ok (.invokevirtual 175, 3) := dk_182 0 175 (dk_at dksX6_gravel_1 6 rfl rfl)
theorem dX6_gravel_33 : decode cX6_gravel 33 = .ok (.aload_n 0, 1) := dk_42 (dk_at dksX6_gravel_1 9 rfl rfl)
theorem dX6_gravel_34 : decode cX6_gravel 34 = .ok (.invokevirtual 344, 3) := dk_182 1 88 (dk_at dksX6_gravel_1 10 rfl rfl)
theorem dX6_gravel_37 : decode cX6_gravel 37 = .ok (.istore_n 2, 1) := dk_61 (dk_at dksX6_gravel_1 13 rfl rfl)
theorem dX6_gravel_38 : decode cX6_gravel 38 = .ok (.aload_n 0, 1) := dk_42 (dk_at dksX6_gravel_1 14 rfl rfl)
theorem dX6_gravel_39 : decode cX6_gravel 39 = .ok (.iload_n 1, 1) := dk_27 (dk_at dksX6_gravel_1 15 rfl rfl)
theorem dX6_gravel_40 : decode cX6_gravel 40 = .ok (.iconst 0, 1) := dk_3 (dk_at dksX6_gravel_1 16 rfl rfl)
theorem dX6_gravel_41 : decode cX6_gravel 41 = .ok (.invokevirtual 303, 3) := dk_182 1 47 (dk_at dksX6_gravel_1 17 rfl rfl)
theorem dX6_gravel_44 : decode cX6_gravel 44 = .ok (.istore_n 3, 1) := dk_62 (dk_at dksX6_gravel_1 20 rfl rfl)
theorem dX6_gravel_45 : decode cX6_gravel 45 = .ok (.aload_n 0, 1) := dk_42 (dk_at dksX6_gravel_1 21 rfl rfl)
theorem dX6_gravel_46 : decode cX6_gravel 46 = .ok (.invokevirtual 344, 3) := dk_182 1 88 (dk_at dksX6_gravel_2 0 rfl rfl)
theorem dX6_gravel_49 : decode cX6_gravel 49 = .ok (.iload_n 2, 1) := dk_28 (dk_at dksX6_gravel_2 3 rfl rfl)
theorem dX6_gravel_50 : decode cX6_gravel 50 = .ok (.isub, 1) := dk_100 (dk_at dksX6_gravel_2 4 rfl rfl)
theorem dX6_gravel_51 : decode cX6_gravel 51 = .ok (.istore 4, 2) := dk_54 4 (dk_at dksX6_gravel_2 5 rfl rfl)
theorem dX6_gravel_53 : decode cX6_gravel 53 = .ok (.aload_n 0, 1) := dk_42 (dk_at dksX6_gravel_2 7 rfl rfl)
theorem dX6_gravel_54 : decode cX6_gravel 54 = .ok (.invokevirtual 185, 3) := dk_182 0 185 (dk_at dksX6_gravel_2 8 rfl rfl)
theorem dX6_gravel_57 : decode cX6_gravel 57 = .ok (.iload 4, 2) := dk_21 4 (dk_at dksX6_gravel_2 11 rfl rfl)
theorem dX6_gravel_59 : decode cX6_gravel 59 = .ok (.ireturn, 1) := dk_172 (dk_at dksX6_gravel_2 13 rfl rfl)
abbrev cX6_unpaid : ByteArray := prog_19_method_101_code
def yX6_unpaid : MethodName := ⟨RX6, "unpaid", "()I"⟩
def dkwX6_unpaid_1 : List UInt8 := [162, 0, 12, 42, 28, 5, 182, 0, 48, 167, 0, 4, 3, 96, 60, 132, 2, 1, 167, 255, 220, 27, 172]
abbrev dktX6_unpaid_1 : List UInt8 := dkwX6_unpaid_1 ++ []
def dkwX6_unpaid_0 : List UInt8 := [3, 60, 3, 61, 28, 42, 180, 0, 7, 7, 46, 162, 0, 32, 27, 42, 28, 6, 182, 0, 48, 5]
abbrev dktX6_unpaid_0 : List UInt8 := dkwX6_unpaid_0 ++ dktX6_unpaid_1
theorem dksX6_unpaid_0 : cX6_unpaid.data.toList.drop 0 = dktX6_unpaid_0 := by decide +kernel
theorem dksX6_unpaid_1 : cX6_unpaid.data.toList.drop 22 = dktX6_unpaid_1 := dk_seg dksX6_unpaid_0 22 rfl rfl
theorem dX6_unpaid_0 : decode cX6_unpaid 0 = .ok (.iconst 0, 1) := dk_3 (dk_at dksX6_unpaid_0 0 rfl rfl)
theorem dX6_unpaid_1 : decode cX6_unpaid 1 = .ok (.istore_n 1, 1) := dk_60 (dk_at dksX6_unpaid_0 1 rfl rfl)
theorem dX6_unpaid_2 : decode cX6_unpaid 2 = .ok (.iconst 0, 1) := dk_3 (dk_at dksX6_unpaid_0 2 rfl rfl)
theorem dX6_unpaid_3 : decode cX6_unpaid 3 = .ok (.istore_n 2, 1) := dk_61 (dk_at dksX6_unpaid_0 3 rfl rfl)
theorem dX6_unpaid_4 : decode cX6_unpaid 4 = .ok (.iload_n 2, 1) := dk_28 (dk_at dksX6_unpaid_0 4 rfl rfl)
theorem dX6_unpaid_5 : decode cX6_unpaid 5 = .ok (.aload_n 0, 1) := dk_42 (dk_at dksX6_unpaid_0 5 rfl rfl)
theorem dX6_unpaid_6 : decode cX6_unpaid 6 = .ok (.getfield 7, 3) := dk_180 0 7 (dk_at dksX6_unpaid_0 6 rfl rfl)
theorem dX6_unpaid_9 : decode cX6_unpaid 9 = .ok (.iconst 4, 1) := dk_7 (dk_at dksX6_unpaid_0 9 rfl rfl)
theorem dX6_unpaid_10 : decode cX6_unpaid 10 = .ok (.iaload, 1) := dk_46 (dk_at dksX6_unpaid_0 10 rfl rfl)
theorem dX6_unpaid_11 : decode cX6_unpaid 11 = .ok (.if_icmp .ge 32, 3) := dk_162 0 32 (dk_at dksX6_unpaid_0 11 rfl rfl)
theorem dX6_unpaid_14 : decode cX6_unpaid 14 = .ok (.iload_n 1, 1) := dk_27 (dk_at dksX6_unpaid_0 14 rfl rfl)
theorem dX6_unpaid_15 : decode cX6_unpaid 15 = .ok (.aload_n 0, 1) := dk_42 (dk_at dksX6_unpaid_0 15 rfl rfl)
theorem dX6_unpaid_16 : decode cX6_unpaid 16 = .ok (.iload_n 2, 1) := dk_28 (dk_at dksX6_unpaid_0 16 rfl rfl)
theorem dX6_unpaid_17 : decode cX6_unpaid 17 = .ok (.iconst 3, 1) := dk_6 (dk_at dksX6_unpaid_0 17 rfl rfl)
theorem dX6_unpaid_18 : decode cX6_unpaid 18 = .ok (.invokevirtual 48, 3) := dk_182 0 48 (dk_at dksX6_unpaid_0 18 rfl rfl)
theorem dX6_unpaid_21 : decode cX6_unpaid 21 = .ok (.iconst 2, 1) := dk_5 (dk_at dksX6_unpaid_0 21 rfl rfl)
theorem dX6_unpaid_22 : decode cX6_unpaid 22 = .ok (.if_icmp .ge 12, 3) := dk_162 0 12 (dk_at dksX6_unpaid_1 0 rfl rfl)
theorem dX6_unpaid_25 : decode cX6_unpaid 25 = .ok (.aload_n 0, 1) := dk_42 (dk_at dksX6_unpaid_1 3 rfl rfl)
theorem dX6_unpaid_26 : decode cX6_unpaid 26 = .ok (.iload_n 2, 1) := dk_28 (dk_at dksX6_unpaid_1 4 rfl rfl)
theorem dX6_unpaid_27 : decode cX6_unpaid 27 = .ok (.iconst 2, 1) := dk_5 (dk_at dksX6_unpaid_1 5 rfl rfl)
theorem dX6_unpaid_28 : decode cX6_unpaid 28 = .ok (.invokevirtual 48, 3) := dk_182 0 48 (dk_at dksX6_unpaid_1 6 rfl rfl)
theorem dX6_unpaid_31 : decode cX6_unpaid 31 = .ok (.goto 4, 3) := dk_167 0 4 (dk_at dksX6_unpaid_1 9 rfl rfl)
theorem dX6_unpaid_34 : decode cX6_unpaid 34 = .ok (.iconst 0, 1) := dk_3 (dk_at dksX6_unpaid_1 12 rfl rfl)
theorem dX6_unpaid_35 : decode cX6_unpaid 35 = .ok (.iadd, 1) := dk_96 (dk_at dksX6_unpaid_1 13 rfl rfl)
theorem dX6_unpaid_36 : decode cX6_unpaid 36 = .ok (.istore_n 1, 1) := dk_60 (dk_at dksX6_unpaid_1 14 rfl rfl)
theorem dX6_unpaid_37 : decode cX6_unpaid 37 = .ok (.iinc 2 1, 3) := dk_132 2 1 (dk_at dksX6_unpaid_1 15 rfl rfl)
theorem dX6_unpaid_40 : decode cX6_unpaid 40 = .ok (.goto (-36), 3) := dk_167 255 220 (dk_at dksX6_unpaid_1 18 rfl rfl)
theorem dX6_unpaid_43 : decode cX6_unpaid 43 = .ok (.iload_n 1, 1) := dk_27 (dk_at dksX6_unpaid_1 21 rfl rfl)
theorem dX6_unpaid_44 : decode cX6_unpaid 44 = .ok (.ireturn, 1) := dk_172 (dk_at dksX6_unpaid_1 22 rfl rfl)
abbrev cX6_ahead : ByteArray := prog_19_method_103_code
def yX6_ahead : MethodName := ⟨RX6, "ahead", "(III)I"⟩
def dkwX6_ahead_5 : List UInt8 := [21, 5, 172]
abbrev dktX6_ahead_5 : List UInt8 := dkwX6_ahead_5 ++ []
def dkwX6_ahead_4 : List UInt8 := [5, 160, 0, 12, 42, 27, 7, 182, 0, 66, 167, 0, 8, 42, 27, 182, 0, 63, 54, 5, 42, 182, 0, 185]
abbrev dktX6_ahead_4 : List UInt8 := dkwX6_ahead_4 ++ dktX6_ahead_5
def dkwX6_ahead_3 : List UInt8 := [42, 27, 3, 182, 0, 66, 167, 0, 36, 29, 4, 160, 0, 12, 42, 27, 5, 182, 0, 66, 167, 0, 22, 29]
abbrev dktX6_ahead_3 : List UInt8 := dkwX6_ahead_3 ++ dktX6_ahead_4
def dkwX6_ahead_2 : List UInt8 := [180, 0, 41, 158, 0, 5, 3, 172, 42, 182, 0, 175, 42, 28, 3, 182, 1, 47, 54, 4, 29, 154, 0, 12]
abbrev dktX6_ahead_2 : List UInt8 := dkwX6_ahead_2 ++ dktX6_ahead_3
def dkwX6_ahead_1 : List UInt8 := [5, 167, 0, 17, 29, 3, 6, 184, 0, 44, 154, 0, 7, 6, 167, 0, 4, 3, 181, 0, 41, 42]
abbrev dktX6_ahead_1 : List UInt8 := dkwX6_ahead_1 ++ dktX6_ahead_2
def dkwX6_ahead_0 : List UInt8 := [42, 42, 27, 182, 1, 20, 154, 0, 7, 4, 167, 0, 32, 28, 3, 17, 0, 200, 184, 0, 44, 154, 0, 7]
abbrev dktX6_ahead_0 : List UInt8 := dkwX6_ahead_0 ++ dktX6_ahead_1
theorem dksX6_ahead_0 : cX6_ahead.data.toList.drop 0 = dktX6_ahead_0 := by decide +kernel
theorem dksX6_ahead_1 : cX6_ahead.data.toList.drop 24 = dktX6_ahead_1 := dk_seg dksX6_ahead_0 24 rfl rfl
theorem dksX6_ahead_2 : cX6_ahead.data.toList.drop 46 = dktX6_ahead_2 := dk_seg dksX6_ahead_1 22 rfl rfl
theorem dksX6_ahead_3 : cX6_ahead.data.toList.drop 70 = dktX6_ahead_3 := dk_seg dksX6_ahead_2 24 rfl rfl
theorem dksX6_ahead_4 : cX6_ahead.data.toList.drop 94 = dktX6_ahead_4 := dk_seg dksX6_ahead_3 24 rfl rfl
theorem dksX6_ahead_5 : cX6_ahead.data.toList.drop 118 = dktX6_ahead_5 := dk_seg dksX6_ahead_4 24 rfl rfl
theorem dX6_ahead_0 : decode cX6_ahead 0 = .ok (.aload_n 0, 1) := dk_42 (dk_at dksX6_ahead_0 0 rfl rfl)
theorem dX6_ahead_1 : decode cX6_ahead 1 = .ok (.aload_n 0, 1) := dk_42 (dk_at dksX6_ahead_0 1 rfl rfl)
theorem dX6_ahead_2 : decode cX6_ahead 2 = .ok (.iload_n 1, 1) := dk_27 (dk_at dksX6_ahead_0 2 rfl rfl)
theorem dX6_ahead_3 : decode cX6_ahead 3 = .ok (.invokevirtual 276, 3) := dk_182 1 20 (dk_at dksX6_ahead_0 3 rfl rfl)
theorem dX6_ahead_6 : decode cX6_ahead 6 = .ok (.ifCond .ne 7, 3) := dk_154 0 7 (dk_at dksX6_ahead_0 6 rfl rfl)
theorem dX6_ahead_9 : decode cX6_ahead 9 = .ok (.iconst 1, 1) := dk_4 (dk_at dksX6_ahead_0 9 rfl rfl)
theorem dX6_ahead_10 : decode cX6_ahead 10 = .ok (.goto 32, 3) := dk_167 0 32 (dk_at dksX6_ahead_0 10 rfl rfl)
theorem dX6_ahead_13 : decode cX6_ahead 13 = .ok (.iload_n 2, 1) := dk_28 (dk_at dksX6_ahead_0 13 rfl rfl)
theorem dX6_ahead_14 : decode cX6_ahead 14 = .ok (.iconst 0, 1) := dk_3 (dk_at dksX6_ahead_0 14 rfl rfl)
theorem dX6_ahead_15 : decode cX6_ahead 15 = .ok (.sipush 200, 3) := dk_17 0 200 (dk_at dksX6_ahead_0 15 rfl rfl)
theorem dX6_ahead_18 : decode cX6_ahead 18 = .ok (.invokestatic 44, 3) := dk_184 0 44 (dk_at dksX6_ahead_0 18 rfl rfl)
theorem dX6_ahead_21 : decode cX6_ahead 21 = .ok (.ifCond .ne 7, 3) := dk_154 0 7 (dk_at dksX6_ahead_0 21 rfl rfl)
theorem dX6_ahead_24 : decode cX6_ahead 24 = .ok (.iconst 2, 1) := dk_5 (dk_at dksX6_ahead_1 0 rfl rfl)
theorem dX6_ahead_25 : decode cX6_ahead 25 = .ok (.goto 17, 3) := dk_167 0 17 (dk_at dksX6_ahead_1 1 rfl rfl)
theorem dX6_ahead_28 : decode cX6_ahead 28 = .ok (.iload_n 3, 1) := dk_29 (dk_at dksX6_ahead_1 4 rfl rfl)
theorem dX6_ahead_29 : decode cX6_ahead 29 = .ok (.iconst 0, 1) := dk_3 (dk_at dksX6_ahead_1 5 rfl rfl)
theorem dX6_ahead_30 : decode cX6_ahead 30 = .ok (.iconst 3, 1) := dk_6 (dk_at dksX6_ahead_1 6 rfl rfl)
theorem dX6_ahead_31 : decode cX6_ahead 31 = .ok (.invokestatic 44, 3) := dk_184 0 44 (dk_at dksX6_ahead_1 7 rfl rfl)
theorem dX6_ahead_34 : decode cX6_ahead 34 = .ok (.ifCond .ne 7, 3) := dk_154 0 7 (dk_at dksX6_ahead_1 10 rfl rfl)
theorem dX6_ahead_37 : decode cX6_ahead 37 = .ok (.iconst 3, 1) := dk_6 (dk_at dksX6_ahead_1 13 rfl rfl)
theorem dX6_ahead_38 : decode cX6_ahead 38 = .ok (.goto 4, 3) := dk_167 0 4 (dk_at dksX6_ahead_1 14 rfl rfl)
theorem dX6_ahead_41 : decode cX6_ahead 41 = .ok (.iconst 0, 1) := dk_3 (dk_at dksX6_ahead_1 17 rfl rfl)
theorem dX6_ahead_42 : decode cX6_ahead 42 = .ok (.putfield 41, 3) := dk_181 0 41 (dk_at dksX6_ahead_1 18 rfl rfl)
theorem dX6_ahead_45 : decode cX6_ahead 45 = .ok (.aload_n 0, 1) := dk_42 (dk_at dksX6_ahead_1 21 rfl rfl)
theorem dX6_ahead_46 : decode cX6_ahead 46 = .ok (.getfield 41, 3) := dk_180 0 41 (dk_at dksX6_ahead_2 0 rfl rfl)
theorem dX6_ahead_49 : decode cX6_ahead 49 = .ok (.ifCond .le 5, 3) := dk_158 0 5 (dk_at dksX6_ahead_2 3 rfl rfl)
theorem dX6_ahead_52 : decode cX6_ahead 52 = .ok (.iconst 0, 1) := dk_3 (dk_at dksX6_ahead_2 6 rfl rfl)
theorem dX6_ahead_53 : decode cX6_ahead 53 = .ok (.ireturn, 1) := dk_172 (dk_at dksX6_ahead_2 7 rfl rfl)
theorem dX6_ahead_54 : decode cX6_ahead 54 = .ok (.aload_n 0, 1) := dk_42 (dk_at dksX6_ahead_2 8 rfl rfl)
theorem dX6_ahead_55 : decode cX6_ahead 55 = .ok (.invokevirtual 175, 3) := dk_182 0 175 (dk_at dksX6_ahead_2 9 rfl rfl)
theorem dX6_ahead_58 : decode cX6_ahead 58 = .ok (.aload_n 0, 1) := dk_42 (dk_at dksX6_ahead_2 12 rfl rfl)
theorem dX6_ahead_59 : decode cX6_ahead 59 = .ok (.iload_n 2, 1) := dk_28 (dk_at dksX6_ahead_2 13 rfl rfl)
theorem dX6_ahead_60 : decode cX6_ahead 60 = .ok (.iconst 0, 1) := dk_3 (dk_at dksX6_ahead_2 14 rfl rfl)
theorem dX6_ahead_61 : decode cX6_ahead 61 = .ok (.invokevirtual 303, 3) := dk_182 1 47 (dk_at dksX6_ahead_2 15 rfl rfl)
theorem dX6_ahead_64 : decode cX6_ahead 64 = .ok (.istore 4, 2) := dk_54 4 (dk_at dksX6_ahead_2 18 rfl rfl)
theorem dX6_ahead_66 : decode cX6_ahead 66 = .ok (.iload_n 3, 1) := dk_29 (dk_at dksX6_ahead_2 20 rfl rfl)
theorem dX6_ahead_67 : decode cX6_ahead 67 = .ok (.ifCond .ne 12, 3) := dk_154 0 12 (dk_at dksX6_ahead_2 21 rfl rfl)
theorem dX6_ahead_70 : decode cX6_ahead 70 = .ok (.aload_n 0, 1) := dk_42 (dk_at dksX6_ahead_3 0 rfl rfl)
theorem dX6_ahead_71 : decode cX6_ahead 71 = .ok (.iload_n 1, 1) := dk_27 (dk_at dksX6_ahead_3 1 rfl rfl)
theorem dX6_ahead_72 : decode cX6_ahead 72 = .ok (.iconst 0, 1) := dk_3 (dk_at dksX6_ahead_3 2 rfl rfl)
theorem dX6_ahead_73 : decode cX6_ahead 73 = .ok (.invokevirtual 66, 3) := dk_182 0 66 (dk_at dksX6_ahead_3 3 rfl rfl)
theorem dX6_ahead_76 : decode cX6_ahead 76 = .ok (.goto 36, 3) := dk_167 0 36 (dk_at dksX6_ahead_3 6 rfl rfl)
theorem dX6_ahead_79 : decode cX6_ahead 79 = .ok (.iload_n 3, 1) := dk_29 (dk_at dksX6_ahead_3 9 rfl rfl)
theorem dX6_ahead_80 : decode cX6_ahead 80 = .ok (.iconst 1, 1) := dk_4 (dk_at dksX6_ahead_3 10 rfl rfl)
theorem dX6_ahead_81 : decode cX6_ahead 81 = .ok (.if_icmp .ne 12, 3) := dk_160 0 12 (dk_at dksX6_ahead_3 11 rfl rfl)
theorem dX6_ahead_84 : decode cX6_ahead 84 = .ok (.aload_n 0, 1) := dk_42 (dk_at dksX6_ahead_3 14 rfl rfl)
theorem dX6_ahead_85 : decode cX6_ahead 85 = .ok (.iload_n 1, 1) := dk_27 (dk_at dksX6_ahead_3 15 rfl rfl)
theorem dX6_ahead_86 : decode cX6_ahead 86 = .ok (.iconst 2, 1) := dk_5 (dk_at dksX6_ahead_3 16 rfl rfl)
theorem dX6_ahead_87 : decode cX6_ahead 87 = .ok (.invokevirtual 66, 3) := dk_182 0 66 (dk_at dksX6_ahead_3 17 rfl rfl)
theorem dX6_ahead_90 : decode cX6_ahead 90 = .ok (.goto 22, 3) := dk_167 0 22 (dk_at dksX6_ahead_3 20 rfl rfl)
theorem dX6_ahead_93 : decode cX6_ahead 93 = .ok (.iload_n 3, 1) := dk_29 (dk_at dksX6_ahead_3 23 rfl rfl)
theorem dX6_ahead_94 : decode cX6_ahead 94 = .ok (.iconst 2, 1) := dk_5 (dk_at dksX6_ahead_4 0 rfl rfl)
theorem dX6_ahead_95 : decode cX6_ahead 95 = .ok (.if_icmp .ne 12, 3) := dk_160 0 12 (dk_at dksX6_ahead_4 1 rfl rfl)
theorem dX6_ahead_98 : decode cX6_ahead 98 = .ok (.aload_n 0, 1) := dk_42 (dk_at dksX6_ahead_4 4 rfl rfl)
theorem dX6_ahead_99 : decode cX6_ahead 99 = .ok (.iload_n 1, 1) := dk_27 (dk_at dksX6_ahead_4 5 rfl rfl)
theorem dX6_ahead_100 : decode cX6_ahead 100 = .ok (.iconst 4, 1) := dk_7 (dk_at dksX6_ahead_4 6 rfl rfl)
theorem dX6_ahead_101 : decode cX6_ahead 101 = .ok (.invokevirtual 66, 3) := dk_182 0 66 (dk_at dksX6_ahead_4 7 rfl rfl)
theorem dX6_ahead_104 : decode cX6_ahead 104 = .ok (.goto 8, 3) := dk_167 0 8 (dk_at dksX6_ahead_4 10 rfl rfl)
theorem dX6_ahead_107 : decode cX6_ahead 107 = .ok (.aload_n 0, 1) := dk_42 (dk_at dksX6_ahead_4 13 rfl rfl)
theorem dX6_ahead_108 : decode cX6_ahead 108 = .ok (.iload_n 1, 1) := dk_27 (dk_at dksX6_ahead_4 14 rfl rfl)
theorem dX6_ahead_109 : decode cX6_ahead 109 = .ok (.invokevirtual 63, 3) := dk_182 0 63 (dk_at dksX6_ahead_4 15 rfl rfl)
theorem dX6_ahead_112 : decode cX6_ahead 112 = .ok (.istore 5, 2) := dk_54 5 (dk_at dksX6_ahead_4 18 rfl rfl)
theorem dX6_ahead_114 : decode cX6_ahead 114 = .ok (.aload_n 0, 1) := dk_42 (dk_at dksX6_ahead_4 20 rfl rfl)
theorem dX6_ahead_115 : decode cX6_ahead 115 = .ok (.invokevirtual 185, 3) := dk_182 0 185 (dk_at dksX6_ahead_4 21 rfl rfl)
theorem dX6_ahead_118 : decode cX6_ahead 118 = .ok (.iload 5, 2) := dk_21 5 (dk_at dksX6_ahead_5 0 rfl rfl)
theorem dX6_ahead_120 : decode cX6_ahead 120 = .ok (.ireturn, 1) := dk_172 (dk_at dksX6_ahead_5 2 rfl rfl)
abbrev cX6_trial : ByteArray := prog_19_method_106_code
def yX6_trial : MethodName := ⟨RX6, "trial", "(IZ)I"⟩
def dkwX6_trial_2 : List UInt8 := [167, 0, 7, 42, 182, 1, 94, 54, 4, 42, 182, 0, 185, 21, 4, 172]
abbrev dktX6_trial_2 : List UInt8 := dkwX6_trial_2 ++ []
def dkwX6_trial_1 : List UInt8 := [158, 0, 5, 3, 172, 42, 182, 0, 175, 42, 27, 4, 182, 1, 47, 62, 28, 153, 0, 10, 42, 182, 1, 91]
abbrev dktX6_trial_1 : List UInt8 := dkwX6_trial_1 ++ dktX6_trial_2
def dkwX6_trial_0 : List UInt8 := [42, 27, 3, 16, 100, 184, 0, 44, 154, 0, 7, 4, 167, 0, 4, 3, 181, 0, 41, 42, 180, 0, 41]
abbrev dktX6_trial_0 : List UInt8 := dkwX6_trial_0 ++ dktX6_trial_1
theorem dksX6_trial_0 : cX6_trial.data.toList.drop 0 = dktX6_trial_0 := by decide +kernel
theorem dksX6_trial_1 : cX6_trial.data.toList.drop 23 = dktX6_trial_1 := dk_seg dksX6_trial_0 23 rfl rfl
theorem dksX6_trial_2 : cX6_trial.data.toList.drop 47 = dktX6_trial_2 := dk_seg dksX6_trial_1 24 rfl rfl
theorem dX6_trial_0 : decode cX6_trial 0 = .ok (.aload_n 0, 1) := dk_42 (dk_at dksX6_trial_0 0 rfl rfl)
theorem dX6_trial_1 : decode cX6_trial 1 = .ok (.iload_n 1, 1) := dk_27 (dk_at dksX6_trial_0 1 rfl rfl)
theorem dX6_trial_2 : decode cX6_trial 2 = .ok (.iconst 0, 1) := dk_3 (dk_at dksX6_trial_0 2 rfl rfl)
theorem dX6_trial_3 : decode cX6_trial 3 = .ok (.bipush 100, 2) := dk_16 100 (dk_at dksX6_trial_0 3 rfl rfl)
theorem dX6_trial_5 : decode cX6_trial 5 = .ok (.invokestatic 44, 3) := dk_184 0 44 (dk_at dksX6_trial_0 5 rfl rfl)
theorem dX6_trial_8 : decode cX6_trial 8 = .ok (.ifCond .ne 7, 3) := dk_154 0 7 (dk_at dksX6_trial_0 8 rfl rfl)
theorem dX6_trial_11 : decode cX6_trial 11 = .ok (.iconst 1, 1) := dk_4 (dk_at dksX6_trial_0 11 rfl rfl)
theorem dX6_trial_12 : decode cX6_trial 12 = .ok (.goto 4, 3) := dk_167 0 4 (dk_at dksX6_trial_0 12 rfl rfl)
theorem dX6_trial_15 : decode cX6_trial 15 = .ok (.iconst 0, 1) := dk_3 (dk_at dksX6_trial_0 15 rfl rfl)
theorem dX6_trial_16 : decode cX6_trial 16 = .ok (.putfield 41, 3) := dk_181 0 41 (dk_at dksX6_trial_0 16 rfl rfl)
theorem dX6_trial_19 : decode cX6_trial 19 = .ok (.aload_n 0, 1) := dk_42 (dk_at dksX6_trial_0 19 rfl rfl)
theorem dX6_trial_20 : decode cX6_trial 20 = .ok (.getfield 41, 3) := dk_180 0 41 (dk_at dksX6_trial_0 20 rfl rfl)
theorem dX6_trial_23 : decode cX6_trial 23 = .ok (.ifCond .le 5, 3) := dk_158 0 5 (dk_at dksX6_trial_1 0 rfl rfl)
theorem dX6_trial_26 : decode cX6_trial 26 = .ok (.iconst 0, 1) := dk_3 (dk_at dksX6_trial_1 3 rfl rfl)
theorem dX6_trial_27 : decode cX6_trial 27 = .ok (.ireturn, 1) := dk_172 (dk_at dksX6_trial_1 4 rfl rfl)
theorem dX6_trial_28 : decode cX6_trial 28 = .ok (.aload_n 0, 1) := dk_42 (dk_at dksX6_trial_1 5 rfl rfl)
theorem dX6_trial_29 : decode cX6_trial 29 = .ok (.invokevirtual 175, 3) := dk_182 0 175 (dk_at dksX6_trial_1 6 rfl rfl)
theorem dX6_trial_32 : decode cX6_trial 32 = .ok (.aload_n 0, 1) := dk_42 (dk_at dksX6_trial_1 9 rfl rfl)
theorem dX6_trial_33 : decode cX6_trial 33 = .ok (.iload_n 1, 1) := dk_27 (dk_at dksX6_trial_1 10 rfl rfl)
theorem dX6_trial_34 : decode cX6_trial 34 = .ok (.iconst 1, 1) := dk_4 (dk_at dksX6_trial_1 11 rfl rfl)
theorem dX6_trial_35 : decode cX6_trial 35 = .ok (.invokevirtual 303, 3) := dk_182 1 47 (dk_at dksX6_trial_1 12 rfl rfl)
theorem dX6_trial_38 : decode cX6_trial 38 = .ok (.istore_n 3, 1) := dk_62 (dk_at dksX6_trial_1 15 rfl rfl)
theorem dX6_trial_39 : decode cX6_trial 39 = .ok (.iload_n 2, 1) := dk_28 (dk_at dksX6_trial_1 16 rfl rfl)
theorem dX6_trial_40 : decode cX6_trial 40 = .ok (.ifCond .eq 10, 3) := dk_153 0 10 (dk_at dksX6_trial_1 17 rfl rfl)
theorem dX6_trial_43 : decode cX6_trial 43 = .ok (.aload_n 0, 1) := dk_42 (dk_at dksX6_trial_1 20 rfl rfl)
theorem dX6_trial_44 : decode cX6_trial 44 = .ok (.invokevirtual 347, 3) := dk_182 1 91 (dk_at dksX6_trial_1 21 rfl rfl)
theorem dX6_trial_47 : decode cX6_trial 47 = .ok (.goto 7, 3) := dk_167 0 7 (dk_at dksX6_trial_2 0 rfl rfl)
theorem dX6_trial_50 : decode cX6_trial 50 = .ok (.aload_n 0, 1) := dk_42 (dk_at dksX6_trial_2 3 rfl rfl)
theorem dX6_trial_51 : decode cX6_trial 51 = .ok (.invokevirtual 350, 3) := dk_182 1 94 (dk_at dksX6_trial_2 4 rfl rfl)
theorem dX6_trial_54 : decode cX6_trial 54 = .ok (.istore 4, 2) := dk_54 4 (dk_at dksX6_trial_2 7 rfl rfl)
theorem dX6_trial_56 : decode cX6_trial 56 = .ok (.aload_n 0, 1) := dk_42 (dk_at dksX6_trial_2 9 rfl rfl)
theorem dX6_trial_57 : decode cX6_trial 57 = .ok (.invokevirtual 185, 3) := dk_182 0 185 (dk_at dksX6_trial_2 10 rfl rfl)
theorem dX6_trial_60 : decode cX6_trial 60 = .ok (.iload 4, 2) := dk_21 4 (dk_at dksX6_trial_2 13 rfl rfl)
theorem dX6_trial_62 : decode cX6_trial 62 = .ok (.ireturn, 1) := dk_172 (dk_at dksX6_trial_2 15 rfl rfl)
abbrev cX6_hurtOnes : ByteArray := prog_19_method_104_code
def yX6_hurtOnes : MethodName := ⟨RX6, "hurtOnes", "()I"⟩
def dkwX6_hurtOnes_1 : List UInt8 := [160, 0, 9, 4, 28, 120, 167, 0, 4, 3, 128, 60, 132, 2, 1, 167, 255, 223, 27, 172]
abbrev dktX6_hurtOnes_1 : List UInt8 := dkwX6_hurtOnes_1 ++ []
def dkwX6_hurtOnes_0 : List UInt8 := [3, 60, 3, 61, 28, 42, 180, 0, 7, 6, 46, 162, 0, 29, 27, 42, 28, 8, 182, 0, 66, 4]
abbrev dktX6_hurtOnes_0 : List UInt8 := dkwX6_hurtOnes_0 ++ dktX6_hurtOnes_1
theorem dksX6_hurtOnes_0 : cX6_hurtOnes.data.toList.drop 0 = dktX6_hurtOnes_0 := by decide +kernel
theorem dksX6_hurtOnes_1 : cX6_hurtOnes.data.toList.drop 22 = dktX6_hurtOnes_1 := dk_seg dksX6_hurtOnes_0 22 rfl rfl
theorem dX6_hurtOnes_0 : decode cX6_hurtOnes 0 = .ok (.iconst 0, 1) := dk_3 (dk_at dksX6_hurtOnes_0 0 rfl rfl)
theorem dX6_hurtOnes_1 : decode cX6_hurtOnes 1 = .ok (.istore_n 1, 1) := dk_60 (dk_at dksX6_hurtOnes_0 1 rfl rfl)
theorem dX6_hurtOnes_2 : decode cX6_hurtOnes 2 = .ok (.iconst 0, 1) := dk_3 (dk_at dksX6_hurtOnes_0 2 rfl rfl)
theorem dX6_hurtOnes_3 : decode cX6_hurtOnes 3 = .ok (.istore_n 2, 1) := dk_61 (dk_at dksX6_hurtOnes_0 3 rfl rfl)
theorem dX6_hurtOnes_4 : decode cX6_hurtOnes 4 = .ok (.iload_n 2, 1) := dk_28 (dk_at dksX6_hurtOnes_0 4 rfl rfl)
theorem dX6_hurtOnes_5 : decode cX6_hurtOnes 5 = .ok (.aload_n 0, 1) := dk_42 (dk_at dksX6_hurtOnes_0 5 rfl rfl)
theorem dX6_hurtOnes_6 : decode cX6_hurtOnes 6 = .ok (.getfield 7, 3) := dk_180 0 7 (dk_at dksX6_hurtOnes_0 6 rfl rfl)
theorem dX6_hurtOnes_9 : decode cX6_hurtOnes 9 = .ok (.iconst 3, 1) := dk_6 (dk_at dksX6_hurtOnes_0 9 rfl rfl)
theorem dX6_hurtOnes_10 : decode cX6_hurtOnes 10 = .ok (.iaload, 1) := dk_46 (dk_at dksX6_hurtOnes_0 10 rfl rfl)
theorem dX6_hurtOnes_11 : decode cX6_hurtOnes 11 = .ok (.if_icmp .ge 29, 3) := dk_162 0 29 (dk_at dksX6_hurtOnes_0 11 rfl rfl)
theorem dX6_hurtOnes_14 : decode cX6_hurtOnes 14 = .ok (.iload_n 1, 1) := dk_27 (dk_at dksX6_hurtOnes_0 14 rfl rfl)
theorem dX6_hurtOnes_15 : decode cX6_hurtOnes 15 = .ok (.aload_n 0, 1) := dk_42 (dk_at dksX6_hurtOnes_0 15 rfl rfl)
theorem dX6_hurtOnes_16 : decode cX6_hurtOnes 16 = .ok (.iload_n 2, 1) := dk_28 (dk_at dksX6_hurtOnes_0 16 rfl rfl)
theorem dX6_hurtOnes_17 : decode cX6_hurtOnes 17 = .ok (.iconst 5, 1) := dk_8 (dk_at dksX6_hurtOnes_0 17 rfl rfl)
theorem dX6_hurtOnes_18 : decode cX6_hurtOnes 18 = .ok (.invokevirtual 66, 3) := dk_182 0 66 (dk_at dksX6_hurtOnes_0 18 rfl rfl)
theorem dX6_hurtOnes_21 : decode cX6_hurtOnes 21 = .ok (.iconst 1, 1) := dk_4 (dk_at dksX6_hurtOnes_0 21 rfl rfl)
theorem dX6_hurtOnes_22 : decode cX6_hurtOnes 22 = .ok (.if_icmp .ne 9, 3) := dk_160 0 9 (dk_at dksX6_hurtOnes_1 0 rfl rfl)
theorem dX6_hurtOnes_25 : decode cX6_hurtOnes 25 = .ok (.iconst 1, 1) := dk_4 (dk_at dksX6_hurtOnes_1 3 rfl rfl)
theorem dX6_hurtOnes_26 : decode cX6_hurtOnes 26 = .ok (.iload_n 2, 1) := dk_28 (dk_at dksX6_hurtOnes_1 4 rfl rfl)
theorem dX6_hurtOnes_27 : decode cX6_hurtOnes 27 = .ok (.ishl, 1) := dk_120 (dk_at dksX6_hurtOnes_1 5 rfl rfl)
theorem dX6_hurtOnes_28 : decode cX6_hurtOnes 28 = .ok (.goto 4, 3) := dk_167 0 4 (dk_at dksX6_hurtOnes_1 6 rfl rfl)
theorem dX6_hurtOnes_31 : decode cX6_hurtOnes 31 = .ok (.iconst 0, 1) := dk_3 (dk_at dksX6_hurtOnes_1 9 rfl rfl)
theorem dX6_hurtOnes_32 : decode cX6_hurtOnes 32 = .ok (.ior, 1) := dk_128 (dk_at dksX6_hurtOnes_1 10 rfl rfl)
theorem dX6_hurtOnes_33 : decode cX6_hurtOnes 33 = .ok (.istore_n 1, 1) := dk_60 (dk_at dksX6_hurtOnes_1 11 rfl rfl)
theorem dX6_hurtOnes_34 : decode cX6_hurtOnes 34 = .ok (.iinc 2 1, 3) := dk_132 2 1 (dk_at dksX6_hurtOnes_1 12 rfl rfl)
theorem dX6_hurtOnes_37 : decode cX6_hurtOnes 37 = .ok (.goto (-33), 3) := dk_167 255 223 (dk_at dksX6_hurtOnes_1 15 rfl rfl)
theorem dX6_hurtOnes_40 : decode cX6_hurtOnes 40 = .ok (.iload_n 1, 1) := dk_27 (dk_at dksX6_hurtOnes_1 18 rfl rfl)
theorem dX6_hurtOnes_41 : decode cX6_hurtOnes 41 = .ok (.ireturn, 1) := dk_172 (dk_at dksX6_hurtOnes_1 19 rfl rfl)
abbrev cX6_purses : ByteArray := prog_19_method_105_code
def yX6_purses : MethodName := ⟨RX6, "purses", "()I"⟩
def dkwX6_purses_1 : List UInt8 := [132, 2, 1, 167, 255, 234, 27, 172]
abbrev dktX6_purses_1 : List UInt8 := dkwX6_purses_1 ++ []
def dkwX6_purses_0 : List UInt8 := [3, 60, 3, 61, 28, 42, 180, 0, 7, 6, 46, 162, 0, 18, 27, 42, 28, 3, 182, 0, 66, 96, 60]
abbrev dktX6_purses_0 : List UInt8 := dkwX6_purses_0 ++ dktX6_purses_1
theorem dksX6_purses_0 : cX6_purses.data.toList.drop 0 = dktX6_purses_0 := by decide +kernel
theorem dksX6_purses_1 : cX6_purses.data.toList.drop 23 = dktX6_purses_1 := dk_seg dksX6_purses_0 23 rfl rfl
theorem dX6_purses_0 : decode cX6_purses 0 = .ok (.iconst 0, 1) := dk_3 (dk_at dksX6_purses_0 0 rfl rfl)
theorem dX6_purses_1 : decode cX6_purses 1 = .ok (.istore_n 1, 1) := dk_60 (dk_at dksX6_purses_0 1 rfl rfl)
theorem dX6_purses_2 : decode cX6_purses 2 = .ok (.iconst 0, 1) := dk_3 (dk_at dksX6_purses_0 2 rfl rfl)
theorem dX6_purses_3 : decode cX6_purses 3 = .ok (.istore_n 2, 1) := dk_61 (dk_at dksX6_purses_0 3 rfl rfl)
theorem dX6_purses_4 : decode cX6_purses 4 = .ok (.iload_n 2, 1) := dk_28 (dk_at dksX6_purses_0 4 rfl rfl)
theorem dX6_purses_5 : decode cX6_purses 5 = .ok (.aload_n 0, 1) := dk_42 (dk_at dksX6_purses_0 5 rfl rfl)
theorem dX6_purses_6 : decode cX6_purses 6 = .ok (.getfield 7, 3) := dk_180 0 7 (dk_at dksX6_purses_0 6 rfl rfl)
theorem dX6_purses_9 : decode cX6_purses 9 = .ok (.iconst 3, 1) := dk_6 (dk_at dksX6_purses_0 9 rfl rfl)
theorem dX6_purses_10 : decode cX6_purses 10 = .ok (.iaload, 1) := dk_46 (dk_at dksX6_purses_0 10 rfl rfl)
theorem dX6_purses_11 : decode cX6_purses 11 = .ok (.if_icmp .ge 18, 3) := dk_162 0 18 (dk_at dksX6_purses_0 11 rfl rfl)
theorem dX6_purses_14 : decode cX6_purses 14 = .ok (.iload_n 1, 1) := dk_27 (dk_at dksX6_purses_0 14 rfl rfl)
theorem dX6_purses_15 : decode cX6_purses 15 = .ok (.aload_n 0, 1) := dk_42 (dk_at dksX6_purses_0 15 rfl rfl)
theorem dX6_purses_16 : decode cX6_purses 16 = .ok (.iload_n 2, 1) := dk_28 (dk_at dksX6_purses_0 16 rfl rfl)
theorem dX6_purses_17 : decode cX6_purses 17 = .ok (.iconst 0, 1) := dk_3 (dk_at dksX6_purses_0 17 rfl rfl)
theorem dX6_purses_18 : decode cX6_purses 18 = .ok (.invokevirtual 66, 3) := dk_182 0 66 (dk_at dksX6_purses_0 18 rfl rfl)
theorem dX6_purses_21 : decode cX6_purses 21 = .ok (.iadd, 1) := dk_96 (dk_at dksX6_purses_0 21 rfl rfl)
theorem dX6_purses_22 : decode cX6_purses 22 = .ok (.istore_n 1, 1) := dk_60 (dk_at dksX6_purses_0 22 rfl rfl)
theorem dX6_purses_23 : decode cX6_purses 23 = .ok (.iinc 2 1, 3) := dk_132 2 1 (dk_at dksX6_purses_1 0 rfl rfl)
theorem dX6_purses_26 : decode cX6_purses 26 = .ok (.goto (-22), 3) := dk_167 255 234 (dk_at dksX6_purses_1 3 rfl rfl)
theorem dX6_purses_29 : decode cX6_purses 29 = .ok (.iload_n 1, 1) := dk_27 (dk_at dksX6_purses_1 6 rfl rfl)
theorem dX6_purses_30 : decode cX6_purses 30 = .ok (.ireturn, 1) := dk_172 (dk_at dksX6_purses_1 7 rfl rfl)
abbrev cX6_span : ByteArray := prog_19_method_107_code
def yX6_span : MethodName := ⟨RX6, "span", "(IZ)I"⟩
def dkwX6_span_4 : List UInt8 := [184, 0, 251, 167, 0, 9, 29, 21, 6, 184, 1, 2, 62, 132, 4, 1, 167, 255, 186, 29, 172]
abbrev dktX6_span_4 : List UInt8 := dkwX6_span_4 ++ []
def dkwX6_span_3 : List UInt8 := [54, 6, 42, 182, 0, 185, 29, 2, 160, 0, 8, 21, 6, 167, 0, 22, 28, 153, 0, 12, 29, 21, 6]
abbrev dktX6_span_3 : List UInt8 := dkwX6_span_3 ++ dktX6_span_4
def dkwX6_span_2 : List UInt8 := [180, 0, 7, 16, 8, 21, 4, 79, 42, 27, 4, 182, 1, 47, 54, 5, 42, 182, 1, 91, 184, 1, 54]
abbrev dktX6_span_2 : List UInt8 := dkwX6_span_2 ++ dktX6_span_3
def dkwX6_span_1 : List UInt8 := [158, 0, 5, 3, 172, 42, 182, 0, 175, 2, 62, 4, 54, 4, 21, 4, 16, 6, 163, 0, 69, 42]
abbrev dktX6_span_1 : List UInt8 := dkwX6_span_1 ++ dktX6_span_2
def dkwX6_span_0 : List UInt8 := [42, 27, 3, 16, 100, 184, 0, 44, 154, 0, 7, 4, 167, 0, 4, 3, 181, 0, 41, 42, 180, 0, 41]
abbrev dktX6_span_0 : List UInt8 := dkwX6_span_0 ++ dktX6_span_1
theorem dksX6_span_0 : cX6_span.data.toList.drop 0 = dktX6_span_0 := by decide +kernel
theorem dksX6_span_1 : cX6_span.data.toList.drop 23 = dktX6_span_1 := dk_seg dksX6_span_0 23 rfl rfl
theorem dksX6_span_2 : cX6_span.data.toList.drop 45 = dktX6_span_2 := dk_seg dksX6_span_1 22 rfl rfl
theorem dksX6_span_3 : cX6_span.data.toList.drop 68 = dktX6_span_3 := dk_seg dksX6_span_2 23 rfl rfl
theorem dksX6_span_4 : cX6_span.data.toList.drop 91 = dktX6_span_4 := dk_seg dksX6_span_3 23 rfl rfl
theorem dX6_span_0 : decode cX6_span 0 = .ok (.aload_n 0, 1) := dk_42 (dk_at dksX6_span_0 0 rfl rfl)
theorem dX6_span_1 : decode cX6_span 1 = .ok (.iload_n 1, 1) := dk_27 (dk_at dksX6_span_0 1 rfl rfl)
theorem dX6_span_2 : decode cX6_span 2 = .ok (.iconst 0, 1) := dk_3 (dk_at dksX6_span_0 2 rfl rfl)
theorem dX6_span_3 : decode cX6_span 3 = .ok (.bipush 100, 2) := dk_16 100 (dk_at dksX6_span_0 3 rfl rfl)
theorem dX6_span_5 : decode cX6_span 5 = .ok (.invokestatic 44, 3) := dk_184 0 44 (dk_at dksX6_span_0 5 rfl rfl)
theorem dX6_span_8 : decode cX6_span 8 = .ok (.ifCond .ne 7, 3) := dk_154 0 7 (dk_at dksX6_span_0 8 rfl rfl)
theorem dX6_span_11 : decode cX6_span 11 = .ok (.iconst 1, 1) := dk_4 (dk_at dksX6_span_0 11 rfl rfl)
theorem dX6_span_12 : decode cX6_span 12 = .ok (.goto 4, 3) := dk_167 0 4 (dk_at dksX6_span_0 12 rfl rfl)
theorem dX6_span_15 : decode cX6_span 15 = .ok (.iconst 0, 1) := dk_3 (dk_at dksX6_span_0 15 rfl rfl)
theorem dX6_span_16 : decode cX6_span 16 = .ok (.putfield 41, 3) := dk_181 0 41 (dk_at dksX6_span_0 16 rfl rfl)
theorem dX6_span_19 : decode cX6_span 19 = .ok (.aload_n 0, 1) := dk_42 (dk_at dksX6_span_0 19 rfl rfl)
theorem dX6_span_20 : decode cX6_span 20 = .ok (.getfield 41, 3) := dk_180 0 41 (dk_at dksX6_span_0 20 rfl rfl)
theorem dX6_span_23 : decode cX6_span 23 = .ok (.ifCond .le 5, 3) := dk_158 0 5 (dk_at dksX6_span_1 0 rfl rfl)
theorem dX6_span_26 : decode cX6_span 26 = .ok (.iconst 0, 1) := dk_3 (dk_at dksX6_span_1 3 rfl rfl)
theorem dX6_span_27 : decode cX6_span 27 = .ok (.ireturn, 1) := dk_172 (dk_at dksX6_span_1 4 rfl rfl)
theorem dX6_span_28 : decode cX6_span 28 = .ok (.aload_n 0, 1) := dk_42 (dk_at dksX6_span_1 5 rfl rfl)
theorem dX6_span_29 : decode cX6_span 29 = .ok (.invokevirtual 175, 3) := dk_182 0 175 (dk_at dksX6_span_1 6 rfl rfl)
theorem dX6_span_32 : decode cX6_span 32 = .ok (.iconst (-1), 1) := dk_2 (dk_at dksX6_span_1 9 rfl rfl)
theorem dX6_span_33 : decode cX6_span 33 = .ok (.istore_n 3, 1) := dk_62 (dk_at dksX6_span_1 10 rfl rfl)
theorem dX6_span_34 : decode cX6_span 34 = .ok (.iconst 1, 1) := dk_4 (dk_at dksX6_span_1 11 rfl rfl)
theorem dX6_span_35 : decode cX6_span 35 = .ok (.istore 4, 2) := dk_54 4 (dk_at dksX6_span_1 12 rfl rfl)
theorem dX6_span_37 : decode cX6_span 37 = .ok (.iload 4, 2) := dk_21 4 (dk_at dksX6_span_1 14 rfl rfl)
theorem dX6_span_39 : decode cX6_span 39 = .ok (.bipush 6, 2) := dk_16 6 (dk_at dksX6_span_1 16 rfl rfl)
theorem dX6_span_41 : decode cX6_span 41 = .ok (.if_icmp .gt 69, 3) := dk_163 0 69 (dk_at dksX6_span_1 18 rfl rfl)
theorem dX6_span_44 : decode cX6_span 44 = .ok (.aload_n 0, 1) := dk_42 (dk_at dksX6_span_1 21 rfl rfl)
theorem dX6_span_45 : decode cX6_span 45 = .ok (.getfield 7, 3) := dk_180 0 7 (dk_at dksX6_span_2 0 rfl rfl)
theorem dX6_span_48 : decode cX6_span 48 = .ok (.bipush 8, 2) := dk_16 8 (dk_at dksX6_span_2 3 rfl rfl)
theorem dX6_span_50 : decode cX6_span 50 = .ok (.iload 4, 2) := dk_21 4 (dk_at dksX6_span_2 5 rfl rfl)
theorem dX6_span_52 : decode cX6_span 52 = .ok (.iastore, 1) := dk_79 (dk_at dksX6_span_2 7 rfl rfl)
theorem dX6_span_53 : decode cX6_span 53 = .ok (.aload_n 0, 1) := dk_42 (dk_at dksX6_span_2 8 rfl rfl)
theorem dX6_span_54 : decode cX6_span 54 = .ok (.iload_n 1, 1) := dk_27 (dk_at dksX6_span_2 9 rfl rfl)
theorem dX6_span_55 : decode cX6_span 55 = .ok (.iconst 1, 1) := dk_4 (dk_at dksX6_span_2 10 rfl rfl)
theorem dX6_span_56 : decode cX6_span 56 = .ok (.invokevirtual 303, 3) := dk_182 1 47 (dk_at dksX6_span_2 11 rfl rfl)
theorem dX6_span_59 : decode cX6_span 59 = .ok (.istore 5, 2) := dk_54 5 (dk_at dksX6_span_2 14 rfl rfl)
theorem dX6_span_61 : decode cX6_span 61 = .ok (.aload_n 0, 1) := dk_42 (dk_at dksX6_span_2 16 rfl rfl)
theorem dX6_span_62 : decode cX6_span 62 = .ok (.invokevirtual 347, 3) := dk_182 1 91 (dk_at dksX6_span_2 17 rfl rfl)
theorem dX6_span_65 : decode cX6_span 65 = .ok (.invokestatic 310, 3) := dk_184 1 54 (dk_at dksX6_span_2 20 rfl rfl)
theorem dX6_span_68 : decode cX6_span 68 = .ok (.istore 6, 2) := dk_54 6 (dk_at dksX6_span_3 0 rfl rfl)
theorem dX6_span_70 : decode cX6_span 70 = .ok (.aload_n 0, 1) := dk_42 (dk_at dksX6_span_3 2 rfl rfl)
theorem dX6_span_71 : decode cX6_span 71 = .ok (.invokevirtual 185, 3) := dk_182 0 185 (dk_at dksX6_span_3 3 rfl rfl)
theorem dX6_span_74 : decode cX6_span 74 = .ok (.iload_n 3, 1) := dk_29 (dk_at dksX6_span_3 6 rfl rfl)
theorem dX6_span_75 : decode cX6_span 75 = .ok (.iconst (-1), 1) := dk_2 (dk_at dksX6_span_3 7 rfl rfl)
theorem dX6_span_76 : decode cX6_span 76 = .ok (.if_icmp .ne 8, 3) := dk_160 0 8 (dk_at dksX6_span_3 8 rfl rfl)
theorem dX6_span_79 : decode cX6_span 79 = .ok (.iload 6, 2) := dk_21 6 (dk_at dksX6_span_3 11 rfl rfl)
theorem dX6_span_81 : decode cX6_span 81 = .ok (.goto 22, 3) := dk_167 0 22 (dk_at dksX6_span_3 13 rfl rfl)
theorem dX6_span_84 : decode cX6_span 84 = .ok (.iload_n 2, 1) := dk_28 (dk_at dksX6_span_3 16 rfl rfl)
theorem dX6_span_85 : decode cX6_span 85 = .ok (.ifCond .eq 12, 3) := dk_153 0 12 (dk_at dksX6_span_3 17 rfl rfl)
theorem dX6_span_88 : decode cX6_span 88 = .ok (.iload_n 3, 1) := dk_29 (dk_at dksX6_span_3 20 rfl rfl)
theorem dX6_span_89 : decode cX6_span 89 = .ok (.iload 6, 2) := dk_21 6 (dk_at dksX6_span_3 21 rfl rfl)
theorem dX6_span_91 : decode cX6_span 91 = .ok (.invokestatic 251, 3) := dk_184 0 251 (dk_at dksX6_span_4 0 rfl rfl)
theorem dX6_span_94 : decode cX6_span 94 = .ok (.goto 9, 3) := dk_167 0 9 (dk_at dksX6_span_4 3 rfl rfl)
theorem dX6_span_97 : decode cX6_span 97 = .ok (.iload_n 3, 1) := dk_29 (dk_at dksX6_span_4 6 rfl rfl)
theorem dX6_span_98 : decode cX6_span 98 = .ok (.iload 6, 2) := dk_21 6 (dk_at dksX6_span_4 7 rfl rfl)
theorem dX6_span_100 : decode cX6_span 100 = .ok (.invokestatic 258, 3) := dk_184 1 2 (dk_at dksX6_span_4 9 rfl rfl)
theorem dX6_span_103 : decode cX6_span 103 = .ok (.istore_n 3, 1) := dk_62 (dk_at dksX6_span_4 12 rfl rfl)
theorem dX6_span_104 : decode cX6_span 104 = .ok (.iinc 4 1, 3) := dk_132 4 1 (dk_at dksX6_span_4 13 rfl rfl)
theorem dX6_span_107 : decode cX6_span 107 = .ok (.goto (-70), 3) := dk_167 255 186 (dk_at dksX6_span_4 16 rfl rfl)
theorem dX6_span_110 : decode cX6_span 110 = .ok (.iload_n 3, 1) := dk_29 (dk_at dksX6_span_4 19 rfl rfl)
theorem dX6_span_111 : decode cX6_span 111 = .ok (.ireturn, 1) := dk_172 (dk_at dksX6_span_4 20 rfl rfl)
abbrev cX6_led : ByteArray := prog_19_method_109_code
def yX6_led : MethodName := ⟨RX6, "led", "(IZ)I"⟩
def dkwX6_led_3 : List UInt8 := [54, 4, 132, 5, 255, 167, 255, 222, 28, 153, 0, 8, 21, 4, 167, 0, 4, 29, 172]
abbrev dktX6_led_3 : List UInt8 := dkwX6_led_3 ++ []
def dkwX6_led_2 : List UInt8 := [21, 5, 4, 182, 1, 97, 27, 159, 0, 6, 167, 0, 15, 132, 3, 1, 42, 21, 5, 3, 182, 1, 97]
abbrev dktX6_led_2 : List UInt8 := dkwX6_led_2 ++ dktX6_led_3
def dkwX6_led_1 : List UInt8 := [3, 172, 3, 62, 2, 54, 4, 42, 180, 0, 7, 16, 7, 46, 4, 100, 54, 5, 21, 5, 155, 0, 35, 42]
abbrev dktX6_led_1 : List UInt8 := dkwX6_led_1 ++ dktX6_led_2
def dkwX6_led_0 : List UInt8 := [42, 42, 27, 182, 1, 26, 154, 0, 7, 4, 167, 0, 4, 3, 181, 0, 41, 42, 180, 0, 41, 158, 0, 5]
abbrev dktX6_led_0 : List UInt8 := dkwX6_led_0 ++ dktX6_led_1
theorem dksX6_led_0 : cX6_led.data.toList.drop 0 = dktX6_led_0 := by decide +kernel
theorem dksX6_led_1 : cX6_led.data.toList.drop 24 = dktX6_led_1 := dk_seg dksX6_led_0 24 rfl rfl
theorem dksX6_led_2 : cX6_led.data.toList.drop 48 = dktX6_led_2 := dk_seg dksX6_led_1 24 rfl rfl
theorem dksX6_led_3 : cX6_led.data.toList.drop 71 = dktX6_led_3 := dk_seg dksX6_led_2 23 rfl rfl
theorem dX6_led_0 : decode cX6_led 0 = .ok (.aload_n 0, 1) := dk_42 (dk_at dksX6_led_0 0 rfl rfl)
theorem dX6_led_1 : decode cX6_led 1 = .ok (.aload_n 0, 1) := dk_42 (dk_at dksX6_led_0 1 rfl rfl)
theorem dX6_led_2 : decode cX6_led 2 = .ok (.iload_n 1, 1) := dk_27 (dk_at dksX6_led_0 2 rfl rfl)
theorem dX6_led_3 : decode cX6_led 3 = .ok (.invokevirtual 282, 3) := dk_182 1 26 (dk_at dksX6_led_0 3 rfl rfl)
theorem dX6_led_6 : decode cX6_led 6 = .ok (.ifCond .ne 7, 3) := dk_154 0 7 (dk_at dksX6_led_0 6 rfl rfl)
theorem dX6_led_9 : decode cX6_led 9 = .ok (.iconst 1, 1) := dk_4 (dk_at dksX6_led_0 9 rfl rfl)
theorem dX6_led_10 : decode cX6_led 10 = .ok (.goto 4, 3) := dk_167 0 4 (dk_at dksX6_led_0 10 rfl rfl)
theorem dX6_led_13 : decode cX6_led 13 = .ok (.iconst 0, 1) := dk_3 (dk_at dksX6_led_0 13 rfl rfl)
theorem dX6_led_14 : decode cX6_led 14 = .ok (.putfield 41, 3) := dk_181 0 41 (dk_at dksX6_led_0 14 rfl rfl)
theorem dX6_led_17 : decode cX6_led 17 = .ok (.aload_n 0, 1) := dk_42 (dk_at dksX6_led_0 17 rfl rfl)
theorem dX6_led_18 : decode cX6_led 18 = .ok (.getfield 41, 3) := dk_180 0 41 (dk_at dksX6_led_0 18 rfl rfl)
theorem dX6_led_21 : decode cX6_led 21 = .ok (.ifCond .le 5, 3) := dk_158 0 5 (dk_at dksX6_led_0 21 rfl rfl)
theorem dX6_led_24 : decode cX6_led 24 = .ok (.iconst 0, 1) := dk_3 (dk_at dksX6_led_1 0 rfl rfl)
theorem dX6_led_25 : decode cX6_led 25 = .ok (.ireturn, 1) := dk_172 (dk_at dksX6_led_1 1 rfl rfl)
theorem dX6_led_26 : decode cX6_led 26 = .ok (.iconst 0, 1) := dk_3 (dk_at dksX6_led_1 2 rfl rfl)
theorem dX6_led_27 : decode cX6_led 27 = .ok (.istore_n 3, 1) := dk_62 (dk_at dksX6_led_1 3 rfl rfl)
theorem dX6_led_28 : decode cX6_led 28 = .ok (.iconst (-1), 1) := dk_2 (dk_at dksX6_led_1 4 rfl rfl)
theorem dX6_led_29 : decode cX6_led 29 = .ok (.istore 4, 2) := dk_54 4 (dk_at dksX6_led_1 5 rfl rfl)
theorem dX6_led_31 : decode cX6_led 31 = .ok (.aload_n 0, 1) := dk_42 (dk_at dksX6_led_1 7 rfl rfl)
theorem dX6_led_32 : decode cX6_led 32 = .ok (.getfield 7, 3) := dk_180 0 7 (dk_at dksX6_led_1 8 rfl rfl)
theorem dX6_led_35 : decode cX6_led 35 = .ok (.bipush 7, 2) := dk_16 7 (dk_at dksX6_led_1 11 rfl rfl)
theorem dX6_led_37 : decode cX6_led 37 = .ok (.iaload, 1) := dk_46 (dk_at dksX6_led_1 13 rfl rfl)
theorem dX6_led_38 : decode cX6_led 38 = .ok (.iconst 1, 1) := dk_4 (dk_at dksX6_led_1 14 rfl rfl)
theorem dX6_led_39 : decode cX6_led 39 = .ok (.isub, 1) := dk_100 (dk_at dksX6_led_1 15 rfl rfl)
theorem dX6_led_40 : decode cX6_led 40 = .ok (.istore 5, 2) := dk_54 5 (dk_at dksX6_led_1 16 rfl rfl)
theorem dX6_led_42 : decode cX6_led 42 = .ok (.iload 5, 2) := dk_21 5 (dk_at dksX6_led_1 18 rfl rfl)
theorem dX6_led_44 : decode cX6_led 44 = .ok (.ifCond .lt 35, 3) := dk_155 0 35 (dk_at dksX6_led_1 20 rfl rfl)
theorem dX6_led_47 : decode cX6_led 47 = .ok (.aload_n 0, 1) := dk_42 (dk_at dksX6_led_1 23 rfl rfl)
theorem dX6_led_48 : decode cX6_led 48 = .ok (.iload 5, 2) := dk_21 5 (dk_at dksX6_led_2 0 rfl rfl)
theorem dX6_led_50 : decode cX6_led 50 = .ok (.iconst 1, 1) := dk_4 (dk_at dksX6_led_2 2 rfl rfl)
theorem dX6_led_51 : decode cX6_led 51 = .ok (.invokevirtual 353, 3) := dk_182 1 97 (dk_at dksX6_led_2 3 rfl rfl)
theorem dX6_led_54 : decode cX6_led 54 = .ok (.iload_n 1, 1) := dk_27 (dk_at dksX6_led_2 6 rfl rfl)
theorem dX6_led_55 : decode cX6_led 55 = .ok (.if_icmp .eq 6, 3) := dk_159 0 6 (dk_at dksX6_led_2 7 rfl rfl)
theorem dX6_led_58 : decode cX6_led 58 = .ok (.goto 15, 3) := dk_167 0 15 (dk_at dksX6_led_2 10 rfl rfl)
theorem dX6_led_61 : decode cX6_led 61 = .ok (.iinc 3 1, 3) := dk_132 3 1 (dk_at dksX6_led_2 13 rfl rfl)
theorem dX6_led_64 : decode cX6_led 64 = .ok (.aload_n 0, 1) := dk_42 (dk_at dksX6_led_2 16 rfl rfl)
theorem dX6_led_65 : decode cX6_led 65 = .ok (.iload 5, 2) := dk_21 5 (dk_at dksX6_led_2 17 rfl rfl)
theorem dX6_led_67 : decode cX6_led 67 = .ok (.iconst 0, 1) := dk_3 (dk_at dksX6_led_2 19 rfl rfl)
theorem dX6_led_68 : decode cX6_led 68 = .ok (.invokevirtual 353, 3) := dk_182 1 97 (dk_at dksX6_led_2 20 rfl rfl)
theorem dX6_led_71 : decode cX6_led 71 = .ok (.istore 4, 2) := dk_54 4 (dk_at dksX6_led_3 0 rfl rfl)
theorem dX6_led_73 : decode cX6_led 73 = .ok (.iinc 5 (-1), 3) := dk_132 5 255 (dk_at dksX6_led_3 2 rfl rfl)
theorem dX6_led_76 : decode cX6_led 76 = .ok (.goto (-34), 3) := dk_167 255 222 (dk_at dksX6_led_3 5 rfl rfl)
theorem dX6_led_79 : decode cX6_led 79 = .ok (.iload_n 2, 1) := dk_28 (dk_at dksX6_led_3 8 rfl rfl)
theorem dX6_led_80 : decode cX6_led 80 = .ok (.ifCond .eq 8, 3) := dk_153 0 8 (dk_at dksX6_led_3 9 rfl rfl)
theorem dX6_led_83 : decode cX6_led 83 = .ok (.iload 4, 2) := dk_21 4 (dk_at dksX6_led_3 12 rfl rfl)
theorem dX6_led_85 : decode cX6_led 85 = .ok (.goto 4, 3) := dk_167 0 4 (dk_at dksX6_led_3 14 rfl rfl)
theorem dX6_led_88 : decode cX6_led 88 = .ok (.iload_n 3, 1) := dk_29 (dk_at dksX6_led_3 17 rfl rfl)
theorem dX6_led_89 : decode cX6_led 89 = .ok (.ireturn, 1) := dk_172 (dk_at dksX6_led_3 18 rfl rfl)
abbrev cX6_logged : ByteArray := prog_19_method_108_code
def yX6_logged : MethodName := ⟨RX6, "logged", "(II)I"⟩
def dkwX6_logged_0 : List UInt8 := [42, 180, 0, 7, 17, 0, 129, 7, 27, 104, 96, 28, 96, 46, 172]
abbrev dktX6_logged_0 : List UInt8 := dkwX6_logged_0 ++ []
theorem dksX6_logged_0 : cX6_logged.data.toList.drop 0 = dktX6_logged_0 := by decide +kernel
theorem dX6_logged_0 : decode cX6_logged 0 = .ok (.aload_n 0, 1) := dk_42 (dk_at dksX6_logged_0 0 rfl rfl)
theorem dX6_logged_1 : decode cX6_logged 1 = .ok (.getfield 7, 3) := dk_180 0 7 (dk_at dksX6_logged_0 1 rfl rfl)
theorem dX6_logged_4 : decode cX6_logged 4 = .ok (.sipush 129, 3) := dk_17 0 129 (dk_at dksX6_logged_0 4 rfl rfl)
theorem dX6_logged_7 : decode cX6_logged 7 = .ok (.iconst 4, 1) := dk_7 (dk_at dksX6_logged_0 7 rfl rfl)
theorem dX6_logged_8 : decode cX6_logged 8 = .ok (.iload_n 1, 1) := dk_27 (dk_at dksX6_logged_0 8 rfl rfl)
theorem dX6_logged_9 : decode cX6_logged 9 = .ok (.imul, 1) := dk_104 (dk_at dksX6_logged_0 9 rfl rfl)
theorem dX6_logged_10 : decode cX6_logged 10 = .ok (.iadd, 1) := dk_96 (dk_at dksX6_logged_0 10 rfl rfl)
theorem dX6_logged_11 : decode cX6_logged 11 = .ok (.iload_n 2, 1) := dk_28 (dk_at dksX6_logged_0 11 rfl rfl)
theorem dX6_logged_12 : decode cX6_logged 12 = .ok (.iadd, 1) := dk_96 (dk_at dksX6_logged_0 12 rfl rfl)
theorem dX6_logged_13 : decode cX6_logged 13 = .ok (.iaload, 1) := dk_46 (dk_at dksX6_logged_0 13 rfl rfl)
theorem dX6_logged_14 : decode cX6_logged 14 = .ok (.ireturn, 1) := dk_172 (dk_at dksX6_logged_0 14 rfl rfl)
abbrev cX6_log : ByteArray := prog_19_method_110_code
def yX6_log : MethodName := ⟨RX6, "log", "(II)I"⟩
def dkwX6_log_2 : List UInt8 := [28, 182, 1, 97, 167, 0, 4, 2, 172]
abbrev dktX6_log_2 : List UInt8 := dkwX6_log_2 ++ []
def dkwX6_log_1 : List UInt8 := [158, 0, 5, 3, 172, 27, 3, 42, 180, 0, 7, 16, 7, 46, 4, 100, 184, 0, 44, 153, 0, 12, 42, 27]
abbrev dktX6_log_1 : List UInt8 := dkwX6_log_1 ++ dktX6_log_2
def dkwX6_log_0 : List UInt8 := [42, 28, 3, 6, 184, 0, 44, 154, 0, 7, 4, 167, 0, 4, 3, 181, 0, 41, 42, 180, 0, 41]
abbrev dktX6_log_0 : List UInt8 := dkwX6_log_0 ++ dktX6_log_1
theorem dksX6_log_0 : cX6_log.data.toList.drop 0 = dktX6_log_0 := by decide +kernel
theorem dksX6_log_1 : cX6_log.data.toList.drop 22 = dktX6_log_1 := dk_seg dksX6_log_0 22 rfl rfl
theorem dksX6_log_2 : cX6_log.data.toList.drop 46 = dktX6_log_2 := dk_seg dksX6_log_1 24 rfl rfl
theorem dX6_log_0 : decode cX6_log 0 = .ok (.aload_n 0, 1) := dk_42 (dk_at dksX6_log_0 0 rfl rfl)
theorem dX6_log_1 : decode cX6_log 1 = .ok (.iload_n 2, 1) := dk_28 (dk_at dksX6_log_0 1 rfl rfl)
theorem dX6_log_2 : decode cX6_log 2 = .ok (.iconst 0, 1) := dk_3 (dk_at dksX6_log_0 2 rfl rfl)
theorem dX6_log_3 : decode cX6_log 3 = .ok (.iconst 3, 1) := dk_6 (dk_at dksX6_log_0 3 rfl rfl)
theorem dX6_log_4 : decode cX6_log 4 = .ok (.invokestatic 44, 3) := dk_184 0 44 (dk_at dksX6_log_0 4 rfl rfl)
theorem dX6_log_7 : decode cX6_log 7 = .ok (.ifCond .ne 7, 3) := dk_154 0 7 (dk_at dksX6_log_0 7 rfl rfl)
theorem dX6_log_10 : decode cX6_log 10 = .ok (.iconst 1, 1) := dk_4 (dk_at dksX6_log_0 10 rfl rfl)
theorem dX6_log_11 : decode cX6_log 11 = .ok (.goto 4, 3) := dk_167 0 4 (dk_at dksX6_log_0 11 rfl rfl)
theorem dX6_log_14 : decode cX6_log 14 = .ok (.iconst 0, 1) := dk_3 (dk_at dksX6_log_0 14 rfl rfl)
theorem dX6_log_15 : decode cX6_log 15 = .ok (.putfield 41, 3) := dk_181 0 41 (dk_at dksX6_log_0 15 rfl rfl)
theorem dX6_log_18 : decode cX6_log 18 = .ok (.aload_n 0, 1) := dk_42 (dk_at dksX6_log_0 18 rfl rfl)
theorem dX6_log_19 : decode cX6_log 19 = .ok (.getfield 41, 3) := dk_180 0 41 (dk_at dksX6_log_0 19 rfl rfl)
theorem dX6_log_22 : decode cX6_log 22 = .ok (.ifCond .le 5, 3) := dk_158 0 5 (dk_at dksX6_log_1 0 rfl rfl)
theorem dX6_log_25 : decode cX6_log 25 = .ok (.iconst 0, 1) := dk_3 (dk_at dksX6_log_1 3 rfl rfl)
theorem dX6_log_26 : decode cX6_log 26 = .ok (.ireturn, 1) := dk_172 (dk_at dksX6_log_1 4 rfl rfl)
theorem dX6_log_27 : decode cX6_log 27 = .ok (.iload_n 1, 1) := dk_27 (dk_at dksX6_log_1 5 rfl rfl)
theorem dX6_log_28 : decode cX6_log 28 = .ok (.iconst 0, 1) := dk_3 (dk_at dksX6_log_1 6 rfl rfl)
theorem dX6_log_29 : decode cX6_log 29 = .ok (.aload_n 0, 1) := dk_42 (dk_at dksX6_log_1 7 rfl rfl)
theorem dX6_log_30 : decode cX6_log 30 = .ok (.getfield 7, 3) := dk_180 0 7 (dk_at dksX6_log_1 8 rfl rfl)
theorem dX6_log_33 : decode cX6_log 33 = .ok (.bipush 7, 2) := dk_16 7 (dk_at dksX6_log_1 11 rfl rfl)
theorem dX6_log_35 : decode cX6_log 35 = .ok (.iaload, 1) := dk_46 (dk_at dksX6_log_1 13 rfl rfl)
theorem dX6_log_36 : decode cX6_log 36 = .ok (.iconst 1, 1) := dk_4 (dk_at dksX6_log_1 14 rfl rfl)
theorem dX6_log_37 : decode cX6_log 37 = .ok (.isub, 1) := dk_100 (dk_at dksX6_log_1 15 rfl rfl)
theorem dX6_log_38 : decode cX6_log 38 = .ok (.invokestatic 44, 3) := dk_184 0 44 (dk_at dksX6_log_1 16 rfl rfl)
theorem dX6_log_41 : decode cX6_log 41 = .ok (.ifCond .eq 12, 3) := dk_153 0 12 (dk_at dksX6_log_1 19 rfl rfl)
theorem dX6_log_44 : decode cX6_log 44 = .ok (.aload_n 0, 1) := dk_42 (dk_at dksX6_log_1 22 rfl rfl)
theorem dX6_log_45 : decode cX6_log 45 = .ok (.iload_n 1, 1) := dk_27 (dk_at dksX6_log_1 23 rfl rfl)
theorem dX6_log_46 : decode cX6_log 46 = .ok (.iload_n 2, 1) := dk_28 (dk_at dksX6_log_2 0 rfl rfl)
theorem dX6_log_47 : decode cX6_log 47 = .ok (.invokevirtual 353, 3) := dk_182 1 97 (dk_at dksX6_log_2 1 rfl rfl)
theorem dX6_log_50 : decode cX6_log 50 = .ok (.goto 4, 3) := dk_167 0 4 (dk_at dksX6_log_2 4 rfl rfl)
theorem dX6_log_53 : decode cX6_log 53 = .ok (.iconst (-1), 1) := dk_2 (dk_at dksX6_log_2 7 rfl rfl)
theorem dX6_log_54 : decode cX6_log 54 = .ok (.ireturn, 1) := dk_172 (dk_at dksX6_log_2 8 rfl rfl)
abbrev cX6_seed : ByteArray := prog_19_method_111_code
def yX6_seed : MethodName := ⟨RX6, "seed", "(I)I"⟩
def dkwX6_seed_0 : List UInt8 := [42, 3, 181, 0, 41, 42, 180, 0, 7, 16, 8, 46, 61, 42, 180, 0, 7, 16, 8, 27, 79, 28, 172]
abbrev dktX6_seed_0 : List UInt8 := dkwX6_seed_0 ++ []
theorem dksX6_seed_0 : cX6_seed.data.toList.drop 0 = dktX6_seed_0 := by decide +kernel
theorem dX6_seed_0 : decode cX6_seed 0 = .ok (.aload_n 0, 1) := dk_42 (dk_at dksX6_seed_0 0 rfl rfl)
theorem dX6_seed_1 : decode cX6_seed 1 = .ok (.iconst 0, 1) := dk_3 (dk_at dksX6_seed_0 1 rfl rfl)
theorem dX6_seed_2 : decode cX6_seed 2 = .ok (.putfield 41, 3) := dk_181 0 41 (dk_at dksX6_seed_0 2 rfl rfl)
theorem dX6_seed_5 : decode cX6_seed 5 = .ok (.aload_n 0, 1) := dk_42 (dk_at dksX6_seed_0 5 rfl rfl)
theorem dX6_seed_6 : decode cX6_seed 6 = .ok (.getfield 7, 3) := dk_180 0 7 (dk_at dksX6_seed_0 6 rfl rfl)
theorem dX6_seed_9 : decode cX6_seed 9 = .ok (.bipush 8, 2) := dk_16 8 (dk_at dksX6_seed_0 9 rfl rfl)
theorem dX6_seed_11 : decode cX6_seed 11 = .ok (.iaload, 1) := dk_46 (dk_at dksX6_seed_0 11 rfl rfl)
theorem dX6_seed_12 : decode cX6_seed 12 = .ok (.istore_n 2, 1) := dk_61 (dk_at dksX6_seed_0 12 rfl rfl)
theorem dX6_seed_13 : decode cX6_seed 13 = .ok (.aload_n 0, 1) := dk_42 (dk_at dksX6_seed_0 13 rfl rfl)
theorem dX6_seed_14 : decode cX6_seed 14 = .ok (.getfield 7, 3) := dk_180 0 7 (dk_at dksX6_seed_0 14 rfl rfl)
theorem dX6_seed_17 : decode cX6_seed 17 = .ok (.bipush 8, 2) := dk_16 8 (dk_at dksX6_seed_0 17 rfl rfl)
theorem dX6_seed_19 : decode cX6_seed 19 = .ok (.iload_n 1, 1) := dk_27 (dk_at dksX6_seed_0 19 rfl rfl)
theorem dX6_seed_20 : decode cX6_seed 20 = .ok (.iastore, 1) := dk_79 (dk_at dksX6_seed_0 20 rfl rfl)
theorem dX6_seed_21 : decode cX6_seed 21 = .ok (.iload_n 2, 1) := dk_28 (dk_at dksX6_seed_0 21 rfl rfl)
theorem dX6_seed_22 : decode cX6_seed 22 = .ok (.ireturn, 1) := dk_172 (dk_at dksX6_seed_0 22 rfl rfl)
abbrev cX6_undo : ByteArray := prog_19_method_112_code
def yX6_undo : MethodName := ⟨RX6, "undo", "()Z"⟩
def dkwX6_undo_2 : List UInt8 := [180, 0, 188, 104, 27, 96, 46, 79, 132, 1, 1, 167, 255, 225, 4, 172]
abbrev dktX6_undo_2 : List UInt8 := dkwX6_undo_2 ++ []
def dkwX6_undo_1 : List UInt8 := [3, 60, 27, 17, 1, 113, 162, 0, 30, 42, 180, 0, 7, 27, 42, 180, 0, 19, 17, 1, 113, 42]
abbrev dktX6_undo_1 : List UInt8 := dkwX6_undo_1 ++ dktX6_undo_2
def dkwX6_undo_0 : List UInt8 := [42, 3, 181, 0, 41, 42, 180, 0, 188, 154, 0, 5, 3, 172, 42, 89, 180, 0, 188, 4, 100, 181, 0, 188]
abbrev dktX6_undo_0 : List UInt8 := dkwX6_undo_0 ++ dktX6_undo_1
theorem dksX6_undo_0 : cX6_undo.data.toList.drop 0 = dktX6_undo_0 := by decide +kernel
theorem dksX6_undo_1 : cX6_undo.data.toList.drop 24 = dktX6_undo_1 := dk_seg dksX6_undo_0 24 rfl rfl
theorem dksX6_undo_2 : cX6_undo.data.toList.drop 46 = dktX6_undo_2 := dk_seg dksX6_undo_1 22 rfl rfl
theorem dX6_undo_0 : decode cX6_undo 0 = .ok (.aload_n 0, 1) := dk_42 (dk_at dksX6_undo_0 0 rfl rfl)
theorem dX6_undo_1 : decode cX6_undo 1 = .ok (.iconst 0, 1) := dk_3 (dk_at dksX6_undo_0 1 rfl rfl)
theorem dX6_undo_2 : decode cX6_undo 2 = .ok (.putfield 41, 3) := dk_181 0 41 (dk_at dksX6_undo_0 2 rfl rfl)
theorem dX6_undo_5 : decode cX6_undo 5 = .ok (.aload_n 0, 1) := dk_42 (dk_at dksX6_undo_0 5 rfl rfl)
theorem dX6_undo_6 : decode cX6_undo 6 = .ok (.getfield 188, 3) := dk_180 0 188 (dk_at dksX6_undo_0 6 rfl rfl)
theorem dX6_undo_9 : decode cX6_undo 9 = .ok (.ifCond .ne 5, 3) := dk_154 0 5 (dk_at dksX6_undo_0 9 rfl rfl)
theorem dX6_undo_12 : decode cX6_undo 12 = .ok (.iconst 0, 1) := dk_3 (dk_at dksX6_undo_0 12 rfl rfl)
theorem dX6_undo_13 : decode cX6_undo 13 = .ok (.ireturn, 1) := dk_172 (dk_at dksX6_undo_0 13 rfl rfl)
theorem dX6_undo_14 : decode cX6_undo 14 = .ok (.aload_n 0, 1) := dk_42 (dk_at dksX6_undo_0 14 rfl rfl)
theorem dX6_undo_15 : decode cX6_undo 15 = .ok (.dup, 1) := dk_89 (dk_at dksX6_undo_0 15 rfl rfl)
theorem dX6_undo_16 : decode cX6_undo 16 = .ok (.getfield 188, 3) := dk_180 0 188 (dk_at dksX6_undo_0 16 rfl rfl)
theorem dX6_undo_19 : decode cX6_undo 19 = .ok (.iconst 1, 1) := dk_4 (dk_at dksX6_undo_0 19 rfl rfl)
theorem dX6_undo_20 : decode cX6_undo 20 = .ok (.isub, 1) := dk_100 (dk_at dksX6_undo_0 20 rfl rfl)
theorem dX6_undo_21 : decode cX6_undo 21 = .ok (.putfield 188, 3) := dk_181 0 188 (dk_at dksX6_undo_0 21 rfl rfl)
theorem dX6_undo_24 : decode cX6_undo 24 = .ok (.iconst 0, 1) := dk_3 (dk_at dksX6_undo_1 0 rfl rfl)
theorem dX6_undo_25 : decode cX6_undo 25 = .ok (.istore_n 1, 1) := dk_60 (dk_at dksX6_undo_1 1 rfl rfl)
theorem dX6_undo_26 : decode cX6_undo 26 = .ok (.iload_n 1, 1) := dk_27 (dk_at dksX6_undo_1 2 rfl rfl)
theorem dX6_undo_27 : decode cX6_undo 27 = .ok (.sipush 369, 3) := dk_17 1 113 (dk_at dksX6_undo_1 3 rfl rfl)
theorem dX6_undo_30 : decode cX6_undo 30 = .ok (.if_icmp .ge 30, 3) := dk_162 0 30 (dk_at dksX6_undo_1 6 rfl rfl)
theorem dX6_undo_33 : decode cX6_undo 33 = .ok (.aload_n 0, 1) := dk_42 (dk_at dksX6_undo_1 9 rfl rfl)
theorem dX6_undo_34 : decode cX6_undo 34 = .ok (.getfield 7, 3) := dk_180 0 7 (dk_at dksX6_undo_1 10 rfl rfl)
theorem dX6_undo_37 : decode cX6_undo 37 = .ok (.iload_n 1, 1) := dk_27 (dk_at dksX6_undo_1 13 rfl rfl)
theorem dX6_undo_38 : decode cX6_undo 38 = .ok (.aload_n 0, 1) := dk_42 (dk_at dksX6_undo_1 14 rfl rfl)
theorem dX6_undo_39 : decode cX6_undo 39 = .ok (.getfield 19, 3) := dk_180 0 19 (dk_at dksX6_undo_1 15 rfl rfl)
theorem dX6_undo_42 : decode cX6_undo 42 = .ok (.sipush 369, 3) := dk_17 1 113 (dk_at dksX6_undo_1 18 rfl rfl)
theorem dX6_undo_45 : decode cX6_undo 45 = .ok (.aload_n 0, 1) := dk_42 (dk_at dksX6_undo_1 21 rfl rfl)
theorem dX6_undo_46 : decode cX6_undo 46 = .ok (.getfield 188, 3) := dk_180 0 188 (dk_at dksX6_undo_2 0 rfl rfl)
theorem dX6_undo_49 : decode cX6_undo 49 = .ok (.imul, 1) := dk_104 (dk_at dksX6_undo_2 3 rfl rfl)
theorem dX6_undo_50 : decode cX6_undo 50 = .ok (.iload_n 1, 1) := dk_27 (dk_at dksX6_undo_2 4 rfl rfl)
theorem dX6_undo_51 : decode cX6_undo 51 = .ok (.iadd, 1) := dk_96 (dk_at dksX6_undo_2 5 rfl rfl)
theorem dX6_undo_52 : decode cX6_undo 52 = .ok (.iaload, 1) := dk_46 (dk_at dksX6_undo_2 6 rfl rfl)
theorem dX6_undo_53 : decode cX6_undo 53 = .ok (.iastore, 1) := dk_79 (dk_at dksX6_undo_2 7 rfl rfl)
theorem dX6_undo_54 : decode cX6_undo 54 = .ok (.iinc 1 1, 3) := dk_132 1 1 (dk_at dksX6_undo_2 8 rfl rfl)
theorem dX6_undo_57 : decode cX6_undo 57 = .ok (.goto (-31), 3) := dk_167 255 225 (dk_at dksX6_undo_2 11 rfl rfl)
theorem dX6_undo_60 : decode cX6_undo 60 = .ok (.iconst 1, 1) := dk_4 (dk_at dksX6_undo_2 14 rfl rfl)
theorem dX6_undo_61 : decode cX6_undo 61 = .ok (.ireturn, 1) := dk_172 (dk_at dksX6_undo_2 15 rfl rfl)
abbrev cX6_image : ByteArray := prog_19_method_113_code
def yX6_image : MethodName := ⟨RX6, "image", "()V"⟩
def dkwX6_image_1 : List UInt8 := [46, 79, 132, 1, 1, 167, 255, 234, 42, 4, 181, 1, 100, 177]
abbrev dktX6_image_1 : List UInt8 := dkwX6_image_1 ++ []
def dkwX6_image_0 : List UInt8 := [42, 3, 181, 0, 41, 3, 60, 27, 17, 3, 1, 162, 0, 21, 42, 180, 0, 13, 27, 42, 180, 0, 7, 27]
abbrev dktX6_image_0 : List UInt8 := dkwX6_image_0 ++ dktX6_image_1
theorem dksX6_image_0 : cX6_image.data.toList.drop 0 = dktX6_image_0 := by decide +kernel
theorem dksX6_image_1 : cX6_image.data.toList.drop 24 = dktX6_image_1 := dk_seg dksX6_image_0 24 rfl rfl
theorem dX6_image_0 : decode cX6_image 0 = .ok (.aload_n 0, 1) := dk_42 (dk_at dksX6_image_0 0 rfl rfl)
theorem dX6_image_1 : decode cX6_image 1 = .ok (.iconst 0, 1) := dk_3 (dk_at dksX6_image_0 1 rfl rfl)
theorem dX6_image_2 : decode cX6_image 2 = .ok (.putfield 41, 3) := dk_181 0 41 (dk_at dksX6_image_0 2 rfl rfl)
theorem dX6_image_5 : decode cX6_image 5 = .ok (.iconst 0, 1) := dk_3 (dk_at dksX6_image_0 5 rfl rfl)
theorem dX6_image_6 : decode cX6_image 6 = .ok (.istore_n 1, 1) := dk_60 (dk_at dksX6_image_0 6 rfl rfl)
theorem dX6_image_7 : decode cX6_image 7 = .ok (.iload_n 1, 1) := dk_27 (dk_at dksX6_image_0 7 rfl rfl)
theorem dX6_image_8 : decode cX6_image 8 = .ok (.sipush 769, 3) := dk_17 3 1 (dk_at dksX6_image_0 8 rfl rfl)
theorem dX6_image_11 : decode cX6_image 11 = .ok (.if_icmp .ge 21, 3) := dk_162 0 21 (dk_at dksX6_image_0 11 rfl rfl)
theorem dX6_image_14 : decode cX6_image 14 = .ok (.aload_n 0, 1) := dk_42 (dk_at dksX6_image_0 14 rfl rfl)
theorem dX6_image_15 : decode cX6_image 15 = .ok (.getfield 13, 3) := dk_180 0 13 (dk_at dksX6_image_0 15 rfl rfl)
theorem dX6_image_18 : decode cX6_image 18 = .ok (.iload_n 1, 1) := dk_27 (dk_at dksX6_image_0 18 rfl rfl)
theorem dX6_image_19 : decode cX6_image 19 = .ok (.aload_n 0, 1) := dk_42 (dk_at dksX6_image_0 19 rfl rfl)
theorem dX6_image_20 : decode cX6_image 20 = .ok (.getfield 7, 3) := dk_180 0 7 (dk_at dksX6_image_0 20 rfl rfl)
theorem dX6_image_23 : decode cX6_image 23 = .ok (.iload_n 1, 1) := dk_27 (dk_at dksX6_image_0 23 rfl rfl)
theorem dX6_image_24 : decode cX6_image 24 = .ok (.iaload, 1) := dk_46 (dk_at dksX6_image_1 0 rfl rfl)
theorem dX6_image_25 : decode cX6_image 25 = .ok (.iastore, 1) := dk_79 (dk_at dksX6_image_1 1 rfl rfl)
theorem dX6_image_26 : decode cX6_image 26 = .ok (.iinc 1 1, 3) := dk_132 1 1 (dk_at dksX6_image_1 2 rfl rfl)
theorem dX6_image_29 : decode cX6_image 29 = .ok (.goto (-22), 3) := dk_167 255 234 (dk_at dksX6_image_1 5 rfl rfl)
theorem dX6_image_32 : decode cX6_image 32 = .ok (.aload_n 0, 1) := dk_42 (dk_at dksX6_image_1 8 rfl rfl)
theorem dX6_image_33 : decode cX6_image 33 = .ok (.iconst 1, 1) := dk_4 (dk_at dksX6_image_1 9 rfl rfl)
theorem dX6_image_34 : decode cX6_image 34 = .ok (.putfield 356, 3) := dk_181 1 100 (dk_at dksX6_image_1 10 rfl rfl)
theorem dX6_image_37 : decode cX6_image 37 = .ok (.return_, 1) := dk_177 (dk_at dksX6_image_1 13 rfl rfl)
abbrev cX6_back : ByteArray := prog_19_method_114_code
def yX6_back : MethodName := ⟨RX6, "back", "()Z"⟩
def dkwX6_back_1 : List UInt8 := [180, 0, 7, 27, 42, 180, 0, 13, 27, 46, 79, 132, 1, 1, 167, 255, 234, 42, 3, 181, 0, 188, 4, 172]
abbrev dktX6_back_1 : List UInt8 := dkwX6_back_1 ++ []
def dkwX6_back_0 : List UInt8 := [42, 3, 181, 0, 41, 42, 180, 1, 100, 154, 0, 5, 3, 172, 3, 60, 27, 17, 3, 1, 162, 0, 21, 42]
abbrev dktX6_back_0 : List UInt8 := dkwX6_back_0 ++ dktX6_back_1
theorem dksX6_back_0 : cX6_back.data.toList.drop 0 = dktX6_back_0 := by decide +kernel
theorem dksX6_back_1 : cX6_back.data.toList.drop 24 = dktX6_back_1 := dk_seg dksX6_back_0 24 rfl rfl
theorem dX6_back_0 : decode cX6_back 0 = .ok (.aload_n 0, 1) := dk_42 (dk_at dksX6_back_0 0 rfl rfl)
theorem dX6_back_1 : decode cX6_back 1 = .ok (.iconst 0, 1) := dk_3 (dk_at dksX6_back_0 1 rfl rfl)
theorem dX6_back_2 : decode cX6_back 2 = .ok (.putfield 41, 3) := dk_181 0 41 (dk_at dksX6_back_0 2 rfl rfl)
theorem dX6_back_5 : decode cX6_back 5 = .ok (.aload_n 0, 1) := dk_42 (dk_at dksX6_back_0 5 rfl rfl)
theorem dX6_back_6 : decode cX6_back 6 = .ok (.getfield 356, 3) := dk_180 1 100 (dk_at dksX6_back_0 6 rfl rfl)
theorem dX6_back_9 : decode cX6_back 9 = .ok (.ifCond .ne 5, 3) := dk_154 0 5 (dk_at dksX6_back_0 9 rfl rfl)
theorem dX6_back_12 : decode cX6_back 12 = .ok (.iconst 0, 1) := dk_3 (dk_at dksX6_back_0 12 rfl rfl)
theorem dX6_back_13 : decode cX6_back 13 = .ok (.ireturn, 1) := dk_172 (dk_at dksX6_back_0 13 rfl rfl)
theorem dX6_back_14 : decode cX6_back 14 = .ok (.iconst 0, 1) := dk_3 (dk_at dksX6_back_0 14 rfl rfl)
theorem dX6_back_15 : decode cX6_back 15 = .ok (.istore_n 1, 1) := dk_60 (dk_at dksX6_back_0 15 rfl rfl)
theorem dX6_back_16 : decode cX6_back 16 = .ok (.iload_n 1, 1) := dk_27 (dk_at dksX6_back_0 16 rfl rfl)
theorem dX6_back_17 : decode cX6_back 17 = .ok (.sipush 769, 3) := dk_17 3 1 (dk_at dksX6_back_0 17 rfl rfl)
theorem dX6_back_20 : decode cX6_back 20 = .ok (.if_icmp .ge 21, 3) := dk_162 0 21 (dk_at dksX6_back_0 20 rfl rfl)
theorem dX6_back_23 : decode cX6_back 23 = .ok (.aload_n 0, 1) := dk_42 (dk_at dksX6_back_0 23 rfl rfl)
theorem dX6_back_24 : decode cX6_back 24 = .ok (.getfield 7, 3) := dk_180 0 7 (dk_at dksX6_back_1 0 rfl rfl)
theorem dX6_back_27 : decode cX6_back 27 = .ok (.iload_n 1, 1) := dk_27 (dk_at dksX6_back_1 3 rfl rfl)
theorem dX6_back_28 : decode cX6_back 28 = .ok (.aload_n 0, 1) := dk_42 (dk_at dksX6_back_1 4 rfl rfl)
theorem dX6_back_29 : decode cX6_back 29 = .ok (.getfield 13, 3) := dk_180 0 13 (dk_at dksX6_back_1 5 rfl rfl)
theorem dX6_back_32 : decode cX6_back 32 = .ok (.iload_n 1, 1) := dk_27 (dk_at dksX6_back_1 8 rfl rfl)
theorem dX6_back_33 : decode cX6_back 33 = .ok (.iaload, 1) := dk_46 (dk_at dksX6_back_1 9 rfl rfl)
theorem dX6_back_34 : decode cX6_back 34 = .ok (.iastore, 1) := dk_79 (dk_at dksX6_back_1 10 rfl rfl)
theorem dX6_back_35 : decode cX6_back 35 = .ok (.iinc 1 1, 3) := dk_132 1 1 (dk_at dksX6_back_1 11 rfl rfl)
theorem dX6_back_38 : decode cX6_back 38 = .ok (.goto (-22), 3) := dk_167 255 234 (dk_at dksX6_back_1 14 rfl rfl)
theorem dX6_back_41 : decode cX6_back 41 = .ok (.aload_n 0, 1) := dk_42 (dk_at dksX6_back_1 17 rfl rfl)
theorem dX6_back_42 : decode cX6_back 42 = .ok (.iconst 0, 1) := dk_3 (dk_at dksX6_back_1 18 rfl rfl)
theorem dX6_back_43 : decode cX6_back 43 = .ok (.putfield 188, 3) := dk_181 0 188 (dk_at dksX6_back_1 19 rfl rfl)
theorem dX6_back_46 : decode cX6_back 46 = .ok (.iconst 1, 1) := dk_4 (dk_at dksX6_back_1 22 rfl rfl)
theorem dX6_back_47 : decode cX6_back 47 = .ok (.ireturn, 1) := dk_172 (dk_at dksX6_back_1 23 rfl rfl)
abbrev cX6_count : ByteArray := prog_19_method_116_code
def yX6_count : MethodName := ⟨RX6, "count", "(I)I"⟩
def dkwX6_count_6 : List UInt8 := [180, 0, 7, 16, 7, 46, 172, 27, 16, 13, 160, 0, 10, 42, 180, 0, 188, 167, 0, 4, 2, 172]
abbrev dktX6_count_6 : List UInt8 := dkwX6_count_6 ++ []
def dkwX6_count_5 : List UInt8 := [182, 1, 88, 172, 27, 16, 11, 160, 0, 8, 42, 182, 1, 91, 172, 27, 16, 12, 160, 0, 11, 42]
abbrev dktX6_count_5 : List UInt8 := dkwX6_count_5 ++ dktX6_count_6
def dkwX6_count_4 : List UInt8 := [184, 0, 44, 153, 0, 12, 42, 27, 16, 7, 100, 182, 1, 103, 172, 27, 16, 10, 160, 0, 8, 42]
abbrev dktX6_count_4 : List UInt8 := dkwX6_count_4 ++ dktX6_count_5
def dkwX6_count_3 : List UInt8 := [180, 0, 7, 16, 6, 46, 172, 27, 16, 6, 160, 0, 8, 42, 182, 1, 94, 172, 27, 16, 7, 16, 9]
abbrev dktX6_count_3 : List UInt8 := dkwX6_count_3 ++ dktX6_count_4
def dkwX6_count_2 : List UInt8 := [180, 0, 7, 4, 46, 172, 27, 7, 160, 0, 10, 42, 180, 0, 7, 8, 46, 172, 27, 8, 160, 0, 11, 42]
abbrev dktX6_count_2 : List UInt8 := dkwX6_count_2 ++ dktX6_count_3
def dkwX6_count_1 : List UInt8 := [180, 0, 7, 7, 46, 172, 27, 5, 160, 0, 10, 42, 180, 0, 7, 3, 46, 172, 27, 6, 160, 0, 10, 42]
abbrev dktX6_count_1 : List UInt8 := dkwX6_count_1 ++ dktX6_count_2
def dkwX6_count_0 : List UInt8 := [42, 3, 181, 0, 41, 27, 154, 0, 10, 42, 180, 0, 7, 6, 46, 172, 27, 4, 160, 0, 10, 42]
abbrev dktX6_count_0 : List UInt8 := dkwX6_count_0 ++ dktX6_count_1
theorem dksX6_count_0 : cX6_count.data.toList.drop 0 = dktX6_count_0 := by decide +kernel
theorem dksX6_count_1 : cX6_count.data.toList.drop 22 = dktX6_count_1 := dk_seg dksX6_count_0 22 rfl rfl
theorem dksX6_count_2 : cX6_count.data.toList.drop 46 = dktX6_count_2 := dk_seg dksX6_count_1 24 rfl rfl
theorem dksX6_count_3 : cX6_count.data.toList.drop 70 = dktX6_count_3 := dk_seg dksX6_count_2 24 rfl rfl
theorem dksX6_count_4 : cX6_count.data.toList.drop 93 = dktX6_count_4 := dk_seg dksX6_count_3 23 rfl rfl
theorem dksX6_count_5 : cX6_count.data.toList.drop 115 = dktX6_count_5 := dk_seg dksX6_count_4 22 rfl rfl
theorem dksX6_count_6 : cX6_count.data.toList.drop 137 = dktX6_count_6 := dk_seg dksX6_count_5 22 rfl rfl
theorem dX6_count_0 : decode cX6_count 0 = .ok (.aload_n 0, 1) := dk_42 (dk_at dksX6_count_0 0 rfl rfl)
theorem dX6_count_1 : decode cX6_count 1 = .ok (.iconst 0, 1) := dk_3 (dk_at dksX6_count_0 1 rfl rfl)
theorem dX6_count_2 : decode cX6_count 2 = .ok (.putfield 41, 3) := dk_181 0 41 (dk_at dksX6_count_0 2 rfl rfl)
theorem dX6_count_5 : decode cX6_count 5 = .ok (.iload_n 1, 1) := dk_27 (dk_at dksX6_count_0 5 rfl rfl)
theorem dX6_count_6 : decode cX6_count 6 = .ok (.ifCond .ne 10, 3) := dk_154 0 10 (dk_at dksX6_count_0 6 rfl rfl)
theorem dX6_count_9 : decode cX6_count 9 = .ok (.aload_n 0, 1) := dk_42 (dk_at dksX6_count_0 9 rfl rfl)
theorem dX6_count_10 : decode cX6_count 10 = .ok (.getfield 7, 3) := dk_180 0 7 (dk_at dksX6_count_0 10 rfl rfl)
theorem dX6_count_13 : decode cX6_count 13 = .ok (.iconst 3, 1) := dk_6 (dk_at dksX6_count_0 13 rfl rfl)
theorem dX6_count_14 : decode cX6_count 14 = .ok (.iaload, 1) := dk_46 (dk_at dksX6_count_0 14 rfl rfl)
theorem dX6_count_15 : decode cX6_count 15 = .ok (.ireturn, 1) := dk_172 (dk_at dksX6_count_0 15 rfl rfl)
theorem dX6_count_16 : decode cX6_count 16 = .ok (.iload_n 1, 1) := dk_27 (dk_at dksX6_count_0 16 rfl rfl)
theorem dX6_count_17 : decode cX6_count 17 = .ok (.iconst 1, 1) := dk_4 (dk_at dksX6_count_0 17 rfl rfl)
theorem dX6_count_18 : decode cX6_count 18 = .ok (.if_icmp .ne 10, 3) := dk_160 0 10 (dk_at dksX6_count_0 18 rfl rfl)
theorem dX6_count_21 : decode cX6_count 21 = .ok (.aload_n 0, 1) := dk_42 (dk_at dksX6_count_0 21 rfl rfl)
theorem dX6_count_22 : decode cX6_count 22 = .ok (.getfield 7, 3) := dk_180 0 7 (dk_at dksX6_count_1 0 rfl rfl)
theorem dX6_count_25 : decode cX6_count 25 = .ok (.iconst 4, 1) := dk_7 (dk_at dksX6_count_1 3 rfl rfl)
theorem dX6_count_26 : decode cX6_count 26 = .ok (.iaload, 1) := dk_46 (dk_at dksX6_count_1 4 rfl rfl)
theorem dX6_count_27 : decode cX6_count 27 = .ok (.ireturn, 1) := dk_172 (dk_at dksX6_count_1 5 rfl rfl)
theorem dX6_count_28 : decode cX6_count 28 = .ok (.iload_n 1, 1) := dk_27 (dk_at dksX6_count_1 6 rfl rfl)
theorem dX6_count_29 : decode cX6_count 29 = .ok (.iconst 2, 1) := dk_5 (dk_at dksX6_count_1 7 rfl rfl)
theorem dX6_count_30 : decode cX6_count 30 = .ok (.if_icmp .ne 10, 3) := dk_160 0 10 (dk_at dksX6_count_1 8 rfl rfl)
theorem dX6_count_33 : decode cX6_count 33 = .ok (.aload_n 0, 1) := dk_42 (dk_at dksX6_count_1 11 rfl rfl)
theorem dX6_count_34 : decode cX6_count 34 = .ok (.getfield 7, 3) := dk_180 0 7 (dk_at dksX6_count_1 12 rfl rfl)
theorem dX6_count_37 : decode cX6_count 37 = .ok (.iconst 0, 1) := dk_3 (dk_at dksX6_count_1 15 rfl rfl)
theorem dX6_count_38 : decode cX6_count 38 = .ok (.iaload, 1) := dk_46 (dk_at dksX6_count_1 16 rfl rfl)
theorem dX6_count_39 : decode cX6_count 39 = .ok (.ireturn, 1) := dk_172 (dk_at dksX6_count_1 17 rfl rfl)
theorem dX6_count_40 : decode cX6_count 40 = .ok (.iload_n 1, 1) := dk_27 (dk_at dksX6_count_1 18 rfl rfl)
theorem dX6_count_41 : decode cX6_count 41 = .ok (.iconst 3, 1) := dk_6 (dk_at dksX6_count_1 19 rfl rfl)
theorem dX6_count_42 : decode cX6_count 42 = .ok (.if_icmp .ne 10, 3) := dk_160 0 10 (dk_at dksX6_count_1 20 rfl rfl)
theorem dX6_count_45 : decode cX6_count 45 = .ok (.aload_n 0, 1) := dk_42 (dk_at dksX6_count_1 23 rfl rfl)
theorem dX6_count_46 : decode cX6_count 46 = .ok (.getfield 7, 3) := dk_180 0 7 (dk_at dksX6_count_2 0 rfl rfl)
theorem dX6_count_49 : decode cX6_count 49 = .ok (.iconst 1, 1) := dk_4 (dk_at dksX6_count_2 3 rfl rfl)
theorem dX6_count_50 : decode cX6_count 50 = .ok (.iaload, 1) := dk_46 (dk_at dksX6_count_2 4 rfl rfl)
theorem dX6_count_51 : decode cX6_count 51 = .ok (.ireturn, 1) := dk_172 (dk_at dksX6_count_2 5 rfl rfl)
theorem dX6_count_52 : decode cX6_count 52 = .ok (.iload_n 1, 1) := dk_27 (dk_at dksX6_count_2 6 rfl rfl)
theorem dX6_count_53 : decode cX6_count 53 = .ok (.iconst 4, 1) := dk_7 (dk_at dksX6_count_2 7 rfl rfl)
theorem dX6_count_54 : decode cX6_count 54 = .ok (.if_icmp .ne 10, 3) := dk_160 0 10 (dk_at dksX6_count_2 8 rfl rfl)
theorem dX6_count_57 : decode cX6_count 57 = .ok (.aload_n 0, 1) := dk_42 (dk_at dksX6_count_2 11 rfl rfl)
theorem dX6_count_58 : decode cX6_count 58 = .ok (.getfield 7, 3) := dk_180 0 7 (dk_at dksX6_count_2 12 rfl rfl)
theorem dX6_count_61 : decode cX6_count 61 = .ok (.iconst 5, 1) := dk_8 (dk_at dksX6_count_2 15 rfl rfl)
theorem dX6_count_62 : decode cX6_count 62 = .ok (.iaload, 1) := dk_46 (dk_at dksX6_count_2 16 rfl rfl)
theorem dX6_count_63 : decode cX6_count 63 = .ok (.ireturn, 1) := dk_172 (dk_at dksX6_count_2 17 rfl rfl)
theorem dX6_count_64 : decode cX6_count 64 = .ok (.iload_n 1, 1) := dk_27 (dk_at dksX6_count_2 18 rfl rfl)
theorem dX6_count_65 : decode cX6_count 65 = .ok (.iconst 5, 1) := dk_8 (dk_at dksX6_count_2 19 rfl rfl)
theorem dX6_count_66 : decode cX6_count 66 = .ok (.if_icmp .ne 11, 3) := dk_160 0 11 (dk_at dksX6_count_2 20 rfl rfl)
theorem dX6_count_69 : decode cX6_count 69 = .ok (.aload_n 0, 1) := dk_42 (dk_at dksX6_count_2 23 rfl rfl)
theorem dX6_count_70 : decode cX6_count 70 = .ok (.getfield 7, 3) := dk_180 0 7 (dk_at dksX6_count_3 0 rfl rfl)
theorem dX6_count_73 : decode cX6_count 73 = .ok (.bipush 6, 2) := dk_16 6 (dk_at dksX6_count_3 3 rfl rfl)
theorem dX6_count_75 : decode cX6_count 75 = .ok (.iaload, 1) := dk_46 (dk_at dksX6_count_3 5 rfl rfl)
theorem dX6_count_76 : decode cX6_count 76 = .ok (.ireturn, 1) := dk_172 (dk_at dksX6_count_3 6 rfl rfl)
theorem dX6_count_77 : decode cX6_count 77 = .ok (.iload_n 1, 1) := dk_27 (dk_at dksX6_count_3 7 rfl rfl)
theorem dX6_count_78 : decode cX6_count 78 = .ok (.bipush 6, 2) := dk_16 6 (dk_at dksX6_count_3 8 rfl rfl)
theorem dX6_count_80 : decode cX6_count 80 = .ok (.if_icmp .ne 8, 3) := dk_160 0 8 (dk_at dksX6_count_3 10 rfl rfl)
theorem dX6_count_83 : decode cX6_count 83 = .ok (.aload_n 0, 1) := dk_42 (dk_at dksX6_count_3 13 rfl rfl)
theorem dX6_count_84 : decode cX6_count 84 = .ok (.invokevirtual 350, 3) := dk_182 1 94 (dk_at dksX6_count_3 14 rfl rfl)
theorem dX6_count_87 : decode cX6_count 87 = .ok (.ireturn, 1) := dk_172 (dk_at dksX6_count_3 17 rfl rfl)
theorem dX6_count_88 : decode cX6_count 88 = .ok (.iload_n 1, 1) := dk_27 (dk_at dksX6_count_3 18 rfl rfl)
theorem dX6_count_89 : decode cX6_count 89 = .ok (.bipush 7, 2) := dk_16 7 (dk_at dksX6_count_3 19 rfl rfl)
theorem dX6_count_91 : decode cX6_count 91 = .ok (.bipush 9, 2) := dk_16 9 (dk_at dksX6_count_3 21 rfl rfl)
theorem dX6_count_93 : decode cX6_count 93 = .ok (.invokestatic 44, 3) := dk_184 0 44 (dk_at dksX6_count_4 0 rfl rfl)
theorem dX6_count_96 : decode cX6_count 96 = .ok (.ifCond .eq 12, 3) := dk_153 0 12 (dk_at dksX6_count_4 3 rfl rfl)
theorem dX6_count_99 : decode cX6_count 99 = .ok (.aload_n 0, 1) := dk_42 (dk_at dksX6_count_4 6 rfl rfl)
theorem dX6_count_100 : decode cX6_count 100 = .ok (.iload_n 1, 1) := dk_27 (dk_at dksX6_count_4 7 rfl rfl)
theorem dX6_count_101 : decode cX6_count 101 = .ok (.bipush 7, 2) := dk_16 7 (dk_at dksX6_count_4 8 rfl rfl)
theorem dX6_count_103 : decode cX6_count 103 = .ok (.isub, 1) := dk_100 (dk_at dksX6_count_4 10 rfl rfl)
theorem dX6_count_104 : decode cX6_count 104 = .ok (.invokevirtual 359, 3) := dk_182 1 103 (dk_at dksX6_count_4 11 rfl rfl)
theorem dX6_count_107 : decode cX6_count 107 = .ok (.ireturn, 1) := dk_172 (dk_at dksX6_count_4 14 rfl rfl)
theorem dX6_count_108 : decode cX6_count 108 = .ok (.iload_n 1, 1) := dk_27 (dk_at dksX6_count_4 15 rfl rfl)
theorem dX6_count_109 : decode cX6_count 109 = .ok (.bipush 10, 2) := dk_16 10 (dk_at dksX6_count_4 16 rfl rfl)
theorem dX6_count_111 : decode cX6_count 111 = .ok (.if_icmp .ne 8, 3) := dk_160 0 8 (dk_at dksX6_count_4 18 rfl rfl)
theorem dX6_count_114 : decode cX6_count 114 = .ok (.aload_n 0, 1) := dk_42 (dk_at dksX6_count_4 21 rfl rfl)
theorem dX6_count_115 : decode cX6_count 115 = .ok (.invokevirtual 344, 3) := dk_182 1 88 (dk_at dksX6_count_5 0 rfl rfl)
theorem dX6_count_118 : decode cX6_count 118 = .ok (.ireturn, 1) := dk_172 (dk_at dksX6_count_5 3 rfl rfl)
theorem dX6_count_119 : decode cX6_count 119 = .ok (.iload_n 1, 1) := dk_27 (dk_at dksX6_count_5 4 rfl rfl)
theorem dX6_count_120 : decode cX6_count 120 = .ok (.bipush 11, 2) := dk_16 11 (dk_at dksX6_count_5 5 rfl rfl)
theorem dX6_count_122 : decode cX6_count 122 = .ok (.if_icmp .ne 8, 3) := dk_160 0 8 (dk_at dksX6_count_5 7 rfl rfl)
theorem dX6_count_125 : decode cX6_count 125 = .ok (.aload_n 0, 1) := dk_42 (dk_at dksX6_count_5 10 rfl rfl)
theorem dX6_count_126 : decode cX6_count 126 = .ok (.invokevirtual 347, 3) := dk_182 1 91 (dk_at dksX6_count_5 11 rfl rfl)
theorem dX6_count_129 : decode cX6_count 129 = .ok (.ireturn, 1) := dk_172 (dk_at dksX6_count_5 14 rfl rfl)
theorem dX6_count_130 : decode cX6_count 130 = .ok (.iload_n 1, 1) := dk_27 (dk_at dksX6_count_5 15 rfl rfl)
theorem dX6_count_131 : decode cX6_count 131 = .ok (.bipush 12, 2) := dk_16 12 (dk_at dksX6_count_5 16 rfl rfl)
theorem dX6_count_133 : decode cX6_count 133 = .ok (.if_icmp .ne 11, 3) := dk_160 0 11 (dk_at dksX6_count_5 18 rfl rfl)
theorem dX6_count_136 : decode cX6_count 136 = .ok (.aload_n 0, 1) := dk_42 (dk_at dksX6_count_5 21 rfl rfl)
theorem dX6_count_137 : decode cX6_count 137 = .ok (.getfield 7, 3) := dk_180 0 7 (dk_at dksX6_count_6 0 rfl rfl)
theorem dX6_count_140 : decode cX6_count 140 = .ok (.bipush 7, 2) := dk_16 7 (dk_at dksX6_count_6 3 rfl rfl)
theorem dX6_count_142 : decode cX6_count 142 = .ok (.iaload, 1) := dk_46 (dk_at dksX6_count_6 5 rfl rfl)
theorem dX6_count_143 : decode cX6_count 143 = .ok (.ireturn, 1) := dk_172 (dk_at dksX6_count_6 6 rfl rfl)
theorem dX6_count_144 : decode cX6_count 144 = .ok (.iload_n 1, 1) := dk_27 (dk_at dksX6_count_6 7 rfl rfl)
theorem dX6_count_145 : decode cX6_count 145 = .ok (.bipush 13, 2) := dk_16 13 (dk_at dksX6_count_6 8 rfl rfl)
theorem dX6_count_147 : decode cX6_count 147 = .ok (.if_icmp .ne 10, 3) := dk_160 0 10 (dk_at dksX6_count_6 10 rfl rfl)
theorem dX6_count_150 : decode cX6_count 150 = .ok (.aload_n 0, 1) := dk_42 (dk_at dksX6_count_6 13 rfl rfl)
theorem dX6_count_151 : decode cX6_count 151 = .ok (.getfield 188, 3) := dk_180 0 188 (dk_at dksX6_count_6 14 rfl rfl)
theorem dX6_count_154 : decode cX6_count 154 = .ok (.goto 4, 3) := dk_167 0 4 (dk_at dksX6_count_6 17 rfl rfl)
theorem dX6_count_157 : decode cX6_count 157 = .ok (.iconst (-1), 1) := dk_2 (dk_at dksX6_count_6 20 rfl rfl)
theorem dX6_count_158 : decode cX6_count 158 = .ok (.ireturn, 1) := dk_172 (dk_at dksX6_count_6 21 rfl rfl)
abbrev cX6_stonesOf : ByteArray := prog_19_method_115_code
def yX6_stonesOf : MethodName := ⟨RX6, "stonesOf", "(I)I"⟩
def dkwX6_stonesOf_1 : List UInt8 := [160, 0, 9, 4, 29, 120, 167, 0, 4, 3, 128, 61, 132, 3, 1, 167, 255, 223, 28, 172]
abbrev dktX6_stonesOf_1 : List UInt8 := dkwX6_stonesOf_1 ++ []
def dkwX6_stonesOf_0 : List UInt8 := [3, 61, 3, 62, 29, 42, 180, 0, 7, 7, 46, 162, 0, 29, 28, 42, 29, 6, 182, 0, 48, 27]
abbrev dktX6_stonesOf_0 : List UInt8 := dkwX6_stonesOf_0 ++ dktX6_stonesOf_1
theorem dksX6_stonesOf_0 : cX6_stonesOf.data.toList.drop 0 = dktX6_stonesOf_0 := by decide +kernel
theorem dksX6_stonesOf_1 : cX6_stonesOf.data.toList.drop 22 = dktX6_stonesOf_1 := dk_seg dksX6_stonesOf_0 22 rfl rfl
theorem dX6_stonesOf_0 : decode cX6_stonesOf 0 = .ok (.iconst 0, 1) := dk_3 (dk_at dksX6_stonesOf_0 0 rfl rfl)
theorem dX6_stonesOf_1 : decode cX6_stonesOf 1 = .ok (.istore_n 2, 1) := dk_61 (dk_at dksX6_stonesOf_0 1 rfl rfl)
theorem dX6_stonesOf_2 : decode cX6_stonesOf 2 = .ok (.iconst 0, 1) := dk_3 (dk_at dksX6_stonesOf_0 2 rfl rfl)
theorem dX6_stonesOf_3 : decode cX6_stonesOf 3 = .ok (.istore_n 3, 1) := dk_62 (dk_at dksX6_stonesOf_0 3 rfl rfl)
theorem dX6_stonesOf_4 : decode cX6_stonesOf 4 = .ok (.iload_n 3, 1) := dk_29 (dk_at dksX6_stonesOf_0 4 rfl rfl)
theorem dX6_stonesOf_5 : decode cX6_stonesOf 5 = .ok (.aload_n 0, 1) := dk_42 (dk_at dksX6_stonesOf_0 5 rfl rfl)
theorem dX6_stonesOf_6 : decode cX6_stonesOf 6 = .ok (.getfield 7, 3) := dk_180 0 7 (dk_at dksX6_stonesOf_0 6 rfl rfl)
theorem dX6_stonesOf_9 : decode cX6_stonesOf 9 = .ok (.iconst 4, 1) := dk_7 (dk_at dksX6_stonesOf_0 9 rfl rfl)
theorem dX6_stonesOf_10 : decode cX6_stonesOf 10 = .ok (.iaload, 1) := dk_46 (dk_at dksX6_stonesOf_0 10 rfl rfl)
theorem dX6_stonesOf_11 : decode cX6_stonesOf 11 = .ok (.if_icmp .ge 29, 3) := dk_162 0 29 (dk_at dksX6_stonesOf_0 11 rfl rfl)
theorem dX6_stonesOf_14 : decode cX6_stonesOf 14 = .ok (.iload_n 2, 1) := dk_28 (dk_at dksX6_stonesOf_0 14 rfl rfl)
theorem dX6_stonesOf_15 : decode cX6_stonesOf 15 = .ok (.aload_n 0, 1) := dk_42 (dk_at dksX6_stonesOf_0 15 rfl rfl)
theorem dX6_stonesOf_16 : decode cX6_stonesOf 16 = .ok (.iload_n 3, 1) := dk_29 (dk_at dksX6_stonesOf_0 16 rfl rfl)
theorem dX6_stonesOf_17 : decode cX6_stonesOf 17 = .ok (.iconst 3, 1) := dk_6 (dk_at dksX6_stonesOf_0 17 rfl rfl)
theorem dX6_stonesOf_18 : decode cX6_stonesOf 18 = .ok (.invokevirtual 48, 3) := dk_182 0 48 (dk_at dksX6_stonesOf_0 18 rfl rfl)
theorem dX6_stonesOf_21 : decode cX6_stonesOf 21 = .ok (.iload_n 1, 1) := dk_27 (dk_at dksX6_stonesOf_0 21 rfl rfl)
theorem dX6_stonesOf_22 : decode cX6_stonesOf 22 = .ok (.if_icmp .ne 9, 3) := dk_160 0 9 (dk_at dksX6_stonesOf_1 0 rfl rfl)
theorem dX6_stonesOf_25 : decode cX6_stonesOf 25 = .ok (.iconst 1, 1) := dk_4 (dk_at dksX6_stonesOf_1 3 rfl rfl)
theorem dX6_stonesOf_26 : decode cX6_stonesOf 26 = .ok (.iload_n 3, 1) := dk_29 (dk_at dksX6_stonesOf_1 4 rfl rfl)
theorem dX6_stonesOf_27 : decode cX6_stonesOf 27 = .ok (.ishl, 1) := dk_120 (dk_at dksX6_stonesOf_1 5 rfl rfl)
theorem dX6_stonesOf_28 : decode cX6_stonesOf 28 = .ok (.goto 4, 3) := dk_167 0 4 (dk_at dksX6_stonesOf_1 6 rfl rfl)
theorem dX6_stonesOf_31 : decode cX6_stonesOf 31 = .ok (.iconst 0, 1) := dk_3 (dk_at dksX6_stonesOf_1 9 rfl rfl)
theorem dX6_stonesOf_32 : decode cX6_stonesOf 32 = .ok (.ior, 1) := dk_128 (dk_at dksX6_stonesOf_1 10 rfl rfl)
theorem dX6_stonesOf_33 : decode cX6_stonesOf 33 = .ok (.istore_n 2, 1) := dk_61 (dk_at dksX6_stonesOf_1 11 rfl rfl)
theorem dX6_stonesOf_34 : decode cX6_stonesOf 34 = .ok (.iinc 3 1, 3) := dk_132 3 1 (dk_at dksX6_stonesOf_1 12 rfl rfl)
theorem dX6_stonesOf_37 : decode cX6_stonesOf 37 = .ok (.goto (-33), 3) := dk_167 255 223 (dk_at dksX6_stonesOf_1 15 rfl rfl)
theorem dX6_stonesOf_40 : decode cX6_stonesOf 40 = .ok (.iload_n 2, 1) := dk_28 (dk_at dksX6_stonesOf_1 18 rfl rfl)
theorem dX6_stonesOf_41 : decode cX6_stonesOf 41 = .ok (.ireturn, 1) := dk_172 (dk_at dksX6_stonesOf_1 19 rfl rfl)
theorem q121 : (Jvm.Cond.initialized "StoneBacksModel") ∈ lw_all := lw_g (lw_at lw_m1 9 rfl) rfl
theorem q1467 : (Jvm.Cond.selects "StoneBacksModel" ({ cls := "java/lang/Object", name := "getClass", desc := "()Ljava/lang/Class;" } : Jvm.MethodName) ({ cls := "java/lang/Object", name := "getClass", desc := "()Ljava/lang/Class;" } : Jvm.MethodName)) ∈ lw_all := lw_g (lw_at lw_m6 155 rfl) rfl
theorem q1949 : (Jvm.Cond.instantiable "StoneBacksModel" (23 : Nat)) ∈ lw_all := lw_g (lw_at lw_m8 157 rfl) rfl
theorem q1951 : (Jvm.Cond.instanceMethod ({ cls := "StoneBacksModel", name := "<init>", desc := "()V" } : Jvm.MethodName)) ∈ lw_all := lw_g (lw_at lw_m8 159 rfl) rfl
theorem q1952 : (Jvm.Cond.code ({ cls := "StoneBacksModel", name := "<init>", desc := "()V" } : Jvm.MethodName) prog_19_method_1_code (1 : Nat) (Option.none : Option Jvm.ClassFile.FieldType)) ∈ lw_all := lw_g (lw_at lw_m8 160 rfl) rfl
theorem q1953 : (Jvm.Cond.methodLink "StoneBacksModel" (1 : Nat) ({ cls := "java/lang/Object", name := "<init>", desc := "()V" } : Jvm.MethodName)) ∈ lw_all := lw_g (lw_at lw_m8 161 rfl) rfl
theorem q1954 : (Jvm.Cond.fieldLink "StoneBacksModel" (41 : Nat) "StoneBacksModel" "thrown" "I") ∈ lw_all := lw_g (lw_at lw_m8 162 rfl) rfl
theorem q1955 : (Jvm.Cond.fieldLink "StoneBacksModel" (7 : Nat) "StoneBacksModel" "m" "[I") ∈ lw_all := lw_g (lw_at lw_m8 163 rfl) rfl
theorem q1956 : (Jvm.Cond.fieldLink "StoneBacksModel" (13 : Nat) "StoneBacksModel" "kept" "[I") ∈ lw_all := lw_g (lw_at lw_m8 164 rfl) rfl
theorem q1957 : (Jvm.Cond.fieldLink "StoneBacksModel" (356 : Nat) "StoneBacksModel" "hasImage" "Z") ∈ lw_all := lw_g (lw_at lw_m8 165 rfl) rfl
theorem q1958 : (Jvm.Cond.fieldLink "StoneBacksModel" (16 : Nat) "StoneBacksModel" "aside" "[I") ∈ lw_all := lw_g (lw_at lw_m8 166 rfl) rfl
theorem q1959 : (Jvm.Cond.fieldLink "StoneBacksModel" (19 : Nat) "StoneBacksModel" "acts" "[I") ∈ lw_all := lw_g (lw_at lw_m8 167 rfl) rfl
theorem q1960 : (Jvm.Cond.fieldLink "StoneBacksModel" (188 : Nat) "StoneBacksModel" "acted" "I") ∈ lw_all := lw_g (lw_at lw_m8 168 rfl) rfl
theorem q1961 : (Jvm.Cond.fieldLink "StoneBacksModel" (22 : Nat) "StoneBacksModel" "tape" "[I") ∈ lw_all := lw_g (lw_at lw_m8 169 rfl) rfl
theorem q1962 : (Jvm.Cond.fieldLink "StoneBacksModel" (69 : Nat) "StoneBacksModel" "taped" "I") ∈ lw_all := lw_g (lw_at lw_m8 170 rfl) rfl
theorem q1963 : (Jvm.Cond.fieldLink "StoneBacksModel" (72 : Nat) "StoneBacksModel" "base" "I") ∈ lw_all := lw_g (lw_at lw_m8 171 rfl) rfl
theorem q1964 : (Jvm.Cond.fieldLink "StoneBacksModel" (78 : Nat) "StoneBacksModel" "end" "I") ∈ lw_all := lw_g (lw_at lw_m8 172 rfl) rfl
theorem q1965 : (Jvm.Cond.fieldLink "StoneBacksModel" (75 : Nat) "StoneBacksModel" "at" "I") ∈ lw_all := lw_g (lw_at lw_m8 173 rfl) rfl
theorem q1966 : (Jvm.Cond.fieldLink "StoneBacksModel" (25 : Nat) "StoneBacksModel" "fault" "I") ∈ lw_all := lw_g (lw_at lw_m8 174 rfl) rfl
theorem q1967 : (Jvm.Cond.fieldLink "StoneBacksModel" (162 : Nat) "StoneBacksModel" "deep" "I") ∈ lw_all := lw_g (lw_at lw_m8 175 rfl) rfl
theorem q1968 : (Jvm.Cond.fieldLink "StoneBacksModel" (29 : Nat) "StoneBacksModel" "fact" "[I") ∈ lw_all := lw_g (lw_at lw_m8 176 rfl) rfl
theorem q1969 : (Jvm.Cond.fieldLink "StoneBacksModel" (203 : Nat) "StoneBacksModel" "isThere" "Z") ∈ lw_all := lw_g (lw_at lw_m8 177 rfl) rfl
theorem q1970 : (Jvm.Cond.fieldLink "StoneBacksModel" (209 : Nat) "StoneBacksModel" "isLight" "Z") ∈ lw_all := lw_g (lw_at lw_m8 178 rfl) rfl
theorem q1971 : (Jvm.Cond.fieldLink "StoneBacksModel" (242 : Nat) "StoneBacksModel" "tires" "I") ∈ lw_all := lw_g (lw_at lw_m8 179 rfl) rfl
theorem q1972 : (Jvm.Cond.fieldLink "StoneBacksModel" (245 : Nat) "StoneBacksModel" "earns" "I") ∈ lw_all := lw_g (lw_at lw_m8 180 rfl) rfl
theorem q1973 : (Jvm.Cond.fieldLink "StoneBacksModel" (248 : Nat) "StoneBacksModel" "hurts" "I") ∈ lw_all := lw_g (lw_at lw_m8 181 rfl) rfl
theorem q1974 : (Jvm.Cond.fieldLink "StoneBacksModel" (32 : Nat) "StoneBacksModel" "least" "[I") ∈ lw_all := lw_g (lw_at lw_m8 182 rfl) rfl
theorem q1975 : (Jvm.Cond.fieldLink "StoneBacksModel" (35 : Nat) "StoneBacksModel" "then" "[I") ∈ lw_all := lw_g (lw_at lw_m8 183 rfl) rfl
theorem q1976 : (Jvm.Cond.fieldLink "StoneBacksModel" (38 : Nat) "StoneBacksModel" "room" "[I") ∈ lw_all := lw_g (lw_at lw_m8 184 rfl) rfl
theorem q1977 : (Jvm.Cond.lays "StoneBacksModel" "StoneBacksModel" "thrown" "I") ∈ lw_all := lw_g (lw_at lw_m8 185 rfl) rfl
theorem q1978 : (Jvm.Cond.soleField "StoneBacksModel" "thrown") ∈ lw_all := lw_g (lw_at lw_m8 186 rfl) rfl
theorem q1979 : (Jvm.Cond.laysFinal "StoneBacksModel" "StoneBacksModel" "m" "[I") ∈ lw_all := lw_g (lw_at lw_m8 187 rfl) rfl
theorem q1980 : (Jvm.Cond.soleField "StoneBacksModel" "m") ∈ lw_all := lw_g (lw_at lw_m8 188 rfl) rfl
theorem q1981 : (Jvm.Cond.laysFinal "StoneBacksModel" "StoneBacksModel" "kept" "[I") ∈ lw_all := lw_g (lw_at lw_m8 189 rfl) rfl
theorem q1982 : (Jvm.Cond.soleField "StoneBacksModel" "kept") ∈ lw_all := lw_g (lw_at lw_m8 190 rfl) rfl
theorem q1983 : (Jvm.Cond.lays "StoneBacksModel" "StoneBacksModel" "hasImage" "Z") ∈ lw_all := lw_g (lw_at lw_m8 191 rfl) rfl
theorem q1984 : (Jvm.Cond.soleField "StoneBacksModel" "hasImage") ∈ lw_all := lw_g (lw_at lw_m8 192 rfl) rfl
theorem q1985 : (Jvm.Cond.laysFinal "StoneBacksModel" "StoneBacksModel" "aside" "[I") ∈ lw_all := lw_g (lw_at lw_m8 193 rfl) rfl
theorem q1986 : (Jvm.Cond.soleField "StoneBacksModel" "aside") ∈ lw_all := lw_g (lw_at lw_m8 194 rfl) rfl
theorem q1987 : (Jvm.Cond.laysFinal "StoneBacksModel" "StoneBacksModel" "acts" "[I") ∈ lw_all := lw_g (lw_at lw_m8 195 rfl) rfl
theorem q1988 : (Jvm.Cond.soleField "StoneBacksModel" "acts") ∈ lw_all := lw_g (lw_at lw_m8 196 rfl) rfl
theorem q1989 : (Jvm.Cond.lays "StoneBacksModel" "StoneBacksModel" "acted" "I") ∈ lw_all := lw_g (lw_at lw_m8 197 rfl) rfl
theorem q1990 : (Jvm.Cond.soleField "StoneBacksModel" "acted") ∈ lw_all := lw_g (lw_at lw_m8 198 rfl) rfl
theorem q1991 : (Jvm.Cond.laysFinal "StoneBacksModel" "StoneBacksModel" "tape" "[I") ∈ lw_all := lw_g (lw_at lw_m8 199 rfl) rfl
theorem q1992 : (Jvm.Cond.soleField "StoneBacksModel" "tape") ∈ lw_all := lw_g (lw_at lw_m8 200 rfl) rfl
theorem q1993 : (Jvm.Cond.lays "StoneBacksModel" "StoneBacksModel" "taped" "I") ∈ lw_all := lw_g (lw_at lw_m8 201 rfl) rfl
theorem q1994 : (Jvm.Cond.soleField "StoneBacksModel" "taped") ∈ lw_all := lw_g (lw_at lw_m8 202 rfl) rfl
theorem q1995 : (Jvm.Cond.lays "StoneBacksModel" "StoneBacksModel" "base" "I") ∈ lw_all := lw_g (lw_at lw_m8 203 rfl) rfl
theorem q1996 : (Jvm.Cond.soleField "StoneBacksModel" "base") ∈ lw_all := lw_g (lw_at lw_m8 204 rfl) rfl
theorem q1997 : (Jvm.Cond.lays "StoneBacksModel" "StoneBacksModel" "end" "I") ∈ lw_all := lw_g (lw_at lw_m8 205 rfl) rfl
theorem q1998 : (Jvm.Cond.soleField "StoneBacksModel" "end") ∈ lw_all := lw_g (lw_at lw_m8 206 rfl) rfl
theorem q1999 : (Jvm.Cond.lays "StoneBacksModel" "StoneBacksModel" "at" "I") ∈ lw_all := lw_g (lw_at lw_m8 207 rfl) rfl
theorem q2000 : (Jvm.Cond.soleField "StoneBacksModel" "at") ∈ lw_all := lw_g (lw_at lw_m8 208 rfl) rfl
theorem q2001 : (Jvm.Cond.lays "StoneBacksModel" "StoneBacksModel" "fault" "I") ∈ lw_all := lw_g (lw_at lw_m8 209 rfl) rfl
theorem q2002 : (Jvm.Cond.soleField "StoneBacksModel" "fault") ∈ lw_all := lw_g (lw_at lw_m8 210 rfl) rfl
theorem q2003 : (Jvm.Cond.lays "StoneBacksModel" "StoneBacksModel" "deep" "I") ∈ lw_all := lw_g (lw_at lw_m8 211 rfl) rfl
theorem q2004 : (Jvm.Cond.soleField "StoneBacksModel" "deep") ∈ lw_all := lw_g (lw_at lw_m8 212 rfl) rfl
theorem q2005 : (Jvm.Cond.laysFinal "StoneBacksModel" "StoneBacksModel" "fact" "[I") ∈ lw_all := lw_g (lw_at lw_m8 213 rfl) rfl
theorem q2006 : (Jvm.Cond.soleField "StoneBacksModel" "fact") ∈ lw_all := lw_g (lw_at lw_m8 214 rfl) rfl
theorem q2007 : (Jvm.Cond.lays "StoneBacksModel" "StoneBacksModel" "isThere" "Z") ∈ lw_all := lw_g (lw_at lw_m8 215 rfl) rfl
theorem q2008 : (Jvm.Cond.soleField "StoneBacksModel" "isThere") ∈ lw_all := lw_g (lw_at lw_m8 216 rfl) rfl
theorem q2009 : (Jvm.Cond.lays "StoneBacksModel" "StoneBacksModel" "isLight" "Z") ∈ lw_all := lw_g (lw_at lw_m8 217 rfl) rfl
theorem q2010 : (Jvm.Cond.soleField "StoneBacksModel" "isLight") ∈ lw_all := lw_g (lw_at lw_m8 218 rfl) rfl
theorem q2011 : (Jvm.Cond.lays "StoneBacksModel" "StoneBacksModel" "tires" "I") ∈ lw_all := lw_g (lw_at lw_m8 219 rfl) rfl
theorem q2012 : (Jvm.Cond.soleField "StoneBacksModel" "tires") ∈ lw_all := lw_g (lw_at lw_m8 220 rfl) rfl
theorem q2013 : (Jvm.Cond.lays "StoneBacksModel" "StoneBacksModel" "earns" "I") ∈ lw_all := lw_g (lw_at lw_m8 221 rfl) rfl
theorem q2014 : (Jvm.Cond.soleField "StoneBacksModel" "earns") ∈ lw_all := lw_g (lw_at lw_m8 222 rfl) rfl
theorem q2015 : (Jvm.Cond.lays "StoneBacksModel" "StoneBacksModel" "hurts" "I") ∈ lw_all := lw_g (lw_at lw_m8 223 rfl) rfl
theorem q2016 : (Jvm.Cond.soleField "StoneBacksModel" "hurts") ∈ lw_all := lw_g (lw_at lw_m8 224 rfl) rfl
theorem q2017 : (Jvm.Cond.laysFinal "StoneBacksModel" "StoneBacksModel" "least" "[I") ∈ lw_all := lw_g (lw_at lw_m8 225 rfl) rfl
theorem q2018 : (Jvm.Cond.soleField "StoneBacksModel" "least") ∈ lw_all := lw_g (lw_at lw_m8 226 rfl) rfl
theorem q2019 : (Jvm.Cond.laysFinal "StoneBacksModel" "StoneBacksModel" "then" "[I") ∈ lw_all := lw_g (lw_at lw_m8 227 rfl) rfl
theorem q2020 : (Jvm.Cond.soleField "StoneBacksModel" "then") ∈ lw_all := lw_g (lw_at lw_m8 228 rfl) rfl
theorem q2021 : (Jvm.Cond.laysFinal "StoneBacksModel" "StoneBacksModel" "room" "[I") ∈ lw_all := lw_g (lw_at lw_m8 229 rfl) rfl
theorem q2022 : (Jvm.Cond.soleField "StoneBacksModel" "room") ∈ lw_all := lw_g (lw_at lw_m8 230 rfl) rfl
theorem q2023 : (Jvm.Cond.superclass "StoneBacksModel" "java/lang/Object") ∈ lw_all := lw_g (lw_at lw_m8 231 rfl) rfl
theorem q2025 : (Jvm.Cond.instanceMethod ({ cls := "StoneBacksModel", name := "thrown", desc := "()I" } : Jvm.MethodName)) ∈ lw_all := lw_g (lw_at lw_m8 233 rfl) rfl
theorem q2026 : (Jvm.Cond.selects "StoneBacksModel" ({ cls := "StoneBacksModel", name := "thrown", desc := "()I" } : Jvm.MethodName) ({ cls := "StoneBacksModel", name := "thrown", desc := "()I" } : Jvm.MethodName)) ∈ lw_all := lw_g (lw_at lw_m8 234 rfl) rfl
theorem q2027 : (Jvm.Cond.code ({ cls := "StoneBacksModel", name := "thrown", desc := "()I" } : Jvm.MethodName) prog_19_method_2_code (1 : Nat) (Option.some Jvm.ClassFile.FieldType.int)) ∈ lw_all := lw_g (lw_at lw_m8 235 rfl) rfl
theorem q2029 : (Jvm.Cond.instanceMethod ({ cls := "StoneBacksModel", name := "feed", desc := "(IIIII)I" } : Jvm.MethodName)) ∈ lw_all := lw_g (lw_at lw_m8 237 rfl) rfl
theorem q2030 : (Jvm.Cond.selects "StoneBacksModel" ({ cls := "StoneBacksModel", name := "feed", desc := "(IIIII)I" } : Jvm.MethodName) ({ cls := "StoneBacksModel", name := "feed", desc := "(IIIII)I" } : Jvm.MethodName)) ∈ lw_all := lw_g (lw_at lw_m8 238 rfl) rfl
theorem q2031 : (Jvm.Cond.code ({ cls := "StoneBacksModel", name := "feed", desc := "(IIIII)I" } : Jvm.MethodName) prog_19_method_19_code (8 : Nat) (Option.some Jvm.ClassFile.FieldType.int)) ∈ lw_all := lw_g (lw_at lw_m8 239 rfl) rfl
theorem q2033 : (Jvm.Cond.instanceMethod ({ cls := "StoneBacksModel", name := "end", desc := "(I)Z" } : Jvm.MethodName)) ∈ lw_all := lw_g (lw_at lw_m9 1 rfl) rfl
theorem q2034 : (Jvm.Cond.selects "StoneBacksModel" ({ cls := "StoneBacksModel", name := "end", desc := "(I)Z" } : Jvm.MethodName) ({ cls := "StoneBacksModel", name := "end", desc := "(I)Z" } : Jvm.MethodName)) ∈ lw_all := lw_g (lw_at lw_m9 2 rfl) rfl
theorem q2035 : (Jvm.Cond.code ({ cls := "StoneBacksModel", name := "end", desc := "(I)Z" } : Jvm.MethodName) prog_19_method_20_code (2 : Nat) (Option.some Jvm.ClassFile.FieldType.boolean)) ∈ lw_all := lw_g (lw_at lw_m9 3 rfl) rfl
theorem q2036 : (Jvm.Cond.methodLink "StoneBacksModel" (44 : Nat) ({ cls := "StoneBacksModel", name := "isIn", desc := "(III)Z" } : Jvm.MethodName)) ∈ lw_all := lw_g (lw_at lw_m9 4 rfl) rfl
theorem q2037 : (Jvm.Cond.static ({ cls := "StoneBacksModel", name := "isIn", desc := "(III)Z" } : Jvm.MethodName)) ∈ lw_all := lw_g (lw_at lw_m9 5 rfl) rfl
theorem q2038 : (Jvm.Cond.code ({ cls := "StoneBacksModel", name := "isIn", desc := "(III)Z" } : Jvm.MethodName) prog_19_method_3_code (3 : Nat) (Option.some Jvm.ClassFile.FieldType.boolean)) ∈ lw_all := lw_g (lw_at lw_m9 6 rfl) rfl
theorem q2040 : (Jvm.Cond.instanceMethod ({ cls := "StoneBacksModel", name := "valley", desc := "()I" } : Jvm.MethodName)) ∈ lw_all := lw_g (lw_at lw_m9 8 rfl) rfl
theorem q2041 : (Jvm.Cond.selects "StoneBacksModel" ({ cls := "StoneBacksModel", name := "valley", desc := "()I" } : Jvm.MethodName) ({ cls := "StoneBacksModel", name := "valley", desc := "()I" } : Jvm.MethodName)) ∈ lw_all := lw_g (lw_at lw_m9 9 rfl) rfl
theorem q2042 : (Jvm.Cond.code ({ cls := "StoneBacksModel", name := "valley", desc := "()I" } : Jvm.MethodName) prog_19_method_39_code (2 : Nat) (Option.some Jvm.ClassFile.FieldType.int)) ∈ lw_all := lw_g (lw_at lw_m9 10 rfl) rfl
theorem q2043 : (Jvm.Cond.methodLink "StoneBacksModel" (175 : Nat) ({ cls := "StoneBacksModel", name := "putsAside", desc := "()V" } : Jvm.MethodName)) ∈ lw_all := lw_g (lw_at lw_m9 11 rfl) rfl
theorem q2044 : (Jvm.Cond.privateMethod ({ cls := "StoneBacksModel", name := "putsAside", desc := "()V" } : Jvm.MethodName)) ∈ lw_tbl := lw_at lw_m9 12 rfl
theorem q2045 : (Jvm.Cond.instanceMethod ({ cls := "StoneBacksModel", name := "putsAside", desc := "()V" } : Jvm.MethodName)) ∈ lw_all := lw_g (lw_at lw_m9 13 rfl) rfl
theorem q2046 : (Jvm.Cond.code ({ cls := "StoneBacksModel", name := "putsAside", desc := "()V" } : Jvm.MethodName) prog_19_method_37_code (2 : Nat) (Option.none : Option Jvm.ClassFile.FieldType)) ∈ lw_all := lw_g (lw_at lw_m9 14 rfl) rfl
theorem q2047 : (Jvm.Cond.methodLink "StoneBacksModel" (178 : Nat) ({ cls := "StoneBacksModel", name := "begins", desc := "()V" } : Jvm.MethodName)) ∈ lw_all := lw_g (lw_at lw_m9 15 rfl) rfl
theorem q2048 : (Jvm.Cond.privateMethod ({ cls := "StoneBacksModel", name := "begins", desc := "()V" } : Jvm.MethodName)) ∈ lw_tbl := lw_at lw_m9 16 rfl
theorem q2049 : (Jvm.Cond.instanceMethod ({ cls := "StoneBacksModel", name := "begins", desc := "()V" } : Jvm.MethodName)) ∈ lw_all := lw_g (lw_at lw_m9 17 rfl) rfl
theorem q2050 : (Jvm.Cond.code ({ cls := "StoneBacksModel", name := "begins", desc := "()V" } : Jvm.MethodName) prog_19_method_35_code (1 : Nat) (Option.none : Option Jvm.ClassFile.FieldType)) ∈ lw_all := lw_g (lw_at lw_m9 18 rfl) rfl
theorem q2051 : (Jvm.Cond.methodLink "StoneBacksModel" (181 : Nat) ({ cls := "StoneBacksModel", name := "read", desc := "(Z)I" } : Jvm.MethodName)) ∈ lw_all := lw_g (lw_at lw_m9 19 rfl) rfl
theorem q2052 : (Jvm.Cond.privateMethod ({ cls := "StoneBacksModel", name := "read", desc := "(Z)I" } : Jvm.MethodName)) ∈ lw_tbl := lw_at lw_m9 20 rfl
theorem q2053 : (Jvm.Cond.instanceMethod ({ cls := "StoneBacksModel", name := "read", desc := "(Z)I" } : Jvm.MethodName)) ∈ lw_all := lw_g (lw_at lw_m9 21 rfl) rfl
theorem q2054 : (Jvm.Cond.code ({ cls := "StoneBacksModel", name := "read", desc := "(Z)I" } : Jvm.MethodName) prog_19_method_36_code (4 : Nat) (Option.some Jvm.ClassFile.FieldType.int)) ∈ lw_all := lw_g (lw_at lw_m9 22 rfl) rfl
theorem q2055 : (Jvm.Cond.methodLink "StoneBacksModel" (84 : Nat) ({ cls := "StoneBacksModel", name := "skip", desc := "()V" } : Jvm.MethodName)) ∈ lw_all := lw_g (lw_at lw_m9 23 rfl) rfl
theorem q2056 : (Jvm.Cond.privateMethod ({ cls := "StoneBacksModel", name := "skip", desc := "()V" } : Jvm.MethodName)) ∈ lw_tbl := lw_at lw_m9 24 rfl
theorem q2057 : (Jvm.Cond.instanceMethod ({ cls := "StoneBacksModel", name := "skip", desc := "()V" } : Jvm.MethodName)) ∈ lw_all := lw_g (lw_at lw_m9 25 rfl) rfl
theorem q2058 : (Jvm.Cond.code ({ cls := "StoneBacksModel", name := "skip", desc := "()V" } : Jvm.MethodName) prog_19_method_22_code (1 : Nat) (Option.none : Option Jvm.ClassFile.FieldType)) ∈ lw_all := lw_g (lw_at lw_m9 26 rfl) rfl
theorem q2059 : (Jvm.Cond.methodLink "StoneBacksModel" (81 : Nat) ({ cls := "StoneBacksModel", name := "letter", desc := "(I)I" } : Jvm.MethodName)) ∈ lw_all := lw_g (lw_at lw_m9 27 rfl) rfl
theorem q2060 : (Jvm.Cond.privateMethod ({ cls := "StoneBacksModel", name := "letter", desc := "(I)I" } : Jvm.MethodName)) ∈ lw_tbl := lw_at lw_m9 28 rfl
theorem q2061 : (Jvm.Cond.instanceMethod ({ cls := "StoneBacksModel", name := "letter", desc := "(I)I" } : Jvm.MethodName)) ∈ lw_all := lw_g (lw_at lw_m9 29 rfl) rfl
theorem q2062 : (Jvm.Cond.code ({ cls := "StoneBacksModel", name := "letter", desc := "(I)I" } : Jvm.MethodName) prog_19_method_21_code (2 : Nat) (Option.some Jvm.ClassFile.FieldType.int)) ∈ lw_all := lw_g (lw_at lw_m9 30 rfl) rfl
theorem q2063 : (Jvm.Cond.methodLink "StoneBacksModel" (100 : Nat) ({ cls := "StoneBacksModel", name := "wrong", desc := "(I)V" } : Jvm.MethodName)) ∈ lw_all := lw_g (lw_at lw_m9 31 rfl) rfl
theorem q2064 : (Jvm.Cond.privateMethod ({ cls := "StoneBacksModel", name := "wrong", desc := "(I)V" } : Jvm.MethodName)) ∈ lw_tbl := lw_at lw_m9 32 rfl
theorem q2065 : (Jvm.Cond.instanceMethod ({ cls := "StoneBacksModel", name := "wrong", desc := "(I)V" } : Jvm.MethodName)) ∈ lw_all := lw_g (lw_at lw_m9 33 rfl) rfl
theorem q2066 : (Jvm.Cond.code ({ cls := "StoneBacksModel", name := "wrong", desc := "(I)V" } : Jvm.MethodName) prog_19_method_25_code (2 : Nat) (Option.none : Option Jvm.ClassFile.FieldType)) ∈ lw_all := lw_g (lw_at lw_m9 34 rfl) rfl
theorem q2067 : (Jvm.Cond.methodLink "StoneBacksModel" (165 : Nat) ({ cls := "StoneBacksModel", name := "lawLine", desc := "()V" } : Jvm.MethodName)) ∈ lw_all := lw_g (lw_at lw_m9 35 rfl) rfl
theorem q2068 : (Jvm.Cond.privateMethod ({ cls := "StoneBacksModel", name := "lawLine", desc := "()V" } : Jvm.MethodName)) ∈ lw_tbl := lw_at lw_m9 36 rfl
theorem q2069 : (Jvm.Cond.instanceMethod ({ cls := "StoneBacksModel", name := "lawLine", desc := "()V" } : Jvm.MethodName)) ∈ lw_all := lw_g (lw_at lw_m9 37 rfl) rfl
theorem q2070 : (Jvm.Cond.code ({ cls := "StoneBacksModel", name := "lawLine", desc := "()V" } : Jvm.MethodName) prog_19_method_46_code (4 : Nat) (Option.none : Option Jvm.ClassFile.FieldType)) ∈ lw_all := lw_g (lw_at lw_m9 38 rfl) rfl
theorem q2071 : (Jvm.Cond.stringRef "StoneBacksModel" (234 : Nat) "tire") ∈ lw_tbl := lw_at lw_m9 39 rfl
theorem q2072 : (Jvm.Cond.methodLink "StoneBacksModel" (104 : Nat) ({ cls := "StoneBacksModel", name := "has", desc := "(Ljava/lang/String;)Z" } : Jvm.MethodName)) ∈ lw_all := lw_g (lw_at lw_m9 40 rfl) rfl
theorem q2073 : (Jvm.Cond.privateMethod ({ cls := "StoneBacksModel", name := "has", desc := "(Ljava/lang/String;)Z" } : Jvm.MethodName)) ∈ lw_tbl := lw_at lw_m9 41 rfl
theorem q2074 : (Jvm.Cond.instanceMethod ({ cls := "StoneBacksModel", name := "has", desc := "(Ljava/lang/String;)Z" } : Jvm.MethodName)) ∈ lw_all := lw_g (lw_at lw_m9 42 rfl) rfl
theorem q2075 : (Jvm.Cond.code ({ cls := "StoneBacksModel", name := "has", desc := "(Ljava/lang/String;)Z" } : Jvm.MethodName) prog_19_method_24_code (4 : Nat) (Option.some Jvm.ClassFile.FieldType.boolean)) ∈ lw_all := lw_g (lw_at lw_m9 43 rfl) rfl
theorem q2076 : (Jvm.Cond.methodLink "StoneBacksModel" (87 : Nat) ({ cls := "java/lang/String", name := "length", desc := "()I" } : Jvm.MethodName)) ∈ lw_all := lw_g (lw_at lw_m9 44 rfl) rfl
theorem q2077 : (Jvm.Cond.methodLink "StoneBacksModel" (93 : Nat) ({ cls := "java/lang/String", name := "charAt", desc := "(I)C" } : Jvm.MethodName)) ∈ lw_all := lw_g (lw_at lw_m9 45 rfl) rfl
theorem q2088 : (Jvm.Cond.stringRef "StoneBacksModel" (236 : Nat) "earn") ∈ lw_tbl := lw_at lw_m9 56 rfl
theorem q2089 : (Jvm.Cond.stringRef "StoneBacksModel" (238 : Nat) "hurt") ∈ lw_tbl := lw_at lw_m9 57 rfl
theorem q2090 : (Jvm.Cond.methodLink "StoneBacksModel" (108 : Nat) ({ cls := "StoneBacksModel", name := "figures", desc := "(II)I" } : Jvm.MethodName)) ∈ lw_all := lw_g (lw_at lw_m9 58 rfl) rfl
theorem q2091 : (Jvm.Cond.privateMethod ({ cls := "StoneBacksModel", name := "figures", desc := "(II)I" } : Jvm.MethodName)) ∈ lw_tbl := lw_at lw_m9 59 rfl
theorem q2092 : (Jvm.Cond.instanceMethod ({ cls := "StoneBacksModel", name := "figures", desc := "(II)I" } : Jvm.MethodName)) ∈ lw_all := lw_g (lw_at lw_m9 60 rfl) rfl
theorem q2093 : (Jvm.Cond.code ({ cls := "StoneBacksModel", name := "figures", desc := "(II)I" } : Jvm.MethodName) prog_19_method_27_code (5 : Nat) (Option.some Jvm.ClassFile.FieldType.int)) ∈ lw_all := lw_g (lw_at lw_m9 61 rfl) rfl
theorem q2094 : (Jvm.Cond.methodLink "StoneBacksModel" (97 : Nat) ({ cls := "StoneBacksModel", name := "here", desc := "()I" } : Jvm.MethodName)) ∈ lw_all := lw_g (lw_at lw_m9 62 rfl) rfl
theorem q2095 : (Jvm.Cond.privateMethod ({ cls := "StoneBacksModel", name := "here", desc := "()I" } : Jvm.MethodName)) ∈ lw_tbl := lw_at lw_m9 63 rfl
theorem q2096 : (Jvm.Cond.instanceMethod ({ cls := "StoneBacksModel", name := "here", desc := "()I" } : Jvm.MethodName)) ∈ lw_all := lw_g (lw_at lw_m9 64 rfl) rfl
theorem q2097 : (Jvm.Cond.code ({ cls := "StoneBacksModel", name := "here", desc := "()I" } : Jvm.MethodName) prog_19_method_26_code (1 : Nat) (Option.some Jvm.ClassFile.FieldType.int)) ∈ lw_all := lw_g (lw_at lw_m9 65 rfl) rfl
theorem q2098 : (Jvm.Cond.stringRef "StoneBacksModel" (240 : Nat) "if") ∈ lw_tbl := lw_at lw_m9 66 rfl
theorem q2099 : (Jvm.Cond.methodLink "StoneBacksModel" (224 : Nat) ({ cls := "StoneBacksModel", name := "some", desc := "()Z" } : Jvm.MethodName)) ∈ lw_all := lw_g (lw_at lw_m9 67 rfl) rfl
theorem q2100 : (Jvm.Cond.privateMethod ({ cls := "StoneBacksModel", name := "some", desc := "()Z" } : Jvm.MethodName)) ∈ lw_tbl := lw_at lw_m9 68 rfl
theorem q2101 : (Jvm.Cond.instanceMethod ({ cls := "StoneBacksModel", name := "some", desc := "()Z" } : Jvm.MethodName)) ∈ lw_all := lw_g (lw_at lw_m9 69 rfl) rfl
theorem q2102 : (Jvm.Cond.code ({ cls := "StoneBacksModel", name := "some", desc := "()Z" } : Jvm.MethodName) prog_19_method_45_code (3 : Nat) (Option.some Jvm.ClassFile.FieldType.boolean)) ∈ lw_all := lw_g (lw_at lw_m9 70 rfl) rfl
theorem q2103 : (Jvm.Cond.methodLink "StoneBacksModel" (229 : Nat) ({ cls := "StoneBacksModel", name := "every", desc := "()Z" } : Jvm.MethodName)) ∈ lw_all := lw_g (lw_at lw_m9 71 rfl) rfl
theorem q2104 : (Jvm.Cond.privateMethod ({ cls := "StoneBacksModel", name := "every", desc := "()Z" } : Jvm.MethodName)) ∈ lw_tbl := lw_at lw_m9 72 rfl
theorem q2105 : (Jvm.Cond.instanceMethod ({ cls := "StoneBacksModel", name := "every", desc := "()Z" } : Jvm.MethodName)) ∈ lw_all := lw_g (lw_at lw_m9 73 rfl) rfl
theorem q2106 : (Jvm.Cond.code ({ cls := "StoneBacksModel", name := "every", desc := "()Z" } : Jvm.MethodName) prog_19_method_44_code (3 : Nat) (Option.some Jvm.ClassFile.FieldType.boolean)) ∈ lw_all := lw_g (lw_at lw_m9 74 rfl) rfl
theorem q2107 : (Jvm.Cond.methodLink "StoneBacksModel" (221 : Nat) ({ cls := "StoneBacksModel", name := "atom", desc := "()Z" } : Jvm.MethodName)) ∈ lw_all := lw_g (lw_at lw_m9 75 rfl) rfl
theorem q2108 : (Jvm.Cond.privateMethod ({ cls := "StoneBacksModel", name := "atom", desc := "()Z" } : Jvm.MethodName)) ∈ lw_tbl := lw_at lw_m9 76 rfl
theorem q2109 : (Jvm.Cond.instanceMethod ({ cls := "StoneBacksModel", name := "atom", desc := "()Z" } : Jvm.MethodName)) ∈ lw_all := lw_g (lw_at lw_m9 77 rfl) rfl
theorem q2110 : (Jvm.Cond.code ({ cls := "StoneBacksModel", name := "atom", desc := "()Z" } : Jvm.MethodName) prog_19_method_43_code (4 : Nat) (Option.some Jvm.ClassFile.FieldType.boolean)) ∈ lw_all := lw_g (lw_at lw_m9 78 rfl) rfl
theorem q2111 : (Jvm.Cond.stringRef "StoneBacksModel" (215 : Nat) "not") ∈ lw_tbl := lw_at lw_m9 79 rfl
theorem q2112 : (Jvm.Cond.methodLink "StoneBacksModel" (171 : Nat) ({ cls := "StoneBacksModel", name := "isSign", desc := "(I)Z" } : Jvm.MethodName)) ∈ lw_all := lw_g (lw_at lw_m9 80 rfl) rfl
theorem q2113 : (Jvm.Cond.privateMethod ({ cls := "StoneBacksModel", name := "isSign", desc := "(I)Z" } : Jvm.MethodName)) ∈ lw_tbl := lw_at lw_m9 81 rfl
theorem q2114 : (Jvm.Cond.instanceMethod ({ cls := "StoneBacksModel", name := "isSign", desc := "(I)Z" } : Jvm.MethodName)) ∈ lw_all := lw_g (lw_at lw_m9 82 rfl) rfl
theorem q2115 : (Jvm.Cond.code ({ cls := "StoneBacksModel", name := "isSign", desc := "(I)Z" } : Jvm.MethodName) prog_19_method_23_code (2 : Nat) (Option.some Jvm.ClassFile.FieldType.boolean)) ∈ lw_all := lw_g (lw_at lw_m9 83 rfl) rfl
theorem q2116 : (Jvm.Cond.methodLink "StoneBacksModel" (217 : Nat) ({ cls := "StoneBacksModel", name := "plain", desc := "()Z" } : Jvm.MethodName)) ∈ lw_all := lw_g (lw_at lw_m9 84 rfl) rfl
theorem q2117 : (Jvm.Cond.privateMethod ({ cls := "StoneBacksModel", name := "plain", desc := "()Z" } : Jvm.MethodName)) ∈ lw_tbl := lw_at lw_m9 85 rfl
theorem q2118 : (Jvm.Cond.instanceMethod ({ cls := "StoneBacksModel", name := "plain", desc := "()Z" } : Jvm.MethodName)) ∈ lw_all := lw_g (lw_at lw_m9 86 rfl) rfl
theorem q2119 : (Jvm.Cond.code ({ cls := "StoneBacksModel", name := "plain", desc := "()Z" } : Jvm.MethodName) prog_19_method_42_code (4 : Nat) (Option.some Jvm.ClassFile.FieldType.boolean)) ∈ lw_all := lw_g (lw_at lw_m9 87 rfl) rfl
theorem q2120 : (Jvm.Cond.stringRef "StoneBacksModel" (201 : Nat) "there") ∈ lw_tbl := lw_at lw_m9 88 rfl
theorem q2121 : (Jvm.Cond.stringRef "StoneBacksModel" (207 : Nat) "light") ∈ lw_tbl := lw_at lw_m9 89 rfl
theorem q2122 : (Jvm.Cond.methodLink "StoneBacksModel" (212 : Nat) ({ cls := "StoneBacksModel", name := "sum", desc := "()I" } : Jvm.MethodName)) ∈ lw_all := lw_g (lw_at lw_m9 90 rfl) rfl
theorem q2123 : (Jvm.Cond.privateMethod ({ cls := "StoneBacksModel", name := "sum", desc := "()I" } : Jvm.MethodName)) ∈ lw_tbl := lw_at lw_m9 91 rfl
theorem q2124 : (Jvm.Cond.instanceMethod ({ cls := "StoneBacksModel", name := "sum", desc := "()I" } : Jvm.MethodName)) ∈ lw_all := lw_g (lw_at lw_m9 92 rfl) rfl
theorem q2125 : (Jvm.Cond.code ({ cls := "StoneBacksModel", name := "sum", desc := "()I" } : Jvm.MethodName) prog_19_method_41_code (2 : Nat) (Option.some Jvm.ClassFile.FieldType.int)) ∈ lw_all := lw_g (lw_at lw_m9 93 rfl) rfl
theorem q2126 : (Jvm.Cond.methodLink "StoneBacksModel" (198 : Nat) ({ cls := "StoneBacksModel", name := "part", desc := "()I" } : Jvm.MethodName)) ∈ lw_all := lw_g (lw_at lw_m9 94 rfl) rfl
theorem q2127 : (Jvm.Cond.privateMethod ({ cls := "StoneBacksModel", name := "part", desc := "()I" } : Jvm.MethodName)) ∈ lw_tbl := lw_at lw_m9 95 rfl
theorem q2128 : (Jvm.Cond.instanceMethod ({ cls := "StoneBacksModel", name := "part", desc := "()I" } : Jvm.MethodName)) ∈ lw_all := lw_g (lw_at lw_m9 96 rfl) rfl
theorem q2129 : (Jvm.Cond.code ({ cls := "StoneBacksModel", name := "part", desc := "()I" } : Jvm.MethodName) prog_19_method_40_code (2 : Nat) (Option.some Jvm.ClassFile.FieldType.int)) ∈ lw_all := lw_g (lw_at lw_m9 97 rfl) rfl
theorem q2130 : (Jvm.Cond.stringRef "StoneBacksModel" (191 : Nat) "who") ∈ lw_tbl := lw_at lw_m9 98 rfl
theorem q2131 : (Jvm.Cond.stringRef "StoneBacksModel" (193 : Nat) "load") ∈ lw_tbl := lw_at lw_m9 99 rfl
theorem q2132 : (Jvm.Cond.stringRef "StoneBacksModel" (111 : Nat) "back") ∈ lw_tbl := lw_at lw_m9 100 rfl
theorem q2133 : (Jvm.Cond.stringRef "StoneBacksModel" (194 : Nat) "place") ∈ lw_tbl := lw_at lw_m9 101 rfl
theorem q2134 : (Jvm.Cond.stringRef "StoneBacksModel" (151 : Nat) "slope") ∈ lw_tbl := lw_at lw_m9 102 rfl
theorem q2135 : (Jvm.Cond.stringRef "StoneBacksModel" (196 : Nat) "tired") ∈ lw_tbl := lw_at lw_m9 103 rfl
theorem q2136 : (Jvm.Cond.stringRef "StoneBacksModel" (160 : Nat) "hour") ∈ lw_tbl := lw_at lw_m9 104 rfl
theorem q2137 : (Jvm.Cond.stringRef "StoneBacksModel" (227 : Nat) "and") ∈ lw_tbl := lw_at lw_m9 105 rfl
theorem q2138 : (Jvm.Cond.stringRef "StoneBacksModel" (232 : Nat) "or") ∈ lw_tbl := lw_at lw_m9 106 rfl
theorem q2139 : (Jvm.Cond.methodLink "StoneBacksModel" (168 : Nat) ({ cls := "StoneBacksModel", name := "valleyLine", desc := "()V" } : Jvm.MethodName)) ∈ lw_all := lw_g (lw_at lw_m9 107 rfl) rfl
theorem q2140 : (Jvm.Cond.privateMethod ({ cls := "StoneBacksModel", name := "valleyLine", desc := "()V" } : Jvm.MethodName)) ∈ lw_tbl := lw_at lw_m9 108 rfl
theorem q2141 : (Jvm.Cond.instanceMethod ({ cls := "StoneBacksModel", name := "valleyLine", desc := "()V" } : Jvm.MethodName)) ∈ lw_all := lw_g (lw_at lw_m9 109 rfl) rfl
theorem q2142 : (Jvm.Cond.code ({ cls := "StoneBacksModel", name := "valleyLine", desc := "()V" } : Jvm.MethodName) prog_19_method_33_code (4 : Nat) (Option.none : Option Jvm.ClassFile.FieldType)) ∈ lw_all := lw_g (lw_at lw_m9 110 rfl) rfl
theorem q2143 : (Jvm.Cond.stringRef "StoneBacksModel" (141 : Nat) "person") ∈ lw_tbl := lw_at lw_m9 111 rfl
theorem q2144 : (Jvm.Cond.methodLink "StoneBacksModel" (143 : Nat) ({ cls := "StoneBacksModel", name := "personLine", desc := "(I)V" } : Jvm.MethodName)) ∈ lw_all := lw_g (lw_at lw_m9 112 rfl) rfl
theorem q2145 : (Jvm.Cond.privateMethod ({ cls := "StoneBacksModel", name := "personLine", desc := "(I)V" } : Jvm.MethodName)) ∈ lw_tbl := lw_at lw_m9 113 rfl
theorem q2146 : (Jvm.Cond.instanceMethod ({ cls := "StoneBacksModel", name := "personLine", desc := "(I)V" } : Jvm.MethodName)) ∈ lw_all := lw_g (lw_at lw_m9 114 rfl) rfl
theorem q2147 : (Jvm.Cond.code ({ cls := "StoneBacksModel", name := "personLine", desc := "(I)V" } : Jvm.MethodName) prog_19_method_29_code (7 : Nat) (Option.none : Option Jvm.ClassFile.FieldType)) ∈ lw_all := lw_g (lw_at lw_m9 115 rfl) rfl
theorem q2148 : (Jvm.Cond.methodLink "StoneBacksModel" (113 : Nat) ({ cls := "StoneBacksModel", name := "after", desc := "(Ljava/lang/String;II)I" } : Jvm.MethodName)) ∈ lw_all := lw_g (lw_at lw_m9 116 rfl) rfl
theorem q2149 : (Jvm.Cond.privateMethod ({ cls := "StoneBacksModel", name := "after", desc := "(Ljava/lang/String;II)I" } : Jvm.MethodName)) ∈ lw_tbl := lw_at lw_m9 117 rfl
theorem q2150 : (Jvm.Cond.instanceMethod ({ cls := "StoneBacksModel", name := "after", desc := "(Ljava/lang/String;II)I" } : Jvm.MethodName)) ∈ lw_all := lw_g (lw_at lw_m9 118 rfl) rfl
theorem q2151 : (Jvm.Cond.code ({ cls := "StoneBacksModel", name := "after", desc := "(Ljava/lang/String;II)I" } : Jvm.MethodName) prog_19_method_28_code (4 : Nat) (Option.some Jvm.ClassFile.FieldType.int)) ∈ lw_all := lw_g (lw_at lw_m9 119 rfl) rfl
theorem q2152 : (Jvm.Cond.stringRef "StoneBacksModel" (117 : Nat) "at") ∈ lw_tbl := lw_at lw_m9 120 rfl
theorem q2153 : (Jvm.Cond.stringRef "StoneBacksModel" (118 : Nat) "goal") ∈ lw_tbl := lw_at lw_m9 121 rfl
theorem q2154 : (Jvm.Cond.methodLink "StoneBacksModel" (120 : Nat) ({ cls := "StoneBacksModel", name := "put", desc := "(III)V" } : Jvm.MethodName)) ∈ lw_all := lw_g (lw_at lw_m9 122 rfl) rfl
theorem q2155 : (Jvm.Cond.privateMethod ({ cls := "StoneBacksModel", name := "put", desc := "(III)V" } : Jvm.MethodName)) ∈ lw_tbl := lw_at lw_m9 123 rfl
theorem q2156 : (Jvm.Cond.instanceMethod ({ cls := "StoneBacksModel", name := "put", desc := "(III)V" } : Jvm.MethodName)) ∈ lw_all := lw_g (lw_at lw_m9 124 rfl) rfl
theorem q2157 : (Jvm.Cond.code ({ cls := "StoneBacksModel", name := "put", desc := "(III)V" } : Jvm.MethodName) prog_19_method_9_code (4 : Nat) (Option.none : Option Jvm.ClassFile.FieldType)) ∈ lw_all := lw_g (lw_at lw_m9 125 rfl) rfl
theorem q2158 : (Jvm.Cond.stringRef "StoneBacksModel" (146 : Nat) "stone") ∈ lw_tbl := lw_at lw_m9 126 rfl
theorem q2159 : (Jvm.Cond.methodLink "StoneBacksModel" (148 : Nat) ({ cls := "StoneBacksModel", name := "stoneLine", desc := "(I)V" } : Jvm.MethodName)) ∈ lw_all := lw_g (lw_at lw_m9 127 rfl) rfl
theorem q2160 : (Jvm.Cond.privateMethod ({ cls := "StoneBacksModel", name := "stoneLine", desc := "(I)V" } : Jvm.MethodName)) ∈ lw_tbl := lw_at lw_m9 128 rfl
theorem q2161 : (Jvm.Cond.instanceMethod ({ cls := "StoneBacksModel", name := "stoneLine", desc := "(I)V" } : Jvm.MethodName)) ∈ lw_all := lw_g (lw_at lw_m9 129 rfl) rfl
theorem q2162 : (Jvm.Cond.code ({ cls := "StoneBacksModel", name := "stoneLine", desc := "(I)V" } : Jvm.MethodName) prog_19_method_31_code (6 : Nat) (Option.none : Option Jvm.ClassFile.FieldType)) ∈ lw_all := lw_g (lw_at lw_m9 130 rfl) rfl
theorem q2163 : (Jvm.Cond.stringRef "StoneBacksModel" (124 : Nat) "of") ∈ lw_tbl := lw_at lw_m9 131 rfl
theorem q2164 : (Jvm.Cond.stringRef "StoneBacksModel" (125 : Nat) "to") ∈ lw_tbl := lw_at lw_m9 132 rfl
theorem q2165 : (Jvm.Cond.methodLink "StoneBacksModel" (127 : Nat) ({ cls := "StoneBacksModel", name := "otherAfter", desc := "(Ljava/lang/String;I)I" } : Jvm.MethodName)) ∈ lw_all := lw_g (lw_at lw_m9 133 rfl) rfl
theorem q2166 : (Jvm.Cond.privateMethod ({ cls := "StoneBacksModel", name := "otherAfter", desc := "(Ljava/lang/String;I)I" } : Jvm.MethodName)) ∈ lw_tbl := lw_at lw_m9 134 rfl
theorem q2167 : (Jvm.Cond.instanceMethod ({ cls := "StoneBacksModel", name := "otherAfter", desc := "(Ljava/lang/String;I)I" } : Jvm.MethodName)) ∈ lw_all := lw_g (lw_at lw_m9 135 rfl) rfl
theorem q2168 : (Jvm.Cond.code ({ cls := "StoneBacksModel", name := "otherAfter", desc := "(Ljava/lang/String;I)I" } : Jvm.MethodName) prog_19_method_30_code (5 : Nat) (Option.some Jvm.ClassFile.FieldType.int)) ∈ lw_all := lw_g (lw_at lw_m9 136 rfl) rfl
theorem q2169 : (Jvm.Cond.stringRef "StoneBacksModel" (131 : Nat) "worn") ∈ lw_tbl := lw_at lw_m9 137 rfl
theorem q2170 : (Jvm.Cond.stringRef "StoneBacksModel" (132 : Nat) "by") ∈ lw_tbl := lw_at lw_m9 138 rfl
theorem q2171 : (Jvm.Cond.methodLink "StoneBacksModel" (134 : Nat) ({ cls := "StoneBacksModel", name := "adds", desc := "(IIII)V" } : Jvm.MethodName)) ∈ lw_all := lw_g (lw_at lw_m9 139 rfl) rfl
theorem q2172 : (Jvm.Cond.privateMethod ({ cls := "StoneBacksModel", name := "adds", desc := "(IIII)V" } : Jvm.MethodName)) ∈ lw_tbl := lw_at lw_m9 140 rfl
theorem q2173 : (Jvm.Cond.instanceMethod ({ cls := "StoneBacksModel", name := "adds", desc := "(IIII)V" } : Jvm.MethodName)) ∈ lw_all := lw_g (lw_at lw_m9 141 rfl) rfl
theorem q2174 : (Jvm.Cond.code ({ cls := "StoneBacksModel", name := "adds", desc := "(IIII)V" } : Jvm.MethodName) prog_19_method_32_code (6 : Nat) (Option.none : Option Jvm.ClassFile.FieldType)) ∈ lw_all := lw_g (lw_at lw_m9 142 rfl) rfl
theorem q2175 : (Jvm.Cond.methodLink "StoneBacksModel" (138 : Nat) ({ cls := "StoneBacksModel", name := "putStone", desc := "(III)V" } : Jvm.MethodName)) ∈ lw_all := lw_g (lw_at lw_m9 143 rfl) rfl
theorem q2176 : (Jvm.Cond.privateMethod ({ cls := "StoneBacksModel", name := "putStone", desc := "(III)V" } : Jvm.MethodName)) ∈ lw_tbl := lw_at lw_m9 144 rfl
theorem q2177 : (Jvm.Cond.instanceMethod ({ cls := "StoneBacksModel", name := "putStone", desc := "(III)V" } : Jvm.MethodName)) ∈ lw_all := lw_g (lw_at lw_m9 145 rfl) rfl
theorem q2178 : (Jvm.Cond.code ({ cls := "StoneBacksModel", name := "putStone", desc := "(III)V" } : Jvm.MethodName) prog_19_method_11_code (4 : Nat) (Option.none : Option Jvm.ClassFile.FieldType)) ∈ lw_all := lw_g (lw_at lw_m9 146 rfl) rfl
theorem q2179 : (Jvm.Cond.stringRef "StoneBacksModel" (153 : Nat) "porch") ∈ lw_tbl := lw_at lw_m9 147 rfl
theorem q2180 : (Jvm.Cond.stringRef "StoneBacksModel" (155 : Nat) "limit") ∈ lw_tbl := lw_at lw_m9 148 rfl
theorem q2181 : (Jvm.Cond.methodLink "StoneBacksModel" (157 : Nat) ({ cls := "StoneBacksModel", name := "tells", desc := "(III)V" } : Jvm.MethodName)) ∈ lw_all := lw_g (lw_at lw_m9 149 rfl) rfl
theorem q2182 : (Jvm.Cond.privateMethod ({ cls := "StoneBacksModel", name := "tells", desc := "(III)V" } : Jvm.MethodName)) ∈ lw_tbl := lw_at lw_m9 150 rfl
theorem q2183 : (Jvm.Cond.instanceMethod ({ cls := "StoneBacksModel", name := "tells", desc := "(III)V" } : Jvm.MethodName)) ∈ lw_all := lw_g (lw_at lw_m9 151 rfl) rfl
theorem q2184 : (Jvm.Cond.code ({ cls := "StoneBacksModel", name := "tells", desc := "(III)V" } : Jvm.MethodName) prog_19_method_34_code (5 : Nat) (Option.none : Option Jvm.ClassFile.FieldType)) ∈ lw_all := lw_g (lw_at lw_m9 152 rfl) rfl
theorem q2185 : (Jvm.Cond.methodLink "StoneBacksModel" (185 : Nat) ({ cls := "StoneBacksModel", name := "comesBack", desc := "()V" } : Jvm.MethodName)) ∈ lw_all := lw_g (lw_at lw_m9 153 rfl) rfl
theorem q2186 : (Jvm.Cond.privateMethod ({ cls := "StoneBacksModel", name := "comesBack", desc := "()V" } : Jvm.MethodName)) ∈ lw_tbl := lw_at lw_m9 154 rfl
theorem q2187 : (Jvm.Cond.instanceMethod ({ cls := "StoneBacksModel", name := "comesBack", desc := "()V" } : Jvm.MethodName)) ∈ lw_all := lw_g (lw_at lw_m9 155 rfl) rfl
theorem q2188 : (Jvm.Cond.code ({ cls := "StoneBacksModel", name := "comesBack", desc := "()V" } : Jvm.MethodName) prog_19_method_38_code (2 : Nat) (Option.none : Option Jvm.ClassFile.FieldType)) ∈ lw_all := lw_g (lw_at lw_m9 156 rfl) rfl
theorem q2190 : (Jvm.Cond.instanceMethod ({ cls := "StoneBacksModel", name := "law", desc := "()I" } : Jvm.MethodName)) ∈ lw_all := lw_g (lw_at lw_m9 158 rfl) rfl
theorem q2191 : (Jvm.Cond.selects "StoneBacksModel" ({ cls := "StoneBacksModel", name := "law", desc := "()I" } : Jvm.MethodName) ({ cls := "StoneBacksModel", name := "law", desc := "()I" } : Jvm.MethodName)) ∈ lw_all := lw_g (lw_at lw_m9 159 rfl) rfl
theorem q2192 : (Jvm.Cond.code ({ cls := "StoneBacksModel", name := "law", desc := "()I" } : Jvm.MethodName) prog_19_method_47_code (3 : Nat) (Option.some Jvm.ClassFile.FieldType.int)) ∈ lw_all := lw_g (lw_at lw_m9 160 rfl) rfl
theorem q2194 : (Jvm.Cond.instanceMethod ({ cls := "StoneBacksModel", name := "fault", desc := "()I" } : Jvm.MethodName)) ∈ lw_all := lw_g (lw_at lw_m9 162 rfl) rfl
theorem q2195 : (Jvm.Cond.selects "StoneBacksModel" ({ cls := "StoneBacksModel", name := "fault", desc := "()I" } : Jvm.MethodName) ({ cls := "StoneBacksModel", name := "fault", desc := "()I" } : Jvm.MethodName)) ∈ lw_all := lw_g (lw_at lw_m9 163 rfl) rfl
theorem q2196 : (Jvm.Cond.code ({ cls := "StoneBacksModel", name := "fault", desc := "()I" } : Jvm.MethodName) prog_19_method_48_code (1 : Nat) (Option.some Jvm.ClassFile.FieldType.int)) ∈ lw_all := lw_g (lw_at lw_m9 164 rfl) rfl
theorem q2198 : (Jvm.Cond.instanceMethod ({ cls := "StoneBacksModel", name := "person", desc := "(II)I" } : Jvm.MethodName)) ∈ lw_all := lw_g (lw_at lw_m9 166 rfl) rfl
theorem q2199 : (Jvm.Cond.selects "StoneBacksModel" ({ cls := "StoneBacksModel", name := "person", desc := "(II)I" } : Jvm.MethodName) ({ cls := "StoneBacksModel", name := "person", desc := "(II)I" } : Jvm.MethodName)) ∈ lw_all := lw_g (lw_at lw_m9 167 rfl) rfl
theorem q2200 : (Jvm.Cond.code ({ cls := "StoneBacksModel", name := "person", desc := "(II)I" } : Jvm.MethodName) prog_19_method_56_code (3 : Nat) (Option.some Jvm.ClassFile.FieldType.int)) ∈ lw_all := lw_g (lw_at lw_m9 168 rfl) rfl
theorem q2201 : (Jvm.Cond.methodLink "StoneBacksModel" (276 : Nat) ({ cls := "StoneBacksModel", name := "isPerson", desc := "(I)Z" } : Jvm.MethodName)) ∈ lw_all := lw_g (lw_at lw_m9 169 rfl) rfl
theorem q2202 : (Jvm.Cond.privateMethod ({ cls := "StoneBacksModel", name := "isPerson", desc := "(I)Z" } : Jvm.MethodName)) ∈ lw_tbl := lw_at lw_m9 170 rfl
theorem q2203 : (Jvm.Cond.instanceMethod ({ cls := "StoneBacksModel", name := "isPerson", desc := "(I)Z" } : Jvm.MethodName)) ∈ lw_all := lw_g (lw_at lw_m9 171 rfl) rfl
theorem q2204 : (Jvm.Cond.code ({ cls := "StoneBacksModel", name := "isPerson", desc := "(I)Z" } : Jvm.MethodName) prog_19_method_12_code (2 : Nat) (Option.some Jvm.ClassFile.FieldType.boolean)) ∈ lw_all := lw_g (lw_at lw_m9 172 rfl) rfl
theorem q2205 : (Jvm.Cond.methodLink "StoneBacksModel" (66 : Nat) ({ cls := "StoneBacksModel", name := "of", desc := "(II)I" } : Jvm.MethodName)) ∈ lw_all := lw_g (lw_at lw_m9 173 rfl) rfl
theorem q2206 : (Jvm.Cond.privateMethod ({ cls := "StoneBacksModel", name := "of", desc := "(II)I" } : Jvm.MethodName)) ∈ lw_tbl := lw_at lw_m9 174 rfl
theorem q2207 : (Jvm.Cond.instanceMethod ({ cls := "StoneBacksModel", name := "of", desc := "(II)I" } : Jvm.MethodName)) ∈ lw_all := lw_g (lw_at lw_m9 175 rfl) rfl
theorem q2208 : (Jvm.Cond.code ({ cls := "StoneBacksModel", name := "of", desc := "(II)I" } : Jvm.MethodName) prog_19_method_8_code (3 : Nat) (Option.some Jvm.ClassFile.FieldType.int)) ∈ lw_all := lw_g (lw_at lw_m9 176 rfl) rfl
theorem q2209 : (Jvm.Cond.methodLink "StoneBacksModel" (63 : Nat) ({ cls := "StoneBacksModel", name := "load", desc := "(I)I" } : Jvm.MethodName)) ∈ lw_all := lw_g (lw_at lw_m9 177 rfl) rfl
theorem q2210 : (Jvm.Cond.privateMethod ({ cls := "StoneBacksModel", name := "load", desc := "(I)I" } : Jvm.MethodName)) ∈ lw_tbl := lw_at lw_m9 178 rfl
theorem q2211 : (Jvm.Cond.instanceMethod ({ cls := "StoneBacksModel", name := "load", desc := "(I)I" } : Jvm.MethodName)) ∈ lw_all := lw_g (lw_at lw_m9 179 rfl) rfl
theorem q2212 : (Jvm.Cond.code ({ cls := "StoneBacksModel", name := "load", desc := "(I)I" } : Jvm.MethodName) prog_19_method_17_code (2 : Nat) (Option.some Jvm.ClassFile.FieldType.int)) ∈ lw_all := lw_g (lw_at lw_m9 180 rfl) rfl
theorem q2213 : (Jvm.Cond.methodLink "StoneBacksModel" (56 : Nat) ({ cls := "StoneBacksModel", name := "worn", desc := "(I)I" } : Jvm.MethodName)) ∈ lw_all := lw_g (lw_at lw_m9 181 rfl) rfl
theorem q2214 : (Jvm.Cond.privateMethod ({ cls := "StoneBacksModel", name := "worn", desc := "(I)I" } : Jvm.MethodName)) ∈ lw_tbl := lw_at lw_m9 182 rfl
theorem q2215 : (Jvm.Cond.instanceMethod ({ cls := "StoneBacksModel", name := "worn", desc := "(I)I" } : Jvm.MethodName)) ∈ lw_all := lw_g (lw_at lw_m9 183 rfl) rfl
theorem q2216 : (Jvm.Cond.code ({ cls := "StoneBacksModel", name := "worn", desc := "(I)I" } : Jvm.MethodName) prog_19_method_15_code (4 : Nat) (Option.some Jvm.ClassFile.FieldType.int)) ∈ lw_all := lw_g (lw_at lw_m9 184 rfl) rfl
theorem q2217 : (Jvm.Cond.methodLink "StoneBacksModel" (48 : Nat) ({ cls := "StoneBacksModel", name := "ofStone", desc := "(II)I" } : Jvm.MethodName)) ∈ lw_all := lw_g (lw_at lw_m9 185 rfl) rfl
theorem q2218 : (Jvm.Cond.privateMethod ({ cls := "StoneBacksModel", name := "ofStone", desc := "(II)I" } : Jvm.MethodName)) ∈ lw_tbl := lw_at lw_m9 186 rfl
theorem q2219 : (Jvm.Cond.instanceMethod ({ cls := "StoneBacksModel", name := "ofStone", desc := "(II)I" } : Jvm.MethodName)) ∈ lw_all := lw_g (lw_at lw_m9 187 rfl) rfl
theorem q2220 : (Jvm.Cond.code ({ cls := "StoneBacksModel", name := "ofStone", desc := "(II)I" } : Jvm.MethodName) prog_19_method_10_code (3 : Nat) (Option.some Jvm.ClassFile.FieldType.int)) ∈ lw_all := lw_g (lw_at lw_m9 188 rfl) rfl
theorem q2221 : (Jvm.Cond.methodLink "StoneBacksModel" (60 : Nat) ({ cls := "StoneBacksModel", name := "weightOf", desc := "(I)I" } : Jvm.MethodName)) ∈ lw_all := lw_g (lw_at lw_m9 189 rfl) rfl
theorem q2222 : (Jvm.Cond.privateMethod ({ cls := "StoneBacksModel", name := "weightOf", desc := "(I)I" } : Jvm.MethodName)) ∈ lw_tbl := lw_at lw_m9 190 rfl
theorem q2223 : (Jvm.Cond.instanceMethod ({ cls := "StoneBacksModel", name := "weightOf", desc := "(I)I" } : Jvm.MethodName)) ∈ lw_all := lw_g (lw_at lw_m9 191 rfl) rfl
theorem q2224 : (Jvm.Cond.code ({ cls := "StoneBacksModel", name := "weightOf", desc := "(I)I" } : Jvm.MethodName) prog_19_method_16_code (4 : Nat) (Option.some Jvm.ClassFile.FieldType.int)) ∈ lw_all := lw_g (lw_at lw_m9 192 rfl) rfl
theorem q2225 : (Jvm.Cond.methodLink "StoneBacksModel" (52 : Nat) ({ cls := "StoneBacksModel", name := "isOf", desc := "(II)Z" } : Jvm.MethodName)) ∈ lw_all := lw_g (lw_at lw_m9 193 rfl) rfl
theorem q2226 : (Jvm.Cond.static ({ cls := "StoneBacksModel", name := "isOf", desc := "(II)Z" } : Jvm.MethodName)) ∈ lw_all := lw_g (lw_at lw_m9 194 rfl) rfl
theorem q2227 : (Jvm.Cond.code ({ cls := "StoneBacksModel", name := "isOf", desc := "(II)Z" } : Jvm.MethodName) prog_19_method_6_code (2 : Nat) (Option.some Jvm.ClassFile.FieldType.boolean)) ∈ lw_all := lw_g (lw_at lw_m9 195 rfl) rfl
theorem q2228 : (Jvm.Cond.methodLink "StoneBacksModel" (279 : Nat) ({ cls := "StoneBacksModel", name := "owed", desc := "(II)I" } : Jvm.MethodName)) ∈ lw_all := lw_g (lw_at lw_m9 196 rfl) rfl
theorem q2229 : (Jvm.Cond.privateMethod ({ cls := "StoneBacksModel", name := "owed", desc := "(II)I" } : Jvm.MethodName)) ∈ lw_tbl := lw_at lw_m9 197 rfl
theorem q2230 : (Jvm.Cond.instanceMethod ({ cls := "StoneBacksModel", name := "owed", desc := "(II)I" } : Jvm.MethodName)) ∈ lw_all := lw_g (lw_at lw_m9 198 rfl) rfl
theorem q2231 : (Jvm.Cond.code ({ cls := "StoneBacksModel", name := "owed", desc := "(II)I" } : Jvm.MethodName) prog_19_method_55_code (5 : Nat) (Option.some Jvm.ClassFile.FieldType.int)) ∈ lw_all := lw_g (lw_at lw_m9 199 rfl) rfl
theorem q2232 : (Jvm.Cond.methodLink "StoneBacksModel" (261 : Nat) ({ cls := "StoneBacksModel", name := "isBowed", desc := "(I)Z" } : Jvm.MethodName)) ∈ lw_all := lw_g (lw_at lw_m9 200 rfl) rfl
theorem q2233 : (Jvm.Cond.privateMethod ({ cls := "StoneBacksModel", name := "isBowed", desc := "(I)Z" } : Jvm.MethodName)) ∈ lw_tbl := lw_at lw_m9 201 rfl
theorem q2234 : (Jvm.Cond.instanceMethod ({ cls := "StoneBacksModel", name := "isBowed", desc := "(I)Z" } : Jvm.MethodName)) ∈ lw_all := lw_g (lw_at lw_m9 202 rfl) rfl
theorem q2235 : (Jvm.Cond.code ({ cls := "StoneBacksModel", name := "isBowed", desc := "(I)Z" } : Jvm.MethodName) prog_19_method_18_code (2 : Nat) (Option.some Jvm.ClassFile.FieldType.boolean)) ∈ lw_all := lw_g (lw_at lw_m9 203 rfl) rfl
theorem q2237 : (Jvm.Cond.instanceMethod ({ cls := "StoneBacksModel", name := "does", desc := "(II)I" } : Jvm.MethodName)) ∈ lw_all := lw_g (lw_at lw_m9 205 rfl) rfl
theorem q2238 : (Jvm.Cond.selects "StoneBacksModel" ({ cls := "StoneBacksModel", name := "does", desc := "(II)I" } : Jvm.MethodName) ({ cls := "StoneBacksModel", name := "does", desc := "(II)I" } : Jvm.MethodName)) ∈ lw_all := lw_g (lw_at lw_m9 206 rfl) rfl
theorem q2239 : (Jvm.Cond.code ({ cls := "StoneBacksModel", name := "does", desc := "(II)I" } : Jvm.MethodName) prog_19_method_57_code (3 : Nat) (Option.some Jvm.ClassFile.FieldType.int)) ∈ lw_all := lw_g (lw_at lw_m9 207 rfl) rfl
theorem q2240 : (Jvm.Cond.methodLink "StoneBacksModel" (255 : Nat) ({ cls := "StoneBacksModel", name := "asks", desc := "(I)V" } : Jvm.MethodName)) ∈ lw_all := lw_g (lw_at lw_m9 208 rfl) rfl
theorem q2241 : (Jvm.Cond.privateMethod ({ cls := "StoneBacksModel", name := "asks", desc := "(I)V" } : Jvm.MethodName)) ∈ lw_tbl := lw_at lw_m9 209 rfl
theorem q2242 : (Jvm.Cond.instanceMethod ({ cls := "StoneBacksModel", name := "asks", desc := "(I)V" } : Jvm.MethodName)) ∈ lw_all := lw_g (lw_at lw_m9 210 rfl) rfl
theorem q2243 : (Jvm.Cond.code ({ cls := "StoneBacksModel", name := "asks", desc := "(I)V" } : Jvm.MethodName) prog_19_method_49_code (6 : Nat) (Option.none : Option Jvm.ClassFile.FieldType)) ∈ lw_all := lw_g (lw_at lw_m9 211 rfl) rfl
theorem q2244 : (Jvm.Cond.methodLink "StoneBacksModel" (251 : Nat) ({ cls := "StoneBacksModel", name := "greater", desc := "(II)I" } : Jvm.MethodName)) ∈ lw_all := lw_g (lw_at lw_m9 212 rfl) rfl
theorem q2245 : (Jvm.Cond.static ({ cls := "StoneBacksModel", name := "greater", desc := "(II)I" } : Jvm.MethodName)) ∈ lw_all := lw_g (lw_at lw_m9 213 rfl) rfl
theorem q2246 : (Jvm.Cond.code ({ cls := "StoneBacksModel", name := "greater", desc := "(II)I" } : Jvm.MethodName) prog_19_method_5_code (2 : Nat) (Option.some Jvm.ClassFile.FieldType.int)) ∈ lw_all := lw_g (lw_at lw_m9 214 rfl) rfl
theorem q2247 : (Jvm.Cond.methodLink "StoneBacksModel" (258 : Nat) ({ cls := "StoneBacksModel", name := "lesser", desc := "(II)I" } : Jvm.MethodName)) ∈ lw_all := lw_g (lw_at lw_m9 215 rfl) rfl
theorem q2248 : (Jvm.Cond.static ({ cls := "StoneBacksModel", name := "lesser", desc := "(II)I" } : Jvm.MethodName)) ∈ lw_all := lw_g (lw_at lw_m9 216 rfl) rfl
theorem q2249 : (Jvm.Cond.code ({ cls := "StoneBacksModel", name := "lesser", desc := "(II)I" } : Jvm.MethodName) prog_19_method_4_code (2 : Nat) (Option.some Jvm.ClassFile.FieldType.int)) ∈ lw_all := lw_g (lw_at lw_m9 217 rfl) rfl
theorem q2251 : (Jvm.Cond.instanceMethod ({ cls := "StoneBacksModel", name := "stone", desc := "(II)I" } : Jvm.MethodName)) ∈ lw_all := lw_g (lw_at lw_m9 219 rfl) rfl
theorem q2252 : (Jvm.Cond.selects "StoneBacksModel" ({ cls := "StoneBacksModel", name := "stone", desc := "(II)I" } : Jvm.MethodName) ({ cls := "StoneBacksModel", name := "stone", desc := "(II)I" } : Jvm.MethodName)) ∈ lw_all := lw_g (lw_at lw_m9 220 rfl) rfl
theorem q2253 : (Jvm.Cond.code ({ cls := "StoneBacksModel", name := "stone", desc := "(II)I" } : Jvm.MethodName) prog_19_method_58_code (4 : Nat) (Option.some Jvm.ClassFile.FieldType.int)) ∈ lw_all := lw_g (lw_at lw_m9 221 rfl) rfl
theorem q2254 : (Jvm.Cond.methodLink "StoneBacksModel" (282 : Nat) ({ cls := "StoneBacksModel", name := "isStone", desc := "(I)Z" } : Jvm.MethodName)) ∈ lw_all := lw_g (lw_at lw_m9 222 rfl) rfl
theorem q2255 : (Jvm.Cond.privateMethod ({ cls := "StoneBacksModel", name := "isStone", desc := "(I)Z" } : Jvm.MethodName)) ∈ lw_tbl := lw_at lw_m9 223 rfl
theorem q2256 : (Jvm.Cond.instanceMethod ({ cls := "StoneBacksModel", name := "isStone", desc := "(I)Z" } : Jvm.MethodName)) ∈ lw_all := lw_g (lw_at lw_m9 224 rfl) rfl
theorem q2257 : (Jvm.Cond.code ({ cls := "StoneBacksModel", name := "isStone", desc := "(I)Z" } : Jvm.MethodName) prog_19_method_13_code (2 : Nat) (Option.some Jvm.ClassFile.FieldType.boolean)) ∈ lw_all := lw_g (lw_at lw_m9 225 rfl) rfl
theorem q2259 : (Jvm.Cond.instanceMethod ({ cls := "StoneBacksModel", name := "place", desc := "(II)I" } : Jvm.MethodName)) ∈ lw_all := lw_g (lw_at lw_m9 227 rfl) rfl
theorem q2260 : (Jvm.Cond.selects "StoneBacksModel" ({ cls := "StoneBacksModel", name := "place", desc := "(II)I" } : Jvm.MethodName) ({ cls := "StoneBacksModel", name := "place", desc := "(II)I" } : Jvm.MethodName)) ∈ lw_all := lw_g (lw_at lw_m9 228 rfl) rfl
theorem q2261 : (Jvm.Cond.code ({ cls := "StoneBacksModel", name := "place", desc := "(II)I" } : Jvm.MethodName) prog_19_method_61_code (3 : Nat) (Option.some Jvm.ClassFile.FieldType.int)) ∈ lw_all := lw_g (lw_at lw_m9 229 rfl) rfl
theorem q2262 : (Jvm.Cond.methodLink "StoneBacksModel" (285 : Nat) ({ cls := "StoneBacksModel", name := "isPlace", desc := "(I)Z" } : Jvm.MethodName)) ∈ lw_all := lw_g (lw_at lw_m9 230 rfl) rfl
theorem q2263 : (Jvm.Cond.static ({ cls := "StoneBacksModel", name := "isPlace", desc := "(I)Z" } : Jvm.MethodName)) ∈ lw_all := lw_g (lw_at lw_m9 231 rfl) rfl
theorem q2264 : (Jvm.Cond.code ({ cls := "StoneBacksModel", name := "isPlace", desc := "(I)Z" } : Jvm.MethodName) prog_19_method_14_code (1 : Nat) (Option.some Jvm.ClassFile.FieldType.boolean)) ∈ lw_all := lw_g (lw_at lw_m9 232 rfl) rfl
theorem q2265 : (Jvm.Cond.methodLink "StoneBacksModel" (288 : Nat) ({ cls := "StoneBacksModel", name := "thoseAt", desc := "(I)I" } : Jvm.MethodName)) ∈ lw_all := lw_g (lw_at lw_m9 233 rfl) rfl
theorem q2266 : (Jvm.Cond.privateMethod ({ cls := "StoneBacksModel", name := "thoseAt", desc := "(I)I" } : Jvm.MethodName)) ∈ lw_tbl := lw_at lw_m9 234 rfl
theorem q2267 : (Jvm.Cond.instanceMethod ({ cls := "StoneBacksModel", name := "thoseAt", desc := "(I)I" } : Jvm.MethodName)) ∈ lw_all := lw_g (lw_at lw_m9 235 rfl) rfl
theorem q2268 : (Jvm.Cond.code ({ cls := "StoneBacksModel", name := "thoseAt", desc := "(I)I" } : Jvm.MethodName) prog_19_method_59_code (4 : Nat) (Option.some Jvm.ClassFile.FieldType.int)) ∈ lw_all := lw_g (lw_at lw_m9 236 rfl) rfl
theorem q2269 : (Jvm.Cond.methodLink "StoneBacksModel" (291 : Nat) ({ cls := "StoneBacksModel", name := "stonesAt", desc := "(I)I" } : Jvm.MethodName)) ∈ lw_all := lw_g (lw_at lw_m9 237 rfl) rfl
theorem q2270 : (Jvm.Cond.privateMethod ({ cls := "StoneBacksModel", name := "stonesAt", desc := "(I)I" } : Jvm.MethodName)) ∈ lw_tbl := lw_at lw_m9 238 rfl
theorem q2271 : (Jvm.Cond.instanceMethod ({ cls := "StoneBacksModel", name := "stonesAt", desc := "(I)I" } : Jvm.MethodName)) ∈ lw_all := lw_g (lw_at lw_m9 239 rfl) rfl
theorem q2272 : (Jvm.Cond.code ({ cls := "StoneBacksModel", name := "stonesAt", desc := "(I)I" } : Jvm.MethodName) prog_19_method_60_code (4 : Nat) (Option.some Jvm.ClassFile.FieldType.int)) ∈ lw_all := lw_g (lw_at lw_m10 0 rfl) rfl
theorem q2274 : (Jvm.Cond.instanceMethod ({ cls := "StoneBacksModel", name := "lend", desc := "(III)I" } : Jvm.MethodName)) ∈ lw_all := lw_g (lw_at lw_m10 2 rfl) rfl
theorem q2275 : (Jvm.Cond.selects "StoneBacksModel" ({ cls := "StoneBacksModel", name := "lend", desc := "(III)I" } : Jvm.MethodName) ({ cls := "StoneBacksModel", name := "lend", desc := "(III)I" } : Jvm.MethodName)) ∈ lw_all := lw_g (lw_at lw_m10 3 rfl) rfl
theorem q2276 : (Jvm.Cond.code ({ cls := "StoneBacksModel", name := "lend", desc := "(III)I" } : Jvm.MethodName) prog_19_method_65_code (4 : Nat) (Option.some Jvm.ClassFile.FieldType.int)) ∈ lw_all := lw_g (lw_at lw_m10 4 rfl) rfl
theorem q2277 : (Jvm.Cond.methodLink "StoneBacksModel" (294 : Nat) ({ cls := "StoneBacksModel", name := "remembers", desc := "()V" } : Jvm.MethodName)) ∈ lw_all := lw_g (lw_at lw_m10 5 rfl) rfl
theorem q2278 : (Jvm.Cond.privateMethod ({ cls := "StoneBacksModel", name := "remembers", desc := "()V" } : Jvm.MethodName)) ∈ lw_tbl := lw_at lw_m10 6 rfl
theorem q2279 : (Jvm.Cond.instanceMethod ({ cls := "StoneBacksModel", name := "remembers", desc := "()V" } : Jvm.MethodName)) ∈ lw_all := lw_g (lw_at lw_m10 7 rfl) rfl
theorem q2280 : (Jvm.Cond.code ({ cls := "StoneBacksModel", name := "remembers", desc := "()V" } : Jvm.MethodName) prog_19_method_62_code (2 : Nat) (Option.none : Option Jvm.ClassFile.FieldType)) ∈ lw_all := lw_g (lw_at lw_m10 8 rfl) rfl
theorem q2281 : (Jvm.Cond.methodLink "StoneBacksModel" (297 : Nat) ({ cls := "StoneBacksModel", name := "moves", desc := "(III)V" } : Jvm.MethodName)) ∈ lw_all := lw_g (lw_at lw_m10 9 rfl) rfl
theorem q2282 : (Jvm.Cond.privateMethod ({ cls := "StoneBacksModel", name := "moves", desc := "(III)V" } : Jvm.MethodName)) ∈ lw_tbl := lw_at lw_m10 10 rfl
theorem q2283 : (Jvm.Cond.instanceMethod ({ cls := "StoneBacksModel", name := "moves", desc := "(III)V" } : Jvm.MethodName)) ∈ lw_all := lw_g (lw_at lw_m10 11 rfl) rfl
theorem q2284 : (Jvm.Cond.code ({ cls := "StoneBacksModel", name := "moves", desc := "(III)V" } : Jvm.MethodName) prog_19_method_64_code (4 : Nat) (Option.none : Option Jvm.ClassFile.FieldType)) ∈ lw_all := lw_g (lw_at lw_m10 12 rfl) rfl
theorem q2285 : (Jvm.Cond.methodLink "StoneBacksModel" (300 : Nat) ({ cls := "StoneBacksModel", name := "logs", desc := "(III)V" } : Jvm.MethodName)) ∈ lw_all := lw_g (lw_at lw_m10 13 rfl) rfl
theorem q2286 : (Jvm.Cond.privateMethod ({ cls := "StoneBacksModel", name := "logs", desc := "(III)V" } : Jvm.MethodName)) ∈ lw_tbl := lw_at lw_m10 14 rfl
theorem q2287 : (Jvm.Cond.instanceMethod ({ cls := "StoneBacksModel", name := "logs", desc := "(III)V" } : Jvm.MethodName)) ∈ lw_all := lw_g (lw_at lw_m10 15 rfl) rfl
theorem q2288 : (Jvm.Cond.code ({ cls := "StoneBacksModel", name := "logs", desc := "(III)V" } : Jvm.MethodName) prog_19_method_63_code (5 : Nat) (Option.none : Option Jvm.ClassFile.FieldType)) ∈ lw_all := lw_g (lw_at lw_m10 16 rfl) rfl
theorem q2290 : (Jvm.Cond.instanceMethod ({ cls := "StoneBacksModel", name := "pay", desc := "(I)I" } : Jvm.MethodName)) ∈ lw_all := lw_g (lw_at lw_m10 18 rfl) rfl
theorem q2291 : (Jvm.Cond.selects "StoneBacksModel" ({ cls := "StoneBacksModel", name := "pay", desc := "(I)I" } : Jvm.MethodName) ({ cls := "StoneBacksModel", name := "pay", desc := "(I)I" } : Jvm.MethodName)) ∈ lw_all := lw_g (lw_at lw_m10 19 rfl) rfl
theorem q2292 : (Jvm.Cond.code ({ cls := "StoneBacksModel", name := "pay", desc := "(I)I" } : Jvm.MethodName) prog_19_method_66_code (4 : Nat) (Option.some Jvm.ClassFile.FieldType.int)) ∈ lw_all := lw_g (lw_at lw_m10 20 rfl) rfl
theorem q2294 : (Jvm.Cond.instanceMethod ({ cls := "StoneBacksModel", name := "split", desc := "(I)I" } : Jvm.MethodName)) ∈ lw_all := lw_g (lw_at lw_m10 22 rfl) rfl
theorem q2295 : (Jvm.Cond.selects "StoneBacksModel" ({ cls := "StoneBacksModel", name := "split", desc := "(I)I" } : Jvm.MethodName) ({ cls := "StoneBacksModel", name := "split", desc := "(I)I" } : Jvm.MethodName)) ∈ lw_all := lw_g (lw_at lw_m10 23 rfl) rfl
theorem q2296 : (Jvm.Cond.code ({ cls := "StoneBacksModel", name := "split", desc := "(I)I" } : Jvm.MethodName) prog_19_method_67_code (5 : Nat) (Option.some Jvm.ClassFile.FieldType.int)) ∈ lw_all := lw_g (lw_at lw_m10 24 rfl) rfl
theorem q2298 : (Jvm.Cond.instanceMethod ({ cls := "StoneBacksModel", name := "pass", desc := "(II)I" } : Jvm.MethodName)) ∈ lw_all := lw_g (lw_at lw_m10 26 rfl) rfl
theorem q2299 : (Jvm.Cond.selects "StoneBacksModel" ({ cls := "StoneBacksModel", name := "pass", desc := "(II)I" } : Jvm.MethodName) ({ cls := "StoneBacksModel", name := "pass", desc := "(II)I" } : Jvm.MethodName)) ∈ lw_all := lw_g (lw_at lw_m10 27 rfl) rfl
theorem q2300 : (Jvm.Cond.code ({ cls := "StoneBacksModel", name := "pass", desc := "(II)I" } : Jvm.MethodName) prog_19_method_68_code (5 : Nat) (Option.some Jvm.ClassFile.FieldType.int)) ∈ lw_all := lw_g (lw_at lw_m10 28 rfl) rfl
theorem q2302 : (Jvm.Cond.instanceMethod ({ cls := "StoneBacksModel", name := "lay", desc := "(I)I" } : Jvm.MethodName)) ∈ lw_all := lw_g (lw_at lw_m10 30 rfl) rfl
theorem q2303 : (Jvm.Cond.selects "StoneBacksModel" ({ cls := "StoneBacksModel", name := "lay", desc := "(I)I" } : Jvm.MethodName) ({ cls := "StoneBacksModel", name := "lay", desc := "(I)I" } : Jvm.MethodName)) ∈ lw_all := lw_g (lw_at lw_m10 31 rfl) rfl
theorem q2304 : (Jvm.Cond.code ({ cls := "StoneBacksModel", name := "lay", desc := "(I)I" } : Jvm.MethodName) prog_19_method_69_code (3 : Nat) (Option.some Jvm.ClassFile.FieldType.int)) ∈ lw_all := lw_g (lw_at lw_m10 32 rfl) rfl
theorem q2306 : (Jvm.Cond.instanceMethod ({ cls := "StoneBacksModel", name := "lift", desc := "(II)I" } : Jvm.MethodName)) ∈ lw_all := lw_g (lw_at lw_m10 34 rfl) rfl
theorem q2307 : (Jvm.Cond.selects "StoneBacksModel" ({ cls := "StoneBacksModel", name := "lift", desc := "(II)I" } : Jvm.MethodName) ({ cls := "StoneBacksModel", name := "lift", desc := "(II)I" } : Jvm.MethodName)) ∈ lw_all := lw_g (lw_at lw_m10 35 rfl) rfl
theorem q2308 : (Jvm.Cond.code ({ cls := "StoneBacksModel", name := "lift", desc := "(II)I" } : Jvm.MethodName) prog_19_method_70_code (3 : Nat) (Option.some Jvm.ClassFile.FieldType.int)) ∈ lw_all := lw_g (lw_at lw_m10 36 rfl) rfl
theorem q2310 : (Jvm.Cond.instanceMethod ({ cls := "StoneBacksModel", name := "goal", desc := "(II)I" } : Jvm.MethodName)) ∈ lw_all := lw_g (lw_at lw_m10 38 rfl) rfl
theorem q2311 : (Jvm.Cond.selects "StoneBacksModel" ({ cls := "StoneBacksModel", name := "goal", desc := "(II)I" } : Jvm.MethodName) ({ cls := "StoneBacksModel", name := "goal", desc := "(II)I" } : Jvm.MethodName)) ∈ lw_all := lw_g (lw_at lw_m10 39 rfl) rfl
theorem q2312 : (Jvm.Cond.code ({ cls := "StoneBacksModel", name := "goal", desc := "(II)I" } : Jvm.MethodName) prog_19_method_71_code (4 : Nat) (Option.some Jvm.ClassFile.FieldType.int)) ∈ lw_all := lw_g (lw_at lw_m10 40 rfl) rfl
theorem q2314 : (Jvm.Cond.instanceMethod ({ cls := "StoneBacksModel", name := "rest", desc := "(I)I" } : Jvm.MethodName)) ∈ lw_all := lw_g (lw_at lw_m10 42 rfl) rfl
theorem q2315 : (Jvm.Cond.selects "StoneBacksModel" ({ cls := "StoneBacksModel", name := "rest", desc := "(I)I" } : Jvm.MethodName) ({ cls := "StoneBacksModel", name := "rest", desc := "(I)I" } : Jvm.MethodName)) ∈ lw_all := lw_g (lw_at lw_m10 43 rfl) rfl
theorem q2316 : (Jvm.Cond.code ({ cls := "StoneBacksModel", name := "rest", desc := "(I)I" } : Jvm.MethodName) prog_19_method_72_code (3 : Nat) (Option.some Jvm.ClassFile.FieldType.int)) ∈ lw_all := lw_g (lw_at lw_m10 44 rfl) rfl
theorem q2318 : (Jvm.Cond.instanceMethod ({ cls := "StoneBacksModel", name := "hours", desc := "(I)I" } : Jvm.MethodName)) ∈ lw_all := lw_g (lw_at lw_m10 46 rfl) rfl
theorem q2319 : (Jvm.Cond.selects "StoneBacksModel" ({ cls := "StoneBacksModel", name := "hours", desc := "(I)I" } : Jvm.MethodName) ({ cls := "StoneBacksModel", name := "hours", desc := "(I)I" } : Jvm.MethodName)) ∈ lw_all := lw_g (lw_at lw_m10 47 rfl) rfl
theorem q2320 : (Jvm.Cond.code ({ cls := "StoneBacksModel", name := "hours", desc := "(I)I" } : Jvm.MethodName) prog_19_method_73_code (2 : Nat) (Option.some Jvm.ClassFile.FieldType.int)) ∈ lw_all := lw_g (lw_at lw_m10 48 rfl) rfl
theorem q2321 : (Jvm.Cond.methodLink "StoneBacksModel" (303 : Nat) ({ cls := "StoneBacksModel", name := "passes", desc := "(IZ)I" } : Jvm.MethodName)) ∈ lw_all := lw_g (lw_at lw_m10 49 rfl) rfl
theorem q2322 : (Jvm.Cond.privateMethod ({ cls := "StoneBacksModel", name := "passes", desc := "(IZ)I" } : Jvm.MethodName)) ∈ lw_tbl := lw_at lw_m10 50 rfl
theorem q2323 : (Jvm.Cond.instanceMethod ({ cls := "StoneBacksModel", name := "passes", desc := "(IZ)I" } : Jvm.MethodName)) ∈ lw_all := lw_g (lw_at lw_m10 51 rfl) rfl
theorem q2324 : (Jvm.Cond.code ({ cls := "StoneBacksModel", name := "passes", desc := "(IZ)I" } : Jvm.MethodName) prog_19_method_53_code (6 : Nat) (Option.some Jvm.ClassFile.FieldType.int)) ∈ lw_all := lw_g (lw_at lw_m10 52 rfl) rfl
theorem q2325 : (Jvm.Cond.methodLink "StoneBacksModel" (267 : Nat) ({ cls := "StoneBacksModel", name := "walks", desc := "(I)V" } : Jvm.MethodName)) ∈ lw_all := lw_g (lw_at lw_m10 53 rfl) rfl
theorem q2326 : (Jvm.Cond.privateMethod ({ cls := "StoneBacksModel", name := "walks", desc := "(I)V" } : Jvm.MethodName)) ∈ lw_tbl := lw_at lw_m10 54 rfl
theorem q2327 : (Jvm.Cond.instanceMethod ({ cls := "StoneBacksModel", name := "walks", desc := "(I)V" } : Jvm.MethodName)) ∈ lw_all := lw_g (lw_at lw_m10 55 rfl) rfl
theorem q2328 : (Jvm.Cond.code ({ cls := "StoneBacksModel", name := "walks", desc := "(I)V" } : Jvm.MethodName) prog_19_method_52_code (4 : Nat) (Option.none : Option Jvm.ClassFile.FieldType)) ∈ lw_all := lw_g (lw_at lw_m10 56 rfl) rfl
theorem q2329 : (Jvm.Cond.methodLink "StoneBacksModel" (264 : Nat) ({ cls := "StoneBacksModel", name := "mayGo", desc := "(III)Z" } : Jvm.MethodName)) ∈ lw_all := lw_g (lw_at lw_m10 57 rfl) rfl
theorem q2330 : (Jvm.Cond.privateMethod ({ cls := "StoneBacksModel", name := "mayGo", desc := "(III)Z" } : Jvm.MethodName)) ∈ lw_tbl := lw_at lw_m10 58 rfl
theorem q2331 : (Jvm.Cond.instanceMethod ({ cls := "StoneBacksModel", name := "mayGo", desc := "(III)Z" } : Jvm.MethodName)) ∈ lw_all := lw_g (lw_at lw_m10 59 rfl) rfl
theorem q2332 : (Jvm.Cond.code ({ cls := "StoneBacksModel", name := "mayGo", desc := "(III)Z" } : Jvm.MethodName) prog_19_method_51_code (4 : Nat) (Option.some Jvm.ClassFile.FieldType.boolean)) ∈ lw_all := lw_g (lw_at lw_m10 60 rfl) rfl
theorem q2333 : (Jvm.Cond.methodLink "StoneBacksModel" (270 : Nat) ({ cls := "StoneBacksModel", name := "draw", desc := "(I)I" } : Jvm.MethodName)) ∈ lw_all := lw_g (lw_at lw_m10 61 rfl) rfl
theorem q2334 : (Jvm.Cond.privateMethod ({ cls := "StoneBacksModel", name := "draw", desc := "(I)I" } : Jvm.MethodName)) ∈ lw_tbl := lw_at lw_m10 62 rfl
theorem q2335 : (Jvm.Cond.instanceMethod ({ cls := "StoneBacksModel", name := "draw", desc := "(I)I" } : Jvm.MethodName)) ∈ lw_all := lw_g (lw_at lw_m10 63 rfl) rfl
theorem q2336 : (Jvm.Cond.code ({ cls := "StoneBacksModel", name := "draw", desc := "(I)I" } : Jvm.MethodName) prog_19_method_50_code (2 : Nat) (Option.some Jvm.ClassFile.FieldType.int)) ∈ lw_all := lw_g (lw_at lw_m10 64 rfl) rfl
theorem q2337 : (Jvm.Cond.constant "StoneBacksModel" (254 : Nat) (1103515245 : Int32)) ∈ lw_all := lw_g (lw_at lw_m10 65 rfl) rfl
theorem q2338 : (Jvm.Cond.methodLink "StoneBacksModel" (273 : Nat) ({ cls := "StoneBacksModel", name := "dawns", desc := "()V" } : Jvm.MethodName)) ∈ lw_all := lw_g (lw_at lw_m10 66 rfl) rfl
theorem q2339 : (Jvm.Cond.privateMethod ({ cls := "StoneBacksModel", name := "dawns", desc := "()V" } : Jvm.MethodName)) ∈ lw_tbl := lw_at lw_m10 67 rfl
theorem q2340 : (Jvm.Cond.instanceMethod ({ cls := "StoneBacksModel", name := "dawns", desc := "()V" } : Jvm.MethodName)) ∈ lw_all := lw_g (lw_at lw_m10 68 rfl) rfl
theorem q2341 : (Jvm.Cond.code ({ cls := "StoneBacksModel", name := "dawns", desc := "()V" } : Jvm.MethodName) prog_19_method_54_code (2 : Nat) (Option.none : Option Jvm.ClassFile.FieldType)) ∈ lw_all := lw_g (lw_at lw_m10 69 rfl) rfl
theorem q2343 : (Jvm.Cond.instanceMethod ({ cls := "StoneBacksModel", name := "way", desc := "(II)I" } : Jvm.MethodName)) ∈ lw_all := lw_g (lw_at lw_m10 71 rfl) rfl
theorem q2344 : (Jvm.Cond.selects "StoneBacksModel" ({ cls := "StoneBacksModel", name := "way", desc := "(II)I" } : Jvm.MethodName) ({ cls := "StoneBacksModel", name := "way", desc := "(II)I" } : Jvm.MethodName)) ∈ lw_all := lw_g (lw_at lw_m10 72 rfl) rfl
theorem q2345 : (Jvm.Cond.code ({ cls := "StoneBacksModel", name := "way", desc := "(II)I" } : Jvm.MethodName) prog_19_method_75_code (3 : Nat) (Option.some Jvm.ClassFile.FieldType.int)) ∈ lw_all := lw_g (lw_at lw_m10 73 rfl) rfl
theorem q2346 : (Jvm.Cond.methodLink "StoneBacksModel" (307 : Nat) ({ cls := "StoneBacksModel", name := "wayOf", desc := "(II)I" } : Jvm.MethodName)) ∈ lw_all := lw_g (lw_at lw_m10 74 rfl) rfl
theorem q2347 : (Jvm.Cond.privateMethod ({ cls := "StoneBacksModel", name := "wayOf", desc := "(II)I" } : Jvm.MethodName)) ∈ lw_tbl := lw_at lw_m10 75 rfl
theorem q2348 : (Jvm.Cond.instanceMethod ({ cls := "StoneBacksModel", name := "wayOf", desc := "(II)I" } : Jvm.MethodName)) ∈ lw_all := lw_g (lw_at lw_m10 76 rfl) rfl
theorem q2349 : (Jvm.Cond.code ({ cls := "StoneBacksModel", name := "wayOf", desc := "(II)I" } : Jvm.MethodName) prog_19_method_74_code (7 : Nat) (Option.some Jvm.ClassFile.FieldType.int)) ∈ lw_all := lw_g (lw_at lw_m10 77 rfl) rfl
theorem q2351 : (Jvm.Cond.instanceMethod ({ cls := "StoneBacksModel", name := "soonest", desc := "(I)I" } : Jvm.MethodName)) ∈ lw_all := lw_g (lw_at lw_m10 79 rfl) rfl
theorem q2352 : (Jvm.Cond.selects "StoneBacksModel" ({ cls := "StoneBacksModel", name := "soonest", desc := "(I)I" } : Jvm.MethodName) ({ cls := "StoneBacksModel", name := "soonest", desc := "(I)I" } : Jvm.MethodName)) ∈ lw_all := lw_g (lw_at lw_m10 80 rfl) rfl
theorem q2353 : (Jvm.Cond.code ({ cls := "StoneBacksModel", name := "soonest", desc := "(I)I" } : Jvm.MethodName) prog_19_method_76_code (5 : Nat) (Option.some Jvm.ClassFile.FieldType.int)) ∈ lw_all := lw_g (lw_at lw_m10 81 rfl) rfl
theorem q2355 : (Jvm.Cond.instanceMethod ({ cls := "StoneBacksModel", name := "cross", desc := "(I)Z" } : Jvm.MethodName)) ∈ lw_all := lw_g (lw_at lw_m10 83 rfl) rfl
theorem q2356 : (Jvm.Cond.selects "StoneBacksModel" ({ cls := "StoneBacksModel", name := "cross", desc := "(I)Z" } : Jvm.MethodName) ({ cls := "StoneBacksModel", name := "cross", desc := "(I)Z" } : Jvm.MethodName)) ∈ lw_all := lw_g (lw_at lw_m10 84 rfl) rfl
theorem q2357 : (Jvm.Cond.code ({ cls := "StoneBacksModel", name := "cross", desc := "(I)Z" } : Jvm.MethodName) prog_19_method_77_code (2 : Nat) (Option.some Jvm.ClassFile.FieldType.boolean)) ∈ lw_all := lw_g (lw_at lw_m10 85 rfl) rfl
theorem q2359 : (Jvm.Cond.instanceMethod ({ cls := "StoneBacksModel", name := "shed", desc := "(I)I" } : Jvm.MethodName)) ∈ lw_all := lw_g (lw_at lw_m10 87 rfl) rfl
theorem q2360 : (Jvm.Cond.selects "StoneBacksModel" ({ cls := "StoneBacksModel", name := "shed", desc := "(I)I" } : Jvm.MethodName) ({ cls := "StoneBacksModel", name := "shed", desc := "(I)I" } : Jvm.MethodName)) ∈ lw_all := lw_g (lw_at lw_m10 88 rfl) rfl
theorem q2361 : (Jvm.Cond.code ({ cls := "StoneBacksModel", name := "shed", desc := "(I)I" } : Jvm.MethodName) prog_19_method_78_code (6 : Nat) (Option.some Jvm.ClassFile.FieldType.int)) ∈ lw_all := lw_g (lw_at lw_m10 89 rfl) rfl
theorem q2362 : (Jvm.Cond.methodLink "StoneBacksModel" (310 : Nat) ({ cls := "StoneBacksModel", name := "bits", desc := "(I)I" } : Jvm.MethodName)) ∈ lw_all := lw_g (lw_at lw_m10 90 rfl) rfl
theorem q2363 : (Jvm.Cond.static ({ cls := "StoneBacksModel", name := "bits", desc := "(I)I" } : Jvm.MethodName)) ∈ lw_all := lw_g (lw_at lw_m10 91 rfl) rfl
theorem q2364 : (Jvm.Cond.code ({ cls := "StoneBacksModel", name := "bits", desc := "(I)I" } : Jvm.MethodName) prog_19_method_7_code (3 : Nat) (Option.some Jvm.ClassFile.FieldType.int)) ∈ lw_all := lw_g (lw_at lw_m10 92 rfl) rfl
theorem q2366 : (Jvm.Cond.instanceMethod ({ cls := "StoneBacksModel", name := "share", desc := "(II)I" } : Jvm.MethodName)) ∈ lw_all := lw_g (lw_at lw_m10 94 rfl) rfl
theorem q2367 : (Jvm.Cond.selects "StoneBacksModel" ({ cls := "StoneBacksModel", name := "share", desc := "(II)I" } : Jvm.MethodName) ({ cls := "StoneBacksModel", name := "share", desc := "(II)I" } : Jvm.MethodName)) ∈ lw_all := lw_g (lw_at lw_m10 95 rfl) rfl
theorem q2368 : (Jvm.Cond.code ({ cls := "StoneBacksModel", name := "share", desc := "(II)I" } : Jvm.MethodName) prog_19_method_82_code (11 : Nat) (Option.some Jvm.ClassFile.FieldType.int)) ∈ lw_all := lw_g (lw_at lw_m10 96 rfl) rfl
theorem q2369 : (Jvm.Cond.methodLink "StoneBacksModel" (314 : Nat) ({ cls := "StoneBacksModel", name := "leastBy", desc := "(II)I" } : Jvm.MethodName)) ∈ lw_all := lw_g (lw_at lw_m10 97 rfl) rfl
theorem q2370 : (Jvm.Cond.privateMethod ({ cls := "StoneBacksModel", name := "leastBy", desc := "(II)I" } : Jvm.MethodName)) ∈ lw_tbl := lw_at lw_m10 98 rfl
theorem q2371 : (Jvm.Cond.instanceMethod ({ cls := "StoneBacksModel", name := "leastBy", desc := "(II)I" } : Jvm.MethodName)) ∈ lw_all := lw_g (lw_at lw_m10 99 rfl) rfl
theorem q2372 : (Jvm.Cond.code ({ cls := "StoneBacksModel", name := "leastBy", desc := "(II)I" } : Jvm.MethodName) prog_19_method_79_code (6 : Nat) (Option.some Jvm.ClassFile.FieldType.int)) ∈ lw_all := lw_g (lw_at lw_m10 100 rfl) rfl
theorem q2373 : (Jvm.Cond.constant "StoneBacksModel" (313 : Nat) (2000000000 : Int32)) ∈ lw_all := lw_g (lw_at lw_m10 101 rfl) rfl
theorem q2374 : (Jvm.Cond.methodLink "StoneBacksModel" (317 : Nat) ({ cls := "StoneBacksModel", name := "kth", desc := "(II)I" } : Jvm.MethodName)) ∈ lw_all := lw_g (lw_at lw_m10 102 rfl) rfl
theorem q2375 : (Jvm.Cond.static ({ cls := "StoneBacksModel", name := "kth", desc := "(II)I" } : Jvm.MethodName)) ∈ lw_all := lw_g (lw_at lw_m10 103 rfl) rfl
theorem q2376 : (Jvm.Cond.code ({ cls := "StoneBacksModel", name := "kth", desc := "(II)I" } : Jvm.MethodName) prog_19_method_81_code (4 : Nat) (Option.some Jvm.ClassFile.FieldType.int)) ∈ lw_all := lw_g (lw_at lw_m10 104 rfl) rfl
theorem q2377 : (Jvm.Cond.methodLink "StoneBacksModel" (320 : Nat) ({ cls := "StoneBacksModel", name := "gives", desc := "(IIII)Z" } : Jvm.MethodName)) ∈ lw_all := lw_g (lw_at lw_m10 105 rfl) rfl
theorem q2378 : (Jvm.Cond.privateMethod ({ cls := "StoneBacksModel", name := "gives", desc := "(IIII)Z" } : Jvm.MethodName)) ∈ lw_tbl := lw_at lw_m10 106 rfl
theorem q2379 : (Jvm.Cond.instanceMethod ({ cls := "StoneBacksModel", name := "gives", desc := "(IIII)Z" } : Jvm.MethodName)) ∈ lw_all := lw_g (lw_at lw_m10 107 rfl) rfl
theorem q2380 : (Jvm.Cond.code ({ cls := "StoneBacksModel", name := "gives", desc := "(IIII)Z" } : Jvm.MethodName) prog_19_method_83_code (5 : Nat) (Option.some Jvm.ClassFile.FieldType.boolean)) ∈ lw_all := lw_g (lw_at lw_m10 108 rfl) rfl
theorem q2381 : (Jvm.Cond.methodLink "StoneBacksModel" (324 : Nat) ({ cls := "StoneBacksModel", name := "canGive", desc := "(II)Z" } : Jvm.MethodName)) ∈ lw_all := lw_g (lw_at lw_m10 109 rfl) rfl
theorem q2382 : (Jvm.Cond.privateMethod ({ cls := "StoneBacksModel", name := "canGive", desc := "(II)Z" } : Jvm.MethodName)) ∈ lw_tbl := lw_at lw_m10 110 rfl
theorem q2383 : (Jvm.Cond.instanceMethod ({ cls := "StoneBacksModel", name := "canGive", desc := "(II)Z" } : Jvm.MethodName)) ∈ lw_all := lw_g (lw_at lw_m10 111 rfl) rfl
theorem q2384 : (Jvm.Cond.code ({ cls := "StoneBacksModel", name := "canGive", desc := "(II)Z" } : Jvm.MethodName) prog_19_method_80_code (6 : Nat) (Option.some Jvm.ClassFile.FieldType.boolean)) ∈ lw_all := lw_g (lw_at lw_m10 112 rfl) rfl
theorem q2386 : (Jvm.Cond.instanceMethod ({ cls := "StoneBacksModel", name := "goes", desc := "()I" } : Jvm.MethodName)) ∈ lw_all := lw_g (lw_at lw_m10 114 rfl) rfl
theorem q2387 : (Jvm.Cond.selects "StoneBacksModel" ({ cls := "StoneBacksModel", name := "goes", desc := "()I" } : Jvm.MethodName) ({ cls := "StoneBacksModel", name := "goes", desc := "()I" } : Jvm.MethodName)) ∈ lw_all := lw_g (lw_at lw_m10 115 rfl) rfl
theorem q2388 : (Jvm.Cond.code ({ cls := "StoneBacksModel", name := "goes", desc := "()I" } : Jvm.MethodName) prog_19_method_84_code (7 : Nat) (Option.some Jvm.ClassFile.FieldType.int)) ∈ lw_all := lw_g (lw_at lw_m10 116 rfl) rfl
theorem q2390 : (Jvm.Cond.instanceMethod ({ cls := "StoneBacksModel", name := "pays", desc := "(IZ)I" } : Jvm.MethodName)) ∈ lw_all := lw_g (lw_at lw_m10 118 rfl) rfl
theorem q2391 : (Jvm.Cond.selects "StoneBacksModel" ({ cls := "StoneBacksModel", name := "pays", desc := "(IZ)I" } : Jvm.MethodName) ({ cls := "StoneBacksModel", name := "pays", desc := "(IZ)I" } : Jvm.MethodName)) ∈ lw_all := lw_g (lw_at lw_m10 119 rfl) rfl
theorem q2392 : (Jvm.Cond.code ({ cls := "StoneBacksModel", name := "pays", desc := "(IZ)I" } : Jvm.MethodName) prog_19_method_85_code (6 : Nat) (Option.some Jvm.ClassFile.FieldType.int)) ∈ lw_all := lw_g (lw_at lw_m10 120 rfl) rfl
theorem q2394 : (Jvm.Cond.instanceMethod ({ cls := "StoneBacksModel", name := "first", desc := "(I)I" } : Jvm.MethodName)) ∈ lw_all := lw_g (lw_at lw_m10 122 rfl) rfl
theorem q2395 : (Jvm.Cond.selects "StoneBacksModel" ({ cls := "StoneBacksModel", name := "first", desc := "(I)I" } : Jvm.MethodName) ({ cls := "StoneBacksModel", name := "first", desc := "(I)I" } : Jvm.MethodName)) ∈ lw_all := lw_g (lw_at lw_m10 123 rfl) rfl
theorem q2396 : (Jvm.Cond.code ({ cls := "StoneBacksModel", name := "first", desc := "(I)I" } : Jvm.MethodName) prog_19_method_86_code (5 : Nat) (Option.some Jvm.ClassFile.FieldType.int)) ∈ lw_all := lw_g (lw_at lw_m10 124 rfl) rfl
theorem q2398 : (Jvm.Cond.instanceMethod ({ cls := "StoneBacksModel", name := "owes", desc := "(II)Z" } : Jvm.MethodName)) ∈ lw_all := lw_g (lw_at lw_m10 126 rfl) rfl
theorem q2399 : (Jvm.Cond.selects "StoneBacksModel" ({ cls := "StoneBacksModel", name := "owes", desc := "(II)Z" } : Jvm.MethodName) ({ cls := "StoneBacksModel", name := "owes", desc := "(II)Z" } : Jvm.MethodName)) ∈ lw_all := lw_g (lw_at lw_m10 127 rfl) rfl
theorem q2400 : (Jvm.Cond.code ({ cls := "StoneBacksModel", name := "owes", desc := "(II)Z" } : Jvm.MethodName) prog_19_method_87_code (6 : Nat) (Option.some Jvm.ClassFile.FieldType.boolean)) ∈ lw_all := lw_g (lw_at lw_m10 128 rfl) rfl
theorem q2402 : (Jvm.Cond.instanceMethod ({ cls := "StoneBacksModel", name := "rests", desc := "(III)I" } : Jvm.MethodName)) ∈ lw_all := lw_g (lw_at lw_m10 130 rfl) rfl
theorem q2403 : (Jvm.Cond.selects "StoneBacksModel" ({ cls := "StoneBacksModel", name := "rests", desc := "(III)I" } : Jvm.MethodName) ({ cls := "StoneBacksModel", name := "rests", desc := "(III)I" } : Jvm.MethodName)) ∈ lw_all := lw_g (lw_at lw_m10 131 rfl) rfl
theorem q2404 : (Jvm.Cond.code ({ cls := "StoneBacksModel", name := "rests", desc := "(III)I" } : Jvm.MethodName) prog_19_method_90_code (8 : Nat) (Option.some Jvm.ClassFile.FieldType.int)) ∈ lw_all := lw_g (lw_at lw_m10 132 rfl) rfl
theorem q2405 : (Jvm.Cond.methodLink "StoneBacksModel" (327 : Nat) ({ cls := "StoneBacksModel", name := "lenderHas", desc := "(III)I" } : Jvm.MethodName)) ∈ lw_all := lw_g (lw_at lw_m10 133 rfl) rfl
theorem q2406 : (Jvm.Cond.static ({ cls := "StoneBacksModel", name := "lenderHas", desc := "(III)I" } : Jvm.MethodName)) ∈ lw_all := lw_g (lw_at lw_m10 134 rfl) rfl
theorem q2407 : (Jvm.Cond.code ({ cls := "StoneBacksModel", name := "lenderHas", desc := "(III)I" } : Jvm.MethodName) prog_19_method_88_code (4 : Nat) (Option.some Jvm.ClassFile.FieldType.int)) ∈ lw_all := lw_g (lw_at lw_m10 135 rfl) rfl
theorem q2408 : (Jvm.Cond.methodLink "StoneBacksModel" (331 : Nat) ({ cls := "StoneBacksModel", name := "debtorHas", desc := "(IIII)I" } : Jvm.MethodName)) ∈ lw_all := lw_g (lw_at lw_m10 136 rfl) rfl
theorem q2409 : (Jvm.Cond.privateMethod ({ cls := "StoneBacksModel", name := "debtorHas", desc := "(IIII)I" } : Jvm.MethodName)) ∈ lw_tbl := lw_at lw_m10 137 rfl
theorem q2410 : (Jvm.Cond.instanceMethod ({ cls := "StoneBacksModel", name := "debtorHas", desc := "(IIII)I" } : Jvm.MethodName)) ∈ lw_all := lw_g (lw_at lw_m10 138 rfl) rfl
theorem q2411 : (Jvm.Cond.code ({ cls := "StoneBacksModel", name := "debtorHas", desc := "(IIII)I" } : Jvm.MethodName) prog_19_method_89_code (5 : Nat) (Option.some Jvm.ClassFile.FieldType.int)) ∈ lw_all := lw_g (lw_at lw_m10 139 rfl) rfl
theorem q2413 : (Jvm.Cond.instanceMethod ({ cls := "StoneBacksModel", name := "scales", desc := "(Z)I" } : Jvm.MethodName)) ∈ lw_all := lw_g (lw_at lw_m10 141 rfl) rfl
theorem q2414 : (Jvm.Cond.selects "StoneBacksModel" ({ cls := "StoneBacksModel", name := "scales", desc := "(Z)I" } : Jvm.MethodName) ({ cls := "StoneBacksModel", name := "scales", desc := "(Z)I" } : Jvm.MethodName)) ∈ lw_all := lw_g (lw_at lw_m10 142 rfl) rfl
theorem q2415 : (Jvm.Cond.code ({ cls := "StoneBacksModel", name := "scales", desc := "(Z)I" } : Jvm.MethodName) prog_19_method_93_code (3 : Nat) (Option.some Jvm.ClassFile.FieldType.int)) ∈ lw_all := lw_g (lw_at lw_m10 143 rfl) rfl
theorem q2416 : (Jvm.Cond.methodLink "StoneBacksModel" (338 : Nat) ({ cls := "StoneBacksModel", name := "cases", desc := "()I" } : Jvm.MethodName)) ∈ lw_all := lw_g (lw_at lw_m10 144 rfl) rfl
theorem q2417 : (Jvm.Cond.privateMethod ({ cls := "StoneBacksModel", name := "cases", desc := "()I" } : Jvm.MethodName)) ∈ lw_tbl := lw_at lw_m10 145 rfl
theorem q2418 : (Jvm.Cond.instanceMethod ({ cls := "StoneBacksModel", name := "cases", desc := "()I" } : Jvm.MethodName)) ∈ lw_all := lw_g (lw_at lw_m10 146 rfl) rfl
theorem q2419 : (Jvm.Cond.code ({ cls := "StoneBacksModel", name := "cases", desc := "()I" } : Jvm.MethodName) prog_19_method_92_code (8 : Nat) (Option.some Jvm.ClassFile.FieldType.int)) ∈ lw_all := lw_g (lw_at lw_m10 147 rfl) rfl
theorem q2420 : (Jvm.Cond.methodLink "StoneBacksModel" (335 : Nat) ({ cls := "StoneBacksModel", name := "sinks", desc := "(III)I" } : Jvm.MethodName)) ∈ lw_all := lw_g (lw_at lw_m10 148 rfl) rfl
theorem q2421 : (Jvm.Cond.privateMethod ({ cls := "StoneBacksModel", name := "sinks", desc := "(III)I" } : Jvm.MethodName)) ∈ lw_tbl := lw_at lw_m10 149 rfl
theorem q2422 : (Jvm.Cond.instanceMethod ({ cls := "StoneBacksModel", name := "sinks", desc := "(III)I" } : Jvm.MethodName)) ∈ lw_all := lw_g (lw_at lw_m10 150 rfl) rfl
theorem q2423 : (Jvm.Cond.code ({ cls := "StoneBacksModel", name := "sinks", desc := "(III)I" } : Jvm.MethodName) prog_19_method_91_code (6 : Nat) (Option.some Jvm.ClassFile.FieldType.int)) ∈ lw_all := lw_g (lw_at lw_m10 151 rfl) rfl
theorem q2425 : (Jvm.Cond.instanceMethod ({ cls := "StoneBacksModel", name := "weigh", desc := "()I" } : Jvm.MethodName)) ∈ lw_all := lw_g (lw_at lw_m10 153 rfl) rfl
theorem q2426 : (Jvm.Cond.selects "StoneBacksModel" ({ cls := "StoneBacksModel", name := "weigh", desc := "()I" } : Jvm.MethodName) ({ cls := "StoneBacksModel", name := "weigh", desc := "()I" } : Jvm.MethodName)) ∈ lw_all := lw_g (lw_at lw_m10 154 rfl) rfl
theorem q2427 : (Jvm.Cond.code ({ cls := "StoneBacksModel", name := "weigh", desc := "()I" } : Jvm.MethodName) prog_19_method_94_code (10 : Nat) (Option.some Jvm.ClassFile.FieldType.int)) ∈ lw_all := lw_g (lw_at lw_m10 155 rfl) rfl
theorem q2429 : (Jvm.Cond.instanceMethod ({ cls := "StoneBacksModel", name := "meet", desc := "()I" } : Jvm.MethodName)) ∈ lw_all := lw_g (lw_at lw_m10 157 rfl) rfl
theorem q2430 : (Jvm.Cond.selects "StoneBacksModel" ({ cls := "StoneBacksModel", name := "meet", desc := "()I" } : Jvm.MethodName) ({ cls := "StoneBacksModel", name := "meet", desc := "()I" } : Jvm.MethodName)) ∈ lw_all := lw_g (lw_at lw_m10 158 rfl) rfl
theorem q2431 : (Jvm.Cond.code ({ cls := "StoneBacksModel", name := "meet", desc := "()I" } : Jvm.MethodName) prog_19_method_96_code (3 : Nat) (Option.some Jvm.ClassFile.FieldType.int)) ∈ lw_all := lw_g (lw_at lw_m10 159 rfl) rfl
theorem q2432 : (Jvm.Cond.methodLink "StoneBacksModel" (341 : Nat) ({ cls := "StoneBacksModel", name := "waysTo", desc := "(I)I" } : Jvm.MethodName)) ∈ lw_all := lw_g (lw_at lw_m10 160 rfl) rfl
theorem q2433 : (Jvm.Cond.privateMethod ({ cls := "StoneBacksModel", name := "waysTo", desc := "(I)I" } : Jvm.MethodName)) ∈ lw_tbl := lw_at lw_m10 161 rfl
theorem q2434 : (Jvm.Cond.instanceMethod ({ cls := "StoneBacksModel", name := "waysTo", desc := "(I)I" } : Jvm.MethodName)) ∈ lw_all := lw_g (lw_at lw_m10 162 rfl) rfl
theorem q2435 : (Jvm.Cond.code ({ cls := "StoneBacksModel", name := "waysTo", desc := "(I)I" } : Jvm.MethodName) prog_19_method_95_code (4 : Nat) (Option.some Jvm.ClassFile.FieldType.int)) ∈ lw_all := lw_g (lw_at lw_m10 163 rfl) rfl
theorem q2437 : (Jvm.Cond.instanceMethod ({ cls := "StoneBacksModel", name := "last", desc := "(Z)I" } : Jvm.MethodName)) ∈ lw_all := lw_g (lw_at lw_m10 165 rfl) rfl
theorem q2438 : (Jvm.Cond.selects "StoneBacksModel" ({ cls := "StoneBacksModel", name := "last", desc := "(Z)I" } : Jvm.MethodName) ({ cls := "StoneBacksModel", name := "last", desc := "(Z)I" } : Jvm.MethodName)) ∈ lw_all := lw_g (lw_at lw_m10 166 rfl) rfl
theorem q2439 : (Jvm.Cond.code ({ cls := "StoneBacksModel", name := "last", desc := "(Z)I" } : Jvm.MethodName) prog_19_method_97_code (5 : Nat) (Option.some Jvm.ClassFile.FieldType.int)) ∈ lw_all := lw_g (lw_at lw_m10 167 rfl) rfl
theorem q2441 : (Jvm.Cond.instanceMethod ({ cls := "StoneBacksModel", name := "heap", desc := "()I" } : Jvm.MethodName)) ∈ lw_all := lw_g (lw_at lw_m10 169 rfl) rfl
theorem q2442 : (Jvm.Cond.selects "StoneBacksModel" ({ cls := "StoneBacksModel", name := "heap", desc := "()I" } : Jvm.MethodName) ({ cls := "StoneBacksModel", name := "heap", desc := "()I" } : Jvm.MethodName)) ∈ lw_all := lw_g (lw_at lw_m10 170 rfl) rfl
theorem q2443 : (Jvm.Cond.code ({ cls := "StoneBacksModel", name := "heap", desc := "()I" } : Jvm.MethodName) prog_19_method_98_code (5 : Nat) (Option.some Jvm.ClassFile.FieldType.int)) ∈ lw_all := lw_g (lw_at lw_m10 171 rfl) rfl
theorem q2445 : (Jvm.Cond.instanceMethod ({ cls := "StoneBacksModel", name := "pairs", desc := "()I" } : Jvm.MethodName)) ∈ lw_all := lw_g (lw_at lw_m10 173 rfl) rfl
theorem q2446 : (Jvm.Cond.selects "StoneBacksModel" ({ cls := "StoneBacksModel", name := "pairs", desc := "()I" } : Jvm.MethodName) ({ cls := "StoneBacksModel", name := "pairs", desc := "()I" } : Jvm.MethodName)) ∈ lw_all := lw_g (lw_at lw_m10 174 rfl) rfl
theorem q2447 : (Jvm.Cond.code ({ cls := "StoneBacksModel", name := "pairs", desc := "()I" } : Jvm.MethodName) prog_19_method_99_code (4 : Nat) (Option.some Jvm.ClassFile.FieldType.int)) ∈ lw_all := lw_g (lw_at lw_m10 175 rfl) rfl
theorem q2449 : (Jvm.Cond.instanceMethod ({ cls := "StoneBacksModel", name := "heaviest", desc := "()I" } : Jvm.MethodName)) ∈ lw_all := lw_g (lw_at lw_m10 177 rfl) rfl
theorem q2450 : (Jvm.Cond.selects "StoneBacksModel" ({ cls := "StoneBacksModel", name := "heaviest", desc := "()I" } : Jvm.MethodName) ({ cls := "StoneBacksModel", name := "heaviest", desc := "()I" } : Jvm.MethodName)) ∈ lw_all := lw_g (lw_at lw_m10 178 rfl) rfl
theorem q2451 : (Jvm.Cond.code ({ cls := "StoneBacksModel", name := "heaviest", desc := "()I" } : Jvm.MethodName) prog_19_method_100_code (3 : Nat) (Option.some Jvm.ClassFile.FieldType.int)) ∈ lw_all := lw_g (lw_at lw_m10 179 rfl) rfl
theorem q2453 : (Jvm.Cond.instanceMethod ({ cls := "StoneBacksModel", name := "gravel", desc := "(I)I" } : Jvm.MethodName)) ∈ lw_all := lw_g (lw_at lw_m10 181 rfl) rfl
theorem q2454 : (Jvm.Cond.selects "StoneBacksModel" ({ cls := "StoneBacksModel", name := "gravel", desc := "(I)I" } : Jvm.MethodName) ({ cls := "StoneBacksModel", name := "gravel", desc := "(I)I" } : Jvm.MethodName)) ∈ lw_all := lw_g (lw_at lw_m10 182 rfl) rfl
theorem q2455 : (Jvm.Cond.code ({ cls := "StoneBacksModel", name := "gravel", desc := "(I)I" } : Jvm.MethodName) prog_19_method_102_code (5 : Nat) (Option.some Jvm.ClassFile.FieldType.int)) ∈ lw_all := lw_g (lw_at lw_m10 183 rfl) rfl
theorem q2456 : (Jvm.Cond.methodLink "StoneBacksModel" (344 : Nat) ({ cls := "StoneBacksModel", name := "unpaid", desc := "()I" } : Jvm.MethodName)) ∈ lw_all := lw_g (lw_at lw_m10 184 rfl) rfl
theorem q2457 : (Jvm.Cond.privateMethod ({ cls := "StoneBacksModel", name := "unpaid", desc := "()I" } : Jvm.MethodName)) ∈ lw_tbl := lw_at lw_m10 185 rfl
theorem q2458 : (Jvm.Cond.instanceMethod ({ cls := "StoneBacksModel", name := "unpaid", desc := "()I" } : Jvm.MethodName)) ∈ lw_all := lw_g (lw_at lw_m10 186 rfl) rfl
theorem q2459 : (Jvm.Cond.code ({ cls := "StoneBacksModel", name := "unpaid", desc := "()I" } : Jvm.MethodName) prog_19_method_101_code (3 : Nat) (Option.some Jvm.ClassFile.FieldType.int)) ∈ lw_all := lw_g (lw_at lw_m10 187 rfl) rfl
theorem q2461 : (Jvm.Cond.instanceMethod ({ cls := "StoneBacksModel", name := "ahead", desc := "(III)I" } : Jvm.MethodName)) ∈ lw_all := lw_g (lw_at lw_m10 189 rfl) rfl
theorem q2462 : (Jvm.Cond.selects "StoneBacksModel" ({ cls := "StoneBacksModel", name := "ahead", desc := "(III)I" } : Jvm.MethodName) ({ cls := "StoneBacksModel", name := "ahead", desc := "(III)I" } : Jvm.MethodName)) ∈ lw_all := lw_g (lw_at lw_m10 190 rfl) rfl
theorem q2463 : (Jvm.Cond.code ({ cls := "StoneBacksModel", name := "ahead", desc := "(III)I" } : Jvm.MethodName) prog_19_method_103_code (6 : Nat) (Option.some Jvm.ClassFile.FieldType.int)) ∈ lw_all := lw_g (lw_at lw_m10 191 rfl) rfl
theorem q2465 : (Jvm.Cond.instanceMethod ({ cls := "StoneBacksModel", name := "trial", desc := "(IZ)I" } : Jvm.MethodName)) ∈ lw_all := lw_g (lw_at lw_m10 193 rfl) rfl
theorem q2466 : (Jvm.Cond.selects "StoneBacksModel" ({ cls := "StoneBacksModel", name := "trial", desc := "(IZ)I" } : Jvm.MethodName) ({ cls := "StoneBacksModel", name := "trial", desc := "(IZ)I" } : Jvm.MethodName)) ∈ lw_all := lw_g (lw_at lw_m10 194 rfl) rfl
theorem q2467 : (Jvm.Cond.code ({ cls := "StoneBacksModel", name := "trial", desc := "(IZ)I" } : Jvm.MethodName) prog_19_method_106_code (5 : Nat) (Option.some Jvm.ClassFile.FieldType.int)) ∈ lw_all := lw_g (lw_at lw_m10 195 rfl) rfl
theorem q2468 : (Jvm.Cond.methodLink "StoneBacksModel" (347 : Nat) ({ cls := "StoneBacksModel", name := "hurtOnes", desc := "()I" } : Jvm.MethodName)) ∈ lw_all := lw_g (lw_at lw_m10 196 rfl) rfl
theorem q2469 : (Jvm.Cond.privateMethod ({ cls := "StoneBacksModel", name := "hurtOnes", desc := "()I" } : Jvm.MethodName)) ∈ lw_tbl := lw_at lw_m10 197 rfl
theorem q2470 : (Jvm.Cond.instanceMethod ({ cls := "StoneBacksModel", name := "hurtOnes", desc := "()I" } : Jvm.MethodName)) ∈ lw_all := lw_g (lw_at lw_m10 198 rfl) rfl
theorem q2471 : (Jvm.Cond.code ({ cls := "StoneBacksModel", name := "hurtOnes", desc := "()I" } : Jvm.MethodName) prog_19_method_104_code (3 : Nat) (Option.some Jvm.ClassFile.FieldType.int)) ∈ lw_all := lw_g (lw_at lw_m10 199 rfl) rfl
theorem q2472 : (Jvm.Cond.methodLink "StoneBacksModel" (350 : Nat) ({ cls := "StoneBacksModel", name := "purses", desc := "()I" } : Jvm.MethodName)) ∈ lw_all := lw_g (lw_at lw_m10 200 rfl) rfl
theorem q2473 : (Jvm.Cond.privateMethod ({ cls := "StoneBacksModel", name := "purses", desc := "()I" } : Jvm.MethodName)) ∈ lw_tbl := lw_at lw_m10 201 rfl
theorem q2474 : (Jvm.Cond.instanceMethod ({ cls := "StoneBacksModel", name := "purses", desc := "()I" } : Jvm.MethodName)) ∈ lw_all := lw_g (lw_at lw_m10 202 rfl) rfl
theorem q2475 : (Jvm.Cond.code ({ cls := "StoneBacksModel", name := "purses", desc := "()I" } : Jvm.MethodName) prog_19_method_105_code (3 : Nat) (Option.some Jvm.ClassFile.FieldType.int)) ∈ lw_all := lw_g (lw_at lw_m10 203 rfl) rfl
theorem q2477 : (Jvm.Cond.instanceMethod ({ cls := "StoneBacksModel", name := "span", desc := "(IZ)I" } : Jvm.MethodName)) ∈ lw_all := lw_g (lw_at lw_m10 205 rfl) rfl
theorem q2478 : (Jvm.Cond.selects "StoneBacksModel" ({ cls := "StoneBacksModel", name := "span", desc := "(IZ)I" } : Jvm.MethodName) ({ cls := "StoneBacksModel", name := "span", desc := "(IZ)I" } : Jvm.MethodName)) ∈ lw_all := lw_g (lw_at lw_m10 206 rfl) rfl
theorem q2479 : (Jvm.Cond.code ({ cls := "StoneBacksModel", name := "span", desc := "(IZ)I" } : Jvm.MethodName) prog_19_method_107_code (7 : Nat) (Option.some Jvm.ClassFile.FieldType.int)) ∈ lw_all := lw_g (lw_at lw_m10 207 rfl) rfl
theorem q2481 : (Jvm.Cond.instanceMethod ({ cls := "StoneBacksModel", name := "led", desc := "(IZ)I" } : Jvm.MethodName)) ∈ lw_all := lw_g (lw_at lw_m10 209 rfl) rfl
theorem q2482 : (Jvm.Cond.selects "StoneBacksModel" ({ cls := "StoneBacksModel", name := "led", desc := "(IZ)I" } : Jvm.MethodName) ({ cls := "StoneBacksModel", name := "led", desc := "(IZ)I" } : Jvm.MethodName)) ∈ lw_all := lw_g (lw_at lw_m10 210 rfl) rfl
theorem q2483 : (Jvm.Cond.code ({ cls := "StoneBacksModel", name := "led", desc := "(IZ)I" } : Jvm.MethodName) prog_19_method_109_code (6 : Nat) (Option.some Jvm.ClassFile.FieldType.int)) ∈ lw_all := lw_g (lw_at lw_m10 211 rfl) rfl
theorem q2484 : (Jvm.Cond.methodLink "StoneBacksModel" (353 : Nat) ({ cls := "StoneBacksModel", name := "logged", desc := "(II)I" } : Jvm.MethodName)) ∈ lw_all := lw_g (lw_at lw_m10 212 rfl) rfl
theorem q2485 : (Jvm.Cond.privateMethod ({ cls := "StoneBacksModel", name := "logged", desc := "(II)I" } : Jvm.MethodName)) ∈ lw_tbl := lw_at lw_m10 213 rfl
theorem q2486 : (Jvm.Cond.instanceMethod ({ cls := "StoneBacksModel", name := "logged", desc := "(II)I" } : Jvm.MethodName)) ∈ lw_all := lw_g (lw_at lw_m10 214 rfl) rfl
theorem q2487 : (Jvm.Cond.code ({ cls := "StoneBacksModel", name := "logged", desc := "(II)I" } : Jvm.MethodName) prog_19_method_108_code (3 : Nat) (Option.some Jvm.ClassFile.FieldType.int)) ∈ lw_all := lw_g (lw_at lw_m10 215 rfl) rfl
theorem q2489 : (Jvm.Cond.instanceMethod ({ cls := "StoneBacksModel", name := "log", desc := "(II)I" } : Jvm.MethodName)) ∈ lw_all := lw_g (lw_at lw_m10 217 rfl) rfl
theorem q2490 : (Jvm.Cond.selects "StoneBacksModel" ({ cls := "StoneBacksModel", name := "log", desc := "(II)I" } : Jvm.MethodName) ({ cls := "StoneBacksModel", name := "log", desc := "(II)I" } : Jvm.MethodName)) ∈ lw_all := lw_g (lw_at lw_m10 218 rfl) rfl
theorem q2491 : (Jvm.Cond.code ({ cls := "StoneBacksModel", name := "log", desc := "(II)I" } : Jvm.MethodName) prog_19_method_110_code (3 : Nat) (Option.some Jvm.ClassFile.FieldType.int)) ∈ lw_all := lw_g (lw_at lw_m10 219 rfl) rfl
theorem q2493 : (Jvm.Cond.instanceMethod ({ cls := "StoneBacksModel", name := "seed", desc := "(I)I" } : Jvm.MethodName)) ∈ lw_all := lw_g (lw_at lw_m10 221 rfl) rfl
theorem q2494 : (Jvm.Cond.selects "StoneBacksModel" ({ cls := "StoneBacksModel", name := "seed", desc := "(I)I" } : Jvm.MethodName) ({ cls := "StoneBacksModel", name := "seed", desc := "(I)I" } : Jvm.MethodName)) ∈ lw_all := lw_g (lw_at lw_m10 222 rfl) rfl
theorem q2495 : (Jvm.Cond.code ({ cls := "StoneBacksModel", name := "seed", desc := "(I)I" } : Jvm.MethodName) prog_19_method_111_code (3 : Nat) (Option.some Jvm.ClassFile.FieldType.int)) ∈ lw_all := lw_g (lw_at lw_m10 223 rfl) rfl
theorem q2497 : (Jvm.Cond.instanceMethod ({ cls := "StoneBacksModel", name := "undo", desc := "()Z" } : Jvm.MethodName)) ∈ lw_all := lw_g (lw_at lw_m10 225 rfl) rfl
theorem q2498 : (Jvm.Cond.selects "StoneBacksModel" ({ cls := "StoneBacksModel", name := "undo", desc := "()Z" } : Jvm.MethodName) ({ cls := "StoneBacksModel", name := "undo", desc := "()Z" } : Jvm.MethodName)) ∈ lw_all := lw_g (lw_at lw_m10 226 rfl) rfl
theorem q2499 : (Jvm.Cond.code ({ cls := "StoneBacksModel", name := "undo", desc := "()Z" } : Jvm.MethodName) prog_19_method_112_code (2 : Nat) (Option.some Jvm.ClassFile.FieldType.boolean)) ∈ lw_all := lw_g (lw_at lw_m10 227 rfl) rfl
theorem q2501 : (Jvm.Cond.instanceMethod ({ cls := "StoneBacksModel", name := "image", desc := "()V" } : Jvm.MethodName)) ∈ lw_all := lw_g (lw_at lw_m10 229 rfl) rfl
theorem q2502 : (Jvm.Cond.selects "StoneBacksModel" ({ cls := "StoneBacksModel", name := "image", desc := "()V" } : Jvm.MethodName) ({ cls := "StoneBacksModel", name := "image", desc := "()V" } : Jvm.MethodName)) ∈ lw_all := lw_g (lw_at lw_m10 230 rfl) rfl
theorem q2503 : (Jvm.Cond.code ({ cls := "StoneBacksModel", name := "image", desc := "()V" } : Jvm.MethodName) prog_19_method_113_code (2 : Nat) (Option.none : Option Jvm.ClassFile.FieldType)) ∈ lw_all := lw_g (lw_at lw_m10 231 rfl) rfl
theorem q2505 : (Jvm.Cond.instanceMethod ({ cls := "StoneBacksModel", name := "back", desc := "()Z" } : Jvm.MethodName)) ∈ lw_all := lw_g (lw_at lw_m10 233 rfl) rfl
theorem q2506 : (Jvm.Cond.selects "StoneBacksModel" ({ cls := "StoneBacksModel", name := "back", desc := "()Z" } : Jvm.MethodName) ({ cls := "StoneBacksModel", name := "back", desc := "()Z" } : Jvm.MethodName)) ∈ lw_all := lw_g (lw_at lw_m10 234 rfl) rfl
theorem q2507 : (Jvm.Cond.code ({ cls := "StoneBacksModel", name := "back", desc := "()Z" } : Jvm.MethodName) prog_19_method_114_code (2 : Nat) (Option.some Jvm.ClassFile.FieldType.boolean)) ∈ lw_all := lw_g (lw_at lw_m10 235 rfl) rfl
theorem q2509 : (Jvm.Cond.instanceMethod ({ cls := "StoneBacksModel", name := "count", desc := "(I)I" } : Jvm.MethodName)) ∈ lw_all := lw_g (lw_at lw_m10 237 rfl) rfl
theorem q2510 : (Jvm.Cond.selects "StoneBacksModel" ({ cls := "StoneBacksModel", name := "count", desc := "(I)I" } : Jvm.MethodName) ({ cls := "StoneBacksModel", name := "count", desc := "(I)I" } : Jvm.MethodName)) ∈ lw_all := lw_g (lw_at lw_m10 238 rfl) rfl
theorem q2511 : (Jvm.Cond.code ({ cls := "StoneBacksModel", name := "count", desc := "(I)I" } : Jvm.MethodName) prog_19_method_116_code (2 : Nat) (Option.some Jvm.ClassFile.FieldType.int)) ∈ lw_all := lw_g (lw_at lw_m10 239 rfl) rfl
theorem q2512 : (Jvm.Cond.methodLink "StoneBacksModel" (359 : Nat) ({ cls := "StoneBacksModel", name := "stonesOf", desc := "(I)I" } : Jvm.MethodName)) ∈ lw_all := lw_g (lw_at lw_m11 0 rfl) rfl
theorem q2513 : (Jvm.Cond.privateMethod ({ cls := "StoneBacksModel", name := "stonesOf", desc := "(I)I" } : Jvm.MethodName)) ∈ lw_tbl := lw_at lw_m11 1 rfl
theorem q2514 : (Jvm.Cond.instanceMethod ({ cls := "StoneBacksModel", name := "stonesOf", desc := "(I)I" } : Jvm.MethodName)) ∈ lw_all := lw_g (lw_at lw_m11 2 rfl) rfl
theorem q2515 : (Jvm.Cond.code ({ cls := "StoneBacksModel", name := "stonesOf", desc := "(I)I" } : Jvm.MethodName) prog_19_method_115_code (4 : Nat) (Option.some Jvm.ClassFile.FieldType.int)) ∈ lw_all := lw_g (lw_at lw_m11 3 rfl) rfl
theorem q2537 : (Jvm.Cond.castable "StoneBacksModel" "java/lang/Object") ∈ lw_tbl := lw_at lw_m11 25 rfl
theorem in_X6 : ∀ w ∈ wsX60, w ∈ lw_all := lw_in wsX60 [1977, 1979, 1981, 1983, 1985, 1987, 1989, 1991, 1993, 1995, 1997, 1999, 2001, 2003, 2005, 2007, 2009, 2011, 2013, 2015, 2017, 2019, 2021] (by decide +kernel) (by decide +kernel)

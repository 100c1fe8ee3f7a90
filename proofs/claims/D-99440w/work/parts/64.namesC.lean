/-! StoneBacks -/
set_option maxRecDepth 100000
def RX1 : String := "StoneBacks"
def TX1 : u_T := fun k => match k with
  | 0 => ("StoneBacks", "world", "LStoneBacks$World;", true)
  | 1 => ("StoneBacks", "draft", "LStoneBacks$World;", true)
  | 2 => ("StoneBacks", "image", "LStoneBacks$World;", true)
  | 3 => ("StoneBacks", "hasImage", "Z", false)
  | 4 => ("StoneBacks", "reader", "LStoneBacks$Reader;", true)
  | 5 => ("StoneBacks", "scene", "LStoneBacks$Scene;", true)
  | 6 => ("StoneBacks", "then", "LStoneBacks$World;", true)
  | 7 => ("StoneBacks", "worlds", "Ljava/util/ArrayList;", true)
  | 8 => ("StoneBacks", "shares", "LStoneBacks$Shares;", true)
  | 9 => ("StoneBacks", "across", "[I", true)
  | _ => ("StoneBacks", "trial", "LStoneBacks$World;", true)
def tyX1 : Nat → FieldType := fun k => match k with
  | 0 => .object "StoneBacks$World"
  | 1 => .object "StoneBacks$World"
  | 2 => .object "StoneBacks$World"
  | 3 => .boolean
  | 4 => .object "StoneBacks$Reader"
  | 5 => .object "StoneBacks$Scene"
  | 6 => .object "StoneBacks$World"
  | 7 => .object "java/util/ArrayList"
  | 8 => .object "StoneBacks$Shares"
  | 9 => .array .int
  | _ => .object "StoneBacks$World"
abbrev wsX10 : List Cond := u_ws RX1 TX1 11
theorem nmX1 : ∀ a, a < 11 → ∀ b, b < 11 → a ≠ b → (TX1 a).2.1 ≠ (TX1 b).2.1 := by decide +kernel
theorem tyX1_ok : ∀ k, k < 11 → parseFieldDescriptor (TX1 k).2.2.1 = some (tyX1 k) := by decide +kernel
abbrev cX1_init : ByteArray := prog_1_method_1_code
def yX1_init : MethodName := ⟨RX1, "<init>", "()V"⟩
def dkwX1_init_4 : List UInt8 := [181, 0, 51, 42, 16, 64, 188, 10, 181, 0, 55, 42, 187, 0, 7, 89, 183, 0, 9, 181, 0, 59, 177]
abbrev dktX1_init_4 : List UInt8 := dkwX1_init_4 ++ []
def dkwX1_init_3 : List UInt8 := [181, 0, 36, 42, 187, 0, 39, 89, 183, 0, 41, 181, 0, 42, 42, 187, 0, 46, 89, 42, 183, 0, 48]
abbrev dktX1_init_3 : List UInt8 := dkwX1_init_3 ++ dktX1_init_4
def dkwX1_init_2 : List UInt8 := [181, 0, 25, 42, 187, 0, 29, 89, 183, 0, 31, 181, 0, 32, 42, 187, 0, 7, 89, 183, 0, 9]
abbrev dktX1_init_2 : List UInt8 := dkwX1_init_2 ++ dktX1_init_3
def dkwX1_init_1 : List UInt8 := [181, 0, 16, 42, 187, 0, 7, 89, 183, 0, 9, 181, 0, 19, 42, 187, 0, 22, 89, 183, 0, 24]
abbrev dktX1_init_1 : List UInt8 := dkwX1_init_1 ++ dktX1_init_2
def dkwX1_init_0 : List UInt8 := [42, 183, 0, 1, 42, 187, 0, 7, 89, 183, 0, 9, 181, 0, 10, 42, 187, 0, 7, 89, 183, 0, 9]
abbrev dktX1_init_0 : List UInt8 := dkwX1_init_0 ++ dktX1_init_1
theorem dksX1_init_0 : cX1_init.data.toList.drop 0 = dktX1_init_0 := by decide +kernel
theorem dksX1_init_1 : cX1_init.data.toList.drop 23 = dktX1_init_1 := dk_seg dksX1_init_0 23 rfl rfl
theorem dksX1_init_2 : cX1_init.data.toList.drop 45 = dktX1_init_2 := dk_seg dksX1_init_1 22 rfl rfl
theorem dksX1_init_3 : cX1_init.data.toList.drop 67 = dktX1_init_3 := dk_seg dksX1_init_2 22 rfl rfl
theorem dksX1_init_4 : cX1_init.data.toList.drop 90 = dktX1_init_4 := dk_seg dksX1_init_3 23 rfl rfl
theorem dX1_init_0 : decode cX1_init 0 = .ok (.aload_n 0, 1) := dk_42 (dk_at dksX1_init_0 0 rfl rfl)
theorem dX1_init_1 : decode cX1_init 1 = .ok (.invokespecial 1, 3) := dk_183 0 1 (dk_at dksX1_init_0 1 rfl rfl)
theorem dX1_init_4 : decode cX1_init 4 = .ok (.aload_n 0, 1) := dk_42 (dk_at dksX1_init_0 4 rfl rfl)
theorem dX1_init_5 : decode cX1_init 5 = .ok (.new 7, 3) := dk_187 0 7 (dk_at dksX1_init_0 5 rfl rfl)
theorem dX1_init_8 : decode cX1_init 8 = .ok (.dup, 1) := dk_89 (dk_at dksX1_init_0 8 rfl rfl)
theorem dX1_init_9 : decode cX1_init 9 = .ok (.invokespecial 9, 3) := dk_183 0 9 (dk_at dksX1_init_0 9 rfl rfl)
theorem dX1_init_12 : decode cX1_init 12 = .ok (.putfield 10, 3) := dk_181 0 10 (dk_at dksX1_init_0 12 rfl rfl)
theorem dX1_init_15 : decode cX1_init 15 = .ok (.aload_n 0, 1) := dk_42 (dk_at dksX1_init_0 15 rfl rfl)
theorem dX1_init_16 : decode cX1_init 16 = .ok (.new 7, 3) := dk_187 0 7 (dk_at dksX1_init_0 16 rfl rfl)
theorem dX1_init_19 : decode cX1_init 19 = .ok (.dup, 1) := dk_89 (dk_at dksX1_init_0 19 rfl rfl)
theorem dX1_init_20 : decode cX1_init 20 = .ok (.invokespecial 9, 3) := dk_183 0 9 (dk_at dksX1_init_0 20 rfl rfl)
theorem dX1_init_23 : decode cX1_init 23 = .ok (.putfield 16, 3) := dk_181 0 16 (dk_at dksX1_init_1 0 rfl rfl)
theorem dX1_init_26 : decode cX1_init 26 = .ok (.aload_n 0, 1) := dk_42 (dk_at dksX1_init_1 3 rfl rfl)
theorem dX1_init_27 : decode cX1_init 27 = .ok (.new 7, 3) := dk_187 0 7 (dk_at dksX1_init_1 4 rfl rfl)
theorem dX1_init_30 : decode cX1_init 30 = .ok (.dup, 1) := dk_89 (dk_at dksX1_init_1 7 rfl rfl)
theorem dX1_init_31 : decode cX1_init 31 = .ok (.invokespecial 9, 3) := dk_183 0 9 (dk_at dksX1_init_1 8 rfl rfl)
theorem dX1_init_34 : decode cX1_init 34 = .ok (.putfield 19, 3) := dk_181 0 19 (dk_at dksX1_init_1 11 rfl rfl)
theorem dX1_init_37 : decode cX1_init 37 = .ok (.aload_n 0, 1) := dk_42 (dk_at dksX1_init_1 14 rfl rfl)
theorem dX1_init_38 : decode cX1_init 38 = .ok (.new 22, 3) := dk_187 0 22 (dk_at dksX1_init_1 15 rfl rfl)
theorem dX1_init_41 : decode cX1_init 41 = .ok (.dup, 1) := dk_89 (dk_at dksX1_init_1 18 rfl rfl)
theorem dX1_init_42 : decode cX1_init 42 = .ok (.invokespecial 24, 3) := dk_183 0 24 (dk_at dksX1_init_1 19 rfl rfl)
theorem dX1_init_45 : decode cX1_init 45 = .ok (.putfield 25, 3) := dk_181 0 25 (dk_at dksX1_init_2 0 rfl rfl)
theorem dX1_init_48 : decode cX1_init 48 = .ok (.aload_n 0, 1) := dk_42 (dk_at dksX1_init_2 3 rfl rfl)
theorem dX1_init_49 : decode cX1_init 49 = .ok (.new 29, 3) := dk_187 0 29 (dk_at dksX1_init_2 4 rfl rfl)
theorem dX1_init_52 : decode cX1_init 52 = .ok (.dup, 1) := dk_89 (dk_at dksX1_init_2 7 rfl rfl)
theorem dX1_init_53 : decode cX1_init 53 = .ok (.invokespecial 31, 3) := dk_183 0 31 (dk_at dksX1_init_2 8 rfl rfl)
theorem dX1_init_56 : decode cX1_init 56 = .ok (.putfield 32, 3) := dk_181 0 32 (dk_at dksX1_init_2 11 rfl rfl)
theorem dX1_init_59 : decode cX1_init 59 = .ok (.aload_n 0, 1) := dk_42 (dk_at dksX1_init_2 14 rfl rfl)
theorem dX1_init_60 : decode cX1_init 60 = .ok (.new 7, 3) := dk_187 0 7 (dk_at dksX1_init_2 15 rfl rfl)
theorem dX1_init_63 : decode cX1_init 63 = .ok (.dup, 1) := dk_89 (dk_at dksX1_init_2 18 rfl rfl)
theorem dX1_init_64 : decode cX1_init 64 = .ok (.invokespecial 9, 3) := dk_183 0 9 (dk_at dksX1_init_2 19 rfl rfl)
theorem dX1_init_67 : decode cX1_init 67 = .ok (.putfield 36, 3) := dk_181 0 36 (dk_at dksX1_init_3 0 rfl rfl)
theorem dX1_init_70 : decode cX1_init 70 = .ok (.aload_n 0, 1) := dk_42 (dk_at dksX1_init_3 3 rfl rfl)
theorem dX1_init_71 : decode cX1_init 71 = .ok (.new 39, 3) := dk_187 0 39 (dk_at dksX1_init_3 4 rfl rfl)
theorem dX1_init_74 : decode cX1_init 74 = .ok (.dup, 1) := dk_89 (dk_at dksX1_init_3 7 rfl rfl)
theorem dX1_init_75 : decode cX1_init 75 = .ok (.invokespecial 41, 3) := dk_183 0 41 (dk_at dksX1_init_3 8 rfl rfl)
theorem dX1_init_78 : decode cX1_init 78 = .ok (.putfield 42, 3) := dk_181 0 42 (dk_at dksX1_init_3 11 rfl rfl)
theorem dX1_init_81 : decode cX1_init 81 = .ok (.aload_n 0, 1) := dk_42 (dk_at dksX1_init_3 14 rfl rfl)
theorem dX1_init_82 : decode cX1_init 82 = .ok (.new 46, 3) := dk_187 0 46 (dk_at dksX1_init_3 15 rfl rfl)
theorem dX1_init_85 : decode cX1_init 85 = .ok (.dup, 1) := dk_89 (dk_at dksX1_init_3 18 rfl rfl)
theorem dX1_init_86 : decode cX1_init 86 = .ok (.aload_n 0, 1) := dk_42 (dk_at dksX1_init_3 19 rfl rfl)
theorem dX1_init_87 : decode cX1_init 87 = .ok (.invokespecial 48, 3) := dk_183 0 48 (dk_at dksX1_init_3 20 rfl rfl)
theorem dX1_init_90 : decode cX1_init 90 = .ok (.putfield 51, 3) := dk_181 0 51 (dk_at dksX1_init_4 0 rfl rfl)
theorem dX1_init_93 : decode cX1_init 93 = .ok (.aload_n 0, 1) := dk_42 (dk_at dksX1_init_4 3 rfl rfl)
theorem dX1_init_94 : decode cX1_init 94 = .ok (.bipush 64, 2) := dk_16 64 (dk_at dksX1_init_4 4 rfl rfl)
theorem dX1_init_96 : decode cX1_init 96 = .ok (.newarray .int, 2) := dk_188_10 (dk_at dksX1_init_4 6 rfl rfl)
theorem dX1_init_98 : decode cX1_init 98 = .ok (.putfield 55, 3) := dk_181 0 55 (dk_at dksX1_init_4 8 rfl rfl)
theorem dX1_init_101 : decode cX1_init 101 = .ok (.aload_n 0, 1) := dk_42 (dk_at dksX1_init_4 11 rfl rfl)
theorem dX1_init_102 : decode cX1_init 102 = .ok (.new 7, 3) := dk_187 0 7 (dk_at dksX1_init_4 12 rfl rfl)
theorem dX1_init_105 : decode cX1_init 105 = .ok (.dup, 1) := dk_89 (dk_at dksX1_init_4 15 rfl rfl)
theorem dX1_init_106 : decode cX1_init 106 = .ok (.invokespecial 9, 3) := dk_183 0 9 (dk_at dksX1_init_4 16 rfl rfl)
theorem dX1_init_109 : decode cX1_init 109 = .ok (.putfield 59, 3) := dk_181 0 59 (dk_at dksX1_init_4 19 rfl rfl)
theorem dX1_init_112 : decode cX1_init 112 = .ok (.return_, 1) := dk_177 (dk_at dksX1_init_4 22 rfl rfl)
abbrev cX1_feed : ByteArray := prog_1_method_3_code
def yX1_feed : MethodName := ⟨RX1, "feed", "(IIIII)I"⟩
def dkwX1_feed_1 : List UInt8 := [89, 7, 21, 5, 79, 182, 0, 62, 172]
abbrev dktX1_feed_1 : List UInt8 := dkwX1_feed_1 ++ []
def dkwX1_feed_0 : List UInt8 := [42, 180, 0, 25, 8, 188, 10, 89, 3, 27, 79, 89, 4, 28, 79, 89, 5, 29, 79, 89, 6, 21, 4, 79]
abbrev dktX1_feed_0 : List UInt8 := dkwX1_feed_0 ++ dktX1_feed_1
theorem dksX1_feed_0 : cX1_feed.data.toList.drop 0 = dktX1_feed_0 := by decide +kernel
theorem dksX1_feed_1 : cX1_feed.data.toList.drop 24 = dktX1_feed_1 := dk_seg dksX1_feed_0 24 rfl rfl
theorem dX1_feed_0 : decode cX1_feed 0 = .ok (.aload_n 0, 1) := dk_42 (dk_at dksX1_feed_0 0 rfl rfl)
theorem dX1_feed_1 : decode cX1_feed 1 = .ok (.getfield 25, 3) := dk_180 0 25 (dk_at dksX1_feed_0 1 rfl rfl)
theorem dX1_feed_4 : decode cX1_feed 4 = .ok (.iconst 5, 1) := dk_8 (dk_at dksX1_feed_0 4 rfl rfl)
theorem dX1_feed_5 : decode cX1_feed 5 = .ok (.newarray .int, 2) := dk_188_10 (dk_at dksX1_feed_0 5 rfl rfl)
theorem dX1_feed_7 : decode cX1_feed 7 = .ok (.dup, 1) := dk_89 (dk_at dksX1_feed_0 7 rfl rfl)
theorem dX1_feed_8 : decode cX1_feed 8 = .ok (.iconst 0, 1) := dk_3 (dk_at dksX1_feed_0 8 rfl rfl)
theorem dX1_feed_9 : decode cX1_feed 9 = .ok (.iload_n 1, 1) := dk_27 (dk_at dksX1_feed_0 9 rfl rfl)
theorem dX1_feed_10 : decode cX1_feed 10 = .ok (.iastore, 1) := dk_79 (dk_at dksX1_feed_0 10 rfl rfl)
theorem dX1_feed_11 : decode cX1_feed 11 = .ok (.dup, 1) := dk_89 (dk_at dksX1_feed_0 11 rfl rfl)
theorem dX1_feed_12 : decode cX1_feed 12 = .ok (.iconst 1, 1) := dk_4 (dk_at dksX1_feed_0 12 rfl rfl)
theorem dX1_feed_13 : decode cX1_feed 13 = .ok (.iload_n 2, 1) := dk_28 (dk_at dksX1_feed_0 13 rfl rfl)
theorem dX1_feed_14 : decode cX1_feed 14 = .ok (.iastore, 1) := dk_79 (dk_at dksX1_feed_0 14 rfl rfl)
theorem dX1_feed_15 : decode cX1_feed 15 = .ok (.dup, 1) := dk_89 (dk_at dksX1_feed_0 15 rfl rfl)
theorem dX1_feed_16 : decode cX1_feed 16 = .ok (.iconst 2, 1) := dk_5 (dk_at dksX1_feed_0 16 rfl rfl)
theorem dX1_feed_17 : decode cX1_feed 17 = .ok (.iload_n 3, 1) := dk_29 (dk_at dksX1_feed_0 17 rfl rfl)
theorem dX1_feed_18 : decode cX1_feed 18 = .ok (.iastore, 1) := dk_79 (dk_at dksX1_feed_0 18 rfl rfl)
theorem dX1_feed_19 : decode cX1_feed 19 = .ok (.dup, 1) := dk_89 (dk_at dksX1_feed_0 19 rfl rfl)
theorem dX1_feed_20 : decode cX1_feed 20 = .ok (.iconst 3, 1) := dk_6 (dk_at dksX1_feed_0 20 rfl rfl)
theorem dX1_feed_21 : decode cX1_feed 21 = .ok (.iload 4, 2) := dk_21 4 (dk_at dksX1_feed_0 21 rfl rfl)
theorem dX1_feed_23 : decode cX1_feed 23 = .ok (.iastore, 1) := dk_79 (dk_at dksX1_feed_0 23 rfl rfl)
theorem dX1_feed_24 : decode cX1_feed 24 = .ok (.dup, 1) := dk_89 (dk_at dksX1_feed_1 0 rfl rfl)
theorem dX1_feed_25 : decode cX1_feed 25 = .ok (.iconst 4, 1) := dk_7 (dk_at dksX1_feed_1 1 rfl rfl)
theorem dX1_feed_26 : decode cX1_feed 26 = .ok (.iload 5, 2) := dk_21 5 (dk_at dksX1_feed_1 2 rfl rfl)
theorem dX1_feed_28 : decode cX1_feed 28 = .ok (.iastore, 1) := dk_79 (dk_at dksX1_feed_1 4 rfl rfl)
theorem dX1_feed_29 : decode cX1_feed 29 = .ok (.invokevirtual 62, 3) := dk_182 0 62 (dk_at dksX1_feed_1 5 rfl rfl)
theorem dX1_feed_32 : decode cX1_feed 32 = .ok (.ireturn, 1) := dk_172 (dk_at dksX1_feed_1 8 rfl rfl)
abbrev cX1_end : ByteArray := prog_1_method_4_code
def yX1_end : MethodName := ⟨RX1, "end", "(I)Z"⟩
def dkwX1_end_0 : List UInt8 := [42, 180, 0, 25, 27, 182, 0, 66, 172]
abbrev dktX1_end_0 : List UInt8 := dkwX1_end_0 ++ []
theorem dksX1_end_0 : cX1_end.data.toList.drop 0 = dktX1_end_0 := by decide +kernel
theorem dX1_end_0 : decode cX1_end 0 = .ok (.aload_n 0, 1) := dk_42 (dk_at dksX1_end_0 0 rfl rfl)
theorem dX1_end_1 : decode cX1_end 1 = .ok (.getfield 25, 3) := dk_180 0 25 (dk_at dksX1_end_0 1 rfl rfl)
theorem dX1_end_4 : decode cX1_end 4 = .ok (.iload_n 1, 1) := dk_27 (dk_at dksX1_end_0 4 rfl rfl)
theorem dX1_end_5 : decode cX1_end 5 = .ok (.invokevirtual 66, 3) := dk_182 0 66 (dk_at dksX1_end_0 5 rfl rfl)
theorem dX1_end_8 : decode cX1_end 8 = .ok (.ireturn, 1) := dk_172 (dk_at dksX1_end_0 8 rfl rfl)
abbrev cX1_fault : ByteArray := prog_1_method_5_code
def yX1_fault : MethodName := ⟨RX1, "fault", "()I"⟩
def dkwX1_fault_0 : List UInt8 := [42, 180, 0, 25, 180, 0, 70, 172]
abbrev dktX1_fault_0 : List UInt8 := dkwX1_fault_0 ++ []
theorem dksX1_fault_0 : cX1_fault.data.toList.drop 0 = dktX1_fault_0 := by decide +kernel
theorem dX1_fault_0 : decode cX1_fault 0 = .ok (.aload_n 0, 1) := dk_42 (dk_at dksX1_fault_0 0 rfl rfl)
theorem dX1_fault_1 : decode cX1_fault 1 = .ok (.getfield 25, 3) := dk_180 0 25 (dk_at dksX1_fault_0 1 rfl rfl)
theorem dX1_fault_4 : decode cX1_fault 4 = .ok (.getfield 70, 3) := dk_180 0 70 (dk_at dksX1_fault_0 4 rfl rfl)
theorem dX1_fault_7 : decode cX1_fault 7 = .ok (.ireturn, 1) := dk_172 (dk_at dksX1_fault_0 7 rfl rfl)
abbrev cX1_goes : ByteArray := prog_1_method_64_code
def yX1_goes : MethodName := ⟨RX1, "goes", "()I"⟩
def dkwX1_goes_2 : List UInt8 := [27, 46, 19, 1, 242, 161, 0, 7, 2, 167, 0, 9, 42, 180, 0, 55, 27, 46, 172]
abbrev dktX1_goes_2 : List UInt8 := dkwX1_goes_2 ++ []
def dkwX1_goes_1 : List UInt8 := [163, 0, 20, 42, 180, 0, 55, 28, 42, 28, 182, 2, 13, 79, 132, 2, 1, 167, 255, 237, 42, 180, 0, 55]
abbrev dktX1_goes_1 : List UInt8 := dkwX1_goes_1 ++ dktX1_goes_2
def dkwX1_goes_0 : List UInt8 := [4, 42, 180, 0, 10, 180, 0, 96, 120, 4, 100, 60, 42, 180, 0, 55, 3, 3, 79, 4, 61, 28, 27]
abbrev dktX1_goes_0 : List UInt8 := dkwX1_goes_0 ++ dktX1_goes_1
theorem dksX1_goes_0 : cX1_goes.data.toList.drop 0 = dktX1_goes_0 := by decide +kernel
theorem dksX1_goes_1 : cX1_goes.data.toList.drop 23 = dktX1_goes_1 := dk_seg dksX1_goes_0 23 rfl rfl
theorem dksX1_goes_2 : cX1_goes.data.toList.drop 47 = dktX1_goes_2 := dk_seg dksX1_goes_1 24 rfl rfl
theorem dX1_goes_0 : decode cX1_goes 0 = .ok (.iconst 1, 1) := dk_4 (dk_at dksX1_goes_0 0 rfl rfl)
theorem dX1_goes_1 : decode cX1_goes 1 = .ok (.aload_n 0, 1) := dk_42 (dk_at dksX1_goes_0 1 rfl rfl)
theorem dX1_goes_2 : decode cX1_goes 2 = .ok (.getfield 10, 3) := dk_180 0 10 (dk_at dksX1_goes_0 2 rfl rfl)
theorem dX1_goes_5 : decode cX1_goes 5 = .ok (.getfield 96, 3) := dk_180 0 96 (dk_at dksX1_goes_0 5 rfl rfl)
theorem dX1_goes_8 : decode cX1_goes 8 = .ok (.ishl, 1) := dk_120 (dk_at dksX1_goes_0 8 rfl rfl)
theorem dX1_goes_9 : decode cX1_goes 9 = .ok (.iconst 1, 1) := dk_4 (dk_at dksX1_goes_0 9 rfl rfl)
theorem dX1_goes_10 : decode cX1_goes 10 = .ok (.isub, 1) := dk_100 (dk_at dksX1_goes_0 10 rfl rfl)
theorem dX1_goes_11 : decode cX1_goes 11 = .ok (.istore_n 1, 1) := dk_60 (dk_at dksX1_goes_0 11 rfl rfl)
theorem dX1_goes_12 : decode cX1_goes 12 = .ok (.aload_n 0, 1) := dk_42 (dk_at dksX1_goes_0 12 rfl rfl)
theorem dX1_goes_13 : decode cX1_goes 13 = .ok (.getfield 55, 3) := dk_180 0 55 (dk_at dksX1_goes_0 13 rfl rfl)
theorem dX1_goes_16 : decode cX1_goes 16 = .ok (.iconst 0, 1) := dk_3 (dk_at dksX1_goes_0 16 rfl rfl)
theorem dX1_goes_17 : decode cX1_goes 17 = .ok (.iconst 0, 1) := dk_3 (dk_at dksX1_goes_0 17 rfl rfl)
theorem dX1_goes_18 : decode cX1_goes 18 = .ok (.iastore, 1) := dk_79 (dk_at dksX1_goes_0 18 rfl rfl)
theorem dX1_goes_19 : decode cX1_goes 19 = .ok (.iconst 1, 1) := dk_4 (dk_at dksX1_goes_0 19 rfl rfl)
theorem dX1_goes_20 : decode cX1_goes 20 = .ok (.istore_n 2, 1) := dk_61 (dk_at dksX1_goes_0 20 rfl rfl)
theorem dX1_goes_21 : decode cX1_goes 21 = .ok (.iload_n 2, 1) := dk_28 (dk_at dksX1_goes_0 21 rfl rfl)
theorem dX1_goes_22 : decode cX1_goes 22 = .ok (.iload_n 1, 1) := dk_27 (dk_at dksX1_goes_0 22 rfl rfl)
theorem dX1_goes_23 : decode cX1_goes 23 = .ok (.if_icmp .gt 20, 3) := dk_163 0 20 (dk_at dksX1_goes_1 0 rfl rfl)
theorem dX1_goes_26 : decode cX1_goes 26 = .ok (.aload_n 0, 1) := dk_42 (dk_at dksX1_goes_1 3 rfl rfl)
theorem dX1_goes_27 : decode cX1_goes 27 = .ok (.getfield 55, 3) := dk_180 0 55 (dk_at dksX1_goes_1 4 rfl rfl)
theorem dX1_goes_30 : decode cX1_goes 30 = .ok (.iload_n 2, 1) := dk_28 (dk_at dksX1_goes_1 7 rfl rfl)
theorem dX1_goes_31 : decode cX1_goes 31 = .ok (.aload_n 0, 1) := dk_42 (dk_at dksX1_goes_1 8 rfl rfl)
theorem dX1_goes_32 : decode cX1_goes 32 = .ok (.iload_n 2, 1) := dk_28 (dk_at dksX1_goes_1 9 rfl rfl)
theorem dX1_goes_33 : decode cX1_goes 33 = .ok (.invokevirtual 525, 3) := dk_182 2 13 (dk_at dksX1_goes_1 10 rfl rfl)
theorem dX1_goes_36 : decode cX1_goes 36 = .ok (.iastore, 1) := dk_79 (dk_at dksX1_goes_1 13 rfl rfl)
theorem dX1_goes_37 : decode cX1_goes 37 = .ok (.iinc 2 1, 3) := dk_132 2 1 (dk_at dksX1_goes_1 14 rfl rfl)
theorem dX1_goes_40 : decode cX1_goes 40 = .ok (.goto (-19), 3) := dk_167 255 237 (dk_at dksX1_goes_1 17 rfl rfl)
theorem dX1_goes_43 : decode cX1_goes 43 = .ok (.aload_n 0, 1) := dk_42 (dk_at dksX1_goes_1 20 rfl rfl)
theorem dX1_goes_44 : decode cX1_goes 44 = .ok (.getfield 55, 3) := dk_180 0 55 (dk_at dksX1_goes_1 21 rfl rfl)
theorem dX1_goes_47 : decode cX1_goes 47 = .ok (.iload_n 1, 1) := dk_27 (dk_at dksX1_goes_2 0 rfl rfl)
theorem dX1_goes_48 : decode cX1_goes 48 = .ok (.iaload, 1) := dk_46 (dk_at dksX1_goes_2 1 rfl rfl)
theorem dX1_goes_49 : decode cX1_goes 49 = .ok (.ldc_w 498, 3) := dk_19 1 242 (dk_at dksX1_goes_2 2 rfl rfl)
theorem dX1_goes_52 : decode cX1_goes 52 = .ok (.if_icmp .lt 7, 3) := dk_161 0 7 (dk_at dksX1_goes_2 5 rfl rfl)
theorem dX1_goes_55 : decode cX1_goes 55 = .ok (.iconst (-1), 1) := dk_2 (dk_at dksX1_goes_2 8 rfl rfl)
theorem dX1_goes_56 : decode cX1_goes 56 = .ok (.goto 9, 3) := dk_167 0 9 (dk_at dksX1_goes_2 9 rfl rfl)
theorem dX1_goes_59 : decode cX1_goes 59 = .ok (.aload_n 0, 1) := dk_42 (dk_at dksX1_goes_2 12 rfl rfl)
theorem dX1_goes_60 : decode cX1_goes 60 = .ok (.getfield 55, 3) := dk_180 0 55 (dk_at dksX1_goes_2 13 rfl rfl)
theorem dX1_goes_63 : decode cX1_goes 63 = .ok (.iload_n 1, 1) := dk_27 (dk_at dksX1_goes_2 16 rfl rfl)
theorem dX1_goes_64 : decode cX1_goes 64 = .ok (.iaload, 1) := dk_46 (dk_at dksX1_goes_2 17 rfl rfl)
theorem dX1_goes_65 : decode cX1_goes 65 = .ok (.ireturn, 1) := dk_172 (dk_at dksX1_goes_2 18 rfl rfl)
abbrev cX1_goesOf : ByteArray := prog_1_method_63_code
def yX1_goesOf : MethodName := ⟨RX1, "goesOf", "(I)I"⟩
def dkwX1_goesOf_2 : List UInt8 := [126, 62, 167, 255, 214, 28, 172]
abbrev dktX1_goesOf_2 : List UInt8 := dkwX1_goesOf_2 ++ []
def dkwX1_goesOf_1 : List UInt8 := [163, 0, 20, 28, 4, 42, 180, 0, 55, 27, 29, 2, 130, 126, 46, 96, 184, 1, 121, 61, 29, 4, 100, 27]
abbrev dktX1_goesOf_1 : List UInt8 := dkwX1_goesOf_1 ++ dktX1_goesOf_2
def dkwX1_goesOf_0 : List UInt8 := [19, 1, 242, 61, 27, 62, 29, 158, 0, 44, 42, 29, 182, 2, 10, 42, 180, 0, 10, 180, 0, 174]
abbrev dktX1_goesOf_0 : List UInt8 := dkwX1_goesOf_0 ++ dktX1_goesOf_1
theorem dksX1_goesOf_0 : cX1_goesOf.data.toList.drop 0 = dktX1_goesOf_0 := by decide +kernel
theorem dksX1_goesOf_1 : cX1_goesOf.data.toList.drop 22 = dktX1_goesOf_1 := dk_seg dksX1_goesOf_0 22 rfl rfl
theorem dksX1_goesOf_2 : cX1_goesOf.data.toList.drop 46 = dktX1_goesOf_2 := dk_seg dksX1_goesOf_1 24 rfl rfl
theorem dX1_goesOf_0 : decode cX1_goesOf 0 = .ok (.ldc_w 498, 3) := dk_19 1 242 (dk_at dksX1_goesOf_0 0 rfl rfl)
theorem dX1_goesOf_3 : decode cX1_goesOf 3 = .ok (.istore_n 2, 1) := dk_61 (dk_at dksX1_goesOf_0 3 rfl rfl)
theorem dX1_goesOf_4 : decode cX1_goesOf 4 = .ok (.iload_n 1, 1) := dk_27 (dk_at dksX1_goesOf_0 4 rfl rfl)
theorem dX1_goesOf_5 : decode cX1_goesOf 5 = .ok (.istore_n 3, 1) := dk_62 (dk_at dksX1_goesOf_0 5 rfl rfl)
theorem dX1_goesOf_6 : decode cX1_goesOf 6 = .ok (.iload_n 3, 1) := dk_29 (dk_at dksX1_goesOf_0 6 rfl rfl)
theorem dX1_goesOf_7 : decode cX1_goesOf 7 = .ok (.ifCond .le 44, 3) := dk_158 0 44 (dk_at dksX1_goesOf_0 7 rfl rfl)
theorem dX1_goesOf_10 : decode cX1_goesOf 10 = .ok (.aload_n 0, 1) := dk_42 (dk_at dksX1_goesOf_0 10 rfl rfl)
theorem dX1_goesOf_11 : decode cX1_goesOf 11 = .ok (.iload_n 3, 1) := dk_29 (dk_at dksX1_goesOf_0 11 rfl rfl)
theorem dX1_goesOf_12 : decode cX1_goesOf 12 = .ok (.invokevirtual 522, 3) := dk_182 2 10 (dk_at dksX1_goesOf_0 12 rfl rfl)
theorem dX1_goesOf_15 : decode cX1_goesOf 15 = .ok (.aload_n 0, 1) := dk_42 (dk_at dksX1_goesOf_0 15 rfl rfl)
theorem dX1_goesOf_16 : decode cX1_goesOf 16 = .ok (.getfield 10, 3) := dk_180 0 10 (dk_at dksX1_goesOf_0 16 rfl rfl)
theorem dX1_goesOf_19 : decode cX1_goesOf 19 = .ok (.getfield 174, 3) := dk_180 0 174 (dk_at dksX1_goesOf_0 19 rfl rfl)
theorem dX1_goesOf_22 : decode cX1_goesOf 22 = .ok (.if_icmp .gt 20, 3) := dk_163 0 20 (dk_at dksX1_goesOf_1 0 rfl rfl)
theorem dX1_goesOf_25 : decode cX1_goesOf 25 = .ok (.iload_n 2, 1) := dk_28 (dk_at dksX1_goesOf_1 3 rfl rfl)
theorem dX1_goesOf_26 : decode cX1_goesOf 26 = .ok (.iconst 1, 1) := dk_4 (dk_at dksX1_goesOf_1 4 rfl rfl)
theorem dX1_goesOf_27 : decode cX1_goesOf 27 = .ok (.aload_n 0, 1) := dk_42 (dk_at dksX1_goesOf_1 5 rfl rfl)
theorem dX1_goesOf_28 : decode cX1_goesOf 28 = .ok (.getfield 55, 3) := dk_180 0 55 (dk_at dksX1_goesOf_1 6 rfl rfl)
theorem dX1_goesOf_31 : decode cX1_goesOf 31 = .ok (.iload_n 1, 1) := dk_27 (dk_at dksX1_goesOf_1 9 rfl rfl)
theorem dX1_goesOf_32 : decode cX1_goesOf 32 = .ok (.iload_n 3, 1) := dk_29 (dk_at dksX1_goesOf_1 10 rfl rfl)
theorem dX1_goesOf_33 : decode cX1_goesOf 33 = .ok (.iconst (-1), 1) := dk_2 (dk_at dksX1_goesOf_1 11 rfl rfl)
theorem dX1_goesOf_34 : decode cX1_goesOf 34 = .ok (.ixor, 1) := dk_130 (dk_at dksX1_goesOf_1 12 rfl rfl)
theorem dX1_goesOf_35 : decode cX1_goesOf 35 = .ok (.iand, 1) := dk_126 (dk_at dksX1_goesOf_1 13 rfl rfl)
theorem dX1_goesOf_36 : decode cX1_goesOf 36 = .ok (.iaload, 1) := dk_46 (dk_at dksX1_goesOf_1 14 rfl rfl)
theorem dX1_goesOf_37 : decode cX1_goesOf 37 = .ok (.iadd, 1) := dk_96 (dk_at dksX1_goesOf_1 15 rfl rfl)
theorem dX1_goesOf_38 : decode cX1_goesOf 38 = .ok (.invokestatic 377, 3) := dk_184 1 121 (dk_at dksX1_goesOf_1 16 rfl rfl)
theorem dX1_goesOf_41 : decode cX1_goesOf 41 = .ok (.istore_n 2, 1) := dk_61 (dk_at dksX1_goesOf_1 19 rfl rfl)
theorem dX1_goesOf_42 : decode cX1_goesOf 42 = .ok (.iload_n 3, 1) := dk_29 (dk_at dksX1_goesOf_1 20 rfl rfl)
theorem dX1_goesOf_43 : decode cX1_goesOf 43 = .ok (.iconst 1, 1) := dk_4 (dk_at dksX1_goesOf_1 21 rfl rfl)
theorem dX1_goesOf_44 : decode cX1_goesOf 44 = .ok (.isub, 1) := dk_100 (dk_at dksX1_goesOf_1 22 rfl rfl)
theorem dX1_goesOf_45 : decode cX1_goesOf 45 = .ok (.iload_n 1, 1) := dk_27 (dk_at dksX1_goesOf_1 23 rfl rfl)
theorem dX1_goesOf_46 : decode cX1_goesOf 46 = .ok (.iand, 1) := dk_126 (dk_at dksX1_goesOf_2 0 rfl rfl)
theorem dX1_goesOf_47 : decode cX1_goesOf 47 = .ok (.istore_n 3, 1) := dk_62 (dk_at dksX1_goesOf_2 1 rfl rfl)
theorem dX1_goesOf_48 : decode cX1_goesOf 48 = .ok (.goto (-42), 3) := dk_167 255 214 (dk_at dksX1_goesOf_2 2 rfl rfl)
theorem dX1_goesOf_51 : decode cX1_goesOf 51 = .ok (.iload_n 2, 1) := dk_28 (dk_at dksX1_goesOf_2 5 rfl rfl)
theorem dX1_goesOf_52 : decode cX1_goesOf 52 = .ok (.ireturn, 1) := dk_172 (dk_at dksX1_goesOf_2 6 rfl rfl)
abbrev cX1_loadOf : ByteArray := prog_1_method_62_code
def yX1_loadOf : MethodName := ⟨RX1, "loadOf", "(I)I"⟩
def dkwX1_loadOf_1 : List UInt8 := [42, 180, 0, 10, 29, 182, 1, 81, 167, 0, 4, 3, 96, 61, 132, 3, 1, 167, 255, 219, 28, 172]
abbrev dktX1_loadOf_1 : List UInt8 := dkwX1_loadOf_1 ++ []
def dkwX1_loadOf_0 : List UInt8 := [3, 61, 3, 62, 29, 42, 180, 0, 10, 180, 0, 96, 162, 0, 32, 28, 27, 29, 184, 2, 6, 153, 0, 14]
abbrev dktX1_loadOf_0 : List UInt8 := dkwX1_loadOf_0 ++ dktX1_loadOf_1
theorem dksX1_loadOf_0 : cX1_loadOf.data.toList.drop 0 = dktX1_loadOf_0 := by decide +kernel
theorem dksX1_loadOf_1 : cX1_loadOf.data.toList.drop 24 = dktX1_loadOf_1 := dk_seg dksX1_loadOf_0 24 rfl rfl
theorem dX1_loadOf_0 : decode cX1_loadOf 0 = .ok (.iconst 0, 1) := dk_3 (dk_at dksX1_loadOf_0 0 rfl rfl)
theorem dX1_loadOf_1 : decode cX1_loadOf 1 = .ok (.istore_n 2, 1) := dk_61 (dk_at dksX1_loadOf_0 1 rfl rfl)
theorem dX1_loadOf_2 : decode cX1_loadOf 2 = .ok (.iconst 0, 1) := dk_3 (dk_at dksX1_loadOf_0 2 rfl rfl)
theorem dX1_loadOf_3 : decode cX1_loadOf 3 = .ok (.istore_n 3, 1) := dk_62 (dk_at dksX1_loadOf_0 3 rfl rfl)
theorem dX1_loadOf_4 : decode cX1_loadOf 4 = .ok (.iload_n 3, 1) := dk_29 (dk_at dksX1_loadOf_0 4 rfl rfl)
theorem dX1_loadOf_5 : decode cX1_loadOf 5 = .ok (.aload_n 0, 1) := dk_42 (dk_at dksX1_loadOf_0 5 rfl rfl)
theorem dX1_loadOf_6 : decode cX1_loadOf 6 = .ok (.getfield 10, 3) := dk_180 0 10 (dk_at dksX1_loadOf_0 6 rfl rfl)
theorem dX1_loadOf_9 : decode cX1_loadOf 9 = .ok (.getfield 96, 3) := dk_180 0 96 (dk_at dksX1_loadOf_0 9 rfl rfl)
theorem dX1_loadOf_12 : decode cX1_loadOf 12 = .ok (.if_icmp .ge 32, 3) := dk_162 0 32 (dk_at dksX1_loadOf_0 12 rfl rfl)
theorem dX1_loadOf_15 : decode cX1_loadOf 15 = .ok (.iload_n 2, 1) := dk_28 (dk_at dksX1_loadOf_0 15 rfl rfl)
theorem dX1_loadOf_16 : decode cX1_loadOf 16 = .ok (.iload_n 1, 1) := dk_27 (dk_at dksX1_loadOf_0 16 rfl rfl)
theorem dX1_loadOf_17 : decode cX1_loadOf 17 = .ok (.iload_n 3, 1) := dk_29 (dk_at dksX1_loadOf_0 17 rfl rfl)
theorem dX1_loadOf_18 : decode cX1_loadOf 18 = .ok (.invokestatic 518, 3) := dk_184 2 6 (dk_at dksX1_loadOf_0 18 rfl rfl)
theorem dX1_loadOf_21 : decode cX1_loadOf 21 = .ok (.ifCond .eq 14, 3) := dk_153 0 14 (dk_at dksX1_loadOf_0 21 rfl rfl)
theorem dX1_loadOf_24 : decode cX1_loadOf 24 = .ok (.aload_n 0, 1) := dk_42 (dk_at dksX1_loadOf_1 0 rfl rfl)
theorem dX1_loadOf_25 : decode cX1_loadOf 25 = .ok (.getfield 10, 3) := dk_180 0 10 (dk_at dksX1_loadOf_1 1 rfl rfl)
theorem dX1_loadOf_28 : decode cX1_loadOf 28 = .ok (.iload_n 3, 1) := dk_29 (dk_at dksX1_loadOf_1 4 rfl rfl)
theorem dX1_loadOf_29 : decode cX1_loadOf 29 = .ok (.invokevirtual 337, 3) := dk_182 1 81 (dk_at dksX1_loadOf_1 5 rfl rfl)
theorem dX1_loadOf_32 : decode cX1_loadOf 32 = .ok (.goto 4, 3) := dk_167 0 4 (dk_at dksX1_loadOf_1 8 rfl rfl)
theorem dX1_loadOf_35 : decode cX1_loadOf 35 = .ok (.iconst 0, 1) := dk_3 (dk_at dksX1_loadOf_1 11 rfl rfl)
theorem dX1_loadOf_36 : decode cX1_loadOf 36 = .ok (.iadd, 1) := dk_96 (dk_at dksX1_loadOf_1 12 rfl rfl)
theorem dX1_loadOf_37 : decode cX1_loadOf 37 = .ok (.istore_n 2, 1) := dk_61 (dk_at dksX1_loadOf_1 13 rfl rfl)
theorem dX1_loadOf_38 : decode cX1_loadOf 38 = .ok (.iinc 3 1, 3) := dk_132 3 1 (dk_at dksX1_loadOf_1 14 rfl rfl)
theorem dX1_loadOf_41 : decode cX1_loadOf 41 = .ok (.goto (-37), 3) := dk_167 255 219 (dk_at dksX1_loadOf_1 17 rfl rfl)
theorem dX1_loadOf_44 : decode cX1_loadOf 44 = .ok (.iload_n 2, 1) := dk_28 (dk_at dksX1_loadOf_1 20 rfl rfl)
theorem dX1_loadOf_45 : decode cX1_loadOf 45 = .ok (.ireturn, 1) := dk_172 (dk_at dksX1_loadOf_1 21 rfl rfl)
abbrev cX1_has : ByteArray := prog_1_method_40_code
def yX1_has : MethodName := ⟨RX1, "has", "(II)Z"⟩
def dkwX1_has_0 : List UInt8 := [26, 27, 122, 4, 126, 4, 160, 0, 7, 4, 167, 0, 4, 3, 172]
abbrev dktX1_has_0 : List UInt8 := dkwX1_has_0 ++ []
theorem dksX1_has_0 : cX1_has.data.toList.drop 0 = dktX1_has_0 := by decide +kernel
theorem dX1_has_0 : decode cX1_has 0 = .ok (.iload_n 0, 1) := dk_26 (dk_at dksX1_has_0 0 rfl rfl)
theorem dX1_has_1 : decode cX1_has 1 = .ok (.iload_n 1, 1) := dk_27 (dk_at dksX1_has_0 1 rfl rfl)
theorem dX1_has_2 : decode cX1_has 2 = .ok (.ishr, 1) := dk_122 (dk_at dksX1_has_0 2 rfl rfl)
theorem dX1_has_3 : decode cX1_has 3 = .ok (.iconst 1, 1) := dk_4 (dk_at dksX1_has_0 3 rfl rfl)
theorem dX1_has_4 : decode cX1_has 4 = .ok (.iand, 1) := dk_126 (dk_at dksX1_has_0 4 rfl rfl)
theorem dX1_has_5 : decode cX1_has 5 = .ok (.iconst 1, 1) := dk_4 (dk_at dksX1_has_0 5 rfl rfl)
theorem dX1_has_6 : decode cX1_has 6 = .ok (.if_icmp .ne 7, 3) := dk_160 0 7 (dk_at dksX1_has_0 6 rfl rfl)
theorem dX1_has_9 : decode cX1_has 9 = .ok (.iconst 1, 1) := dk_4 (dk_at dksX1_has_0 9 rfl rfl)
theorem dX1_has_10 : decode cX1_has 10 = .ok (.goto 4, 3) := dk_167 0 4 (dk_at dksX1_has_0 10 rfl rfl)
theorem dX1_has_13 : decode cX1_has 13 = .ok (.iconst 0, 1) := dk_3 (dk_at dksX1_has_0 13 rfl rfl)
theorem dX1_has_14 : decode cX1_has 14 = .ok (.ireturn, 1) := dk_172 (dk_at dksX1_has_0 14 rfl rfl)
abbrev cX1_meet : ByteArray := prog_1_method_79_code
def yX1_meet : MethodName := ⟨RX1, "meet", "()I"⟩
def dkwX1_meet_3 : List UInt8 := [167, 0, 8, 29, 60, 21, 4, 61, 132, 3, 1, 167, 255, 181, 27, 172]
abbrev dktX1_meet_3 : List UInt8 := dkwX1_meet_3 ++ []
def dkwX1_meet_2 : List UInt8 := [21, 5, 29, 182, 1, 243, 96, 184, 1, 121, 54, 4, 132, 5, 1, 167, 255, 223, 21, 4, 28, 161, 0, 6]
abbrev dktX1_meet_2 : List UInt8 := dkwX1_meet_2 ++ dktX1_meet_3
def dkwX1_meet_1 : List UInt8 := [3, 54, 4, 3, 54, 5, 21, 5, 42, 180, 0, 10, 180, 0, 96, 162, 0, 27, 19, 1, 242, 21, 4, 42]
abbrev dktX1_meet_1 : List UInt8 := dkwX1_meet_1 ++ dktX1_meet_2
def dkwX1_meet_0 : List UInt8 := [2, 60, 19, 1, 242, 61, 3, 62, 29, 16, 12, 162, 0, 75, 42, 180, 0, 10, 180, 0, 96, 158, 0, 65]
abbrev dktX1_meet_0 : List UInt8 := dkwX1_meet_0 ++ dktX1_meet_1
theorem dksX1_meet_0 : cX1_meet.data.toList.drop 0 = dktX1_meet_0 := by decide +kernel
theorem dksX1_meet_1 : cX1_meet.data.toList.drop 24 = dktX1_meet_1 := dk_seg dksX1_meet_0 24 rfl rfl
theorem dksX1_meet_2 : cX1_meet.data.toList.drop 48 = dktX1_meet_2 := dk_seg dksX1_meet_1 24 rfl rfl
theorem dksX1_meet_3 : cX1_meet.data.toList.drop 72 = dktX1_meet_3 := dk_seg dksX1_meet_2 24 rfl rfl
theorem dX1_meet_0 : decode cX1_meet 0 = .ok (.iconst (-1), 1) := dk_2 (dk_at dksX1_meet_0 0 rfl rfl)
theorem dX1_meet_1 : decode cX1_meet 1 = .ok (.istore_n 1, 1) := dk_60 (dk_at dksX1_meet_0 1 rfl rfl)
theorem dX1_meet_2 : decode cX1_meet 2 = .ok (.ldc_w 498, 3) := dk_19 1 242 (dk_at dksX1_meet_0 2 rfl rfl)
theorem dX1_meet_5 : decode cX1_meet 5 = .ok (.istore_n 2, 1) := dk_61 (dk_at dksX1_meet_0 5 rfl rfl)
theorem dX1_meet_6 : decode cX1_meet 6 = .ok (.iconst 0, 1) := dk_3 (dk_at dksX1_meet_0 6 rfl rfl)
theorem dX1_meet_7 : decode cX1_meet 7 = .ok (.istore_n 3, 1) := dk_62 (dk_at dksX1_meet_0 7 rfl rfl)
theorem dX1_meet_8 : decode cX1_meet 8 = .ok (.iload_n 3, 1) := dk_29 (dk_at dksX1_meet_0 8 rfl rfl)
theorem dX1_meet_9 : decode cX1_meet 9 = .ok (.bipush 12, 2) := dk_16 12 (dk_at dksX1_meet_0 9 rfl rfl)
theorem dX1_meet_11 : decode cX1_meet 11 = .ok (.if_icmp .ge 75, 3) := dk_162 0 75 (dk_at dksX1_meet_0 11 rfl rfl)
theorem dX1_meet_14 : decode cX1_meet 14 = .ok (.aload_n 0, 1) := dk_42 (dk_at dksX1_meet_0 14 rfl rfl)
theorem dX1_meet_15 : decode cX1_meet 15 = .ok (.getfield 10, 3) := dk_180 0 10 (dk_at dksX1_meet_0 15 rfl rfl)
theorem dX1_meet_18 : decode cX1_meet 18 = .ok (.getfield 96, 3) := dk_180 0 96 (dk_at dksX1_meet_0 18 rfl rfl)
theorem dX1_meet_21 : decode cX1_meet 21 = .ok (.ifCond .le 65, 3) := dk_158 0 65 (dk_at dksX1_meet_0 21 rfl rfl)
theorem dX1_meet_24 : decode cX1_meet 24 = .ok (.iconst 0, 1) := dk_3 (dk_at dksX1_meet_1 0 rfl rfl)
theorem dX1_meet_25 : decode cX1_meet 25 = .ok (.istore 4, 2) := dk_54 4 (dk_at dksX1_meet_1 1 rfl rfl)
theorem dX1_meet_27 : decode cX1_meet 27 = .ok (.iconst 0, 1) := dk_3 (dk_at dksX1_meet_1 3 rfl rfl)
theorem dX1_meet_28 : decode cX1_meet 28 = .ok (.istore 5, 2) := dk_54 5 (dk_at dksX1_meet_1 4 rfl rfl)
theorem dX1_meet_30 : decode cX1_meet 30 = .ok (.iload 5, 2) := dk_21 5 (dk_at dksX1_meet_1 6 rfl rfl)
theorem dX1_meet_32 : decode cX1_meet 32 = .ok (.aload_n 0, 1) := dk_42 (dk_at dksX1_meet_1 8 rfl rfl)
theorem dX1_meet_33 : decode cX1_meet 33 = .ok (.getfield 10, 3) := dk_180 0 10 (dk_at dksX1_meet_1 9 rfl rfl)
theorem dX1_meet_36 : decode cX1_meet 36 = .ok (.getfield 96, 3) := dk_180 0 96 (dk_at dksX1_meet_1 12 rfl rfl)
theorem dX1_meet_39 : decode cX1_meet 39 = .ok (.if_icmp .ge 27, 3) := dk_162 0 27 (dk_at dksX1_meet_1 15 rfl rfl)
theorem dX1_meet_42 : decode cX1_meet 42 = .ok (.ldc_w 498, 3) := dk_19 1 242 (dk_at dksX1_meet_1 18 rfl rfl)
theorem dX1_meet_45 : decode cX1_meet 45 = .ok (.iload 4, 2) := dk_21 4 (dk_at dksX1_meet_1 21 rfl rfl)
theorem dX1_meet_47 : decode cX1_meet 47 = .ok (.aload_n 0, 1) := dk_42 (dk_at dksX1_meet_1 23 rfl rfl)
theorem dX1_meet_48 : decode cX1_meet 48 = .ok (.iload 5, 2) := dk_21 5 (dk_at dksX1_meet_2 0 rfl rfl)
theorem dX1_meet_50 : decode cX1_meet 50 = .ok (.iload_n 3, 1) := dk_29 (dk_at dksX1_meet_2 2 rfl rfl)
theorem dX1_meet_51 : decode cX1_meet 51 = .ok (.invokevirtual 499, 3) := dk_182 1 243 (dk_at dksX1_meet_2 3 rfl rfl)
theorem dX1_meet_54 : decode cX1_meet 54 = .ok (.iadd, 1) := dk_96 (dk_at dksX1_meet_2 6 rfl rfl)
theorem dX1_meet_55 : decode cX1_meet 55 = .ok (.invokestatic 377, 3) := dk_184 1 121 (dk_at dksX1_meet_2 7 rfl rfl)
theorem dX1_meet_58 : decode cX1_meet 58 = .ok (.istore 4, 2) := dk_54 4 (dk_at dksX1_meet_2 10 rfl rfl)
theorem dX1_meet_60 : decode cX1_meet 60 = .ok (.iinc 5 1, 3) := dk_132 5 1 (dk_at dksX1_meet_2 12 rfl rfl)
theorem dX1_meet_63 : decode cX1_meet 63 = .ok (.goto (-33), 3) := dk_167 255 223 (dk_at dksX1_meet_2 15 rfl rfl)
theorem dX1_meet_66 : decode cX1_meet 66 = .ok (.iload 4, 2) := dk_21 4 (dk_at dksX1_meet_2 18 rfl rfl)
theorem dX1_meet_68 : decode cX1_meet 68 = .ok (.iload_n 2, 1) := dk_28 (dk_at dksX1_meet_2 20 rfl rfl)
theorem dX1_meet_69 : decode cX1_meet 69 = .ok (.if_icmp .lt 6, 3) := dk_161 0 6 (dk_at dksX1_meet_2 21 rfl rfl)
theorem dX1_meet_72 : decode cX1_meet 72 = .ok (.goto 8, 3) := dk_167 0 8 (dk_at dksX1_meet_3 0 rfl rfl)
theorem dX1_meet_75 : decode cX1_meet 75 = .ok (.iload_n 3, 1) := dk_29 (dk_at dksX1_meet_3 3 rfl rfl)
theorem dX1_meet_76 : decode cX1_meet 76 = .ok (.istore_n 1, 1) := dk_60 (dk_at dksX1_meet_3 4 rfl rfl)
theorem dX1_meet_77 : decode cX1_meet 77 = .ok (.iload 4, 2) := dk_21 4 (dk_at dksX1_meet_3 5 rfl rfl)
theorem dX1_meet_79 : decode cX1_meet 79 = .ok (.istore_n 2, 1) := dk_61 (dk_at dksX1_meet_3 7 rfl rfl)
theorem dX1_meet_80 : decode cX1_meet 80 = .ok (.iinc 3 1, 3) := dk_132 3 1 (dk_at dksX1_meet_3 8 rfl rfl)
theorem dX1_meet_83 : decode cX1_meet 83 = .ok (.goto (-75), 3) := dk_167 255 181 (dk_at dksX1_meet_3 11 rfl rfl)
theorem dX1_meet_86 : decode cX1_meet 86 = .ok (.iload_n 1, 1) := dk_27 (dk_at dksX1_meet_3 14 rfl rfl)
theorem dX1_meet_87 : decode cX1_meet 87 = .ok (.ireturn, 1) := dk_172 (dk_at dksX1_meet_3 15 rfl rfl)
abbrev cX1_wayOf : ByteArray := prog_1_method_56_code
def yX1_wayOf : MethodName := ⟨RX1, "wayOf", "(II)I"⟩
def dkwX1_wayOf_4 : List UInt8 := [21, 6, 21, 4, 96, 46, 104, 96, 96, 54, 5, 21, 6, 21, 4, 96, 54, 6, 167, 255, 188, 21, 5, 172]
abbrev dktX1_wayOf_4 : List UInt8 := dkwX1_wayOf_4 ++ []
def dkwX1_wayOf_3 : List UInt8 := [180, 0, 174, 164, 0, 7, 19, 1, 242, 172, 21, 5, 4, 29, 16, 10, 108, 42, 180, 0, 10, 180, 0, 170]
abbrev dktX1_wayOf_3 : List UInt8 := dkwX1_wayOf_3 ++ dktX1_wayOf_4
def dkwX1_wayOf_2 : List UInt8 := [159, 0, 68, 21, 6, 21, 6, 21, 4, 96, 184, 1, 110, 16, 6, 160, 0, 18, 29, 42, 180, 0, 10]
abbrev dktX1_wayOf_2 : List UInt8 := dkwX1_wayOf_2 ++ dktX1_wayOf_3
def dkwX1_wayOf_1 : List UInt8 := [167, 0, 4, 2, 54, 4, 3, 54, 5, 42, 180, 0, 10, 180, 0, 110, 27, 46, 54, 6, 21, 6, 28]
abbrev dktX1_wayOf_1 : List UInt8 := dkwX1_wayOf_1 ++ dktX1_wayOf_2
def dkwX1_wayOf_0 : List UInt8 := [42, 180, 0, 10, 27, 182, 1, 81, 62, 28, 42, 180, 0, 10, 180, 0, 110, 27, 46, 164, 0, 7, 4]
abbrev dktX1_wayOf_0 : List UInt8 := dkwX1_wayOf_0 ++ dktX1_wayOf_1
theorem dksX1_wayOf_0 : cX1_wayOf.data.toList.drop 0 = dktX1_wayOf_0 := by decide +kernel
theorem dksX1_wayOf_1 : cX1_wayOf.data.toList.drop 23 = dktX1_wayOf_1 := dk_seg dksX1_wayOf_0 23 rfl rfl
theorem dksX1_wayOf_2 : cX1_wayOf.data.toList.drop 46 = dktX1_wayOf_2 := dk_seg dksX1_wayOf_1 23 rfl rfl
theorem dksX1_wayOf_3 : cX1_wayOf.data.toList.drop 69 = dktX1_wayOf_3 := dk_seg dksX1_wayOf_2 23 rfl rfl
theorem dksX1_wayOf_4 : cX1_wayOf.data.toList.drop 93 = dktX1_wayOf_4 := dk_seg dksX1_wayOf_3 24 rfl rfl
theorem dX1_wayOf_0 : decode cX1_wayOf 0 = .ok (.aload_n 0, 1) := dk_42 (dk_at dksX1_wayOf_0 0 rfl rfl)
theorem dX1_wayOf_1 : decode cX1_wayOf 1 = .ok (.getfield 10, 3) := dk_180 0 10 (dk_at dksX1_wayOf_0 1 rfl rfl)
theorem dX1_wayOf_4 : decode cX1_wayOf 4 = .ok (.iload_n 1, 1) := dk_27 (dk_at dksX1_wayOf_0 4 rfl rfl)
theorem dX1_wayOf_5 : decode cX1_wayOf 5 = .ok (.invokevirtual 337, 3) := dk_182 1 81 (dk_at dksX1_wayOf_0 5 rfl rfl)
theorem dX1_wayOf_8 : decode cX1_wayOf 8 = .ok (.istore_n 3, 1) := dk_62 (dk_at dksX1_wayOf_0 8 rfl rfl)
theorem dX1_wayOf_9 : decode cX1_wayOf 9 = .ok (.iload_n 2, 1) := dk_28 (dk_at dksX1_wayOf_0 9 rfl rfl)
theorem dX1_wayOf_10 : decode cX1_wayOf 10 = .ok (.aload_n 0, 1) := dk_42 (dk_at dksX1_wayOf_0 10 rfl rfl)
theorem dX1_wayOf_11 : decode cX1_wayOf 11 = .ok (.getfield 10, 3) := dk_180 0 10 (dk_at dksX1_wayOf_0 11 rfl rfl)
theorem dX1_wayOf_14 : decode cX1_wayOf 14 = .ok (.getfield 110, 3) := dk_180 0 110 (dk_at dksX1_wayOf_0 14 rfl rfl)
theorem dX1_wayOf_17 : decode cX1_wayOf 17 = .ok (.iload_n 1, 1) := dk_27 (dk_at dksX1_wayOf_0 17 rfl rfl)
theorem dX1_wayOf_18 : decode cX1_wayOf 18 = .ok (.iaload, 1) := dk_46 (dk_at dksX1_wayOf_0 18 rfl rfl)
theorem dX1_wayOf_19 : decode cX1_wayOf 19 = .ok (.if_icmp .le 7, 3) := dk_164 0 7 (dk_at dksX1_wayOf_0 19 rfl rfl)
theorem dX1_wayOf_22 : decode cX1_wayOf 22 = .ok (.iconst 1, 1) := dk_4 (dk_at dksX1_wayOf_0 22 rfl rfl)
theorem dX1_wayOf_23 : decode cX1_wayOf 23 = .ok (.goto 4, 3) := dk_167 0 4 (dk_at dksX1_wayOf_1 0 rfl rfl)
theorem dX1_wayOf_26 : decode cX1_wayOf 26 = .ok (.iconst (-1), 1) := dk_2 (dk_at dksX1_wayOf_1 3 rfl rfl)
theorem dX1_wayOf_27 : decode cX1_wayOf 27 = .ok (.istore 4, 2) := dk_54 4 (dk_at dksX1_wayOf_1 4 rfl rfl)
theorem dX1_wayOf_29 : decode cX1_wayOf 29 = .ok (.iconst 0, 1) := dk_3 (dk_at dksX1_wayOf_1 6 rfl rfl)
theorem dX1_wayOf_30 : decode cX1_wayOf 30 = .ok (.istore 5, 2) := dk_54 5 (dk_at dksX1_wayOf_1 7 rfl rfl)
theorem dX1_wayOf_32 : decode cX1_wayOf 32 = .ok (.aload_n 0, 1) := dk_42 (dk_at dksX1_wayOf_1 9 rfl rfl)
theorem dX1_wayOf_33 : decode cX1_wayOf 33 = .ok (.getfield 10, 3) := dk_180 0 10 (dk_at dksX1_wayOf_1 10 rfl rfl)
theorem dX1_wayOf_36 : decode cX1_wayOf 36 = .ok (.getfield 110, 3) := dk_180 0 110 (dk_at dksX1_wayOf_1 13 rfl rfl)
theorem dX1_wayOf_39 : decode cX1_wayOf 39 = .ok (.iload_n 1, 1) := dk_27 (dk_at dksX1_wayOf_1 16 rfl rfl)
theorem dX1_wayOf_40 : decode cX1_wayOf 40 = .ok (.iaload, 1) := dk_46 (dk_at dksX1_wayOf_1 17 rfl rfl)
theorem dX1_wayOf_41 : decode cX1_wayOf 41 = .ok (.istore 6, 2) := dk_54 6 (dk_at dksX1_wayOf_1 18 rfl rfl)
theorem dX1_wayOf_43 : decode cX1_wayOf 43 = .ok (.iload 6, 2) := dk_21 6 (dk_at dksX1_wayOf_1 20 rfl rfl)
theorem dX1_wayOf_45 : decode cX1_wayOf 45 = .ok (.iload_n 2, 1) := dk_28 (dk_at dksX1_wayOf_1 22 rfl rfl)
theorem dX1_wayOf_46 : decode cX1_wayOf 46 = .ok (.if_icmp .eq 68, 3) := dk_159 0 68 (dk_at dksX1_wayOf_2 0 rfl rfl)
theorem dX1_wayOf_49 : decode cX1_wayOf 49 = .ok (.iload 6, 2) := dk_21 6 (dk_at dksX1_wayOf_2 3 rfl rfl)
theorem dX1_wayOf_51 : decode cX1_wayOf 51 = .ok (.iload 6, 2) := dk_21 6 (dk_at dksX1_wayOf_2 5 rfl rfl)
theorem dX1_wayOf_53 : decode cX1_wayOf 53 = .ok (.iload 4, 2) := dk_21 4 (dk_at dksX1_wayOf_2 7 rfl rfl)
theorem dX1_wayOf_55 : decode cX1_wayOf 55 = .ok (.iadd, 1) := dk_96 (dk_at dksX1_wayOf_2 9 rfl rfl)
theorem dX1_wayOf_56 : decode cX1_wayOf 56 = .ok (.invokestatic 366, 3) := dk_184 1 110 (dk_at dksX1_wayOf_2 10 rfl rfl)
theorem dX1_wayOf_59 : decode cX1_wayOf 59 = .ok (.bipush 6, 2) := dk_16 6 (dk_at dksX1_wayOf_2 13 rfl rfl)
theorem dX1_wayOf_61 : decode cX1_wayOf 61 = .ok (.if_icmp .ne 18, 3) := dk_160 0 18 (dk_at dksX1_wayOf_2 15 rfl rfl)
theorem dX1_wayOf_64 : decode cX1_wayOf 64 = .ok (.iload_n 3, 1) := dk_29 (dk_at dksX1_wayOf_2 18 rfl rfl)
theorem dX1_wayOf_65 : decode cX1_wayOf 65 = .ok (.aload_n 0, 1) := dk_42 (dk_at dksX1_wayOf_2 19 rfl rfl)
theorem dX1_wayOf_66 : decode cX1_wayOf 66 = .ok (.getfield 10, 3) := dk_180 0 10 (dk_at dksX1_wayOf_2 20 rfl rfl)
theorem dX1_wayOf_69 : decode cX1_wayOf 69 = .ok (.getfield 174, 3) := dk_180 0 174 (dk_at dksX1_wayOf_3 0 rfl rfl)
theorem dX1_wayOf_72 : decode cX1_wayOf 72 = .ok (.if_icmp .le 7, 3) := dk_164 0 7 (dk_at dksX1_wayOf_3 3 rfl rfl)
theorem dX1_wayOf_75 : decode cX1_wayOf 75 = .ok (.ldc_w 498, 3) := dk_19 1 242 (dk_at dksX1_wayOf_3 6 rfl rfl)
theorem dX1_wayOf_78 : decode cX1_wayOf 78 = .ok (.ireturn, 1) := dk_172 (dk_at dksX1_wayOf_3 9 rfl rfl)
theorem dX1_wayOf_79 : decode cX1_wayOf 79 = .ok (.iload 5, 2) := dk_21 5 (dk_at dksX1_wayOf_3 10 rfl rfl)
theorem dX1_wayOf_81 : decode cX1_wayOf 81 = .ok (.iconst 1, 1) := dk_4 (dk_at dksX1_wayOf_3 12 rfl rfl)
theorem dX1_wayOf_82 : decode cX1_wayOf 82 = .ok (.iload_n 3, 1) := dk_29 (dk_at dksX1_wayOf_3 13 rfl rfl)
theorem dX1_wayOf_83 : decode cX1_wayOf 83 = .ok (.bipush 10, 2) := dk_16 10 (dk_at dksX1_wayOf_3 14 rfl rfl)
theorem dX1_wayOf_85 : decode cX1_wayOf 85 = .ok (.idiv, 1) := dk_108 (dk_at dksX1_wayOf_3 16 rfl rfl)
theorem dX1_wayOf_86 : decode cX1_wayOf 86 = .ok (.aload_n 0, 1) := dk_42 (dk_at dksX1_wayOf_3 17 rfl rfl)
theorem dX1_wayOf_87 : decode cX1_wayOf 87 = .ok (.getfield 10, 3) := dk_180 0 10 (dk_at dksX1_wayOf_3 18 rfl rfl)
theorem dX1_wayOf_90 : decode cX1_wayOf 90 = .ok (.getfield 170, 3) := dk_180 0 170 (dk_at dksX1_wayOf_3 21 rfl rfl)
theorem dX1_wayOf_93 : decode cX1_wayOf 93 = .ok (.iload 6, 2) := dk_21 6 (dk_at dksX1_wayOf_4 0 rfl rfl)
theorem dX1_wayOf_95 : decode cX1_wayOf 95 = .ok (.iload 4, 2) := dk_21 4 (dk_at dksX1_wayOf_4 2 rfl rfl)
theorem dX1_wayOf_97 : decode cX1_wayOf 97 = .ok (.iadd, 1) := dk_96 (dk_at dksX1_wayOf_4 4 rfl rfl)
theorem dX1_wayOf_98 : decode cX1_wayOf 98 = .ok (.iaload, 1) := dk_46 (dk_at dksX1_wayOf_4 5 rfl rfl)
theorem dX1_wayOf_99 : decode cX1_wayOf 99 = .ok (.imul, 1) := dk_104 (dk_at dksX1_wayOf_4 6 rfl rfl)
theorem dX1_wayOf_100 : decode cX1_wayOf 100 = .ok (.iadd, 1) := dk_96 (dk_at dksX1_wayOf_4 7 rfl rfl)
theorem dX1_wayOf_101 : decode cX1_wayOf 101 = .ok (.iadd, 1) := dk_96 (dk_at dksX1_wayOf_4 8 rfl rfl)
theorem dX1_wayOf_102 : decode cX1_wayOf 102 = .ok (.istore 5, 2) := dk_54 5 (dk_at dksX1_wayOf_4 9 rfl rfl)
theorem dX1_wayOf_104 : decode cX1_wayOf 104 = .ok (.iload 6, 2) := dk_21 6 (dk_at dksX1_wayOf_4 11 rfl rfl)
theorem dX1_wayOf_106 : decode cX1_wayOf 106 = .ok (.iload 4, 2) := dk_21 4 (dk_at dksX1_wayOf_4 13 rfl rfl)
theorem dX1_wayOf_108 : decode cX1_wayOf 108 = .ok (.iadd, 1) := dk_96 (dk_at dksX1_wayOf_4 15 rfl rfl)
theorem dX1_wayOf_109 : decode cX1_wayOf 109 = .ok (.istore 6, 2) := dk_54 6 (dk_at dksX1_wayOf_4 16 rfl rfl)
theorem dX1_wayOf_111 : decode cX1_wayOf 111 = .ok (.goto (-68), 3) := dk_167 255 188 (dk_at dksX1_wayOf_4 18 rfl rfl)
theorem dX1_wayOf_114 : decode cX1_wayOf 114 = .ok (.iload 5, 2) := dk_21 5 (dk_at dksX1_wayOf_4 21 rfl rfl)
theorem dX1_wayOf_116 : decode cX1_wayOf 116 = .ok (.ireturn, 1) := dk_172 (dk_at dksX1_wayOf_4 23 rfl rfl)
abbrev cX1_last : ByteArray := prog_1_method_80_code
def yX1_last : MethodName := ⟨RX1, "last", "(Z)I"⟩
def dkwX1_last_3 : List UInt8 := [87, 132, 2, 1, 167, 255, 196, 2, 172]
abbrev dktX1_last_3 : List UInt8 := dkwX1_last_3 ++ []
def dkwX1_last_2 : List UInt8 := [153, 0, 7, 29, 167, 0, 4, 28, 172, 132, 3, 1, 167, 255, 221, 42, 42, 180, 0, 36, 3, 182, 1, 157]
abbrev dktX1_last_2 : List UInt8 := dkwX1_last_2 ++ dktX1_last_3
def dkwX1_last_1 : List UInt8 := [42, 180, 0, 36, 180, 0, 96, 162, 0, 30, 42, 180, 0, 36, 29, 182, 1, 131, 153, 0, 13, 27]
abbrev dktX1_last_1 : List UInt8 := dkwX1_last_1 ++ dktX1_last_2
def dkwX1_last_0 : List UInt8 := [42, 180, 0, 36, 42, 180, 0, 10, 182, 0, 204, 87, 3, 61, 28, 17, 0, 200, 163, 0, 59, 3, 62, 29]
abbrev dktX1_last_0 : List UInt8 := dkwX1_last_0 ++ dktX1_last_1
theorem dksX1_last_0 : cX1_last.data.toList.drop 0 = dktX1_last_0 := by decide +kernel
theorem dksX1_last_1 : cX1_last.data.toList.drop 24 = dktX1_last_1 := dk_seg dksX1_last_0 24 rfl rfl
theorem dksX1_last_2 : cX1_last.data.toList.drop 46 = dktX1_last_2 := dk_seg dksX1_last_1 22 rfl rfl
theorem dksX1_last_3 : cX1_last.data.toList.drop 70 = dktX1_last_3 := dk_seg dksX1_last_2 24 rfl rfl
theorem dX1_last_0 : decode cX1_last 0 = .ok (.aload_n 0, 1) := dk_42 (dk_at dksX1_last_0 0 rfl rfl)
theorem dX1_last_1 : decode cX1_last 1 = .ok (.getfield 36, 3) := dk_180 0 36 (dk_at dksX1_last_0 1 rfl rfl)
theorem dX1_last_4 : decode cX1_last 4 = .ok (.aload_n 0, 1) := dk_42 (dk_at dksX1_last_0 4 rfl rfl)
theorem dX1_last_5 : decode cX1_last 5 = .ok (.getfield 10, 3) := dk_180 0 10 (dk_at dksX1_last_0 5 rfl rfl)
theorem dX1_last_8 : decode cX1_last 8 = .ok (.invokevirtual 204, 3) := dk_182 0 204 (dk_at dksX1_last_0 8 rfl rfl)
theorem dX1_last_11 : decode cX1_last 11 = .ok (.pop, 1) := dk_87 (dk_at dksX1_last_0 11 rfl rfl)
theorem dX1_last_12 : decode cX1_last 12 = .ok (.iconst 0, 1) := dk_3 (dk_at dksX1_last_0 12 rfl rfl)
theorem dX1_last_13 : decode cX1_last 13 = .ok (.istore_n 2, 1) := dk_61 (dk_at dksX1_last_0 13 rfl rfl)
theorem dX1_last_14 : decode cX1_last 14 = .ok (.iload_n 2, 1) := dk_28 (dk_at dksX1_last_0 14 rfl rfl)
theorem dX1_last_15 : decode cX1_last 15 = .ok (.sipush 200, 3) := dk_17 0 200 (dk_at dksX1_last_0 15 rfl rfl)
theorem dX1_last_18 : decode cX1_last 18 = .ok (.if_icmp .gt 59, 3) := dk_163 0 59 (dk_at dksX1_last_0 18 rfl rfl)
theorem dX1_last_21 : decode cX1_last 21 = .ok (.iconst 0, 1) := dk_3 (dk_at dksX1_last_0 21 rfl rfl)
theorem dX1_last_22 : decode cX1_last 22 = .ok (.istore_n 3, 1) := dk_62 (dk_at dksX1_last_0 22 rfl rfl)
theorem dX1_last_23 : decode cX1_last 23 = .ok (.iload_n 3, 1) := dk_29 (dk_at dksX1_last_0 23 rfl rfl)
theorem dX1_last_24 : decode cX1_last 24 = .ok (.aload_n 0, 1) := dk_42 (dk_at dksX1_last_1 0 rfl rfl)
theorem dX1_last_25 : decode cX1_last 25 = .ok (.getfield 36, 3) := dk_180 0 36 (dk_at dksX1_last_1 1 rfl rfl)
theorem dX1_last_28 : decode cX1_last 28 = .ok (.getfield 96, 3) := dk_180 0 96 (dk_at dksX1_last_1 4 rfl rfl)
theorem dX1_last_31 : decode cX1_last 31 = .ok (.if_icmp .ge 30, 3) := dk_162 0 30 (dk_at dksX1_last_1 7 rfl rfl)
theorem dX1_last_34 : decode cX1_last 34 = .ok (.aload_n 0, 1) := dk_42 (dk_at dksX1_last_1 10 rfl rfl)
theorem dX1_last_35 : decode cX1_last 35 = .ok (.getfield 36, 3) := dk_180 0 36 (dk_at dksX1_last_1 11 rfl rfl)
theorem dX1_last_38 : decode cX1_last 38 = .ok (.iload_n 3, 1) := dk_29 (dk_at dksX1_last_1 14 rfl rfl)
theorem dX1_last_39 : decode cX1_last 39 = .ok (.invokevirtual 387, 3) := dk_182 1 131 (dk_at dksX1_last_1 15 rfl rfl)
theorem dX1_last_42 : decode cX1_last 42 = .ok (.ifCond .eq 13, 3) := dk_153 0 13 (dk_at dksX1_last_1 18 rfl rfl)
theorem dX1_last_45 : decode cX1_last 45 = .ok (.iload_n 1, 1) := dk_27 (dk_at dksX1_last_1 21 rfl rfl)
theorem dX1_last_46 : decode cX1_last 46 = .ok (.ifCond .eq 7, 3) := dk_153 0 7 (dk_at dksX1_last_2 0 rfl rfl)
theorem dX1_last_49 : decode cX1_last 49 = .ok (.iload_n 3, 1) := dk_29 (dk_at dksX1_last_2 3 rfl rfl)
theorem dX1_last_50 : decode cX1_last 50 = .ok (.goto 4, 3) := dk_167 0 4 (dk_at dksX1_last_2 4 rfl rfl)
theorem dX1_last_53 : decode cX1_last 53 = .ok (.iload_n 2, 1) := dk_28 (dk_at dksX1_last_2 7 rfl rfl)
theorem dX1_last_54 : decode cX1_last 54 = .ok (.ireturn, 1) := dk_172 (dk_at dksX1_last_2 8 rfl rfl)
theorem dX1_last_55 : decode cX1_last 55 = .ok (.iinc 3 1, 3) := dk_132 3 1 (dk_at dksX1_last_2 9 rfl rfl)
theorem dX1_last_58 : decode cX1_last 58 = .ok (.goto (-35), 3) := dk_167 255 221 (dk_at dksX1_last_2 12 rfl rfl)
theorem dX1_last_61 : decode cX1_last 61 = .ok (.aload_n 0, 1) := dk_42 (dk_at dksX1_last_2 15 rfl rfl)
theorem dX1_last_62 : decode cX1_last 62 = .ok (.aload_n 0, 1) := dk_42 (dk_at dksX1_last_2 16 rfl rfl)
theorem dX1_last_63 : decode cX1_last 63 = .ok (.getfield 36, 3) := dk_180 0 36 (dk_at dksX1_last_2 17 rfl rfl)
theorem dX1_last_66 : decode cX1_last 66 = .ok (.iconst 0, 1) := dk_3 (dk_at dksX1_last_2 20 rfl rfl)
theorem dX1_last_67 : decode cX1_last 67 = .ok (.invokevirtual 413, 3) := dk_182 1 157 (dk_at dksX1_last_2 21 rfl rfl)
theorem dX1_last_70 : decode cX1_last 70 = .ok (.pop, 1) := dk_87 (dk_at dksX1_last_3 0 rfl rfl)
theorem dX1_last_71 : decode cX1_last 71 = .ok (.iinc 2 1, 3) := dk_132 2 1 (dk_at dksX1_last_3 1 rfl rfl)
theorem dX1_last_74 : decode cX1_last 74 = .ok (.goto (-60), 3) := dk_167 255 196 (dk_at dksX1_last_3 4 rfl rfl)
theorem dX1_last_77 : decode cX1_last 77 = .ok (.iconst (-1), 1) := dk_2 (dk_at dksX1_last_3 7 rfl rfl)
theorem dX1_last_78 : decode cX1_last 78 = .ok (.ireturn, 1) := dk_172 (dk_at dksX1_last_3 8 rfl rfl)
abbrev cX1_anHour : ByteArray := prog_1_method_31_code
def yX1_anHour : MethodName := ⟨RX1, "anHour", "(LStoneBacks$World;Z)I"⟩
def dkwX1_anHour_0 : List UInt8 := [42, 43, 182, 1, 147, 42, 43, 28, 182, 1, 150, 62, 43, 182, 1, 154, 29, 172]
abbrev dktX1_anHour_0 : List UInt8 := dkwX1_anHour_0 ++ []
theorem dksX1_anHour_0 : cX1_anHour.data.toList.drop 0 = dktX1_anHour_0 := by decide +kernel
theorem dX1_anHour_0 : decode cX1_anHour 0 = .ok (.aload_n 0, 1) := dk_42 (dk_at dksX1_anHour_0 0 rfl rfl)
theorem dX1_anHour_1 : decode cX1_anHour 1 = .ok (.aload_n 1, 1) := dk_43 (dk_at dksX1_anHour_0 1 rfl rfl)
theorem dX1_anHour_2 : decode cX1_anHour 2 = .ok (.invokevirtual 403, 3) := dk_182 1 147 (dk_at dksX1_anHour_0 2 rfl rfl)
theorem dX1_anHour_5 : decode cX1_anHour 5 = .ok (.aload_n 0, 1) := dk_42 (dk_at dksX1_anHour_0 5 rfl rfl)
theorem dX1_anHour_6 : decode cX1_anHour 6 = .ok (.aload_n 1, 1) := dk_43 (dk_at dksX1_anHour_0 6 rfl rfl)
theorem dX1_anHour_7 : decode cX1_anHour 7 = .ok (.iload_n 2, 1) := dk_28 (dk_at dksX1_anHour_0 7 rfl rfl)
theorem dX1_anHour_8 : decode cX1_anHour 8 = .ok (.invokevirtual 406, 3) := dk_182 1 150 (dk_at dksX1_anHour_0 8 rfl rfl)
theorem dX1_anHour_11 : decode cX1_anHour 11 = .ok (.istore_n 3, 1) := dk_62 (dk_at dksX1_anHour_0 11 rfl rfl)
theorem dX1_anHour_12 : decode cX1_anHour 12 = .ok (.aload_n 1, 1) := dk_43 (dk_at dksX1_anHour_0 12 rfl rfl)
theorem dX1_anHour_13 : decode cX1_anHour 13 = .ok (.invokevirtual 410, 3) := dk_182 1 154 (dk_at dksX1_anHour_0 13 rfl rfl)
theorem dX1_anHour_16 : decode cX1_anHour 16 = .ok (.iload_n 3, 1) := dk_29 (dk_at dksX1_anHour_0 16 rfl rfl)
theorem dX1_anHour_17 : decode cX1_anHour 17 = .ok (.ireturn, 1) := dk_172 (dk_at dksX1_anHour_0 17 rfl rfl)
abbrev cX1_allGo : ByteArray := prog_1_method_29_code
def yX1_allGo : MethodName := ⟨RX1, "allGo", "(LStoneBacks$World;)V"⟩
def dkwX1_allGo_2 : List UInt8 := [154, 0, 8, 43, 28, 182, 1, 134, 132, 2, 1, 167, 255, 203, 177]
abbrev dktX1_allGo_2 : List UInt8 := dkwX1_allGo_2 ++ []
def dkwX1_allGo_1 : List UInt8 := [160, 0, 17, 43, 28, 42, 43, 28, 182, 1, 124, 182, 1, 128, 167, 0, 16, 43, 28, 182, 1, 131]
abbrev dktX1_allGo_1 : List UInt8 := dkwX1_allGo_1 ++ dktX1_allGo_2
def dkwX1_allGo_0 : List UInt8 := [3, 61, 28, 43, 180, 0, 96, 162, 0, 51, 43, 180, 0, 110, 28, 46, 43, 180, 0, 114, 28, 46]
abbrev dktX1_allGo_0 : List UInt8 := dkwX1_allGo_0 ++ dktX1_allGo_1
theorem dksX1_allGo_0 : cX1_allGo.data.toList.drop 0 = dktX1_allGo_0 := by decide +kernel
theorem dksX1_allGo_1 : cX1_allGo.data.toList.drop 22 = dktX1_allGo_1 := dk_seg dksX1_allGo_0 22 rfl rfl
theorem dksX1_allGo_2 : cX1_allGo.data.toList.drop 44 = dktX1_allGo_2 := dk_seg dksX1_allGo_1 22 rfl rfl
theorem dX1_allGo_0 : decode cX1_allGo 0 = .ok (.iconst 0, 1) := dk_3 (dk_at dksX1_allGo_0 0 rfl rfl)
theorem dX1_allGo_1 : decode cX1_allGo 1 = .ok (.istore_n 2, 1) := dk_61 (dk_at dksX1_allGo_0 1 rfl rfl)
theorem dX1_allGo_2 : decode cX1_allGo 2 = .ok (.iload_n 2, 1) := dk_28 (dk_at dksX1_allGo_0 2 rfl rfl)
theorem dX1_allGo_3 : decode cX1_allGo 3 = .ok (.aload_n 1, 1) := dk_43 (dk_at dksX1_allGo_0 3 rfl rfl)
theorem dX1_allGo_4 : decode cX1_allGo 4 = .ok (.getfield 96, 3) := dk_180 0 96 (dk_at dksX1_allGo_0 4 rfl rfl)
theorem dX1_allGo_7 : decode cX1_allGo 7 = .ok (.if_icmp .ge 51, 3) := dk_162 0 51 (dk_at dksX1_allGo_0 7 rfl rfl)
theorem dX1_allGo_10 : decode cX1_allGo 10 = .ok (.aload_n 1, 1) := dk_43 (dk_at dksX1_allGo_0 10 rfl rfl)
theorem dX1_allGo_11 : decode cX1_allGo 11 = .ok (.getfield 110, 3) := dk_180 0 110 (dk_at dksX1_allGo_0 11 rfl rfl)
theorem dX1_allGo_14 : decode cX1_allGo 14 = .ok (.iload_n 2, 1) := dk_28 (dk_at dksX1_allGo_0 14 rfl rfl)
theorem dX1_allGo_15 : decode cX1_allGo 15 = .ok (.iaload, 1) := dk_46 (dk_at dksX1_allGo_0 15 rfl rfl)
theorem dX1_allGo_16 : decode cX1_allGo 16 = .ok (.aload_n 1, 1) := dk_43 (dk_at dksX1_allGo_0 16 rfl rfl)
theorem dX1_allGo_17 : decode cX1_allGo 17 = .ok (.getfield 114, 3) := dk_180 0 114 (dk_at dksX1_allGo_0 17 rfl rfl)
theorem dX1_allGo_20 : decode cX1_allGo 20 = .ok (.iload_n 2, 1) := dk_28 (dk_at dksX1_allGo_0 20 rfl rfl)
theorem dX1_allGo_21 : decode cX1_allGo 21 = .ok (.iaload, 1) := dk_46 (dk_at dksX1_allGo_0 21 rfl rfl)
theorem dX1_allGo_22 : decode cX1_allGo 22 = .ok (.if_icmp .ne 17, 3) := dk_160 0 17 (dk_at dksX1_allGo_1 0 rfl rfl)
theorem dX1_allGo_25 : decode cX1_allGo 25 = .ok (.aload_n 1, 1) := dk_43 (dk_at dksX1_allGo_1 3 rfl rfl)
theorem dX1_allGo_26 : decode cX1_allGo 26 = .ok (.iload_n 2, 1) := dk_28 (dk_at dksX1_allGo_1 4 rfl rfl)
theorem dX1_allGo_27 : decode cX1_allGo 27 = .ok (.aload_n 0, 1) := dk_42 (dk_at dksX1_allGo_1 5 rfl rfl)
theorem dX1_allGo_28 : decode cX1_allGo 28 = .ok (.aload_n 1, 1) := dk_43 (dk_at dksX1_allGo_1 6 rfl rfl)
theorem dX1_allGo_29 : decode cX1_allGo 29 = .ok (.iload_n 2, 1) := dk_28 (dk_at dksX1_allGo_1 7 rfl rfl)
theorem dX1_allGo_30 : decode cX1_allGo 30 = .ok (.invokevirtual 380, 3) := dk_182 1 124 (dk_at dksX1_allGo_1 8 rfl rfl)
theorem dX1_allGo_33 : decode cX1_allGo 33 = .ok (.invokevirtual 384, 3) := dk_182 1 128 (dk_at dksX1_allGo_1 11 rfl rfl)
theorem dX1_allGo_36 : decode cX1_allGo 36 = .ok (.goto 16, 3) := dk_167 0 16 (dk_at dksX1_allGo_1 14 rfl rfl)
theorem dX1_allGo_39 : decode cX1_allGo 39 = .ok (.aload_n 1, 1) := dk_43 (dk_at dksX1_allGo_1 17 rfl rfl)
theorem dX1_allGo_40 : decode cX1_allGo 40 = .ok (.iload_n 2, 1) := dk_28 (dk_at dksX1_allGo_1 18 rfl rfl)
theorem dX1_allGo_41 : decode cX1_allGo 41 = .ok (.invokevirtual 387, 3) := dk_182 1 131 (dk_at dksX1_allGo_1 19 rfl rfl)
theorem dX1_allGo_44 : decode cX1_allGo 44 = .ok (.ifCond .ne 8, 3) := dk_154 0 8 (dk_at dksX1_allGo_2 0 rfl rfl)
theorem dX1_allGo_47 : decode cX1_allGo 47 = .ok (.aload_n 1, 1) := dk_43 (dk_at dksX1_allGo_2 3 rfl rfl)
theorem dX1_allGo_48 : decode cX1_allGo 48 = .ok (.iload_n 2, 1) := dk_28 (dk_at dksX1_allGo_2 4 rfl rfl)
theorem dX1_allGo_49 : decode cX1_allGo 49 = .ok (.invokevirtual 390, 3) := dk_182 1 134 (dk_at dksX1_allGo_2 5 rfl rfl)
theorem dX1_allGo_52 : decode cX1_allGo 52 = .ok (.iinc 2 1, 3) := dk_132 2 1 (dk_at dksX1_allGo_2 8 rfl rfl)
theorem dX1_allGo_55 : decode cX1_allGo 55 = .ok (.goto (-53), 3) := dk_167 255 203 (dk_at dksX1_allGo_2 11 rfl rfl)
theorem dX1_allGo_58 : decode cX1_allGo 58 = .ok (.return_, 1) := dk_177 (dk_at dksX1_allGo_2 14 rfl rfl)
abbrev cX1_earnsBy : ByteArray := prog_1_method_27_code
def yX1_earnsBy : MethodName := ⟨RX1, "earnsBy", "(LStoneBacks$World;I)I"⟩
def dkwX1_earnsBy_1 : List UInt8 := [42, 43, 178, 1, 115, 28, 182, 1, 107, 172]
abbrev dktX1_earnsBy_1 : List UInt8 := dkwX1_earnsBy_1 ++ []
def dkwX1_earnsBy_0 : List UInt8 := [43, 180, 1, 74, 199, 0, 20, 3, 16, 10, 43, 28, 182, 1, 81, 7, 108, 100, 184, 1, 110, 167, 0, 12]
abbrev dktX1_earnsBy_0 : List UInt8 := dkwX1_earnsBy_0 ++ dktX1_earnsBy_1
theorem dksX1_earnsBy_0 : cX1_earnsBy.data.toList.drop 0 = dktX1_earnsBy_0 := by decide +kernel
theorem dksX1_earnsBy_1 : cX1_earnsBy.data.toList.drop 24 = dktX1_earnsBy_1 := dk_seg dksX1_earnsBy_0 24 rfl rfl
theorem dX1_earnsBy_0 : decode cX1_earnsBy 0 = .ok (.aload_n 1, 1) := dk_43 (dk_at dksX1_earnsBy_0 0 rfl rfl)
theorem dX1_earnsBy_1 : decode cX1_earnsBy 1 = .ok (.getfield 330, 3) := dk_180 1 74 (dk_at dksX1_earnsBy_0 1 rfl rfl)
theorem dX1_earnsBy_4 : decode cX1_earnsBy 4 = .ok (.ifnonnull 20, 3) := dk_199 0 20 (dk_at dksX1_earnsBy_0 4 rfl rfl)
theorem dX1_earnsBy_7 : decode cX1_earnsBy 7 = .ok (.iconst 0, 1) := dk_3 (dk_at dksX1_earnsBy_0 7 rfl rfl)
theorem dX1_earnsBy_8 : decode cX1_earnsBy 8 = .ok (.bipush 10, 2) := dk_16 10 (dk_at dksX1_earnsBy_0 8 rfl rfl)
theorem dX1_earnsBy_10 : decode cX1_earnsBy 10 = .ok (.aload_n 1, 1) := dk_43 (dk_at dksX1_earnsBy_0 10 rfl rfl)
theorem dX1_earnsBy_11 : decode cX1_earnsBy 11 = .ok (.iload_n 2, 1) := dk_28 (dk_at dksX1_earnsBy_0 11 rfl rfl)
theorem dX1_earnsBy_12 : decode cX1_earnsBy 12 = .ok (.invokevirtual 337, 3) := dk_182 1 81 (dk_at dksX1_earnsBy_0 12 rfl rfl)
theorem dX1_earnsBy_15 : decode cX1_earnsBy 15 = .ok (.iconst 4, 1) := dk_7 (dk_at dksX1_earnsBy_0 15 rfl rfl)
theorem dX1_earnsBy_16 : decode cX1_earnsBy 16 = .ok (.idiv, 1) := dk_108 (dk_at dksX1_earnsBy_0 16 rfl rfl)
theorem dX1_earnsBy_17 : decode cX1_earnsBy 17 = .ok (.isub, 1) := dk_100 (dk_at dksX1_earnsBy_0 17 rfl rfl)
theorem dX1_earnsBy_18 : decode cX1_earnsBy 18 = .ok (.invokestatic 366, 3) := dk_184 1 110 (dk_at dksX1_earnsBy_0 18 rfl rfl)
theorem dX1_earnsBy_21 : decode cX1_earnsBy 21 = .ok (.goto 12, 3) := dk_167 0 12 (dk_at dksX1_earnsBy_0 21 rfl rfl)
theorem dX1_earnsBy_24 : decode cX1_earnsBy 24 = .ok (.aload_n 0, 1) := dk_42 (dk_at dksX1_earnsBy_1 0 rfl rfl)
theorem dX1_earnsBy_25 : decode cX1_earnsBy 25 = .ok (.aload_n 1, 1) := dk_43 (dk_at dksX1_earnsBy_1 1 rfl rfl)
theorem dX1_earnsBy_26 : decode cX1_earnsBy 26 = .ok (.getstatic 371, 3) := dk_178 1 115 (dk_at dksX1_earnsBy_1 2 rfl rfl)
theorem dX1_earnsBy_29 : decode cX1_earnsBy 29 = .ok (.iload_n 2, 1) := dk_28 (dk_at dksX1_earnsBy_1 5 rfl rfl)
theorem dX1_earnsBy_30 : decode cX1_earnsBy 30 = .ok (.invokevirtual 363, 3) := dk_182 1 107 (dk_at dksX1_earnsBy_1 6 rfl rfl)
theorem dX1_earnsBy_33 : decode cX1_earnsBy 33 = .ok (.ireturn, 1) := dk_172 (dk_at dksX1_earnsBy_1 9 rfl rfl)
abbrev cX1_by : ByteArray := prog_1_method_25_code
def yX1_by : MethodName := ⟨RX1, "by", "(LStoneBacks$World;LStoneBacks$Kind;I)I"⟩
def dkwX1_by_5 : List UInt8 := [181, 1, 97, 43, 180, 1, 74, 44, 42, 180, 0, 32, 182, 1, 100, 172]
abbrev dktX1_by_5 : List UInt8 := dkwX1_by_5 ++ []
def dkwX1_by_4 : List UInt8 := [180, 0, 32, 43, 180, 0, 110, 29, 46, 43, 180, 0, 114, 29, 46, 160, 0, 7, 4, 167, 0, 4, 3]
abbrev dktX1_by_4 : List UInt8 := dkwX1_by_4 ++ dktX1_by_5
def dkwX1_by_3 : List UInt8 := [180, 0, 126, 29, 46, 181, 1, 94, 42, 180, 0, 32, 43, 180, 0, 176, 16, 24, 112, 181, 1, 96, 42]
abbrev dktX1_by_3 : List UInt8 := dkwX1_by_3 ++ dktX1_by_4
def dkwX1_by_2 : List UInt8 := [180, 0, 32, 43, 180, 0, 170, 43, 180, 0, 110, 29, 46, 46, 181, 1, 92, 42, 180, 0, 32, 43]
abbrev dktX1_by_2 : List UInt8 := dkwX1_by_2 ++ dktX1_by_3
def dkwX1_by_1 : List UInt8 := [43, 180, 0, 102, 29, 46, 181, 1, 87, 42, 180, 0, 32, 43, 180, 0, 110, 29, 46, 181, 1, 89, 42]
abbrev dktX1_by_1 : List UInt8 := dkwX1_by_1 ++ dktX1_by_2
def dkwX1_by_0 : List UInt8 := [42, 180, 0, 32, 29, 181, 1, 78, 42, 180, 0, 32, 43, 29, 182, 1, 81, 181, 1, 85, 42, 180, 0, 32]
abbrev dktX1_by_0 : List UInt8 := dkwX1_by_0 ++ dktX1_by_1
theorem dksX1_by_0 : cX1_by.data.toList.drop 0 = dktX1_by_0 := by decide +kernel
theorem dksX1_by_1 : cX1_by.data.toList.drop 24 = dktX1_by_1 := dk_seg dksX1_by_0 24 rfl rfl
theorem dksX1_by_2 : cX1_by.data.toList.drop 47 = dktX1_by_2 := dk_seg dksX1_by_1 23 rfl rfl
theorem dksX1_by_3 : cX1_by.data.toList.drop 69 = dktX1_by_3 := dk_seg dksX1_by_2 22 rfl rfl
theorem dksX1_by_4 : cX1_by.data.toList.drop 92 = dktX1_by_4 := dk_seg dksX1_by_3 23 rfl rfl
theorem dksX1_by_5 : cX1_by.data.toList.drop 115 = dktX1_by_5 := dk_seg dksX1_by_4 23 rfl rfl
theorem dX1_by_0 : decode cX1_by 0 = .ok (.aload_n 0, 1) := dk_42 (dk_at dksX1_by_0 0 rfl rfl)
theorem dX1_by_1 : decode cX1_by 1 = .ok (.getfield 32, 3) := dk_180 0 32 (dk_at dksX1_by_0 1 rfl rfl)
theorem dX1_by_4 : decode cX1_by 4 = .ok (.iload_n 3, 1) := dk_29 (dk_at dksX1_by_0 4 rfl rfl)
theorem dX1_by_5 : decode cX1_by 5 = .ok (.putfield 334, 3) := dk_181 1 78 (dk_at dksX1_by_0 5 rfl rfl)
theorem dX1_by_8 : decode cX1_by 8 = .ok (.aload_n 0, 1) := dk_42 (dk_at dksX1_by_0 8 rfl rfl)
theorem dX1_by_9 : decode cX1_by 9 = .ok (.getfield 32, 3) := dk_180 0 32 (dk_at dksX1_by_0 9 rfl rfl)
theorem dX1_by_12 : decode cX1_by 12 = .ok (.aload_n 1, 1) := dk_43 (dk_at dksX1_by_0 12 rfl rfl)
theorem dX1_by_13 : decode cX1_by 13 = .ok (.iload_n 3, 1) := dk_29 (dk_at dksX1_by_0 13 rfl rfl)
theorem dX1_by_14 : decode cX1_by 14 = .ok (.invokevirtual 337, 3) := dk_182 1 81 (dk_at dksX1_by_0 14 rfl rfl)
theorem dX1_by_17 : decode cX1_by 17 = .ok (.putfield 341, 3) := dk_181 1 85 (dk_at dksX1_by_0 17 rfl rfl)
theorem dX1_by_20 : decode cX1_by 20 = .ok (.aload_n 0, 1) := dk_42 (dk_at dksX1_by_0 20 rfl rfl)
theorem dX1_by_21 : decode cX1_by 21 = .ok (.getfield 32, 3) := dk_180 0 32 (dk_at dksX1_by_0 21 rfl rfl)
theorem dX1_by_24 : decode cX1_by 24 = .ok (.aload_n 1, 1) := dk_43 (dk_at dksX1_by_1 0 rfl rfl)
theorem dX1_by_25 : decode cX1_by 25 = .ok (.getfield 102, 3) := dk_180 0 102 (dk_at dksX1_by_1 1 rfl rfl)
theorem dX1_by_28 : decode cX1_by 28 = .ok (.iload_n 3, 1) := dk_29 (dk_at dksX1_by_1 4 rfl rfl)
theorem dX1_by_29 : decode cX1_by 29 = .ok (.iaload, 1) := dk_46 (dk_at dksX1_by_1 5 rfl rfl)
theorem dX1_by_30 : decode cX1_by 30 = .ok (.putfield 343, 3) := dk_181 1 87 (dk_at dksX1_by_1 6 rfl rfl)
theorem dX1_by_33 : decode cX1_by 33 = .ok (.aload_n 0, 1) := dk_42 (dk_at dksX1_by_1 9 rfl rfl)
theorem dX1_by_34 : decode cX1_by 34 = .ok (.getfield 32, 3) := dk_180 0 32 (dk_at dksX1_by_1 10 rfl rfl)
theorem dX1_by_37 : decode cX1_by 37 = .ok (.aload_n 1, 1) := dk_43 (dk_at dksX1_by_1 13 rfl rfl)
theorem dX1_by_38 : decode cX1_by 38 = .ok (.getfield 110, 3) := dk_180 0 110 (dk_at dksX1_by_1 14 rfl rfl)
theorem dX1_by_41 : decode cX1_by 41 = .ok (.iload_n 3, 1) := dk_29 (dk_at dksX1_by_1 17 rfl rfl)
theorem dX1_by_42 : decode cX1_by 42 = .ok (.iaload, 1) := dk_46 (dk_at dksX1_by_1 18 rfl rfl)
theorem dX1_by_43 : decode cX1_by 43 = .ok (.putfield 345, 3) := dk_181 1 89 (dk_at dksX1_by_1 19 rfl rfl)
theorem dX1_by_46 : decode cX1_by 46 = .ok (.aload_n 0, 1) := dk_42 (dk_at dksX1_by_1 22 rfl rfl)
theorem dX1_by_47 : decode cX1_by 47 = .ok (.getfield 32, 3) := dk_180 0 32 (dk_at dksX1_by_2 0 rfl rfl)
theorem dX1_by_50 : decode cX1_by 50 = .ok (.aload_n 1, 1) := dk_43 (dk_at dksX1_by_2 3 rfl rfl)
theorem dX1_by_51 : decode cX1_by 51 = .ok (.getfield 170, 3) := dk_180 0 170 (dk_at dksX1_by_2 4 rfl rfl)
theorem dX1_by_54 : decode cX1_by 54 = .ok (.aload_n 1, 1) := dk_43 (dk_at dksX1_by_2 7 rfl rfl)
theorem dX1_by_55 : decode cX1_by 55 = .ok (.getfield 110, 3) := dk_180 0 110 (dk_at dksX1_by_2 8 rfl rfl)
theorem dX1_by_58 : decode cX1_by 58 = .ok (.iload_n 3, 1) := dk_29 (dk_at dksX1_by_2 11 rfl rfl)
theorem dX1_by_59 : decode cX1_by 59 = .ok (.iaload, 1) := dk_46 (dk_at dksX1_by_2 12 rfl rfl)
theorem dX1_by_60 : decode cX1_by 60 = .ok (.iaload, 1) := dk_46 (dk_at dksX1_by_2 13 rfl rfl)
theorem dX1_by_61 : decode cX1_by 61 = .ok (.putfield 348, 3) := dk_181 1 92 (dk_at dksX1_by_2 14 rfl rfl)
theorem dX1_by_64 : decode cX1_by 64 = .ok (.aload_n 0, 1) := dk_42 (dk_at dksX1_by_2 17 rfl rfl)
theorem dX1_by_65 : decode cX1_by 65 = .ok (.getfield 32, 3) := dk_180 0 32 (dk_at dksX1_by_2 18 rfl rfl)
theorem dX1_by_68 : decode cX1_by 68 = .ok (.aload_n 1, 1) := dk_43 (dk_at dksX1_by_2 21 rfl rfl)
theorem dX1_by_69 : decode cX1_by 69 = .ok (.getfield 126, 3) := dk_180 0 126 (dk_at dksX1_by_3 0 rfl rfl)
theorem dX1_by_72 : decode cX1_by 72 = .ok (.iload_n 3, 1) := dk_29 (dk_at dksX1_by_3 3 rfl rfl)
theorem dX1_by_73 : decode cX1_by 73 = .ok (.iaload, 1) := dk_46 (dk_at dksX1_by_3 4 rfl rfl)
theorem dX1_by_74 : decode cX1_by 74 = .ok (.putfield 350, 3) := dk_181 1 94 (dk_at dksX1_by_3 5 rfl rfl)
theorem dX1_by_77 : decode cX1_by 77 = .ok (.aload_n 0, 1) := dk_42 (dk_at dksX1_by_3 8 rfl rfl)
theorem dX1_by_78 : decode cX1_by 78 = .ok (.getfield 32, 3) := dk_180 0 32 (dk_at dksX1_by_3 9 rfl rfl)
theorem dX1_by_81 : decode cX1_by 81 = .ok (.aload_n 1, 1) := dk_43 (dk_at dksX1_by_3 12 rfl rfl)
theorem dX1_by_82 : decode cX1_by 82 = .ok (.getfield 176, 3) := dk_180 0 176 (dk_at dksX1_by_3 13 rfl rfl)
theorem dX1_by_85 : decode cX1_by 85 = .ok (.bipush 24, 2) := dk_16 24 (dk_at dksX1_by_3 16 rfl rfl)
theorem dX1_by_87 : decode cX1_by 87 = .ok (.irem, 1) := dk_112 (dk_at dksX1_by_3 18 rfl rfl)
theorem dX1_by_88 : decode cX1_by 88 = .ok (.putfield 352, 3) := dk_181 1 96 (dk_at dksX1_by_3 19 rfl rfl)
theorem dX1_by_91 : decode cX1_by 91 = .ok (.aload_n 0, 1) := dk_42 (dk_at dksX1_by_3 22 rfl rfl)
theorem dX1_by_92 : decode cX1_by 92 = .ok (.getfield 32, 3) := dk_180 0 32 (dk_at dksX1_by_4 0 rfl rfl)
theorem dX1_by_95 : decode cX1_by 95 = .ok (.aload_n 1, 1) := dk_43 (dk_at dksX1_by_4 3 rfl rfl)
theorem dX1_by_96 : decode cX1_by 96 = .ok (.getfield 110, 3) := dk_180 0 110 (dk_at dksX1_by_4 4 rfl rfl)
theorem dX1_by_99 : decode cX1_by 99 = .ok (.iload_n 3, 1) := dk_29 (dk_at dksX1_by_4 7 rfl rfl)
theorem dX1_by_100 : decode cX1_by 100 = .ok (.iaload, 1) := dk_46 (dk_at dksX1_by_4 8 rfl rfl)
theorem dX1_by_101 : decode cX1_by 101 = .ok (.aload_n 1, 1) := dk_43 (dk_at dksX1_by_4 9 rfl rfl)
theorem dX1_by_102 : decode cX1_by 102 = .ok (.getfield 114, 3) := dk_180 0 114 (dk_at dksX1_by_4 10 rfl rfl)
theorem dX1_by_105 : decode cX1_by 105 = .ok (.iload_n 3, 1) := dk_29 (dk_at dksX1_by_4 13 rfl rfl)
theorem dX1_by_106 : decode cX1_by 106 = .ok (.iaload, 1) := dk_46 (dk_at dksX1_by_4 14 rfl rfl)
theorem dX1_by_107 : decode cX1_by 107 = .ok (.if_icmp .ne 7, 3) := dk_160 0 7 (dk_at dksX1_by_4 15 rfl rfl)
theorem dX1_by_110 : decode cX1_by 110 = .ok (.iconst 1, 1) := dk_4 (dk_at dksX1_by_4 18 rfl rfl)
theorem dX1_by_111 : decode cX1_by 111 = .ok (.goto 4, 3) := dk_167 0 4 (dk_at dksX1_by_4 19 rfl rfl)
theorem dX1_by_114 : decode cX1_by 114 = .ok (.iconst 0, 1) := dk_3 (dk_at dksX1_by_4 22 rfl rfl)
theorem dX1_by_115 : decode cX1_by 115 = .ok (.putfield 353, 3) := dk_181 1 97 (dk_at dksX1_by_5 0 rfl rfl)
theorem dX1_by_118 : decode cX1_by 118 = .ok (.aload_n 1, 1) := dk_43 (dk_at dksX1_by_5 3 rfl rfl)
theorem dX1_by_119 : decode cX1_by 119 = .ok (.getfield 330, 3) := dk_180 1 74 (dk_at dksX1_by_5 4 rfl rfl)
theorem dX1_by_122 : decode cX1_by 122 = .ok (.aload_n 2, 1) := dk_44 (dk_at dksX1_by_5 7 rfl rfl)
theorem dX1_by_123 : decode cX1_by 123 = .ok (.aload_n 0, 1) := dk_42 (dk_at dksX1_by_5 8 rfl rfl)
theorem dX1_by_124 : decode cX1_by 124 = .ok (.getfield 32, 3) := dk_180 0 32 (dk_at dksX1_by_5 9 rfl rfl)
theorem dX1_by_127 : decode cX1_by 127 = .ok (.invokevirtual 356, 3) := dk_182 1 100 (dk_at dksX1_by_5 12 rfl rfl)
theorem dX1_by_130 : decode cX1_by 130 = .ok (.ireturn, 1) := dk_172 (dk_at dksX1_by_5 15 rfl rfl)
abbrev cX1_allTire : ByteArray := prog_1_method_30_code
def yX1_allTire : MethodName := ⟨RX1, "allTire", "(LStoneBacks$World;Z)I"⟩
def dkwX1_allTire_4 : List UInt8 := [167, 255, 170, 29, 172]
abbrev dktX1_allTire_4 : List UInt8 := dkwX1_allTire_4 ++ []
def dkwX1_allTire_3 : List UInt8 := [182, 1, 144, 161, 0, 6, 167, 0, 14, 43, 180, 0, 129, 21, 4, 4, 84, 132, 3, 1, 132, 4, 1]
abbrev dktX1_allTire_3 : List UInt8 := dkwX1_allTire_3 ++ dktX1_allTire_4
def dkwX1_allTire_2 : List UInt8 := [182, 1, 138, 96, 184, 1, 121, 79, 28, 153, 0, 33, 43, 16, 100, 182, 1, 141, 42, 43, 21, 4]
abbrev dktX1_allTire_2 : List UInt8 := dkwX1_allTire_2 ++ dktX1_allTire_3
def dkwX1_allTire_1 : List UInt8 := [167, 0, 64, 43, 180, 0, 126, 21, 4, 16, 99, 43, 180, 0, 126, 21, 4, 46, 42, 43, 21, 4]
abbrev dktX1_allTire_1 : List UInt8 := dkwX1_allTire_1 ++ dktX1_allTire_2
def dkwX1_allTire_0 : List UInt8 := [3, 62, 3, 54, 4, 21, 4, 43, 180, 0, 96, 162, 0, 83, 43, 180, 0, 129, 21, 4, 51, 153, 0, 6]
abbrev dktX1_allTire_0 : List UInt8 := dkwX1_allTire_0 ++ dktX1_allTire_1
theorem dksX1_allTire_0 : cX1_allTire.data.toList.drop 0 = dktX1_allTire_0 := by decide +kernel
theorem dksX1_allTire_1 : cX1_allTire.data.toList.drop 24 = dktX1_allTire_1 := dk_seg dksX1_allTire_0 24 rfl rfl
theorem dksX1_allTire_2 : cX1_allTire.data.toList.drop 46 = dktX1_allTire_2 := dk_seg dksX1_allTire_1 22 rfl rfl
theorem dksX1_allTire_3 : cX1_allTire.data.toList.drop 68 = dktX1_allTire_3 := dk_seg dksX1_allTire_2 22 rfl rfl
theorem dksX1_allTire_4 : cX1_allTire.data.toList.drop 91 = dktX1_allTire_4 := dk_seg dksX1_allTire_3 23 rfl rfl
theorem dX1_allTire_0 : decode cX1_allTire 0 = .ok (.iconst 0, 1) := dk_3 (dk_at dksX1_allTire_0 0 rfl rfl)
theorem dX1_allTire_1 : decode cX1_allTire 1 = .ok (.istore_n 3, 1) := dk_62 (dk_at dksX1_allTire_0 1 rfl rfl)
theorem dX1_allTire_2 : decode cX1_allTire 2 = .ok (.iconst 0, 1) := dk_3 (dk_at dksX1_allTire_0 2 rfl rfl)
theorem dX1_allTire_3 : decode cX1_allTire 3 = .ok (.istore 4, 2) := dk_54 4 (dk_at dksX1_allTire_0 3 rfl rfl)
theorem dX1_allTire_5 : decode cX1_allTire 5 = .ok (.iload 4, 2) := dk_21 4 (dk_at dksX1_allTire_0 5 rfl rfl)
theorem dX1_allTire_7 : decode cX1_allTire 7 = .ok (.aload_n 1, 1) := dk_43 (dk_at dksX1_allTire_0 7 rfl rfl)
theorem dX1_allTire_8 : decode cX1_allTire 8 = .ok (.getfield 96, 3) := dk_180 0 96 (dk_at dksX1_allTire_0 8 rfl rfl)
theorem dX1_allTire_11 : decode cX1_allTire 11 = .ok (.if_icmp .ge 83, 3) := dk_162 0 83 (dk_at dksX1_allTire_0 11 rfl rfl)
theorem dX1_allTire_14 : decode cX1_allTire 14 = .ok (.aload_n 1, 1) := dk_43 (dk_at dksX1_allTire_0 14 rfl rfl)
theorem dX1_allTire_15 : decode cX1_allTire 15 = .ok (.getfield 129, 3) := dk_180 0 129 (dk_at dksX1_allTire_0 15 rfl rfl)
theorem dX1_allTire_18 : decode cX1_allTire 18 = .ok (.iload 4, 2) := dk_21 4 (dk_at dksX1_allTire_0 18 rfl rfl)
theorem dX1_allTire_20 : decode cX1_allTire 20 = .ok (.baload, 1) := dk_51 (dk_at dksX1_allTire_0 20 rfl rfl)
theorem dX1_allTire_21 : decode cX1_allTire 21 = .ok (.ifCond .eq 6, 3) := dk_153 0 6 (dk_at dksX1_allTire_0 21 rfl rfl)
theorem dX1_allTire_24 : decode cX1_allTire 24 = .ok (.goto 64, 3) := dk_167 0 64 (dk_at dksX1_allTire_1 0 rfl rfl)
theorem dX1_allTire_27 : decode cX1_allTire 27 = .ok (.aload_n 1, 1) := dk_43 (dk_at dksX1_allTire_1 3 rfl rfl)
theorem dX1_allTire_28 : decode cX1_allTire 28 = .ok (.getfield 126, 3) := dk_180 0 126 (dk_at dksX1_allTire_1 4 rfl rfl)
theorem dX1_allTire_31 : decode cX1_allTire 31 = .ok (.iload 4, 2) := dk_21 4 (dk_at dksX1_allTire_1 7 rfl rfl)
theorem dX1_allTire_33 : decode cX1_allTire 33 = .ok (.bipush 99, 2) := dk_16 99 (dk_at dksX1_allTire_1 9 rfl rfl)
theorem dX1_allTire_35 : decode cX1_allTire 35 = .ok (.aload_n 1, 1) := dk_43 (dk_at dksX1_allTire_1 11 rfl rfl)
theorem dX1_allTire_36 : decode cX1_allTire 36 = .ok (.getfield 126, 3) := dk_180 0 126 (dk_at dksX1_allTire_1 12 rfl rfl)
theorem dX1_allTire_39 : decode cX1_allTire 39 = .ok (.iload 4, 2) := dk_21 4 (dk_at dksX1_allTire_1 15 rfl rfl)
theorem dX1_allTire_41 : decode cX1_allTire 41 = .ok (.iaload, 1) := dk_46 (dk_at dksX1_allTire_1 17 rfl rfl)
theorem dX1_allTire_42 : decode cX1_allTire 42 = .ok (.aload_n 0, 1) := dk_42 (dk_at dksX1_allTire_1 18 rfl rfl)
theorem dX1_allTire_43 : decode cX1_allTire 43 = .ok (.aload_n 1, 1) := dk_43 (dk_at dksX1_allTire_1 19 rfl rfl)
theorem dX1_allTire_44 : decode cX1_allTire 44 = .ok (.iload 4, 2) := dk_21 4 (dk_at dksX1_allTire_1 20 rfl rfl)
theorem dX1_allTire_46 : decode cX1_allTire 46 = .ok (.invokevirtual 394, 3) := dk_182 1 138 (dk_at dksX1_allTire_2 0 rfl rfl)
theorem dX1_allTire_49 : decode cX1_allTire 49 = .ok (.iadd, 1) := dk_96 (dk_at dksX1_allTire_2 3 rfl rfl)
theorem dX1_allTire_50 : decode cX1_allTire 50 = .ok (.invokestatic 377, 3) := dk_184 1 121 (dk_at dksX1_allTire_2 4 rfl rfl)
theorem dX1_allTire_53 : decode cX1_allTire 53 = .ok (.iastore, 1) := dk_79 (dk_at dksX1_allTire_2 7 rfl rfl)
theorem dX1_allTire_54 : decode cX1_allTire 54 = .ok (.iload_n 2, 1) := dk_28 (dk_at dksX1_allTire_2 8 rfl rfl)
theorem dX1_allTire_55 : decode cX1_allTire 55 = .ok (.ifCond .eq 33, 3) := dk_153 0 33 (dk_at dksX1_allTire_2 9 rfl rfl)
theorem dX1_allTire_58 : decode cX1_allTire 58 = .ok (.aload_n 1, 1) := dk_43 (dk_at dksX1_allTire_2 12 rfl rfl)
theorem dX1_allTire_59 : decode cX1_allTire 59 = .ok (.bipush 100, 2) := dk_16 100 (dk_at dksX1_allTire_2 13 rfl rfl)
theorem dX1_allTire_61 : decode cX1_allTire 61 = .ok (.invokevirtual 397, 3) := dk_182 1 141 (dk_at dksX1_allTire_2 15 rfl rfl)
theorem dX1_allTire_64 : decode cX1_allTire 64 = .ok (.aload_n 0, 1) := dk_42 (dk_at dksX1_allTire_2 18 rfl rfl)
theorem dX1_allTire_65 : decode cX1_allTire 65 = .ok (.aload_n 1, 1) := dk_43 (dk_at dksX1_allTire_2 19 rfl rfl)
theorem dX1_allTire_66 : decode cX1_allTire 66 = .ok (.iload 4, 2) := dk_21 4 (dk_at dksX1_allTire_2 20 rfl rfl)
theorem dX1_allTire_68 : decode cX1_allTire 68 = .ok (.invokevirtual 400, 3) := dk_182 1 144 (dk_at dksX1_allTire_3 0 rfl rfl)
theorem dX1_allTire_71 : decode cX1_allTire 71 = .ok (.if_icmp .lt 6, 3) := dk_161 0 6 (dk_at dksX1_allTire_3 3 rfl rfl)
theorem dX1_allTire_74 : decode cX1_allTire 74 = .ok (.goto 14, 3) := dk_167 0 14 (dk_at dksX1_allTire_3 6 rfl rfl)
theorem dX1_allTire_77 : decode cX1_allTire 77 = .ok (.aload_n 1, 1) := dk_43 (dk_at dksX1_allTire_3 9 rfl rfl)
theorem dX1_allTire_78 : decode cX1_allTire 78 = .ok (.getfield 129, 3) := dk_180 0 129 (dk_at dksX1_allTire_3 10 rfl rfl)
theorem dX1_allTire_81 : decode cX1_allTire 81 = .ok (.iload 4, 2) := dk_21 4 (dk_at dksX1_allTire_3 13 rfl rfl)
theorem dX1_allTire_83 : decode cX1_allTire 83 = .ok (.iconst 1, 1) := dk_4 (dk_at dksX1_allTire_3 15 rfl rfl)
theorem dX1_allTire_84 : decode cX1_allTire 84 = .ok (.bastore, 1) := dk_84 (dk_at dksX1_allTire_3 16 rfl rfl)
theorem dX1_allTire_85 : decode cX1_allTire 85 = .ok (.iinc 3 1, 3) := dk_132 3 1 (dk_at dksX1_allTire_3 17 rfl rfl)
theorem dX1_allTire_88 : decode cX1_allTire 88 = .ok (.iinc 4 1, 3) := dk_132 4 1 (dk_at dksX1_allTire_3 20 rfl rfl)
theorem dX1_allTire_91 : decode cX1_allTire 91 = .ok (.goto (-86), 3) := dk_167 255 170 (dk_at dksX1_allTire_4 0 rfl rfl)
theorem dX1_allTire_94 : decode cX1_allTire 94 = .ok (.iload_n 3, 1) := dk_29 (dk_at dksX1_allTire_4 3 rfl rfl)
theorem dX1_allTire_95 : decode cX1_allTire 95 = .ok (.ireturn, 1) := dk_172 (dk_at dksX1_allTire_4 4 rfl rfl)
abbrev cX1_tiresBy : ByteArray := prog_1_method_26_code
def yX1_tiresBy : MethodName := ⟨RX1, "tiresBy", "(LStoneBacks$World;I)I"⟩
def dkwX1_tiresBy_1 : List UInt8 := [182, 1, 107, 172]
abbrev dktX1_tiresBy_1 : List UInt8 := dkwX1_tiresBy_1 ++ []
def dkwX1_tiresBy_0 : List UInt8 := [43, 180, 1, 74, 199, 0, 13, 43, 28, 182, 1, 81, 7, 108, 167, 0, 12, 42, 43, 178, 1, 103, 28]
abbrev dktX1_tiresBy_0 : List UInt8 := dkwX1_tiresBy_0 ++ dktX1_tiresBy_1
theorem dksX1_tiresBy_0 : cX1_tiresBy.data.toList.drop 0 = dktX1_tiresBy_0 := by decide +kernel
theorem dksX1_tiresBy_1 : cX1_tiresBy.data.toList.drop 23 = dktX1_tiresBy_1 := dk_seg dksX1_tiresBy_0 23 rfl rfl
theorem dX1_tiresBy_0 : decode cX1_tiresBy 0 = .ok (.aload_n 1, 1) := dk_43 (dk_at dksX1_tiresBy_0 0 rfl rfl)
theorem dX1_tiresBy_1 : decode cX1_tiresBy 1 = .ok (.getfield 330, 3) := dk_180 1 74 (dk_at dksX1_tiresBy_0 1 rfl rfl)
theorem dX1_tiresBy_4 : decode cX1_tiresBy 4 = .ok (.ifnonnull 13, 3) := dk_199 0 13 (dk_at dksX1_tiresBy_0 4 rfl rfl)
theorem dX1_tiresBy_7 : decode cX1_tiresBy 7 = .ok (.aload_n 1, 1) := dk_43 (dk_at dksX1_tiresBy_0 7 rfl rfl)
theorem dX1_tiresBy_8 : decode cX1_tiresBy 8 = .ok (.iload_n 2, 1) := dk_28 (dk_at dksX1_tiresBy_0 8 rfl rfl)
theorem dX1_tiresBy_9 : decode cX1_tiresBy 9 = .ok (.invokevirtual 337, 3) := dk_182 1 81 (dk_at dksX1_tiresBy_0 9 rfl rfl)
theorem dX1_tiresBy_12 : decode cX1_tiresBy 12 = .ok (.iconst 4, 1) := dk_7 (dk_at dksX1_tiresBy_0 12 rfl rfl)
theorem dX1_tiresBy_13 : decode cX1_tiresBy 13 = .ok (.idiv, 1) := dk_108 (dk_at dksX1_tiresBy_0 13 rfl rfl)
theorem dX1_tiresBy_14 : decode cX1_tiresBy 14 = .ok (.goto 12, 3) := dk_167 0 12 (dk_at dksX1_tiresBy_0 14 rfl rfl)
theorem dX1_tiresBy_17 : decode cX1_tiresBy 17 = .ok (.aload_n 0, 1) := dk_42 (dk_at dksX1_tiresBy_0 17 rfl rfl)
theorem dX1_tiresBy_18 : decode cX1_tiresBy 18 = .ok (.aload_n 1, 1) := dk_43 (dk_at dksX1_tiresBy_0 18 rfl rfl)
theorem dX1_tiresBy_19 : decode cX1_tiresBy 19 = .ok (.getstatic 359, 3) := dk_178 1 103 (dk_at dksX1_tiresBy_0 19 rfl rfl)
theorem dX1_tiresBy_22 : decode cX1_tiresBy 22 = .ok (.iload_n 2, 1) := dk_28 (dk_at dksX1_tiresBy_0 22 rfl rfl)
theorem dX1_tiresBy_23 : decode cX1_tiresBy 23 = .ok (.invokevirtual 363, 3) := dk_182 1 107 (dk_at dksX1_tiresBy_1 0 rfl rfl)
theorem dX1_tiresBy_26 : decode cX1_tiresBy 26 = .ok (.ireturn, 1) := dk_172 (dk_at dksX1_tiresBy_1 3 rfl rfl)
abbrev cX1_hurtsBy : ByteArray := prog_1_method_28_code
def yX1_hurtsBy : MethodName := ⟨RX1, "hurtsBy", "(LStoneBacks$World;I)I"⟩
def dkwX1_hurtsBy_1 : List UInt8 := [167, 0, 17, 16, 100, 42, 43, 178, 1, 118, 28, 182, 1, 107, 184, 1, 121, 172]
abbrev dktX1_hurtsBy_1 : List UInt8 := dkwX1_hurtsBy_1 ++ []
def dkwX1_hurtsBy_0 : List UInt8 := [43, 180, 1, 74, 199, 0, 22, 3, 43, 28, 182, 1, 81, 43, 180, 0, 102, 28, 46, 100, 184, 1, 110]
abbrev dktX1_hurtsBy_0 : List UInt8 := dkwX1_hurtsBy_0 ++ dktX1_hurtsBy_1
theorem dksX1_hurtsBy_0 : cX1_hurtsBy.data.toList.drop 0 = dktX1_hurtsBy_0 := by decide +kernel
theorem dksX1_hurtsBy_1 : cX1_hurtsBy.data.toList.drop 23 = dktX1_hurtsBy_1 := dk_seg dksX1_hurtsBy_0 23 rfl rfl
theorem dX1_hurtsBy_0 : decode cX1_hurtsBy 0 = .ok (.aload_n 1, 1) := dk_43 (dk_at dksX1_hurtsBy_0 0 rfl rfl)
theorem dX1_hurtsBy_1 : decode cX1_hurtsBy 1 = .ok (.getfield 330, 3) := dk_180 1 74 (dk_at dksX1_hurtsBy_0 1 rfl rfl)
theorem dX1_hurtsBy_4 : decode cX1_hurtsBy 4 = .ok (.ifnonnull 22, 3) := dk_199 0 22 (dk_at dksX1_hurtsBy_0 4 rfl rfl)
theorem dX1_hurtsBy_7 : decode cX1_hurtsBy 7 = .ok (.iconst 0, 1) := dk_3 (dk_at dksX1_hurtsBy_0 7 rfl rfl)
theorem dX1_hurtsBy_8 : decode cX1_hurtsBy 8 = .ok (.aload_n 1, 1) := dk_43 (dk_at dksX1_hurtsBy_0 8 rfl rfl)
theorem dX1_hurtsBy_9 : decode cX1_hurtsBy 9 = .ok (.iload_n 2, 1) := dk_28 (dk_at dksX1_hurtsBy_0 9 rfl rfl)
theorem dX1_hurtsBy_10 : decode cX1_hurtsBy 10 = .ok (.invokevirtual 337, 3) := dk_182 1 81 (dk_at dksX1_hurtsBy_0 10 rfl rfl)
theorem dX1_hurtsBy_13 : decode cX1_hurtsBy 13 = .ok (.aload_n 1, 1) := dk_43 (dk_at dksX1_hurtsBy_0 13 rfl rfl)
theorem dX1_hurtsBy_14 : decode cX1_hurtsBy 14 = .ok (.getfield 102, 3) := dk_180 0 102 (dk_at dksX1_hurtsBy_0 14 rfl rfl)
theorem dX1_hurtsBy_17 : decode cX1_hurtsBy 17 = .ok (.iload_n 2, 1) := dk_28 (dk_at dksX1_hurtsBy_0 17 rfl rfl)
theorem dX1_hurtsBy_18 : decode cX1_hurtsBy 18 = .ok (.iaload, 1) := dk_46 (dk_at dksX1_hurtsBy_0 18 rfl rfl)
theorem dX1_hurtsBy_19 : decode cX1_hurtsBy 19 = .ok (.isub, 1) := dk_100 (dk_at dksX1_hurtsBy_0 19 rfl rfl)
theorem dX1_hurtsBy_20 : decode cX1_hurtsBy 20 = .ok (.invokestatic 366, 3) := dk_184 1 110 (dk_at dksX1_hurtsBy_0 20 rfl rfl)
theorem dX1_hurtsBy_23 : decode cX1_hurtsBy 23 = .ok (.goto 17, 3) := dk_167 0 17 (dk_at dksX1_hurtsBy_1 0 rfl rfl)
theorem dX1_hurtsBy_26 : decode cX1_hurtsBy 26 = .ok (.bipush 100, 2) := dk_16 100 (dk_at dksX1_hurtsBy_1 3 rfl rfl)
theorem dX1_hurtsBy_28 : decode cX1_hurtsBy 28 = .ok (.aload_n 0, 1) := dk_42 (dk_at dksX1_hurtsBy_1 5 rfl rfl)
theorem dX1_hurtsBy_29 : decode cX1_hurtsBy 29 = .ok (.aload_n 1, 1) := dk_43 (dk_at dksX1_hurtsBy_1 6 rfl rfl)
theorem dX1_hurtsBy_30 : decode cX1_hurtsBy 30 = .ok (.getstatic 374, 3) := dk_178 1 118 (dk_at dksX1_hurtsBy_1 7 rfl rfl)
theorem dX1_hurtsBy_33 : decode cX1_hurtsBy 33 = .ok (.iload_n 2, 1) := dk_28 (dk_at dksX1_hurtsBy_1 10 rfl rfl)
theorem dX1_hurtsBy_34 : decode cX1_hurtsBy 34 = .ok (.invokevirtual 363, 3) := dk_182 1 107 (dk_at dksX1_hurtsBy_1 11 rfl rfl)
theorem dX1_hurtsBy_37 : decode cX1_hurtsBy 37 = .ok (.invokestatic 377, 3) := dk_184 1 121 (dk_at dksX1_hurtsBy_1 14 rfl rfl)
theorem dX1_hurtsBy_40 : decode cX1_hurtsBy 40 = .ok (.ireturn, 1) := dk_172 (dk_at dksX1_hurtsBy_1 17 rfl rfl)
abbrev cX1_heap : ByteArray := prog_1_method_81_code
def yX1_heap : MethodName := ⟨RX1, "heap", "()I"⟩
def dkwX1_heap_2 : List UInt8 := [167, 255, 216, 27, 172]
abbrev dktX1_heap_2 : List UInt8 := dkwX1_heap_2 ++ []
def dkwX1_heap_1 : List UInt8 := [182, 1, 195, 54, 4, 21, 4, 28, 163, 0, 6, 167, 0, 8, 29, 60, 21, 4, 61, 132, 3, 1]
abbrev dktX1_heap_1 : List UInt8 := dkwX1_heap_1 ++ dktX1_heap_2
def dkwX1_heap_0 : List UInt8 := [2, 60, 3, 61, 3, 62, 29, 16, 12, 162, 0, 40, 42, 180, 0, 10, 42, 180, 0, 10, 29, 182, 1, 222]
abbrev dktX1_heap_0 : List UInt8 := dkwX1_heap_0 ++ dktX1_heap_1
theorem dksX1_heap_0 : cX1_heap.data.toList.drop 0 = dktX1_heap_0 := by decide +kernel
theorem dksX1_heap_1 : cX1_heap.data.toList.drop 24 = dktX1_heap_1 := dk_seg dksX1_heap_0 24 rfl rfl
theorem dksX1_heap_2 : cX1_heap.data.toList.drop 46 = dktX1_heap_2 := dk_seg dksX1_heap_1 22 rfl rfl
theorem dX1_heap_0 : decode cX1_heap 0 = .ok (.iconst (-1), 1) := dk_2 (dk_at dksX1_heap_0 0 rfl rfl)
theorem dX1_heap_1 : decode cX1_heap 1 = .ok (.istore_n 1, 1) := dk_60 (dk_at dksX1_heap_0 1 rfl rfl)
theorem dX1_heap_2 : decode cX1_heap 2 = .ok (.iconst 0, 1) := dk_3 (dk_at dksX1_heap_0 2 rfl rfl)
theorem dX1_heap_3 : decode cX1_heap 3 = .ok (.istore_n 2, 1) := dk_61 (dk_at dksX1_heap_0 3 rfl rfl)
theorem dX1_heap_4 : decode cX1_heap 4 = .ok (.iconst 0, 1) := dk_3 (dk_at dksX1_heap_0 4 rfl rfl)
theorem dX1_heap_5 : decode cX1_heap 5 = .ok (.istore_n 3, 1) := dk_62 (dk_at dksX1_heap_0 5 rfl rfl)
theorem dX1_heap_6 : decode cX1_heap 6 = .ok (.iload_n 3, 1) := dk_29 (dk_at dksX1_heap_0 6 rfl rfl)
theorem dX1_heap_7 : decode cX1_heap 7 = .ok (.bipush 12, 2) := dk_16 12 (dk_at dksX1_heap_0 7 rfl rfl)
theorem dX1_heap_9 : decode cX1_heap 9 = .ok (.if_icmp .ge 40, 3) := dk_162 0 40 (dk_at dksX1_heap_0 9 rfl rfl)
theorem dX1_heap_12 : decode cX1_heap 12 = .ok (.aload_n 0, 1) := dk_42 (dk_at dksX1_heap_0 12 rfl rfl)
theorem dX1_heap_13 : decode cX1_heap 13 = .ok (.getfield 10, 3) := dk_180 0 10 (dk_at dksX1_heap_0 13 rfl rfl)
theorem dX1_heap_16 : decode cX1_heap 16 = .ok (.aload_n 0, 1) := dk_42 (dk_at dksX1_heap_0 16 rfl rfl)
theorem dX1_heap_17 : decode cX1_heap 17 = .ok (.getfield 10, 3) := dk_180 0 10 (dk_at dksX1_heap_0 17 rfl rfl)
theorem dX1_heap_20 : decode cX1_heap 20 = .ok (.iload_n 3, 1) := dk_29 (dk_at dksX1_heap_0 20 rfl rfl)
theorem dX1_heap_21 : decode cX1_heap 21 = .ok (.invokevirtual 478, 3) := dk_182 1 222 (dk_at dksX1_heap_0 21 rfl rfl)
theorem dX1_heap_24 : decode cX1_heap 24 = .ok (.invokevirtual 451, 3) := dk_182 1 195 (dk_at dksX1_heap_1 0 rfl rfl)
theorem dX1_heap_27 : decode cX1_heap 27 = .ok (.istore 4, 2) := dk_54 4 (dk_at dksX1_heap_1 3 rfl rfl)
theorem dX1_heap_29 : decode cX1_heap 29 = .ok (.iload 4, 2) := dk_21 4 (dk_at dksX1_heap_1 5 rfl rfl)
theorem dX1_heap_31 : decode cX1_heap 31 = .ok (.iload_n 2, 1) := dk_28 (dk_at dksX1_heap_1 7 rfl rfl)
theorem dX1_heap_32 : decode cX1_heap 32 = .ok (.if_icmp .gt 6, 3) := dk_163 0 6 (dk_at dksX1_heap_1 8 rfl rfl)
theorem dX1_heap_35 : decode cX1_heap 35 = .ok (.goto 8, 3) := dk_167 0 8 (dk_at dksX1_heap_1 11 rfl rfl)
theorem dX1_heap_38 : decode cX1_heap 38 = .ok (.iload_n 3, 1) := dk_29 (dk_at dksX1_heap_1 14 rfl rfl)
theorem dX1_heap_39 : decode cX1_heap 39 = .ok (.istore_n 1, 1) := dk_60 (dk_at dksX1_heap_1 15 rfl rfl)
theorem dX1_heap_40 : decode cX1_heap 40 = .ok (.iload 4, 2) := dk_21 4 (dk_at dksX1_heap_1 16 rfl rfl)
theorem dX1_heap_42 : decode cX1_heap 42 = .ok (.istore_n 2, 1) := dk_61 (dk_at dksX1_heap_1 18 rfl rfl)
theorem dX1_heap_43 : decode cX1_heap 43 = .ok (.iinc 3 1, 3) := dk_132 3 1 (dk_at dksX1_heap_1 19 rfl rfl)
theorem dX1_heap_46 : decode cX1_heap 46 = .ok (.goto (-40), 3) := dk_167 255 216 (dk_at dksX1_heap_2 0 rfl rfl)
theorem dX1_heap_49 : decode cX1_heap 49 = .ok (.iload_n 1, 1) := dk_27 (dk_at dksX1_heap_2 3 rfl rfl)
theorem dX1_heap_50 : decode cX1_heap 50 = .ok (.ireturn, 1) := dk_172 (dk_at dksX1_heap_2 4 rfl rfl)
abbrev cX1_pairs : ByteArray := prog_1_method_82_code
def yX1_pairs : MethodName := ⟨RX1, "pairs", "()I"⟩
def dkwX1_pairs_2 : List UInt8 := [160, 0, 7, 4, 167, 0, 4, 3, 96, 60, 132, 3, 1, 167, 255, 215, 132, 2, 1, 167, 255, 194, 27, 172]
abbrev dktX1_pairs_2 : List UInt8 := dkwX1_pairs_2 ++ []
def dkwX1_pairs_1 : List UInt8 := [180, 0, 96, 162, 0, 36, 27, 42, 180, 0, 10, 28, 182, 1, 81, 42, 180, 0, 10, 29, 182, 1, 81]
abbrev dktX1_pairs_1 : List UInt8 := dkwX1_pairs_1 ++ dktX1_pairs_2
def dkwX1_pairs_0 : List UInt8 := [3, 60, 3, 61, 28, 42, 180, 0, 10, 180, 0, 96, 162, 0, 57, 28, 4, 96, 62, 29, 42, 180, 0, 10]
abbrev dktX1_pairs_0 : List UInt8 := dkwX1_pairs_0 ++ dktX1_pairs_1
theorem dksX1_pairs_0 : cX1_pairs.data.toList.drop 0 = dktX1_pairs_0 := by decide +kernel
theorem dksX1_pairs_1 : cX1_pairs.data.toList.drop 24 = dktX1_pairs_1 := dk_seg dksX1_pairs_0 24 rfl rfl
theorem dksX1_pairs_2 : cX1_pairs.data.toList.drop 47 = dktX1_pairs_2 := dk_seg dksX1_pairs_1 23 rfl rfl
theorem dX1_pairs_0 : decode cX1_pairs 0 = .ok (.iconst 0, 1) := dk_3 (dk_at dksX1_pairs_0 0 rfl rfl)
theorem dX1_pairs_1 : decode cX1_pairs 1 = .ok (.istore_n 1, 1) := dk_60 (dk_at dksX1_pairs_0 1 rfl rfl)
theorem dX1_pairs_2 : decode cX1_pairs 2 = .ok (.iconst 0, 1) := dk_3 (dk_at dksX1_pairs_0 2 rfl rfl)
theorem dX1_pairs_3 : decode cX1_pairs 3 = .ok (.istore_n 2, 1) := dk_61 (dk_at dksX1_pairs_0 3 rfl rfl)
theorem dX1_pairs_4 : decode cX1_pairs 4 = .ok (.iload_n 2, 1) := dk_28 (dk_at dksX1_pairs_0 4 rfl rfl)
theorem dX1_pairs_5 : decode cX1_pairs 5 = .ok (.aload_n 0, 1) := dk_42 (dk_at dksX1_pairs_0 5 rfl rfl)
theorem dX1_pairs_6 : decode cX1_pairs 6 = .ok (.getfield 10, 3) := dk_180 0 10 (dk_at dksX1_pairs_0 6 rfl rfl)
theorem dX1_pairs_9 : decode cX1_pairs 9 = .ok (.getfield 96, 3) := dk_180 0 96 (dk_at dksX1_pairs_0 9 rfl rfl)
theorem dX1_pairs_12 : decode cX1_pairs 12 = .ok (.if_icmp .ge 57, 3) := dk_162 0 57 (dk_at dksX1_pairs_0 12 rfl rfl)
theorem dX1_pairs_15 : decode cX1_pairs 15 = .ok (.iload_n 2, 1) := dk_28 (dk_at dksX1_pairs_0 15 rfl rfl)
theorem dX1_pairs_16 : decode cX1_pairs 16 = .ok (.iconst 1, 1) := dk_4 (dk_at dksX1_pairs_0 16 rfl rfl)
theorem dX1_pairs_17 : decode cX1_pairs 17 = .ok (.iadd, 1) := dk_96 (dk_at dksX1_pairs_0 17 rfl rfl)
theorem dX1_pairs_18 : decode cX1_pairs 18 = .ok (.istore_n 3, 1) := dk_62 (dk_at dksX1_pairs_0 18 rfl rfl)
theorem dX1_pairs_19 : decode cX1_pairs 19 = .ok (.iload_n 3, 1) := dk_29 (dk_at dksX1_pairs_0 19 rfl rfl)
theorem dX1_pairs_20 : decode cX1_pairs 20 = .ok (.aload_n 0, 1) := dk_42 (dk_at dksX1_pairs_0 20 rfl rfl)
theorem dX1_pairs_21 : decode cX1_pairs 21 = .ok (.getfield 10, 3) := dk_180 0 10 (dk_at dksX1_pairs_0 21 rfl rfl)
theorem dX1_pairs_24 : decode cX1_pairs 24 = .ok (.getfield 96, 3) := dk_180 0 96 (dk_at dksX1_pairs_1 0 rfl rfl)
theorem dX1_pairs_27 : decode cX1_pairs 27 = .ok (.if_icmp .ge 36, 3) := dk_162 0 36 (dk_at dksX1_pairs_1 3 rfl rfl)
theorem dX1_pairs_30 : decode cX1_pairs 30 = .ok (.iload_n 1, 1) := dk_27 (dk_at dksX1_pairs_1 6 rfl rfl)
theorem dX1_pairs_31 : decode cX1_pairs 31 = .ok (.aload_n 0, 1) := dk_42 (dk_at dksX1_pairs_1 7 rfl rfl)
theorem dX1_pairs_32 : decode cX1_pairs 32 = .ok (.getfield 10, 3) := dk_180 0 10 (dk_at dksX1_pairs_1 8 rfl rfl)
theorem dX1_pairs_35 : decode cX1_pairs 35 = .ok (.iload_n 2, 1) := dk_28 (dk_at dksX1_pairs_1 11 rfl rfl)
theorem dX1_pairs_36 : decode cX1_pairs 36 = .ok (.invokevirtual 337, 3) := dk_182 1 81 (dk_at dksX1_pairs_1 12 rfl rfl)
theorem dX1_pairs_39 : decode cX1_pairs 39 = .ok (.aload_n 0, 1) := dk_42 (dk_at dksX1_pairs_1 15 rfl rfl)
theorem dX1_pairs_40 : decode cX1_pairs 40 = .ok (.getfield 10, 3) := dk_180 0 10 (dk_at dksX1_pairs_1 16 rfl rfl)
theorem dX1_pairs_43 : decode cX1_pairs 43 = .ok (.iload_n 3, 1) := dk_29 (dk_at dksX1_pairs_1 19 rfl rfl)
theorem dX1_pairs_44 : decode cX1_pairs 44 = .ok (.invokevirtual 337, 3) := dk_182 1 81 (dk_at dksX1_pairs_1 20 rfl rfl)
theorem dX1_pairs_47 : decode cX1_pairs 47 = .ok (.if_icmp .ne 7, 3) := dk_160 0 7 (dk_at dksX1_pairs_2 0 rfl rfl)
theorem dX1_pairs_50 : decode cX1_pairs 50 = .ok (.iconst 1, 1) := dk_4 (dk_at dksX1_pairs_2 3 rfl rfl)
theorem dX1_pairs_51 : decode cX1_pairs 51 = .ok (.goto 4, 3) := dk_167 0 4 (dk_at dksX1_pairs_2 4 rfl rfl)
theorem dX1_pairs_54 : decode cX1_pairs 54 = .ok (.iconst 0, 1) := dk_3 (dk_at dksX1_pairs_2 7 rfl rfl)
theorem dX1_pairs_55 : decode cX1_pairs 55 = .ok (.iadd, 1) := dk_96 (dk_at dksX1_pairs_2 8 rfl rfl)
theorem dX1_pairs_56 : decode cX1_pairs 56 = .ok (.istore_n 1, 1) := dk_60 (dk_at dksX1_pairs_2 9 rfl rfl)
theorem dX1_pairs_57 : decode cX1_pairs 57 = .ok (.iinc 3 1, 3) := dk_132 3 1 (dk_at dksX1_pairs_2 10 rfl rfl)
theorem dX1_pairs_60 : decode cX1_pairs 60 = .ok (.goto (-41), 3) := dk_167 255 215 (dk_at dksX1_pairs_2 13 rfl rfl)
theorem dX1_pairs_63 : decode cX1_pairs 63 = .ok (.iinc 2 1, 3) := dk_132 2 1 (dk_at dksX1_pairs_2 16 rfl rfl)
theorem dX1_pairs_66 : decode cX1_pairs 66 = .ok (.goto (-62), 3) := dk_167 255 194 (dk_at dksX1_pairs_2 19 rfl rfl)
theorem dX1_pairs_69 : decode cX1_pairs 69 = .ok (.iload_n 1, 1) := dk_27 (dk_at dksX1_pairs_2 22 rfl rfl)
theorem dX1_pairs_70 : decode cX1_pairs 70 = .ok (.ireturn, 1) := dk_172 (dk_at dksX1_pairs_2 23 rfl rfl)
abbrev cX1_heaviest : ByteArray := prog_1_method_83_code
def yX1_heaviest : MethodName := ⟨RX1, "heaviest", "()I"⟩
def dkwX1_heaviest_2 : List UInt8 := [172]
abbrev dktX1_heaviest_2 : List UInt8 := dkwX1_heaviest_2 ++ []
def dkwX1_heaviest_1 : List UInt8 := [28, 182, 1, 81, 42, 180, 0, 10, 27, 182, 1, 81, 164, 0, 5, 28, 60, 132, 2, 1, 167, 255, 216, 27]
abbrev dktX1_heaviest_1 : List UInt8 := dkwX1_heaviest_1 ++ dktX1_heaviest_2
def dkwX1_heaviest_0 : List UInt8 := [2, 60, 3, 61, 28, 42, 180, 0, 10, 180, 0, 96, 162, 0, 35, 27, 2, 159, 0, 22, 42, 180, 0, 10]
abbrev dktX1_heaviest_0 : List UInt8 := dkwX1_heaviest_0 ++ dktX1_heaviest_1
theorem dksX1_heaviest_0 : cX1_heaviest.data.toList.drop 0 = dktX1_heaviest_0 := by decide +kernel
theorem dksX1_heaviest_1 : cX1_heaviest.data.toList.drop 24 = dktX1_heaviest_1 := dk_seg dksX1_heaviest_0 24 rfl rfl
theorem dksX1_heaviest_2 : cX1_heaviest.data.toList.drop 48 = dktX1_heaviest_2 := dk_seg dksX1_heaviest_1 24 rfl rfl
theorem dX1_heaviest_0 : decode cX1_heaviest 0 = .ok (.iconst (-1), 1) := dk_2 (dk_at dksX1_heaviest_0 0 rfl rfl)
theorem dX1_heaviest_1 : decode cX1_heaviest 1 = .ok (.istore_n 1, 1) := dk_60 (dk_at dksX1_heaviest_0 1 rfl rfl)
theorem dX1_heaviest_2 : decode cX1_heaviest 2 = .ok (.iconst 0, 1) := dk_3 (dk_at dksX1_heaviest_0 2 rfl rfl)
theorem dX1_heaviest_3 : decode cX1_heaviest 3 = .ok (.istore_n 2, 1) := dk_61 (dk_at dksX1_heaviest_0 3 rfl rfl)
theorem dX1_heaviest_4 : decode cX1_heaviest 4 = .ok (.iload_n 2, 1) := dk_28 (dk_at dksX1_heaviest_0 4 rfl rfl)
theorem dX1_heaviest_5 : decode cX1_heaviest 5 = .ok (.aload_n 0, 1) := dk_42 (dk_at dksX1_heaviest_0 5 rfl rfl)
theorem dX1_heaviest_6 : decode cX1_heaviest 6 = .ok (.getfield 10, 3) := dk_180 0 10 (dk_at dksX1_heaviest_0 6 rfl rfl)
theorem dX1_heaviest_9 : decode cX1_heaviest 9 = .ok (.getfield 96, 3) := dk_180 0 96 (dk_at dksX1_heaviest_0 9 rfl rfl)
theorem dX1_heaviest_12 : decode cX1_heaviest 12 = .ok (.if_icmp .ge 35, 3) := dk_162 0 35 (dk_at dksX1_heaviest_0 12 rfl rfl)
theorem dX1_heaviest_15 : decode cX1_heaviest 15 = .ok (.iload_n 1, 1) := dk_27 (dk_at dksX1_heaviest_0 15 rfl rfl)
theorem dX1_heaviest_16 : decode cX1_heaviest 16 = .ok (.iconst (-1), 1) := dk_2 (dk_at dksX1_heaviest_0 16 rfl rfl)
theorem dX1_heaviest_17 : decode cX1_heaviest 17 = .ok (.if_icmp .eq 22, 3) := dk_159 0 22 (dk_at dksX1_heaviest_0 17 rfl rfl)
theorem dX1_heaviest_20 : decode cX1_heaviest 20 = .ok (.aload_n 0, 1) := dk_42 (dk_at dksX1_heaviest_0 20 rfl rfl)
theorem dX1_heaviest_21 : decode cX1_heaviest 21 = .ok (.getfield 10, 3) := dk_180 0 10 (dk_at dksX1_heaviest_0 21 rfl rfl)
theorem dX1_heaviest_24 : decode cX1_heaviest 24 = .ok (.iload_n 2, 1) := dk_28 (dk_at dksX1_heaviest_1 0 rfl rfl)
theorem dX1_heaviest_25 : decode cX1_heaviest 25 = .ok (.invokevirtual 337, 3) := dk_182 1 81 (dk_at dksX1_heaviest_1 1 rfl rfl)
theorem dX1_heaviest_28 : decode cX1_heaviest 28 = .ok (.aload_n 0, 1) := dk_42 (dk_at dksX1_heaviest_1 4 rfl rfl)
theorem dX1_heaviest_29 : decode cX1_heaviest 29 = .ok (.getfield 10, 3) := dk_180 0 10 (dk_at dksX1_heaviest_1 5 rfl rfl)
theorem dX1_heaviest_32 : decode cX1_heaviest 32 = .ok (.iload_n 1, 1) := dk_27 (dk_at dksX1_heaviest_1 8 rfl rfl)
theorem dX1_heaviest_33 : decode cX1_heaviest 33 = .ok (.invokevirtual 337, 3) := dk_182 1 81 (dk_at dksX1_heaviest_1 9 rfl rfl)
theorem dX1_heaviest_36 : decode cX1_heaviest 36 = .ok (.if_icmp .le 5, 3) := dk_164 0 5 (dk_at dksX1_heaviest_1 12 rfl rfl)
theorem dX1_heaviest_39 : decode cX1_heaviest 39 = .ok (.iload_n 2, 1) := dk_28 (dk_at dksX1_heaviest_1 15 rfl rfl)
theorem dX1_heaviest_40 : decode cX1_heaviest 40 = .ok (.istore_n 1, 1) := dk_60 (dk_at dksX1_heaviest_1 16 rfl rfl)
theorem dX1_heaviest_41 : decode cX1_heaviest 41 = .ok (.iinc 2 1, 3) := dk_132 2 1 (dk_at dksX1_heaviest_1 17 rfl rfl)
theorem dX1_heaviest_44 : decode cX1_heaviest 44 = .ok (.goto (-40), 3) := dk_167 255 216 (dk_at dksX1_heaviest_1 20 rfl rfl)
theorem dX1_heaviest_47 : decode cX1_heaviest 47 = .ok (.iload_n 1, 1) := dk_27 (dk_at dksX1_heaviest_1 23 rfl rfl)
theorem dX1_heaviest_48 : decode cX1_heaviest 48 = .ok (.ireturn, 1) := dk_172 (dk_at dksX1_heaviest_2 0 rfl rfl)
abbrev cX1_seed : ByteArray := prog_1_method_92_code
def yX1_seed : MethodName := ⟨RX1, "seed", "(I)I"⟩
def dkwX1_seed_0 : List UInt8 := [42, 180, 0, 10, 180, 2, 67, 61, 42, 180, 0, 10, 27, 181, 2, 67, 28, 172]
abbrev dktX1_seed_0 : List UInt8 := dkwX1_seed_0 ++ []
theorem dksX1_seed_0 : cX1_seed.data.toList.drop 0 = dktX1_seed_0 := by decide +kernel
theorem dX1_seed_0 : decode cX1_seed 0 = .ok (.aload_n 0, 1) := dk_42 (dk_at dksX1_seed_0 0 rfl rfl)
theorem dX1_seed_1 : decode cX1_seed 1 = .ok (.getfield 10, 3) := dk_180 0 10 (dk_at dksX1_seed_0 1 rfl rfl)
theorem dX1_seed_4 : decode cX1_seed 4 = .ok (.getfield 579, 3) := dk_180 2 67 (dk_at dksX1_seed_0 4 rfl rfl)
theorem dX1_seed_7 : decode cX1_seed 7 = .ok (.istore_n 2, 1) := dk_61 (dk_at dksX1_seed_0 7 rfl rfl)
theorem dX1_seed_8 : decode cX1_seed 8 = .ok (.aload_n 0, 1) := dk_42 (dk_at dksX1_seed_0 8 rfl rfl)
theorem dX1_seed_9 : decode cX1_seed 9 = .ok (.getfield 10, 3) := dk_180 0 10 (dk_at dksX1_seed_0 9 rfl rfl)
theorem dX1_seed_12 : decode cX1_seed 12 = .ok (.iload_n 1, 1) := dk_27 (dk_at dksX1_seed_0 12 rfl rfl)
theorem dX1_seed_13 : decode cX1_seed 13 = .ok (.putfield 579, 3) := dk_181 2 67 (dk_at dksX1_seed_0 13 rfl rfl)
theorem dX1_seed_16 : decode cX1_seed 16 = .ok (.iload_n 2, 1) := dk_28 (dk_at dksX1_seed_0 16 rfl rfl)
theorem dX1_seed_17 : decode cX1_seed 17 = .ok (.ireturn, 1) := dk_172 (dk_at dksX1_seed_0 17 rfl rfl)
abbrev cX1_undo : ByteArray := prog_1_method_93_code
def yX1_undo : MethodName := ⟨RX1, "undo", "()Z"⟩
def dkwX1_undo_1 : List UInt8 := [182, 1, 63, 4, 100, 182, 1, 225, 192, 0, 7, 182, 0, 204, 87, 4, 172]
abbrev dktX1_undo_1 : List UInt8 := dkwX1_undo_1 ++ []
def dkwX1_undo_0 : List UInt8 := [42, 180, 0, 42, 182, 2, 79, 153, 0, 5, 3, 172, 42, 180, 0, 10, 42, 180, 0, 42, 42, 180, 0, 42]
abbrev dktX1_undo_0 : List UInt8 := dkwX1_undo_0 ++ dktX1_undo_1
theorem dksX1_undo_0 : cX1_undo.data.toList.drop 0 = dktX1_undo_0 := by decide +kernel
theorem dksX1_undo_1 : cX1_undo.data.toList.drop 24 = dktX1_undo_1 := dk_seg dksX1_undo_0 24 rfl rfl
theorem dX1_undo_0 : decode cX1_undo 0 = .ok (.aload_n 0, 1) := dk_42 (dk_at dksX1_undo_0 0 rfl rfl)
theorem dX1_undo_1 : decode cX1_undo 1 = .ok (.getfield 42, 3) := dk_180 0 42 (dk_at dksX1_undo_0 1 rfl rfl)
theorem dX1_undo_4 : decode cX1_undo 4 = .ok (.invokevirtual 591, 3) := dk_182 2 79 (dk_at dksX1_undo_0 4 rfl rfl)
theorem dX1_undo_7 : decode cX1_undo 7 = .ok (.ifCond .eq 5, 3) := dk_153 0 5 (dk_at dksX1_undo_0 7 rfl rfl)
theorem dX1_undo_10 : decode cX1_undo 10 = .ok (.iconst 0, 1) := dk_3 (dk_at dksX1_undo_0 10 rfl rfl)
theorem dX1_undo_11 : decode cX1_undo 11 = .ok (.ireturn, 1) := dk_172 (dk_at dksX1_undo_0 11 rfl rfl)
theorem dX1_undo_12 : decode cX1_undo 12 = .ok (.aload_n 0, 1) := dk_42 (dk_at dksX1_undo_0 12 rfl rfl)
theorem dX1_undo_13 : decode cX1_undo 13 = .ok (.getfield 10, 3) := dk_180 0 10 (dk_at dksX1_undo_0 13 rfl rfl)
theorem dX1_undo_16 : decode cX1_undo 16 = .ok (.aload_n 0, 1) := dk_42 (dk_at dksX1_undo_0 16 rfl rfl)
theorem dX1_undo_17 : decode cX1_undo 17 = .ok (.getfield 42, 3) := dk_180 0 42 (dk_at dksX1_undo_0 17 rfl rfl)
theorem dX1_undo_20 : decode cX1_undo 20 = .ok (.aload_n 0, 1) := dk_42 (dk_at dksX1_undo_0 20 rfl rfl)
theorem dX1_undo_21 : decode cX1_undo 21 = .ok (.getfield 42, 3) := dk_180 0 42 (dk_at dksX1_undo_0 21 rfl rfl)
theorem dX1_undo_24 : decode cX1_undo 24 = .ok (.invokevirtual 319, 3) := dk_182 1 63 (dk_at dksX1_undo_1 0 rfl rfl)
theorem dX1_undo_27 : decode cX1_undo 27 = .ok (.iconst 1, 1) := dk_4 (dk_at dksX1_undo_1 3 rfl rfl)
theorem dX1_undo_28 : decode cX1_undo 28 = .ok (.isub, 1) := dk_100 (dk_at dksX1_undo_1 4 rfl rfl)
theorem dX1_undo_29 : decode cX1_undo 29 = .ok (.invokevirtual 481, 3) := dk_182 1 225 (dk_at dksX1_undo_1 5 rfl rfl)
theorem dX1_undo_32 : decode cX1_undo 32 = .ok (.checkcast 7, 3) := dk_192 0 7 (dk_at dksX1_undo_1 8 rfl rfl)
theorem dX1_undo_35 : decode cX1_undo 35 = .ok (.invokevirtual 204, 3) := dk_182 0 204 (dk_at dksX1_undo_1 11 rfl rfl)
theorem dX1_undo_38 : decode cX1_undo 38 = .ok (.pop, 1) := dk_87 (dk_at dksX1_undo_1 14 rfl rfl)
theorem dX1_undo_39 : decode cX1_undo 39 = .ok (.iconst 1, 1) := dk_4 (dk_at dksX1_undo_1 15 rfl rfl)
theorem dX1_undo_40 : decode cX1_undo 40 = .ok (.ireturn, 1) := dk_172 (dk_at dksX1_undo_1 16 rfl rfl)
abbrev cX1_image : ByteArray := prog_1_method_94_code
def yX1_image : MethodName := ⟨RX1, "image", "()V"⟩
def dkwX1_image_0 : List UInt8 := [42, 4, 181, 2, 82, 42, 180, 0, 19, 42, 180, 0, 10, 182, 0, 204, 87, 177]
abbrev dktX1_image_0 : List UInt8 := dkwX1_image_0 ++ []
theorem dksX1_image_0 : cX1_image.data.toList.drop 0 = dktX1_image_0 := by decide +kernel
theorem dX1_image_0 : decode cX1_image 0 = .ok (.aload_n 0, 1) := dk_42 (dk_at dksX1_image_0 0 rfl rfl)
theorem dX1_image_1 : decode cX1_image 1 = .ok (.iconst 1, 1) := dk_4 (dk_at dksX1_image_0 1 rfl rfl)
theorem dX1_image_2 : decode cX1_image 2 = .ok (.putfield 594, 3) := dk_181 2 82 (dk_at dksX1_image_0 2 rfl rfl)
theorem dX1_image_5 : decode cX1_image 5 = .ok (.aload_n 0, 1) := dk_42 (dk_at dksX1_image_0 5 rfl rfl)
theorem dX1_image_6 : decode cX1_image 6 = .ok (.getfield 19, 3) := dk_180 0 19 (dk_at dksX1_image_0 6 rfl rfl)
theorem dX1_image_9 : decode cX1_image 9 = .ok (.aload_n 0, 1) := dk_42 (dk_at dksX1_image_0 9 rfl rfl)
theorem dX1_image_10 : decode cX1_image 10 = .ok (.getfield 10, 3) := dk_180 0 10 (dk_at dksX1_image_0 10 rfl rfl)
theorem dX1_image_13 : decode cX1_image 13 = .ok (.invokevirtual 204, 3) := dk_182 0 204 (dk_at dksX1_image_0 13 rfl rfl)
theorem dX1_image_16 : decode cX1_image 16 = .ok (.pop, 1) := dk_87 (dk_at dksX1_image_0 16 rfl rfl)
theorem dX1_image_17 : decode cX1_image 17 = .ok (.return_, 1) := dk_177 (dk_at dksX1_image_0 17 rfl rfl)
abbrev cX1_back : ByteArray := prog_1_method_95_code
def yX1_back : MethodName := ⟨RX1, "back", "()Z"⟩
def dkwX1_back_1 : List UInt8 := [180, 0, 42, 182, 0, 222, 4, 172]
abbrev dktX1_back_1 : List UInt8 := dkwX1_back_1 ++ []
def dkwX1_back_0 : List UInt8 := [42, 180, 2, 82, 154, 0, 5, 3, 172, 42, 180, 0, 10, 42, 180, 0, 19, 182, 0, 204, 87, 42]
abbrev dktX1_back_0 : List UInt8 := dkwX1_back_0 ++ dktX1_back_1
theorem dksX1_back_0 : cX1_back.data.toList.drop 0 = dktX1_back_0 := by decide +kernel
theorem dksX1_back_1 : cX1_back.data.toList.drop 22 = dktX1_back_1 := dk_seg dksX1_back_0 22 rfl rfl
theorem dX1_back_0 : decode cX1_back 0 = .ok (.aload_n 0, 1) := dk_42 (dk_at dksX1_back_0 0 rfl rfl)
theorem dX1_back_1 : decode cX1_back 1 = .ok (.getfield 594, 3) := dk_180 2 82 (dk_at dksX1_back_0 1 rfl rfl)
theorem dX1_back_4 : decode cX1_back 4 = .ok (.ifCond .ne 5, 3) := dk_154 0 5 (dk_at dksX1_back_0 4 rfl rfl)
theorem dX1_back_7 : decode cX1_back 7 = .ok (.iconst 0, 1) := dk_3 (dk_at dksX1_back_0 7 rfl rfl)
theorem dX1_back_8 : decode cX1_back 8 = .ok (.ireturn, 1) := dk_172 (dk_at dksX1_back_0 8 rfl rfl)
theorem dX1_back_9 : decode cX1_back 9 = .ok (.aload_n 0, 1) := dk_42 (dk_at dksX1_back_0 9 rfl rfl)
theorem dX1_back_10 : decode cX1_back 10 = .ok (.getfield 10, 3) := dk_180 0 10 (dk_at dksX1_back_0 10 rfl rfl)
theorem dX1_back_13 : decode cX1_back 13 = .ok (.aload_n 0, 1) := dk_42 (dk_at dksX1_back_0 13 rfl rfl)
theorem dX1_back_14 : decode cX1_back 14 = .ok (.getfield 19, 3) := dk_180 0 19 (dk_at dksX1_back_0 14 rfl rfl)
theorem dX1_back_17 : decode cX1_back 17 = .ok (.invokevirtual 204, 3) := dk_182 0 204 (dk_at dksX1_back_0 17 rfl rfl)
theorem dX1_back_20 : decode cX1_back 20 = .ok (.pop, 1) := dk_87 (dk_at dksX1_back_0 20 rfl rfl)
theorem dX1_back_21 : decode cX1_back 21 = .ok (.aload_n 0, 1) := dk_42 (dk_at dksX1_back_0 21 rfl rfl)
theorem dX1_back_22 : decode cX1_back 22 = .ok (.getfield 42, 3) := dk_180 0 42 (dk_at dksX1_back_1 0 rfl rfl)
theorem dX1_back_25 : decode cX1_back 25 = .ok (.invokevirtual 222, 3) := dk_182 0 222 (dk_at dksX1_back_1 3 rfl rfl)
theorem dX1_back_28 : decode cX1_back 28 = .ok (.iconst 1, 1) := dk_4 (dk_at dksX1_back_1 6 rfl rfl)
theorem dX1_back_29 : decode cX1_back 29 = .ok (.ireturn, 1) := dk_172 (dk_at dksX1_back_1 7 rfl rfl)
abbrev cX1_count : ByteArray := prog_1_method_96_code
def yX1_count : MethodName := ⟨RX1, "count", "(I)I"⟩
def dkwX1_count_6 : List UInt8 := [182, 1, 63, 172, 2, 172]
abbrev dktX1_count_6 : List UInt8 := dkwX1_count_6 ++ []
def dkwX1_count_5 : List UInt8 := [44, 182, 2, 55, 182, 1, 195, 172, 44, 182, 2, 61, 172, 44, 180, 2, 73, 172, 42, 180, 0, 42]
abbrev dktX1_count_5 : List UInt8 := dkwX1_count_5 ++ dktX1_count_6
def dkwX1_count_4 : List UInt8 := [44, 182, 2, 64, 172, 44, 3, 182, 2, 85, 172, 44, 4, 182, 2, 85, 172, 44, 5, 182, 2, 85, 172, 44]
abbrev dktX1_count_4 : List UInt8 := dkwX1_count_4 ++ dktX1_count_5
def dkwX1_count_3 : List UInt8 := [167, 0, 13, 44, 180, 1, 74, 180, 1, 60, 182, 1, 63, 172, 44, 180, 0, 176, 172, 44, 180, 0, 174, 172]
abbrev dktX1_count_3 : List UInt8 := dkwX1_count_3 ++ dktX1_count_4
def dkwX1_count_2 : List UInt8 := [44, 180, 0, 96, 172, 44, 180, 0, 133, 172, 44, 180, 0, 216, 172, 44, 180, 1, 74, 199, 0, 7, 2]
abbrev dktX1_count_2 : List UInt8 := dkwX1_count_2 ++ dktX1_count_3
def dkwX1_count_1 : List UInt8 := [170, 0, 0, 0, 0, 167, 0, 0, 0, 0, 0, 0, 0, 13, 0, 0, 0, 70, 0, 0, 0, 75, 0, 0, 0, 80, 0, 0, 0, 85, 0, 0, 0, 107, 0, 0, 0, 112, 0, 0, 0, 117, 0, 0, 0, 122, 0, 0, 0, 128, 0, 0, 0, 134, 0, 0, 0, 140, 0, 0, 0, 149, 0, 0, 0, 154, 0, 0, 0, 159]
abbrev dktX1_count_1 : List UInt8 := dkwX1_count_1 ++ dktX1_count_2
def dkwX1_count_0 : List UInt8 := [42, 180, 0, 10, 77, 27]
abbrev dktX1_count_0 : List UInt8 := dkwX1_count_0 ++ dktX1_count_1
theorem dksX1_count_0 : cX1_count.data.toList.drop 0 = dktX1_count_0 := by decide +kernel
theorem dksX1_count_1 : cX1_count.data.toList.drop 6 = dktX1_count_1 := dk_seg dksX1_count_0 6 rfl rfl
theorem dksX1_count_2 : cX1_count.data.toList.drop 76 = dktX1_count_2 := dk_seg dksX1_count_1 70 rfl rfl
theorem dksX1_count_3 : cX1_count.data.toList.drop 99 = dktX1_count_3 := dk_seg dksX1_count_2 23 rfl rfl
theorem dksX1_count_4 : cX1_count.data.toList.drop 123 = dktX1_count_4 := dk_seg dksX1_count_3 24 rfl rfl
theorem dksX1_count_5 : cX1_count.data.toList.drop 147 = dktX1_count_5 := dk_seg dksX1_count_4 24 rfl rfl
theorem dksX1_count_6 : cX1_count.data.toList.drop 169 = dktX1_count_6 := dk_seg dksX1_count_5 22 rfl rfl
theorem dX1_count_0 : decode cX1_count 0 = .ok (.aload_n 0, 1) := dk_42 (dk_at dksX1_count_0 0 rfl rfl)
theorem dX1_count_1 : decode cX1_count 1 = .ok (.getfield 10, 3) := dk_180 0 10 (dk_at dksX1_count_0 1 rfl rfl)
theorem dX1_count_4 : decode cX1_count 4 = .ok (.astore_n 2, 1) := dk_77 (dk_at dksX1_count_0 4 rfl rfl)
theorem dX1_count_5 : decode cX1_count 5 = .ok (.iload_n 1, 1) := dk_27 (dk_at dksX1_count_0 5 rfl rfl)
theorem dX1_count_6 : decode cX1_count 6 = .ok (.tableswitch 167 0 13 #[70, 75, 80, 85, 107, 112, 117, 122, 128, 134, 140, 149, 154, 159], 70) := by decide +kernel
theorem dX1_count_76 : decode cX1_count 76 = .ok (.aload_n 2, 1) := dk_44 (dk_at dksX1_count_2 0 rfl rfl)
theorem dX1_count_77 : decode cX1_count 77 = .ok (.getfield 96, 3) := dk_180 0 96 (dk_at dksX1_count_2 1 rfl rfl)
theorem dX1_count_80 : decode cX1_count 80 = .ok (.ireturn, 1) := dk_172 (dk_at dksX1_count_2 4 rfl rfl)
theorem dX1_count_81 : decode cX1_count 81 = .ok (.aload_n 2, 1) := dk_44 (dk_at dksX1_count_2 5 rfl rfl)
theorem dX1_count_82 : decode cX1_count 82 = .ok (.getfield 133, 3) := dk_180 0 133 (dk_at dksX1_count_2 6 rfl rfl)
theorem dX1_count_85 : decode cX1_count 85 = .ok (.ireturn, 1) := dk_172 (dk_at dksX1_count_2 9 rfl rfl)
theorem dX1_count_86 : decode cX1_count 86 = .ok (.aload_n 2, 1) := dk_44 (dk_at dksX1_count_2 10 rfl rfl)
theorem dX1_count_87 : decode cX1_count 87 = .ok (.getfield 216, 3) := dk_180 0 216 (dk_at dksX1_count_2 11 rfl rfl)
theorem dX1_count_90 : decode cX1_count 90 = .ok (.ireturn, 1) := dk_172 (dk_at dksX1_count_2 14 rfl rfl)
theorem dX1_count_91 : decode cX1_count 91 = .ok (.aload_n 2, 1) := dk_44 (dk_at dksX1_count_2 15 rfl rfl)
theorem dX1_count_92 : decode cX1_count 92 = .ok (.getfield 330, 3) := dk_180 1 74 (dk_at dksX1_count_2 16 rfl rfl)
theorem dX1_count_95 : decode cX1_count 95 = .ok (.ifnonnull 7, 3) := dk_199 0 7 (dk_at dksX1_count_2 19 rfl rfl)
theorem dX1_count_98 : decode cX1_count 98 = .ok (.iconst (-1), 1) := dk_2 (dk_at dksX1_count_2 22 rfl rfl)
theorem dX1_count_99 : decode cX1_count 99 = .ok (.goto 13, 3) := dk_167 0 13 (dk_at dksX1_count_3 0 rfl rfl)
theorem dX1_count_102 : decode cX1_count 102 = .ok (.aload_n 2, 1) := dk_44 (dk_at dksX1_count_3 3 rfl rfl)
theorem dX1_count_103 : decode cX1_count 103 = .ok (.getfield 330, 3) := dk_180 1 74 (dk_at dksX1_count_3 4 rfl rfl)
theorem dX1_count_106 : decode cX1_count 106 = .ok (.getfield 316, 3) := dk_180 1 60 (dk_at dksX1_count_3 7 rfl rfl)
theorem dX1_count_109 : decode cX1_count 109 = .ok (.invokevirtual 319, 3) := dk_182 1 63 (dk_at dksX1_count_3 10 rfl rfl)
theorem dX1_count_112 : decode cX1_count 112 = .ok (.ireturn, 1) := dk_172 (dk_at dksX1_count_3 13 rfl rfl)
theorem dX1_count_113 : decode cX1_count 113 = .ok (.aload_n 2, 1) := dk_44 (dk_at dksX1_count_3 14 rfl rfl)
theorem dX1_count_114 : decode cX1_count 114 = .ok (.getfield 176, 3) := dk_180 0 176 (dk_at dksX1_count_3 15 rfl rfl)
theorem dX1_count_117 : decode cX1_count 117 = .ok (.ireturn, 1) := dk_172 (dk_at dksX1_count_3 18 rfl rfl)
theorem dX1_count_118 : decode cX1_count 118 = .ok (.aload_n 2, 1) := dk_44 (dk_at dksX1_count_3 19 rfl rfl)
theorem dX1_count_119 : decode cX1_count 119 = .ok (.getfield 174, 3) := dk_180 0 174 (dk_at dksX1_count_3 20 rfl rfl)
theorem dX1_count_122 : decode cX1_count 122 = .ok (.ireturn, 1) := dk_172 (dk_at dksX1_count_3 23 rfl rfl)
theorem dX1_count_123 : decode cX1_count 123 = .ok (.aload_n 2, 1) := dk_44 (dk_at dksX1_count_4 0 rfl rfl)
theorem dX1_count_124 : decode cX1_count 124 = .ok (.invokevirtual 576, 3) := dk_182 2 64 (dk_at dksX1_count_4 1 rfl rfl)
theorem dX1_count_127 : decode cX1_count 127 = .ok (.ireturn, 1) := dk_172 (dk_at dksX1_count_4 4 rfl rfl)
theorem dX1_count_128 : decode cX1_count 128 = .ok (.aload_n 2, 1) := dk_44 (dk_at dksX1_count_4 5 rfl rfl)
theorem dX1_count_129 : decode cX1_count 129 = .ok (.iconst 0, 1) := dk_3 (dk_at dksX1_count_4 6 rfl rfl)
theorem dX1_count_130 : decode cX1_count 130 = .ok (.invokevirtual 597, 3) := dk_182 2 85 (dk_at dksX1_count_4 7 rfl rfl)
theorem dX1_count_133 : decode cX1_count 133 = .ok (.ireturn, 1) := dk_172 (dk_at dksX1_count_4 10 rfl rfl)
theorem dX1_count_134 : decode cX1_count 134 = .ok (.aload_n 2, 1) := dk_44 (dk_at dksX1_count_4 11 rfl rfl)
theorem dX1_count_135 : decode cX1_count 135 = .ok (.iconst 1, 1) := dk_4 (dk_at dksX1_count_4 12 rfl rfl)
theorem dX1_count_136 : decode cX1_count 136 = .ok (.invokevirtual 597, 3) := dk_182 2 85 (dk_at dksX1_count_4 13 rfl rfl)
theorem dX1_count_139 : decode cX1_count 139 = .ok (.ireturn, 1) := dk_172 (dk_at dksX1_count_4 16 rfl rfl)
theorem dX1_count_140 : decode cX1_count 140 = .ok (.aload_n 2, 1) := dk_44 (dk_at dksX1_count_4 17 rfl rfl)
theorem dX1_count_141 : decode cX1_count 141 = .ok (.iconst 2, 1) := dk_5 (dk_at dksX1_count_4 18 rfl rfl)
theorem dX1_count_142 : decode cX1_count 142 = .ok (.invokevirtual 597, 3) := dk_182 2 85 (dk_at dksX1_count_4 19 rfl rfl)
theorem dX1_count_145 : decode cX1_count 145 = .ok (.ireturn, 1) := dk_172 (dk_at dksX1_count_4 22 rfl rfl)
theorem dX1_count_146 : decode cX1_count 146 = .ok (.aload_n 2, 1) := dk_44 (dk_at dksX1_count_4 23 rfl rfl)
theorem dX1_count_147 : decode cX1_count 147 = .ok (.aload_n 2, 1) := dk_44 (dk_at dksX1_count_5 0 rfl rfl)
theorem dX1_count_148 : decode cX1_count 148 = .ok (.invokevirtual 567, 3) := dk_182 2 55 (dk_at dksX1_count_5 1 rfl rfl)
theorem dX1_count_151 : decode cX1_count 151 = .ok (.invokevirtual 451, 3) := dk_182 1 195 (dk_at dksX1_count_5 4 rfl rfl)
theorem dX1_count_154 : decode cX1_count 154 = .ok (.ireturn, 1) := dk_172 (dk_at dksX1_count_5 7 rfl rfl)
theorem dX1_count_155 : decode cX1_count 155 = .ok (.aload_n 2, 1) := dk_44 (dk_at dksX1_count_5 8 rfl rfl)
theorem dX1_count_156 : decode cX1_count 156 = .ok (.invokevirtual 573, 3) := dk_182 2 61 (dk_at dksX1_count_5 9 rfl rfl)
theorem dX1_count_159 : decode cX1_count 159 = .ok (.ireturn, 1) := dk_172 (dk_at dksX1_count_5 12 rfl rfl)
theorem dX1_count_160 : decode cX1_count 160 = .ok (.aload_n 2, 1) := dk_44 (dk_at dksX1_count_5 13 rfl rfl)
theorem dX1_count_161 : decode cX1_count 161 = .ok (.getfield 585, 3) := dk_180 2 73 (dk_at dksX1_count_5 14 rfl rfl)
theorem dX1_count_164 : decode cX1_count 164 = .ok (.ireturn, 1) := dk_172 (dk_at dksX1_count_5 17 rfl rfl)
theorem dX1_count_165 : decode cX1_count 165 = .ok (.aload_n 0, 1) := dk_42 (dk_at dksX1_count_5 18 rfl rfl)
theorem dX1_count_166 : decode cX1_count 166 = .ok (.getfield 42, 3) := dk_180 0 42 (dk_at dksX1_count_5 19 rfl rfl)
theorem dX1_count_169 : decode cX1_count 169 = .ok (.invokevirtual 319, 3) := dk_182 1 63 (dk_at dksX1_count_6 0 rfl rfl)
theorem dX1_count_172 : decode cX1_count 172 = .ok (.ireturn, 1) := dk_172 (dk_at dksX1_count_6 3 rfl rfl)
theorem dX1_count_173 : decode cX1_count 173 = .ok (.iconst (-1), 1) := dk_2 (dk_at dksX1_count_6 4 rfl rfl)
theorem dX1_count_174 : decode cX1_count 174 = .ok (.ireturn, 1) := dk_172 (dk_at dksX1_count_6 5 rfl rfl)
abbrev cX1_valley : ByteArray := prog_1_method_16_code
def yX1_valley : MethodName := ⟨RX1, "valley", "()I"⟩
def dkwX1_valley_4 : List UInt8 := [42, 180, 0, 10, 180, 0, 216, 172]
abbrev dktX1_valley_4 : List UInt8 := dkwX1_valley_4 ++ []
def dkwX1_valley_3 : List UInt8 := [4, 96, 181, 0, 216, 42, 180, 0, 10, 42, 180, 0, 16, 182, 0, 204, 87, 42, 180, 0, 42, 182, 0, 222]
abbrev dktX1_valley_3 : List UInt8 := dkwX1_valley_3 ++ dktX1_valley_4
def dkwX1_valley_2 : List UInt8 := [180, 0, 216, 16, 12, 160, 0, 11, 187, 0, 219, 89, 183, 0, 221, 191, 42, 180, 0, 16, 89, 180, 0, 216]
abbrev dktX1_valley_2 : List UInt8 := dkwX1_valley_2 ++ dktX1_valley_3
def dkwX1_valley_1 : List UInt8 := [182, 0, 208, 42, 180, 0, 25, 2, 181, 0, 70, 167, 0, 8, 76, 42, 182, 0, 213, 42, 180, 0, 10]
abbrev dktX1_valley_1 : List UInt8 := dkwX1_valley_1 ++ dktX1_valley_2
def dkwX1_valley_0 : List UInt8 := [42, 180, 0, 25, 182, 0, 201, 42, 180, 0, 16, 42, 180, 0, 10, 182, 0, 204, 87, 42, 42, 180, 0, 16]
abbrev dktX1_valley_0 : List UInt8 := dkwX1_valley_0 ++ dktX1_valley_1
theorem dksX1_valley_0 : cX1_valley.data.toList.drop 0 = dktX1_valley_0 := by decide +kernel
theorem dksX1_valley_1 : cX1_valley.data.toList.drop 24 = dktX1_valley_1 := dk_seg dksX1_valley_0 24 rfl rfl
theorem dksX1_valley_2 : cX1_valley.data.toList.drop 47 = dktX1_valley_2 := dk_seg dksX1_valley_1 23 rfl rfl
theorem dksX1_valley_3 : cX1_valley.data.toList.drop 71 = dktX1_valley_3 := dk_seg dksX1_valley_2 24 rfl rfl
theorem dksX1_valley_4 : cX1_valley.data.toList.drop 95 = dktX1_valley_4 := dk_seg dksX1_valley_3 24 rfl rfl
theorem dX1_valley_0 : decode cX1_valley 0 = .ok (.aload_n 0, 1) := dk_42 (dk_at dksX1_valley_0 0 rfl rfl)
theorem dX1_valley_1 : decode cX1_valley 1 = .ok (.getfield 25, 3) := dk_180 0 25 (dk_at dksX1_valley_0 1 rfl rfl)
theorem dX1_valley_4 : decode cX1_valley 4 = .ok (.invokevirtual 201, 3) := dk_182 0 201 (dk_at dksX1_valley_0 4 rfl rfl)
theorem dX1_valley_7 : decode cX1_valley 7 = .ok (.aload_n 0, 1) := dk_42 (dk_at dksX1_valley_0 7 rfl rfl)
theorem dX1_valley_8 : decode cX1_valley 8 = .ok (.getfield 16, 3) := dk_180 0 16 (dk_at dksX1_valley_0 8 rfl rfl)
theorem dX1_valley_11 : decode cX1_valley 11 = .ok (.aload_n 0, 1) := dk_42 (dk_at dksX1_valley_0 11 rfl rfl)
theorem dX1_valley_12 : decode cX1_valley 12 = .ok (.getfield 10, 3) := dk_180 0 10 (dk_at dksX1_valley_0 12 rfl rfl)
theorem dX1_valley_15 : decode cX1_valley 15 = .ok (.invokevirtual 204, 3) := dk_182 0 204 (dk_at dksX1_valley_0 15 rfl rfl)
theorem dX1_valley_18 : decode cX1_valley 18 = .ok (.pop, 1) := dk_87 (dk_at dksX1_valley_0 18 rfl rfl)
theorem dX1_valley_19 : decode cX1_valley 19 = .ok (.aload_n 0, 1) := dk_42 (dk_at dksX1_valley_0 19 rfl rfl)
theorem dX1_valley_20 : decode cX1_valley 20 = .ok (.aload_n 0, 1) := dk_42 (dk_at dksX1_valley_0 20 rfl rfl)
theorem dX1_valley_21 : decode cX1_valley 21 = .ok (.getfield 16, 3) := dk_180 0 16 (dk_at dksX1_valley_0 21 rfl rfl)
theorem dX1_valley_24 : decode cX1_valley 24 = .ok (.invokevirtual 208, 3) := dk_182 0 208 (dk_at dksX1_valley_1 0 rfl rfl)
theorem dX1_valley_27 : decode cX1_valley 27 = .ok (.aload_n 0, 1) := dk_42 (dk_at dksX1_valley_1 3 rfl rfl)
theorem dX1_valley_28 : decode cX1_valley 28 = .ok (.getfield 25, 3) := dk_180 0 25 (dk_at dksX1_valley_1 4 rfl rfl)
theorem dX1_valley_31 : decode cX1_valley 31 = .ok (.iconst (-1), 1) := dk_2 (dk_at dksX1_valley_1 7 rfl rfl)
theorem dX1_valley_32 : decode cX1_valley 32 = .ok (.putfield 70, 3) := dk_181 0 70 (dk_at dksX1_valley_1 8 rfl rfl)
theorem dX1_valley_35 : decode cX1_valley 35 = .ok (.goto 8, 3) := dk_167 0 8 (dk_at dksX1_valley_1 11 rfl rfl)
theorem dX1_valley_38 : decode cX1_valley 38 = .ok (.astore_n 1, 1) := dk_76 (dk_at dksX1_valley_1 14 rfl rfl)
theorem dX1_valley_39 : decode cX1_valley 39 = .ok (.aload_n 0, 1) := dk_42 (dk_at dksX1_valley_1 15 rfl rfl)
theorem dX1_valley_40 : decode cX1_valley 40 = .ok (.invokevirtual 213, 3) := dk_182 0 213 (dk_at dksX1_valley_1 16 rfl rfl)
theorem dX1_valley_43 : decode cX1_valley 43 = .ok (.aload_n 0, 1) := dk_42 (dk_at dksX1_valley_1 19 rfl rfl)
theorem dX1_valley_44 : decode cX1_valley 44 = .ok (.getfield 10, 3) := dk_180 0 10 (dk_at dksX1_valley_1 20 rfl rfl)
theorem dX1_valley_47 : decode cX1_valley 47 = .ok (.getfield 216, 3) := dk_180 0 216 (dk_at dksX1_valley_2 0 rfl rfl)
theorem dX1_valley_50 : decode cX1_valley 50 = .ok (.bipush 12, 2) := dk_16 12 (dk_at dksX1_valley_2 3 rfl rfl)
theorem dX1_valley_52 : decode cX1_valley 52 = .ok (.if_icmp .ne 11, 3) := dk_160 0 11 (dk_at dksX1_valley_2 5 rfl rfl)
theorem dX1_valley_55 : decode cX1_valley 55 = .ok (.new 219, 3) := dk_187 0 219 (dk_at dksX1_valley_2 8 rfl rfl)
theorem dX1_valley_58 : decode cX1_valley 58 = .ok (.dup, 1) := dk_89 (dk_at dksX1_valley_2 11 rfl rfl)
theorem dX1_valley_59 : decode cX1_valley 59 = .ok (.invokespecial 221, 3) := dk_183 0 221 (dk_at dksX1_valley_2 12 rfl rfl)
theorem dX1_valley_62 : decode cX1_valley 62 = .ok (.athrow, 1) := dk_191 (dk_at dksX1_valley_2 15 rfl rfl)
theorem dX1_valley_63 : decode cX1_valley 63 = .ok (.aload_n 0, 1) := dk_42 (dk_at dksX1_valley_2 16 rfl rfl)
theorem dX1_valley_64 : decode cX1_valley 64 = .ok (.getfield 16, 3) := dk_180 0 16 (dk_at dksX1_valley_2 17 rfl rfl)
theorem dX1_valley_67 : decode cX1_valley 67 = .ok (.dup, 1) := dk_89 (dk_at dksX1_valley_2 20 rfl rfl)
theorem dX1_valley_68 : decode cX1_valley 68 = .ok (.getfield 216, 3) := dk_180 0 216 (dk_at dksX1_valley_2 21 rfl rfl)
theorem dX1_valley_71 : decode cX1_valley 71 = .ok (.iconst 1, 1) := dk_4 (dk_at dksX1_valley_3 0 rfl rfl)
theorem dX1_valley_72 : decode cX1_valley 72 = .ok (.iadd, 1) := dk_96 (dk_at dksX1_valley_3 1 rfl rfl)
theorem dX1_valley_73 : decode cX1_valley 73 = .ok (.putfield 216, 3) := dk_181 0 216 (dk_at dksX1_valley_3 2 rfl rfl)
theorem dX1_valley_76 : decode cX1_valley 76 = .ok (.aload_n 0, 1) := dk_42 (dk_at dksX1_valley_3 5 rfl rfl)
theorem dX1_valley_77 : decode cX1_valley 77 = .ok (.getfield 10, 3) := dk_180 0 10 (dk_at dksX1_valley_3 6 rfl rfl)
theorem dX1_valley_80 : decode cX1_valley 80 = .ok (.aload_n 0, 1) := dk_42 (dk_at dksX1_valley_3 9 rfl rfl)
theorem dX1_valley_81 : decode cX1_valley 81 = .ok (.getfield 16, 3) := dk_180 0 16 (dk_at dksX1_valley_3 10 rfl rfl)
theorem dX1_valley_84 : decode cX1_valley 84 = .ok (.invokevirtual 204, 3) := dk_182 0 204 (dk_at dksX1_valley_3 13 rfl rfl)
theorem dX1_valley_87 : decode cX1_valley 87 = .ok (.pop, 1) := dk_87 (dk_at dksX1_valley_3 16 rfl rfl)
theorem dX1_valley_88 : decode cX1_valley 88 = .ok (.aload_n 0, 1) := dk_42 (dk_at dksX1_valley_3 17 rfl rfl)
theorem dX1_valley_89 : decode cX1_valley 89 = .ok (.getfield 42, 3) := dk_180 0 42 (dk_at dksX1_valley_3 18 rfl rfl)
theorem dX1_valley_92 : decode cX1_valley 92 = .ok (.invokevirtual 222, 3) := dk_182 0 222 (dk_at dksX1_valley_3 21 rfl rfl)
theorem dX1_valley_95 : decode cX1_valley 95 = .ok (.aload_n 0, 1) := dk_42 (dk_at dksX1_valley_4 0 rfl rfl)
theorem dX1_valley_96 : decode cX1_valley 96 = .ok (.getfield 10, 3) := dk_180 0 10 (dk_at dksX1_valley_4 1 rfl rfl)
theorem dX1_valley_99 : decode cX1_valley 99 = .ok (.getfield 216, 3) := dk_180 0 216 (dk_at dksX1_valley_4 4 rfl rfl)
theorem dX1_valley_102 : decode cX1_valley 102 = .ok (.ireturn, 1) := dk_172 (dk_at dksX1_valley_4 7 rfl rfl)
abbrev cX1_valleyText : ByteArray := prog_1_method_12_code
def yX1_valleyText : MethodName := ⟨RX1, "valleyText", "(LStoneBacks$World;)V"⟩
def dkwX1_valleyText_1 : List UInt8 := [182, 0, 186, 132, 2, 1, 42, 182, 0, 189, 154, 255, 237, 177]
abbrev dktX1_valleyText_1 : List UInt8 := dkwX1_valleyText_1 ++ []
def dkwX1_valleyText_0 : List UInt8 := [42, 180, 0, 25, 182, 0, 178, 153, 0, 4, 177, 3, 61, 42, 28, 16, 14, 182, 0, 182, 42, 43]
abbrev dktX1_valleyText_0 : List UInt8 := dkwX1_valleyText_0 ++ dktX1_valleyText_1
theorem dksX1_valleyText_0 : cX1_valleyText.data.toList.drop 0 = dktX1_valleyText_0 := by decide +kernel
theorem dksX1_valleyText_1 : cX1_valleyText.data.toList.drop 22 = dktX1_valleyText_1 := dk_seg dksX1_valleyText_0 22 rfl rfl
theorem dX1_valleyText_0 : decode cX1_valleyText 0 = .ok (.aload_n 0, 1) := dk_42 (dk_at dksX1_valleyText_0 0 rfl rfl)
theorem dX1_valleyText_1 : decode cX1_valleyText 1 = .ok (.getfield 25, 3) := dk_180 0 25 (dk_at dksX1_valleyText_0 1 rfl rfl)
theorem dX1_valleyText_4 : decode cX1_valleyText 4 = .ok (.invokevirtual 178, 3) := dk_182 0 178 (dk_at dksX1_valleyText_0 4 rfl rfl)
theorem dX1_valleyText_7 : decode cX1_valleyText 7 = .ok (.ifCond .eq 4, 3) := dk_153 0 4 (dk_at dksX1_valleyText_0 7 rfl rfl)
theorem dX1_valleyText_10 : decode cX1_valleyText 10 = .ok (.return_, 1) := dk_177 (dk_at dksX1_valleyText_0 10 rfl rfl)
theorem dX1_valleyText_11 : decode cX1_valleyText 11 = .ok (.iconst 0, 1) := dk_3 (dk_at dksX1_valleyText_0 11 rfl rfl)
theorem dX1_valleyText_12 : decode cX1_valleyText 12 = .ok (.istore_n 2, 1) := dk_61 (dk_at dksX1_valleyText_0 12 rfl rfl)
theorem dX1_valleyText_13 : decode cX1_valleyText 13 = .ok (.aload_n 0, 1) := dk_42 (dk_at dksX1_valleyText_0 13 rfl rfl)
theorem dX1_valleyText_14 : decode cX1_valleyText 14 = .ok (.iload_n 2, 1) := dk_28 (dk_at dksX1_valleyText_0 14 rfl rfl)
theorem dX1_valleyText_15 : decode cX1_valleyText 15 = .ok (.bipush 14, 2) := dk_16 14 (dk_at dksX1_valleyText_0 15 rfl rfl)
theorem dX1_valleyText_17 : decode cX1_valleyText 17 = .ok (.invokevirtual 182, 3) := dk_182 0 182 (dk_at dksX1_valleyText_0 17 rfl rfl)
theorem dX1_valleyText_20 : decode cX1_valleyText 20 = .ok (.aload_n 0, 1) := dk_42 (dk_at dksX1_valleyText_0 20 rfl rfl)
theorem dX1_valleyText_21 : decode cX1_valleyText 21 = .ok (.aload_n 1, 1) := dk_43 (dk_at dksX1_valleyText_0 21 rfl rfl)
theorem dX1_valleyText_22 : decode cX1_valleyText 22 = .ok (.invokevirtual 186, 3) := dk_182 0 186 (dk_at dksX1_valleyText_1 0 rfl rfl)
theorem dX1_valleyText_25 : decode cX1_valleyText 25 = .ok (.iinc 2 1, 3) := dk_132 2 1 (dk_at dksX1_valleyText_1 3 rfl rfl)
theorem dX1_valleyText_28 : decode cX1_valleyText 28 = .ok (.aload_n 0, 1) := dk_42 (dk_at dksX1_valleyText_1 6 rfl rfl)
theorem dX1_valleyText_29 : decode cX1_valleyText 29 = .ok (.invokevirtual 189, 3) := dk_182 0 189 (dk_at dksX1_valleyText_1 7 rfl rfl)
theorem dX1_valleyText_32 : decode cX1_valleyText 32 = .ok (.ifCond .ne (-19), 3) := dk_154 255 237 (dk_at dksX1_valleyText_1 10 rfl rfl)
theorem dX1_valleyText_35 : decode cX1_valleyText 35 = .ok (.return_, 1) := dk_177 (dk_at dksX1_valleyText_1 13 rfl rfl)
abbrev cX1_noMore : ByteArray := prog_1_method_13_code
def yX1_noMore : MethodName := ⟨RX1, "noMore", "(II)V"⟩
def dkwX1_noMore_0 : List UInt8 := [27, 28, 162, 0, 4, 177, 42, 180, 0, 25, 182, 0, 74, 87, 42, 180, 0, 25, 182, 0, 84, 191]
abbrev dktX1_noMore_0 : List UInt8 := dkwX1_noMore_0 ++ []
theorem dksX1_noMore_0 : cX1_noMore.data.toList.drop 0 = dktX1_noMore_0 := by decide +kernel
theorem dX1_noMore_0 : decode cX1_noMore 0 = .ok (.iload_n 1, 1) := dk_27 (dk_at dksX1_noMore_0 0 rfl rfl)
theorem dX1_noMore_1 : decode cX1_noMore 1 = .ok (.iload_n 2, 1) := dk_28 (dk_at dksX1_noMore_0 1 rfl rfl)
theorem dX1_noMore_2 : decode cX1_noMore 2 = .ok (.if_icmp .ge 4, 3) := dk_162 0 4 (dk_at dksX1_noMore_0 2 rfl rfl)
theorem dX1_noMore_5 : decode cX1_noMore 5 = .ok (.return_, 1) := dk_177 (dk_at dksX1_noMore_0 5 rfl rfl)
theorem dX1_noMore_6 : decode cX1_noMore 6 = .ok (.aload_n 0, 1) := dk_42 (dk_at dksX1_noMore_0 6 rfl rfl)
theorem dX1_noMore_7 : decode cX1_noMore 7 = .ok (.getfield 25, 3) := dk_180 0 25 (dk_at dksX1_noMore_0 7 rfl rfl)
theorem dX1_noMore_10 : decode cX1_noMore 10 = .ok (.invokevirtual 74, 3) := dk_182 0 74 (dk_at dksX1_noMore_0 10 rfl rfl)
theorem dX1_noMore_13 : decode cX1_noMore 13 = .ok (.pop, 1) := dk_87 (dk_at dksX1_noMore_0 13 rfl rfl)
theorem dX1_noMore_14 : decode cX1_noMore 14 = .ok (.aload_n 0, 1) := dk_42 (dk_at dksX1_noMore_0 14 rfl rfl)
theorem dX1_noMore_15 : decode cX1_noMore 15 = .ok (.getfield 25, 3) := dk_180 0 25 (dk_at dksX1_noMore_0 15 rfl rfl)
theorem dX1_noMore_18 : decode cX1_noMore 18 = .ok (.invokevirtual 84, 3) := dk_182 0 84 (dk_at dksX1_noMore_0 18 rfl rfl)
theorem dX1_noMore_21 : decode cX1_noMore 21 = .ok (.athrow, 1) := dk_191 (dk_at dksX1_noMore_0 21 rfl rfl)
abbrev cX1_in : ByteArray := prog_1_method_2_code
def yX1_in : MethodName := ⟨RX1, "in", "(III)Z"⟩
def dkwX1_in_0 : List UInt8 := [26, 27, 161, 0, 12, 26, 28, 163, 0, 7, 4, 167, 0, 4, 3, 172]
abbrev dktX1_in_0 : List UInt8 := dkwX1_in_0 ++ []
theorem dksX1_in_0 : cX1_in.data.toList.drop 0 = dktX1_in_0 := by decide +kernel
theorem dX1_in_0 : decode cX1_in 0 = .ok (.iload_n 0, 1) := dk_26 (dk_at dksX1_in_0 0 rfl rfl)
theorem dX1_in_1 : decode cX1_in 1 = .ok (.iload_n 1, 1) := dk_27 (dk_at dksX1_in_0 1 rfl rfl)
theorem dX1_in_2 : decode cX1_in 2 = .ok (.if_icmp .lt 12, 3) := dk_161 0 12 (dk_at dksX1_in_0 2 rfl rfl)
theorem dX1_in_5 : decode cX1_in 5 = .ok (.iload_n 0, 1) := dk_26 (dk_at dksX1_in_0 5 rfl rfl)
theorem dX1_in_6 : decode cX1_in 6 = .ok (.iload_n 2, 1) := dk_28 (dk_at dksX1_in_0 6 rfl rfl)
theorem dX1_in_7 : decode cX1_in 7 = .ok (.if_icmp .gt 7, 3) := dk_163 0 7 (dk_at dksX1_in_0 7 rfl rfl)
theorem dX1_in_10 : decode cX1_in 10 = .ok (.iconst 1, 1) := dk_4 (dk_at dksX1_in_0 10 rfl rfl)
theorem dX1_in_11 : decode cX1_in 11 = .ok (.goto 4, 3) := dk_167 0 4 (dk_at dksX1_in_0 11 rfl rfl)
theorem dX1_in_14 : decode cX1_in 14 = .ok (.iconst 0, 1) := dk_3 (dk_at dksX1_in_0 14 rfl rfl)
theorem dX1_in_15 : decode cX1_in 15 = .ok (.ireturn, 1) := dk_172 (dk_at dksX1_in_0 15 rfl rfl)
abbrev cX1_valleyLine : ByteArray := prog_1_method_11_code
def yX1_valleyLine : MethodName := ⟨RX1, "valleyLine", "(LStoneBacks$World;)V"⟩
def dkwX1_valleyLine_10 : List UInt8 := [191]
abbrev dktX1_valleyLine_10 : List UInt8 := dkwX1_valleyLine_10 ++ []
def dkwX1_valleyLine_9 : List UInt8 := [182, 0, 92, 181, 0, 174, 177, 43, 44, 3, 17, 3, 231, 182, 0, 92, 181, 0, 176, 177, 44, 182, 0, 84]
abbrev dktX1_valleyLine_9 : List UInt8 := dkwX1_valleyLine_9 ++ dktX1_valleyLine_10
def dkwX1_valleyLine_8 : List UInt8 := [44, 3, 6, 182, 0, 92, 79, 177, 43, 180, 0, 172, 42, 182, 0, 122, 4, 84, 177, 43, 44, 4, 16, 99]
abbrev dktX1_valleyLine_8 : List UInt8 := dkwX1_valleyLine_8 ++ dktX1_valleyLine_9
def dkwX1_valleyLine_7 : List UInt8 := [42, 43, 182, 0, 163, 177, 42, 43, 182, 0, 167, 177, 42, 182, 0, 122, 54, 5, 43, 180, 0, 170, 21, 5]
abbrev dktX1_valleyLine_7 : List UInt8 := dkwX1_valleyLine_7 ++ dktX1_valleyLine_8
def dkwX1_valleyLine_6 : List UInt8 := [170, 0, 0, 0, 0, 0, 107, 0, 0, 0, 0, 0, 0, 0, 5, 0, 0, 0, 39, 0, 0, 0, 45, 0, 0, 0, 51, 0, 0, 0, 71, 0, 0, 0, 82, 0, 0, 0, 94]
abbrev dktX1_valleyLine_6 : List UInt8 := dkwX1_valleyLine_6 ++ dktX1_valleyLine_7
def dkwX1_valleyLine_5 : List UInt8 := [167, 0, 15, 45, 18, 161, 182, 0, 78, 153, 0, 6, 8, 54, 4, 21, 4]
abbrev dktX1_valleyLine_5 : List UInt8 := dkwX1_valleyLine_5 ++ dktX1_valleyLine_6
def dkwX1_valleyLine_4 : List UInt8 := [182, 0, 78, 153, 0, 36, 6, 54, 4, 167, 0, 30, 45, 18, 159, 182, 0, 78, 153, 0, 21, 7, 54, 4]
abbrev dktX1_valleyLine_4 : List UInt8 := dkwX1_valleyLine_4 ++ dktX1_valleyLine_5
def dkwX1_valleyLine_3 : List UInt8 := [4, 54, 4, 167, 0, 60, 45, 18, 155, 182, 0, 78, 153, 0, 51, 5, 54, 4, 167, 0, 45, 45, 18, 157]
abbrev dktX1_valleyLine_3 : List UInt8 := dkwX1_valleyLine_3 ++ dktX1_valleyLine_4
def dkwX1_valleyLine_2 : List UInt8 := [45, 18, 151, 182, 0, 78, 153, 0, 81, 3, 54, 4, 167, 0, 75, 45, 18, 153, 182, 0, 78, 153, 0, 66]
abbrev dktX1_valleyLine_2 : List UInt8 := dkwX1_valleyLine_2 ++ dktX1_valleyLine_3
def dkwX1_valleyLine_1 : List UInt8 := [171, 0, 0, 0, 0, 0, 146, 0, 0, 0, 6, 196, 227, 155, 85, 0, 0, 0, 59, 0, 48, 245, 228, 0, 0, 0, 134, 6, 35, 75, 187, 0, 0, 0, 119, 6, 94, 117, 248, 0, 0, 0, 104, 6, 135, 85, 171, 0, 0, 0, 89, 6, 138, 248, 101, 0, 0, 0, 74]
abbrev dktX1_valleyLine_1 : List UInt8 := dkwX1_valleyLine_1 ++ dktX1_valleyLine_2
def dkwX1_valleyLine_0 : List UInt8 := [42, 180, 0, 25, 77, 44, 182, 0, 74, 78, 2, 54, 4, 45, 182, 0, 148]
abbrev dktX1_valleyLine_0 : List UInt8 := dkwX1_valleyLine_0 ++ dktX1_valleyLine_1
theorem dksX1_valleyLine_0 : cX1_valleyLine.data.toList.drop 0 = dktX1_valleyLine_0 := by decide +kernel
theorem dksX1_valleyLine_1 : cX1_valleyLine.data.toList.drop 17 = dktX1_valleyLine_1 := dk_seg dksX1_valleyLine_0 17 rfl rfl
theorem dksX1_valleyLine_2 : cX1_valleyLine.data.toList.drop 76 = dktX1_valleyLine_2 := dk_seg dksX1_valleyLine_1 59 rfl rfl
theorem dksX1_valleyLine_3 : cX1_valleyLine.data.toList.drop 100 = dktX1_valleyLine_3 := dk_seg dksX1_valleyLine_2 24 rfl rfl
theorem dksX1_valleyLine_4 : cX1_valleyLine.data.toList.drop 124 = dktX1_valleyLine_4 := dk_seg dksX1_valleyLine_3 24 rfl rfl
theorem dksX1_valleyLine_5 : cX1_valleyLine.data.toList.drop 148 = dktX1_valleyLine_5 := dk_seg dksX1_valleyLine_4 24 rfl rfl
theorem dksX1_valleyLine_6 : cX1_valleyLine.data.toList.drop 165 = dktX1_valleyLine_6 := dk_seg dksX1_valleyLine_5 17 rfl rfl
theorem dksX1_valleyLine_7 : cX1_valleyLine.data.toList.drop 204 = dktX1_valleyLine_7 := dk_seg dksX1_valleyLine_6 39 rfl rfl
theorem dksX1_valleyLine_8 : cX1_valleyLine.data.toList.drop 228 = dktX1_valleyLine_8 := dk_seg dksX1_valleyLine_7 24 rfl rfl
theorem dksX1_valleyLine_9 : cX1_valleyLine.data.toList.drop 252 = dktX1_valleyLine_9 := dk_seg dksX1_valleyLine_8 24 rfl rfl
theorem dksX1_valleyLine_10 : cX1_valleyLine.data.toList.drop 276 = dktX1_valleyLine_10 := dk_seg dksX1_valleyLine_9 24 rfl rfl
theorem dX1_valleyLine_0 : decode cX1_valleyLine 0 = .ok (.aload_n 0, 1) := dk_42 (dk_at dksX1_valleyLine_0 0 rfl rfl)
theorem dX1_valleyLine_1 : decode cX1_valleyLine 1 = .ok (.getfield 25, 3) := dk_180 0 25 (dk_at dksX1_valleyLine_0 1 rfl rfl)
theorem dX1_valleyLine_4 : decode cX1_valleyLine 4 = .ok (.astore_n 2, 1) := dk_77 (dk_at dksX1_valleyLine_0 4 rfl rfl)
theorem dX1_valleyLine_5 : decode cX1_valleyLine 5 = .ok (.aload_n 2, 1) := dk_44 (dk_at dksX1_valleyLine_0 5 rfl rfl)
theorem dX1_valleyLine_6 : decode cX1_valleyLine 6 = .ok (.invokevirtual 74, 3) := dk_182 0 74 (dk_at dksX1_valleyLine_0 6 rfl rfl)
theorem dX1_valleyLine_9 : decode cX1_valleyLine 9 = .ok (.astore_n 3, 1) := dk_78 (dk_at dksX1_valleyLine_0 9 rfl rfl)
theorem dX1_valleyLine_10 : decode cX1_valleyLine 10 = .ok (.iconst (-1), 1) := dk_2 (dk_at dksX1_valleyLine_0 10 rfl rfl)
theorem dX1_valleyLine_11 : decode cX1_valleyLine 11 = .ok (.istore 4, 2) := dk_54 4 (dk_at dksX1_valleyLine_0 11 rfl rfl)
theorem dX1_valleyLine_13 : decode cX1_valleyLine 13 = .ok (.aload_n 3, 1) := dk_45 (dk_at dksX1_valleyLine_0 13 rfl rfl)
theorem dX1_valleyLine_14 : decode cX1_valleyLine 14 = .ok (.invokevirtual 148, 3) := dk_182 0 148 (dk_at dksX1_valleyLine_0 14 rfl rfl)
theorem dX1_valleyLine_17 : decode cX1_valleyLine 17 = .ok (.lookupswitch 146 #[(-991716523, 59), (3208676, 134), (102976443, 119), (106853880, 104), (109532587, 89), (109770853, 74)], 59) := by decide +kernel
theorem dX1_valleyLine_76 : decode cX1_valleyLine 76 = .ok (.aload_n 3, 1) := dk_45 (dk_at dksX1_valleyLine_2 0 rfl rfl)
theorem dX1_valleyLine_77 : decode cX1_valleyLine 77 = .ok (.ldc 151, 2) := dk_18 151 (dk_at dksX1_valleyLine_2 1 rfl rfl)
theorem dX1_valleyLine_79 : decode cX1_valleyLine 79 = .ok (.invokevirtual 78, 3) := dk_182 0 78 (dk_at dksX1_valleyLine_2 3 rfl rfl)
theorem dX1_valleyLine_82 : decode cX1_valleyLine 82 = .ok (.ifCond .eq 81, 3) := dk_153 0 81 (dk_at dksX1_valleyLine_2 6 rfl rfl)
theorem dX1_valleyLine_85 : decode cX1_valleyLine 85 = .ok (.iconst 0, 1) := dk_3 (dk_at dksX1_valleyLine_2 9 rfl rfl)
theorem dX1_valleyLine_86 : decode cX1_valleyLine 86 = .ok (.istore 4, 2) := dk_54 4 (dk_at dksX1_valleyLine_2 10 rfl rfl)
theorem dX1_valleyLine_88 : decode cX1_valleyLine 88 = .ok (.goto 75, 3) := dk_167 0 75 (dk_at dksX1_valleyLine_2 12 rfl rfl)
theorem dX1_valleyLine_91 : decode cX1_valleyLine 91 = .ok (.aload_n 3, 1) := dk_45 (dk_at dksX1_valleyLine_2 15 rfl rfl)
theorem dX1_valleyLine_92 : decode cX1_valleyLine 92 = .ok (.ldc 153, 2) := dk_18 153 (dk_at dksX1_valleyLine_2 16 rfl rfl)
theorem dX1_valleyLine_94 : decode cX1_valleyLine 94 = .ok (.invokevirtual 78, 3) := dk_182 0 78 (dk_at dksX1_valleyLine_2 18 rfl rfl)
theorem dX1_valleyLine_97 : decode cX1_valleyLine 97 = .ok (.ifCond .eq 66, 3) := dk_153 0 66 (dk_at dksX1_valleyLine_2 21 rfl rfl)
theorem dX1_valleyLine_100 : decode cX1_valleyLine 100 = .ok (.iconst 1, 1) := dk_4 (dk_at dksX1_valleyLine_3 0 rfl rfl)
theorem dX1_valleyLine_101 : decode cX1_valleyLine 101 = .ok (.istore 4, 2) := dk_54 4 (dk_at dksX1_valleyLine_3 1 rfl rfl)
theorem dX1_valleyLine_103 : decode cX1_valleyLine 103 = .ok (.goto 60, 3) := dk_167 0 60 (dk_at dksX1_valleyLine_3 3 rfl rfl)
theorem dX1_valleyLine_106 : decode cX1_valleyLine 106 = .ok (.aload_n 3, 1) := dk_45 (dk_at dksX1_valleyLine_3 6 rfl rfl)
theorem dX1_valleyLine_107 : decode cX1_valleyLine 107 = .ok (.ldc 155, 2) := dk_18 155 (dk_at dksX1_valleyLine_3 7 rfl rfl)
theorem dX1_valleyLine_109 : decode cX1_valleyLine 109 = .ok (.invokevirtual 78, 3) := dk_182 0 78 (dk_at dksX1_valleyLine_3 9 rfl rfl)
theorem dX1_valleyLine_112 : decode cX1_valleyLine 112 = .ok (.ifCond .eq 51, 3) := dk_153 0 51 (dk_at dksX1_valleyLine_3 12 rfl rfl)
theorem dX1_valleyLine_115 : decode cX1_valleyLine 115 = .ok (.iconst 2, 1) := dk_5 (dk_at dksX1_valleyLine_3 15 rfl rfl)
theorem dX1_valleyLine_116 : decode cX1_valleyLine 116 = .ok (.istore 4, 2) := dk_54 4 (dk_at dksX1_valleyLine_3 16 rfl rfl)
theorem dX1_valleyLine_118 : decode cX1_valleyLine 118 = .ok (.goto 45, 3) := dk_167 0 45 (dk_at dksX1_valleyLine_3 18 rfl rfl)
theorem dX1_valleyLine_121 : decode cX1_valleyLine 121 = .ok (.aload_n 3, 1) := dk_45 (dk_at dksX1_valleyLine_3 21 rfl rfl)
theorem dX1_valleyLine_122 : decode cX1_valleyLine 122 = .ok (.ldc 157, 2) := dk_18 157 (dk_at dksX1_valleyLine_3 22 rfl rfl)
theorem dX1_valleyLine_124 : decode cX1_valleyLine 124 = .ok (.invokevirtual 78, 3) := dk_182 0 78 (dk_at dksX1_valleyLine_4 0 rfl rfl)
theorem dX1_valleyLine_127 : decode cX1_valleyLine 127 = .ok (.ifCond .eq 36, 3) := dk_153 0 36 (dk_at dksX1_valleyLine_4 3 rfl rfl)
theorem dX1_valleyLine_130 : decode cX1_valleyLine 130 = .ok (.iconst 3, 1) := dk_6 (dk_at dksX1_valleyLine_4 6 rfl rfl)
theorem dX1_valleyLine_131 : decode cX1_valleyLine 131 = .ok (.istore 4, 2) := dk_54 4 (dk_at dksX1_valleyLine_4 7 rfl rfl)
theorem dX1_valleyLine_133 : decode cX1_valleyLine 133 = .ok (.goto 30, 3) := dk_167 0 30 (dk_at dksX1_valleyLine_4 9 rfl rfl)
theorem dX1_valleyLine_136 : decode cX1_valleyLine 136 = .ok (.aload_n 3, 1) := dk_45 (dk_at dksX1_valleyLine_4 12 rfl rfl)
theorem dX1_valleyLine_137 : decode cX1_valleyLine 137 = .ok (.ldc 159, 2) := dk_18 159 (dk_at dksX1_valleyLine_4 13 rfl rfl)
theorem dX1_valleyLine_139 : decode cX1_valleyLine 139 = .ok (.invokevirtual 78, 3) := dk_182 0 78 (dk_at dksX1_valleyLine_4 15 rfl rfl)
theorem dX1_valleyLine_142 : decode cX1_valleyLine 142 = .ok (.ifCond .eq 21, 3) := dk_153 0 21 (dk_at dksX1_valleyLine_4 18 rfl rfl)
theorem dX1_valleyLine_145 : decode cX1_valleyLine 145 = .ok (.iconst 4, 1) := dk_7 (dk_at dksX1_valleyLine_4 21 rfl rfl)
theorem dX1_valleyLine_146 : decode cX1_valleyLine 146 = .ok (.istore 4, 2) := dk_54 4 (dk_at dksX1_valleyLine_4 22 rfl rfl)
theorem dX1_valleyLine_148 : decode cX1_valleyLine 148 = .ok (.goto 15, 3) := dk_167 0 15 (dk_at dksX1_valleyLine_5 0 rfl rfl)
theorem dX1_valleyLine_151 : decode cX1_valleyLine 151 = .ok (.aload_n 3, 1) := dk_45 (dk_at dksX1_valleyLine_5 3 rfl rfl)
theorem dX1_valleyLine_152 : decode cX1_valleyLine 152 = .ok (.ldc 161, 2) := dk_18 161 (dk_at dksX1_valleyLine_5 4 rfl rfl)
theorem dX1_valleyLine_154 : decode cX1_valleyLine 154 = .ok (.invokevirtual 78, 3) := dk_182 0 78 (dk_at dksX1_valleyLine_5 6 rfl rfl)
theorem dX1_valleyLine_157 : decode cX1_valleyLine 157 = .ok (.ifCond .eq 6, 3) := dk_153 0 6 (dk_at dksX1_valleyLine_5 9 rfl rfl)
theorem dX1_valleyLine_160 : decode cX1_valleyLine 160 = .ok (.iconst 5, 1) := dk_8 (dk_at dksX1_valleyLine_5 12 rfl rfl)
theorem dX1_valleyLine_161 : decode cX1_valleyLine 161 = .ok (.istore 4, 2) := dk_54 4 (dk_at dksX1_valleyLine_5 13 rfl rfl)
theorem dX1_valleyLine_163 : decode cX1_valleyLine 163 = .ok (.iload 4, 2) := dk_21 4 (dk_at dksX1_valleyLine_5 15 rfl rfl)
theorem dX1_valleyLine_165 : decode cX1_valleyLine 165 = .ok (.tableswitch 107 0 5 #[39, 45, 51, 71, 82, 94], 39) := by decide +kernel
theorem dX1_valleyLine_204 : decode cX1_valleyLine 204 = .ok (.aload_n 0, 1) := dk_42 (dk_at dksX1_valleyLine_7 0 rfl rfl)
theorem dX1_valleyLine_205 : decode cX1_valleyLine 205 = .ok (.aload_n 1, 1) := dk_43 (dk_at dksX1_valleyLine_7 1 rfl rfl)
theorem dX1_valleyLine_206 : decode cX1_valleyLine 206 = .ok (.invokevirtual 163, 3) := dk_182 0 163 (dk_at dksX1_valleyLine_7 2 rfl rfl)
theorem dX1_valleyLine_209 : decode cX1_valleyLine 209 = .ok (.return_, 1) := dk_177 (dk_at dksX1_valleyLine_7 5 rfl rfl)
theorem dX1_valleyLine_210 : decode cX1_valleyLine 210 = .ok (.aload_n 0, 1) := dk_42 (dk_at dksX1_valleyLine_7 6 rfl rfl)
theorem dX1_valleyLine_211 : decode cX1_valleyLine 211 = .ok (.aload_n 1, 1) := dk_43 (dk_at dksX1_valleyLine_7 7 rfl rfl)
theorem dX1_valleyLine_212 : decode cX1_valleyLine 212 = .ok (.invokevirtual 167, 3) := dk_182 0 167 (dk_at dksX1_valleyLine_7 8 rfl rfl)
theorem dX1_valleyLine_215 : decode cX1_valleyLine 215 = .ok (.return_, 1) := dk_177 (dk_at dksX1_valleyLine_7 11 rfl rfl)
theorem dX1_valleyLine_216 : decode cX1_valleyLine 216 = .ok (.aload_n 0, 1) := dk_42 (dk_at dksX1_valleyLine_7 12 rfl rfl)
theorem dX1_valleyLine_217 : decode cX1_valleyLine 217 = .ok (.invokevirtual 122, 3) := dk_182 0 122 (dk_at dksX1_valleyLine_7 13 rfl rfl)
theorem dX1_valleyLine_220 : decode cX1_valleyLine 220 = .ok (.istore 5, 2) := dk_54 5 (dk_at dksX1_valleyLine_7 16 rfl rfl)
theorem dX1_valleyLine_222 : decode cX1_valleyLine 222 = .ok (.aload_n 1, 1) := dk_43 (dk_at dksX1_valleyLine_7 18 rfl rfl)
theorem dX1_valleyLine_223 : decode cX1_valleyLine 223 = .ok (.getfield 170, 3) := dk_180 0 170 (dk_at dksX1_valleyLine_7 19 rfl rfl)
theorem dX1_valleyLine_226 : decode cX1_valleyLine 226 = .ok (.iload 5, 2) := dk_21 5 (dk_at dksX1_valleyLine_7 22 rfl rfl)
theorem dX1_valleyLine_228 : decode cX1_valleyLine 228 = .ok (.aload_n 2, 1) := dk_44 (dk_at dksX1_valleyLine_8 0 rfl rfl)
theorem dX1_valleyLine_229 : decode cX1_valleyLine 229 = .ok (.iconst 0, 1) := dk_3 (dk_at dksX1_valleyLine_8 1 rfl rfl)
theorem dX1_valleyLine_230 : decode cX1_valleyLine 230 = .ok (.iconst 3, 1) := dk_6 (dk_at dksX1_valleyLine_8 2 rfl rfl)
theorem dX1_valleyLine_231 : decode cX1_valleyLine 231 = .ok (.invokevirtual 92, 3) := dk_182 0 92 (dk_at dksX1_valleyLine_8 3 rfl rfl)
theorem dX1_valleyLine_234 : decode cX1_valleyLine 234 = .ok (.iastore, 1) := dk_79 (dk_at dksX1_valleyLine_8 6 rfl rfl)
theorem dX1_valleyLine_235 : decode cX1_valleyLine 235 = .ok (.return_, 1) := dk_177 (dk_at dksX1_valleyLine_8 7 rfl rfl)
theorem dX1_valleyLine_236 : decode cX1_valleyLine 236 = .ok (.aload_n 1, 1) := dk_43 (dk_at dksX1_valleyLine_8 8 rfl rfl)
theorem dX1_valleyLine_237 : decode cX1_valleyLine 237 = .ok (.getfield 172, 3) := dk_180 0 172 (dk_at dksX1_valleyLine_8 9 rfl rfl)
theorem dX1_valleyLine_240 : decode cX1_valleyLine 240 = .ok (.aload_n 0, 1) := dk_42 (dk_at dksX1_valleyLine_8 12 rfl rfl)
theorem dX1_valleyLine_241 : decode cX1_valleyLine 241 = .ok (.invokevirtual 122, 3) := dk_182 0 122 (dk_at dksX1_valleyLine_8 13 rfl rfl)
theorem dX1_valleyLine_244 : decode cX1_valleyLine 244 = .ok (.iconst 1, 1) := dk_4 (dk_at dksX1_valleyLine_8 16 rfl rfl)
theorem dX1_valleyLine_245 : decode cX1_valleyLine 245 = .ok (.bastore, 1) := dk_84 (dk_at dksX1_valleyLine_8 17 rfl rfl)
theorem dX1_valleyLine_246 : decode cX1_valleyLine 246 = .ok (.return_, 1) := dk_177 (dk_at dksX1_valleyLine_8 18 rfl rfl)
theorem dX1_valleyLine_247 : decode cX1_valleyLine 247 = .ok (.aload_n 1, 1) := dk_43 (dk_at dksX1_valleyLine_8 19 rfl rfl)
theorem dX1_valleyLine_248 : decode cX1_valleyLine 248 = .ok (.aload_n 2, 1) := dk_44 (dk_at dksX1_valleyLine_8 20 rfl rfl)
theorem dX1_valleyLine_249 : decode cX1_valleyLine 249 = .ok (.iconst 1, 1) := dk_4 (dk_at dksX1_valleyLine_8 21 rfl rfl)
theorem dX1_valleyLine_250 : decode cX1_valleyLine 250 = .ok (.bipush 99, 2) := dk_16 99 (dk_at dksX1_valleyLine_8 22 rfl rfl)
theorem dX1_valleyLine_252 : decode cX1_valleyLine 252 = .ok (.invokevirtual 92, 3) := dk_182 0 92 (dk_at dksX1_valleyLine_9 0 rfl rfl)
theorem dX1_valleyLine_255 : decode cX1_valleyLine 255 = .ok (.putfield 174, 3) := dk_181 0 174 (dk_at dksX1_valleyLine_9 3 rfl rfl)
theorem dX1_valleyLine_258 : decode cX1_valleyLine 258 = .ok (.return_, 1) := dk_177 (dk_at dksX1_valleyLine_9 6 rfl rfl)
theorem dX1_valleyLine_259 : decode cX1_valleyLine 259 = .ok (.aload_n 1, 1) := dk_43 (dk_at dksX1_valleyLine_9 7 rfl rfl)
theorem dX1_valleyLine_260 : decode cX1_valleyLine 260 = .ok (.aload_n 2, 1) := dk_44 (dk_at dksX1_valleyLine_9 8 rfl rfl)
theorem dX1_valleyLine_261 : decode cX1_valleyLine 261 = .ok (.iconst 0, 1) := dk_3 (dk_at dksX1_valleyLine_9 9 rfl rfl)
theorem dX1_valleyLine_262 : decode cX1_valleyLine 262 = .ok (.sipush 999, 3) := dk_17 3 231 (dk_at dksX1_valleyLine_9 10 rfl rfl)
theorem dX1_valleyLine_265 : decode cX1_valleyLine 265 = .ok (.invokevirtual 92, 3) := dk_182 0 92 (dk_at dksX1_valleyLine_9 13 rfl rfl)
theorem dX1_valleyLine_268 : decode cX1_valleyLine 268 = .ok (.putfield 176, 3) := dk_181 0 176 (dk_at dksX1_valleyLine_9 16 rfl rfl)
theorem dX1_valleyLine_271 : decode cX1_valleyLine 271 = .ok (.return_, 1) := dk_177 (dk_at dksX1_valleyLine_9 19 rfl rfl)
theorem dX1_valleyLine_272 : decode cX1_valleyLine 272 = .ok (.aload_n 2, 1) := dk_44 (dk_at dksX1_valleyLine_9 20 rfl rfl)
theorem dX1_valleyLine_273 : decode cX1_valleyLine 273 = .ok (.invokevirtual 84, 3) := dk_182 0 84 (dk_at dksX1_valleyLine_9 21 rfl rfl)
theorem dX1_valleyLine_276 : decode cX1_valleyLine 276 = .ok (.athrow, 1) := dk_191 (dk_at dksX1_valleyLine_10 0 rfl rfl)
abbrev cX1_aPerson : ByteArray := prog_1_method_9_code
def yX1_aPerson : MethodName := ⟨RX1, "aPerson", "(LStoneBacks$World;)V"⟩
def dkwX1_aPerson_4 : List UInt8 := [180, 0, 126, 29, 3, 79, 43, 180, 0, 129, 29, 3, 84, 43, 89, 180, 0, 96, 4, 96, 181, 0, 96, 177]
abbrev dktX1_aPerson_4 : List UInt8 := dkwX1_aPerson_4 ++ []
def dkwX1_aPerson_3 : List UInt8 := [44, 18, 117, 182, 0, 118, 153, 0, 10, 42, 182, 0, 122, 167, 0, 9, 43, 180, 0, 110, 29, 46, 79, 43]
abbrev dktX1_aPerson_3 : List UInt8 := dkwX1_aPerson_3 ++ dktX1_aPerson_4
def dkwX1_aPerson_2 : List UInt8 := [182, 0, 106, 79, 43, 180, 0, 110, 29, 42, 18, 113, 3, 16, 11, 182, 0, 106, 79, 43, 180, 0, 114, 29]
abbrev dktX1_aPerson_2 : List UInt8 := dkwX1_aPerson_2 ++ dktX1_aPerson_3
def dkwX1_aPerson_1 : List UInt8 := [180, 0, 99, 29, 44, 3, 17, 3, 231, 182, 0, 92, 79, 43, 180, 0, 102, 29, 42, 18, 105, 4, 16, 60]
abbrev dktX1_aPerson_1 : List UInt8 := dkwX1_aPerson_1 ++ dktX1_aPerson_2
def dkwX1_aPerson_0 : List UInt8 := [42, 180, 0, 25, 77, 43, 180, 0, 96, 62, 29, 16, 6, 160, 0, 8, 44, 182, 0, 84, 191, 43]
abbrev dktX1_aPerson_0 : List UInt8 := dkwX1_aPerson_0 ++ dktX1_aPerson_1
theorem dksX1_aPerson_0 : cX1_aPerson.data.toList.drop 0 = dktX1_aPerson_0 := by decide +kernel
theorem dksX1_aPerson_1 : cX1_aPerson.data.toList.drop 22 = dktX1_aPerson_1 := dk_seg dksX1_aPerson_0 22 rfl rfl
theorem dksX1_aPerson_2 : cX1_aPerson.data.toList.drop 46 = dktX1_aPerson_2 := dk_seg dksX1_aPerson_1 24 rfl rfl
theorem dksX1_aPerson_3 : cX1_aPerson.data.toList.drop 70 = dktX1_aPerson_3 := dk_seg dksX1_aPerson_2 24 rfl rfl
theorem dksX1_aPerson_4 : cX1_aPerson.data.toList.drop 94 = dktX1_aPerson_4 := dk_seg dksX1_aPerson_3 24 rfl rfl
theorem dX1_aPerson_0 : decode cX1_aPerson 0 = .ok (.aload_n 0, 1) := dk_42 (dk_at dksX1_aPerson_0 0 rfl rfl)
theorem dX1_aPerson_1 : decode cX1_aPerson 1 = .ok (.getfield 25, 3) := dk_180 0 25 (dk_at dksX1_aPerson_0 1 rfl rfl)
theorem dX1_aPerson_4 : decode cX1_aPerson 4 = .ok (.astore_n 2, 1) := dk_77 (dk_at dksX1_aPerson_0 4 rfl rfl)
theorem dX1_aPerson_5 : decode cX1_aPerson 5 = .ok (.aload_n 1, 1) := dk_43 (dk_at dksX1_aPerson_0 5 rfl rfl)
theorem dX1_aPerson_6 : decode cX1_aPerson 6 = .ok (.getfield 96, 3) := dk_180 0 96 (dk_at dksX1_aPerson_0 6 rfl rfl)
theorem dX1_aPerson_9 : decode cX1_aPerson 9 = .ok (.istore_n 3, 1) := dk_62 (dk_at dksX1_aPerson_0 9 rfl rfl)
theorem dX1_aPerson_10 : decode cX1_aPerson 10 = .ok (.iload_n 3, 1) := dk_29 (dk_at dksX1_aPerson_0 10 rfl rfl)
theorem dX1_aPerson_11 : decode cX1_aPerson 11 = .ok (.bipush 6, 2) := dk_16 6 (dk_at dksX1_aPerson_0 11 rfl rfl)
theorem dX1_aPerson_13 : decode cX1_aPerson 13 = .ok (.if_icmp .ne 8, 3) := dk_160 0 8 (dk_at dksX1_aPerson_0 13 rfl rfl)
theorem dX1_aPerson_16 : decode cX1_aPerson 16 = .ok (.aload_n 2, 1) := dk_44 (dk_at dksX1_aPerson_0 16 rfl rfl)
theorem dX1_aPerson_17 : decode cX1_aPerson 17 = .ok (.invokevirtual 84, 3) := dk_182 0 84 (dk_at dksX1_aPerson_0 17 rfl rfl)
theorem dX1_aPerson_20 : decode cX1_aPerson 20 = .ok (.athrow, 1) := dk_191 (dk_at dksX1_aPerson_0 20 rfl rfl)
theorem dX1_aPerson_21 : decode cX1_aPerson 21 = .ok (.aload_n 1, 1) := dk_43 (dk_at dksX1_aPerson_0 21 rfl rfl)
theorem dX1_aPerson_22 : decode cX1_aPerson 22 = .ok (.getfield 99, 3) := dk_180 0 99 (dk_at dksX1_aPerson_1 0 rfl rfl)
theorem dX1_aPerson_25 : decode cX1_aPerson 25 = .ok (.iload_n 3, 1) := dk_29 (dk_at dksX1_aPerson_1 3 rfl rfl)
theorem dX1_aPerson_26 : decode cX1_aPerson 26 = .ok (.aload_n 2, 1) := dk_44 (dk_at dksX1_aPerson_1 4 rfl rfl)
theorem dX1_aPerson_27 : decode cX1_aPerson 27 = .ok (.iconst 0, 1) := dk_3 (dk_at dksX1_aPerson_1 5 rfl rfl)
theorem dX1_aPerson_28 : decode cX1_aPerson 28 = .ok (.sipush 999, 3) := dk_17 3 231 (dk_at dksX1_aPerson_1 6 rfl rfl)
theorem dX1_aPerson_31 : decode cX1_aPerson 31 = .ok (.invokevirtual 92, 3) := dk_182 0 92 (dk_at dksX1_aPerson_1 9 rfl rfl)
theorem dX1_aPerson_34 : decode cX1_aPerson 34 = .ok (.iastore, 1) := dk_79 (dk_at dksX1_aPerson_1 12 rfl rfl)
theorem dX1_aPerson_35 : decode cX1_aPerson 35 = .ok (.aload_n 1, 1) := dk_43 (dk_at dksX1_aPerson_1 13 rfl rfl)
theorem dX1_aPerson_36 : decode cX1_aPerson 36 = .ok (.getfield 102, 3) := dk_180 0 102 (dk_at dksX1_aPerson_1 14 rfl rfl)
theorem dX1_aPerson_39 : decode cX1_aPerson 39 = .ok (.iload_n 3, 1) := dk_29 (dk_at dksX1_aPerson_1 17 rfl rfl)
theorem dX1_aPerson_40 : decode cX1_aPerson 40 = .ok (.aload_n 0, 1) := dk_42 (dk_at dksX1_aPerson_1 18 rfl rfl)
theorem dX1_aPerson_41 : decode cX1_aPerson 41 = .ok (.ldc 105, 2) := dk_18 105 (dk_at dksX1_aPerson_1 19 rfl rfl)
theorem dX1_aPerson_43 : decode cX1_aPerson 43 = .ok (.iconst 1, 1) := dk_4 (dk_at dksX1_aPerson_1 21 rfl rfl)
theorem dX1_aPerson_44 : decode cX1_aPerson 44 = .ok (.bipush 60, 2) := dk_16 60 (dk_at dksX1_aPerson_1 22 rfl rfl)
theorem dX1_aPerson_46 : decode cX1_aPerson 46 = .ok (.invokevirtual 106, 3) := dk_182 0 106 (dk_at dksX1_aPerson_2 0 rfl rfl)
theorem dX1_aPerson_49 : decode cX1_aPerson 49 = .ok (.iastore, 1) := dk_79 (dk_at dksX1_aPerson_2 3 rfl rfl)
theorem dX1_aPerson_50 : decode cX1_aPerson 50 = .ok (.aload_n 1, 1) := dk_43 (dk_at dksX1_aPerson_2 4 rfl rfl)
theorem dX1_aPerson_51 : decode cX1_aPerson 51 = .ok (.getfield 110, 3) := dk_180 0 110 (dk_at dksX1_aPerson_2 5 rfl rfl)
theorem dX1_aPerson_54 : decode cX1_aPerson 54 = .ok (.iload_n 3, 1) := dk_29 (dk_at dksX1_aPerson_2 8 rfl rfl)
theorem dX1_aPerson_55 : decode cX1_aPerson 55 = .ok (.aload_n 0, 1) := dk_42 (dk_at dksX1_aPerson_2 9 rfl rfl)
theorem dX1_aPerson_56 : decode cX1_aPerson 56 = .ok (.ldc 113, 2) := dk_18 113 (dk_at dksX1_aPerson_2 10 rfl rfl)
theorem dX1_aPerson_58 : decode cX1_aPerson 58 = .ok (.iconst 0, 1) := dk_3 (dk_at dksX1_aPerson_2 12 rfl rfl)
theorem dX1_aPerson_59 : decode cX1_aPerson 59 = .ok (.bipush 11, 2) := dk_16 11 (dk_at dksX1_aPerson_2 13 rfl rfl)
theorem dX1_aPerson_61 : decode cX1_aPerson 61 = .ok (.invokevirtual 106, 3) := dk_182 0 106 (dk_at dksX1_aPerson_2 15 rfl rfl)
theorem dX1_aPerson_64 : decode cX1_aPerson 64 = .ok (.iastore, 1) := dk_79 (dk_at dksX1_aPerson_2 18 rfl rfl)
theorem dX1_aPerson_65 : decode cX1_aPerson 65 = .ok (.aload_n 1, 1) := dk_43 (dk_at dksX1_aPerson_2 19 rfl rfl)
theorem dX1_aPerson_66 : decode cX1_aPerson 66 = .ok (.getfield 114, 3) := dk_180 0 114 (dk_at dksX1_aPerson_2 20 rfl rfl)
theorem dX1_aPerson_69 : decode cX1_aPerson 69 = .ok (.iload_n 3, 1) := dk_29 (dk_at dksX1_aPerson_2 23 rfl rfl)
theorem dX1_aPerson_70 : decode cX1_aPerson 70 = .ok (.aload_n 2, 1) := dk_44 (dk_at dksX1_aPerson_3 0 rfl rfl)
theorem dX1_aPerson_71 : decode cX1_aPerson 71 = .ok (.ldc 117, 2) := dk_18 117 (dk_at dksX1_aPerson_3 1 rfl rfl)
theorem dX1_aPerson_73 : decode cX1_aPerson 73 = .ok (.invokevirtual 118, 3) := dk_182 0 118 (dk_at dksX1_aPerson_3 3 rfl rfl)
theorem dX1_aPerson_76 : decode cX1_aPerson 76 = .ok (.ifCond .eq 10, 3) := dk_153 0 10 (dk_at dksX1_aPerson_3 6 rfl rfl)
theorem dX1_aPerson_79 : decode cX1_aPerson 79 = .ok (.aload_n 0, 1) := dk_42 (dk_at dksX1_aPerson_3 9 rfl rfl)
theorem dX1_aPerson_80 : decode cX1_aPerson 80 = .ok (.invokevirtual 122, 3) := dk_182 0 122 (dk_at dksX1_aPerson_3 10 rfl rfl)
theorem dX1_aPerson_83 : decode cX1_aPerson 83 = .ok (.goto 9, 3) := dk_167 0 9 (dk_at dksX1_aPerson_3 13 rfl rfl)
theorem dX1_aPerson_86 : decode cX1_aPerson 86 = .ok (.aload_n 1, 1) := dk_43 (dk_at dksX1_aPerson_3 16 rfl rfl)
theorem dX1_aPerson_87 : decode cX1_aPerson 87 = .ok (.getfield 110, 3) := dk_180 0 110 (dk_at dksX1_aPerson_3 17 rfl rfl)
theorem dX1_aPerson_90 : decode cX1_aPerson 90 = .ok (.iload_n 3, 1) := dk_29 (dk_at dksX1_aPerson_3 20 rfl rfl)
theorem dX1_aPerson_91 : decode cX1_aPerson 91 = .ok (.iaload, 1) := dk_46 (dk_at dksX1_aPerson_3 21 rfl rfl)
theorem dX1_aPerson_92 : decode cX1_aPerson 92 = .ok (.iastore, 1) := dk_79 (dk_at dksX1_aPerson_3 22 rfl rfl)
theorem dX1_aPerson_93 : decode cX1_aPerson 93 = .ok (.aload_n 1, 1) := dk_43 (dk_at dksX1_aPerson_3 23 rfl rfl)
theorem dX1_aPerson_94 : decode cX1_aPerson 94 = .ok (.getfield 126, 3) := dk_180 0 126 (dk_at dksX1_aPerson_4 0 rfl rfl)
theorem dX1_aPerson_97 : decode cX1_aPerson 97 = .ok (.iload_n 3, 1) := dk_29 (dk_at dksX1_aPerson_4 3 rfl rfl)
theorem dX1_aPerson_98 : decode cX1_aPerson 98 = .ok (.iconst 0, 1) := dk_3 (dk_at dksX1_aPerson_4 4 rfl rfl)
theorem dX1_aPerson_99 : decode cX1_aPerson 99 = .ok (.iastore, 1) := dk_79 (dk_at dksX1_aPerson_4 5 rfl rfl)
theorem dX1_aPerson_100 : decode cX1_aPerson 100 = .ok (.aload_n 1, 1) := dk_43 (dk_at dksX1_aPerson_4 6 rfl rfl)
theorem dX1_aPerson_101 : decode cX1_aPerson 101 = .ok (.getfield 129, 3) := dk_180 0 129 (dk_at dksX1_aPerson_4 7 rfl rfl)
theorem dX1_aPerson_104 : decode cX1_aPerson 104 = .ok (.iload_n 3, 1) := dk_29 (dk_at dksX1_aPerson_4 10 rfl rfl)
theorem dX1_aPerson_105 : decode cX1_aPerson 105 = .ok (.iconst 0, 1) := dk_3 (dk_at dksX1_aPerson_4 11 rfl rfl)
theorem dX1_aPerson_106 : decode cX1_aPerson 106 = .ok (.bastore, 1) := dk_84 (dk_at dksX1_aPerson_4 12 rfl rfl)
theorem dX1_aPerson_107 : decode cX1_aPerson 107 = .ok (.aload_n 1, 1) := dk_43 (dk_at dksX1_aPerson_4 13 rfl rfl)
theorem dX1_aPerson_108 : decode cX1_aPerson 108 = .ok (.dup, 1) := dk_89 (dk_at dksX1_aPerson_4 14 rfl rfl)
theorem dX1_aPerson_109 : decode cX1_aPerson 109 = .ok (.getfield 96, 3) := dk_180 0 96 (dk_at dksX1_aPerson_4 15 rfl rfl)
theorem dX1_aPerson_112 : decode cX1_aPerson 112 = .ok (.iconst 1, 1) := dk_4 (dk_at dksX1_aPerson_4 18 rfl rfl)
theorem dX1_aPerson_113 : decode cX1_aPerson 113 = .ok (.iadd, 1) := dk_96 (dk_at dksX1_aPerson_4 19 rfl rfl)
theorem dX1_aPerson_114 : decode cX1_aPerson 114 = .ok (.putfield 96, 3) := dk_181 0 96 (dk_at dksX1_aPerson_4 20 rfl rfl)
theorem dX1_aPerson_117 : decode cX1_aPerson 117 = .ok (.return_, 1) := dk_177 (dk_at dksX1_aPerson_4 23 rfl rfl)
abbrev cX1_after : ByteArray := prog_1_method_7_code
def yX1_after : MethodName := ⟨RX1, "after", "(Ljava/lang/String;II)I"⟩
def dkwX1_after_0 : List UInt8 := [42, 43, 182, 0, 88, 42, 180, 0, 25, 28, 29, 182, 0, 92, 172]
abbrev dktX1_after_0 : List UInt8 := dkwX1_after_0 ++ []
theorem dksX1_after_0 : cX1_after.data.toList.drop 0 = dktX1_after_0 := by decide +kernel
theorem dX1_after_0 : decode cX1_after 0 = .ok (.aload_n 0, 1) := dk_42 (dk_at dksX1_after_0 0 rfl rfl)
theorem dX1_after_1 : decode cX1_after 1 = .ok (.aload_n 1, 1) := dk_43 (dk_at dksX1_after_0 1 rfl rfl)
theorem dX1_after_2 : decode cX1_after 2 = .ok (.invokevirtual 88, 3) := dk_182 0 88 (dk_at dksX1_after_0 2 rfl rfl)
theorem dX1_after_5 : decode cX1_after 5 = .ok (.aload_n 0, 1) := dk_42 (dk_at dksX1_after_0 5 rfl rfl)
theorem dX1_after_6 : decode cX1_after 6 = .ok (.getfield 25, 3) := dk_180 0 25 (dk_at dksX1_after_0 6 rfl rfl)
theorem dX1_after_9 : decode cX1_after 9 = .ok (.iload_n 2, 1) := dk_28 (dk_at dksX1_after_0 9 rfl rfl)
theorem dX1_after_10 : decode cX1_after 10 = .ok (.iload_n 3, 1) := dk_29 (dk_at dksX1_after_0 10 rfl rfl)
theorem dX1_after_11 : decode cX1_after 11 = .ok (.invokevirtual 92, 3) := dk_182 0 92 (dk_at dksX1_after_0 11 rfl rfl)
theorem dX1_after_14 : decode cX1_after 14 = .ok (.ireturn, 1) := dk_172 (dk_at dksX1_after_0 14 rfl rfl)
abbrev cX1_needs : ByteArray := prog_1_method_6_code
def yX1_needs : MethodName := ⟨RX1, "needs", "(Ljava/lang/String;)V"⟩
def dkwX1_needs_0 : List UInt8 := [42, 180, 0, 25, 182, 0, 74, 43, 182, 0, 78, 154, 0, 11, 42, 180, 0, 25, 182, 0, 84, 191, 177]
abbrev dktX1_needs_0 : List UInt8 := dkwX1_needs_0 ++ []
theorem dksX1_needs_0 : cX1_needs.data.toList.drop 0 = dktX1_needs_0 := by decide +kernel
theorem dX1_needs_0 : decode cX1_needs 0 = .ok (.aload_n 0, 1) := dk_42 (dk_at dksX1_needs_0 0 rfl rfl)
theorem dX1_needs_1 : decode cX1_needs 1 = .ok (.getfield 25, 3) := dk_180 0 25 (dk_at dksX1_needs_0 1 rfl rfl)
theorem dX1_needs_4 : decode cX1_needs 4 = .ok (.invokevirtual 74, 3) := dk_182 0 74 (dk_at dksX1_needs_0 4 rfl rfl)
theorem dX1_needs_7 : decode cX1_needs 7 = .ok (.aload_n 1, 1) := dk_43 (dk_at dksX1_needs_0 7 rfl rfl)
theorem dX1_needs_8 : decode cX1_needs 8 = .ok (.invokevirtual 78, 3) := dk_182 0 78 (dk_at dksX1_needs_0 8 rfl rfl)
theorem dX1_needs_11 : decode cX1_needs 11 = .ok (.ifCond .ne 11, 3) := dk_154 0 11 (dk_at dksX1_needs_0 11 rfl rfl)
theorem dX1_needs_14 : decode cX1_needs 14 = .ok (.aload_n 0, 1) := dk_42 (dk_at dksX1_needs_0 14 rfl rfl)
theorem dX1_needs_15 : decode cX1_needs 15 = .ok (.getfield 25, 3) := dk_180 0 25 (dk_at dksX1_needs_0 15 rfl rfl)
theorem dX1_needs_18 : decode cX1_needs 18 = .ok (.invokevirtual 84, 3) := dk_182 0 84 (dk_at dksX1_needs_0 18 rfl rfl)
theorem dX1_needs_21 : decode cX1_needs 21 = .ok (.athrow, 1) := dk_191 (dk_at dksX1_needs_0 21 rfl rfl)
theorem dX1_needs_22 : decode cX1_needs 22 = .ok (.return_, 1) := dk_177 (dk_at dksX1_needs_0 22 rfl rfl)
abbrev cX1_placeTold : ByteArray := prog_1_method_8_code
def yX1_placeTold : MethodName := ⟨RX1, "placeTold", "()I"⟩
def dkwX1_placeTold_0 : List UInt8 := [42, 180, 0, 25, 3, 16, 11, 182, 0, 92, 172]
abbrev dktX1_placeTold_0 : List UInt8 := dkwX1_placeTold_0 ++ []
theorem dksX1_placeTold_0 : cX1_placeTold.data.toList.drop 0 = dktX1_placeTold_0 := by decide +kernel
theorem dX1_placeTold_0 : decode cX1_placeTold 0 = .ok (.aload_n 0, 1) := dk_42 (dk_at dksX1_placeTold_0 0 rfl rfl)
theorem dX1_placeTold_1 : decode cX1_placeTold 1 = .ok (.getfield 25, 3) := dk_180 0 25 (dk_at dksX1_placeTold_0 1 rfl rfl)
theorem dX1_placeTold_4 : decode cX1_placeTold 4 = .ok (.iconst 0, 1) := dk_3 (dk_at dksX1_placeTold_0 4 rfl rfl)
theorem dX1_placeTold_5 : decode cX1_placeTold 5 = .ok (.bipush 11, 2) := dk_16 11 (dk_at dksX1_placeTold_0 5 rfl rfl)
theorem dX1_placeTold_7 : decode cX1_placeTold 7 = .ok (.invokevirtual 92, 3) := dk_182 0 92 (dk_at dksX1_placeTold_0 7 rfl rfl)
theorem dX1_placeTold_10 : decode cX1_placeTold 10 = .ok (.ireturn, 1) := dk_172 (dk_at dksX1_placeTold_0 10 rfl rfl)
abbrev cX1_aStone : ByteArray := prog_1_method_10_code
def yX1_aStone : MethodName := ⟨RX1, "aStone", "(LStoneBacks$World;)V"⟩
def dkwX1_aStone_5 : List UInt8 := [182, 0, 144, 87, 177]
abbrev dktX1_aStone_5 : List UInt8 := dkwX1_aStone_5 ++ []
def dkwX1_aStone_4 : List UInt8 := [54, 6, 21, 6, 21, 5, 160, 0, 8, 44, 182, 0, 84, 191, 43, 21, 4, 21, 5, 29, 21, 6]
abbrev dktX1_aStone_4 : List UInt8 := dkwX1_aStone_4 ++ dktX1_aStone_5
def dkwX1_aStone_3 : List UInt8 := [54, 6, 44, 18, 140, 182, 0, 118, 153, 0, 30, 42, 18, 142, 3, 43, 180, 0, 96, 4, 100, 182, 0, 106]
abbrev dktX1_aStone_3 : List UInt8 := dkwX1_aStone_3 ++ dktX1_aStone_4
def dkwX1_aStone_2 : List UInt8 := [180, 0, 96, 4, 100, 182, 0, 106, 54, 5, 21, 5, 21, 4, 160, 0, 8, 44, 182, 0, 84, 191, 21, 4]
abbrev dktX1_aStone_2 : List UInt8 := dkwX1_aStone_2 ++ dktX1_aStone_3
def dkwX1_aStone_1 : List UInt8 := [182, 0, 92, 62, 42, 18, 136, 3, 43, 180, 0, 96, 4, 100, 182, 0, 106, 54, 4, 42, 18, 138, 3, 43]
abbrev dktX1_aStone_1 : List UInt8 := dkwX1_aStone_1 ++ dktX1_aStone_2
def dkwX1_aStone_0 : List UInt8 := [42, 180, 0, 25, 77, 43, 180, 0, 133, 16, 10, 160, 0, 8, 44, 182, 0, 84, 191, 44, 4, 16, 40]
abbrev dktX1_aStone_0 : List UInt8 := dkwX1_aStone_0 ++ dktX1_aStone_1
theorem dksX1_aStone_0 : cX1_aStone.data.toList.drop 0 = dktX1_aStone_0 := by decide +kernel
theorem dksX1_aStone_1 : cX1_aStone.data.toList.drop 23 = dktX1_aStone_1 := dk_seg dksX1_aStone_0 23 rfl rfl
theorem dksX1_aStone_2 : cX1_aStone.data.toList.drop 47 = dktX1_aStone_2 := dk_seg dksX1_aStone_1 24 rfl rfl
theorem dksX1_aStone_3 : cX1_aStone.data.toList.drop 71 = dktX1_aStone_3 := dk_seg dksX1_aStone_2 24 rfl rfl
theorem dksX1_aStone_4 : cX1_aStone.data.toList.drop 95 = dktX1_aStone_4 := dk_seg dksX1_aStone_3 24 rfl rfl
theorem dksX1_aStone_5 : cX1_aStone.data.toList.drop 117 = dktX1_aStone_5 := dk_seg dksX1_aStone_4 22 rfl rfl
theorem dX1_aStone_0 : decode cX1_aStone 0 = .ok (.aload_n 0, 1) := dk_42 (dk_at dksX1_aStone_0 0 rfl rfl)
theorem dX1_aStone_1 : decode cX1_aStone 1 = .ok (.getfield 25, 3) := dk_180 0 25 (dk_at dksX1_aStone_0 1 rfl rfl)
theorem dX1_aStone_4 : decode cX1_aStone 4 = .ok (.astore_n 2, 1) := dk_77 (dk_at dksX1_aStone_0 4 rfl rfl)
theorem dX1_aStone_5 : decode cX1_aStone 5 = .ok (.aload_n 1, 1) := dk_43 (dk_at dksX1_aStone_0 5 rfl rfl)
theorem dX1_aStone_6 : decode cX1_aStone 6 = .ok (.getfield 133, 3) := dk_180 0 133 (dk_at dksX1_aStone_0 6 rfl rfl)
theorem dX1_aStone_9 : decode cX1_aStone 9 = .ok (.bipush 10, 2) := dk_16 10 (dk_at dksX1_aStone_0 9 rfl rfl)
theorem dX1_aStone_11 : decode cX1_aStone 11 = .ok (.if_icmp .ne 8, 3) := dk_160 0 8 (dk_at dksX1_aStone_0 11 rfl rfl)
theorem dX1_aStone_14 : decode cX1_aStone 14 = .ok (.aload_n 2, 1) := dk_44 (dk_at dksX1_aStone_0 14 rfl rfl)
theorem dX1_aStone_15 : decode cX1_aStone 15 = .ok (.invokevirtual 84, 3) := dk_182 0 84 (dk_at dksX1_aStone_0 15 rfl rfl)
theorem dX1_aStone_18 : decode cX1_aStone 18 = .ok (.athrow, 1) := dk_191 (dk_at dksX1_aStone_0 18 rfl rfl)
theorem dX1_aStone_19 : decode cX1_aStone 19 = .ok (.aload_n 2, 1) := dk_44 (dk_at dksX1_aStone_0 19 rfl rfl)
theorem dX1_aStone_20 : decode cX1_aStone 20 = .ok (.iconst 1, 1) := dk_4 (dk_at dksX1_aStone_0 20 rfl rfl)
theorem dX1_aStone_21 : decode cX1_aStone 21 = .ok (.bipush 40, 2) := dk_16 40 (dk_at dksX1_aStone_0 21 rfl rfl)
theorem dX1_aStone_23 : decode cX1_aStone 23 = .ok (.invokevirtual 92, 3) := dk_182 0 92 (dk_at dksX1_aStone_1 0 rfl rfl)
theorem dX1_aStone_26 : decode cX1_aStone 26 = .ok (.istore_n 3, 1) := dk_62 (dk_at dksX1_aStone_1 3 rfl rfl)
theorem dX1_aStone_27 : decode cX1_aStone 27 = .ok (.aload_n 0, 1) := dk_42 (dk_at dksX1_aStone_1 4 rfl rfl)
theorem dX1_aStone_28 : decode cX1_aStone 28 = .ok (.ldc 136, 2) := dk_18 136 (dk_at dksX1_aStone_1 5 rfl rfl)
theorem dX1_aStone_30 : decode cX1_aStone 30 = .ok (.iconst 0, 1) := dk_3 (dk_at dksX1_aStone_1 7 rfl rfl)
theorem dX1_aStone_31 : decode cX1_aStone 31 = .ok (.aload_n 1, 1) := dk_43 (dk_at dksX1_aStone_1 8 rfl rfl)
theorem dX1_aStone_32 : decode cX1_aStone 32 = .ok (.getfield 96, 3) := dk_180 0 96 (dk_at dksX1_aStone_1 9 rfl rfl)
theorem dX1_aStone_35 : decode cX1_aStone 35 = .ok (.iconst 1, 1) := dk_4 (dk_at dksX1_aStone_1 12 rfl rfl)
theorem dX1_aStone_36 : decode cX1_aStone 36 = .ok (.isub, 1) := dk_100 (dk_at dksX1_aStone_1 13 rfl rfl)
theorem dX1_aStone_37 : decode cX1_aStone 37 = .ok (.invokevirtual 106, 3) := dk_182 0 106 (dk_at dksX1_aStone_1 14 rfl rfl)
theorem dX1_aStone_40 : decode cX1_aStone 40 = .ok (.istore 4, 2) := dk_54 4 (dk_at dksX1_aStone_1 17 rfl rfl)
theorem dX1_aStone_42 : decode cX1_aStone 42 = .ok (.aload_n 0, 1) := dk_42 (dk_at dksX1_aStone_1 19 rfl rfl)
theorem dX1_aStone_43 : decode cX1_aStone 43 = .ok (.ldc 138, 2) := dk_18 138 (dk_at dksX1_aStone_1 20 rfl rfl)
theorem dX1_aStone_45 : decode cX1_aStone 45 = .ok (.iconst 0, 1) := dk_3 (dk_at dksX1_aStone_1 22 rfl rfl)
theorem dX1_aStone_46 : decode cX1_aStone 46 = .ok (.aload_n 1, 1) := dk_43 (dk_at dksX1_aStone_1 23 rfl rfl)
theorem dX1_aStone_47 : decode cX1_aStone 47 = .ok (.getfield 96, 3) := dk_180 0 96 (dk_at dksX1_aStone_2 0 rfl rfl)
theorem dX1_aStone_50 : decode cX1_aStone 50 = .ok (.iconst 1, 1) := dk_4 (dk_at dksX1_aStone_2 3 rfl rfl)
theorem dX1_aStone_51 : decode cX1_aStone 51 = .ok (.isub, 1) := dk_100 (dk_at dksX1_aStone_2 4 rfl rfl)
theorem dX1_aStone_52 : decode cX1_aStone 52 = .ok (.invokevirtual 106, 3) := dk_182 0 106 (dk_at dksX1_aStone_2 5 rfl rfl)
theorem dX1_aStone_55 : decode cX1_aStone 55 = .ok (.istore 5, 2) := dk_54 5 (dk_at dksX1_aStone_2 8 rfl rfl)
theorem dX1_aStone_57 : decode cX1_aStone 57 = .ok (.iload 5, 2) := dk_21 5 (dk_at dksX1_aStone_2 10 rfl rfl)
theorem dX1_aStone_59 : decode cX1_aStone 59 = .ok (.iload 4, 2) := dk_21 4 (dk_at dksX1_aStone_2 12 rfl rfl)
theorem dX1_aStone_61 : decode cX1_aStone 61 = .ok (.if_icmp .ne 8, 3) := dk_160 0 8 (dk_at dksX1_aStone_2 14 rfl rfl)
theorem dX1_aStone_64 : decode cX1_aStone 64 = .ok (.aload_n 2, 1) := dk_44 (dk_at dksX1_aStone_2 17 rfl rfl)
theorem dX1_aStone_65 : decode cX1_aStone 65 = .ok (.invokevirtual 84, 3) := dk_182 0 84 (dk_at dksX1_aStone_2 18 rfl rfl)
theorem dX1_aStone_68 : decode cX1_aStone 68 = .ok (.athrow, 1) := dk_191 (dk_at dksX1_aStone_2 21 rfl rfl)
theorem dX1_aStone_69 : decode cX1_aStone 69 = .ok (.iload 4, 2) := dk_21 4 (dk_at dksX1_aStone_2 22 rfl rfl)
theorem dX1_aStone_71 : decode cX1_aStone 71 = .ok (.istore 6, 2) := dk_54 6 (dk_at dksX1_aStone_3 0 rfl rfl)
theorem dX1_aStone_73 : decode cX1_aStone 73 = .ok (.aload_n 2, 1) := dk_44 (dk_at dksX1_aStone_3 2 rfl rfl)
theorem dX1_aStone_74 : decode cX1_aStone 74 = .ok (.ldc 140, 2) := dk_18 140 (dk_at dksX1_aStone_3 3 rfl rfl)
theorem dX1_aStone_76 : decode cX1_aStone 76 = .ok (.invokevirtual 118, 3) := dk_182 0 118 (dk_at dksX1_aStone_3 5 rfl rfl)
theorem dX1_aStone_79 : decode cX1_aStone 79 = .ok (.ifCond .eq 30, 3) := dk_153 0 30 (dk_at dksX1_aStone_3 8 rfl rfl)
theorem dX1_aStone_82 : decode cX1_aStone 82 = .ok (.aload_n 0, 1) := dk_42 (dk_at dksX1_aStone_3 11 rfl rfl)
theorem dX1_aStone_83 : decode cX1_aStone 83 = .ok (.ldc 142, 2) := dk_18 142 (dk_at dksX1_aStone_3 12 rfl rfl)
theorem dX1_aStone_85 : decode cX1_aStone 85 = .ok (.iconst 0, 1) := dk_3 (dk_at dksX1_aStone_3 14 rfl rfl)
theorem dX1_aStone_86 : decode cX1_aStone 86 = .ok (.aload_n 1, 1) := dk_43 (dk_at dksX1_aStone_3 15 rfl rfl)
theorem dX1_aStone_87 : decode cX1_aStone 87 = .ok (.getfield 96, 3) := dk_180 0 96 (dk_at dksX1_aStone_3 16 rfl rfl)
theorem dX1_aStone_90 : decode cX1_aStone 90 = .ok (.iconst 1, 1) := dk_4 (dk_at dksX1_aStone_3 19 rfl rfl)
theorem dX1_aStone_91 : decode cX1_aStone 91 = .ok (.isub, 1) := dk_100 (dk_at dksX1_aStone_3 20 rfl rfl)
theorem dX1_aStone_92 : decode cX1_aStone 92 = .ok (.invokevirtual 106, 3) := dk_182 0 106 (dk_at dksX1_aStone_3 21 rfl rfl)
theorem dX1_aStone_95 : decode cX1_aStone 95 = .ok (.istore 6, 2) := dk_54 6 (dk_at dksX1_aStone_4 0 rfl rfl)
theorem dX1_aStone_97 : decode cX1_aStone 97 = .ok (.iload 6, 2) := dk_21 6 (dk_at dksX1_aStone_4 2 rfl rfl)
theorem dX1_aStone_99 : decode cX1_aStone 99 = .ok (.iload 5, 2) := dk_21 5 (dk_at dksX1_aStone_4 4 rfl rfl)
theorem dX1_aStone_101 : decode cX1_aStone 101 = .ok (.if_icmp .ne 8, 3) := dk_160 0 8 (dk_at dksX1_aStone_4 6 rfl rfl)
theorem dX1_aStone_104 : decode cX1_aStone 104 = .ok (.aload_n 2, 1) := dk_44 (dk_at dksX1_aStone_4 9 rfl rfl)
theorem dX1_aStone_105 : decode cX1_aStone 105 = .ok (.invokevirtual 84, 3) := dk_182 0 84 (dk_at dksX1_aStone_4 10 rfl rfl)
theorem dX1_aStone_108 : decode cX1_aStone 108 = .ok (.athrow, 1) := dk_191 (dk_at dksX1_aStone_4 13 rfl rfl)
theorem dX1_aStone_109 : decode cX1_aStone 109 = .ok (.aload_n 1, 1) := dk_43 (dk_at dksX1_aStone_4 14 rfl rfl)
theorem dX1_aStone_110 : decode cX1_aStone 110 = .ok (.iload 4, 2) := dk_21 4 (dk_at dksX1_aStone_4 15 rfl rfl)
theorem dX1_aStone_112 : decode cX1_aStone 112 = .ok (.iload 5, 2) := dk_21 5 (dk_at dksX1_aStone_4 17 rfl rfl)
theorem dX1_aStone_114 : decode cX1_aStone 114 = .ok (.iload_n 3, 1) := dk_29 (dk_at dksX1_aStone_4 19 rfl rfl)
theorem dX1_aStone_115 : decode cX1_aStone 115 = .ok (.iload 6, 2) := dk_21 6 (dk_at dksX1_aStone_4 20 rfl rfl)
theorem dX1_aStone_117 : decode cX1_aStone 117 = .ok (.invokevirtual 144, 3) := dk_182 0 144 (dk_at dksX1_aStone_5 0 rfl rfl)
theorem dX1_aStone_120 : decode cX1_aStone 120 = .ok (.pop, 1) := dk_87 (dk_at dksX1_aStone_5 3 rfl rfl)
theorem dX1_aStone_121 : decode cX1_aStone 121 = .ok (.return_, 1) := dk_177 (dk_at dksX1_aStone_5 4 rfl rfl)
abbrev cX1_goesOn : ByteArray := prog_1_method_14_code
def yX1_goesOn : MethodName := ⟨RX1, "goesOn", "()Z"⟩
def dkwX1_goesOn_1 : List UInt8 := [4, 172, 42, 180, 0, 25, 182, 0, 84, 191]
abbrev dktX1_goesOn_1 : List UInt8 := dkwX1_goesOn_1 ++ []
def dkwX1_goesOn_0 : List UInt8 := [42, 180, 0, 25, 182, 0, 178, 153, 0, 5, 3, 172, 42, 180, 0, 25, 16, 59, 182, 0, 192, 153, 0, 5]
abbrev dktX1_goesOn_0 : List UInt8 := dkwX1_goesOn_0 ++ dktX1_goesOn_1
theorem dksX1_goesOn_0 : cX1_goesOn.data.toList.drop 0 = dktX1_goesOn_0 := by decide +kernel
theorem dksX1_goesOn_1 : cX1_goesOn.data.toList.drop 24 = dktX1_goesOn_1 := dk_seg dksX1_goesOn_0 24 rfl rfl
theorem dX1_goesOn_0 : decode cX1_goesOn 0 = .ok (.aload_n 0, 1) := dk_42 (dk_at dksX1_goesOn_0 0 rfl rfl)
theorem dX1_goesOn_1 : decode cX1_goesOn 1 = .ok (.getfield 25, 3) := dk_180 0 25 (dk_at dksX1_goesOn_0 1 rfl rfl)
theorem dX1_goesOn_4 : decode cX1_goesOn 4 = .ok (.invokevirtual 178, 3) := dk_182 0 178 (dk_at dksX1_goesOn_0 4 rfl rfl)
theorem dX1_goesOn_7 : decode cX1_goesOn 7 = .ok (.ifCond .eq 5, 3) := dk_153 0 5 (dk_at dksX1_goesOn_0 7 rfl rfl)
theorem dX1_goesOn_10 : decode cX1_goesOn 10 = .ok (.iconst 0, 1) := dk_3 (dk_at dksX1_goesOn_0 10 rfl rfl)
theorem dX1_goesOn_11 : decode cX1_goesOn 11 = .ok (.ireturn, 1) := dk_172 (dk_at dksX1_goesOn_0 11 rfl rfl)
theorem dX1_goesOn_12 : decode cX1_goesOn 12 = .ok (.aload_n 0, 1) := dk_42 (dk_at dksX1_goesOn_0 12 rfl rfl)
theorem dX1_goesOn_13 : decode cX1_goesOn 13 = .ok (.getfield 25, 3) := dk_180 0 25 (dk_at dksX1_goesOn_0 13 rfl rfl)
theorem dX1_goesOn_16 : decode cX1_goesOn 16 = .ok (.bipush 59, 2) := dk_16 59 (dk_at dksX1_goesOn_0 16 rfl rfl)
theorem dX1_goesOn_18 : decode cX1_goesOn 18 = .ok (.invokevirtual 192, 3) := dk_182 0 192 (dk_at dksX1_goesOn_0 18 rfl rfl)
theorem dX1_goesOn_21 : decode cX1_goesOn 21 = .ok (.ifCond .eq 5, 3) := dk_153 0 5 (dk_at dksX1_goesOn_0 21 rfl rfl)
theorem dX1_goesOn_24 : decode cX1_goesOn 24 = .ok (.iconst 1, 1) := dk_4 (dk_at dksX1_goesOn_1 0 rfl rfl)
theorem dX1_goesOn_25 : decode cX1_goesOn 25 = .ok (.ireturn, 1) := dk_172 (dk_at dksX1_goesOn_1 1 rfl rfl)
theorem dX1_goesOn_26 : decode cX1_goesOn 26 = .ok (.aload_n 0, 1) := dk_42 (dk_at dksX1_goesOn_1 2 rfl rfl)
theorem dX1_goesOn_27 : decode cX1_goesOn 27 = .ok (.getfield 25, 3) := dk_180 0 25 (dk_at dksX1_goesOn_1 3 rfl rfl)
theorem dX1_goesOn_30 : decode cX1_goesOn 30 = .ok (.invokevirtual 84, 3) := dk_182 0 84 (dk_at dksX1_goesOn_1 6 rfl rfl)
theorem dX1_goesOn_33 : decode cX1_goesOn 33 = .ok (.athrow, 1) := dk_191 (dk_at dksX1_goesOn_1 9 rfl rfl)
abbrev cX1_fails : ByteArray := prog_1_method_15_code
def yX1_fails : MethodName := ⟨RX1, "fails", "()V"⟩
def dkwX1_fails_0 : List UInt8 := [42, 180, 0, 25, 42, 180, 0, 25, 180, 0, 195, 181, 0, 70, 187, 0, 198, 89, 183, 0, 200, 191]
abbrev dktX1_fails_0 : List UInt8 := dkwX1_fails_0 ++ []
theorem dksX1_fails_0 : cX1_fails.data.toList.drop 0 = dktX1_fails_0 := by decide +kernel
theorem dX1_fails_0 : decode cX1_fails 0 = .ok (.aload_n 0, 1) := dk_42 (dk_at dksX1_fails_0 0 rfl rfl)
theorem dX1_fails_1 : decode cX1_fails 1 = .ok (.getfield 25, 3) := dk_180 0 25 (dk_at dksX1_fails_0 1 rfl rfl)
theorem dX1_fails_4 : decode cX1_fails 4 = .ok (.aload_n 0, 1) := dk_42 (dk_at dksX1_fails_0 4 rfl rfl)
theorem dX1_fails_5 : decode cX1_fails 5 = .ok (.getfield 25, 3) := dk_180 0 25 (dk_at dksX1_fails_0 5 rfl rfl)
theorem dX1_fails_8 : decode cX1_fails 8 = .ok (.getfield 195, 3) := dk_180 0 195 (dk_at dksX1_fails_0 8 rfl rfl)
theorem dX1_fails_11 : decode cX1_fails 11 = .ok (.putfield 70, 3) := dk_181 0 70 (dk_at dksX1_fails_0 11 rfl rfl)
theorem dX1_fails_14 : decode cX1_fails 14 = .ok (.new 198, 3) := dk_187 0 198 (dk_at dksX1_fails_0 14 rfl rfl)
theorem dX1_fails_17 : decode cX1_fails 17 = .ok (.dup, 1) := dk_89 (dk_at dksX1_fails_0 17 rfl rfl)
theorem dX1_fails_18 : decode cX1_fails 18 = .ok (.invokespecial 200, 3) := dk_183 0 200 (dk_at dksX1_fails_0 18 rfl rfl)
theorem dX1_fails_21 : decode cX1_fails 21 = .ok (.athrow, 1) := dk_191 (dk_at dksX1_fails_0 21 rfl rfl)
abbrev cX1_law : ByteArray := prog_1_method_24_code
def yX1_law : MethodName := ⟨RX1, "law", "()I"⟩
def dkwX1_law_2 : List UInt8 := [180, 1, 74, 180, 1, 60, 182, 1, 63, 172]
abbrev dktX1_law_2 : List UInt8 := dkwX1_law_2 ++ []
def dkwX1_law_1 : List UInt8 := [181, 0, 70, 167, 0, 8, 76, 42, 182, 0, 213, 42, 180, 0, 42, 182, 0, 222, 42, 180, 0, 10]
abbrev dktX1_law_1 : List UInt8 := dkwX1_law_1 ++ dktX1_law_2
def dkwX1_law_0 : List UInt8 := [42, 180, 0, 25, 182, 0, 201, 42, 180, 0, 10, 42, 182, 1, 70, 181, 1, 74, 42, 180, 0, 25, 2]
abbrev dktX1_law_0 : List UInt8 := dkwX1_law_0 ++ dktX1_law_1
theorem dksX1_law_0 : cX1_law.data.toList.drop 0 = dktX1_law_0 := by decide +kernel
theorem dksX1_law_1 : cX1_law.data.toList.drop 23 = dktX1_law_1 := dk_seg dksX1_law_0 23 rfl rfl
theorem dksX1_law_2 : cX1_law.data.toList.drop 45 = dktX1_law_2 := dk_seg dksX1_law_1 22 rfl rfl
theorem dX1_law_0 : decode cX1_law 0 = .ok (.aload_n 0, 1) := dk_42 (dk_at dksX1_law_0 0 rfl rfl)
theorem dX1_law_1 : decode cX1_law 1 = .ok (.getfield 25, 3) := dk_180 0 25 (dk_at dksX1_law_0 1 rfl rfl)
theorem dX1_law_4 : decode cX1_law 4 = .ok (.invokevirtual 201, 3) := dk_182 0 201 (dk_at dksX1_law_0 4 rfl rfl)
theorem dX1_law_7 : decode cX1_law 7 = .ok (.aload_n 0, 1) := dk_42 (dk_at dksX1_law_0 7 rfl rfl)
theorem dX1_law_8 : decode cX1_law 8 = .ok (.getfield 10, 3) := dk_180 0 10 (dk_at dksX1_law_0 8 rfl rfl)
theorem dX1_law_11 : decode cX1_law 11 = .ok (.aload_n 0, 1) := dk_42 (dk_at dksX1_law_0 11 rfl rfl)
theorem dX1_law_12 : decode cX1_law 12 = .ok (.invokevirtual 326, 3) := dk_182 1 70 (dk_at dksX1_law_0 12 rfl rfl)
theorem dX1_law_15 : decode cX1_law 15 = .ok (.putfield 330, 3) := dk_181 1 74 (dk_at dksX1_law_0 15 rfl rfl)
theorem dX1_law_18 : decode cX1_law 18 = .ok (.aload_n 0, 1) := dk_42 (dk_at dksX1_law_0 18 rfl rfl)
theorem dX1_law_19 : decode cX1_law 19 = .ok (.getfield 25, 3) := dk_180 0 25 (dk_at dksX1_law_0 19 rfl rfl)
theorem dX1_law_22 : decode cX1_law 22 = .ok (.iconst (-1), 1) := dk_2 (dk_at dksX1_law_0 22 rfl rfl)
theorem dX1_law_23 : decode cX1_law 23 = .ok (.putfield 70, 3) := dk_181 0 70 (dk_at dksX1_law_1 0 rfl rfl)
theorem dX1_law_26 : decode cX1_law 26 = .ok (.goto 8, 3) := dk_167 0 8 (dk_at dksX1_law_1 3 rfl rfl)
theorem dX1_law_29 : decode cX1_law 29 = .ok (.astore_n 1, 1) := dk_76 (dk_at dksX1_law_1 6 rfl rfl)
theorem dX1_law_30 : decode cX1_law 30 = .ok (.aload_n 0, 1) := dk_42 (dk_at dksX1_law_1 7 rfl rfl)
theorem dX1_law_31 : decode cX1_law 31 = .ok (.invokevirtual 213, 3) := dk_182 0 213 (dk_at dksX1_law_1 8 rfl rfl)
theorem dX1_law_34 : decode cX1_law 34 = .ok (.aload_n 0, 1) := dk_42 (dk_at dksX1_law_1 11 rfl rfl)
theorem dX1_law_35 : decode cX1_law 35 = .ok (.getfield 42, 3) := dk_180 0 42 (dk_at dksX1_law_1 12 rfl rfl)
theorem dX1_law_38 : decode cX1_law 38 = .ok (.invokevirtual 222, 3) := dk_182 0 222 (dk_at dksX1_law_1 15 rfl rfl)
theorem dX1_law_41 : decode cX1_law 41 = .ok (.aload_n 0, 1) := dk_42 (dk_at dksX1_law_1 18 rfl rfl)
theorem dX1_law_42 : decode cX1_law 42 = .ok (.getfield 10, 3) := dk_180 0 10 (dk_at dksX1_law_1 19 rfl rfl)
theorem dX1_law_45 : decode cX1_law 45 = .ok (.getfield 330, 3) := dk_180 1 74 (dk_at dksX1_law_2 0 rfl rfl)
theorem dX1_law_48 : decode cX1_law 48 = .ok (.getfield 316, 3) := dk_180 1 60 (dk_at dksX1_law_2 3 rfl rfl)
theorem dX1_law_51 : decode cX1_law 51 = .ok (.invokevirtual 319, 3) := dk_182 1 63 (dk_at dksX1_law_2 6 rfl rfl)
theorem dX1_law_54 : decode cX1_law 54 = .ok (.ireturn, 1) := dk_172 (dk_at dksX1_law_2 9 rfl rfl)
abbrev cX1_lawText : ByteArray := prog_1_method_23_code
def yX1_lawText : MethodName := ⟨RX1, "lawText", "()LStoneBacks$Law;"⟩
def dkwX1_lawText_2 : List UInt8 := [182, 0, 189, 154, 255, 227, 43, 176]
abbrev dktX1_lawText_2 : List UInt8 := dkwX1_lawText_2 ++ []
def dkwX1_lawText_1 : List UInt8 := [180, 1, 60, 182, 1, 63, 16, 12, 182, 0, 182, 43, 180, 1, 60, 42, 182, 1, 66, 182, 0, 248, 87, 42]
abbrev dktX1_lawText_1 : List UInt8 := dkwX1_lawText_1 ++ dktX1_lawText_2
def dkwX1_lawText_0 : List UInt8 := [187, 1, 57, 89, 183, 1, 59, 76, 42, 180, 0, 25, 182, 0, 178, 153, 0, 5, 43, 176, 42, 43]
abbrev dktX1_lawText_0 : List UInt8 := dkwX1_lawText_0 ++ dktX1_lawText_1
theorem dksX1_lawText_0 : cX1_lawText.data.toList.drop 0 = dktX1_lawText_0 := by decide +kernel
theorem dksX1_lawText_1 : cX1_lawText.data.toList.drop 22 = dktX1_lawText_1 := dk_seg dksX1_lawText_0 22 rfl rfl
theorem dksX1_lawText_2 : cX1_lawText.data.toList.drop 46 = dktX1_lawText_2 := dk_seg dksX1_lawText_1 24 rfl rfl
theorem dX1_lawText_0 : decode cX1_lawText 0 = .ok (.new 313, 3) := dk_187 1 57 (dk_at dksX1_lawText_0 0 rfl rfl)
theorem dX1_lawText_3 : decode cX1_lawText 3 = .ok (.dup, 1) := dk_89 (dk_at dksX1_lawText_0 3 rfl rfl)
theorem dX1_lawText_4 : decode cX1_lawText 4 = .ok (.invokespecial 315, 3) := dk_183 1 59 (dk_at dksX1_lawText_0 4 rfl rfl)
theorem dX1_lawText_7 : decode cX1_lawText 7 = .ok (.astore_n 1, 1) := dk_76 (dk_at dksX1_lawText_0 7 rfl rfl)
theorem dX1_lawText_8 : decode cX1_lawText 8 = .ok (.aload_n 0, 1) := dk_42 (dk_at dksX1_lawText_0 8 rfl rfl)
theorem dX1_lawText_9 : decode cX1_lawText 9 = .ok (.getfield 25, 3) := dk_180 0 25 (dk_at dksX1_lawText_0 9 rfl rfl)
theorem dX1_lawText_12 : decode cX1_lawText 12 = .ok (.invokevirtual 178, 3) := dk_182 0 178 (dk_at dksX1_lawText_0 12 rfl rfl)
theorem dX1_lawText_15 : decode cX1_lawText 15 = .ok (.ifCond .eq 5, 3) := dk_153 0 5 (dk_at dksX1_lawText_0 15 rfl rfl)
theorem dX1_lawText_18 : decode cX1_lawText 18 = .ok (.aload_n 1, 1) := dk_43 (dk_at dksX1_lawText_0 18 rfl rfl)
theorem dX1_lawText_19 : decode cX1_lawText 19 = .ok (.areturn, 1) := dk_176 (dk_at dksX1_lawText_0 19 rfl rfl)
theorem dX1_lawText_20 : decode cX1_lawText 20 = .ok (.aload_n 0, 1) := dk_42 (dk_at dksX1_lawText_0 20 rfl rfl)
theorem dX1_lawText_21 : decode cX1_lawText 21 = .ok (.aload_n 1, 1) := dk_43 (dk_at dksX1_lawText_0 21 rfl rfl)
theorem dX1_lawText_22 : decode cX1_lawText 22 = .ok (.getfield 316, 3) := dk_180 1 60 (dk_at dksX1_lawText_1 0 rfl rfl)
theorem dX1_lawText_25 : decode cX1_lawText 25 = .ok (.invokevirtual 319, 3) := dk_182 1 63 (dk_at dksX1_lawText_1 3 rfl rfl)
theorem dX1_lawText_28 : decode cX1_lawText 28 = .ok (.bipush 12, 2) := dk_16 12 (dk_at dksX1_lawText_1 6 rfl rfl)
theorem dX1_lawText_30 : decode cX1_lawText 30 = .ok (.invokevirtual 182, 3) := dk_182 0 182 (dk_at dksX1_lawText_1 8 rfl rfl)
theorem dX1_lawText_33 : decode cX1_lawText 33 = .ok (.aload_n 1, 1) := dk_43 (dk_at dksX1_lawText_1 11 rfl rfl)
theorem dX1_lawText_34 : decode cX1_lawText 34 = .ok (.getfield 316, 3) := dk_180 1 60 (dk_at dksX1_lawText_1 12 rfl rfl)
theorem dX1_lawText_37 : decode cX1_lawText 37 = .ok (.aload_n 0, 1) := dk_42 (dk_at dksX1_lawText_1 15 rfl rfl)
theorem dX1_lawText_38 : decode cX1_lawText 38 = .ok (.invokevirtual 322, 3) := dk_182 1 66 (dk_at dksX1_lawText_1 16 rfl rfl)
theorem dX1_lawText_41 : decode cX1_lawText 41 = .ok (.invokevirtual 248, 3) := dk_182 0 248 (dk_at dksX1_lawText_1 19 rfl rfl)
theorem dX1_lawText_44 : decode cX1_lawText 44 = .ok (.pop, 1) := dk_87 (dk_at dksX1_lawText_1 22 rfl rfl)
theorem dX1_lawText_45 : decode cX1_lawText 45 = .ok (.aload_n 0, 1) := dk_42 (dk_at dksX1_lawText_1 23 rfl rfl)
theorem dX1_lawText_46 : decode cX1_lawText 46 = .ok (.invokevirtual 189, 3) := dk_182 0 189 (dk_at dksX1_lawText_2 0 rfl rfl)
theorem dX1_lawText_49 : decode cX1_lawText 49 = .ok (.ifCond .ne (-29), 3) := dk_154 255 227 (dk_at dksX1_lawText_2 3 rfl rfl)
theorem dX1_lawText_52 : decode cX1_lawText 52 = .ok (.aload_n 1, 1) := dk_43 (dk_at dksX1_lawText_2 6 rfl rfl)
theorem dX1_lawText_53 : decode cX1_lawText 53 = .ok (.areturn, 1) := dk_176 (dk_at dksX1_lawText_2 7 rfl rfl)
abbrev cX1_lawLine : ByteArray := prog_1_method_22_code
def yX1_lawLine : MethodName := ⟨RX1, "lawLine", "()LStoneBacks$Line;"⟩
def dkwX1_lawLine_2 : List UInt8 := [182, 0, 118, 153, 0, 10, 42, 182, 0, 253, 167, 0, 4, 1, 183, 1, 54, 176]
abbrev dktX1_lawLine_2 : List UInt8 := dkwX1_lawLine_2 ++ []
def dkwX1_lawLine_1 : List UInt8 := [180, 0, 25, 3, 16, 99, 182, 0, 92, 61, 187, 1, 50, 89, 43, 28, 42, 180, 0, 25, 19, 1, 52]
abbrev dktX1_lawLine_1 : List UInt8 := dkwX1_lawLine_1 ++ dktX1_lawLine_2
def dkwX1_lawLine_0 : List UInt8 := [42, 180, 0, 25, 182, 0, 74, 184, 1, 45, 76, 43, 199, 0, 11, 42, 180, 0, 25, 182, 0, 84, 191, 42]
abbrev dktX1_lawLine_0 : List UInt8 := dkwX1_lawLine_0 ++ dktX1_lawLine_1
theorem dksX1_lawLine_0 : cX1_lawLine.data.toList.drop 0 = dktX1_lawLine_0 := by decide +kernel
theorem dksX1_lawLine_1 : cX1_lawLine.data.toList.drop 24 = dktX1_lawLine_1 := dk_seg dksX1_lawLine_0 24 rfl rfl
theorem dksX1_lawLine_2 : cX1_lawLine.data.toList.drop 47 = dktX1_lawLine_2 := dk_seg dksX1_lawLine_1 23 rfl rfl
theorem dX1_lawLine_0 : decode cX1_lawLine 0 = .ok (.aload_n 0, 1) := dk_42 (dk_at dksX1_lawLine_0 0 rfl rfl)
theorem dX1_lawLine_1 : decode cX1_lawLine 1 = .ok (.getfield 25, 3) := dk_180 0 25 (dk_at dksX1_lawLine_0 1 rfl rfl)
theorem dX1_lawLine_4 : decode cX1_lawLine 4 = .ok (.invokevirtual 74, 3) := dk_182 0 74 (dk_at dksX1_lawLine_0 4 rfl rfl)
theorem dX1_lawLine_7 : decode cX1_lawLine 7 = .ok (.invokestatic 301, 3) := dk_184 1 45 (dk_at dksX1_lawLine_0 7 rfl rfl)
theorem dX1_lawLine_10 : decode cX1_lawLine 10 = .ok (.astore_n 1, 1) := dk_76 (dk_at dksX1_lawLine_0 10 rfl rfl)
theorem dX1_lawLine_11 : decode cX1_lawLine 11 = .ok (.aload_n 1, 1) := dk_43 (dk_at dksX1_lawLine_0 11 rfl rfl)
theorem dX1_lawLine_12 : decode cX1_lawLine 12 = .ok (.ifnonnull 11, 3) := dk_199 0 11 (dk_at dksX1_lawLine_0 12 rfl rfl)
theorem dX1_lawLine_15 : decode cX1_lawLine 15 = .ok (.aload_n 0, 1) := dk_42 (dk_at dksX1_lawLine_0 15 rfl rfl)
theorem dX1_lawLine_16 : decode cX1_lawLine 16 = .ok (.getfield 25, 3) := dk_180 0 25 (dk_at dksX1_lawLine_0 16 rfl rfl)
theorem dX1_lawLine_19 : decode cX1_lawLine 19 = .ok (.invokevirtual 84, 3) := dk_182 0 84 (dk_at dksX1_lawLine_0 19 rfl rfl)
theorem dX1_lawLine_22 : decode cX1_lawLine 22 = .ok (.athrow, 1) := dk_191 (dk_at dksX1_lawLine_0 22 rfl rfl)
theorem dX1_lawLine_23 : decode cX1_lawLine 23 = .ok (.aload_n 0, 1) := dk_42 (dk_at dksX1_lawLine_0 23 rfl rfl)
theorem dX1_lawLine_24 : decode cX1_lawLine 24 = .ok (.getfield 25, 3) := dk_180 0 25 (dk_at dksX1_lawLine_1 0 rfl rfl)
theorem dX1_lawLine_27 : decode cX1_lawLine 27 = .ok (.iconst 0, 1) := dk_3 (dk_at dksX1_lawLine_1 3 rfl rfl)
theorem dX1_lawLine_28 : decode cX1_lawLine 28 = .ok (.bipush 99, 2) := dk_16 99 (dk_at dksX1_lawLine_1 4 rfl rfl)
theorem dX1_lawLine_30 : decode cX1_lawLine 30 = .ok (.invokevirtual 92, 3) := dk_182 0 92 (dk_at dksX1_lawLine_1 6 rfl rfl)
theorem dX1_lawLine_33 : decode cX1_lawLine 33 = .ok (.istore_n 2, 1) := dk_61 (dk_at dksX1_lawLine_1 9 rfl rfl)
theorem dX1_lawLine_34 : decode cX1_lawLine 34 = .ok (.new 306, 3) := dk_187 1 50 (dk_at dksX1_lawLine_1 10 rfl rfl)
theorem dX1_lawLine_37 : decode cX1_lawLine 37 = .ok (.dup, 1) := dk_89 (dk_at dksX1_lawLine_1 13 rfl rfl)
theorem dX1_lawLine_38 : decode cX1_lawLine 38 = .ok (.aload_n 1, 1) := dk_43 (dk_at dksX1_lawLine_1 14 rfl rfl)
theorem dX1_lawLine_39 : decode cX1_lawLine 39 = .ok (.iload_n 2, 1) := dk_28 (dk_at dksX1_lawLine_1 15 rfl rfl)
theorem dX1_lawLine_40 : decode cX1_lawLine 40 = .ok (.aload_n 0, 1) := dk_42 (dk_at dksX1_lawLine_1 16 rfl rfl)
theorem dX1_lawLine_41 : decode cX1_lawLine 41 = .ok (.getfield 25, 3) := dk_180 0 25 (dk_at dksX1_lawLine_1 17 rfl rfl)
theorem dX1_lawLine_44 : decode cX1_lawLine 44 = .ok (.ldc_w 308, 3) := dk_19 1 52 (dk_at dksX1_lawLine_1 20 rfl rfl)
theorem dX1_lawLine_47 : decode cX1_lawLine 47 = .ok (.invokevirtual 118, 3) := dk_182 0 118 (dk_at dksX1_lawLine_2 0 rfl rfl)
theorem dX1_lawLine_50 : decode cX1_lawLine 50 = .ok (.ifCond .eq 10, 3) := dk_153 0 10 (dk_at dksX1_lawLine_2 3 rfl rfl)
theorem dX1_lawLine_53 : decode cX1_lawLine 53 = .ok (.aload_n 0, 1) := dk_42 (dk_at dksX1_lawLine_2 6 rfl rfl)
theorem dX1_lawLine_54 : decode cX1_lawLine 54 = .ok (.invokevirtual 253, 3) := dk_182 0 253 (dk_at dksX1_lawLine_2 7 rfl rfl)
theorem dX1_lawLine_57 : decode cX1_lawLine 57 = .ok (.goto 4, 3) := dk_167 0 4 (dk_at dksX1_lawLine_2 10 rfl rfl)
theorem dX1_lawLine_60 : decode cX1_lawLine 60 = .ok (.aconst_null, 1) := dk_1 (dk_at dksX1_lawLine_2 13 rfl rfl)
theorem dX1_lawLine_61 : decode cX1_lawLine 61 = .ok (.invokespecial 310, 3) := dk_183 1 54 (dk_at dksX1_lawLine_2 14 rfl rfl)
theorem dX1_lawLine_64 : decode cX1_lawLine 64 = .ok (.areturn, 1) := dk_176 (dk_at dksX1_lawLine_2 17 rfl rfl)
abbrev cX1_cond : ByteArray := prog_1_method_21_code
def yX1_cond : MethodName := ⟨RX1, "cond", "()LStoneBacks$Cond;"⟩
def dkwX1_cond_1 : List UInt8 := [180, 0, 25, 19, 1, 43, 182, 0, 118, 154, 255, 234, 43, 176]
abbrev dktX1_cond_1 : List UInt8 := dkwX1_cond_1 ++ []
def dkwX1_cond_0 : List UInt8 := [187, 1, 32, 89, 3, 183, 1, 34, 76, 43, 180, 1, 35, 42, 182, 1, 40, 182, 0, 248, 87, 42]
abbrev dktX1_cond_0 : List UInt8 := dkwX1_cond_0 ++ dktX1_cond_1
theorem dksX1_cond_0 : cX1_cond.data.toList.drop 0 = dktX1_cond_0 := by decide +kernel
theorem dksX1_cond_1 : cX1_cond.data.toList.drop 22 = dktX1_cond_1 := dk_seg dksX1_cond_0 22 rfl rfl
theorem dX1_cond_0 : decode cX1_cond 0 = .ok (.new 288, 3) := dk_187 1 32 (dk_at dksX1_cond_0 0 rfl rfl)
theorem dX1_cond_3 : decode cX1_cond 3 = .ok (.dup, 1) := dk_89 (dk_at dksX1_cond_0 3 rfl rfl)
theorem dX1_cond_4 : decode cX1_cond 4 = .ok (.iconst 0, 1) := dk_3 (dk_at dksX1_cond_0 4 rfl rfl)
theorem dX1_cond_5 : decode cX1_cond 5 = .ok (.invokespecial 290, 3) := dk_183 1 34 (dk_at dksX1_cond_0 5 rfl rfl)
theorem dX1_cond_8 : decode cX1_cond 8 = .ok (.astore_n 1, 1) := dk_76 (dk_at dksX1_cond_0 8 rfl rfl)
theorem dX1_cond_9 : decode cX1_cond 9 = .ok (.aload_n 1, 1) := dk_43 (dk_at dksX1_cond_0 9 rfl rfl)
theorem dX1_cond_10 : decode cX1_cond 10 = .ok (.getfield 291, 3) := dk_180 1 35 (dk_at dksX1_cond_0 10 rfl rfl)
theorem dX1_cond_13 : decode cX1_cond 13 = .ok (.aload_n 0, 1) := dk_42 (dk_at dksX1_cond_0 13 rfl rfl)
theorem dX1_cond_14 : decode cX1_cond 14 = .ok (.invokevirtual 296, 3) := dk_182 1 40 (dk_at dksX1_cond_0 14 rfl rfl)
theorem dX1_cond_17 : decode cX1_cond 17 = .ok (.invokevirtual 248, 3) := dk_182 0 248 (dk_at dksX1_cond_0 17 rfl rfl)
theorem dX1_cond_20 : decode cX1_cond 20 = .ok (.pop, 1) := dk_87 (dk_at dksX1_cond_0 20 rfl rfl)
theorem dX1_cond_21 : decode cX1_cond 21 = .ok (.aload_n 0, 1) := dk_42 (dk_at dksX1_cond_0 21 rfl rfl)
theorem dX1_cond_22 : decode cX1_cond 22 = .ok (.getfield 25, 3) := dk_180 0 25 (dk_at dksX1_cond_1 0 rfl rfl)
theorem dX1_cond_25 : decode cX1_cond 25 = .ok (.ldc_w 299, 3) := dk_19 1 43 (dk_at dksX1_cond_1 3 rfl rfl)
theorem dX1_cond_28 : decode cX1_cond 28 = .ok (.invokevirtual 118, 3) := dk_182 0 118 (dk_at dksX1_cond_1 6 rfl rfl)
theorem dX1_cond_31 : decode cX1_cond 31 = .ok (.ifCond .ne (-22), 3) := dk_154 255 234 (dk_at dksX1_cond_1 9 rfl rfl)
theorem dX1_cond_34 : decode cX1_cond 34 = .ok (.aload_n 1, 1) := dk_43 (dk_at dksX1_cond_1 12 rfl rfl)
theorem dX1_cond_35 : decode cX1_cond 35 = .ok (.areturn, 1) := dk_176 (dk_at dksX1_cond_1 13 rfl rfl)
abbrev cX1_allOf : ByteArray := prog_1_method_20_code
def yX1_allOf : MethodName := ⟨RX1, "allOf", "()LStoneBacks$Cond;"⟩
def dkwX1_allOf_1 : List UInt8 := [180, 0, 25, 19, 1, 38, 182, 0, 118, 154, 255, 234, 43, 176]
abbrev dktX1_allOf_1 : List UInt8 := dkwX1_allOf_1 ++ []
def dkwX1_allOf_0 : List UInt8 := [187, 1, 32, 89, 4, 183, 1, 34, 76, 43, 180, 1, 35, 42, 182, 1, 6, 182, 0, 248, 87, 42]
abbrev dktX1_allOf_0 : List UInt8 := dkwX1_allOf_0 ++ dktX1_allOf_1
theorem dksX1_allOf_0 : cX1_allOf.data.toList.drop 0 = dktX1_allOf_0 := by decide +kernel
theorem dksX1_allOf_1 : cX1_allOf.data.toList.drop 22 = dktX1_allOf_1 := dk_seg dksX1_allOf_0 22 rfl rfl
theorem dX1_allOf_0 : decode cX1_allOf 0 = .ok (.new 288, 3) := dk_187 1 32 (dk_at dksX1_allOf_0 0 rfl rfl)
theorem dX1_allOf_3 : decode cX1_allOf 3 = .ok (.dup, 1) := dk_89 (dk_at dksX1_allOf_0 3 rfl rfl)
theorem dX1_allOf_4 : decode cX1_allOf 4 = .ok (.iconst 1, 1) := dk_4 (dk_at dksX1_allOf_0 4 rfl rfl)
theorem dX1_allOf_5 : decode cX1_allOf 5 = .ok (.invokespecial 290, 3) := dk_183 1 34 (dk_at dksX1_allOf_0 5 rfl rfl)
theorem dX1_allOf_8 : decode cX1_allOf 8 = .ok (.astore_n 1, 1) := dk_76 (dk_at dksX1_allOf_0 8 rfl rfl)
theorem dX1_allOf_9 : decode cX1_allOf 9 = .ok (.aload_n 1, 1) := dk_43 (dk_at dksX1_allOf_0 9 rfl rfl)
theorem dX1_allOf_10 : decode cX1_allOf 10 = .ok (.getfield 291, 3) := dk_180 1 35 (dk_at dksX1_allOf_0 10 rfl rfl)
theorem dX1_allOf_13 : decode cX1_allOf 13 = .ok (.aload_n 0, 1) := dk_42 (dk_at dksX1_allOf_0 13 rfl rfl)
theorem dX1_allOf_14 : decode cX1_allOf 14 = .ok (.invokevirtual 262, 3) := dk_182 1 6 (dk_at dksX1_allOf_0 14 rfl rfl)
theorem dX1_allOf_17 : decode cX1_allOf 17 = .ok (.invokevirtual 248, 3) := dk_182 0 248 (dk_at dksX1_allOf_0 17 rfl rfl)
theorem dX1_allOf_20 : decode cX1_allOf 20 = .ok (.pop, 1) := dk_87 (dk_at dksX1_allOf_0 20 rfl rfl)
theorem dX1_allOf_21 : decode cX1_allOf 21 = .ok (.aload_n 0, 1) := dk_42 (dk_at dksX1_allOf_0 21 rfl rfl)
theorem dX1_allOf_22 : decode cX1_allOf 22 = .ok (.getfield 25, 3) := dk_180 0 25 (dk_at dksX1_allOf_1 0 rfl rfl)
theorem dX1_allOf_25 : decode cX1_allOf 25 = .ok (.ldc_w 294, 3) := dk_19 1 38 (dk_at dksX1_allOf_1 3 rfl rfl)
theorem dX1_allOf_28 : decode cX1_allOf 28 = .ok (.invokevirtual 118, 3) := dk_182 0 118 (dk_at dksX1_allOf_1 6 rfl rfl)
theorem dX1_allOf_31 : decode cX1_allOf 31 = .ok (.ifCond .ne (-22), 3) := dk_154 255 234 (dk_at dksX1_allOf_1 9 rfl rfl)
theorem dX1_allOf_34 : decode cX1_allOf 34 = .ok (.aload_n 1, 1) := dk_43 (dk_at dksX1_allOf_1 12 rfl rfl)
theorem dX1_allOf_35 : decode cX1_allOf 35 = .ok (.areturn, 1) := dk_176 (dk_at dksX1_allOf_1 13 rfl rfl)
abbrev cX1_atom : ByteArray := prog_1_method_19_code
def yX1_atom : MethodName := ⟨RX1, "atom", "()LStoneBacks$Cond;"⟩
def dkwX1_atom_6 : List UInt8 := [182, 0, 192, 154, 0, 8, 43, 182, 0, 84, 191, 187, 1, 27, 89, 42, 182, 1, 23, 44, 183, 1, 29, 176]
abbrev dktX1_atom_6 : List UInt8 := dkwX1_atom_6 ++ []
def dkwX1_atom_5 : List UInt8 := [16, 60, 182, 0, 192, 153, 0, 16, 187, 1, 27, 89, 44, 42, 182, 1, 23, 183, 1, 29, 176, 43, 16, 62]
abbrev dktX1_atom_5 : List UInt8 := dkwX1_atom_5 ++ dktX1_atom_6
def dkwX1_atom_4 : List UInt8 := [19, 1, 21, 182, 0, 118, 153, 0, 12, 187, 1, 16, 89, 3, 183, 1, 18, 176, 42, 182, 1, 23, 77, 43]
abbrev dktX1_atom_4 : List UInt8 := dkwX1_atom_4 ++ dktX1_atom_5
def dkwX1_atom_3 : List UInt8 := [183, 1, 11, 176, 43, 19, 1, 14, 182, 0, 118, 153, 0, 12, 187, 1, 16, 89, 4, 183, 1, 18, 176, 43]
abbrev dktX1_atom_3 : List UInt8 := dkwX1_atom_3 ++ dktX1_atom_4
def dkwX1_atom_2 : List UInt8 := [182, 0, 118, 153, 0, 25, 43, 182, 0, 250, 42, 182, 1, 6, 77, 43, 182, 1, 1, 187, 1, 9, 89, 44]
abbrev dktX1_atom_2 : List UInt8 := dkwX1_atom_2 ++ dktX1_atom_3
def dkwX1_atom_1 : List UInt8 := [182, 1, 1, 43, 16, 41, 182, 0, 192, 154, 0, 8, 43, 182, 0, 84, 191, 44, 176, 43, 19, 1, 4]
abbrev dktX1_atom_1 : List UInt8 := dkwX1_atom_1 ++ dktX1_atom_2
def dkwX1_atom_0 : List UInt8 := [42, 180, 0, 25, 76, 43, 16, 40, 182, 0, 192, 153, 0, 32, 43, 182, 0, 250, 42, 182, 0, 253, 77, 43]
abbrev dktX1_atom_0 : List UInt8 := dkwX1_atom_0 ++ dktX1_atom_1
theorem dksX1_atom_0 : cX1_atom.data.toList.drop 0 = dktX1_atom_0 := by decide +kernel
theorem dksX1_atom_1 : cX1_atom.data.toList.drop 24 = dktX1_atom_1 := dk_seg dksX1_atom_0 24 rfl rfl
theorem dksX1_atom_2 : cX1_atom.data.toList.drop 47 = dktX1_atom_2 := dk_seg dksX1_atom_1 23 rfl rfl
theorem dksX1_atom_3 : cX1_atom.data.toList.drop 71 = dktX1_atom_3 := dk_seg dksX1_atom_2 24 rfl rfl
theorem dksX1_atom_4 : cX1_atom.data.toList.drop 95 = dktX1_atom_4 := dk_seg dksX1_atom_3 24 rfl rfl
theorem dksX1_atom_5 : cX1_atom.data.toList.drop 119 = dktX1_atom_5 := dk_seg dksX1_atom_4 24 rfl rfl
theorem dksX1_atom_6 : cX1_atom.data.toList.drop 143 = dktX1_atom_6 := dk_seg dksX1_atom_5 24 rfl rfl
theorem dX1_atom_0 : decode cX1_atom 0 = .ok (.aload_n 0, 1) := dk_42 (dk_at dksX1_atom_0 0 rfl rfl)
theorem dX1_atom_1 : decode cX1_atom 1 = .ok (.getfield 25, 3) := dk_180 0 25 (dk_at dksX1_atom_0 1 rfl rfl)
theorem dX1_atom_4 : decode cX1_atom 4 = .ok (.astore_n 1, 1) := dk_76 (dk_at dksX1_atom_0 4 rfl rfl)
theorem dX1_atom_5 : decode cX1_atom 5 = .ok (.aload_n 1, 1) := dk_43 (dk_at dksX1_atom_0 5 rfl rfl)
theorem dX1_atom_6 : decode cX1_atom 6 = .ok (.bipush 40, 2) := dk_16 40 (dk_at dksX1_atom_0 6 rfl rfl)
theorem dX1_atom_8 : decode cX1_atom 8 = .ok (.invokevirtual 192, 3) := dk_182 0 192 (dk_at dksX1_atom_0 8 rfl rfl)
theorem dX1_atom_11 : decode cX1_atom 11 = .ok (.ifCond .eq 32, 3) := dk_153 0 32 (dk_at dksX1_atom_0 11 rfl rfl)
theorem dX1_atom_14 : decode cX1_atom 14 = .ok (.aload_n 1, 1) := dk_43 (dk_at dksX1_atom_0 14 rfl rfl)
theorem dX1_atom_15 : decode cX1_atom 15 = .ok (.invokevirtual 250, 3) := dk_182 0 250 (dk_at dksX1_atom_0 15 rfl rfl)
theorem dX1_atom_18 : decode cX1_atom 18 = .ok (.aload_n 0, 1) := dk_42 (dk_at dksX1_atom_0 18 rfl rfl)
theorem dX1_atom_19 : decode cX1_atom 19 = .ok (.invokevirtual 253, 3) := dk_182 0 253 (dk_at dksX1_atom_0 19 rfl rfl)
theorem dX1_atom_22 : decode cX1_atom 22 = .ok (.astore_n 2, 1) := dk_77 (dk_at dksX1_atom_0 22 rfl rfl)
theorem dX1_atom_23 : decode cX1_atom 23 = .ok (.aload_n 1, 1) := dk_43 (dk_at dksX1_atom_0 23 rfl rfl)
theorem dX1_atom_24 : decode cX1_atom 24 = .ok (.invokevirtual 257, 3) := dk_182 1 1 (dk_at dksX1_atom_1 0 rfl rfl)
theorem dX1_atom_27 : decode cX1_atom 27 = .ok (.aload_n 1, 1) := dk_43 (dk_at dksX1_atom_1 3 rfl rfl)
theorem dX1_atom_28 : decode cX1_atom 28 = .ok (.bipush 41, 2) := dk_16 41 (dk_at dksX1_atom_1 4 rfl rfl)
theorem dX1_atom_30 : decode cX1_atom 30 = .ok (.invokevirtual 192, 3) := dk_182 0 192 (dk_at dksX1_atom_1 6 rfl rfl)
theorem dX1_atom_33 : decode cX1_atom 33 = .ok (.ifCond .ne 8, 3) := dk_154 0 8 (dk_at dksX1_atom_1 9 rfl rfl)
theorem dX1_atom_36 : decode cX1_atom 36 = .ok (.aload_n 1, 1) := dk_43 (dk_at dksX1_atom_1 12 rfl rfl)
theorem dX1_atom_37 : decode cX1_atom 37 = .ok (.invokevirtual 84, 3) := dk_182 0 84 (dk_at dksX1_atom_1 13 rfl rfl)
theorem dX1_atom_40 : decode cX1_atom 40 = .ok (.athrow, 1) := dk_191 (dk_at dksX1_atom_1 16 rfl rfl)
theorem dX1_atom_41 : decode cX1_atom 41 = .ok (.aload_n 2, 1) := dk_44 (dk_at dksX1_atom_1 17 rfl rfl)
theorem dX1_atom_42 : decode cX1_atom 42 = .ok (.areturn, 1) := dk_176 (dk_at dksX1_atom_1 18 rfl rfl)
theorem dX1_atom_43 : decode cX1_atom 43 = .ok (.aload_n 1, 1) := dk_43 (dk_at dksX1_atom_1 19 rfl rfl)
theorem dX1_atom_44 : decode cX1_atom 44 = .ok (.ldc_w 260, 3) := dk_19 1 4 (dk_at dksX1_atom_1 20 rfl rfl)
theorem dX1_atom_47 : decode cX1_atom 47 = .ok (.invokevirtual 118, 3) := dk_182 0 118 (dk_at dksX1_atom_2 0 rfl rfl)
theorem dX1_atom_50 : decode cX1_atom 50 = .ok (.ifCond .eq 25, 3) := dk_153 0 25 (dk_at dksX1_atom_2 3 rfl rfl)
theorem dX1_atom_53 : decode cX1_atom 53 = .ok (.aload_n 1, 1) := dk_43 (dk_at dksX1_atom_2 6 rfl rfl)
theorem dX1_atom_54 : decode cX1_atom 54 = .ok (.invokevirtual 250, 3) := dk_182 0 250 (dk_at dksX1_atom_2 7 rfl rfl)
theorem dX1_atom_57 : decode cX1_atom 57 = .ok (.aload_n 0, 1) := dk_42 (dk_at dksX1_atom_2 10 rfl rfl)
theorem dX1_atom_58 : decode cX1_atom 58 = .ok (.invokevirtual 262, 3) := dk_182 1 6 (dk_at dksX1_atom_2 11 rfl rfl)
theorem dX1_atom_61 : decode cX1_atom 61 = .ok (.astore_n 2, 1) := dk_77 (dk_at dksX1_atom_2 14 rfl rfl)
theorem dX1_atom_62 : decode cX1_atom 62 = .ok (.aload_n 1, 1) := dk_43 (dk_at dksX1_atom_2 15 rfl rfl)
theorem dX1_atom_63 : decode cX1_atom 63 = .ok (.invokevirtual 257, 3) := dk_182 1 1 (dk_at dksX1_atom_2 16 rfl rfl)
theorem dX1_atom_66 : decode cX1_atom 66 = .ok (.new 265, 3) := dk_187 1 9 (dk_at dksX1_atom_2 19 rfl rfl)
theorem dX1_atom_69 : decode cX1_atom 69 = .ok (.dup, 1) := dk_89 (dk_at dksX1_atom_2 22 rfl rfl)
theorem dX1_atom_70 : decode cX1_atom 70 = .ok (.aload_n 2, 1) := dk_44 (dk_at dksX1_atom_2 23 rfl rfl)
theorem dX1_atom_71 : decode cX1_atom 71 = .ok (.invokespecial 267, 3) := dk_183 1 11 (dk_at dksX1_atom_3 0 rfl rfl)
theorem dX1_atom_74 : decode cX1_atom 74 = .ok (.areturn, 1) := dk_176 (dk_at dksX1_atom_3 3 rfl rfl)
theorem dX1_atom_75 : decode cX1_atom 75 = .ok (.aload_n 1, 1) := dk_43 (dk_at dksX1_atom_3 4 rfl rfl)
theorem dX1_atom_76 : decode cX1_atom 76 = .ok (.ldc_w 270, 3) := dk_19 1 14 (dk_at dksX1_atom_3 5 rfl rfl)
theorem dX1_atom_79 : decode cX1_atom 79 = .ok (.invokevirtual 118, 3) := dk_182 0 118 (dk_at dksX1_atom_3 8 rfl rfl)
theorem dX1_atom_82 : decode cX1_atom 82 = .ok (.ifCond .eq 12, 3) := dk_153 0 12 (dk_at dksX1_atom_3 11 rfl rfl)
theorem dX1_atom_85 : decode cX1_atom 85 = .ok (.new 272, 3) := dk_187 1 16 (dk_at dksX1_atom_3 14 rfl rfl)
theorem dX1_atom_88 : decode cX1_atom 88 = .ok (.dup, 1) := dk_89 (dk_at dksX1_atom_3 17 rfl rfl)
theorem dX1_atom_89 : decode cX1_atom 89 = .ok (.iconst 1, 1) := dk_4 (dk_at dksX1_atom_3 18 rfl rfl)
theorem dX1_atom_90 : decode cX1_atom 90 = .ok (.invokespecial 274, 3) := dk_183 1 18 (dk_at dksX1_atom_3 19 rfl rfl)
theorem dX1_atom_93 : decode cX1_atom 93 = .ok (.areturn, 1) := dk_176 (dk_at dksX1_atom_3 22 rfl rfl)
theorem dX1_atom_94 : decode cX1_atom 94 = .ok (.aload_n 1, 1) := dk_43 (dk_at dksX1_atom_3 23 rfl rfl)
theorem dX1_atom_95 : decode cX1_atom 95 = .ok (.ldc_w 277, 3) := dk_19 1 21 (dk_at dksX1_atom_4 0 rfl rfl)
theorem dX1_atom_98 : decode cX1_atom 98 = .ok (.invokevirtual 118, 3) := dk_182 0 118 (dk_at dksX1_atom_4 3 rfl rfl)
theorem dX1_atom_101 : decode cX1_atom 101 = .ok (.ifCond .eq 12, 3) := dk_153 0 12 (dk_at dksX1_atom_4 6 rfl rfl)
theorem dX1_atom_104 : decode cX1_atom 104 = .ok (.new 272, 3) := dk_187 1 16 (dk_at dksX1_atom_4 9 rfl rfl)
theorem dX1_atom_107 : decode cX1_atom 107 = .ok (.dup, 1) := dk_89 (dk_at dksX1_atom_4 12 rfl rfl)
theorem dX1_atom_108 : decode cX1_atom 108 = .ok (.iconst 0, 1) := dk_3 (dk_at dksX1_atom_4 13 rfl rfl)
theorem dX1_atom_109 : decode cX1_atom 109 = .ok (.invokespecial 274, 3) := dk_183 1 18 (dk_at dksX1_atom_4 14 rfl rfl)
theorem dX1_atom_112 : decode cX1_atom 112 = .ok (.areturn, 1) := dk_176 (dk_at dksX1_atom_4 17 rfl rfl)
theorem dX1_atom_113 : decode cX1_atom 113 = .ok (.aload_n 0, 1) := dk_42 (dk_at dksX1_atom_4 18 rfl rfl)
theorem dX1_atom_114 : decode cX1_atom 114 = .ok (.invokevirtual 279, 3) := dk_182 1 23 (dk_at dksX1_atom_4 19 rfl rfl)
theorem dX1_atom_117 : decode cX1_atom 117 = .ok (.astore_n 2, 1) := dk_77 (dk_at dksX1_atom_4 22 rfl rfl)
theorem dX1_atom_118 : decode cX1_atom 118 = .ok (.aload_n 1, 1) := dk_43 (dk_at dksX1_atom_4 23 rfl rfl)
theorem dX1_atom_119 : decode cX1_atom 119 = .ok (.bipush 60, 2) := dk_16 60 (dk_at dksX1_atom_5 0 rfl rfl)
theorem dX1_atom_121 : decode cX1_atom 121 = .ok (.invokevirtual 192, 3) := dk_182 0 192 (dk_at dksX1_atom_5 2 rfl rfl)
theorem dX1_atom_124 : decode cX1_atom 124 = .ok (.ifCond .eq 16, 3) := dk_153 0 16 (dk_at dksX1_atom_5 5 rfl rfl)
theorem dX1_atom_127 : decode cX1_atom 127 = .ok (.new 283, 3) := dk_187 1 27 (dk_at dksX1_atom_5 8 rfl rfl)
theorem dX1_atom_130 : decode cX1_atom 130 = .ok (.dup, 1) := dk_89 (dk_at dksX1_atom_5 11 rfl rfl)
theorem dX1_atom_131 : decode cX1_atom 131 = .ok (.aload_n 2, 1) := dk_44 (dk_at dksX1_atom_5 12 rfl rfl)
theorem dX1_atom_132 : decode cX1_atom 132 = .ok (.aload_n 0, 1) := dk_42 (dk_at dksX1_atom_5 13 rfl rfl)
theorem dX1_atom_133 : decode cX1_atom 133 = .ok (.invokevirtual 279, 3) := dk_182 1 23 (dk_at dksX1_atom_5 14 rfl rfl)
theorem dX1_atom_136 : decode cX1_atom 136 = .ok (.invokespecial 285, 3) := dk_183 1 29 (dk_at dksX1_atom_5 17 rfl rfl)
theorem dX1_atom_139 : decode cX1_atom 139 = .ok (.areturn, 1) := dk_176 (dk_at dksX1_atom_5 20 rfl rfl)
theorem dX1_atom_140 : decode cX1_atom 140 = .ok (.aload_n 1, 1) := dk_43 (dk_at dksX1_atom_5 21 rfl rfl)
theorem dX1_atom_141 : decode cX1_atom 141 = .ok (.bipush 62, 2) := dk_16 62 (dk_at dksX1_atom_5 22 rfl rfl)
theorem dX1_atom_143 : decode cX1_atom 143 = .ok (.invokevirtual 192, 3) := dk_182 0 192 (dk_at dksX1_atom_6 0 rfl rfl)
theorem dX1_atom_146 : decode cX1_atom 146 = .ok (.ifCond .ne 8, 3) := dk_154 0 8 (dk_at dksX1_atom_6 3 rfl rfl)
theorem dX1_atom_149 : decode cX1_atom 149 = .ok (.aload_n 1, 1) := dk_43 (dk_at dksX1_atom_6 6 rfl rfl)
theorem dX1_atom_150 : decode cX1_atom 150 = .ok (.invokevirtual 84, 3) := dk_182 0 84 (dk_at dksX1_atom_6 7 rfl rfl)
theorem dX1_atom_153 : decode cX1_atom 153 = .ok (.athrow, 1) := dk_191 (dk_at dksX1_atom_6 10 rfl rfl)
theorem dX1_atom_154 : decode cX1_atom 154 = .ok (.new 283, 3) := dk_187 1 27 (dk_at dksX1_atom_6 11 rfl rfl)
theorem dX1_atom_157 : decode cX1_atom 157 = .ok (.dup, 1) := dk_89 (dk_at dksX1_atom_6 14 rfl rfl)
theorem dX1_atom_158 : decode cX1_atom 158 = .ok (.aload_n 0, 1) := dk_42 (dk_at dksX1_atom_6 15 rfl rfl)
theorem dX1_atom_159 : decode cX1_atom 159 = .ok (.invokevirtual 279, 3) := dk_182 1 23 (dk_at dksX1_atom_6 16 rfl rfl)
theorem dX1_atom_162 : decode cX1_atom 162 = .ok (.aload_n 2, 1) := dk_44 (dk_at dksX1_atom_6 19 rfl rfl)
theorem dX1_atom_163 : decode cX1_atom 163 = .ok (.invokespecial 285, 3) := dk_183 1 29 (dk_at dksX1_atom_6 20 rfl rfl)
theorem dX1_atom_166 : decode cX1_atom 166 = .ok (.areturn, 1) := dk_176 (dk_at dksX1_atom_6 23 rfl rfl)
abbrev cX1_sum : ByteArray := prog_1_method_18_code
def yX1_sum : MethodName := ⟨RX1, "sum", "()LStoneBacks$Sum;"⟩
def dkwX1_sum_1 : List UInt8 := [16, 43, 182, 0, 192, 154, 255, 235, 43, 176]
abbrev dktX1_sum_1 : List UInt8 := dkwX1_sum_1 ++ []
def dkwX1_sum_0 : List UInt8 := [187, 0, 238, 89, 183, 0, 240, 76, 43, 180, 0, 241, 42, 182, 0, 244, 182, 0, 248, 87, 42, 180, 0, 25]
abbrev dktX1_sum_0 : List UInt8 := dkwX1_sum_0 ++ dktX1_sum_1
theorem dksX1_sum_0 : cX1_sum.data.toList.drop 0 = dktX1_sum_0 := by decide +kernel
theorem dksX1_sum_1 : cX1_sum.data.toList.drop 24 = dktX1_sum_1 := dk_seg dksX1_sum_0 24 rfl rfl
theorem dX1_sum_0 : decode cX1_sum 0 = .ok (.new 238, 3) := dk_187 0 238 (dk_at dksX1_sum_0 0 rfl rfl)
theorem dX1_sum_3 : decode cX1_sum 3 = .ok (.dup, 1) := dk_89 (dk_at dksX1_sum_0 3 rfl rfl)
theorem dX1_sum_4 : decode cX1_sum 4 = .ok (.invokespecial 240, 3) := dk_183 0 240 (dk_at dksX1_sum_0 4 rfl rfl)
theorem dX1_sum_7 : decode cX1_sum 7 = .ok (.astore_n 1, 1) := dk_76 (dk_at dksX1_sum_0 7 rfl rfl)
theorem dX1_sum_8 : decode cX1_sum 8 = .ok (.aload_n 1, 1) := dk_43 (dk_at dksX1_sum_0 8 rfl rfl)
theorem dX1_sum_9 : decode cX1_sum 9 = .ok (.getfield 241, 3) := dk_180 0 241 (dk_at dksX1_sum_0 9 rfl rfl)
theorem dX1_sum_12 : decode cX1_sum 12 = .ok (.aload_n 0, 1) := dk_42 (dk_at dksX1_sum_0 12 rfl rfl)
theorem dX1_sum_13 : decode cX1_sum 13 = .ok (.invokevirtual 244, 3) := dk_182 0 244 (dk_at dksX1_sum_0 13 rfl rfl)
theorem dX1_sum_16 : decode cX1_sum 16 = .ok (.invokevirtual 248, 3) := dk_182 0 248 (dk_at dksX1_sum_0 16 rfl rfl)
theorem dX1_sum_19 : decode cX1_sum 19 = .ok (.pop, 1) := dk_87 (dk_at dksX1_sum_0 19 rfl rfl)
theorem dX1_sum_20 : decode cX1_sum 20 = .ok (.aload_n 0, 1) := dk_42 (dk_at dksX1_sum_0 20 rfl rfl)
theorem dX1_sum_21 : decode cX1_sum 21 = .ok (.getfield 25, 3) := dk_180 0 25 (dk_at dksX1_sum_0 21 rfl rfl)
theorem dX1_sum_24 : decode cX1_sum 24 = .ok (.bipush 43, 2) := dk_16 43 (dk_at dksX1_sum_1 0 rfl rfl)
theorem dX1_sum_26 : decode cX1_sum 26 = .ok (.invokevirtual 192, 3) := dk_182 0 192 (dk_at dksX1_sum_1 2 rfl rfl)
theorem dX1_sum_29 : decode cX1_sum 29 = .ok (.ifCond .ne (-21), 3) := dk_154 255 235 (dk_at dksX1_sum_1 5 rfl rfl)
theorem dX1_sum_32 : decode cX1_sum 32 = .ok (.aload_n 1, 1) := dk_43 (dk_at dksX1_sum_1 8 rfl rfl)
theorem dX1_sum_33 : decode cX1_sum 33 = .ok (.areturn, 1) := dk_176 (dk_at dksX1_sum_1 9 rfl rfl)
abbrev cX1_onePart : ByteArray := prog_1_method_17_code
def yX1_onePart : MethodName := ⟨RX1, "onePart", "()LStoneBacks$Part;"⟩
def dkwX1_onePart_2 : List UInt8 := [180, 0, 25, 182, 0, 84, 191, 187, 0, 228, 89, 3, 43, 183, 0, 230, 176]
abbrev dktX1_onePart_2 : List UInt8 := dkwX1_onePart_2 ++ []
def dkwX1_onePart_1 : List UInt8 := [182, 0, 92, 1, 183, 0, 230, 176, 42, 180, 0, 25, 182, 0, 74, 184, 0, 233, 76, 43, 199, 0, 11, 42]
abbrev dktX1_onePart_1 : List UInt8 := dkwX1_onePart_1 ++ dktX1_onePart_2
def dkwX1_onePart_0 : List UInt8 := [42, 180, 0, 25, 182, 0, 225, 153, 0, 23, 187, 0, 228, 89, 42, 180, 0, 25, 3, 17, 3, 231]
abbrev dktX1_onePart_0 : List UInt8 := dkwX1_onePart_0 ++ dktX1_onePart_1
theorem dksX1_onePart_0 : cX1_onePart.data.toList.drop 0 = dktX1_onePart_0 := by decide +kernel
theorem dksX1_onePart_1 : cX1_onePart.data.toList.drop 22 = dktX1_onePart_1 := dk_seg dksX1_onePart_0 22 rfl rfl
theorem dksX1_onePart_2 : cX1_onePart.data.toList.drop 46 = dktX1_onePart_2 := dk_seg dksX1_onePart_1 24 rfl rfl
theorem dX1_onePart_0 : decode cX1_onePart 0 = .ok (.aload_n 0, 1) := dk_42 (dk_at dksX1_onePart_0 0 rfl rfl)
theorem dX1_onePart_1 : decode cX1_onePart 1 = .ok (.getfield 25, 3) := dk_180 0 25 (dk_at dksX1_onePart_0 1 rfl rfl)
theorem dX1_onePart_4 : decode cX1_onePart 4 = .ok (.invokevirtual 225, 3) := dk_182 0 225 (dk_at dksX1_onePart_0 4 rfl rfl)
theorem dX1_onePart_7 : decode cX1_onePart 7 = .ok (.ifCond .eq 23, 3) := dk_153 0 23 (dk_at dksX1_onePart_0 7 rfl rfl)
theorem dX1_onePart_10 : decode cX1_onePart 10 = .ok (.new 228, 3) := dk_187 0 228 (dk_at dksX1_onePart_0 10 rfl rfl)
theorem dX1_onePart_13 : decode cX1_onePart 13 = .ok (.dup, 1) := dk_89 (dk_at dksX1_onePart_0 13 rfl rfl)
theorem dX1_onePart_14 : decode cX1_onePart 14 = .ok (.aload_n 0, 1) := dk_42 (dk_at dksX1_onePart_0 14 rfl rfl)
theorem dX1_onePart_15 : decode cX1_onePart 15 = .ok (.getfield 25, 3) := dk_180 0 25 (dk_at dksX1_onePart_0 15 rfl rfl)
theorem dX1_onePart_18 : decode cX1_onePart 18 = .ok (.iconst 0, 1) := dk_3 (dk_at dksX1_onePart_0 18 rfl rfl)
theorem dX1_onePart_19 : decode cX1_onePart 19 = .ok (.sipush 999, 3) := dk_17 3 231 (dk_at dksX1_onePart_0 19 rfl rfl)
theorem dX1_onePart_22 : decode cX1_onePart 22 = .ok (.invokevirtual 92, 3) := dk_182 0 92 (dk_at dksX1_onePart_1 0 rfl rfl)
theorem dX1_onePart_25 : decode cX1_onePart 25 = .ok (.aconst_null, 1) := dk_1 (dk_at dksX1_onePart_1 3 rfl rfl)
theorem dX1_onePart_26 : decode cX1_onePart 26 = .ok (.invokespecial 230, 3) := dk_183 0 230 (dk_at dksX1_onePart_1 4 rfl rfl)
theorem dX1_onePart_29 : decode cX1_onePart 29 = .ok (.areturn, 1) := dk_176 (dk_at dksX1_onePart_1 7 rfl rfl)
theorem dX1_onePart_30 : decode cX1_onePart 30 = .ok (.aload_n 0, 1) := dk_42 (dk_at dksX1_onePart_1 8 rfl rfl)
theorem dX1_onePart_31 : decode cX1_onePart 31 = .ok (.getfield 25, 3) := dk_180 0 25 (dk_at dksX1_onePart_1 9 rfl rfl)
theorem dX1_onePart_34 : decode cX1_onePart 34 = .ok (.invokevirtual 74, 3) := dk_182 0 74 (dk_at dksX1_onePart_1 12 rfl rfl)
theorem dX1_onePart_37 : decode cX1_onePart 37 = .ok (.invokestatic 233, 3) := dk_184 0 233 (dk_at dksX1_onePart_1 15 rfl rfl)
theorem dX1_onePart_40 : decode cX1_onePart 40 = .ok (.astore_n 1, 1) := dk_76 (dk_at dksX1_onePart_1 18 rfl rfl)
theorem dX1_onePart_41 : decode cX1_onePart 41 = .ok (.aload_n 1, 1) := dk_43 (dk_at dksX1_onePart_1 19 rfl rfl)
theorem dX1_onePart_42 : decode cX1_onePart 42 = .ok (.ifnonnull 11, 3) := dk_199 0 11 (dk_at dksX1_onePart_1 20 rfl rfl)
theorem dX1_onePart_45 : decode cX1_onePart 45 = .ok (.aload_n 0, 1) := dk_42 (dk_at dksX1_onePart_1 23 rfl rfl)
theorem dX1_onePart_46 : decode cX1_onePart 46 = .ok (.getfield 25, 3) := dk_180 0 25 (dk_at dksX1_onePart_2 0 rfl rfl)
theorem dX1_onePart_49 : decode cX1_onePart 49 = .ok (.invokevirtual 84, 3) := dk_182 0 84 (dk_at dksX1_onePart_2 3 rfl rfl)
theorem dX1_onePart_52 : decode cX1_onePart 52 = .ok (.athrow, 1) := dk_191 (dk_at dksX1_onePart_2 6 rfl rfl)
theorem dX1_onePart_53 : decode cX1_onePart 53 = .ok (.new 228, 3) := dk_187 0 228 (dk_at dksX1_onePart_2 7 rfl rfl)
theorem dX1_onePart_56 : decode cX1_onePart 56 = .ok (.dup, 1) := dk_89 (dk_at dksX1_onePart_2 10 rfl rfl)
theorem dX1_onePart_57 : decode cX1_onePart 57 = .ok (.iconst 0, 1) := dk_3 (dk_at dksX1_onePart_2 11 rfl rfl)
theorem dX1_onePart_58 : decode cX1_onePart 58 = .ok (.aload_n 1, 1) := dk_43 (dk_at dksX1_onePart_2 12 rfl rfl)
theorem dX1_onePart_59 : decode cX1_onePart 59 = .ok (.invokespecial 230, 3) := dk_183 0 230 (dk_at dksX1_onePart_2 13 rfl rfl)
theorem dX1_onePart_62 : decode cX1_onePart 62 = .ok (.areturn, 1) := dk_176 (dk_at dksX1_onePart_2 16 rfl rfl)
abbrev cX1_person : ByteArray := prog_1_method_42_code
def yX1_person : MethodName := ⟨RX1, "person", "(II)I"⟩
def dkwX1_person_6 : List UInt8 := [182, 1, 131, 153, 0, 7, 4, 167, 0, 4, 3, 172]
abbrev dktX1_person_6 : List UInt8 := dkwX1_person_6 ++ []
def dkwX1_person_5 : List UInt8 := [182, 1, 195, 172, 45, 45, 27, 182, 1, 198, 182, 1, 195, 172, 42, 27, 182, 1, 201, 172, 45, 27]
abbrev dktX1_person_5 : List UInt8 := dkwX1_person_5 ++ dktX1_person_6
def dkwX1_person_4 : List UInt8 := [167, 0, 4, 3, 172, 45, 27, 182, 1, 81, 172, 45, 27, 182, 1, 189, 172, 45, 45, 27, 182, 1, 192]
abbrev dktX1_person_4 : List UInt8 := dkwX1_person_4 ++ dktX1_person_5
def dkwX1_person_3 : List UInt8 := [180, 0, 114, 27, 46, 172, 45, 180, 0, 126, 27, 46, 172, 45, 180, 0, 129, 27, 51, 153, 0, 7, 4]
abbrev dktX1_person_3 : List UInt8 := dkwX1_person_3 ++ dktX1_person_4
def dkwX1_person_2 : List UInt8 := [45, 180, 0, 99, 27, 46, 172, 45, 180, 0, 102, 27, 46, 172, 45, 180, 0, 110, 27, 46, 172, 45]
abbrev dktX1_person_2 : List UInt8 := dkwX1_person_2 ++ dktX1_person_3
def dkwX1_person_1 : List UInt8 := [170, 0, 0, 0, 0, 0, 147, 0, 0, 0, 0, 0, 0, 0, 10, 0, 0, 0, 59, 0, 0, 0, 66, 0, 0, 0, 73, 0, 0, 0, 80, 0, 0, 0, 87, 0, 0, 0, 94, 0, 0, 0, 109, 0, 0, 0, 115, 0, 0, 0, 121, 0, 0, 0, 131, 0, 0, 0, 141]
abbrev dktX1_person_1 : List UInt8 := dkwX1_person_1 ++ dktX1_person_2
def dkwX1_person_0 : List UInt8 := [42, 27, 182, 1, 183, 28, 16, 11, 184, 1, 186, 42, 180, 0, 10, 78, 28]
abbrev dktX1_person_0 : List UInt8 := dkwX1_person_0 ++ dktX1_person_1
theorem dksX1_person_0 : cX1_person.data.toList.drop 0 = dktX1_person_0 := by decide +kernel
theorem dksX1_person_1 : cX1_person.data.toList.drop 17 = dktX1_person_1 := dk_seg dksX1_person_0 17 rfl rfl
theorem dksX1_person_2 : cX1_person.data.toList.drop 76 = dktX1_person_2 := dk_seg dksX1_person_1 59 rfl rfl
theorem dksX1_person_3 : cX1_person.data.toList.drop 98 = dktX1_person_3 := dk_seg dksX1_person_2 22 rfl rfl
theorem dksX1_person_4 : cX1_person.data.toList.drop 121 = dktX1_person_4 := dk_seg dksX1_person_3 23 rfl rfl
theorem dksX1_person_5 : cX1_person.data.toList.drop 144 = dktX1_person_5 := dk_seg dksX1_person_4 23 rfl rfl
theorem dksX1_person_6 : cX1_person.data.toList.drop 166 = dktX1_person_6 := dk_seg dksX1_person_5 22 rfl rfl
theorem dX1_person_0 : decode cX1_person 0 = .ok (.aload_n 0, 1) := dk_42 (dk_at dksX1_person_0 0 rfl rfl)
theorem dX1_person_1 : decode cX1_person 1 = .ok (.iload_n 1, 1) := dk_27 (dk_at dksX1_person_0 1 rfl rfl)
theorem dX1_person_2 : decode cX1_person 2 = .ok (.invokevirtual 439, 3) := dk_182 1 183 (dk_at dksX1_person_0 2 rfl rfl)
theorem dX1_person_5 : decode cX1_person 5 = .ok (.iload_n 2, 1) := dk_28 (dk_at dksX1_person_0 5 rfl rfl)
theorem dX1_person_6 : decode cX1_person 6 = .ok (.bipush 11, 2) := dk_16 11 (dk_at dksX1_person_0 6 rfl rfl)
theorem dX1_person_8 : decode cX1_person 8 = .ok (.invokestatic 442, 3) := dk_184 1 186 (dk_at dksX1_person_0 8 rfl rfl)
theorem dX1_person_11 : decode cX1_person 11 = .ok (.aload_n 0, 1) := dk_42 (dk_at dksX1_person_0 11 rfl rfl)
theorem dX1_person_12 : decode cX1_person 12 = .ok (.getfield 10, 3) := dk_180 0 10 (dk_at dksX1_person_0 12 rfl rfl)
theorem dX1_person_15 : decode cX1_person 15 = .ok (.astore_n 3, 1) := dk_78 (dk_at dksX1_person_0 15 rfl rfl)
theorem dX1_person_16 : decode cX1_person 16 = .ok (.iload_n 2, 1) := dk_28 (dk_at dksX1_person_0 16 rfl rfl)
theorem dX1_person_17 : decode cX1_person 17 = .ok (.tableswitch 147 0 10 #[59, 66, 73, 80, 87, 94, 109, 115, 121, 131, 141], 59) := by decide +kernel
theorem dX1_person_76 : decode cX1_person 76 = .ok (.aload_n 3, 1) := dk_45 (dk_at dksX1_person_2 0 rfl rfl)
theorem dX1_person_77 : decode cX1_person 77 = .ok (.getfield 99, 3) := dk_180 0 99 (dk_at dksX1_person_2 1 rfl rfl)
theorem dX1_person_80 : decode cX1_person 80 = .ok (.iload_n 1, 1) := dk_27 (dk_at dksX1_person_2 4 rfl rfl)
theorem dX1_person_81 : decode cX1_person 81 = .ok (.iaload, 1) := dk_46 (dk_at dksX1_person_2 5 rfl rfl)
theorem dX1_person_82 : decode cX1_person 82 = .ok (.ireturn, 1) := dk_172 (dk_at dksX1_person_2 6 rfl rfl)
theorem dX1_person_83 : decode cX1_person 83 = .ok (.aload_n 3, 1) := dk_45 (dk_at dksX1_person_2 7 rfl rfl)
theorem dX1_person_84 : decode cX1_person 84 = .ok (.getfield 102, 3) := dk_180 0 102 (dk_at dksX1_person_2 8 rfl rfl)
theorem dX1_person_87 : decode cX1_person 87 = .ok (.iload_n 1, 1) := dk_27 (dk_at dksX1_person_2 11 rfl rfl)
theorem dX1_person_88 : decode cX1_person 88 = .ok (.iaload, 1) := dk_46 (dk_at dksX1_person_2 12 rfl rfl)
theorem dX1_person_89 : decode cX1_person 89 = .ok (.ireturn, 1) := dk_172 (dk_at dksX1_person_2 13 rfl rfl)
theorem dX1_person_90 : decode cX1_person 90 = .ok (.aload_n 3, 1) := dk_45 (dk_at dksX1_person_2 14 rfl rfl)
theorem dX1_person_91 : decode cX1_person 91 = .ok (.getfield 110, 3) := dk_180 0 110 (dk_at dksX1_person_2 15 rfl rfl)
theorem dX1_person_94 : decode cX1_person 94 = .ok (.iload_n 1, 1) := dk_27 (dk_at dksX1_person_2 18 rfl rfl)
theorem dX1_person_95 : decode cX1_person 95 = .ok (.iaload, 1) := dk_46 (dk_at dksX1_person_2 19 rfl rfl)
theorem dX1_person_96 : decode cX1_person 96 = .ok (.ireturn, 1) := dk_172 (dk_at dksX1_person_2 20 rfl rfl)
theorem dX1_person_97 : decode cX1_person 97 = .ok (.aload_n 3, 1) := dk_45 (dk_at dksX1_person_2 21 rfl rfl)
theorem dX1_person_98 : decode cX1_person 98 = .ok (.getfield 114, 3) := dk_180 0 114 (dk_at dksX1_person_3 0 rfl rfl)
theorem dX1_person_101 : decode cX1_person 101 = .ok (.iload_n 1, 1) := dk_27 (dk_at dksX1_person_3 3 rfl rfl)
theorem dX1_person_102 : decode cX1_person 102 = .ok (.iaload, 1) := dk_46 (dk_at dksX1_person_3 4 rfl rfl)
theorem dX1_person_103 : decode cX1_person 103 = .ok (.ireturn, 1) := dk_172 (dk_at dksX1_person_3 5 rfl rfl)
theorem dX1_person_104 : decode cX1_person 104 = .ok (.aload_n 3, 1) := dk_45 (dk_at dksX1_person_3 6 rfl rfl)
theorem dX1_person_105 : decode cX1_person 105 = .ok (.getfield 126, 3) := dk_180 0 126 (dk_at dksX1_person_3 7 rfl rfl)
theorem dX1_person_108 : decode cX1_person 108 = .ok (.iload_n 1, 1) := dk_27 (dk_at dksX1_person_3 10 rfl rfl)
theorem dX1_person_109 : decode cX1_person 109 = .ok (.iaload, 1) := dk_46 (dk_at dksX1_person_3 11 rfl rfl)
theorem dX1_person_110 : decode cX1_person 110 = .ok (.ireturn, 1) := dk_172 (dk_at dksX1_person_3 12 rfl rfl)
theorem dX1_person_111 : decode cX1_person 111 = .ok (.aload_n 3, 1) := dk_45 (dk_at dksX1_person_3 13 rfl rfl)
theorem dX1_person_112 : decode cX1_person 112 = .ok (.getfield 129, 3) := dk_180 0 129 (dk_at dksX1_person_3 14 rfl rfl)
theorem dX1_person_115 : decode cX1_person 115 = .ok (.iload_n 1, 1) := dk_27 (dk_at dksX1_person_3 17 rfl rfl)
theorem dX1_person_116 : decode cX1_person 116 = .ok (.baload, 1) := dk_51 (dk_at dksX1_person_3 18 rfl rfl)
theorem dX1_person_117 : decode cX1_person 117 = .ok (.ifCond .eq 7, 3) := dk_153 0 7 (dk_at dksX1_person_3 19 rfl rfl)
theorem dX1_person_120 : decode cX1_person 120 = .ok (.iconst 1, 1) := dk_4 (dk_at dksX1_person_3 22 rfl rfl)
theorem dX1_person_121 : decode cX1_person 121 = .ok (.goto 4, 3) := dk_167 0 4 (dk_at dksX1_person_4 0 rfl rfl)
theorem dX1_person_124 : decode cX1_person 124 = .ok (.iconst 0, 1) := dk_3 (dk_at dksX1_person_4 3 rfl rfl)
theorem dX1_person_125 : decode cX1_person 125 = .ok (.ireturn, 1) := dk_172 (dk_at dksX1_person_4 4 rfl rfl)
theorem dX1_person_126 : decode cX1_person 126 = .ok (.aload_n 3, 1) := dk_45 (dk_at dksX1_person_4 5 rfl rfl)
theorem dX1_person_127 : decode cX1_person 127 = .ok (.iload_n 1, 1) := dk_27 (dk_at dksX1_person_4 6 rfl rfl)
theorem dX1_person_128 : decode cX1_person 128 = .ok (.invokevirtual 337, 3) := dk_182 1 81 (dk_at dksX1_person_4 7 rfl rfl)
theorem dX1_person_131 : decode cX1_person 131 = .ok (.ireturn, 1) := dk_172 (dk_at dksX1_person_4 10 rfl rfl)
theorem dX1_person_132 : decode cX1_person 132 = .ok (.aload_n 3, 1) := dk_45 (dk_at dksX1_person_4 11 rfl rfl)
theorem dX1_person_133 : decode cX1_person 133 = .ok (.iload_n 1, 1) := dk_27 (dk_at dksX1_person_4 12 rfl rfl)
theorem dX1_person_134 : decode cX1_person 134 = .ok (.invokevirtual 445, 3) := dk_182 1 189 (dk_at dksX1_person_4 13 rfl rfl)
theorem dX1_person_137 : decode cX1_person 137 = .ok (.ireturn, 1) := dk_172 (dk_at dksX1_person_4 16 rfl rfl)
theorem dX1_person_138 : decode cX1_person 138 = .ok (.aload_n 3, 1) := dk_45 (dk_at dksX1_person_4 17 rfl rfl)
theorem dX1_person_139 : decode cX1_person 139 = .ok (.aload_n 3, 1) := dk_45 (dk_at dksX1_person_4 18 rfl rfl)
theorem dX1_person_140 : decode cX1_person 140 = .ok (.iload_n 1, 1) := dk_27 (dk_at dksX1_person_4 19 rfl rfl)
theorem dX1_person_141 : decode cX1_person 141 = .ok (.invokevirtual 448, 3) := dk_182 1 192 (dk_at dksX1_person_4 20 rfl rfl)
theorem dX1_person_144 : decode cX1_person 144 = .ok (.invokevirtual 451, 3) := dk_182 1 195 (dk_at dksX1_person_5 0 rfl rfl)
theorem dX1_person_147 : decode cX1_person 147 = .ok (.ireturn, 1) := dk_172 (dk_at dksX1_person_5 3 rfl rfl)
theorem dX1_person_148 : decode cX1_person 148 = .ok (.aload_n 3, 1) := dk_45 (dk_at dksX1_person_5 4 rfl rfl)
theorem dX1_person_149 : decode cX1_person 149 = .ok (.aload_n 3, 1) := dk_45 (dk_at dksX1_person_5 5 rfl rfl)
theorem dX1_person_150 : decode cX1_person 150 = .ok (.iload_n 1, 1) := dk_27 (dk_at dksX1_person_5 6 rfl rfl)
theorem dX1_person_151 : decode cX1_person 151 = .ok (.invokevirtual 454, 3) := dk_182 1 198 (dk_at dksX1_person_5 7 rfl rfl)
theorem dX1_person_154 : decode cX1_person 154 = .ok (.invokevirtual 451, 3) := dk_182 1 195 (dk_at dksX1_person_5 10 rfl rfl)
theorem dX1_person_157 : decode cX1_person 157 = .ok (.ireturn, 1) := dk_172 (dk_at dksX1_person_5 13 rfl rfl)
theorem dX1_person_158 : decode cX1_person 158 = .ok (.aload_n 0, 1) := dk_42 (dk_at dksX1_person_5 14 rfl rfl)
theorem dX1_person_159 : decode cX1_person 159 = .ok (.iload_n 1, 1) := dk_27 (dk_at dksX1_person_5 15 rfl rfl)
theorem dX1_person_160 : decode cX1_person 160 = .ok (.invokevirtual 457, 3) := dk_182 1 201 (dk_at dksX1_person_5 16 rfl rfl)
theorem dX1_person_163 : decode cX1_person 163 = .ok (.ireturn, 1) := dk_172 (dk_at dksX1_person_5 19 rfl rfl)
theorem dX1_person_164 : decode cX1_person 164 = .ok (.aload_n 3, 1) := dk_45 (dk_at dksX1_person_5 20 rfl rfl)
theorem dX1_person_165 : decode cX1_person 165 = .ok (.iload_n 1, 1) := dk_27 (dk_at dksX1_person_5 21 rfl rfl)
theorem dX1_person_166 : decode cX1_person 166 = .ok (.invokevirtual 387, 3) := dk_182 1 131 (dk_at dksX1_person_6 0 rfl rfl)
theorem dX1_person_169 : decode cX1_person 169 = .ok (.ifCond .eq 7, 3) := dk_153 0 7 (dk_at dksX1_person_6 3 rfl rfl)
theorem dX1_person_172 : decode cX1_person 172 = .ok (.iconst 1, 1) := dk_4 (dk_at dksX1_person_6 6 rfl rfl)
theorem dX1_person_173 : decode cX1_person 173 = .ok (.goto 4, 3) := dk_167 0 4 (dk_at dksX1_person_6 7 rfl rfl)
theorem dX1_person_176 : decode cX1_person 176 = .ok (.iconst 0, 1) := dk_3 (dk_at dksX1_person_6 10 rfl rfl)
theorem dX1_person_177 : decode cX1_person 177 = .ok (.ireturn, 1) := dk_172 (dk_at dksX1_person_6 11 rfl rfl)
abbrev cX1_personAt : ByteArray := prog_1_method_37_code
def yX1_personAt : MethodName := ⟨RX1, "personAt", "(I)V"⟩
def dkwX1_personAt_0 : List UInt8 := [27, 42, 180, 0, 10, 180, 0, 96, 184, 1, 173, 177]
abbrev dktX1_personAt_0 : List UInt8 := dkwX1_personAt_0 ++ []
theorem dksX1_personAt_0 : cX1_personAt.data.toList.drop 0 = dktX1_personAt_0 := by decide +kernel
theorem dX1_personAt_0 : decode cX1_personAt 0 = .ok (.iload_n 1, 1) := dk_27 (dk_at dksX1_personAt_0 0 rfl rfl)
theorem dX1_personAt_1 : decode cX1_personAt 1 = .ok (.aload_n 0, 1) := dk_42 (dk_at dksX1_personAt_0 1 rfl rfl)
theorem dX1_personAt_2 : decode cX1_personAt 2 = .ok (.getfield 10, 3) := dk_180 0 10 (dk_at dksX1_personAt_0 2 rfl rfl)
theorem dX1_personAt_5 : decode cX1_personAt 5 = .ok (.getfield 96, 3) := dk_180 0 96 (dk_at dksX1_personAt_0 5 rfl rfl)
theorem dX1_personAt_8 : decode cX1_personAt 8 = .ok (.invokestatic 429, 3) := dk_184 1 173 (dk_at dksX1_personAt_0 8 rfl rfl)
theorem dX1_personAt_11 : decode cX1_personAt 11 = .ok (.return_, 1) := dk_177 (dk_at dksX1_personAt_0 11 rfl rfl)
abbrev cX1_there : ByteArray := prog_1_method_33_code
def yX1_there : MethodName := ⟨RX1, "there", "(II)V"⟩
def dkwX1_there_0 : List UInt8 := [26, 3, 27, 4, 100, 184, 1, 160, 154, 0, 11, 187, 1, 164, 89, 183, 1, 166, 191, 177]
abbrev dktX1_there_0 : List UInt8 := dkwX1_there_0 ++ []
theorem dksX1_there_0 : cX1_there.data.toList.drop 0 = dktX1_there_0 := by decide +kernel
theorem dX1_there_0 : decode cX1_there 0 = .ok (.iload_n 0, 1) := dk_26 (dk_at dksX1_there_0 0 rfl rfl)
theorem dX1_there_1 : decode cX1_there 1 = .ok (.iconst 0, 1) := dk_3 (dk_at dksX1_there_0 1 rfl rfl)
theorem dX1_there_2 : decode cX1_there 2 = .ok (.iload_n 1, 1) := dk_27 (dk_at dksX1_there_0 2 rfl rfl)
theorem dX1_there_3 : decode cX1_there 3 = .ok (.iconst 1, 1) := dk_4 (dk_at dksX1_there_0 3 rfl rfl)
theorem dX1_there_4 : decode cX1_there 4 = .ok (.isub, 1) := dk_100 (dk_at dksX1_there_0 4 rfl rfl)
theorem dX1_there_5 : decode cX1_there 5 = .ok (.invokestatic 416, 3) := dk_184 1 160 (dk_at dksX1_there_0 5 rfl rfl)
theorem dX1_there_8 : decode cX1_there 8 = .ok (.ifCond .ne 11, 3) := dk_154 0 11 (dk_at dksX1_there_0 8 rfl rfl)
theorem dX1_there_11 : decode cX1_there 11 = .ok (.new 420, 3) := dk_187 1 164 (dk_at dksX1_there_0 11 rfl rfl)
theorem dX1_there_14 : decode cX1_there 14 = .ok (.dup, 1) := dk_89 (dk_at dksX1_there_0 14 rfl rfl)
theorem dX1_there_15 : decode cX1_there 15 = .ok (.invokespecial 422, 3) := dk_183 1 166 (dk_at dksX1_there_0 15 rfl rfl)
theorem dX1_there_18 : decode cX1_there 18 = .ok (.athrow, 1) := dk_191 (dk_at dksX1_there_0 18 rfl rfl)
theorem dX1_there_19 : decode cX1_there 19 = .ok (.return_, 1) := dk_177 (dk_at dksX1_there_0 19 rfl rfl)
abbrev cX1_question : ByteArray := prog_1_method_36_code
def yX1_question : MethodName := ⟨RX1, "question", "(II)V"⟩
def dkwX1_question_0 : List UInt8 := [26, 3, 27, 184, 1, 160, 154, 0, 11, 187, 1, 170, 89, 183, 1, 172, 191, 177]
abbrev dktX1_question_0 : List UInt8 := dkwX1_question_0 ++ []
theorem dksX1_question_0 : cX1_question.data.toList.drop 0 = dktX1_question_0 := by decide +kernel
theorem dX1_question_0 : decode cX1_question 0 = .ok (.iload_n 0, 1) := dk_26 (dk_at dksX1_question_0 0 rfl rfl)
theorem dX1_question_1 : decode cX1_question 1 = .ok (.iconst 0, 1) := dk_3 (dk_at dksX1_question_0 1 rfl rfl)
theorem dX1_question_2 : decode cX1_question 2 = .ok (.iload_n 1, 1) := dk_27 (dk_at dksX1_question_0 2 rfl rfl)
theorem dX1_question_3 : decode cX1_question 3 = .ok (.invokestatic 416, 3) := dk_184 1 160 (dk_at dksX1_question_0 3 rfl rfl)
theorem dX1_question_6 : decode cX1_question 6 = .ok (.ifCond .ne 11, 3) := dk_154 0 11 (dk_at dksX1_question_0 6 rfl rfl)
theorem dX1_question_9 : decode cX1_question 9 = .ok (.new 426, 3) := dk_187 1 170 (dk_at dksX1_question_0 9 rfl rfl)
theorem dX1_question_12 : decode cX1_question 12 = .ok (.dup, 1) := dk_89 (dk_at dksX1_question_0 12 rfl rfl)
theorem dX1_question_13 : decode cX1_question 13 = .ok (.invokespecial 428, 3) := dk_183 1 172 (dk_at dksX1_question_0 13 rfl rfl)
theorem dX1_question_16 : decode cX1_question 16 = .ok (.athrow, 1) := dk_191 (dk_at dksX1_question_0 16 rfl rfl)
theorem dX1_question_17 : decode cX1_question 17 = .ok (.return_, 1) := dk_177 (dk_at dksX1_question_0 17 rfl rfl)
abbrev cX1_bearsForOthers : ByteArray := prog_1_method_41_code
def yX1_bearsForOthers : MethodName := ⟨RX1, "bearsForOthers", "(I)I"⟩
def dkwX1_bearsForOthers_2 : List UInt8 := [29, 46, 27, 159, 0, 9, 4, 29, 120, 167, 0, 4, 3, 128, 61, 132, 3, 1, 167, 255, 194, 28, 172]
abbrev dktX1_bearsForOthers_2 : List UInt8 := dkwX1_bearsForOthers_2 ++ []
def dkwX1_bearsForOthers_1 : List UInt8 := [46, 154, 0, 35, 42, 180, 0, 10, 180, 1, 178, 29, 46, 27, 160, 0, 22, 42, 180, 0, 10, 180, 1, 180]
abbrev dktX1_bearsForOthers_1 : List UInt8 := dkwX1_bearsForOthers_1 ++ dktX1_bearsForOthers_2
def dkwX1_bearsForOthers_0 : List UInt8 := [3, 61, 3, 62, 29, 42, 180, 0, 10, 180, 0, 133, 162, 0, 57, 28, 42, 180, 0, 10, 180, 1, 175, 29]
abbrev dktX1_bearsForOthers_0 : List UInt8 := dkwX1_bearsForOthers_0 ++ dktX1_bearsForOthers_1
theorem dksX1_bearsForOthers_0 : cX1_bearsForOthers.data.toList.drop 0 = dktX1_bearsForOthers_0 := by decide +kernel
theorem dksX1_bearsForOthers_1 : cX1_bearsForOthers.data.toList.drop 24 = dktX1_bearsForOthers_1 := dk_seg dksX1_bearsForOthers_0 24 rfl rfl
theorem dksX1_bearsForOthers_2 : cX1_bearsForOthers.data.toList.drop 48 = dktX1_bearsForOthers_2 := dk_seg dksX1_bearsForOthers_1 24 rfl rfl
theorem dX1_bearsForOthers_0 : decode cX1_bearsForOthers 0 = .ok (.iconst 0, 1) := dk_3 (dk_at dksX1_bearsForOthers_0 0 rfl rfl)
theorem dX1_bearsForOthers_1 : decode cX1_bearsForOthers 1 = .ok (.istore_n 2, 1) := dk_61 (dk_at dksX1_bearsForOthers_0 1 rfl rfl)
theorem dX1_bearsForOthers_2 : decode cX1_bearsForOthers 2 = .ok (.iconst 0, 1) := dk_3 (dk_at dksX1_bearsForOthers_0 2 rfl rfl)
theorem dX1_bearsForOthers_3 : decode cX1_bearsForOthers 3 = .ok (.istore_n 3, 1) := dk_62 (dk_at dksX1_bearsForOthers_0 3 rfl rfl)
theorem dX1_bearsForOthers_4 : decode cX1_bearsForOthers 4 = .ok (.iload_n 3, 1) := dk_29 (dk_at dksX1_bearsForOthers_0 4 rfl rfl)
theorem dX1_bearsForOthers_5 : decode cX1_bearsForOthers 5 = .ok (.aload_n 0, 1) := dk_42 (dk_at dksX1_bearsForOthers_0 5 rfl rfl)
theorem dX1_bearsForOthers_6 : decode cX1_bearsForOthers 6 = .ok (.getfield 10, 3) := dk_180 0 10 (dk_at dksX1_bearsForOthers_0 6 rfl rfl)
theorem dX1_bearsForOthers_9 : decode cX1_bearsForOthers 9 = .ok (.getfield 133, 3) := dk_180 0 133 (dk_at dksX1_bearsForOthers_0 9 rfl rfl)
theorem dX1_bearsForOthers_12 : decode cX1_bearsForOthers 12 = .ok (.if_icmp .ge 57, 3) := dk_162 0 57 (dk_at dksX1_bearsForOthers_0 12 rfl rfl)
theorem dX1_bearsForOthers_15 : decode cX1_bearsForOthers 15 = .ok (.iload_n 2, 1) := dk_28 (dk_at dksX1_bearsForOthers_0 15 rfl rfl)
theorem dX1_bearsForOthers_16 : decode cX1_bearsForOthers 16 = .ok (.aload_n 0, 1) := dk_42 (dk_at dksX1_bearsForOthers_0 16 rfl rfl)
theorem dX1_bearsForOthers_17 : decode cX1_bearsForOthers 17 = .ok (.getfield 10, 3) := dk_180 0 10 (dk_at dksX1_bearsForOthers_0 17 rfl rfl)
theorem dX1_bearsForOthers_20 : decode cX1_bearsForOthers 20 = .ok (.getfield 431, 3) := dk_180 1 175 (dk_at dksX1_bearsForOthers_0 20 rfl rfl)
theorem dX1_bearsForOthers_23 : decode cX1_bearsForOthers 23 = .ok (.iload_n 3, 1) := dk_29 (dk_at dksX1_bearsForOthers_0 23 rfl rfl)
theorem dX1_bearsForOthers_24 : decode cX1_bearsForOthers 24 = .ok (.iaload, 1) := dk_46 (dk_at dksX1_bearsForOthers_1 0 rfl rfl)
theorem dX1_bearsForOthers_25 : decode cX1_bearsForOthers 25 = .ok (.ifCond .ne 35, 3) := dk_154 0 35 (dk_at dksX1_bearsForOthers_1 1 rfl rfl)
theorem dX1_bearsForOthers_28 : decode cX1_bearsForOthers 28 = .ok (.aload_n 0, 1) := dk_42 (dk_at dksX1_bearsForOthers_1 4 rfl rfl)
theorem dX1_bearsForOthers_29 : decode cX1_bearsForOthers 29 = .ok (.getfield 10, 3) := dk_180 0 10 (dk_at dksX1_bearsForOthers_1 5 rfl rfl)
theorem dX1_bearsForOthers_32 : decode cX1_bearsForOthers 32 = .ok (.getfield 434, 3) := dk_180 1 178 (dk_at dksX1_bearsForOthers_1 8 rfl rfl)
theorem dX1_bearsForOthers_35 : decode cX1_bearsForOthers 35 = .ok (.iload_n 3, 1) := dk_29 (dk_at dksX1_bearsForOthers_1 11 rfl rfl)
theorem dX1_bearsForOthers_36 : decode cX1_bearsForOthers 36 = .ok (.iaload, 1) := dk_46 (dk_at dksX1_bearsForOthers_1 12 rfl rfl)
theorem dX1_bearsForOthers_37 : decode cX1_bearsForOthers 37 = .ok (.iload_n 1, 1) := dk_27 (dk_at dksX1_bearsForOthers_1 13 rfl rfl)
theorem dX1_bearsForOthers_38 : decode cX1_bearsForOthers 38 = .ok (.if_icmp .ne 22, 3) := dk_160 0 22 (dk_at dksX1_bearsForOthers_1 14 rfl rfl)
theorem dX1_bearsForOthers_41 : decode cX1_bearsForOthers 41 = .ok (.aload_n 0, 1) := dk_42 (dk_at dksX1_bearsForOthers_1 17 rfl rfl)
theorem dX1_bearsForOthers_42 : decode cX1_bearsForOthers 42 = .ok (.getfield 10, 3) := dk_180 0 10 (dk_at dksX1_bearsForOthers_1 18 rfl rfl)
theorem dX1_bearsForOthers_45 : decode cX1_bearsForOthers 45 = .ok (.getfield 436, 3) := dk_180 1 180 (dk_at dksX1_bearsForOthers_1 21 rfl rfl)
theorem dX1_bearsForOthers_48 : decode cX1_bearsForOthers 48 = .ok (.iload_n 3, 1) := dk_29 (dk_at dksX1_bearsForOthers_2 0 rfl rfl)
theorem dX1_bearsForOthers_49 : decode cX1_bearsForOthers 49 = .ok (.iaload, 1) := dk_46 (dk_at dksX1_bearsForOthers_2 1 rfl rfl)
theorem dX1_bearsForOthers_50 : decode cX1_bearsForOthers 50 = .ok (.iload_n 1, 1) := dk_27 (dk_at dksX1_bearsForOthers_2 2 rfl rfl)
theorem dX1_bearsForOthers_51 : decode cX1_bearsForOthers 51 = .ok (.if_icmp .eq 9, 3) := dk_159 0 9 (dk_at dksX1_bearsForOthers_2 3 rfl rfl)
theorem dX1_bearsForOthers_54 : decode cX1_bearsForOthers 54 = .ok (.iconst 1, 1) := dk_4 (dk_at dksX1_bearsForOthers_2 6 rfl rfl)
theorem dX1_bearsForOthers_55 : decode cX1_bearsForOthers 55 = .ok (.iload_n 3, 1) := dk_29 (dk_at dksX1_bearsForOthers_2 7 rfl rfl)
theorem dX1_bearsForOthers_56 : decode cX1_bearsForOthers 56 = .ok (.ishl, 1) := dk_120 (dk_at dksX1_bearsForOthers_2 8 rfl rfl)
theorem dX1_bearsForOthers_57 : decode cX1_bearsForOthers 57 = .ok (.goto 4, 3) := dk_167 0 4 (dk_at dksX1_bearsForOthers_2 9 rfl rfl)
theorem dX1_bearsForOthers_60 : decode cX1_bearsForOthers 60 = .ok (.iconst 0, 1) := dk_3 (dk_at dksX1_bearsForOthers_2 12 rfl rfl)
theorem dX1_bearsForOthers_61 : decode cX1_bearsForOthers 61 = .ok (.ior, 1) := dk_128 (dk_at dksX1_bearsForOthers_2 13 rfl rfl)
theorem dX1_bearsForOthers_62 : decode cX1_bearsForOthers 62 = .ok (.istore_n 2, 1) := dk_61 (dk_at dksX1_bearsForOthers_2 14 rfl rfl)
theorem dX1_bearsForOthers_63 : decode cX1_bearsForOthers 63 = .ok (.iinc 3 1, 3) := dk_132 3 1 (dk_at dksX1_bearsForOthers_2 15 rfl rfl)
theorem dX1_bearsForOthers_66 : decode cX1_bearsForOthers 66 = .ok (.goto (-62), 3) := dk_167 255 194 (dk_at dksX1_bearsForOthers_2 18 rfl rfl)
theorem dX1_bearsForOthers_69 : decode cX1_bearsForOthers 69 = .ok (.iload_n 2, 1) := dk_28 (dk_at dksX1_bearsForOthers_2 21 rfl rfl)
theorem dX1_bearsForOthers_70 : decode cX1_bearsForOthers 70 = .ok (.ireturn, 1) := dk_172 (dk_at dksX1_bearsForOthers_2 22 rfl rfl)
abbrev cX1_does : ByteArray := prog_1_method_43_code
def yX1_does : MethodName := ⟨RX1, "does", "(II)I"⟩
def dkwX1_does_2 : List UInt8 := [180, 0, 10, 27, 182, 1, 144, 172]
abbrev dktX1_does_2 : List UInt8 := dkwX1_does_2 ++ []
def dkwX1_does_1 : List UInt8 := [167, 0, 29, 28, 4, 160, 0, 15, 42, 42, 180, 0, 10, 27, 182, 1, 124, 167, 0, 12, 42, 42]
abbrev dktX1_does_1 : List UInt8 := dkwX1_does_1 ++ dktX1_does_2
def dkwX1_does_0 : List UInt8 := [42, 27, 182, 1, 183, 28, 5, 184, 1, 186, 28, 154, 0, 15, 42, 42, 180, 0, 10, 27, 182, 1, 138]
abbrev dktX1_does_0 : List UInt8 := dkwX1_does_0 ++ dktX1_does_1
theorem dksX1_does_0 : cX1_does.data.toList.drop 0 = dktX1_does_0 := by decide +kernel
theorem dksX1_does_1 : cX1_does.data.toList.drop 23 = dktX1_does_1 := dk_seg dksX1_does_0 23 rfl rfl
theorem dksX1_does_2 : cX1_does.data.toList.drop 45 = dktX1_does_2 := dk_seg dksX1_does_1 22 rfl rfl
theorem dX1_does_0 : decode cX1_does 0 = .ok (.aload_n 0, 1) := dk_42 (dk_at dksX1_does_0 0 rfl rfl)
theorem dX1_does_1 : decode cX1_does 1 = .ok (.iload_n 1, 1) := dk_27 (dk_at dksX1_does_0 1 rfl rfl)
theorem dX1_does_2 : decode cX1_does 2 = .ok (.invokevirtual 439, 3) := dk_182 1 183 (dk_at dksX1_does_0 2 rfl rfl)
theorem dX1_does_5 : decode cX1_does 5 = .ok (.iload_n 2, 1) := dk_28 (dk_at dksX1_does_0 5 rfl rfl)
theorem dX1_does_6 : decode cX1_does 6 = .ok (.iconst 2, 1) := dk_5 (dk_at dksX1_does_0 6 rfl rfl)
theorem dX1_does_7 : decode cX1_does 7 = .ok (.invokestatic 442, 3) := dk_184 1 186 (dk_at dksX1_does_0 7 rfl rfl)
theorem dX1_does_10 : decode cX1_does 10 = .ok (.iload_n 2, 1) := dk_28 (dk_at dksX1_does_0 10 rfl rfl)
theorem dX1_does_11 : decode cX1_does 11 = .ok (.ifCond .ne 15, 3) := dk_154 0 15 (dk_at dksX1_does_0 11 rfl rfl)
theorem dX1_does_14 : decode cX1_does 14 = .ok (.aload_n 0, 1) := dk_42 (dk_at dksX1_does_0 14 rfl rfl)
theorem dX1_does_15 : decode cX1_does 15 = .ok (.aload_n 0, 1) := dk_42 (dk_at dksX1_does_0 15 rfl rfl)
theorem dX1_does_16 : decode cX1_does 16 = .ok (.getfield 10, 3) := dk_180 0 10 (dk_at dksX1_does_0 16 rfl rfl)
theorem dX1_does_19 : decode cX1_does 19 = .ok (.iload_n 1, 1) := dk_27 (dk_at dksX1_does_0 19 rfl rfl)
theorem dX1_does_20 : decode cX1_does 20 = .ok (.invokevirtual 394, 3) := dk_182 1 138 (dk_at dksX1_does_0 20 rfl rfl)
theorem dX1_does_23 : decode cX1_does 23 = .ok (.goto 29, 3) := dk_167 0 29 (dk_at dksX1_does_1 0 rfl rfl)
theorem dX1_does_26 : decode cX1_does 26 = .ok (.iload_n 2, 1) := dk_28 (dk_at dksX1_does_1 3 rfl rfl)
theorem dX1_does_27 : decode cX1_does 27 = .ok (.iconst 1, 1) := dk_4 (dk_at dksX1_does_1 4 rfl rfl)
theorem dX1_does_28 : decode cX1_does 28 = .ok (.if_icmp .ne 15, 3) := dk_160 0 15 (dk_at dksX1_does_1 5 rfl rfl)
theorem dX1_does_31 : decode cX1_does 31 = .ok (.aload_n 0, 1) := dk_42 (dk_at dksX1_does_1 8 rfl rfl)
theorem dX1_does_32 : decode cX1_does 32 = .ok (.aload_n 0, 1) := dk_42 (dk_at dksX1_does_1 9 rfl rfl)
theorem dX1_does_33 : decode cX1_does 33 = .ok (.getfield 10, 3) := dk_180 0 10 (dk_at dksX1_does_1 10 rfl rfl)
theorem dX1_does_36 : decode cX1_does 36 = .ok (.iload_n 1, 1) := dk_27 (dk_at dksX1_does_1 13 rfl rfl)
theorem dX1_does_37 : decode cX1_does 37 = .ok (.invokevirtual 380, 3) := dk_182 1 124 (dk_at dksX1_does_1 14 rfl rfl)
theorem dX1_does_40 : decode cX1_does 40 = .ok (.goto 12, 3) := dk_167 0 12 (dk_at dksX1_does_1 17 rfl rfl)
theorem dX1_does_43 : decode cX1_does 43 = .ok (.aload_n 0, 1) := dk_42 (dk_at dksX1_does_1 20 rfl rfl)
theorem dX1_does_44 : decode cX1_does 44 = .ok (.aload_n 0, 1) := dk_42 (dk_at dksX1_does_1 21 rfl rfl)
theorem dX1_does_45 : decode cX1_does 45 = .ok (.getfield 10, 3) := dk_180 0 10 (dk_at dksX1_does_2 0 rfl rfl)
theorem dX1_does_48 : decode cX1_does 48 = .ok (.iload_n 1, 1) := dk_27 (dk_at dksX1_does_2 3 rfl rfl)
theorem dX1_does_49 : decode cX1_does 49 = .ok (.invokevirtual 400, 3) := dk_182 1 144 (dk_at dksX1_does_2 4 rfl rfl)
theorem dX1_does_52 : decode cX1_does 52 = .ok (.ireturn, 1) := dk_172 (dk_at dksX1_does_2 7 rfl rfl)
abbrev cX1_stone : ByteArray := prog_1_method_44_code
def yX1_stone : MethodName := ⟨RX1, "stone", "(II)I"⟩
def dkwX1_stone_4 : List UInt8 := [2, 172, 45, 27, 182, 1, 213, 172]
abbrev dktX1_stone_4 : List UInt8 := dkwX1_stone_4 ++ []
def dkwX1_stone_3 : List UInt8 := [180, 1, 175, 27, 46, 172, 45, 180, 1, 175, 27, 46, 154, 0, 12, 45, 180, 1, 178, 27, 46, 167, 0, 4]
abbrev dktX1_stone_3 : List UInt8 := dkwX1_stone_3 ++ dktX1_stone_4
def dkwX1_stone_2 : List UInt8 := [45, 180, 1, 180, 27, 46, 172, 45, 180, 1, 207, 27, 46, 172, 45, 180, 1, 210, 27, 46, 172, 45]
abbrev dktX1_stone_2 : List UInt8 := dkwX1_stone_2 ++ dktX1_stone_3
def dkwX1_stone_1 : List UInt8 := [170, 0, 0, 0, 0, 0, 0, 84, 0, 0, 0, 0, 0, 0, 0, 4, 0, 0, 0, 36, 0, 0, 0, 43, 0, 0, 0, 50, 0, 0, 0, 57, 0, 0, 0, 64]
abbrev dktX1_stone_1 : List UInt8 := dkwX1_stone_1 ++ dktX1_stone_2
def dkwX1_stone_0 : List UInt8 := [42, 27, 182, 1, 204, 28, 8, 184, 1, 186, 42, 180, 0, 10, 78, 28]
abbrev dktX1_stone_0 : List UInt8 := dkwX1_stone_0 ++ dktX1_stone_1
theorem dksX1_stone_0 : cX1_stone.data.toList.drop 0 = dktX1_stone_0 := by decide +kernel
theorem dksX1_stone_1 : cX1_stone.data.toList.drop 16 = dktX1_stone_1 := dk_seg dksX1_stone_0 16 rfl rfl
theorem dksX1_stone_2 : cX1_stone.data.toList.drop 52 = dktX1_stone_2 := dk_seg dksX1_stone_1 36 rfl rfl
theorem dksX1_stone_3 : cX1_stone.data.toList.drop 74 = dktX1_stone_3 := dk_seg dksX1_stone_2 22 rfl rfl
theorem dksX1_stone_4 : cX1_stone.data.toList.drop 98 = dktX1_stone_4 := dk_seg dksX1_stone_3 24 rfl rfl
theorem dX1_stone_0 : decode cX1_stone 0 = .ok (.aload_n 0, 1) := dk_42 (dk_at dksX1_stone_0 0 rfl rfl)
theorem dX1_stone_1 : decode cX1_stone 1 = .ok (.iload_n 1, 1) := dk_27 (dk_at dksX1_stone_0 1 rfl rfl)
theorem dX1_stone_2 : decode cX1_stone 2 = .ok (.invokevirtual 460, 3) := dk_182 1 204 (dk_at dksX1_stone_0 2 rfl rfl)
theorem dX1_stone_5 : decode cX1_stone 5 = .ok (.iload_n 2, 1) := dk_28 (dk_at dksX1_stone_0 5 rfl rfl)
theorem dX1_stone_6 : decode cX1_stone 6 = .ok (.iconst 5, 1) := dk_8 (dk_at dksX1_stone_0 6 rfl rfl)
theorem dX1_stone_7 : decode cX1_stone 7 = .ok (.invokestatic 442, 3) := dk_184 1 186 (dk_at dksX1_stone_0 7 rfl rfl)
theorem dX1_stone_10 : decode cX1_stone 10 = .ok (.aload_n 0, 1) := dk_42 (dk_at dksX1_stone_0 10 rfl rfl)
theorem dX1_stone_11 : decode cX1_stone 11 = .ok (.getfield 10, 3) := dk_180 0 10 (dk_at dksX1_stone_0 11 rfl rfl)
theorem dX1_stone_14 : decode cX1_stone 14 = .ok (.astore_n 3, 1) := dk_78 (dk_at dksX1_stone_0 14 rfl rfl)
theorem dX1_stone_15 : decode cX1_stone 15 = .ok (.iload_n 2, 1) := dk_28 (dk_at dksX1_stone_0 15 rfl rfl)
theorem dX1_stone_16 : decode cX1_stone 16 = .ok (.tableswitch 84 0 4 #[36, 43, 50, 57, 64], 36) := by decide +kernel
theorem dX1_stone_52 : decode cX1_stone 52 = .ok (.aload_n 3, 1) := dk_45 (dk_at dksX1_stone_2 0 rfl rfl)
theorem dX1_stone_53 : decode cX1_stone 53 = .ok (.getfield 436, 3) := dk_180 1 180 (dk_at dksX1_stone_2 1 rfl rfl)
theorem dX1_stone_56 : decode cX1_stone 56 = .ok (.iload_n 1, 1) := dk_27 (dk_at dksX1_stone_2 4 rfl rfl)
theorem dX1_stone_57 : decode cX1_stone 57 = .ok (.iaload, 1) := dk_46 (dk_at dksX1_stone_2 5 rfl rfl)
theorem dX1_stone_58 : decode cX1_stone 58 = .ok (.ireturn, 1) := dk_172 (dk_at dksX1_stone_2 6 rfl rfl)
theorem dX1_stone_59 : decode cX1_stone 59 = .ok (.aload_n 3, 1) := dk_45 (dk_at dksX1_stone_2 7 rfl rfl)
theorem dX1_stone_60 : decode cX1_stone 60 = .ok (.getfield 463, 3) := dk_180 1 207 (dk_at dksX1_stone_2 8 rfl rfl)
theorem dX1_stone_63 : decode cX1_stone 63 = .ok (.iload_n 1, 1) := dk_27 (dk_at dksX1_stone_2 11 rfl rfl)
theorem dX1_stone_64 : decode cX1_stone 64 = .ok (.iaload, 1) := dk_46 (dk_at dksX1_stone_2 12 rfl rfl)
theorem dX1_stone_65 : decode cX1_stone 65 = .ok (.ireturn, 1) := dk_172 (dk_at dksX1_stone_2 13 rfl rfl)
theorem dX1_stone_66 : decode cX1_stone 66 = .ok (.aload_n 3, 1) := dk_45 (dk_at dksX1_stone_2 14 rfl rfl)
theorem dX1_stone_67 : decode cX1_stone 67 = .ok (.getfield 466, 3) := dk_180 1 210 (dk_at dksX1_stone_2 15 rfl rfl)
theorem dX1_stone_70 : decode cX1_stone 70 = .ok (.iload_n 1, 1) := dk_27 (dk_at dksX1_stone_2 18 rfl rfl)
theorem dX1_stone_71 : decode cX1_stone 71 = .ok (.iaload, 1) := dk_46 (dk_at dksX1_stone_2 19 rfl rfl)
theorem dX1_stone_72 : decode cX1_stone 72 = .ok (.ireturn, 1) := dk_172 (dk_at dksX1_stone_2 20 rfl rfl)
theorem dX1_stone_73 : decode cX1_stone 73 = .ok (.aload_n 3, 1) := dk_45 (dk_at dksX1_stone_2 21 rfl rfl)
theorem dX1_stone_74 : decode cX1_stone 74 = .ok (.getfield 431, 3) := dk_180 1 175 (dk_at dksX1_stone_3 0 rfl rfl)
theorem dX1_stone_77 : decode cX1_stone 77 = .ok (.iload_n 1, 1) := dk_27 (dk_at dksX1_stone_3 3 rfl rfl)
theorem dX1_stone_78 : decode cX1_stone 78 = .ok (.iaload, 1) := dk_46 (dk_at dksX1_stone_3 4 rfl rfl)
theorem dX1_stone_79 : decode cX1_stone 79 = .ok (.ireturn, 1) := dk_172 (dk_at dksX1_stone_3 5 rfl rfl)
theorem dX1_stone_80 : decode cX1_stone 80 = .ok (.aload_n 3, 1) := dk_45 (dk_at dksX1_stone_3 6 rfl rfl)
theorem dX1_stone_81 : decode cX1_stone 81 = .ok (.getfield 431, 3) := dk_180 1 175 (dk_at dksX1_stone_3 7 rfl rfl)
theorem dX1_stone_84 : decode cX1_stone 84 = .ok (.iload_n 1, 1) := dk_27 (dk_at dksX1_stone_3 10 rfl rfl)
theorem dX1_stone_85 : decode cX1_stone 85 = .ok (.iaload, 1) := dk_46 (dk_at dksX1_stone_3 11 rfl rfl)
theorem dX1_stone_86 : decode cX1_stone 86 = .ok (.ifCond .ne 12, 3) := dk_154 0 12 (dk_at dksX1_stone_3 12 rfl rfl)
theorem dX1_stone_89 : decode cX1_stone 89 = .ok (.aload_n 3, 1) := dk_45 (dk_at dksX1_stone_3 15 rfl rfl)
theorem dX1_stone_90 : decode cX1_stone 90 = .ok (.getfield 434, 3) := dk_180 1 178 (dk_at dksX1_stone_3 16 rfl rfl)
theorem dX1_stone_93 : decode cX1_stone 93 = .ok (.iload_n 1, 1) := dk_27 (dk_at dksX1_stone_3 19 rfl rfl)
theorem dX1_stone_94 : decode cX1_stone 94 = .ok (.iaload, 1) := dk_46 (dk_at dksX1_stone_3 20 rfl rfl)
theorem dX1_stone_95 : decode cX1_stone 95 = .ok (.goto 4, 3) := dk_167 0 4 (dk_at dksX1_stone_3 21 rfl rfl)
theorem dX1_stone_98 : decode cX1_stone 98 = .ok (.iconst (-1), 1) := dk_2 (dk_at dksX1_stone_4 0 rfl rfl)
theorem dX1_stone_99 : decode cX1_stone 99 = .ok (.ireturn, 1) := dk_172 (dk_at dksX1_stone_4 1 rfl rfl)
theorem dX1_stone_100 : decode cX1_stone 100 = .ok (.aload_n 3, 1) := dk_45 (dk_at dksX1_stone_4 2 rfl rfl)
theorem dX1_stone_101 : decode cX1_stone 101 = .ok (.iload_n 1, 1) := dk_27 (dk_at dksX1_stone_4 3 rfl rfl)
theorem dX1_stone_102 : decode cX1_stone 102 = .ok (.invokevirtual 469, 3) := dk_182 1 213 (dk_at dksX1_stone_4 4 rfl rfl)
theorem dX1_stone_105 : decode cX1_stone 105 = .ok (.ireturn, 1) := dk_172 (dk_at dksX1_stone_4 7 rfl rfl)
abbrev cX1_stoneAt : ByteArray := prog_1_method_38_code
def yX1_stoneAt : MethodName := ⟨RX1, "stoneAt", "(I)V"⟩
def dkwX1_stoneAt_0 : List UInt8 := [27, 42, 180, 0, 10, 180, 0, 133, 184, 1, 173, 177]
abbrev dktX1_stoneAt_0 : List UInt8 := dkwX1_stoneAt_0 ++ []
theorem dksX1_stoneAt_0 : cX1_stoneAt.data.toList.drop 0 = dktX1_stoneAt_0 := by decide +kernel
theorem dX1_stoneAt_0 : decode cX1_stoneAt 0 = .ok (.iload_n 1, 1) := dk_27 (dk_at dksX1_stoneAt_0 0 rfl rfl)
theorem dX1_stoneAt_1 : decode cX1_stoneAt 1 = .ok (.aload_n 0, 1) := dk_42 (dk_at dksX1_stoneAt_0 1 rfl rfl)
theorem dX1_stoneAt_2 : decode cX1_stoneAt 2 = .ok (.getfield 10, 3) := dk_180 0 10 (dk_at dksX1_stoneAt_0 2 rfl rfl)
theorem dX1_stoneAt_5 : decode cX1_stoneAt 5 = .ok (.getfield 133, 3) := dk_180 0 133 (dk_at dksX1_stoneAt_0 5 rfl rfl)
theorem dX1_stoneAt_8 : decode cX1_stoneAt 8 = .ok (.invokestatic 429, 3) := dk_184 1 173 (dk_at dksX1_stoneAt_0 8 rfl rfl)
theorem dX1_stoneAt_11 : decode cX1_stoneAt 11 = .ok (.return_, 1) := dk_177 (dk_at dksX1_stoneAt_0 11 rfl rfl)
abbrev cX1_place : ByteArray := prog_1_method_45_code
def yX1_place : MethodName := ⟨RX1, "place", "(II)I"⟩
def dkwX1_place_3 : List UInt8 := [27, 182, 1, 222, 172]
abbrev dktX1_place_3 : List UInt8 := dkwX1_place_3 ++ []
def dkwX1_place_2 : List UInt8 := [3, 167, 0, 27, 28, 5, 160, 0, 14, 42, 180, 0, 10, 27, 182, 1, 219, 167, 0, 11, 42, 180, 0, 10]
abbrev dktX1_place_2 : List UInt8 := dkwX1_place_2 ++ dktX1_place_3
def dkwX1_place_1 : List UInt8 := [167, 0, 52, 28, 4, 160, 0, 23, 42, 180, 0, 10, 180, 0, 172, 27, 51, 153, 0, 7, 4, 167, 0, 31]
abbrev dktX1_place_1 : List UInt8 := dkwX1_place_1 ++ dktX1_place_2
def dkwX1_place_0 : List UInt8 := [27, 184, 1, 216, 28, 6, 184, 1, 186, 28, 154, 0, 15, 42, 180, 0, 10, 180, 0, 170, 27, 46]
abbrev dktX1_place_0 : List UInt8 := dkwX1_place_0 ++ dktX1_place_1
theorem dksX1_place_0 : cX1_place.data.toList.drop 0 = dktX1_place_0 := by decide +kernel
theorem dksX1_place_1 : cX1_place.data.toList.drop 22 = dktX1_place_1 := dk_seg dksX1_place_0 22 rfl rfl
theorem dksX1_place_2 : cX1_place.data.toList.drop 46 = dktX1_place_2 := dk_seg dksX1_place_1 24 rfl rfl
theorem dksX1_place_3 : cX1_place.data.toList.drop 70 = dktX1_place_3 := dk_seg dksX1_place_2 24 rfl rfl
theorem dX1_place_0 : decode cX1_place 0 = .ok (.iload_n 1, 1) := dk_27 (dk_at dksX1_place_0 0 rfl rfl)
theorem dX1_place_1 : decode cX1_place 1 = .ok (.invokestatic 472, 3) := dk_184 1 216 (dk_at dksX1_place_0 1 rfl rfl)
theorem dX1_place_4 : decode cX1_place 4 = .ok (.iload_n 2, 1) := dk_28 (dk_at dksX1_place_0 4 rfl rfl)
theorem dX1_place_5 : decode cX1_place 5 = .ok (.iconst 3, 1) := dk_6 (dk_at dksX1_place_0 5 rfl rfl)
theorem dX1_place_6 : decode cX1_place 6 = .ok (.invokestatic 442, 3) := dk_184 1 186 (dk_at dksX1_place_0 6 rfl rfl)
theorem dX1_place_9 : decode cX1_place 9 = .ok (.iload_n 2, 1) := dk_28 (dk_at dksX1_place_0 9 rfl rfl)
theorem dX1_place_10 : decode cX1_place 10 = .ok (.ifCond .ne 15, 3) := dk_154 0 15 (dk_at dksX1_place_0 10 rfl rfl)
theorem dX1_place_13 : decode cX1_place 13 = .ok (.aload_n 0, 1) := dk_42 (dk_at dksX1_place_0 13 rfl rfl)
theorem dX1_place_14 : decode cX1_place 14 = .ok (.getfield 10, 3) := dk_180 0 10 (dk_at dksX1_place_0 14 rfl rfl)
theorem dX1_place_17 : decode cX1_place 17 = .ok (.getfield 170, 3) := dk_180 0 170 (dk_at dksX1_place_0 17 rfl rfl)
theorem dX1_place_20 : decode cX1_place 20 = .ok (.iload_n 1, 1) := dk_27 (dk_at dksX1_place_0 20 rfl rfl)
theorem dX1_place_21 : decode cX1_place 21 = .ok (.iaload, 1) := dk_46 (dk_at dksX1_place_0 21 rfl rfl)
theorem dX1_place_22 : decode cX1_place 22 = .ok (.goto 52, 3) := dk_167 0 52 (dk_at dksX1_place_1 0 rfl rfl)
theorem dX1_place_25 : decode cX1_place 25 = .ok (.iload_n 2, 1) := dk_28 (dk_at dksX1_place_1 3 rfl rfl)
theorem dX1_place_26 : decode cX1_place 26 = .ok (.iconst 1, 1) := dk_4 (dk_at dksX1_place_1 4 rfl rfl)
theorem dX1_place_27 : decode cX1_place 27 = .ok (.if_icmp .ne 23, 3) := dk_160 0 23 (dk_at dksX1_place_1 5 rfl rfl)
theorem dX1_place_30 : decode cX1_place 30 = .ok (.aload_n 0, 1) := dk_42 (dk_at dksX1_place_1 8 rfl rfl)
theorem dX1_place_31 : decode cX1_place 31 = .ok (.getfield 10, 3) := dk_180 0 10 (dk_at dksX1_place_1 9 rfl rfl)
theorem dX1_place_34 : decode cX1_place 34 = .ok (.getfield 172, 3) := dk_180 0 172 (dk_at dksX1_place_1 12 rfl rfl)
theorem dX1_place_37 : decode cX1_place 37 = .ok (.iload_n 1, 1) := dk_27 (dk_at dksX1_place_1 15 rfl rfl)
theorem dX1_place_38 : decode cX1_place 38 = .ok (.baload, 1) := dk_51 (dk_at dksX1_place_1 16 rfl rfl)
theorem dX1_place_39 : decode cX1_place 39 = .ok (.ifCond .eq 7, 3) := dk_153 0 7 (dk_at dksX1_place_1 17 rfl rfl)
theorem dX1_place_42 : decode cX1_place 42 = .ok (.iconst 1, 1) := dk_4 (dk_at dksX1_place_1 20 rfl rfl)
theorem dX1_place_43 : decode cX1_place 43 = .ok (.goto 31, 3) := dk_167 0 31 (dk_at dksX1_place_1 21 rfl rfl)
theorem dX1_place_46 : decode cX1_place 46 = .ok (.iconst 0, 1) := dk_3 (dk_at dksX1_place_2 0 rfl rfl)
theorem dX1_place_47 : decode cX1_place 47 = .ok (.goto 27, 3) := dk_167 0 27 (dk_at dksX1_place_2 1 rfl rfl)
theorem dX1_place_50 : decode cX1_place 50 = .ok (.iload_n 2, 1) := dk_28 (dk_at dksX1_place_2 4 rfl rfl)
theorem dX1_place_51 : decode cX1_place 51 = .ok (.iconst 2, 1) := dk_5 (dk_at dksX1_place_2 5 rfl rfl)
theorem dX1_place_52 : decode cX1_place 52 = .ok (.if_icmp .ne 14, 3) := dk_160 0 14 (dk_at dksX1_place_2 6 rfl rfl)
theorem dX1_place_55 : decode cX1_place 55 = .ok (.aload_n 0, 1) := dk_42 (dk_at dksX1_place_2 9 rfl rfl)
theorem dX1_place_56 : decode cX1_place 56 = .ok (.getfield 10, 3) := dk_180 0 10 (dk_at dksX1_place_2 10 rfl rfl)
theorem dX1_place_59 : decode cX1_place 59 = .ok (.iload_n 1, 1) := dk_27 (dk_at dksX1_place_2 13 rfl rfl)
theorem dX1_place_60 : decode cX1_place 60 = .ok (.invokevirtual 475, 3) := dk_182 1 219 (dk_at dksX1_place_2 14 rfl rfl)
theorem dX1_place_63 : decode cX1_place 63 = .ok (.goto 11, 3) := dk_167 0 11 (dk_at dksX1_place_2 17 rfl rfl)
theorem dX1_place_66 : decode cX1_place 66 = .ok (.aload_n 0, 1) := dk_42 (dk_at dksX1_place_2 20 rfl rfl)
theorem dX1_place_67 : decode cX1_place 67 = .ok (.getfield 10, 3) := dk_180 0 10 (dk_at dksX1_place_2 21 rfl rfl)
theorem dX1_place_70 : decode cX1_place 70 = .ok (.iload_n 1, 1) := dk_27 (dk_at dksX1_place_3 0 rfl rfl)
theorem dX1_place_71 : decode cX1_place 71 = .ok (.invokevirtual 478, 3) := dk_182 1 222 (dk_at dksX1_place_3 1 rfl rfl)
theorem dX1_place_74 : decode cX1_place 74 = .ok (.ireturn, 1) := dk_172 (dk_at dksX1_place_3 4 rfl rfl)
abbrev cX1_placeAt : ByteArray := prog_1_method_39_code
def yX1_placeAt : MethodName := ⟨RX1, "placeAt", "(I)V"⟩
def dkwX1_placeAt_0 : List UInt8 := [26, 16, 12, 184, 1, 173, 177]
abbrev dktX1_placeAt_0 : List UInt8 := dkwX1_placeAt_0 ++ []
theorem dksX1_placeAt_0 : cX1_placeAt.data.toList.drop 0 = dktX1_placeAt_0 := by decide +kernel
theorem dX1_placeAt_0 : decode cX1_placeAt 0 = .ok (.iload_n 0, 1) := dk_26 (dk_at dksX1_placeAt_0 0 rfl rfl)
theorem dX1_placeAt_1 : decode cX1_placeAt 1 = .ok (.bipush 12, 2) := dk_16 12 (dk_at dksX1_placeAt_0 1 rfl rfl)
theorem dX1_placeAt_3 : decode cX1_placeAt 3 = .ok (.invokestatic 429, 3) := dk_184 1 173 (dk_at dksX1_placeAt_0 3 rfl rfl)
theorem dX1_placeAt_6 : decode cX1_placeAt 6 = .ok (.return_, 1) := dk_177 (dk_at dksX1_placeAt_0 6 rfl rfl)
abbrev cX1_lend : ByteArray := prog_1_method_47_code
def yX1_lend : MethodName := ⟨RX1, "lend", "(III)I"⟩
def dkwX1_lend_5 : List UInt8 := [21, 4, 172]
abbrev dktX1_lend_5 : List UInt8 := dkwX1_lend_5 ++ []
def dkwX1_lend_4 : List UInt8 := [180, 0, 10, 28, 27, 29, 28, 182, 0, 144, 54, 4, 42, 180, 0, 10, 21, 4, 3, 29, 182, 1, 238]
abbrev dktX1_lend_4 : List UInt8 := dkwX1_lend_4 ++ dktX1_lend_5
def dkwX1_lend_3 : List UInt8 := [42, 180, 0, 10, 180, 0, 99, 27, 92, 46, 29, 100, 79, 42, 180, 0, 10, 28, 29, 182, 1, 128, 42]
abbrev dktX1_lend_3 : List UInt8 := dkwX1_lend_3 ++ dktX1_lend_4
def dkwX1_lend_2 : List UInt8 := [180, 0, 10, 180, 0, 99, 27, 46, 29, 161, 0, 7, 4, 167, 0, 4, 3, 184, 1, 232, 42, 182, 1, 235]
abbrev dktX1_lend_2 : List UInt8 := dkwX1_lend_2 ++ dktX1_lend_3
def dkwX1_lend_1 : List UInt8 := [153, 0, 7, 4, 167, 0, 4, 3, 184, 1, 229, 42, 180, 0, 10, 180, 0, 133, 16, 10, 162, 0, 20, 42]
abbrev dktX1_lend_1 : List UInt8 := dkwX1_lend_1 ++ dktX1_lend_2
def dkwX1_lend_0 : List UInt8 := [42, 27, 182, 1, 183, 42, 28, 182, 1, 183, 27, 28, 159, 0, 17, 29, 4, 16, 40, 184, 1, 160]
abbrev dktX1_lend_0 : List UInt8 := dkwX1_lend_0 ++ dktX1_lend_1
theorem dksX1_lend_0 : cX1_lend.data.toList.drop 0 = dktX1_lend_0 := by decide +kernel
theorem dksX1_lend_1 : cX1_lend.data.toList.drop 22 = dktX1_lend_1 := dk_seg dksX1_lend_0 22 rfl rfl
theorem dksX1_lend_2 : cX1_lend.data.toList.drop 46 = dktX1_lend_2 := dk_seg dksX1_lend_1 24 rfl rfl
theorem dksX1_lend_3 : cX1_lend.data.toList.drop 70 = dktX1_lend_3 := dk_seg dksX1_lend_2 24 rfl rfl
theorem dksX1_lend_4 : cX1_lend.data.toList.drop 93 = dktX1_lend_4 := dk_seg dksX1_lend_3 23 rfl rfl
theorem dksX1_lend_5 : cX1_lend.data.toList.drop 116 = dktX1_lend_5 := dk_seg dksX1_lend_4 23 rfl rfl
theorem dX1_lend_0 : decode cX1_lend 0 = .ok (.aload_n 0, 1) := dk_42 (dk_at dksX1_lend_0 0 rfl rfl)
theorem dX1_lend_1 : decode cX1_lend 1 = .ok (.iload_n 1, 1) := dk_27 (dk_at dksX1_lend_0 1 rfl rfl)
theorem dX1_lend_2 : decode cX1_lend 2 = .ok (.invokevirtual 439, 3) := dk_182 1 183 (dk_at dksX1_lend_0 2 rfl rfl)
theorem dX1_lend_5 : decode cX1_lend 5 = .ok (.aload_n 0, 1) := dk_42 (dk_at dksX1_lend_0 5 rfl rfl)
theorem dX1_lend_6 : decode cX1_lend 6 = .ok (.iload_n 2, 1) := dk_28 (dk_at dksX1_lend_0 6 rfl rfl)
theorem dX1_lend_7 : decode cX1_lend 7 = .ok (.invokevirtual 439, 3) := dk_182 1 183 (dk_at dksX1_lend_0 7 rfl rfl)
theorem dX1_lend_10 : decode cX1_lend 10 = .ok (.iload_n 1, 1) := dk_27 (dk_at dksX1_lend_0 10 rfl rfl)
theorem dX1_lend_11 : decode cX1_lend 11 = .ok (.iload_n 2, 1) := dk_28 (dk_at dksX1_lend_0 11 rfl rfl)
theorem dX1_lend_12 : decode cX1_lend 12 = .ok (.if_icmp .eq 17, 3) := dk_159 0 17 (dk_at dksX1_lend_0 12 rfl rfl)
theorem dX1_lend_15 : decode cX1_lend 15 = .ok (.iload_n 3, 1) := dk_29 (dk_at dksX1_lend_0 15 rfl rfl)
theorem dX1_lend_16 : decode cX1_lend 16 = .ok (.iconst 1, 1) := dk_4 (dk_at dksX1_lend_0 16 rfl rfl)
theorem dX1_lend_17 : decode cX1_lend 17 = .ok (.bipush 40, 2) := dk_16 40 (dk_at dksX1_lend_0 17 rfl rfl)
theorem dX1_lend_19 : decode cX1_lend 19 = .ok (.invokestatic 416, 3) := dk_184 1 160 (dk_at dksX1_lend_0 19 rfl rfl)
theorem dX1_lend_22 : decode cX1_lend 22 = .ok (.ifCond .eq 7, 3) := dk_153 0 7 (dk_at dksX1_lend_1 0 rfl rfl)
theorem dX1_lend_25 : decode cX1_lend 25 = .ok (.iconst 1, 1) := dk_4 (dk_at dksX1_lend_1 3 rfl rfl)
theorem dX1_lend_26 : decode cX1_lend 26 = .ok (.goto 4, 3) := dk_167 0 4 (dk_at dksX1_lend_1 4 rfl rfl)
theorem dX1_lend_29 : decode cX1_lend 29 = .ok (.iconst 0, 1) := dk_3 (dk_at dksX1_lend_1 7 rfl rfl)
theorem dX1_lend_30 : decode cX1_lend 30 = .ok (.invokestatic 485, 3) := dk_184 1 229 (dk_at dksX1_lend_1 8 rfl rfl)
theorem dX1_lend_33 : decode cX1_lend 33 = .ok (.aload_n 0, 1) := dk_42 (dk_at dksX1_lend_1 11 rfl rfl)
theorem dX1_lend_34 : decode cX1_lend 34 = .ok (.getfield 10, 3) := dk_180 0 10 (dk_at dksX1_lend_1 12 rfl rfl)
theorem dX1_lend_37 : decode cX1_lend 37 = .ok (.getfield 133, 3) := dk_180 0 133 (dk_at dksX1_lend_1 15 rfl rfl)
theorem dX1_lend_40 : decode cX1_lend 40 = .ok (.bipush 10, 2) := dk_16 10 (dk_at dksX1_lend_1 18 rfl rfl)
theorem dX1_lend_42 : decode cX1_lend 42 = .ok (.if_icmp .ge 20, 3) := dk_162 0 20 (dk_at dksX1_lend_1 20 rfl rfl)
theorem dX1_lend_45 : decode cX1_lend 45 = .ok (.aload_n 0, 1) := dk_42 (dk_at dksX1_lend_1 23 rfl rfl)
theorem dX1_lend_46 : decode cX1_lend 46 = .ok (.getfield 10, 3) := dk_180 0 10 (dk_at dksX1_lend_2 0 rfl rfl)
theorem dX1_lend_49 : decode cX1_lend 49 = .ok (.getfield 99, 3) := dk_180 0 99 (dk_at dksX1_lend_2 3 rfl rfl)
theorem dX1_lend_52 : decode cX1_lend 52 = .ok (.iload_n 1, 1) := dk_27 (dk_at dksX1_lend_2 6 rfl rfl)
theorem dX1_lend_53 : decode cX1_lend 53 = .ok (.iaload, 1) := dk_46 (dk_at dksX1_lend_2 7 rfl rfl)
theorem dX1_lend_54 : decode cX1_lend 54 = .ok (.iload_n 3, 1) := dk_29 (dk_at dksX1_lend_2 8 rfl rfl)
theorem dX1_lend_55 : decode cX1_lend 55 = .ok (.if_icmp .lt 7, 3) := dk_161 0 7 (dk_at dksX1_lend_2 9 rfl rfl)
theorem dX1_lend_58 : decode cX1_lend 58 = .ok (.iconst 1, 1) := dk_4 (dk_at dksX1_lend_2 12 rfl rfl)
theorem dX1_lend_59 : decode cX1_lend 59 = .ok (.goto 4, 3) := dk_167 0 4 (dk_at dksX1_lend_2 13 rfl rfl)
theorem dX1_lend_62 : decode cX1_lend 62 = .ok (.iconst 0, 1) := dk_3 (dk_at dksX1_lend_2 16 rfl rfl)
theorem dX1_lend_63 : decode cX1_lend 63 = .ok (.invokestatic 488, 3) := dk_184 1 232 (dk_at dksX1_lend_2 17 rfl rfl)
theorem dX1_lend_66 : decode cX1_lend 66 = .ok (.aload_n 0, 1) := dk_42 (dk_at dksX1_lend_2 20 rfl rfl)
theorem dX1_lend_67 : decode cX1_lend 67 = .ok (.invokevirtual 491, 3) := dk_182 1 235 (dk_at dksX1_lend_2 21 rfl rfl)
theorem dX1_lend_70 : decode cX1_lend 70 = .ok (.aload_n 0, 1) := dk_42 (dk_at dksX1_lend_3 0 rfl rfl)
theorem dX1_lend_71 : decode cX1_lend 71 = .ok (.getfield 10, 3) := dk_180 0 10 (dk_at dksX1_lend_3 1 rfl rfl)
theorem dX1_lend_74 : decode cX1_lend 74 = .ok (.getfield 99, 3) := dk_180 0 99 (dk_at dksX1_lend_3 4 rfl rfl)
theorem dX1_lend_77 : decode cX1_lend 77 = .ok (.iload_n 1, 1) := dk_27 (dk_at dksX1_lend_3 7 rfl rfl)
theorem dX1_lend_78 : decode cX1_lend 78 = .ok (.dup2, 1) := dk_92 (dk_at dksX1_lend_3 8 rfl rfl)
theorem dX1_lend_79 : decode cX1_lend 79 = .ok (.iaload, 1) := dk_46 (dk_at dksX1_lend_3 9 rfl rfl)
theorem dX1_lend_80 : decode cX1_lend 80 = .ok (.iload_n 3, 1) := dk_29 (dk_at dksX1_lend_3 10 rfl rfl)
theorem dX1_lend_81 : decode cX1_lend 81 = .ok (.isub, 1) := dk_100 (dk_at dksX1_lend_3 11 rfl rfl)
theorem dX1_lend_82 : decode cX1_lend 82 = .ok (.iastore, 1) := dk_79 (dk_at dksX1_lend_3 12 rfl rfl)
theorem dX1_lend_83 : decode cX1_lend 83 = .ok (.aload_n 0, 1) := dk_42 (dk_at dksX1_lend_3 13 rfl rfl)
theorem dX1_lend_84 : decode cX1_lend 84 = .ok (.getfield 10, 3) := dk_180 0 10 (dk_at dksX1_lend_3 14 rfl rfl)
theorem dX1_lend_87 : decode cX1_lend 87 = .ok (.iload_n 2, 1) := dk_28 (dk_at dksX1_lend_3 17 rfl rfl)
theorem dX1_lend_88 : decode cX1_lend 88 = .ok (.iload_n 3, 1) := dk_29 (dk_at dksX1_lend_3 18 rfl rfl)
theorem dX1_lend_89 : decode cX1_lend 89 = .ok (.invokevirtual 384, 3) := dk_182 1 128 (dk_at dksX1_lend_3 19 rfl rfl)
theorem dX1_lend_92 : decode cX1_lend 92 = .ok (.aload_n 0, 1) := dk_42 (dk_at dksX1_lend_3 22 rfl rfl)
theorem dX1_lend_93 : decode cX1_lend 93 = .ok (.getfield 10, 3) := dk_180 0 10 (dk_at dksX1_lend_4 0 rfl rfl)
theorem dX1_lend_96 : decode cX1_lend 96 = .ok (.iload_n 2, 1) := dk_28 (dk_at dksX1_lend_4 3 rfl rfl)
theorem dX1_lend_97 : decode cX1_lend 97 = .ok (.iload_n 1, 1) := dk_27 (dk_at dksX1_lend_4 4 rfl rfl)
theorem dX1_lend_98 : decode cX1_lend 98 = .ok (.iload_n 3, 1) := dk_29 (dk_at dksX1_lend_4 5 rfl rfl)
theorem dX1_lend_99 : decode cX1_lend 99 = .ok (.iload_n 2, 1) := dk_28 (dk_at dksX1_lend_4 6 rfl rfl)
theorem dX1_lend_100 : decode cX1_lend 100 = .ok (.invokevirtual 144, 3) := dk_182 0 144 (dk_at dksX1_lend_4 7 rfl rfl)
theorem dX1_lend_103 : decode cX1_lend 103 = .ok (.istore 4, 2) := dk_54 4 (dk_at dksX1_lend_4 10 rfl rfl)
theorem dX1_lend_105 : decode cX1_lend 105 = .ok (.aload_n 0, 1) := dk_42 (dk_at dksX1_lend_4 12 rfl rfl)
theorem dX1_lend_106 : decode cX1_lend 106 = .ok (.getfield 10, 3) := dk_180 0 10 (dk_at dksX1_lend_4 13 rfl rfl)
theorem dX1_lend_109 : decode cX1_lend 109 = .ok (.iload 4, 2) := dk_21 4 (dk_at dksX1_lend_4 16 rfl rfl)
theorem dX1_lend_111 : decode cX1_lend 111 = .ok (.iconst 0, 1) := dk_3 (dk_at dksX1_lend_4 18 rfl rfl)
theorem dX1_lend_112 : decode cX1_lend 112 = .ok (.iload_n 3, 1) := dk_29 (dk_at dksX1_lend_4 19 rfl rfl)
theorem dX1_lend_113 : decode cX1_lend 113 = .ok (.invokevirtual 494, 3) := dk_182 1 238 (dk_at dksX1_lend_4 20 rfl rfl)
theorem dX1_lend_116 : decode cX1_lend 116 = .ok (.iload 4, 2) := dk_21 4 (dk_at dksX1_lend_5 0 rfl rfl)
theorem dX1_lend_118 : decode cX1_lend 118 = .ok (.ireturn, 1) := dk_172 (dk_at dksX1_lend_5 2 rfl rfl)
abbrev cX1_demand : ByteArray := prog_1_method_34_code
def yX1_demand : MethodName := ⟨RX1, "demand", "(Z)V"⟩
def dkwX1_demand_0 : List UInt8 := [26, 154, 0, 11, 187, 0, 198, 89, 183, 0, 200, 191, 177]
abbrev dktX1_demand_0 : List UInt8 := dkwX1_demand_0 ++ []
theorem dksX1_demand_0 : cX1_demand.data.toList.drop 0 = dktX1_demand_0 := by decide +kernel
theorem dX1_demand_0 : decode cX1_demand 0 = .ok (.iload_n 0, 1) := dk_26 (dk_at dksX1_demand_0 0 rfl rfl)
theorem dX1_demand_1 : decode cX1_demand 1 = .ok (.ifCond .ne 11, 3) := dk_154 0 11 (dk_at dksX1_demand_0 1 rfl rfl)
theorem dX1_demand_4 : decode cX1_demand 4 = .ok (.new 198, 3) := dk_187 0 198 (dk_at dksX1_demand_0 4 rfl rfl)
theorem dX1_demand_7 : decode cX1_demand 7 = .ok (.dup, 1) := dk_89 (dk_at dksX1_demand_0 7 rfl rfl)
theorem dX1_demand_8 : decode cX1_demand 8 = .ok (.invokespecial 200, 3) := dk_183 0 200 (dk_at dksX1_demand_0 8 rfl rfl)
theorem dX1_demand_11 : decode cX1_demand 11 = .ok (.athrow, 1) := dk_191 (dk_at dksX1_demand_0 11 rfl rfl)
theorem dX1_demand_12 : decode cX1_demand 12 = .ok (.return_, 1) := dk_177 (dk_at dksX1_demand_0 12 rfl rfl)
abbrev cX1_can : ByteArray := prog_1_method_35_code
def yX1_can : MethodName := ⟨RX1, "can", "(Z)V"⟩
def dkwX1_can_0 : List UInt8 := [26, 154, 0, 11, 187, 1, 167, 89, 183, 1, 169, 191, 177]
abbrev dktX1_can_0 : List UInt8 := dkwX1_can_0 ++ []
theorem dksX1_can_0 : cX1_can.data.toList.drop 0 = dktX1_can_0 := by decide +kernel
theorem dX1_can_0 : decode cX1_can 0 = .ok (.iload_n 0, 1) := dk_26 (dk_at dksX1_can_0 0 rfl rfl)
theorem dX1_can_1 : decode cX1_can 1 = .ok (.ifCond .ne 11, 3) := dk_154 0 11 (dk_at dksX1_can_0 1 rfl rfl)
theorem dX1_can_4 : decode cX1_can 4 = .ok (.new 423, 3) := dk_187 1 167 (dk_at dksX1_can_0 4 rfl rfl)
theorem dX1_can_7 : decode cX1_can 7 = .ok (.dup, 1) := dk_89 (dk_at dksX1_can_0 7 rfl rfl)
theorem dX1_can_8 : decode cX1_can 8 = .ok (.invokespecial 425, 3) := dk_183 1 169 (dk_at dksX1_can_0 8 rfl rfl)
theorem dX1_can_11 : decode cX1_can 11 = .ok (.athrow, 1) := dk_191 (dk_at dksX1_can_0 11 rfl rfl)
theorem dX1_can_12 : decode cX1_can 12 = .ok (.return_, 1) := dk_177 (dk_at dksX1_can_0 12 rfl rfl)
abbrev cX1_remembers : ByteArray := prog_1_method_46_code
def yX1_remembers : MethodName := ⟨RX1, "remembers", "()V"⟩
def dkwX1_remembers_2 : List UInt8 := [182, 0, 248, 87, 177]
abbrev dktX1_remembers_2 : List UInt8 := dkwX1_remembers_2 ++ []
def dkwX1_remembers_1 : List UInt8 := [167, 0, 10, 187, 0, 7, 89, 183, 0, 9, 76, 42, 180, 0, 42, 43, 42, 180, 0, 10, 182, 0, 204]
abbrev dktX1_remembers_1 : List UInt8 := dkwX1_remembers_1 ++ dktX1_remembers_2
def dkwX1_remembers_0 : List UInt8 := [42, 180, 0, 42, 182, 1, 63, 16, 12, 160, 0, 17, 42, 180, 0, 42, 3, 182, 1, 225, 192, 0, 7]
abbrev dktX1_remembers_0 : List UInt8 := dkwX1_remembers_0 ++ dktX1_remembers_1
theorem dksX1_remembers_0 : cX1_remembers.data.toList.drop 0 = dktX1_remembers_0 := by decide +kernel
theorem dksX1_remembers_1 : cX1_remembers.data.toList.drop 23 = dktX1_remembers_1 := dk_seg dksX1_remembers_0 23 rfl rfl
theorem dksX1_remembers_2 : cX1_remembers.data.toList.drop 46 = dktX1_remembers_2 := dk_seg dksX1_remembers_1 23 rfl rfl
theorem dX1_remembers_0 : decode cX1_remembers 0 = .ok (.aload_n 0, 1) := dk_42 (dk_at dksX1_remembers_0 0 rfl rfl)
theorem dX1_remembers_1 : decode cX1_remembers 1 = .ok (.getfield 42, 3) := dk_180 0 42 (dk_at dksX1_remembers_0 1 rfl rfl)
theorem dX1_remembers_4 : decode cX1_remembers 4 = .ok (.invokevirtual 319, 3) := dk_182 1 63 (dk_at dksX1_remembers_0 4 rfl rfl)
theorem dX1_remembers_7 : decode cX1_remembers 7 = .ok (.bipush 12, 2) := dk_16 12 (dk_at dksX1_remembers_0 7 rfl rfl)
theorem dX1_remembers_9 : decode cX1_remembers 9 = .ok (.if_icmp .ne 17, 3) := dk_160 0 17 (dk_at dksX1_remembers_0 9 rfl rfl)
theorem dX1_remembers_12 : decode cX1_remembers 12 = .ok (.aload_n 0, 1) := dk_42 (dk_at dksX1_remembers_0 12 rfl rfl)
theorem dX1_remembers_13 : decode cX1_remembers 13 = .ok (.getfield 42, 3) := dk_180 0 42 (dk_at dksX1_remembers_0 13 rfl rfl)
theorem dX1_remembers_16 : decode cX1_remembers 16 = .ok (.iconst 0, 1) := dk_3 (dk_at dksX1_remembers_0 16 rfl rfl)
theorem dX1_remembers_17 : decode cX1_remembers 17 = .ok (.invokevirtual 481, 3) := dk_182 1 225 (dk_at dksX1_remembers_0 17 rfl rfl)
theorem dX1_remembers_20 : decode cX1_remembers 20 = .ok (.checkcast 7, 3) := dk_192 0 7 (dk_at dksX1_remembers_0 20 rfl rfl)
theorem dX1_remembers_23 : decode cX1_remembers 23 = .ok (.goto 10, 3) := dk_167 0 10 (dk_at dksX1_remembers_1 0 rfl rfl)
theorem dX1_remembers_26 : decode cX1_remembers 26 = .ok (.new 7, 3) := dk_187 0 7 (dk_at dksX1_remembers_1 3 rfl rfl)
theorem dX1_remembers_29 : decode cX1_remembers 29 = .ok (.dup, 1) := dk_89 (dk_at dksX1_remembers_1 6 rfl rfl)
theorem dX1_remembers_30 : decode cX1_remembers 30 = .ok (.invokespecial 9, 3) := dk_183 0 9 (dk_at dksX1_remembers_1 7 rfl rfl)
theorem dX1_remembers_33 : decode cX1_remembers 33 = .ok (.astore_n 1, 1) := dk_76 (dk_at dksX1_remembers_1 10 rfl rfl)
theorem dX1_remembers_34 : decode cX1_remembers 34 = .ok (.aload_n 0, 1) := dk_42 (dk_at dksX1_remembers_1 11 rfl rfl)
theorem dX1_remembers_35 : decode cX1_remembers 35 = .ok (.getfield 42, 3) := dk_180 0 42 (dk_at dksX1_remembers_1 12 rfl rfl)
theorem dX1_remembers_38 : decode cX1_remembers 38 = .ok (.aload_n 1, 1) := dk_43 (dk_at dksX1_remembers_1 15 rfl rfl)
theorem dX1_remembers_39 : decode cX1_remembers 39 = .ok (.aload_n 0, 1) := dk_42 (dk_at dksX1_remembers_1 16 rfl rfl)
theorem dX1_remembers_40 : decode cX1_remembers 40 = .ok (.getfield 10, 3) := dk_180 0 10 (dk_at dksX1_remembers_1 17 rfl rfl)
theorem dX1_remembers_43 : decode cX1_remembers 43 = .ok (.invokevirtual 204, 3) := dk_182 0 204 (dk_at dksX1_remembers_1 20 rfl rfl)
theorem dX1_remembers_46 : decode cX1_remembers 46 = .ok (.invokevirtual 248, 3) := dk_182 0 248 (dk_at dksX1_remembers_2 0 rfl rfl)
theorem dX1_remembers_49 : decode cX1_remembers 49 = .ok (.pop, 1) := dk_87 (dk_at dksX1_remembers_2 3 rfl rfl)
theorem dX1_remembers_50 : decode cX1_remembers 50 = .ok (.return_, 1) := dk_177 (dk_at dksX1_remembers_2 4 rfl rfl)
abbrev cX1_pay : ByteArray := prog_1_method_48_code
def yX1_pay : MethodName := ⟨RX1, "pay", "(I)I"⟩
def dkwX1_pay_4 : List UInt8 := [44, 180, 1, 210, 27, 46, 182, 1, 238, 44, 180, 0, 99, 29, 46, 172]
abbrev dktX1_pay_4 : List UInt8 := dkwX1_pay_4 ++ []
def dkwX1_pay_3 : List UInt8 := [180, 1, 207, 27, 46, 44, 180, 1, 210, 27, 46, 182, 1, 128, 44, 180, 1, 175, 27, 5, 79, 44, 27, 4]
abbrev dktX1_pay_3 : List UInt8 := dkwX1_pay_3 ++ dktX1_pay_4
def dkwX1_pay_2 : List UInt8 := [184, 1, 232, 42, 182, 1, 235, 44, 180, 0, 99, 29, 92, 46, 44, 180, 1, 210, 27, 46, 100, 79, 44, 44]
abbrev dktX1_pay_2 : List UInt8 := dkwX1_pay_2 ++ dktX1_pay_3
def dkwX1_pay_1 : List UInt8 := [159, 0, 22, 44, 180, 0, 99, 29, 46, 44, 180, 1, 210, 27, 46, 161, 0, 7, 4, 167, 0, 4, 3]
abbrev dktX1_pay_1 : List UInt8 := dkwX1_pay_1 ++ dktX1_pay_2
def dkwX1_pay_0 : List UInt8 := [42, 27, 182, 1, 204, 42, 180, 0, 10, 77, 44, 180, 1, 180, 27, 46, 62, 44, 180, 1, 175, 27, 46, 5]
abbrev dktX1_pay_0 : List UInt8 := dkwX1_pay_0 ++ dktX1_pay_1
theorem dksX1_pay_0 : cX1_pay.data.toList.drop 0 = dktX1_pay_0 := by decide +kernel
theorem dksX1_pay_1 : cX1_pay.data.toList.drop 24 = dktX1_pay_1 := dk_seg dksX1_pay_0 24 rfl rfl
theorem dksX1_pay_2 : cX1_pay.data.toList.drop 47 = dktX1_pay_2 := dk_seg dksX1_pay_1 23 rfl rfl
theorem dksX1_pay_3 : cX1_pay.data.toList.drop 71 = dktX1_pay_3 := dk_seg dksX1_pay_2 24 rfl rfl
theorem dksX1_pay_4 : cX1_pay.data.toList.drop 95 = dktX1_pay_4 := dk_seg dksX1_pay_3 24 rfl rfl
theorem dX1_pay_0 : decode cX1_pay 0 = .ok (.aload_n 0, 1) := dk_42 (dk_at dksX1_pay_0 0 rfl rfl)
theorem dX1_pay_1 : decode cX1_pay 1 = .ok (.iload_n 1, 1) := dk_27 (dk_at dksX1_pay_0 1 rfl rfl)
theorem dX1_pay_2 : decode cX1_pay 2 = .ok (.invokevirtual 460, 3) := dk_182 1 204 (dk_at dksX1_pay_0 2 rfl rfl)
theorem dX1_pay_5 : decode cX1_pay 5 = .ok (.aload_n 0, 1) := dk_42 (dk_at dksX1_pay_0 5 rfl rfl)
theorem dX1_pay_6 : decode cX1_pay 6 = .ok (.getfield 10, 3) := dk_180 0 10 (dk_at dksX1_pay_0 6 rfl rfl)
theorem dX1_pay_9 : decode cX1_pay 9 = .ok (.astore_n 2, 1) := dk_77 (dk_at dksX1_pay_0 9 rfl rfl)
theorem dX1_pay_10 : decode cX1_pay 10 = .ok (.aload_n 2, 1) := dk_44 (dk_at dksX1_pay_0 10 rfl rfl)
theorem dX1_pay_11 : decode cX1_pay 11 = .ok (.getfield 436, 3) := dk_180 1 180 (dk_at dksX1_pay_0 11 rfl rfl)
theorem dX1_pay_14 : decode cX1_pay 14 = .ok (.iload_n 1, 1) := dk_27 (dk_at dksX1_pay_0 14 rfl rfl)
theorem dX1_pay_15 : decode cX1_pay 15 = .ok (.iaload, 1) := dk_46 (dk_at dksX1_pay_0 15 rfl rfl)
theorem dX1_pay_16 : decode cX1_pay 16 = .ok (.istore_n 3, 1) := dk_62 (dk_at dksX1_pay_0 16 rfl rfl)
theorem dX1_pay_17 : decode cX1_pay 17 = .ok (.aload_n 2, 1) := dk_44 (dk_at dksX1_pay_0 17 rfl rfl)
theorem dX1_pay_18 : decode cX1_pay 18 = .ok (.getfield 431, 3) := dk_180 1 175 (dk_at dksX1_pay_0 18 rfl rfl)
theorem dX1_pay_21 : decode cX1_pay 21 = .ok (.iload_n 1, 1) := dk_27 (dk_at dksX1_pay_0 21 rfl rfl)
theorem dX1_pay_22 : decode cX1_pay 22 = .ok (.iaload, 1) := dk_46 (dk_at dksX1_pay_0 22 rfl rfl)
theorem dX1_pay_23 : decode cX1_pay 23 = .ok (.iconst 2, 1) := dk_5 (dk_at dksX1_pay_0 23 rfl rfl)
theorem dX1_pay_24 : decode cX1_pay 24 = .ok (.if_icmp .eq 22, 3) := dk_159 0 22 (dk_at dksX1_pay_1 0 rfl rfl)
theorem dX1_pay_27 : decode cX1_pay 27 = .ok (.aload_n 2, 1) := dk_44 (dk_at dksX1_pay_1 3 rfl rfl)
theorem dX1_pay_28 : decode cX1_pay 28 = .ok (.getfield 99, 3) := dk_180 0 99 (dk_at dksX1_pay_1 4 rfl rfl)
theorem dX1_pay_31 : decode cX1_pay 31 = .ok (.iload_n 3, 1) := dk_29 (dk_at dksX1_pay_1 7 rfl rfl)
theorem dX1_pay_32 : decode cX1_pay 32 = .ok (.iaload, 1) := dk_46 (dk_at dksX1_pay_1 8 rfl rfl)
theorem dX1_pay_33 : decode cX1_pay 33 = .ok (.aload_n 2, 1) := dk_44 (dk_at dksX1_pay_1 9 rfl rfl)
theorem dX1_pay_34 : decode cX1_pay 34 = .ok (.getfield 466, 3) := dk_180 1 210 (dk_at dksX1_pay_1 10 rfl rfl)
theorem dX1_pay_37 : decode cX1_pay 37 = .ok (.iload_n 1, 1) := dk_27 (dk_at dksX1_pay_1 13 rfl rfl)
theorem dX1_pay_38 : decode cX1_pay 38 = .ok (.iaload, 1) := dk_46 (dk_at dksX1_pay_1 14 rfl rfl)
theorem dX1_pay_39 : decode cX1_pay 39 = .ok (.if_icmp .lt 7, 3) := dk_161 0 7 (dk_at dksX1_pay_1 15 rfl rfl)
theorem dX1_pay_42 : decode cX1_pay 42 = .ok (.iconst 1, 1) := dk_4 (dk_at dksX1_pay_1 18 rfl rfl)
theorem dX1_pay_43 : decode cX1_pay 43 = .ok (.goto 4, 3) := dk_167 0 4 (dk_at dksX1_pay_1 19 rfl rfl)
theorem dX1_pay_46 : decode cX1_pay 46 = .ok (.iconst 0, 1) := dk_3 (dk_at dksX1_pay_1 22 rfl rfl)
theorem dX1_pay_47 : decode cX1_pay 47 = .ok (.invokestatic 488, 3) := dk_184 1 232 (dk_at dksX1_pay_2 0 rfl rfl)
theorem dX1_pay_50 : decode cX1_pay 50 = .ok (.aload_n 0, 1) := dk_42 (dk_at dksX1_pay_2 3 rfl rfl)
theorem dX1_pay_51 : decode cX1_pay 51 = .ok (.invokevirtual 491, 3) := dk_182 1 235 (dk_at dksX1_pay_2 4 rfl rfl)
theorem dX1_pay_54 : decode cX1_pay 54 = .ok (.aload_n 2, 1) := dk_44 (dk_at dksX1_pay_2 7 rfl rfl)
theorem dX1_pay_55 : decode cX1_pay 55 = .ok (.getfield 99, 3) := dk_180 0 99 (dk_at dksX1_pay_2 8 rfl rfl)
theorem dX1_pay_58 : decode cX1_pay 58 = .ok (.iload_n 3, 1) := dk_29 (dk_at dksX1_pay_2 11 rfl rfl)
theorem dX1_pay_59 : decode cX1_pay 59 = .ok (.dup2, 1) := dk_92 (dk_at dksX1_pay_2 12 rfl rfl)
theorem dX1_pay_60 : decode cX1_pay 60 = .ok (.iaload, 1) := dk_46 (dk_at dksX1_pay_2 13 rfl rfl)
theorem dX1_pay_61 : decode cX1_pay 61 = .ok (.aload_n 2, 1) := dk_44 (dk_at dksX1_pay_2 14 rfl rfl)
theorem dX1_pay_62 : decode cX1_pay 62 = .ok (.getfield 466, 3) := dk_180 1 210 (dk_at dksX1_pay_2 15 rfl rfl)
theorem dX1_pay_65 : decode cX1_pay 65 = .ok (.iload_n 1, 1) := dk_27 (dk_at dksX1_pay_2 18 rfl rfl)
theorem dX1_pay_66 : decode cX1_pay 66 = .ok (.iaload, 1) := dk_46 (dk_at dksX1_pay_2 19 rfl rfl)
theorem dX1_pay_67 : decode cX1_pay 67 = .ok (.isub, 1) := dk_100 (dk_at dksX1_pay_2 20 rfl rfl)
theorem dX1_pay_68 : decode cX1_pay 68 = .ok (.iastore, 1) := dk_79 (dk_at dksX1_pay_2 21 rfl rfl)
theorem dX1_pay_69 : decode cX1_pay 69 = .ok (.aload_n 2, 1) := dk_44 (dk_at dksX1_pay_2 22 rfl rfl)
theorem dX1_pay_70 : decode cX1_pay 70 = .ok (.aload_n 2, 1) := dk_44 (dk_at dksX1_pay_2 23 rfl rfl)
theorem dX1_pay_71 : decode cX1_pay 71 = .ok (.getfield 463, 3) := dk_180 1 207 (dk_at dksX1_pay_3 0 rfl rfl)
theorem dX1_pay_74 : decode cX1_pay 74 = .ok (.iload_n 1, 1) := dk_27 (dk_at dksX1_pay_3 3 rfl rfl)
theorem dX1_pay_75 : decode cX1_pay 75 = .ok (.iaload, 1) := dk_46 (dk_at dksX1_pay_3 4 rfl rfl)
theorem dX1_pay_76 : decode cX1_pay 76 = .ok (.aload_n 2, 1) := dk_44 (dk_at dksX1_pay_3 5 rfl rfl)
theorem dX1_pay_77 : decode cX1_pay 77 = .ok (.getfield 466, 3) := dk_180 1 210 (dk_at dksX1_pay_3 6 rfl rfl)
theorem dX1_pay_80 : decode cX1_pay 80 = .ok (.iload_n 1, 1) := dk_27 (dk_at dksX1_pay_3 9 rfl rfl)
theorem dX1_pay_81 : decode cX1_pay 81 = .ok (.iaload, 1) := dk_46 (dk_at dksX1_pay_3 10 rfl rfl)
theorem dX1_pay_82 : decode cX1_pay 82 = .ok (.invokevirtual 384, 3) := dk_182 1 128 (dk_at dksX1_pay_3 11 rfl rfl)
theorem dX1_pay_85 : decode cX1_pay 85 = .ok (.aload_n 2, 1) := dk_44 (dk_at dksX1_pay_3 14 rfl rfl)
theorem dX1_pay_86 : decode cX1_pay 86 = .ok (.getfield 431, 3) := dk_180 1 175 (dk_at dksX1_pay_3 15 rfl rfl)
theorem dX1_pay_89 : decode cX1_pay 89 = .ok (.iload_n 1, 1) := dk_27 (dk_at dksX1_pay_3 18 rfl rfl)
theorem dX1_pay_90 : decode cX1_pay 90 = .ok (.iconst 2, 1) := dk_5 (dk_at dksX1_pay_3 19 rfl rfl)
theorem dX1_pay_91 : decode cX1_pay 91 = .ok (.iastore, 1) := dk_79 (dk_at dksX1_pay_3 20 rfl rfl)
theorem dX1_pay_92 : decode cX1_pay 92 = .ok (.aload_n 2, 1) := dk_44 (dk_at dksX1_pay_3 21 rfl rfl)
theorem dX1_pay_93 : decode cX1_pay 93 = .ok (.iload_n 1, 1) := dk_27 (dk_at dksX1_pay_3 22 rfl rfl)
theorem dX1_pay_94 : decode cX1_pay 94 = .ok (.iconst 1, 1) := dk_4 (dk_at dksX1_pay_3 23 rfl rfl)
theorem dX1_pay_95 : decode cX1_pay 95 = .ok (.aload_n 2, 1) := dk_44 (dk_at dksX1_pay_4 0 rfl rfl)
theorem dX1_pay_96 : decode cX1_pay 96 = .ok (.getfield 466, 3) := dk_180 1 210 (dk_at dksX1_pay_4 1 rfl rfl)
theorem dX1_pay_99 : decode cX1_pay 99 = .ok (.iload_n 1, 1) := dk_27 (dk_at dksX1_pay_4 4 rfl rfl)
theorem dX1_pay_100 : decode cX1_pay 100 = .ok (.iaload, 1) := dk_46 (dk_at dksX1_pay_4 5 rfl rfl)
theorem dX1_pay_101 : decode cX1_pay 101 = .ok (.invokevirtual 494, 3) := dk_182 1 238 (dk_at dksX1_pay_4 6 rfl rfl)
theorem dX1_pay_104 : decode cX1_pay 104 = .ok (.aload_n 2, 1) := dk_44 (dk_at dksX1_pay_4 9 rfl rfl)
theorem dX1_pay_105 : decode cX1_pay 105 = .ok (.getfield 99, 3) := dk_180 0 99 (dk_at dksX1_pay_4 10 rfl rfl)
theorem dX1_pay_108 : decode cX1_pay 108 = .ok (.iload_n 3, 1) := dk_29 (dk_at dksX1_pay_4 13 rfl rfl)
theorem dX1_pay_109 : decode cX1_pay 109 = .ok (.iaload, 1) := dk_46 (dk_at dksX1_pay_4 14 rfl rfl)
theorem dX1_pay_110 : decode cX1_pay 110 = .ok (.ireturn, 1) := dk_172 (dk_at dksX1_pay_4 15 rfl rfl)
abbrev cX1_split : ByteArray := prog_1_method_49_code
def yX1_split : MethodName := ⟨RX1, "split", "(I)I"⟩
def dkwX1_split_5 : List UInt8 := [79, 21, 4, 172]
abbrev dktX1_split_5 : List UInt8 := dkwX1_split_5 ++ []
def dkwX1_split_4 : List UInt8 := [54, 4, 44, 180, 1, 175, 21, 4, 44, 180, 1, 175, 27, 46, 79, 44, 180, 1, 210, 27, 92, 46, 29, 100]
abbrev dktX1_split_4 : List UInt8 := dkwX1_split_4 ++ dktX1_split_5
def dkwX1_split_3 : List UInt8 := [44, 44, 180, 1, 180, 27, 46, 44, 180, 1, 207, 27, 46, 29, 44, 180, 1, 178, 27, 46, 182, 0, 144]
abbrev dktX1_split_3 : List UInt8 := dkwX1_split_3 ++ dktX1_split_4
def dkwX1_split_2 : List UInt8 := [182, 1, 235, 44, 27, 5, 44, 180, 1, 210, 27, 46, 182, 1, 238, 44, 180, 1, 210, 27, 46, 5, 108, 62]
abbrev dktX1_split_2 : List UInt8 := dkwX1_split_2 ++ dktX1_split_3
def dkwX1_split_1 : List UInt8 := [27, 46, 4, 164, 0, 16, 44, 180, 0, 133, 16, 10, 162, 0, 7, 4, 167, 0, 4, 3, 184, 1, 232, 42]
abbrev dktX1_split_1 : List UInt8 := dkwX1_split_1 ++ dktX1_split_2
def dkwX1_split_0 : List UInt8 := [42, 27, 182, 1, 204, 42, 180, 0, 10, 77, 44, 180, 1, 175, 27, 46, 5, 159, 0, 26, 44, 180, 1, 210]
abbrev dktX1_split_0 : List UInt8 := dkwX1_split_0 ++ dktX1_split_1
theorem dksX1_split_0 : cX1_split.data.toList.drop 0 = dktX1_split_0 := by decide +kernel
theorem dksX1_split_1 : cX1_split.data.toList.drop 24 = dktX1_split_1 := dk_seg dksX1_split_0 24 rfl rfl
theorem dksX1_split_2 : cX1_split.data.toList.drop 48 = dktX1_split_2 := dk_seg dksX1_split_1 24 rfl rfl
theorem dksX1_split_3 : cX1_split.data.toList.drop 72 = dktX1_split_3 := dk_seg dksX1_split_2 24 rfl rfl
theorem dksX1_split_4 : cX1_split.data.toList.drop 95 = dktX1_split_4 := dk_seg dksX1_split_3 23 rfl rfl
theorem dksX1_split_5 : cX1_split.data.toList.drop 119 = dktX1_split_5 := dk_seg dksX1_split_4 24 rfl rfl
theorem dX1_split_0 : decode cX1_split 0 = .ok (.aload_n 0, 1) := dk_42 (dk_at dksX1_split_0 0 rfl rfl)
theorem dX1_split_1 : decode cX1_split 1 = .ok (.iload_n 1, 1) := dk_27 (dk_at dksX1_split_0 1 rfl rfl)
theorem dX1_split_2 : decode cX1_split 2 = .ok (.invokevirtual 460, 3) := dk_182 1 204 (dk_at dksX1_split_0 2 rfl rfl)
theorem dX1_split_5 : decode cX1_split 5 = .ok (.aload_n 0, 1) := dk_42 (dk_at dksX1_split_0 5 rfl rfl)
theorem dX1_split_6 : decode cX1_split 6 = .ok (.getfield 10, 3) := dk_180 0 10 (dk_at dksX1_split_0 6 rfl rfl)
theorem dX1_split_9 : decode cX1_split 9 = .ok (.astore_n 2, 1) := dk_77 (dk_at dksX1_split_0 9 rfl rfl)
theorem dX1_split_10 : decode cX1_split 10 = .ok (.aload_n 2, 1) := dk_44 (dk_at dksX1_split_0 10 rfl rfl)
theorem dX1_split_11 : decode cX1_split 11 = .ok (.getfield 431, 3) := dk_180 1 175 (dk_at dksX1_split_0 11 rfl rfl)
theorem dX1_split_14 : decode cX1_split 14 = .ok (.iload_n 1, 1) := dk_27 (dk_at dksX1_split_0 14 rfl rfl)
theorem dX1_split_15 : decode cX1_split 15 = .ok (.iaload, 1) := dk_46 (dk_at dksX1_split_0 15 rfl rfl)
theorem dX1_split_16 : decode cX1_split 16 = .ok (.iconst 2, 1) := dk_5 (dk_at dksX1_split_0 16 rfl rfl)
theorem dX1_split_17 : decode cX1_split 17 = .ok (.if_icmp .eq 26, 3) := dk_159 0 26 (dk_at dksX1_split_0 17 rfl rfl)
theorem dX1_split_20 : decode cX1_split 20 = .ok (.aload_n 2, 1) := dk_44 (dk_at dksX1_split_0 20 rfl rfl)
theorem dX1_split_21 : decode cX1_split 21 = .ok (.getfield 466, 3) := dk_180 1 210 (dk_at dksX1_split_0 21 rfl rfl)
theorem dX1_split_24 : decode cX1_split 24 = .ok (.iload_n 1, 1) := dk_27 (dk_at dksX1_split_1 0 rfl rfl)
theorem dX1_split_25 : decode cX1_split 25 = .ok (.iaload, 1) := dk_46 (dk_at dksX1_split_1 1 rfl rfl)
theorem dX1_split_26 : decode cX1_split 26 = .ok (.iconst 1, 1) := dk_4 (dk_at dksX1_split_1 2 rfl rfl)
theorem dX1_split_27 : decode cX1_split 27 = .ok (.if_icmp .le 16, 3) := dk_164 0 16 (dk_at dksX1_split_1 3 rfl rfl)
theorem dX1_split_30 : decode cX1_split 30 = .ok (.aload_n 2, 1) := dk_44 (dk_at dksX1_split_1 6 rfl rfl)
theorem dX1_split_31 : decode cX1_split 31 = .ok (.getfield 133, 3) := dk_180 0 133 (dk_at dksX1_split_1 7 rfl rfl)
theorem dX1_split_34 : decode cX1_split 34 = .ok (.bipush 10, 2) := dk_16 10 (dk_at dksX1_split_1 10 rfl rfl)
theorem dX1_split_36 : decode cX1_split 36 = .ok (.if_icmp .ge 7, 3) := dk_162 0 7 (dk_at dksX1_split_1 12 rfl rfl)
theorem dX1_split_39 : decode cX1_split 39 = .ok (.iconst 1, 1) := dk_4 (dk_at dksX1_split_1 15 rfl rfl)
theorem dX1_split_40 : decode cX1_split 40 = .ok (.goto 4, 3) := dk_167 0 4 (dk_at dksX1_split_1 16 rfl rfl)
theorem dX1_split_43 : decode cX1_split 43 = .ok (.iconst 0, 1) := dk_3 (dk_at dksX1_split_1 19 rfl rfl)
theorem dX1_split_44 : decode cX1_split 44 = .ok (.invokestatic 488, 3) := dk_184 1 232 (dk_at dksX1_split_1 20 rfl rfl)
theorem dX1_split_47 : decode cX1_split 47 = .ok (.aload_n 0, 1) := dk_42 (dk_at dksX1_split_1 23 rfl rfl)
theorem dX1_split_48 : decode cX1_split 48 = .ok (.invokevirtual 491, 3) := dk_182 1 235 (dk_at dksX1_split_2 0 rfl rfl)
theorem dX1_split_51 : decode cX1_split 51 = .ok (.aload_n 2, 1) := dk_44 (dk_at dksX1_split_2 3 rfl rfl)
theorem dX1_split_52 : decode cX1_split 52 = .ok (.iload_n 1, 1) := dk_27 (dk_at dksX1_split_2 4 rfl rfl)
theorem dX1_split_53 : decode cX1_split 53 = .ok (.iconst 2, 1) := dk_5 (dk_at dksX1_split_2 5 rfl rfl)
theorem dX1_split_54 : decode cX1_split 54 = .ok (.aload_n 2, 1) := dk_44 (dk_at dksX1_split_2 6 rfl rfl)
theorem dX1_split_55 : decode cX1_split 55 = .ok (.getfield 466, 3) := dk_180 1 210 (dk_at dksX1_split_2 7 rfl rfl)
theorem dX1_split_58 : decode cX1_split 58 = .ok (.iload_n 1, 1) := dk_27 (dk_at dksX1_split_2 10 rfl rfl)
theorem dX1_split_59 : decode cX1_split 59 = .ok (.iaload, 1) := dk_46 (dk_at dksX1_split_2 11 rfl rfl)
theorem dX1_split_60 : decode cX1_split 60 = .ok (.invokevirtual 494, 3) := dk_182 1 238 (dk_at dksX1_split_2 12 rfl rfl)
theorem dX1_split_63 : decode cX1_split 63 = .ok (.aload_n 2, 1) := dk_44 (dk_at dksX1_split_2 15 rfl rfl)
theorem dX1_split_64 : decode cX1_split 64 = .ok (.getfield 466, 3) := dk_180 1 210 (dk_at dksX1_split_2 16 rfl rfl)
theorem dX1_split_67 : decode cX1_split 67 = .ok (.iload_n 1, 1) := dk_27 (dk_at dksX1_split_2 19 rfl rfl)
theorem dX1_split_68 : decode cX1_split 68 = .ok (.iaload, 1) := dk_46 (dk_at dksX1_split_2 20 rfl rfl)
theorem dX1_split_69 : decode cX1_split 69 = .ok (.iconst 2, 1) := dk_5 (dk_at dksX1_split_2 21 rfl rfl)
theorem dX1_split_70 : decode cX1_split 70 = .ok (.idiv, 1) := dk_108 (dk_at dksX1_split_2 22 rfl rfl)
theorem dX1_split_71 : decode cX1_split 71 = .ok (.istore_n 3, 1) := dk_62 (dk_at dksX1_split_2 23 rfl rfl)
theorem dX1_split_72 : decode cX1_split 72 = .ok (.aload_n 2, 1) := dk_44 (dk_at dksX1_split_3 0 rfl rfl)
theorem dX1_split_73 : decode cX1_split 73 = .ok (.aload_n 2, 1) := dk_44 (dk_at dksX1_split_3 1 rfl rfl)
theorem dX1_split_74 : decode cX1_split 74 = .ok (.getfield 436, 3) := dk_180 1 180 (dk_at dksX1_split_3 2 rfl rfl)
theorem dX1_split_77 : decode cX1_split 77 = .ok (.iload_n 1, 1) := dk_27 (dk_at dksX1_split_3 5 rfl rfl)
theorem dX1_split_78 : decode cX1_split 78 = .ok (.iaload, 1) := dk_46 (dk_at dksX1_split_3 6 rfl rfl)
theorem dX1_split_79 : decode cX1_split 79 = .ok (.aload_n 2, 1) := dk_44 (dk_at dksX1_split_3 7 rfl rfl)
theorem dX1_split_80 : decode cX1_split 80 = .ok (.getfield 463, 3) := dk_180 1 207 (dk_at dksX1_split_3 8 rfl rfl)
theorem dX1_split_83 : decode cX1_split 83 = .ok (.iload_n 1, 1) := dk_27 (dk_at dksX1_split_3 11 rfl rfl)
theorem dX1_split_84 : decode cX1_split 84 = .ok (.iaload, 1) := dk_46 (dk_at dksX1_split_3 12 rfl rfl)
theorem dX1_split_85 : decode cX1_split 85 = .ok (.iload_n 3, 1) := dk_29 (dk_at dksX1_split_3 13 rfl rfl)
theorem dX1_split_86 : decode cX1_split 86 = .ok (.aload_n 2, 1) := dk_44 (dk_at dksX1_split_3 14 rfl rfl)
theorem dX1_split_87 : decode cX1_split 87 = .ok (.getfield 434, 3) := dk_180 1 178 (dk_at dksX1_split_3 15 rfl rfl)
theorem dX1_split_90 : decode cX1_split 90 = .ok (.iload_n 1, 1) := dk_27 (dk_at dksX1_split_3 18 rfl rfl)
theorem dX1_split_91 : decode cX1_split 91 = .ok (.iaload, 1) := dk_46 (dk_at dksX1_split_3 19 rfl rfl)
theorem dX1_split_92 : decode cX1_split 92 = .ok (.invokevirtual 144, 3) := dk_182 0 144 (dk_at dksX1_split_3 20 rfl rfl)
theorem dX1_split_95 : decode cX1_split 95 = .ok (.istore 4, 2) := dk_54 4 (dk_at dksX1_split_4 0 rfl rfl)
theorem dX1_split_97 : decode cX1_split 97 = .ok (.aload_n 2, 1) := dk_44 (dk_at dksX1_split_4 2 rfl rfl)
theorem dX1_split_98 : decode cX1_split 98 = .ok (.getfield 431, 3) := dk_180 1 175 (dk_at dksX1_split_4 3 rfl rfl)
theorem dX1_split_101 : decode cX1_split 101 = .ok (.iload 4, 2) := dk_21 4 (dk_at dksX1_split_4 6 rfl rfl)
theorem dX1_split_103 : decode cX1_split 103 = .ok (.aload_n 2, 1) := dk_44 (dk_at dksX1_split_4 8 rfl rfl)
theorem dX1_split_104 : decode cX1_split 104 = .ok (.getfield 431, 3) := dk_180 1 175 (dk_at dksX1_split_4 9 rfl rfl)
theorem dX1_split_107 : decode cX1_split 107 = .ok (.iload_n 1, 1) := dk_27 (dk_at dksX1_split_4 12 rfl rfl)
theorem dX1_split_108 : decode cX1_split 108 = .ok (.iaload, 1) := dk_46 (dk_at dksX1_split_4 13 rfl rfl)
theorem dX1_split_109 : decode cX1_split 109 = .ok (.iastore, 1) := dk_79 (dk_at dksX1_split_4 14 rfl rfl)
theorem dX1_split_110 : decode cX1_split 110 = .ok (.aload_n 2, 1) := dk_44 (dk_at dksX1_split_4 15 rfl rfl)
theorem dX1_split_111 : decode cX1_split 111 = .ok (.getfield 466, 3) := dk_180 1 210 (dk_at dksX1_split_4 16 rfl rfl)
theorem dX1_split_114 : decode cX1_split 114 = .ok (.iload_n 1, 1) := dk_27 (dk_at dksX1_split_4 19 rfl rfl)
theorem dX1_split_115 : decode cX1_split 115 = .ok (.dup2, 1) := dk_92 (dk_at dksX1_split_4 20 rfl rfl)
theorem dX1_split_116 : decode cX1_split 116 = .ok (.iaload, 1) := dk_46 (dk_at dksX1_split_4 21 rfl rfl)
theorem dX1_split_117 : decode cX1_split 117 = .ok (.iload_n 3, 1) := dk_29 (dk_at dksX1_split_4 22 rfl rfl)
theorem dX1_split_118 : decode cX1_split 118 = .ok (.isub, 1) := dk_100 (dk_at dksX1_split_4 23 rfl rfl)
theorem dX1_split_119 : decode cX1_split 119 = .ok (.iastore, 1) := dk_79 (dk_at dksX1_split_5 0 rfl rfl)
theorem dX1_split_120 : decode cX1_split 120 = .ok (.iload 4, 2) := dk_21 4 (dk_at dksX1_split_5 1 rfl rfl)
theorem dX1_split_122 : decode cX1_split 122 = .ok (.ireturn, 1) := dk_172 (dk_at dksX1_split_5 3 rfl rfl)
abbrev cX1_pass : ByteArray := prog_1_method_50_code
def yX1_pass : MethodName := ⟨RX1, "pass", "(II)I"⟩
def dkwX1_pass_5 : List UInt8 := [21, 5, 172]
abbrev dktX1_pass_5 : List UInt8 := dkwX1_pass_5 ++ []
def dkwX1_pass_4 : List UInt8 := [27, 46, 54, 5, 45, 180, 1, 178, 27, 28, 79, 45, 27, 6, 45, 180, 1, 210, 27, 46, 182, 1, 238]
abbrev dktX1_pass_4 : List UInt8 := dkwX1_pass_4 ++ dktX1_pass_5
def dkwX1_pass_3 : List UInt8 := [180, 0, 110, 28, 46, 160, 0, 7, 4, 167, 0, 4, 3, 184, 1, 232, 42, 182, 1, 235, 45, 180, 1, 178]
abbrev dktX1_pass_3 : List UInt8 := dkwX1_pass_3 ++ dktX1_pass_4
def dkwX1_pass_2 : List UInt8 := [167, 0, 4, 3, 184, 1, 229, 21, 4, 153, 0, 27, 45, 180, 0, 110, 45, 180, 1, 178, 27, 46, 46, 45]
abbrev dktX1_pass_2 : List UInt8 := dkwX1_pass_2 ++ dktX1_pass_3
def dkwX1_pass_1 : List UInt8 := [4, 167, 0, 4, 3, 54, 4, 21, 4, 153, 0, 13, 45, 180, 1, 178, 27, 46, 28, 159, 0, 7, 4]
abbrev dktX1_pass_1 : List UInt8 := dkwX1_pass_1 ++ dktX1_pass_2
def dkwX1_pass_0 : List UInt8 := [42, 27, 182, 1, 204, 42, 28, 182, 1, 183, 42, 180, 0, 10, 78, 45, 180, 1, 175, 27, 46, 154, 0, 7]
abbrev dktX1_pass_0 : List UInt8 := dkwX1_pass_0 ++ dktX1_pass_1
theorem dksX1_pass_0 : cX1_pass.data.toList.drop 0 = dktX1_pass_0 := by decide +kernel
theorem dksX1_pass_1 : cX1_pass.data.toList.drop 24 = dktX1_pass_1 := dk_seg dksX1_pass_0 24 rfl rfl
theorem dksX1_pass_2 : cX1_pass.data.toList.drop 47 = dktX1_pass_2 := dk_seg dksX1_pass_1 23 rfl rfl
theorem dksX1_pass_3 : cX1_pass.data.toList.drop 71 = dktX1_pass_3 := dk_seg dksX1_pass_2 24 rfl rfl
theorem dksX1_pass_4 : cX1_pass.data.toList.drop 95 = dktX1_pass_4 := dk_seg dksX1_pass_3 24 rfl rfl
theorem dksX1_pass_5 : cX1_pass.data.toList.drop 118 = dktX1_pass_5 := dk_seg dksX1_pass_4 23 rfl rfl
theorem dX1_pass_0 : decode cX1_pass 0 = .ok (.aload_n 0, 1) := dk_42 (dk_at dksX1_pass_0 0 rfl rfl)
theorem dX1_pass_1 : decode cX1_pass 1 = .ok (.iload_n 1, 1) := dk_27 (dk_at dksX1_pass_0 1 rfl rfl)
theorem dX1_pass_2 : decode cX1_pass 2 = .ok (.invokevirtual 460, 3) := dk_182 1 204 (dk_at dksX1_pass_0 2 rfl rfl)
theorem dX1_pass_5 : decode cX1_pass 5 = .ok (.aload_n 0, 1) := dk_42 (dk_at dksX1_pass_0 5 rfl rfl)
theorem dX1_pass_6 : decode cX1_pass 6 = .ok (.iload_n 2, 1) := dk_28 (dk_at dksX1_pass_0 6 rfl rfl)
theorem dX1_pass_7 : decode cX1_pass 7 = .ok (.invokevirtual 439, 3) := dk_182 1 183 (dk_at dksX1_pass_0 7 rfl rfl)
theorem dX1_pass_10 : decode cX1_pass 10 = .ok (.aload_n 0, 1) := dk_42 (dk_at dksX1_pass_0 10 rfl rfl)
theorem dX1_pass_11 : decode cX1_pass 11 = .ok (.getfield 10, 3) := dk_180 0 10 (dk_at dksX1_pass_0 11 rfl rfl)
theorem dX1_pass_14 : decode cX1_pass 14 = .ok (.astore_n 3, 1) := dk_78 (dk_at dksX1_pass_0 14 rfl rfl)
theorem dX1_pass_15 : decode cX1_pass 15 = .ok (.aload_n 3, 1) := dk_45 (dk_at dksX1_pass_0 15 rfl rfl)
theorem dX1_pass_16 : decode cX1_pass 16 = .ok (.getfield 431, 3) := dk_180 1 175 (dk_at dksX1_pass_0 16 rfl rfl)
theorem dX1_pass_19 : decode cX1_pass 19 = .ok (.iload_n 1, 1) := dk_27 (dk_at dksX1_pass_0 19 rfl rfl)
theorem dX1_pass_20 : decode cX1_pass 20 = .ok (.iaload, 1) := dk_46 (dk_at dksX1_pass_0 20 rfl rfl)
theorem dX1_pass_21 : decode cX1_pass 21 = .ok (.ifCond .ne 7, 3) := dk_154 0 7 (dk_at dksX1_pass_0 21 rfl rfl)
theorem dX1_pass_24 : decode cX1_pass 24 = .ok (.iconst 1, 1) := dk_4 (dk_at dksX1_pass_1 0 rfl rfl)
theorem dX1_pass_25 : decode cX1_pass 25 = .ok (.goto 4, 3) := dk_167 0 4 (dk_at dksX1_pass_1 1 rfl rfl)
theorem dX1_pass_28 : decode cX1_pass 28 = .ok (.iconst 0, 1) := dk_3 (dk_at dksX1_pass_1 4 rfl rfl)
theorem dX1_pass_29 : decode cX1_pass 29 = .ok (.istore 4, 2) := dk_54 4 (dk_at dksX1_pass_1 5 rfl rfl)
theorem dX1_pass_31 : decode cX1_pass 31 = .ok (.iload 4, 2) := dk_21 4 (dk_at dksX1_pass_1 7 rfl rfl)
theorem dX1_pass_33 : decode cX1_pass 33 = .ok (.ifCond .eq 13, 3) := dk_153 0 13 (dk_at dksX1_pass_1 9 rfl rfl)
theorem dX1_pass_36 : decode cX1_pass 36 = .ok (.aload_n 3, 1) := dk_45 (dk_at dksX1_pass_1 12 rfl rfl)
theorem dX1_pass_37 : decode cX1_pass 37 = .ok (.getfield 434, 3) := dk_180 1 178 (dk_at dksX1_pass_1 13 rfl rfl)
theorem dX1_pass_40 : decode cX1_pass 40 = .ok (.iload_n 1, 1) := dk_27 (dk_at dksX1_pass_1 16 rfl rfl)
theorem dX1_pass_41 : decode cX1_pass 41 = .ok (.iaload, 1) := dk_46 (dk_at dksX1_pass_1 17 rfl rfl)
theorem dX1_pass_42 : decode cX1_pass 42 = .ok (.iload_n 2, 1) := dk_28 (dk_at dksX1_pass_1 18 rfl rfl)
theorem dX1_pass_43 : decode cX1_pass 43 = .ok (.if_icmp .eq 7, 3) := dk_159 0 7 (dk_at dksX1_pass_1 19 rfl rfl)
theorem dX1_pass_46 : decode cX1_pass 46 = .ok (.iconst 1, 1) := dk_4 (dk_at dksX1_pass_1 22 rfl rfl)
theorem dX1_pass_47 : decode cX1_pass 47 = .ok (.goto 4, 3) := dk_167 0 4 (dk_at dksX1_pass_2 0 rfl rfl)
theorem dX1_pass_50 : decode cX1_pass 50 = .ok (.iconst 0, 1) := dk_3 (dk_at dksX1_pass_2 3 rfl rfl)
theorem dX1_pass_51 : decode cX1_pass 51 = .ok (.invokestatic 485, 3) := dk_184 1 229 (dk_at dksX1_pass_2 4 rfl rfl)
theorem dX1_pass_54 : decode cX1_pass 54 = .ok (.iload 4, 2) := dk_21 4 (dk_at dksX1_pass_2 7 rfl rfl)
theorem dX1_pass_56 : decode cX1_pass 56 = .ok (.ifCond .eq 27, 3) := dk_153 0 27 (dk_at dksX1_pass_2 9 rfl rfl)
theorem dX1_pass_59 : decode cX1_pass 59 = .ok (.aload_n 3, 1) := dk_45 (dk_at dksX1_pass_2 12 rfl rfl)
theorem dX1_pass_60 : decode cX1_pass 60 = .ok (.getfield 110, 3) := dk_180 0 110 (dk_at dksX1_pass_2 13 rfl rfl)
theorem dX1_pass_63 : decode cX1_pass 63 = .ok (.aload_n 3, 1) := dk_45 (dk_at dksX1_pass_2 16 rfl rfl)
theorem dX1_pass_64 : decode cX1_pass 64 = .ok (.getfield 434, 3) := dk_180 1 178 (dk_at dksX1_pass_2 17 rfl rfl)
theorem dX1_pass_67 : decode cX1_pass 67 = .ok (.iload_n 1, 1) := dk_27 (dk_at dksX1_pass_2 20 rfl rfl)
theorem dX1_pass_68 : decode cX1_pass 68 = .ok (.iaload, 1) := dk_46 (dk_at dksX1_pass_2 21 rfl rfl)
theorem dX1_pass_69 : decode cX1_pass 69 = .ok (.iaload, 1) := dk_46 (dk_at dksX1_pass_2 22 rfl rfl)
theorem dX1_pass_70 : decode cX1_pass 70 = .ok (.aload_n 3, 1) := dk_45 (dk_at dksX1_pass_2 23 rfl rfl)
theorem dX1_pass_71 : decode cX1_pass 71 = .ok (.getfield 110, 3) := dk_180 0 110 (dk_at dksX1_pass_3 0 rfl rfl)
theorem dX1_pass_74 : decode cX1_pass 74 = .ok (.iload_n 2, 1) := dk_28 (dk_at dksX1_pass_3 3 rfl rfl)
theorem dX1_pass_75 : decode cX1_pass 75 = .ok (.iaload, 1) := dk_46 (dk_at dksX1_pass_3 4 rfl rfl)
theorem dX1_pass_76 : decode cX1_pass 76 = .ok (.if_icmp .ne 7, 3) := dk_160 0 7 (dk_at dksX1_pass_3 5 rfl rfl)
theorem dX1_pass_79 : decode cX1_pass 79 = .ok (.iconst 1, 1) := dk_4 (dk_at dksX1_pass_3 8 rfl rfl)
theorem dX1_pass_80 : decode cX1_pass 80 = .ok (.goto 4, 3) := dk_167 0 4 (dk_at dksX1_pass_3 9 rfl rfl)
theorem dX1_pass_83 : decode cX1_pass 83 = .ok (.iconst 0, 1) := dk_3 (dk_at dksX1_pass_3 12 rfl rfl)
theorem dX1_pass_84 : decode cX1_pass 84 = .ok (.invokestatic 488, 3) := dk_184 1 232 (dk_at dksX1_pass_3 13 rfl rfl)
theorem dX1_pass_87 : decode cX1_pass 87 = .ok (.aload_n 0, 1) := dk_42 (dk_at dksX1_pass_3 16 rfl rfl)
theorem dX1_pass_88 : decode cX1_pass 88 = .ok (.invokevirtual 491, 3) := dk_182 1 235 (dk_at dksX1_pass_3 17 rfl rfl)
theorem dX1_pass_91 : decode cX1_pass 91 = .ok (.aload_n 3, 1) := dk_45 (dk_at dksX1_pass_3 20 rfl rfl)
theorem dX1_pass_92 : decode cX1_pass 92 = .ok (.getfield 434, 3) := dk_180 1 178 (dk_at dksX1_pass_3 21 rfl rfl)
theorem dX1_pass_95 : decode cX1_pass 95 = .ok (.iload_n 1, 1) := dk_27 (dk_at dksX1_pass_4 0 rfl rfl)
theorem dX1_pass_96 : decode cX1_pass 96 = .ok (.iaload, 1) := dk_46 (dk_at dksX1_pass_4 1 rfl rfl)
theorem dX1_pass_97 : decode cX1_pass 97 = .ok (.istore 5, 2) := dk_54 5 (dk_at dksX1_pass_4 2 rfl rfl)
theorem dX1_pass_99 : decode cX1_pass 99 = .ok (.aload_n 3, 1) := dk_45 (dk_at dksX1_pass_4 4 rfl rfl)
theorem dX1_pass_100 : decode cX1_pass 100 = .ok (.getfield 434, 3) := dk_180 1 178 (dk_at dksX1_pass_4 5 rfl rfl)
theorem dX1_pass_103 : decode cX1_pass 103 = .ok (.iload_n 1, 1) := dk_27 (dk_at dksX1_pass_4 8 rfl rfl)
theorem dX1_pass_104 : decode cX1_pass 104 = .ok (.iload_n 2, 1) := dk_28 (dk_at dksX1_pass_4 9 rfl rfl)
theorem dX1_pass_105 : decode cX1_pass 105 = .ok (.iastore, 1) := dk_79 (dk_at dksX1_pass_4 10 rfl rfl)
theorem dX1_pass_106 : decode cX1_pass 106 = .ok (.aload_n 3, 1) := dk_45 (dk_at dksX1_pass_4 11 rfl rfl)
theorem dX1_pass_107 : decode cX1_pass 107 = .ok (.iload_n 1, 1) := dk_27 (dk_at dksX1_pass_4 12 rfl rfl)
theorem dX1_pass_108 : decode cX1_pass 108 = .ok (.iconst 3, 1) := dk_6 (dk_at dksX1_pass_4 13 rfl rfl)
theorem dX1_pass_109 : decode cX1_pass 109 = .ok (.aload_n 3, 1) := dk_45 (dk_at dksX1_pass_4 14 rfl rfl)
theorem dX1_pass_110 : decode cX1_pass 110 = .ok (.getfield 466, 3) := dk_180 1 210 (dk_at dksX1_pass_4 15 rfl rfl)
theorem dX1_pass_113 : decode cX1_pass 113 = .ok (.iload_n 1, 1) := dk_27 (dk_at dksX1_pass_4 18 rfl rfl)
theorem dX1_pass_114 : decode cX1_pass 114 = .ok (.iaload, 1) := dk_46 (dk_at dksX1_pass_4 19 rfl rfl)
theorem dX1_pass_115 : decode cX1_pass 115 = .ok (.invokevirtual 494, 3) := dk_182 1 238 (dk_at dksX1_pass_4 20 rfl rfl)
theorem dX1_pass_118 : decode cX1_pass 118 = .ok (.iload 5, 2) := dk_21 5 (dk_at dksX1_pass_5 0 rfl rfl)
theorem dX1_pass_120 : decode cX1_pass 120 = .ok (.ireturn, 1) := dk_172 (dk_at dksX1_pass_5 2 rfl rfl)
abbrev cX1_lay : ByteArray := prog_1_method_51_code
def yX1_lay : MethodName := ⟨RX1, "lay", "(I)I"⟩
def dkwX1_lay_3 : List UInt8 := [180, 1, 178, 27, 29, 79, 44, 27, 7, 44, 180, 1, 210, 27, 46, 182, 1, 238, 29, 172]
abbrev dktX1_lay_3 : List UInt8 := dkwX1_lay_3 ++ []
def dkwX1_lay_2 : List UInt8 := [160, 0, 7, 4, 167, 0, 4, 3, 184, 1, 232, 42, 182, 1, 235, 44, 180, 1, 175, 27, 4, 79, 44]
abbrev dktX1_lay_2 : List UInt8 := dkwX1_lay_2 ++ dktX1_lay_3
def dkwX1_lay_1 : List UInt8 := [154, 0, 31, 44, 180, 0, 172, 29, 51, 154, 0, 18, 44, 180, 0, 110, 44, 180, 1, 207, 27, 46, 46, 29]
abbrev dktX1_lay_1 : List UInt8 := dkwX1_lay_1 ++ dktX1_lay_2
def dkwX1_lay_0 : List UInt8 := [42, 27, 182, 1, 204, 42, 180, 0, 10, 77, 44, 27, 182, 1, 213, 62, 44, 180, 1, 175, 27, 46]
abbrev dktX1_lay_0 : List UInt8 := dkwX1_lay_0 ++ dktX1_lay_1
theorem dksX1_lay_0 : cX1_lay.data.toList.drop 0 = dktX1_lay_0 := by decide +kernel
theorem dksX1_lay_1 : cX1_lay.data.toList.drop 22 = dktX1_lay_1 := dk_seg dksX1_lay_0 22 rfl rfl
theorem dksX1_lay_2 : cX1_lay.data.toList.drop 46 = dktX1_lay_2 := dk_seg dksX1_lay_1 24 rfl rfl
theorem dksX1_lay_3 : cX1_lay.data.toList.drop 69 = dktX1_lay_3 := dk_seg dksX1_lay_2 23 rfl rfl
theorem dX1_lay_0 : decode cX1_lay 0 = .ok (.aload_n 0, 1) := dk_42 (dk_at dksX1_lay_0 0 rfl rfl)
theorem dX1_lay_1 : decode cX1_lay 1 = .ok (.iload_n 1, 1) := dk_27 (dk_at dksX1_lay_0 1 rfl rfl)
theorem dX1_lay_2 : decode cX1_lay 2 = .ok (.invokevirtual 460, 3) := dk_182 1 204 (dk_at dksX1_lay_0 2 rfl rfl)
theorem dX1_lay_5 : decode cX1_lay 5 = .ok (.aload_n 0, 1) := dk_42 (dk_at dksX1_lay_0 5 rfl rfl)
theorem dX1_lay_6 : decode cX1_lay 6 = .ok (.getfield 10, 3) := dk_180 0 10 (dk_at dksX1_lay_0 6 rfl rfl)
theorem dX1_lay_9 : decode cX1_lay 9 = .ok (.astore_n 2, 1) := dk_77 (dk_at dksX1_lay_0 9 rfl rfl)
theorem dX1_lay_10 : decode cX1_lay 10 = .ok (.aload_n 2, 1) := dk_44 (dk_at dksX1_lay_0 10 rfl rfl)
theorem dX1_lay_11 : decode cX1_lay 11 = .ok (.iload_n 1, 1) := dk_27 (dk_at dksX1_lay_0 11 rfl rfl)
theorem dX1_lay_12 : decode cX1_lay 12 = .ok (.invokevirtual 469, 3) := dk_182 1 213 (dk_at dksX1_lay_0 12 rfl rfl)
theorem dX1_lay_15 : decode cX1_lay 15 = .ok (.istore_n 3, 1) := dk_62 (dk_at dksX1_lay_0 15 rfl rfl)
theorem dX1_lay_16 : decode cX1_lay 16 = .ok (.aload_n 2, 1) := dk_44 (dk_at dksX1_lay_0 16 rfl rfl)
theorem dX1_lay_17 : decode cX1_lay 17 = .ok (.getfield 431, 3) := dk_180 1 175 (dk_at dksX1_lay_0 17 rfl rfl)
theorem dX1_lay_20 : decode cX1_lay 20 = .ok (.iload_n 1, 1) := dk_27 (dk_at dksX1_lay_0 20 rfl rfl)
theorem dX1_lay_21 : decode cX1_lay 21 = .ok (.iaload, 1) := dk_46 (dk_at dksX1_lay_0 21 rfl rfl)
theorem dX1_lay_22 : decode cX1_lay 22 = .ok (.ifCond .ne 31, 3) := dk_154 0 31 (dk_at dksX1_lay_1 0 rfl rfl)
theorem dX1_lay_25 : decode cX1_lay 25 = .ok (.aload_n 2, 1) := dk_44 (dk_at dksX1_lay_1 3 rfl rfl)
theorem dX1_lay_26 : decode cX1_lay 26 = .ok (.getfield 172, 3) := dk_180 0 172 (dk_at dksX1_lay_1 4 rfl rfl)
theorem dX1_lay_29 : decode cX1_lay 29 = .ok (.iload_n 3, 1) := dk_29 (dk_at dksX1_lay_1 7 rfl rfl)
theorem dX1_lay_30 : decode cX1_lay 30 = .ok (.baload, 1) := dk_51 (dk_at dksX1_lay_1 8 rfl rfl)
theorem dX1_lay_31 : decode cX1_lay 31 = .ok (.ifCond .ne 18, 3) := dk_154 0 18 (dk_at dksX1_lay_1 9 rfl rfl)
theorem dX1_lay_34 : decode cX1_lay 34 = .ok (.aload_n 2, 1) := dk_44 (dk_at dksX1_lay_1 12 rfl rfl)
theorem dX1_lay_35 : decode cX1_lay 35 = .ok (.getfield 110, 3) := dk_180 0 110 (dk_at dksX1_lay_1 13 rfl rfl)
theorem dX1_lay_38 : decode cX1_lay 38 = .ok (.aload_n 2, 1) := dk_44 (dk_at dksX1_lay_1 16 rfl rfl)
theorem dX1_lay_39 : decode cX1_lay 39 = .ok (.getfield 463, 3) := dk_180 1 207 (dk_at dksX1_lay_1 17 rfl rfl)
theorem dX1_lay_42 : decode cX1_lay 42 = .ok (.iload_n 1, 1) := dk_27 (dk_at dksX1_lay_1 20 rfl rfl)
theorem dX1_lay_43 : decode cX1_lay 43 = .ok (.iaload, 1) := dk_46 (dk_at dksX1_lay_1 21 rfl rfl)
theorem dX1_lay_44 : decode cX1_lay 44 = .ok (.iaload, 1) := dk_46 (dk_at dksX1_lay_1 22 rfl rfl)
theorem dX1_lay_45 : decode cX1_lay 45 = .ok (.iload_n 3, 1) := dk_29 (dk_at dksX1_lay_1 23 rfl rfl)
theorem dX1_lay_46 : decode cX1_lay 46 = .ok (.if_icmp .ne 7, 3) := dk_160 0 7 (dk_at dksX1_lay_2 0 rfl rfl)
theorem dX1_lay_49 : decode cX1_lay 49 = .ok (.iconst 1, 1) := dk_4 (dk_at dksX1_lay_2 3 rfl rfl)
theorem dX1_lay_50 : decode cX1_lay 50 = .ok (.goto 4, 3) := dk_167 0 4 (dk_at dksX1_lay_2 4 rfl rfl)
theorem dX1_lay_53 : decode cX1_lay 53 = .ok (.iconst 0, 1) := dk_3 (dk_at dksX1_lay_2 7 rfl rfl)
theorem dX1_lay_54 : decode cX1_lay 54 = .ok (.invokestatic 488, 3) := dk_184 1 232 (dk_at dksX1_lay_2 8 rfl rfl)
theorem dX1_lay_57 : decode cX1_lay 57 = .ok (.aload_n 0, 1) := dk_42 (dk_at dksX1_lay_2 11 rfl rfl)
theorem dX1_lay_58 : decode cX1_lay 58 = .ok (.invokevirtual 491, 3) := dk_182 1 235 (dk_at dksX1_lay_2 12 rfl rfl)
theorem dX1_lay_61 : decode cX1_lay 61 = .ok (.aload_n 2, 1) := dk_44 (dk_at dksX1_lay_2 15 rfl rfl)
theorem dX1_lay_62 : decode cX1_lay 62 = .ok (.getfield 431, 3) := dk_180 1 175 (dk_at dksX1_lay_2 16 rfl rfl)
theorem dX1_lay_65 : decode cX1_lay 65 = .ok (.iload_n 1, 1) := dk_27 (dk_at dksX1_lay_2 19 rfl rfl)
theorem dX1_lay_66 : decode cX1_lay 66 = .ok (.iconst 1, 1) := dk_4 (dk_at dksX1_lay_2 20 rfl rfl)
theorem dX1_lay_67 : decode cX1_lay 67 = .ok (.iastore, 1) := dk_79 (dk_at dksX1_lay_2 21 rfl rfl)
theorem dX1_lay_68 : decode cX1_lay 68 = .ok (.aload_n 2, 1) := dk_44 (dk_at dksX1_lay_2 22 rfl rfl)
theorem dX1_lay_69 : decode cX1_lay 69 = .ok (.getfield 434, 3) := dk_180 1 178 (dk_at dksX1_lay_3 0 rfl rfl)
theorem dX1_lay_72 : decode cX1_lay 72 = .ok (.iload_n 1, 1) := dk_27 (dk_at dksX1_lay_3 3 rfl rfl)
theorem dX1_lay_73 : decode cX1_lay 73 = .ok (.iload_n 3, 1) := dk_29 (dk_at dksX1_lay_3 4 rfl rfl)
theorem dX1_lay_74 : decode cX1_lay 74 = .ok (.iastore, 1) := dk_79 (dk_at dksX1_lay_3 5 rfl rfl)
theorem dX1_lay_75 : decode cX1_lay 75 = .ok (.aload_n 2, 1) := dk_44 (dk_at dksX1_lay_3 6 rfl rfl)
theorem dX1_lay_76 : decode cX1_lay 76 = .ok (.iload_n 1, 1) := dk_27 (dk_at dksX1_lay_3 7 rfl rfl)
theorem dX1_lay_77 : decode cX1_lay 77 = .ok (.iconst 4, 1) := dk_7 (dk_at dksX1_lay_3 8 rfl rfl)
theorem dX1_lay_78 : decode cX1_lay 78 = .ok (.aload_n 2, 1) := dk_44 (dk_at dksX1_lay_3 9 rfl rfl)
theorem dX1_lay_79 : decode cX1_lay 79 = .ok (.getfield 466, 3) := dk_180 1 210 (dk_at dksX1_lay_3 10 rfl rfl)
theorem dX1_lay_82 : decode cX1_lay 82 = .ok (.iload_n 1, 1) := dk_27 (dk_at dksX1_lay_3 13 rfl rfl)
theorem dX1_lay_83 : decode cX1_lay 83 = .ok (.iaload, 1) := dk_46 (dk_at dksX1_lay_3 14 rfl rfl)
theorem dX1_lay_84 : decode cX1_lay 84 = .ok (.invokevirtual 494, 3) := dk_182 1 238 (dk_at dksX1_lay_3 15 rfl rfl)
theorem dX1_lay_87 : decode cX1_lay 87 = .ok (.iload_n 3, 1) := dk_29 (dk_at dksX1_lay_3 18 rfl rfl)
theorem dX1_lay_88 : decode cX1_lay 88 = .ok (.ireturn, 1) := dk_172 (dk_at dksX1_lay_3 19 rfl rfl)
abbrev cX1_lift : ByteArray := prog_1_method_52_code
def yX1_lift : MethodName := ⟨RX1, "lift", "(II)I"⟩
def dkwX1_lift_3 : List UInt8 := [45, 180, 1, 210, 27, 46, 182, 1, 238, 45, 28, 182, 1, 81, 172]
abbrev dktX1_lift_3 : List UInt8 := dkwX1_lift_3 ++ []
def dkwX1_lift_2 : List UInt8 := [184, 1, 232, 42, 182, 1, 235, 45, 180, 1, 175, 27, 3, 79, 45, 180, 1, 178, 27, 28, 79, 45, 27, 8]
abbrev dktX1_lift_2 : List UInt8 := dkwX1_lift_2 ++ dktX1_lift_3
def dkwX1_lift_1 : List UInt8 := [160, 0, 22, 45, 180, 1, 178, 27, 46, 45, 180, 0, 110, 28, 46, 160, 0, 7, 4, 167, 0, 4, 3]
abbrev dktX1_lift_1 : List UInt8 := dkwX1_lift_1 ++ dktX1_lift_2
def dkwX1_lift_0 : List UInt8 := [42, 27, 182, 1, 204, 42, 28, 182, 1, 183, 42, 180, 0, 10, 78, 45, 180, 1, 175, 27, 46, 4]
abbrev dktX1_lift_0 : List UInt8 := dkwX1_lift_0 ++ dktX1_lift_1
theorem dksX1_lift_0 : cX1_lift.data.toList.drop 0 = dktX1_lift_0 := by decide +kernel
theorem dksX1_lift_1 : cX1_lift.data.toList.drop 22 = dktX1_lift_1 := dk_seg dksX1_lift_0 22 rfl rfl
theorem dksX1_lift_2 : cX1_lift.data.toList.drop 45 = dktX1_lift_2 := dk_seg dksX1_lift_1 23 rfl rfl
theorem dksX1_lift_3 : cX1_lift.data.toList.drop 69 = dktX1_lift_3 := dk_seg dksX1_lift_2 24 rfl rfl
theorem dX1_lift_0 : decode cX1_lift 0 = .ok (.aload_n 0, 1) := dk_42 (dk_at dksX1_lift_0 0 rfl rfl)
theorem dX1_lift_1 : decode cX1_lift 1 = .ok (.iload_n 1, 1) := dk_27 (dk_at dksX1_lift_0 1 rfl rfl)
theorem dX1_lift_2 : decode cX1_lift 2 = .ok (.invokevirtual 460, 3) := dk_182 1 204 (dk_at dksX1_lift_0 2 rfl rfl)
theorem dX1_lift_5 : decode cX1_lift 5 = .ok (.aload_n 0, 1) := dk_42 (dk_at dksX1_lift_0 5 rfl rfl)
theorem dX1_lift_6 : decode cX1_lift 6 = .ok (.iload_n 2, 1) := dk_28 (dk_at dksX1_lift_0 6 rfl rfl)
theorem dX1_lift_7 : decode cX1_lift 7 = .ok (.invokevirtual 439, 3) := dk_182 1 183 (dk_at dksX1_lift_0 7 rfl rfl)
theorem dX1_lift_10 : decode cX1_lift 10 = .ok (.aload_n 0, 1) := dk_42 (dk_at dksX1_lift_0 10 rfl rfl)
theorem dX1_lift_11 : decode cX1_lift 11 = .ok (.getfield 10, 3) := dk_180 0 10 (dk_at dksX1_lift_0 11 rfl rfl)
theorem dX1_lift_14 : decode cX1_lift 14 = .ok (.astore_n 3, 1) := dk_78 (dk_at dksX1_lift_0 14 rfl rfl)
theorem dX1_lift_15 : decode cX1_lift 15 = .ok (.aload_n 3, 1) := dk_45 (dk_at dksX1_lift_0 15 rfl rfl)
theorem dX1_lift_16 : decode cX1_lift 16 = .ok (.getfield 431, 3) := dk_180 1 175 (dk_at dksX1_lift_0 16 rfl rfl)
theorem dX1_lift_19 : decode cX1_lift 19 = .ok (.iload_n 1, 1) := dk_27 (dk_at dksX1_lift_0 19 rfl rfl)
theorem dX1_lift_20 : decode cX1_lift 20 = .ok (.iaload, 1) := dk_46 (dk_at dksX1_lift_0 20 rfl rfl)
theorem dX1_lift_21 : decode cX1_lift 21 = .ok (.iconst 1, 1) := dk_4 (dk_at dksX1_lift_0 21 rfl rfl)
theorem dX1_lift_22 : decode cX1_lift 22 = .ok (.if_icmp .ne 22, 3) := dk_160 0 22 (dk_at dksX1_lift_1 0 rfl rfl)
theorem dX1_lift_25 : decode cX1_lift 25 = .ok (.aload_n 3, 1) := dk_45 (dk_at dksX1_lift_1 3 rfl rfl)
theorem dX1_lift_26 : decode cX1_lift 26 = .ok (.getfield 434, 3) := dk_180 1 178 (dk_at dksX1_lift_1 4 rfl rfl)
theorem dX1_lift_29 : decode cX1_lift 29 = .ok (.iload_n 1, 1) := dk_27 (dk_at dksX1_lift_1 7 rfl rfl)
theorem dX1_lift_30 : decode cX1_lift 30 = .ok (.iaload, 1) := dk_46 (dk_at dksX1_lift_1 8 rfl rfl)
theorem dX1_lift_31 : decode cX1_lift 31 = .ok (.aload_n 3, 1) := dk_45 (dk_at dksX1_lift_1 9 rfl rfl)
theorem dX1_lift_32 : decode cX1_lift 32 = .ok (.getfield 110, 3) := dk_180 0 110 (dk_at dksX1_lift_1 10 rfl rfl)
theorem dX1_lift_35 : decode cX1_lift 35 = .ok (.iload_n 2, 1) := dk_28 (dk_at dksX1_lift_1 13 rfl rfl)
theorem dX1_lift_36 : decode cX1_lift 36 = .ok (.iaload, 1) := dk_46 (dk_at dksX1_lift_1 14 rfl rfl)
theorem dX1_lift_37 : decode cX1_lift 37 = .ok (.if_icmp .ne 7, 3) := dk_160 0 7 (dk_at dksX1_lift_1 15 rfl rfl)
theorem dX1_lift_40 : decode cX1_lift 40 = .ok (.iconst 1, 1) := dk_4 (dk_at dksX1_lift_1 18 rfl rfl)
theorem dX1_lift_41 : decode cX1_lift 41 = .ok (.goto 4, 3) := dk_167 0 4 (dk_at dksX1_lift_1 19 rfl rfl)
theorem dX1_lift_44 : decode cX1_lift 44 = .ok (.iconst 0, 1) := dk_3 (dk_at dksX1_lift_1 22 rfl rfl)
theorem dX1_lift_45 : decode cX1_lift 45 = .ok (.invokestatic 488, 3) := dk_184 1 232 (dk_at dksX1_lift_2 0 rfl rfl)
theorem dX1_lift_48 : decode cX1_lift 48 = .ok (.aload_n 0, 1) := dk_42 (dk_at dksX1_lift_2 3 rfl rfl)
theorem dX1_lift_49 : decode cX1_lift 49 = .ok (.invokevirtual 491, 3) := dk_182 1 235 (dk_at dksX1_lift_2 4 rfl rfl)
theorem dX1_lift_52 : decode cX1_lift 52 = .ok (.aload_n 3, 1) := dk_45 (dk_at dksX1_lift_2 7 rfl rfl)
theorem dX1_lift_53 : decode cX1_lift 53 = .ok (.getfield 431, 3) := dk_180 1 175 (dk_at dksX1_lift_2 8 rfl rfl)
theorem dX1_lift_56 : decode cX1_lift 56 = .ok (.iload_n 1, 1) := dk_27 (dk_at dksX1_lift_2 11 rfl rfl)
theorem dX1_lift_57 : decode cX1_lift 57 = .ok (.iconst 0, 1) := dk_3 (dk_at dksX1_lift_2 12 rfl rfl)
theorem dX1_lift_58 : decode cX1_lift 58 = .ok (.iastore, 1) := dk_79 (dk_at dksX1_lift_2 13 rfl rfl)
theorem dX1_lift_59 : decode cX1_lift 59 = .ok (.aload_n 3, 1) := dk_45 (dk_at dksX1_lift_2 14 rfl rfl)
theorem dX1_lift_60 : decode cX1_lift 60 = .ok (.getfield 434, 3) := dk_180 1 178 (dk_at dksX1_lift_2 15 rfl rfl)
theorem dX1_lift_63 : decode cX1_lift 63 = .ok (.iload_n 1, 1) := dk_27 (dk_at dksX1_lift_2 18 rfl rfl)
theorem dX1_lift_64 : decode cX1_lift 64 = .ok (.iload_n 2, 1) := dk_28 (dk_at dksX1_lift_2 19 rfl rfl)
theorem dX1_lift_65 : decode cX1_lift 65 = .ok (.iastore, 1) := dk_79 (dk_at dksX1_lift_2 20 rfl rfl)
theorem dX1_lift_66 : decode cX1_lift 66 = .ok (.aload_n 3, 1) := dk_45 (dk_at dksX1_lift_2 21 rfl rfl)
theorem dX1_lift_67 : decode cX1_lift 67 = .ok (.iload_n 1, 1) := dk_27 (dk_at dksX1_lift_2 22 rfl rfl)
theorem dX1_lift_68 : decode cX1_lift 68 = .ok (.iconst 5, 1) := dk_8 (dk_at dksX1_lift_2 23 rfl rfl)
theorem dX1_lift_69 : decode cX1_lift 69 = .ok (.aload_n 3, 1) := dk_45 (dk_at dksX1_lift_3 0 rfl rfl)
theorem dX1_lift_70 : decode cX1_lift 70 = .ok (.getfield 466, 3) := dk_180 1 210 (dk_at dksX1_lift_3 1 rfl rfl)
theorem dX1_lift_73 : decode cX1_lift 73 = .ok (.iload_n 1, 1) := dk_27 (dk_at dksX1_lift_3 4 rfl rfl)
theorem dX1_lift_74 : decode cX1_lift 74 = .ok (.iaload, 1) := dk_46 (dk_at dksX1_lift_3 5 rfl rfl)
theorem dX1_lift_75 : decode cX1_lift 75 = .ok (.invokevirtual 494, 3) := dk_182 1 238 (dk_at dksX1_lift_3 6 rfl rfl)
theorem dX1_lift_78 : decode cX1_lift 78 = .ok (.aload_n 3, 1) := dk_45 (dk_at dksX1_lift_3 9 rfl rfl)
theorem dX1_lift_79 : decode cX1_lift 79 = .ok (.iload_n 2, 1) := dk_28 (dk_at dksX1_lift_3 10 rfl rfl)
theorem dX1_lift_80 : decode cX1_lift 80 = .ok (.invokevirtual 337, 3) := dk_182 1 81 (dk_at dksX1_lift_3 11 rfl rfl)
theorem dX1_lift_83 : decode cX1_lift 83 = .ok (.ireturn, 1) := dk_172 (dk_at dksX1_lift_3 14 rfl rfl)
abbrev cX1_goal : ByteArray := prog_1_method_53_code
def yX1_goal : MethodName := ⟨RX1, "goal", "(II)I"⟩
def dkwX1_goal_1 : List UInt8 := [180, 0, 10, 180, 0, 114, 27, 28, 79, 29, 172]
abbrev dktX1_goal_1 : List UInt8 := dkwX1_goal_1 ++ []
def dkwX1_goal_0 : List UInt8 := [42, 27, 182, 1, 183, 28, 184, 1, 216, 42, 182, 1, 235, 42, 180, 0, 10, 180, 0, 114, 27, 46, 62, 42]
abbrev dktX1_goal_0 : List UInt8 := dkwX1_goal_0 ++ dktX1_goal_1
theorem dksX1_goal_0 : cX1_goal.data.toList.drop 0 = dktX1_goal_0 := by decide +kernel
theorem dksX1_goal_1 : cX1_goal.data.toList.drop 24 = dktX1_goal_1 := dk_seg dksX1_goal_0 24 rfl rfl
theorem dX1_goal_0 : decode cX1_goal 0 = .ok (.aload_n 0, 1) := dk_42 (dk_at dksX1_goal_0 0 rfl rfl)
theorem dX1_goal_1 : decode cX1_goal 1 = .ok (.iload_n 1, 1) := dk_27 (dk_at dksX1_goal_0 1 rfl rfl)
theorem dX1_goal_2 : decode cX1_goal 2 = .ok (.invokevirtual 439, 3) := dk_182 1 183 (dk_at dksX1_goal_0 2 rfl rfl)
theorem dX1_goal_5 : decode cX1_goal 5 = .ok (.iload_n 2, 1) := dk_28 (dk_at dksX1_goal_0 5 rfl rfl)
theorem dX1_goal_6 : decode cX1_goal 6 = .ok (.invokestatic 472, 3) := dk_184 1 216 (dk_at dksX1_goal_0 6 rfl rfl)
theorem dX1_goal_9 : decode cX1_goal 9 = .ok (.aload_n 0, 1) := dk_42 (dk_at dksX1_goal_0 9 rfl rfl)
theorem dX1_goal_10 : decode cX1_goal 10 = .ok (.invokevirtual 491, 3) := dk_182 1 235 (dk_at dksX1_goal_0 10 rfl rfl)
theorem dX1_goal_13 : decode cX1_goal 13 = .ok (.aload_n 0, 1) := dk_42 (dk_at dksX1_goal_0 13 rfl rfl)
theorem dX1_goal_14 : decode cX1_goal 14 = .ok (.getfield 10, 3) := dk_180 0 10 (dk_at dksX1_goal_0 14 rfl rfl)
theorem dX1_goal_17 : decode cX1_goal 17 = .ok (.getfield 114, 3) := dk_180 0 114 (dk_at dksX1_goal_0 17 rfl rfl)
theorem dX1_goal_20 : decode cX1_goal 20 = .ok (.iload_n 1, 1) := dk_27 (dk_at dksX1_goal_0 20 rfl rfl)
theorem dX1_goal_21 : decode cX1_goal 21 = .ok (.iaload, 1) := dk_46 (dk_at dksX1_goal_0 21 rfl rfl)
theorem dX1_goal_22 : decode cX1_goal 22 = .ok (.istore_n 3, 1) := dk_62 (dk_at dksX1_goal_0 22 rfl rfl)
theorem dX1_goal_23 : decode cX1_goal 23 = .ok (.aload_n 0, 1) := dk_42 (dk_at dksX1_goal_0 23 rfl rfl)
theorem dX1_goal_24 : decode cX1_goal 24 = .ok (.getfield 10, 3) := dk_180 0 10 (dk_at dksX1_goal_1 0 rfl rfl)
theorem dX1_goal_27 : decode cX1_goal 27 = .ok (.getfield 114, 3) := dk_180 0 114 (dk_at dksX1_goal_1 3 rfl rfl)
theorem dX1_goal_30 : decode cX1_goal 30 = .ok (.iload_n 1, 1) := dk_27 (dk_at dksX1_goal_1 6 rfl rfl)
theorem dX1_goal_31 : decode cX1_goal 31 = .ok (.iload_n 2, 1) := dk_28 (dk_at dksX1_goal_1 7 rfl rfl)
theorem dX1_goal_32 : decode cX1_goal 32 = .ok (.iastore, 1) := dk_79 (dk_at dksX1_goal_1 8 rfl rfl)
theorem dX1_goal_33 : decode cX1_goal 33 = .ok (.iload_n 3, 1) := dk_29 (dk_at dksX1_goal_1 9 rfl rfl)
theorem dX1_goal_34 : decode cX1_goal 34 = .ok (.ireturn, 1) := dk_172 (dk_at dksX1_goal_1 10 rfl rfl)
abbrev cX1_rest : ByteArray := prog_1_method_54_code
def yX1_rest : MethodName := ⟨RX1, "rest", "(I)I"⟩
def dkwX1_rest_1 : List UInt8 := [180, 0, 126, 27, 3, 79, 42, 180, 0, 10, 180, 0, 129, 27, 3, 84, 28, 172]
abbrev dktX1_rest_1 : List UInt8 := dkwX1_rest_1 ++ []
def dkwX1_rest_0 : List UInt8 := [42, 27, 182, 1, 183, 42, 182, 1, 235, 42, 180, 0, 10, 180, 0, 126, 27, 46, 61, 42, 180, 0, 10]
abbrev dktX1_rest_0 : List UInt8 := dkwX1_rest_0 ++ dktX1_rest_1
theorem dksX1_rest_0 : cX1_rest.data.toList.drop 0 = dktX1_rest_0 := by decide +kernel
theorem dksX1_rest_1 : cX1_rest.data.toList.drop 23 = dktX1_rest_1 := dk_seg dksX1_rest_0 23 rfl rfl
theorem dX1_rest_0 : decode cX1_rest 0 = .ok (.aload_n 0, 1) := dk_42 (dk_at dksX1_rest_0 0 rfl rfl)
theorem dX1_rest_1 : decode cX1_rest 1 = .ok (.iload_n 1, 1) := dk_27 (dk_at dksX1_rest_0 1 rfl rfl)
theorem dX1_rest_2 : decode cX1_rest 2 = .ok (.invokevirtual 439, 3) := dk_182 1 183 (dk_at dksX1_rest_0 2 rfl rfl)
theorem dX1_rest_5 : decode cX1_rest 5 = .ok (.aload_n 0, 1) := dk_42 (dk_at dksX1_rest_0 5 rfl rfl)
theorem dX1_rest_6 : decode cX1_rest 6 = .ok (.invokevirtual 491, 3) := dk_182 1 235 (dk_at dksX1_rest_0 6 rfl rfl)
theorem dX1_rest_9 : decode cX1_rest 9 = .ok (.aload_n 0, 1) := dk_42 (dk_at dksX1_rest_0 9 rfl rfl)
theorem dX1_rest_10 : decode cX1_rest 10 = .ok (.getfield 10, 3) := dk_180 0 10 (dk_at dksX1_rest_0 10 rfl rfl)
theorem dX1_rest_13 : decode cX1_rest 13 = .ok (.getfield 126, 3) := dk_180 0 126 (dk_at dksX1_rest_0 13 rfl rfl)
theorem dX1_rest_16 : decode cX1_rest 16 = .ok (.iload_n 1, 1) := dk_27 (dk_at dksX1_rest_0 16 rfl rfl)
theorem dX1_rest_17 : decode cX1_rest 17 = .ok (.iaload, 1) := dk_46 (dk_at dksX1_rest_0 17 rfl rfl)
theorem dX1_rest_18 : decode cX1_rest 18 = .ok (.istore_n 2, 1) := dk_61 (dk_at dksX1_rest_0 18 rfl rfl)
theorem dX1_rest_19 : decode cX1_rest 19 = .ok (.aload_n 0, 1) := dk_42 (dk_at dksX1_rest_0 19 rfl rfl)
theorem dX1_rest_20 : decode cX1_rest 20 = .ok (.getfield 10, 3) := dk_180 0 10 (dk_at dksX1_rest_0 20 rfl rfl)
theorem dX1_rest_23 : decode cX1_rest 23 = .ok (.getfield 126, 3) := dk_180 0 126 (dk_at dksX1_rest_1 0 rfl rfl)
theorem dX1_rest_26 : decode cX1_rest 26 = .ok (.iload_n 1, 1) := dk_27 (dk_at dksX1_rest_1 3 rfl rfl)
theorem dX1_rest_27 : decode cX1_rest 27 = .ok (.iconst 0, 1) := dk_3 (dk_at dksX1_rest_1 4 rfl rfl)
theorem dX1_rest_28 : decode cX1_rest 28 = .ok (.iastore, 1) := dk_79 (dk_at dksX1_rest_1 5 rfl rfl)
theorem dX1_rest_29 : decode cX1_rest 29 = .ok (.aload_n 0, 1) := dk_42 (dk_at dksX1_rest_1 6 rfl rfl)
theorem dX1_rest_30 : decode cX1_rest 30 = .ok (.getfield 10, 3) := dk_180 0 10 (dk_at dksX1_rest_1 7 rfl rfl)
theorem dX1_rest_33 : decode cX1_rest 33 = .ok (.getfield 129, 3) := dk_180 0 129 (dk_at dksX1_rest_1 10 rfl rfl)
theorem dX1_rest_36 : decode cX1_rest 36 = .ok (.iload_n 1, 1) := dk_27 (dk_at dksX1_rest_1 13 rfl rfl)
theorem dX1_rest_37 : decode cX1_rest 37 = .ok (.iconst 0, 1) := dk_3 (dk_at dksX1_rest_1 14 rfl rfl)
theorem dX1_rest_38 : decode cX1_rest 38 = .ok (.bastore, 1) := dk_84 (dk_at dksX1_rest_1 15 rfl rfl)
theorem dX1_rest_39 : decode cX1_rest 39 = .ok (.iload_n 2, 1) := dk_28 (dk_at dksX1_rest_1 16 rfl rfl)
theorem dX1_rest_40 : decode cX1_rest 40 = .ok (.ireturn, 1) := dk_172 (dk_at dksX1_rest_1 17 rfl rfl)
abbrev cX1_hours : ByteArray := prog_1_method_55_code
def yX1_hours : MethodName := ⟨RX1, "hours", "(I)I"⟩
def dkwX1_hours_1 : List UInt8 := [42, 42, 180, 0, 10, 4, 182, 1, 157, 96, 61, 132, 3, 1, 167, 255, 236, 28, 172]
abbrev dktX1_hours_1 : List UInt8 := dkwX1_hours_1 ++ []
def dkwX1_hours_0 : List UInt8 := [27, 4, 16, 100, 184, 1, 160, 184, 1, 229, 42, 182, 1, 235, 3, 61, 3, 62, 29, 27, 162, 0, 21, 28]
abbrev dktX1_hours_0 : List UInt8 := dkwX1_hours_0 ++ dktX1_hours_1
theorem dksX1_hours_0 : cX1_hours.data.toList.drop 0 = dktX1_hours_0 := by decide +kernel
theorem dksX1_hours_1 : cX1_hours.data.toList.drop 24 = dktX1_hours_1 := dk_seg dksX1_hours_0 24 rfl rfl
theorem dX1_hours_0 : decode cX1_hours 0 = .ok (.iload_n 1, 1) := dk_27 (dk_at dksX1_hours_0 0 rfl rfl)
theorem dX1_hours_1 : decode cX1_hours 1 = .ok (.iconst 1, 1) := dk_4 (dk_at dksX1_hours_0 1 rfl rfl)
theorem dX1_hours_2 : decode cX1_hours 2 = .ok (.bipush 100, 2) := dk_16 100 (dk_at dksX1_hours_0 2 rfl rfl)
theorem dX1_hours_4 : decode cX1_hours 4 = .ok (.invokestatic 416, 3) := dk_184 1 160 (dk_at dksX1_hours_0 4 rfl rfl)
theorem dX1_hours_7 : decode cX1_hours 7 = .ok (.invokestatic 485, 3) := dk_184 1 229 (dk_at dksX1_hours_0 7 rfl rfl)
theorem dX1_hours_10 : decode cX1_hours 10 = .ok (.aload_n 0, 1) := dk_42 (dk_at dksX1_hours_0 10 rfl rfl)
theorem dX1_hours_11 : decode cX1_hours 11 = .ok (.invokevirtual 491, 3) := dk_182 1 235 (dk_at dksX1_hours_0 11 rfl rfl)
theorem dX1_hours_14 : decode cX1_hours 14 = .ok (.iconst 0, 1) := dk_3 (dk_at dksX1_hours_0 14 rfl rfl)
theorem dX1_hours_15 : decode cX1_hours 15 = .ok (.istore_n 2, 1) := dk_61 (dk_at dksX1_hours_0 15 rfl rfl)
theorem dX1_hours_16 : decode cX1_hours 16 = .ok (.iconst 0, 1) := dk_3 (dk_at dksX1_hours_0 16 rfl rfl)
theorem dX1_hours_17 : decode cX1_hours 17 = .ok (.istore_n 3, 1) := dk_62 (dk_at dksX1_hours_0 17 rfl rfl)
theorem dX1_hours_18 : decode cX1_hours 18 = .ok (.iload_n 3, 1) := dk_29 (dk_at dksX1_hours_0 18 rfl rfl)
theorem dX1_hours_19 : decode cX1_hours 19 = .ok (.iload_n 1, 1) := dk_27 (dk_at dksX1_hours_0 19 rfl rfl)
theorem dX1_hours_20 : decode cX1_hours 20 = .ok (.if_icmp .ge 21, 3) := dk_162 0 21 (dk_at dksX1_hours_0 20 rfl rfl)
theorem dX1_hours_23 : decode cX1_hours 23 = .ok (.iload_n 2, 1) := dk_28 (dk_at dksX1_hours_0 23 rfl rfl)
theorem dX1_hours_24 : decode cX1_hours 24 = .ok (.aload_n 0, 1) := dk_42 (dk_at dksX1_hours_1 0 rfl rfl)
theorem dX1_hours_25 : decode cX1_hours 25 = .ok (.aload_n 0, 1) := dk_42 (dk_at dksX1_hours_1 1 rfl rfl)
theorem dX1_hours_26 : decode cX1_hours 26 = .ok (.getfield 10, 3) := dk_180 0 10 (dk_at dksX1_hours_1 2 rfl rfl)
theorem dX1_hours_29 : decode cX1_hours 29 = .ok (.iconst 1, 1) := dk_4 (dk_at dksX1_hours_1 5 rfl rfl)
theorem dX1_hours_30 : decode cX1_hours 30 = .ok (.invokevirtual 413, 3) := dk_182 1 157 (dk_at dksX1_hours_1 6 rfl rfl)
theorem dX1_hours_33 : decode cX1_hours 33 = .ok (.iadd, 1) := dk_96 (dk_at dksX1_hours_1 9 rfl rfl)
theorem dX1_hours_34 : decode cX1_hours 34 = .ok (.istore_n 2, 1) := dk_61 (dk_at dksX1_hours_1 10 rfl rfl)
theorem dX1_hours_35 : decode cX1_hours 35 = .ok (.iinc 3 1, 3) := dk_132 3 1 (dk_at dksX1_hours_1 11 rfl rfl)
theorem dX1_hours_38 : decode cX1_hours 38 = .ok (.goto (-20), 3) := dk_167 255 236 (dk_at dksX1_hours_1 14 rfl rfl)
theorem dX1_hours_41 : decode cX1_hours 41 = .ok (.iload_n 2, 1) := dk_28 (dk_at dksX1_hours_1 17 rfl rfl)
theorem dX1_hours_42 : decode cX1_hours 42 = .ok (.ireturn, 1) := dk_172 (dk_at dksX1_hours_1 18 rfl rfl)
abbrev cX1_way : ByteArray := prog_1_method_57_code
def yX1_way : MethodName := ⟨RX1, "way", "(II)I"⟩
def dkwX1_way_1 : List UInt8 := [167, 0, 4, 29, 172]
abbrev dktX1_way_1 : List UInt8 := dkwX1_way_1 ++ []
def dkwX1_way_0 : List UInt8 := [42, 27, 182, 1, 183, 28, 184, 1, 216, 42, 27, 28, 182, 1, 243, 62, 29, 19, 1, 242, 160, 0, 7, 2]
abbrev dktX1_way_0 : List UInt8 := dkwX1_way_0 ++ dktX1_way_1
theorem dksX1_way_0 : cX1_way.data.toList.drop 0 = dktX1_way_0 := by decide +kernel
theorem dksX1_way_1 : cX1_way.data.toList.drop 24 = dktX1_way_1 := dk_seg dksX1_way_0 24 rfl rfl
theorem dX1_way_0 : decode cX1_way 0 = .ok (.aload_n 0, 1) := dk_42 (dk_at dksX1_way_0 0 rfl rfl)
theorem dX1_way_1 : decode cX1_way 1 = .ok (.iload_n 1, 1) := dk_27 (dk_at dksX1_way_0 1 rfl rfl)
theorem dX1_way_2 : decode cX1_way 2 = .ok (.invokevirtual 439, 3) := dk_182 1 183 (dk_at dksX1_way_0 2 rfl rfl)
theorem dX1_way_5 : decode cX1_way 5 = .ok (.iload_n 2, 1) := dk_28 (dk_at dksX1_way_0 5 rfl rfl)
theorem dX1_way_6 : decode cX1_way 6 = .ok (.invokestatic 472, 3) := dk_184 1 216 (dk_at dksX1_way_0 6 rfl rfl)
theorem dX1_way_9 : decode cX1_way 9 = .ok (.aload_n 0, 1) := dk_42 (dk_at dksX1_way_0 9 rfl rfl)
theorem dX1_way_10 : decode cX1_way 10 = .ok (.iload_n 1, 1) := dk_27 (dk_at dksX1_way_0 10 rfl rfl)
theorem dX1_way_11 : decode cX1_way 11 = .ok (.iload_n 2, 1) := dk_28 (dk_at dksX1_way_0 11 rfl rfl)
theorem dX1_way_12 : decode cX1_way 12 = .ok (.invokevirtual 499, 3) := dk_182 1 243 (dk_at dksX1_way_0 12 rfl rfl)
theorem dX1_way_15 : decode cX1_way 15 = .ok (.istore_n 3, 1) := dk_62 (dk_at dksX1_way_0 15 rfl rfl)
theorem dX1_way_16 : decode cX1_way 16 = .ok (.iload_n 3, 1) := dk_29 (dk_at dksX1_way_0 16 rfl rfl)
theorem dX1_way_17 : decode cX1_way 17 = .ok (.ldc_w 498, 3) := dk_19 1 242 (dk_at dksX1_way_0 17 rfl rfl)
theorem dX1_way_20 : decode cX1_way 20 = .ok (.if_icmp .ne 7, 3) := dk_160 0 7 (dk_at dksX1_way_0 20 rfl rfl)
theorem dX1_way_23 : decode cX1_way 23 = .ok (.iconst (-1), 1) := dk_2 (dk_at dksX1_way_0 23 rfl rfl)
theorem dX1_way_24 : decode cX1_way 24 = .ok (.goto 4, 3) := dk_167 0 4 (dk_at dksX1_way_1 0 rfl rfl)
theorem dX1_way_27 : decode cX1_way 27 = .ok (.iload_n 3, 1) := dk_29 (dk_at dksX1_way_1 3 rfl rfl)
theorem dX1_way_28 : decode cX1_way 28 = .ok (.ireturn, 1) := dk_172 (dk_at dksX1_way_1 4 rfl rfl)
abbrev cX1_soonest : ByteArray := prog_1_method_58_code
def yX1_soonest : MethodName := ⟨RX1, "soonest", "(I)I"⟩
def dkwX1_soonest_3 : List UInt8 := [167, 255, 199, 28, 172]
abbrev dktX1_soonest_3 : List UInt8 := dkwX1_soonest_3 ++ []
def dkwX1_soonest_2 : List UInt8 := [27, 182, 1, 243, 54, 5, 21, 5, 29, 161, 0, 6, 167, 0, 9, 21, 4, 61, 21, 5, 62, 132, 4, 1]
abbrev dktX1_soonest_2 : List UInt8 := dkwX1_soonest_2 ++ dktX1_soonest_3
def dkwX1_soonest_1 : List UInt8 := [162, 0, 51, 42, 180, 0, 10, 21, 4, 182, 1, 131, 153, 0, 9, 19, 1, 242, 167, 0, 10, 42, 21, 4]
abbrev dktX1_soonest_1 : List UInt8 := dkwX1_soonest_1 ++ dktX1_soonest_2
def dkwX1_soonest_0 : List UInt8 := [27, 184, 1, 216, 2, 61, 19, 1, 242, 62, 3, 54, 4, 21, 4, 42, 180, 0, 10, 180, 0, 96]
abbrev dktX1_soonest_0 : List UInt8 := dkwX1_soonest_0 ++ dktX1_soonest_1
theorem dksX1_soonest_0 : cX1_soonest.data.toList.drop 0 = dktX1_soonest_0 := by decide +kernel
theorem dksX1_soonest_1 : cX1_soonest.data.toList.drop 22 = dktX1_soonest_1 := dk_seg dksX1_soonest_0 22 rfl rfl
theorem dksX1_soonest_2 : cX1_soonest.data.toList.drop 46 = dktX1_soonest_2 := dk_seg dksX1_soonest_1 24 rfl rfl
theorem dksX1_soonest_3 : cX1_soonest.data.toList.drop 70 = dktX1_soonest_3 := dk_seg dksX1_soonest_2 24 rfl rfl
theorem dX1_soonest_0 : decode cX1_soonest 0 = .ok (.iload_n 1, 1) := dk_27 (dk_at dksX1_soonest_0 0 rfl rfl)
theorem dX1_soonest_1 : decode cX1_soonest 1 = .ok (.invokestatic 472, 3) := dk_184 1 216 (dk_at dksX1_soonest_0 1 rfl rfl)
theorem dX1_soonest_4 : decode cX1_soonest 4 = .ok (.iconst (-1), 1) := dk_2 (dk_at dksX1_soonest_0 4 rfl rfl)
theorem dX1_soonest_5 : decode cX1_soonest 5 = .ok (.istore_n 2, 1) := dk_61 (dk_at dksX1_soonest_0 5 rfl rfl)
theorem dX1_soonest_6 : decode cX1_soonest 6 = .ok (.ldc_w 498, 3) := dk_19 1 242 (dk_at dksX1_soonest_0 6 rfl rfl)
theorem dX1_soonest_9 : decode cX1_soonest 9 = .ok (.istore_n 3, 1) := dk_62 (dk_at dksX1_soonest_0 9 rfl rfl)
theorem dX1_soonest_10 : decode cX1_soonest 10 = .ok (.iconst 0, 1) := dk_3 (dk_at dksX1_soonest_0 10 rfl rfl)
theorem dX1_soonest_11 : decode cX1_soonest 11 = .ok (.istore 4, 2) := dk_54 4 (dk_at dksX1_soonest_0 11 rfl rfl)
theorem dX1_soonest_13 : decode cX1_soonest 13 = .ok (.iload 4, 2) := dk_21 4 (dk_at dksX1_soonest_0 13 rfl rfl)
theorem dX1_soonest_15 : decode cX1_soonest 15 = .ok (.aload_n 0, 1) := dk_42 (dk_at dksX1_soonest_0 15 rfl rfl)
theorem dX1_soonest_16 : decode cX1_soonest 16 = .ok (.getfield 10, 3) := dk_180 0 10 (dk_at dksX1_soonest_0 16 rfl rfl)
theorem dX1_soonest_19 : decode cX1_soonest 19 = .ok (.getfield 96, 3) := dk_180 0 96 (dk_at dksX1_soonest_0 19 rfl rfl)
theorem dX1_soonest_22 : decode cX1_soonest 22 = .ok (.if_icmp .ge 51, 3) := dk_162 0 51 (dk_at dksX1_soonest_1 0 rfl rfl)
theorem dX1_soonest_25 : decode cX1_soonest 25 = .ok (.aload_n 0, 1) := dk_42 (dk_at dksX1_soonest_1 3 rfl rfl)
theorem dX1_soonest_26 : decode cX1_soonest 26 = .ok (.getfield 10, 3) := dk_180 0 10 (dk_at dksX1_soonest_1 4 rfl rfl)
theorem dX1_soonest_29 : decode cX1_soonest 29 = .ok (.iload 4, 2) := dk_21 4 (dk_at dksX1_soonest_1 7 rfl rfl)
theorem dX1_soonest_31 : decode cX1_soonest 31 = .ok (.invokevirtual 387, 3) := dk_182 1 131 (dk_at dksX1_soonest_1 9 rfl rfl)
theorem dX1_soonest_34 : decode cX1_soonest 34 = .ok (.ifCond .eq 9, 3) := dk_153 0 9 (dk_at dksX1_soonest_1 12 rfl rfl)
theorem dX1_soonest_37 : decode cX1_soonest 37 = .ok (.ldc_w 498, 3) := dk_19 1 242 (dk_at dksX1_soonest_1 15 rfl rfl)
theorem dX1_soonest_40 : decode cX1_soonest 40 = .ok (.goto 10, 3) := dk_167 0 10 (dk_at dksX1_soonest_1 18 rfl rfl)
theorem dX1_soonest_43 : decode cX1_soonest 43 = .ok (.aload_n 0, 1) := dk_42 (dk_at dksX1_soonest_1 21 rfl rfl)
theorem dX1_soonest_44 : decode cX1_soonest 44 = .ok (.iload 4, 2) := dk_21 4 (dk_at dksX1_soonest_1 22 rfl rfl)
theorem dX1_soonest_46 : decode cX1_soonest 46 = .ok (.iload_n 1, 1) := dk_27 (dk_at dksX1_soonest_2 0 rfl rfl)
theorem dX1_soonest_47 : decode cX1_soonest 47 = .ok (.invokevirtual 499, 3) := dk_182 1 243 (dk_at dksX1_soonest_2 1 rfl rfl)
theorem dX1_soonest_50 : decode cX1_soonest 50 = .ok (.istore 5, 2) := dk_54 5 (dk_at dksX1_soonest_2 4 rfl rfl)
theorem dX1_soonest_52 : decode cX1_soonest 52 = .ok (.iload 5, 2) := dk_21 5 (dk_at dksX1_soonest_2 6 rfl rfl)
theorem dX1_soonest_54 : decode cX1_soonest 54 = .ok (.iload_n 3, 1) := dk_29 (dk_at dksX1_soonest_2 8 rfl rfl)
theorem dX1_soonest_55 : decode cX1_soonest 55 = .ok (.if_icmp .lt 6, 3) := dk_161 0 6 (dk_at dksX1_soonest_2 9 rfl rfl)
theorem dX1_soonest_58 : decode cX1_soonest 58 = .ok (.goto 9, 3) := dk_167 0 9 (dk_at dksX1_soonest_2 12 rfl rfl)
theorem dX1_soonest_61 : decode cX1_soonest 61 = .ok (.iload 4, 2) := dk_21 4 (dk_at dksX1_soonest_2 15 rfl rfl)
theorem dX1_soonest_63 : decode cX1_soonest 63 = .ok (.istore_n 2, 1) := dk_61 (dk_at dksX1_soonest_2 17 rfl rfl)
theorem dX1_soonest_64 : decode cX1_soonest 64 = .ok (.iload 5, 2) := dk_21 5 (dk_at dksX1_soonest_2 18 rfl rfl)
theorem dX1_soonest_66 : decode cX1_soonest 66 = .ok (.istore_n 3, 1) := dk_62 (dk_at dksX1_soonest_2 20 rfl rfl)
theorem dX1_soonest_67 : decode cX1_soonest 67 = .ok (.iinc 4 1, 3) := dk_132 4 1 (dk_at dksX1_soonest_2 21 rfl rfl)
theorem dX1_soonest_70 : decode cX1_soonest 70 = .ok (.goto (-57), 3) := dk_167 255 199 (dk_at dksX1_soonest_3 0 rfl rfl)
theorem dX1_soonest_73 : decode cX1_soonest 73 = .ok (.iload_n 2, 1) := dk_28 (dk_at dksX1_soonest_3 3 rfl rfl)
theorem dX1_soonest_74 : decode cX1_soonest 74 = .ok (.ireturn, 1) := dk_172 (dk_at dksX1_soonest_3 4 rfl rfl)
abbrev cX1_cross : ByteArray := prog_1_method_59_code
def yX1_cross : MethodName := ⟨RX1, "cross", "(I)Z"⟩
def dkwX1_cross_1 : List UInt8 := [167, 0, 4, 3, 172]
abbrev dktX1_cross_1 : List UInt8 := dkwX1_cross_1 ++ []
def dkwX1_cross_0 : List UInt8 := [42, 27, 182, 1, 183, 42, 180, 0, 10, 27, 182, 1, 81, 42, 180, 0, 10, 180, 0, 174, 163, 0, 7, 4]
abbrev dktX1_cross_0 : List UInt8 := dkwX1_cross_0 ++ dktX1_cross_1
theorem dksX1_cross_0 : cX1_cross.data.toList.drop 0 = dktX1_cross_0 := by decide +kernel
theorem dksX1_cross_1 : cX1_cross.data.toList.drop 24 = dktX1_cross_1 := dk_seg dksX1_cross_0 24 rfl rfl
theorem dX1_cross_0 : decode cX1_cross 0 = .ok (.aload_n 0, 1) := dk_42 (dk_at dksX1_cross_0 0 rfl rfl)
theorem dX1_cross_1 : decode cX1_cross 1 = .ok (.iload_n 1, 1) := dk_27 (dk_at dksX1_cross_0 1 rfl rfl)
theorem dX1_cross_2 : decode cX1_cross 2 = .ok (.invokevirtual 439, 3) := dk_182 1 183 (dk_at dksX1_cross_0 2 rfl rfl)
theorem dX1_cross_5 : decode cX1_cross 5 = .ok (.aload_n 0, 1) := dk_42 (dk_at dksX1_cross_0 5 rfl rfl)
theorem dX1_cross_6 : decode cX1_cross 6 = .ok (.getfield 10, 3) := dk_180 0 10 (dk_at dksX1_cross_0 6 rfl rfl)
theorem dX1_cross_9 : decode cX1_cross 9 = .ok (.iload_n 1, 1) := dk_27 (dk_at dksX1_cross_0 9 rfl rfl)
theorem dX1_cross_10 : decode cX1_cross 10 = .ok (.invokevirtual 337, 3) := dk_182 1 81 (dk_at dksX1_cross_0 10 rfl rfl)
theorem dX1_cross_13 : decode cX1_cross 13 = .ok (.aload_n 0, 1) := dk_42 (dk_at dksX1_cross_0 13 rfl rfl)
theorem dX1_cross_14 : decode cX1_cross 14 = .ok (.getfield 10, 3) := dk_180 0 10 (dk_at dksX1_cross_0 14 rfl rfl)
theorem dX1_cross_17 : decode cX1_cross 17 = .ok (.getfield 174, 3) := dk_180 0 174 (dk_at dksX1_cross_0 17 rfl rfl)
theorem dX1_cross_20 : decode cX1_cross 20 = .ok (.if_icmp .gt 7, 3) := dk_163 0 7 (dk_at dksX1_cross_0 20 rfl rfl)
theorem dX1_cross_23 : decode cX1_cross 23 = .ok (.iconst 1, 1) := dk_4 (dk_at dksX1_cross_0 23 rfl rfl)
theorem dX1_cross_24 : decode cX1_cross 24 = .ok (.goto 4, 3) := dk_167 0 4 (dk_at dksX1_cross_1 0 rfl rfl)
theorem dX1_cross_27 : decode cX1_cross 27 = .ok (.iconst 0, 1) := dk_3 (dk_at dksX1_cross_1 3 rfl rfl)
theorem dX1_cross_28 : decode cX1_cross 28 = .ok (.ireturn, 1) := dk_172 (dk_at dksX1_cross_1 4 rfl rfl)
abbrev cX1_shed : ByteArray := prog_1_method_60_code
def yX1_shed : MethodName := ⟨RX1, "shed", "(I)I"⟩
def dkwX1_shed_4 : List UInt8 := [167, 0, 5, 21, 4, 54, 4, 132, 5, 255, 167, 255, 200, 21, 4, 172]
abbrev dktX1_shed_4 : List UInt8 := dkwX1_shed_4 ++ []
def dkwX1_shed_3 : List UInt8 := [163, 0, 25, 42, 180, 0, 10, 28, 21, 5, 2, 130, 126, 182, 1, 195, 29, 163, 0, 8, 21, 5]
abbrev dktX1_shed_3 : List UInt8 := dkwX1_shed_3 ++ dktX1_shed_4
def dkwX1_shed_2 : List UInt8 := [155, 0, 57, 21, 5, 28, 2, 130, 126, 154, 0, 38, 21, 5, 184, 1, 246, 21, 4, 184, 1, 246]
abbrev dktX1_shed_2 : List UInt8 := dkwX1_shed_2 ++ dktX1_shed_3
def dkwX1_shed_1 : List UInt8 := [180, 0, 10, 180, 0, 102, 27, 46, 184, 1, 121, 62, 28, 54, 4, 28, 4, 100, 54, 5, 21, 5]
abbrev dktX1_shed_1 : List UInt8 := dkwX1_shed_1 ++ dktX1_shed_2
def dkwX1_shed_0 : List UInt8 := [42, 27, 182, 1, 183, 42, 180, 0, 10, 27, 182, 1, 189, 61, 42, 180, 0, 10, 180, 0, 174, 42]
abbrev dktX1_shed_0 : List UInt8 := dkwX1_shed_0 ++ dktX1_shed_1
theorem dksX1_shed_0 : cX1_shed.data.toList.drop 0 = dktX1_shed_0 := by decide +kernel
theorem dksX1_shed_1 : cX1_shed.data.toList.drop 22 = dktX1_shed_1 := dk_seg dksX1_shed_0 22 rfl rfl
theorem dksX1_shed_2 : cX1_shed.data.toList.drop 44 = dktX1_shed_2 := dk_seg dksX1_shed_1 22 rfl rfl
theorem dksX1_shed_3 : cX1_shed.data.toList.drop 66 = dktX1_shed_3 := dk_seg dksX1_shed_2 22 rfl rfl
theorem dksX1_shed_4 : cX1_shed.data.toList.drop 88 = dktX1_shed_4 := dk_seg dksX1_shed_3 22 rfl rfl
theorem dX1_shed_0 : decode cX1_shed 0 = .ok (.aload_n 0, 1) := dk_42 (dk_at dksX1_shed_0 0 rfl rfl)
theorem dX1_shed_1 : decode cX1_shed 1 = .ok (.iload_n 1, 1) := dk_27 (dk_at dksX1_shed_0 1 rfl rfl)
theorem dX1_shed_2 : decode cX1_shed 2 = .ok (.invokevirtual 439, 3) := dk_182 1 183 (dk_at dksX1_shed_0 2 rfl rfl)
theorem dX1_shed_5 : decode cX1_shed 5 = .ok (.aload_n 0, 1) := dk_42 (dk_at dksX1_shed_0 5 rfl rfl)
theorem dX1_shed_6 : decode cX1_shed 6 = .ok (.getfield 10, 3) := dk_180 0 10 (dk_at dksX1_shed_0 6 rfl rfl)
theorem dX1_shed_9 : decode cX1_shed 9 = .ok (.iload_n 1, 1) := dk_27 (dk_at dksX1_shed_0 9 rfl rfl)
theorem dX1_shed_10 : decode cX1_shed 10 = .ok (.invokevirtual 445, 3) := dk_182 1 189 (dk_at dksX1_shed_0 10 rfl rfl)
theorem dX1_shed_13 : decode cX1_shed 13 = .ok (.istore_n 2, 1) := dk_61 (dk_at dksX1_shed_0 13 rfl rfl)
theorem dX1_shed_14 : decode cX1_shed 14 = .ok (.aload_n 0, 1) := dk_42 (dk_at dksX1_shed_0 14 rfl rfl)
theorem dX1_shed_15 : decode cX1_shed 15 = .ok (.getfield 10, 3) := dk_180 0 10 (dk_at dksX1_shed_0 15 rfl rfl)
theorem dX1_shed_18 : decode cX1_shed 18 = .ok (.getfield 174, 3) := dk_180 0 174 (dk_at dksX1_shed_0 18 rfl rfl)
theorem dX1_shed_21 : decode cX1_shed 21 = .ok (.aload_n 0, 1) := dk_42 (dk_at dksX1_shed_0 21 rfl rfl)
theorem dX1_shed_22 : decode cX1_shed 22 = .ok (.getfield 10, 3) := dk_180 0 10 (dk_at dksX1_shed_1 0 rfl rfl)
theorem dX1_shed_25 : decode cX1_shed 25 = .ok (.getfield 102, 3) := dk_180 0 102 (dk_at dksX1_shed_1 3 rfl rfl)
theorem dX1_shed_28 : decode cX1_shed 28 = .ok (.iload_n 1, 1) := dk_27 (dk_at dksX1_shed_1 6 rfl rfl)
theorem dX1_shed_29 : decode cX1_shed 29 = .ok (.iaload, 1) := dk_46 (dk_at dksX1_shed_1 7 rfl rfl)
theorem dX1_shed_30 : decode cX1_shed 30 = .ok (.invokestatic 377, 3) := dk_184 1 121 (dk_at dksX1_shed_1 8 rfl rfl)
theorem dX1_shed_33 : decode cX1_shed 33 = .ok (.istore_n 3, 1) := dk_62 (dk_at dksX1_shed_1 11 rfl rfl)
theorem dX1_shed_34 : decode cX1_shed 34 = .ok (.iload_n 2, 1) := dk_28 (dk_at dksX1_shed_1 12 rfl rfl)
theorem dX1_shed_35 : decode cX1_shed 35 = .ok (.istore 4, 2) := dk_54 4 (dk_at dksX1_shed_1 13 rfl rfl)
theorem dX1_shed_37 : decode cX1_shed 37 = .ok (.iload_n 2, 1) := dk_28 (dk_at dksX1_shed_1 15 rfl rfl)
theorem dX1_shed_38 : decode cX1_shed 38 = .ok (.iconst 1, 1) := dk_4 (dk_at dksX1_shed_1 16 rfl rfl)
theorem dX1_shed_39 : decode cX1_shed 39 = .ok (.isub, 1) := dk_100 (dk_at dksX1_shed_1 17 rfl rfl)
theorem dX1_shed_40 : decode cX1_shed 40 = .ok (.istore 5, 2) := dk_54 5 (dk_at dksX1_shed_1 18 rfl rfl)
theorem dX1_shed_42 : decode cX1_shed 42 = .ok (.iload 5, 2) := dk_21 5 (dk_at dksX1_shed_1 20 rfl rfl)
theorem dX1_shed_44 : decode cX1_shed 44 = .ok (.ifCond .lt 57, 3) := dk_155 0 57 (dk_at dksX1_shed_2 0 rfl rfl)
theorem dX1_shed_47 : decode cX1_shed 47 = .ok (.iload 5, 2) := dk_21 5 (dk_at dksX1_shed_2 3 rfl rfl)
theorem dX1_shed_49 : decode cX1_shed 49 = .ok (.iload_n 2, 1) := dk_28 (dk_at dksX1_shed_2 5 rfl rfl)
theorem dX1_shed_50 : decode cX1_shed 50 = .ok (.iconst (-1), 1) := dk_2 (dk_at dksX1_shed_2 6 rfl rfl)
theorem dX1_shed_51 : decode cX1_shed 51 = .ok (.ixor, 1) := dk_130 (dk_at dksX1_shed_2 7 rfl rfl)
theorem dX1_shed_52 : decode cX1_shed 52 = .ok (.iand, 1) := dk_126 (dk_at dksX1_shed_2 8 rfl rfl)
theorem dX1_shed_53 : decode cX1_shed 53 = .ok (.ifCond .ne 38, 3) := dk_154 0 38 (dk_at dksX1_shed_2 9 rfl rfl)
theorem dX1_shed_56 : decode cX1_shed 56 = .ok (.iload 5, 2) := dk_21 5 (dk_at dksX1_shed_2 12 rfl rfl)
theorem dX1_shed_58 : decode cX1_shed 58 = .ok (.invokestatic 502, 3) := dk_184 1 246 (dk_at dksX1_shed_2 14 rfl rfl)
theorem dX1_shed_61 : decode cX1_shed 61 = .ok (.iload 4, 2) := dk_21 4 (dk_at dksX1_shed_2 17 rfl rfl)
theorem dX1_shed_63 : decode cX1_shed 63 = .ok (.invokestatic 502, 3) := dk_184 1 246 (dk_at dksX1_shed_2 19 rfl rfl)
theorem dX1_shed_66 : decode cX1_shed 66 = .ok (.if_icmp .gt 25, 3) := dk_163 0 25 (dk_at dksX1_shed_3 0 rfl rfl)
theorem dX1_shed_69 : decode cX1_shed 69 = .ok (.aload_n 0, 1) := dk_42 (dk_at dksX1_shed_3 3 rfl rfl)
theorem dX1_shed_70 : decode cX1_shed 70 = .ok (.getfield 10, 3) := dk_180 0 10 (dk_at dksX1_shed_3 4 rfl rfl)
theorem dX1_shed_73 : decode cX1_shed 73 = .ok (.iload_n 2, 1) := dk_28 (dk_at dksX1_shed_3 7 rfl rfl)
theorem dX1_shed_74 : decode cX1_shed 74 = .ok (.iload 5, 2) := dk_21 5 (dk_at dksX1_shed_3 8 rfl rfl)
theorem dX1_shed_76 : decode cX1_shed 76 = .ok (.iconst (-1), 1) := dk_2 (dk_at dksX1_shed_3 10 rfl rfl)
theorem dX1_shed_77 : decode cX1_shed 77 = .ok (.ixor, 1) := dk_130 (dk_at dksX1_shed_3 11 rfl rfl)
theorem dX1_shed_78 : decode cX1_shed 78 = .ok (.iand, 1) := dk_126 (dk_at dksX1_shed_3 12 rfl rfl)
theorem dX1_shed_79 : decode cX1_shed 79 = .ok (.invokevirtual 451, 3) := dk_182 1 195 (dk_at dksX1_shed_3 13 rfl rfl)
theorem dX1_shed_82 : decode cX1_shed 82 = .ok (.iload_n 3, 1) := dk_29 (dk_at dksX1_shed_3 16 rfl rfl)
theorem dX1_shed_83 : decode cX1_shed 83 = .ok (.if_icmp .gt 8, 3) := dk_163 0 8 (dk_at dksX1_shed_3 17 rfl rfl)
theorem dX1_shed_86 : decode cX1_shed 86 = .ok (.iload 5, 2) := dk_21 5 (dk_at dksX1_shed_3 20 rfl rfl)
theorem dX1_shed_88 : decode cX1_shed 88 = .ok (.goto 5, 3) := dk_167 0 5 (dk_at dksX1_shed_4 0 rfl rfl)
theorem dX1_shed_91 : decode cX1_shed 91 = .ok (.iload 4, 2) := dk_21 4 (dk_at dksX1_shed_4 3 rfl rfl)
theorem dX1_shed_93 : decode cX1_shed 93 = .ok (.istore 4, 2) := dk_54 4 (dk_at dksX1_shed_4 5 rfl rfl)
theorem dX1_shed_95 : decode cX1_shed 95 = .ok (.iinc 5 (-1), 3) := dk_132 5 255 (dk_at dksX1_shed_4 7 rfl rfl)
theorem dX1_shed_98 : decode cX1_shed 98 = .ok (.goto (-56), 3) := dk_167 255 200 (dk_at dksX1_shed_4 10 rfl rfl)
theorem dX1_shed_101 : decode cX1_shed 101 = .ok (.iload 4, 2) := dk_21 4 (dk_at dksX1_shed_4 13 rfl rfl)
theorem dX1_shed_103 : decode cX1_shed 103 = .ok (.ireturn, 1) := dk_172 (dk_at dksX1_shed_4 15 rfl rfl)
abbrev cX1_share : ByteArray := prog_1_method_61_code
def yX1_share : MethodName := ⟨RX1, "share", "(II)I"⟩
def dkwX1_share_3 : List UInt8 := [182, 2, 3, 172]
abbrev dktX1_share_3 : List UInt8 := dkwX1_share_3 ++ []
def dkwX1_share_2 : List UInt8 := [180, 0, 51, 180, 2, 2, 153, 0, 7, 28, 156, 0, 7, 2, 167, 0, 11, 42, 180, 0, 51, 28]
abbrev dktX1_share_2 : List UInt8 := dkwX1_share_2 ++ dktX1_share_3
def dkwX1_share_1 : List UInt8 := [182, 1, 255, 19, 1, 242, 160, 0, 7, 2, 167, 0, 10, 42, 180, 0, 51, 182, 1, 255, 172, 42]
abbrev dktX1_share_1 : List UInt8 := dkwX1_share_1 ++ dktX1_share_2
def dkwX1_share_0 : List UInt8 := [27, 184, 1, 216, 42, 180, 0, 51, 27, 182, 1, 251, 87, 28, 2, 160, 0, 28, 42, 180, 0, 51]
abbrev dktX1_share_0 : List UInt8 := dkwX1_share_0 ++ dktX1_share_1
theorem dksX1_share_0 : cX1_share.data.toList.drop 0 = dktX1_share_0 := by decide +kernel
theorem dksX1_share_1 : cX1_share.data.toList.drop 22 = dktX1_share_1 := dk_seg dksX1_share_0 22 rfl rfl
theorem dksX1_share_2 : cX1_share.data.toList.drop 44 = dktX1_share_2 := dk_seg dksX1_share_1 22 rfl rfl
theorem dksX1_share_3 : cX1_share.data.toList.drop 66 = dktX1_share_3 := dk_seg dksX1_share_2 22 rfl rfl
theorem dX1_share_0 : decode cX1_share 0 = .ok (.iload_n 1, 1) := dk_27 (dk_at dksX1_share_0 0 rfl rfl)
theorem dX1_share_1 : decode cX1_share 1 = .ok (.invokestatic 472, 3) := dk_184 1 216 (dk_at dksX1_share_0 1 rfl rfl)
theorem dX1_share_4 : decode cX1_share 4 = .ok (.aload_n 0, 1) := dk_42 (dk_at dksX1_share_0 4 rfl rfl)
theorem dX1_share_5 : decode cX1_share 5 = .ok (.getfield 51, 3) := dk_180 0 51 (dk_at dksX1_share_0 5 rfl rfl)
theorem dX1_share_8 : decode cX1_share 8 = .ok (.iload_n 1, 1) := dk_27 (dk_at dksX1_share_0 8 rfl rfl)
theorem dX1_share_9 : decode cX1_share 9 = .ok (.invokevirtual 507, 3) := dk_182 1 251 (dk_at dksX1_share_0 9 rfl rfl)
theorem dX1_share_12 : decode cX1_share 12 = .ok (.pop, 1) := dk_87 (dk_at dksX1_share_0 12 rfl rfl)
theorem dX1_share_13 : decode cX1_share 13 = .ok (.iload_n 2, 1) := dk_28 (dk_at dksX1_share_0 13 rfl rfl)
theorem dX1_share_14 : decode cX1_share 14 = .ok (.iconst (-1), 1) := dk_2 (dk_at dksX1_share_0 14 rfl rfl)
theorem dX1_share_15 : decode cX1_share 15 = .ok (.if_icmp .ne 28, 3) := dk_160 0 28 (dk_at dksX1_share_0 15 rfl rfl)
theorem dX1_share_18 : decode cX1_share 18 = .ok (.aload_n 0, 1) := dk_42 (dk_at dksX1_share_0 18 rfl rfl)
theorem dX1_share_19 : decode cX1_share 19 = .ok (.getfield 51, 3) := dk_180 0 51 (dk_at dksX1_share_0 19 rfl rfl)
theorem dX1_share_22 : decode cX1_share 22 = .ok (.invokevirtual 511, 3) := dk_182 1 255 (dk_at dksX1_share_1 0 rfl rfl)
theorem dX1_share_25 : decode cX1_share 25 = .ok (.ldc_w 498, 3) := dk_19 1 242 (dk_at dksX1_share_1 3 rfl rfl)
theorem dX1_share_28 : decode cX1_share 28 = .ok (.if_icmp .ne 7, 3) := dk_160 0 7 (dk_at dksX1_share_1 6 rfl rfl)
theorem dX1_share_31 : decode cX1_share 31 = .ok (.iconst (-1), 1) := dk_2 (dk_at dksX1_share_1 9 rfl rfl)
theorem dX1_share_32 : decode cX1_share 32 = .ok (.goto 10, 3) := dk_167 0 10 (dk_at dksX1_share_1 10 rfl rfl)
theorem dX1_share_35 : decode cX1_share 35 = .ok (.aload_n 0, 1) := dk_42 (dk_at dksX1_share_1 13 rfl rfl)
theorem dX1_share_36 : decode cX1_share 36 = .ok (.getfield 51, 3) := dk_180 0 51 (dk_at dksX1_share_1 14 rfl rfl)
theorem dX1_share_39 : decode cX1_share 39 = .ok (.invokevirtual 511, 3) := dk_182 1 255 (dk_at dksX1_share_1 17 rfl rfl)
theorem dX1_share_42 : decode cX1_share 42 = .ok (.ireturn, 1) := dk_172 (dk_at dksX1_share_1 20 rfl rfl)
theorem dX1_share_43 : decode cX1_share 43 = .ok (.aload_n 0, 1) := dk_42 (dk_at dksX1_share_1 21 rfl rfl)
theorem dX1_share_44 : decode cX1_share 44 = .ok (.getfield 51, 3) := dk_180 0 51 (dk_at dksX1_share_2 0 rfl rfl)
theorem dX1_share_47 : decode cX1_share 47 = .ok (.getfield 514, 3) := dk_180 2 2 (dk_at dksX1_share_2 3 rfl rfl)
theorem dX1_share_50 : decode cX1_share 50 = .ok (.ifCond .eq 7, 3) := dk_153 0 7 (dk_at dksX1_share_2 6 rfl rfl)
theorem dX1_share_53 : decode cX1_share 53 = .ok (.iload_n 2, 1) := dk_28 (dk_at dksX1_share_2 9 rfl rfl)
theorem dX1_share_54 : decode cX1_share 54 = .ok (.ifCond .ge 7, 3) := dk_156 0 7 (dk_at dksX1_share_2 10 rfl rfl)
theorem dX1_share_57 : decode cX1_share 57 = .ok (.iconst (-1), 1) := dk_2 (dk_at dksX1_share_2 13 rfl rfl)
theorem dX1_share_58 : decode cX1_share 58 = .ok (.goto 11, 3) := dk_167 0 11 (dk_at dksX1_share_2 14 rfl rfl)
theorem dX1_share_61 : decode cX1_share 61 = .ok (.aload_n 0, 1) := dk_42 (dk_at dksX1_share_2 17 rfl rfl)
theorem dX1_share_62 : decode cX1_share 62 = .ok (.getfield 51, 3) := dk_180 0 51 (dk_at dksX1_share_2 18 rfl rfl)
theorem dX1_share_65 : decode cX1_share 65 = .ok (.iload_n 2, 1) := dk_28 (dk_at dksX1_share_2 21 rfl rfl)
theorem dX1_share_66 : decode cX1_share 66 = .ok (.invokevirtual 515, 3) := dk_182 2 3 (dk_at dksX1_share_3 0 rfl rfl)
theorem dX1_share_69 : decode cX1_share 69 = .ok (.ireturn, 1) := dk_172 (dk_at dksX1_share_3 3 rfl rfl)
abbrev cX1_pays : ByteArray := prog_1_method_65_code
def yX1_pays : MethodName := ⟨RX1, "pays", "(IZ)I"⟩
def dkwX1_pays_4 : List UInt8 := [180, 0, 10, 21, 4, 182, 1, 195, 167, 0, 5, 21, 4, 172]
abbrev dktX1_pays_4 : List UInt8 := dkwX1_pays_4 ++ []
def dkwX1_pays_3 : List UInt8 := [21, 4, 182, 1, 195, 164, 0, 7, 21, 5, 54, 4, 132, 5, 1, 167, 255, 192, 28, 153, 0, 15, 42]
abbrev dktX1_pays_3 : List UInt8 := dkwX1_pays_3 ++ dktX1_pays_4
def dkwX1_pays_2 : List UInt8 := [180, 0, 10, 180, 0, 99, 27, 46, 163, 0, 28, 42, 180, 0, 10, 21, 5, 182, 1, 195, 42, 180, 0, 10]
abbrev dktX1_pays_2 : List UInt8 := dkwX1_pays_2 ++ dktX1_pays_3
def dkwX1_pays_1 : List UInt8 := [163, 0, 64, 21, 5, 29, 2, 130, 126, 154, 0, 49, 42, 180, 0, 10, 21, 5, 182, 1, 195, 42]
abbrev dktX1_pays_1 : List UInt8 := dkwX1_pays_1 ++ dktX1_pays_2
def dkwX1_pays_0 : List UInt8 := [42, 27, 182, 1, 183, 42, 180, 0, 10, 27, 182, 1, 192, 62, 3, 54, 4, 4, 54, 5, 21, 5, 29]
abbrev dktX1_pays_0 : List UInt8 := dkwX1_pays_0 ++ dktX1_pays_1
theorem dksX1_pays_0 : cX1_pays.data.toList.drop 0 = dktX1_pays_0 := by decide +kernel
theorem dksX1_pays_1 : cX1_pays.data.toList.drop 23 = dktX1_pays_1 := dk_seg dksX1_pays_0 23 rfl rfl
theorem dksX1_pays_2 : cX1_pays.data.toList.drop 45 = dktX1_pays_2 := dk_seg dksX1_pays_1 22 rfl rfl
theorem dksX1_pays_3 : cX1_pays.data.toList.drop 69 = dktX1_pays_3 := dk_seg dksX1_pays_2 24 rfl rfl
theorem dksX1_pays_4 : cX1_pays.data.toList.drop 92 = dktX1_pays_4 := dk_seg dksX1_pays_3 23 rfl rfl
theorem dX1_pays_0 : decode cX1_pays 0 = .ok (.aload_n 0, 1) := dk_42 (dk_at dksX1_pays_0 0 rfl rfl)
theorem dX1_pays_1 : decode cX1_pays 1 = .ok (.iload_n 1, 1) := dk_27 (dk_at dksX1_pays_0 1 rfl rfl)
theorem dX1_pays_2 : decode cX1_pays 2 = .ok (.invokevirtual 439, 3) := dk_182 1 183 (dk_at dksX1_pays_0 2 rfl rfl)
theorem dX1_pays_5 : decode cX1_pays 5 = .ok (.aload_n 0, 1) := dk_42 (dk_at dksX1_pays_0 5 rfl rfl)
theorem dX1_pays_6 : decode cX1_pays 6 = .ok (.getfield 10, 3) := dk_180 0 10 (dk_at dksX1_pays_0 6 rfl rfl)
theorem dX1_pays_9 : decode cX1_pays 9 = .ok (.iload_n 1, 1) := dk_27 (dk_at dksX1_pays_0 9 rfl rfl)
theorem dX1_pays_10 : decode cX1_pays 10 = .ok (.invokevirtual 448, 3) := dk_182 1 192 (dk_at dksX1_pays_0 10 rfl rfl)
theorem dX1_pays_13 : decode cX1_pays 13 = .ok (.istore_n 3, 1) := dk_62 (dk_at dksX1_pays_0 13 rfl rfl)
theorem dX1_pays_14 : decode cX1_pays 14 = .ok (.iconst 0, 1) := dk_3 (dk_at dksX1_pays_0 14 rfl rfl)
theorem dX1_pays_15 : decode cX1_pays 15 = .ok (.istore 4, 2) := dk_54 4 (dk_at dksX1_pays_0 15 rfl rfl)
theorem dX1_pays_17 : decode cX1_pays 17 = .ok (.iconst 1, 1) := dk_4 (dk_at dksX1_pays_0 17 rfl rfl)
theorem dX1_pays_18 : decode cX1_pays 18 = .ok (.istore 5, 2) := dk_54 5 (dk_at dksX1_pays_0 18 rfl rfl)
theorem dX1_pays_20 : decode cX1_pays 20 = .ok (.iload 5, 2) := dk_21 5 (dk_at dksX1_pays_0 20 rfl rfl)
theorem dX1_pays_22 : decode cX1_pays 22 = .ok (.iload_n 3, 1) := dk_29 (dk_at dksX1_pays_0 22 rfl rfl)
theorem dX1_pays_23 : decode cX1_pays 23 = .ok (.if_icmp .gt 64, 3) := dk_163 0 64 (dk_at dksX1_pays_1 0 rfl rfl)
theorem dX1_pays_26 : decode cX1_pays 26 = .ok (.iload 5, 2) := dk_21 5 (dk_at dksX1_pays_1 3 rfl rfl)
theorem dX1_pays_28 : decode cX1_pays 28 = .ok (.iload_n 3, 1) := dk_29 (dk_at dksX1_pays_1 5 rfl rfl)
theorem dX1_pays_29 : decode cX1_pays 29 = .ok (.iconst (-1), 1) := dk_2 (dk_at dksX1_pays_1 6 rfl rfl)
theorem dX1_pays_30 : decode cX1_pays 30 = .ok (.ixor, 1) := dk_130 (dk_at dksX1_pays_1 7 rfl rfl)
theorem dX1_pays_31 : decode cX1_pays 31 = .ok (.iand, 1) := dk_126 (dk_at dksX1_pays_1 8 rfl rfl)
theorem dX1_pays_32 : decode cX1_pays 32 = .ok (.ifCond .ne 49, 3) := dk_154 0 49 (dk_at dksX1_pays_1 9 rfl rfl)
theorem dX1_pays_35 : decode cX1_pays 35 = .ok (.aload_n 0, 1) := dk_42 (dk_at dksX1_pays_1 12 rfl rfl)
theorem dX1_pays_36 : decode cX1_pays 36 = .ok (.getfield 10, 3) := dk_180 0 10 (dk_at dksX1_pays_1 13 rfl rfl)
theorem dX1_pays_39 : decode cX1_pays 39 = .ok (.iload 5, 2) := dk_21 5 (dk_at dksX1_pays_1 16 rfl rfl)
theorem dX1_pays_41 : decode cX1_pays 41 = .ok (.invokevirtual 451, 3) := dk_182 1 195 (dk_at dksX1_pays_1 18 rfl rfl)
theorem dX1_pays_44 : decode cX1_pays 44 = .ok (.aload_n 0, 1) := dk_42 (dk_at dksX1_pays_1 21 rfl rfl)
theorem dX1_pays_45 : decode cX1_pays 45 = .ok (.getfield 10, 3) := dk_180 0 10 (dk_at dksX1_pays_2 0 rfl rfl)
theorem dX1_pays_48 : decode cX1_pays 48 = .ok (.getfield 99, 3) := dk_180 0 99 (dk_at dksX1_pays_2 3 rfl rfl)
theorem dX1_pays_51 : decode cX1_pays 51 = .ok (.iload_n 1, 1) := dk_27 (dk_at dksX1_pays_2 6 rfl rfl)
theorem dX1_pays_52 : decode cX1_pays 52 = .ok (.iaload, 1) := dk_46 (dk_at dksX1_pays_2 7 rfl rfl)
theorem dX1_pays_53 : decode cX1_pays 53 = .ok (.if_icmp .gt 28, 3) := dk_163 0 28 (dk_at dksX1_pays_2 8 rfl rfl)
theorem dX1_pays_56 : decode cX1_pays 56 = .ok (.aload_n 0, 1) := dk_42 (dk_at dksX1_pays_2 11 rfl rfl)
theorem dX1_pays_57 : decode cX1_pays 57 = .ok (.getfield 10, 3) := dk_180 0 10 (dk_at dksX1_pays_2 12 rfl rfl)
theorem dX1_pays_60 : decode cX1_pays 60 = .ok (.iload 5, 2) := dk_21 5 (dk_at dksX1_pays_2 15 rfl rfl)
theorem dX1_pays_62 : decode cX1_pays 62 = .ok (.invokevirtual 451, 3) := dk_182 1 195 (dk_at dksX1_pays_2 17 rfl rfl)
theorem dX1_pays_65 : decode cX1_pays 65 = .ok (.aload_n 0, 1) := dk_42 (dk_at dksX1_pays_2 20 rfl rfl)
theorem dX1_pays_66 : decode cX1_pays 66 = .ok (.getfield 10, 3) := dk_180 0 10 (dk_at dksX1_pays_2 21 rfl rfl)
theorem dX1_pays_69 : decode cX1_pays 69 = .ok (.iload 4, 2) := dk_21 4 (dk_at dksX1_pays_3 0 rfl rfl)
theorem dX1_pays_71 : decode cX1_pays 71 = .ok (.invokevirtual 451, 3) := dk_182 1 195 (dk_at dksX1_pays_3 2 rfl rfl)
theorem dX1_pays_74 : decode cX1_pays 74 = .ok (.if_icmp .le 7, 3) := dk_164 0 7 (dk_at dksX1_pays_3 5 rfl rfl)
theorem dX1_pays_77 : decode cX1_pays 77 = .ok (.iload 5, 2) := dk_21 5 (dk_at dksX1_pays_3 8 rfl rfl)
theorem dX1_pays_79 : decode cX1_pays 79 = .ok (.istore 4, 2) := dk_54 4 (dk_at dksX1_pays_3 10 rfl rfl)
theorem dX1_pays_81 : decode cX1_pays 81 = .ok (.iinc 5 1, 3) := dk_132 5 1 (dk_at dksX1_pays_3 12 rfl rfl)
theorem dX1_pays_84 : decode cX1_pays 84 = .ok (.goto (-64), 3) := dk_167 255 192 (dk_at dksX1_pays_3 15 rfl rfl)
theorem dX1_pays_87 : decode cX1_pays 87 = .ok (.iload_n 2, 1) := dk_28 (dk_at dksX1_pays_3 18 rfl rfl)
theorem dX1_pays_88 : decode cX1_pays 88 = .ok (.ifCond .eq 15, 3) := dk_153 0 15 (dk_at dksX1_pays_3 19 rfl rfl)
theorem dX1_pays_91 : decode cX1_pays 91 = .ok (.aload_n 0, 1) := dk_42 (dk_at dksX1_pays_3 22 rfl rfl)
theorem dX1_pays_92 : decode cX1_pays 92 = .ok (.getfield 10, 3) := dk_180 0 10 (dk_at dksX1_pays_4 0 rfl rfl)
theorem dX1_pays_95 : decode cX1_pays 95 = .ok (.iload 4, 2) := dk_21 4 (dk_at dksX1_pays_4 3 rfl rfl)
theorem dX1_pays_97 : decode cX1_pays 97 = .ok (.invokevirtual 451, 3) := dk_182 1 195 (dk_at dksX1_pays_4 5 rfl rfl)
theorem dX1_pays_100 : decode cX1_pays 100 = .ok (.goto 5, 3) := dk_167 0 5 (dk_at dksX1_pays_4 8 rfl rfl)
theorem dX1_pays_103 : decode cX1_pays 103 = .ok (.iload 4, 2) := dk_21 4 (dk_at dksX1_pays_4 11 rfl rfl)
theorem dX1_pays_105 : decode cX1_pays 105 = .ok (.ireturn, 1) := dk_172 (dk_at dksX1_pays_4 13 rfl rfl)
abbrev cX1_first : ByteArray := prog_1_method_66_code
def yX1_first : MethodName := ⟨RX1, "first", "(I)I"⟩
def dkwX1_first_3 : List UInt8 := [2, 172]
abbrev dktX1_first_3 : List UInt8 := dkwX1_first_3 ++ []
def dkwX1_first_2 : List UInt8 := [182, 1, 195, 161, 0, 5, 28, 172, 42, 42, 180, 0, 36, 3, 182, 1, 157, 87, 132, 2, 1, 167, 255, 207]
abbrev dktX1_first_2 : List UInt8 := dkwX1_first_2 ++ dktX1_first_3
def dkwX1_first_1 : List UInt8 := [163, 0, 48, 42, 180, 0, 36, 180, 0, 99, 27, 46, 42, 180, 0, 36, 42, 180, 0, 36, 27, 182, 1, 192]
abbrev dktX1_first_1 : List UInt8 := dkwX1_first_1 ++ dktX1_first_2
def dkwX1_first_0 : List UInt8 := [42, 27, 182, 1, 183, 42, 180, 0, 36, 42, 180, 0, 10, 182, 0, 204, 87, 3, 61, 28, 17, 0, 200]
abbrev dktX1_first_0 : List UInt8 := dkwX1_first_0 ++ dktX1_first_1
theorem dksX1_first_0 : cX1_first.data.toList.drop 0 = dktX1_first_0 := by decide +kernel
theorem dksX1_first_1 : cX1_first.data.toList.drop 23 = dktX1_first_1 := dk_seg dksX1_first_0 23 rfl rfl
theorem dksX1_first_2 : cX1_first.data.toList.drop 47 = dktX1_first_2 := dk_seg dksX1_first_1 24 rfl rfl
theorem dksX1_first_3 : cX1_first.data.toList.drop 71 = dktX1_first_3 := dk_seg dksX1_first_2 24 rfl rfl
theorem dX1_first_0 : decode cX1_first 0 = .ok (.aload_n 0, 1) := dk_42 (dk_at dksX1_first_0 0 rfl rfl)
theorem dX1_first_1 : decode cX1_first 1 = .ok (.iload_n 1, 1) := dk_27 (dk_at dksX1_first_0 1 rfl rfl)
theorem dX1_first_2 : decode cX1_first 2 = .ok (.invokevirtual 439, 3) := dk_182 1 183 (dk_at dksX1_first_0 2 rfl rfl)
theorem dX1_first_5 : decode cX1_first 5 = .ok (.aload_n 0, 1) := dk_42 (dk_at dksX1_first_0 5 rfl rfl)
theorem dX1_first_6 : decode cX1_first 6 = .ok (.getfield 36, 3) := dk_180 0 36 (dk_at dksX1_first_0 6 rfl rfl)
theorem dX1_first_9 : decode cX1_first 9 = .ok (.aload_n 0, 1) := dk_42 (dk_at dksX1_first_0 9 rfl rfl)
theorem dX1_first_10 : decode cX1_first 10 = .ok (.getfield 10, 3) := dk_180 0 10 (dk_at dksX1_first_0 10 rfl rfl)
theorem dX1_first_13 : decode cX1_first 13 = .ok (.invokevirtual 204, 3) := dk_182 0 204 (dk_at dksX1_first_0 13 rfl rfl)
theorem dX1_first_16 : decode cX1_first 16 = .ok (.pop, 1) := dk_87 (dk_at dksX1_first_0 16 rfl rfl)
theorem dX1_first_17 : decode cX1_first 17 = .ok (.iconst 0, 1) := dk_3 (dk_at dksX1_first_0 17 rfl rfl)
theorem dX1_first_18 : decode cX1_first 18 = .ok (.istore_n 2, 1) := dk_61 (dk_at dksX1_first_0 18 rfl rfl)
theorem dX1_first_19 : decode cX1_first 19 = .ok (.iload_n 2, 1) := dk_28 (dk_at dksX1_first_0 19 rfl rfl)
theorem dX1_first_20 : decode cX1_first 20 = .ok (.sipush 200, 3) := dk_17 0 200 (dk_at dksX1_first_0 20 rfl rfl)
theorem dX1_first_23 : decode cX1_first 23 = .ok (.if_icmp .gt 48, 3) := dk_163 0 48 (dk_at dksX1_first_1 0 rfl rfl)
theorem dX1_first_26 : decode cX1_first 26 = .ok (.aload_n 0, 1) := dk_42 (dk_at dksX1_first_1 3 rfl rfl)
theorem dX1_first_27 : decode cX1_first 27 = .ok (.getfield 36, 3) := dk_180 0 36 (dk_at dksX1_first_1 4 rfl rfl)
theorem dX1_first_30 : decode cX1_first 30 = .ok (.getfield 99, 3) := dk_180 0 99 (dk_at dksX1_first_1 7 rfl rfl)
theorem dX1_first_33 : decode cX1_first 33 = .ok (.iload_n 1, 1) := dk_27 (dk_at dksX1_first_1 10 rfl rfl)
theorem dX1_first_34 : decode cX1_first 34 = .ok (.iaload, 1) := dk_46 (dk_at dksX1_first_1 11 rfl rfl)
theorem dX1_first_35 : decode cX1_first 35 = .ok (.aload_n 0, 1) := dk_42 (dk_at dksX1_first_1 12 rfl rfl)
theorem dX1_first_36 : decode cX1_first 36 = .ok (.getfield 36, 3) := dk_180 0 36 (dk_at dksX1_first_1 13 rfl rfl)
theorem dX1_first_39 : decode cX1_first 39 = .ok (.aload_n 0, 1) := dk_42 (dk_at dksX1_first_1 16 rfl rfl)
theorem dX1_first_40 : decode cX1_first 40 = .ok (.getfield 36, 3) := dk_180 0 36 (dk_at dksX1_first_1 17 rfl rfl)
theorem dX1_first_43 : decode cX1_first 43 = .ok (.iload_n 1, 1) := dk_27 (dk_at dksX1_first_1 20 rfl rfl)
theorem dX1_first_44 : decode cX1_first 44 = .ok (.invokevirtual 448, 3) := dk_182 1 192 (dk_at dksX1_first_1 21 rfl rfl)
theorem dX1_first_47 : decode cX1_first 47 = .ok (.invokevirtual 451, 3) := dk_182 1 195 (dk_at dksX1_first_2 0 rfl rfl)
theorem dX1_first_50 : decode cX1_first 50 = .ok (.if_icmp .lt 5, 3) := dk_161 0 5 (dk_at dksX1_first_2 3 rfl rfl)
theorem dX1_first_53 : decode cX1_first 53 = .ok (.iload_n 2, 1) := dk_28 (dk_at dksX1_first_2 6 rfl rfl)
theorem dX1_first_54 : decode cX1_first 54 = .ok (.ireturn, 1) := dk_172 (dk_at dksX1_first_2 7 rfl rfl)
theorem dX1_first_55 : decode cX1_first 55 = .ok (.aload_n 0, 1) := dk_42 (dk_at dksX1_first_2 8 rfl rfl)
theorem dX1_first_56 : decode cX1_first 56 = .ok (.aload_n 0, 1) := dk_42 (dk_at dksX1_first_2 9 rfl rfl)
theorem dX1_first_57 : decode cX1_first 57 = .ok (.getfield 36, 3) := dk_180 0 36 (dk_at dksX1_first_2 10 rfl rfl)
theorem dX1_first_60 : decode cX1_first 60 = .ok (.iconst 0, 1) := dk_3 (dk_at dksX1_first_2 13 rfl rfl)
theorem dX1_first_61 : decode cX1_first 61 = .ok (.invokevirtual 413, 3) := dk_182 1 157 (dk_at dksX1_first_2 14 rfl rfl)
theorem dX1_first_64 : decode cX1_first 64 = .ok (.pop, 1) := dk_87 (dk_at dksX1_first_2 17 rfl rfl)
theorem dX1_first_65 : decode cX1_first 65 = .ok (.iinc 2 1, 3) := dk_132 2 1 (dk_at dksX1_first_2 18 rfl rfl)
theorem dX1_first_68 : decode cX1_first 68 = .ok (.goto (-49), 3) := dk_167 255 207 (dk_at dksX1_first_2 21 rfl rfl)
theorem dX1_first_71 : decode cX1_first 71 = .ok (.iconst (-1), 1) := dk_2 (dk_at dksX1_first_3 0 rfl rfl)
theorem dX1_first_72 : decode cX1_first 72 = .ok (.ireturn, 1) := dk_172 (dk_at dksX1_first_3 1 rfl rfl)
abbrev cX1_owes : ByteArray := prog_1_method_68_code
def yX1_owes : MethodName := ⟨RX1, "owes", "(II)Z"⟩
def dkwX1_owes_2 : List UInt8 := [167, 255, 238, 29, 28, 184, 2, 6, 172]
abbrev dktX1_owes_2 : List UInt8 := dkwX1_owes_2 ++ []
def dkwX1_owes_1 : List UInt8 := [27, 120, 62, 3, 54, 4, 21, 4, 16, 6, 162, 0, 17, 29, 42, 29, 182, 2, 16, 128, 62, 132, 4, 1]
abbrev dktX1_owes_1 : List UInt8 := dkwX1_owes_1 ++ dktX1_owes_2
def dkwX1_owes_0 : List UInt8 := [42, 27, 182, 1, 183, 42, 28, 182, 1, 183, 27, 28, 159, 0, 7, 4, 167, 0, 4, 3, 184, 1, 229, 4]
abbrev dktX1_owes_0 : List UInt8 := dkwX1_owes_0 ++ dktX1_owes_1
theorem dksX1_owes_0 : cX1_owes.data.toList.drop 0 = dktX1_owes_0 := by decide +kernel
theorem dksX1_owes_1 : cX1_owes.data.toList.drop 24 = dktX1_owes_1 := dk_seg dksX1_owes_0 24 rfl rfl
theorem dksX1_owes_2 : cX1_owes.data.toList.drop 48 = dktX1_owes_2 := dk_seg dksX1_owes_1 24 rfl rfl
theorem dX1_owes_0 : decode cX1_owes 0 = .ok (.aload_n 0, 1) := dk_42 (dk_at dksX1_owes_0 0 rfl rfl)
theorem dX1_owes_1 : decode cX1_owes 1 = .ok (.iload_n 1, 1) := dk_27 (dk_at dksX1_owes_0 1 rfl rfl)
theorem dX1_owes_2 : decode cX1_owes 2 = .ok (.invokevirtual 439, 3) := dk_182 1 183 (dk_at dksX1_owes_0 2 rfl rfl)
theorem dX1_owes_5 : decode cX1_owes 5 = .ok (.aload_n 0, 1) := dk_42 (dk_at dksX1_owes_0 5 rfl rfl)
theorem dX1_owes_6 : decode cX1_owes 6 = .ok (.iload_n 2, 1) := dk_28 (dk_at dksX1_owes_0 6 rfl rfl)
theorem dX1_owes_7 : decode cX1_owes 7 = .ok (.invokevirtual 439, 3) := dk_182 1 183 (dk_at dksX1_owes_0 7 rfl rfl)
theorem dX1_owes_10 : decode cX1_owes 10 = .ok (.iload_n 1, 1) := dk_27 (dk_at dksX1_owes_0 10 rfl rfl)
theorem dX1_owes_11 : decode cX1_owes 11 = .ok (.iload_n 2, 1) := dk_28 (dk_at dksX1_owes_0 11 rfl rfl)
theorem dX1_owes_12 : decode cX1_owes 12 = .ok (.if_icmp .eq 7, 3) := dk_159 0 7 (dk_at dksX1_owes_0 12 rfl rfl)
theorem dX1_owes_15 : decode cX1_owes 15 = .ok (.iconst 1, 1) := dk_4 (dk_at dksX1_owes_0 15 rfl rfl)
theorem dX1_owes_16 : decode cX1_owes 16 = .ok (.goto 4, 3) := dk_167 0 4 (dk_at dksX1_owes_0 16 rfl rfl)
theorem dX1_owes_19 : decode cX1_owes 19 = .ok (.iconst 0, 1) := dk_3 (dk_at dksX1_owes_0 19 rfl rfl)
theorem dX1_owes_20 : decode cX1_owes 20 = .ok (.invokestatic 485, 3) := dk_184 1 229 (dk_at dksX1_owes_0 20 rfl rfl)
theorem dX1_owes_23 : decode cX1_owes 23 = .ok (.iconst 1, 1) := dk_4 (dk_at dksX1_owes_0 23 rfl rfl)
theorem dX1_owes_24 : decode cX1_owes 24 = .ok (.iload_n 1, 1) := dk_27 (dk_at dksX1_owes_1 0 rfl rfl)
theorem dX1_owes_25 : decode cX1_owes 25 = .ok (.ishl, 1) := dk_120 (dk_at dksX1_owes_1 1 rfl rfl)
theorem dX1_owes_26 : decode cX1_owes 26 = .ok (.istore_n 3, 1) := dk_62 (dk_at dksX1_owes_1 2 rfl rfl)
theorem dX1_owes_27 : decode cX1_owes 27 = .ok (.iconst 0, 1) := dk_3 (dk_at dksX1_owes_1 3 rfl rfl)
theorem dX1_owes_28 : decode cX1_owes 28 = .ok (.istore 4, 2) := dk_54 4 (dk_at dksX1_owes_1 4 rfl rfl)
theorem dX1_owes_30 : decode cX1_owes 30 = .ok (.iload 4, 2) := dk_21 4 (dk_at dksX1_owes_1 6 rfl rfl)
theorem dX1_owes_32 : decode cX1_owes 32 = .ok (.bipush 6, 2) := dk_16 6 (dk_at dksX1_owes_1 8 rfl rfl)
theorem dX1_owes_34 : decode cX1_owes 34 = .ok (.if_icmp .ge 17, 3) := dk_162 0 17 (dk_at dksX1_owes_1 10 rfl rfl)
theorem dX1_owes_37 : decode cX1_owes 37 = .ok (.iload_n 3, 1) := dk_29 (dk_at dksX1_owes_1 13 rfl rfl)
theorem dX1_owes_38 : decode cX1_owes 38 = .ok (.aload_n 0, 1) := dk_42 (dk_at dksX1_owes_1 14 rfl rfl)
theorem dX1_owes_39 : decode cX1_owes 39 = .ok (.iload_n 3, 1) := dk_29 (dk_at dksX1_owes_1 15 rfl rfl)
theorem dX1_owes_40 : decode cX1_owes 40 = .ok (.invokevirtual 528, 3) := dk_182 2 16 (dk_at dksX1_owes_1 16 rfl rfl)
theorem dX1_owes_43 : decode cX1_owes 43 = .ok (.ior, 1) := dk_128 (dk_at dksX1_owes_1 19 rfl rfl)
theorem dX1_owes_44 : decode cX1_owes 44 = .ok (.istore_n 3, 1) := dk_62 (dk_at dksX1_owes_1 20 rfl rfl)
theorem dX1_owes_45 : decode cX1_owes 45 = .ok (.iinc 4 1, 3) := dk_132 4 1 (dk_at dksX1_owes_1 21 rfl rfl)
theorem dX1_owes_48 : decode cX1_owes 48 = .ok (.goto (-18), 3) := dk_167 255 238 (dk_at dksX1_owes_2 0 rfl rfl)
theorem dX1_owes_51 : decode cX1_owes 51 = .ok (.iload_n 3, 1) := dk_29 (dk_at dksX1_owes_2 3 rfl rfl)
theorem dX1_owes_52 : decode cX1_owes 52 = .ok (.iload_n 2, 1) := dk_28 (dk_at dksX1_owes_2 4 rfl rfl)
theorem dX1_owes_53 : decode cX1_owes 53 = .ok (.invokestatic 518, 3) := dk_184 2 6 (dk_at dksX1_owes_2 5 rfl rfl)
theorem dX1_owes_56 : decode cX1_owes 56 = .ok (.ireturn, 1) := dk_172 (dk_at dksX1_owes_2 8 rfl rfl)
abbrev cX1_lendersOf : ByteArray := prog_1_method_67_code
def yX1_lendersOf : MethodName := ⟨RX1, "lendersOf", "(I)I"⟩
def dkwX1_lendersOf_2 : List UInt8 := [180, 0, 10, 180, 1, 207, 29, 46, 120, 167, 0, 4, 3, 128, 61, 132, 3, 1, 167, 255, 195, 28, 172]
abbrev dktX1_lendersOf_2 : List UInt8 := dkwX1_lendersOf_2 ++ []
def dkwX1_lendersOf_1 : List UInt8 := [46, 5, 159, 0, 33, 27, 42, 180, 0, 10, 180, 1, 180, 29, 46, 184, 2, 6, 153, 0, 17, 4, 42]
abbrev dktX1_lendersOf_1 : List UInt8 := dkwX1_lendersOf_1 ++ dktX1_lendersOf_2
def dkwX1_lendersOf_0 : List UInt8 := [3, 61, 3, 62, 29, 42, 180, 0, 10, 180, 0, 133, 162, 0, 56, 28, 42, 180, 0, 10, 180, 1, 175, 29]
abbrev dktX1_lendersOf_0 : List UInt8 := dkwX1_lendersOf_0 ++ dktX1_lendersOf_1
theorem dksX1_lendersOf_0 : cX1_lendersOf.data.toList.drop 0 = dktX1_lendersOf_0 := by decide +kernel
theorem dksX1_lendersOf_1 : cX1_lendersOf.data.toList.drop 24 = dktX1_lendersOf_1 := dk_seg dksX1_lendersOf_0 24 rfl rfl
theorem dksX1_lendersOf_2 : cX1_lendersOf.data.toList.drop 47 = dktX1_lendersOf_2 := dk_seg dksX1_lendersOf_1 23 rfl rfl
theorem dX1_lendersOf_0 : decode cX1_lendersOf 0 = .ok (.iconst 0, 1) := dk_3 (dk_at dksX1_lendersOf_0 0 rfl rfl)
theorem dX1_lendersOf_1 : decode cX1_lendersOf 1 = .ok (.istore_n 2, 1) := dk_61 (dk_at dksX1_lendersOf_0 1 rfl rfl)
theorem dX1_lendersOf_2 : decode cX1_lendersOf 2 = .ok (.iconst 0, 1) := dk_3 (dk_at dksX1_lendersOf_0 2 rfl rfl)
theorem dX1_lendersOf_3 : decode cX1_lendersOf 3 = .ok (.istore_n 3, 1) := dk_62 (dk_at dksX1_lendersOf_0 3 rfl rfl)
theorem dX1_lendersOf_4 : decode cX1_lendersOf 4 = .ok (.iload_n 3, 1) := dk_29 (dk_at dksX1_lendersOf_0 4 rfl rfl)
theorem dX1_lendersOf_5 : decode cX1_lendersOf 5 = .ok (.aload_n 0, 1) := dk_42 (dk_at dksX1_lendersOf_0 5 rfl rfl)
theorem dX1_lendersOf_6 : decode cX1_lendersOf 6 = .ok (.getfield 10, 3) := dk_180 0 10 (dk_at dksX1_lendersOf_0 6 rfl rfl)
theorem dX1_lendersOf_9 : decode cX1_lendersOf 9 = .ok (.getfield 133, 3) := dk_180 0 133 (dk_at dksX1_lendersOf_0 9 rfl rfl)
theorem dX1_lendersOf_12 : decode cX1_lendersOf 12 = .ok (.if_icmp .ge 56, 3) := dk_162 0 56 (dk_at dksX1_lendersOf_0 12 rfl rfl)
theorem dX1_lendersOf_15 : decode cX1_lendersOf 15 = .ok (.iload_n 2, 1) := dk_28 (dk_at dksX1_lendersOf_0 15 rfl rfl)
theorem dX1_lendersOf_16 : decode cX1_lendersOf 16 = .ok (.aload_n 0, 1) := dk_42 (dk_at dksX1_lendersOf_0 16 rfl rfl)
theorem dX1_lendersOf_17 : decode cX1_lendersOf 17 = .ok (.getfield 10, 3) := dk_180 0 10 (dk_at dksX1_lendersOf_0 17 rfl rfl)
theorem dX1_lendersOf_20 : decode cX1_lendersOf 20 = .ok (.getfield 431, 3) := dk_180 1 175 (dk_at dksX1_lendersOf_0 20 rfl rfl)
theorem dX1_lendersOf_23 : decode cX1_lendersOf 23 = .ok (.iload_n 3, 1) := dk_29 (dk_at dksX1_lendersOf_0 23 rfl rfl)
theorem dX1_lendersOf_24 : decode cX1_lendersOf 24 = .ok (.iaload, 1) := dk_46 (dk_at dksX1_lendersOf_1 0 rfl rfl)
theorem dX1_lendersOf_25 : decode cX1_lendersOf 25 = .ok (.iconst 2, 1) := dk_5 (dk_at dksX1_lendersOf_1 1 rfl rfl)
theorem dX1_lendersOf_26 : decode cX1_lendersOf 26 = .ok (.if_icmp .eq 33, 3) := dk_159 0 33 (dk_at dksX1_lendersOf_1 2 rfl rfl)
theorem dX1_lendersOf_29 : decode cX1_lendersOf 29 = .ok (.iload_n 1, 1) := dk_27 (dk_at dksX1_lendersOf_1 5 rfl rfl)
theorem dX1_lendersOf_30 : decode cX1_lendersOf 30 = .ok (.aload_n 0, 1) := dk_42 (dk_at dksX1_lendersOf_1 6 rfl rfl)
theorem dX1_lendersOf_31 : decode cX1_lendersOf 31 = .ok (.getfield 10, 3) := dk_180 0 10 (dk_at dksX1_lendersOf_1 7 rfl rfl)
theorem dX1_lendersOf_34 : decode cX1_lendersOf 34 = .ok (.getfield 436, 3) := dk_180 1 180 (dk_at dksX1_lendersOf_1 10 rfl rfl)
theorem dX1_lendersOf_37 : decode cX1_lendersOf 37 = .ok (.iload_n 3, 1) := dk_29 (dk_at dksX1_lendersOf_1 13 rfl rfl)
theorem dX1_lendersOf_38 : decode cX1_lendersOf 38 = .ok (.iaload, 1) := dk_46 (dk_at dksX1_lendersOf_1 14 rfl rfl)
theorem dX1_lendersOf_39 : decode cX1_lendersOf 39 = .ok (.invokestatic 518, 3) := dk_184 2 6 (dk_at dksX1_lendersOf_1 15 rfl rfl)
theorem dX1_lendersOf_42 : decode cX1_lendersOf 42 = .ok (.ifCond .eq 17, 3) := dk_153 0 17 (dk_at dksX1_lendersOf_1 18 rfl rfl)
theorem dX1_lendersOf_45 : decode cX1_lendersOf 45 = .ok (.iconst 1, 1) := dk_4 (dk_at dksX1_lendersOf_1 21 rfl rfl)
theorem dX1_lendersOf_46 : decode cX1_lendersOf 46 = .ok (.aload_n 0, 1) := dk_42 (dk_at dksX1_lendersOf_1 22 rfl rfl)
theorem dX1_lendersOf_47 : decode cX1_lendersOf 47 = .ok (.getfield 10, 3) := dk_180 0 10 (dk_at dksX1_lendersOf_2 0 rfl rfl)
theorem dX1_lendersOf_50 : decode cX1_lendersOf 50 = .ok (.getfield 463, 3) := dk_180 1 207 (dk_at dksX1_lendersOf_2 3 rfl rfl)
theorem dX1_lendersOf_53 : decode cX1_lendersOf 53 = .ok (.iload_n 3, 1) := dk_29 (dk_at dksX1_lendersOf_2 6 rfl rfl)
theorem dX1_lendersOf_54 : decode cX1_lendersOf 54 = .ok (.iaload, 1) := dk_46 (dk_at dksX1_lendersOf_2 7 rfl rfl)
theorem dX1_lendersOf_55 : decode cX1_lendersOf 55 = .ok (.ishl, 1) := dk_120 (dk_at dksX1_lendersOf_2 8 rfl rfl)
theorem dX1_lendersOf_56 : decode cX1_lendersOf 56 = .ok (.goto 4, 3) := dk_167 0 4 (dk_at dksX1_lendersOf_2 9 rfl rfl)
theorem dX1_lendersOf_59 : decode cX1_lendersOf 59 = .ok (.iconst 0, 1) := dk_3 (dk_at dksX1_lendersOf_2 12 rfl rfl)
theorem dX1_lendersOf_60 : decode cX1_lendersOf 60 = .ok (.ior, 1) := dk_128 (dk_at dksX1_lendersOf_2 13 rfl rfl)
theorem dX1_lendersOf_61 : decode cX1_lendersOf 61 = .ok (.istore_n 2, 1) := dk_61 (dk_at dksX1_lendersOf_2 14 rfl rfl)
theorem dX1_lendersOf_62 : decode cX1_lendersOf 62 = .ok (.iinc 3 1, 3) := dk_132 3 1 (dk_at dksX1_lendersOf_2 15 rfl rfl)
theorem dX1_lendersOf_65 : decode cX1_lendersOf 65 = .ok (.goto (-61), 3) := dk_167 255 195 (dk_at dksX1_lendersOf_2 18 rfl rfl)
theorem dX1_lendersOf_68 : decode cX1_lendersOf 68 = .ok (.iload_n 2, 1) := dk_28 (dk_at dksX1_lendersOf_2 21 rfl rfl)
theorem dX1_lendersOf_69 : decode cX1_lendersOf 69 = .ok (.ireturn, 1) := dk_172 (dk_at dksX1_lendersOf_2 22 rfl rfl)
abbrev cX1_rests : ByteArray := prog_1_method_71_code
def yX1_rests : MethodName := ⟨RX1, "rests", "(III)I"⟩
def dkwX1_rests_5 : List UInt8 := [167, 255, 187, 132, 5, 1, 167, 255, 172, 21, 4, 172]
abbrev dktX1_rests_5 : List UInt8 := dkwX1_rests_5 ++ []
def dkwX1_rests_4 : List UInt8 := [100, 182, 2, 23, 161, 0, 17, 21, 4, 4, 5, 21, 5, 104, 21, 6, 96, 120, 128, 54, 4, 132, 6, 1]
abbrev dktX1_rests_4 : List UInt8 := dkwX1_rests_4 ++ dktX1_rests_5
def dkwX1_rests_3 : List UInt8 := [184, 2, 19, 161, 0, 42, 42, 28, 29, 21, 5, 21, 6, 182, 2, 23, 42, 28, 29, 21, 5, 4, 21, 6]
abbrev dktX1_rests_3 : List UInt8 := dkwX1_rests_3 ++ dktX1_rests_4
def dkwX1_rests_2 : List UInt8 := [54, 6, 21, 6, 5, 162, 0, 69, 29, 21, 5, 21, 6, 184, 2, 19, 29, 4, 21, 5, 100, 21, 6]
abbrev dktX1_rests_2 : List UInt8 := dkwX1_rests_2 ++ dktX1_rests_3
def dkwX1_rests_1 : List UInt8 := [153, 0, 7, 4, 167, 0, 4, 3, 184, 1, 229, 3, 54, 4, 3, 54, 5, 21, 5, 5, 162, 0, 84, 3]
abbrev dktX1_rests_1 : List UInt8 := dkwX1_rests_1 ++ dktX1_rests_2
def dkwX1_rests_0 : List UInt8 := [42, 27, 182, 1, 183, 42, 28, 182, 1, 183, 27, 28, 159, 0, 17, 29, 4, 16, 40, 184, 1, 160]
abbrev dktX1_rests_0 : List UInt8 := dkwX1_rests_0 ++ dktX1_rests_1
theorem dksX1_rests_0 : cX1_rests.data.toList.drop 0 = dktX1_rests_0 := by decide +kernel
theorem dksX1_rests_1 : cX1_rests.data.toList.drop 22 = dktX1_rests_1 := dk_seg dksX1_rests_0 22 rfl rfl
theorem dksX1_rests_2 : cX1_rests.data.toList.drop 46 = dktX1_rests_2 := dk_seg dksX1_rests_1 24 rfl rfl
theorem dksX1_rests_3 : cX1_rests.data.toList.drop 69 = dktX1_rests_3 := dk_seg dksX1_rests_2 23 rfl rfl
theorem dksX1_rests_4 : cX1_rests.data.toList.drop 93 = dktX1_rests_4 := dk_seg dksX1_rests_3 24 rfl rfl
theorem dksX1_rests_5 : cX1_rests.data.toList.drop 117 = dktX1_rests_5 := dk_seg dksX1_rests_4 24 rfl rfl
theorem dX1_rests_0 : decode cX1_rests 0 = .ok (.aload_n 0, 1) := dk_42 (dk_at dksX1_rests_0 0 rfl rfl)
theorem dX1_rests_1 : decode cX1_rests 1 = .ok (.iload_n 1, 1) := dk_27 (dk_at dksX1_rests_0 1 rfl rfl)
theorem dX1_rests_2 : decode cX1_rests 2 = .ok (.invokevirtual 439, 3) := dk_182 1 183 (dk_at dksX1_rests_0 2 rfl rfl)
theorem dX1_rests_5 : decode cX1_rests 5 = .ok (.aload_n 0, 1) := dk_42 (dk_at dksX1_rests_0 5 rfl rfl)
theorem dX1_rests_6 : decode cX1_rests 6 = .ok (.iload_n 2, 1) := dk_28 (dk_at dksX1_rests_0 6 rfl rfl)
theorem dX1_rests_7 : decode cX1_rests 7 = .ok (.invokevirtual 439, 3) := dk_182 1 183 (dk_at dksX1_rests_0 7 rfl rfl)
theorem dX1_rests_10 : decode cX1_rests 10 = .ok (.iload_n 1, 1) := dk_27 (dk_at dksX1_rests_0 10 rfl rfl)
theorem dX1_rests_11 : decode cX1_rests 11 = .ok (.iload_n 2, 1) := dk_28 (dk_at dksX1_rests_0 11 rfl rfl)
theorem dX1_rests_12 : decode cX1_rests 12 = .ok (.if_icmp .eq 17, 3) := dk_159 0 17 (dk_at dksX1_rests_0 12 rfl rfl)
theorem dX1_rests_15 : decode cX1_rests 15 = .ok (.iload_n 3, 1) := dk_29 (dk_at dksX1_rests_0 15 rfl rfl)
theorem dX1_rests_16 : decode cX1_rests 16 = .ok (.iconst 1, 1) := dk_4 (dk_at dksX1_rests_0 16 rfl rfl)
theorem dX1_rests_17 : decode cX1_rests 17 = .ok (.bipush 40, 2) := dk_16 40 (dk_at dksX1_rests_0 17 rfl rfl)
theorem dX1_rests_19 : decode cX1_rests 19 = .ok (.invokestatic 416, 3) := dk_184 1 160 (dk_at dksX1_rests_0 19 rfl rfl)
theorem dX1_rests_22 : decode cX1_rests 22 = .ok (.ifCond .eq 7, 3) := dk_153 0 7 (dk_at dksX1_rests_1 0 rfl rfl)
theorem dX1_rests_25 : decode cX1_rests 25 = .ok (.iconst 1, 1) := dk_4 (dk_at dksX1_rests_1 3 rfl rfl)
theorem dX1_rests_26 : decode cX1_rests 26 = .ok (.goto 4, 3) := dk_167 0 4 (dk_at dksX1_rests_1 4 rfl rfl)
theorem dX1_rests_29 : decode cX1_rests 29 = .ok (.iconst 0, 1) := dk_3 (dk_at dksX1_rests_1 7 rfl rfl)
theorem dX1_rests_30 : decode cX1_rests 30 = .ok (.invokestatic 485, 3) := dk_184 1 229 (dk_at dksX1_rests_1 8 rfl rfl)
theorem dX1_rests_33 : decode cX1_rests 33 = .ok (.iconst 0, 1) := dk_3 (dk_at dksX1_rests_1 11 rfl rfl)
theorem dX1_rests_34 : decode cX1_rests 34 = .ok (.istore 4, 2) := dk_54 4 (dk_at dksX1_rests_1 12 rfl rfl)
theorem dX1_rests_36 : decode cX1_rests 36 = .ok (.iconst 0, 1) := dk_3 (dk_at dksX1_rests_1 14 rfl rfl)
theorem dX1_rests_37 : decode cX1_rests 37 = .ok (.istore 5, 2) := dk_54 5 (dk_at dksX1_rests_1 15 rfl rfl)
theorem dX1_rests_39 : decode cX1_rests 39 = .ok (.iload 5, 2) := dk_21 5 (dk_at dksX1_rests_1 17 rfl rfl)
theorem dX1_rests_41 : decode cX1_rests 41 = .ok (.iconst 2, 1) := dk_5 (dk_at dksX1_rests_1 19 rfl rfl)
theorem dX1_rests_42 : decode cX1_rests 42 = .ok (.if_icmp .ge 84, 3) := dk_162 0 84 (dk_at dksX1_rests_1 20 rfl rfl)
theorem dX1_rests_45 : decode cX1_rests 45 = .ok (.iconst 0, 1) := dk_3 (dk_at dksX1_rests_1 23 rfl rfl)
theorem dX1_rests_46 : decode cX1_rests 46 = .ok (.istore 6, 2) := dk_54 6 (dk_at dksX1_rests_2 0 rfl rfl)
theorem dX1_rests_48 : decode cX1_rests 48 = .ok (.iload 6, 2) := dk_21 6 (dk_at dksX1_rests_2 2 rfl rfl)
theorem dX1_rests_50 : decode cX1_rests 50 = .ok (.iconst 2, 1) := dk_5 (dk_at dksX1_rests_2 4 rfl rfl)
theorem dX1_rests_51 : decode cX1_rests 51 = .ok (.if_icmp .ge 69, 3) := dk_162 0 69 (dk_at dksX1_rests_2 5 rfl rfl)
theorem dX1_rests_54 : decode cX1_rests 54 = .ok (.iload_n 3, 1) := dk_29 (dk_at dksX1_rests_2 8 rfl rfl)
theorem dX1_rests_55 : decode cX1_rests 55 = .ok (.iload 5, 2) := dk_21 5 (dk_at dksX1_rests_2 9 rfl rfl)
theorem dX1_rests_57 : decode cX1_rests 57 = .ok (.iload 6, 2) := dk_21 6 (dk_at dksX1_rests_2 11 rfl rfl)
theorem dX1_rests_59 : decode cX1_rests 59 = .ok (.invokestatic 531, 3) := dk_184 2 19 (dk_at dksX1_rests_2 13 rfl rfl)
theorem dX1_rests_62 : decode cX1_rests 62 = .ok (.iload_n 3, 1) := dk_29 (dk_at dksX1_rests_2 16 rfl rfl)
theorem dX1_rests_63 : decode cX1_rests 63 = .ok (.iconst 1, 1) := dk_4 (dk_at dksX1_rests_2 17 rfl rfl)
theorem dX1_rests_64 : decode cX1_rests 64 = .ok (.iload 5, 2) := dk_21 5 (dk_at dksX1_rests_2 18 rfl rfl)
theorem dX1_rests_66 : decode cX1_rests 66 = .ok (.isub, 1) := dk_100 (dk_at dksX1_rests_2 20 rfl rfl)
theorem dX1_rests_67 : decode cX1_rests 67 = .ok (.iload 6, 2) := dk_21 6 (dk_at dksX1_rests_2 21 rfl rfl)
theorem dX1_rests_69 : decode cX1_rests 69 = .ok (.invokestatic 531, 3) := dk_184 2 19 (dk_at dksX1_rests_3 0 rfl rfl)
theorem dX1_rests_72 : decode cX1_rests 72 = .ok (.if_icmp .lt 42, 3) := dk_161 0 42 (dk_at dksX1_rests_3 3 rfl rfl)
theorem dX1_rests_75 : decode cX1_rests 75 = .ok (.aload_n 0, 1) := dk_42 (dk_at dksX1_rests_3 6 rfl rfl)
theorem dX1_rests_76 : decode cX1_rests 76 = .ok (.iload_n 2, 1) := dk_28 (dk_at dksX1_rests_3 7 rfl rfl)
theorem dX1_rests_77 : decode cX1_rests 77 = .ok (.iload_n 3, 1) := dk_29 (dk_at dksX1_rests_3 8 rfl rfl)
theorem dX1_rests_78 : decode cX1_rests 78 = .ok (.iload 5, 2) := dk_21 5 (dk_at dksX1_rests_3 9 rfl rfl)
theorem dX1_rests_80 : decode cX1_rests 80 = .ok (.iload 6, 2) := dk_21 6 (dk_at dksX1_rests_3 11 rfl rfl)
theorem dX1_rests_82 : decode cX1_rests 82 = .ok (.invokevirtual 535, 3) := dk_182 2 23 (dk_at dksX1_rests_3 13 rfl rfl)
theorem dX1_rests_85 : decode cX1_rests 85 = .ok (.aload_n 0, 1) := dk_42 (dk_at dksX1_rests_3 16 rfl rfl)
theorem dX1_rests_86 : decode cX1_rests 86 = .ok (.iload_n 2, 1) := dk_28 (dk_at dksX1_rests_3 17 rfl rfl)
theorem dX1_rests_87 : decode cX1_rests 87 = .ok (.iload_n 3, 1) := dk_29 (dk_at dksX1_rests_3 18 rfl rfl)
theorem dX1_rests_88 : decode cX1_rests 88 = .ok (.iload 5, 2) := dk_21 5 (dk_at dksX1_rests_3 19 rfl rfl)
theorem dX1_rests_90 : decode cX1_rests 90 = .ok (.iconst 1, 1) := dk_4 (dk_at dksX1_rests_3 21 rfl rfl)
theorem dX1_rests_91 : decode cX1_rests 91 = .ok (.iload 6, 2) := dk_21 6 (dk_at dksX1_rests_3 22 rfl rfl)
theorem dX1_rests_93 : decode cX1_rests 93 = .ok (.isub, 1) := dk_100 (dk_at dksX1_rests_4 0 rfl rfl)
theorem dX1_rests_94 : decode cX1_rests 94 = .ok (.invokevirtual 535, 3) := dk_182 2 23 (dk_at dksX1_rests_4 1 rfl rfl)
theorem dX1_rests_97 : decode cX1_rests 97 = .ok (.if_icmp .lt 17, 3) := dk_161 0 17 (dk_at dksX1_rests_4 4 rfl rfl)
theorem dX1_rests_100 : decode cX1_rests 100 = .ok (.iload 4, 2) := dk_21 4 (dk_at dksX1_rests_4 7 rfl rfl)
theorem dX1_rests_102 : decode cX1_rests 102 = .ok (.iconst 1, 1) := dk_4 (dk_at dksX1_rests_4 9 rfl rfl)
theorem dX1_rests_103 : decode cX1_rests 103 = .ok (.iconst 2, 1) := dk_5 (dk_at dksX1_rests_4 10 rfl rfl)
theorem dX1_rests_104 : decode cX1_rests 104 = .ok (.iload 5, 2) := dk_21 5 (dk_at dksX1_rests_4 11 rfl rfl)
theorem dX1_rests_106 : decode cX1_rests 106 = .ok (.imul, 1) := dk_104 (dk_at dksX1_rests_4 13 rfl rfl)
theorem dX1_rests_107 : decode cX1_rests 107 = .ok (.iload 6, 2) := dk_21 6 (dk_at dksX1_rests_4 14 rfl rfl)
theorem dX1_rests_109 : decode cX1_rests 109 = .ok (.iadd, 1) := dk_96 (dk_at dksX1_rests_4 16 rfl rfl)
theorem dX1_rests_110 : decode cX1_rests 110 = .ok (.ishl, 1) := dk_120 (dk_at dksX1_rests_4 17 rfl rfl)
theorem dX1_rests_111 : decode cX1_rests 111 = .ok (.ior, 1) := dk_128 (dk_at dksX1_rests_4 18 rfl rfl)
theorem dX1_rests_112 : decode cX1_rests 112 = .ok (.istore 4, 2) := dk_54 4 (dk_at dksX1_rests_4 19 rfl rfl)
theorem dX1_rests_114 : decode cX1_rests 114 = .ok (.iinc 6 1, 3) := dk_132 6 1 (dk_at dksX1_rests_4 21 rfl rfl)
theorem dX1_rests_117 : decode cX1_rests 117 = .ok (.goto (-69), 3) := dk_167 255 187 (dk_at dksX1_rests_5 0 rfl rfl)
theorem dX1_rests_120 : decode cX1_rests 120 = .ok (.iinc 5 1, 3) := dk_132 5 1 (dk_at dksX1_rests_5 3 rfl rfl)
theorem dX1_rests_123 : decode cX1_rests 123 = .ok (.goto (-84), 3) := dk_167 255 172 (dk_at dksX1_rests_5 6 rfl rfl)
theorem dX1_rests_126 : decode cX1_rests 126 = .ok (.iload 4, 2) := dk_21 4 (dk_at dksX1_rests_5 9 rfl rfl)
theorem dX1_rests_128 : decode cX1_rests 128 = .ok (.ireturn, 1) := dk_172 (dk_at dksX1_rests_5 11 rfl rfl)
abbrev cX1_lenderHas : ByteArray := prog_1_method_69_code
def yX1_lenderHas : MethodName := ⟨RX1, "lenderHas", "(III)I"⟩
def dkwX1_lenderHas_0 : List UInt8 := [27, 154, 0, 7, 26, 167, 0, 6, 26, 5, 108, 62, 28, 4, 160, 0, 8, 29, 116, 167, 0, 4, 29, 172]
abbrev dktX1_lenderHas_0 : List UInt8 := dkwX1_lenderHas_0 ++ []
theorem dksX1_lenderHas_0 : cX1_lenderHas.data.toList.drop 0 = dktX1_lenderHas_0 := by decide +kernel
theorem dX1_lenderHas_0 : decode cX1_lenderHas 0 = .ok (.iload_n 1, 1) := dk_27 (dk_at dksX1_lenderHas_0 0 rfl rfl)
theorem dX1_lenderHas_1 : decode cX1_lenderHas 1 = .ok (.ifCond .ne 7, 3) := dk_154 0 7 (dk_at dksX1_lenderHas_0 1 rfl rfl)
theorem dX1_lenderHas_4 : decode cX1_lenderHas 4 = .ok (.iload_n 0, 1) := dk_26 (dk_at dksX1_lenderHas_0 4 rfl rfl)
theorem dX1_lenderHas_5 : decode cX1_lenderHas 5 = .ok (.goto 6, 3) := dk_167 0 6 (dk_at dksX1_lenderHas_0 5 rfl rfl)
theorem dX1_lenderHas_8 : decode cX1_lenderHas 8 = .ok (.iload_n 0, 1) := dk_26 (dk_at dksX1_lenderHas_0 8 rfl rfl)
theorem dX1_lenderHas_9 : decode cX1_lenderHas 9 = .ok (.iconst 2, 1) := dk_5 (dk_at dksX1_lenderHas_0 9 rfl rfl)
theorem dX1_lenderHas_10 : decode cX1_lenderHas 10 = .ok (.idiv, 1) := dk_108 (dk_at dksX1_lenderHas_0 10 rfl rfl)
theorem dX1_lenderHas_11 : decode cX1_lenderHas 11 = .ok (.istore_n 3, 1) := dk_62 (dk_at dksX1_lenderHas_0 11 rfl rfl)
theorem dX1_lenderHas_12 : decode cX1_lenderHas 12 = .ok (.iload_n 2, 1) := dk_28 (dk_at dksX1_lenderHas_0 12 rfl rfl)
theorem dX1_lenderHas_13 : decode cX1_lenderHas 13 = .ok (.iconst 1, 1) := dk_4 (dk_at dksX1_lenderHas_0 13 rfl rfl)
theorem dX1_lenderHas_14 : decode cX1_lenderHas 14 = .ok (.if_icmp .ne 8, 3) := dk_160 0 8 (dk_at dksX1_lenderHas_0 14 rfl rfl)
theorem dX1_lenderHas_17 : decode cX1_lenderHas 17 = .ok (.iload_n 3, 1) := dk_29 (dk_at dksX1_lenderHas_0 17 rfl rfl)
theorem dX1_lenderHas_18 : decode cX1_lenderHas 18 = .ok (.ineg, 1) := dk_116 (dk_at dksX1_lenderHas_0 18 rfl rfl)
theorem dX1_lenderHas_19 : decode cX1_lenderHas 19 = .ok (.goto 4, 3) := dk_167 0 4 (dk_at dksX1_lenderHas_0 19 rfl rfl)
theorem dX1_lenderHas_22 : decode cX1_lenderHas 22 = .ok (.iload_n 3, 1) := dk_29 (dk_at dksX1_lenderHas_0 22 rfl rfl)
theorem dX1_lenderHas_23 : decode cX1_lenderHas 23 = .ok (.ireturn, 1) := dk_172 (dk_at dksX1_lenderHas_0 23 rfl rfl)
abbrev cX1_debtorHas : ByteArray := prog_1_method_70_code
def yX1_debtorHas : MethodName := ⟨RX1, "debtorHas", "(IIII)I"⟩
def dkwX1_debtorHas_1 : List UInt8 := [27, 182, 1, 81, 100, 29, 154, 0, 7, 28, 167, 0, 6, 28, 5, 108, 100, 172]
abbrev dktX1_debtorHas_1 : List UInt8 := dkwX1_debtorHas_1 ++ []
def dkwX1_debtorHas_0 : List UInt8 := [21, 4, 4, 160, 0, 8, 16, 246, 167, 0, 33, 42, 180, 0, 10, 180, 0, 102, 27, 46, 42, 180, 0, 10]
abbrev dktX1_debtorHas_0 : List UInt8 := dkwX1_debtorHas_0 ++ dktX1_debtorHas_1
theorem dksX1_debtorHas_0 : cX1_debtorHas.data.toList.drop 0 = dktX1_debtorHas_0 := by decide +kernel
theorem dksX1_debtorHas_1 : cX1_debtorHas.data.toList.drop 24 = dktX1_debtorHas_1 := dk_seg dksX1_debtorHas_0 24 rfl rfl
theorem dX1_debtorHas_0 : decode cX1_debtorHas 0 = .ok (.iload 4, 2) := dk_21 4 (dk_at dksX1_debtorHas_0 0 rfl rfl)
theorem dX1_debtorHas_2 : decode cX1_debtorHas 2 = .ok (.iconst 1, 1) := dk_4 (dk_at dksX1_debtorHas_0 2 rfl rfl)
theorem dX1_debtorHas_3 : decode cX1_debtorHas 3 = .ok (.if_icmp .ne 8, 3) := dk_160 0 8 (dk_at dksX1_debtorHas_0 3 rfl rfl)
theorem dX1_debtorHas_6 : decode cX1_debtorHas 6 = .ok (.bipush (-10), 2) := dk_16 246 (dk_at dksX1_debtorHas_0 6 rfl rfl)
theorem dX1_debtorHas_8 : decode cX1_debtorHas 8 = .ok (.goto 33, 3) := dk_167 0 33 (dk_at dksX1_debtorHas_0 8 rfl rfl)
theorem dX1_debtorHas_11 : decode cX1_debtorHas 11 = .ok (.aload_n 0, 1) := dk_42 (dk_at dksX1_debtorHas_0 11 rfl rfl)
theorem dX1_debtorHas_12 : decode cX1_debtorHas 12 = .ok (.getfield 10, 3) := dk_180 0 10 (dk_at dksX1_debtorHas_0 12 rfl rfl)
theorem dX1_debtorHas_15 : decode cX1_debtorHas 15 = .ok (.getfield 102, 3) := dk_180 0 102 (dk_at dksX1_debtorHas_0 15 rfl rfl)
theorem dX1_debtorHas_18 : decode cX1_debtorHas 18 = .ok (.iload_n 1, 1) := dk_27 (dk_at dksX1_debtorHas_0 18 rfl rfl)
theorem dX1_debtorHas_19 : decode cX1_debtorHas 19 = .ok (.iaload, 1) := dk_46 (dk_at dksX1_debtorHas_0 19 rfl rfl)
theorem dX1_debtorHas_20 : decode cX1_debtorHas 20 = .ok (.aload_n 0, 1) := dk_42 (dk_at dksX1_debtorHas_0 20 rfl rfl)
theorem dX1_debtorHas_21 : decode cX1_debtorHas 21 = .ok (.getfield 10, 3) := dk_180 0 10 (dk_at dksX1_debtorHas_0 21 rfl rfl)
theorem dX1_debtorHas_24 : decode cX1_debtorHas 24 = .ok (.iload_n 1, 1) := dk_27 (dk_at dksX1_debtorHas_1 0 rfl rfl)
theorem dX1_debtorHas_25 : decode cX1_debtorHas 25 = .ok (.invokevirtual 337, 3) := dk_182 1 81 (dk_at dksX1_debtorHas_1 1 rfl rfl)
theorem dX1_debtorHas_28 : decode cX1_debtorHas 28 = .ok (.isub, 1) := dk_100 (dk_at dksX1_debtorHas_1 4 rfl rfl)
theorem dX1_debtorHas_29 : decode cX1_debtorHas 29 = .ok (.iload_n 3, 1) := dk_29 (dk_at dksX1_debtorHas_1 5 rfl rfl)
theorem dX1_debtorHas_30 : decode cX1_debtorHas 30 = .ok (.ifCond .ne 7, 3) := dk_154 0 7 (dk_at dksX1_debtorHas_1 6 rfl rfl)
theorem dX1_debtorHas_33 : decode cX1_debtorHas 33 = .ok (.iload_n 2, 1) := dk_28 (dk_at dksX1_debtorHas_1 9 rfl rfl)
theorem dX1_debtorHas_34 : decode cX1_debtorHas 34 = .ok (.goto 6, 3) := dk_167 0 6 (dk_at dksX1_debtorHas_1 10 rfl rfl)
theorem dX1_debtorHas_37 : decode cX1_debtorHas 37 = .ok (.iload_n 2, 1) := dk_28 (dk_at dksX1_debtorHas_1 13 rfl rfl)
theorem dX1_debtorHas_38 : decode cX1_debtorHas 38 = .ok (.iconst 2, 1) := dk_5 (dk_at dksX1_debtorHas_1 14 rfl rfl)
theorem dX1_debtorHas_39 : decode cX1_debtorHas 39 = .ok (.idiv, 1) := dk_108 (dk_at dksX1_debtorHas_1 15 rfl rfl)
theorem dX1_debtorHas_40 : decode cX1_debtorHas 40 = .ok (.isub, 1) := dk_100 (dk_at dksX1_debtorHas_1 16 rfl rfl)
theorem dX1_debtorHas_41 : decode cX1_debtorHas 41 = .ok (.ireturn, 1) := dk_172 (dk_at dksX1_debtorHas_1 17 rfl rfl)
abbrev cX1_scales : ByteArray := prog_1_method_76_code
def yX1_scales : MethodName := ⟨RX1, "scales", "(Z)I"⟩
def dkwX1_scales_2 : List UInt8 := [120, 167, 0, 4, 3, 128, 61, 132, 3, 1, 167, 255, 224, 28, 172]
abbrev dktX1_scales_2 : List UInt8 := dkwX1_scales_2 ++ []
def dkwX1_scales_1 : List UInt8 := [3, 62, 29, 42, 180, 0, 10, 180, 0, 133, 162, 0, 27, 28, 42, 29, 182, 2, 45, 153, 0, 9, 4, 29]
abbrev dktX1_scales_1 : List UInt8 := dkwX1_scales_1 ++ dktX1_scales_2
def dkwX1_scales_0 : List UInt8 := [42, 182, 2, 42, 27, 153, 0, 17, 42, 2, 182, 2, 45, 153, 0, 7, 4, 167, 0, 4, 3, 172, 3, 61]
abbrev dktX1_scales_0 : List UInt8 := dkwX1_scales_0 ++ dktX1_scales_1
theorem dksX1_scales_0 : cX1_scales.data.toList.drop 0 = dktX1_scales_0 := by decide +kernel
theorem dksX1_scales_1 : cX1_scales.data.toList.drop 24 = dktX1_scales_1 := dk_seg dksX1_scales_0 24 rfl rfl
theorem dksX1_scales_2 : cX1_scales.data.toList.drop 48 = dktX1_scales_2 := dk_seg dksX1_scales_1 24 rfl rfl
theorem dX1_scales_0 : decode cX1_scales 0 = .ok (.aload_n 0, 1) := dk_42 (dk_at dksX1_scales_0 0 rfl rfl)
theorem dX1_scales_1 : decode cX1_scales 1 = .ok (.invokevirtual 554, 3) := dk_182 2 42 (dk_at dksX1_scales_0 1 rfl rfl)
theorem dX1_scales_4 : decode cX1_scales 4 = .ok (.iload_n 1, 1) := dk_27 (dk_at dksX1_scales_0 4 rfl rfl)
theorem dX1_scales_5 : decode cX1_scales 5 = .ok (.ifCond .eq 17, 3) := dk_153 0 17 (dk_at dksX1_scales_0 5 rfl rfl)
theorem dX1_scales_8 : decode cX1_scales 8 = .ok (.aload_n 0, 1) := dk_42 (dk_at dksX1_scales_0 8 rfl rfl)
theorem dX1_scales_9 : decode cX1_scales 9 = .ok (.iconst (-1), 1) := dk_2 (dk_at dksX1_scales_0 9 rfl rfl)
theorem dX1_scales_10 : decode cX1_scales 10 = .ok (.invokevirtual 557, 3) := dk_182 2 45 (dk_at dksX1_scales_0 10 rfl rfl)
theorem dX1_scales_13 : decode cX1_scales 13 = .ok (.ifCond .eq 7, 3) := dk_153 0 7 (dk_at dksX1_scales_0 13 rfl rfl)
theorem dX1_scales_16 : decode cX1_scales 16 = .ok (.iconst 1, 1) := dk_4 (dk_at dksX1_scales_0 16 rfl rfl)
theorem dX1_scales_17 : decode cX1_scales 17 = .ok (.goto 4, 3) := dk_167 0 4 (dk_at dksX1_scales_0 17 rfl rfl)
theorem dX1_scales_20 : decode cX1_scales 20 = .ok (.iconst 0, 1) := dk_3 (dk_at dksX1_scales_0 20 rfl rfl)
theorem dX1_scales_21 : decode cX1_scales 21 = .ok (.ireturn, 1) := dk_172 (dk_at dksX1_scales_0 21 rfl rfl)
theorem dX1_scales_22 : decode cX1_scales 22 = .ok (.iconst 0, 1) := dk_3 (dk_at dksX1_scales_0 22 rfl rfl)
theorem dX1_scales_23 : decode cX1_scales 23 = .ok (.istore_n 2, 1) := dk_61 (dk_at dksX1_scales_0 23 rfl rfl)
theorem dX1_scales_24 : decode cX1_scales 24 = .ok (.iconst 0, 1) := dk_3 (dk_at dksX1_scales_1 0 rfl rfl)
theorem dX1_scales_25 : decode cX1_scales 25 = .ok (.istore_n 3, 1) := dk_62 (dk_at dksX1_scales_1 1 rfl rfl)
theorem dX1_scales_26 : decode cX1_scales 26 = .ok (.iload_n 3, 1) := dk_29 (dk_at dksX1_scales_1 2 rfl rfl)
theorem dX1_scales_27 : decode cX1_scales 27 = .ok (.aload_n 0, 1) := dk_42 (dk_at dksX1_scales_1 3 rfl rfl)
theorem dX1_scales_28 : decode cX1_scales 28 = .ok (.getfield 10, 3) := dk_180 0 10 (dk_at dksX1_scales_1 4 rfl rfl)
theorem dX1_scales_31 : decode cX1_scales 31 = .ok (.getfield 133, 3) := dk_180 0 133 (dk_at dksX1_scales_1 7 rfl rfl)
theorem dX1_scales_34 : decode cX1_scales 34 = .ok (.if_icmp .ge 27, 3) := dk_162 0 27 (dk_at dksX1_scales_1 10 rfl rfl)
theorem dX1_scales_37 : decode cX1_scales 37 = .ok (.iload_n 2, 1) := dk_28 (dk_at dksX1_scales_1 13 rfl rfl)
theorem dX1_scales_38 : decode cX1_scales 38 = .ok (.aload_n 0, 1) := dk_42 (dk_at dksX1_scales_1 14 rfl rfl)
theorem dX1_scales_39 : decode cX1_scales 39 = .ok (.iload_n 3, 1) := dk_29 (dk_at dksX1_scales_1 15 rfl rfl)
theorem dX1_scales_40 : decode cX1_scales 40 = .ok (.invokevirtual 557, 3) := dk_182 2 45 (dk_at dksX1_scales_1 16 rfl rfl)
theorem dX1_scales_43 : decode cX1_scales 43 = .ok (.ifCond .eq 9, 3) := dk_153 0 9 (dk_at dksX1_scales_1 19 rfl rfl)
theorem dX1_scales_46 : decode cX1_scales 46 = .ok (.iconst 1, 1) := dk_4 (dk_at dksX1_scales_1 22 rfl rfl)
theorem dX1_scales_47 : decode cX1_scales 47 = .ok (.iload_n 3, 1) := dk_29 (dk_at dksX1_scales_1 23 rfl rfl)
theorem dX1_scales_48 : decode cX1_scales 48 = .ok (.ishl, 1) := dk_120 (dk_at dksX1_scales_2 0 rfl rfl)
theorem dX1_scales_49 : decode cX1_scales 49 = .ok (.goto 4, 3) := dk_167 0 4 (dk_at dksX1_scales_2 1 rfl rfl)
theorem dX1_scales_52 : decode cX1_scales 52 = .ok (.iconst 0, 1) := dk_3 (dk_at dksX1_scales_2 4 rfl rfl)
theorem dX1_scales_53 : decode cX1_scales 53 = .ok (.ior, 1) := dk_128 (dk_at dksX1_scales_2 5 rfl rfl)
theorem dX1_scales_54 : decode cX1_scales 54 = .ok (.istore_n 2, 1) := dk_61 (dk_at dksX1_scales_2 6 rfl rfl)
theorem dX1_scales_55 : decode cX1_scales 55 = .ok (.iinc 3 1, 3) := dk_132 3 1 (dk_at dksX1_scales_2 7 rfl rfl)
theorem dX1_scales_58 : decode cX1_scales 58 = .ok (.goto (-32), 3) := dk_167 255 224 (dk_at dksX1_scales_2 10 rfl rfl)
theorem dX1_scales_61 : decode cX1_scales 61 = .ok (.iload_n 2, 1) := dk_28 (dk_at dksX1_scales_2 13 rfl rfl)
theorem dX1_scales_62 : decode cX1_scales 62 = .ok (.ireturn, 1) := dk_172 (dk_at dksX1_scales_2 14 rfl rfl)
abbrev cX1_weighed : ByteArray := prog_1_method_72_code
def yX1_weighed : MethodName := ⟨RX1, "weighed", "()V"⟩
def dkwX1_weighed_5 : List UInt8 := [3, 5, 184, 1, 160, 153, 0, 7, 4, 167, 0, 4, 3, 184, 1, 229, 132, 2, 3, 167, 255, 158, 177]
abbrev dktX1_weighed_5 : List UInt8 := dkwX1_weighed_5 ++ []
def dkwX1_weighed_4 : List UInt8 := [180, 2, 29, 28, 51, 43, 180, 2, 29, 28, 4, 96, 51, 159, 0, 23, 43, 180, 2, 29, 28, 5, 96, 51]
abbrev dktX1_weighed_4 : List UInt8 := dkwX1_weighed_4 ++ dktX1_weighed_5
def dkwX1_weighed_3 : List UInt8 := [180, 2, 29, 28, 4, 96, 51, 3, 42, 180, 0, 10, 180, 0, 96, 4, 100, 184, 1, 160, 153, 0, 40, 43]
abbrev dktX1_weighed_3 : List UInt8 := dkwX1_weighed_3 ++ dktX1_weighed_4
def dkwX1_weighed_2 : List UInt8 := [180, 2, 29, 28, 51, 3, 42, 180, 0, 10, 180, 0, 96, 4, 100, 184, 1, 160, 153, 0, 64, 43]
abbrev dktX1_weighed_2 : List UInt8 := dkwX1_weighed_2 ++ dktX1_weighed_3
def dkwX1_weighed_1 : List UInt8 := [163, 0, 7, 4, 167, 0, 4, 3, 184, 1, 229, 3, 61, 28, 43, 180, 2, 26, 162, 0, 96, 43]
abbrev dktX1_weighed_1 : List UInt8 := dkwX1_weighed_1 ++ dktX1_weighed_2
def dkwX1_weighed_0 : List UInt8 := [42, 180, 0, 25, 76, 43, 182, 0, 201, 43, 180, 2, 26, 6, 112, 154, 0, 16, 43, 180, 2, 26, 16, 36]
abbrev dktX1_weighed_0 : List UInt8 := dkwX1_weighed_0 ++ dktX1_weighed_1
theorem dksX1_weighed_0 : cX1_weighed.data.toList.drop 0 = dktX1_weighed_0 := by decide +kernel
theorem dksX1_weighed_1 : cX1_weighed.data.toList.drop 24 = dktX1_weighed_1 := dk_seg dksX1_weighed_0 24 rfl rfl
theorem dksX1_weighed_2 : cX1_weighed.data.toList.drop 46 = dktX1_weighed_2 := dk_seg dksX1_weighed_1 22 rfl rfl
theorem dksX1_weighed_3 : cX1_weighed.data.toList.drop 68 = dktX1_weighed_3 := dk_seg dksX1_weighed_2 22 rfl rfl
theorem dksX1_weighed_4 : cX1_weighed.data.toList.drop 92 = dktX1_weighed_4 := dk_seg dksX1_weighed_3 24 rfl rfl
theorem dksX1_weighed_5 : cX1_weighed.data.toList.drop 116 = dktX1_weighed_5 := dk_seg dksX1_weighed_4 24 rfl rfl
theorem dX1_weighed_0 : decode cX1_weighed 0 = .ok (.aload_n 0, 1) := dk_42 (dk_at dksX1_weighed_0 0 rfl rfl)
theorem dX1_weighed_1 : decode cX1_weighed 1 = .ok (.getfield 25, 3) := dk_180 0 25 (dk_at dksX1_weighed_0 1 rfl rfl)
theorem dX1_weighed_4 : decode cX1_weighed 4 = .ok (.astore_n 1, 1) := dk_76 (dk_at dksX1_weighed_0 4 rfl rfl)
theorem dX1_weighed_5 : decode cX1_weighed 5 = .ok (.aload_n 1, 1) := dk_43 (dk_at dksX1_weighed_0 5 rfl rfl)
theorem dX1_weighed_6 : decode cX1_weighed 6 = .ok (.invokevirtual 201, 3) := dk_182 0 201 (dk_at dksX1_weighed_0 6 rfl rfl)
theorem dX1_weighed_9 : decode cX1_weighed 9 = .ok (.aload_n 1, 1) := dk_43 (dk_at dksX1_weighed_0 9 rfl rfl)
theorem dX1_weighed_10 : decode cX1_weighed 10 = .ok (.getfield 538, 3) := dk_180 2 26 (dk_at dksX1_weighed_0 10 rfl rfl)
theorem dX1_weighed_13 : decode cX1_weighed 13 = .ok (.iconst 3, 1) := dk_6 (dk_at dksX1_weighed_0 13 rfl rfl)
theorem dX1_weighed_14 : decode cX1_weighed 14 = .ok (.irem, 1) := dk_112 (dk_at dksX1_weighed_0 14 rfl rfl)
theorem dX1_weighed_15 : decode cX1_weighed 15 = .ok (.ifCond .ne 16, 3) := dk_154 0 16 (dk_at dksX1_weighed_0 15 rfl rfl)
theorem dX1_weighed_18 : decode cX1_weighed 18 = .ok (.aload_n 1, 1) := dk_43 (dk_at dksX1_weighed_0 18 rfl rfl)
theorem dX1_weighed_19 : decode cX1_weighed 19 = .ok (.getfield 538, 3) := dk_180 2 26 (dk_at dksX1_weighed_0 19 rfl rfl)
theorem dX1_weighed_22 : decode cX1_weighed 22 = .ok (.bipush 36, 2) := dk_16 36 (dk_at dksX1_weighed_0 22 rfl rfl)
theorem dX1_weighed_24 : decode cX1_weighed 24 = .ok (.if_icmp .gt 7, 3) := dk_163 0 7 (dk_at dksX1_weighed_1 0 rfl rfl)
theorem dX1_weighed_27 : decode cX1_weighed 27 = .ok (.iconst 1, 1) := dk_4 (dk_at dksX1_weighed_1 3 rfl rfl)
theorem dX1_weighed_28 : decode cX1_weighed 28 = .ok (.goto 4, 3) := dk_167 0 4 (dk_at dksX1_weighed_1 4 rfl rfl)
theorem dX1_weighed_31 : decode cX1_weighed 31 = .ok (.iconst 0, 1) := dk_3 (dk_at dksX1_weighed_1 7 rfl rfl)
theorem dX1_weighed_32 : decode cX1_weighed 32 = .ok (.invokestatic 485, 3) := dk_184 1 229 (dk_at dksX1_weighed_1 8 rfl rfl)
theorem dX1_weighed_35 : decode cX1_weighed 35 = .ok (.iconst 0, 1) := dk_3 (dk_at dksX1_weighed_1 11 rfl rfl)
theorem dX1_weighed_36 : decode cX1_weighed 36 = .ok (.istore_n 2, 1) := dk_61 (dk_at dksX1_weighed_1 12 rfl rfl)
theorem dX1_weighed_37 : decode cX1_weighed 37 = .ok (.iload_n 2, 1) := dk_28 (dk_at dksX1_weighed_1 13 rfl rfl)
theorem dX1_weighed_38 : decode cX1_weighed 38 = .ok (.aload_n 1, 1) := dk_43 (dk_at dksX1_weighed_1 14 rfl rfl)
theorem dX1_weighed_39 : decode cX1_weighed 39 = .ok (.getfield 538, 3) := dk_180 2 26 (dk_at dksX1_weighed_1 15 rfl rfl)
theorem dX1_weighed_42 : decode cX1_weighed 42 = .ok (.if_icmp .ge 96, 3) := dk_162 0 96 (dk_at dksX1_weighed_1 18 rfl rfl)
theorem dX1_weighed_45 : decode cX1_weighed 45 = .ok (.aload_n 1, 1) := dk_43 (dk_at dksX1_weighed_1 21 rfl rfl)
theorem dX1_weighed_46 : decode cX1_weighed 46 = .ok (.getfield 541, 3) := dk_180 2 29 (dk_at dksX1_weighed_2 0 rfl rfl)
theorem dX1_weighed_49 : decode cX1_weighed 49 = .ok (.iload_n 2, 1) := dk_28 (dk_at dksX1_weighed_2 3 rfl rfl)
theorem dX1_weighed_50 : decode cX1_weighed 50 = .ok (.baload, 1) := dk_51 (dk_at dksX1_weighed_2 4 rfl rfl)
theorem dX1_weighed_51 : decode cX1_weighed 51 = .ok (.iconst 0, 1) := dk_3 (dk_at dksX1_weighed_2 5 rfl rfl)
theorem dX1_weighed_52 : decode cX1_weighed 52 = .ok (.aload_n 0, 1) := dk_42 (dk_at dksX1_weighed_2 6 rfl rfl)
theorem dX1_weighed_53 : decode cX1_weighed 53 = .ok (.getfield 10, 3) := dk_180 0 10 (dk_at dksX1_weighed_2 7 rfl rfl)
theorem dX1_weighed_56 : decode cX1_weighed 56 = .ok (.getfield 96, 3) := dk_180 0 96 (dk_at dksX1_weighed_2 10 rfl rfl)
theorem dX1_weighed_59 : decode cX1_weighed 59 = .ok (.iconst 1, 1) := dk_4 (dk_at dksX1_weighed_2 13 rfl rfl)
theorem dX1_weighed_60 : decode cX1_weighed 60 = .ok (.isub, 1) := dk_100 (dk_at dksX1_weighed_2 14 rfl rfl)
theorem dX1_weighed_61 : decode cX1_weighed 61 = .ok (.invokestatic 416, 3) := dk_184 1 160 (dk_at dksX1_weighed_2 15 rfl rfl)
theorem dX1_weighed_64 : decode cX1_weighed 64 = .ok (.ifCond .eq 64, 3) := dk_153 0 64 (dk_at dksX1_weighed_2 18 rfl rfl)
theorem dX1_weighed_67 : decode cX1_weighed 67 = .ok (.aload_n 1, 1) := dk_43 (dk_at dksX1_weighed_2 21 rfl rfl)
theorem dX1_weighed_68 : decode cX1_weighed 68 = .ok (.getfield 541, 3) := dk_180 2 29 (dk_at dksX1_weighed_3 0 rfl rfl)
theorem dX1_weighed_71 : decode cX1_weighed 71 = .ok (.iload_n 2, 1) := dk_28 (dk_at dksX1_weighed_3 3 rfl rfl)
theorem dX1_weighed_72 : decode cX1_weighed 72 = .ok (.iconst 1, 1) := dk_4 (dk_at dksX1_weighed_3 4 rfl rfl)
theorem dX1_weighed_73 : decode cX1_weighed 73 = .ok (.iadd, 1) := dk_96 (dk_at dksX1_weighed_3 5 rfl rfl)
theorem dX1_weighed_74 : decode cX1_weighed 74 = .ok (.baload, 1) := dk_51 (dk_at dksX1_weighed_3 6 rfl rfl)
theorem dX1_weighed_75 : decode cX1_weighed 75 = .ok (.iconst 0, 1) := dk_3 (dk_at dksX1_weighed_3 7 rfl rfl)
theorem dX1_weighed_76 : decode cX1_weighed 76 = .ok (.aload_n 0, 1) := dk_42 (dk_at dksX1_weighed_3 8 rfl rfl)
theorem dX1_weighed_77 : decode cX1_weighed 77 = .ok (.getfield 10, 3) := dk_180 0 10 (dk_at dksX1_weighed_3 9 rfl rfl)
theorem dX1_weighed_80 : decode cX1_weighed 80 = .ok (.getfield 96, 3) := dk_180 0 96 (dk_at dksX1_weighed_3 12 rfl rfl)
theorem dX1_weighed_83 : decode cX1_weighed 83 = .ok (.iconst 1, 1) := dk_4 (dk_at dksX1_weighed_3 15 rfl rfl)
theorem dX1_weighed_84 : decode cX1_weighed 84 = .ok (.isub, 1) := dk_100 (dk_at dksX1_weighed_3 16 rfl rfl)
theorem dX1_weighed_85 : decode cX1_weighed 85 = .ok (.invokestatic 416, 3) := dk_184 1 160 (dk_at dksX1_weighed_3 17 rfl rfl)
theorem dX1_weighed_88 : decode cX1_weighed 88 = .ok (.ifCond .eq 40, 3) := dk_153 0 40 (dk_at dksX1_weighed_3 20 rfl rfl)
theorem dX1_weighed_91 : decode cX1_weighed 91 = .ok (.aload_n 1, 1) := dk_43 (dk_at dksX1_weighed_3 23 rfl rfl)
theorem dX1_weighed_92 : decode cX1_weighed 92 = .ok (.getfield 541, 3) := dk_180 2 29 (dk_at dksX1_weighed_4 0 rfl rfl)
theorem dX1_weighed_95 : decode cX1_weighed 95 = .ok (.iload_n 2, 1) := dk_28 (dk_at dksX1_weighed_4 3 rfl rfl)
theorem dX1_weighed_96 : decode cX1_weighed 96 = .ok (.baload, 1) := dk_51 (dk_at dksX1_weighed_4 4 rfl rfl)
theorem dX1_weighed_97 : decode cX1_weighed 97 = .ok (.aload_n 1, 1) := dk_43 (dk_at dksX1_weighed_4 5 rfl rfl)
theorem dX1_weighed_98 : decode cX1_weighed 98 = .ok (.getfield 541, 3) := dk_180 2 29 (dk_at dksX1_weighed_4 6 rfl rfl)
theorem dX1_weighed_101 : decode cX1_weighed 101 = .ok (.iload_n 2, 1) := dk_28 (dk_at dksX1_weighed_4 9 rfl rfl)
theorem dX1_weighed_102 : decode cX1_weighed 102 = .ok (.iconst 1, 1) := dk_4 (dk_at dksX1_weighed_4 10 rfl rfl)
theorem dX1_weighed_103 : decode cX1_weighed 103 = .ok (.iadd, 1) := dk_96 (dk_at dksX1_weighed_4 11 rfl rfl)
theorem dX1_weighed_104 : decode cX1_weighed 104 = .ok (.baload, 1) := dk_51 (dk_at dksX1_weighed_4 12 rfl rfl)
theorem dX1_weighed_105 : decode cX1_weighed 105 = .ok (.if_icmp .eq 23, 3) := dk_159 0 23 (dk_at dksX1_weighed_4 13 rfl rfl)
theorem dX1_weighed_108 : decode cX1_weighed 108 = .ok (.aload_n 1, 1) := dk_43 (dk_at dksX1_weighed_4 16 rfl rfl)
theorem dX1_weighed_109 : decode cX1_weighed 109 = .ok (.getfield 541, 3) := dk_180 2 29 (dk_at dksX1_weighed_4 17 rfl rfl)
theorem dX1_weighed_112 : decode cX1_weighed 112 = .ok (.iload_n 2, 1) := dk_28 (dk_at dksX1_weighed_4 20 rfl rfl)
theorem dX1_weighed_113 : decode cX1_weighed 113 = .ok (.iconst 2, 1) := dk_5 (dk_at dksX1_weighed_4 21 rfl rfl)
theorem dX1_weighed_114 : decode cX1_weighed 114 = .ok (.iadd, 1) := dk_96 (dk_at dksX1_weighed_4 22 rfl rfl)
theorem dX1_weighed_115 : decode cX1_weighed 115 = .ok (.baload, 1) := dk_51 (dk_at dksX1_weighed_4 23 rfl rfl)
theorem dX1_weighed_116 : decode cX1_weighed 116 = .ok (.iconst 0, 1) := dk_3 (dk_at dksX1_weighed_5 0 rfl rfl)
theorem dX1_weighed_117 : decode cX1_weighed 117 = .ok (.iconst 2, 1) := dk_5 (dk_at dksX1_weighed_5 1 rfl rfl)
theorem dX1_weighed_118 : decode cX1_weighed 118 = .ok (.invokestatic 416, 3) := dk_184 1 160 (dk_at dksX1_weighed_5 2 rfl rfl)
theorem dX1_weighed_121 : decode cX1_weighed 121 = .ok (.ifCond .eq 7, 3) := dk_153 0 7 (dk_at dksX1_weighed_5 5 rfl rfl)
theorem dX1_weighed_124 : decode cX1_weighed 124 = .ok (.iconst 1, 1) := dk_4 (dk_at dksX1_weighed_5 8 rfl rfl)
theorem dX1_weighed_125 : decode cX1_weighed 125 = .ok (.goto 4, 3) := dk_167 0 4 (dk_at dksX1_weighed_5 9 rfl rfl)
theorem dX1_weighed_128 : decode cX1_weighed 128 = .ok (.iconst 0, 1) := dk_3 (dk_at dksX1_weighed_5 12 rfl rfl)
theorem dX1_weighed_129 : decode cX1_weighed 129 = .ok (.invokestatic 485, 3) := dk_184 1 229 (dk_at dksX1_weighed_5 13 rfl rfl)
theorem dX1_weighed_132 : decode cX1_weighed 132 = .ok (.iinc 2 3, 3) := dk_132 2 3 (dk_at dksX1_weighed_5 16 rfl rfl)
theorem dX1_weighed_135 : decode cX1_weighed 135 = .ok (.goto (-98), 3) := dk_167 255 158 (dk_at dksX1_weighed_5 19 rfl rfl)
theorem dX1_weighed_138 : decode cX1_weighed 138 = .ok (.return_, 1) := dk_177 (dk_at dksX1_weighed_5 22 rfl rfl)
abbrev cX1_isCase : ByteArray := prog_1_method_75_code
def yX1_isCase : MethodName := ⟨RX1, "isCase", "(I)Z"⟩
def dkwX1_isCase_3 : List UInt8 := [4, 172]
abbrev dktX1_isCase_3 : List UInt8 := dkwX1_isCase_3 ++ []
def dkwX1_isCase_2 : List UInt8 := [51, 27, 182, 2, 39, 44, 180, 2, 29, 29, 5, 96, 51, 159, 0, 5, 3, 172, 132, 3, 3, 167, 255, 213]
abbrev dktX1_isCase_2 : List UInt8 := dkwX1_isCase_2 ++ dktX1_isCase_3
def dkwX1_isCase_1 : List UInt8 := [3, 62, 29, 44, 180, 2, 26, 162, 0, 41, 42, 44, 180, 2, 29, 29, 51, 44, 180, 2, 29, 29, 4, 96]
abbrev dktX1_isCase_1 : List UInt8 := dkwX1_isCase_1 ++ dktX1_isCase_2
def dkwX1_isCase_0 : List UInt8 := [42, 180, 0, 25, 77, 27, 2, 159, 0, 17, 42, 180, 0, 10, 180, 1, 175, 27, 46, 153, 0, 5, 3, 172]
abbrev dktX1_isCase_0 : List UInt8 := dkwX1_isCase_0 ++ dktX1_isCase_1
theorem dksX1_isCase_0 : cX1_isCase.data.toList.drop 0 = dktX1_isCase_0 := by decide +kernel
theorem dksX1_isCase_1 : cX1_isCase.data.toList.drop 24 = dktX1_isCase_1 := dk_seg dksX1_isCase_0 24 rfl rfl
theorem dksX1_isCase_2 : cX1_isCase.data.toList.drop 48 = dktX1_isCase_2 := dk_seg dksX1_isCase_1 24 rfl rfl
theorem dksX1_isCase_3 : cX1_isCase.data.toList.drop 72 = dktX1_isCase_3 := dk_seg dksX1_isCase_2 24 rfl rfl
theorem dX1_isCase_0 : decode cX1_isCase 0 = .ok (.aload_n 0, 1) := dk_42 (dk_at dksX1_isCase_0 0 rfl rfl)
theorem dX1_isCase_1 : decode cX1_isCase 1 = .ok (.getfield 25, 3) := dk_180 0 25 (dk_at dksX1_isCase_0 1 rfl rfl)
theorem dX1_isCase_4 : decode cX1_isCase 4 = .ok (.astore_n 2, 1) := dk_77 (dk_at dksX1_isCase_0 4 rfl rfl)
theorem dX1_isCase_5 : decode cX1_isCase 5 = .ok (.iload_n 1, 1) := dk_27 (dk_at dksX1_isCase_0 5 rfl rfl)
theorem dX1_isCase_6 : decode cX1_isCase 6 = .ok (.iconst (-1), 1) := dk_2 (dk_at dksX1_isCase_0 6 rfl rfl)
theorem dX1_isCase_7 : decode cX1_isCase 7 = .ok (.if_icmp .eq 17, 3) := dk_159 0 17 (dk_at dksX1_isCase_0 7 rfl rfl)
theorem dX1_isCase_10 : decode cX1_isCase 10 = .ok (.aload_n 0, 1) := dk_42 (dk_at dksX1_isCase_0 10 rfl rfl)
theorem dX1_isCase_11 : decode cX1_isCase 11 = .ok (.getfield 10, 3) := dk_180 0 10 (dk_at dksX1_isCase_0 11 rfl rfl)
theorem dX1_isCase_14 : decode cX1_isCase 14 = .ok (.getfield 431, 3) := dk_180 1 175 (dk_at dksX1_isCase_0 14 rfl rfl)
theorem dX1_isCase_17 : decode cX1_isCase 17 = .ok (.iload_n 1, 1) := dk_27 (dk_at dksX1_isCase_0 17 rfl rfl)
theorem dX1_isCase_18 : decode cX1_isCase 18 = .ok (.iaload, 1) := dk_46 (dk_at dksX1_isCase_0 18 rfl rfl)
theorem dX1_isCase_19 : decode cX1_isCase 19 = .ok (.ifCond .eq 5, 3) := dk_153 0 5 (dk_at dksX1_isCase_0 19 rfl rfl)
theorem dX1_isCase_22 : decode cX1_isCase 22 = .ok (.iconst 0, 1) := dk_3 (dk_at dksX1_isCase_0 22 rfl rfl)
theorem dX1_isCase_23 : decode cX1_isCase 23 = .ok (.ireturn, 1) := dk_172 (dk_at dksX1_isCase_0 23 rfl rfl)
theorem dX1_isCase_24 : decode cX1_isCase 24 = .ok (.iconst 0, 1) := dk_3 (dk_at dksX1_isCase_1 0 rfl rfl)
theorem dX1_isCase_25 : decode cX1_isCase 25 = .ok (.istore_n 3, 1) := dk_62 (dk_at dksX1_isCase_1 1 rfl rfl)
theorem dX1_isCase_26 : decode cX1_isCase 26 = .ok (.iload_n 3, 1) := dk_29 (dk_at dksX1_isCase_1 2 rfl rfl)
theorem dX1_isCase_27 : decode cX1_isCase 27 = .ok (.aload_n 2, 1) := dk_44 (dk_at dksX1_isCase_1 3 rfl rfl)
theorem dX1_isCase_28 : decode cX1_isCase 28 = .ok (.getfield 538, 3) := dk_180 2 26 (dk_at dksX1_isCase_1 4 rfl rfl)
theorem dX1_isCase_31 : decode cX1_isCase 31 = .ok (.if_icmp .ge 41, 3) := dk_162 0 41 (dk_at dksX1_isCase_1 7 rfl rfl)
theorem dX1_isCase_34 : decode cX1_isCase 34 = .ok (.aload_n 0, 1) := dk_42 (dk_at dksX1_isCase_1 10 rfl rfl)
theorem dX1_isCase_35 : decode cX1_isCase 35 = .ok (.aload_n 2, 1) := dk_44 (dk_at dksX1_isCase_1 11 rfl rfl)
theorem dX1_isCase_36 : decode cX1_isCase 36 = .ok (.getfield 541, 3) := dk_180 2 29 (dk_at dksX1_isCase_1 12 rfl rfl)
theorem dX1_isCase_39 : decode cX1_isCase 39 = .ok (.iload_n 3, 1) := dk_29 (dk_at dksX1_isCase_1 15 rfl rfl)
theorem dX1_isCase_40 : decode cX1_isCase 40 = .ok (.baload, 1) := dk_51 (dk_at dksX1_isCase_1 16 rfl rfl)
theorem dX1_isCase_41 : decode cX1_isCase 41 = .ok (.aload_n 2, 1) := dk_44 (dk_at dksX1_isCase_1 17 rfl rfl)
theorem dX1_isCase_42 : decode cX1_isCase 42 = .ok (.getfield 541, 3) := dk_180 2 29 (dk_at dksX1_isCase_1 18 rfl rfl)
theorem dX1_isCase_45 : decode cX1_isCase 45 = .ok (.iload_n 3, 1) := dk_29 (dk_at dksX1_isCase_1 21 rfl rfl)
theorem dX1_isCase_46 : decode cX1_isCase 46 = .ok (.iconst 1, 1) := dk_4 (dk_at dksX1_isCase_1 22 rfl rfl)
theorem dX1_isCase_47 : decode cX1_isCase 47 = .ok (.iadd, 1) := dk_96 (dk_at dksX1_isCase_1 23 rfl rfl)
theorem dX1_isCase_48 : decode cX1_isCase 48 = .ok (.baload, 1) := dk_51 (dk_at dksX1_isCase_2 0 rfl rfl)
theorem dX1_isCase_49 : decode cX1_isCase 49 = .ok (.iload_n 1, 1) := dk_27 (dk_at dksX1_isCase_2 1 rfl rfl)
theorem dX1_isCase_50 : decode cX1_isCase 50 = .ok (.invokevirtual 551, 3) := dk_182 2 39 (dk_at dksX1_isCase_2 2 rfl rfl)
theorem dX1_isCase_53 : decode cX1_isCase 53 = .ok (.aload_n 2, 1) := dk_44 (dk_at dksX1_isCase_2 5 rfl rfl)
theorem dX1_isCase_54 : decode cX1_isCase 54 = .ok (.getfield 541, 3) := dk_180 2 29 (dk_at dksX1_isCase_2 6 rfl rfl)
theorem dX1_isCase_57 : decode cX1_isCase 57 = .ok (.iload_n 3, 1) := dk_29 (dk_at dksX1_isCase_2 9 rfl rfl)
theorem dX1_isCase_58 : decode cX1_isCase 58 = .ok (.iconst 2, 1) := dk_5 (dk_at dksX1_isCase_2 10 rfl rfl)
theorem dX1_isCase_59 : decode cX1_isCase 59 = .ok (.iadd, 1) := dk_96 (dk_at dksX1_isCase_2 11 rfl rfl)
theorem dX1_isCase_60 : decode cX1_isCase 60 = .ok (.baload, 1) := dk_51 (dk_at dksX1_isCase_2 12 rfl rfl)
theorem dX1_isCase_61 : decode cX1_isCase 61 = .ok (.if_icmp .eq 5, 3) := dk_159 0 5 (dk_at dksX1_isCase_2 13 rfl rfl)
theorem dX1_isCase_64 : decode cX1_isCase 64 = .ok (.iconst 0, 1) := dk_3 (dk_at dksX1_isCase_2 16 rfl rfl)
theorem dX1_isCase_65 : decode cX1_isCase 65 = .ok (.ireturn, 1) := dk_172 (dk_at dksX1_isCase_2 17 rfl rfl)
theorem dX1_isCase_66 : decode cX1_isCase 66 = .ok (.iinc 3 3, 3) := dk_132 3 3 (dk_at dksX1_isCase_2 18 rfl rfl)
theorem dX1_isCase_69 : decode cX1_isCase 69 = .ok (.goto (-43), 3) := dk_167 255 213 (dk_at dksX1_isCase_2 21 rfl rfl)
theorem dX1_isCase_72 : decode cX1_isCase 72 = .ok (.iconst 1, 1) := dk_4 (dk_at dksX1_isCase_3 0 rfl rfl)
theorem dX1_isCase_73 : decode cX1_isCase 73 = .ok (.ireturn, 1) := dk_172 (dk_at dksX1_isCase_3 1 rfl rfl)
abbrev cX1_sinks : ByteArray := prog_1_method_74_code
def yX1_sinks : MethodName := ⟨RX1, "sinks", "(III)I"⟩
def dkwX1_sinks_0 : List UInt8 := [4, 42, 28, 29, 182, 2, 33, 42, 27, 29, 182, 2, 33, 184, 2, 36, 96, 172]
abbrev dktX1_sinks_0 : List UInt8 := dkwX1_sinks_0 ++ []
theorem dksX1_sinks_0 : cX1_sinks.data.toList.drop 0 = dktX1_sinks_0 := by decide +kernel
theorem dX1_sinks_0 : decode cX1_sinks 0 = .ok (.iconst 1, 1) := dk_4 (dk_at dksX1_sinks_0 0 rfl rfl)
theorem dX1_sinks_1 : decode cX1_sinks 1 = .ok (.aload_n 0, 1) := dk_42 (dk_at dksX1_sinks_0 1 rfl rfl)
theorem dX1_sinks_2 : decode cX1_sinks 2 = .ok (.iload_n 2, 1) := dk_28 (dk_at dksX1_sinks_0 2 rfl rfl)
theorem dX1_sinks_3 : decode cX1_sinks 3 = .ok (.iload_n 3, 1) := dk_29 (dk_at dksX1_sinks_0 3 rfl rfl)
theorem dX1_sinks_4 : decode cX1_sinks 4 = .ok (.invokevirtual 545, 3) := dk_182 2 33 (dk_at dksX1_sinks_0 4 rfl rfl)
theorem dX1_sinks_7 : decode cX1_sinks 7 = .ok (.aload_n 0, 1) := dk_42 (dk_at dksX1_sinks_0 7 rfl rfl)
theorem dX1_sinks_8 : decode cX1_sinks 8 = .ok (.iload_n 1, 1) := dk_27 (dk_at dksX1_sinks_0 8 rfl rfl)
theorem dX1_sinks_9 : decode cX1_sinks 9 = .ok (.iload_n 3, 1) := dk_29 (dk_at dksX1_sinks_0 9 rfl rfl)
theorem dX1_sinks_10 : decode cX1_sinks 10 = .ok (.invokevirtual 545, 3) := dk_182 2 33 (dk_at dksX1_sinks_0 10 rfl rfl)
theorem dX1_sinks_13 : decode cX1_sinks 13 = .ok (.invokestatic 548, 3) := dk_184 2 36 (dk_at dksX1_sinks_0 13 rfl rfl)
theorem dX1_sinks_16 : decode cX1_sinks 16 = .ok (.iadd, 1) := dk_96 (dk_at dksX1_sinks_0 16 rfl rfl)
theorem dX1_sinks_17 : decode cX1_sinks 17 = .ok (.ireturn, 1) := dk_172 (dk_at dksX1_sinks_0 17 rfl rfl)
abbrev cX1_loadBy : ByteArray := prog_1_method_73_code
def yX1_loadBy : MethodName := ⟨RX1, "loadBy", "(II)I"⟩
def dkwX1_loadBy_2 : List UInt8 := [54, 4, 42, 180, 0, 10, 29, 182, 1, 195, 21, 4, 100, 172]
abbrev dktX1_loadBy_2 : List UInt8 := dkwX1_loadBy_2 ++ []
def dkwX1_loadBy_1 : List UInt8 := [180, 0, 10, 180, 1, 210, 28, 46, 42, 180, 0, 10, 180, 1, 210, 28, 46, 5, 108, 100, 167, 0, 4, 3]
abbrev dktX1_loadBy_1 : List UInt8 := dkwX1_loadBy_1 ++ dktX1_loadBy_2
def dkwX1_loadBy_0 : List UInt8 := [42, 180, 0, 10, 27, 182, 1, 189, 62, 28, 2, 159, 0, 35, 29, 28, 184, 2, 6, 153, 0, 27, 42]
abbrev dktX1_loadBy_0 : List UInt8 := dkwX1_loadBy_0 ++ dktX1_loadBy_1
theorem dksX1_loadBy_0 : cX1_loadBy.data.toList.drop 0 = dktX1_loadBy_0 := by decide +kernel
theorem dksX1_loadBy_1 : cX1_loadBy.data.toList.drop 23 = dktX1_loadBy_1 := dk_seg dksX1_loadBy_0 23 rfl rfl
theorem dksX1_loadBy_2 : cX1_loadBy.data.toList.drop 47 = dktX1_loadBy_2 := dk_seg dksX1_loadBy_1 24 rfl rfl
theorem dX1_loadBy_0 : decode cX1_loadBy 0 = .ok (.aload_n 0, 1) := dk_42 (dk_at dksX1_loadBy_0 0 rfl rfl)
theorem dX1_loadBy_1 : decode cX1_loadBy 1 = .ok (.getfield 10, 3) := dk_180 0 10 (dk_at dksX1_loadBy_0 1 rfl rfl)
theorem dX1_loadBy_4 : decode cX1_loadBy 4 = .ok (.iload_n 1, 1) := dk_27 (dk_at dksX1_loadBy_0 4 rfl rfl)
theorem dX1_loadBy_5 : decode cX1_loadBy 5 = .ok (.invokevirtual 445, 3) := dk_182 1 189 (dk_at dksX1_loadBy_0 5 rfl rfl)
theorem dX1_loadBy_8 : decode cX1_loadBy 8 = .ok (.istore_n 3, 1) := dk_62 (dk_at dksX1_loadBy_0 8 rfl rfl)
theorem dX1_loadBy_9 : decode cX1_loadBy 9 = .ok (.iload_n 2, 1) := dk_28 (dk_at dksX1_loadBy_0 9 rfl rfl)
theorem dX1_loadBy_10 : decode cX1_loadBy 10 = .ok (.iconst (-1), 1) := dk_2 (dk_at dksX1_loadBy_0 10 rfl rfl)
theorem dX1_loadBy_11 : decode cX1_loadBy 11 = .ok (.if_icmp .eq 35, 3) := dk_159 0 35 (dk_at dksX1_loadBy_0 11 rfl rfl)
theorem dX1_loadBy_14 : decode cX1_loadBy 14 = .ok (.iload_n 3, 1) := dk_29 (dk_at dksX1_loadBy_0 14 rfl rfl)
theorem dX1_loadBy_15 : decode cX1_loadBy 15 = .ok (.iload_n 2, 1) := dk_28 (dk_at dksX1_loadBy_0 15 rfl rfl)
theorem dX1_loadBy_16 : decode cX1_loadBy 16 = .ok (.invokestatic 518, 3) := dk_184 2 6 (dk_at dksX1_loadBy_0 16 rfl rfl)
theorem dX1_loadBy_19 : decode cX1_loadBy 19 = .ok (.ifCond .eq 27, 3) := dk_153 0 27 (dk_at dksX1_loadBy_0 19 rfl rfl)
theorem dX1_loadBy_22 : decode cX1_loadBy 22 = .ok (.aload_n 0, 1) := dk_42 (dk_at dksX1_loadBy_0 22 rfl rfl)
theorem dX1_loadBy_23 : decode cX1_loadBy 23 = .ok (.getfield 10, 3) := dk_180 0 10 (dk_at dksX1_loadBy_1 0 rfl rfl)
theorem dX1_loadBy_26 : decode cX1_loadBy 26 = .ok (.getfield 466, 3) := dk_180 1 210 (dk_at dksX1_loadBy_1 3 rfl rfl)
theorem dX1_loadBy_29 : decode cX1_loadBy 29 = .ok (.iload_n 2, 1) := dk_28 (dk_at dksX1_loadBy_1 6 rfl rfl)
theorem dX1_loadBy_30 : decode cX1_loadBy 30 = .ok (.iaload, 1) := dk_46 (dk_at dksX1_loadBy_1 7 rfl rfl)
theorem dX1_loadBy_31 : decode cX1_loadBy 31 = .ok (.aload_n 0, 1) := dk_42 (dk_at dksX1_loadBy_1 8 rfl rfl)
theorem dX1_loadBy_32 : decode cX1_loadBy 32 = .ok (.getfield 10, 3) := dk_180 0 10 (dk_at dksX1_loadBy_1 9 rfl rfl)
theorem dX1_loadBy_35 : decode cX1_loadBy 35 = .ok (.getfield 466, 3) := dk_180 1 210 (dk_at dksX1_loadBy_1 12 rfl rfl)
theorem dX1_loadBy_38 : decode cX1_loadBy 38 = .ok (.iload_n 2, 1) := dk_28 (dk_at dksX1_loadBy_1 15 rfl rfl)
theorem dX1_loadBy_39 : decode cX1_loadBy 39 = .ok (.iaload, 1) := dk_46 (dk_at dksX1_loadBy_1 16 rfl rfl)
theorem dX1_loadBy_40 : decode cX1_loadBy 40 = .ok (.iconst 2, 1) := dk_5 (dk_at dksX1_loadBy_1 17 rfl rfl)
theorem dX1_loadBy_41 : decode cX1_loadBy 41 = .ok (.idiv, 1) := dk_108 (dk_at dksX1_loadBy_1 18 rfl rfl)
theorem dX1_loadBy_42 : decode cX1_loadBy 42 = .ok (.isub, 1) := dk_100 (dk_at dksX1_loadBy_1 19 rfl rfl)
theorem dX1_loadBy_43 : decode cX1_loadBy 43 = .ok (.goto 4, 3) := dk_167 0 4 (dk_at dksX1_loadBy_1 20 rfl rfl)
theorem dX1_loadBy_46 : decode cX1_loadBy 46 = .ok (.iconst 0, 1) := dk_3 (dk_at dksX1_loadBy_1 23 rfl rfl)
theorem dX1_loadBy_47 : decode cX1_loadBy 47 = .ok (.istore 4, 2) := dk_54 4 (dk_at dksX1_loadBy_2 0 rfl rfl)
theorem dX1_loadBy_49 : decode cX1_loadBy 49 = .ok (.aload_n 0, 1) := dk_42 (dk_at dksX1_loadBy_2 2 rfl rfl)
theorem dX1_loadBy_50 : decode cX1_loadBy 50 = .ok (.getfield 10, 3) := dk_180 0 10 (dk_at dksX1_loadBy_2 3 rfl rfl)
theorem dX1_loadBy_53 : decode cX1_loadBy 53 = .ok (.iload_n 3, 1) := dk_29 (dk_at dksX1_loadBy_2 6 rfl rfl)
theorem dX1_loadBy_54 : decode cX1_loadBy 54 = .ok (.invokevirtual 451, 3) := dk_182 1 195 (dk_at dksX1_loadBy_2 7 rfl rfl)
theorem dX1_loadBy_57 : decode cX1_loadBy 57 = .ok (.iload 4, 2) := dk_21 4 (dk_at dksX1_loadBy_2 10 rfl rfl)
theorem dX1_loadBy_59 : decode cX1_loadBy 59 = .ok (.isub, 1) := dk_100 (dk_at dksX1_loadBy_2 12 rfl rfl)
theorem dX1_loadBy_60 : decode cX1_loadBy 60 = .ok (.ireturn, 1) := dk_172 (dk_at dksX1_loadBy_2 13 rfl rfl)
abbrev cX1_weigh : ByteArray := prog_1_method_78_code
def yX1_weigh : MethodName := ⟨RX1, "weigh", "()I"⟩
def dkwX1_weigh_3 : List UInt8 := [60, 21, 5, 61, 132, 4, 1, 167, 255, 206, 132, 3, 1, 167, 255, 184, 27, 172]
abbrev dktX1_weigh_3 : List UInt8 := dkwX1_weigh_3 ++ []
def dkwX1_weigh_2 : List UInt8 := [54, 5, 21, 5, 2, 159, 0, 23, 21, 5, 28, 161, 0, 6, 167, 0, 14, 16, 10, 29, 104, 21, 4, 96]
abbrev dktX1_weigh_2 : List UInt8 := dkwX1_weigh_2 ++ dktX1_weigh_3
def dkwX1_weigh_1 : List UInt8 := [4, 96, 54, 4, 21, 4, 42, 180, 0, 10, 180, 0, 96, 162, 0, 44, 42, 29, 21, 4, 182, 2, 48]
abbrev dktX1_weigh_1 : List UInt8 := dkwX1_weigh_1 ++ dktX1_weigh_2
def dkwX1_weigh_0 : List UInt8 := [42, 182, 2, 42, 2, 60, 19, 1, 242, 61, 3, 62, 29, 42, 180, 0, 10, 180, 0, 96, 162, 0, 67, 29]
abbrev dktX1_weigh_0 : List UInt8 := dkwX1_weigh_0 ++ dktX1_weigh_1
theorem dksX1_weigh_0 : cX1_weigh.data.toList.drop 0 = dktX1_weigh_0 := by decide +kernel
theorem dksX1_weigh_1 : cX1_weigh.data.toList.drop 24 = dktX1_weigh_1 := dk_seg dksX1_weigh_0 24 rfl rfl
theorem dksX1_weigh_2 : cX1_weigh.data.toList.drop 47 = dktX1_weigh_2 := dk_seg dksX1_weigh_1 23 rfl rfl
theorem dksX1_weigh_3 : cX1_weigh.data.toList.drop 71 = dktX1_weigh_3 := dk_seg dksX1_weigh_2 24 rfl rfl
theorem dX1_weigh_0 : decode cX1_weigh 0 = .ok (.aload_n 0, 1) := dk_42 (dk_at dksX1_weigh_0 0 rfl rfl)
theorem dX1_weigh_1 : decode cX1_weigh 1 = .ok (.invokevirtual 554, 3) := dk_182 2 42 (dk_at dksX1_weigh_0 1 rfl rfl)
theorem dX1_weigh_4 : decode cX1_weigh 4 = .ok (.iconst (-1), 1) := dk_2 (dk_at dksX1_weigh_0 4 rfl rfl)
theorem dX1_weigh_5 : decode cX1_weigh 5 = .ok (.istore_n 1, 1) := dk_60 (dk_at dksX1_weigh_0 5 rfl rfl)
theorem dX1_weigh_6 : decode cX1_weigh 6 = .ok (.ldc_w 498, 3) := dk_19 1 242 (dk_at dksX1_weigh_0 6 rfl rfl)
theorem dX1_weigh_9 : decode cX1_weigh 9 = .ok (.istore_n 2, 1) := dk_61 (dk_at dksX1_weigh_0 9 rfl rfl)
theorem dX1_weigh_10 : decode cX1_weigh 10 = .ok (.iconst 0, 1) := dk_3 (dk_at dksX1_weigh_0 10 rfl rfl)
theorem dX1_weigh_11 : decode cX1_weigh 11 = .ok (.istore_n 3, 1) := dk_62 (dk_at dksX1_weigh_0 11 rfl rfl)
theorem dX1_weigh_12 : decode cX1_weigh 12 = .ok (.iload_n 3, 1) := dk_29 (dk_at dksX1_weigh_0 12 rfl rfl)
theorem dX1_weigh_13 : decode cX1_weigh 13 = .ok (.aload_n 0, 1) := dk_42 (dk_at dksX1_weigh_0 13 rfl rfl)
theorem dX1_weigh_14 : decode cX1_weigh 14 = .ok (.getfield 10, 3) := dk_180 0 10 (dk_at dksX1_weigh_0 14 rfl rfl)
theorem dX1_weigh_17 : decode cX1_weigh 17 = .ok (.getfield 96, 3) := dk_180 0 96 (dk_at dksX1_weigh_0 17 rfl rfl)
theorem dX1_weigh_20 : decode cX1_weigh 20 = .ok (.if_icmp .ge 67, 3) := dk_162 0 67 (dk_at dksX1_weigh_0 20 rfl rfl)
theorem dX1_weigh_23 : decode cX1_weigh 23 = .ok (.iload_n 3, 1) := dk_29 (dk_at dksX1_weigh_0 23 rfl rfl)
theorem dX1_weigh_24 : decode cX1_weigh 24 = .ok (.iconst 1, 1) := dk_4 (dk_at dksX1_weigh_1 0 rfl rfl)
theorem dX1_weigh_25 : decode cX1_weigh 25 = .ok (.iadd, 1) := dk_96 (dk_at dksX1_weigh_1 1 rfl rfl)
theorem dX1_weigh_26 : decode cX1_weigh 26 = .ok (.istore 4, 2) := dk_54 4 (dk_at dksX1_weigh_1 2 rfl rfl)
theorem dX1_weigh_28 : decode cX1_weigh 28 = .ok (.iload 4, 2) := dk_21 4 (dk_at dksX1_weigh_1 4 rfl rfl)
theorem dX1_weigh_30 : decode cX1_weigh 30 = .ok (.aload_n 0, 1) := dk_42 (dk_at dksX1_weigh_1 6 rfl rfl)
theorem dX1_weigh_31 : decode cX1_weigh 31 = .ok (.getfield 10, 3) := dk_180 0 10 (dk_at dksX1_weigh_1 7 rfl rfl)
theorem dX1_weigh_34 : decode cX1_weigh 34 = .ok (.getfield 96, 3) := dk_180 0 96 (dk_at dksX1_weigh_1 10 rfl rfl)
theorem dX1_weigh_37 : decode cX1_weigh 37 = .ok (.if_icmp .ge 44, 3) := dk_162 0 44 (dk_at dksX1_weigh_1 13 rfl rfl)
theorem dX1_weigh_40 : decode cX1_weigh 40 = .ok (.aload_n 0, 1) := dk_42 (dk_at dksX1_weigh_1 16 rfl rfl)
theorem dX1_weigh_41 : decode cX1_weigh 41 = .ok (.iload_n 3, 1) := dk_29 (dk_at dksX1_weigh_1 17 rfl rfl)
theorem dX1_weigh_42 : decode cX1_weigh 42 = .ok (.iload 4, 2) := dk_21 4 (dk_at dksX1_weigh_1 18 rfl rfl)
theorem dX1_weigh_44 : decode cX1_weigh 44 = .ok (.invokevirtual 560, 3) := dk_182 2 48 (dk_at dksX1_weigh_1 20 rfl rfl)
theorem dX1_weigh_47 : decode cX1_weigh 47 = .ok (.istore 5, 2) := dk_54 5 (dk_at dksX1_weigh_2 0 rfl rfl)
theorem dX1_weigh_49 : decode cX1_weigh 49 = .ok (.iload 5, 2) := dk_21 5 (dk_at dksX1_weigh_2 2 rfl rfl)
theorem dX1_weigh_51 : decode cX1_weigh 51 = .ok (.iconst (-1), 1) := dk_2 (dk_at dksX1_weigh_2 4 rfl rfl)
theorem dX1_weigh_52 : decode cX1_weigh 52 = .ok (.if_icmp .eq 23, 3) := dk_159 0 23 (dk_at dksX1_weigh_2 5 rfl rfl)
theorem dX1_weigh_55 : decode cX1_weigh 55 = .ok (.iload 5, 2) := dk_21 5 (dk_at dksX1_weigh_2 8 rfl rfl)
theorem dX1_weigh_57 : decode cX1_weigh 57 = .ok (.iload_n 2, 1) := dk_28 (dk_at dksX1_weigh_2 10 rfl rfl)
theorem dX1_weigh_58 : decode cX1_weigh 58 = .ok (.if_icmp .lt 6, 3) := dk_161 0 6 (dk_at dksX1_weigh_2 11 rfl rfl)
theorem dX1_weigh_61 : decode cX1_weigh 61 = .ok (.goto 14, 3) := dk_167 0 14 (dk_at dksX1_weigh_2 14 rfl rfl)
theorem dX1_weigh_64 : decode cX1_weigh 64 = .ok (.bipush 10, 2) := dk_16 10 (dk_at dksX1_weigh_2 17 rfl rfl)
theorem dX1_weigh_66 : decode cX1_weigh 66 = .ok (.iload_n 3, 1) := dk_29 (dk_at dksX1_weigh_2 19 rfl rfl)
theorem dX1_weigh_67 : decode cX1_weigh 67 = .ok (.imul, 1) := dk_104 (dk_at dksX1_weigh_2 20 rfl rfl)
theorem dX1_weigh_68 : decode cX1_weigh 68 = .ok (.iload 4, 2) := dk_21 4 (dk_at dksX1_weigh_2 21 rfl rfl)
theorem dX1_weigh_70 : decode cX1_weigh 70 = .ok (.iadd, 1) := dk_96 (dk_at dksX1_weigh_2 23 rfl rfl)
theorem dX1_weigh_71 : decode cX1_weigh 71 = .ok (.istore_n 1, 1) := dk_60 (dk_at dksX1_weigh_3 0 rfl rfl)
theorem dX1_weigh_72 : decode cX1_weigh 72 = .ok (.iload 5, 2) := dk_21 5 (dk_at dksX1_weigh_3 1 rfl rfl)
theorem dX1_weigh_74 : decode cX1_weigh 74 = .ok (.istore_n 2, 1) := dk_61 (dk_at dksX1_weigh_3 3 rfl rfl)
theorem dX1_weigh_75 : decode cX1_weigh 75 = .ok (.iinc 4 1, 3) := dk_132 4 1 (dk_at dksX1_weigh_3 4 rfl rfl)
theorem dX1_weigh_78 : decode cX1_weigh 78 = .ok (.goto (-50), 3) := dk_167 255 206 (dk_at dksX1_weigh_3 7 rfl rfl)
theorem dX1_weigh_81 : decode cX1_weigh 81 = .ok (.iinc 3 1, 3) := dk_132 3 1 (dk_at dksX1_weigh_3 10 rfl rfl)
theorem dX1_weigh_84 : decode cX1_weigh 84 = .ok (.goto (-72), 3) := dk_167 255 184 (dk_at dksX1_weigh_3 13 rfl rfl)
theorem dX1_weigh_87 : decode cX1_weigh 87 = .ok (.iload_n 1, 1) := dk_27 (dk_at dksX1_weigh_3 16 rfl rfl)
theorem dX1_weigh_88 : decode cX1_weigh 88 = .ok (.ireturn, 1) := dk_172 (dk_at dksX1_weigh_3 17 rfl rfl)
abbrev cX1_partBy : ByteArray := prog_1_method_77_code
def yX1_partBy : MethodName := ⟨RX1, "partBy", "(II)I"⟩
def dkwX1_partBy_5 : List UInt8 := [184, 1, 110, 172]
abbrev dktX1_partBy_5 : List UInt8 := dkwX1_partBy_5 ++ []
def dkwX1_partBy_4 : List UInt8 := [29, 21, 4, 96, 21, 5, 96, 5, 162, 0, 7, 2, 167, 0, 14, 29, 21, 4, 21, 5, 184, 1, 110]
abbrev dktX1_partBy_4 : List UInt8 := dkwX1_partBy_4 ++ dktX1_partBy_5
def dkwX1_partBy_3 : List UInt8 := [54, 4, 21, 5, 21, 7, 5, 160, 0, 7, 4, 167, 0, 4, 3, 96, 54, 5, 132, 6, 1, 167, 255, 174]
abbrev dktX1_partBy_3 : List UInt8 := dkwX1_partBy_3 ++ dktX1_partBy_4
def dkwX1_partBy_2 : List UInt8 := [154, 0, 7, 4, 167, 0, 4, 3, 96, 62, 21, 4, 21, 7, 4, 160, 0, 7, 4, 167, 0, 4, 3, 96]
abbrev dktX1_partBy_2 : List UInt8 := dkwX1_partBy_2 ++ dktX1_partBy_3
def dkwX1_partBy_1 : List UInt8 := [21, 6, 182, 2, 45, 154, 0, 6, 167, 0, 58, 42, 27, 28, 21, 6, 182, 2, 39, 54, 7, 29, 21, 7]
abbrev dktX1_partBy_1 : List UInt8 := dkwX1_partBy_1 ++ dktX1_partBy_2
def dkwX1_partBy_0 : List UInt8 := [3, 62, 3, 54, 4, 3, 54, 5, 2, 54, 6, 21, 6, 42, 180, 0, 10, 180, 0, 133, 162, 0, 76, 42]
abbrev dktX1_partBy_0 : List UInt8 := dkwX1_partBy_0 ++ dktX1_partBy_1
theorem dksX1_partBy_0 : cX1_partBy.data.toList.drop 0 = dktX1_partBy_0 := by decide +kernel
theorem dksX1_partBy_1 : cX1_partBy.data.toList.drop 24 = dktX1_partBy_1 := dk_seg dksX1_partBy_0 24 rfl rfl
theorem dksX1_partBy_2 : cX1_partBy.data.toList.drop 48 = dktX1_partBy_2 := dk_seg dksX1_partBy_1 24 rfl rfl
theorem dksX1_partBy_3 : cX1_partBy.data.toList.drop 72 = dktX1_partBy_3 := dk_seg dksX1_partBy_2 24 rfl rfl
theorem dksX1_partBy_4 : cX1_partBy.data.toList.drop 96 = dktX1_partBy_4 := dk_seg dksX1_partBy_3 24 rfl rfl
theorem dksX1_partBy_5 : cX1_partBy.data.toList.drop 119 = dktX1_partBy_5 := dk_seg dksX1_partBy_4 23 rfl rfl
theorem dX1_partBy_0 : decode cX1_partBy 0 = .ok (.iconst 0, 1) := dk_3 (dk_at dksX1_partBy_0 0 rfl rfl)
theorem dX1_partBy_1 : decode cX1_partBy 1 = .ok (.istore_n 3, 1) := dk_62 (dk_at dksX1_partBy_0 1 rfl rfl)
theorem dX1_partBy_2 : decode cX1_partBy 2 = .ok (.iconst 0, 1) := dk_3 (dk_at dksX1_partBy_0 2 rfl rfl)
theorem dX1_partBy_3 : decode cX1_partBy 3 = .ok (.istore 4, 2) := dk_54 4 (dk_at dksX1_partBy_0 3 rfl rfl)
theorem dX1_partBy_5 : decode cX1_partBy 5 = .ok (.iconst 0, 1) := dk_3 (dk_at dksX1_partBy_0 5 rfl rfl)
theorem dX1_partBy_6 : decode cX1_partBy 6 = .ok (.istore 5, 2) := dk_54 5 (dk_at dksX1_partBy_0 6 rfl rfl)
theorem dX1_partBy_8 : decode cX1_partBy 8 = .ok (.iconst (-1), 1) := dk_2 (dk_at dksX1_partBy_0 8 rfl rfl)
theorem dX1_partBy_9 : decode cX1_partBy 9 = .ok (.istore 6, 2) := dk_54 6 (dk_at dksX1_partBy_0 9 rfl rfl)
theorem dX1_partBy_11 : decode cX1_partBy 11 = .ok (.iload 6, 2) := dk_21 6 (dk_at dksX1_partBy_0 11 rfl rfl)
theorem dX1_partBy_13 : decode cX1_partBy 13 = .ok (.aload_n 0, 1) := dk_42 (dk_at dksX1_partBy_0 13 rfl rfl)
theorem dX1_partBy_14 : decode cX1_partBy 14 = .ok (.getfield 10, 3) := dk_180 0 10 (dk_at dksX1_partBy_0 14 rfl rfl)
theorem dX1_partBy_17 : decode cX1_partBy 17 = .ok (.getfield 133, 3) := dk_180 0 133 (dk_at dksX1_partBy_0 17 rfl rfl)
theorem dX1_partBy_20 : decode cX1_partBy 20 = .ok (.if_icmp .ge 76, 3) := dk_162 0 76 (dk_at dksX1_partBy_0 20 rfl rfl)
theorem dX1_partBy_23 : decode cX1_partBy 23 = .ok (.aload_n 0, 1) := dk_42 (dk_at dksX1_partBy_0 23 rfl rfl)
theorem dX1_partBy_24 : decode cX1_partBy 24 = .ok (.iload 6, 2) := dk_21 6 (dk_at dksX1_partBy_1 0 rfl rfl)
theorem dX1_partBy_26 : decode cX1_partBy 26 = .ok (.invokevirtual 557, 3) := dk_182 2 45 (dk_at dksX1_partBy_1 2 rfl rfl)
theorem dX1_partBy_29 : decode cX1_partBy 29 = .ok (.ifCond .ne 6, 3) := dk_154 0 6 (dk_at dksX1_partBy_1 5 rfl rfl)
theorem dX1_partBy_32 : decode cX1_partBy 32 = .ok (.goto 58, 3) := dk_167 0 58 (dk_at dksX1_partBy_1 8 rfl rfl)
theorem dX1_partBy_35 : decode cX1_partBy 35 = .ok (.aload_n 0, 1) := dk_42 (dk_at dksX1_partBy_1 11 rfl rfl)
theorem dX1_partBy_36 : decode cX1_partBy 36 = .ok (.iload_n 1, 1) := dk_27 (dk_at dksX1_partBy_1 12 rfl rfl)
theorem dX1_partBy_37 : decode cX1_partBy 37 = .ok (.iload_n 2, 1) := dk_28 (dk_at dksX1_partBy_1 13 rfl rfl)
theorem dX1_partBy_38 : decode cX1_partBy 38 = .ok (.iload 6, 2) := dk_21 6 (dk_at dksX1_partBy_1 14 rfl rfl)
theorem dX1_partBy_40 : decode cX1_partBy 40 = .ok (.invokevirtual 551, 3) := dk_182 2 39 (dk_at dksX1_partBy_1 16 rfl rfl)
theorem dX1_partBy_43 : decode cX1_partBy 43 = .ok (.istore 7, 2) := dk_54 7 (dk_at dksX1_partBy_1 19 rfl rfl)
theorem dX1_partBy_45 : decode cX1_partBy 45 = .ok (.iload_n 3, 1) := dk_29 (dk_at dksX1_partBy_1 21 rfl rfl)
theorem dX1_partBy_46 : decode cX1_partBy 46 = .ok (.iload 7, 2) := dk_21 7 (dk_at dksX1_partBy_1 22 rfl rfl)
theorem dX1_partBy_48 : decode cX1_partBy 48 = .ok (.ifCond .ne 7, 3) := dk_154 0 7 (dk_at dksX1_partBy_2 0 rfl rfl)
theorem dX1_partBy_51 : decode cX1_partBy 51 = .ok (.iconst 1, 1) := dk_4 (dk_at dksX1_partBy_2 3 rfl rfl)
theorem dX1_partBy_52 : decode cX1_partBy 52 = .ok (.goto 4, 3) := dk_167 0 4 (dk_at dksX1_partBy_2 4 rfl rfl)
theorem dX1_partBy_55 : decode cX1_partBy 55 = .ok (.iconst 0, 1) := dk_3 (dk_at dksX1_partBy_2 7 rfl rfl)
theorem dX1_partBy_56 : decode cX1_partBy 56 = .ok (.iadd, 1) := dk_96 (dk_at dksX1_partBy_2 8 rfl rfl)
theorem dX1_partBy_57 : decode cX1_partBy 57 = .ok (.istore_n 3, 1) := dk_62 (dk_at dksX1_partBy_2 9 rfl rfl)
theorem dX1_partBy_58 : decode cX1_partBy 58 = .ok (.iload 4, 2) := dk_21 4 (dk_at dksX1_partBy_2 10 rfl rfl)
theorem dX1_partBy_60 : decode cX1_partBy 60 = .ok (.iload 7, 2) := dk_21 7 (dk_at dksX1_partBy_2 12 rfl rfl)
theorem dX1_partBy_62 : decode cX1_partBy 62 = .ok (.iconst 1, 1) := dk_4 (dk_at dksX1_partBy_2 14 rfl rfl)
theorem dX1_partBy_63 : decode cX1_partBy 63 = .ok (.if_icmp .ne 7, 3) := dk_160 0 7 (dk_at dksX1_partBy_2 15 rfl rfl)
theorem dX1_partBy_66 : decode cX1_partBy 66 = .ok (.iconst 1, 1) := dk_4 (dk_at dksX1_partBy_2 18 rfl rfl)
theorem dX1_partBy_67 : decode cX1_partBy 67 = .ok (.goto 4, 3) := dk_167 0 4 (dk_at dksX1_partBy_2 19 rfl rfl)
theorem dX1_partBy_70 : decode cX1_partBy 70 = .ok (.iconst 0, 1) := dk_3 (dk_at dksX1_partBy_2 22 rfl rfl)
theorem dX1_partBy_71 : decode cX1_partBy 71 = .ok (.iadd, 1) := dk_96 (dk_at dksX1_partBy_2 23 rfl rfl)
theorem dX1_partBy_72 : decode cX1_partBy 72 = .ok (.istore 4, 2) := dk_54 4 (dk_at dksX1_partBy_3 0 rfl rfl)
theorem dX1_partBy_74 : decode cX1_partBy 74 = .ok (.iload 5, 2) := dk_21 5 (dk_at dksX1_partBy_3 2 rfl rfl)
theorem dX1_partBy_76 : decode cX1_partBy 76 = .ok (.iload 7, 2) := dk_21 7 (dk_at dksX1_partBy_3 4 rfl rfl)
theorem dX1_partBy_78 : decode cX1_partBy 78 = .ok (.iconst 2, 1) := dk_5 (dk_at dksX1_partBy_3 6 rfl rfl)
theorem dX1_partBy_79 : decode cX1_partBy 79 = .ok (.if_icmp .ne 7, 3) := dk_160 0 7 (dk_at dksX1_partBy_3 7 rfl rfl)
theorem dX1_partBy_82 : decode cX1_partBy 82 = .ok (.iconst 1, 1) := dk_4 (dk_at dksX1_partBy_3 10 rfl rfl)
theorem dX1_partBy_83 : decode cX1_partBy 83 = .ok (.goto 4, 3) := dk_167 0 4 (dk_at dksX1_partBy_3 11 rfl rfl)
theorem dX1_partBy_86 : decode cX1_partBy 86 = .ok (.iconst 0, 1) := dk_3 (dk_at dksX1_partBy_3 14 rfl rfl)
theorem dX1_partBy_87 : decode cX1_partBy 87 = .ok (.iadd, 1) := dk_96 (dk_at dksX1_partBy_3 15 rfl rfl)
theorem dX1_partBy_88 : decode cX1_partBy 88 = .ok (.istore 5, 2) := dk_54 5 (dk_at dksX1_partBy_3 16 rfl rfl)
theorem dX1_partBy_90 : decode cX1_partBy 90 = .ok (.iinc 6 1, 3) := dk_132 6 1 (dk_at dksX1_partBy_3 18 rfl rfl)
theorem dX1_partBy_93 : decode cX1_partBy 93 = .ok (.goto (-82), 3) := dk_167 255 174 (dk_at dksX1_partBy_3 21 rfl rfl)
theorem dX1_partBy_96 : decode cX1_partBy 96 = .ok (.iload_n 3, 1) := dk_29 (dk_at dksX1_partBy_4 0 rfl rfl)
theorem dX1_partBy_97 : decode cX1_partBy 97 = .ok (.iload 4, 2) := dk_21 4 (dk_at dksX1_partBy_4 1 rfl rfl)
theorem dX1_partBy_99 : decode cX1_partBy 99 = .ok (.iadd, 1) := dk_96 (dk_at dksX1_partBy_4 3 rfl rfl)
theorem dX1_partBy_100 : decode cX1_partBy 100 = .ok (.iload 5, 2) := dk_21 5 (dk_at dksX1_partBy_4 4 rfl rfl)
theorem dX1_partBy_102 : decode cX1_partBy 102 = .ok (.iadd, 1) := dk_96 (dk_at dksX1_partBy_4 6 rfl rfl)
theorem dX1_partBy_103 : decode cX1_partBy 103 = .ok (.iconst 2, 1) := dk_5 (dk_at dksX1_partBy_4 7 rfl rfl)
theorem dX1_partBy_104 : decode cX1_partBy 104 = .ok (.if_icmp .ge 7, 3) := dk_162 0 7 (dk_at dksX1_partBy_4 8 rfl rfl)
theorem dX1_partBy_107 : decode cX1_partBy 107 = .ok (.iconst (-1), 1) := dk_2 (dk_at dksX1_partBy_4 11 rfl rfl)
theorem dX1_partBy_108 : decode cX1_partBy 108 = .ok (.goto 14, 3) := dk_167 0 14 (dk_at dksX1_partBy_4 12 rfl rfl)
theorem dX1_partBy_111 : decode cX1_partBy 111 = .ok (.iload_n 3, 1) := dk_29 (dk_at dksX1_partBy_4 15 rfl rfl)
theorem dX1_partBy_112 : decode cX1_partBy 112 = .ok (.iload 4, 2) := dk_21 4 (dk_at dksX1_partBy_4 16 rfl rfl)
theorem dX1_partBy_114 : decode cX1_partBy 114 = .ok (.iload 5, 2) := dk_21 5 (dk_at dksX1_partBy_4 18 rfl rfl)
theorem dX1_partBy_116 : decode cX1_partBy 116 = .ok (.invokestatic 366, 3) := dk_184 1 110 (dk_at dksX1_partBy_4 20 rfl rfl)
theorem dX1_partBy_119 : decode cX1_partBy 119 = .ok (.invokestatic 366, 3) := dk_184 1 110 (dk_at dksX1_partBy_5 0 rfl rfl)
theorem dX1_partBy_122 : decode cX1_partBy 122 = .ok (.ireturn, 1) := dk_172 (dk_at dksX1_partBy_5 3 rfl rfl)
abbrev cX1_gravel : ByteArray := prog_1_method_84_code
def yX1_gravel : MethodName := ⟨RX1, "gravel", "(I)I"⟩
def dkwX1_gravel_1 : List UInt8 := [182, 1, 195, 42, 180, 0, 10, 42, 180, 0, 10, 182, 2, 55, 182, 1, 195, 100, 172]
abbrev dktX1_gravel_1 : List UInt8 := dkwX1_gravel_1 ++ []
def dkwX1_gravel_0 : List UInt8 := [27, 3, 17, 0, 200, 184, 1, 160, 184, 1, 229, 42, 27, 182, 2, 51, 77, 44, 44, 182, 2, 55]
abbrev dktX1_gravel_0 : List UInt8 := dkwX1_gravel_0 ++ dktX1_gravel_1
theorem dksX1_gravel_0 : cX1_gravel.data.toList.drop 0 = dktX1_gravel_0 := by decide +kernel
theorem dksX1_gravel_1 : cX1_gravel.data.toList.drop 22 = dktX1_gravel_1 := dk_seg dksX1_gravel_0 22 rfl rfl
theorem dX1_gravel_0 : decode cX1_gravel 0 = .ok (.iload_n 1, 1) := dk_27 (dk_at dksX1_gravel_0 0 rfl rfl)
theorem dX1_gravel_1 : decode cX1_gravel 1 = .ok (.iconst 0, 1) := dk_3 (dk_at dksX1_gravel_0 1 rfl rfl)
theorem dX1_gravel_2 : decode cX1_gravel 2 = .ok (.sipush 200, 3) := dk_17 0 200 (dk_at dksX1_gravel_0 2 rfl rfl)
theorem dX1_gravel_5 : decode cX1_gravel 5 = .ok (.invokestatic 416, 3) := dk_184 1 160 (dk_at dksX1_gravel_0 5 rfl rfl)
theorem dX1_gravel_8 : decode cX1_gravel 8 = .ok (.invokestatic 485, 3) := dk_184 1 229 (dk_at dksX1_gravel_0 8 rfl rfl)
theorem dX1_gravel_11 : decode cX1_gravel 11 = .ok (.aload_n 0, 1) := dk_42 (dk_at dksX1_gravel_0 11 rfl rfl)
theorem dX1_gravel_12 : decode cX1_gravel 12 = .ok (.iload_n 1, 1) := dk_27 (dk_at dksX1_gravel_0 12 rfl rfl)
theorem dX1_gravel_13 : decode cX1_gravel 13 = .ok (.invokevirtual 563, 3) := dk_182 2 51 (dk_at dksX1_gravel_0 13 rfl rfl)
theorem dX1_gravel_16 : decode cX1_gravel 16 = .ok (.astore_n 2, 1) := dk_77 (dk_at dksX1_gravel_0 16 rfl rfl)
theorem dX1_gravel_17 : decode cX1_gravel 17 = .ok (.aload_n 2, 1) := dk_44 (dk_at dksX1_gravel_0 17 rfl rfl)
theorem dX1_gravel_18 : decode cX1_gravel 18 = .ok (.aload_n 2, 1) := dk_44 (dk_at dksX1_gravel_0 18 rfl rfl)
theorem dX1_gravel_19 : decode cX1_gravel 19 = .ok (.invokevirtual 567, 3) := dk_182 2 55 (dk_at dksX1_gravel_0 19 rfl rfl)
theorem dX1_gravel_22 : decode cX1_gravel 22 = .ok (.invokevirtual 451, 3) := dk_182 1 195 (dk_at dksX1_gravel_1 0 rfl rfl)
theorem dX1_gravel_25 : decode cX1_gravel 25 = .ok (.aload_n 0, 1) := dk_42 (dk_at dksX1_gravel_1 3 rfl rfl)
theorem dX1_gravel_26 : decode cX1_gravel 26 = .ok (.getfield 10, 3) := dk_180 0 10 (dk_at dksX1_gravel_1 4 rfl rfl)
theorem dX1_gravel_29 : decode cX1_gravel 29 = .ok (.aload_n 0, 1) := dk_42 (dk_at dksX1_gravel_1 7 rfl rfl)
theorem dX1_gravel_30 : decode cX1_gravel 30 = .ok (.getfield 10, 3) := dk_180 0 10 (dk_at dksX1_gravel_1 8 rfl rfl)
theorem dX1_gravel_33 : decode cX1_gravel 33 = .ok (.invokevirtual 567, 3) := dk_182 2 55 (dk_at dksX1_gravel_1 11 rfl rfl)
theorem dX1_gravel_36 : decode cX1_gravel 36 = .ok (.invokevirtual 451, 3) := dk_182 1 195 (dk_at dksX1_gravel_1 14 rfl rfl)
theorem dX1_gravel_39 : decode cX1_gravel 39 = .ok (.isub, 1) := dk_100 (dk_at dksX1_gravel_1 17 rfl rfl)
theorem dX1_gravel_40 : decode cX1_gravel 40 = .ok (.ireturn, 1) := dk_172 (dk_at dksX1_gravel_1 18 rfl rfl)
abbrev cX1_worldAt : ByteArray := prog_1_method_32_code
def yX1_worldAt : MethodName := ⟨RX1, "worldAt", "(I)LStoneBacks$World;"⟩
def dkwX1_worldAt_1 : List UInt8 := [3, 182, 1, 157, 87, 132, 2, 1, 167, 255, 238, 42, 180, 0, 36, 176]
abbrev dktX1_worldAt_1 : List UInt8 := dkwX1_worldAt_1 ++ []
def dkwX1_worldAt_0 : List UInt8 := [42, 180, 0, 36, 42, 180, 0, 10, 182, 0, 204, 87, 3, 61, 28, 27, 162, 0, 19, 42, 42, 180, 0, 36]
abbrev dktX1_worldAt_0 : List UInt8 := dkwX1_worldAt_0 ++ dktX1_worldAt_1
theorem dksX1_worldAt_0 : cX1_worldAt.data.toList.drop 0 = dktX1_worldAt_0 := by decide +kernel
theorem dksX1_worldAt_1 : cX1_worldAt.data.toList.drop 24 = dktX1_worldAt_1 := dk_seg dksX1_worldAt_0 24 rfl rfl
theorem dX1_worldAt_0 : decode cX1_worldAt 0 = .ok (.aload_n 0, 1) := dk_42 (dk_at dksX1_worldAt_0 0 rfl rfl)
theorem dX1_worldAt_1 : decode cX1_worldAt 1 = .ok (.getfield 36, 3) := dk_180 0 36 (dk_at dksX1_worldAt_0 1 rfl rfl)
theorem dX1_worldAt_4 : decode cX1_worldAt 4 = .ok (.aload_n 0, 1) := dk_42 (dk_at dksX1_worldAt_0 4 rfl rfl)
theorem dX1_worldAt_5 : decode cX1_worldAt 5 = .ok (.getfield 10, 3) := dk_180 0 10 (dk_at dksX1_worldAt_0 5 rfl rfl)
theorem dX1_worldAt_8 : decode cX1_worldAt 8 = .ok (.invokevirtual 204, 3) := dk_182 0 204 (dk_at dksX1_worldAt_0 8 rfl rfl)
theorem dX1_worldAt_11 : decode cX1_worldAt 11 = .ok (.pop, 1) := dk_87 (dk_at dksX1_worldAt_0 11 rfl rfl)
theorem dX1_worldAt_12 : decode cX1_worldAt 12 = .ok (.iconst 0, 1) := dk_3 (dk_at dksX1_worldAt_0 12 rfl rfl)
theorem dX1_worldAt_13 : decode cX1_worldAt 13 = .ok (.istore_n 2, 1) := dk_61 (dk_at dksX1_worldAt_0 13 rfl rfl)
theorem dX1_worldAt_14 : decode cX1_worldAt 14 = .ok (.iload_n 2, 1) := dk_28 (dk_at dksX1_worldAt_0 14 rfl rfl)
theorem dX1_worldAt_15 : decode cX1_worldAt 15 = .ok (.iload_n 1, 1) := dk_27 (dk_at dksX1_worldAt_0 15 rfl rfl)
theorem dX1_worldAt_16 : decode cX1_worldAt 16 = .ok (.if_icmp .ge 19, 3) := dk_162 0 19 (dk_at dksX1_worldAt_0 16 rfl rfl)
theorem dX1_worldAt_19 : decode cX1_worldAt 19 = .ok (.aload_n 0, 1) := dk_42 (dk_at dksX1_worldAt_0 19 rfl rfl)
theorem dX1_worldAt_20 : decode cX1_worldAt 20 = .ok (.aload_n 0, 1) := dk_42 (dk_at dksX1_worldAt_0 20 rfl rfl)
theorem dX1_worldAt_21 : decode cX1_worldAt 21 = .ok (.getfield 36, 3) := dk_180 0 36 (dk_at dksX1_worldAt_0 21 rfl rfl)
theorem dX1_worldAt_24 : decode cX1_worldAt 24 = .ok (.iconst 0, 1) := dk_3 (dk_at dksX1_worldAt_1 0 rfl rfl)
theorem dX1_worldAt_25 : decode cX1_worldAt 25 = .ok (.invokevirtual 413, 3) := dk_182 1 157 (dk_at dksX1_worldAt_1 1 rfl rfl)
theorem dX1_worldAt_28 : decode cX1_worldAt 28 = .ok (.pop, 1) := dk_87 (dk_at dksX1_worldAt_1 4 rfl rfl)
theorem dX1_worldAt_29 : decode cX1_worldAt 29 = .ok (.iinc 2 1, 3) := dk_132 2 1 (dk_at dksX1_worldAt_1 5 rfl rfl)
theorem dX1_worldAt_32 : decode cX1_worldAt 32 = .ok (.goto (-18), 3) := dk_167 255 238 (dk_at dksX1_worldAt_1 8 rfl rfl)
theorem dX1_worldAt_35 : decode cX1_worldAt 35 = .ok (.aload_n 0, 1) := dk_42 (dk_at dksX1_worldAt_1 11 rfl rfl)
theorem dX1_worldAt_36 : decode cX1_worldAt 36 = .ok (.getfield 36, 3) := dk_180 0 36 (dk_at dksX1_worldAt_1 12 rfl rfl)
theorem dX1_worldAt_39 : decode cX1_worldAt 39 = .ok (.areturn, 1) := dk_176 (dk_at dksX1_worldAt_1 15 rfl rfl)
abbrev cX1_ahead : ByteArray := prog_1_method_85_code
def yX1_ahead : MethodName := ⟨RX1, "ahead", "(III)I"⟩
def dkwX1_ahead_3 : List UInt8 := [167, 0, 9, 25, 4, 27, 182, 1, 81, 172]
abbrev dktX1_ahead_3 : List UInt8 := dkwX1_ahead_3 ++ []
def dkwX1_ahead_2 : List UInt8 := [25, 4, 180, 0, 110, 27, 46, 167, 0, 24, 29, 5, 160, 0, 13, 25, 4, 180, 0, 126, 27, 46]
abbrev dktX1_ahead_2 : List UInt8 := dkwX1_ahead_2 ++ dktX1_ahead_3
def dkwX1_ahead_1 : List UInt8 := [182, 2, 51, 58, 4, 29, 154, 0, 13, 25, 4, 180, 0, 99, 27, 46, 167, 0, 39, 29, 4, 160, 0, 13]
abbrev dktX1_ahead_1 : List UInt8 := dkwX1_ahead_1 ++ dktX1_ahead_2
def dkwX1_ahead_0 : List UInt8 := [42, 27, 182, 1, 183, 28, 3, 17, 0, 200, 184, 1, 160, 184, 1, 229, 29, 6, 184, 1, 186, 42, 28]
abbrev dktX1_ahead_0 : List UInt8 := dkwX1_ahead_0 ++ dktX1_ahead_1
theorem dksX1_ahead_0 : cX1_ahead.data.toList.drop 0 = dktX1_ahead_0 := by decide +kernel
theorem dksX1_ahead_1 : cX1_ahead.data.toList.drop 23 = dktX1_ahead_1 := dk_seg dksX1_ahead_0 23 rfl rfl
theorem dksX1_ahead_2 : cX1_ahead.data.toList.drop 47 = dktX1_ahead_2 := dk_seg dksX1_ahead_1 24 rfl rfl
theorem dksX1_ahead_3 : cX1_ahead.data.toList.drop 69 = dktX1_ahead_3 := dk_seg dksX1_ahead_2 22 rfl rfl
theorem dX1_ahead_0 : decode cX1_ahead 0 = .ok (.aload_n 0, 1) := dk_42 (dk_at dksX1_ahead_0 0 rfl rfl)
theorem dX1_ahead_1 : decode cX1_ahead 1 = .ok (.iload_n 1, 1) := dk_27 (dk_at dksX1_ahead_0 1 rfl rfl)
theorem dX1_ahead_2 : decode cX1_ahead 2 = .ok (.invokevirtual 439, 3) := dk_182 1 183 (dk_at dksX1_ahead_0 2 rfl rfl)
theorem dX1_ahead_5 : decode cX1_ahead 5 = .ok (.iload_n 2, 1) := dk_28 (dk_at dksX1_ahead_0 5 rfl rfl)
theorem dX1_ahead_6 : decode cX1_ahead 6 = .ok (.iconst 0, 1) := dk_3 (dk_at dksX1_ahead_0 6 rfl rfl)
theorem dX1_ahead_7 : decode cX1_ahead 7 = .ok (.sipush 200, 3) := dk_17 0 200 (dk_at dksX1_ahead_0 7 rfl rfl)
theorem dX1_ahead_10 : decode cX1_ahead 10 = .ok (.invokestatic 416, 3) := dk_184 1 160 (dk_at dksX1_ahead_0 10 rfl rfl)
theorem dX1_ahead_13 : decode cX1_ahead 13 = .ok (.invokestatic 485, 3) := dk_184 1 229 (dk_at dksX1_ahead_0 13 rfl rfl)
theorem dX1_ahead_16 : decode cX1_ahead 16 = .ok (.iload_n 3, 1) := dk_29 (dk_at dksX1_ahead_0 16 rfl rfl)
theorem dX1_ahead_17 : decode cX1_ahead 17 = .ok (.iconst 3, 1) := dk_6 (dk_at dksX1_ahead_0 17 rfl rfl)
theorem dX1_ahead_18 : decode cX1_ahead 18 = .ok (.invokestatic 442, 3) := dk_184 1 186 (dk_at dksX1_ahead_0 18 rfl rfl)
theorem dX1_ahead_21 : decode cX1_ahead 21 = .ok (.aload_n 0, 1) := dk_42 (dk_at dksX1_ahead_0 21 rfl rfl)
theorem dX1_ahead_22 : decode cX1_ahead 22 = .ok (.iload_n 2, 1) := dk_28 (dk_at dksX1_ahead_0 22 rfl rfl)
theorem dX1_ahead_23 : decode cX1_ahead 23 = .ok (.invokevirtual 563, 3) := dk_182 2 51 (dk_at dksX1_ahead_1 0 rfl rfl)
theorem dX1_ahead_26 : decode cX1_ahead 26 = .ok (.astore 4, 2) := dk_58 4 (dk_at dksX1_ahead_1 3 rfl rfl)
theorem dX1_ahead_28 : decode cX1_ahead 28 = .ok (.iload_n 3, 1) := dk_29 (dk_at dksX1_ahead_1 5 rfl rfl)
theorem dX1_ahead_29 : decode cX1_ahead 29 = .ok (.ifCond .ne 13, 3) := dk_154 0 13 (dk_at dksX1_ahead_1 6 rfl rfl)
theorem dX1_ahead_32 : decode cX1_ahead 32 = .ok (.aload 4, 2) := dk_25 4 (dk_at dksX1_ahead_1 9 rfl rfl)
theorem dX1_ahead_34 : decode cX1_ahead 34 = .ok (.getfield 99, 3) := dk_180 0 99 (dk_at dksX1_ahead_1 11 rfl rfl)
theorem dX1_ahead_37 : decode cX1_ahead 37 = .ok (.iload_n 1, 1) := dk_27 (dk_at dksX1_ahead_1 14 rfl rfl)
theorem dX1_ahead_38 : decode cX1_ahead 38 = .ok (.iaload, 1) := dk_46 (dk_at dksX1_ahead_1 15 rfl rfl)
theorem dX1_ahead_39 : decode cX1_ahead 39 = .ok (.goto 39, 3) := dk_167 0 39 (dk_at dksX1_ahead_1 16 rfl rfl)
theorem dX1_ahead_42 : decode cX1_ahead 42 = .ok (.iload_n 3, 1) := dk_29 (dk_at dksX1_ahead_1 19 rfl rfl)
theorem dX1_ahead_43 : decode cX1_ahead 43 = .ok (.iconst 1, 1) := dk_4 (dk_at dksX1_ahead_1 20 rfl rfl)
theorem dX1_ahead_44 : decode cX1_ahead 44 = .ok (.if_icmp .ne 13, 3) := dk_160 0 13 (dk_at dksX1_ahead_1 21 rfl rfl)
theorem dX1_ahead_47 : decode cX1_ahead 47 = .ok (.aload 4, 2) := dk_25 4 (dk_at dksX1_ahead_2 0 rfl rfl)
theorem dX1_ahead_49 : decode cX1_ahead 49 = .ok (.getfield 110, 3) := dk_180 0 110 (dk_at dksX1_ahead_2 2 rfl rfl)
theorem dX1_ahead_52 : decode cX1_ahead 52 = .ok (.iload_n 1, 1) := dk_27 (dk_at dksX1_ahead_2 5 rfl rfl)
theorem dX1_ahead_53 : decode cX1_ahead 53 = .ok (.iaload, 1) := dk_46 (dk_at dksX1_ahead_2 6 rfl rfl)
theorem dX1_ahead_54 : decode cX1_ahead 54 = .ok (.goto 24, 3) := dk_167 0 24 (dk_at dksX1_ahead_2 7 rfl rfl)
theorem dX1_ahead_57 : decode cX1_ahead 57 = .ok (.iload_n 3, 1) := dk_29 (dk_at dksX1_ahead_2 10 rfl rfl)
theorem dX1_ahead_58 : decode cX1_ahead 58 = .ok (.iconst 2, 1) := dk_5 (dk_at dksX1_ahead_2 11 rfl rfl)
theorem dX1_ahead_59 : decode cX1_ahead 59 = .ok (.if_icmp .ne 13, 3) := dk_160 0 13 (dk_at dksX1_ahead_2 12 rfl rfl)
theorem dX1_ahead_62 : decode cX1_ahead 62 = .ok (.aload 4, 2) := dk_25 4 (dk_at dksX1_ahead_2 15 rfl rfl)
theorem dX1_ahead_64 : decode cX1_ahead 64 = .ok (.getfield 126, 3) := dk_180 0 126 (dk_at dksX1_ahead_2 17 rfl rfl)
theorem dX1_ahead_67 : decode cX1_ahead 67 = .ok (.iload_n 1, 1) := dk_27 (dk_at dksX1_ahead_2 20 rfl rfl)
theorem dX1_ahead_68 : decode cX1_ahead 68 = .ok (.iaload, 1) := dk_46 (dk_at dksX1_ahead_2 21 rfl rfl)
theorem dX1_ahead_69 : decode cX1_ahead 69 = .ok (.goto 9, 3) := dk_167 0 9 (dk_at dksX1_ahead_3 0 rfl rfl)
theorem dX1_ahead_72 : decode cX1_ahead 72 = .ok (.aload 4, 2) := dk_25 4 (dk_at dksX1_ahead_3 3 rfl rfl)
theorem dX1_ahead_74 : decode cX1_ahead 74 = .ok (.iload_n 1, 1) := dk_27 (dk_at dksX1_ahead_3 5 rfl rfl)
theorem dX1_ahead_75 : decode cX1_ahead 75 = .ok (.invokevirtual 337, 3) := dk_182 1 81 (dk_at dksX1_ahead_3 6 rfl rfl)
theorem dX1_ahead_78 : decode cX1_ahead 78 = .ok (.ireturn, 1) := dk_172 (dk_at dksX1_ahead_3 9 rfl rfl)
abbrev cX1_trial : ByteArray := prog_1_method_87_code
def yX1_trial : MethodName := ⟨RX1, "trial", "(IZ)I"⟩
def dkwX1_trial_2 : List UInt8 := [172]
abbrev dktX1_trial_2 : List UInt8 := dkwX1_trial_2 ++ []
def dkwX1_trial_1 : List UInt8 := [182, 2, 58, 28, 153, 0, 13, 42, 180, 0, 59, 182, 2, 61, 167, 0, 10, 42, 180, 0, 59, 182, 2, 64]
abbrev dktX1_trial_1 : List UInt8 := dkwX1_trial_1 ++ dktX1_trial_2
def dkwX1_trial_0 : List UInt8 := [27, 3, 16, 100, 184, 1, 160, 184, 1, 229, 42, 180, 0, 59, 42, 180, 0, 10, 182, 0, 204, 87, 42, 27]
abbrev dktX1_trial_0 : List UInt8 := dkwX1_trial_0 ++ dktX1_trial_1
theorem dksX1_trial_0 : cX1_trial.data.toList.drop 0 = dktX1_trial_0 := by decide +kernel
theorem dksX1_trial_1 : cX1_trial.data.toList.drop 24 = dktX1_trial_1 := dk_seg dksX1_trial_0 24 rfl rfl
theorem dksX1_trial_2 : cX1_trial.data.toList.drop 48 = dktX1_trial_2 := dk_seg dksX1_trial_1 24 rfl rfl
theorem dX1_trial_0 : decode cX1_trial 0 = .ok (.iload_n 1, 1) := dk_27 (dk_at dksX1_trial_0 0 rfl rfl)
theorem dX1_trial_1 : decode cX1_trial 1 = .ok (.iconst 0, 1) := dk_3 (dk_at dksX1_trial_0 1 rfl rfl)
theorem dX1_trial_2 : decode cX1_trial 2 = .ok (.bipush 100, 2) := dk_16 100 (dk_at dksX1_trial_0 2 rfl rfl)
theorem dX1_trial_4 : decode cX1_trial 4 = .ok (.invokestatic 416, 3) := dk_184 1 160 (dk_at dksX1_trial_0 4 rfl rfl)
theorem dX1_trial_7 : decode cX1_trial 7 = .ok (.invokestatic 485, 3) := dk_184 1 229 (dk_at dksX1_trial_0 7 rfl rfl)
theorem dX1_trial_10 : decode cX1_trial 10 = .ok (.aload_n 0, 1) := dk_42 (dk_at dksX1_trial_0 10 rfl rfl)
theorem dX1_trial_11 : decode cX1_trial 11 = .ok (.getfield 59, 3) := dk_180 0 59 (dk_at dksX1_trial_0 11 rfl rfl)
theorem dX1_trial_14 : decode cX1_trial 14 = .ok (.aload_n 0, 1) := dk_42 (dk_at dksX1_trial_0 14 rfl rfl)
theorem dX1_trial_15 : decode cX1_trial 15 = .ok (.getfield 10, 3) := dk_180 0 10 (dk_at dksX1_trial_0 15 rfl rfl)
theorem dX1_trial_18 : decode cX1_trial 18 = .ok (.invokevirtual 204, 3) := dk_182 0 204 (dk_at dksX1_trial_0 18 rfl rfl)
theorem dX1_trial_21 : decode cX1_trial 21 = .ok (.pop, 1) := dk_87 (dk_at dksX1_trial_0 21 rfl rfl)
theorem dX1_trial_22 : decode cX1_trial 22 = .ok (.aload_n 0, 1) := dk_42 (dk_at dksX1_trial_0 22 rfl rfl)
theorem dX1_trial_23 : decode cX1_trial 23 = .ok (.iload_n 1, 1) := dk_27 (dk_at dksX1_trial_0 23 rfl rfl)
theorem dX1_trial_24 : decode cX1_trial 24 = .ok (.invokevirtual 570, 3) := dk_182 2 58 (dk_at dksX1_trial_1 0 rfl rfl)
theorem dX1_trial_27 : decode cX1_trial 27 = .ok (.iload_n 2, 1) := dk_28 (dk_at dksX1_trial_1 3 rfl rfl)
theorem dX1_trial_28 : decode cX1_trial 28 = .ok (.ifCond .eq 13, 3) := dk_153 0 13 (dk_at dksX1_trial_1 4 rfl rfl)
theorem dX1_trial_31 : decode cX1_trial 31 = .ok (.aload_n 0, 1) := dk_42 (dk_at dksX1_trial_1 7 rfl rfl)
theorem dX1_trial_32 : decode cX1_trial 32 = .ok (.getfield 59, 3) := dk_180 0 59 (dk_at dksX1_trial_1 8 rfl rfl)
theorem dX1_trial_35 : decode cX1_trial 35 = .ok (.invokevirtual 573, 3) := dk_182 2 61 (dk_at dksX1_trial_1 11 rfl rfl)
theorem dX1_trial_38 : decode cX1_trial 38 = .ok (.goto 10, 3) := dk_167 0 10 (dk_at dksX1_trial_1 14 rfl rfl)
theorem dX1_trial_41 : decode cX1_trial 41 = .ok (.aload_n 0, 1) := dk_42 (dk_at dksX1_trial_1 17 rfl rfl)
theorem dX1_trial_42 : decode cX1_trial 42 = .ok (.getfield 59, 3) := dk_180 0 59 (dk_at dksX1_trial_1 18 rfl rfl)
theorem dX1_trial_45 : decode cX1_trial 45 = .ok (.invokevirtual 576, 3) := dk_182 2 64 (dk_at dksX1_trial_1 21 rfl rfl)
theorem dX1_trial_48 : decode cX1_trial 48 = .ok (.ireturn, 1) := dk_172 (dk_at dksX1_trial_2 0 rfl rfl)
abbrev cX1_tries : ByteArray := prog_1_method_86_code
def yX1_tries : MethodName := ⟨RX1, "tries", "(I)V"⟩
def dkwX1_tries_0 : List UInt8 := [3, 61, 28, 27, 162, 0, 19, 42, 42, 180, 0, 59, 4, 182, 1, 157, 87, 132, 2, 1, 167, 255, 238, 177]
abbrev dktX1_tries_0 : List UInt8 := dkwX1_tries_0 ++ []
theorem dksX1_tries_0 : cX1_tries.data.toList.drop 0 = dktX1_tries_0 := by decide +kernel
theorem dX1_tries_0 : decode cX1_tries 0 = .ok (.iconst 0, 1) := dk_3 (dk_at dksX1_tries_0 0 rfl rfl)
theorem dX1_tries_1 : decode cX1_tries 1 = .ok (.istore_n 2, 1) := dk_61 (dk_at dksX1_tries_0 1 rfl rfl)
theorem dX1_tries_2 : decode cX1_tries 2 = .ok (.iload_n 2, 1) := dk_28 (dk_at dksX1_tries_0 2 rfl rfl)
theorem dX1_tries_3 : decode cX1_tries 3 = .ok (.iload_n 1, 1) := dk_27 (dk_at dksX1_tries_0 3 rfl rfl)
theorem dX1_tries_4 : decode cX1_tries 4 = .ok (.if_icmp .ge 19, 3) := dk_162 0 19 (dk_at dksX1_tries_0 4 rfl rfl)
theorem dX1_tries_7 : decode cX1_tries 7 = .ok (.aload_n 0, 1) := dk_42 (dk_at dksX1_tries_0 7 rfl rfl)
theorem dX1_tries_8 : decode cX1_tries 8 = .ok (.aload_n 0, 1) := dk_42 (dk_at dksX1_tries_0 8 rfl rfl)
theorem dX1_tries_9 : decode cX1_tries 9 = .ok (.getfield 59, 3) := dk_180 0 59 (dk_at dksX1_tries_0 9 rfl rfl)
theorem dX1_tries_12 : decode cX1_tries 12 = .ok (.iconst 1, 1) := dk_4 (dk_at dksX1_tries_0 12 rfl rfl)
theorem dX1_tries_13 : decode cX1_tries 13 = .ok (.invokevirtual 413, 3) := dk_182 1 157 (dk_at dksX1_tries_0 13 rfl rfl)
theorem dX1_tries_16 : decode cX1_tries 16 = .ok (.pop, 1) := dk_87 (dk_at dksX1_tries_0 16 rfl rfl)
theorem dX1_tries_17 : decode cX1_tries 17 = .ok (.iinc 2 1, 3) := dk_132 2 1 (dk_at dksX1_tries_0 17 rfl rfl)
theorem dX1_tries_20 : decode cX1_tries 20 = .ok (.goto (-18), 3) := dk_167 255 238 (dk_at dksX1_tries_0 20 rfl rfl)
theorem dX1_tries_23 : decode cX1_tries 23 = .ok (.return_, 1) := dk_177 (dk_at dksX1_tries_0 23 rfl rfl)
abbrev cX1_span : ByteArray := prog_1_method_88_code
def yX1_span : MethodName := ⟨RX1, "span", "(IZ)I"⟩
def dkwX1_span_4 : List UInt8 := [132, 4, 1, 167, 255, 178, 29, 172]
abbrev dktX1_span_4 : List UInt8 := dkwX1_span_4 ++ []
def dkwX1_span_3 : List UInt8 := [167, 0, 22, 28, 153, 0, 12, 29, 21, 5, 184, 1, 110, 167, 0, 9, 29, 21, 5, 184, 1, 121, 62]
abbrev dktX1_span_3 : List UInt8 := dkwX1_span_3 ++ dktX1_span_4
def dkwX1_span_2 : List UInt8 := [182, 2, 58, 42, 180, 0, 59, 182, 2, 61, 184, 1, 246, 54, 5, 29, 2, 160, 0, 8, 21, 5]
abbrev dktX1_span_2 : List UInt8 := dkwX1_span_2 ++ dktX1_span_3
def dkwX1_span_1 : List UInt8 := [180, 0, 59, 42, 180, 0, 10, 182, 0, 204, 87, 42, 180, 0, 59, 21, 4, 181, 2, 67, 42, 27]
abbrev dktX1_span_1 : List UInt8 := dkwX1_span_1 ++ dktX1_span_2
def dkwX1_span_0 : List UInt8 := [27, 3, 16, 100, 184, 1, 160, 184, 1, 229, 2, 62, 4, 54, 4, 21, 4, 16, 6, 163, 0, 77, 42]
abbrev dktX1_span_0 : List UInt8 := dkwX1_span_0 ++ dktX1_span_1
theorem dksX1_span_0 : cX1_span.data.toList.drop 0 = dktX1_span_0 := by decide +kernel
theorem dksX1_span_1 : cX1_span.data.toList.drop 23 = dktX1_span_1 := dk_seg dksX1_span_0 23 rfl rfl
theorem dksX1_span_2 : cX1_span.data.toList.drop 45 = dktX1_span_2 := dk_seg dksX1_span_1 22 rfl rfl
theorem dksX1_span_3 : cX1_span.data.toList.drop 67 = dktX1_span_3 := dk_seg dksX1_span_2 22 rfl rfl
theorem dksX1_span_4 : cX1_span.data.toList.drop 90 = dktX1_span_4 := dk_seg dksX1_span_3 23 rfl rfl
theorem dX1_span_0 : decode cX1_span 0 = .ok (.iload_n 1, 1) := dk_27 (dk_at dksX1_span_0 0 rfl rfl)
theorem dX1_span_1 : decode cX1_span 1 = .ok (.iconst 0, 1) := dk_3 (dk_at dksX1_span_0 1 rfl rfl)
theorem dX1_span_2 : decode cX1_span 2 = .ok (.bipush 100, 2) := dk_16 100 (dk_at dksX1_span_0 2 rfl rfl)
theorem dX1_span_4 : decode cX1_span 4 = .ok (.invokestatic 416, 3) := dk_184 1 160 (dk_at dksX1_span_0 4 rfl rfl)
theorem dX1_span_7 : decode cX1_span 7 = .ok (.invokestatic 485, 3) := dk_184 1 229 (dk_at dksX1_span_0 7 rfl rfl)
theorem dX1_span_10 : decode cX1_span 10 = .ok (.iconst (-1), 1) := dk_2 (dk_at dksX1_span_0 10 rfl rfl)
theorem dX1_span_11 : decode cX1_span 11 = .ok (.istore_n 3, 1) := dk_62 (dk_at dksX1_span_0 11 rfl rfl)
theorem dX1_span_12 : decode cX1_span 12 = .ok (.iconst 1, 1) := dk_4 (dk_at dksX1_span_0 12 rfl rfl)
theorem dX1_span_13 : decode cX1_span 13 = .ok (.istore 4, 2) := dk_54 4 (dk_at dksX1_span_0 13 rfl rfl)
theorem dX1_span_15 : decode cX1_span 15 = .ok (.iload 4, 2) := dk_21 4 (dk_at dksX1_span_0 15 rfl rfl)
theorem dX1_span_17 : decode cX1_span 17 = .ok (.bipush 6, 2) := dk_16 6 (dk_at dksX1_span_0 17 rfl rfl)
theorem dX1_span_19 : decode cX1_span 19 = .ok (.if_icmp .gt 77, 3) := dk_163 0 77 (dk_at dksX1_span_0 19 rfl rfl)
theorem dX1_span_22 : decode cX1_span 22 = .ok (.aload_n 0, 1) := dk_42 (dk_at dksX1_span_0 22 rfl rfl)
theorem dX1_span_23 : decode cX1_span 23 = .ok (.getfield 59, 3) := dk_180 0 59 (dk_at dksX1_span_1 0 rfl rfl)
theorem dX1_span_26 : decode cX1_span 26 = .ok (.aload_n 0, 1) := dk_42 (dk_at dksX1_span_1 3 rfl rfl)
theorem dX1_span_27 : decode cX1_span 27 = .ok (.getfield 10, 3) := dk_180 0 10 (dk_at dksX1_span_1 4 rfl rfl)
theorem dX1_span_30 : decode cX1_span 30 = .ok (.invokevirtual 204, 3) := dk_182 0 204 (dk_at dksX1_span_1 7 rfl rfl)
theorem dX1_span_33 : decode cX1_span 33 = .ok (.pop, 1) := dk_87 (dk_at dksX1_span_1 10 rfl rfl)
theorem dX1_span_34 : decode cX1_span 34 = .ok (.aload_n 0, 1) := dk_42 (dk_at dksX1_span_1 11 rfl rfl)
theorem dX1_span_35 : decode cX1_span 35 = .ok (.getfield 59, 3) := dk_180 0 59 (dk_at dksX1_span_1 12 rfl rfl)
theorem dX1_span_38 : decode cX1_span 38 = .ok (.iload 4, 2) := dk_21 4 (dk_at dksX1_span_1 15 rfl rfl)
theorem dX1_span_40 : decode cX1_span 40 = .ok (.putfield 579, 3) := dk_181 2 67 (dk_at dksX1_span_1 17 rfl rfl)
theorem dX1_span_43 : decode cX1_span 43 = .ok (.aload_n 0, 1) := dk_42 (dk_at dksX1_span_1 20 rfl rfl)
theorem dX1_span_44 : decode cX1_span 44 = .ok (.iload_n 1, 1) := dk_27 (dk_at dksX1_span_1 21 rfl rfl)
theorem dX1_span_45 : decode cX1_span 45 = .ok (.invokevirtual 570, 3) := dk_182 2 58 (dk_at dksX1_span_2 0 rfl rfl)
theorem dX1_span_48 : decode cX1_span 48 = .ok (.aload_n 0, 1) := dk_42 (dk_at dksX1_span_2 3 rfl rfl)
theorem dX1_span_49 : decode cX1_span 49 = .ok (.getfield 59, 3) := dk_180 0 59 (dk_at dksX1_span_2 4 rfl rfl)
theorem dX1_span_52 : decode cX1_span 52 = .ok (.invokevirtual 573, 3) := dk_182 2 61 (dk_at dksX1_span_2 7 rfl rfl)
theorem dX1_span_55 : decode cX1_span 55 = .ok (.invokestatic 502, 3) := dk_184 1 246 (dk_at dksX1_span_2 10 rfl rfl)
theorem dX1_span_58 : decode cX1_span 58 = .ok (.istore 5, 2) := dk_54 5 (dk_at dksX1_span_2 13 rfl rfl)
theorem dX1_span_60 : decode cX1_span 60 = .ok (.iload_n 3, 1) := dk_29 (dk_at dksX1_span_2 15 rfl rfl)
theorem dX1_span_61 : decode cX1_span 61 = .ok (.iconst (-1), 1) := dk_2 (dk_at dksX1_span_2 16 rfl rfl)
theorem dX1_span_62 : decode cX1_span 62 = .ok (.if_icmp .ne 8, 3) := dk_160 0 8 (dk_at dksX1_span_2 17 rfl rfl)
theorem dX1_span_65 : decode cX1_span 65 = .ok (.iload 5, 2) := dk_21 5 (dk_at dksX1_span_2 20 rfl rfl)
theorem dX1_span_67 : decode cX1_span 67 = .ok (.goto 22, 3) := dk_167 0 22 (dk_at dksX1_span_3 0 rfl rfl)
theorem dX1_span_70 : decode cX1_span 70 = .ok (.iload_n 2, 1) := dk_28 (dk_at dksX1_span_3 3 rfl rfl)
theorem dX1_span_71 : decode cX1_span 71 = .ok (.ifCond .eq 12, 3) := dk_153 0 12 (dk_at dksX1_span_3 4 rfl rfl)
theorem dX1_span_74 : decode cX1_span 74 = .ok (.iload_n 3, 1) := dk_29 (dk_at dksX1_span_3 7 rfl rfl)
theorem dX1_span_75 : decode cX1_span 75 = .ok (.iload 5, 2) := dk_21 5 (dk_at dksX1_span_3 8 rfl rfl)
theorem dX1_span_77 : decode cX1_span 77 = .ok (.invokestatic 366, 3) := dk_184 1 110 (dk_at dksX1_span_3 10 rfl rfl)
theorem dX1_span_80 : decode cX1_span 80 = .ok (.goto 9, 3) := dk_167 0 9 (dk_at dksX1_span_3 13 rfl rfl)
theorem dX1_span_83 : decode cX1_span 83 = .ok (.iload_n 3, 1) := dk_29 (dk_at dksX1_span_3 16 rfl rfl)
theorem dX1_span_84 : decode cX1_span 84 = .ok (.iload 5, 2) := dk_21 5 (dk_at dksX1_span_3 17 rfl rfl)
theorem dX1_span_86 : decode cX1_span 86 = .ok (.invokestatic 377, 3) := dk_184 1 121 (dk_at dksX1_span_3 19 rfl rfl)
theorem dX1_span_89 : decode cX1_span 89 = .ok (.istore_n 3, 1) := dk_62 (dk_at dksX1_span_3 22 rfl rfl)
theorem dX1_span_90 : decode cX1_span 90 = .ok (.iinc 4 1, 3) := dk_132 4 1 (dk_at dksX1_span_4 0 rfl rfl)
theorem dX1_span_93 : decode cX1_span 93 = .ok (.goto (-78), 3) := dk_167 255 178 (dk_at dksX1_span_4 3 rfl rfl)
theorem dX1_span_96 : decode cX1_span 96 = .ok (.iload_n 3, 1) := dk_29 (dk_at dksX1_span_4 6 rfl rfl)
theorem dX1_span_97 : decode cX1_span 97 = .ok (.ireturn, 1) := dk_172 (dk_at dksX1_span_4 7 rfl rfl)
abbrev cX1_led : ByteArray := prog_1_method_90_code
def yX1_led : MethodName := ⟨RX1, "led", "(IZ)I"⟩
def dkwX1_led_2 : List UInt8 := [182, 2, 76, 54, 4, 132, 5, 255, 167, 255, 222, 28, 153, 0, 8, 21, 4, 167, 0, 4, 29, 172]
abbrev dktX1_led_2 : List UInt8 := dkwX1_led_2 ++ []
def dkwX1_led_1 : List UInt8 := [155, 0, 35, 42, 21, 5, 4, 182, 2, 76, 27, 159, 0, 6, 167, 0, 15, 132, 3, 1, 42, 21, 5, 3]
abbrev dktX1_led_1 : List UInt8 := dkwX1_led_1 ++ dktX1_led_2
def dkwX1_led_0 : List UInt8 := [42, 27, 182, 1, 204, 3, 62, 2, 54, 4, 42, 180, 0, 10, 180, 2, 73, 4, 100, 54, 5, 21, 5]
abbrev dktX1_led_0 : List UInt8 := dkwX1_led_0 ++ dktX1_led_1
theorem dksX1_led_0 : cX1_led.data.toList.drop 0 = dktX1_led_0 := by decide +kernel
theorem dksX1_led_1 : cX1_led.data.toList.drop 23 = dktX1_led_1 := dk_seg dksX1_led_0 23 rfl rfl
theorem dksX1_led_2 : cX1_led.data.toList.drop 47 = dktX1_led_2 := dk_seg dksX1_led_1 24 rfl rfl
theorem dX1_led_0 : decode cX1_led 0 = .ok (.aload_n 0, 1) := dk_42 (dk_at dksX1_led_0 0 rfl rfl)
theorem dX1_led_1 : decode cX1_led 1 = .ok (.iload_n 1, 1) := dk_27 (dk_at dksX1_led_0 1 rfl rfl)
theorem dX1_led_2 : decode cX1_led 2 = .ok (.invokevirtual 460, 3) := dk_182 1 204 (dk_at dksX1_led_0 2 rfl rfl)
theorem dX1_led_5 : decode cX1_led 5 = .ok (.iconst 0, 1) := dk_3 (dk_at dksX1_led_0 5 rfl rfl)
theorem dX1_led_6 : decode cX1_led 6 = .ok (.istore_n 3, 1) := dk_62 (dk_at dksX1_led_0 6 rfl rfl)
theorem dX1_led_7 : decode cX1_led 7 = .ok (.iconst (-1), 1) := dk_2 (dk_at dksX1_led_0 7 rfl rfl)
theorem dX1_led_8 : decode cX1_led 8 = .ok (.istore 4, 2) := dk_54 4 (dk_at dksX1_led_0 8 rfl rfl)
theorem dX1_led_10 : decode cX1_led 10 = .ok (.aload_n 0, 1) := dk_42 (dk_at dksX1_led_0 10 rfl rfl)
theorem dX1_led_11 : decode cX1_led 11 = .ok (.getfield 10, 3) := dk_180 0 10 (dk_at dksX1_led_0 11 rfl rfl)
theorem dX1_led_14 : decode cX1_led 14 = .ok (.getfield 585, 3) := dk_180 2 73 (dk_at dksX1_led_0 14 rfl rfl)
theorem dX1_led_17 : decode cX1_led 17 = .ok (.iconst 1, 1) := dk_4 (dk_at dksX1_led_0 17 rfl rfl)
theorem dX1_led_18 : decode cX1_led 18 = .ok (.isub, 1) := dk_100 (dk_at dksX1_led_0 18 rfl rfl)
theorem dX1_led_19 : decode cX1_led 19 = .ok (.istore 5, 2) := dk_54 5 (dk_at dksX1_led_0 19 rfl rfl)
theorem dX1_led_21 : decode cX1_led 21 = .ok (.iload 5, 2) := dk_21 5 (dk_at dksX1_led_0 21 rfl rfl)
theorem dX1_led_23 : decode cX1_led 23 = .ok (.ifCond .lt 35, 3) := dk_155 0 35 (dk_at dksX1_led_1 0 rfl rfl)
theorem dX1_led_26 : decode cX1_led 26 = .ok (.aload_n 0, 1) := dk_42 (dk_at dksX1_led_1 3 rfl rfl)
theorem dX1_led_27 : decode cX1_led 27 = .ok (.iload 5, 2) := dk_21 5 (dk_at dksX1_led_1 4 rfl rfl)
theorem dX1_led_29 : decode cX1_led 29 = .ok (.iconst 1, 1) := dk_4 (dk_at dksX1_led_1 6 rfl rfl)
theorem dX1_led_30 : decode cX1_led 30 = .ok (.invokevirtual 588, 3) := dk_182 2 76 (dk_at dksX1_led_1 7 rfl rfl)
theorem dX1_led_33 : decode cX1_led 33 = .ok (.iload_n 1, 1) := dk_27 (dk_at dksX1_led_1 10 rfl rfl)
theorem dX1_led_34 : decode cX1_led 34 = .ok (.if_icmp .eq 6, 3) := dk_159 0 6 (dk_at dksX1_led_1 11 rfl rfl)
theorem dX1_led_37 : decode cX1_led 37 = .ok (.goto 15, 3) := dk_167 0 15 (dk_at dksX1_led_1 14 rfl rfl)
theorem dX1_led_40 : decode cX1_led 40 = .ok (.iinc 3 1, 3) := dk_132 3 1 (dk_at dksX1_led_1 17 rfl rfl)
theorem dX1_led_43 : decode cX1_led 43 = .ok (.aload_n 0, 1) := dk_42 (dk_at dksX1_led_1 20 rfl rfl)
theorem dX1_led_44 : decode cX1_led 44 = .ok (.iload 5, 2) := dk_21 5 (dk_at dksX1_led_1 21 rfl rfl)
theorem dX1_led_46 : decode cX1_led 46 = .ok (.iconst 0, 1) := dk_3 (dk_at dksX1_led_1 23 rfl rfl)
theorem dX1_led_47 : decode cX1_led 47 = .ok (.invokevirtual 588, 3) := dk_182 2 76 (dk_at dksX1_led_2 0 rfl rfl)
theorem dX1_led_50 : decode cX1_led 50 = .ok (.istore 4, 2) := dk_54 4 (dk_at dksX1_led_2 3 rfl rfl)
theorem dX1_led_52 : decode cX1_led 52 = .ok (.iinc 5 (-1), 3) := dk_132 5 255 (dk_at dksX1_led_2 5 rfl rfl)
theorem dX1_led_55 : decode cX1_led 55 = .ok (.goto (-34), 3) := dk_167 255 222 (dk_at dksX1_led_2 8 rfl rfl)
theorem dX1_led_58 : decode cX1_led 58 = .ok (.iload_n 2, 1) := dk_28 (dk_at dksX1_led_2 11 rfl rfl)
theorem dX1_led_59 : decode cX1_led 59 = .ok (.ifCond .eq 8, 3) := dk_153 0 8 (dk_at dksX1_led_2 12 rfl rfl)
theorem dX1_led_62 : decode cX1_led 62 = .ok (.iload 4, 2) := dk_21 4 (dk_at dksX1_led_2 15 rfl rfl)
theorem dX1_led_64 : decode cX1_led 64 = .ok (.goto 4, 3) := dk_167 0 4 (dk_at dksX1_led_2 17 rfl rfl)
theorem dX1_led_67 : decode cX1_led 67 = .ok (.iload_n 3, 1) := dk_29 (dk_at dksX1_led_2 20 rfl rfl)
theorem dX1_led_68 : decode cX1_led 68 = .ok (.ireturn, 1) := dk_172 (dk_at dksX1_led_2 21 rfl rfl)
abbrev cX1_ofLog : ByteArray := prog_1_method_89_code
def yX1_ofLog : MethodName := ⟨RX1, "ofLog", "(II)I"⟩
def dkwX1_ofLog_0 : List UInt8 := [42, 180, 0, 10, 180, 2, 70, 7, 27, 104, 28, 96, 46, 172]
abbrev dktX1_ofLog_0 : List UInt8 := dkwX1_ofLog_0 ++ []
theorem dksX1_ofLog_0 : cX1_ofLog.data.toList.drop 0 = dktX1_ofLog_0 := by decide +kernel
theorem dX1_ofLog_0 : decode cX1_ofLog 0 = .ok (.aload_n 0, 1) := dk_42 (dk_at dksX1_ofLog_0 0 rfl rfl)
theorem dX1_ofLog_1 : decode cX1_ofLog 1 = .ok (.getfield 10, 3) := dk_180 0 10 (dk_at dksX1_ofLog_0 1 rfl rfl)
theorem dX1_ofLog_4 : decode cX1_ofLog 4 = .ok (.getfield 582, 3) := dk_180 2 70 (dk_at dksX1_ofLog_0 4 rfl rfl)
theorem dX1_ofLog_7 : decode cX1_ofLog 7 = .ok (.iconst 4, 1) := dk_7 (dk_at dksX1_ofLog_0 7 rfl rfl)
theorem dX1_ofLog_8 : decode cX1_ofLog 8 = .ok (.iload_n 1, 1) := dk_27 (dk_at dksX1_ofLog_0 8 rfl rfl)
theorem dX1_ofLog_9 : decode cX1_ofLog 9 = .ok (.imul, 1) := dk_104 (dk_at dksX1_ofLog_0 9 rfl rfl)
theorem dX1_ofLog_10 : decode cX1_ofLog 10 = .ok (.iload_n 2, 1) := dk_28 (dk_at dksX1_ofLog_0 10 rfl rfl)
theorem dX1_ofLog_11 : decode cX1_ofLog 11 = .ok (.iadd, 1) := dk_96 (dk_at dksX1_ofLog_0 11 rfl rfl)
theorem dX1_ofLog_12 : decode cX1_ofLog 12 = .ok (.iaload, 1) := dk_46 (dk_at dksX1_ofLog_0 12 rfl rfl)
theorem dX1_ofLog_13 : decode cX1_ofLog 13 = .ok (.ireturn, 1) := dk_172 (dk_at dksX1_ofLog_0 13 rfl rfl)
abbrev cX1_log : ByteArray := prog_1_method_91_code
def yX1_log : MethodName := ⟨RX1, "log", "(II)I"⟩
def dkwX1_log_1 : List UInt8 := [28, 182, 2, 76, 167, 0, 4, 2, 172]
abbrev dktX1_log_1 : List UInt8 := dkwX1_log_1 ++ []
def dkwX1_log_0 : List UInt8 := [28, 6, 184, 1, 186, 27, 3, 42, 180, 0, 10, 180, 2, 73, 4, 100, 184, 1, 160, 153, 0, 12, 42, 27]
abbrev dktX1_log_0 : List UInt8 := dkwX1_log_0 ++ dktX1_log_1
theorem dksX1_log_0 : cX1_log.data.toList.drop 0 = dktX1_log_0 := by decide +kernel
theorem dksX1_log_1 : cX1_log.data.toList.drop 24 = dktX1_log_1 := dk_seg dksX1_log_0 24 rfl rfl
theorem dX1_log_0 : decode cX1_log 0 = .ok (.iload_n 2, 1) := dk_28 (dk_at dksX1_log_0 0 rfl rfl)
theorem dX1_log_1 : decode cX1_log 1 = .ok (.iconst 3, 1) := dk_6 (dk_at dksX1_log_0 1 rfl rfl)
theorem dX1_log_2 : decode cX1_log 2 = .ok (.invokestatic 442, 3) := dk_184 1 186 (dk_at dksX1_log_0 2 rfl rfl)
theorem dX1_log_5 : decode cX1_log 5 = .ok (.iload_n 1, 1) := dk_27 (dk_at dksX1_log_0 5 rfl rfl)
theorem dX1_log_6 : decode cX1_log 6 = .ok (.iconst 0, 1) := dk_3 (dk_at dksX1_log_0 6 rfl rfl)
theorem dX1_log_7 : decode cX1_log 7 = .ok (.aload_n 0, 1) := dk_42 (dk_at dksX1_log_0 7 rfl rfl)
theorem dX1_log_8 : decode cX1_log 8 = .ok (.getfield 10, 3) := dk_180 0 10 (dk_at dksX1_log_0 8 rfl rfl)
theorem dX1_log_11 : decode cX1_log 11 = .ok (.getfield 585, 3) := dk_180 2 73 (dk_at dksX1_log_0 11 rfl rfl)
theorem dX1_log_14 : decode cX1_log 14 = .ok (.iconst 1, 1) := dk_4 (dk_at dksX1_log_0 14 rfl rfl)
theorem dX1_log_15 : decode cX1_log 15 = .ok (.isub, 1) := dk_100 (dk_at dksX1_log_0 15 rfl rfl)
theorem dX1_log_16 : decode cX1_log 16 = .ok (.invokestatic 416, 3) := dk_184 1 160 (dk_at dksX1_log_0 16 rfl rfl)
theorem dX1_log_19 : decode cX1_log 19 = .ok (.ifCond .eq 12, 3) := dk_153 0 12 (dk_at dksX1_log_0 19 rfl rfl)
theorem dX1_log_22 : decode cX1_log 22 = .ok (.aload_n 0, 1) := dk_42 (dk_at dksX1_log_0 22 rfl rfl)
theorem dX1_log_23 : decode cX1_log 23 = .ok (.iload_n 1, 1) := dk_27 (dk_at dksX1_log_0 23 rfl rfl)
theorem dX1_log_24 : decode cX1_log 24 = .ok (.iload_n 2, 1) := dk_28 (dk_at dksX1_log_1 0 rfl rfl)
theorem dX1_log_25 : decode cX1_log 25 = .ok (.invokevirtual 588, 3) := dk_182 2 76 (dk_at dksX1_log_1 1 rfl rfl)
theorem dX1_log_28 : decode cX1_log 28 = .ok (.goto 4, 3) := dk_167 0 4 (dk_at dksX1_log_1 4 rfl rfl)
theorem dX1_log_31 : decode cX1_log 31 = .ok (.iconst (-1), 1) := dk_2 (dk_at dksX1_log_1 7 rfl rfl)
theorem dX1_log_32 : decode cX1_log 32 = .ok (.ireturn, 1) := dk_172 (dk_at dksX1_log_1 8 rfl rfl)
theorem q113 : (Jvm.Cond.initialized "StoneBacks") ∈ lw_all := lw_g (lw_at lw_m1 1 rfl) rfl
theorem q157 : (Jvm.Cond.instantiable "StoneBacks" (11 : Nat)) ∈ lw_all := lw_g (lw_at lw_m1 45 rfl) rfl
theorem q159 : (Jvm.Cond.instanceMethod ({ cls := "StoneBacks", name := "<init>", desc := "()V" } : Jvm.MethodName)) ∈ lw_all := lw_g (lw_at lw_m1 47 rfl) rfl
theorem q160 : (Jvm.Cond.code ({ cls := "StoneBacks", name := "<init>", desc := "()V" } : Jvm.MethodName) prog_1_method_1_code (1 : Nat) (Option.none : Option Jvm.ClassFile.FieldType)) ∈ lw_all := lw_g (lw_at lw_m1 48 rfl) rfl
theorem q161 : (Jvm.Cond.methodLink "StoneBacks" (1 : Nat) ({ cls := "java/lang/Object", name := "<init>", desc := "()V" } : Jvm.MethodName)) ∈ lw_all := lw_g (lw_at lw_m1 49 rfl) rfl
theorem q164 : (Jvm.Cond.classLink "StoneBacks" (7 : Nat) "StoneBacks$World") ∈ lw_all := lw_g (lw_at lw_m1 52 rfl) rfl
theorem q166 : (Jvm.Cond.methodLinkNest "StoneBacks" (9 : Nat) ({ cls := "StoneBacks$World", name := "<init>", desc := "()V" } : Jvm.MethodName) "StoneBacks") ∈ lw_tbl := lw_at lw_m1 54 rfl
theorem q171 : (Jvm.Cond.fieldLinkNest "StoneBacks" (216 : Nat) "StoneBacks$World" "texts" "I" "StoneBacks") ∈ lw_tbl := lw_at lw_m1 59 rfl
theorem q174 : (Jvm.Cond.fieldLinkNest "StoneBacks" (96 : Nat) "StoneBacks$World" "people" "I" "StoneBacks") ∈ lw_tbl := lw_at lw_m1 62 rfl
theorem q176 : (Jvm.Cond.fieldLinkNest "StoneBacks" (133 : Nat) "StoneBacks$World" "stones" "I" "StoneBacks") ∈ lw_tbl := lw_at lw_m1 64 rfl
theorem q178 : (Jvm.Cond.fieldLinkNest "StoneBacks" (174 : Nat) "StoneBacks$World" "limit" "I" "StoneBacks") ∈ lw_tbl := lw_at lw_m1 66 rfl
theorem q180 : (Jvm.Cond.fieldLinkNest "StoneBacks" (176 : Nat) "StoneBacks$World" "hour" "I" "StoneBacks") ∈ lw_tbl := lw_at lw_m1 68 rfl
theorem q182 : (Jvm.Cond.fieldLinkNest "StoneBacks" (585 : Nat) "StoneBacks$World" "logged" "I" "StoneBacks") ∈ lw_tbl := lw_at lw_m1 70 rfl
theorem q184 : (Jvm.Cond.fieldLinkNest "StoneBacks" (579 : Nat) "StoneBacks$World" "seed" "I" "StoneBacks") ∈ lw_tbl := lw_at lw_m1 72 rfl
theorem q186 : (Jvm.Cond.fieldLinkNest "StoneBacks" (99 : Nat) "StoneBacks$World" "purse" "[I" "StoneBacks") ∈ lw_tbl := lw_at lw_m1 74 rfl
theorem q188 : (Jvm.Cond.fieldLinkNest "StoneBacks" (102 : Nat) "StoneBacks$World" "back" "[I" "StoneBacks") ∈ lw_tbl := lw_at lw_m1 76 rfl
theorem q191 : (Jvm.Cond.fieldLinkNest "StoneBacks" (110 : Nat) "StoneBacks$World" "at" "[I" "StoneBacks") ∈ lw_tbl := lw_at lw_m1 79 rfl
theorem q193 : (Jvm.Cond.fieldLinkNest "StoneBacks" (114 : Nat) "StoneBacks$World" "goal" "[I" "StoneBacks") ∈ lw_tbl := lw_at lw_m1 81 rfl
theorem q195 : (Jvm.Cond.fieldLinkNest "StoneBacks" (126 : Nat) "StoneBacks$World" "tired" "[I" "StoneBacks") ∈ lw_tbl := lw_at lw_m1 83 rfl
theorem q197 : (Jvm.Cond.fieldLinkNest "StoneBacks" (129 : Nat) "StoneBacks$World" "hurt" "[Z" "StoneBacks") ∈ lw_tbl := lw_at lw_m1 85 rfl
theorem q199 : (Jvm.Cond.fieldLinkNest "StoneBacks" (172 : Nat) "StoneBacks$World" "porch" "[Z" "StoneBacks") ∈ lw_tbl := lw_at lw_m1 87 rfl
theorem q201 : (Jvm.Cond.fieldLinkNest "StoneBacks" (170 : Nat) "StoneBacks$World" "slope" "[I" "StoneBacks") ∈ lw_tbl := lw_at lw_m1 89 rfl
theorem q203 : (Jvm.Cond.fieldLinkNest "StoneBacks" (436 : Nat) "StoneBacks$World" "debtor" "[I" "StoneBacks") ∈ lw_tbl := lw_at lw_m1 91 rfl
theorem q205 : (Jvm.Cond.fieldLinkNest "StoneBacks" (463 : Nat) "StoneBacks$World" "lender" "[I" "StoneBacks") ∈ lw_tbl := lw_at lw_m1 93 rfl
theorem q208 : (Jvm.Cond.fieldLinkNest "StoneBacks" (466 : Nat) "StoneBacks$World" "weight" "[I" "StoneBacks") ∈ lw_tbl := lw_at lw_m1 96 rfl
theorem q210 : (Jvm.Cond.fieldLinkNest "StoneBacks" (431 : Nat) "StoneBacks$World" "state" "[I" "StoneBacks") ∈ lw_tbl := lw_at lw_m1 98 rfl
theorem q212 : (Jvm.Cond.fieldLinkNest "StoneBacks" (434 : Nat) "StoneBacks$World" "by" "[I" "StoneBacks") ∈ lw_tbl := lw_at lw_m1 100 rfl
theorem q214 : (Jvm.Cond.fieldLinkNest "StoneBacks" (582 : Nat) "StoneBacks$World" "log" "[I" "StoneBacks") ∈ lw_tbl := lw_at lw_m1 102 rfl
theorem q216 : (Jvm.Cond.fieldLinkNest "StoneBacks" (330 : Nat) "StoneBacks$World" "law" "LStoneBacks$Law;" "StoneBacks") ∈ lw_tbl := lw_at lw_m1 104 rfl
theorem q264 : (Jvm.Cond.classLink "StoneBacks" (22 : Nat) "StoneBacks$Reader") ∈ lw_all := lw_g (lw_at lw_m1 152 rfl) rfl
theorem q266 : (Jvm.Cond.methodLinkNest "StoneBacks" (24 : Nat) ({ cls := "StoneBacks$Reader", name := "<init>", desc := "()V" } : Jvm.MethodName) "StoneBacks") ∈ lw_tbl := lw_at lw_m1 154 rfl
theorem q271 : (Jvm.Cond.fieldLinkNest "StoneBacks" (541 : Nat) "StoneBacks$Reader" "tape" "[B" "StoneBacks") ∈ lw_tbl := lw_at lw_m1 159 rfl
theorem q274 : (Jvm.Cond.fieldLinkNest "StoneBacks" (538 : Nat) "StoneBacks$Reader" "end" "I" "StoneBacks") ∈ lw_tbl := lw_at lw_m1 162 rfl
theorem q277 : (Jvm.Cond.fieldLinkNest "StoneBacks" (195 : Nat) "StoneBacks$Reader" "begin" "I" "StoneBacks") ∈ lw_tbl := lw_at lw_m1 165 rfl
theorem q279 : (Jvm.Cond.fieldLinkNest "StoneBacks" (70 : Nat) "StoneBacks$Reader" "fault" "I" "StoneBacks") ∈ lw_tbl := lw_at lw_m1 167 rfl
theorem q297 : (Jvm.Cond.classLink "StoneBacks" (29 : Nat) "StoneBacks$Scene") ∈ lw_all := lw_g (lw_at lw_m1 185 rfl) rfl
theorem q299 : (Jvm.Cond.methodLinkNest "StoneBacks" (31 : Nat) ({ cls := "StoneBacks$Scene", name := "<init>", desc := "()V" } : Jvm.MethodName) "StoneBacks") ∈ lw_tbl := lw_at lw_m1 187 rfl
theorem q304 : (Jvm.Cond.fieldLinkNest "StoneBacks" (334 : Nat) "StoneBacks$Scene" "who" "I" "StoneBacks") ∈ lw_tbl := lw_at lw_m1 192 rfl
theorem q307 : (Jvm.Cond.fieldLinkNest "StoneBacks" (341 : Nat) "StoneBacks$Scene" "load" "I" "StoneBacks") ∈ lw_tbl := lw_at lw_m1 195 rfl
theorem q309 : (Jvm.Cond.fieldLinkNest "StoneBacks" (343 : Nat) "StoneBacks$Scene" "back" "I" "StoneBacks") ∈ lw_tbl := lw_at lw_m1 197 rfl
theorem q311 : (Jvm.Cond.fieldLinkNest "StoneBacks" (345 : Nat) "StoneBacks$Scene" "place" "I" "StoneBacks") ∈ lw_tbl := lw_at lw_m1 199 rfl
theorem q313 : (Jvm.Cond.fieldLinkNest "StoneBacks" (348 : Nat) "StoneBacks$Scene" "slope" "I" "StoneBacks") ∈ lw_tbl := lw_at lw_m1 201 rfl
theorem q315 : (Jvm.Cond.fieldLinkNest "StoneBacks" (350 : Nat) "StoneBacks$Scene" "tired" "I" "StoneBacks") ∈ lw_tbl := lw_at lw_m1 203 rfl
theorem q317 : (Jvm.Cond.fieldLinkNest "StoneBacks" (352 : Nat) "StoneBacks$Scene" "hour" "I" "StoneBacks") ∈ lw_tbl := lw_at lw_m1 205 rfl
theorem q319 : (Jvm.Cond.fieldLinkNest "StoneBacks" (353 : Nat) "StoneBacks$Scene" "there" "Z" "StoneBacks") ∈ lw_tbl := lw_at lw_m1 207 rfl
theorem q337 : (Jvm.Cond.classLink "StoneBacks" (39 : Nat) "java/util/ArrayList") ∈ lw_all := lw_g (lw_at lw_m1 225 rfl) rfl
theorem q339 : (Jvm.Cond.methodLink "StoneBacks" (41 : Nat) ({ cls := "java/util/ArrayList", name := "<init>", desc := "()V" } : Jvm.MethodName)) ∈ lw_all := lw_g (lw_at lw_m1 227 rfl) rfl
theorem q363 : (Jvm.Cond.classLink "StoneBacks" (46 : Nat) "StoneBacks$Shares") ∈ lw_all := lw_g (lw_at lw_m2 11 rfl) rfl
theorem q365 : (Jvm.Cond.methodLinkNest "StoneBacks" (48 : Nat) ({ cls := "StoneBacks$Shares", name := "<init>", desc := "(LStoneBacks;)V" } : Jvm.MethodName) "StoneBacks") ∈ lw_tbl := lw_at lw_m2 13 rfl
theorem q373 : (Jvm.Cond.fieldLinkNest "StoneBacks" (514 : Nat) "StoneBacks$Shares" "people" "I" "StoneBacks") ∈ lw_tbl := lw_at lw_m2 21 rfl
theorem q395 : (Jvm.Cond.fieldLink "StoneBacks" (10 : Nat) "StoneBacks" "world" "LStoneBacks$World;") ∈ lw_all := lw_g (lw_at lw_m2 43 rfl) rfl
theorem q397 : (Jvm.Cond.fieldLink "StoneBacks" (16 : Nat) "StoneBacks" "draft" "LStoneBacks$World;") ∈ lw_all := lw_g (lw_at lw_m2 45 rfl) rfl
theorem q398 : (Jvm.Cond.fieldLink "StoneBacks" (19 : Nat) "StoneBacks" "image" "LStoneBacks$World;") ∈ lw_all := lw_g (lw_at lw_m2 46 rfl) rfl
theorem q399 : (Jvm.Cond.fieldLink "StoneBacks" (594 : Nat) "StoneBacks" "hasImage" "Z") ∈ lw_all := lw_g (lw_at lw_m2 47 rfl) rfl
theorem q400 : (Jvm.Cond.fieldLink "StoneBacks" (25 : Nat) "StoneBacks" "reader" "LStoneBacks$Reader;") ∈ lw_all := lw_g (lw_at lw_m2 48 rfl) rfl
theorem q401 : (Jvm.Cond.fieldLink "StoneBacks" (32 : Nat) "StoneBacks" "scene" "LStoneBacks$Scene;") ∈ lw_all := lw_g (lw_at lw_m2 49 rfl) rfl
theorem q402 : (Jvm.Cond.fieldLink "StoneBacks" (36 : Nat) "StoneBacks" "then" "LStoneBacks$World;") ∈ lw_all := lw_g (lw_at lw_m2 50 rfl) rfl
theorem q403 : (Jvm.Cond.fieldLink "StoneBacks" (42 : Nat) "StoneBacks" "worlds" "Ljava/util/ArrayList;") ∈ lw_all := lw_g (lw_at lw_m2 51 rfl) rfl
theorem q404 : (Jvm.Cond.fieldLink "StoneBacks" (51 : Nat) "StoneBacks" "shares" "LStoneBacks$Shares;") ∈ lw_all := lw_g (lw_at lw_m2 52 rfl) rfl
theorem q405 : (Jvm.Cond.fieldLink "StoneBacks" (55 : Nat) "StoneBacks" "across" "[I") ∈ lw_all := lw_g (lw_at lw_m2 53 rfl) rfl
theorem q406 : (Jvm.Cond.fieldLink "StoneBacks" (59 : Nat) "StoneBacks" "trial" "LStoneBacks$World;") ∈ lw_all := lw_g (lw_at lw_m2 54 rfl) rfl
theorem q407 : (Jvm.Cond.laysFinal "StoneBacks" "StoneBacks" "world" "LStoneBacks$World;") ∈ lw_all := lw_g (lw_at lw_m2 55 rfl) rfl
theorem q408 : (Jvm.Cond.soleField "StoneBacks" "world") ∈ lw_all := lw_g (lw_at lw_m2 56 rfl) rfl
theorem q409 : (Jvm.Cond.laysFinal "StoneBacks" "StoneBacks" "draft" "LStoneBacks$World;") ∈ lw_all := lw_g (lw_at lw_m2 57 rfl) rfl
theorem q410 : (Jvm.Cond.soleField "StoneBacks" "draft") ∈ lw_all := lw_g (lw_at lw_m2 58 rfl) rfl
theorem q411 : (Jvm.Cond.laysFinal "StoneBacks" "StoneBacks" "image" "LStoneBacks$World;") ∈ lw_all := lw_g (lw_at lw_m2 59 rfl) rfl
theorem q412 : (Jvm.Cond.soleField "StoneBacks" "image") ∈ lw_all := lw_g (lw_at lw_m2 60 rfl) rfl
theorem q413 : (Jvm.Cond.lays "StoneBacks" "StoneBacks" "hasImage" "Z") ∈ lw_all := lw_g (lw_at lw_m2 61 rfl) rfl
theorem q414 : (Jvm.Cond.soleField "StoneBacks" "hasImage") ∈ lw_all := lw_g (lw_at lw_m2 62 rfl) rfl
theorem q415 : (Jvm.Cond.laysFinal "StoneBacks" "StoneBacks" "reader" "LStoneBacks$Reader;") ∈ lw_all := lw_g (lw_at lw_m2 63 rfl) rfl
theorem q416 : (Jvm.Cond.soleField "StoneBacks" "reader") ∈ lw_all := lw_g (lw_at lw_m2 64 rfl) rfl
theorem q417 : (Jvm.Cond.laysFinal "StoneBacks" "StoneBacks" "scene" "LStoneBacks$Scene;") ∈ lw_all := lw_g (lw_at lw_m2 65 rfl) rfl
theorem q418 : (Jvm.Cond.soleField "StoneBacks" "scene") ∈ lw_all := lw_g (lw_at lw_m2 66 rfl) rfl
theorem q419 : (Jvm.Cond.laysFinal "StoneBacks" "StoneBacks" "then" "LStoneBacks$World;") ∈ lw_all := lw_g (lw_at lw_m2 67 rfl) rfl
theorem q420 : (Jvm.Cond.soleField "StoneBacks" "then") ∈ lw_all := lw_g (lw_at lw_m2 68 rfl) rfl
theorem q421 : (Jvm.Cond.laysFinal "StoneBacks" "StoneBacks" "worlds" "Ljava/util/ArrayList;") ∈ lw_all := lw_g (lw_at lw_m2 69 rfl) rfl
theorem q422 : (Jvm.Cond.soleField "StoneBacks" "worlds") ∈ lw_all := lw_g (lw_at lw_m2 70 rfl) rfl
theorem q423 : (Jvm.Cond.laysFinal "StoneBacks" "StoneBacks" "shares" "LStoneBacks$Shares;") ∈ lw_all := lw_g (lw_at lw_m2 71 rfl) rfl
theorem q424 : (Jvm.Cond.soleField "StoneBacks" "shares") ∈ lw_all := lw_g (lw_at lw_m2 72 rfl) rfl
theorem q425 : (Jvm.Cond.laysFinal "StoneBacks" "StoneBacks" "across" "[I") ∈ lw_all := lw_g (lw_at lw_m2 73 rfl) rfl
theorem q426 : (Jvm.Cond.soleField "StoneBacks" "across") ∈ lw_all := lw_g (lw_at lw_m2 74 rfl) rfl
theorem q427 : (Jvm.Cond.laysFinal "StoneBacks" "StoneBacks" "trial" "LStoneBacks$World;") ∈ lw_all := lw_g (lw_at lw_m2 75 rfl) rfl
theorem q428 : (Jvm.Cond.soleField "StoneBacks" "trial") ∈ lw_all := lw_g (lw_at lw_m2 76 rfl) rfl
theorem q429 : (Jvm.Cond.superclass "StoneBacks" "java/lang/Object") ∈ lw_all := lw_g (lw_at lw_m2 77 rfl) rfl
theorem q431 : (Jvm.Cond.instanceMethod ({ cls := "StoneBacks", name := "feed", desc := "(IIIII)I" } : Jvm.MethodName)) ∈ lw_all := lw_g (lw_at lw_m2 79 rfl) rfl
theorem q432 : (Jvm.Cond.selects "StoneBacks" ({ cls := "StoneBacks", name := "feed", desc := "(IIIII)I" } : Jvm.MethodName) ({ cls := "StoneBacks", name := "feed", desc := "(IIIII)I" } : Jvm.MethodName)) ∈ lw_all := lw_g (lw_at lw_m2 80 rfl) rfl
theorem q433 : (Jvm.Cond.code ({ cls := "StoneBacks", name := "feed", desc := "(IIIII)I" } : Jvm.MethodName) prog_1_method_3_code (6 : Nat) (Option.some Jvm.ClassFile.FieldType.int)) ∈ lw_all := lw_g (lw_at lw_m2 81 rfl) rfl
theorem q434 : (Jvm.Cond.methodLink "StoneBacks" (62 : Nat) ({ cls := "StoneBacks$Reader", name := "add", desc := "([I)I" } : Jvm.MethodName)) ∈ lw_all := lw_g (lw_at lw_m2 82 rfl) rfl
theorem q439 : (Jvm.Cond.instanceMethod ({ cls := "StoneBacks", name := "end", desc := "(I)Z" } : Jvm.MethodName)) ∈ lw_all := lw_g (lw_at lw_m2 87 rfl) rfl
theorem q440 : (Jvm.Cond.selects "StoneBacks" ({ cls := "StoneBacks", name := "end", desc := "(I)Z" } : Jvm.MethodName) ({ cls := "StoneBacks", name := "end", desc := "(I)Z" } : Jvm.MethodName)) ∈ lw_all := lw_g (lw_at lw_m2 88 rfl) rfl
theorem q441 : (Jvm.Cond.code ({ cls := "StoneBacks", name := "end", desc := "(I)Z" } : Jvm.MethodName) prog_1_method_4_code (2 : Nat) (Option.some Jvm.ClassFile.FieldType.boolean)) ∈ lw_all := lw_g (lw_at lw_m2 89 rfl) rfl
theorem q442 : (Jvm.Cond.methodLink "StoneBacks" (66 : Nat) ({ cls := "StoneBacks$Reader", name := "cut", desc := "(I)Z" } : Jvm.MethodName)) ∈ lw_all := lw_g (lw_at lw_m2 90 rfl) rfl
theorem q447 : (Jvm.Cond.instanceMethod ({ cls := "StoneBacks", name := "fault", desc := "()I" } : Jvm.MethodName)) ∈ lw_all := lw_g (lw_at lw_m2 95 rfl) rfl
theorem q448 : (Jvm.Cond.selects "StoneBacks" ({ cls := "StoneBacks", name := "fault", desc := "()I" } : Jvm.MethodName) ({ cls := "StoneBacks", name := "fault", desc := "()I" } : Jvm.MethodName)) ∈ lw_all := lw_g (lw_at lw_m2 96 rfl) rfl
theorem q449 : (Jvm.Cond.code ({ cls := "StoneBacks", name := "fault", desc := "()I" } : Jvm.MethodName) prog_1_method_5_code (1 : Nat) (Option.some Jvm.ClassFile.FieldType.int)) ∈ lw_all := lw_g (lw_at lw_m2 97 rfl) rfl
theorem q451 : (Jvm.Cond.instanceMethod ({ cls := "StoneBacks", name := "goes", desc := "()I" } : Jvm.MethodName)) ∈ lw_all := lw_g (lw_at lw_m2 99 rfl) rfl
theorem q452 : (Jvm.Cond.selects "StoneBacks" ({ cls := "StoneBacks", name := "goes", desc := "()I" } : Jvm.MethodName) ({ cls := "StoneBacks", name := "goes", desc := "()I" } : Jvm.MethodName)) ∈ lw_all := lw_g (lw_at lw_m2 100 rfl) rfl
theorem q453 : (Jvm.Cond.code ({ cls := "StoneBacks", name := "goes", desc := "()I" } : Jvm.MethodName) prog_1_method_64_code (3 : Nat) (Option.some Jvm.ClassFile.FieldType.int)) ∈ lw_all := lw_g (lw_at lw_m2 101 rfl) rfl
theorem q454 : (Jvm.Cond.methodLink "StoneBacks" (525 : Nat) ({ cls := "StoneBacks", name := "goesOf", desc := "(I)I" } : Jvm.MethodName)) ∈ lw_all := lw_g (lw_at lw_m2 102 rfl) rfl
theorem q455 : (Jvm.Cond.privateMethod ({ cls := "StoneBacks", name := "goesOf", desc := "(I)I" } : Jvm.MethodName)) ∈ lw_tbl := lw_at lw_m2 103 rfl
theorem q456 : (Jvm.Cond.instanceMethod ({ cls := "StoneBacks", name := "goesOf", desc := "(I)I" } : Jvm.MethodName)) ∈ lw_all := lw_g (lw_at lw_m2 104 rfl) rfl
theorem q457 : (Jvm.Cond.code ({ cls := "StoneBacks", name := "goesOf", desc := "(I)I" } : Jvm.MethodName) prog_1_method_63_code (4 : Nat) (Option.some Jvm.ClassFile.FieldType.int)) ∈ lw_all := lw_g (lw_at lw_m2 105 rfl) rfl
theorem q458 : (Jvm.Cond.constant "StoneBacks" (498 : Nat) (1000000 : Int32)) ∈ lw_all := lw_g (lw_at lw_m2 106 rfl) rfl
theorem q459 : (Jvm.Cond.methodLink "StoneBacks" (522 : Nat) ({ cls := "StoneBacks", name := "loadOf", desc := "(I)I" } : Jvm.MethodName)) ∈ lw_all := lw_g (lw_at lw_m2 107 rfl) rfl
theorem q460 : (Jvm.Cond.privateMethod ({ cls := "StoneBacks", name := "loadOf", desc := "(I)I" } : Jvm.MethodName)) ∈ lw_tbl := lw_at lw_m2 108 rfl
theorem q461 : (Jvm.Cond.instanceMethod ({ cls := "StoneBacks", name := "loadOf", desc := "(I)I" } : Jvm.MethodName)) ∈ lw_all := lw_g (lw_at lw_m2 109 rfl) rfl
theorem q462 : (Jvm.Cond.code ({ cls := "StoneBacks", name := "loadOf", desc := "(I)I" } : Jvm.MethodName) prog_1_method_62_code (4 : Nat) (Option.some Jvm.ClassFile.FieldType.int)) ∈ lw_all := lw_g (lw_at lw_m2 110 rfl) rfl
theorem q463 : (Jvm.Cond.methodLink "StoneBacks" (518 : Nat) ({ cls := "StoneBacks", name := "has", desc := "(II)Z" } : Jvm.MethodName)) ∈ lw_all := lw_g (lw_at lw_m2 111 rfl) rfl
theorem q464 : (Jvm.Cond.static ({ cls := "StoneBacks", name := "has", desc := "(II)Z" } : Jvm.MethodName)) ∈ lw_all := lw_g (lw_at lw_m2 112 rfl) rfl
theorem q465 : (Jvm.Cond.code ({ cls := "StoneBacks", name := "has", desc := "(II)Z" } : Jvm.MethodName) prog_1_method_40_code (2 : Nat) (Option.some Jvm.ClassFile.FieldType.boolean)) ∈ lw_all := lw_g (lw_at lw_m2 113 rfl) rfl
theorem q466 : (Jvm.Cond.methodLink "StoneBacks" (337 : Nat) ({ cls := "StoneBacks$World", name := "load", desc := "(I)I" } : Jvm.MethodName)) ∈ lw_all := lw_g (lw_at lw_m2 114 rfl) rfl
theorem q479 : (Jvm.Cond.methodLink "StoneBacks" (377 : Nat) ({ cls := "java/lang/Math", name := "min", desc := "(II)I" } : Jvm.MethodName)) ∈ lw_all := lw_g (lw_at lw_m2 127 rfl) rfl
theorem q483 : (Jvm.Cond.instanceMethod ({ cls := "StoneBacks", name := "meet", desc := "()I" } : Jvm.MethodName)) ∈ lw_all := lw_g (lw_at lw_m2 131 rfl) rfl
theorem q484 : (Jvm.Cond.selects "StoneBacks" ({ cls := "StoneBacks", name := "meet", desc := "()I" } : Jvm.MethodName) ({ cls := "StoneBacks", name := "meet", desc := "()I" } : Jvm.MethodName)) ∈ lw_all := lw_g (lw_at lw_m2 132 rfl) rfl
theorem q485 : (Jvm.Cond.code ({ cls := "StoneBacks", name := "meet", desc := "()I" } : Jvm.MethodName) prog_1_method_79_code (6 : Nat) (Option.some Jvm.ClassFile.FieldType.int)) ∈ lw_all := lw_g (lw_at lw_m2 133 rfl) rfl
theorem q486 : (Jvm.Cond.methodLink "StoneBacks" (499 : Nat) ({ cls := "StoneBacks", name := "wayOf", desc := "(II)I" } : Jvm.MethodName)) ∈ lw_all := lw_g (lw_at lw_m2 134 rfl) rfl
theorem q487 : (Jvm.Cond.privateMethod ({ cls := "StoneBacks", name := "wayOf", desc := "(II)I" } : Jvm.MethodName)) ∈ lw_tbl := lw_at lw_m2 135 rfl
theorem q488 : (Jvm.Cond.instanceMethod ({ cls := "StoneBacks", name := "wayOf", desc := "(II)I" } : Jvm.MethodName)) ∈ lw_all := lw_g (lw_at lw_m2 136 rfl) rfl
theorem q489 : (Jvm.Cond.code ({ cls := "StoneBacks", name := "wayOf", desc := "(II)I" } : Jvm.MethodName) prog_1_method_56_code (7 : Nat) (Option.some Jvm.ClassFile.FieldType.int)) ∈ lw_all := lw_g (lw_at lw_m2 137 rfl) rfl
theorem q490 : (Jvm.Cond.methodLink "StoneBacks" (366 : Nat) ({ cls := "java/lang/Math", name := "max", desc := "(II)I" } : Jvm.MethodName)) ∈ lw_all := lw_g (lw_at lw_m2 138 rfl) rfl
theorem q494 : (Jvm.Cond.instanceMethod ({ cls := "StoneBacks", name := "last", desc := "(Z)I" } : Jvm.MethodName)) ∈ lw_all := lw_g (lw_at lw_m2 142 rfl) rfl
theorem q495 : (Jvm.Cond.selects "StoneBacks" ({ cls := "StoneBacks", name := "last", desc := "(Z)I" } : Jvm.MethodName) ({ cls := "StoneBacks", name := "last", desc := "(Z)I" } : Jvm.MethodName)) ∈ lw_all := lw_g (lw_at lw_m2 143 rfl) rfl
theorem q496 : (Jvm.Cond.code ({ cls := "StoneBacks", name := "last", desc := "(Z)I" } : Jvm.MethodName) prog_1_method_80_code (4 : Nat) (Option.some Jvm.ClassFile.FieldType.int)) ∈ lw_all := lw_g (lw_at lw_m2 144 rfl) rfl
theorem q497 : (Jvm.Cond.methodLink "StoneBacks" (204 : Nat) ({ cls := "StoneBacks$World", name := "likens", desc := "(LStoneBacks$World;)LStoneBacks$World;" } : Jvm.MethodName)) ∈ lw_all := lw_g (lw_at lw_m2 145 rfl) rfl
theorem q507 : (Jvm.Cond.methodLink "StoneBacks" (387 : Nat) ({ cls := "StoneBacks$World", name := "isBowed", desc := "(I)Z" } : Jvm.MethodName)) ∈ lw_all := lw_g (lw_at lw_m2 155 rfl) rfl
theorem q512 : (Jvm.Cond.methodLink "StoneBacks" (413 : Nat) ({ cls := "StoneBacks", name := "anHour", desc := "(LStoneBacks$World;Z)I" } : Jvm.MethodName)) ∈ lw_all := lw_g (lw_at lw_m2 160 rfl) rfl
theorem q513 : (Jvm.Cond.privateMethod ({ cls := "StoneBacks", name := "anHour", desc := "(LStoneBacks$World;Z)I" } : Jvm.MethodName)) ∈ lw_tbl := lw_at lw_m2 161 rfl
theorem q514 : (Jvm.Cond.instanceMethod ({ cls := "StoneBacks", name := "anHour", desc := "(LStoneBacks$World;Z)I" } : Jvm.MethodName)) ∈ lw_all := lw_g (lw_at lw_m2 162 rfl) rfl
theorem q515 : (Jvm.Cond.code ({ cls := "StoneBacks", name := "anHour", desc := "(LStoneBacks$World;Z)I" } : Jvm.MethodName) prog_1_method_31_code (4 : Nat) (Option.some Jvm.ClassFile.FieldType.int)) ∈ lw_all := lw_g (lw_at lw_m2 163 rfl) rfl
theorem q516 : (Jvm.Cond.methodLink "StoneBacks" (403 : Nat) ({ cls := "StoneBacks", name := "allGo", desc := "(LStoneBacks$World;)V" } : Jvm.MethodName)) ∈ lw_all := lw_g (lw_at lw_m2 164 rfl) rfl
theorem q517 : (Jvm.Cond.privateMethod ({ cls := "StoneBacks", name := "allGo", desc := "(LStoneBacks$World;)V" } : Jvm.MethodName)) ∈ lw_tbl := lw_at lw_m2 165 rfl
theorem q518 : (Jvm.Cond.instanceMethod ({ cls := "StoneBacks", name := "allGo", desc := "(LStoneBacks$World;)V" } : Jvm.MethodName)) ∈ lw_all := lw_g (lw_at lw_m2 166 rfl) rfl
theorem q519 : (Jvm.Cond.code ({ cls := "StoneBacks", name := "allGo", desc := "(LStoneBacks$World;)V" } : Jvm.MethodName) prog_1_method_29_code (3 : Nat) (Option.none : Option Jvm.ClassFile.FieldType)) ∈ lw_all := lw_g (lw_at lw_m2 167 rfl) rfl
theorem q520 : (Jvm.Cond.methodLink "StoneBacks" (380 : Nat) ({ cls := "StoneBacks", name := "earnsBy", desc := "(LStoneBacks$World;I)I" } : Jvm.MethodName)) ∈ lw_all := lw_g (lw_at lw_m2 168 rfl) rfl
theorem q521 : (Jvm.Cond.privateMethod ({ cls := "StoneBacks", name := "earnsBy", desc := "(LStoneBacks$World;I)I" } : Jvm.MethodName)) ∈ lw_tbl := lw_at lw_m2 169 rfl
theorem q522 : (Jvm.Cond.instanceMethod ({ cls := "StoneBacks", name := "earnsBy", desc := "(LStoneBacks$World;I)I" } : Jvm.MethodName)) ∈ lw_all := lw_g (lw_at lw_m2 170 rfl) rfl
theorem q523 : (Jvm.Cond.code ({ cls := "StoneBacks", name := "earnsBy", desc := "(LStoneBacks$World;I)I" } : Jvm.MethodName) prog_1_method_27_code (3 : Nat) (Option.some Jvm.ClassFile.FieldType.int)) ∈ lw_all := lw_g (lw_at lw_m2 171 rfl) rfl
theorem q524 : (Jvm.Cond.fieldLink "StoneBacks" (371 : Nat) "StoneBacks$Kind" "EARN" "LStoneBacks$Kind;") ∈ lw_all := lw_g (lw_at lw_m2 172 rfl) rfl
theorem q526 : (Jvm.Cond.methodLink "StoneBacks" (363 : Nat) ({ cls := "StoneBacks", name := "by", desc := "(LStoneBacks$World;LStoneBacks$Kind;I)I" } : Jvm.MethodName)) ∈ lw_all := lw_g (lw_at lw_m2 174 rfl) rfl
theorem q527 : (Jvm.Cond.privateMethod ({ cls := "StoneBacks", name := "by", desc := "(LStoneBacks$World;LStoneBacks$Kind;I)I" } : Jvm.MethodName)) ∈ lw_tbl := lw_at lw_m2 175 rfl
theorem q528 : (Jvm.Cond.instanceMethod ({ cls := "StoneBacks", name := "by", desc := "(LStoneBacks$World;LStoneBacks$Kind;I)I" } : Jvm.MethodName)) ∈ lw_all := lw_g (lw_at lw_m2 176 rfl) rfl
theorem q529 : (Jvm.Cond.code ({ cls := "StoneBacks", name := "by", desc := "(LStoneBacks$World;LStoneBacks$Kind;I)I" } : Jvm.MethodName) prog_1_method_25_code (4 : Nat) (Option.some Jvm.ClassFile.FieldType.int)) ∈ lw_all := lw_g (lw_at lw_m2 177 rfl) rfl
theorem q530 : (Jvm.Cond.methodLink "StoneBacks" (356 : Nat) ({ cls := "StoneBacks$Law", name := "sum", desc := "(LStoneBacks$Kind;LStoneBacks$Scene;)I" } : Jvm.MethodName)) ∈ lw_all := lw_g (lw_at lw_m2 178 rfl) rfl
theorem q609 : (Jvm.Cond.methodLink "StoneBacks" (384 : Nat) ({ cls := "StoneBacks$World", name := "gets", desc := "(II)V" } : Jvm.MethodName)) ∈ lw_all := lw_g (lw_at lw_m3 17 rfl) rfl
theorem q614 : (Jvm.Cond.methodLink "StoneBacks" (390 : Nat) ({ cls := "StoneBacks$World", name := "walks", desc := "(I)V" } : Jvm.MethodName)) ∈ lw_all := lw_g (lw_at lw_m3 22 rfl) rfl
theorem q619 : (Jvm.Cond.methodLink "StoneBacks" (406 : Nat) ({ cls := "StoneBacks", name := "allTire", desc := "(LStoneBacks$World;Z)I" } : Jvm.MethodName)) ∈ lw_all := lw_g (lw_at lw_m3 27 rfl) rfl
theorem q620 : (Jvm.Cond.privateMethod ({ cls := "StoneBacks", name := "allTire", desc := "(LStoneBacks$World;Z)I" } : Jvm.MethodName)) ∈ lw_tbl := lw_at lw_m3 28 rfl
theorem q621 : (Jvm.Cond.instanceMethod ({ cls := "StoneBacks", name := "allTire", desc := "(LStoneBacks$World;Z)I" } : Jvm.MethodName)) ∈ lw_all := lw_g (lw_at lw_m3 29 rfl) rfl
theorem q622 : (Jvm.Cond.code ({ cls := "StoneBacks", name := "allTire", desc := "(LStoneBacks$World;Z)I" } : Jvm.MethodName) prog_1_method_30_code (5 : Nat) (Option.some Jvm.ClassFile.FieldType.int)) ∈ lw_all := lw_g (lw_at lw_m3 30 rfl) rfl
theorem q623 : (Jvm.Cond.methodLink "StoneBacks" (394 : Nat) ({ cls := "StoneBacks", name := "tiresBy", desc := "(LStoneBacks$World;I)I" } : Jvm.MethodName)) ∈ lw_all := lw_g (lw_at lw_m3 31 rfl) rfl
theorem q624 : (Jvm.Cond.privateMethod ({ cls := "StoneBacks", name := "tiresBy", desc := "(LStoneBacks$World;I)I" } : Jvm.MethodName)) ∈ lw_tbl := lw_at lw_m3 32 rfl
theorem q625 : (Jvm.Cond.instanceMethod ({ cls := "StoneBacks", name := "tiresBy", desc := "(LStoneBacks$World;I)I" } : Jvm.MethodName)) ∈ lw_all := lw_g (lw_at lw_m3 33 rfl) rfl
theorem q626 : (Jvm.Cond.code ({ cls := "StoneBacks", name := "tiresBy", desc := "(LStoneBacks$World;I)I" } : Jvm.MethodName) prog_1_method_26_code (3 : Nat) (Option.some Jvm.ClassFile.FieldType.int)) ∈ lw_all := lw_g (lw_at lw_m3 34 rfl) rfl
theorem q627 : (Jvm.Cond.fieldLink "StoneBacks" (359 : Nat) "StoneBacks$Kind" "TIRE" "LStoneBacks$Kind;") ∈ lw_all := lw_g (lw_at lw_m3 35 rfl) rfl
theorem q629 : (Jvm.Cond.methodLink "StoneBacks" (397 : Nat) ({ cls := "StoneBacks$World", name := "draw", desc := "(I)I" } : Jvm.MethodName)) ∈ lw_all := lw_g (lw_at lw_m3 37 rfl) rfl
theorem q634 : (Jvm.Cond.methodLink "StoneBacks" (400 : Nat) ({ cls := "StoneBacks", name := "hurtsBy", desc := "(LStoneBacks$World;I)I" } : Jvm.MethodName)) ∈ lw_all := lw_g (lw_at lw_m3 42 rfl) rfl
theorem q635 : (Jvm.Cond.privateMethod ({ cls := "StoneBacks", name := "hurtsBy", desc := "(LStoneBacks$World;I)I" } : Jvm.MethodName)) ∈ lw_tbl := lw_at lw_m3 43 rfl
theorem q636 : (Jvm.Cond.instanceMethod ({ cls := "StoneBacks", name := "hurtsBy", desc := "(LStoneBacks$World;I)I" } : Jvm.MethodName)) ∈ lw_all := lw_g (lw_at lw_m3 44 rfl) rfl
theorem q637 : (Jvm.Cond.code ({ cls := "StoneBacks", name := "hurtsBy", desc := "(LStoneBacks$World;I)I" } : Jvm.MethodName) prog_1_method_28_code (3 : Nat) (Option.some Jvm.ClassFile.FieldType.int)) ∈ lw_all := lw_g (lw_at lw_m3 45 rfl) rfl
theorem q638 : (Jvm.Cond.fieldLink "StoneBacks" (374 : Nat) "StoneBacks$Kind" "HURT" "LStoneBacks$Kind;") ∈ lw_all := lw_g (lw_at lw_m3 46 rfl) rfl
theorem q640 : (Jvm.Cond.methodLink "StoneBacks" (410 : Nat) ({ cls := "StoneBacks$World", name := "ends", desc := "()V" } : Jvm.MethodName)) ∈ lw_all := lw_g (lw_at lw_m3 48 rfl) rfl
theorem q645 : (Jvm.Cond.instanceMethod ({ cls := "StoneBacks", name := "heap", desc := "()I" } : Jvm.MethodName)) ∈ lw_all := lw_g (lw_at lw_m3 53 rfl) rfl
theorem q646 : (Jvm.Cond.selects "StoneBacks" ({ cls := "StoneBacks", name := "heap", desc := "()I" } : Jvm.MethodName) ({ cls := "StoneBacks", name := "heap", desc := "()I" } : Jvm.MethodName)) ∈ lw_all := lw_g (lw_at lw_m3 54 rfl) rfl
theorem q647 : (Jvm.Cond.code ({ cls := "StoneBacks", name := "heap", desc := "()I" } : Jvm.MethodName) prog_1_method_81_code (5 : Nat) (Option.some Jvm.ClassFile.FieldType.int)) ∈ lw_all := lw_g (lw_at lw_m3 55 rfl) rfl
theorem q648 : (Jvm.Cond.methodLink "StoneBacks" (478 : Nat) ({ cls := "StoneBacks$World", name := "laidAt", desc := "(I)I" } : Jvm.MethodName)) ∈ lw_all := lw_g (lw_at lw_m3 56 rfl) rfl
theorem q652 : (Jvm.Cond.methodLink "StoneBacks" (451 : Nat) ({ cls := "StoneBacks$World", name := "weightOf", desc := "(I)I" } : Jvm.MethodName)) ∈ lw_all := lw_g (lw_at lw_m3 60 rfl) rfl
theorem q654 : (Jvm.Cond.instanceMethod ({ cls := "StoneBacks", name := "pairs", desc := "()I" } : Jvm.MethodName)) ∈ lw_all := lw_g (lw_at lw_m3 62 rfl) rfl
theorem q655 : (Jvm.Cond.selects "StoneBacks" ({ cls := "StoneBacks", name := "pairs", desc := "()I" } : Jvm.MethodName) ({ cls := "StoneBacks", name := "pairs", desc := "()I" } : Jvm.MethodName)) ∈ lw_all := lw_g (lw_at lw_m3 63 rfl) rfl
theorem q656 : (Jvm.Cond.code ({ cls := "StoneBacks", name := "pairs", desc := "()I" } : Jvm.MethodName) prog_1_method_82_code (4 : Nat) (Option.some Jvm.ClassFile.FieldType.int)) ∈ lw_all := lw_g (lw_at lw_m3 64 rfl) rfl
theorem q658 : (Jvm.Cond.instanceMethod ({ cls := "StoneBacks", name := "heaviest", desc := "()I" } : Jvm.MethodName)) ∈ lw_all := lw_g (lw_at lw_m3 66 rfl) rfl
theorem q659 : (Jvm.Cond.selects "StoneBacks" ({ cls := "StoneBacks", name := "heaviest", desc := "()I" } : Jvm.MethodName) ({ cls := "StoneBacks", name := "heaviest", desc := "()I" } : Jvm.MethodName)) ∈ lw_all := lw_g (lw_at lw_m3 67 rfl) rfl
theorem q660 : (Jvm.Cond.code ({ cls := "StoneBacks", name := "heaviest", desc := "()I" } : Jvm.MethodName) prog_1_method_83_code (3 : Nat) (Option.some Jvm.ClassFile.FieldType.int)) ∈ lw_all := lw_g (lw_at lw_m3 68 rfl) rfl
theorem q662 : (Jvm.Cond.instanceMethod ({ cls := "StoneBacks", name := "seed", desc := "(I)I" } : Jvm.MethodName)) ∈ lw_all := lw_g (lw_at lw_m3 70 rfl) rfl
theorem q663 : (Jvm.Cond.selects "StoneBacks" ({ cls := "StoneBacks", name := "seed", desc := "(I)I" } : Jvm.MethodName) ({ cls := "StoneBacks", name := "seed", desc := "(I)I" } : Jvm.MethodName)) ∈ lw_all := lw_g (lw_at lw_m3 71 rfl) rfl
theorem q664 : (Jvm.Cond.code ({ cls := "StoneBacks", name := "seed", desc := "(I)I" } : Jvm.MethodName) prog_1_method_92_code (3 : Nat) (Option.some Jvm.ClassFile.FieldType.int)) ∈ lw_all := lw_g (lw_at lw_m3 72 rfl) rfl
theorem q666 : (Jvm.Cond.instanceMethod ({ cls := "StoneBacks", name := "undo", desc := "()Z" } : Jvm.MethodName)) ∈ lw_all := lw_g (lw_at lw_m3 74 rfl) rfl
theorem q667 : (Jvm.Cond.selects "StoneBacks" ({ cls := "StoneBacks", name := "undo", desc := "()Z" } : Jvm.MethodName) ({ cls := "StoneBacks", name := "undo", desc := "()Z" } : Jvm.MethodName)) ∈ lw_all := lw_g (lw_at lw_m3 75 rfl) rfl
theorem q668 : (Jvm.Cond.code ({ cls := "StoneBacks", name := "undo", desc := "()Z" } : Jvm.MethodName) prog_1_method_93_code (1 : Nat) (Option.some Jvm.ClassFile.FieldType.boolean)) ∈ lw_all := lw_g (lw_at lw_m3 76 rfl) rfl
theorem q669 : (Jvm.Cond.methodLink "StoneBacks" (591 : Nat) ({ cls := "java/util/ArrayList", name := "isEmpty", desc := "()Z" } : Jvm.MethodName)) ∈ lw_all := lw_g (lw_at lw_m3 77 rfl) rfl
theorem q673 : (Jvm.Cond.methodLink "StoneBacks" (319 : Nat) ({ cls := "java/util/ArrayList", name := "size", desc := "()I" } : Jvm.MethodName)) ∈ lw_all := lw_g (lw_at lw_m3 81 rfl) rfl
theorem q674 : (Jvm.Cond.methodLink "StoneBacks" (481 : Nat) ({ cls := "java/util/ArrayList", name := "remove", desc := "(I)Ljava/lang/Object;" } : Jvm.MethodName)) ∈ lw_all := lw_g (lw_at lw_m3 82 rfl) rfl
theorem q684 : (Jvm.Cond.instanceMethod ({ cls := "StoneBacks", name := "image", desc := "()V" } : Jvm.MethodName)) ∈ lw_all := lw_g (lw_at lw_m3 92 rfl) rfl
theorem q685 : (Jvm.Cond.selects "StoneBacks" ({ cls := "StoneBacks", name := "image", desc := "()V" } : Jvm.MethodName) ({ cls := "StoneBacks", name := "image", desc := "()V" } : Jvm.MethodName)) ∈ lw_all := lw_g (lw_at lw_m3 93 rfl) rfl
theorem q686 : (Jvm.Cond.code ({ cls := "StoneBacks", name := "image", desc := "()V" } : Jvm.MethodName) prog_1_method_94_code (1 : Nat) (Option.none : Option Jvm.ClassFile.FieldType)) ∈ lw_all := lw_g (lw_at lw_m3 94 rfl) rfl
theorem q688 : (Jvm.Cond.instanceMethod ({ cls := "StoneBacks", name := "back", desc := "()Z" } : Jvm.MethodName)) ∈ lw_all := lw_g (lw_at lw_m3 96 rfl) rfl
theorem q689 : (Jvm.Cond.selects "StoneBacks" ({ cls := "StoneBacks", name := "back", desc := "()Z" } : Jvm.MethodName) ({ cls := "StoneBacks", name := "back", desc := "()Z" } : Jvm.MethodName)) ∈ lw_all := lw_g (lw_at lw_m3 97 rfl) rfl
theorem q690 : (Jvm.Cond.code ({ cls := "StoneBacks", name := "back", desc := "()Z" } : Jvm.MethodName) prog_1_method_95_code (1 : Nat) (Option.some Jvm.ClassFile.FieldType.boolean)) ∈ lw_all := lw_g (lw_at lw_m3 98 rfl) rfl
theorem q691 : (Jvm.Cond.methodLink "StoneBacks" (222 : Nat) ({ cls := "java/util/ArrayList", name := "clear", desc := "()V" } : Jvm.MethodName)) ∈ lw_all := lw_g (lw_at lw_m3 99 rfl) rfl
theorem q696 : (Jvm.Cond.instanceMethod ({ cls := "StoneBacks", name := "count", desc := "(I)I" } : Jvm.MethodName)) ∈ lw_all := lw_g (lw_at lw_m3 104 rfl) rfl
theorem q697 : (Jvm.Cond.selects "StoneBacks" ({ cls := "StoneBacks", name := "count", desc := "(I)I" } : Jvm.MethodName) ({ cls := "StoneBacks", name := "count", desc := "(I)I" } : Jvm.MethodName)) ∈ lw_all := lw_g (lw_at lw_m3 105 rfl) rfl
theorem q698 : (Jvm.Cond.code ({ cls := "StoneBacks", name := "count", desc := "(I)I" } : Jvm.MethodName) prog_1_method_96_code (3 : Nat) (Option.some Jvm.ClassFile.FieldType.int)) ∈ lw_all := lw_g (lw_at lw_m3 106 rfl) rfl
theorem q699 : (Jvm.Cond.methodLink "StoneBacks" (576 : Nat) ({ cls := "StoneBacks$World", name := "purses", desc := "()I" } : Jvm.MethodName)) ∈ lw_all := lw_g (lw_at lw_m3 107 rfl) rfl
theorem q703 : (Jvm.Cond.methodLink "StoneBacks" (597 : Nat) ({ cls := "StoneBacks$World", name := "ofState", desc := "(I)I" } : Jvm.MethodName)) ∈ lw_all := lw_g (lw_at lw_m3 111 rfl) rfl
theorem q707 : (Jvm.Cond.methodLink "StoneBacks" (567 : Nat) ({ cls := "StoneBacks$World", name := "unpaid", desc := "()I" } : Jvm.MethodName)) ∈ lw_all := lw_g (lw_at lw_m3 115 rfl) rfl
theorem q712 : (Jvm.Cond.methodLink "StoneBacks" (573 : Nat) ({ cls := "StoneBacks$World", name := "hurtOnes", desc := "()I" } : Jvm.MethodName)) ∈ lw_all := lw_g (lw_at lw_m3 120 rfl) rfl
theorem q722 : (Jvm.Cond.instanceMethod ({ cls := "StoneBacks", name := "valley", desc := "()I" } : Jvm.MethodName)) ∈ lw_all := lw_g (lw_at lw_m3 130 rfl) rfl
theorem q723 : (Jvm.Cond.selects "StoneBacks" ({ cls := "StoneBacks", name := "valley", desc := "()I" } : Jvm.MethodName) ({ cls := "StoneBacks", name := "valley", desc := "()I" } : Jvm.MethodName)) ∈ lw_all := lw_g (lw_at lw_m3 131 rfl) rfl
theorem q724 : (Jvm.Cond.codeWith ({ cls := "StoneBacks", name := "valley", desc := "()I" } : Jvm.MethodName) prog_1_method_16_code (2 : Nat) (Option.some Jvm.ClassFile.FieldType.int) [((19 : Nat), (35 : Nat), (38 : Nat), (211 : Nat))]) ∈ lw_all := lw_g (lw_at lw_m3 132 rfl) rfl
theorem q725 : (Jvm.Cond.classLink "StoneBacks" (211 : Nat) "StoneBacks$Wrong") ∈ lw_all := lw_g (lw_at lw_m3 133 rfl) rfl
theorem q726 : (Jvm.Cond.methodLink "StoneBacks" (201 : Nat) ({ cls := "StoneBacks$Reader", name := "begins", desc := "()V" } : Jvm.MethodName)) ∈ lw_all := lw_g (lw_at lw_m3 134 rfl) rfl
theorem q730 : (Jvm.Cond.methodLink "StoneBacks" (208 : Nat) ({ cls := "StoneBacks", name := "valleyText", desc := "(LStoneBacks$World;)V" } : Jvm.MethodName)) ∈ lw_all := lw_g (lw_at lw_m3 138 rfl) rfl
theorem q731 : (Jvm.Cond.privateMethod ({ cls := "StoneBacks", name := "valleyText", desc := "(LStoneBacks$World;)V" } : Jvm.MethodName)) ∈ lw_tbl := lw_at lw_m3 139 rfl
theorem q732 : (Jvm.Cond.instanceMethod ({ cls := "StoneBacks", name := "valleyText", desc := "(LStoneBacks$World;)V" } : Jvm.MethodName)) ∈ lw_all := lw_g (lw_at lw_m3 140 rfl) rfl
theorem q733 : (Jvm.Cond.code ({ cls := "StoneBacks", name := "valleyText", desc := "(LStoneBacks$World;)V" } : Jvm.MethodName) prog_1_method_12_code (3 : Nat) (Option.none : Option Jvm.ClassFile.FieldType)) ∈ lw_all := lw_g (lw_at lw_m3 141 rfl) rfl
theorem q734 : (Jvm.Cond.methodLink "StoneBacks" (178 : Nat) ({ cls := "StoneBacks$Reader", name := "isOver", desc := "()Z" } : Jvm.MethodName)) ∈ lw_all := lw_g (lw_at lw_m3 142 rfl) rfl
theorem q746 : (Jvm.Cond.methodLink "StoneBacks" (182 : Nat) ({ cls := "StoneBacks", name := "noMore", desc := "(II)V" } : Jvm.MethodName)) ∈ lw_all := lw_g (lw_at lw_m3 154 rfl) rfl
theorem q747 : (Jvm.Cond.privateMethod ({ cls := "StoneBacks", name := "noMore", desc := "(II)V" } : Jvm.MethodName)) ∈ lw_tbl := lw_at lw_m3 155 rfl
theorem q748 : (Jvm.Cond.instanceMethod ({ cls := "StoneBacks", name := "noMore", desc := "(II)V" } : Jvm.MethodName)) ∈ lw_all := lw_g (lw_at lw_m3 156 rfl) rfl
theorem q749 : (Jvm.Cond.code ({ cls := "StoneBacks", name := "noMore", desc := "(II)V" } : Jvm.MethodName) prog_1_method_13_code (3 : Nat) (Option.none : Option Jvm.ClassFile.FieldType)) ∈ lw_all := lw_g (lw_at lw_m3 157 rfl) rfl
theorem q750 : (Jvm.Cond.methodLink "StoneBacks" (74 : Nat) ({ cls := "StoneBacks$Reader", name := "word", desc := "()Ljava/lang/String;" } : Jvm.MethodName)) ∈ lw_all := lw_g (lw_at lw_m3 158 rfl) rfl
theorem q755 : (Jvm.Cond.static ({ cls := "StoneBacks", name := "in", desc := "(III)Z" } : Jvm.MethodName)) ∈ lw_all := lw_g (lw_at lw_m3 163 rfl) rfl
theorem q756 : (Jvm.Cond.code ({ cls := "StoneBacks", name := "in", desc := "(III)Z" } : Jvm.MethodName) prog_1_method_2_code (3 : Nat) (Option.some Jvm.ClassFile.FieldType.boolean)) ∈ lw_all := lw_g (lw_at lw_m3 164 rfl) rfl
theorem q1083 : (Jvm.Cond.methodLink "StoneBacks" (84 : Nat) ({ cls := "StoneBacks$Reader", name := "wrong", desc := "()LStoneBacks$Wrong;" } : Jvm.MethodName)) ∈ lw_all := lw_g (lw_at lw_m5 11 rfl) rfl
theorem q1107 : (Jvm.Cond.methodLink "StoneBacks" (186 : Nat) ({ cls := "StoneBacks", name := "valleyLine", desc := "(LStoneBacks$World;)V" } : Jvm.MethodName)) ∈ lw_all := lw_g (lw_at lw_m5 35 rfl) rfl
theorem q1108 : (Jvm.Cond.privateMethod ({ cls := "StoneBacks", name := "valleyLine", desc := "(LStoneBacks$World;)V" } : Jvm.MethodName)) ∈ lw_tbl := lw_at lw_m5 36 rfl
theorem q1109 : (Jvm.Cond.instanceMethod ({ cls := "StoneBacks", name := "valleyLine", desc := "(LStoneBacks$World;)V" } : Jvm.MethodName)) ∈ lw_all := lw_g (lw_at lw_m5 37 rfl) rfl
theorem q1110 : (Jvm.Cond.code ({ cls := "StoneBacks", name := "valleyLine", desc := "(LStoneBacks$World;)V" } : Jvm.MethodName) prog_1_method_11_code (6 : Nat) (Option.none : Option Jvm.ClassFile.FieldType)) ∈ lw_all := lw_g (lw_at lw_m5 38 rfl) rfl
theorem q1111 : (Jvm.Cond.methodLink "StoneBacks" (148 : Nat) ({ cls := "java/lang/String", name := "hashCode", desc := "()I" } : Jvm.MethodName)) ∈ lw_all := lw_g (lw_at lw_m5 39 rfl) rfl
theorem q1172 : (Jvm.Cond.stringRef "StoneBacks" (151 : Nat) "person") ∈ lw_tbl := lw_at lw_m5 100 rfl
theorem q1173 : (Jvm.Cond.methodLink "StoneBacks" (78 : Nat) ({ cls := "java/lang/String", name := "equals", desc := "(Ljava/lang/Object;)Z" } : Jvm.MethodName)) ∈ lw_all := lw_g (lw_at lw_m5 101 rfl) rfl
theorem q1181 : (Jvm.Cond.stringRef "StoneBacks" (153 : Nat) "stone") ∈ lw_tbl := lw_at lw_m5 109 rfl
theorem q1182 : (Jvm.Cond.stringRef "StoneBacks" (155 : Nat) "slope") ∈ lw_tbl := lw_at lw_m5 110 rfl
theorem q1183 : (Jvm.Cond.stringRef "StoneBacks" (157 : Nat) "porch") ∈ lw_tbl := lw_at lw_m5 111 rfl
theorem q1184 : (Jvm.Cond.stringRef "StoneBacks" (159 : Nat) "limit") ∈ lw_tbl := lw_at lw_m5 112 rfl
theorem q1185 : (Jvm.Cond.stringRef "StoneBacks" (161 : Nat) "hour") ∈ lw_tbl := lw_at lw_m5 113 rfl
theorem q1186 : (Jvm.Cond.methodLink "StoneBacks" (163 : Nat) ({ cls := "StoneBacks", name := "aPerson", desc := "(LStoneBacks$World;)V" } : Jvm.MethodName)) ∈ lw_all := lw_g (lw_at lw_m5 114 rfl) rfl
theorem q1187 : (Jvm.Cond.privateMethod ({ cls := "StoneBacks", name := "aPerson", desc := "(LStoneBacks$World;)V" } : Jvm.MethodName)) ∈ lw_tbl := lw_at lw_m5 115 rfl
theorem q1188 : (Jvm.Cond.instanceMethod ({ cls := "StoneBacks", name := "aPerson", desc := "(LStoneBacks$World;)V" } : Jvm.MethodName)) ∈ lw_all := lw_g (lw_at lw_m5 116 rfl) rfl
theorem q1189 : (Jvm.Cond.code ({ cls := "StoneBacks", name := "aPerson", desc := "(LStoneBacks$World;)V" } : Jvm.MethodName) prog_1_method_9_code (4 : Nat) (Option.none : Option Jvm.ClassFile.FieldType)) ∈ lw_all := lw_g (lw_at lw_m5 117 rfl) rfl
theorem q1190 : (Jvm.Cond.methodLink "StoneBacks" (92 : Nat) ({ cls := "StoneBacks$Reader", name := "number", desc := "(II)I" } : Jvm.MethodName)) ∈ lw_all := lw_g (lw_at lw_m5 118 rfl) rfl
theorem q1199 : (Jvm.Cond.stringRef "StoneBacks" (105 : Nat) "back") ∈ lw_tbl := lw_at lw_m5 127 rfl
theorem q1200 : (Jvm.Cond.methodLink "StoneBacks" (106 : Nat) ({ cls := "StoneBacks", name := "after", desc := "(Ljava/lang/String;II)I" } : Jvm.MethodName)) ∈ lw_all := lw_g (lw_at lw_m5 128 rfl) rfl
theorem q1201 : (Jvm.Cond.privateMethod ({ cls := "StoneBacks", name := "after", desc := "(Ljava/lang/String;II)I" } : Jvm.MethodName)) ∈ lw_tbl := lw_at lw_m5 129 rfl
theorem q1202 : (Jvm.Cond.instanceMethod ({ cls := "StoneBacks", name := "after", desc := "(Ljava/lang/String;II)I" } : Jvm.MethodName)) ∈ lw_all := lw_g (lw_at lw_m5 130 rfl) rfl
theorem q1203 : (Jvm.Cond.code ({ cls := "StoneBacks", name := "after", desc := "(Ljava/lang/String;II)I" } : Jvm.MethodName) prog_1_method_7_code (4 : Nat) (Option.some Jvm.ClassFile.FieldType.int)) ∈ lw_all := lw_g (lw_at lw_m5 131 rfl) rfl
theorem q1204 : (Jvm.Cond.methodLink "StoneBacks" (88 : Nat) ({ cls := "StoneBacks", name := "needs", desc := "(Ljava/lang/String;)V" } : Jvm.MethodName)) ∈ lw_all := lw_g (lw_at lw_m5 132 rfl) rfl
theorem q1205 : (Jvm.Cond.privateMethod ({ cls := "StoneBacks", name := "needs", desc := "(Ljava/lang/String;)V" } : Jvm.MethodName)) ∈ lw_tbl := lw_at lw_m5 133 rfl
theorem q1206 : (Jvm.Cond.instanceMethod ({ cls := "StoneBacks", name := "needs", desc := "(Ljava/lang/String;)V" } : Jvm.MethodName)) ∈ lw_all := lw_g (lw_at lw_m5 134 rfl) rfl
theorem q1207 : (Jvm.Cond.code ({ cls := "StoneBacks", name := "needs", desc := "(Ljava/lang/String;)V" } : Jvm.MethodName) prog_1_method_6_code (2 : Nat) (Option.none : Option Jvm.ClassFile.FieldType)) ∈ lw_all := lw_g (lw_at lw_m5 135 rfl) rfl
theorem q1208 : (Jvm.Cond.stringRef "StoneBacks" (113 : Nat) "at") ∈ lw_tbl := lw_at lw_m5 136 rfl
theorem q1209 : (Jvm.Cond.stringRef "StoneBacks" (117 : Nat) "goal") ∈ lw_tbl := lw_at lw_m5 137 rfl
theorem q1210 : (Jvm.Cond.methodLink "StoneBacks" (118 : Nat) ({ cls := "StoneBacks$Reader", name := "passes", desc := "(Ljava/lang/String;)Z" } : Jvm.MethodName)) ∈ lw_all := lw_g (lw_at lw_m5 138 rfl) rfl
theorem q1216 : (Jvm.Cond.methodLink "StoneBacks" (122 : Nat) ({ cls := "StoneBacks", name := "placeTold", desc := "()I" } : Jvm.MethodName)) ∈ lw_all := lw_g (lw_at lw_m5 144 rfl) rfl
theorem q1217 : (Jvm.Cond.privateMethod ({ cls := "StoneBacks", name := "placeTold", desc := "()I" } : Jvm.MethodName)) ∈ lw_tbl := lw_at lw_m5 145 rfl
theorem q1218 : (Jvm.Cond.instanceMethod ({ cls := "StoneBacks", name := "placeTold", desc := "()I" } : Jvm.MethodName)) ∈ lw_all := lw_g (lw_at lw_m5 146 rfl) rfl
theorem q1219 : (Jvm.Cond.code ({ cls := "StoneBacks", name := "placeTold", desc := "()I" } : Jvm.MethodName) prog_1_method_8_code (1 : Nat) (Option.some Jvm.ClassFile.FieldType.int)) ∈ lw_all := lw_g (lw_at lw_m5 147 rfl) rfl
theorem q1220 : (Jvm.Cond.methodLink "StoneBacks" (167 : Nat) ({ cls := "StoneBacks", name := "aStone", desc := "(LStoneBacks$World;)V" } : Jvm.MethodName)) ∈ lw_all := lw_g (lw_at lw_m5 148 rfl) rfl
theorem q1221 : (Jvm.Cond.privateMethod ({ cls := "StoneBacks", name := "aStone", desc := "(LStoneBacks$World;)V" } : Jvm.MethodName)) ∈ lw_tbl := lw_at lw_m5 149 rfl
theorem q1222 : (Jvm.Cond.instanceMethod ({ cls := "StoneBacks", name := "aStone", desc := "(LStoneBacks$World;)V" } : Jvm.MethodName)) ∈ lw_all := lw_g (lw_at lw_m5 150 rfl) rfl
theorem q1223 : (Jvm.Cond.code ({ cls := "StoneBacks", name := "aStone", desc := "(LStoneBacks$World;)V" } : Jvm.MethodName) prog_1_method_10_code (7 : Nat) (Option.none : Option Jvm.ClassFile.FieldType)) ∈ lw_all := lw_g (lw_at lw_m5 151 rfl) rfl
theorem q1224 : (Jvm.Cond.stringRef "StoneBacks" (136 : Nat) "of") ∈ lw_tbl := lw_at lw_m5 152 rfl
theorem q1225 : (Jvm.Cond.stringRef "StoneBacks" (138 : Nat) "to") ∈ lw_tbl := lw_at lw_m5 153 rfl
theorem q1226 : (Jvm.Cond.stringRef "StoneBacks" (140 : Nat) "worn") ∈ lw_tbl := lw_at lw_m5 154 rfl
theorem q1227 : (Jvm.Cond.stringRef "StoneBacks" (142 : Nat) "by") ∈ lw_tbl := lw_at lw_m5 155 rfl
theorem q1228 : (Jvm.Cond.methodLink "StoneBacks" (144 : Nat) ({ cls := "StoneBacks$World", name := "adds", desc := "(IIII)I" } : Jvm.MethodName)) ∈ lw_all := lw_g (lw_at lw_m5 156 rfl) rfl
theorem q1232 : (Jvm.Cond.methodLink "StoneBacks" (189 : Nat) ({ cls := "StoneBacks", name := "goesOn", desc := "()Z" } : Jvm.MethodName)) ∈ lw_all := lw_g (lw_at lw_m5 160 rfl) rfl
theorem q1233 : (Jvm.Cond.privateMethod ({ cls := "StoneBacks", name := "goesOn", desc := "()Z" } : Jvm.MethodName)) ∈ lw_tbl := lw_at lw_m5 161 rfl
theorem q1234 : (Jvm.Cond.instanceMethod ({ cls := "StoneBacks", name := "goesOn", desc := "()Z" } : Jvm.MethodName)) ∈ lw_all := lw_g (lw_at lw_m5 162 rfl) rfl
theorem q1235 : (Jvm.Cond.code ({ cls := "StoneBacks", name := "goesOn", desc := "()Z" } : Jvm.MethodName) prog_1_method_14_code (1 : Nat) (Option.some Jvm.ClassFile.FieldType.boolean)) ∈ lw_all := lw_g (lw_at lw_m5 163 rfl) rfl
theorem q1236 : (Jvm.Cond.methodLink "StoneBacks" (192 : Nat) ({ cls := "StoneBacks$Reader", name := "sign", desc := "(I)Z" } : Jvm.MethodName)) ∈ lw_all := lw_g (lw_at lw_m5 164 rfl) rfl
theorem q1240 : (Jvm.Cond.methodLink "StoneBacks" (213 : Nat) ({ cls := "StoneBacks", name := "fails", desc := "()V" } : Jvm.MethodName)) ∈ lw_all := lw_g (lw_at lw_m5 168 rfl) rfl
theorem q1241 : (Jvm.Cond.privateMethod ({ cls := "StoneBacks", name := "fails", desc := "()V" } : Jvm.MethodName)) ∈ lw_tbl := lw_at lw_m5 169 rfl
theorem q1242 : (Jvm.Cond.instanceMethod ({ cls := "StoneBacks", name := "fails", desc := "()V" } : Jvm.MethodName)) ∈ lw_all := lw_g (lw_at lw_m5 170 rfl) rfl
theorem q1243 : (Jvm.Cond.code ({ cls := "StoneBacks", name := "fails", desc := "()V" } : Jvm.MethodName) prog_1_method_15_code (1 : Nat) (Option.none : Option Jvm.ClassFile.FieldType)) ∈ lw_all := lw_g (lw_at lw_m5 171 rfl) rfl
theorem q1244 : (Jvm.Cond.classLink "StoneBacks" (198 : Nat) "java/lang/IllegalArgumentException") ∈ lw_all := lw_g (lw_at lw_m5 172 rfl) rfl
theorem q1245 : (Jvm.Cond.methodLink "StoneBacks" (200 : Nat) ({ cls := "java/lang/IllegalArgumentException", name := "<init>", desc := "()V" } : Jvm.MethodName)) ∈ lw_all := lw_g (lw_at lw_m5 173 rfl) rfl
theorem q1255 : (Jvm.Cond.classLink "StoneBacks" (219 : Nat) "java/lang/UnsupportedOperationException") ∈ lw_all := lw_g (lw_at lw_m5 183 rfl) rfl
theorem q1264 : (Jvm.Cond.methodLink "StoneBacks" (221 : Nat) ({ cls := "java/lang/UnsupportedOperationException", name := "<init>", desc := "()V" } : Jvm.MethodName)) ∈ lw_all := lw_g (lw_at lw_m5 192 rfl) rfl
theorem q1274 : (Jvm.Cond.instanceMethod ({ cls := "StoneBacks", name := "law", desc := "()I" } : Jvm.MethodName)) ∈ lw_all := lw_g (lw_at lw_m5 202 rfl) rfl
theorem q1275 : (Jvm.Cond.selects "StoneBacks" ({ cls := "StoneBacks", name := "law", desc := "()I" } : Jvm.MethodName) ({ cls := "StoneBacks", name := "law", desc := "()I" } : Jvm.MethodName)) ∈ lw_all := lw_g (lw_at lw_m5 203 rfl) rfl
theorem q1276 : (Jvm.Cond.codeWith ({ cls := "StoneBacks", name := "law", desc := "()I" } : Jvm.MethodName) prog_1_method_24_code (2 : Nat) (Option.some Jvm.ClassFile.FieldType.int) [((7 : Nat), (26 : Nat), (29 : Nat), (211 : Nat))]) ∈ lw_all := lw_g (lw_at lw_m5 204 rfl) rfl
theorem q1277 : (Jvm.Cond.methodLink "StoneBacks" (326 : Nat) ({ cls := "StoneBacks", name := "lawText", desc := "()LStoneBacks$Law;" } : Jvm.MethodName)) ∈ lw_all := lw_g (lw_at lw_m5 205 rfl) rfl
theorem q1278 : (Jvm.Cond.privateMethod ({ cls := "StoneBacks", name := "lawText", desc := "()LStoneBacks$Law;" } : Jvm.MethodName)) ∈ lw_tbl := lw_at lw_m5 206 rfl
theorem q1279 : (Jvm.Cond.instanceMethod ({ cls := "StoneBacks", name := "lawText", desc := "()LStoneBacks$Law;" } : Jvm.MethodName)) ∈ lw_all := lw_g (lw_at lw_m5 207 rfl) rfl
theorem q1280 : (Jvm.Cond.code ({ cls := "StoneBacks", name := "lawText", desc := "()LStoneBacks$Law;" } : Jvm.MethodName) prog_1_method_23_code (2 : Nat) (Option.some (Jvm.ClassFile.FieldType.object "StoneBacks$Law"))) ∈ lw_all := lw_g (lw_at lw_m5 208 rfl) rfl
theorem q1281 : (Jvm.Cond.classLink "StoneBacks" (313 : Nat) "StoneBacks$Law") ∈ lw_all := lw_g (lw_at lw_m5 209 rfl) rfl
theorem q1283 : (Jvm.Cond.methodLinkNest "StoneBacks" (315 : Nat) ({ cls := "StoneBacks$Law", name := "<init>", desc := "()V" } : Jvm.MethodName) "StoneBacks") ∈ lw_tbl := lw_at lw_m5 211 rfl
theorem q1290 : (Jvm.Cond.fieldLinkNest "StoneBacks" (316 : Nat) "StoneBacks$Law" "lines" "Ljava/util/ArrayList;" "StoneBacks") ∈ lw_tbl := lw_at lw_m5 218 rfl
theorem q1294 : (Jvm.Cond.methodLink "StoneBacks" (322 : Nat) ({ cls := "StoneBacks", name := "lawLine", desc := "()LStoneBacks$Line;" } : Jvm.MethodName)) ∈ lw_all := lw_g (lw_at lw_m5 222 rfl) rfl
theorem q1295 : (Jvm.Cond.privateMethod ({ cls := "StoneBacks", name := "lawLine", desc := "()LStoneBacks$Line;" } : Jvm.MethodName)) ∈ lw_tbl := lw_at lw_m5 223 rfl
theorem q1296 : (Jvm.Cond.instanceMethod ({ cls := "StoneBacks", name := "lawLine", desc := "()LStoneBacks$Line;" } : Jvm.MethodName)) ∈ lw_all := lw_g (lw_at lw_m5 224 rfl) rfl
theorem q1297 : (Jvm.Cond.code ({ cls := "StoneBacks", name := "lawLine", desc := "()LStoneBacks$Line;" } : Jvm.MethodName) prog_1_method_22_code (3 : Nat) (Option.some (Jvm.ClassFile.FieldType.object "StoneBacks$Line"))) ∈ lw_all := lw_g (lw_at lw_m5 225 rfl) rfl
theorem q1298 : (Jvm.Cond.methodLink "StoneBacks" (301 : Nat) ({ cls := "StoneBacks$Kind", name := "of", desc := "(Ljava/lang/String;)LStoneBacks$Kind;" } : Jvm.MethodName)) ∈ lw_all := lw_g (lw_at lw_m5 226 rfl) rfl
theorem q1313 : (Jvm.Cond.classLink "StoneBacks" (306 : Nat) "StoneBacks$Line") ∈ lw_all := lw_g (lw_at lw_m6 1 rfl) rfl
theorem q1315 : (Jvm.Cond.stringRef "StoneBacks" (308 : Nat) "if") ∈ lw_tbl := lw_at lw_m6 3 rfl
theorem q1316 : (Jvm.Cond.methodLink "StoneBacks" (253 : Nat) ({ cls := "StoneBacks", name := "cond", desc := "()LStoneBacks$Cond;" } : Jvm.MethodName)) ∈ lw_all := lw_g (lw_at lw_m6 4 rfl) rfl
theorem q1317 : (Jvm.Cond.privateMethod ({ cls := "StoneBacks", name := "cond", desc := "()LStoneBacks$Cond;" } : Jvm.MethodName)) ∈ lw_tbl := lw_at lw_m6 5 rfl
theorem q1318 : (Jvm.Cond.instanceMethod ({ cls := "StoneBacks", name := "cond", desc := "()LStoneBacks$Cond;" } : Jvm.MethodName)) ∈ lw_all := lw_g (lw_at lw_m6 6 rfl) rfl
theorem q1319 : (Jvm.Cond.code ({ cls := "StoneBacks", name := "cond", desc := "()LStoneBacks$Cond;" } : Jvm.MethodName) prog_1_method_21_code (2 : Nat) (Option.some (Jvm.ClassFile.FieldType.object "StoneBacks$Cond"))) ∈ lw_all := lw_g (lw_at lw_m6 7 rfl) rfl
theorem q1320 : (Jvm.Cond.classLink "StoneBacks" (288 : Nat) "StoneBacks$Row") ∈ lw_all := lw_g (lw_at lw_m6 8 rfl) rfl
theorem q1322 : (Jvm.Cond.methodLink "StoneBacks" (290 : Nat) ({ cls := "StoneBacks$Row", name := "<init>", desc := "(Z)V" } : Jvm.MethodName)) ∈ lw_all := lw_g (lw_at lw_m6 10 rfl) rfl
theorem q1330 : (Jvm.Cond.fieldLinkNest "StoneBacks" (291 : Nat) "StoneBacks$Row" "row" "Ljava/util/ArrayList;" "StoneBacks") ∈ lw_tbl := lw_at lw_m6 18 rfl
theorem q1336 : (Jvm.Cond.methodLink "StoneBacks" (296 : Nat) ({ cls := "StoneBacks", name := "allOf", desc := "()LStoneBacks$Cond;" } : Jvm.MethodName)) ∈ lw_all := lw_g (lw_at lw_m6 24 rfl) rfl
theorem q1337 : (Jvm.Cond.privateMethod ({ cls := "StoneBacks", name := "allOf", desc := "()LStoneBacks$Cond;" } : Jvm.MethodName)) ∈ lw_tbl := lw_at lw_m6 25 rfl
theorem q1338 : (Jvm.Cond.instanceMethod ({ cls := "StoneBacks", name := "allOf", desc := "()LStoneBacks$Cond;" } : Jvm.MethodName)) ∈ lw_all := lw_g (lw_at lw_m6 26 rfl) rfl
theorem q1339 : (Jvm.Cond.code ({ cls := "StoneBacks", name := "allOf", desc := "()LStoneBacks$Cond;" } : Jvm.MethodName) prog_1_method_20_code (2 : Nat) (Option.some (Jvm.ClassFile.FieldType.object "StoneBacks$Cond"))) ∈ lw_all := lw_g (lw_at lw_m6 27 rfl) rfl
theorem q1340 : (Jvm.Cond.methodLink "StoneBacks" (262 : Nat) ({ cls := "StoneBacks", name := "atom", desc := "()LStoneBacks$Cond;" } : Jvm.MethodName)) ∈ lw_all := lw_g (lw_at lw_m6 28 rfl) rfl
theorem q1341 : (Jvm.Cond.privateMethod ({ cls := "StoneBacks", name := "atom", desc := "()LStoneBacks$Cond;" } : Jvm.MethodName)) ∈ lw_tbl := lw_at lw_m6 29 rfl
theorem q1342 : (Jvm.Cond.instanceMethod ({ cls := "StoneBacks", name := "atom", desc := "()LStoneBacks$Cond;" } : Jvm.MethodName)) ∈ lw_all := lw_g (lw_at lw_m6 30 rfl) rfl
theorem q1343 : (Jvm.Cond.code ({ cls := "StoneBacks", name := "atom", desc := "()LStoneBacks$Cond;" } : Jvm.MethodName) prog_1_method_19_code (3 : Nat) (Option.some (Jvm.ClassFile.FieldType.object "StoneBacks$Cond"))) ∈ lw_all := lw_g (lw_at lw_m6 31 rfl) rfl
theorem q1344 : (Jvm.Cond.methodLink "StoneBacks" (250 : Nat) ({ cls := "StoneBacks$Reader", name := "goesDeeper", desc := "()V" } : Jvm.MethodName)) ∈ lw_all := lw_g (lw_at lw_m6 32 rfl) rfl
theorem q1348 : (Jvm.Cond.methodLink "StoneBacks" (257 : Nat) ({ cls := "StoneBacks$Reader", name := "comesUp", desc := "()V" } : Jvm.MethodName)) ∈ lw_all := lw_g (lw_at lw_m6 36 rfl) rfl
theorem q1352 : (Jvm.Cond.stringRef "StoneBacks" (260 : Nat) "not") ∈ lw_tbl := lw_at lw_m6 40 rfl
theorem q1353 : (Jvm.Cond.classLink "StoneBacks" (265 : Nat) "StoneBacks$Not") ∈ lw_all := lw_g (lw_at lw_m6 41 rfl) rfl
theorem q1355 : (Jvm.Cond.methodLink "StoneBacks" (267 : Nat) ({ cls := "StoneBacks$Not", name := "<init>", desc := "(LStoneBacks$Cond;)V" } : Jvm.MethodName)) ∈ lw_all := lw_g (lw_at lw_m6 43 rfl) rfl
theorem q1363 : (Jvm.Cond.stringRef "StoneBacks" (270 : Nat) "there") ∈ lw_tbl := lw_at lw_m6 51 rfl
theorem q1364 : (Jvm.Cond.classLink "StoneBacks" (272 : Nat) "StoneBacks$Tag") ∈ lw_all := lw_g (lw_at lw_m6 52 rfl) rfl
theorem q1366 : (Jvm.Cond.methodLink "StoneBacks" (274 : Nat) ({ cls := "StoneBacks$Tag", name := "<init>", desc := "(Z)V" } : Jvm.MethodName)) ∈ lw_all := lw_g (lw_at lw_m6 54 rfl) rfl
theorem q1374 : (Jvm.Cond.stringRef "StoneBacks" (277 : Nat) "light") ∈ lw_tbl := lw_at lw_m6 62 rfl
theorem q1375 : (Jvm.Cond.methodLink "StoneBacks" (279 : Nat) ({ cls := "StoneBacks", name := "sum", desc := "()LStoneBacks$Sum;" } : Jvm.MethodName)) ∈ lw_all := lw_g (lw_at lw_m6 63 rfl) rfl
theorem q1376 : (Jvm.Cond.privateMethod ({ cls := "StoneBacks", name := "sum", desc := "()LStoneBacks$Sum;" } : Jvm.MethodName)) ∈ lw_tbl := lw_at lw_m6 64 rfl
theorem q1377 : (Jvm.Cond.instanceMethod ({ cls := "StoneBacks", name := "sum", desc := "()LStoneBacks$Sum;" } : Jvm.MethodName)) ∈ lw_all := lw_g (lw_at lw_m6 65 rfl) rfl
theorem q1378 : (Jvm.Cond.code ({ cls := "StoneBacks", name := "sum", desc := "()LStoneBacks$Sum;" } : Jvm.MethodName) prog_1_method_18_code (2 : Nat) (Option.some (Jvm.ClassFile.FieldType.object "StoneBacks$Sum"))) ∈ lw_all := lw_g (lw_at lw_m6 66 rfl) rfl
theorem q1379 : (Jvm.Cond.classLink "StoneBacks" (238 : Nat) "StoneBacks$Sum") ∈ lw_all := lw_g (lw_at lw_m6 67 rfl) rfl
theorem q1381 : (Jvm.Cond.methodLinkNest "StoneBacks" (240 : Nat) ({ cls := "StoneBacks$Sum", name := "<init>", desc := "()V" } : Jvm.MethodName) "StoneBacks") ∈ lw_tbl := lw_at lw_m6 69 rfl
theorem q1388 : (Jvm.Cond.fieldLinkNest "StoneBacks" (241 : Nat) "StoneBacks$Sum" "parts" "Ljava/util/ArrayList;" "StoneBacks") ∈ lw_tbl := lw_at lw_m6 76 rfl
theorem q1392 : (Jvm.Cond.methodLink "StoneBacks" (244 : Nat) ({ cls := "StoneBacks", name := "onePart", desc := "()LStoneBacks$Part;" } : Jvm.MethodName)) ∈ lw_all := lw_g (lw_at lw_m6 80 rfl) rfl
theorem q1393 : (Jvm.Cond.privateMethod ({ cls := "StoneBacks", name := "onePart", desc := "()LStoneBacks$Part;" } : Jvm.MethodName)) ∈ lw_tbl := lw_at lw_m6 81 rfl
theorem q1394 : (Jvm.Cond.instanceMethod ({ cls := "StoneBacks", name := "onePart", desc := "()LStoneBacks$Part;" } : Jvm.MethodName)) ∈ lw_all := lw_g (lw_at lw_m6 82 rfl) rfl
theorem q1395 : (Jvm.Cond.code ({ cls := "StoneBacks", name := "onePart", desc := "()LStoneBacks$Part;" } : Jvm.MethodName) prog_1_method_17_code (2 : Nat) (Option.some (Jvm.ClassFile.FieldType.object "StoneBacks$Part"))) ∈ lw_all := lw_g (lw_at lw_m6 83 rfl) rfl
theorem q1396 : (Jvm.Cond.methodLink "StoneBacks" (225 : Nat) ({ cls := "StoneBacks$Reader", name := "isFigure", desc := "()Z" } : Jvm.MethodName)) ∈ lw_all := lw_g (lw_at lw_m6 84 rfl) rfl
theorem q1400 : (Jvm.Cond.classLink "StoneBacks" (228 : Nat) "StoneBacks$Part") ∈ lw_all := lw_g (lw_at lw_m6 88 rfl) rfl
theorem q1402 : (Jvm.Cond.methodLink "StoneBacks" (230 : Nat) ({ cls := "StoneBacks$Part", name := "<init>", desc := "(ILStoneBacks$Fact;)V" } : Jvm.MethodName)) ∈ lw_all := lw_g (lw_at lw_m6 90 rfl) rfl
theorem q1413 : (Jvm.Cond.methodLink "StoneBacks" (233 : Nat) ({ cls := "StoneBacks$Fact", name := "of", desc := "(Ljava/lang/String;)LStoneBacks$Fact;" } : Jvm.MethodName)) ∈ lw_all := lw_g (lw_at lw_m6 101 rfl) rfl
theorem q1428 : (Jvm.Cond.methodLink "StoneBacks" (248 : Nat) ({ cls := "java/util/ArrayList", name := "add", desc := "(Ljava/lang/Object;)Z" } : Jvm.MethodName)) ∈ lw_all := lw_g (lw_at lw_m6 116 rfl) rfl
theorem q1451 : (Jvm.Cond.selects "StoneBacks" ({ cls := "java/lang/Object", name := "getClass", desc := "()Ljava/lang/Class;" } : Jvm.MethodName) ({ cls := "java/lang/Object", name := "getClass", desc := "()Ljava/lang/Class;" } : Jvm.MethodName)) ∈ lw_all := lw_g (lw_at lw_m6 139 rfl) rfl
theorem q1487 : (Jvm.Cond.classLink "StoneBacks" (283 : Nat) "StoneBacks$Less") ∈ lw_all := lw_g (lw_at lw_m6 175 rfl) rfl
theorem q1489 : (Jvm.Cond.methodLink "StoneBacks" (285 : Nat) ({ cls := "StoneBacks$Less", name := "<init>", desc := "(LStoneBacks$Sum;LStoneBacks$Sum;)V" } : Jvm.MethodName)) ∈ lw_all := lw_g (lw_at lw_m6 177 rfl) rfl
theorem q1500 : (Jvm.Cond.stringRef "StoneBacks" (294 : Nat) "and") ∈ lw_tbl := lw_at lw_m6 188 rfl
theorem q1501 : (Jvm.Cond.stringRef "StoneBacks" (299 : Nat) "or") ∈ lw_tbl := lw_at lw_m6 189 rfl
theorem q1502 : (Jvm.Cond.methodLink "StoneBacks" (310 : Nat) ({ cls := "StoneBacks$Line", name := "<init>", desc := "(LStoneBacks$Kind;ILStoneBacks$Cond;)V" } : Jvm.MethodName)) ∈ lw_all := lw_g (lw_at lw_m6 190 rfl) rfl
theorem q1543 : (Jvm.Cond.instanceMethod ({ cls := "StoneBacks", name := "person", desc := "(II)I" } : Jvm.MethodName)) ∈ lw_all := lw_g (lw_at lw_m6 231 rfl) rfl
theorem q1544 : (Jvm.Cond.selects "StoneBacks" ({ cls := "StoneBacks", name := "person", desc := "(II)I" } : Jvm.MethodName) ({ cls := "StoneBacks", name := "person", desc := "(II)I" } : Jvm.MethodName)) ∈ lw_all := lw_g (lw_at lw_m6 232 rfl) rfl
theorem q1545 : (Jvm.Cond.code ({ cls := "StoneBacks", name := "person", desc := "(II)I" } : Jvm.MethodName) prog_1_method_42_code (4 : Nat) (Option.some Jvm.ClassFile.FieldType.int)) ∈ lw_all := lw_g (lw_at lw_m6 233 rfl) rfl
theorem q1546 : (Jvm.Cond.methodLink "StoneBacks" (439 : Nat) ({ cls := "StoneBacks", name := "personAt", desc := "(I)V" } : Jvm.MethodName)) ∈ lw_all := lw_g (lw_at lw_m6 234 rfl) rfl
theorem q1547 : (Jvm.Cond.privateMethod ({ cls := "StoneBacks", name := "personAt", desc := "(I)V" } : Jvm.MethodName)) ∈ lw_tbl := lw_at lw_m6 235 rfl
theorem q1548 : (Jvm.Cond.instanceMethod ({ cls := "StoneBacks", name := "personAt", desc := "(I)V" } : Jvm.MethodName)) ∈ lw_all := lw_g (lw_at lw_m6 236 rfl) rfl
theorem q1549 : (Jvm.Cond.code ({ cls := "StoneBacks", name := "personAt", desc := "(I)V" } : Jvm.MethodName) prog_1_method_37_code (2 : Nat) (Option.none : Option Jvm.ClassFile.FieldType)) ∈ lw_all := lw_g (lw_at lw_m6 237 rfl) rfl
theorem q1550 : (Jvm.Cond.methodLink "StoneBacks" (429 : Nat) ({ cls := "StoneBacks", name := "there", desc := "(II)V" } : Jvm.MethodName)) ∈ lw_all := lw_g (lw_at lw_m6 238 rfl) rfl
theorem q1551 : (Jvm.Cond.static ({ cls := "StoneBacks", name := "there", desc := "(II)V" } : Jvm.MethodName)) ∈ lw_all := lw_g (lw_at lw_m6 239 rfl) rfl
theorem q1552 : (Jvm.Cond.code ({ cls := "StoneBacks", name := "there", desc := "(II)V" } : Jvm.MethodName) prog_1_method_33_code (2 : Nat) (Option.none : Option Jvm.ClassFile.FieldType)) ∈ lw_all := lw_g (lw_at lw_m7 0 rfl) rfl
theorem q1553 : (Jvm.Cond.methodLink "StoneBacks" (416 : Nat) ({ cls := "StoneBacks", name := "in", desc := "(III)Z" } : Jvm.MethodName)) ∈ lw_all := lw_g (lw_at lw_m7 1 rfl) rfl
theorem q1554 : (Jvm.Cond.classLink "StoneBacks" (420 : Nat) "java/lang/IndexOutOfBoundsException") ∈ lw_all := lw_g (lw_at lw_m7 2 rfl) rfl
theorem q1563 : (Jvm.Cond.methodLink "StoneBacks" (422 : Nat) ({ cls := "java/lang/IndexOutOfBoundsException", name := "<init>", desc := "()V" } : Jvm.MethodName)) ∈ lw_all := lw_g (lw_at lw_m7 11 rfl) rfl
theorem q1569 : (Jvm.Cond.methodLink "StoneBacks" (442 : Nat) ({ cls := "StoneBacks", name := "question", desc := "(II)V" } : Jvm.MethodName)) ∈ lw_all := lw_g (lw_at lw_m7 17 rfl) rfl
theorem q1570 : (Jvm.Cond.static ({ cls := "StoneBacks", name := "question", desc := "(II)V" } : Jvm.MethodName)) ∈ lw_all := lw_g (lw_at lw_m7 18 rfl) rfl
theorem q1571 : (Jvm.Cond.code ({ cls := "StoneBacks", name := "question", desc := "(II)V" } : Jvm.MethodName) prog_1_method_36_code (2 : Nat) (Option.none : Option Jvm.ClassFile.FieldType)) ∈ lw_all := lw_g (lw_at lw_m7 19 rfl) rfl
theorem q1572 : (Jvm.Cond.classLink "StoneBacks" (426 : Nat) "java/util/NoSuchElementException") ∈ lw_all := lw_g (lw_at lw_m7 20 rfl) rfl
theorem q1581 : (Jvm.Cond.methodLink "StoneBacks" (428 : Nat) ({ cls := "java/util/NoSuchElementException", name := "<init>", desc := "()V" } : Jvm.MethodName)) ∈ lw_all := lw_g (lw_at lw_m7 29 rfl) rfl
theorem q1587 : (Jvm.Cond.methodLink "StoneBacks" (445 : Nat) ({ cls := "StoneBacks$World", name := "wornBy", desc := "(I)I" } : Jvm.MethodName)) ∈ lw_all := lw_g (lw_at lw_m7 35 rfl) rfl
theorem q1588 : (Jvm.Cond.methodLink "StoneBacks" (448 : Nat) ({ cls := "StoneBacks$World", name := "owedBy", desc := "(I)I" } : Jvm.MethodName)) ∈ lw_all := lw_g (lw_at lw_m7 36 rfl) rfl
theorem q1592 : (Jvm.Cond.methodLink "StoneBacks" (454 : Nat) ({ cls := "StoneBacks$World", name := "dueTo", desc := "(I)I" } : Jvm.MethodName)) ∈ lw_all := lw_g (lw_at lw_m7 40 rfl) rfl
theorem q1596 : (Jvm.Cond.methodLink "StoneBacks" (457 : Nat) ({ cls := "StoneBacks", name := "bearsForOthers", desc := "(I)I" } : Jvm.MethodName)) ∈ lw_all := lw_g (lw_at lw_m7 44 rfl) rfl
theorem q1597 : (Jvm.Cond.privateMethod ({ cls := "StoneBacks", name := "bearsForOthers", desc := "(I)I" } : Jvm.MethodName)) ∈ lw_tbl := lw_at lw_m7 45 rfl
theorem q1598 : (Jvm.Cond.instanceMethod ({ cls := "StoneBacks", name := "bearsForOthers", desc := "(I)I" } : Jvm.MethodName)) ∈ lw_all := lw_g (lw_at lw_m7 46 rfl) rfl
theorem q1599 : (Jvm.Cond.code ({ cls := "StoneBacks", name := "bearsForOthers", desc := "(I)I" } : Jvm.MethodName) prog_1_method_41_code (4 : Nat) (Option.some Jvm.ClassFile.FieldType.int)) ∈ lw_all := lw_g (lw_at lw_m7 47 rfl) rfl
theorem q1604 : (Jvm.Cond.instanceMethod ({ cls := "StoneBacks", name := "does", desc := "(II)I" } : Jvm.MethodName)) ∈ lw_all := lw_g (lw_at lw_m7 52 rfl) rfl
theorem q1605 : (Jvm.Cond.selects "StoneBacks" ({ cls := "StoneBacks", name := "does", desc := "(II)I" } : Jvm.MethodName) ({ cls := "StoneBacks", name := "does", desc := "(II)I" } : Jvm.MethodName)) ∈ lw_all := lw_g (lw_at lw_m7 53 rfl) rfl
theorem q1606 : (Jvm.Cond.code ({ cls := "StoneBacks", name := "does", desc := "(II)I" } : Jvm.MethodName) prog_1_method_43_code (3 : Nat) (Option.some Jvm.ClassFile.FieldType.int)) ∈ lw_all := lw_g (lw_at lw_m7 54 rfl) rfl
theorem q1611 : (Jvm.Cond.instanceMethod ({ cls := "StoneBacks", name := "stone", desc := "(II)I" } : Jvm.MethodName)) ∈ lw_all := lw_g (lw_at lw_m7 59 rfl) rfl
theorem q1612 : (Jvm.Cond.selects "StoneBacks" ({ cls := "StoneBacks", name := "stone", desc := "(II)I" } : Jvm.MethodName) ({ cls := "StoneBacks", name := "stone", desc := "(II)I" } : Jvm.MethodName)) ∈ lw_all := lw_g (lw_at lw_m7 60 rfl) rfl
theorem q1613 : (Jvm.Cond.code ({ cls := "StoneBacks", name := "stone", desc := "(II)I" } : Jvm.MethodName) prog_1_method_44_code (4 : Nat) (Option.some Jvm.ClassFile.FieldType.int)) ∈ lw_all := lw_g (lw_at lw_m7 61 rfl) rfl
theorem q1614 : (Jvm.Cond.methodLink "StoneBacks" (460 : Nat) ({ cls := "StoneBacks", name := "stoneAt", desc := "(I)V" } : Jvm.MethodName)) ∈ lw_all := lw_g (lw_at lw_m7 62 rfl) rfl
theorem q1615 : (Jvm.Cond.privateMethod ({ cls := "StoneBacks", name := "stoneAt", desc := "(I)V" } : Jvm.MethodName)) ∈ lw_tbl := lw_at lw_m7 63 rfl
theorem q1616 : (Jvm.Cond.instanceMethod ({ cls := "StoneBacks", name := "stoneAt", desc := "(I)V" } : Jvm.MethodName)) ∈ lw_all := lw_g (lw_at lw_m7 64 rfl) rfl
theorem q1617 : (Jvm.Cond.code ({ cls := "StoneBacks", name := "stoneAt", desc := "(I)V" } : Jvm.MethodName) prog_1_method_38_code (2 : Nat) (Option.none : Option Jvm.ClassFile.FieldType)) ∈ lw_all := lw_g (lw_at lw_m7 65 rfl) rfl
theorem q1618 : (Jvm.Cond.methodLink "StoneBacks" (469 : Nat) ({ cls := "StoneBacks$World", name := "placeOf", desc := "(I)I" } : Jvm.MethodName)) ∈ lw_all := lw_g (lw_at lw_m7 66 rfl) rfl
theorem q1626 : (Jvm.Cond.instanceMethod ({ cls := "StoneBacks", name := "place", desc := "(II)I" } : Jvm.MethodName)) ∈ lw_all := lw_g (lw_at lw_m7 74 rfl) rfl
theorem q1627 : (Jvm.Cond.selects "StoneBacks" ({ cls := "StoneBacks", name := "place", desc := "(II)I" } : Jvm.MethodName) ({ cls := "StoneBacks", name := "place", desc := "(II)I" } : Jvm.MethodName)) ∈ lw_all := lw_g (lw_at lw_m7 75 rfl) rfl
theorem q1628 : (Jvm.Cond.code ({ cls := "StoneBacks", name := "place", desc := "(II)I" } : Jvm.MethodName) prog_1_method_45_code (3 : Nat) (Option.some Jvm.ClassFile.FieldType.int)) ∈ lw_all := lw_g (lw_at lw_m7 76 rfl) rfl
theorem q1629 : (Jvm.Cond.methodLink "StoneBacks" (472 : Nat) ({ cls := "StoneBacks", name := "placeAt", desc := "(I)V" } : Jvm.MethodName)) ∈ lw_all := lw_g (lw_at lw_m7 77 rfl) rfl
theorem q1630 : (Jvm.Cond.static ({ cls := "StoneBacks", name := "placeAt", desc := "(I)V" } : Jvm.MethodName)) ∈ lw_all := lw_g (lw_at lw_m7 78 rfl) rfl
theorem q1631 : (Jvm.Cond.code ({ cls := "StoneBacks", name := "placeAt", desc := "(I)V" } : Jvm.MethodName) prog_1_method_39_code (1 : Nat) (Option.none : Option Jvm.ClassFile.FieldType)) ∈ lw_all := lw_g (lw_at lw_m7 79 rfl) rfl
theorem q1632 : (Jvm.Cond.methodLink "StoneBacks" (475 : Nat) ({ cls := "StoneBacks$World", name := "peopleAt", desc := "(I)I" } : Jvm.MethodName)) ∈ lw_all := lw_g (lw_at lw_m7 80 rfl) rfl
theorem q1641 : (Jvm.Cond.instanceMethod ({ cls := "StoneBacks", name := "lend", desc := "(III)I" } : Jvm.MethodName)) ∈ lw_all := lw_g (lw_at lw_m7 89 rfl) rfl
theorem q1642 : (Jvm.Cond.selects "StoneBacks" ({ cls := "StoneBacks", name := "lend", desc := "(III)I" } : Jvm.MethodName) ({ cls := "StoneBacks", name := "lend", desc := "(III)I" } : Jvm.MethodName)) ∈ lw_all := lw_g (lw_at lw_m7 90 rfl) rfl
theorem q1643 : (Jvm.Cond.code ({ cls := "StoneBacks", name := "lend", desc := "(III)I" } : Jvm.MethodName) prog_1_method_47_code (5 : Nat) (Option.some Jvm.ClassFile.FieldType.int)) ∈ lw_all := lw_g (lw_at lw_m7 91 rfl) rfl
theorem q1644 : (Jvm.Cond.methodLink "StoneBacks" (485 : Nat) ({ cls := "StoneBacks", name := "demand", desc := "(Z)V" } : Jvm.MethodName)) ∈ lw_all := lw_g (lw_at lw_m7 92 rfl) rfl
theorem q1645 : (Jvm.Cond.static ({ cls := "StoneBacks", name := "demand", desc := "(Z)V" } : Jvm.MethodName)) ∈ lw_all := lw_g (lw_at lw_m7 93 rfl) rfl
theorem q1646 : (Jvm.Cond.code ({ cls := "StoneBacks", name := "demand", desc := "(Z)V" } : Jvm.MethodName) prog_1_method_34_code (1 : Nat) (Option.none : Option Jvm.ClassFile.FieldType)) ∈ lw_all := lw_g (lw_at lw_m7 94 rfl) rfl
theorem q1647 : (Jvm.Cond.methodLink "StoneBacks" (488 : Nat) ({ cls := "StoneBacks", name := "can", desc := "(Z)V" } : Jvm.MethodName)) ∈ lw_all := lw_g (lw_at lw_m7 95 rfl) rfl
theorem q1648 : (Jvm.Cond.static ({ cls := "StoneBacks", name := "can", desc := "(Z)V" } : Jvm.MethodName)) ∈ lw_all := lw_g (lw_at lw_m7 96 rfl) rfl
theorem q1649 : (Jvm.Cond.code ({ cls := "StoneBacks", name := "can", desc := "(Z)V" } : Jvm.MethodName) prog_1_method_35_code (1 : Nat) (Option.none : Option Jvm.ClassFile.FieldType)) ∈ lw_all := lw_g (lw_at lw_m7 97 rfl) rfl
theorem q1650 : (Jvm.Cond.classLink "StoneBacks" (423 : Nat) "java/lang/IllegalStateException") ∈ lw_all := lw_g (lw_at lw_m7 98 rfl) rfl
theorem q1659 : (Jvm.Cond.methodLink "StoneBacks" (425 : Nat) ({ cls := "java/lang/IllegalStateException", name := "<init>", desc := "()V" } : Jvm.MethodName)) ∈ lw_all := lw_g (lw_at lw_m7 107 rfl) rfl
theorem q1665 : (Jvm.Cond.methodLink "StoneBacks" (491 : Nat) ({ cls := "StoneBacks", name := "remembers", desc := "()V" } : Jvm.MethodName)) ∈ lw_all := lw_g (lw_at lw_m7 113 rfl) rfl
theorem q1666 : (Jvm.Cond.privateMethod ({ cls := "StoneBacks", name := "remembers", desc := "()V" } : Jvm.MethodName)) ∈ lw_tbl := lw_at lw_m7 114 rfl
theorem q1667 : (Jvm.Cond.instanceMethod ({ cls := "StoneBacks", name := "remembers", desc := "()V" } : Jvm.MethodName)) ∈ lw_all := lw_g (lw_at lw_m7 115 rfl) rfl
theorem q1668 : (Jvm.Cond.code ({ cls := "StoneBacks", name := "remembers", desc := "()V" } : Jvm.MethodName) prog_1_method_46_code (2 : Nat) (Option.none : Option Jvm.ClassFile.FieldType)) ∈ lw_all := lw_g (lw_at lw_m7 116 rfl) rfl
theorem q1669 : (Jvm.Cond.methodLink "StoneBacks" (494 : Nat) ({ cls := "StoneBacks$World", name := "tells", desc := "(III)V" } : Jvm.MethodName)) ∈ lw_all := lw_g (lw_at lw_m7 117 rfl) rfl
theorem q1677 : (Jvm.Cond.instanceMethod ({ cls := "StoneBacks", name := "pay", desc := "(I)I" } : Jvm.MethodName)) ∈ lw_all := lw_g (lw_at lw_m7 125 rfl) rfl
theorem q1678 : (Jvm.Cond.selects "StoneBacks" ({ cls := "StoneBacks", name := "pay", desc := "(I)I" } : Jvm.MethodName) ({ cls := "StoneBacks", name := "pay", desc := "(I)I" } : Jvm.MethodName)) ∈ lw_all := lw_g (lw_at lw_m7 126 rfl) rfl
theorem q1679 : (Jvm.Cond.code ({ cls := "StoneBacks", name := "pay", desc := "(I)I" } : Jvm.MethodName) prog_1_method_48_code (4 : Nat) (Option.some Jvm.ClassFile.FieldType.int)) ∈ lw_all := lw_g (lw_at lw_m7 127 rfl) rfl
theorem q1684 : (Jvm.Cond.instanceMethod ({ cls := "StoneBacks", name := "split", desc := "(I)I" } : Jvm.MethodName)) ∈ lw_all := lw_g (lw_at lw_m7 132 rfl) rfl
theorem q1685 : (Jvm.Cond.selects "StoneBacks" ({ cls := "StoneBacks", name := "split", desc := "(I)I" } : Jvm.MethodName) ({ cls := "StoneBacks", name := "split", desc := "(I)I" } : Jvm.MethodName)) ∈ lw_all := lw_g (lw_at lw_m7 133 rfl) rfl
theorem q1686 : (Jvm.Cond.code ({ cls := "StoneBacks", name := "split", desc := "(I)I" } : Jvm.MethodName) prog_1_method_49_code (5 : Nat) (Option.some Jvm.ClassFile.FieldType.int)) ∈ lw_all := lw_g (lw_at lw_m7 134 rfl) rfl
theorem q1691 : (Jvm.Cond.instanceMethod ({ cls := "StoneBacks", name := "pass", desc := "(II)I" } : Jvm.MethodName)) ∈ lw_all := lw_g (lw_at lw_m7 139 rfl) rfl
theorem q1692 : (Jvm.Cond.selects "StoneBacks" ({ cls := "StoneBacks", name := "pass", desc := "(II)I" } : Jvm.MethodName) ({ cls := "StoneBacks", name := "pass", desc := "(II)I" } : Jvm.MethodName)) ∈ lw_all := lw_g (lw_at lw_m7 140 rfl) rfl
theorem q1693 : (Jvm.Cond.code ({ cls := "StoneBacks", name := "pass", desc := "(II)I" } : Jvm.MethodName) prog_1_method_50_code (6 : Nat) (Option.some Jvm.ClassFile.FieldType.int)) ∈ lw_all := lw_g (lw_at lw_m7 141 rfl) rfl
theorem q1698 : (Jvm.Cond.instanceMethod ({ cls := "StoneBacks", name := "lay", desc := "(I)I" } : Jvm.MethodName)) ∈ lw_all := lw_g (lw_at lw_m7 146 rfl) rfl
theorem q1699 : (Jvm.Cond.selects "StoneBacks" ({ cls := "StoneBacks", name := "lay", desc := "(I)I" } : Jvm.MethodName) ({ cls := "StoneBacks", name := "lay", desc := "(I)I" } : Jvm.MethodName)) ∈ lw_all := lw_g (lw_at lw_m7 147 rfl) rfl
theorem q1700 : (Jvm.Cond.code ({ cls := "StoneBacks", name := "lay", desc := "(I)I" } : Jvm.MethodName) prog_1_method_51_code (4 : Nat) (Option.some Jvm.ClassFile.FieldType.int)) ∈ lw_all := lw_g (lw_at lw_m7 148 rfl) rfl
theorem q1705 : (Jvm.Cond.instanceMethod ({ cls := "StoneBacks", name := "lift", desc := "(II)I" } : Jvm.MethodName)) ∈ lw_all := lw_g (lw_at lw_m7 153 rfl) rfl
theorem q1706 : (Jvm.Cond.selects "StoneBacks" ({ cls := "StoneBacks", name := "lift", desc := "(II)I" } : Jvm.MethodName) ({ cls := "StoneBacks", name := "lift", desc := "(II)I" } : Jvm.MethodName)) ∈ lw_all := lw_g (lw_at lw_m7 154 rfl) rfl
theorem q1707 : (Jvm.Cond.code ({ cls := "StoneBacks", name := "lift", desc := "(II)I" } : Jvm.MethodName) prog_1_method_52_code (4 : Nat) (Option.some Jvm.ClassFile.FieldType.int)) ∈ lw_all := lw_g (lw_at lw_m7 155 rfl) rfl
theorem q1712 : (Jvm.Cond.instanceMethod ({ cls := "StoneBacks", name := "goal", desc := "(II)I" } : Jvm.MethodName)) ∈ lw_all := lw_g (lw_at lw_m7 160 rfl) rfl
theorem q1713 : (Jvm.Cond.selects "StoneBacks" ({ cls := "StoneBacks", name := "goal", desc := "(II)I" } : Jvm.MethodName) ({ cls := "StoneBacks", name := "goal", desc := "(II)I" } : Jvm.MethodName)) ∈ lw_all := lw_g (lw_at lw_m7 161 rfl) rfl
theorem q1714 : (Jvm.Cond.code ({ cls := "StoneBacks", name := "goal", desc := "(II)I" } : Jvm.MethodName) prog_1_method_53_code (4 : Nat) (Option.some Jvm.ClassFile.FieldType.int)) ∈ lw_all := lw_g (lw_at lw_m7 162 rfl) rfl
theorem q1719 : (Jvm.Cond.instanceMethod ({ cls := "StoneBacks", name := "rest", desc := "(I)I" } : Jvm.MethodName)) ∈ lw_all := lw_g (lw_at lw_m7 167 rfl) rfl
theorem q1720 : (Jvm.Cond.selects "StoneBacks" ({ cls := "StoneBacks", name := "rest", desc := "(I)I" } : Jvm.MethodName) ({ cls := "StoneBacks", name := "rest", desc := "(I)I" } : Jvm.MethodName)) ∈ lw_all := lw_g (lw_at lw_m7 168 rfl) rfl
theorem q1721 : (Jvm.Cond.code ({ cls := "StoneBacks", name := "rest", desc := "(I)I" } : Jvm.MethodName) prog_1_method_54_code (3 : Nat) (Option.some Jvm.ClassFile.FieldType.int)) ∈ lw_all := lw_g (lw_at lw_m7 169 rfl) rfl
theorem q1726 : (Jvm.Cond.instanceMethod ({ cls := "StoneBacks", name := "hours", desc := "(I)I" } : Jvm.MethodName)) ∈ lw_all := lw_g (lw_at lw_m7 174 rfl) rfl
theorem q1727 : (Jvm.Cond.selects "StoneBacks" ({ cls := "StoneBacks", name := "hours", desc := "(I)I" } : Jvm.MethodName) ({ cls := "StoneBacks", name := "hours", desc := "(I)I" } : Jvm.MethodName)) ∈ lw_all := lw_g (lw_at lw_m7 175 rfl) rfl
theorem q1728 : (Jvm.Cond.code ({ cls := "StoneBacks", name := "hours", desc := "(I)I" } : Jvm.MethodName) prog_1_method_55_code (4 : Nat) (Option.some Jvm.ClassFile.FieldType.int)) ∈ lw_all := lw_g (lw_at lw_m7 176 rfl) rfl
theorem q1733 : (Jvm.Cond.instanceMethod ({ cls := "StoneBacks", name := "way", desc := "(II)I" } : Jvm.MethodName)) ∈ lw_all := lw_g (lw_at lw_m7 181 rfl) rfl
theorem q1734 : (Jvm.Cond.selects "StoneBacks" ({ cls := "StoneBacks", name := "way", desc := "(II)I" } : Jvm.MethodName) ({ cls := "StoneBacks", name := "way", desc := "(II)I" } : Jvm.MethodName)) ∈ lw_all := lw_g (lw_at lw_m7 182 rfl) rfl
theorem q1735 : (Jvm.Cond.code ({ cls := "StoneBacks", name := "way", desc := "(II)I" } : Jvm.MethodName) prog_1_method_57_code (4 : Nat) (Option.some Jvm.ClassFile.FieldType.int)) ∈ lw_all := lw_g (lw_at lw_m7 183 rfl) rfl
theorem q1740 : (Jvm.Cond.instanceMethod ({ cls := "StoneBacks", name := "soonest", desc := "(I)I" } : Jvm.MethodName)) ∈ lw_all := lw_g (lw_at lw_m7 188 rfl) rfl
theorem q1741 : (Jvm.Cond.selects "StoneBacks" ({ cls := "StoneBacks", name := "soonest", desc := "(I)I" } : Jvm.MethodName) ({ cls := "StoneBacks", name := "soonest", desc := "(I)I" } : Jvm.MethodName)) ∈ lw_all := lw_g (lw_at lw_m7 189 rfl) rfl
theorem q1742 : (Jvm.Cond.code ({ cls := "StoneBacks", name := "soonest", desc := "(I)I" } : Jvm.MethodName) prog_1_method_58_code (6 : Nat) (Option.some Jvm.ClassFile.FieldType.int)) ∈ lw_all := lw_g (lw_at lw_m7 190 rfl) rfl
theorem q1747 : (Jvm.Cond.instanceMethod ({ cls := "StoneBacks", name := "cross", desc := "(I)Z" } : Jvm.MethodName)) ∈ lw_all := lw_g (lw_at lw_m7 195 rfl) rfl
theorem q1748 : (Jvm.Cond.selects "StoneBacks" ({ cls := "StoneBacks", name := "cross", desc := "(I)Z" } : Jvm.MethodName) ({ cls := "StoneBacks", name := "cross", desc := "(I)Z" } : Jvm.MethodName)) ∈ lw_all := lw_g (lw_at lw_m7 196 rfl) rfl
theorem q1749 : (Jvm.Cond.code ({ cls := "StoneBacks", name := "cross", desc := "(I)Z" } : Jvm.MethodName) prog_1_method_59_code (2 : Nat) (Option.some Jvm.ClassFile.FieldType.boolean)) ∈ lw_all := lw_g (lw_at lw_m7 197 rfl) rfl
theorem q1754 : (Jvm.Cond.instanceMethod ({ cls := "StoneBacks", name := "shed", desc := "(I)I" } : Jvm.MethodName)) ∈ lw_all := lw_g (lw_at lw_m7 202 rfl) rfl
theorem q1755 : (Jvm.Cond.selects "StoneBacks" ({ cls := "StoneBacks", name := "shed", desc := "(I)I" } : Jvm.MethodName) ({ cls := "StoneBacks", name := "shed", desc := "(I)I" } : Jvm.MethodName)) ∈ lw_all := lw_g (lw_at lw_m7 203 rfl) rfl
theorem q1756 : (Jvm.Cond.code ({ cls := "StoneBacks", name := "shed", desc := "(I)I" } : Jvm.MethodName) prog_1_method_60_code (6 : Nat) (Option.some Jvm.ClassFile.FieldType.int)) ∈ lw_all := lw_g (lw_at lw_m7 204 rfl) rfl
theorem q1757 : (Jvm.Cond.methodLink "StoneBacks" (502 : Nat) ({ cls := "java/lang/Integer", name := "bitCount", desc := "(I)I" } : Jvm.MethodName)) ∈ lw_all := lw_g (lw_at lw_m7 205 rfl) rfl
theorem q1767 : (Jvm.Cond.instanceMethod ({ cls := "StoneBacks", name := "share", desc := "(II)I" } : Jvm.MethodName)) ∈ lw_all := lw_g (lw_at lw_m7 215 rfl) rfl
theorem q1768 : (Jvm.Cond.selects "StoneBacks" ({ cls := "StoneBacks", name := "share", desc := "(II)I" } : Jvm.MethodName) ({ cls := "StoneBacks", name := "share", desc := "(II)I" } : Jvm.MethodName)) ∈ lw_all := lw_g (lw_at lw_m7 216 rfl) rfl
theorem q1769 : (Jvm.Cond.code ({ cls := "StoneBacks", name := "share", desc := "(II)I" } : Jvm.MethodName) prog_1_method_61_code (3 : Nat) (Option.some Jvm.ClassFile.FieldType.int)) ∈ lw_all := lw_g (lw_at lw_m7 217 rfl) rfl
theorem q1770 : (Jvm.Cond.methodLink "StoneBacks" (507 : Nat) ({ cls := "StoneBacks$Shares", name := "is", desc := "(I)LStoneBacks$Shares;" } : Jvm.MethodName)) ∈ lw_all := lw_g (lw_at lw_m7 218 rfl) rfl
theorem q1790 : (Jvm.Cond.methodLink "StoneBacks" (511 : Nat) ({ cls := "StoneBacks$Shares", name := "greatest", desc := "()I" } : Jvm.MethodName)) ∈ lw_all := lw_g (lw_at lw_m7 238 rfl) rfl
theorem q1794 : (Jvm.Cond.methodLink "StoneBacks" (515 : Nat) ({ cls := "StoneBacks$Shares", name := "whomOf", desc := "(I)I" } : Jvm.MethodName)) ∈ lw_all := lw_g (lw_at lw_m8 2 rfl) rfl
theorem q1822 : (Jvm.Cond.instanceMethod ({ cls := "StoneBacks", name := "pays", desc := "(IZ)I" } : Jvm.MethodName)) ∈ lw_all := lw_g (lw_at lw_m8 30 rfl) rfl
theorem q1823 : (Jvm.Cond.selects "StoneBacks" ({ cls := "StoneBacks", name := "pays", desc := "(IZ)I" } : Jvm.MethodName) ({ cls := "StoneBacks", name := "pays", desc := "(IZ)I" } : Jvm.MethodName)) ∈ lw_all := lw_g (lw_at lw_m8 31 rfl) rfl
theorem q1824 : (Jvm.Cond.code ({ cls := "StoneBacks", name := "pays", desc := "(IZ)I" } : Jvm.MethodName) prog_1_method_65_code (6 : Nat) (Option.some Jvm.ClassFile.FieldType.int)) ∈ lw_all := lw_g (lw_at lw_m8 32 rfl) rfl
theorem q1829 : (Jvm.Cond.instanceMethod ({ cls := "StoneBacks", name := "first", desc := "(I)I" } : Jvm.MethodName)) ∈ lw_all := lw_g (lw_at lw_m8 37 rfl) rfl
theorem q1830 : (Jvm.Cond.selects "StoneBacks" ({ cls := "StoneBacks", name := "first", desc := "(I)I" } : Jvm.MethodName) ({ cls := "StoneBacks", name := "first", desc := "(I)I" } : Jvm.MethodName)) ∈ lw_all := lw_g (lw_at lw_m8 38 rfl) rfl
theorem q1831 : (Jvm.Cond.code ({ cls := "StoneBacks", name := "first", desc := "(I)I" } : Jvm.MethodName) prog_1_method_66_code (3 : Nat) (Option.some Jvm.ClassFile.FieldType.int)) ∈ lw_all := lw_g (lw_at lw_m8 39 rfl) rfl
theorem q1836 : (Jvm.Cond.instanceMethod ({ cls := "StoneBacks", name := "owes", desc := "(II)Z" } : Jvm.MethodName)) ∈ lw_all := lw_g (lw_at lw_m8 44 rfl) rfl
theorem q1837 : (Jvm.Cond.selects "StoneBacks" ({ cls := "StoneBacks", name := "owes", desc := "(II)Z" } : Jvm.MethodName) ({ cls := "StoneBacks", name := "owes", desc := "(II)Z" } : Jvm.MethodName)) ∈ lw_all := lw_g (lw_at lw_m8 45 rfl) rfl
theorem q1838 : (Jvm.Cond.code ({ cls := "StoneBacks", name := "owes", desc := "(II)Z" } : Jvm.MethodName) prog_1_method_68_code (5 : Nat) (Option.some Jvm.ClassFile.FieldType.boolean)) ∈ lw_all := lw_g (lw_at lw_m8 46 rfl) rfl
theorem q1839 : (Jvm.Cond.methodLink "StoneBacks" (528 : Nat) ({ cls := "StoneBacks", name := "lendersOf", desc := "(I)I" } : Jvm.MethodName)) ∈ lw_all := lw_g (lw_at lw_m8 47 rfl) rfl
theorem q1840 : (Jvm.Cond.privateMethod ({ cls := "StoneBacks", name := "lendersOf", desc := "(I)I" } : Jvm.MethodName)) ∈ lw_tbl := lw_at lw_m8 48 rfl
theorem q1841 : (Jvm.Cond.instanceMethod ({ cls := "StoneBacks", name := "lendersOf", desc := "(I)I" } : Jvm.MethodName)) ∈ lw_all := lw_g (lw_at lw_m8 49 rfl) rfl
theorem q1842 : (Jvm.Cond.code ({ cls := "StoneBacks", name := "lendersOf", desc := "(I)I" } : Jvm.MethodName) prog_1_method_67_code (4 : Nat) (Option.some Jvm.ClassFile.FieldType.int)) ∈ lw_all := lw_g (lw_at lw_m8 50 rfl) rfl
theorem q1847 : (Jvm.Cond.instanceMethod ({ cls := "StoneBacks", name := "rests", desc := "(III)I" } : Jvm.MethodName)) ∈ lw_all := lw_g (lw_at lw_m8 55 rfl) rfl
theorem q1848 : (Jvm.Cond.selects "StoneBacks" ({ cls := "StoneBacks", name := "rests", desc := "(III)I" } : Jvm.MethodName) ({ cls := "StoneBacks", name := "rests", desc := "(III)I" } : Jvm.MethodName)) ∈ lw_all := lw_g (lw_at lw_m8 56 rfl) rfl
theorem q1849 : (Jvm.Cond.code ({ cls := "StoneBacks", name := "rests", desc := "(III)I" } : Jvm.MethodName) prog_1_method_71_code (7 : Nat) (Option.some Jvm.ClassFile.FieldType.int)) ∈ lw_all := lw_g (lw_at lw_m8 57 rfl) rfl
theorem q1850 : (Jvm.Cond.methodLink "StoneBacks" (531 : Nat) ({ cls := "StoneBacks", name := "lenderHas", desc := "(III)I" } : Jvm.MethodName)) ∈ lw_all := lw_g (lw_at lw_m8 58 rfl) rfl
theorem q1851 : (Jvm.Cond.static ({ cls := "StoneBacks", name := "lenderHas", desc := "(III)I" } : Jvm.MethodName)) ∈ lw_all := lw_g (lw_at lw_m8 59 rfl) rfl
theorem q1852 : (Jvm.Cond.code ({ cls := "StoneBacks", name := "lenderHas", desc := "(III)I" } : Jvm.MethodName) prog_1_method_69_code (4 : Nat) (Option.some Jvm.ClassFile.FieldType.int)) ∈ lw_all := lw_g (lw_at lw_m8 60 rfl) rfl
theorem q1853 : (Jvm.Cond.methodLink "StoneBacks" (535 : Nat) ({ cls := "StoneBacks", name := "debtorHas", desc := "(IIII)I" } : Jvm.MethodName)) ∈ lw_all := lw_g (lw_at lw_m8 61 rfl) rfl
theorem q1854 : (Jvm.Cond.privateMethod ({ cls := "StoneBacks", name := "debtorHas", desc := "(IIII)I" } : Jvm.MethodName)) ∈ lw_tbl := lw_at lw_m8 62 rfl
theorem q1855 : (Jvm.Cond.instanceMethod ({ cls := "StoneBacks", name := "debtorHas", desc := "(IIII)I" } : Jvm.MethodName)) ∈ lw_all := lw_g (lw_at lw_m8 63 rfl) rfl
theorem q1856 : (Jvm.Cond.code ({ cls := "StoneBacks", name := "debtorHas", desc := "(IIII)I" } : Jvm.MethodName) prog_1_method_70_code (5 : Nat) (Option.some Jvm.ClassFile.FieldType.int)) ∈ lw_all := lw_g (lw_at lw_m8 64 rfl) rfl
theorem q1861 : (Jvm.Cond.instanceMethod ({ cls := "StoneBacks", name := "scales", desc := "(Z)I" } : Jvm.MethodName)) ∈ lw_all := lw_g (lw_at lw_m8 69 rfl) rfl
theorem q1862 : (Jvm.Cond.selects "StoneBacks" ({ cls := "StoneBacks", name := "scales", desc := "(Z)I" } : Jvm.MethodName) ({ cls := "StoneBacks", name := "scales", desc := "(Z)I" } : Jvm.MethodName)) ∈ lw_all := lw_g (lw_at lw_m8 70 rfl) rfl
theorem q1863 : (Jvm.Cond.code ({ cls := "StoneBacks", name := "scales", desc := "(Z)I" } : Jvm.MethodName) prog_1_method_76_code (4 : Nat) (Option.some Jvm.ClassFile.FieldType.int)) ∈ lw_all := lw_g (lw_at lw_m8 71 rfl) rfl
theorem q1864 : (Jvm.Cond.methodLink "StoneBacks" (554 : Nat) ({ cls := "StoneBacks", name := "weighed", desc := "()V" } : Jvm.MethodName)) ∈ lw_all := lw_g (lw_at lw_m8 72 rfl) rfl
theorem q1865 : (Jvm.Cond.privateMethod ({ cls := "StoneBacks", name := "weighed", desc := "()V" } : Jvm.MethodName)) ∈ lw_tbl := lw_at lw_m8 73 rfl
theorem q1866 : (Jvm.Cond.instanceMethod ({ cls := "StoneBacks", name := "weighed", desc := "()V" } : Jvm.MethodName)) ∈ lw_all := lw_g (lw_at lw_m8 74 rfl) rfl
theorem q1867 : (Jvm.Cond.code ({ cls := "StoneBacks", name := "weighed", desc := "()V" } : Jvm.MethodName) prog_1_method_72_code (3 : Nat) (Option.none : Option Jvm.ClassFile.FieldType)) ∈ lw_all := lw_g (lw_at lw_m8 75 rfl) rfl
theorem q1868 : (Jvm.Cond.methodLink "StoneBacks" (557 : Nat) ({ cls := "StoneBacks", name := "isCase", desc := "(I)Z" } : Jvm.MethodName)) ∈ lw_all := lw_g (lw_at lw_m8 76 rfl) rfl
theorem q1869 : (Jvm.Cond.privateMethod ({ cls := "StoneBacks", name := "isCase", desc := "(I)Z" } : Jvm.MethodName)) ∈ lw_tbl := lw_at lw_m8 77 rfl
theorem q1870 : (Jvm.Cond.instanceMethod ({ cls := "StoneBacks", name := "isCase", desc := "(I)Z" } : Jvm.MethodName)) ∈ lw_all := lw_g (lw_at lw_m8 78 rfl) rfl
theorem q1871 : (Jvm.Cond.code ({ cls := "StoneBacks", name := "isCase", desc := "(I)Z" } : Jvm.MethodName) prog_1_method_75_code (4 : Nat) (Option.some Jvm.ClassFile.FieldType.boolean)) ∈ lw_all := lw_g (lw_at lw_m8 79 rfl) rfl
theorem q1872 : (Jvm.Cond.methodLink "StoneBacks" (551 : Nat) ({ cls := "StoneBacks", name := "sinks", desc := "(III)I" } : Jvm.MethodName)) ∈ lw_all := lw_g (lw_at lw_m8 80 rfl) rfl
theorem q1873 : (Jvm.Cond.privateMethod ({ cls := "StoneBacks", name := "sinks", desc := "(III)I" } : Jvm.MethodName)) ∈ lw_tbl := lw_at lw_m8 81 rfl
theorem q1874 : (Jvm.Cond.instanceMethod ({ cls := "StoneBacks", name := "sinks", desc := "(III)I" } : Jvm.MethodName)) ∈ lw_all := lw_g (lw_at lw_m8 82 rfl) rfl
theorem q1875 : (Jvm.Cond.code ({ cls := "StoneBacks", name := "sinks", desc := "(III)I" } : Jvm.MethodName) prog_1_method_74_code (4 : Nat) (Option.some Jvm.ClassFile.FieldType.int)) ∈ lw_all := lw_g (lw_at lw_m8 83 rfl) rfl
theorem q1876 : (Jvm.Cond.methodLink "StoneBacks" (545 : Nat) ({ cls := "StoneBacks", name := "loadBy", desc := "(II)I" } : Jvm.MethodName)) ∈ lw_all := lw_g (lw_at lw_m8 84 rfl) rfl
theorem q1877 : (Jvm.Cond.privateMethod ({ cls := "StoneBacks", name := "loadBy", desc := "(II)I" } : Jvm.MethodName)) ∈ lw_tbl := lw_at lw_m8 85 rfl
theorem q1878 : (Jvm.Cond.instanceMethod ({ cls := "StoneBacks", name := "loadBy", desc := "(II)I" } : Jvm.MethodName)) ∈ lw_all := lw_g (lw_at lw_m8 86 rfl) rfl
theorem q1879 : (Jvm.Cond.code ({ cls := "StoneBacks", name := "loadBy", desc := "(II)I" } : Jvm.MethodName) prog_1_method_73_code (5 : Nat) (Option.some Jvm.ClassFile.FieldType.int)) ∈ lw_all := lw_g (lw_at lw_m8 87 rfl) rfl
theorem q1880 : (Jvm.Cond.methodLink "StoneBacks" (548 : Nat) ({ cls := "java/lang/Integer", name := "compare", desc := "(II)I" } : Jvm.MethodName)) ∈ lw_all := lw_g (lw_at lw_m8 88 rfl) rfl
theorem q1887 : (Jvm.Cond.instanceMethod ({ cls := "StoneBacks", name := "weigh", desc := "()I" } : Jvm.MethodName)) ∈ lw_all := lw_g (lw_at lw_m8 95 rfl) rfl
theorem q1888 : (Jvm.Cond.selects "StoneBacks" ({ cls := "StoneBacks", name := "weigh", desc := "()I" } : Jvm.MethodName) ({ cls := "StoneBacks", name := "weigh", desc := "()I" } : Jvm.MethodName)) ∈ lw_all := lw_g (lw_at lw_m8 96 rfl) rfl
theorem q1889 : (Jvm.Cond.code ({ cls := "StoneBacks", name := "weigh", desc := "()I" } : Jvm.MethodName) prog_1_method_78_code (6 : Nat) (Option.some Jvm.ClassFile.FieldType.int)) ∈ lw_all := lw_g (lw_at lw_m8 97 rfl) rfl
theorem q1890 : (Jvm.Cond.methodLink "StoneBacks" (560 : Nat) ({ cls := "StoneBacks", name := "partBy", desc := "(II)I" } : Jvm.MethodName)) ∈ lw_all := lw_g (lw_at lw_m8 98 rfl) rfl
theorem q1891 : (Jvm.Cond.privateMethod ({ cls := "StoneBacks", name := "partBy", desc := "(II)I" } : Jvm.MethodName)) ∈ lw_tbl := lw_at lw_m8 99 rfl
theorem q1892 : (Jvm.Cond.instanceMethod ({ cls := "StoneBacks", name := "partBy", desc := "(II)I" } : Jvm.MethodName)) ∈ lw_all := lw_g (lw_at lw_m8 100 rfl) rfl
theorem q1893 : (Jvm.Cond.code ({ cls := "StoneBacks", name := "partBy", desc := "(II)I" } : Jvm.MethodName) prog_1_method_77_code (8 : Nat) (Option.some Jvm.ClassFile.FieldType.int)) ∈ lw_all := lw_g (lw_at lw_m8 101 rfl) rfl
theorem q1898 : (Jvm.Cond.instanceMethod ({ cls := "StoneBacks", name := "gravel", desc := "(I)I" } : Jvm.MethodName)) ∈ lw_all := lw_g (lw_at lw_m8 106 rfl) rfl
theorem q1899 : (Jvm.Cond.selects "StoneBacks" ({ cls := "StoneBacks", name := "gravel", desc := "(I)I" } : Jvm.MethodName) ({ cls := "StoneBacks", name := "gravel", desc := "(I)I" } : Jvm.MethodName)) ∈ lw_all := lw_g (lw_at lw_m8 107 rfl) rfl
theorem q1900 : (Jvm.Cond.code ({ cls := "StoneBacks", name := "gravel", desc := "(I)I" } : Jvm.MethodName) prog_1_method_84_code (3 : Nat) (Option.some Jvm.ClassFile.FieldType.int)) ∈ lw_all := lw_g (lw_at lw_m8 108 rfl) rfl
theorem q1901 : (Jvm.Cond.methodLink "StoneBacks" (563 : Nat) ({ cls := "StoneBacks", name := "worldAt", desc := "(I)LStoneBacks$World;" } : Jvm.MethodName)) ∈ lw_all := lw_g (lw_at lw_m8 109 rfl) rfl
theorem q1902 : (Jvm.Cond.privateMethod ({ cls := "StoneBacks", name := "worldAt", desc := "(I)LStoneBacks$World;" } : Jvm.MethodName)) ∈ lw_tbl := lw_at lw_m8 110 rfl
theorem q1903 : (Jvm.Cond.instanceMethod ({ cls := "StoneBacks", name := "worldAt", desc := "(I)LStoneBacks$World;" } : Jvm.MethodName)) ∈ lw_all := lw_g (lw_at lw_m8 111 rfl) rfl
theorem q1904 : (Jvm.Cond.code ({ cls := "StoneBacks", name := "worldAt", desc := "(I)LStoneBacks$World;" } : Jvm.MethodName) prog_1_method_32_code (3 : Nat) (Option.some (Jvm.ClassFile.FieldType.object "StoneBacks$World"))) ∈ lw_all := lw_g (lw_at lw_m8 112 rfl) rfl
theorem q1909 : (Jvm.Cond.instanceMethod ({ cls := "StoneBacks", name := "ahead", desc := "(III)I" } : Jvm.MethodName)) ∈ lw_all := lw_g (lw_at lw_m8 117 rfl) rfl
theorem q1910 : (Jvm.Cond.selects "StoneBacks" ({ cls := "StoneBacks", name := "ahead", desc := "(III)I" } : Jvm.MethodName) ({ cls := "StoneBacks", name := "ahead", desc := "(III)I" } : Jvm.MethodName)) ∈ lw_all := lw_g (lw_at lw_m8 118 rfl) rfl
theorem q1911 : (Jvm.Cond.code ({ cls := "StoneBacks", name := "ahead", desc := "(III)I" } : Jvm.MethodName) prog_1_method_85_code (5 : Nat) (Option.some Jvm.ClassFile.FieldType.int)) ∈ lw_all := lw_g (lw_at lw_m8 119 rfl) rfl
theorem q1916 : (Jvm.Cond.instanceMethod ({ cls := "StoneBacks", name := "trial", desc := "(IZ)I" } : Jvm.MethodName)) ∈ lw_all := lw_g (lw_at lw_m8 124 rfl) rfl
theorem q1917 : (Jvm.Cond.selects "StoneBacks" ({ cls := "StoneBacks", name := "trial", desc := "(IZ)I" } : Jvm.MethodName) ({ cls := "StoneBacks", name := "trial", desc := "(IZ)I" } : Jvm.MethodName)) ∈ lw_all := lw_g (lw_at lw_m8 125 rfl) rfl
theorem q1918 : (Jvm.Cond.code ({ cls := "StoneBacks", name := "trial", desc := "(IZ)I" } : Jvm.MethodName) prog_1_method_87_code (3 : Nat) (Option.some Jvm.ClassFile.FieldType.int)) ∈ lw_all := lw_g (lw_at lw_m8 126 rfl) rfl
theorem q1919 : (Jvm.Cond.methodLink "StoneBacks" (570 : Nat) ({ cls := "StoneBacks", name := "tries", desc := "(I)V" } : Jvm.MethodName)) ∈ lw_all := lw_g (lw_at lw_m8 127 rfl) rfl
theorem q1920 : (Jvm.Cond.privateMethod ({ cls := "StoneBacks", name := "tries", desc := "(I)V" } : Jvm.MethodName)) ∈ lw_tbl := lw_at lw_m8 128 rfl
theorem q1921 : (Jvm.Cond.instanceMethod ({ cls := "StoneBacks", name := "tries", desc := "(I)V" } : Jvm.MethodName)) ∈ lw_all := lw_g (lw_at lw_m8 129 rfl) rfl
theorem q1922 : (Jvm.Cond.code ({ cls := "StoneBacks", name := "tries", desc := "(I)V" } : Jvm.MethodName) prog_1_method_86_code (3 : Nat) (Option.none : Option Jvm.ClassFile.FieldType)) ∈ lw_all := lw_g (lw_at lw_m8 130 rfl) rfl
theorem q1927 : (Jvm.Cond.instanceMethod ({ cls := "StoneBacks", name := "span", desc := "(IZ)I" } : Jvm.MethodName)) ∈ lw_all := lw_g (lw_at lw_m8 135 rfl) rfl
theorem q1928 : (Jvm.Cond.selects "StoneBacks" ({ cls := "StoneBacks", name := "span", desc := "(IZ)I" } : Jvm.MethodName) ({ cls := "StoneBacks", name := "span", desc := "(IZ)I" } : Jvm.MethodName)) ∈ lw_all := lw_g (lw_at lw_m8 136 rfl) rfl
theorem q1929 : (Jvm.Cond.code ({ cls := "StoneBacks", name := "span", desc := "(IZ)I" } : Jvm.MethodName) prog_1_method_88_code (6 : Nat) (Option.some Jvm.ClassFile.FieldType.int)) ∈ lw_all := lw_g (lw_at lw_m8 137 rfl) rfl
theorem q1934 : (Jvm.Cond.instanceMethod ({ cls := "StoneBacks", name := "led", desc := "(IZ)I" } : Jvm.MethodName)) ∈ lw_all := lw_g (lw_at lw_m8 142 rfl) rfl
theorem q1935 : (Jvm.Cond.selects "StoneBacks" ({ cls := "StoneBacks", name := "led", desc := "(IZ)I" } : Jvm.MethodName) ({ cls := "StoneBacks", name := "led", desc := "(IZ)I" } : Jvm.MethodName)) ∈ lw_all := lw_g (lw_at lw_m8 143 rfl) rfl
theorem q1936 : (Jvm.Cond.code ({ cls := "StoneBacks", name := "led", desc := "(IZ)I" } : Jvm.MethodName) prog_1_method_90_code (6 : Nat) (Option.some Jvm.ClassFile.FieldType.int)) ∈ lw_all := lw_g (lw_at lw_m8 144 rfl) rfl
theorem q1937 : (Jvm.Cond.methodLink "StoneBacks" (588 : Nat) ({ cls := "StoneBacks", name := "ofLog", desc := "(II)I" } : Jvm.MethodName)) ∈ lw_all := lw_g (lw_at lw_m8 145 rfl) rfl
theorem q1938 : (Jvm.Cond.privateMethod ({ cls := "StoneBacks", name := "ofLog", desc := "(II)I" } : Jvm.MethodName)) ∈ lw_tbl := lw_at lw_m8 146 rfl
theorem q1939 : (Jvm.Cond.instanceMethod ({ cls := "StoneBacks", name := "ofLog", desc := "(II)I" } : Jvm.MethodName)) ∈ lw_all := lw_g (lw_at lw_m8 147 rfl) rfl
theorem q1940 : (Jvm.Cond.code ({ cls := "StoneBacks", name := "ofLog", desc := "(II)I" } : Jvm.MethodName) prog_1_method_89_code (3 : Nat) (Option.some Jvm.ClassFile.FieldType.int)) ∈ lw_all := lw_g (lw_at lw_m8 148 rfl) rfl
theorem q1945 : (Jvm.Cond.instanceMethod ({ cls := "StoneBacks", name := "log", desc := "(II)I" } : Jvm.MethodName)) ∈ lw_all := lw_g (lw_at lw_m8 153 rfl) rfl
theorem q1946 : (Jvm.Cond.selects "StoneBacks" ({ cls := "StoneBacks", name := "log", desc := "(II)I" } : Jvm.MethodName) ({ cls := "StoneBacks", name := "log", desc := "(II)I" } : Jvm.MethodName)) ∈ lw_all := lw_g (lw_at lw_m8 154 rfl) rfl
theorem q1947 : (Jvm.Cond.code ({ cls := "StoneBacks", name := "log", desc := "(II)I" } : Jvm.MethodName) prog_1_method_91_code (3 : Nat) (Option.some Jvm.ClassFile.FieldType.int)) ∈ lw_all := lw_g (lw_at lw_m8 155 rfl) rfl
theorem q2531 : (Jvm.Cond.castable "StoneBacks" "java/lang/Object") ∈ lw_tbl := lw_at lw_m11 19 rfl
theorem in_X1 : ∀ w ∈ wsX10, w ∈ lw_all := lw_in wsX10 [407, 409, 411, 413, 415, 417, 419, 421, 423, 425, 427] (by decide +kernel) (by decide +kernel)

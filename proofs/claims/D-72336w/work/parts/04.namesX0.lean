/-! PictureRing -/
set_option maxRecDepth 100000
def RX0 : String := "PictureRing"
def TX0 : u_T := fun k => match k with
  | 0 => ("PictureRing", "now", "LPictureRing$State;", true)
  | 1 => ("PictureRing", "before", "LPictureRing$State;", true)
  | 2 => ("PictureRing", "past", "[LPictureRing$State;", true)
  | 3 => ("PictureRing", "many", "I", false)
  | 4 => ("PictureRing", "quiet", "Z", false)
  | 5 => ("PictureRing", "ways", "[LPictureRing$Way;", true)
  | 6 => ("PictureRing", "joine\x72", "LPictureRing$Joiner;", true)
  | 7 => ("PictureRing", "cause", "[I", true)
  | 8 => ("PictureRing", "text", "[B", true)
  | 9 => ("PictureRing", "typed", "I", false)
  | 10 => ("PictureRing", "refused", "[I", true)
  | _ => ("PictureRing", "reade\x72", "LPictureRing$Reader;", true)
def tyX0 : Nat → FieldType := fun k => match k with
  | 0 => .object "PictureRing$State"
  | 1 => .object "PictureRing$State"
  | 2 => .array (.object "PictureRing$State")
  | 3 => .int
  | 4 => .boolean
  | 5 => .array (.object "PictureRing$Way")
  | 6 => .object "PictureRing$Joine\x72"
  | 7 => .array .int
  | 8 => .array .byte
  | 9 => .int
  | 10 => .array .int
  | _ => .object "PictureRing$Reade\x72"
abbrev wsX00 : List Cond := u_ws RX0 TX0 12
theorem nmX0 : ∀ a, a < 12 → ∀ b, b < 12 → a ≠ b → (TX0 a).2.1 ≠ (TX0 b).2.1 := by decide +kernel
theorem tyX0_ok : ∀ k, k < 12 → parseFieldDescriptor (TX0 k).2.2.1 = some (tyX0 k) := by decide +kernel
abbrev cX0_init : ByteArray := prog_1_method_7_code
def yX0_init : MethodName := ⟨RX0, "<init>", "()V"⟩
def dkwX0_init_5 : List UInt8 := [187, 0, 79, 89, 42, 183, 0, 81, 181, 0, 82, 177]
abbrev dktX0_init_5 : List UInt8 := dkwX0_init_5 ++ []
def dkwX0_init_4 : List UInt8 := [4, 2, 79, 181, 0, 68, 42, 16, 120, 188, 8, 181, 0, 72, 42, 6, 188, 10, 181, 0, 76, 42]
abbrev dktX0_init_4 : List UInt8 := dkwX0_init_4 ++ dktX0_init_5
def dkwX0_init_3 : List UInt8 := [181, 0, 55, 42, 187, 0, 59, 89, 42, 183, 0, 61, 181, 0, 64, 42, 5, 188, 10, 89, 3, 3, 79, 89]
abbrev dktX0_init_3 : List UInt8 := dkwX0_init_3 ++ dktX0_init_4
def dkwX0_init_2 : List UInt8 := [89, 4, 4, 3, 184, 0, 52, 83, 89, 5, 4, 4, 184, 0, 52, 83, 89, 6, 4, 2, 184, 0, 52, 83]
abbrev dktX0_init_2 : List UInt8 := dkwX0_init_2 ++ dktX0_init_3
def dkwX0_init_1 : List UInt8 := [181, 0, 39, 42, 8, 184, 0, 42, 181, 0, 46, 42, 7, 189, 0, 50, 89, 3, 3, 4, 184, 0, 52, 83]
abbrev dktX0_init_1 : List UInt8 := dkwX0_init_1 ++ dktX0_init_2
def dkwX0_init_0 : List UInt8 := [42, 183, 0, 30, 42, 187, 0, 24, 89, 183, 0, 26, 181, 0, 33, 42, 187, 0, 24, 89, 183, 0, 26]
abbrev dktX0_init_0 : List UInt8 := dkwX0_init_0 ++ dktX0_init_1
theorem dksX0_init_0 : cX0_init.data.toList.drop 0 = dktX0_init_0 := by decide +kernel
theorem dksX0_init_1 : cX0_init.data.toList.drop 23 = dktX0_init_1 := dk_seg dksX0_init_0 23 rfl rfl
theorem dksX0_init_2 : cX0_init.data.toList.drop 47 = dktX0_init_2 := dk_seg dksX0_init_1 24 rfl rfl
theorem dksX0_init_3 : cX0_init.data.toList.drop 71 = dktX0_init_3 := dk_seg dksX0_init_2 24 rfl rfl
theorem dksX0_init_4 : cX0_init.data.toList.drop 95 = dktX0_init_4 := dk_seg dksX0_init_3 24 rfl rfl
theorem dksX0_init_5 : cX0_init.data.toList.drop 117 = dktX0_init_5 := dk_seg dksX0_init_4 22 rfl rfl
theorem dX0_init_0 : decode cX0_init 0 = .ok (.aload_n 0, 1) := dk_42 (dk_at dksX0_init_0 0 rfl rfl)
theorem dX0_init_1 : decode cX0_init 1 = .ok (.invokespecial 30, 3) := dk_183 0 30 (dk_at dksX0_init_0 1 rfl rfl)
theorem dX0_init_4 : decode cX0_init 4 = .ok (.aload_n 0, 1) := dk_42 (dk_at dksX0_init_0 4 rfl rfl)
theorem dX0_init_5 : decode cX0_init 5 = .ok (.new 24, 3) := dk_187 0 24 (dk_at dksX0_init_0 5 rfl rfl)
theorem dX0_init_8 : decode cX0_init 8 = .ok (.dup, 1) := dk_89 (dk_at dksX0_init_0 8 rfl rfl)
theorem dX0_init_9 : decode cX0_init 9 = .ok (.invokespecial 26, 3) := dk_183 0 26 (dk_at dksX0_init_0 9 rfl rfl)
theorem dX0_init_12 : decode cX0_init 12 = .ok (.putfield 33, 3) := dk_181 0 33 (dk_at dksX0_init_0 12 rfl rfl)
theorem dX0_init_15 : decode cX0_init 15 = .ok (.aload_n 0, 1) := dk_42 (dk_at dksX0_init_0 15 rfl rfl)
theorem dX0_init_16 : decode cX0_init 16 = .ok (.new 24, 3) := dk_187 0 24 (dk_at dksX0_init_0 16 rfl rfl)
theorem dX0_init_19 : decode cX0_init 19 = .ok (.dup, 1) := dk_89 (dk_at dksX0_init_0 19 rfl rfl)
theorem dX0_init_20 : decode cX0_init 20 = .ok (.invokespecial 26, 3) := dk_183 0 26 (dk_at dksX0_init_0 20 rfl rfl)
theorem dX0_init_23 : decode cX0_init 23 = .ok (.putfield 39, 3) := dk_181 0 39 (dk_at dksX0_init_1 0 rfl rfl)
theorem dX0_init_26 : decode cX0_init 26 = .ok (.aload_n 0, 1) := dk_42 (dk_at dksX0_init_1 3 rfl rfl)
theorem dX0_init_27 : decode cX0_init 27 = .ok (.iconst 5, 1) := dk_8 (dk_at dksX0_init_1 4 rfl rfl)
theorem dX0_init_28 : decode cX0_init 28 = .ok (.invokestatic 42, 3) := dk_184 0 42 (dk_at dksX0_init_1 5 rfl rfl)
theorem dX0_init_31 : decode cX0_init 31 = .ok (.putfield 46, 3) := dk_181 0 46 (dk_at dksX0_init_1 8 rfl rfl)
theorem dX0_init_34 : decode cX0_init 34 = .ok (.aload_n 0, 1) := dk_42 (dk_at dksX0_init_1 11 rfl rfl)
theorem dX0_init_35 : decode cX0_init 35 = .ok (.iconst 4, 1) := dk_7 (dk_at dksX0_init_1 12 rfl rfl)
theorem dX0_init_36 : decode cX0_init 36 = .ok (.anewarray 50, 3) := dk_189 0 50 (dk_at dksX0_init_1 13 rfl rfl)
theorem dX0_init_39 : decode cX0_init 39 = .ok (.dup, 1) := dk_89 (dk_at dksX0_init_1 16 rfl rfl)
theorem dX0_init_40 : decode cX0_init 40 = .ok (.iconst 0, 1) := dk_3 (dk_at dksX0_init_1 17 rfl rfl)
theorem dX0_init_41 : decode cX0_init 41 = .ok (.iconst 0, 1) := dk_3 (dk_at dksX0_init_1 18 rfl rfl)
theorem dX0_init_42 : decode cX0_init 42 = .ok (.iconst 1, 1) := dk_4 (dk_at dksX0_init_1 19 rfl rfl)
theorem dX0_init_43 : decode cX0_init 43 = .ok (.invokestatic 52, 3) := dk_184 0 52 (dk_at dksX0_init_1 20 rfl rfl)
theorem dX0_init_46 : decode cX0_init 46 = .ok (.aastore, 1) := dk_83 (dk_at dksX0_init_1 23 rfl rfl)
theorem dX0_init_47 : decode cX0_init 47 = .ok (.dup, 1) := dk_89 (dk_at dksX0_init_2 0 rfl rfl)
theorem dX0_init_48 : decode cX0_init 48 = .ok (.iconst 1, 1) := dk_4 (dk_at dksX0_init_2 1 rfl rfl)
theorem dX0_init_49 : decode cX0_init 49 = .ok (.iconst 1, 1) := dk_4 (dk_at dksX0_init_2 2 rfl rfl)
theorem dX0_init_50 : decode cX0_init 50 = .ok (.iconst 0, 1) := dk_3 (dk_at dksX0_init_2 3 rfl rfl)
theorem dX0_init_51 : decode cX0_init 51 = .ok (.invokestatic 52, 3) := dk_184 0 52 (dk_at dksX0_init_2 4 rfl rfl)
theorem dX0_init_54 : decode cX0_init 54 = .ok (.aastore, 1) := dk_83 (dk_at dksX0_init_2 7 rfl rfl)
theorem dX0_init_55 : decode cX0_init 55 = .ok (.dup, 1) := dk_89 (dk_at dksX0_init_2 8 rfl rfl)
theorem dX0_init_56 : decode cX0_init 56 = .ok (.iconst 2, 1) := dk_5 (dk_at dksX0_init_2 9 rfl rfl)
theorem dX0_init_57 : decode cX0_init 57 = .ok (.iconst 1, 1) := dk_4 (dk_at dksX0_init_2 10 rfl rfl)
theorem dX0_init_58 : decode cX0_init 58 = .ok (.iconst 1, 1) := dk_4 (dk_at dksX0_init_2 11 rfl rfl)
theorem dX0_init_59 : decode cX0_init 59 = .ok (.invokestatic 52, 3) := dk_184 0 52 (dk_at dksX0_init_2 12 rfl rfl)
theorem dX0_init_62 : decode cX0_init 62 = .ok (.aastore, 1) := dk_83 (dk_at dksX0_init_2 15 rfl rfl)
theorem dX0_init_63 : decode cX0_init 63 = .ok (.dup, 1) := dk_89 (dk_at dksX0_init_2 16 rfl rfl)
theorem dX0_init_64 : decode cX0_init 64 = .ok (.iconst 3, 1) := dk_6 (dk_at dksX0_init_2 17 rfl rfl)
theorem dX0_init_65 : decode cX0_init 65 = .ok (.iconst 1, 1) := dk_4 (dk_at dksX0_init_2 18 rfl rfl)
theorem dX0_init_66 : decode cX0_init 66 = .ok (.iconst (-1), 1) := dk_2 (dk_at dksX0_init_2 19 rfl rfl)
theorem dX0_init_67 : decode cX0_init 67 = .ok (.invokestatic 52, 3) := dk_184 0 52 (dk_at dksX0_init_2 20 rfl rfl)
theorem dX0_init_70 : decode cX0_init 70 = .ok (.aastore, 1) := dk_83 (dk_at dksX0_init_2 23 rfl rfl)
theorem dX0_init_71 : decode cX0_init 71 = .ok (.putfield 55, 3) := dk_181 0 55 (dk_at dksX0_init_3 0 rfl rfl)
theorem dX0_init_74 : decode cX0_init 74 = .ok (.aload_n 0, 1) := dk_42 (dk_at dksX0_init_3 3 rfl rfl)
theorem dX0_init_75 : decode cX0_init 75 = .ok (.new 59, 3) := dk_187 0 59 (dk_at dksX0_init_3 4 rfl rfl)
theorem dX0_init_78 : decode cX0_init 78 = .ok (.dup, 1) := dk_89 (dk_at dksX0_init_3 7 rfl rfl)
theorem dX0_init_79 : decode cX0_init 79 = .ok (.aload_n 0, 1) := dk_42 (dk_at dksX0_init_3 8 rfl rfl)
theorem dX0_init_80 : decode cX0_init 80 = .ok (.invokespecial 61, 3) := dk_183 0 61 (dk_at dksX0_init_3 9 rfl rfl)
theorem dX0_init_83 : decode cX0_init 83 = .ok (.putfield 64, 3) := dk_181 0 64 (dk_at dksX0_init_3 12 rfl rfl)
theorem dX0_init_86 : decode cX0_init 86 = .ok (.aload_n 0, 1) := dk_42 (dk_at dksX0_init_3 15 rfl rfl)
theorem dX0_init_87 : decode cX0_init 87 = .ok (.iconst 2, 1) := dk_5 (dk_at dksX0_init_3 16 rfl rfl)
theorem dX0_init_88 : decode cX0_init 88 = .ok (.newarray .int, 2) := dk_188_10 (dk_at dksX0_init_3 17 rfl rfl)
theorem dX0_init_90 : decode cX0_init 90 = .ok (.dup, 1) := dk_89 (dk_at dksX0_init_3 19 rfl rfl)
theorem dX0_init_91 : decode cX0_init 91 = .ok (.iconst 0, 1) := dk_3 (dk_at dksX0_init_3 20 rfl rfl)
theorem dX0_init_92 : decode cX0_init 92 = .ok (.iconst 0, 1) := dk_3 (dk_at dksX0_init_3 21 rfl rfl)
theorem dX0_init_93 : decode cX0_init 93 = .ok (.iastore, 1) := dk_79 (dk_at dksX0_init_3 22 rfl rfl)
theorem dX0_init_94 : decode cX0_init 94 = .ok (.dup, 1) := dk_89 (dk_at dksX0_init_3 23 rfl rfl)
theorem dX0_init_95 : decode cX0_init 95 = .ok (.iconst 1, 1) := dk_4 (dk_at dksX0_init_4 0 rfl rfl)
theorem dX0_init_96 : decode cX0_init 96 = .ok (.iconst (-1), 1) := dk_2 (dk_at dksX0_init_4 1 rfl rfl)
theorem dX0_init_97 : decode cX0_init 97 = .ok (.iastore, 1) := dk_79 (dk_at dksX0_init_4 2 rfl rfl)
theorem dX0_init_98 : decode cX0_init 98 = .ok (.putfield 68, 3) := dk_181 0 68 (dk_at dksX0_init_4 3 rfl rfl)
theorem dX0_init_101 : decode cX0_init 101 = .ok (.aload_n 0, 1) := dk_42 (dk_at dksX0_init_4 6 rfl rfl)
theorem dX0_init_102 : decode cX0_init 102 = .ok (.bipush 120, 2) := dk_16 120 (dk_at dksX0_init_4 7 rfl rfl)
theorem dX0_init_104 : decode cX0_init 104 = .ok (.newarray .byte, 2) := dk_188_8 (dk_at dksX0_init_4 9 rfl rfl)
theorem dX0_init_106 : decode cX0_init 106 = .ok (.putfield 72, 3) := dk_181 0 72 (dk_at dksX0_init_4 11 rfl rfl)
theorem dX0_init_109 : decode cX0_init 109 = .ok (.aload_n 0, 1) := dk_42 (dk_at dksX0_init_4 14 rfl rfl)
theorem dX0_init_110 : decode cX0_init 110 = .ok (.iconst 3, 1) := dk_6 (dk_at dksX0_init_4 15 rfl rfl)
theorem dX0_init_111 : decode cX0_init 111 = .ok (.newarray .int, 2) := dk_188_10 (dk_at dksX0_init_4 16 rfl rfl)
theorem dX0_init_113 : decode cX0_init 113 = .ok (.putfield 76, 3) := dk_181 0 76 (dk_at dksX0_init_4 18 rfl rfl)
theorem dX0_init_116 : decode cX0_init 116 = .ok (.aload_n 0, 1) := dk_42 (dk_at dksX0_init_4 21 rfl rfl)
theorem dX0_init_117 : decode cX0_init 117 = .ok (.new 79, 3) := dk_187 0 79 (dk_at dksX0_init_5 0 rfl rfl)
theorem dX0_init_120 : decode cX0_init 120 = .ok (.dup, 1) := dk_89 (dk_at dksX0_init_5 3 rfl rfl)
theorem dX0_init_121 : decode cX0_init 121 = .ok (.aload_n 0, 1) := dk_42 (dk_at dksX0_init_5 4 rfl rfl)
theorem dX0_init_122 : decode cX0_init 122 = .ok (.invokespecial 81, 3) := dk_183 0 81 (dk_at dksX0_init_5 5 rfl rfl)
theorem dX0_init_125 : decode cX0_init 125 = .ok (.putfield 82, 3) := dk_181 0 82 (dk_at dksX0_init_5 8 rfl rfl)
theorem dX0_init_128 : decode cX0_init 128 = .ok (.return_, 1) := dk_177 (dk_at dksX0_init_5 11 rfl rfl)
abbrev cX0_states : ByteArray := prog_1_method_6_code
def yX0_states : MethodName := ⟨RX0, "states", "(I)[LPictureRing$State;"⟩
def dkwX0_states_1 : List UInt8 := [132, 2, 1, 167, 255, 238, 43, 176]
abbrev dktX0_states_1 : List UInt8 := dkwX0_states_1 ++ []
def dkwX0_states_0 : List UInt8 := [26, 189, 0, 24, 76, 3, 61, 28, 26, 162, 0, 19, 43, 28, 187, 0, 24, 89, 183, 0, 26, 83]
abbrev dktX0_states_0 : List UInt8 := dkwX0_states_0 ++ dktX0_states_1
theorem dksX0_states_0 : cX0_states.data.toList.drop 0 = dktX0_states_0 := by decide +kernel
theorem dksX0_states_1 : cX0_states.data.toList.drop 22 = dktX0_states_1 := dk_seg dksX0_states_0 22 rfl rfl
theorem dX0_states_0 : decode cX0_states 0 = .ok (.iload_n 0, 1) := dk_26 (dk_at dksX0_states_0 0 rfl rfl)
theorem dX0_states_1 : decode cX0_states 1 = .ok (.anewarray 24, 3) := dk_189 0 24 (dk_at dksX0_states_0 1 rfl rfl)
theorem dX0_states_4 : decode cX0_states 4 = .ok (.astore_n 1, 1) := dk_76 (dk_at dksX0_states_0 4 rfl rfl)
theorem dX0_states_5 : decode cX0_states 5 = .ok (.iconst 0, 1) := dk_3 (dk_at dksX0_states_0 5 rfl rfl)
theorem dX0_states_6 : decode cX0_states 6 = .ok (.istore_n 2, 1) := dk_61 (dk_at dksX0_states_0 6 rfl rfl)
theorem dX0_states_7 : decode cX0_states 7 = .ok (.iload_n 2, 1) := dk_28 (dk_at dksX0_states_0 7 rfl rfl)
theorem dX0_states_8 : decode cX0_states 8 = .ok (.iload_n 0, 1) := dk_26 (dk_at dksX0_states_0 8 rfl rfl)
theorem dX0_states_9 : decode cX0_states 9 = .ok (.if_icmp .ge 19, 3) := dk_162 0 19 (dk_at dksX0_states_0 9 rfl rfl)
theorem dX0_states_12 : decode cX0_states 12 = .ok (.aload_n 1, 1) := dk_43 (dk_at dksX0_states_0 12 rfl rfl)
theorem dX0_states_13 : decode cX0_states 13 = .ok (.iload_n 2, 1) := dk_28 (dk_at dksX0_states_0 13 rfl rfl)
theorem dX0_states_14 : decode cX0_states 14 = .ok (.new 24, 3) := dk_187 0 24 (dk_at dksX0_states_0 14 rfl rfl)
theorem dX0_states_17 : decode cX0_states 17 = .ok (.dup, 1) := dk_89 (dk_at dksX0_states_0 17 rfl rfl)
theorem dX0_states_18 : decode cX0_states 18 = .ok (.invokespecial 26, 3) := dk_183 0 26 (dk_at dksX0_states_0 18 rfl rfl)
theorem dX0_states_21 : decode cX0_states 21 = .ok (.aastore, 1) := dk_83 (dk_at dksX0_states_0 21 rfl rfl)
theorem dX0_states_22 : decode cX0_states 22 = .ok (.iinc 2 1, 3) := dk_132 2 1 (dk_at dksX0_states_1 0 rfl rfl)
theorem dX0_states_25 : decode cX0_states 25 = .ok (.goto (-18), 3) := dk_167 255 238 (dk_at dksX0_states_1 3 rfl rfl)
theorem dX0_states_28 : decode cX0_states 28 = .ok (.aload_n 1, 1) := dk_43 (dk_at dksX0_states_1 6 rfl rfl)
theorem dX0_states_29 : decode cX0_states 29 = .ok (.areturn, 1) := dk_176 (dk_at dksX0_states_1 7 rfl rfl)
abbrev cX0_way : ByteArray := prog_1_method_4_code
def yX0_way : MethodName := ⟨RX0, "way", "(II)LPictureRing$Way;"⟩
def dkwX0_way_0 : List UInt8 := [26, 27, 186, 0, 16, 0, 0, 176]
abbrev dktX0_way_0 : List UInt8 := dkwX0_way_0 ++ []
theorem dksX0_way_0 : cX0_way.data.toList.drop 0 = dktX0_way_0 := by decide +kernel
theorem dX0_way_0 : decode cX0_way 0 = .ok (.iload_n 0, 1) := dk_26 (dk_at dksX0_way_0 0 rfl rfl)
theorem dX0_way_1 : decode cX0_way 1 = .ok (.iload_n 1, 1) := dk_27 (dk_at dksX0_way_0 1 rfl rfl)
theorem dX0_way_2 : decode cX0_way 2 = .ok (.invokedynamic 16, 5) := by decide +kernel
theorem dX0_way_7 : decode cX0_way 7 = .ok (.areturn, 1) := dk_176 (dk_at dksX0_way_0 7 rfl rfl)
abbrev cX0_lambda_way_0 : ByteArray := prog_1_method_62_code
def yX0_lambda_way_0 : MethodName := ⟨RX0, "lambda$way$0", "(IILPictureRing$Picture;II)I"⟩
def dkwX0_lambda_way_0_1 : List UInt8 := [21, 4, 182, 0, 203, 44, 29, 26, 96, 21, 4, 27, 96, 182, 0, 203, 100, 184, 1, 169, 96, 172]
abbrev dktX0_lambda_way_0_1 : List UInt8 := dkwX0_lambda_way_0_1 ++ []
def dkwX0_lambda_way_0_0 : List UInt8 := [44, 29, 21, 4, 182, 0, 203, 44, 29, 26, 100, 21, 4, 27, 100, 182, 0, 203, 100, 184, 1, 169, 44, 29]
abbrev dktX0_lambda_way_0_0 : List UInt8 := dkwX0_lambda_way_0_0 ++ dktX0_lambda_way_0_1
theorem dksX0_lambda_way_0_0 : cX0_lambda_way_0.data.toList.drop 0 = dktX0_lambda_way_0_0 := by decide +kernel
theorem dksX0_lambda_way_0_1 : cX0_lambda_way_0.data.toList.drop 24 = dktX0_lambda_way_0_1 := dk_seg dksX0_lambda_way_0_0 24 rfl rfl
theorem dX0_lambda_way_0_0 : decode cX0_lambda_way_0 0 = .ok (.aload_n 2, 1) := dk_44 (dk_at dksX0_lambda_way_0_0 0 rfl rfl)
theorem dX0_lambda_way_0_1 : decode cX0_lambda_way_0 1 = .ok (.iload_n 3, 1) := dk_29 (dk_at dksX0_lambda_way_0_0 1 rfl rfl)
theorem dX0_lambda_way_0_2 : decode cX0_lambda_way_0 2 = .ok (.iload 4, 2) := dk_21 4 (dk_at dksX0_lambda_way_0_0 2 rfl rfl)
theorem dX0_lambda_way_0_4 : decode cX0_lambda_way_0 4 = .ok (.invokevirtual 203, 3) := dk_182 0 203 (dk_at dksX0_lambda_way_0_0 4 rfl rfl)
theorem dX0_lambda_way_0_7 : decode cX0_lambda_way_0 7 = .ok (.aload_n 2, 1) := dk_44 (dk_at dksX0_lambda_way_0_0 7 rfl rfl)
theorem dX0_lambda_way_0_8 : decode cX0_lambda_way_0 8 = .ok (.iload_n 3, 1) := dk_29 (dk_at dksX0_lambda_way_0_0 8 rfl rfl)
theorem dX0_lambda_way_0_9 : decode cX0_lambda_way_0 9 = .ok (.iload_n 0, 1) := dk_26 (dk_at dksX0_lambda_way_0_0 9 rfl rfl)
theorem dX0_lambda_way_0_10 : decode cX0_lambda_way_0 10 = .ok (.isub, 1) := dk_100 (dk_at dksX0_lambda_way_0_0 10 rfl rfl)
theorem dX0_lambda_way_0_11 : decode cX0_lambda_way_0 11 = .ok (.iload 4, 2) := dk_21 4 (dk_at dksX0_lambda_way_0_0 11 rfl rfl)
theorem dX0_lambda_way_0_13 : decode cX0_lambda_way_0 13 = .ok (.iload_n 1, 1) := dk_27 (dk_at dksX0_lambda_way_0_0 13 rfl rfl)
theorem dX0_lambda_way_0_14 : decode cX0_lambda_way_0 14 = .ok (.isub, 1) := dk_100 (dk_at dksX0_lambda_way_0_0 14 rfl rfl)
theorem dX0_lambda_way_0_15 : decode cX0_lambda_way_0 15 = .ok (.invokevirtual 203, 3) := dk_182 0 203 (dk_at dksX0_lambda_way_0_0 15 rfl rfl)
theorem dX0_lambda_way_0_18 : decode cX0_lambda_way_0 18 = .ok (.isub, 1) := dk_100 (dk_at dksX0_lambda_way_0_0 18 rfl rfl)
theorem dX0_lambda_way_0_19 : decode cX0_lambda_way_0 19 = .ok (.invokestatic 425, 3) := dk_184 1 169 (dk_at dksX0_lambda_way_0_0 19 rfl rfl)
theorem dX0_lambda_way_0_22 : decode cX0_lambda_way_0 22 = .ok (.aload_n 2, 1) := dk_44 (dk_at dksX0_lambda_way_0_0 22 rfl rfl)
theorem dX0_lambda_way_0_23 : decode cX0_lambda_way_0 23 = .ok (.iload_n 3, 1) := dk_29 (dk_at dksX0_lambda_way_0_0 23 rfl rfl)
theorem dX0_lambda_way_0_24 : decode cX0_lambda_way_0 24 = .ok (.iload 4, 2) := dk_21 4 (dk_at dksX0_lambda_way_0_1 0 rfl rfl)
theorem dX0_lambda_way_0_26 : decode cX0_lambda_way_0 26 = .ok (.invokevirtual 203, 3) := dk_182 0 203 (dk_at dksX0_lambda_way_0_1 2 rfl rfl)
theorem dX0_lambda_way_0_29 : decode cX0_lambda_way_0 29 = .ok (.aload_n 2, 1) := dk_44 (dk_at dksX0_lambda_way_0_1 5 rfl rfl)
theorem dX0_lambda_way_0_30 : decode cX0_lambda_way_0 30 = .ok (.iload_n 3, 1) := dk_29 (dk_at dksX0_lambda_way_0_1 6 rfl rfl)
theorem dX0_lambda_way_0_31 : decode cX0_lambda_way_0 31 = .ok (.iload_n 0, 1) := dk_26 (dk_at dksX0_lambda_way_0_1 7 rfl rfl)
theorem dX0_lambda_way_0_32 : decode cX0_lambda_way_0 32 = .ok (.iadd, 1) := dk_96 (dk_at dksX0_lambda_way_0_1 8 rfl rfl)
theorem dX0_lambda_way_0_33 : decode cX0_lambda_way_0 33 = .ok (.iload 4, 2) := dk_21 4 (dk_at dksX0_lambda_way_0_1 9 rfl rfl)
theorem dX0_lambda_way_0_35 : decode cX0_lambda_way_0 35 = .ok (.iload_n 1, 1) := dk_27 (dk_at dksX0_lambda_way_0_1 11 rfl rfl)
theorem dX0_lambda_way_0_36 : decode cX0_lambda_way_0 36 = .ok (.iadd, 1) := dk_96 (dk_at dksX0_lambda_way_0_1 12 rfl rfl)
theorem dX0_lambda_way_0_37 : decode cX0_lambda_way_0 37 = .ok (.invokevirtual 203, 3) := dk_182 0 203 (dk_at dksX0_lambda_way_0_1 13 rfl rfl)
theorem dX0_lambda_way_0_40 : decode cX0_lambda_way_0 40 = .ok (.isub, 1) := dk_100 (dk_at dksX0_lambda_way_0_1 16 rfl rfl)
theorem dX0_lambda_way_0_41 : decode cX0_lambda_way_0 41 = .ok (.invokestatic 425, 3) := dk_184 1 169 (dk_at dksX0_lambda_way_0_1 17 rfl rfl)
theorem dX0_lambda_way_0_44 : decode cX0_lambda_way_0 44 = .ok (.iadd, 1) := dk_96 (dk_at dksX0_lambda_way_0_1 20 rfl rfl)
theorem dX0_lambda_way_0_45 : decode cX0_lambda_way_0 45 = .ok (.ireturn, 1) := dk_172 (dk_at dksX0_lambda_way_0_1 21 rfl rfl)
abbrev cX0_rowOf : ByteArray := prog_1_method_30_code
def yX0_rowOf : MethodName := ⟨RX0, "rowOf", "(I)[LPictureRing$Corners;"⟩
def dkwX0_rowOf_1 : List UInt8 := [132, 2, 1, 167, 255, 238, 43, 176]
abbrev dktX0_rowOf_1 : List UInt8 := dkwX0_rowOf_1 ++ []
def dkwX0_rowOf_0 : List UInt8 := [26, 189, 0, 225, 76, 3, 61, 28, 26, 162, 0, 19, 43, 28, 187, 0, 225, 89, 183, 0, 227, 83]
abbrev dktX0_rowOf_0 : List UInt8 := dkwX0_rowOf_0 ++ dktX0_rowOf_1
theorem dksX0_rowOf_0 : cX0_rowOf.data.toList.drop 0 = dktX0_rowOf_0 := by decide +kernel
theorem dksX0_rowOf_1 : cX0_rowOf.data.toList.drop 22 = dktX0_rowOf_1 := dk_seg dksX0_rowOf_0 22 rfl rfl
theorem dX0_rowOf_0 : decode cX0_rowOf 0 = .ok (.iload_n 0, 1) := dk_26 (dk_at dksX0_rowOf_0 0 rfl rfl)
theorem dX0_rowOf_1 : decode cX0_rowOf 1 = .ok (.anewarray 225, 3) := dk_189 0 225 (dk_at dksX0_rowOf_0 1 rfl rfl)
theorem dX0_rowOf_4 : decode cX0_rowOf 4 = .ok (.astore_n 1, 1) := dk_76 (dk_at dksX0_rowOf_0 4 rfl rfl)
theorem dX0_rowOf_5 : decode cX0_rowOf 5 = .ok (.iconst 0, 1) := dk_3 (dk_at dksX0_rowOf_0 5 rfl rfl)
theorem dX0_rowOf_6 : decode cX0_rowOf 6 = .ok (.istore_n 2, 1) := dk_61 (dk_at dksX0_rowOf_0 6 rfl rfl)
theorem dX0_rowOf_7 : decode cX0_rowOf 7 = .ok (.iload_n 2, 1) := dk_28 (dk_at dksX0_rowOf_0 7 rfl rfl)
theorem dX0_rowOf_8 : decode cX0_rowOf 8 = .ok (.iload_n 0, 1) := dk_26 (dk_at dksX0_rowOf_0 8 rfl rfl)
theorem dX0_rowOf_9 : decode cX0_rowOf 9 = .ok (.if_icmp .ge 19, 3) := dk_162 0 19 (dk_at dksX0_rowOf_0 9 rfl rfl)
theorem dX0_rowOf_12 : decode cX0_rowOf 12 = .ok (.aload_n 1, 1) := dk_43 (dk_at dksX0_rowOf_0 12 rfl rfl)
theorem dX0_rowOf_13 : decode cX0_rowOf 13 = .ok (.iload_n 2, 1) := dk_28 (dk_at dksX0_rowOf_0 13 rfl rfl)
theorem dX0_rowOf_14 : decode cX0_rowOf 14 = .ok (.new 225, 3) := dk_187 0 225 (dk_at dksX0_rowOf_0 14 rfl rfl)
theorem dX0_rowOf_17 : decode cX0_rowOf 17 = .ok (.dup, 1) := dk_89 (dk_at dksX0_rowOf_0 17 rfl rfl)
theorem dX0_rowOf_18 : decode cX0_rowOf 18 = .ok (.invokespecial 227, 3) := dk_183 0 227 (dk_at dksX0_rowOf_0 18 rfl rfl)
theorem dX0_rowOf_21 : decode cX0_rowOf 21 = .ok (.aastore, 1) := dk_83 (dk_at dksX0_rowOf_0 21 rfl rfl)
theorem dX0_rowOf_22 : decode cX0_rowOf 22 = .ok (.iinc 2 1, 3) := dk_132 2 1 (dk_at dksX0_rowOf_1 0 rfl rfl)
theorem dX0_rowOf_25 : decode cX0_rowOf 25 = .ok (.goto (-18), 3) := dk_167 255 238 (dk_at dksX0_rowOf_1 3 rfl rfl)
theorem dX0_rowOf_28 : decode cX0_rowOf 28 = .ok (.aload_n 1, 1) := dk_43 (dk_at dksX0_rowOf_1 6 rfl rfl)
theorem dX0_rowOf_29 : decode cX0_rowOf 29 = .ok (.areturn, 1) := dk_176 (dk_at dksX0_rowOf_1 7 rfl rfl)
abbrev cX0_gcd : ByteArray := prog_1_method_5_code
def yX0_gcd : MethodName := ⟨RX0, "gcd", "(JJ)J"⟩
def dkwX0_gcd_1 : List UInt8 := [55, 8, 22, 6, 55, 4, 22, 8, 55, 6, 167, 255, 234, 22, 4, 173]
abbrev dktX0_gcd_1 : List UInt8 := dkwX0_gcd_1 ++ []
def dkwX0_gcd_0 : List UInt8 := [30, 184, 0, 20, 55, 4, 32, 184, 0, 20, 55, 6, 22, 6, 9, 148, 153, 0, 21, 22, 4, 22, 6, 113]
abbrev dktX0_gcd_0 : List UInt8 := dkwX0_gcd_0 ++ dktX0_gcd_1
theorem dksX0_gcd_0 : cX0_gcd.data.toList.drop 0 = dktX0_gcd_0 := by decide +kernel
theorem dksX0_gcd_1 : cX0_gcd.data.toList.drop 24 = dktX0_gcd_1 := dk_seg dksX0_gcd_0 24 rfl rfl
theorem dX0_gcd_0 : decode cX0_gcd 0 = .ok (.lload_n 0, 1) := dk_30 (dk_at dksX0_gcd_0 0 rfl rfl)
theorem dX0_gcd_1 : decode cX0_gcd 1 = .ok (.invokestatic 20, 3) := dk_184 0 20 (dk_at dksX0_gcd_0 1 rfl rfl)
theorem dX0_gcd_4 : decode cX0_gcd 4 = .ok (.lstore 4, 2) := dk_55 4 (dk_at dksX0_gcd_0 4 rfl rfl)
theorem dX0_gcd_6 : decode cX0_gcd 6 = .ok (.lload_n 2, 1) := dk_32 (dk_at dksX0_gcd_0 6 rfl rfl)
theorem dX0_gcd_7 : decode cX0_gcd 7 = .ok (.invokestatic 20, 3) := dk_184 0 20 (dk_at dksX0_gcd_0 7 rfl rfl)
theorem dX0_gcd_10 : decode cX0_gcd 10 = .ok (.lstore 6, 2) := dk_55 6 (dk_at dksX0_gcd_0 10 rfl rfl)
theorem dX0_gcd_12 : decode cX0_gcd 12 = .ok (.lload 6, 2) := dk_22 6 (dk_at dksX0_gcd_0 12 rfl rfl)
theorem dX0_gcd_14 : decode cX0_gcd 14 = .ok (.lconst 0, 1) := dk_9 (dk_at dksX0_gcd_0 14 rfl rfl)
theorem dX0_gcd_15 : decode cX0_gcd 15 = .ok (.lcmp, 1) := dk_148 (dk_at dksX0_gcd_0 15 rfl rfl)
theorem dX0_gcd_16 : decode cX0_gcd 16 = .ok (.ifCond .eq 21, 3) := dk_153 0 21 (dk_at dksX0_gcd_0 16 rfl rfl)
theorem dX0_gcd_19 : decode cX0_gcd 19 = .ok (.lload 4, 2) := dk_22 4 (dk_at dksX0_gcd_0 19 rfl rfl)
theorem dX0_gcd_21 : decode cX0_gcd 21 = .ok (.lload 6, 2) := dk_22 6 (dk_at dksX0_gcd_0 21 rfl rfl)
theorem dX0_gcd_23 : decode cX0_gcd 23 = .ok (.lrem, 1) := dk_113 (dk_at dksX0_gcd_0 23 rfl rfl)
theorem dX0_gcd_24 : decode cX0_gcd 24 = .ok (.lstore 8, 2) := dk_55 8 (dk_at dksX0_gcd_1 0 rfl rfl)
theorem dX0_gcd_26 : decode cX0_gcd 26 = .ok (.lload 6, 2) := dk_22 6 (dk_at dksX0_gcd_1 2 rfl rfl)
theorem dX0_gcd_28 : decode cX0_gcd 28 = .ok (.lstore 4, 2) := dk_55 4 (dk_at dksX0_gcd_1 4 rfl rfl)
theorem dX0_gcd_30 : decode cX0_gcd 30 = .ok (.lload 8, 2) := dk_22 8 (dk_at dksX0_gcd_1 6 rfl rfl)
theorem dX0_gcd_32 : decode cX0_gcd 32 = .ok (.lstore 6, 2) := dk_55 6 (dk_at dksX0_gcd_1 8 rfl rfl)
theorem dX0_gcd_34 : decode cX0_gcd 34 = .ok (.goto (-22), 3) := dk_167 255 234 (dk_at dksX0_gcd_1 10 rfl rfl)
theorem dX0_gcd_37 : decode cX0_gcd 37 = .ok (.lload 4, 2) := dk_22 4 (dk_at dksX0_gcd_1 13 rfl rfl)
theorem dX0_gcd_39 : decode cX0_gcd 39 = .ok (.lreturn, 1) := dk_173 (dk_at dksX0_gcd_1 15 rfl rfl)
abbrev cX0_world : ByteArray := prog_1_method_17_code
def yX0_world : MethodName := ⟨RX0, "world", "(II)I"⟩
def dkwX0_world_0 : List UInt8 := [42, 42, 27, 28, 182, 0, 153, 182, 0, 156, 172]
abbrev dktX0_world_0 : List UInt8 := dkwX0_world_0 ++ []
theorem dksX0_world_0 : cX0_world.data.toList.drop 0 = dktX0_world_0 := by decide +kernel
theorem dX0_world_0 : decode cX0_world 0 = .ok (.aload_n 0, 1) := dk_42 (dk_at dksX0_world_0 0 rfl rfl)
theorem dX0_world_1 : decode cX0_world 1 = .ok (.aload_n 0, 1) := dk_42 (dk_at dksX0_world_0 1 rfl rfl)
theorem dX0_world_2 : decode cX0_world 2 = .ok (.iload_n 1, 1) := dk_27 (dk_at dksX0_world_0 2 rfl rfl)
theorem dX0_world_3 : decode cX0_world 3 = .ok (.iload_n 2, 1) := dk_28 (dk_at dksX0_world_0 3 rfl rfl)
theorem dX0_world_4 : decode cX0_world 4 = .ok (.invokevirtual 153, 3) := dk_182 0 153 (dk_at dksX0_world_0 4 rfl rfl)
theorem dX0_world_7 : decode cX0_world 7 = .ok (.invokevirtual 156, 3) := dk_182 0 156 (dk_at dksX0_world_0 7 rfl rfl)
theorem dX0_world_10 : decode cX0_world 10 = .ok (.ireturn, 1) := dk_172 (dk_at dksX0_world_0 10 rfl rfl)
abbrev cX0_worldTo : ByteArray := prog_1_method_16_code
def yX0_worldTo : MethodName := ⟨RX0, "worldTo", "(II)I"⟩
def dkwX0_worldTo_5 : List UInt8 := [181, 0, 137, 29, 172]
abbrev dktX0_worldTo_5 : List UInt8 := dkwX0_worldTo_5 ++ []
def dkwX0_worldTo_4 : List UInt8 := [136, 79, 132, 7, 1, 167, 255, 213, 42, 180, 0, 33, 25, 4, 181, 0, 150, 42, 180, 0, 33, 28]
abbrev dktX0_worldTo_4 : List UInt8 := dkwX0_worldTo_4 ++ dktX0_worldTo_5
def dkwX0_worldTo_3 : List UInt8 := [20, 0, 142, 97, 20, 0, 144, 113, 55, 5, 25, 4, 21, 7, 22, 5, 20, 0, 146, 109, 20, 0, 148, 113]
abbrev dktX0_worldTo_3 : List UInt8 := dkwX0_worldTo_3 ++ dktX0_worldTo_4
def dkwX0_worldTo_2 : List UInt8 := [58, 4, 27, 133, 55, 5, 3, 54, 7, 21, 7, 25, 4, 190, 162, 0, 41, 22, 5, 20, 0, 140, 105]
abbrev dktX0_worldTo_2 : List UInt8 := dkwX0_worldTo_2 ++ dktX0_worldTo_3
def dkwX0_worldTo_1 : List UInt8 := [154, 0, 6, 16, 254, 172, 42, 182, 0, 134, 42, 180, 0, 33, 180, 0, 137, 62, 16, 6, 28, 104, 188, 10]
abbrev dktX0_worldTo_1 : List UInt8 := dkwX0_worldTo_1 ++ dktX0_worldTo_2
def dkwX0_worldTo_0 : List UInt8 := [27, 133, 9, 20, 0, 128, 184, 0, 98, 153, 0, 17, 28, 133, 20, 0, 130, 20, 0, 132, 184, 0, 98]
abbrev dktX0_worldTo_0 : List UInt8 := dkwX0_worldTo_0 ++ dktX0_worldTo_1
theorem dksX0_worldTo_0 : cX0_worldTo.data.toList.drop 0 = dktX0_worldTo_0 := by decide +kernel
theorem dksX0_worldTo_1 : cX0_worldTo.data.toList.drop 23 = dktX0_worldTo_1 := dk_seg dksX0_worldTo_0 23 rfl rfl
theorem dksX0_worldTo_2 : cX0_worldTo.data.toList.drop 47 = dktX0_worldTo_2 := dk_seg dksX0_worldTo_1 24 rfl rfl
theorem dksX0_worldTo_3 : cX0_worldTo.data.toList.drop 70 = dktX0_worldTo_3 := dk_seg dksX0_worldTo_2 23 rfl rfl
theorem dksX0_worldTo_4 : cX0_worldTo.data.toList.drop 94 = dktX0_worldTo_4 := dk_seg dksX0_worldTo_3 24 rfl rfl
theorem dksX0_worldTo_5 : cX0_worldTo.data.toList.drop 116 = dktX0_worldTo_5 := dk_seg dksX0_worldTo_4 22 rfl rfl
theorem dX0_worldTo_0 : decode cX0_worldTo 0 = .ok (.iload_n 1, 1) := dk_27 (dk_at dksX0_worldTo_0 0 rfl rfl)
theorem dX0_worldTo_1 : decode cX0_worldTo 1 = .ok (.i2l, 1) := dk_133 (dk_at dksX0_worldTo_0 1 rfl rfl)
theorem dX0_worldTo_2 : decode cX0_worldTo 2 = .ok (.lconst 0, 1) := dk_9 (dk_at dksX0_worldTo_0 2 rfl rfl)
theorem dX0_worldTo_3 : decode cX0_worldTo 3 = .ok (.ldc2_w 128, 3) := dk_20 0 128 (dk_at dksX0_worldTo_0 3 rfl rfl)
theorem dX0_worldTo_6 : decode cX0_worldTo 6 = .ok (.invokestatic 98, 3) := dk_184 0 98 (dk_at dksX0_worldTo_0 6 rfl rfl)
theorem dX0_worldTo_9 : decode cX0_worldTo 9 = .ok (.ifCond .eq 17, 3) := dk_153 0 17 (dk_at dksX0_worldTo_0 9 rfl rfl)
theorem dX0_worldTo_12 : decode cX0_worldTo 12 = .ok (.iload_n 2, 1) := dk_28 (dk_at dksX0_worldTo_0 12 rfl rfl)
theorem dX0_worldTo_13 : decode cX0_worldTo 13 = .ok (.i2l, 1) := dk_133 (dk_at dksX0_worldTo_0 13 rfl rfl)
theorem dX0_worldTo_14 : decode cX0_worldTo 14 = .ok (.ldc2_w 130, 3) := dk_20 0 130 (dk_at dksX0_worldTo_0 14 rfl rfl)
theorem dX0_worldTo_17 : decode cX0_worldTo 17 = .ok (.ldc2_w 132, 3) := dk_20 0 132 (dk_at dksX0_worldTo_0 17 rfl rfl)
theorem dX0_worldTo_20 : decode cX0_worldTo 20 = .ok (.invokestatic 98, 3) := dk_184 0 98 (dk_at dksX0_worldTo_0 20 rfl rfl)
theorem dX0_worldTo_23 : decode cX0_worldTo 23 = .ok (.ifCond .ne 6, 3) := dk_154 0 6 (dk_at dksX0_worldTo_1 0 rfl rfl)
theorem dX0_worldTo_26 : decode cX0_worldTo 26 = .ok (.bipush (-2), 2) := dk_16 254 (dk_at dksX0_worldTo_1 3 rfl rfl)
theorem dX0_worldTo_28 : decode cX0_worldTo 28 = .ok (.ireturn, 1) := dk_172 (dk_at dksX0_worldTo_1 5 rfl rfl)
theorem dX0_worldTo_29 : decode cX0_worldTo 29 = .ok (.aload_n 0, 1) := dk_42 (dk_at dksX0_worldTo_1 6 rfl rfl)
theorem dX0_worldTo_30 : decode cX0_worldTo 30 = .ok (.invokevirtual 134, 3) := dk_182 0 134 (dk_at dksX0_worldTo_1 7 rfl rfl)
theorem dX0_worldTo_33 : decode cX0_worldTo 33 = .ok (.aload_n 0, 1) := dk_42 (dk_at dksX0_worldTo_1 10 rfl rfl)
theorem dX0_worldTo_34 : decode cX0_worldTo 34 = .ok (.getfield 33, 3) := dk_180 0 33 (dk_at dksX0_worldTo_1 11 rfl rfl)
theorem dX0_worldTo_37 : decode cX0_worldTo 37 = .ok (.getfield 137, 3) := dk_180 0 137 (dk_at dksX0_worldTo_1 14 rfl rfl)
theorem dX0_worldTo_40 : decode cX0_worldTo 40 = .ok (.istore_n 3, 1) := dk_62 (dk_at dksX0_worldTo_1 17 rfl rfl)
theorem dX0_worldTo_41 : decode cX0_worldTo 41 = .ok (.bipush 6, 2) := dk_16 6 (dk_at dksX0_worldTo_1 18 rfl rfl)
theorem dX0_worldTo_43 : decode cX0_worldTo 43 = .ok (.iload_n 2, 1) := dk_28 (dk_at dksX0_worldTo_1 20 rfl rfl)
theorem dX0_worldTo_44 : decode cX0_worldTo 44 = .ok (.imul, 1) := dk_104 (dk_at dksX0_worldTo_1 21 rfl rfl)
theorem dX0_worldTo_45 : decode cX0_worldTo 45 = .ok (.newarray .int, 2) := dk_188_10 (dk_at dksX0_worldTo_1 22 rfl rfl)
theorem dX0_worldTo_47 : decode cX0_worldTo 47 = .ok (.astore 4, 2) := dk_58 4 (dk_at dksX0_worldTo_2 0 rfl rfl)
theorem dX0_worldTo_49 : decode cX0_worldTo 49 = .ok (.iload_n 1, 1) := dk_27 (dk_at dksX0_worldTo_2 2 rfl rfl)
theorem dX0_worldTo_50 : decode cX0_worldTo 50 = .ok (.i2l, 1) := dk_133 (dk_at dksX0_worldTo_2 3 rfl rfl)
theorem dX0_worldTo_51 : decode cX0_worldTo 51 = .ok (.lstore 5, 2) := dk_55 5 (dk_at dksX0_worldTo_2 4 rfl rfl)
theorem dX0_worldTo_53 : decode cX0_worldTo 53 = .ok (.iconst 0, 1) := dk_3 (dk_at dksX0_worldTo_2 6 rfl rfl)
theorem dX0_worldTo_54 : decode cX0_worldTo 54 = .ok (.istore 7, 2) := dk_54 7 (dk_at dksX0_worldTo_2 7 rfl rfl)
theorem dX0_worldTo_56 : decode cX0_worldTo 56 = .ok (.iload 7, 2) := dk_21 7 (dk_at dksX0_worldTo_2 9 rfl rfl)
theorem dX0_worldTo_58 : decode cX0_worldTo 58 = .ok (.aload 4, 2) := dk_25 4 (dk_at dksX0_worldTo_2 11 rfl rfl)
theorem dX0_worldTo_60 : decode cX0_worldTo 60 = .ok (.arraylength, 1) := dk_190 (dk_at dksX0_worldTo_2 13 rfl rfl)
theorem dX0_worldTo_61 : decode cX0_worldTo 61 = .ok (.if_icmp .ge 41, 3) := dk_162 0 41 (dk_at dksX0_worldTo_2 14 rfl rfl)
theorem dX0_worldTo_64 : decode cX0_worldTo 64 = .ok (.lload 5, 2) := dk_22 5 (dk_at dksX0_worldTo_2 17 rfl rfl)
theorem dX0_worldTo_66 : decode cX0_worldTo 66 = .ok (.ldc2_w 140, 3) := dk_20 0 140 (dk_at dksX0_worldTo_2 19 rfl rfl)
theorem dX0_worldTo_69 : decode cX0_worldTo 69 = .ok (.lmul, 1) := dk_105 (dk_at dksX0_worldTo_2 22 rfl rfl)
theorem dX0_worldTo_70 : decode cX0_worldTo 70 = .ok (.ldc2_w 142, 3) := dk_20 0 142 (dk_at dksX0_worldTo_3 0 rfl rfl)
theorem dX0_worldTo_73 : decode cX0_worldTo 73 = .ok (.ladd, 1) := dk_97 (dk_at dksX0_worldTo_3 3 rfl rfl)
theorem dX0_worldTo_74 : decode cX0_worldTo 74 = .ok (.ldc2_w 144, 3) := dk_20 0 144 (dk_at dksX0_worldTo_3 4 rfl rfl)
theorem dX0_worldTo_77 : decode cX0_worldTo 77 = .ok (.lrem, 1) := dk_113 (dk_at dksX0_worldTo_3 7 rfl rfl)
theorem dX0_worldTo_78 : decode cX0_worldTo 78 = .ok (.lstore 5, 2) := dk_55 5 (dk_at dksX0_worldTo_3 8 rfl rfl)
theorem dX0_worldTo_80 : decode cX0_worldTo 80 = .ok (.aload 4, 2) := dk_25 4 (dk_at dksX0_worldTo_3 10 rfl rfl)
theorem dX0_worldTo_82 : decode cX0_worldTo 82 = .ok (.iload 7, 2) := dk_21 7 (dk_at dksX0_worldTo_3 12 rfl rfl)
theorem dX0_worldTo_84 : decode cX0_worldTo 84 = .ok (.lload 5, 2) := dk_22 5 (dk_at dksX0_worldTo_3 14 rfl rfl)
theorem dX0_worldTo_86 : decode cX0_worldTo 86 = .ok (.ldc2_w 146, 3) := dk_20 0 146 (dk_at dksX0_worldTo_3 16 rfl rfl)
theorem dX0_worldTo_89 : decode cX0_worldTo 89 = .ok (.ldiv, 1) := dk_109 (dk_at dksX0_worldTo_3 19 rfl rfl)
theorem dX0_worldTo_90 : decode cX0_worldTo 90 = .ok (.ldc2_w 148, 3) := dk_20 0 148 (dk_at dksX0_worldTo_3 20 rfl rfl)
theorem dX0_worldTo_93 : decode cX0_worldTo 93 = .ok (.lrem, 1) := dk_113 (dk_at dksX0_worldTo_3 23 rfl rfl)
theorem dX0_worldTo_94 : decode cX0_worldTo 94 = .ok (.l2i, 1) := dk_136 (dk_at dksX0_worldTo_4 0 rfl rfl)
theorem dX0_worldTo_95 : decode cX0_worldTo 95 = .ok (.iastore, 1) := dk_79 (dk_at dksX0_worldTo_4 1 rfl rfl)
theorem dX0_worldTo_96 : decode cX0_worldTo 96 = .ok (.iinc 7 1, 3) := dk_132 7 1 (dk_at dksX0_worldTo_4 2 rfl rfl)
theorem dX0_worldTo_99 : decode cX0_worldTo 99 = .ok (.goto (-43), 3) := dk_167 255 213 (dk_at dksX0_worldTo_4 5 rfl rfl)
theorem dX0_worldTo_102 : decode cX0_worldTo 102 = .ok (.aload_n 0, 1) := dk_42 (dk_at dksX0_worldTo_4 8 rfl rfl)
theorem dX0_worldTo_103 : decode cX0_worldTo 103 = .ok (.getfield 33, 3) := dk_180 0 33 (dk_at dksX0_worldTo_4 9 rfl rfl)
theorem dX0_worldTo_106 : decode cX0_worldTo 106 = .ok (.aload 4, 2) := dk_25 4 (dk_at dksX0_worldTo_4 12 rfl rfl)
theorem dX0_worldTo_108 : decode cX0_worldTo 108 = .ok (.putfield 150, 3) := dk_181 0 150 (dk_at dksX0_worldTo_4 14 rfl rfl)
theorem dX0_worldTo_111 : decode cX0_worldTo 111 = .ok (.aload_n 0, 1) := dk_42 (dk_at dksX0_worldTo_4 17 rfl rfl)
theorem dX0_worldTo_112 : decode cX0_worldTo 112 = .ok (.getfield 33, 3) := dk_180 0 33 (dk_at dksX0_worldTo_4 18 rfl rfl)
theorem dX0_worldTo_115 : decode cX0_worldTo 115 = .ok (.iload_n 2, 1) := dk_28 (dk_at dksX0_worldTo_4 21 rfl rfl)
theorem dX0_worldTo_116 : decode cX0_worldTo 116 = .ok (.putfield 137, 3) := dk_181 0 137 (dk_at dksX0_worldTo_5 0 rfl rfl)
theorem dX0_worldTo_119 : decode cX0_worldTo 119 = .ok (.iload_n 3, 1) := dk_29 (dk_at dksX0_worldTo_5 3 rfl rfl)
theorem dX0_worldTo_120 : decode cX0_worldTo 120 = .ok (.ireturn, 1) := dk_172 (dk_at dksX0_worldTo_5 4 rfl rfl)
abbrev cX0_in : ByteArray := prog_1_method_1_code
def yX0_in : MethodName := ⟨RX0, "in", "(JJJ)Z"⟩
def dkwX0_in_0 : List UInt8 := [30, 32, 148, 155, 0, 14, 30, 22, 4, 148, 157, 0, 7, 4, 167, 0, 4, 3, 172]
abbrev dktX0_in_0 : List UInt8 := dkwX0_in_0 ++ []
theorem dksX0_in_0 : cX0_in.data.toList.drop 0 = dktX0_in_0 := by decide +kernel
theorem dX0_in_0 : decode cX0_in 0 = .ok (.lload_n 0, 1) := dk_30 (dk_at dksX0_in_0 0 rfl rfl)
theorem dX0_in_1 : decode cX0_in 1 = .ok (.lload_n 2, 1) := dk_32 (dk_at dksX0_in_0 1 rfl rfl)
theorem dX0_in_2 : decode cX0_in 2 = .ok (.lcmp, 1) := dk_148 (dk_at dksX0_in_0 2 rfl rfl)
theorem dX0_in_3 : decode cX0_in 3 = .ok (.ifCond .lt 14, 3) := dk_155 0 14 (dk_at dksX0_in_0 3 rfl rfl)
theorem dX0_in_6 : decode cX0_in 6 = .ok (.lload_n 0, 1) := dk_30 (dk_at dksX0_in_0 6 rfl rfl)
theorem dX0_in_7 : decode cX0_in 7 = .ok (.lload 4, 2) := dk_22 4 (dk_at dksX0_in_0 7 rfl rfl)
theorem dX0_in_9 : decode cX0_in 9 = .ok (.lcmp, 1) := dk_148 (dk_at dksX0_in_0 9 rfl rfl)
theorem dX0_in_10 : decode cX0_in 10 = .ok (.ifCond .gt 7, 3) := dk_157 0 7 (dk_at dksX0_in_0 10 rfl rfl)
theorem dX0_in_13 : decode cX0_in 13 = .ok (.iconst 1, 1) := dk_4 (dk_at dksX0_in_0 13 rfl rfl)
theorem dX0_in_14 : decode cX0_in 14 = .ok (.goto 4, 3) := dk_167 0 4 (dk_at dksX0_in_0 14 rfl rfl)
theorem dX0_in_17 : decode cX0_in 17 = .ok (.iconst 0, 1) := dk_3 (dk_at dksX0_in_0 17 rfl rfl)
theorem dX0_in_18 : decode cX0_in 18 = .ok (.ireturn, 1) := dk_172 (dk_at dksX0_in_0 18 rfl rfl)
abbrev cX0_leaves : ByteArray := prog_1_method_15_code
def yX0_leaves : MethodName := ⟨RX0, "leaves", "()V"⟩
def dkwX0_leaves_3 : List UInt8 := [50, 42, 180, 0, 33, 182, 0, 124, 42, 89, 180, 0, 117, 4, 96, 181, 0, 117, 177]
abbrev dktX0_leaves_3 : List UInt8 := dkwX0_leaves_3 ++ []
def dkwX0_leaves_2 : List UInt8 := [180, 0, 46, 7, 43, 83, 42, 89, 180, 0, 117, 4, 100, 181, 0, 117, 42, 180, 0, 46, 42, 180, 0, 117]
abbrev dktX0_leaves_2 : List UInt8 := dkwX0_leaves_2 ++ dktX0_leaves_3
def dkwX0_leaves_1 : List UInt8 := [42, 180, 0, 46, 3, 50, 76, 42, 180, 0, 46, 4, 42, 180, 0, 46, 3, 7, 184, 0, 118, 42]
abbrev dktX0_leaves_1 : List UInt8 := dkwX0_leaves_1 ++ dktX0_leaves_2
def dkwX0_leaves_0 : List UInt8 := [42, 180, 0, 64, 4, 181, 0, 110, 42, 180, 0, 114, 153, 0, 4, 177, 42, 180, 0, 117, 8, 160, 0, 41]
abbrev dktX0_leaves_0 : List UInt8 := dkwX0_leaves_0 ++ dktX0_leaves_1
theorem dksX0_leaves_0 : cX0_leaves.data.toList.drop 0 = dktX0_leaves_0 := by decide +kernel
theorem dksX0_leaves_1 : cX0_leaves.data.toList.drop 24 = dktX0_leaves_1 := dk_seg dksX0_leaves_0 24 rfl rfl
theorem dksX0_leaves_2 : cX0_leaves.data.toList.drop 46 = dktX0_leaves_2 := dk_seg dksX0_leaves_1 22 rfl rfl
theorem dksX0_leaves_3 : cX0_leaves.data.toList.drop 70 = dktX0_leaves_3 := dk_seg dksX0_leaves_2 24 rfl rfl
theorem dX0_leaves_0 : decode cX0_leaves 0 = .ok (.aload_n 0, 1) := dk_42 (dk_at dksX0_leaves_0 0 rfl rfl)
theorem dX0_leaves_1 : decode cX0_leaves 1 = .ok (.getfield 64, 3) := dk_180 0 64 (dk_at dksX0_leaves_0 1 rfl rfl)
theorem dX0_leaves_4 : decode cX0_leaves 4 = .ok (.iconst 1, 1) := dk_4 (dk_at dksX0_leaves_0 4 rfl rfl)
theorem dX0_leaves_5 : decode cX0_leaves 5 = .ok (.putfield 110, 3) := dk_181 0 110 (dk_at dksX0_leaves_0 5 rfl rfl)
theorem dX0_leaves_8 : decode cX0_leaves 8 = .ok (.aload_n 0, 1) := dk_42 (dk_at dksX0_leaves_0 8 rfl rfl)
theorem dX0_leaves_9 : decode cX0_leaves 9 = .ok (.getfield 114, 3) := dk_180 0 114 (dk_at dksX0_leaves_0 9 rfl rfl)
theorem dX0_leaves_12 : decode cX0_leaves 12 = .ok (.ifCond .eq 4, 3) := dk_153 0 4 (dk_at dksX0_leaves_0 12 rfl rfl)
theorem dX0_leaves_15 : decode cX0_leaves 15 = .ok (.return_, 1) := dk_177 (dk_at dksX0_leaves_0 15 rfl rfl)
theorem dX0_leaves_16 : decode cX0_leaves 16 = .ok (.aload_n 0, 1) := dk_42 (dk_at dksX0_leaves_0 16 rfl rfl)
theorem dX0_leaves_17 : decode cX0_leaves 17 = .ok (.getfield 117, 3) := dk_180 0 117 (dk_at dksX0_leaves_0 17 rfl rfl)
theorem dX0_leaves_20 : decode cX0_leaves 20 = .ok (.iconst 5, 1) := dk_8 (dk_at dksX0_leaves_0 20 rfl rfl)
theorem dX0_leaves_21 : decode cX0_leaves 21 = .ok (.if_icmp .ne 41, 3) := dk_160 0 41 (dk_at dksX0_leaves_0 21 rfl rfl)
theorem dX0_leaves_24 : decode cX0_leaves 24 = .ok (.aload_n 0, 1) := dk_42 (dk_at dksX0_leaves_1 0 rfl rfl)
theorem dX0_leaves_25 : decode cX0_leaves 25 = .ok (.getfield 46, 3) := dk_180 0 46 (dk_at dksX0_leaves_1 1 rfl rfl)
theorem dX0_leaves_28 : decode cX0_leaves 28 = .ok (.iconst 0, 1) := dk_3 (dk_at dksX0_leaves_1 4 rfl rfl)
theorem dX0_leaves_29 : decode cX0_leaves 29 = .ok (.aaload, 1) := dk_50 (dk_at dksX0_leaves_1 5 rfl rfl)
theorem dX0_leaves_30 : decode cX0_leaves 30 = .ok (.astore_n 1, 1) := dk_76 (dk_at dksX0_leaves_1 6 rfl rfl)
theorem dX0_leaves_31 : decode cX0_leaves 31 = .ok (.aload_n 0, 1) := dk_42 (dk_at dksX0_leaves_1 7 rfl rfl)
theorem dX0_leaves_32 : decode cX0_leaves 32 = .ok (.getfield 46, 3) := dk_180 0 46 (dk_at dksX0_leaves_1 8 rfl rfl)
theorem dX0_leaves_35 : decode cX0_leaves 35 = .ok (.iconst 1, 1) := dk_4 (dk_at dksX0_leaves_1 11 rfl rfl)
theorem dX0_leaves_36 : decode cX0_leaves 36 = .ok (.aload_n 0, 1) := dk_42 (dk_at dksX0_leaves_1 12 rfl rfl)
theorem dX0_leaves_37 : decode cX0_leaves 37 = .ok (.getfield 46, 3) := dk_180 0 46 (dk_at dksX0_leaves_1 13 rfl rfl)
theorem dX0_leaves_40 : decode cX0_leaves 40 = .ok (.iconst 0, 1) := dk_3 (dk_at dksX0_leaves_1 16 rfl rfl)
theorem dX0_leaves_41 : decode cX0_leaves 41 = .ok (.iconst 4, 1) := dk_7 (dk_at dksX0_leaves_1 17 rfl rfl)
theorem dX0_leaves_42 : decode cX0_leaves 42 = .ok (.invokestatic 118, 3) := dk_184 0 118 (dk_at dksX0_leaves_1 18 rfl rfl)
theorem dX0_leaves_45 : decode cX0_leaves 45 = .ok (.aload_n 0, 1) := dk_42 (dk_at dksX0_leaves_1 21 rfl rfl)
theorem dX0_leaves_46 : decode cX0_leaves 46 = .ok (.getfield 46, 3) := dk_180 0 46 (dk_at dksX0_leaves_2 0 rfl rfl)
theorem dX0_leaves_49 : decode cX0_leaves 49 = .ok (.iconst 4, 1) := dk_7 (dk_at dksX0_leaves_2 3 rfl rfl)
theorem dX0_leaves_50 : decode cX0_leaves 50 = .ok (.aload_n 1, 1) := dk_43 (dk_at dksX0_leaves_2 4 rfl rfl)
theorem dX0_leaves_51 : decode cX0_leaves 51 = .ok (.aastore, 1) := dk_83 (dk_at dksX0_leaves_2 5 rfl rfl)
theorem dX0_leaves_52 : decode cX0_leaves 52 = .ok (.aload_n 0, 1) := dk_42 (dk_at dksX0_leaves_2 6 rfl rfl)
theorem dX0_leaves_53 : decode cX0_leaves 53 = .ok (.dup, 1) := dk_89 (dk_at dksX0_leaves_2 7 rfl rfl)
theorem dX0_leaves_54 : decode cX0_leaves 54 = .ok (.getfield 117, 3) := dk_180 0 117 (dk_at dksX0_leaves_2 8 rfl rfl)
theorem dX0_leaves_57 : decode cX0_leaves 57 = .ok (.iconst 1, 1) := dk_4 (dk_at dksX0_leaves_2 11 rfl rfl)
theorem dX0_leaves_58 : decode cX0_leaves 58 = .ok (.isub, 1) := dk_100 (dk_at dksX0_leaves_2 12 rfl rfl)
theorem dX0_leaves_59 : decode cX0_leaves 59 = .ok (.putfield 117, 3) := dk_181 0 117 (dk_at dksX0_leaves_2 13 rfl rfl)
theorem dX0_leaves_62 : decode cX0_leaves 62 = .ok (.aload_n 0, 1) := dk_42 (dk_at dksX0_leaves_2 16 rfl rfl)
theorem dX0_leaves_63 : decode cX0_leaves 63 = .ok (.getfield 46, 3) := dk_180 0 46 (dk_at dksX0_leaves_2 17 rfl rfl)
theorem dX0_leaves_66 : decode cX0_leaves 66 = .ok (.aload_n 0, 1) := dk_42 (dk_at dksX0_leaves_2 20 rfl rfl)
theorem dX0_leaves_67 : decode cX0_leaves 67 = .ok (.getfield 117, 3) := dk_180 0 117 (dk_at dksX0_leaves_2 21 rfl rfl)
theorem dX0_leaves_70 : decode cX0_leaves 70 = .ok (.aaload, 1) := dk_50 (dk_at dksX0_leaves_3 0 rfl rfl)
theorem dX0_leaves_71 : decode cX0_leaves 71 = .ok (.aload_n 0, 1) := dk_42 (dk_at dksX0_leaves_3 1 rfl rfl)
theorem dX0_leaves_72 : decode cX0_leaves 72 = .ok (.getfield 33, 3) := dk_180 0 33 (dk_at dksX0_leaves_3 2 rfl rfl)
theorem dX0_leaves_75 : decode cX0_leaves 75 = .ok (.invokevirtual 124, 3) := dk_182 0 124 (dk_at dksX0_leaves_3 5 rfl rfl)
theorem dX0_leaves_78 : decode cX0_leaves 78 = .ok (.aload_n 0, 1) := dk_42 (dk_at dksX0_leaves_3 8 rfl rfl)
theorem dX0_leaves_79 : decode cX0_leaves 79 = .ok (.dup, 1) := dk_89 (dk_at dksX0_leaves_3 9 rfl rfl)
theorem dX0_leaves_80 : decode cX0_leaves 80 = .ok (.getfield 117, 3) := dk_180 0 117 (dk_at dksX0_leaves_3 10 rfl rfl)
theorem dX0_leaves_83 : decode cX0_leaves 83 = .ok (.iconst 1, 1) := dk_4 (dk_at dksX0_leaves_3 13 rfl rfl)
theorem dX0_leaves_84 : decode cX0_leaves 84 = .ok (.iadd, 1) := dk_96 (dk_at dksX0_leaves_3 14 rfl rfl)
theorem dX0_leaves_85 : decode cX0_leaves 85 = .ok (.putfield 117, 3) := dk_181 0 117 (dk_at dksX0_leaves_3 15 rfl rfl)
theorem dX0_leaves_88 : decode cX0_leaves 88 = .ok (.return_, 1) := dk_177 (dk_at dksX0_leaves_3 18 rfl rfl)
abbrev cX0_counted : ByteArray := prog_1_method_11_code
def yX0_counted : MethodName := ⟨RX0, "counted", "(I)I"⟩
def dkwX0_counted_1 : List UInt8 := [182, 0, 86, 167, 0, 4, 27, 172]
abbrev dktX0_counted_1 : List UInt8 := dkwX0_counted_1 ++ []
def dkwX0_counted_0 : List UInt8 := [27, 16, 254, 160, 0, 10, 42, 182, 0, 90, 167, 0, 20, 27, 16, 252, 160, 0, 13, 42, 5, 16, 252]
abbrev dktX0_counted_0 : List UInt8 := dkwX0_counted_0 ++ dktX0_counted_1
theorem dksX0_counted_0 : cX0_counted.data.toList.drop 0 = dktX0_counted_0 := by decide +kernel
theorem dksX0_counted_1 : cX0_counted.data.toList.drop 23 = dktX0_counted_1 := dk_seg dksX0_counted_0 23 rfl rfl
theorem dX0_counted_0 : decode cX0_counted 0 = .ok (.iload_n 1, 1) := dk_27 (dk_at dksX0_counted_0 0 rfl rfl)
theorem dX0_counted_1 : decode cX0_counted 1 = .ok (.bipush (-2), 2) := dk_16 254 (dk_at dksX0_counted_0 1 rfl rfl)
theorem dX0_counted_3 : decode cX0_counted 3 = .ok (.if_icmp .ne 10, 3) := dk_160 0 10 (dk_at dksX0_counted_0 3 rfl rfl)
theorem dX0_counted_6 : decode cX0_counted 6 = .ok (.aload_n 0, 1) := dk_42 (dk_at dksX0_counted_0 6 rfl rfl)
theorem dX0_counted_7 : decode cX0_counted 7 = .ok (.invokevirtual 90, 3) := dk_182 0 90 (dk_at dksX0_counted_0 7 rfl rfl)
theorem dX0_counted_10 : decode cX0_counted 10 = .ok (.goto 20, 3) := dk_167 0 20 (dk_at dksX0_counted_0 10 rfl rfl)
theorem dX0_counted_13 : decode cX0_counted 13 = .ok (.iload_n 1, 1) := dk_27 (dk_at dksX0_counted_0 13 rfl rfl)
theorem dX0_counted_14 : decode cX0_counted 14 = .ok (.bipush (-4), 2) := dk_16 252 (dk_at dksX0_counted_0 14 rfl rfl)
theorem dX0_counted_16 : decode cX0_counted 16 = .ok (.if_icmp .ne 13, 3) := dk_160 0 13 (dk_at dksX0_counted_0 16 rfl rfl)
theorem dX0_counted_19 : decode cX0_counted 19 = .ok (.aload_n 0, 1) := dk_42 (dk_at dksX0_counted_0 19 rfl rfl)
theorem dX0_counted_20 : decode cX0_counted 20 = .ok (.iconst 2, 1) := dk_5 (dk_at dksX0_counted_0 20 rfl rfl)
theorem dX0_counted_21 : decode cX0_counted 21 = .ok (.bipush (-4), 2) := dk_16 252 (dk_at dksX0_counted_0 21 rfl rfl)
theorem dX0_counted_23 : decode cX0_counted 23 = .ok (.invokevirtual 86, 3) := dk_182 0 86 (dk_at dksX0_counted_1 0 rfl rfl)
theorem dX0_counted_26 : decode cX0_counted 26 = .ok (.goto 4, 3) := dk_167 0 4 (dk_at dksX0_counted_1 3 rfl rfl)
theorem dX0_counted_29 : decode cX0_counted 29 = .ok (.iload_n 1, 1) := dk_27 (dk_at dksX0_counted_1 6 rfl rfl)
theorem dX0_counted_30 : decode cX0_counted 30 = .ok (.ireturn, 1) := dk_172 (dk_at dksX0_counted_1 7 rfl rfl)
abbrev cX0_bad : ByteArray := prog_1_method_9_code
def yX0_bad : MethodName := ⟨RX0, "bad", "()I"⟩
def dkwX0_bad_0 : List UInt8 := [42, 3, 16, 254, 182, 0, 86, 172]
abbrev dktX0_bad_0 : List UInt8 := dkwX0_bad_0 ++ []
theorem dksX0_bad_0 : cX0_bad.data.toList.drop 0 = dktX0_bad_0 := by decide +kernel
theorem dX0_bad_0 : decode cX0_bad 0 = .ok (.aload_n 0, 1) := dk_42 (dk_at dksX0_bad_0 0 rfl rfl)
theorem dX0_bad_1 : decode cX0_bad 1 = .ok (.iconst 0, 1) := dk_3 (dk_at dksX0_bad_0 1 rfl rfl)
theorem dX0_bad_2 : decode cX0_bad 2 = .ok (.bipush (-2), 2) := dk_16 254 (dk_at dksX0_bad_0 2 rfl rfl)
theorem dX0_bad_4 : decode cX0_bad 4 = .ok (.invokevirtual 86, 3) := dk_182 0 86 (dk_at dksX0_bad_0 4 rfl rfl)
theorem dX0_bad_7 : decode cX0_bad 7 = .ok (.ireturn, 1) := dk_172 (dk_at dksX0_bad_0 7 rfl rfl)
abbrev cX0_refuses : ByteArray := prog_1_method_8_code
def yX0_refuses : MethodName := ⟨RX0, "refuses", "(II)I"⟩
def dkwX0_refuses_0 : List UInt8 := [42, 180, 0, 76, 27, 92, 46, 4, 96, 79, 28, 172]
abbrev dktX0_refuses_0 : List UInt8 := dkwX0_refuses_0 ++ []
theorem dksX0_refuses_0 : cX0_refuses.data.toList.drop 0 = dktX0_refuses_0 := by decide +kernel
theorem dX0_refuses_0 : decode cX0_refuses 0 = .ok (.aload_n 0, 1) := dk_42 (dk_at dksX0_refuses_0 0 rfl rfl)
theorem dX0_refuses_1 : decode cX0_refuses 1 = .ok (.getfield 76, 3) := dk_180 0 76 (dk_at dksX0_refuses_0 1 rfl rfl)
theorem dX0_refuses_4 : decode cX0_refuses 4 = .ok (.iload_n 1, 1) := dk_27 (dk_at dksX0_refuses_0 4 rfl rfl)
theorem dX0_refuses_5 : decode cX0_refuses 5 = .ok (.dup2, 1) := dk_92 (dk_at dksX0_refuses_0 5 rfl rfl)
theorem dX0_refuses_6 : decode cX0_refuses 6 = .ok (.iaload, 1) := dk_46 (dk_at dksX0_refuses_0 6 rfl rfl)
theorem dX0_refuses_7 : decode cX0_refuses 7 = .ok (.iconst 1, 1) := dk_4 (dk_at dksX0_refuses_0 7 rfl rfl)
theorem dX0_refuses_8 : decode cX0_refuses 8 = .ok (.iadd, 1) := dk_96 (dk_at dksX0_refuses_0 8 rfl rfl)
theorem dX0_refuses_9 : decode cX0_refuses 9 = .ok (.iastore, 1) := dk_79 (dk_at dksX0_refuses_0 9 rfl rfl)
theorem dX0_refuses_10 : decode cX0_refuses 10 = .ok (.iload_n 2, 1) := dk_28 (dk_at dksX0_refuses_0 10 rfl rfl)
theorem dX0_refuses_11 : decode cX0_refuses 11 = .ok (.ireturn, 1) := dk_172 (dk_at dksX0_refuses_0 11 rfl rfl)
abbrev cX0_dots : ByteArray := prog_1_method_20_code
def yX0_dots : MethodName := ⟨RX0, "dots", "(III)I"⟩
def dkwX0_dots_0 : List UInt8 := [42, 42, 27, 28, 29, 182, 0, 173, 182, 0, 156, 172]
abbrev dktX0_dots_0 : List UInt8 := dkwX0_dots_0 ++ []
theorem dksX0_dots_0 : cX0_dots.data.toList.drop 0 = dktX0_dots_0 := by decide +kernel
theorem dX0_dots_0 : decode cX0_dots 0 = .ok (.aload_n 0, 1) := dk_42 (dk_at dksX0_dots_0 0 rfl rfl)
theorem dX0_dots_1 : decode cX0_dots 1 = .ok (.aload_n 0, 1) := dk_42 (dk_at dksX0_dots_0 1 rfl rfl)
theorem dX0_dots_2 : decode cX0_dots 2 = .ok (.iload_n 1, 1) := dk_27 (dk_at dksX0_dots_0 2 rfl rfl)
theorem dX0_dots_3 : decode cX0_dots 3 = .ok (.iload_n 2, 1) := dk_28 (dk_at dksX0_dots_0 3 rfl rfl)
theorem dX0_dots_4 : decode cX0_dots 4 = .ok (.iload_n 3, 1) := dk_29 (dk_at dksX0_dots_0 4 rfl rfl)
theorem dX0_dots_5 : decode cX0_dots 5 = .ok (.invokevirtual 173, 3) := dk_182 0 173 (dk_at dksX0_dots_0 5 rfl rfl)
theorem dX0_dots_8 : decode cX0_dots 8 = .ok (.invokevirtual 156, 3) := dk_182 0 156 (dk_at dksX0_dots_0 8 rfl rfl)
theorem dX0_dots_11 : decode cX0_dots 11 = .ok (.ireturn, 1) := dk_172 (dk_at dksX0_dots_0 11 rfl rfl)
abbrev cX0_dotsTo : ByteArray := prog_1_method_19_code
def yX0_dotsTo : MethodName := ⟨RX0, "dotsTo", "(III)I"⟩
def dkwX0_dotsTo_3 : List UInt8 := [181, 0, 150, 21, 5, 172]
abbrev dktX0_dotsTo_3 : List UInt8 := dkwX0_dotsTo_3 ++ []
def dkwX0_dotsTo_2 : List UInt8 := [104, 27, 96, 46, 54, 5, 25, 4, 16, 6, 28, 104, 27, 96, 29, 79, 42, 180, 0, 33, 25, 4]
abbrev dktX0_dotsTo_2 : List UInt8 := dkwX0_dotsTo_2 ++ dktX0_dotsTo_3
def dkwX0_dotsTo_1 : List UInt8 := [42, 182, 0, 134, 42, 180, 0, 33, 180, 0, 150, 182, 0, 168, 192, 0, 169, 58, 4, 25, 4, 16, 6, 28]
abbrev dktX0_dotsTo_1 : List UInt8 := dkwX0_dotsTo_1 ++ dktX0_dotsTo_2
def dkwX0_dotsTo_0 : List UInt8 := [42, 27, 28, 182, 0, 162, 153, 0, 15, 29, 133, 9, 20, 0, 166, 184, 0, 98, 154, 0, 6, 16, 254, 172]
abbrev dktX0_dotsTo_0 : List UInt8 := dkwX0_dotsTo_0 ++ dktX0_dotsTo_1
theorem dksX0_dotsTo_0 : cX0_dotsTo.data.toList.drop 0 = dktX0_dotsTo_0 := by decide +kernel
theorem dksX0_dotsTo_1 : cX0_dotsTo.data.toList.drop 24 = dktX0_dotsTo_1 := dk_seg dksX0_dotsTo_0 24 rfl rfl
theorem dksX0_dotsTo_2 : cX0_dotsTo.data.toList.drop 48 = dktX0_dotsTo_2 := dk_seg dksX0_dotsTo_1 24 rfl rfl
theorem dksX0_dotsTo_3 : cX0_dotsTo.data.toList.drop 70 = dktX0_dotsTo_3 := dk_seg dksX0_dotsTo_2 22 rfl rfl
theorem dX0_dotsTo_0 : decode cX0_dotsTo 0 = .ok (.aload_n 0, 1) := dk_42 (dk_at dksX0_dotsTo_0 0 rfl rfl)
theorem dX0_dotsTo_1 : decode cX0_dotsTo 1 = .ok (.iload_n 1, 1) := dk_27 (dk_at dksX0_dotsTo_0 1 rfl rfl)
theorem dX0_dotsTo_2 : decode cX0_dotsTo 2 = .ok (.iload_n 2, 1) := dk_28 (dk_at dksX0_dotsTo_0 2 rfl rfl)
theorem dX0_dotsTo_3 : decode cX0_dotsTo 3 = .ok (.invokevirtual 162, 3) := dk_182 0 162 (dk_at dksX0_dotsTo_0 3 rfl rfl)
theorem dX0_dotsTo_6 : decode cX0_dotsTo 6 = .ok (.ifCond .eq 15, 3) := dk_153 0 15 (dk_at dksX0_dotsTo_0 6 rfl rfl)
theorem dX0_dotsTo_9 : decode cX0_dotsTo 9 = .ok (.iload_n 3, 1) := dk_29 (dk_at dksX0_dotsTo_0 9 rfl rfl)
theorem dX0_dotsTo_10 : decode cX0_dotsTo 10 = .ok (.i2l, 1) := dk_133 (dk_at dksX0_dotsTo_0 10 rfl rfl)
theorem dX0_dotsTo_11 : decode cX0_dotsTo 11 = .ok (.lconst 0, 1) := dk_9 (dk_at dksX0_dotsTo_0 11 rfl rfl)
theorem dX0_dotsTo_12 : decode cX0_dotsTo 12 = .ok (.ldc2_w 166, 3) := dk_20 0 166 (dk_at dksX0_dotsTo_0 12 rfl rfl)
theorem dX0_dotsTo_15 : decode cX0_dotsTo 15 = .ok (.invokestatic 98, 3) := dk_184 0 98 (dk_at dksX0_dotsTo_0 15 rfl rfl)
theorem dX0_dotsTo_18 : decode cX0_dotsTo 18 = .ok (.ifCond .ne 6, 3) := dk_154 0 6 (dk_at dksX0_dotsTo_0 18 rfl rfl)
theorem dX0_dotsTo_21 : decode cX0_dotsTo 21 = .ok (.bipush (-2), 2) := dk_16 254 (dk_at dksX0_dotsTo_0 21 rfl rfl)
theorem dX0_dotsTo_23 : decode cX0_dotsTo 23 = .ok (.ireturn, 1) := dk_172 (dk_at dksX0_dotsTo_0 23 rfl rfl)
theorem dX0_dotsTo_24 : decode cX0_dotsTo 24 = .ok (.aload_n 0, 1) := dk_42 (dk_at dksX0_dotsTo_1 0 rfl rfl)
theorem dX0_dotsTo_25 : decode cX0_dotsTo 25 = .ok (.invokevirtual 134, 3) := dk_182 0 134 (dk_at dksX0_dotsTo_1 1 rfl rfl)
theorem dX0_dotsTo_28 : decode cX0_dotsTo 28 = .ok (.aload_n 0, 1) := dk_42 (dk_at dksX0_dotsTo_1 4 rfl rfl)
theorem dX0_dotsTo_29 : decode cX0_dotsTo 29 = .ok (.getfield 33, 3) := dk_180 0 33 (dk_at dksX0_dotsTo_1 5 rfl rfl)
theorem dX0_dotsTo_32 : decode cX0_dotsTo 32 = .ok (.getfield 150, 3) := dk_180 0 150 (dk_at dksX0_dotsTo_1 8 rfl rfl)
theorem dX0_dotsTo_35 : decode cX0_dotsTo 35 = .ok (.invokevirtual 168, 3) := dk_182 0 168 (dk_at dksX0_dotsTo_1 11 rfl rfl)
theorem dX0_dotsTo_38 : decode cX0_dotsTo 38 = .ok (.checkcast 169, 3) := dk_192 0 169 (dk_at dksX0_dotsTo_1 14 rfl rfl)
theorem dX0_dotsTo_41 : decode cX0_dotsTo 41 = .ok (.astore 4, 2) := dk_58 4 (dk_at dksX0_dotsTo_1 17 rfl rfl)
theorem dX0_dotsTo_43 : decode cX0_dotsTo 43 = .ok (.aload 4, 2) := dk_25 4 (dk_at dksX0_dotsTo_1 19 rfl rfl)
theorem dX0_dotsTo_45 : decode cX0_dotsTo 45 = .ok (.bipush 6, 2) := dk_16 6 (dk_at dksX0_dotsTo_1 21 rfl rfl)
theorem dX0_dotsTo_47 : decode cX0_dotsTo 47 = .ok (.iload_n 2, 1) := dk_28 (dk_at dksX0_dotsTo_1 23 rfl rfl)
theorem dX0_dotsTo_48 : decode cX0_dotsTo 48 = .ok (.imul, 1) := dk_104 (dk_at dksX0_dotsTo_2 0 rfl rfl)
theorem dX0_dotsTo_49 : decode cX0_dotsTo 49 = .ok (.iload_n 1, 1) := dk_27 (dk_at dksX0_dotsTo_2 1 rfl rfl)
theorem dX0_dotsTo_50 : decode cX0_dotsTo 50 = .ok (.iadd, 1) := dk_96 (dk_at dksX0_dotsTo_2 2 rfl rfl)
theorem dX0_dotsTo_51 : decode cX0_dotsTo 51 = .ok (.iaload, 1) := dk_46 (dk_at dksX0_dotsTo_2 3 rfl rfl)
theorem dX0_dotsTo_52 : decode cX0_dotsTo 52 = .ok (.istore 5, 2) := dk_54 5 (dk_at dksX0_dotsTo_2 4 rfl rfl)
theorem dX0_dotsTo_54 : decode cX0_dotsTo 54 = .ok (.aload 4, 2) := dk_25 4 (dk_at dksX0_dotsTo_2 6 rfl rfl)
theorem dX0_dotsTo_56 : decode cX0_dotsTo 56 = .ok (.bipush 6, 2) := dk_16 6 (dk_at dksX0_dotsTo_2 8 rfl rfl)
theorem dX0_dotsTo_58 : decode cX0_dotsTo 58 = .ok (.iload_n 2, 1) := dk_28 (dk_at dksX0_dotsTo_2 10 rfl rfl)
theorem dX0_dotsTo_59 : decode cX0_dotsTo 59 = .ok (.imul, 1) := dk_104 (dk_at dksX0_dotsTo_2 11 rfl rfl)
theorem dX0_dotsTo_60 : decode cX0_dotsTo 60 = .ok (.iload_n 1, 1) := dk_27 (dk_at dksX0_dotsTo_2 12 rfl rfl)
theorem dX0_dotsTo_61 : decode cX0_dotsTo 61 = .ok (.iadd, 1) := dk_96 (dk_at dksX0_dotsTo_2 13 rfl rfl)
theorem dX0_dotsTo_62 : decode cX0_dotsTo 62 = .ok (.iload_n 3, 1) := dk_29 (dk_at dksX0_dotsTo_2 14 rfl rfl)
theorem dX0_dotsTo_63 : decode cX0_dotsTo 63 = .ok (.iastore, 1) := dk_79 (dk_at dksX0_dotsTo_2 15 rfl rfl)
theorem dX0_dotsTo_64 : decode cX0_dotsTo 64 = .ok (.aload_n 0, 1) := dk_42 (dk_at dksX0_dotsTo_2 16 rfl rfl)
theorem dX0_dotsTo_65 : decode cX0_dotsTo 65 = .ok (.getfield 33, 3) := dk_180 0 33 (dk_at dksX0_dotsTo_2 17 rfl rfl)
theorem dX0_dotsTo_68 : decode cX0_dotsTo 68 = .ok (.aload 4, 2) := dk_25 4 (dk_at dksX0_dotsTo_2 20 rfl rfl)
theorem dX0_dotsTo_70 : decode cX0_dotsTo 70 = .ok (.putfield 150, 3) := dk_181 0 150 (dk_at dksX0_dotsTo_3 0 rfl rfl)
theorem dX0_dotsTo_73 : decode cX0_dotsTo 73 = .ok (.iload 5, 2) := dk_21 5 (dk_at dksX0_dotsTo_3 3 rfl rfl)
theorem dX0_dotsTo_75 : decode cX0_dotsTo 75 = .ok (.ireturn, 1) := dk_172 (dk_at dksX0_dotsTo_3 5 rfl rfl)
abbrev cX0_isDot : ByteArray := prog_1_method_18_code
def yX0_isDot : MethodName := ⟨RX0, "isDot", "(II)Z"⟩
def dkwX0_isDot_1 : List UInt8 := [133, 184, 0, 98, 153, 0, 7, 4, 167, 0, 4, 3, 172]
abbrev dktX0_isDot_1 : List UInt8 := dkwX0_isDot_1 ++ []
def dkwX0_isDot_0 : List UInt8 := [27, 133, 9, 20, 0, 160, 184, 0, 98, 153, 0, 26, 28, 133, 9, 42, 180, 0, 33, 180, 0, 137, 4, 100]
abbrev dktX0_isDot_0 : List UInt8 := dkwX0_isDot_0 ++ dktX0_isDot_1
theorem dksX0_isDot_0 : cX0_isDot.data.toList.drop 0 = dktX0_isDot_0 := by decide +kernel
theorem dksX0_isDot_1 : cX0_isDot.data.toList.drop 24 = dktX0_isDot_1 := dk_seg dksX0_isDot_0 24 rfl rfl
theorem dX0_isDot_0 : decode cX0_isDot 0 = .ok (.iload_n 1, 1) := dk_27 (dk_at dksX0_isDot_0 0 rfl rfl)
theorem dX0_isDot_1 : decode cX0_isDot 1 = .ok (.i2l, 1) := dk_133 (dk_at dksX0_isDot_0 1 rfl rfl)
theorem dX0_isDot_2 : decode cX0_isDot 2 = .ok (.lconst 0, 1) := dk_9 (dk_at dksX0_isDot_0 2 rfl rfl)
theorem dX0_isDot_3 : decode cX0_isDot 3 = .ok (.ldc2_w 160, 3) := dk_20 0 160 (dk_at dksX0_isDot_0 3 rfl rfl)
theorem dX0_isDot_6 : decode cX0_isDot 6 = .ok (.invokestatic 98, 3) := dk_184 0 98 (dk_at dksX0_isDot_0 6 rfl rfl)
theorem dX0_isDot_9 : decode cX0_isDot 9 = .ok (.ifCond .eq 26, 3) := dk_153 0 26 (dk_at dksX0_isDot_0 9 rfl rfl)
theorem dX0_isDot_12 : decode cX0_isDot 12 = .ok (.iload_n 2, 1) := dk_28 (dk_at dksX0_isDot_0 12 rfl rfl)
theorem dX0_isDot_13 : decode cX0_isDot 13 = .ok (.i2l, 1) := dk_133 (dk_at dksX0_isDot_0 13 rfl rfl)
theorem dX0_isDot_14 : decode cX0_isDot 14 = .ok (.lconst 0, 1) := dk_9 (dk_at dksX0_isDot_0 14 rfl rfl)
theorem dX0_isDot_15 : decode cX0_isDot 15 = .ok (.aload_n 0, 1) := dk_42 (dk_at dksX0_isDot_0 15 rfl rfl)
theorem dX0_isDot_16 : decode cX0_isDot 16 = .ok (.getfield 33, 3) := dk_180 0 33 (dk_at dksX0_isDot_0 16 rfl rfl)
theorem dX0_isDot_19 : decode cX0_isDot 19 = .ok (.getfield 137, 3) := dk_180 0 137 (dk_at dksX0_isDot_0 19 rfl rfl)
theorem dX0_isDot_22 : decode cX0_isDot 22 = .ok (.iconst 1, 1) := dk_4 (dk_at dksX0_isDot_0 22 rfl rfl)
theorem dX0_isDot_23 : decode cX0_isDot 23 = .ok (.isub, 1) := dk_100 (dk_at dksX0_isDot_0 23 rfl rfl)
theorem dX0_isDot_24 : decode cX0_isDot 24 = .ok (.i2l, 1) := dk_133 (dk_at dksX0_isDot_1 0 rfl rfl)
theorem dX0_isDot_25 : decode cX0_isDot 25 = .ok (.invokestatic 98, 3) := dk_184 0 98 (dk_at dksX0_isDot_1 1 rfl rfl)
theorem dX0_isDot_28 : decode cX0_isDot 28 = .ok (.ifCond .eq 7, 3) := dk_153 0 7 (dk_at dksX0_isDot_1 4 rfl rfl)
theorem dX0_isDot_31 : decode cX0_isDot 31 = .ok (.iconst 1, 1) := dk_4 (dk_at dksX0_isDot_1 7 rfl rfl)
theorem dX0_isDot_32 : decode cX0_isDot 32 = .ok (.goto 4, 3) := dk_167 0 4 (dk_at dksX0_isDot_1 8 rfl rfl)
theorem dX0_isDot_35 : decode cX0_isDot 35 = .ok (.iconst 0, 1) := dk_3 (dk_at dksX0_isDot_1 11 rfl rfl)
theorem dX0_isDot_36 : decode cX0_isDot 36 = .ok (.ireturn, 1) := dk_172 (dk_at dksX0_isDot_1 12 rfl rfl)
abbrev cX0_shot : ByteArray := prog_1_method_22_code
def yX0_shot : MethodName := ⟨RX0, "shot", "(III)I"⟩
def dkwX0_shot_0 : List UInt8 := [42, 42, 27, 28, 29, 182, 0, 194, 182, 0, 156, 172]
abbrev dktX0_shot_0 : List UInt8 := dkwX0_shot_0 ++ []
theorem dksX0_shot_0 : cX0_shot.data.toList.drop 0 = dktX0_shot_0 := by decide +kernel
theorem dX0_shot_0 : decode cX0_shot 0 = .ok (.aload_n 0, 1) := dk_42 (dk_at dksX0_shot_0 0 rfl rfl)
theorem dX0_shot_1 : decode cX0_shot 1 = .ok (.aload_n 0, 1) := dk_42 (dk_at dksX0_shot_0 1 rfl rfl)
theorem dX0_shot_2 : decode cX0_shot 2 = .ok (.iload_n 1, 1) := dk_27 (dk_at dksX0_shot_0 2 rfl rfl)
theorem dX0_shot_3 : decode cX0_shot 3 = .ok (.iload_n 2, 1) := dk_28 (dk_at dksX0_shot_0 3 rfl rfl)
theorem dX0_shot_4 : decode cX0_shot 4 = .ok (.iload_n 3, 1) := dk_29 (dk_at dksX0_shot_0 4 rfl rfl)
theorem dX0_shot_5 : decode cX0_shot 5 = .ok (.invokevirtual 194, 3) := dk_182 0 194 (dk_at dksX0_shot_0 5 rfl rfl)
theorem dX0_shot_8 : decode cX0_shot 8 = .ok (.invokevirtual 156, 3) := dk_182 0 156 (dk_at dksX0_shot_0 8 rfl rfl)
theorem dX0_shot_11 : decode cX0_shot 11 = .ok (.ireturn, 1) := dk_172 (dk_at dksX0_shot_0 11 rfl rfl)
abbrev cX0_shotTo : ByteArray := prog_1_method_21_code
def yX0_shotTo : MethodName := ⟨RX0, "shotTo", "(III)I"⟩
def dkwX0_shotTo_8 : List UInt8 := [181, 0, 94, 42, 180, 0, 33, 180, 0, 94, 4, 100, 172]
abbrev dktX0_shotTo_8 : List UInt8 := dkwX0_shotTo_8 ++ []
def dkwX0_shotTo_7 : List UInt8 := [28, 42, 180, 0, 33, 180, 0, 137, 183, 0, 191, 83, 42, 180, 0, 33, 89, 180, 0, 94, 4, 96]
abbrev dktX0_shotTo_7 : List UInt8 := dkwX0_shotTo_7 ++ dktX0_shotTo_8
def dkwX0_shotTo_6 : List UInt8 := [167, 255, 194, 42, 180, 0, 33, 180, 0, 185, 42, 180, 0, 33, 180, 0, 94, 187, 0, 189, 89, 25, 4, 27]
abbrev dktX0_shotTo_6 : List UInt8 := dkwX0_shotTo_6 ++ dktX0_shotTo_7
def dkwX0_shotTo_5 : List UInt8 := [104, 28, 96, 21, 5, 16, 8, 108, 96, 46, 29, 96, 133, 16, 63, 184, 0, 181, 79, 132, 5, 1]
abbrev dktX0_shotTo_5 : List UInt8 := dkwX0_shotTo_5 ++ dktX0_shotTo_6
def dkwX0_shotTo_4 : List UInt8 := [180, 0, 33, 180, 0, 137, 112, 54, 6, 25, 4, 21, 5, 42, 180, 0, 33, 180, 0, 150, 16, 6, 21, 6]
abbrev dktX0_shotTo_4 : List UInt8 := dkwX0_shotTo_4 ++ dktX0_shotTo_5
def dkwX0_shotTo_3 : List UInt8 := [188, 10, 58, 4, 3, 54, 5, 21, 5, 25, 4, 190, 162, 0, 60, 27, 21, 5, 16, 8, 112, 96, 42]
abbrev dktX0_shotTo_3 : List UInt8 := dkwX0_shotTo_3 ++ dktX0_shotTo_4
def dkwX0_shotTo_2 : List UInt8 := [16, 254, 172, 42, 180, 0, 33, 180, 0, 94, 16, 6, 160, 0, 6, 16, 252, 172, 42, 182, 0, 134, 16, 32]
abbrev dktX0_shotTo_2 : List UInt8 := dkwX0_shotTo_2 ++ dktX0_shotTo_3
def dkwX0_shotTo_1 : List UInt8 := [20, 0, 106, 184, 0, 98, 153, 0, 17, 29, 133, 20, 0, 177, 20, 0, 179, 184, 0, 98, 154, 0, 6]
abbrev dktX0_shotTo_1 : List UInt8 := dkwX0_shotTo_1 ++ dktX0_shotTo_2
def dkwX0_shotTo_0 : List UInt8 := [27, 133, 9, 42, 180, 0, 33, 180, 0, 137, 4, 100, 133, 184, 0, 98, 153, 0, 29, 28, 133, 9]
abbrev dktX0_shotTo_0 : List UInt8 := dkwX0_shotTo_0 ++ dktX0_shotTo_1
theorem dksX0_shotTo_0 : cX0_shotTo.data.toList.drop 0 = dktX0_shotTo_0 := by decide +kernel
theorem dksX0_shotTo_1 : cX0_shotTo.data.toList.drop 22 = dktX0_shotTo_1 := dk_seg dksX0_shotTo_0 22 rfl rfl
theorem dksX0_shotTo_2 : cX0_shotTo.data.toList.drop 45 = dktX0_shotTo_2 := dk_seg dksX0_shotTo_1 23 rfl rfl
theorem dksX0_shotTo_3 : cX0_shotTo.data.toList.drop 69 = dktX0_shotTo_3 := dk_seg dksX0_shotTo_2 24 rfl rfl
theorem dksX0_shotTo_4 : cX0_shotTo.data.toList.drop 92 = dktX0_shotTo_4 := dk_seg dksX0_shotTo_3 23 rfl rfl
theorem dksX0_shotTo_5 : cX0_shotTo.data.toList.drop 116 = dktX0_shotTo_5 := dk_seg dksX0_shotTo_4 24 rfl rfl
theorem dksX0_shotTo_6 : cX0_shotTo.data.toList.drop 138 = dktX0_shotTo_6 := dk_seg dksX0_shotTo_5 22 rfl rfl
theorem dksX0_shotTo_7 : cX0_shotTo.data.toList.drop 162 = dktX0_shotTo_7 := dk_seg dksX0_shotTo_6 24 rfl rfl
theorem dksX0_shotTo_8 : cX0_shotTo.data.toList.drop 184 = dktX0_shotTo_8 := dk_seg dksX0_shotTo_7 22 rfl rfl
theorem dX0_shotTo_0 : decode cX0_shotTo 0 = .ok (.iload_n 1, 1) := dk_27 (dk_at dksX0_shotTo_0 0 rfl rfl)
theorem dX0_shotTo_1 : decode cX0_shotTo 1 = .ok (.i2l, 1) := dk_133 (dk_at dksX0_shotTo_0 1 rfl rfl)
theorem dX0_shotTo_2 : decode cX0_shotTo 2 = .ok (.lconst 0, 1) := dk_9 (dk_at dksX0_shotTo_0 2 rfl rfl)
theorem dX0_shotTo_3 : decode cX0_shotTo 3 = .ok (.aload_n 0, 1) := dk_42 (dk_at dksX0_shotTo_0 3 rfl rfl)
theorem dX0_shotTo_4 : decode cX0_shotTo 4 = .ok (.getfield 33, 3) := dk_180 0 33 (dk_at dksX0_shotTo_0 4 rfl rfl)
theorem dX0_shotTo_7 : decode cX0_shotTo 7 = .ok (.getfield 137, 3) := dk_180 0 137 (dk_at dksX0_shotTo_0 7 rfl rfl)
theorem dX0_shotTo_10 : decode cX0_shotTo 10 = .ok (.iconst 1, 1) := dk_4 (dk_at dksX0_shotTo_0 10 rfl rfl)
theorem dX0_shotTo_11 : decode cX0_shotTo 11 = .ok (.isub, 1) := dk_100 (dk_at dksX0_shotTo_0 11 rfl rfl)
theorem dX0_shotTo_12 : decode cX0_shotTo 12 = .ok (.i2l, 1) := dk_133 (dk_at dksX0_shotTo_0 12 rfl rfl)
theorem dX0_shotTo_13 : decode cX0_shotTo 13 = .ok (.invokestatic 98, 3) := dk_184 0 98 (dk_at dksX0_shotTo_0 13 rfl rfl)
theorem dX0_shotTo_16 : decode cX0_shotTo 16 = .ok (.ifCond .eq 29, 3) := dk_153 0 29 (dk_at dksX0_shotTo_0 16 rfl rfl)
theorem dX0_shotTo_19 : decode cX0_shotTo 19 = .ok (.iload_n 2, 1) := dk_28 (dk_at dksX0_shotTo_0 19 rfl rfl)
theorem dX0_shotTo_20 : decode cX0_shotTo 20 = .ok (.i2l, 1) := dk_133 (dk_at dksX0_shotTo_0 20 rfl rfl)
theorem dX0_shotTo_21 : decode cX0_shotTo 21 = .ok (.lconst 0, 1) := dk_9 (dk_at dksX0_shotTo_0 21 rfl rfl)
theorem dX0_shotTo_22 : decode cX0_shotTo 22 = .ok (.ldc2_w 106, 3) := dk_20 0 106 (dk_at dksX0_shotTo_1 0 rfl rfl)
theorem dX0_shotTo_25 : decode cX0_shotTo 25 = .ok (.invokestatic 98, 3) := dk_184 0 98 (dk_at dksX0_shotTo_1 3 rfl rfl)
theorem dX0_shotTo_28 : decode cX0_shotTo 28 = .ok (.ifCond .eq 17, 3) := dk_153 0 17 (dk_at dksX0_shotTo_1 6 rfl rfl)
theorem dX0_shotTo_31 : decode cX0_shotTo 31 = .ok (.iload_n 3, 1) := dk_29 (dk_at dksX0_shotTo_1 9 rfl rfl)
theorem dX0_shotTo_32 : decode cX0_shotTo 32 = .ok (.i2l, 1) := dk_133 (dk_at dksX0_shotTo_1 10 rfl rfl)
theorem dX0_shotTo_33 : decode cX0_shotTo 33 = .ok (.ldc2_w 177, 3) := dk_20 0 177 (dk_at dksX0_shotTo_1 11 rfl rfl)
theorem dX0_shotTo_36 : decode cX0_shotTo 36 = .ok (.ldc2_w 179, 3) := dk_20 0 179 (dk_at dksX0_shotTo_1 14 rfl rfl)
theorem dX0_shotTo_39 : decode cX0_shotTo 39 = .ok (.invokestatic 98, 3) := dk_184 0 98 (dk_at dksX0_shotTo_1 17 rfl rfl)
theorem dX0_shotTo_42 : decode cX0_shotTo 42 = .ok (.ifCond .ne 6, 3) := dk_154 0 6 (dk_at dksX0_shotTo_1 20 rfl rfl)
theorem dX0_shotTo_45 : decode cX0_shotTo 45 = .ok (.bipush (-2), 2) := dk_16 254 (dk_at dksX0_shotTo_2 0 rfl rfl)
theorem dX0_shotTo_47 : decode cX0_shotTo 47 = .ok (.ireturn, 1) := dk_172 (dk_at dksX0_shotTo_2 2 rfl rfl)
theorem dX0_shotTo_48 : decode cX0_shotTo 48 = .ok (.aload_n 0, 1) := dk_42 (dk_at dksX0_shotTo_2 3 rfl rfl)
theorem dX0_shotTo_49 : decode cX0_shotTo 49 = .ok (.getfield 33, 3) := dk_180 0 33 (dk_at dksX0_shotTo_2 4 rfl rfl)
theorem dX0_shotTo_52 : decode cX0_shotTo 52 = .ok (.getfield 94, 3) := dk_180 0 94 (dk_at dksX0_shotTo_2 7 rfl rfl)
theorem dX0_shotTo_55 : decode cX0_shotTo 55 = .ok (.bipush 6, 2) := dk_16 6 (dk_at dksX0_shotTo_2 10 rfl rfl)
theorem dX0_shotTo_57 : decode cX0_shotTo 57 = .ok (.if_icmp .ne 6, 3) := dk_160 0 6 (dk_at dksX0_shotTo_2 12 rfl rfl)
theorem dX0_shotTo_60 : decode cX0_shotTo 60 = .ok (.bipush (-4), 2) := dk_16 252 (dk_at dksX0_shotTo_2 15 rfl rfl)
theorem dX0_shotTo_62 : decode cX0_shotTo 62 = .ok (.ireturn, 1) := dk_172 (dk_at dksX0_shotTo_2 17 rfl rfl)
theorem dX0_shotTo_63 : decode cX0_shotTo 63 = .ok (.aload_n 0, 1) := dk_42 (dk_at dksX0_shotTo_2 18 rfl rfl)
theorem dX0_shotTo_64 : decode cX0_shotTo 64 = .ok (.invokevirtual 134, 3) := dk_182 0 134 (dk_at dksX0_shotTo_2 19 rfl rfl)
theorem dX0_shotTo_67 : decode cX0_shotTo 67 = .ok (.bipush 32, 2) := dk_16 32 (dk_at dksX0_shotTo_2 22 rfl rfl)
theorem dX0_shotTo_69 : decode cX0_shotTo 69 = .ok (.newarray .int, 2) := dk_188_10 (dk_at dksX0_shotTo_3 0 rfl rfl)
theorem dX0_shotTo_71 : decode cX0_shotTo 71 = .ok (.astore 4, 2) := dk_58 4 (dk_at dksX0_shotTo_3 2 rfl rfl)
theorem dX0_shotTo_73 : decode cX0_shotTo 73 = .ok (.iconst 0, 1) := dk_3 (dk_at dksX0_shotTo_3 4 rfl rfl)
theorem dX0_shotTo_74 : decode cX0_shotTo 74 = .ok (.istore 5, 2) := dk_54 5 (dk_at dksX0_shotTo_3 5 rfl rfl)
theorem dX0_shotTo_76 : decode cX0_shotTo 76 = .ok (.iload 5, 2) := dk_21 5 (dk_at dksX0_shotTo_3 7 rfl rfl)
theorem dX0_shotTo_78 : decode cX0_shotTo 78 = .ok (.aload 4, 2) := dk_25 4 (dk_at dksX0_shotTo_3 9 rfl rfl)
theorem dX0_shotTo_80 : decode cX0_shotTo 80 = .ok (.arraylength, 1) := dk_190 (dk_at dksX0_shotTo_3 11 rfl rfl)
theorem dX0_shotTo_81 : decode cX0_shotTo 81 = .ok (.if_icmp .ge 60, 3) := dk_162 0 60 (dk_at dksX0_shotTo_3 12 rfl rfl)
theorem dX0_shotTo_84 : decode cX0_shotTo 84 = .ok (.iload_n 1, 1) := dk_27 (dk_at dksX0_shotTo_3 15 rfl rfl)
theorem dX0_shotTo_85 : decode cX0_shotTo 85 = .ok (.iload 5, 2) := dk_21 5 (dk_at dksX0_shotTo_3 16 rfl rfl)
theorem dX0_shotTo_87 : decode cX0_shotTo 87 = .ok (.bipush 8, 2) := dk_16 8 (dk_at dksX0_shotTo_3 18 rfl rfl)
theorem dX0_shotTo_89 : decode cX0_shotTo 89 = .ok (.irem, 1) := dk_112 (dk_at dksX0_shotTo_3 20 rfl rfl)
theorem dX0_shotTo_90 : decode cX0_shotTo 90 = .ok (.iadd, 1) := dk_96 (dk_at dksX0_shotTo_3 21 rfl rfl)
theorem dX0_shotTo_91 : decode cX0_shotTo 91 = .ok (.aload_n 0, 1) := dk_42 (dk_at dksX0_shotTo_3 22 rfl rfl)
theorem dX0_shotTo_92 : decode cX0_shotTo 92 = .ok (.getfield 33, 3) := dk_180 0 33 (dk_at dksX0_shotTo_4 0 rfl rfl)
theorem dX0_shotTo_95 : decode cX0_shotTo 95 = .ok (.getfield 137, 3) := dk_180 0 137 (dk_at dksX0_shotTo_4 3 rfl rfl)
theorem dX0_shotTo_98 : decode cX0_shotTo 98 = .ok (.irem, 1) := dk_112 (dk_at dksX0_shotTo_4 6 rfl rfl)
theorem dX0_shotTo_99 : decode cX0_shotTo 99 = .ok (.istore 6, 2) := dk_54 6 (dk_at dksX0_shotTo_4 7 rfl rfl)
theorem dX0_shotTo_101 : decode cX0_shotTo 101 = .ok (.aload 4, 2) := dk_25 4 (dk_at dksX0_shotTo_4 9 rfl rfl)
theorem dX0_shotTo_103 : decode cX0_shotTo 103 = .ok (.iload 5, 2) := dk_21 5 (dk_at dksX0_shotTo_4 11 rfl rfl)
theorem dX0_shotTo_105 : decode cX0_shotTo 105 = .ok (.aload_n 0, 1) := dk_42 (dk_at dksX0_shotTo_4 13 rfl rfl)
theorem dX0_shotTo_106 : decode cX0_shotTo 106 = .ok (.getfield 33, 3) := dk_180 0 33 (dk_at dksX0_shotTo_4 14 rfl rfl)
theorem dX0_shotTo_109 : decode cX0_shotTo 109 = .ok (.getfield 150, 3) := dk_180 0 150 (dk_at dksX0_shotTo_4 17 rfl rfl)
theorem dX0_shotTo_112 : decode cX0_shotTo 112 = .ok (.bipush 6, 2) := dk_16 6 (dk_at dksX0_shotTo_4 20 rfl rfl)
theorem dX0_shotTo_114 : decode cX0_shotTo 114 = .ok (.iload 6, 2) := dk_21 6 (dk_at dksX0_shotTo_4 22 rfl rfl)
theorem dX0_shotTo_116 : decode cX0_shotTo 116 = .ok (.imul, 1) := dk_104 (dk_at dksX0_shotTo_5 0 rfl rfl)
theorem dX0_shotTo_117 : decode cX0_shotTo 117 = .ok (.iload_n 2, 1) := dk_28 (dk_at dksX0_shotTo_5 1 rfl rfl)
theorem dX0_shotTo_118 : decode cX0_shotTo 118 = .ok (.iadd, 1) := dk_96 (dk_at dksX0_shotTo_5 2 rfl rfl)
theorem dX0_shotTo_119 : decode cX0_shotTo 119 = .ok (.iload 5, 2) := dk_21 5 (dk_at dksX0_shotTo_5 3 rfl rfl)
theorem dX0_shotTo_121 : decode cX0_shotTo 121 = .ok (.bipush 8, 2) := dk_16 8 (dk_at dksX0_shotTo_5 5 rfl rfl)
theorem dX0_shotTo_123 : decode cX0_shotTo 123 = .ok (.idiv, 1) := dk_108 (dk_at dksX0_shotTo_5 7 rfl rfl)
theorem dX0_shotTo_124 : decode cX0_shotTo 124 = .ok (.iadd, 1) := dk_96 (dk_at dksX0_shotTo_5 8 rfl rfl)
theorem dX0_shotTo_125 : decode cX0_shotTo 125 = .ok (.iaload, 1) := dk_46 (dk_at dksX0_shotTo_5 9 rfl rfl)
theorem dX0_shotTo_126 : decode cX0_shotTo 126 = .ok (.iload_n 3, 1) := dk_29 (dk_at dksX0_shotTo_5 10 rfl rfl)
theorem dX0_shotTo_127 : decode cX0_shotTo 127 = .ok (.iadd, 1) := dk_96 (dk_at dksX0_shotTo_5 11 rfl rfl)
theorem dX0_shotTo_128 : decode cX0_shotTo 128 = .ok (.i2l, 1) := dk_133 (dk_at dksX0_shotTo_5 12 rfl rfl)
theorem dX0_shotTo_129 : decode cX0_shotTo 129 = .ok (.bipush 63, 2) := dk_16 63 (dk_at dksX0_shotTo_5 13 rfl rfl)
theorem dX0_shotTo_131 : decode cX0_shotTo 131 = .ok (.invokestatic 181, 3) := dk_184 0 181 (dk_at dksX0_shotTo_5 15 rfl rfl)
theorem dX0_shotTo_134 : decode cX0_shotTo 134 = .ok (.iastore, 1) := dk_79 (dk_at dksX0_shotTo_5 18 rfl rfl)
theorem dX0_shotTo_135 : decode cX0_shotTo 135 = .ok (.iinc 5 1, 3) := dk_132 5 1 (dk_at dksX0_shotTo_5 19 rfl rfl)
theorem dX0_shotTo_138 : decode cX0_shotTo 138 = .ok (.goto (-62), 3) := dk_167 255 194 (dk_at dksX0_shotTo_6 0 rfl rfl)
theorem dX0_shotTo_141 : decode cX0_shotTo 141 = .ok (.aload_n 0, 1) := dk_42 (dk_at dksX0_shotTo_6 3 rfl rfl)
theorem dX0_shotTo_142 : decode cX0_shotTo 142 = .ok (.getfield 33, 3) := dk_180 0 33 (dk_at dksX0_shotTo_6 4 rfl rfl)
theorem dX0_shotTo_145 : decode cX0_shotTo 145 = .ok (.getfield 185, 3) := dk_180 0 185 (dk_at dksX0_shotTo_6 7 rfl rfl)
theorem dX0_shotTo_148 : decode cX0_shotTo 148 = .ok (.aload_n 0, 1) := dk_42 (dk_at dksX0_shotTo_6 10 rfl rfl)
theorem dX0_shotTo_149 : decode cX0_shotTo 149 = .ok (.getfield 33, 3) := dk_180 0 33 (dk_at dksX0_shotTo_6 11 rfl rfl)
theorem dX0_shotTo_152 : decode cX0_shotTo 152 = .ok (.getfield 94, 3) := dk_180 0 94 (dk_at dksX0_shotTo_6 14 rfl rfl)
theorem dX0_shotTo_155 : decode cX0_shotTo 155 = .ok (.new 189, 3) := dk_187 0 189 (dk_at dksX0_shotTo_6 17 rfl rfl)
theorem dX0_shotTo_158 : decode cX0_shotTo 158 = .ok (.dup, 1) := dk_89 (dk_at dksX0_shotTo_6 20 rfl rfl)
theorem dX0_shotTo_159 : decode cX0_shotTo 159 = .ok (.aload 4, 2) := dk_25 4 (dk_at dksX0_shotTo_6 21 rfl rfl)
theorem dX0_shotTo_161 : decode cX0_shotTo 161 = .ok (.iload_n 1, 1) := dk_27 (dk_at dksX0_shotTo_6 23 rfl rfl)
theorem dX0_shotTo_162 : decode cX0_shotTo 162 = .ok (.iload_n 2, 1) := dk_28 (dk_at dksX0_shotTo_7 0 rfl rfl)
theorem dX0_shotTo_163 : decode cX0_shotTo 163 = .ok (.aload_n 0, 1) := dk_42 (dk_at dksX0_shotTo_7 1 rfl rfl)
theorem dX0_shotTo_164 : decode cX0_shotTo 164 = .ok (.getfield 33, 3) := dk_180 0 33 (dk_at dksX0_shotTo_7 2 rfl rfl)
theorem dX0_shotTo_167 : decode cX0_shotTo 167 = .ok (.getfield 137, 3) := dk_180 0 137 (dk_at dksX0_shotTo_7 5 rfl rfl)
theorem dX0_shotTo_170 : decode cX0_shotTo 170 = .ok (.invokespecial 191, 3) := dk_183 0 191 (dk_at dksX0_shotTo_7 8 rfl rfl)
theorem dX0_shotTo_173 : decode cX0_shotTo 173 = .ok (.aastore, 1) := dk_83 (dk_at dksX0_shotTo_7 11 rfl rfl)
theorem dX0_shotTo_174 : decode cX0_shotTo 174 = .ok (.aload_n 0, 1) := dk_42 (dk_at dksX0_shotTo_7 12 rfl rfl)
theorem dX0_shotTo_175 : decode cX0_shotTo 175 = .ok (.getfield 33, 3) := dk_180 0 33 (dk_at dksX0_shotTo_7 13 rfl rfl)
theorem dX0_shotTo_178 : decode cX0_shotTo 178 = .ok (.dup, 1) := dk_89 (dk_at dksX0_shotTo_7 16 rfl rfl)
theorem dX0_shotTo_179 : decode cX0_shotTo 179 = .ok (.getfield 94, 3) := dk_180 0 94 (dk_at dksX0_shotTo_7 17 rfl rfl)
theorem dX0_shotTo_182 : decode cX0_shotTo 182 = .ok (.iconst 1, 1) := dk_4 (dk_at dksX0_shotTo_7 20 rfl rfl)
theorem dX0_shotTo_183 : decode cX0_shotTo 183 = .ok (.iadd, 1) := dk_96 (dk_at dksX0_shotTo_7 21 rfl rfl)
theorem dX0_shotTo_184 : decode cX0_shotTo 184 = .ok (.putfield 94, 3) := dk_181 0 94 (dk_at dksX0_shotTo_8 0 rfl rfl)
theorem dX0_shotTo_187 : decode cX0_shotTo 187 = .ok (.aload_n 0, 1) := dk_42 (dk_at dksX0_shotTo_8 3 rfl rfl)
theorem dX0_shotTo_188 : decode cX0_shotTo 188 = .ok (.getfield 33, 3) := dk_180 0 33 (dk_at dksX0_shotTo_8 4 rfl rfl)
theorem dX0_shotTo_191 : decode cX0_shotTo 191 = .ok (.getfield 94, 3) := dk_180 0 94 (dk_at dksX0_shotTo_8 7 rfl rfl)
theorem dX0_shotTo_194 : decode cX0_shotTo 194 = .ok (.iconst 1, 1) := dk_4 (dk_at dksX0_shotTo_8 10 rfl rfl)
theorem dX0_shotTo_195 : decode cX0_shotTo 195 = .ok (.isub, 1) := dk_100 (dk_at dksX0_shotTo_8 11 rfl rfl)
theorem dX0_shotTo_196 : decode cX0_shotTo 196 = .ok (.ireturn, 1) := dk_172 (dk_at dksX0_shotTo_8 12 rfl rfl)
abbrev cX0_into : ByteArray := prog_1_method_2_code
def yX0_into : MethodName := ⟨RX0, "into", "(JI)I"⟩
def dkwX0_into_0 : List UInt8 := [9, 28, 133, 30, 184, 0, 1, 184, 0, 7, 136, 172]
abbrev dktX0_into_0 : List UInt8 := dkwX0_into_0 ++ []
theorem dksX0_into_0 : cX0_into.data.toList.drop 0 = dktX0_into_0 := by decide +kernel
theorem dX0_into_0 : decode cX0_into 0 = .ok (.lconst 0, 1) := dk_9 (dk_at dksX0_into_0 0 rfl rfl)
theorem dX0_into_1 : decode cX0_into 1 = .ok (.iload_n 2, 1) := dk_28 (dk_at dksX0_into_0 1 rfl rfl)
theorem dX0_into_2 : decode cX0_into 2 = .ok (.i2l, 1) := dk_133 (dk_at dksX0_into_0 2 rfl rfl)
theorem dX0_into_3 : decode cX0_into 3 = .ok (.lload_n 0, 1) := dk_30 (dk_at dksX0_into_0 3 rfl rfl)
theorem dX0_into_4 : decode cX0_into 4 = .ok (.invokestatic 1, 3) := dk_184 0 1 (dk_at dksX0_into_0 4 rfl rfl)
theorem dX0_into_7 : decode cX0_into 7 = .ok (.invokestatic 7, 3) := dk_184 0 7 (dk_at dksX0_into_0 7 rfl rfl)
theorem dX0_into_10 : decode cX0_into 10 = .ok (.l2i, 1) := dk_136 (dk_at dksX0_into_0 10 rfl rfl)
theorem dX0_into_11 : decode cX0_into 11 = .ok (.ireturn, 1) := dk_172 (dk_at dksX0_into_0 11 rfl rfl)
abbrev cX0_paint : ByteArray := prog_1_method_24_code
def yX0_paint : MethodName := ⟨RX0, "paint", "(IIII)I"⟩
def dkwX0_paint_0 : List UInt8 := [42, 42, 27, 28, 29, 21, 4, 182, 0, 210, 182, 0, 156, 172]
abbrev dktX0_paint_0 : List UInt8 := dkwX0_paint_0 ++ []
theorem dksX0_paint_0 : cX0_paint.data.toList.drop 0 = dktX0_paint_0 := by decide +kernel
theorem dX0_paint_0 : decode cX0_paint 0 = .ok (.aload_n 0, 1) := dk_42 (dk_at dksX0_paint_0 0 rfl rfl)
theorem dX0_paint_1 : decode cX0_paint 1 = .ok (.aload_n 0, 1) := dk_42 (dk_at dksX0_paint_0 1 rfl rfl)
theorem dX0_paint_2 : decode cX0_paint 2 = .ok (.iload_n 1, 1) := dk_27 (dk_at dksX0_paint_0 2 rfl rfl)
theorem dX0_paint_3 : decode cX0_paint 3 = .ok (.iload_n 2, 1) := dk_28 (dk_at dksX0_paint_0 3 rfl rfl)
theorem dX0_paint_4 : decode cX0_paint 4 = .ok (.iload_n 3, 1) := dk_29 (dk_at dksX0_paint_0 4 rfl rfl)
theorem dX0_paint_5 : decode cX0_paint 5 = .ok (.iload 4, 2) := dk_21 4 (dk_at dksX0_paint_0 5 rfl rfl)
theorem dX0_paint_7 : decode cX0_paint 7 = .ok (.invokevirtual 210, 3) := dk_182 0 210 (dk_at dksX0_paint_0 7 rfl rfl)
theorem dX0_paint_10 : decode cX0_paint 10 = .ok (.invokevirtual 156, 3) := dk_182 0 156 (dk_at dksX0_paint_0 10 rfl rfl)
theorem dX0_paint_13 : decode cX0_paint 13 = .ok (.ireturn, 1) := dk_172 (dk_at dksX0_paint_0 13 rfl rfl)
abbrev cX0_paintTo : ByteArray := prog_1_method_23_code
def yX0_paintTo : MethodName := ⟨RX0, "paintTo", "(IIII)I"⟩
def dkwX0_paintTo_3 : List UInt8 := [21, 4, 182, 0, 206, 83, 21, 5, 172]
abbrev dktX0_paintTo_3 : List UInt8 := dkwX0_paintTo_3 ++ []
def dkwX0_paintTo_2 : List UInt8 := [182, 0, 203, 54, 5, 42, 180, 0, 33, 180, 0, 185, 27, 42, 180, 0, 33, 180, 0, 185, 27, 50, 28, 29]
abbrev dktX0_paintTo_2 : List UInt8 := dkwX0_paintTo_2 ++ dktX0_paintTo_3
def dkwX0_paintTo_1 : List UInt8 := [184, 0, 98, 154, 0, 6, 16, 254, 172, 42, 182, 0, 134, 42, 180, 0, 33, 180, 0, 185, 27, 50, 28, 29]
abbrev dktX0_paintTo_1 : List UInt8 := dkwX0_paintTo_1 ++ dktX0_paintTo_2
def dkwX0_paintTo_0 : List UInt8 := [42, 27, 182, 0, 197, 153, 0, 24, 28, 29, 184, 0, 200, 153, 0, 16, 21, 4, 133, 9, 20, 0, 166]
abbrev dktX0_paintTo_0 : List UInt8 := dkwX0_paintTo_0 ++ dktX0_paintTo_1
theorem dksX0_paintTo_0 : cX0_paintTo.data.toList.drop 0 = dktX0_paintTo_0 := by decide +kernel
theorem dksX0_paintTo_1 : cX0_paintTo.data.toList.drop 23 = dktX0_paintTo_1 := dk_seg dksX0_paintTo_0 23 rfl rfl
theorem dksX0_paintTo_2 : cX0_paintTo.data.toList.drop 47 = dktX0_paintTo_2 := dk_seg dksX0_paintTo_1 24 rfl rfl
theorem dksX0_paintTo_3 : cX0_paintTo.data.toList.drop 71 = dktX0_paintTo_3 := dk_seg dksX0_paintTo_2 24 rfl rfl
theorem dX0_paintTo_0 : decode cX0_paintTo 0 = .ok (.aload_n 0, 1) := dk_42 (dk_at dksX0_paintTo_0 0 rfl rfl)
theorem dX0_paintTo_1 : decode cX0_paintTo 1 = .ok (.iload_n 1, 1) := dk_27 (dk_at dksX0_paintTo_0 1 rfl rfl)
theorem dX0_paintTo_2 : decode cX0_paintTo 2 = .ok (.invokevirtual 197, 3) := dk_182 0 197 (dk_at dksX0_paintTo_0 2 rfl rfl)
theorem dX0_paintTo_5 : decode cX0_paintTo 5 = .ok (.ifCond .eq 24, 3) := dk_153 0 24 (dk_at dksX0_paintTo_0 5 rfl rfl)
theorem dX0_paintTo_8 : decode cX0_paintTo 8 = .ok (.iload_n 2, 1) := dk_28 (dk_at dksX0_paintTo_0 8 rfl rfl)
theorem dX0_paintTo_9 : decode cX0_paintTo 9 = .ok (.iload_n 3, 1) := dk_29 (dk_at dksX0_paintTo_0 9 rfl rfl)
theorem dX0_paintTo_10 : decode cX0_paintTo 10 = .ok (.invokestatic 200, 3) := dk_184 0 200 (dk_at dksX0_paintTo_0 10 rfl rfl)
theorem dX0_paintTo_13 : decode cX0_paintTo 13 = .ok (.ifCond .eq 16, 3) := dk_153 0 16 (dk_at dksX0_paintTo_0 13 rfl rfl)
theorem dX0_paintTo_16 : decode cX0_paintTo 16 = .ok (.iload 4, 2) := dk_21 4 (dk_at dksX0_paintTo_0 16 rfl rfl)
theorem dX0_paintTo_18 : decode cX0_paintTo 18 = .ok (.i2l, 1) := dk_133 (dk_at dksX0_paintTo_0 18 rfl rfl)
theorem dX0_paintTo_19 : decode cX0_paintTo 19 = .ok (.lconst 0, 1) := dk_9 (dk_at dksX0_paintTo_0 19 rfl rfl)
theorem dX0_paintTo_20 : decode cX0_paintTo 20 = .ok (.ldc2_w 166, 3) := dk_20 0 166 (dk_at dksX0_paintTo_0 20 rfl rfl)
theorem dX0_paintTo_23 : decode cX0_paintTo 23 = .ok (.invokestatic 98, 3) := dk_184 0 98 (dk_at dksX0_paintTo_1 0 rfl rfl)
theorem dX0_paintTo_26 : decode cX0_paintTo 26 = .ok (.ifCond .ne 6, 3) := dk_154 0 6 (dk_at dksX0_paintTo_1 3 rfl rfl)
theorem dX0_paintTo_29 : decode cX0_paintTo 29 = .ok (.bipush (-2), 2) := dk_16 254 (dk_at dksX0_paintTo_1 6 rfl rfl)
theorem dX0_paintTo_31 : decode cX0_paintTo 31 = .ok (.ireturn, 1) := dk_172 (dk_at dksX0_paintTo_1 8 rfl rfl)
theorem dX0_paintTo_32 : decode cX0_paintTo 32 = .ok (.aload_n 0, 1) := dk_42 (dk_at dksX0_paintTo_1 9 rfl rfl)
theorem dX0_paintTo_33 : decode cX0_paintTo 33 = .ok (.invokevirtual 134, 3) := dk_182 0 134 (dk_at dksX0_paintTo_1 10 rfl rfl)
theorem dX0_paintTo_36 : decode cX0_paintTo 36 = .ok (.aload_n 0, 1) := dk_42 (dk_at dksX0_paintTo_1 13 rfl rfl)
theorem dX0_paintTo_37 : decode cX0_paintTo 37 = .ok (.getfield 33, 3) := dk_180 0 33 (dk_at dksX0_paintTo_1 14 rfl rfl)
theorem dX0_paintTo_40 : decode cX0_paintTo 40 = .ok (.getfield 185, 3) := dk_180 0 185 (dk_at dksX0_paintTo_1 17 rfl rfl)
theorem dX0_paintTo_43 : decode cX0_paintTo 43 = .ok (.iload_n 1, 1) := dk_27 (dk_at dksX0_paintTo_1 20 rfl rfl)
theorem dX0_paintTo_44 : decode cX0_paintTo 44 = .ok (.aaload, 1) := dk_50 (dk_at dksX0_paintTo_1 21 rfl rfl)
theorem dX0_paintTo_45 : decode cX0_paintTo 45 = .ok (.iload_n 2, 1) := dk_28 (dk_at dksX0_paintTo_1 22 rfl rfl)
theorem dX0_paintTo_46 : decode cX0_paintTo 46 = .ok (.iload_n 3, 1) := dk_29 (dk_at dksX0_paintTo_1 23 rfl rfl)
theorem dX0_paintTo_47 : decode cX0_paintTo 47 = .ok (.invokevirtual 203, 3) := dk_182 0 203 (dk_at dksX0_paintTo_2 0 rfl rfl)
theorem dX0_paintTo_50 : decode cX0_paintTo 50 = .ok (.istore 5, 2) := dk_54 5 (dk_at dksX0_paintTo_2 3 rfl rfl)
theorem dX0_paintTo_52 : decode cX0_paintTo 52 = .ok (.aload_n 0, 1) := dk_42 (dk_at dksX0_paintTo_2 5 rfl rfl)
theorem dX0_paintTo_53 : decode cX0_paintTo 53 = .ok (.getfield 33, 3) := dk_180 0 33 (dk_at dksX0_paintTo_2 6 rfl rfl)
theorem dX0_paintTo_56 : decode cX0_paintTo 56 = .ok (.getfield 185, 3) := dk_180 0 185 (dk_at dksX0_paintTo_2 9 rfl rfl)
theorem dX0_paintTo_59 : decode cX0_paintTo 59 = .ok (.iload_n 1, 1) := dk_27 (dk_at dksX0_paintTo_2 12 rfl rfl)
theorem dX0_paintTo_60 : decode cX0_paintTo 60 = .ok (.aload_n 0, 1) := dk_42 (dk_at dksX0_paintTo_2 13 rfl rfl)
theorem dX0_paintTo_61 : decode cX0_paintTo 61 = .ok (.getfield 33, 3) := dk_180 0 33 (dk_at dksX0_paintTo_2 14 rfl rfl)
theorem dX0_paintTo_64 : decode cX0_paintTo 64 = .ok (.getfield 185, 3) := dk_180 0 185 (dk_at dksX0_paintTo_2 17 rfl rfl)
theorem dX0_paintTo_67 : decode cX0_paintTo 67 = .ok (.iload_n 1, 1) := dk_27 (dk_at dksX0_paintTo_2 20 rfl rfl)
theorem dX0_paintTo_68 : decode cX0_paintTo 68 = .ok (.aaload, 1) := dk_50 (dk_at dksX0_paintTo_2 21 rfl rfl)
theorem dX0_paintTo_69 : decode cX0_paintTo 69 = .ok (.iload_n 2, 1) := dk_28 (dk_at dksX0_paintTo_2 22 rfl rfl)
theorem dX0_paintTo_70 : decode cX0_paintTo 70 = .ok (.iload_n 3, 1) := dk_29 (dk_at dksX0_paintTo_2 23 rfl rfl)
theorem dX0_paintTo_71 : decode cX0_paintTo 71 = .ok (.iload 4, 2) := dk_21 4 (dk_at dksX0_paintTo_3 0 rfl rfl)
theorem dX0_paintTo_73 : decode cX0_paintTo 73 = .ok (.invokevirtual 206, 3) := dk_182 0 206 (dk_at dksX0_paintTo_3 2 rfl rfl)
theorem dX0_paintTo_76 : decode cX0_paintTo 76 = .ok (.aastore, 1) := dk_83 (dk_at dksX0_paintTo_3 5 rfl rfl)
theorem dX0_paintTo_77 : decode cX0_paintTo 77 = .ok (.iload 5, 2) := dk_21 5 (dk_at dksX0_paintTo_3 6 rfl rfl)
theorem dX0_paintTo_79 : decode cX0_paintTo 79 = .ok (.ireturn, 1) := dk_172 (dk_at dksX0_paintTo_3 8 rfl rfl)
abbrev cX0_isPicture : ByteArray := prog_1_method_12_code
def yX0_isPicture : MethodName := ⟨RX0, "isPicture", "(I)Z"⟩
def dkwX0_isPicture_0 : List UInt8 := [27, 133, 9, 42, 180, 0, 33, 180, 0, 94, 4, 100, 133, 184, 0, 98, 172]
abbrev dktX0_isPicture_0 : List UInt8 := dkwX0_isPicture_0 ++ []
theorem dksX0_isPicture_0 : cX0_isPicture.data.toList.drop 0 = dktX0_isPicture_0 := by decide +kernel
theorem dX0_isPicture_0 : decode cX0_isPicture 0 = .ok (.iload_n 1, 1) := dk_27 (dk_at dksX0_isPicture_0 0 rfl rfl)
theorem dX0_isPicture_1 : decode cX0_isPicture 1 = .ok (.i2l, 1) := dk_133 (dk_at dksX0_isPicture_0 1 rfl rfl)
theorem dX0_isPicture_2 : decode cX0_isPicture 2 = .ok (.lconst 0, 1) := dk_9 (dk_at dksX0_isPicture_0 2 rfl rfl)
theorem dX0_isPicture_3 : decode cX0_isPicture 3 = .ok (.aload_n 0, 1) := dk_42 (dk_at dksX0_isPicture_0 3 rfl rfl)
theorem dX0_isPicture_4 : decode cX0_isPicture 4 = .ok (.getfield 33, 3) := dk_180 0 33 (dk_at dksX0_isPicture_0 4 rfl rfl)
theorem dX0_isPicture_7 : decode cX0_isPicture 7 = .ok (.getfield 94, 3) := dk_180 0 94 (dk_at dksX0_isPicture_0 7 rfl rfl)
theorem dX0_isPicture_10 : decode cX0_isPicture 10 = .ok (.iconst 1, 1) := dk_4 (dk_at dksX0_isPicture_0 10 rfl rfl)
theorem dX0_isPicture_11 : decode cX0_isPicture 11 = .ok (.isub, 1) := dk_100 (dk_at dksX0_isPicture_0 11 rfl rfl)
theorem dX0_isPicture_12 : decode cX0_isPicture 12 = .ok (.i2l, 1) := dk_133 (dk_at dksX0_isPicture_0 12 rfl rfl)
theorem dX0_isPicture_13 : decode cX0_isPicture 13 = .ok (.invokestatic 98, 3) := dk_184 0 98 (dk_at dksX0_isPicture_0 13 rfl rfl)
theorem dX0_isPicture_16 : decode cX0_isPicture 16 = .ok (.ireturn, 1) := dk_172 (dk_at dksX0_isPicture_0 16 rfl rfl)
abbrev cX0_isCell : ByteArray := prog_1_method_13_code
def yX0_isCell : MethodName := ⟨RX0, "isCell", "(II)Z"⟩
def dkwX0_isCell_1 : List UInt8 := [4, 167, 0, 4, 3, 172]
abbrev dktX0_isCell_1 : List UInt8 := dkwX0_isCell_1 ++ []
def dkwX0_isCell_0 : List UInt8 := [26, 133, 9, 20, 0, 102, 184, 0, 98, 153, 0, 19, 27, 133, 9, 20, 0, 104, 184, 0, 98, 153, 0, 7]
abbrev dktX0_isCell_0 : List UInt8 := dkwX0_isCell_0 ++ dktX0_isCell_1
theorem dksX0_isCell_0 : cX0_isCell.data.toList.drop 0 = dktX0_isCell_0 := by decide +kernel
theorem dksX0_isCell_1 : cX0_isCell.data.toList.drop 24 = dktX0_isCell_1 := dk_seg dksX0_isCell_0 24 rfl rfl
theorem dX0_isCell_0 : decode cX0_isCell 0 = .ok (.iload_n 0, 1) := dk_26 (dk_at dksX0_isCell_0 0 rfl rfl)
theorem dX0_isCell_1 : decode cX0_isCell 1 = .ok (.i2l, 1) := dk_133 (dk_at dksX0_isCell_0 1 rfl rfl)
theorem dX0_isCell_2 : decode cX0_isCell 2 = .ok (.lconst 0, 1) := dk_9 (dk_at dksX0_isCell_0 2 rfl rfl)
theorem dX0_isCell_3 : decode cX0_isCell 3 = .ok (.ldc2_w 102, 3) := dk_20 0 102 (dk_at dksX0_isCell_0 3 rfl rfl)
theorem dX0_isCell_6 : decode cX0_isCell 6 = .ok (.invokestatic 98, 3) := dk_184 0 98 (dk_at dksX0_isCell_0 6 rfl rfl)
theorem dX0_isCell_9 : decode cX0_isCell 9 = .ok (.ifCond .eq 19, 3) := dk_153 0 19 (dk_at dksX0_isCell_0 9 rfl rfl)
theorem dX0_isCell_12 : decode cX0_isCell 12 = .ok (.iload_n 1, 1) := dk_27 (dk_at dksX0_isCell_0 12 rfl rfl)
theorem dX0_isCell_13 : decode cX0_isCell 13 = .ok (.i2l, 1) := dk_133 (dk_at dksX0_isCell_0 13 rfl rfl)
theorem dX0_isCell_14 : decode cX0_isCell 14 = .ok (.lconst 0, 1) := dk_9 (dk_at dksX0_isCell_0 14 rfl rfl)
theorem dX0_isCell_15 : decode cX0_isCell 15 = .ok (.ldc2_w 104, 3) := dk_20 0 104 (dk_at dksX0_isCell_0 15 rfl rfl)
theorem dX0_isCell_18 : decode cX0_isCell 18 = .ok (.invokestatic 98, 3) := dk_184 0 98 (dk_at dksX0_isCell_0 18 rfl rfl)
theorem dX0_isCell_21 : decode cX0_isCell 21 = .ok (.ifCond .eq 7, 3) := dk_153 0 7 (dk_at dksX0_isCell_0 21 rfl rfl)
theorem dX0_isCell_24 : decode cX0_isCell 24 = .ok (.iconst 1, 1) := dk_4 (dk_at dksX0_isCell_1 0 rfl rfl)
theorem dX0_isCell_25 : decode cX0_isCell 25 = .ok (.goto 4, 3) := dk_167 0 4 (dk_at dksX0_isCell_1 1 rfl rfl)
theorem dX0_isCell_28 : decode cX0_isCell 28 = .ok (.iconst 0, 1) := dk_3 (dk_at dksX0_isCell_1 4 rfl rfl)
theorem dX0_isCell_29 : decode cX0_isCell 29 = .ok (.ireturn, 1) := dk_172 (dk_at dksX0_isCell_1 5 rfl rfl)
abbrev cX0_drops : ByteArray := prog_1_method_26_code
def yX0_drops : MethodName := ⟨RX0, "drops", "(I)I"⟩
def dkwX0_drops_0 : List UInt8 := [42, 42, 27, 182, 0, 214, 182, 0, 156, 172]
abbrev dktX0_drops_0 : List UInt8 := dkwX0_drops_0 ++ []
theorem dksX0_drops_0 : cX0_drops.data.toList.drop 0 = dktX0_drops_0 := by decide +kernel
theorem dX0_drops_0 : decode cX0_drops 0 = .ok (.aload_n 0, 1) := dk_42 (dk_at dksX0_drops_0 0 rfl rfl)
theorem dX0_drops_1 : decode cX0_drops 1 = .ok (.aload_n 0, 1) := dk_42 (dk_at dksX0_drops_0 1 rfl rfl)
theorem dX0_drops_2 : decode cX0_drops 2 = .ok (.iload_n 1, 1) := dk_27 (dk_at dksX0_drops_0 2 rfl rfl)
theorem dX0_drops_3 : decode cX0_drops 3 = .ok (.invokevirtual 214, 3) := dk_182 0 214 (dk_at dksX0_drops_0 3 rfl rfl)
theorem dX0_drops_6 : decode cX0_drops 6 = .ok (.invokevirtual 156, 3) := dk_182 0 156 (dk_at dksX0_drops_0 6 rfl rfl)
theorem dX0_drops_9 : decode cX0_drops 9 = .ok (.ireturn, 1) := dk_172 (dk_at dksX0_drops_0 9 rfl rfl)
abbrev cX0_dropsTo : ByteArray := prog_1_method_25_code
def yX0_dropsTo : MethodName := ⟨RX0, "dropsTo", "(I)I"⟩
def dkwX0_dropsTo_2 : List UInt8 := [180, 0, 33, 180, 0, 94, 27, 100, 184, 0, 118, 42, 180, 0, 33, 180, 0, 94, 172]
abbrev dktX0_dropsTo_2 : List UInt8 := dkwX0_dropsTo_2 ++ []
def dkwX0_dropsTo_1 : List UInt8 := [100, 181, 0, 94, 42, 180, 0, 33, 180, 0, 185, 27, 4, 96, 42, 180, 0, 33, 180, 0, 185, 27, 42]
abbrev dktX0_dropsTo_1 : List UInt8 := dkwX0_dropsTo_1 ++ dktX0_dropsTo_2
def dkwX0_dropsTo_0 : List UInt8 := [42, 27, 182, 0, 197, 154, 0, 6, 16, 254, 172, 42, 182, 0, 134, 42, 180, 0, 33, 89, 180, 0, 94, 4]
abbrev dktX0_dropsTo_0 : List UInt8 := dkwX0_dropsTo_0 ++ dktX0_dropsTo_1
theorem dksX0_dropsTo_0 : cX0_dropsTo.data.toList.drop 0 = dktX0_dropsTo_0 := by decide +kernel
theorem dksX0_dropsTo_1 : cX0_dropsTo.data.toList.drop 24 = dktX0_dropsTo_1 := dk_seg dksX0_dropsTo_0 24 rfl rfl
theorem dksX0_dropsTo_2 : cX0_dropsTo.data.toList.drop 47 = dktX0_dropsTo_2 := dk_seg dksX0_dropsTo_1 23 rfl rfl
theorem dX0_dropsTo_0 : decode cX0_dropsTo 0 = .ok (.aload_n 0, 1) := dk_42 (dk_at dksX0_dropsTo_0 0 rfl rfl)
theorem dX0_dropsTo_1 : decode cX0_dropsTo 1 = .ok (.iload_n 1, 1) := dk_27 (dk_at dksX0_dropsTo_0 1 rfl rfl)
theorem dX0_dropsTo_2 : decode cX0_dropsTo 2 = .ok (.invokevirtual 197, 3) := dk_182 0 197 (dk_at dksX0_dropsTo_0 2 rfl rfl)
theorem dX0_dropsTo_5 : decode cX0_dropsTo 5 = .ok (.ifCond .ne 6, 3) := dk_154 0 6 (dk_at dksX0_dropsTo_0 5 rfl rfl)
theorem dX0_dropsTo_8 : decode cX0_dropsTo 8 = .ok (.bipush (-2), 2) := dk_16 254 (dk_at dksX0_dropsTo_0 8 rfl rfl)
theorem dX0_dropsTo_10 : decode cX0_dropsTo 10 = .ok (.ireturn, 1) := dk_172 (dk_at dksX0_dropsTo_0 10 rfl rfl)
theorem dX0_dropsTo_11 : decode cX0_dropsTo 11 = .ok (.aload_n 0, 1) := dk_42 (dk_at dksX0_dropsTo_0 11 rfl rfl)
theorem dX0_dropsTo_12 : decode cX0_dropsTo 12 = .ok (.invokevirtual 134, 3) := dk_182 0 134 (dk_at dksX0_dropsTo_0 12 rfl rfl)
theorem dX0_dropsTo_15 : decode cX0_dropsTo 15 = .ok (.aload_n 0, 1) := dk_42 (dk_at dksX0_dropsTo_0 15 rfl rfl)
theorem dX0_dropsTo_16 : decode cX0_dropsTo 16 = .ok (.getfield 33, 3) := dk_180 0 33 (dk_at dksX0_dropsTo_0 16 rfl rfl)
theorem dX0_dropsTo_19 : decode cX0_dropsTo 19 = .ok (.dup, 1) := dk_89 (dk_at dksX0_dropsTo_0 19 rfl rfl)
theorem dX0_dropsTo_20 : decode cX0_dropsTo 20 = .ok (.getfield 94, 3) := dk_180 0 94 (dk_at dksX0_dropsTo_0 20 rfl rfl)
theorem dX0_dropsTo_23 : decode cX0_dropsTo 23 = .ok (.iconst 1, 1) := dk_4 (dk_at dksX0_dropsTo_0 23 rfl rfl)
theorem dX0_dropsTo_24 : decode cX0_dropsTo 24 = .ok (.isub, 1) := dk_100 (dk_at dksX0_dropsTo_1 0 rfl rfl)
theorem dX0_dropsTo_25 : decode cX0_dropsTo 25 = .ok (.putfield 94, 3) := dk_181 0 94 (dk_at dksX0_dropsTo_1 1 rfl rfl)
theorem dX0_dropsTo_28 : decode cX0_dropsTo 28 = .ok (.aload_n 0, 1) := dk_42 (dk_at dksX0_dropsTo_1 4 rfl rfl)
theorem dX0_dropsTo_29 : decode cX0_dropsTo 29 = .ok (.getfield 33, 3) := dk_180 0 33 (dk_at dksX0_dropsTo_1 5 rfl rfl)
theorem dX0_dropsTo_32 : decode cX0_dropsTo 32 = .ok (.getfield 185, 3) := dk_180 0 185 (dk_at dksX0_dropsTo_1 8 rfl rfl)
theorem dX0_dropsTo_35 : decode cX0_dropsTo 35 = .ok (.iload_n 1, 1) := dk_27 (dk_at dksX0_dropsTo_1 11 rfl rfl)
theorem dX0_dropsTo_36 : decode cX0_dropsTo 36 = .ok (.iconst 1, 1) := dk_4 (dk_at dksX0_dropsTo_1 12 rfl rfl)
theorem dX0_dropsTo_37 : decode cX0_dropsTo 37 = .ok (.iadd, 1) := dk_96 (dk_at dksX0_dropsTo_1 13 rfl rfl)
theorem dX0_dropsTo_38 : decode cX0_dropsTo 38 = .ok (.aload_n 0, 1) := dk_42 (dk_at dksX0_dropsTo_1 14 rfl rfl)
theorem dX0_dropsTo_39 : decode cX0_dropsTo 39 = .ok (.getfield 33, 3) := dk_180 0 33 (dk_at dksX0_dropsTo_1 15 rfl rfl)
theorem dX0_dropsTo_42 : decode cX0_dropsTo 42 = .ok (.getfield 185, 3) := dk_180 0 185 (dk_at dksX0_dropsTo_1 18 rfl rfl)
theorem dX0_dropsTo_45 : decode cX0_dropsTo 45 = .ok (.iload_n 1, 1) := dk_27 (dk_at dksX0_dropsTo_1 21 rfl rfl)
theorem dX0_dropsTo_46 : decode cX0_dropsTo 46 = .ok (.aload_n 0, 1) := dk_42 (dk_at dksX0_dropsTo_1 22 rfl rfl)
theorem dX0_dropsTo_47 : decode cX0_dropsTo 47 = .ok (.getfield 33, 3) := dk_180 0 33 (dk_at dksX0_dropsTo_2 0 rfl rfl)
theorem dX0_dropsTo_50 : decode cX0_dropsTo 50 = .ok (.getfield 94, 3) := dk_180 0 94 (dk_at dksX0_dropsTo_2 3 rfl rfl)
theorem dX0_dropsTo_53 : decode cX0_dropsTo 53 = .ok (.iload_n 1, 1) := dk_27 (dk_at dksX0_dropsTo_2 6 rfl rfl)
theorem dX0_dropsTo_54 : decode cX0_dropsTo 54 = .ok (.isub, 1) := dk_100 (dk_at dksX0_dropsTo_2 7 rfl rfl)
theorem dX0_dropsTo_55 : decode cX0_dropsTo 55 = .ok (.invokestatic 118, 3) := dk_184 0 118 (dk_at dksX0_dropsTo_2 8 rfl rfl)
theorem dX0_dropsTo_58 : decode cX0_dropsTo 58 = .ok (.aload_n 0, 1) := dk_42 (dk_at dksX0_dropsTo_2 11 rfl rfl)
theorem dX0_dropsTo_59 : decode cX0_dropsTo 59 = .ok (.getfield 33, 3) := dk_180 0 33 (dk_at dksX0_dropsTo_2 12 rfl rfl)
theorem dX0_dropsTo_62 : decode cX0_dropsTo 62 = .ok (.getfield 94, 3) := dk_180 0 94 (dk_at dksX0_dropsTo_2 15 rfl rfl)
theorem dX0_dropsTo_65 : decode cX0_dropsTo 65 = .ok (.ireturn, 1) := dk_172 (dk_at dksX0_dropsTo_2 18 rfl rfl)
abbrev cX0_sets : ByteArray := prog_1_method_28_code
def yX0_sets : MethodName := ⟨RX0, "sets", "(II)I"⟩
def dkwX0_sets_0 : List UInt8 := [42, 42, 27, 28, 182, 0, 222, 182, 0, 156, 172]
abbrev dktX0_sets_0 : List UInt8 := dkwX0_sets_0 ++ []
theorem dksX0_sets_0 : cX0_sets.data.toList.drop 0 = dktX0_sets_0 := by decide +kernel
theorem dX0_sets_0 : decode cX0_sets 0 = .ok (.aload_n 0, 1) := dk_42 (dk_at dksX0_sets_0 0 rfl rfl)
theorem dX0_sets_1 : decode cX0_sets 1 = .ok (.aload_n 0, 1) := dk_42 (dk_at dksX0_sets_0 1 rfl rfl)
theorem dX0_sets_2 : decode cX0_sets 2 = .ok (.iload_n 1, 1) := dk_27 (dk_at dksX0_sets_0 2 rfl rfl)
theorem dX0_sets_3 : decode cX0_sets 3 = .ok (.iload_n 2, 1) := dk_28 (dk_at dksX0_sets_0 3 rfl rfl)
theorem dX0_sets_4 : decode cX0_sets 4 = .ok (.invokevirtual 222, 3) := dk_182 0 222 (dk_at dksX0_sets_0 4 rfl rfl)
theorem dX0_sets_7 : decode cX0_sets 7 = .ok (.invokevirtual 156, 3) := dk_182 0 156 (dk_at dksX0_sets_0 7 rfl rfl)
theorem dX0_sets_10 : decode cX0_sets 10 = .ok (.ireturn, 1) := dk_172 (dk_at dksX0_sets_0 10 rfl rfl)
abbrev cX0_setsTo : ByteArray := prog_1_method_27_code
def yX0_setsTo : MethodName := ⟨RX0, "setsTo", "(II)I"⟩
def dkwX0_setsTo_2 : List UInt8 := [180, 0, 219, 27, 46, 62, 42, 180, 0, 33, 180, 0, 219, 27, 28, 79, 29, 172]
abbrev dktX0_setsTo_2 : List UInt8 := dkwX0_setsTo_2 ++ []
def dkwX0_setsTo_1 : List UInt8 := [167, 0, 6, 20, 0, 166, 184, 0, 98, 154, 0, 6, 16, 254, 172, 42, 182, 0, 134, 42, 180, 0, 33]
abbrev dktX0_setsTo_1 : List UInt8 := dkwX0_setsTo_1 ++ dktX0_setsTo_2
def dkwX0_setsTo_0 : List UInt8 := [27, 133, 9, 10, 184, 0, 98, 153, 0, 28, 28, 133, 4, 27, 100, 133, 27, 154, 0, 9, 20, 0, 217]
abbrev dktX0_setsTo_0 : List UInt8 := dkwX0_setsTo_0 ++ dktX0_setsTo_1
theorem dksX0_setsTo_0 : cX0_setsTo.data.toList.drop 0 = dktX0_setsTo_0 := by decide +kernel
theorem dksX0_setsTo_1 : cX0_setsTo.data.toList.drop 23 = dktX0_setsTo_1 := dk_seg dksX0_setsTo_0 23 rfl rfl
theorem dksX0_setsTo_2 : cX0_setsTo.data.toList.drop 46 = dktX0_setsTo_2 := dk_seg dksX0_setsTo_1 23 rfl rfl
theorem dX0_setsTo_0 : decode cX0_setsTo 0 = .ok (.iload_n 1, 1) := dk_27 (dk_at dksX0_setsTo_0 0 rfl rfl)
theorem dX0_setsTo_1 : decode cX0_setsTo 1 = .ok (.i2l, 1) := dk_133 (dk_at dksX0_setsTo_0 1 rfl rfl)
theorem dX0_setsTo_2 : decode cX0_setsTo 2 = .ok (.lconst 0, 1) := dk_9 (dk_at dksX0_setsTo_0 2 rfl rfl)
theorem dX0_setsTo_3 : decode cX0_setsTo 3 = .ok (.lconst 1, 1) := dk_10 (dk_at dksX0_setsTo_0 3 rfl rfl)
theorem dX0_setsTo_4 : decode cX0_setsTo 4 = .ok (.invokestatic 98, 3) := dk_184 0 98 (dk_at dksX0_setsTo_0 4 rfl rfl)
theorem dX0_setsTo_7 : decode cX0_setsTo 7 = .ok (.ifCond .eq 28, 3) := dk_153 0 28 (dk_at dksX0_setsTo_0 7 rfl rfl)
theorem dX0_setsTo_10 : decode cX0_setsTo 10 = .ok (.iload_n 2, 1) := dk_28 (dk_at dksX0_setsTo_0 10 rfl rfl)
theorem dX0_setsTo_11 : decode cX0_setsTo 11 = .ok (.i2l, 1) := dk_133 (dk_at dksX0_setsTo_0 11 rfl rfl)
theorem dX0_setsTo_12 : decode cX0_setsTo 12 = .ok (.iconst 1, 1) := dk_4 (dk_at dksX0_setsTo_0 12 rfl rfl)
theorem dX0_setsTo_13 : decode cX0_setsTo 13 = .ok (.iload_n 1, 1) := dk_27 (dk_at dksX0_setsTo_0 13 rfl rfl)
theorem dX0_setsTo_14 : decode cX0_setsTo 14 = .ok (.isub, 1) := dk_100 (dk_at dksX0_setsTo_0 14 rfl rfl)
theorem dX0_setsTo_15 : decode cX0_setsTo 15 = .ok (.i2l, 1) := dk_133 (dk_at dksX0_setsTo_0 15 rfl rfl)
theorem dX0_setsTo_16 : decode cX0_setsTo 16 = .ok (.iload_n 1, 1) := dk_27 (dk_at dksX0_setsTo_0 16 rfl rfl)
theorem dX0_setsTo_17 : decode cX0_setsTo 17 = .ok (.ifCond .ne 9, 3) := dk_154 0 9 (dk_at dksX0_setsTo_0 17 rfl rfl)
theorem dX0_setsTo_20 : decode cX0_setsTo 20 = .ok (.ldc2_w 217, 3) := dk_20 0 217 (dk_at dksX0_setsTo_0 20 rfl rfl)
theorem dX0_setsTo_23 : decode cX0_setsTo 23 = .ok (.goto 6, 3) := dk_167 0 6 (dk_at dksX0_setsTo_1 0 rfl rfl)
theorem dX0_setsTo_26 : decode cX0_setsTo 26 = .ok (.ldc2_w 166, 3) := dk_20 0 166 (dk_at dksX0_setsTo_1 3 rfl rfl)
theorem dX0_setsTo_29 : decode cX0_setsTo 29 = .ok (.invokestatic 98, 3) := dk_184 0 98 (dk_at dksX0_setsTo_1 6 rfl rfl)
theorem dX0_setsTo_32 : decode cX0_setsTo 32 = .ok (.ifCond .ne 6, 3) := dk_154 0 6 (dk_at dksX0_setsTo_1 9 rfl rfl)
theorem dX0_setsTo_35 : decode cX0_setsTo 35 = .ok (.bipush (-2), 2) := dk_16 254 (dk_at dksX0_setsTo_1 12 rfl rfl)
theorem dX0_setsTo_37 : decode cX0_setsTo 37 = .ok (.ireturn, 1) := dk_172 (dk_at dksX0_setsTo_1 14 rfl rfl)
theorem dX0_setsTo_38 : decode cX0_setsTo 38 = .ok (.aload_n 0, 1) := dk_42 (dk_at dksX0_setsTo_1 15 rfl rfl)
theorem dX0_setsTo_39 : decode cX0_setsTo 39 = .ok (.invokevirtual 134, 3) := dk_182 0 134 (dk_at dksX0_setsTo_1 16 rfl rfl)
theorem dX0_setsTo_42 : decode cX0_setsTo 42 = .ok (.aload_n 0, 1) := dk_42 (dk_at dksX0_setsTo_1 19 rfl rfl)
theorem dX0_setsTo_43 : decode cX0_setsTo 43 = .ok (.getfield 33, 3) := dk_180 0 33 (dk_at dksX0_setsTo_1 20 rfl rfl)
theorem dX0_setsTo_46 : decode cX0_setsTo 46 = .ok (.getfield 219, 3) := dk_180 0 219 (dk_at dksX0_setsTo_2 0 rfl rfl)
theorem dX0_setsTo_49 : decode cX0_setsTo 49 = .ok (.iload_n 1, 1) := dk_27 (dk_at dksX0_setsTo_2 3 rfl rfl)
theorem dX0_setsTo_50 : decode cX0_setsTo 50 = .ok (.iaload, 1) := dk_46 (dk_at dksX0_setsTo_2 4 rfl rfl)
theorem dX0_setsTo_51 : decode cX0_setsTo 51 = .ok (.istore_n 3, 1) := dk_62 (dk_at dksX0_setsTo_2 5 rfl rfl)
theorem dX0_setsTo_52 : decode cX0_setsTo 52 = .ok (.aload_n 0, 1) := dk_42 (dk_at dksX0_setsTo_2 6 rfl rfl)
theorem dX0_setsTo_53 : decode cX0_setsTo 53 = .ok (.getfield 33, 3) := dk_180 0 33 (dk_at dksX0_setsTo_2 7 rfl rfl)
theorem dX0_setsTo_56 : decode cX0_setsTo 56 = .ok (.getfield 219, 3) := dk_180 0 219 (dk_at dksX0_setsTo_2 10 rfl rfl)
theorem dX0_setsTo_59 : decode cX0_setsTo 59 = .ok (.iload_n 1, 1) := dk_27 (dk_at dksX0_setsTo_2 13 rfl rfl)
theorem dX0_setsTo_60 : decode cX0_setsTo 60 = .ok (.iload_n 2, 1) := dk_28 (dk_at dksX0_setsTo_2 14 rfl rfl)
theorem dX0_setsTo_61 : decode cX0_setsTo 61 = .ok (.iastore, 1) := dk_79 (dk_at dksX0_setsTo_2 15 rfl rfl)
theorem dX0_setsTo_62 : decode cX0_setsTo 62 = .ok (.iload_n 3, 1) := dk_29 (dk_at dksX0_setsTo_2 16 rfl rfl)
theorem dX0_setsTo_63 : decode cX0_setsTo 63 = .ok (.ireturn, 1) := dk_172 (dk_at dksX0_setsTo_2 17 rfl rfl)
abbrev cX0_value : ByteArray := prog_1_method_29_code
def yX0_value : MethodName := ⟨RX0, "value", "(III)I"⟩
def dkwX0_value_3 : List UInt8 := [182, 0, 90, 172]
abbrev dktX0_value_3 : List UInt8 := dkwX0_value_3 ++ []
def dkwX0_value_2 : List UInt8 := [184, 0, 200, 153, 0, 20, 42, 180, 0, 33, 180, 0, 185, 27, 50, 28, 29, 182, 0, 203, 167, 0, 7, 42]
abbrev dktX0_value_2 : List UInt8 := dkwX0_value_2 ++ dktX0_value_3
def dkwX0_value_1 : List UInt8 := [104, 28, 96, 46, 167, 0, 7, 42, 182, 0, 90, 172, 42, 27, 182, 0, 197, 153, 0, 28, 28, 29]
abbrev dktX0_value_1 : List UInt8 := dkwX0_value_1 ++ dktX0_value_2
def dkwX0_value_0 : List UInt8 := [27, 2, 160, 0, 34, 42, 28, 29, 182, 0, 162, 153, 0, 20, 42, 180, 0, 33, 180, 0, 150, 16, 6, 29]
abbrev dktX0_value_0 : List UInt8 := dkwX0_value_0 ++ dktX0_value_1
theorem dksX0_value_0 : cX0_value.data.toList.drop 0 = dktX0_value_0 := by decide +kernel
theorem dksX0_value_1 : cX0_value.data.toList.drop 24 = dktX0_value_1 := dk_seg dksX0_value_0 24 rfl rfl
theorem dksX0_value_2 : cX0_value.data.toList.drop 46 = dktX0_value_2 := dk_seg dksX0_value_1 22 rfl rfl
theorem dksX0_value_3 : cX0_value.data.toList.drop 70 = dktX0_value_3 := dk_seg dksX0_value_2 24 rfl rfl
theorem dX0_value_0 : decode cX0_value 0 = .ok (.iload_n 1, 1) := dk_27 (dk_at dksX0_value_0 0 rfl rfl)
theorem dX0_value_1 : decode cX0_value 1 = .ok (.iconst (-1), 1) := dk_2 (dk_at dksX0_value_0 1 rfl rfl)
theorem dX0_value_2 : decode cX0_value 2 = .ok (.if_icmp .ne 34, 3) := dk_160 0 34 (dk_at dksX0_value_0 2 rfl rfl)
theorem dX0_value_5 : decode cX0_value 5 = .ok (.aload_n 0, 1) := dk_42 (dk_at dksX0_value_0 5 rfl rfl)
theorem dX0_value_6 : decode cX0_value 6 = .ok (.iload_n 2, 1) := dk_28 (dk_at dksX0_value_0 6 rfl rfl)
theorem dX0_value_7 : decode cX0_value 7 = .ok (.iload_n 3, 1) := dk_29 (dk_at dksX0_value_0 7 rfl rfl)
theorem dX0_value_8 : decode cX0_value 8 = .ok (.invokevirtual 162, 3) := dk_182 0 162 (dk_at dksX0_value_0 8 rfl rfl)
theorem dX0_value_11 : decode cX0_value 11 = .ok (.ifCond .eq 20, 3) := dk_153 0 20 (dk_at dksX0_value_0 11 rfl rfl)
theorem dX0_value_14 : decode cX0_value 14 = .ok (.aload_n 0, 1) := dk_42 (dk_at dksX0_value_0 14 rfl rfl)
theorem dX0_value_15 : decode cX0_value 15 = .ok (.getfield 33, 3) := dk_180 0 33 (dk_at dksX0_value_0 15 rfl rfl)
theorem dX0_value_18 : decode cX0_value 18 = .ok (.getfield 150, 3) := dk_180 0 150 (dk_at dksX0_value_0 18 rfl rfl)
theorem dX0_value_21 : decode cX0_value 21 = .ok (.bipush 6, 2) := dk_16 6 (dk_at dksX0_value_0 21 rfl rfl)
theorem dX0_value_23 : decode cX0_value 23 = .ok (.iload_n 3, 1) := dk_29 (dk_at dksX0_value_0 23 rfl rfl)
theorem dX0_value_24 : decode cX0_value 24 = .ok (.imul, 1) := dk_104 (dk_at dksX0_value_1 0 rfl rfl)
theorem dX0_value_25 : decode cX0_value 25 = .ok (.iload_n 2, 1) := dk_28 (dk_at dksX0_value_1 1 rfl rfl)
theorem dX0_value_26 : decode cX0_value 26 = .ok (.iadd, 1) := dk_96 (dk_at dksX0_value_1 2 rfl rfl)
theorem dX0_value_27 : decode cX0_value 27 = .ok (.iaload, 1) := dk_46 (dk_at dksX0_value_1 3 rfl rfl)
theorem dX0_value_28 : decode cX0_value 28 = .ok (.goto 7, 3) := dk_167 0 7 (dk_at dksX0_value_1 4 rfl rfl)
theorem dX0_value_31 : decode cX0_value 31 = .ok (.aload_n 0, 1) := dk_42 (dk_at dksX0_value_1 7 rfl rfl)
theorem dX0_value_32 : decode cX0_value 32 = .ok (.invokevirtual 90, 3) := dk_182 0 90 (dk_at dksX0_value_1 8 rfl rfl)
theorem dX0_value_35 : decode cX0_value 35 = .ok (.ireturn, 1) := dk_172 (dk_at dksX0_value_1 11 rfl rfl)
theorem dX0_value_36 : decode cX0_value 36 = .ok (.aload_n 0, 1) := dk_42 (dk_at dksX0_value_1 12 rfl rfl)
theorem dX0_value_37 : decode cX0_value 37 = .ok (.iload_n 1, 1) := dk_27 (dk_at dksX0_value_1 13 rfl rfl)
theorem dX0_value_38 : decode cX0_value 38 = .ok (.invokevirtual 197, 3) := dk_182 0 197 (dk_at dksX0_value_1 14 rfl rfl)
theorem dX0_value_41 : decode cX0_value 41 = .ok (.ifCond .eq 28, 3) := dk_153 0 28 (dk_at dksX0_value_1 17 rfl rfl)
theorem dX0_value_44 : decode cX0_value 44 = .ok (.iload_n 2, 1) := dk_28 (dk_at dksX0_value_1 20 rfl rfl)
theorem dX0_value_45 : decode cX0_value 45 = .ok (.iload_n 3, 1) := dk_29 (dk_at dksX0_value_1 21 rfl rfl)
theorem dX0_value_46 : decode cX0_value 46 = .ok (.invokestatic 200, 3) := dk_184 0 200 (dk_at dksX0_value_2 0 rfl rfl)
theorem dX0_value_49 : decode cX0_value 49 = .ok (.ifCond .eq 20, 3) := dk_153 0 20 (dk_at dksX0_value_2 3 rfl rfl)
theorem dX0_value_52 : decode cX0_value 52 = .ok (.aload_n 0, 1) := dk_42 (dk_at dksX0_value_2 6 rfl rfl)
theorem dX0_value_53 : decode cX0_value 53 = .ok (.getfield 33, 3) := dk_180 0 33 (dk_at dksX0_value_2 7 rfl rfl)
theorem dX0_value_56 : decode cX0_value 56 = .ok (.getfield 185, 3) := dk_180 0 185 (dk_at dksX0_value_2 10 rfl rfl)
theorem dX0_value_59 : decode cX0_value 59 = .ok (.iload_n 1, 1) := dk_27 (dk_at dksX0_value_2 13 rfl rfl)
theorem dX0_value_60 : decode cX0_value 60 = .ok (.aaload, 1) := dk_50 (dk_at dksX0_value_2 14 rfl rfl)
theorem dX0_value_61 : decode cX0_value 61 = .ok (.iload_n 2, 1) := dk_28 (dk_at dksX0_value_2 15 rfl rfl)
theorem dX0_value_62 : decode cX0_value 62 = .ok (.iload_n 3, 1) := dk_29 (dk_at dksX0_value_2 16 rfl rfl)
theorem dX0_value_63 : decode cX0_value 63 = .ok (.invokevirtual 203, 3) := dk_182 0 203 (dk_at dksX0_value_2 17 rfl rfl)
theorem dX0_value_66 : decode cX0_value 66 = .ok (.goto 7, 3) := dk_167 0 7 (dk_at dksX0_value_2 20 rfl rfl)
theorem dX0_value_69 : decode cX0_value 69 = .ok (.aload_n 0, 1) := dk_42 (dk_at dksX0_value_2 23 rfl rfl)
theorem dX0_value_70 : decode cX0_value 70 = .ok (.invokevirtual 90, 3) := dk_182 0 90 (dk_at dksX0_value_3 0 rfl rfl)
theorem dX0_value_73 : decode cX0_value 73 = .ok (.ireturn, 1) := dk_172 (dk_at dksX0_value_3 3 rfl rfl)
abbrev cX0_change : ByteArray := prog_1_method_32_code
def yX0_change : MethodName := ⟨RX0, "change", "(III)I"⟩
def dkwX0_change_1 : List UInt8 := [180, 0, 185, 27, 50, 28, 29, 182, 0, 234, 167, 0, 7, 42, 182, 0, 90, 172]
abbrev dktX0_change_1 : List UInt8 := dkwX0_change_1 ++ []
def dkwX0_change_0 : List UInt8 := [42, 27, 182, 0, 197, 153, 0, 32, 28, 29, 184, 0, 231, 153, 0, 24, 42, 180, 0, 64, 42, 180, 0, 33]
abbrev dktX0_change_0 : List UInt8 := dkwX0_change_0 ++ dktX0_change_1
theorem dksX0_change_0 : cX0_change.data.toList.drop 0 = dktX0_change_0 := by decide +kernel
theorem dksX0_change_1 : cX0_change.data.toList.drop 24 = dktX0_change_1 := dk_seg dksX0_change_0 24 rfl rfl
theorem dX0_change_0 : decode cX0_change 0 = .ok (.aload_n 0, 1) := dk_42 (dk_at dksX0_change_0 0 rfl rfl)
theorem dX0_change_1 : decode cX0_change 1 = .ok (.iload_n 1, 1) := dk_27 (dk_at dksX0_change_0 1 rfl rfl)
theorem dX0_change_2 : decode cX0_change 2 = .ok (.invokevirtual 197, 3) := dk_182 0 197 (dk_at dksX0_change_0 2 rfl rfl)
theorem dX0_change_5 : decode cX0_change 5 = .ok (.ifCond .eq 32, 3) := dk_153 0 32 (dk_at dksX0_change_0 5 rfl rfl)
theorem dX0_change_8 : decode cX0_change 8 = .ok (.iload_n 2, 1) := dk_28 (dk_at dksX0_change_0 8 rfl rfl)
theorem dX0_change_9 : decode cX0_change 9 = .ok (.iload_n 3, 1) := dk_29 (dk_at dksX0_change_0 9 rfl rfl)
theorem dX0_change_10 : decode cX0_change 10 = .ok (.invokestatic 231, 3) := dk_184 0 231 (dk_at dksX0_change_0 10 rfl rfl)
theorem dX0_change_13 : decode cX0_change 13 = .ok (.ifCond .eq 24, 3) := dk_153 0 24 (dk_at dksX0_change_0 13 rfl rfl)
theorem dX0_change_16 : decode cX0_change 16 = .ok (.aload_n 0, 1) := dk_42 (dk_at dksX0_change_0 16 rfl rfl)
theorem dX0_change_17 : decode cX0_change 17 = .ok (.getfield 64, 3) := dk_180 0 64 (dk_at dksX0_change_0 17 rfl rfl)
theorem dX0_change_20 : decode cX0_change 20 = .ok (.aload_n 0, 1) := dk_42 (dk_at dksX0_change_0 20 rfl rfl)
theorem dX0_change_21 : decode cX0_change 21 = .ok (.getfield 33, 3) := dk_180 0 33 (dk_at dksX0_change_0 21 rfl rfl)
theorem dX0_change_24 : decode cX0_change 24 = .ok (.getfield 185, 3) := dk_180 0 185 (dk_at dksX0_change_1 0 rfl rfl)
theorem dX0_change_27 : decode cX0_change 27 = .ok (.iload_n 1, 1) := dk_27 (dk_at dksX0_change_1 3 rfl rfl)
theorem dX0_change_28 : decode cX0_change 28 = .ok (.aaload, 1) := dk_50 (dk_at dksX0_change_1 4 rfl rfl)
theorem dX0_change_29 : decode cX0_change 29 = .ok (.iload_n 2, 1) := dk_28 (dk_at dksX0_change_1 5 rfl rfl)
theorem dX0_change_30 : decode cX0_change 30 = .ok (.iload_n 3, 1) := dk_29 (dk_at dksX0_change_1 6 rfl rfl)
theorem dX0_change_31 : decode cX0_change 31 = .ok (.invokevirtual 234, 3) := dk_182 0 234 (dk_at dksX0_change_1 7 rfl rfl)
theorem dX0_change_34 : decode cX0_change 34 = .ok (.goto 7, 3) := dk_167 0 7 (dk_at dksX0_change_1 10 rfl rfl)
theorem dX0_change_37 : decode cX0_change 37 = .ok (.aload_n 0, 1) := dk_42 (dk_at dksX0_change_1 13 rfl rfl)
theorem dX0_change_38 : decode cX0_change 38 = .ok (.invokevirtual 90, 3) := dk_182 0 90 (dk_at dksX0_change_1 14 rfl rfl)
theorem dX0_change_41 : decode cX0_change 41 = .ok (.ireturn, 1) := dk_172 (dk_at dksX0_change_1 17 rfl rfl)
abbrev cX0_isInner : ByteArray := prog_1_method_14_code
def yX0_isInner : MethodName := ⟨RX0, "isInne\x72", "(II)Z"⟩
def dkwX0_isInner_1 : List UInt8 := [4, 167, 0, 4, 3, 172]
abbrev dktX0_isInner_1 : List UInt8 := dkwX0_isInner_1 ++ []
def dkwX0_isInner_0 : List UInt8 := [26, 133, 10, 20, 0, 106, 184, 0, 98, 153, 0, 19, 27, 133, 10, 20, 0, 108, 184, 0, 98, 153, 0, 7]
abbrev dktX0_isInner_0 : List UInt8 := dkwX0_isInner_0 ++ dktX0_isInner_1
theorem dksX0_isInner_0 : cX0_isInner.data.toList.drop 0 = dktX0_isInner_0 := by decide +kernel
theorem dksX0_isInner_1 : cX0_isInner.data.toList.drop 24 = dktX0_isInner_1 := dk_seg dksX0_isInner_0 24 rfl rfl
theorem dX0_isInner_0 : decode cX0_isInner 0 = .ok (.iload_n 0, 1) := dk_26 (dk_at dksX0_isInner_0 0 rfl rfl)
theorem dX0_isInner_1 : decode cX0_isInner 1 = .ok (.i2l, 1) := dk_133 (dk_at dksX0_isInner_0 1 rfl rfl)
theorem dX0_isInner_2 : decode cX0_isInner 2 = .ok (.lconst 1, 1) := dk_10 (dk_at dksX0_isInner_0 2 rfl rfl)
theorem dX0_isInner_3 : decode cX0_isInner 3 = .ok (.ldc2_w 106, 3) := dk_20 0 106 (dk_at dksX0_isInner_0 3 rfl rfl)
theorem dX0_isInner_6 : decode cX0_isInner 6 = .ok (.invokestatic 98, 3) := dk_184 0 98 (dk_at dksX0_isInner_0 6 rfl rfl)
theorem dX0_isInner_9 : decode cX0_isInner 9 = .ok (.ifCond .eq 19, 3) := dk_153 0 19 (dk_at dksX0_isInner_0 9 rfl rfl)
theorem dX0_isInner_12 : decode cX0_isInner 12 = .ok (.iload_n 1, 1) := dk_27 (dk_at dksX0_isInner_0 12 rfl rfl)
theorem dX0_isInner_13 : decode cX0_isInner 13 = .ok (.i2l, 1) := dk_133 (dk_at dksX0_isInner_0 13 rfl rfl)
theorem dX0_isInner_14 : decode cX0_isInner 14 = .ok (.lconst 1, 1) := dk_10 (dk_at dksX0_isInner_0 14 rfl rfl)
theorem dX0_isInner_15 : decode cX0_isInner 15 = .ok (.ldc2_w 108, 3) := dk_20 0 108 (dk_at dksX0_isInner_0 15 rfl rfl)
theorem dX0_isInner_18 : decode cX0_isInner 18 = .ok (.invokestatic 98, 3) := dk_184 0 98 (dk_at dksX0_isInner_0 18 rfl rfl)
theorem dX0_isInner_21 : decode cX0_isInner 21 = .ok (.ifCond .eq 7, 3) := dk_153 0 7 (dk_at dksX0_isInner_0 21 rfl rfl)
theorem dX0_isInner_24 : decode cX0_isInner 24 = .ok (.iconst 1, 1) := dk_4 (dk_at dksX0_isInner_1 0 rfl rfl)
theorem dX0_isInner_25 : decode cX0_isInner 25 = .ok (.goto 4, 3) := dk_167 0 4 (dk_at dksX0_isInner_1 1 rfl rfl)
theorem dX0_isInner_28 : decode cX0_isInner 28 = .ok (.iconst 0, 1) := dk_3 (dk_at dksX0_isInner_1 4 rfl rfl)
theorem dX0_isInner_29 : decode cX0_isInner 29 = .ok (.ireturn, 1) := dk_172 (dk_at dksX0_isInner_1 5 rfl rfl)
abbrev cX0_corners : ByteArray := prog_1_method_34_code
def yX0_corners : MethodName := ⟨RX0, "corners", "(I)I"⟩
def dkwX0_corners_0 : List UInt8 := [42, 27, 182, 0, 197, 153, 0, 11, 42, 27, 182, 0, 245, 167, 0, 7, 42, 182, 0, 90, 172]
abbrev dktX0_corners_0 : List UInt8 := dkwX0_corners_0 ++ []
theorem dksX0_corners_0 : cX0_corners.data.toList.drop 0 = dktX0_corners_0 := by decide +kernel
theorem dX0_corners_0 : decode cX0_corners 0 = .ok (.aload_n 0, 1) := dk_42 (dk_at dksX0_corners_0 0 rfl rfl)
theorem dX0_corners_1 : decode cX0_corners 1 = .ok (.iload_n 1, 1) := dk_27 (dk_at dksX0_corners_0 1 rfl rfl)
theorem dX0_corners_2 : decode cX0_corners 2 = .ok (.invokevirtual 197, 3) := dk_182 0 197 (dk_at dksX0_corners_0 2 rfl rfl)
theorem dX0_corners_5 : decode cX0_corners 5 = .ok (.ifCond .eq 11, 3) := dk_153 0 11 (dk_at dksX0_corners_0 5 rfl rfl)
theorem dX0_corners_8 : decode cX0_corners 8 = .ok (.aload_n 0, 1) := dk_42 (dk_at dksX0_corners_0 8 rfl rfl)
theorem dX0_corners_9 : decode cX0_corners 9 = .ok (.iload_n 1, 1) := dk_27 (dk_at dksX0_corners_0 9 rfl rfl)
theorem dX0_corners_10 : decode cX0_corners 10 = .ok (.invokevirtual 245, 3) := dk_182 0 245 (dk_at dksX0_corners_0 10 rfl rfl)
theorem dX0_corners_13 : decode cX0_corners 13 = .ok (.goto 7, 3) := dk_167 0 7 (dk_at dksX0_corners_0 13 rfl rfl)
theorem dX0_corners_16 : decode cX0_corners 16 = .ok (.aload_n 0, 1) := dk_42 (dk_at dksX0_corners_0 16 rfl rfl)
theorem dX0_corners_17 : decode cX0_corners 17 = .ok (.invokevirtual 90, 3) := dk_182 0 90 (dk_at dksX0_corners_0 17 rfl rfl)
theorem dX0_corners_20 : decode cX0_corners 20 = .ok (.ireturn, 1) := dk_172 (dk_at dksX0_corners_0 20 rfl rfl)
abbrev cX0_cornersOf : ByteArray := prog_1_method_33_code
def yX0_cornersOf : MethodName := ⟨RX0, "cornersOf", "(I)I"⟩
def dkwX0_cornersOf_0 : List UInt8 := [42, 180, 0, 33, 180, 0, 185, 27, 50, 77, 16, 12, 42, 44, 186, 0, 238, 0, 0, 184, 0, 241, 172]
abbrev dktX0_cornersOf_0 : List UInt8 := dkwX0_cornersOf_0 ++ []
theorem dksX0_cornersOf_0 : cX0_cornersOf.data.toList.drop 0 = dktX0_cornersOf_0 := by decide +kernel
theorem dX0_cornersOf_0 : decode cX0_cornersOf 0 = .ok (.aload_n 0, 1) := dk_42 (dk_at dksX0_cornersOf_0 0 rfl rfl)
theorem dX0_cornersOf_1 : decode cX0_cornersOf 1 = .ok (.getfield 33, 3) := dk_180 0 33 (dk_at dksX0_cornersOf_0 1 rfl rfl)
theorem dX0_cornersOf_4 : decode cX0_cornersOf 4 = .ok (.getfield 185, 3) := dk_180 0 185 (dk_at dksX0_cornersOf_0 4 rfl rfl)
theorem dX0_cornersOf_7 : decode cX0_cornersOf 7 = .ok (.iload_n 1, 1) := dk_27 (dk_at dksX0_cornersOf_0 7 rfl rfl)
theorem dX0_cornersOf_8 : decode cX0_cornersOf 8 = .ok (.aaload, 1) := dk_50 (dk_at dksX0_cornersOf_0 8 rfl rfl)
theorem dX0_cornersOf_9 : decode cX0_cornersOf 9 = .ok (.astore_n 2, 1) := dk_77 (dk_at dksX0_cornersOf_0 9 rfl rfl)
theorem dX0_cornersOf_10 : decode cX0_cornersOf 10 = .ok (.bipush 12, 2) := dk_16 12 (dk_at dksX0_cornersOf_0 10 rfl rfl)
theorem dX0_cornersOf_12 : decode cX0_cornersOf 12 = .ok (.aload_n 0, 1) := dk_42 (dk_at dksX0_cornersOf_0 12 rfl rfl)
theorem dX0_cornersOf_13 : decode cX0_cornersOf 13 = .ok (.aload_n 2, 1) := dk_44 (dk_at dksX0_cornersOf_0 13 rfl rfl)
theorem dX0_cornersOf_14 : decode cX0_cornersOf 14 = .ok (.invokedynamic 238, 5) := by decide +kernel
theorem dX0_cornersOf_19 : decode cX0_cornersOf 19 = .ok (.invokestatic 241, 3) := dk_184 0 241 (dk_at dksX0_cornersOf_0 19 rfl rfl)
theorem dX0_cornersOf_22 : decode cX0_cornersOf 22 = .ok (.ireturn, 1) := dk_172 (dk_at dksX0_cornersOf_0 22 rfl rfl)
abbrev cX0_lambda_cornersOf_1 : ByteArray := prog_1_method_61_code
def yX0_lambda_cornersOf_1 : MethodName := ⟨RX0, "lambda$cornersOf$1", "(LPictureRing$Picture;I)Z"⟩
def dkwX0_lambda_cornersOf_1_1 : List UInt8 := [180, 0, 219, 3, 46, 161, 0, 7, 4, 167, 0, 4, 3, 172]
abbrev dktX0_lambda_cornersOf_1_1 : List UInt8 := dkwX0_lambda_cornersOf_1_1 ++ []
def dkwX0_lambda_cornersOf_1_0 : List UInt8 := [42, 180, 0, 64, 43, 4, 28, 16, 6, 108, 96, 4, 28, 16, 6, 112, 96, 182, 0, 234, 42, 180, 0, 33]
abbrev dktX0_lambda_cornersOf_1_0 : List UInt8 := dkwX0_lambda_cornersOf_1_0 ++ dktX0_lambda_cornersOf_1_1
theorem dksX0_lambda_cornersOf_1_0 : cX0_lambda_cornersOf_1.data.toList.drop 0 = dktX0_lambda_cornersOf_1_0 := by decide +kernel
theorem dksX0_lambda_cornersOf_1_1 : cX0_lambda_cornersOf_1.data.toList.drop 24 = dktX0_lambda_cornersOf_1_1 := dk_seg dksX0_lambda_cornersOf_1_0 24 rfl rfl
theorem dX0_lambda_cornersOf_1_0 : decode cX0_lambda_cornersOf_1 0 = .ok (.aload_n 0, 1) := dk_42 (dk_at dksX0_lambda_cornersOf_1_0 0 rfl rfl)
theorem dX0_lambda_cornersOf_1_1 : decode cX0_lambda_cornersOf_1 1 = .ok (.getfield 64, 3) := dk_180 0 64 (dk_at dksX0_lambda_cornersOf_1_0 1 rfl rfl)
theorem dX0_lambda_cornersOf_1_4 : decode cX0_lambda_cornersOf_1 4 = .ok (.aload_n 1, 1) := dk_43 (dk_at dksX0_lambda_cornersOf_1_0 4 rfl rfl)
theorem dX0_lambda_cornersOf_1_5 : decode cX0_lambda_cornersOf_1 5 = .ok (.iconst 1, 1) := dk_4 (dk_at dksX0_lambda_cornersOf_1_0 5 rfl rfl)
theorem dX0_lambda_cornersOf_1_6 : decode cX0_lambda_cornersOf_1 6 = .ok (.iload_n 2, 1) := dk_28 (dk_at dksX0_lambda_cornersOf_1_0 6 rfl rfl)
theorem dX0_lambda_cornersOf_1_7 : decode cX0_lambda_cornersOf_1 7 = .ok (.bipush 6, 2) := dk_16 6 (dk_at dksX0_lambda_cornersOf_1_0 7 rfl rfl)
theorem dX0_lambda_cornersOf_1_9 : decode cX0_lambda_cornersOf_1 9 = .ok (.idiv, 1) := dk_108 (dk_at dksX0_lambda_cornersOf_1_0 9 rfl rfl)
theorem dX0_lambda_cornersOf_1_10 : decode cX0_lambda_cornersOf_1 10 = .ok (.iadd, 1) := dk_96 (dk_at dksX0_lambda_cornersOf_1_0 10 rfl rfl)
theorem dX0_lambda_cornersOf_1_11 : decode cX0_lambda_cornersOf_1 11 = .ok (.iconst 1, 1) := dk_4 (dk_at dksX0_lambda_cornersOf_1_0 11 rfl rfl)
theorem dX0_lambda_cornersOf_1_12 : decode cX0_lambda_cornersOf_1 12 = .ok (.iload_n 2, 1) := dk_28 (dk_at dksX0_lambda_cornersOf_1_0 12 rfl rfl)
theorem dX0_lambda_cornersOf_1_13 : decode cX0_lambda_cornersOf_1 13 = .ok (.bipush 6, 2) := dk_16 6 (dk_at dksX0_lambda_cornersOf_1_0 13 rfl rfl)
theorem dX0_lambda_cornersOf_1_15 : decode cX0_lambda_cornersOf_1 15 = .ok (.irem, 1) := dk_112 (dk_at dksX0_lambda_cornersOf_1_0 15 rfl rfl)
theorem dX0_lambda_cornersOf_1_16 : decode cX0_lambda_cornersOf_1 16 = .ok (.iadd, 1) := dk_96 (dk_at dksX0_lambda_cornersOf_1_0 16 rfl rfl)
theorem dX0_lambda_cornersOf_1_17 : decode cX0_lambda_cornersOf_1 17 = .ok (.invokevirtual 234, 3) := dk_182 0 234 (dk_at dksX0_lambda_cornersOf_1_0 17 rfl rfl)
theorem dX0_lambda_cornersOf_1_20 : decode cX0_lambda_cornersOf_1 20 = .ok (.aload_n 0, 1) := dk_42 (dk_at dksX0_lambda_cornersOf_1_0 20 rfl rfl)
theorem dX0_lambda_cornersOf_1_21 : decode cX0_lambda_cornersOf_1 21 = .ok (.getfield 33, 3) := dk_180 0 33 (dk_at dksX0_lambda_cornersOf_1_0 21 rfl rfl)
theorem dX0_lambda_cornersOf_1_24 : decode cX0_lambda_cornersOf_1 24 = .ok (.getfield 219, 3) := dk_180 0 219 (dk_at dksX0_lambda_cornersOf_1_1 0 rfl rfl)
theorem dX0_lambda_cornersOf_1_27 : decode cX0_lambda_cornersOf_1 27 = .ok (.iconst 0, 1) := dk_3 (dk_at dksX0_lambda_cornersOf_1_1 3 rfl rfl)
theorem dX0_lambda_cornersOf_1_28 : decode cX0_lambda_cornersOf_1 28 = .ok (.iaload, 1) := dk_46 (dk_at dksX0_lambda_cornersOf_1_1 4 rfl rfl)
theorem dX0_lambda_cornersOf_1_29 : decode cX0_lambda_cornersOf_1 29 = .ok (.if_icmp .lt 7, 3) := dk_161 0 7 (dk_at dksX0_lambda_cornersOf_1_1 5 rfl rfl)
theorem dX0_lambda_cornersOf_1_32 : decode cX0_lambda_cornersOf_1 32 = .ok (.iconst 1, 1) := dk_4 (dk_at dksX0_lambda_cornersOf_1_1 8 rfl rfl)
theorem dX0_lambda_cornersOf_1_33 : decode cX0_lambda_cornersOf_1 33 = .ok (.goto 4, 3) := dk_167 0 4 (dk_at dksX0_lambda_cornersOf_1_1 9 rfl rfl)
theorem dX0_lambda_cornersOf_1_36 : decode cX0_lambda_cornersOf_1 36 = .ok (.iconst 0, 1) := dk_3 (dk_at dksX0_lambda_cornersOf_1_1 12 rfl rfl)
theorem dX0_lambda_cornersOf_1_37 : decode cX0_lambda_cornersOf_1 37 = .ok (.ireturn, 1) := dk_172 (dk_at dksX0_lambda_cornersOf_1_1 13 rfl rfl)
abbrev cX0_bits : ByteArray := prog_1_method_3_code
def yX0_bits : MethodName := ⟨RX0, "bits", "(ILPictureRing$Test;)I"⟩
def dkwX0_bits_1 : List UInt8 := [167, 0, 4, 3, 128, 61, 132, 3, 1, 167, 255, 228, 28, 172]
abbrev dktX0_bits_1 : List UInt8 := dkwX0_bits_1 ++ []
def dkwX0_bits_0 : List UInt8 := [3, 61, 3, 62, 29, 26, 162, 0, 29, 28, 43, 29, 185, 0, 10, 2, 0, 153, 0, 9, 4, 29, 120]
abbrev dktX0_bits_0 : List UInt8 := dkwX0_bits_0 ++ dktX0_bits_1
theorem dksX0_bits_0 : cX0_bits.data.toList.drop 0 = dktX0_bits_0 := by decide +kernel
theorem dksX0_bits_1 : cX0_bits.data.toList.drop 23 = dktX0_bits_1 := dk_seg dksX0_bits_0 23 rfl rfl
theorem dX0_bits_0 : decode cX0_bits 0 = .ok (.iconst 0, 1) := dk_3 (dk_at dksX0_bits_0 0 rfl rfl)
theorem dX0_bits_1 : decode cX0_bits 1 = .ok (.istore_n 2, 1) := dk_61 (dk_at dksX0_bits_0 1 rfl rfl)
theorem dX0_bits_2 : decode cX0_bits 2 = .ok (.iconst 0, 1) := dk_3 (dk_at dksX0_bits_0 2 rfl rfl)
theorem dX0_bits_3 : decode cX0_bits 3 = .ok (.istore_n 3, 1) := dk_62 (dk_at dksX0_bits_0 3 rfl rfl)
theorem dX0_bits_4 : decode cX0_bits 4 = .ok (.iload_n 3, 1) := dk_29 (dk_at dksX0_bits_0 4 rfl rfl)
theorem dX0_bits_5 : decode cX0_bits 5 = .ok (.iload_n 0, 1) := dk_26 (dk_at dksX0_bits_0 5 rfl rfl)
theorem dX0_bits_6 : decode cX0_bits 6 = .ok (.if_icmp .ge 29, 3) := dk_162 0 29 (dk_at dksX0_bits_0 6 rfl rfl)
theorem dX0_bits_9 : decode cX0_bits 9 = .ok (.iload_n 2, 1) := dk_28 (dk_at dksX0_bits_0 9 rfl rfl)
theorem dX0_bits_10 : decode cX0_bits 10 = .ok (.aload_n 1, 1) := dk_43 (dk_at dksX0_bits_0 10 rfl rfl)
theorem dX0_bits_11 : decode cX0_bits 11 = .ok (.iload_n 3, 1) := dk_29 (dk_at dksX0_bits_0 11 rfl rfl)
theorem dX0_bits_12 : decode cX0_bits 12 = .ok (.invokeinterface 10 2, 5) := by decide +kernel
theorem dX0_bits_17 : decode cX0_bits 17 = .ok (.ifCond .eq 9, 3) := dk_153 0 9 (dk_at dksX0_bits_0 17 rfl rfl)
theorem dX0_bits_20 : decode cX0_bits 20 = .ok (.iconst 1, 1) := dk_4 (dk_at dksX0_bits_0 20 rfl rfl)
theorem dX0_bits_21 : decode cX0_bits 21 = .ok (.iload_n 3, 1) := dk_29 (dk_at dksX0_bits_0 21 rfl rfl)
theorem dX0_bits_22 : decode cX0_bits 22 = .ok (.ishl, 1) := dk_120 (dk_at dksX0_bits_0 22 rfl rfl)
theorem dX0_bits_23 : decode cX0_bits 23 = .ok (.goto 4, 3) := dk_167 0 4 (dk_at dksX0_bits_1 0 rfl rfl)
theorem dX0_bits_26 : decode cX0_bits 26 = .ok (.iconst 0, 1) := dk_3 (dk_at dksX0_bits_1 3 rfl rfl)
theorem dX0_bits_27 : decode cX0_bits 27 = .ok (.ior, 1) := dk_128 (dk_at dksX0_bits_1 4 rfl rfl)
theorem dX0_bits_28 : decode cX0_bits 28 = .ok (.istore_n 2, 1) := dk_61 (dk_at dksX0_bits_1 5 rfl rfl)
theorem dX0_bits_29 : decode cX0_bits 29 = .ok (.iinc 3 1, 3) := dk_132 3 1 (dk_at dksX0_bits_1 6 rfl rfl)
theorem dX0_bits_32 : decode cX0_bits 32 = .ok (.goto (-28), 3) := dk_167 255 228 (dk_at dksX0_bits_1 9 rfl rfl)
theorem dX0_bits_35 : decode cX0_bits 35 = .ok (.iload_n 2, 1) := dk_28 (dk_at dksX0_bits_1 12 rfl rfl)
theorem dX0_bits_36 : decode cX0_bits 36 = .ok (.ireturn, 1) := dk_172 (dk_at dksX0_bits_1 13 rfl rfl)
abbrev cX0_votes : ByteArray := prog_1_method_35_code
def yX0_votes : MethodName := ⟨RX0, "votes", "(IIII)I"⟩
def dkwX0_votes_2 : List UInt8 := [182, 0, 90, 172, 42, 182, 0, 250, 27, 28, 29, 21, 4, 182, 0, 254, 172]
abbrev dktX0_votes_2 : List UInt8 := dkwX0_votes_2 ++ []
def dkwX0_votes_1 : List UInt8 := [20, 0, 248, 10, 184, 0, 98, 153, 0, 16, 21, 4, 133, 10, 20, 0, 160, 184, 0, 98, 154, 0, 8, 42]
abbrev dktX0_votes_1 : List UInt8 := dkwX0_votes_1 ++ dktX0_votes_2
def dkwX0_votes_0 : List UInt8 := [42, 27, 182, 0, 197, 153, 0, 41, 42, 28, 182, 0, 197, 153, 0, 33, 27, 28, 159, 0, 28, 29, 133]
abbrev dktX0_votes_0 : List UInt8 := dkwX0_votes_0 ++ dktX0_votes_1
theorem dksX0_votes_0 : cX0_votes.data.toList.drop 0 = dktX0_votes_0 := by decide +kernel
theorem dksX0_votes_1 : cX0_votes.data.toList.drop 23 = dktX0_votes_1 := dk_seg dksX0_votes_0 23 rfl rfl
theorem dksX0_votes_2 : cX0_votes.data.toList.drop 47 = dktX0_votes_2 := dk_seg dksX0_votes_1 24 rfl rfl
theorem dX0_votes_0 : decode cX0_votes 0 = .ok (.aload_n 0, 1) := dk_42 (dk_at dksX0_votes_0 0 rfl rfl)
theorem dX0_votes_1 : decode cX0_votes 1 = .ok (.iload_n 1, 1) := dk_27 (dk_at dksX0_votes_0 1 rfl rfl)
theorem dX0_votes_2 : decode cX0_votes 2 = .ok (.invokevirtual 197, 3) := dk_182 0 197 (dk_at dksX0_votes_0 2 rfl rfl)
theorem dX0_votes_5 : decode cX0_votes 5 = .ok (.ifCond .eq 41, 3) := dk_153 0 41 (dk_at dksX0_votes_0 5 rfl rfl)
theorem dX0_votes_8 : decode cX0_votes 8 = .ok (.aload_n 0, 1) := dk_42 (dk_at dksX0_votes_0 8 rfl rfl)
theorem dX0_votes_9 : decode cX0_votes 9 = .ok (.iload_n 2, 1) := dk_28 (dk_at dksX0_votes_0 9 rfl rfl)
theorem dX0_votes_10 : decode cX0_votes 10 = .ok (.invokevirtual 197, 3) := dk_182 0 197 (dk_at dksX0_votes_0 10 rfl rfl)
theorem dX0_votes_13 : decode cX0_votes 13 = .ok (.ifCond .eq 33, 3) := dk_153 0 33 (dk_at dksX0_votes_0 13 rfl rfl)
theorem dX0_votes_16 : decode cX0_votes 16 = .ok (.iload_n 1, 1) := dk_27 (dk_at dksX0_votes_0 16 rfl rfl)
theorem dX0_votes_17 : decode cX0_votes 17 = .ok (.iload_n 2, 1) := dk_28 (dk_at dksX0_votes_0 17 rfl rfl)
theorem dX0_votes_18 : decode cX0_votes 18 = .ok (.if_icmp .eq 28, 3) := dk_159 0 28 (dk_at dksX0_votes_0 18 rfl rfl)
theorem dX0_votes_21 : decode cX0_votes 21 = .ok (.iload_n 3, 1) := dk_29 (dk_at dksX0_votes_0 21 rfl rfl)
theorem dX0_votes_22 : decode cX0_votes 22 = .ok (.i2l, 1) := dk_133 (dk_at dksX0_votes_0 22 rfl rfl)
theorem dX0_votes_23 : decode cX0_votes 23 = .ok (.ldc2_w 248, 3) := dk_20 0 248 (dk_at dksX0_votes_1 0 rfl rfl)
theorem dX0_votes_26 : decode cX0_votes 26 = .ok (.lconst 1, 1) := dk_10 (dk_at dksX0_votes_1 3 rfl rfl)
theorem dX0_votes_27 : decode cX0_votes 27 = .ok (.invokestatic 98, 3) := dk_184 0 98 (dk_at dksX0_votes_1 4 rfl rfl)
theorem dX0_votes_30 : decode cX0_votes 30 = .ok (.ifCond .eq 16, 3) := dk_153 0 16 (dk_at dksX0_votes_1 7 rfl rfl)
theorem dX0_votes_33 : decode cX0_votes 33 = .ok (.iload 4, 2) := dk_21 4 (dk_at dksX0_votes_1 10 rfl rfl)
theorem dX0_votes_35 : decode cX0_votes 35 = .ok (.i2l, 1) := dk_133 (dk_at dksX0_votes_1 12 rfl rfl)
theorem dX0_votes_36 : decode cX0_votes 36 = .ok (.lconst 1, 1) := dk_10 (dk_at dksX0_votes_1 13 rfl rfl)
theorem dX0_votes_37 : decode cX0_votes 37 = .ok (.ldc2_w 160, 3) := dk_20 0 160 (dk_at dksX0_votes_1 14 rfl rfl)
theorem dX0_votes_40 : decode cX0_votes 40 = .ok (.invokestatic 98, 3) := dk_184 0 98 (dk_at dksX0_votes_1 17 rfl rfl)
theorem dX0_votes_43 : decode cX0_votes 43 = .ok (.ifCond .ne 8, 3) := dk_154 0 8 (dk_at dksX0_votes_1 20 rfl rfl)
theorem dX0_votes_46 : decode cX0_votes 46 = .ok (.aload_n 0, 1) := dk_42 (dk_at dksX0_votes_1 23 rfl rfl)
theorem dX0_votes_47 : decode cX0_votes 47 = .ok (.invokevirtual 90, 3) := dk_182 0 90 (dk_at dksX0_votes_2 0 rfl rfl)
theorem dX0_votes_50 : decode cX0_votes 50 = .ok (.ireturn, 1) := dk_172 (dk_at dksX0_votes_2 3 rfl rfl)
theorem dX0_votes_51 : decode cX0_votes 51 = .ok (.aload_n 0, 1) := dk_42 (dk_at dksX0_votes_2 4 rfl rfl)
theorem dX0_votes_52 : decode cX0_votes 52 = .ok (.invokevirtual 250, 3) := dk_182 0 250 (dk_at dksX0_votes_2 5 rfl rfl)
theorem dX0_votes_55 : decode cX0_votes 55 = .ok (.iload_n 1, 1) := dk_27 (dk_at dksX0_votes_2 8 rfl rfl)
theorem dX0_votes_56 : decode cX0_votes 56 = .ok (.iload_n 2, 1) := dk_28 (dk_at dksX0_votes_2 9 rfl rfl)
theorem dX0_votes_57 : decode cX0_votes 57 = .ok (.iload_n 3, 1) := dk_29 (dk_at dksX0_votes_2 10 rfl rfl)
theorem dX0_votes_58 : decode cX0_votes 58 = .ok (.iload 4, 2) := dk_21 4 (dk_at dksX0_votes_2 11 rfl rfl)
theorem dX0_votes_60 : decode cX0_votes 60 = .ok (.invokevirtual 254, 3) := dk_182 0 254 (dk_at dksX0_votes_2 13 rfl rfl)
theorem dX0_votes_63 : decode cX0_votes 63 = .ok (.ireturn, 1) := dk_172 (dk_at dksX0_votes_2 16 rfl rfl)
abbrev cX0_joined : ByteArray := prog_1_method_31_code
def yX0_joined : MethodName := ⟨RX0, "joined", "()LPictureRing$Joiner;"⟩
def dkwX0_joined_0 : List UInt8 := [42, 180, 0, 64, 182, 0, 228, 42, 180, 0, 64, 176]
abbrev dktX0_joined_0 : List UInt8 := dkwX0_joined_0 ++ []
theorem dksX0_joined_0 : cX0_joined.data.toList.drop 0 = dktX0_joined_0 := by decide +kernel
theorem dX0_joined_0 : decode cX0_joined 0 = .ok (.aload_n 0, 1) := dk_42 (dk_at dksX0_joined_0 0 rfl rfl)
theorem dX0_joined_1 : decode cX0_joined 1 = .ok (.getfield 64, 3) := dk_180 0 64 (dk_at dksX0_joined_0 1 rfl rfl)
theorem dX0_joined_4 : decode cX0_joined 4 = .ok (.invokevirtual 228, 3) := dk_182 0 228 (dk_at dksX0_joined_0 4 rfl rfl)
theorem dX0_joined_7 : decode cX0_joined 7 = .ok (.aload_n 0, 1) := dk_42 (dk_at dksX0_joined_0 7 rfl rfl)
theorem dX0_joined_8 : decode cX0_joined 8 = .ok (.getfield 64, 3) := dk_180 0 64 (dk_at dksX0_joined_0 8 rfl rfl)
theorem dX0_joined_11 : decode cX0_joined 11 = .ok (.areturn, 1) := dk_176 (dk_at dksX0_joined_0 11 rfl rfl)
abbrev cX0_link : ByteArray := prog_1_method_36_code
def yX0_link : MethodName := ⟨RX0, "link", "(III)I"⟩
def dkwX0_link_4 : List UInt8 := [25, 4, 180, 1, 9, 180, 1, 18, 172]
abbrev dktX0_link_4 : List UInt8 := dkwX0_link_4 ++ []
def dkwX0_link_3 : List UInt8 := [180, 1, 5, 167, 0, 29, 29, 4, 160, 0, 16, 25, 4, 180, 1, 9, 180, 1, 13, 4, 96, 167, 0, 11]
abbrev dktX0_link_3 : List UInt8 := dkwX0_link_3 ++ dktX0_link_4
def dkwX0_link_2 : List UInt8 := [58, 4, 25, 4, 199, 0, 13, 29, 154, 0, 7, 3, 167, 0, 4, 2, 172, 29, 154, 0, 11, 25, 4]
abbrev dktX0_link_2 : List UInt8 := dkwX0_link_2 ++ dktX0_link_3
def dkwX0_link_1 : List UInt8 := [20, 0, 106, 184, 0, 98, 154, 0, 8, 42, 182, 0, 90, 172, 42, 182, 0, 250, 27, 28, 182, 1, 1]
abbrev dktX0_link_1 : List UInt8 := dkwX0_link_1 ++ dktX0_link_2
def dkwX0_link_0 : List UInt8 := [42, 27, 182, 0, 197, 153, 0, 28, 42, 28, 182, 0, 197, 153, 0, 20, 27, 28, 159, 0, 15, 29, 133, 9]
abbrev dktX0_link_0 : List UInt8 := dkwX0_link_0 ++ dktX0_link_1
theorem dksX0_link_0 : cX0_link.data.toList.drop 0 = dktX0_link_0 := by decide +kernel
theorem dksX0_link_1 : cX0_link.data.toList.drop 24 = dktX0_link_1 := dk_seg dksX0_link_0 24 rfl rfl
theorem dksX0_link_2 : cX0_link.data.toList.drop 47 = dktX0_link_2 := dk_seg dksX0_link_1 23 rfl rfl
theorem dksX0_link_3 : cX0_link.data.toList.drop 70 = dktX0_link_3 := dk_seg dksX0_link_2 23 rfl rfl
theorem dksX0_link_4 : cX0_link.data.toList.drop 94 = dktX0_link_4 := dk_seg dksX0_link_3 24 rfl rfl
theorem dX0_link_0 : decode cX0_link 0 = .ok (.aload_n 0, 1) := dk_42 (dk_at dksX0_link_0 0 rfl rfl)
theorem dX0_link_1 : decode cX0_link 1 = .ok (.iload_n 1, 1) := dk_27 (dk_at dksX0_link_0 1 rfl rfl)
theorem dX0_link_2 : decode cX0_link 2 = .ok (.invokevirtual 197, 3) := dk_182 0 197 (dk_at dksX0_link_0 2 rfl rfl)
theorem dX0_link_5 : decode cX0_link 5 = .ok (.ifCond .eq 28, 3) := dk_153 0 28 (dk_at dksX0_link_0 5 rfl rfl)
theorem dX0_link_8 : decode cX0_link 8 = .ok (.aload_n 0, 1) := dk_42 (dk_at dksX0_link_0 8 rfl rfl)
theorem dX0_link_9 : decode cX0_link 9 = .ok (.iload_n 2, 1) := dk_28 (dk_at dksX0_link_0 9 rfl rfl)
theorem dX0_link_10 : decode cX0_link 10 = .ok (.invokevirtual 197, 3) := dk_182 0 197 (dk_at dksX0_link_0 10 rfl rfl)
theorem dX0_link_13 : decode cX0_link 13 = .ok (.ifCond .eq 20, 3) := dk_153 0 20 (dk_at dksX0_link_0 13 rfl rfl)
theorem dX0_link_16 : decode cX0_link 16 = .ok (.iload_n 1, 1) := dk_27 (dk_at dksX0_link_0 16 rfl rfl)
theorem dX0_link_17 : decode cX0_link 17 = .ok (.iload_n 2, 1) := dk_28 (dk_at dksX0_link_0 17 rfl rfl)
theorem dX0_link_18 : decode cX0_link 18 = .ok (.if_icmp .eq 15, 3) := dk_159 0 15 (dk_at dksX0_link_0 18 rfl rfl)
theorem dX0_link_21 : decode cX0_link 21 = .ok (.iload_n 3, 1) := dk_29 (dk_at dksX0_link_0 21 rfl rfl)
theorem dX0_link_22 : decode cX0_link 22 = .ok (.i2l, 1) := dk_133 (dk_at dksX0_link_0 22 rfl rfl)
theorem dX0_link_23 : decode cX0_link 23 = .ok (.lconst 0, 1) := dk_9 (dk_at dksX0_link_0 23 rfl rfl)
theorem dX0_link_24 : decode cX0_link 24 = .ok (.ldc2_w 106, 3) := dk_20 0 106 (dk_at dksX0_link_1 0 rfl rfl)
theorem dX0_link_27 : decode cX0_link 27 = .ok (.invokestatic 98, 3) := dk_184 0 98 (dk_at dksX0_link_1 3 rfl rfl)
theorem dX0_link_30 : decode cX0_link 30 = .ok (.ifCond .ne 8, 3) := dk_154 0 8 (dk_at dksX0_link_1 6 rfl rfl)
theorem dX0_link_33 : decode cX0_link 33 = .ok (.aload_n 0, 1) := dk_42 (dk_at dksX0_link_1 9 rfl rfl)
theorem dX0_link_34 : decode cX0_link 34 = .ok (.invokevirtual 90, 3) := dk_182 0 90 (dk_at dksX0_link_1 10 rfl rfl)
theorem dX0_link_37 : decode cX0_link 37 = .ok (.ireturn, 1) := dk_172 (dk_at dksX0_link_1 13 rfl rfl)
theorem dX0_link_38 : decode cX0_link 38 = .ok (.aload_n 0, 1) := dk_42 (dk_at dksX0_link_1 14 rfl rfl)
theorem dX0_link_39 : decode cX0_link 39 = .ok (.invokevirtual 250, 3) := dk_182 0 250 (dk_at dksX0_link_1 15 rfl rfl)
theorem dX0_link_42 : decode cX0_link 42 = .ok (.iload_n 1, 1) := dk_27 (dk_at dksX0_link_1 18 rfl rfl)
theorem dX0_link_43 : decode cX0_link 43 = .ok (.iload_n 2, 1) := dk_28 (dk_at dksX0_link_1 19 rfl rfl)
theorem dX0_link_44 : decode cX0_link 44 = .ok (.invokevirtual 257, 3) := dk_182 1 1 (dk_at dksX0_link_1 20 rfl rfl)
theorem dX0_link_47 : decode cX0_link 47 = .ok (.astore 4, 2) := dk_58 4 (dk_at dksX0_link_2 0 rfl rfl)
theorem dX0_link_49 : decode cX0_link 49 = .ok (.aload 4, 2) := dk_25 4 (dk_at dksX0_link_2 2 rfl rfl)
theorem dX0_link_51 : decode cX0_link 51 = .ok (.ifnonnull 13, 3) := dk_199 0 13 (dk_at dksX0_link_2 4 rfl rfl)
theorem dX0_link_54 : decode cX0_link 54 = .ok (.iload_n 3, 1) := dk_29 (dk_at dksX0_link_2 7 rfl rfl)
theorem dX0_link_55 : decode cX0_link 55 = .ok (.ifCond .ne 7, 3) := dk_154 0 7 (dk_at dksX0_link_2 8 rfl rfl)
theorem dX0_link_58 : decode cX0_link 58 = .ok (.iconst 0, 1) := dk_3 (dk_at dksX0_link_2 11 rfl rfl)
theorem dX0_link_59 : decode cX0_link 59 = .ok (.goto 4, 3) := dk_167 0 4 (dk_at dksX0_link_2 12 rfl rfl)
theorem dX0_link_62 : decode cX0_link 62 = .ok (.iconst (-1), 1) := dk_2 (dk_at dksX0_link_2 15 rfl rfl)
theorem dX0_link_63 : decode cX0_link 63 = .ok (.ireturn, 1) := dk_172 (dk_at dksX0_link_2 16 rfl rfl)
theorem dX0_link_64 : decode cX0_link 64 = .ok (.iload_n 3, 1) := dk_29 (dk_at dksX0_link_2 17 rfl rfl)
theorem dX0_link_65 : decode cX0_link 65 = .ok (.ifCond .ne 11, 3) := dk_154 0 11 (dk_at dksX0_link_2 18 rfl rfl)
theorem dX0_link_68 : decode cX0_link 68 = .ok (.aload 4, 2) := dk_25 4 (dk_at dksX0_link_2 21 rfl rfl)
theorem dX0_link_70 : decode cX0_link 70 = .ok (.getfield 261, 3) := dk_180 1 5 (dk_at dksX0_link_3 0 rfl rfl)
theorem dX0_link_73 : decode cX0_link 73 = .ok (.goto 29, 3) := dk_167 0 29 (dk_at dksX0_link_3 3 rfl rfl)
theorem dX0_link_76 : decode cX0_link 76 = .ok (.iload_n 3, 1) := dk_29 (dk_at dksX0_link_3 6 rfl rfl)
theorem dX0_link_77 : decode cX0_link 77 = .ok (.iconst 1, 1) := dk_4 (dk_at dksX0_link_3 7 rfl rfl)
theorem dX0_link_78 : decode cX0_link 78 = .ok (.if_icmp .ne 16, 3) := dk_160 0 16 (dk_at dksX0_link_3 8 rfl rfl)
theorem dX0_link_81 : decode cX0_link 81 = .ok (.aload 4, 2) := dk_25 4 (dk_at dksX0_link_3 11 rfl rfl)
theorem dX0_link_83 : decode cX0_link 83 = .ok (.getfield 265, 3) := dk_180 1 9 (dk_at dksX0_link_3 13 rfl rfl)
theorem dX0_link_86 : decode cX0_link 86 = .ok (.getfield 269, 3) := dk_180 1 13 (dk_at dksX0_link_3 16 rfl rfl)
theorem dX0_link_89 : decode cX0_link 89 = .ok (.iconst 1, 1) := dk_4 (dk_at dksX0_link_3 19 rfl rfl)
theorem dX0_link_90 : decode cX0_link 90 = .ok (.iadd, 1) := dk_96 (dk_at dksX0_link_3 20 rfl rfl)
theorem dX0_link_91 : decode cX0_link 91 = .ok (.goto 11, 3) := dk_167 0 11 (dk_at dksX0_link_3 21 rfl rfl)
theorem dX0_link_94 : decode cX0_link 94 = .ok (.aload 4, 2) := dk_25 4 (dk_at dksX0_link_4 0 rfl rfl)
theorem dX0_link_96 : decode cX0_link 96 = .ok (.getfield 265, 3) := dk_180 1 9 (dk_at dksX0_link_4 2 rfl rfl)
theorem dX0_link_99 : decode cX0_link 99 = .ok (.getfield 274, 3) := dk_180 1 18 (dk_at dksX0_link_4 5 rfl rfl)
theorem dX0_link_102 : decode cX0_link 102 = .ok (.ireturn, 1) := dk_172 (dk_at dksX0_link_4 8 rfl rfl)
abbrev cX0_chain : ByteArray := prog_1_method_37_code
def yX0_chain : MethodName := ⟨RX0, "chain", "(II)I"⟩
def dkwX0_chain_1 : List UInt8 := [154, 0, 14, 42, 182, 0, 250, 27, 182, 1, 21, 167, 0, 12, 42, 182, 0, 250, 180, 1, 24, 27, 46, 172]
abbrev dktX0_chain_1 : List UInt8 := dkwX0_chain_1 ++ []
def dkwX0_chain_0 : List UInt8 := [42, 27, 182, 0, 197, 153, 0, 13, 28, 133, 9, 10, 184, 0, 98, 154, 0, 8, 42, 182, 0, 90, 172, 28]
abbrev dktX0_chain_0 : List UInt8 := dkwX0_chain_0 ++ dktX0_chain_1
theorem dksX0_chain_0 : cX0_chain.data.toList.drop 0 = dktX0_chain_0 := by decide +kernel
theorem dksX0_chain_1 : cX0_chain.data.toList.drop 24 = dktX0_chain_1 := dk_seg dksX0_chain_0 24 rfl rfl
theorem dX0_chain_0 : decode cX0_chain 0 = .ok (.aload_n 0, 1) := dk_42 (dk_at dksX0_chain_0 0 rfl rfl)
theorem dX0_chain_1 : decode cX0_chain 1 = .ok (.iload_n 1, 1) := dk_27 (dk_at dksX0_chain_0 1 rfl rfl)
theorem dX0_chain_2 : decode cX0_chain 2 = .ok (.invokevirtual 197, 3) := dk_182 0 197 (dk_at dksX0_chain_0 2 rfl rfl)
theorem dX0_chain_5 : decode cX0_chain 5 = .ok (.ifCond .eq 13, 3) := dk_153 0 13 (dk_at dksX0_chain_0 5 rfl rfl)
theorem dX0_chain_8 : decode cX0_chain 8 = .ok (.iload_n 2, 1) := dk_28 (dk_at dksX0_chain_0 8 rfl rfl)
theorem dX0_chain_9 : decode cX0_chain 9 = .ok (.i2l, 1) := dk_133 (dk_at dksX0_chain_0 9 rfl rfl)
theorem dX0_chain_10 : decode cX0_chain 10 = .ok (.lconst 0, 1) := dk_9 (dk_at dksX0_chain_0 10 rfl rfl)
theorem dX0_chain_11 : decode cX0_chain 11 = .ok (.lconst 1, 1) := dk_10 (dk_at dksX0_chain_0 11 rfl rfl)
theorem dX0_chain_12 : decode cX0_chain 12 = .ok (.invokestatic 98, 3) := dk_184 0 98 (dk_at dksX0_chain_0 12 rfl rfl)
theorem dX0_chain_15 : decode cX0_chain 15 = .ok (.ifCond .ne 8, 3) := dk_154 0 8 (dk_at dksX0_chain_0 15 rfl rfl)
theorem dX0_chain_18 : decode cX0_chain 18 = .ok (.aload_n 0, 1) := dk_42 (dk_at dksX0_chain_0 18 rfl rfl)
theorem dX0_chain_19 : decode cX0_chain 19 = .ok (.invokevirtual 90, 3) := dk_182 0 90 (dk_at dksX0_chain_0 19 rfl rfl)
theorem dX0_chain_22 : decode cX0_chain 22 = .ok (.ireturn, 1) := dk_172 (dk_at dksX0_chain_0 22 rfl rfl)
theorem dX0_chain_23 : decode cX0_chain 23 = .ok (.iload_n 2, 1) := dk_28 (dk_at dksX0_chain_0 23 rfl rfl)
theorem dX0_chain_24 : decode cX0_chain 24 = .ok (.ifCond .ne 14, 3) := dk_154 0 14 (dk_at dksX0_chain_1 0 rfl rfl)
theorem dX0_chain_27 : decode cX0_chain 27 = .ok (.aload_n 0, 1) := dk_42 (dk_at dksX0_chain_1 3 rfl rfl)
theorem dX0_chain_28 : decode cX0_chain 28 = .ok (.invokevirtual 250, 3) := dk_182 0 250 (dk_at dksX0_chain_1 4 rfl rfl)
theorem dX0_chain_31 : decode cX0_chain 31 = .ok (.iload_n 1, 1) := dk_27 (dk_at dksX0_chain_1 7 rfl rfl)
theorem dX0_chain_32 : decode cX0_chain 32 = .ok (.invokevirtual 277, 3) := dk_182 1 21 (dk_at dksX0_chain_1 8 rfl rfl)
theorem dX0_chain_35 : decode cX0_chain 35 = .ok (.goto 12, 3) := dk_167 0 12 (dk_at dksX0_chain_1 11 rfl rfl)
theorem dX0_chain_38 : decode cX0_chain 38 = .ok (.aload_n 0, 1) := dk_42 (dk_at dksX0_chain_1 14 rfl rfl)
theorem dX0_chain_39 : decode cX0_chain 39 = .ok (.invokevirtual 250, 3) := dk_182 0 250 (dk_at dksX0_chain_1 15 rfl rfl)
theorem dX0_chain_42 : decode cX0_chain 42 = .ok (.getfield 280, 3) := dk_180 1 24 (dk_at dksX0_chain_1 18 rfl rfl)
theorem dX0_chain_45 : decode cX0_chain 45 = .ok (.iload_n 1, 1) := dk_27 (dk_at dksX0_chain_1 21 rfl rfl)
theorem dX0_chain_46 : decode cX0_chain 46 = .ok (.iaload, 1) := dk_46 (dk_at dksX0_chain_1 22 rfl rfl)
theorem dX0_chain_47 : decode cX0_chain 47 = .ok (.ireturn, 1) := dk_172 (dk_at dksX0_chain_1 23 rfl rfl)
abbrev cX0_all : ByteArray := prog_1_method_39_code
def yX0_all : MethodName := ⟨RX0, "all", "(I)I"⟩
def dkwX0_all_1 : List UInt8 := [172]
abbrev dktX0_all_1 : List UInt8 := dkwX0_all_1 ++ []
def dkwX0_all_0 : List UInt8 := [27, 133, 9, 20, 0, 160, 184, 0, 98, 153, 0, 11, 42, 27, 182, 1, 48, 167, 0, 7, 42, 182, 0, 90]
abbrev dktX0_all_0 : List UInt8 := dkwX0_all_0 ++ dktX0_all_1
theorem dksX0_all_0 : cX0_all.data.toList.drop 0 = dktX0_all_0 := by decide +kernel
theorem dksX0_all_1 : cX0_all.data.toList.drop 24 = dktX0_all_1 := dk_seg dksX0_all_0 24 rfl rfl
theorem dX0_all_0 : decode cX0_all 0 = .ok (.iload_n 1, 1) := dk_27 (dk_at dksX0_all_0 0 rfl rfl)
theorem dX0_all_1 : decode cX0_all 1 = .ok (.i2l, 1) := dk_133 (dk_at dksX0_all_0 1 rfl rfl)
theorem dX0_all_2 : decode cX0_all 2 = .ok (.lconst 0, 1) := dk_9 (dk_at dksX0_all_0 2 rfl rfl)
theorem dX0_all_3 : decode cX0_all 3 = .ok (.ldc2_w 160, 3) := dk_20 0 160 (dk_at dksX0_all_0 3 rfl rfl)
theorem dX0_all_6 : decode cX0_all 6 = .ok (.invokestatic 98, 3) := dk_184 0 98 (dk_at dksX0_all_0 6 rfl rfl)
theorem dX0_all_9 : decode cX0_all 9 = .ok (.ifCond .eq 11, 3) := dk_153 0 11 (dk_at dksX0_all_0 9 rfl rfl)
theorem dX0_all_12 : decode cX0_all 12 = .ok (.aload_n 0, 1) := dk_42 (dk_at dksX0_all_0 12 rfl rfl)
theorem dX0_all_13 : decode cX0_all 13 = .ok (.iload_n 1, 1) := dk_27 (dk_at dksX0_all_0 13 rfl rfl)
theorem dX0_all_14 : decode cX0_all 14 = .ok (.invokevirtual 304, 3) := dk_182 1 48 (dk_at dksX0_all_0 14 rfl rfl)
theorem dX0_all_17 : decode cX0_all 17 = .ok (.goto 7, 3) := dk_167 0 7 (dk_at dksX0_all_0 17 rfl rfl)
theorem dX0_all_20 : decode cX0_all 20 = .ok (.aload_n 0, 1) := dk_42 (dk_at dksX0_all_0 20 rfl rfl)
theorem dX0_all_21 : decode cX0_all 21 = .ok (.invokevirtual 90, 3) := dk_182 0 90 (dk_at dksX0_all_0 21 rfl rfl)
theorem dX0_all_24 : decode cX0_all 24 = .ok (.ireturn, 1) := dk_172 (dk_at dksX0_all_1 0 rfl rfl)
abbrev cX0_allOf : ByteArray := prog_1_method_38_code
def yX0_allOf : MethodName := ⟨RX0, "allOf", "(I)I"⟩
def dkwX0_allOf_4 : List UInt8 := [184, 1, 42, 172, 42, 180, 0, 33, 180, 0, 94, 44, 186, 1, 47, 0, 0, 184, 0, 241, 184, 1, 42, 172]
abbrev dktX0_allOf_4 : List UInt8 := dkwX0_allOf_4 ++ []
def dkwX0_allOf_3 : List UInt8 := [180, 1, 36, 16, 6, 96, 172, 42, 180, 0, 33, 180, 0, 94, 44, 186, 1, 39, 0, 0, 184, 0, 241]
abbrev dktX0_allOf_3 : List UInt8 := dkwX0_allOf_3 ++ dktX0_allOf_4
def dkwX0_allOf_2 : List UInt8 := [44, 180, 1, 27, 172, 44, 180, 1, 30, 153, 0, 7, 4, 167, 0, 4, 3, 172, 44, 180, 1, 33, 172, 44]
abbrev dktX0_allOf_2 : List UInt8 := dkwX0_allOf_2 ++ dktX0_allOf_3
def dkwX0_allOf_1 : List UInt8 := [170, 0, 0, 0, 0, 85, 0, 0, 0, 0, 0, 0, 0, 4, 0, 0, 0, 34, 0, 0, 0, 39, 0, 0, 0, 52, 0, 0, 0, 57, 0, 0, 0, 65]
abbrev dktX0_allOf_1 : List UInt8 := dkwX0_allOf_1 ++ dktX0_allOf_2
def dkwX0_allOf_0 : List UInt8 := [42, 182, 0, 250, 77, 27]
abbrev dktX0_allOf_0 : List UInt8 := dkwX0_allOf_0 ++ dktX0_allOf_1
theorem dksX0_allOf_0 : cX0_allOf.data.toList.drop 0 = dktX0_allOf_0 := by decide +kernel
theorem dksX0_allOf_1 : cX0_allOf.data.toList.drop 6 = dktX0_allOf_1 := dk_seg dksX0_allOf_0 6 rfl rfl
theorem dksX0_allOf_2 : cX0_allOf.data.toList.drop 40 = dktX0_allOf_2 := dk_seg dksX0_allOf_1 34 rfl rfl
theorem dksX0_allOf_3 : cX0_allOf.data.toList.drop 64 = dktX0_allOf_3 := dk_seg dksX0_allOf_2 24 rfl rfl
theorem dksX0_allOf_4 : cX0_allOf.data.toList.drop 87 = dktX0_allOf_4 := dk_seg dksX0_allOf_3 23 rfl rfl
theorem dX0_allOf_0 : decode cX0_allOf 0 = .ok (.aload_n 0, 1) := dk_42 (dk_at dksX0_allOf_0 0 rfl rfl)
theorem dX0_allOf_1 : decode cX0_allOf 1 = .ok (.invokevirtual 250, 3) := dk_182 0 250 (dk_at dksX0_allOf_0 1 rfl rfl)
theorem dX0_allOf_4 : decode cX0_allOf 4 = .ok (.astore_n 2, 1) := dk_77 (dk_at dksX0_allOf_0 4 rfl rfl)
theorem dX0_allOf_5 : decode cX0_allOf 5 = .ok (.iload_n 1, 1) := dk_27 (dk_at dksX0_allOf_0 5 rfl rfl)
theorem dX0_allOf_6 : decode cX0_allOf 6 = .ok (.tableswitch 85 0 4 #[34, 39, 52, 57, 65], 34) := by decide +kernel
theorem dX0_allOf_40 : decode cX0_allOf 40 = .ok (.aload_n 2, 1) := dk_44 (dk_at dksX0_allOf_2 0 rfl rfl)
theorem dX0_allOf_41 : decode cX0_allOf 41 = .ok (.getfield 283, 3) := dk_180 1 27 (dk_at dksX0_allOf_2 1 rfl rfl)
theorem dX0_allOf_44 : decode cX0_allOf 44 = .ok (.ireturn, 1) := dk_172 (dk_at dksX0_allOf_2 4 rfl rfl)
theorem dX0_allOf_45 : decode cX0_allOf 45 = .ok (.aload_n 2, 1) := dk_44 (dk_at dksX0_allOf_2 5 rfl rfl)
theorem dX0_allOf_46 : decode cX0_allOf 46 = .ok (.getfield 286, 3) := dk_180 1 30 (dk_at dksX0_allOf_2 6 rfl rfl)
theorem dX0_allOf_49 : decode cX0_allOf 49 = .ok (.ifCond .eq 7, 3) := dk_153 0 7 (dk_at dksX0_allOf_2 9 rfl rfl)
theorem dX0_allOf_52 : decode cX0_allOf 52 = .ok (.iconst 1, 1) := dk_4 (dk_at dksX0_allOf_2 12 rfl rfl)
theorem dX0_allOf_53 : decode cX0_allOf 53 = .ok (.goto 4, 3) := dk_167 0 4 (dk_at dksX0_allOf_2 13 rfl rfl)
theorem dX0_allOf_56 : decode cX0_allOf 56 = .ok (.iconst 0, 1) := dk_3 (dk_at dksX0_allOf_2 16 rfl rfl)
theorem dX0_allOf_57 : decode cX0_allOf 57 = .ok (.ireturn, 1) := dk_172 (dk_at dksX0_allOf_2 17 rfl rfl)
theorem dX0_allOf_58 : decode cX0_allOf 58 = .ok (.aload_n 2, 1) := dk_44 (dk_at dksX0_allOf_2 18 rfl rfl)
theorem dX0_allOf_59 : decode cX0_allOf 59 = .ok (.getfield 289, 3) := dk_180 1 33 (dk_at dksX0_allOf_2 19 rfl rfl)
theorem dX0_allOf_62 : decode cX0_allOf 62 = .ok (.ireturn, 1) := dk_172 (dk_at dksX0_allOf_2 22 rfl rfl)
theorem dX0_allOf_63 : decode cX0_allOf 63 = .ok (.aload_n 2, 1) := dk_44 (dk_at dksX0_allOf_2 23 rfl rfl)
theorem dX0_allOf_64 : decode cX0_allOf 64 = .ok (.getfield 292, 3) := dk_180 1 36 (dk_at dksX0_allOf_3 0 rfl rfl)
theorem dX0_allOf_67 : decode cX0_allOf 67 = .ok (.bipush 6, 2) := dk_16 6 (dk_at dksX0_allOf_3 3 rfl rfl)
theorem dX0_allOf_69 : decode cX0_allOf 69 = .ok (.iadd, 1) := dk_96 (dk_at dksX0_allOf_3 5 rfl rfl)
theorem dX0_allOf_70 : decode cX0_allOf 70 = .ok (.ireturn, 1) := dk_172 (dk_at dksX0_allOf_3 6 rfl rfl)
theorem dX0_allOf_71 : decode cX0_allOf 71 = .ok (.aload_n 0, 1) := dk_42 (dk_at dksX0_allOf_3 7 rfl rfl)
theorem dX0_allOf_72 : decode cX0_allOf 72 = .ok (.getfield 33, 3) := dk_180 0 33 (dk_at dksX0_allOf_3 8 rfl rfl)
theorem dX0_allOf_75 : decode cX0_allOf 75 = .ok (.getfield 94, 3) := dk_180 0 94 (dk_at dksX0_allOf_3 11 rfl rfl)
theorem dX0_allOf_78 : decode cX0_allOf 78 = .ok (.aload_n 2, 1) := dk_44 (dk_at dksX0_allOf_3 14 rfl rfl)
theorem dX0_allOf_79 : decode cX0_allOf 79 = .ok (.invokedynamic 295, 5) := by decide +kernel
theorem dX0_allOf_84 : decode cX0_allOf 84 = .ok (.invokestatic 241, 3) := dk_184 0 241 (dk_at dksX0_allOf_3 20 rfl rfl)
theorem dX0_allOf_87 : decode cX0_allOf 87 = .ok (.invokestatic 298, 3) := dk_184 1 42 (dk_at dksX0_allOf_4 0 rfl rfl)
theorem dX0_allOf_90 : decode cX0_allOf 90 = .ok (.ireturn, 1) := dk_172 (dk_at dksX0_allOf_4 3 rfl rfl)
theorem dX0_allOf_91 : decode cX0_allOf 91 = .ok (.aload_n 0, 1) := dk_42 (dk_at dksX0_allOf_4 4 rfl rfl)
theorem dX0_allOf_92 : decode cX0_allOf 92 = .ok (.getfield 33, 3) := dk_180 0 33 (dk_at dksX0_allOf_4 5 rfl rfl)
theorem dX0_allOf_95 : decode cX0_allOf 95 = .ok (.getfield 94, 3) := dk_180 0 94 (dk_at dksX0_allOf_4 8 rfl rfl)
theorem dX0_allOf_98 : decode cX0_allOf 98 = .ok (.aload_n 2, 1) := dk_44 (dk_at dksX0_allOf_4 11 rfl rfl)
theorem dX0_allOf_99 : decode cX0_allOf 99 = .ok (.invokedynamic 303, 5) := by decide +kernel
theorem dX0_allOf_104 : decode cX0_allOf 104 = .ok (.invokestatic 241, 3) := dk_184 0 241 (dk_at dksX0_allOf_4 17 rfl rfl)
theorem dX0_allOf_107 : decode cX0_allOf 107 = .ok (.invokestatic 298, 3) := dk_184 1 42 (dk_at dksX0_allOf_4 20 rfl rfl)
theorem dX0_allOf_110 : decode cX0_allOf 110 = .ok (.ireturn, 1) := dk_172 (dk_at dksX0_allOf_4 23 rfl rfl)
abbrev cX0_lambda_allOf_2 : ByteArray := prog_1_method_60_code
def yX0_lambda_allOf_2 : MethodName := ⟨RX0, "lambda$allOf$2", "(LPictureRing$Joiner;I)Z"⟩
def dkwX0_lambda_allOf_2_0 : List UInt8 := [42, 27, 182, 1, 166, 172]
abbrev dktX0_lambda_allOf_2_0 : List UInt8 := dkwX0_lambda_allOf_2_0 ++ []
theorem dksX0_lambda_allOf_2_0 : cX0_lambda_allOf_2.data.toList.drop 0 = dktX0_lambda_allOf_2_0 := by decide +kernel
theorem dX0_lambda_allOf_2_0 : decode cX0_lambda_allOf_2 0 = .ok (.aload_n 0, 1) := dk_42 (dk_at dksX0_lambda_allOf_2_0 0 rfl rfl)
theorem dX0_lambda_allOf_2_1 : decode cX0_lambda_allOf_2 1 = .ok (.iload_n 1, 1) := dk_27 (dk_at dksX0_lambda_allOf_2_0 1 rfl rfl)
theorem dX0_lambda_allOf_2_2 : decode cX0_lambda_allOf_2 2 = .ok (.invokevirtual 422, 3) := dk_182 1 166 (dk_at dksX0_lambda_allOf_2_0 2 rfl rfl)
theorem dX0_lambda_allOf_2_5 : decode cX0_lambda_allOf_2 5 = .ok (.ireturn, 1) := dk_172 (dk_at dksX0_lambda_allOf_2_0 5 rfl rfl)
abbrev cX0_lambda_allOf_3 : ByteArray := prog_1_method_59_code
def yX0_lambda_allOf_3 : MethodName := ⟨RX0, "lambda$allOf$3", "(LPictureRing$Joiner;I)Z"⟩
def dkwX0_lambda_allOf_3_0 : List UInt8 := [42, 180, 1, 24, 27, 46, 2, 160, 0, 7, 4, 167, 0, 4, 3, 172]
abbrev dktX0_lambda_allOf_3_0 : List UInt8 := dkwX0_lambda_allOf_3_0 ++ []
theorem dksX0_lambda_allOf_3_0 : cX0_lambda_allOf_3.data.toList.drop 0 = dktX0_lambda_allOf_3_0 := by decide +kernel
theorem dX0_lambda_allOf_3_0 : decode cX0_lambda_allOf_3 0 = .ok (.aload_n 0, 1) := dk_42 (dk_at dksX0_lambda_allOf_3_0 0 rfl rfl)
theorem dX0_lambda_allOf_3_1 : decode cX0_lambda_allOf_3 1 = .ok (.getfield 280, 3) := dk_180 1 24 (dk_at dksX0_lambda_allOf_3_0 1 rfl rfl)
theorem dX0_lambda_allOf_3_4 : decode cX0_lambda_allOf_3 4 = .ok (.iload_n 1, 1) := dk_27 (dk_at dksX0_lambda_allOf_3_0 4 rfl rfl)
theorem dX0_lambda_allOf_3_5 : decode cX0_lambda_allOf_3 5 = .ok (.iaload, 1) := dk_46 (dk_at dksX0_lambda_allOf_3_0 5 rfl rfl)
theorem dX0_lambda_allOf_3_6 : decode cX0_lambda_allOf_3 6 = .ok (.iconst (-1), 1) := dk_2 (dk_at dksX0_lambda_allOf_3_0 6 rfl rfl)
theorem dX0_lambda_allOf_3_7 : decode cX0_lambda_allOf_3 7 = .ok (.if_icmp .ne 7, 3) := dk_160 0 7 (dk_at dksX0_lambda_allOf_3_0 7 rfl rfl)
theorem dX0_lambda_allOf_3_10 : decode cX0_lambda_allOf_3 10 = .ok (.iconst 1, 1) := dk_4 (dk_at dksX0_lambda_allOf_3_0 10 rfl rfl)
theorem dX0_lambda_allOf_3_11 : decode cX0_lambda_allOf_3 11 = .ok (.goto 4, 3) := dk_167 0 4 (dk_at dksX0_lambda_allOf_3_0 11 rfl rfl)
theorem dX0_lambda_allOf_3_14 : decode cX0_lambda_allOf_3 14 = .ok (.iconst 0, 1) := dk_3 (dk_at dksX0_lambda_allOf_3_0 14 rfl rfl)
theorem dX0_lambda_allOf_3_15 : decode cX0_lambda_allOf_3 15 = .ok (.ireturn, 1) := dk_172 (dk_at dksX0_lambda_allOf_3_0 15 rfl rfl)
abbrev cX0_place : ByteArray := prog_1_method_40_code
def yX0_place : MethodName := ⟨RX0, "place", "(II)I"⟩
def dkwX0_place_2 : List UInt8 := [167, 0, 7, 42, 182, 1, 54, 172]
abbrev dktX0_place_2 : List UInt8 := dkwX0_place_2 ++ []
def dkwX0_place_1 : List UInt8 := [182, 0, 250, 180, 1, 30, 153, 0, 20, 42, 180, 0, 64, 27, 28, 182, 1, 51, 16, 20, 28, 104, 96]
abbrev dktX0_place_1 : List UInt8 := dkwX0_place_1 ++ dktX0_place_2
def dkwX0_place_0 : List UInt8 := [42, 27, 182, 0, 197, 153, 0, 13, 28, 133, 9, 10, 184, 0, 98, 154, 0, 8, 42, 182, 0, 90, 172, 42]
abbrev dktX0_place_0 : List UInt8 := dkwX0_place_0 ++ dktX0_place_1
theorem dksX0_place_0 : cX0_place.data.toList.drop 0 = dktX0_place_0 := by decide +kernel
theorem dksX0_place_1 : cX0_place.data.toList.drop 24 = dktX0_place_1 := dk_seg dksX0_place_0 24 rfl rfl
theorem dksX0_place_2 : cX0_place.data.toList.drop 47 = dktX0_place_2 := dk_seg dksX0_place_1 23 rfl rfl
theorem dX0_place_0 : decode cX0_place 0 = .ok (.aload_n 0, 1) := dk_42 (dk_at dksX0_place_0 0 rfl rfl)
theorem dX0_place_1 : decode cX0_place 1 = .ok (.iload_n 1, 1) := dk_27 (dk_at dksX0_place_0 1 rfl rfl)
theorem dX0_place_2 : decode cX0_place 2 = .ok (.invokevirtual 197, 3) := dk_182 0 197 (dk_at dksX0_place_0 2 rfl rfl)
theorem dX0_place_5 : decode cX0_place 5 = .ok (.ifCond .eq 13, 3) := dk_153 0 13 (dk_at dksX0_place_0 5 rfl rfl)
theorem dX0_place_8 : decode cX0_place 8 = .ok (.iload_n 2, 1) := dk_28 (dk_at dksX0_place_0 8 rfl rfl)
theorem dX0_place_9 : decode cX0_place 9 = .ok (.i2l, 1) := dk_133 (dk_at dksX0_place_0 9 rfl rfl)
theorem dX0_place_10 : decode cX0_place 10 = .ok (.lconst 0, 1) := dk_9 (dk_at dksX0_place_0 10 rfl rfl)
theorem dX0_place_11 : decode cX0_place 11 = .ok (.lconst 1, 1) := dk_10 (dk_at dksX0_place_0 11 rfl rfl)
theorem dX0_place_12 : decode cX0_place 12 = .ok (.invokestatic 98, 3) := dk_184 0 98 (dk_at dksX0_place_0 12 rfl rfl)
theorem dX0_place_15 : decode cX0_place 15 = .ok (.ifCond .ne 8, 3) := dk_154 0 8 (dk_at dksX0_place_0 15 rfl rfl)
theorem dX0_place_18 : decode cX0_place 18 = .ok (.aload_n 0, 1) := dk_42 (dk_at dksX0_place_0 18 rfl rfl)
theorem dX0_place_19 : decode cX0_place 19 = .ok (.invokevirtual 90, 3) := dk_182 0 90 (dk_at dksX0_place_0 19 rfl rfl)
theorem dX0_place_22 : decode cX0_place 22 = .ok (.ireturn, 1) := dk_172 (dk_at dksX0_place_0 22 rfl rfl)
theorem dX0_place_23 : decode cX0_place 23 = .ok (.aload_n 0, 1) := dk_42 (dk_at dksX0_place_0 23 rfl rfl)
theorem dX0_place_24 : decode cX0_place 24 = .ok (.invokevirtual 250, 3) := dk_182 0 250 (dk_at dksX0_place_1 0 rfl rfl)
theorem dX0_place_27 : decode cX0_place 27 = .ok (.getfield 286, 3) := dk_180 1 30 (dk_at dksX0_place_1 3 rfl rfl)
theorem dX0_place_30 : decode cX0_place 30 = .ok (.ifCond .eq 20, 3) := dk_153 0 20 (dk_at dksX0_place_1 6 rfl rfl)
theorem dX0_place_33 : decode cX0_place 33 = .ok (.aload_n 0, 1) := dk_42 (dk_at dksX0_place_1 9 rfl rfl)
theorem dX0_place_34 : decode cX0_place 34 = .ok (.getfield 64, 3) := dk_180 0 64 (dk_at dksX0_place_1 10 rfl rfl)
theorem dX0_place_37 : decode cX0_place 37 = .ok (.iload_n 1, 1) := dk_27 (dk_at dksX0_place_1 13 rfl rfl)
theorem dX0_place_38 : decode cX0_place 38 = .ok (.iload_n 2, 1) := dk_28 (dk_at dksX0_place_1 14 rfl rfl)
theorem dX0_place_39 : decode cX0_place 39 = .ok (.invokevirtual 307, 3) := dk_182 1 51 (dk_at dksX0_place_1 15 rfl rfl)
theorem dX0_place_42 : decode cX0_place 42 = .ok (.bipush 20, 2) := dk_16 20 (dk_at dksX0_place_1 18 rfl rfl)
theorem dX0_place_44 : decode cX0_place 44 = .ok (.iload_n 2, 1) := dk_28 (dk_at dksX0_place_1 20 rfl rfl)
theorem dX0_place_45 : decode cX0_place 45 = .ok (.imul, 1) := dk_104 (dk_at dksX0_place_1 21 rfl rfl)
theorem dX0_place_46 : decode cX0_place 46 = .ok (.iadd, 1) := dk_96 (dk_at dksX0_place_1 22 rfl rfl)
theorem dX0_place_47 : decode cX0_place 47 = .ok (.goto 7, 3) := dk_167 0 7 (dk_at dksX0_place_2 0 rfl rfl)
theorem dX0_place_50 : decode cX0_place 50 = .ok (.aload_n 0, 1) := dk_42 (dk_at dksX0_place_2 3 rfl rfl)
theorem dX0_place_51 : decode cX0_place 51 = .ok (.invokevirtual 310, 3) := dk_182 1 54 (dk_at dksX0_place_2 4 rfl rfl)
theorem dX0_place_54 : decode cX0_place 54 = .ok (.ireturn, 1) := dk_172 (dk_at dksX0_place_2 7 rfl rfl)
abbrev cX0_no : ByteArray := prog_1_method_10_code
def yX0_no : MethodName := ⟨RX0, "no", "()I"⟩
def dkwX0_no_0 : List UInt8 := [42, 4, 16, 253, 182, 0, 86, 172]
abbrev dktX0_no_0 : List UInt8 := dkwX0_no_0 ++ []
theorem dksX0_no_0 : cX0_no.data.toList.drop 0 = dktX0_no_0 := by decide +kernel
theorem dX0_no_0 : decode cX0_no 0 = .ok (.aload_n 0, 1) := dk_42 (dk_at dksX0_no_0 0 rfl rfl)
theorem dX0_no_1 : decode cX0_no 1 = .ok (.iconst 1, 1) := dk_4 (dk_at dksX0_no_0 1 rfl rfl)
theorem dX0_no_2 : decode cX0_no 2 = .ok (.bipush (-3), 2) := dk_16 253 (dk_at dksX0_no_0 2 rfl rfl)
theorem dX0_no_4 : decode cX0_no 4 = .ok (.invokevirtual 86, 3) := dk_182 0 86 (dk_at dksX0_no_0 4 rfl rfl)
theorem dX0_no_7 : decode cX0_no 7 = .ok (.ireturn, 1) := dk_172 (dk_at dksX0_no_0 7 rfl rfl)
abbrev cX0_overlap : ByteArray := prog_1_method_42_code
def yX0_overlap : MethodName := ⟨RX0, "overlap", "(II)I"⟩
def dkwX0_overlap_5 : List UInt8 := [180, 0, 64, 180, 1, 89, 17, 7, 208, 96, 172]
abbrev dktX0_overlap_5 : List UInt8 := dkwX0_overlap_5 ++ []
def dkwX0_overlap_4 : List UInt8 := [42, 180, 0, 64, 180, 1, 79, 172, 42, 180, 0, 64, 180, 1, 82, 172, 42, 45, 182, 1, 85, 172, 42]
abbrev dktX0_overlap_4 : List UInt8 := dkwX0_overlap_4 ++ dktX0_overlap_5
def dkwX0_overlap_3 : List UInt8 := [170, 0, 0, 0, 0, 0, 49, 0, 0, 0, 0, 0, 0, 0, 2, 0, 0, 0, 27, 0, 0, 0, 35, 0, 0, 0, 43]
abbrev dktX0_overlap_3 : List UInt8 := dkwX0_overlap_3 ++ dktX0_overlap_4
def dkwX0_overlap_2 : List UInt8 := [45, 182, 1, 75, 28]
abbrev dktX0_overlap_2 : List UInt8 := dkwX0_overlap_2 ++ dktX0_overlap_3
def dkwX0_overlap_1 : List UInt8 := [172, 42, 182, 0, 250, 180, 1, 71, 27, 50, 78, 45, 199, 0, 8, 42, 182, 1, 54, 172, 42, 180, 0, 64]
abbrev dktX0_overlap_1 : List UInt8 := dkwX0_overlap_1 ++ dktX0_overlap_2
def dkwX0_overlap_0 : List UInt8 := [42, 27, 182, 0, 197, 153, 0, 15, 28, 133, 9, 20, 0, 102, 184, 0, 98, 154, 0, 8, 42, 182, 0, 90]
abbrev dktX0_overlap_0 : List UInt8 := dkwX0_overlap_0 ++ dktX0_overlap_1
theorem dksX0_overlap_0 : cX0_overlap.data.toList.drop 0 = dktX0_overlap_0 := by decide +kernel
theorem dksX0_overlap_1 : cX0_overlap.data.toList.drop 24 = dktX0_overlap_1 := dk_seg dksX0_overlap_0 24 rfl rfl
theorem dksX0_overlap_2 : cX0_overlap.data.toList.drop 48 = dktX0_overlap_2 := dk_seg dksX0_overlap_1 24 rfl rfl
theorem dksX0_overlap_3 : cX0_overlap.data.toList.drop 53 = dktX0_overlap_3 := dk_seg dksX0_overlap_2 5 rfl rfl
theorem dksX0_overlap_4 : cX0_overlap.data.toList.drop 80 = dktX0_overlap_4 := dk_seg dksX0_overlap_3 27 rfl rfl
theorem dksX0_overlap_5 : cX0_overlap.data.toList.drop 103 = dktX0_overlap_5 := dk_seg dksX0_overlap_4 23 rfl rfl
theorem dX0_overlap_0 : decode cX0_overlap 0 = .ok (.aload_n 0, 1) := dk_42 (dk_at dksX0_overlap_0 0 rfl rfl)
theorem dX0_overlap_1 : decode cX0_overlap 1 = .ok (.iload_n 1, 1) := dk_27 (dk_at dksX0_overlap_0 1 rfl rfl)
theorem dX0_overlap_2 : decode cX0_overlap 2 = .ok (.invokevirtual 197, 3) := dk_182 0 197 (dk_at dksX0_overlap_0 2 rfl rfl)
theorem dX0_overlap_5 : decode cX0_overlap 5 = .ok (.ifCond .eq 15, 3) := dk_153 0 15 (dk_at dksX0_overlap_0 5 rfl rfl)
theorem dX0_overlap_8 : decode cX0_overlap 8 = .ok (.iload_n 2, 1) := dk_28 (dk_at dksX0_overlap_0 8 rfl rfl)
theorem dX0_overlap_9 : decode cX0_overlap 9 = .ok (.i2l, 1) := dk_133 (dk_at dksX0_overlap_0 9 rfl rfl)
theorem dX0_overlap_10 : decode cX0_overlap 10 = .ok (.lconst 0, 1) := dk_9 (dk_at dksX0_overlap_0 10 rfl rfl)
theorem dX0_overlap_11 : decode cX0_overlap 11 = .ok (.ldc2_w 102, 3) := dk_20 0 102 (dk_at dksX0_overlap_0 11 rfl rfl)
theorem dX0_overlap_14 : decode cX0_overlap 14 = .ok (.invokestatic 98, 3) := dk_184 0 98 (dk_at dksX0_overlap_0 14 rfl rfl)
theorem dX0_overlap_17 : decode cX0_overlap 17 = .ok (.ifCond .ne 8, 3) := dk_154 0 8 (dk_at dksX0_overlap_0 17 rfl rfl)
theorem dX0_overlap_20 : decode cX0_overlap 20 = .ok (.aload_n 0, 1) := dk_42 (dk_at dksX0_overlap_0 20 rfl rfl)
theorem dX0_overlap_21 : decode cX0_overlap 21 = .ok (.invokevirtual 90, 3) := dk_182 0 90 (dk_at dksX0_overlap_0 21 rfl rfl)
theorem dX0_overlap_24 : decode cX0_overlap 24 = .ok (.ireturn, 1) := dk_172 (dk_at dksX0_overlap_1 0 rfl rfl)
theorem dX0_overlap_25 : decode cX0_overlap 25 = .ok (.aload_n 0, 1) := dk_42 (dk_at dksX0_overlap_1 1 rfl rfl)
theorem dX0_overlap_26 : decode cX0_overlap 26 = .ok (.invokevirtual 250, 3) := dk_182 0 250 (dk_at dksX0_overlap_1 2 rfl rfl)
theorem dX0_overlap_29 : decode cX0_overlap 29 = .ok (.getfield 327, 3) := dk_180 1 71 (dk_at dksX0_overlap_1 5 rfl rfl)
theorem dX0_overlap_32 : decode cX0_overlap 32 = .ok (.iload_n 1, 1) := dk_27 (dk_at dksX0_overlap_1 8 rfl rfl)
theorem dX0_overlap_33 : decode cX0_overlap 33 = .ok (.aaload, 1) := dk_50 (dk_at dksX0_overlap_1 9 rfl rfl)
theorem dX0_overlap_34 : decode cX0_overlap 34 = .ok (.astore_n 3, 1) := dk_78 (dk_at dksX0_overlap_1 10 rfl rfl)
theorem dX0_overlap_35 : decode cX0_overlap 35 = .ok (.aload_n 3, 1) := dk_45 (dk_at dksX0_overlap_1 11 rfl rfl)
theorem dX0_overlap_36 : decode cX0_overlap 36 = .ok (.ifnonnull 8, 3) := dk_199 0 8 (dk_at dksX0_overlap_1 12 rfl rfl)
theorem dX0_overlap_39 : decode cX0_overlap 39 = .ok (.aload_n 0, 1) := dk_42 (dk_at dksX0_overlap_1 15 rfl rfl)
theorem dX0_overlap_40 : decode cX0_overlap 40 = .ok (.invokevirtual 310, 3) := dk_182 1 54 (dk_at dksX0_overlap_1 16 rfl rfl)
theorem dX0_overlap_43 : decode cX0_overlap 43 = .ok (.ireturn, 1) := dk_172 (dk_at dksX0_overlap_1 19 rfl rfl)
theorem dX0_overlap_44 : decode cX0_overlap 44 = .ok (.aload_n 0, 1) := dk_42 (dk_at dksX0_overlap_1 20 rfl rfl)
theorem dX0_overlap_45 : decode cX0_overlap 45 = .ok (.getfield 64, 3) := dk_180 0 64 (dk_at dksX0_overlap_1 21 rfl rfl)
theorem dX0_overlap_48 : decode cX0_overlap 48 = .ok (.aload_n 3, 1) := dk_45 (dk_at dksX0_overlap_2 0 rfl rfl)
theorem dX0_overlap_49 : decode cX0_overlap 49 = .ok (.invokevirtual 331, 3) := dk_182 1 75 (dk_at dksX0_overlap_2 1 rfl rfl)
theorem dX0_overlap_52 : decode cX0_overlap 52 = .ok (.iload_n 2, 1) := dk_28 (dk_at dksX0_overlap_2 4 rfl rfl)
theorem dX0_overlap_53 : decode cX0_overlap 53 = .ok (.tableswitch 49 0 2 #[27, 35, 43], 27) := by decide +kernel
theorem dX0_overlap_80 : decode cX0_overlap 80 = .ok (.aload_n 0, 1) := dk_42 (dk_at dksX0_overlap_4 0 rfl rfl)
theorem dX0_overlap_81 : decode cX0_overlap 81 = .ok (.getfield 64, 3) := dk_180 0 64 (dk_at dksX0_overlap_4 1 rfl rfl)
theorem dX0_overlap_84 : decode cX0_overlap 84 = .ok (.getfield 335, 3) := dk_180 1 79 (dk_at dksX0_overlap_4 4 rfl rfl)
theorem dX0_overlap_87 : decode cX0_overlap 87 = .ok (.ireturn, 1) := dk_172 (dk_at dksX0_overlap_4 7 rfl rfl)
theorem dX0_overlap_88 : decode cX0_overlap 88 = .ok (.aload_n 0, 1) := dk_42 (dk_at dksX0_overlap_4 8 rfl rfl)
theorem dX0_overlap_89 : decode cX0_overlap 89 = .ok (.getfield 64, 3) := dk_180 0 64 (dk_at dksX0_overlap_4 9 rfl rfl)
theorem dX0_overlap_92 : decode cX0_overlap 92 = .ok (.getfield 338, 3) := dk_180 1 82 (dk_at dksX0_overlap_4 12 rfl rfl)
theorem dX0_overlap_95 : decode cX0_overlap 95 = .ok (.ireturn, 1) := dk_172 (dk_at dksX0_overlap_4 15 rfl rfl)
theorem dX0_overlap_96 : decode cX0_overlap 96 = .ok (.aload_n 0, 1) := dk_42 (dk_at dksX0_overlap_4 16 rfl rfl)
theorem dX0_overlap_97 : decode cX0_overlap 97 = .ok (.aload_n 3, 1) := dk_45 (dk_at dksX0_overlap_4 17 rfl rfl)
theorem dX0_overlap_98 : decode cX0_overlap 98 = .ok (.invokevirtual 341, 3) := dk_182 1 85 (dk_at dksX0_overlap_4 18 rfl rfl)
theorem dX0_overlap_101 : decode cX0_overlap 101 = .ok (.ireturn, 1) := dk_172 (dk_at dksX0_overlap_4 21 rfl rfl)
theorem dX0_overlap_102 : decode cX0_overlap 102 = .ok (.aload_n 0, 1) := dk_42 (dk_at dksX0_overlap_4 22 rfl rfl)
theorem dX0_overlap_103 : decode cX0_overlap 103 = .ok (.getfield 64, 3) := dk_180 0 64 (dk_at dksX0_overlap_5 0 rfl rfl)
theorem dX0_overlap_106 : decode cX0_overlap 106 = .ok (.getfield 345, 3) := dk_180 1 89 (dk_at dksX0_overlap_5 3 rfl rfl)
theorem dX0_overlap_109 : decode cX0_overlap 109 = .ok (.sipush 2000, 3) := dk_17 7 208 (dk_at dksX0_overlap_5 6 rfl rfl)
theorem dX0_overlap_112 : decode cX0_overlap 112 = .ok (.iadd, 1) := dk_96 (dk_at dksX0_overlap_5 9 rfl rfl)
theorem dX0_overlap_113 : decode cX0_overlap 113 = .ok (.ireturn, 1) := dk_172 (dk_at dksX0_overlap_5 10 rfl rfl)
abbrev cX0_seamCost : ByteArray := prog_1_method_41_code
def yX0_seamCost : MethodName := ⟨RX0, "seamCost", "(LPictureRing$Link;)I"⟩
def dkwX0_seamCost_2 : List UInt8 := [132, 3, 1, 167, 255, 210, 28, 172]
abbrev dktX0_seamCost_2 : List UInt8 := dkwX0_seamCost_2 ++ []
def dkwX0_seamCost_1 : List UInt8 := [42, 180, 0, 64, 180, 1, 60, 43, 180, 1, 64, 50, 29, 46, 182, 1, 67, 167, 0, 4, 3, 96, 61]
abbrev dktX0_seamCost_1 : List UInt8 := dkwX0_seamCost_1 ++ dktX0_seamCost_2
def dkwX0_seamCost_0 : List UInt8 := [3, 61, 3, 62, 29, 7, 162, 0, 47, 28, 43, 29, 182, 1, 57, 153, 0, 29, 42, 180, 0, 64, 43, 29]
abbrev dktX0_seamCost_0 : List UInt8 := dkwX0_seamCost_0 ++ dktX0_seamCost_1
theorem dksX0_seamCost_0 : cX0_seamCost.data.toList.drop 0 = dktX0_seamCost_0 := by decide +kernel
theorem dksX0_seamCost_1 : cX0_seamCost.data.toList.drop 24 = dktX0_seamCost_1 := dk_seg dksX0_seamCost_0 24 rfl rfl
theorem dksX0_seamCost_2 : cX0_seamCost.data.toList.drop 47 = dktX0_seamCost_2 := dk_seg dksX0_seamCost_1 23 rfl rfl
theorem dX0_seamCost_0 : decode cX0_seamCost 0 = .ok (.iconst 0, 1) := dk_3 (dk_at dksX0_seamCost_0 0 rfl rfl)
theorem dX0_seamCost_1 : decode cX0_seamCost 1 = .ok (.istore_n 2, 1) := dk_61 (dk_at dksX0_seamCost_0 1 rfl rfl)
theorem dX0_seamCost_2 : decode cX0_seamCost 2 = .ok (.iconst 0, 1) := dk_3 (dk_at dksX0_seamCost_0 2 rfl rfl)
theorem dX0_seamCost_3 : decode cX0_seamCost 3 = .ok (.istore_n 3, 1) := dk_62 (dk_at dksX0_seamCost_0 3 rfl rfl)
theorem dX0_seamCost_4 : decode cX0_seamCost 4 = .ok (.iload_n 3, 1) := dk_29 (dk_at dksX0_seamCost_0 4 rfl rfl)
theorem dX0_seamCost_5 : decode cX0_seamCost 5 = .ok (.iconst 4, 1) := dk_7 (dk_at dksX0_seamCost_0 5 rfl rfl)
theorem dX0_seamCost_6 : decode cX0_seamCost 6 = .ok (.if_icmp .ge 47, 3) := dk_162 0 47 (dk_at dksX0_seamCost_0 6 rfl rfl)
theorem dX0_seamCost_9 : decode cX0_seamCost 9 = .ok (.iload_n 2, 1) := dk_28 (dk_at dksX0_seamCost_0 9 rfl rfl)
theorem dX0_seamCost_10 : decode cX0_seamCost 10 = .ok (.aload_n 1, 1) := dk_43 (dk_at dksX0_seamCost_0 10 rfl rfl)
theorem dX0_seamCost_11 : decode cX0_seamCost 11 = .ok (.iload_n 3, 1) := dk_29 (dk_at dksX0_seamCost_0 11 rfl rfl)
theorem dX0_seamCost_12 : decode cX0_seamCost 12 = .ok (.invokevirtual 313, 3) := dk_182 1 57 (dk_at dksX0_seamCost_0 12 rfl rfl)
theorem dX0_seamCost_15 : decode cX0_seamCost 15 = .ok (.ifCond .eq 29, 3) := dk_153 0 29 (dk_at dksX0_seamCost_0 15 rfl rfl)
theorem dX0_seamCost_18 : decode cX0_seamCost 18 = .ok (.aload_n 0, 1) := dk_42 (dk_at dksX0_seamCost_0 18 rfl rfl)
theorem dX0_seamCost_19 : decode cX0_seamCost 19 = .ok (.getfield 64, 3) := dk_180 0 64 (dk_at dksX0_seamCost_0 19 rfl rfl)
theorem dX0_seamCost_22 : decode cX0_seamCost 22 = .ok (.aload_n 1, 1) := dk_43 (dk_at dksX0_seamCost_0 22 rfl rfl)
theorem dX0_seamCost_23 : decode cX0_seamCost 23 = .ok (.iload_n 3, 1) := dk_29 (dk_at dksX0_seamCost_0 23 rfl rfl)
theorem dX0_seamCost_24 : decode cX0_seamCost 24 = .ok (.aload_n 0, 1) := dk_42 (dk_at dksX0_seamCost_1 0 rfl rfl)
theorem dX0_seamCost_25 : decode cX0_seamCost 25 = .ok (.getfield 64, 3) := dk_180 0 64 (dk_at dksX0_seamCost_1 1 rfl rfl)
theorem dX0_seamCost_28 : decode cX0_seamCost 28 = .ok (.getfield 316, 3) := dk_180 1 60 (dk_at dksX0_seamCost_1 4 rfl rfl)
theorem dX0_seamCost_31 : decode cX0_seamCost 31 = .ok (.aload_n 1, 1) := dk_43 (dk_at dksX0_seamCost_1 7 rfl rfl)
theorem dX0_seamCost_32 : decode cX0_seamCost 32 = .ok (.getfield 320, 3) := dk_180 1 64 (dk_at dksX0_seamCost_1 8 rfl rfl)
theorem dX0_seamCost_35 : decode cX0_seamCost 35 = .ok (.aaload, 1) := dk_50 (dk_at dksX0_seamCost_1 11 rfl rfl)
theorem dX0_seamCost_36 : decode cX0_seamCost 36 = .ok (.iload_n 3, 1) := dk_29 (dk_at dksX0_seamCost_1 12 rfl rfl)
theorem dX0_seamCost_37 : decode cX0_seamCost 37 = .ok (.iaload, 1) := dk_46 (dk_at dksX0_seamCost_1 13 rfl rfl)
theorem dX0_seamCost_38 : decode cX0_seamCost 38 = .ok (.invokevirtual 323, 3) := dk_182 1 67 (dk_at dksX0_seamCost_1 14 rfl rfl)
theorem dX0_seamCost_41 : decode cX0_seamCost 41 = .ok (.goto 4, 3) := dk_167 0 4 (dk_at dksX0_seamCost_1 17 rfl rfl)
theorem dX0_seamCost_44 : decode cX0_seamCost 44 = .ok (.iconst 0, 1) := dk_3 (dk_at dksX0_seamCost_1 20 rfl rfl)
theorem dX0_seamCost_45 : decode cX0_seamCost 45 = .ok (.iadd, 1) := dk_96 (dk_at dksX0_seamCost_1 21 rfl rfl)
theorem dX0_seamCost_46 : decode cX0_seamCost 46 = .ok (.istore_n 2, 1) := dk_61 (dk_at dksX0_seamCost_1 22 rfl rfl)
theorem dX0_seamCost_47 : decode cX0_seamCost 47 = .ok (.iinc 3 1, 3) := dk_132 3 1 (dk_at dksX0_seamCost_2 0 rfl rfl)
theorem dX0_seamCost_50 : decode cX0_seamCost 50 = .ok (.goto (-46), 3) := dk_167 255 210 (dk_at dksX0_seamCost_2 3 rfl rfl)
theorem dX0_seamCost_53 : decode cX0_seamCost 53 = .ok (.iload_n 2, 1) := dk_28 (dk_at dksX0_seamCost_2 6 rfl rfl)
theorem dX0_seamCost_54 : decode cX0_seamCost 54 = .ok (.ireturn, 1) := dk_172 (dk_at dksX0_seamCost_2 7 rfl rfl)
abbrev cX0_seam : ByteArray := prog_1_method_43_code
def yX0_seam : MethodName := ⟨RX0, "seam", "(II)I"⟩
def dkwX0_seam_1 : List UInt8 := [172, 42, 182, 0, 250, 180, 1, 60, 78, 45, 27, 50, 28, 46, 172, 58, 4, 42, 182, 1, 54, 172]
abbrev dktX0_seam_1 : List UInt8 := dkwX0_seam_1 ++ []
def dkwX0_seam_0 : List UInt8 := [42, 27, 182, 0, 197, 153, 0, 15, 28, 133, 9, 20, 0, 102, 184, 0, 98, 154, 0, 8, 42, 182, 0, 90]
abbrev dktX0_seam_0 : List UInt8 := dkwX0_seam_0 ++ dktX0_seam_1
theorem dksX0_seam_0 : cX0_seam.data.toList.drop 0 = dktX0_seam_0 := by decide +kernel
theorem dksX0_seam_1 : cX0_seam.data.toList.drop 24 = dktX0_seam_1 := dk_seg dksX0_seam_0 24 rfl rfl
theorem dX0_seam_0 : decode cX0_seam 0 = .ok (.aload_n 0, 1) := dk_42 (dk_at dksX0_seam_0 0 rfl rfl)
theorem dX0_seam_1 : decode cX0_seam 1 = .ok (.iload_n 1, 1) := dk_27 (dk_at dksX0_seam_0 1 rfl rfl)
theorem dX0_seam_2 : decode cX0_seam 2 = .ok (.invokevirtual 197, 3) := dk_182 0 197 (dk_at dksX0_seam_0 2 rfl rfl)
theorem dX0_seam_5 : decode cX0_seam 5 = .ok (.ifCond .eq 15, 3) := dk_153 0 15 (dk_at dksX0_seam_0 5 rfl rfl)
theorem dX0_seam_8 : decode cX0_seam 8 = .ok (.iload_n 2, 1) := dk_28 (dk_at dksX0_seam_0 8 rfl rfl)
theorem dX0_seam_9 : decode cX0_seam 9 = .ok (.i2l, 1) := dk_133 (dk_at dksX0_seam_0 9 rfl rfl)
theorem dX0_seam_10 : decode cX0_seam 10 = .ok (.lconst 0, 1) := dk_9 (dk_at dksX0_seam_0 10 rfl rfl)
theorem dX0_seam_11 : decode cX0_seam 11 = .ok (.ldc2_w 102, 3) := dk_20 0 102 (dk_at dksX0_seam_0 11 rfl rfl)
theorem dX0_seam_14 : decode cX0_seam 14 = .ok (.invokestatic 98, 3) := dk_184 0 98 (dk_at dksX0_seam_0 14 rfl rfl)
theorem dX0_seam_17 : decode cX0_seam 17 = .ok (.ifCond .ne 8, 3) := dk_154 0 8 (dk_at dksX0_seam_0 17 rfl rfl)
theorem dX0_seam_20 : decode cX0_seam 20 = .ok (.aload_n 0, 1) := dk_42 (dk_at dksX0_seam_0 20 rfl rfl)
theorem dX0_seam_21 : decode cX0_seam 21 = .ok (.invokevirtual 90, 3) := dk_182 0 90 (dk_at dksX0_seam_0 21 rfl rfl)
theorem dX0_seam_24 : decode cX0_seam 24 = .ok (.ireturn, 1) := dk_172 (dk_at dksX0_seam_1 0 rfl rfl)
theorem dX0_seam_25 : decode cX0_seam 25 = .ok (.aload_n 0, 1) := dk_42 (dk_at dksX0_seam_1 1 rfl rfl)
theorem dX0_seam_26 : decode cX0_seam 26 = .ok (.invokevirtual 250, 3) := dk_182 0 250 (dk_at dksX0_seam_1 2 rfl rfl)
theorem dX0_seam_29 : decode cX0_seam 29 = .ok (.getfield 316, 3) := dk_180 1 60 (dk_at dksX0_seam_1 5 rfl rfl)
theorem dX0_seam_32 : decode cX0_seam 32 = .ok (.astore_n 3, 1) := dk_78 (dk_at dksX0_seam_1 8 rfl rfl)
theorem dX0_seam_33 : decode cX0_seam 33 = .ok (.aload_n 3, 1) := dk_45 (dk_at dksX0_seam_1 9 rfl rfl)
theorem dX0_seam_34 : decode cX0_seam 34 = .ok (.iload_n 1, 1) := dk_27 (dk_at dksX0_seam_1 10 rfl rfl)
theorem dX0_seam_35 : decode cX0_seam 35 = .ok (.aaload, 1) := dk_50 (dk_at dksX0_seam_1 11 rfl rfl)
theorem dX0_seam_36 : decode cX0_seam 36 = .ok (.iload_n 2, 1) := dk_28 (dk_at dksX0_seam_1 12 rfl rfl)
theorem dX0_seam_37 : decode cX0_seam 37 = .ok (.iaload, 1) := dk_46 (dk_at dksX0_seam_1 13 rfl rfl)
theorem dX0_seam_38 : decode cX0_seam 38 = .ok (.ireturn, 1) := dk_172 (dk_at dksX0_seam_1 14 rfl rfl)
theorem dX0_seam_39 : decode cX0_seam 39 = .ok (.astore 4, 2) := dk_58 4 (dk_at dksX0_seam_1 15 rfl rfl)
theorem dX0_seam_41 : decode cX0_seam 41 = .ok (.aload_n 0, 1) := dk_42 (dk_at dksX0_seam_1 17 rfl rfl)
theorem dX0_seam_42 : decode cX0_seam 42 = .ok (.invokevirtual 310, 3) := dk_182 1 54 (dk_at dksX0_seam_1 18 rfl rfl)
theorem dX0_seam_45 : decode cX0_seam 45 = .ok (.ireturn, 1) := dk_172 (dk_at dksX0_seam_1 21 rfl rfl)
abbrev cX0_level : ByteArray := prog_1_method_45_code
def yX0_level : MethodName := ⟨RX0, "level", "(II)J"⟩
def dkwX0_level_1 : List UInt8 := [180, 1, 103, 27, 50, 28, 184, 1, 107, 167, 0, 12, 42, 3, 19, 1, 111, 182, 0, 86, 133, 173]
abbrev dktX0_level_1 : List UInt8 := dkwX0_level_1 ++ []
def dkwX0_level_0 : List UInt8 := [42, 27, 182, 0, 197, 153, 0, 29, 28, 133, 9, 10, 184, 0, 98, 153, 0, 19, 42, 182, 0, 250]
abbrev dktX0_level_0 : List UInt8 := dkwX0_level_0 ++ dktX0_level_1
theorem dksX0_level_0 : cX0_level.data.toList.drop 0 = dktX0_level_0 := by decide +kernel
theorem dksX0_level_1 : cX0_level.data.toList.drop 22 = dktX0_level_1 := dk_seg dksX0_level_0 22 rfl rfl
theorem dX0_level_0 : decode cX0_level 0 = .ok (.aload_n 0, 1) := dk_42 (dk_at dksX0_level_0 0 rfl rfl)
theorem dX0_level_1 : decode cX0_level 1 = .ok (.iload_n 1, 1) := dk_27 (dk_at dksX0_level_0 1 rfl rfl)
theorem dX0_level_2 : decode cX0_level 2 = .ok (.invokevirtual 197, 3) := dk_182 0 197 (dk_at dksX0_level_0 2 rfl rfl)
theorem dX0_level_5 : decode cX0_level 5 = .ok (.ifCond .eq 29, 3) := dk_153 0 29 (dk_at dksX0_level_0 5 rfl rfl)
theorem dX0_level_8 : decode cX0_level 8 = .ok (.iload_n 2, 1) := dk_28 (dk_at dksX0_level_0 8 rfl rfl)
theorem dX0_level_9 : decode cX0_level 9 = .ok (.i2l, 1) := dk_133 (dk_at dksX0_level_0 9 rfl rfl)
theorem dX0_level_10 : decode cX0_level 10 = .ok (.lconst 0, 1) := dk_9 (dk_at dksX0_level_0 10 rfl rfl)
theorem dX0_level_11 : decode cX0_level 11 = .ok (.lconst 1, 1) := dk_10 (dk_at dksX0_level_0 11 rfl rfl)
theorem dX0_level_12 : decode cX0_level 12 = .ok (.invokestatic 98, 3) := dk_184 0 98 (dk_at dksX0_level_0 12 rfl rfl)
theorem dX0_level_15 : decode cX0_level 15 = .ok (.ifCond .eq 19, 3) := dk_153 0 19 (dk_at dksX0_level_0 15 rfl rfl)
theorem dX0_level_18 : decode cX0_level 18 = .ok (.aload_n 0, 1) := dk_42 (dk_at dksX0_level_0 18 rfl rfl)
theorem dX0_level_19 : decode cX0_level 19 = .ok (.invokevirtual 250, 3) := dk_182 0 250 (dk_at dksX0_level_0 19 rfl rfl)
theorem dX0_level_22 : decode cX0_level 22 = .ok (.getfield 359, 3) := dk_180 1 103 (dk_at dksX0_level_1 0 rfl rfl)
theorem dX0_level_25 : decode cX0_level 25 = .ok (.iload_n 1, 1) := dk_27 (dk_at dksX0_level_1 3 rfl rfl)
theorem dX0_level_26 : decode cX0_level 26 = .ok (.aaload, 1) := dk_50 (dk_at dksX0_level_1 4 rfl rfl)
theorem dX0_level_27 : decode cX0_level 27 = .ok (.iload_n 2, 1) := dk_28 (dk_at dksX0_level_1 5 rfl rfl)
theorem dX0_level_28 : decode cX0_level 28 = .ok (.invokestatic 363, 3) := dk_184 1 107 (dk_at dksX0_level_1 6 rfl rfl)
theorem dX0_level_31 : decode cX0_level 31 = .ok (.goto 12, 3) := dk_167 0 12 (dk_at dksX0_level_1 9 rfl rfl)
theorem dX0_level_34 : decode cX0_level 34 = .ok (.aload_n 0, 1) := dk_42 (dk_at dksX0_level_1 12 rfl rfl)
theorem dX0_level_35 : decode cX0_level 35 = .ok (.iconst 0, 1) := dk_3 (dk_at dksX0_level_1 13 rfl rfl)
theorem dX0_level_36 : decode cX0_level 36 = .ok (.ldc_w 367, 3) := dk_19 1 111 (dk_at dksX0_level_1 14 rfl rfl)
theorem dX0_level_39 : decode cX0_level 39 = .ok (.invokevirtual 86, 3) := dk_182 0 86 (dk_at dksX0_level_1 17 rfl rfl)
theorem dX0_level_42 : decode cX0_level 42 = .ok (.i2l, 1) := dk_133 (dk_at dksX0_level_1 20 rfl rfl)
theorem dX0_level_43 : decode cX0_level 43 = .ok (.lreturn, 1) := dk_173 (dk_at dksX0_level_1 21 rfl rfl)
abbrev cX0_part : ByteArray := prog_1_method_44_code
def yX0_part : MethodName := ⟨RX0, "part", "(LPictureRing$Fraction;I)J"⟩
def dkwX0_part_0 : List UInt8 := [27, 154, 0, 10, 42, 180, 1, 94, 167, 0, 7, 42, 180, 1, 100, 173]
abbrev dktX0_part_0 : List UInt8 := dkwX0_part_0 ++ []
theorem dksX0_part_0 : cX0_part.data.toList.drop 0 = dktX0_part_0 := by decide +kernel
theorem dX0_part_0 : decode cX0_part 0 = .ok (.iload_n 1, 1) := dk_27 (dk_at dksX0_part_0 0 rfl rfl)
theorem dX0_part_1 : decode cX0_part 1 = .ok (.ifCond .ne 10, 3) := dk_154 0 10 (dk_at dksX0_part_0 1 rfl rfl)
theorem dX0_part_4 : decode cX0_part 4 = .ok (.aload_n 0, 1) := dk_42 (dk_at dksX0_part_0 4 rfl rfl)
theorem dX0_part_5 : decode cX0_part 5 = .ok (.getfield 350, 3) := dk_180 1 94 (dk_at dksX0_part_0 5 rfl rfl)
theorem dX0_part_8 : decode cX0_part 8 = .ok (.goto 7, 3) := dk_167 0 7 (dk_at dksX0_part_0 8 rfl rfl)
theorem dX0_part_11 : decode cX0_part 11 = .ok (.aload_n 0, 1) := dk_42 (dk_at dksX0_part_0 11 rfl rfl)
theorem dX0_part_12 : decode cX0_part 12 = .ok (.getfield 356, 3) := dk_180 1 100 (dk_at dksX0_part_0 12 rfl rfl)
theorem dX0_part_15 : decode cX0_part 15 = .ok (.lreturn, 1) := dk_173 (dk_at dksX0_part_0 15 rfl rfl)
abbrev cX0_rest : ByteArray := prog_1_method_46_code
def yX0_rest : MethodName := ⟨RX0, "rest", "(I)J"⟩
def dkwX0_rest_1 : List UInt8 := [42, 182, 0, 90, 133, 173]
abbrev dktX0_rest_1 : List UInt8 := dkwX0_rest_1 ++ []
def dkwX0_rest_0 : List UInt8 := [27, 133, 9, 10, 184, 0, 98, 153, 0, 17, 42, 182, 0, 250, 180, 1, 112, 27, 184, 1, 107, 167, 0, 8]
abbrev dktX0_rest_0 : List UInt8 := dkwX0_rest_0 ++ dktX0_rest_1
theorem dksX0_rest_0 : cX0_rest.data.toList.drop 0 = dktX0_rest_0 := by decide +kernel
theorem dksX0_rest_1 : cX0_rest.data.toList.drop 24 = dktX0_rest_1 := dk_seg dksX0_rest_0 24 rfl rfl
theorem dX0_rest_0 : decode cX0_rest 0 = .ok (.iload_n 1, 1) := dk_27 (dk_at dksX0_rest_0 0 rfl rfl)
theorem dX0_rest_1 : decode cX0_rest 1 = .ok (.i2l, 1) := dk_133 (dk_at dksX0_rest_0 1 rfl rfl)
theorem dX0_rest_2 : decode cX0_rest 2 = .ok (.lconst 0, 1) := dk_9 (dk_at dksX0_rest_0 2 rfl rfl)
theorem dX0_rest_3 : decode cX0_rest 3 = .ok (.lconst 1, 1) := dk_10 (dk_at dksX0_rest_0 3 rfl rfl)
theorem dX0_rest_4 : decode cX0_rest 4 = .ok (.invokestatic 98, 3) := dk_184 0 98 (dk_at dksX0_rest_0 4 rfl rfl)
theorem dX0_rest_7 : decode cX0_rest 7 = .ok (.ifCond .eq 17, 3) := dk_153 0 17 (dk_at dksX0_rest_0 7 rfl rfl)
theorem dX0_rest_10 : decode cX0_rest 10 = .ok (.aload_n 0, 1) := dk_42 (dk_at dksX0_rest_0 10 rfl rfl)
theorem dX0_rest_11 : decode cX0_rest 11 = .ok (.invokevirtual 250, 3) := dk_182 0 250 (dk_at dksX0_rest_0 11 rfl rfl)
theorem dX0_rest_14 : decode cX0_rest 14 = .ok (.getfield 368, 3) := dk_180 1 112 (dk_at dksX0_rest_0 14 rfl rfl)
theorem dX0_rest_17 : decode cX0_rest 17 = .ok (.iload_n 1, 1) := dk_27 (dk_at dksX0_rest_0 17 rfl rfl)
theorem dX0_rest_18 : decode cX0_rest 18 = .ok (.invokestatic 363, 3) := dk_184 1 107 (dk_at dksX0_rest_0 18 rfl rfl)
theorem dX0_rest_21 : decode cX0_rest 21 = .ok (.goto 8, 3) := dk_167 0 8 (dk_at dksX0_rest_0 21 rfl rfl)
theorem dX0_rest_24 : decode cX0_rest 24 = .ok (.aload_n 0, 1) := dk_42 (dk_at dksX0_rest_1 0 rfl rfl)
theorem dX0_rest_25 : decode cX0_rest 25 = .ok (.invokevirtual 90, 3) := dk_182 0 90 (dk_at dksX0_rest_1 1 rfl rfl)
theorem dX0_rest_28 : decode cX0_rest 28 = .ok (.i2l, 1) := dk_133 (dk_at dksX0_rest_1 4 rfl rfl)
theorem dX0_rest_29 : decode cX0_rest 29 = .ok (.lreturn, 1) := dk_173 (dk_at dksX0_rest_1 5 rfl rfl)
abbrev cX0_shows : ByteArray := prog_1_method_47_code
def yX0_shows : MethodName := ⟨RX0, "shows", "(II)I"⟩
def dkwX0_shows_1 : List UInt8 := [27, 28, 182, 1, 116, 167, 0, 7, 42, 182, 0, 90, 172]
abbrev dktX0_shows_1 : List UInt8 := dkwX0_shows_1 ++ []
def dkwX0_shows_0 : List UInt8 := [42, 27, 182, 0, 197, 153, 0, 27, 28, 133, 9, 20, 0, 102, 184, 0, 98, 153, 0, 15, 42, 182, 0, 250]
abbrev dktX0_shows_0 : List UInt8 := dkwX0_shows_0 ++ dktX0_shows_1
theorem dksX0_shows_0 : cX0_shows.data.toList.drop 0 = dktX0_shows_0 := by decide +kernel
theorem dksX0_shows_1 : cX0_shows.data.toList.drop 24 = dktX0_shows_1 := dk_seg dksX0_shows_0 24 rfl rfl
theorem dX0_shows_0 : decode cX0_shows 0 = .ok (.aload_n 0, 1) := dk_42 (dk_at dksX0_shows_0 0 rfl rfl)
theorem dX0_shows_1 : decode cX0_shows 1 = .ok (.iload_n 1, 1) := dk_27 (dk_at dksX0_shows_0 1 rfl rfl)
theorem dX0_shows_2 : decode cX0_shows 2 = .ok (.invokevirtual 197, 3) := dk_182 0 197 (dk_at dksX0_shows_0 2 rfl rfl)
theorem dX0_shows_5 : decode cX0_shows 5 = .ok (.ifCond .eq 27, 3) := dk_153 0 27 (dk_at dksX0_shows_0 5 rfl rfl)
theorem dX0_shows_8 : decode cX0_shows 8 = .ok (.iload_n 2, 1) := dk_28 (dk_at dksX0_shows_0 8 rfl rfl)
theorem dX0_shows_9 : decode cX0_shows 9 = .ok (.i2l, 1) := dk_133 (dk_at dksX0_shows_0 9 rfl rfl)
theorem dX0_shows_10 : decode cX0_shows 10 = .ok (.lconst 0, 1) := dk_9 (dk_at dksX0_shows_0 10 rfl rfl)
theorem dX0_shows_11 : decode cX0_shows 11 = .ok (.ldc2_w 102, 3) := dk_20 0 102 (dk_at dksX0_shows_0 11 rfl rfl)
theorem dX0_shows_14 : decode cX0_shows 14 = .ok (.invokestatic 98, 3) := dk_184 0 98 (dk_at dksX0_shows_0 14 rfl rfl)
theorem dX0_shows_17 : decode cX0_shows 17 = .ok (.ifCond .eq 15, 3) := dk_153 0 15 (dk_at dksX0_shows_0 17 rfl rfl)
theorem dX0_shows_20 : decode cX0_shows 20 = .ok (.aload_n 0, 1) := dk_42 (dk_at dksX0_shows_0 20 rfl rfl)
theorem dX0_shows_21 : decode cX0_shows 21 = .ok (.invokevirtual 250, 3) := dk_182 0 250 (dk_at dksX0_shows_0 21 rfl rfl)
theorem dX0_shows_24 : decode cX0_shows 24 = .ok (.iload_n 1, 1) := dk_27 (dk_at dksX0_shows_1 0 rfl rfl)
theorem dX0_shows_25 : decode cX0_shows 25 = .ok (.iload_n 2, 1) := dk_28 (dk_at dksX0_shows_1 1 rfl rfl)
theorem dX0_shows_26 : decode cX0_shows 26 = .ok (.invokevirtual 372, 3) := dk_182 1 116 (dk_at dksX0_shows_1 2 rfl rfl)
theorem dX0_shows_29 : decode cX0_shows 29 = .ok (.goto 7, 3) := dk_167 0 7 (dk_at dksX0_shows_1 5 rfl rfl)
theorem dX0_shows_32 : decode cX0_shows 32 = .ok (.aload_n 0, 1) := dk_42 (dk_at dksX0_shows_1 8 rfl rfl)
theorem dX0_shows_33 : decode cX0_shows 33 = .ok (.invokevirtual 90, 3) := dk_182 0 90 (dk_at dksX0_shows_1 9 rfl rfl)
theorem dX0_shows_36 : decode cX0_shows 36 = .ok (.ireturn, 1) := dk_172 (dk_at dksX0_shows_1 12 rfl rfl)
abbrev cX0_seen : ByteArray := prog_1_method_49_code
def yX0_seen : MethodName := ⟨RX0, "seen", "(III)I"⟩
def dkwX0_seen_1 : List UInt8 := [167, 0, 7, 42, 182, 0, 90, 172]
abbrev dktX0_seen_1 : List UInt8 := dkwX0_seen_1 ++ []
def dkwX0_seen_0 : List UInt8 := [42, 27, 182, 0, 197, 153, 0, 21, 28, 29, 184, 0, 200, 153, 0, 13, 42, 27, 28, 29, 182, 1, 122]
abbrev dktX0_seen_0 : List UInt8 := dkwX0_seen_0 ++ dktX0_seen_1
theorem dksX0_seen_0 : cX0_seen.data.toList.drop 0 = dktX0_seen_0 := by decide +kernel
theorem dksX0_seen_1 : cX0_seen.data.toList.drop 23 = dktX0_seen_1 := dk_seg dksX0_seen_0 23 rfl rfl
theorem dX0_seen_0 : decode cX0_seen 0 = .ok (.aload_n 0, 1) := dk_42 (dk_at dksX0_seen_0 0 rfl rfl)
theorem dX0_seen_1 : decode cX0_seen 1 = .ok (.iload_n 1, 1) := dk_27 (dk_at dksX0_seen_0 1 rfl rfl)
theorem dX0_seen_2 : decode cX0_seen 2 = .ok (.invokevirtual 197, 3) := dk_182 0 197 (dk_at dksX0_seen_0 2 rfl rfl)
theorem dX0_seen_5 : decode cX0_seen 5 = .ok (.ifCond .eq 21, 3) := dk_153 0 21 (dk_at dksX0_seen_0 5 rfl rfl)
theorem dX0_seen_8 : decode cX0_seen 8 = .ok (.iload_n 2, 1) := dk_28 (dk_at dksX0_seen_0 8 rfl rfl)
theorem dX0_seen_9 : decode cX0_seen 9 = .ok (.iload_n 3, 1) := dk_29 (dk_at dksX0_seen_0 9 rfl rfl)
theorem dX0_seen_10 : decode cX0_seen 10 = .ok (.invokestatic 200, 3) := dk_184 0 200 (dk_at dksX0_seen_0 10 rfl rfl)
theorem dX0_seen_13 : decode cX0_seen 13 = .ok (.ifCond .eq 13, 3) := dk_153 0 13 (dk_at dksX0_seen_0 13 rfl rfl)
theorem dX0_seen_16 : decode cX0_seen 16 = .ok (.aload_n 0, 1) := dk_42 (dk_at dksX0_seen_0 16 rfl rfl)
theorem dX0_seen_17 : decode cX0_seen 17 = .ok (.iload_n 1, 1) := dk_27 (dk_at dksX0_seen_0 17 rfl rfl)
theorem dX0_seen_18 : decode cX0_seen 18 = .ok (.iload_n 2, 1) := dk_28 (dk_at dksX0_seen_0 18 rfl rfl)
theorem dX0_seen_19 : decode cX0_seen 19 = .ok (.iload_n 3, 1) := dk_29 (dk_at dksX0_seen_0 19 rfl rfl)
theorem dX0_seen_20 : decode cX0_seen 20 = .ok (.invokevirtual 378, 3) := dk_182 1 122 (dk_at dksX0_seen_0 20 rfl rfl)
theorem dX0_seen_23 : decode cX0_seen 23 = .ok (.goto 7, 3) := dk_167 0 7 (dk_at dksX0_seen_1 0 rfl rfl)
theorem dX0_seen_26 : decode cX0_seen 26 = .ok (.aload_n 0, 1) := dk_42 (dk_at dksX0_seen_1 3 rfl rfl)
theorem dX0_seen_27 : decode cX0_seen 27 = .ok (.invokevirtual 90, 3) := dk_182 0 90 (dk_at dksX0_seen_1 4 rfl rfl)
theorem dX0_seen_30 : decode cX0_seen 30 = .ok (.ireturn, 1) := dk_172 (dk_at dksX0_seen_1 7 rfl rfl)
abbrev cX0_seenAt : ByteArray := prog_1_method_48_code
def yX0_seenAt : MethodName := ⟨RX0, "seenAt", "(III)I"⟩
def dkwX0_seenAt_2 : List UInt8 := [55, 5, 22, 5, 20, 0, 106, 25, 4, 180, 1, 100, 105, 184, 1, 119, 16, 63, 184, 0, 181, 172]
abbrev dktX0_seenAt_2 : List UInt8 := dkwX0_seenAt_2 ++ []
def dkwX0_seenAt_1 : List UInt8 := [29, 182, 0, 203, 133, 25, 4, 180, 1, 100, 105, 25, 4, 180, 1, 94, 97, 105, 25, 4, 180, 1, 100, 97]
abbrev dktX0_seenAt_1 : List UInt8 := dkwX0_seenAt_1 ++ dktX0_seenAt_2
def dkwX0_seenAt_0 : List UInt8 := [42, 182, 0, 250, 180, 1, 103, 27, 50, 58, 4, 20, 0, 106, 42, 180, 0, 33, 180, 0, 185, 27, 50, 28]
abbrev dktX0_seenAt_0 : List UInt8 := dkwX0_seenAt_0 ++ dktX0_seenAt_1
theorem dksX0_seenAt_0 : cX0_seenAt.data.toList.drop 0 = dktX0_seenAt_0 := by decide +kernel
theorem dksX0_seenAt_1 : cX0_seenAt.data.toList.drop 24 = dktX0_seenAt_1 := dk_seg dksX0_seenAt_0 24 rfl rfl
theorem dksX0_seenAt_2 : cX0_seenAt.data.toList.drop 48 = dktX0_seenAt_2 := dk_seg dksX0_seenAt_1 24 rfl rfl
theorem dX0_seenAt_0 : decode cX0_seenAt 0 = .ok (.aload_n 0, 1) := dk_42 (dk_at dksX0_seenAt_0 0 rfl rfl)
theorem dX0_seenAt_1 : decode cX0_seenAt 1 = .ok (.invokevirtual 250, 3) := dk_182 0 250 (dk_at dksX0_seenAt_0 1 rfl rfl)
theorem dX0_seenAt_4 : decode cX0_seenAt 4 = .ok (.getfield 359, 3) := dk_180 1 103 (dk_at dksX0_seenAt_0 4 rfl rfl)
theorem dX0_seenAt_7 : decode cX0_seenAt 7 = .ok (.iload_n 1, 1) := dk_27 (dk_at dksX0_seenAt_0 7 rfl rfl)
theorem dX0_seenAt_8 : decode cX0_seenAt 8 = .ok (.aaload, 1) := dk_50 (dk_at dksX0_seenAt_0 8 rfl rfl)
theorem dX0_seenAt_9 : decode cX0_seenAt 9 = .ok (.astore 4, 2) := dk_58 4 (dk_at dksX0_seenAt_0 9 rfl rfl)
theorem dX0_seenAt_11 : decode cX0_seenAt 11 = .ok (.ldc2_w 106, 3) := dk_20 0 106 (dk_at dksX0_seenAt_0 11 rfl rfl)
theorem dX0_seenAt_14 : decode cX0_seenAt 14 = .ok (.aload_n 0, 1) := dk_42 (dk_at dksX0_seenAt_0 14 rfl rfl)
theorem dX0_seenAt_15 : decode cX0_seenAt 15 = .ok (.getfield 33, 3) := dk_180 0 33 (dk_at dksX0_seenAt_0 15 rfl rfl)
theorem dX0_seenAt_18 : decode cX0_seenAt 18 = .ok (.getfield 185, 3) := dk_180 0 185 (dk_at dksX0_seenAt_0 18 rfl rfl)
theorem dX0_seenAt_21 : decode cX0_seenAt 21 = .ok (.iload_n 1, 1) := dk_27 (dk_at dksX0_seenAt_0 21 rfl rfl)
theorem dX0_seenAt_22 : decode cX0_seenAt 22 = .ok (.aaload, 1) := dk_50 (dk_at dksX0_seenAt_0 22 rfl rfl)
theorem dX0_seenAt_23 : decode cX0_seenAt 23 = .ok (.iload_n 2, 1) := dk_28 (dk_at dksX0_seenAt_0 23 rfl rfl)
theorem dX0_seenAt_24 : decode cX0_seenAt 24 = .ok (.iload_n 3, 1) := dk_29 (dk_at dksX0_seenAt_1 0 rfl rfl)
theorem dX0_seenAt_25 : decode cX0_seenAt 25 = .ok (.invokevirtual 203, 3) := dk_182 0 203 (dk_at dksX0_seenAt_1 1 rfl rfl)
theorem dX0_seenAt_28 : decode cX0_seenAt 28 = .ok (.i2l, 1) := dk_133 (dk_at dksX0_seenAt_1 4 rfl rfl)
theorem dX0_seenAt_29 : decode cX0_seenAt 29 = .ok (.aload 4, 2) := dk_25 4 (dk_at dksX0_seenAt_1 5 rfl rfl)
theorem dX0_seenAt_31 : decode cX0_seenAt 31 = .ok (.getfield 356, 3) := dk_180 1 100 (dk_at dksX0_seenAt_1 7 rfl rfl)
theorem dX0_seenAt_34 : decode cX0_seenAt 34 = .ok (.lmul, 1) := dk_105 (dk_at dksX0_seenAt_1 10 rfl rfl)
theorem dX0_seenAt_35 : decode cX0_seenAt 35 = .ok (.aload 4, 2) := dk_25 4 (dk_at dksX0_seenAt_1 11 rfl rfl)
theorem dX0_seenAt_37 : decode cX0_seenAt 37 = .ok (.getfield 350, 3) := dk_180 1 94 (dk_at dksX0_seenAt_1 13 rfl rfl)
theorem dX0_seenAt_40 : decode cX0_seenAt 40 = .ok (.ladd, 1) := dk_97 (dk_at dksX0_seenAt_1 16 rfl rfl)
theorem dX0_seenAt_41 : decode cX0_seenAt 41 = .ok (.lmul, 1) := dk_105 (dk_at dksX0_seenAt_1 17 rfl rfl)
theorem dX0_seenAt_42 : decode cX0_seenAt 42 = .ok (.aload 4, 2) := dk_25 4 (dk_at dksX0_seenAt_1 18 rfl rfl)
theorem dX0_seenAt_44 : decode cX0_seenAt 44 = .ok (.getfield 356, 3) := dk_180 1 100 (dk_at dksX0_seenAt_1 20 rfl rfl)
theorem dX0_seenAt_47 : decode cX0_seenAt 47 = .ok (.ladd, 1) := dk_97 (dk_at dksX0_seenAt_1 23 rfl rfl)
theorem dX0_seenAt_48 : decode cX0_seenAt 48 = .ok (.lstore 5, 2) := dk_55 5 (dk_at dksX0_seenAt_2 0 rfl rfl)
theorem dX0_seenAt_50 : decode cX0_seenAt 50 = .ok (.lload 5, 2) := dk_22 5 (dk_at dksX0_seenAt_2 2 rfl rfl)
theorem dX0_seenAt_52 : decode cX0_seenAt 52 = .ok (.ldc2_w 106, 3) := dk_20 0 106 (dk_at dksX0_seenAt_2 4 rfl rfl)
theorem dX0_seenAt_55 : decode cX0_seenAt 55 = .ok (.aload 4, 2) := dk_25 4 (dk_at dksX0_seenAt_2 7 rfl rfl)
theorem dX0_seenAt_57 : decode cX0_seenAt 57 = .ok (.getfield 356, 3) := dk_180 1 100 (dk_at dksX0_seenAt_2 9 rfl rfl)
theorem dX0_seenAt_60 : decode cX0_seenAt 60 = .ok (.lmul, 1) := dk_105 (dk_at dksX0_seenAt_2 12 rfl rfl)
theorem dX0_seenAt_61 : decode cX0_seenAt 61 = .ok (.invokestatic 375, 3) := dk_184 1 119 (dk_at dksX0_seenAt_2 13 rfl rfl)
theorem dX0_seenAt_64 : decode cX0_seenAt 64 = .ok (.bipush 63, 2) := dk_16 63 (dk_at dksX0_seenAt_2 16 rfl rfl)
theorem dX0_seenAt_66 : decode cX0_seenAt 66 = .ok (.invokestatic 181, 3) := dk_184 0 181 (dk_at dksX0_seenAt_2 18 rfl rfl)
theorem dX0_seenAt_69 : decode cX0_seenAt 69 = .ok (.ireturn, 1) := dk_172 (dk_at dksX0_seenAt_2 21 rfl rfl)
abbrev cX0_type : ByteArray := prog_1_method_50_code
def yX0_type : MethodName := ⟨RX0, "type", "(I)I"⟩
def dkwX0_type_2 : List UInt8 := [180, 1, 127, 4, 96, 181, 1, 127, 42, 180, 1, 127, 172]
abbrev dktX0_type_2 : List UInt8 := dkwX0_type_2 ++ []
def dkwX0_type_1 : List UInt8 := [160, 0, 11, 42, 5, 16, 252, 182, 0, 86, 172, 42, 180, 0, 72, 42, 180, 1, 127, 27, 145, 84, 42, 89]
abbrev dktX0_type_1 : List UInt8 := dkwX0_type_1 ++ dktX0_type_2
def dkwX0_type_0 : List UInt8 := [27, 133, 9, 20, 1, 125, 184, 0, 98, 154, 0, 8, 42, 182, 0, 90, 172, 42, 180, 1, 127, 16, 120]
abbrev dktX0_type_0 : List UInt8 := dkwX0_type_0 ++ dktX0_type_1
theorem dksX0_type_0 : cX0_type.data.toList.drop 0 = dktX0_type_0 := by decide +kernel
theorem dksX0_type_1 : cX0_type.data.toList.drop 23 = dktX0_type_1 := dk_seg dksX0_type_0 23 rfl rfl
theorem dksX0_type_2 : cX0_type.data.toList.drop 47 = dktX0_type_2 := dk_seg dksX0_type_1 24 rfl rfl
theorem dX0_type_0 : decode cX0_type 0 = .ok (.iload_n 1, 1) := dk_27 (dk_at dksX0_type_0 0 rfl rfl)
theorem dX0_type_1 : decode cX0_type 1 = .ok (.i2l, 1) := dk_133 (dk_at dksX0_type_0 1 rfl rfl)
theorem dX0_type_2 : decode cX0_type 2 = .ok (.lconst 0, 1) := dk_9 (dk_at dksX0_type_0 2 rfl rfl)
theorem dX0_type_3 : decode cX0_type 3 = .ok (.ldc2_w 381, 3) := dk_20 1 125 (dk_at dksX0_type_0 3 rfl rfl)
theorem dX0_type_6 : decode cX0_type 6 = .ok (.invokestatic 98, 3) := dk_184 0 98 (dk_at dksX0_type_0 6 rfl rfl)
theorem dX0_type_9 : decode cX0_type 9 = .ok (.ifCond .ne 8, 3) := dk_154 0 8 (dk_at dksX0_type_0 9 rfl rfl)
theorem dX0_type_12 : decode cX0_type 12 = .ok (.aload_n 0, 1) := dk_42 (dk_at dksX0_type_0 12 rfl rfl)
theorem dX0_type_13 : decode cX0_type 13 = .ok (.invokevirtual 90, 3) := dk_182 0 90 (dk_at dksX0_type_0 13 rfl rfl)
theorem dX0_type_16 : decode cX0_type 16 = .ok (.ireturn, 1) := dk_172 (dk_at dksX0_type_0 16 rfl rfl)
theorem dX0_type_17 : decode cX0_type 17 = .ok (.aload_n 0, 1) := dk_42 (dk_at dksX0_type_0 17 rfl rfl)
theorem dX0_type_18 : decode cX0_type 18 = .ok (.getfield 383, 3) := dk_180 1 127 (dk_at dksX0_type_0 18 rfl rfl)
theorem dX0_type_21 : decode cX0_type 21 = .ok (.bipush 120, 2) := dk_16 120 (dk_at dksX0_type_0 21 rfl rfl)
theorem dX0_type_23 : decode cX0_type 23 = .ok (.if_icmp .ne 11, 3) := dk_160 0 11 (dk_at dksX0_type_1 0 rfl rfl)
theorem dX0_type_26 : decode cX0_type 26 = .ok (.aload_n 0, 1) := dk_42 (dk_at dksX0_type_1 3 rfl rfl)
theorem dX0_type_27 : decode cX0_type 27 = .ok (.iconst 2, 1) := dk_5 (dk_at dksX0_type_1 4 rfl rfl)
theorem dX0_type_28 : decode cX0_type 28 = .ok (.bipush (-4), 2) := dk_16 252 (dk_at dksX0_type_1 5 rfl rfl)
theorem dX0_type_30 : decode cX0_type 30 = .ok (.invokevirtual 86, 3) := dk_182 0 86 (dk_at dksX0_type_1 7 rfl rfl)
theorem dX0_type_33 : decode cX0_type 33 = .ok (.ireturn, 1) := dk_172 (dk_at dksX0_type_1 10 rfl rfl)
theorem dX0_type_34 : decode cX0_type 34 = .ok (.aload_n 0, 1) := dk_42 (dk_at dksX0_type_1 11 rfl rfl)
theorem dX0_type_35 : decode cX0_type 35 = .ok (.getfield 72, 3) := dk_180 0 72 (dk_at dksX0_type_1 12 rfl rfl)
theorem dX0_type_38 : decode cX0_type 38 = .ok (.aload_n 0, 1) := dk_42 (dk_at dksX0_type_1 15 rfl rfl)
theorem dX0_type_39 : decode cX0_type 39 = .ok (.getfield 383, 3) := dk_180 1 127 (dk_at dksX0_type_1 16 rfl rfl)
theorem dX0_type_42 : decode cX0_type 42 = .ok (.iload_n 1, 1) := dk_27 (dk_at dksX0_type_1 19 rfl rfl)
theorem dX0_type_43 : decode cX0_type 43 = .ok (.i2b, 1) := dk_145 (dk_at dksX0_type_1 20 rfl rfl)
theorem dX0_type_44 : decode cX0_type 44 = .ok (.bastore, 1) := dk_84 (dk_at dksX0_type_1 21 rfl rfl)
theorem dX0_type_45 : decode cX0_type 45 = .ok (.aload_n 0, 1) := dk_42 (dk_at dksX0_type_1 22 rfl rfl)
theorem dX0_type_46 : decode cX0_type 46 = .ok (.dup, 1) := dk_89 (dk_at dksX0_type_1 23 rfl rfl)
theorem dX0_type_47 : decode cX0_type 47 = .ok (.getfield 383, 3) := dk_180 1 127 (dk_at dksX0_type_2 0 rfl rfl)
theorem dX0_type_50 : decode cX0_type 50 = .ok (.iconst 1, 1) := dk_4 (dk_at dksX0_type_2 3 rfl rfl)
theorem dX0_type_51 : decode cX0_type 51 = .ok (.iadd, 1) := dk_96 (dk_at dksX0_type_2 4 rfl rfl)
theorem dX0_type_52 : decode cX0_type 52 = .ok (.putfield 383, 3) := dk_181 1 127 (dk_at dksX0_type_2 5 rfl rfl)
theorem dX0_type_55 : decode cX0_type 55 = .ok (.aload_n 0, 1) := dk_42 (dk_at dksX0_type_2 8 rfl rfl)
theorem dX0_type_56 : decode cX0_type 56 = .ok (.getfield 383, 3) := dk_180 1 127 (dk_at dksX0_type_2 9 rfl rfl)
theorem dX0_type_59 : decode cX0_type 59 = .ok (.ireturn, 1) := dk_172 (dk_at dksX0_type_2 12 rfl rfl)
abbrev cX0_clear : ByteArray := prog_1_method_51_code
def yX0_clear : MethodName := ⟨RX0, "clea\x72", "()I"⟩
def dkwX0_clear_0 : List UInt8 := [42, 180, 1, 127, 60, 42, 3, 181, 1, 127, 27, 172]
abbrev dktX0_clear_0 : List UInt8 := dkwX0_clear_0 ++ []
theorem dksX0_clear_0 : cX0_clear.data.toList.drop 0 = dktX0_clear_0 := by decide +kernel
theorem dX0_clear_0 : decode cX0_clear 0 = .ok (.aload_n 0, 1) := dk_42 (dk_at dksX0_clear_0 0 rfl rfl)
theorem dX0_clear_1 : decode cX0_clear 1 = .ok (.getfield 383, 3) := dk_180 1 127 (dk_at dksX0_clear_0 1 rfl rfl)
theorem dX0_clear_4 : decode cX0_clear 4 = .ok (.istore_n 1, 1) := dk_60 (dk_at dksX0_clear_0 4 rfl rfl)
theorem dX0_clear_5 : decode cX0_clear 5 = .ok (.aload_n 0, 1) := dk_42 (dk_at dksX0_clear_0 5 rfl rfl)
theorem dX0_clear_6 : decode cX0_clear 6 = .ok (.iconst 0, 1) := dk_3 (dk_at dksX0_clear_0 6 rfl rfl)
theorem dX0_clear_7 : decode cX0_clear 7 = .ok (.putfield 383, 3) := dk_181 1 127 (dk_at dksX0_clear_0 7 rfl rfl)
theorem dX0_clear_10 : decode cX0_clear 10 = .ok (.iload_n 1, 1) := dk_27 (dk_at dksX0_clear_0 10 rfl rfl)
theorem dX0_clear_11 : decode cX0_clear 11 = .ok (.ireturn, 1) := dk_172 (dk_at dksX0_clear_0 11 rfl rfl)
abbrev cX0_reads : ByteArray := prog_1_method_53_code
def yX0_reads : MethodName := ⟨RX0, "reads", "()I"⟩
def dkwX0_reads_8 : List UInt8 := [4, 181, 0, 110, 25, 4, 191]
abbrev dktX0_reads_8 : List UInt8 := dkwX0_reads_8 ++ []
def dkwX0_reads_7 : List UInt8 := [181, 0, 114, 42, 180, 0, 64, 4, 181, 0, 110, 29, 172, 58, 4, 42, 3, 181, 0, 114, 42, 180, 0, 64]
abbrev dktX0_reads_7 : List UInt8 := dkwX0_reads_7 ++ dktX0_reads_8
def dkwX0_reads_6 : List UInt8 := [3, 79, 42, 180, 0, 68, 4, 43, 180, 1, 152, 79, 17, 252, 24, 43, 180, 1, 152, 100, 62, 42, 3]
abbrev dktX0_reads_6 : List UInt8 := dkwX0_reads_6 ++ dktX0_reads_7
def dkwX0_reads_5 : List UInt8 := [180, 0, 68, 3, 44, 193, 1, 130, 153, 0, 16, 44, 192, 1, 130, 78, 45, 180, 1, 149, 116, 167, 0, 4]
abbrev dktX0_reads_5 : List UInt8 := dkwX0_reads_5 ++ dktX0_reads_6
def dkwX0_reads_4 : List UInt8 := [4, 181, 0, 110, 28, 172, 76, 42, 180, 0, 33, 42, 180, 0, 39, 182, 0, 124, 43, 182, 1, 145, 77, 42]
abbrev dktX0_reads_4 : List UInt8 := dkwX0_reads_4 ++ dktX0_reads_5
def dkwX0_reads_3 : List UInt8 := [4, 181, 0, 110, 28, 172, 76, 16, 246, 43, 180, 1, 141, 100, 61, 42, 3, 181, 0, 114, 42, 180, 0, 64]
abbrev dktX0_reads_3 : List UInt8 := dkwX0_reads_3 ++ dktX0_reads_4
def dkwX0_reads_2 : List UInt8 := [180, 0, 117, 4, 100, 50, 42, 180, 0, 39, 182, 0, 124, 27, 61, 42, 3, 181, 0, 114, 42, 180, 0, 64]
abbrev dktX0_reads_2 : List UInt8 := dkwX0_reads_2 ++ dktX0_reads_3
def dkwX0_reads_1 : List UInt8 := [87, 42, 180, 0, 82, 4, 182, 1, 135, 60, 42, 3, 181, 0, 114, 42, 182, 0, 134, 42, 180, 0, 46, 42]
abbrev dktX0_reads_1 : List UInt8 := dkwX0_reads_1 ++ dktX0_reads_2
def dkwX0_reads_0 : List UInt8 := [42, 180, 0, 39, 42, 180, 0, 33, 182, 0, 124, 42, 4, 181, 0, 114, 42, 180, 0, 82, 3, 182, 1, 135]
abbrev dktX0_reads_0 : List UInt8 := dkwX0_reads_0 ++ dktX0_reads_1
theorem dksX0_reads_0 : cX0_reads.data.toList.drop 0 = dktX0_reads_0 := by decide +kernel
theorem dksX0_reads_1 : cX0_reads.data.toList.drop 24 = dktX0_reads_1 := dk_seg dksX0_reads_0 24 rfl rfl
theorem dksX0_reads_2 : cX0_reads.data.toList.drop 48 = dktX0_reads_2 := dk_seg dksX0_reads_1 24 rfl rfl
theorem dksX0_reads_3 : cX0_reads.data.toList.drop 72 = dktX0_reads_3 := dk_seg dksX0_reads_2 24 rfl rfl
theorem dksX0_reads_4 : cX0_reads.data.toList.drop 96 = dktX0_reads_4 := dk_seg dksX0_reads_3 24 rfl rfl
theorem dksX0_reads_5 : cX0_reads.data.toList.drop 120 = dktX0_reads_5 := dk_seg dksX0_reads_4 24 rfl rfl
theorem dksX0_reads_6 : cX0_reads.data.toList.drop 144 = dktX0_reads_6 := dk_seg dksX0_reads_5 24 rfl rfl
theorem dksX0_reads_7 : cX0_reads.data.toList.drop 167 = dktX0_reads_7 := dk_seg dksX0_reads_6 23 rfl rfl
theorem dksX0_reads_8 : cX0_reads.data.toList.drop 191 = dktX0_reads_8 := dk_seg dksX0_reads_7 24 rfl rfl
theorem dX0_reads_0 : decode cX0_reads 0 = .ok (.aload_n 0, 1) := dk_42 (dk_at dksX0_reads_0 0 rfl rfl)
theorem dX0_reads_1 : decode cX0_reads 1 = .ok (.getfield 39, 3) := dk_180 0 39 (dk_at dksX0_reads_0 1 rfl rfl)
theorem dX0_reads_4 : decode cX0_reads 4 = .ok (.aload_n 0, 1) := dk_42 (dk_at dksX0_reads_0 4 rfl rfl)
theorem dX0_reads_5 : decode cX0_reads 5 = .ok (.getfield 33, 3) := dk_180 0 33 (dk_at dksX0_reads_0 5 rfl rfl)
theorem dX0_reads_8 : decode cX0_reads 8 = .ok (.invokevirtual 124, 3) := dk_182 0 124 (dk_at dksX0_reads_0 8 rfl rfl)
theorem dX0_reads_11 : decode cX0_reads 11 = .ok (.aload_n 0, 1) := dk_42 (dk_at dksX0_reads_0 11 rfl rfl)
theorem dX0_reads_12 : decode cX0_reads 12 = .ok (.iconst 1, 1) := dk_4 (dk_at dksX0_reads_0 12 rfl rfl)
theorem dX0_reads_13 : decode cX0_reads 13 = .ok (.putfield 114, 3) := dk_181 0 114 (dk_at dksX0_reads_0 13 rfl rfl)
theorem dX0_reads_16 : decode cX0_reads 16 = .ok (.aload_n 0, 1) := dk_42 (dk_at dksX0_reads_0 16 rfl rfl)
theorem dX0_reads_17 : decode cX0_reads 17 = .ok (.getfield 82, 3) := dk_180 0 82 (dk_at dksX0_reads_0 17 rfl rfl)
theorem dX0_reads_20 : decode cX0_reads 20 = .ok (.iconst 0, 1) := dk_3 (dk_at dksX0_reads_0 20 rfl rfl)
theorem dX0_reads_21 : decode cX0_reads 21 = .ok (.invokevirtual 391, 3) := dk_182 1 135 (dk_at dksX0_reads_0 21 rfl rfl)
theorem dX0_reads_24 : decode cX0_reads 24 = .ok (.pop, 1) := dk_87 (dk_at dksX0_reads_1 0 rfl rfl)
theorem dX0_reads_25 : decode cX0_reads 25 = .ok (.aload_n 0, 1) := dk_42 (dk_at dksX0_reads_1 1 rfl rfl)
theorem dX0_reads_26 : decode cX0_reads 26 = .ok (.getfield 82, 3) := dk_180 0 82 (dk_at dksX0_reads_1 2 rfl rfl)
theorem dX0_reads_29 : decode cX0_reads 29 = .ok (.iconst 1, 1) := dk_4 (dk_at dksX0_reads_1 5 rfl rfl)
theorem dX0_reads_30 : decode cX0_reads 30 = .ok (.invokevirtual 391, 3) := dk_182 1 135 (dk_at dksX0_reads_1 6 rfl rfl)
theorem dX0_reads_33 : decode cX0_reads 33 = .ok (.istore_n 1, 1) := dk_60 (dk_at dksX0_reads_1 9 rfl rfl)
theorem dX0_reads_34 : decode cX0_reads 34 = .ok (.aload_n 0, 1) := dk_42 (dk_at dksX0_reads_1 10 rfl rfl)
theorem dX0_reads_35 : decode cX0_reads 35 = .ok (.iconst 0, 1) := dk_3 (dk_at dksX0_reads_1 11 rfl rfl)
theorem dX0_reads_36 : decode cX0_reads 36 = .ok (.putfield 114, 3) := dk_181 0 114 (dk_at dksX0_reads_1 12 rfl rfl)
theorem dX0_reads_39 : decode cX0_reads 39 = .ok (.aload_n 0, 1) := dk_42 (dk_at dksX0_reads_1 15 rfl rfl)
theorem dX0_reads_40 : decode cX0_reads 40 = .ok (.invokevirtual 134, 3) := dk_182 0 134 (dk_at dksX0_reads_1 16 rfl rfl)
theorem dX0_reads_43 : decode cX0_reads 43 = .ok (.aload_n 0, 1) := dk_42 (dk_at dksX0_reads_1 19 rfl rfl)
theorem dX0_reads_44 : decode cX0_reads 44 = .ok (.getfield 46, 3) := dk_180 0 46 (dk_at dksX0_reads_1 20 rfl rfl)
theorem dX0_reads_47 : decode cX0_reads 47 = .ok (.aload_n 0, 1) := dk_42 (dk_at dksX0_reads_1 23 rfl rfl)
theorem dX0_reads_48 : decode cX0_reads 48 = .ok (.getfield 117, 3) := dk_180 0 117 (dk_at dksX0_reads_2 0 rfl rfl)
theorem dX0_reads_51 : decode cX0_reads 51 = .ok (.iconst 1, 1) := dk_4 (dk_at dksX0_reads_2 3 rfl rfl)
theorem dX0_reads_52 : decode cX0_reads 52 = .ok (.isub, 1) := dk_100 (dk_at dksX0_reads_2 4 rfl rfl)
theorem dX0_reads_53 : decode cX0_reads 53 = .ok (.aaload, 1) := dk_50 (dk_at dksX0_reads_2 5 rfl rfl)
theorem dX0_reads_54 : decode cX0_reads 54 = .ok (.aload_n 0, 1) := dk_42 (dk_at dksX0_reads_2 6 rfl rfl)
theorem dX0_reads_55 : decode cX0_reads 55 = .ok (.getfield 39, 3) := dk_180 0 39 (dk_at dksX0_reads_2 7 rfl rfl)
theorem dX0_reads_58 : decode cX0_reads 58 = .ok (.invokevirtual 124, 3) := dk_182 0 124 (dk_at dksX0_reads_2 10 rfl rfl)
theorem dX0_reads_61 : decode cX0_reads 61 = .ok (.iload_n 1, 1) := dk_27 (dk_at dksX0_reads_2 13 rfl rfl)
theorem dX0_reads_62 : decode cX0_reads 62 = .ok (.istore_n 2, 1) := dk_61 (dk_at dksX0_reads_2 14 rfl rfl)
theorem dX0_reads_63 : decode cX0_reads 63 = .ok (.aload_n 0, 1) := dk_42 (dk_at dksX0_reads_2 15 rfl rfl)
theorem dX0_reads_64 : decode cX0_reads 64 = .ok (.iconst 0, 1) := dk_3 (dk_at dksX0_reads_2 16 rfl rfl)
theorem dX0_reads_65 : decode cX0_reads 65 = .ok (.putfield 114, 3) := dk_181 0 114 (dk_at dksX0_reads_2 17 rfl rfl)
theorem dX0_reads_68 : decode cX0_reads 68 = .ok (.aload_n 0, 1) := dk_42 (dk_at dksX0_reads_2 20 rfl rfl)
theorem dX0_reads_69 : decode cX0_reads 69 = .ok (.getfield 64, 3) := dk_180 0 64 (dk_at dksX0_reads_2 21 rfl rfl)
theorem dX0_reads_72 : decode cX0_reads 72 = .ok (.iconst 1, 1) := dk_4 (dk_at dksX0_reads_3 0 rfl rfl)
theorem dX0_reads_73 : decode cX0_reads 73 = .ok (.putfield 110, 3) := dk_181 0 110 (dk_at dksX0_reads_3 1 rfl rfl)
theorem dX0_reads_76 : decode cX0_reads 76 = .ok (.iload_n 2, 1) := dk_28 (dk_at dksX0_reads_3 4 rfl rfl)
theorem dX0_reads_77 : decode cX0_reads 77 = .ok (.ireturn, 1) := dk_172 (dk_at dksX0_reads_3 5 rfl rfl)
theorem dX0_reads_78 : decode cX0_reads 78 = .ok (.astore_n 1, 1) := dk_76 (dk_at dksX0_reads_3 6 rfl rfl)
theorem dX0_reads_79 : decode cX0_reads 79 = .ok (.bipush (-10), 2) := dk_16 246 (dk_at dksX0_reads_3 7 rfl rfl)
theorem dX0_reads_81 : decode cX0_reads 81 = .ok (.aload_n 1, 1) := dk_43 (dk_at dksX0_reads_3 9 rfl rfl)
theorem dX0_reads_82 : decode cX0_reads 82 = .ok (.getfield 397, 3) := dk_180 1 141 (dk_at dksX0_reads_3 10 rfl rfl)
theorem dX0_reads_85 : decode cX0_reads 85 = .ok (.isub, 1) := dk_100 (dk_at dksX0_reads_3 13 rfl rfl)
theorem dX0_reads_86 : decode cX0_reads 86 = .ok (.istore_n 2, 1) := dk_61 (dk_at dksX0_reads_3 14 rfl rfl)
theorem dX0_reads_87 : decode cX0_reads 87 = .ok (.aload_n 0, 1) := dk_42 (dk_at dksX0_reads_3 15 rfl rfl)
theorem dX0_reads_88 : decode cX0_reads 88 = .ok (.iconst 0, 1) := dk_3 (dk_at dksX0_reads_3 16 rfl rfl)
theorem dX0_reads_89 : decode cX0_reads 89 = .ok (.putfield 114, 3) := dk_181 0 114 (dk_at dksX0_reads_3 17 rfl rfl)
theorem dX0_reads_92 : decode cX0_reads 92 = .ok (.aload_n 0, 1) := dk_42 (dk_at dksX0_reads_3 20 rfl rfl)
theorem dX0_reads_93 : decode cX0_reads 93 = .ok (.getfield 64, 3) := dk_180 0 64 (dk_at dksX0_reads_3 21 rfl rfl)
theorem dX0_reads_96 : decode cX0_reads 96 = .ok (.iconst 1, 1) := dk_4 (dk_at dksX0_reads_4 0 rfl rfl)
theorem dX0_reads_97 : decode cX0_reads 97 = .ok (.putfield 110, 3) := dk_181 0 110 (dk_at dksX0_reads_4 1 rfl rfl)
theorem dX0_reads_100 : decode cX0_reads 100 = .ok (.iload_n 2, 1) := dk_28 (dk_at dksX0_reads_4 4 rfl rfl)
theorem dX0_reads_101 : decode cX0_reads 101 = .ok (.ireturn, 1) := dk_172 (dk_at dksX0_reads_4 5 rfl rfl)
theorem dX0_reads_102 : decode cX0_reads 102 = .ok (.astore_n 1, 1) := dk_76 (dk_at dksX0_reads_4 6 rfl rfl)
theorem dX0_reads_103 : decode cX0_reads 103 = .ok (.aload_n 0, 1) := dk_42 (dk_at dksX0_reads_4 7 rfl rfl)
theorem dX0_reads_104 : decode cX0_reads 104 = .ok (.getfield 33, 3) := dk_180 0 33 (dk_at dksX0_reads_4 8 rfl rfl)
theorem dX0_reads_107 : decode cX0_reads 107 = .ok (.aload_n 0, 1) := dk_42 (dk_at dksX0_reads_4 11 rfl rfl)
theorem dX0_reads_108 : decode cX0_reads 108 = .ok (.getfield 39, 3) := dk_180 0 39 (dk_at dksX0_reads_4 12 rfl rfl)
theorem dX0_reads_111 : decode cX0_reads 111 = .ok (.invokevirtual 124, 3) := dk_182 0 124 (dk_at dksX0_reads_4 15 rfl rfl)
theorem dX0_reads_114 : decode cX0_reads 114 = .ok (.aload_n 1, 1) := dk_43 (dk_at dksX0_reads_4 18 rfl rfl)
theorem dX0_reads_115 : decode cX0_reads 115 = .ok (.invokevirtual 401, 3) := dk_182 1 145 (dk_at dksX0_reads_4 19 rfl rfl)
theorem dX0_reads_118 : decode cX0_reads 118 = .ok (.astore_n 2, 1) := dk_77 (dk_at dksX0_reads_4 22 rfl rfl)
theorem dX0_reads_119 : decode cX0_reads 119 = .ok (.aload_n 0, 1) := dk_42 (dk_at dksX0_reads_4 23 rfl rfl)
theorem dX0_reads_120 : decode cX0_reads 120 = .ok (.getfield 68, 3) := dk_180 0 68 (dk_at dksX0_reads_5 0 rfl rfl)
theorem dX0_reads_123 : decode cX0_reads 123 = .ok (.iconst 0, 1) := dk_3 (dk_at dksX0_reads_5 3 rfl rfl)
theorem dX0_reads_124 : decode cX0_reads 124 = .ok (.aload_n 2, 1) := dk_44 (dk_at dksX0_reads_5 4 rfl rfl)
theorem dX0_reads_125 : decode cX0_reads 125 = .ok (.instanceof 386, 3) := dk_193 1 130 (dk_at dksX0_reads_5 5 rfl rfl)
theorem dX0_reads_128 : decode cX0_reads 128 = .ok (.ifCond .eq 16, 3) := dk_153 0 16 (dk_at dksX0_reads_5 8 rfl rfl)
theorem dX0_reads_131 : decode cX0_reads 131 = .ok (.aload_n 2, 1) := dk_44 (dk_at dksX0_reads_5 11 rfl rfl)
theorem dX0_reads_132 : decode cX0_reads 132 = .ok (.checkcast 386, 3) := dk_192 1 130 (dk_at dksX0_reads_5 12 rfl rfl)
theorem dX0_reads_135 : decode cX0_reads 135 = .ok (.astore_n 3, 1) := dk_78 (dk_at dksX0_reads_5 15 rfl rfl)
theorem dX0_reads_136 : decode cX0_reads 136 = .ok (.aload_n 3, 1) := dk_45 (dk_at dksX0_reads_5 16 rfl rfl)
theorem dX0_reads_137 : decode cX0_reads 137 = .ok (.getfield 405, 3) := dk_180 1 149 (dk_at dksX0_reads_5 17 rfl rfl)
theorem dX0_reads_140 : decode cX0_reads 140 = .ok (.ineg, 1) := dk_116 (dk_at dksX0_reads_5 20 rfl rfl)
theorem dX0_reads_141 : decode cX0_reads 141 = .ok (.goto 4, 3) := dk_167 0 4 (dk_at dksX0_reads_5 21 rfl rfl)
theorem dX0_reads_144 : decode cX0_reads 144 = .ok (.iconst 0, 1) := dk_3 (dk_at dksX0_reads_6 0 rfl rfl)
theorem dX0_reads_145 : decode cX0_reads 145 = .ok (.iastore, 1) := dk_79 (dk_at dksX0_reads_6 1 rfl rfl)
theorem dX0_reads_146 : decode cX0_reads 146 = .ok (.aload_n 0, 1) := dk_42 (dk_at dksX0_reads_6 2 rfl rfl)
theorem dX0_reads_147 : decode cX0_reads 147 = .ok (.getfield 68, 3) := dk_180 0 68 (dk_at dksX0_reads_6 3 rfl rfl)
theorem dX0_reads_150 : decode cX0_reads 150 = .ok (.iconst 1, 1) := dk_4 (dk_at dksX0_reads_6 6 rfl rfl)
theorem dX0_reads_151 : decode cX0_reads 151 = .ok (.aload_n 1, 1) := dk_43 (dk_at dksX0_reads_6 7 rfl rfl)
theorem dX0_reads_152 : decode cX0_reads 152 = .ok (.getfield 408, 3) := dk_180 1 152 (dk_at dksX0_reads_6 8 rfl rfl)
theorem dX0_reads_155 : decode cX0_reads 155 = .ok (.iastore, 1) := dk_79 (dk_at dksX0_reads_6 11 rfl rfl)
theorem dX0_reads_156 : decode cX0_reads 156 = .ok (.sipush (-1000), 3) := dk_17 252 24 (dk_at dksX0_reads_6 12 rfl rfl)
theorem dX0_reads_159 : decode cX0_reads 159 = .ok (.aload_n 1, 1) := dk_43 (dk_at dksX0_reads_6 15 rfl rfl)
theorem dX0_reads_160 : decode cX0_reads 160 = .ok (.getfield 408, 3) := dk_180 1 152 (dk_at dksX0_reads_6 16 rfl rfl)
theorem dX0_reads_163 : decode cX0_reads 163 = .ok (.isub, 1) := dk_100 (dk_at dksX0_reads_6 19 rfl rfl)
theorem dX0_reads_164 : decode cX0_reads 164 = .ok (.istore_n 3, 1) := dk_62 (dk_at dksX0_reads_6 20 rfl rfl)
theorem dX0_reads_165 : decode cX0_reads 165 = .ok (.aload_n 0, 1) := dk_42 (dk_at dksX0_reads_6 21 rfl rfl)
theorem dX0_reads_166 : decode cX0_reads 166 = .ok (.iconst 0, 1) := dk_3 (dk_at dksX0_reads_6 22 rfl rfl)
theorem dX0_reads_167 : decode cX0_reads 167 = .ok (.putfield 114, 3) := dk_181 0 114 (dk_at dksX0_reads_7 0 rfl rfl)
theorem dX0_reads_170 : decode cX0_reads 170 = .ok (.aload_n 0, 1) := dk_42 (dk_at dksX0_reads_7 3 rfl rfl)
theorem dX0_reads_171 : decode cX0_reads 171 = .ok (.getfield 64, 3) := dk_180 0 64 (dk_at dksX0_reads_7 4 rfl rfl)
theorem dX0_reads_174 : decode cX0_reads 174 = .ok (.iconst 1, 1) := dk_4 (dk_at dksX0_reads_7 7 rfl rfl)
theorem dX0_reads_175 : decode cX0_reads 175 = .ok (.putfield 110, 3) := dk_181 0 110 (dk_at dksX0_reads_7 8 rfl rfl)
theorem dX0_reads_178 : decode cX0_reads 178 = .ok (.iload_n 3, 1) := dk_29 (dk_at dksX0_reads_7 11 rfl rfl)
theorem dX0_reads_179 : decode cX0_reads 179 = .ok (.ireturn, 1) := dk_172 (dk_at dksX0_reads_7 12 rfl rfl)
theorem dX0_reads_180 : decode cX0_reads 180 = .ok (.astore 4, 2) := dk_58 4 (dk_at dksX0_reads_7 13 rfl rfl)
theorem dX0_reads_182 : decode cX0_reads 182 = .ok (.aload_n 0, 1) := dk_42 (dk_at dksX0_reads_7 15 rfl rfl)
theorem dX0_reads_183 : decode cX0_reads 183 = .ok (.iconst 0, 1) := dk_3 (dk_at dksX0_reads_7 16 rfl rfl)
theorem dX0_reads_184 : decode cX0_reads 184 = .ok (.putfield 114, 3) := dk_181 0 114 (dk_at dksX0_reads_7 17 rfl rfl)
theorem dX0_reads_187 : decode cX0_reads 187 = .ok (.aload_n 0, 1) := dk_42 (dk_at dksX0_reads_7 20 rfl rfl)
theorem dX0_reads_188 : decode cX0_reads 188 = .ok (.getfield 64, 3) := dk_180 0 64 (dk_at dksX0_reads_7 21 rfl rfl)
theorem dX0_reads_191 : decode cX0_reads 191 = .ok (.iconst 1, 1) := dk_4 (dk_at dksX0_reads_8 0 rfl rfl)
theorem dX0_reads_192 : decode cX0_reads 192 = .ok (.putfield 110, 3) := dk_181 0 110 (dk_at dksX0_reads_8 1 rfl rfl)
theorem dX0_reads_195 : decode cX0_reads 195 = .ok (.aload 4, 2) := dk_25 4 (dk_at dksX0_reads_8 4 rfl rfl)
theorem dX0_reads_197 : decode cX0_reads 197 = .ok (.athrow, 1) := dk_191 (dk_at dksX0_reads_8 6 rfl rfl)
abbrev cX0_wants : ByteArray := prog_1_method_52_code
def yX0_wants : MethodName := ⟨RX0, "wants", "(I)V"⟩
def dkwX0_wants_0 : List UInt8 := [26, 156, 0, 12, 187, 1, 130, 89, 26, 183, 1, 132, 191, 177]
abbrev dktX0_wants_0 : List UInt8 := dkwX0_wants_0 ++ []
theorem dksX0_wants_0 : cX0_wants.data.toList.drop 0 = dktX0_wants_0 := by decide +kernel
theorem dX0_wants_0 : decode cX0_wants 0 = .ok (.iload_n 0, 1) := dk_26 (dk_at dksX0_wants_0 0 rfl rfl)
theorem dX0_wants_1 : decode cX0_wants 1 = .ok (.ifCond .ge 12, 3) := dk_156 0 12 (dk_at dksX0_wants_0 1 rfl rfl)
theorem dX0_wants_4 : decode cX0_wants 4 = .ok (.new 386, 3) := dk_187 1 130 (dk_at dksX0_wants_0 4 rfl rfl)
theorem dX0_wants_7 : decode cX0_wants 7 = .ok (.dup, 1) := dk_89 (dk_at dksX0_wants_0 7 rfl rfl)
theorem dX0_wants_8 : decode cX0_wants 8 = .ok (.iload_n 0, 1) := dk_26 (dk_at dksX0_wants_0 8 rfl rfl)
theorem dX0_wants_9 : decode cX0_wants 9 = .ok (.invokespecial 388, 3) := dk_183 1 132 (dk_at dksX0_wants_0 9 rfl rfl)
theorem dX0_wants_12 : decode cX0_wants 12 = .ok (.athrow, 1) := dk_191 (dk_at dksX0_wants_0 12 rfl rfl)
theorem dX0_wants_13 : decode cX0_wants 13 = .ok (.return_, 1) := dk_177 (dk_at dksX0_wants_0 13 rfl rfl)
abbrev cX0_why : ByteArray := prog_1_method_54_code
def yX0_why : MethodName := ⟨RX0, "why", "(I)I"⟩
def dkwX0_why_1 : List UInt8 := [182, 0, 86, 172]
abbrev dktX0_why_1 : List UInt8 := dkwX0_why_1 ++ []
def dkwX0_why_0 : List UInt8 := [27, 133, 9, 10, 184, 0, 98, 153, 0, 12, 42, 180, 0, 68, 27, 46, 167, 0, 10, 42, 3, 16, 246]
abbrev dktX0_why_0 : List UInt8 := dkwX0_why_0 ++ dktX0_why_1
theorem dksX0_why_0 : cX0_why.data.toList.drop 0 = dktX0_why_0 := by decide +kernel
theorem dksX0_why_1 : cX0_why.data.toList.drop 23 = dktX0_why_1 := dk_seg dksX0_why_0 23 rfl rfl
theorem dX0_why_0 : decode cX0_why 0 = .ok (.iload_n 1, 1) := dk_27 (dk_at dksX0_why_0 0 rfl rfl)
theorem dX0_why_1 : decode cX0_why 1 = .ok (.i2l, 1) := dk_133 (dk_at dksX0_why_0 1 rfl rfl)
theorem dX0_why_2 : decode cX0_why 2 = .ok (.lconst 0, 1) := dk_9 (dk_at dksX0_why_0 2 rfl rfl)
theorem dX0_why_3 : decode cX0_why 3 = .ok (.lconst 1, 1) := dk_10 (dk_at dksX0_why_0 3 rfl rfl)
theorem dX0_why_4 : decode cX0_why 4 = .ok (.invokestatic 98, 3) := dk_184 0 98 (dk_at dksX0_why_0 4 rfl rfl)
theorem dX0_why_7 : decode cX0_why 7 = .ok (.ifCond .eq 12, 3) := dk_153 0 12 (dk_at dksX0_why_0 7 rfl rfl)
theorem dX0_why_10 : decode cX0_why 10 = .ok (.aload_n 0, 1) := dk_42 (dk_at dksX0_why_0 10 rfl rfl)
theorem dX0_why_11 : decode cX0_why 11 = .ok (.getfield 68, 3) := dk_180 0 68 (dk_at dksX0_why_0 11 rfl rfl)
theorem dX0_why_14 : decode cX0_why 14 = .ok (.iload_n 1, 1) := dk_27 (dk_at dksX0_why_0 14 rfl rfl)
theorem dX0_why_15 : decode cX0_why 15 = .ok (.iaload, 1) := dk_46 (dk_at dksX0_why_0 15 rfl rfl)
theorem dX0_why_16 : decode cX0_why 16 = .ok (.goto 10, 3) := dk_167 0 10 (dk_at dksX0_why_0 16 rfl rfl)
theorem dX0_why_19 : decode cX0_why 19 = .ok (.aload_n 0, 1) := dk_42 (dk_at dksX0_why_0 19 rfl rfl)
theorem dX0_why_20 : decode cX0_why 20 = .ok (.iconst 0, 1) := dk_3 (dk_at dksX0_why_0 20 rfl rfl)
theorem dX0_why_21 : decode cX0_why 21 = .ok (.bipush (-10), 2) := dk_16 246 (dk_at dksX0_why_0 21 rfl rfl)
theorem dX0_why_23 : decode cX0_why 23 = .ok (.invokevirtual 86, 3) := dk_182 0 86 (dk_at dksX0_why_1 0 rfl rfl)
theorem dX0_why_26 : decode cX0_why 26 = .ok (.ireturn, 1) := dk_172 (dk_at dksX0_why_1 3 rfl rfl)
abbrev cX0_back : ByteArray := prog_1_method_55_code
def yX0_back : MethodName := ⟨RX0, "back", "()I"⟩
def dkwX0_back_2 : List UInt8 := [180, 0, 117, 172]
abbrev dktX0_back_2 : List UInt8 := dkwX0_back_2 ++ []
def dkwX0_back_1 : List UInt8 := [180, 0, 33, 42, 180, 0, 46, 42, 180, 0, 117, 50, 182, 0, 124, 42, 180, 0, 64, 4, 181, 0, 110, 42]
abbrev dktX0_back_1 : List UInt8 := dkwX0_back_1 ++ dktX0_back_2
def dkwX0_back_0 : List UInt8 := [42, 180, 0, 117, 154, 0, 8, 42, 182, 1, 54, 172, 42, 89, 180, 0, 117, 4, 100, 181, 0, 117, 42]
abbrev dktX0_back_0 : List UInt8 := dkwX0_back_0 ++ dktX0_back_1
theorem dksX0_back_0 : cX0_back.data.toList.drop 0 = dktX0_back_0 := by decide +kernel
theorem dksX0_back_1 : cX0_back.data.toList.drop 23 = dktX0_back_1 := dk_seg dksX0_back_0 23 rfl rfl
theorem dksX0_back_2 : cX0_back.data.toList.drop 47 = dktX0_back_2 := dk_seg dksX0_back_1 24 rfl rfl
theorem dX0_back_0 : decode cX0_back 0 = .ok (.aload_n 0, 1) := dk_42 (dk_at dksX0_back_0 0 rfl rfl)
theorem dX0_back_1 : decode cX0_back 1 = .ok (.getfield 117, 3) := dk_180 0 117 (dk_at dksX0_back_0 1 rfl rfl)
theorem dX0_back_4 : decode cX0_back 4 = .ok (.ifCond .ne 8, 3) := dk_154 0 8 (dk_at dksX0_back_0 4 rfl rfl)
theorem dX0_back_7 : decode cX0_back 7 = .ok (.aload_n 0, 1) := dk_42 (dk_at dksX0_back_0 7 rfl rfl)
theorem dX0_back_8 : decode cX0_back 8 = .ok (.invokevirtual 310, 3) := dk_182 1 54 (dk_at dksX0_back_0 8 rfl rfl)
theorem dX0_back_11 : decode cX0_back 11 = .ok (.ireturn, 1) := dk_172 (dk_at dksX0_back_0 11 rfl rfl)
theorem dX0_back_12 : decode cX0_back 12 = .ok (.aload_n 0, 1) := dk_42 (dk_at dksX0_back_0 12 rfl rfl)
theorem dX0_back_13 : decode cX0_back 13 = .ok (.dup, 1) := dk_89 (dk_at dksX0_back_0 13 rfl rfl)
theorem dX0_back_14 : decode cX0_back 14 = .ok (.getfield 117, 3) := dk_180 0 117 (dk_at dksX0_back_0 14 rfl rfl)
theorem dX0_back_17 : decode cX0_back 17 = .ok (.iconst 1, 1) := dk_4 (dk_at dksX0_back_0 17 rfl rfl)
theorem dX0_back_18 : decode cX0_back 18 = .ok (.isub, 1) := dk_100 (dk_at dksX0_back_0 18 rfl rfl)
theorem dX0_back_19 : decode cX0_back 19 = .ok (.putfield 117, 3) := dk_181 0 117 (dk_at dksX0_back_0 19 rfl rfl)
theorem dX0_back_22 : decode cX0_back 22 = .ok (.aload_n 0, 1) := dk_42 (dk_at dksX0_back_0 22 rfl rfl)
theorem dX0_back_23 : decode cX0_back 23 = .ok (.getfield 33, 3) := dk_180 0 33 (dk_at dksX0_back_1 0 rfl rfl)
theorem dX0_back_26 : decode cX0_back 26 = .ok (.aload_n 0, 1) := dk_42 (dk_at dksX0_back_1 3 rfl rfl)
theorem dX0_back_27 : decode cX0_back 27 = .ok (.getfield 46, 3) := dk_180 0 46 (dk_at dksX0_back_1 4 rfl rfl)
theorem dX0_back_30 : decode cX0_back 30 = .ok (.aload_n 0, 1) := dk_42 (dk_at dksX0_back_1 7 rfl rfl)
theorem dX0_back_31 : decode cX0_back 31 = .ok (.getfield 117, 3) := dk_180 0 117 (dk_at dksX0_back_1 8 rfl rfl)
theorem dX0_back_34 : decode cX0_back 34 = .ok (.aaload, 1) := dk_50 (dk_at dksX0_back_1 11 rfl rfl)
theorem dX0_back_35 : decode cX0_back 35 = .ok (.invokevirtual 124, 3) := dk_182 0 124 (dk_at dksX0_back_1 12 rfl rfl)
theorem dX0_back_38 : decode cX0_back 38 = .ok (.aload_n 0, 1) := dk_42 (dk_at dksX0_back_1 15 rfl rfl)
theorem dX0_back_39 : decode cX0_back 39 = .ok (.getfield 64, 3) := dk_180 0 64 (dk_at dksX0_back_1 16 rfl rfl)
theorem dX0_back_42 : decode cX0_back 42 = .ok (.iconst 1, 1) := dk_4 (dk_at dksX0_back_1 19 rfl rfl)
theorem dX0_back_43 : decode cX0_back 43 = .ok (.putfield 110, 3) := dk_181 0 110 (dk_at dksX0_back_1 20 rfl rfl)
theorem dX0_back_46 : decode cX0_back 46 = .ok (.aload_n 0, 1) := dk_42 (dk_at dksX0_back_1 23 rfl rfl)
theorem dX0_back_47 : decode cX0_back 47 = .ok (.getfield 117, 3) := dk_180 0 117 (dk_at dksX0_back_2 0 rfl rfl)
theorem dX0_back_50 : decode cX0_back 50 = .ok (.ireturn, 1) := dk_172 (dk_at dksX0_back_2 3 rfl rfl)
abbrev cX0_told : ByteArray := prog_1_method_57_code
def yX0_told : MethodName := ⟨RX0, "told", "(I)I"⟩
def dkwX0_told_1 : List UInt8 := [172]
abbrev dktX0_told_1 : List UInt8 := dkwX0_told_1 ++ []
def dkwX0_told_0 : List UInt8 := [27, 133, 9, 20, 1, 155, 184, 0, 98, 153, 0, 11, 42, 27, 182, 1, 157, 167, 0, 7, 42, 182, 0, 90]
abbrev dktX0_told_0 : List UInt8 := dkwX0_told_0 ++ dktX0_told_1
theorem dksX0_told_0 : cX0_told.data.toList.drop 0 = dktX0_told_0 := by decide +kernel
theorem dksX0_told_1 : cX0_told.data.toList.drop 24 = dktX0_told_1 := dk_seg dksX0_told_0 24 rfl rfl
theorem dX0_told_0 : decode cX0_told 0 = .ok (.iload_n 1, 1) := dk_27 (dk_at dksX0_told_0 0 rfl rfl)
theorem dX0_told_1 : decode cX0_told 1 = .ok (.i2l, 1) := dk_133 (dk_at dksX0_told_0 1 rfl rfl)
theorem dX0_told_2 : decode cX0_told 2 = .ok (.lconst 0, 1) := dk_9 (dk_at dksX0_told_0 2 rfl rfl)
theorem dX0_told_3 : decode cX0_told 3 = .ok (.ldc2_w 411, 3) := dk_20 1 155 (dk_at dksX0_told_0 3 rfl rfl)
theorem dX0_told_6 : decode cX0_told 6 = .ok (.invokestatic 98, 3) := dk_184 0 98 (dk_at dksX0_told_0 6 rfl rfl)
theorem dX0_told_9 : decode cX0_told 9 = .ok (.ifCond .eq 11, 3) := dk_153 0 11 (dk_at dksX0_told_0 9 rfl rfl)
theorem dX0_told_12 : decode cX0_told 12 = .ok (.aload_n 0, 1) := dk_42 (dk_at dksX0_told_0 12 rfl rfl)
theorem dX0_told_13 : decode cX0_told 13 = .ok (.iload_n 1, 1) := dk_27 (dk_at dksX0_told_0 13 rfl rfl)
theorem dX0_told_14 : decode cX0_told 14 = .ok (.invokevirtual 413, 3) := dk_182 1 157 (dk_at dksX0_told_0 14 rfl rfl)
theorem dX0_told_17 : decode cX0_told 17 = .ok (.goto 7, 3) := dk_167 0 7 (dk_at dksX0_told_0 17 rfl rfl)
theorem dX0_told_20 : decode cX0_told 20 = .ok (.aload_n 0, 1) := dk_42 (dk_at dksX0_told_0 20 rfl rfl)
theorem dX0_told_21 : decode cX0_told 21 = .ok (.invokevirtual 90, 3) := dk_182 0 90 (dk_at dksX0_told_0 21 rfl rfl)
theorem dX0_told_24 : decode cX0_told 24 = .ok (.ireturn, 1) := dk_172 (dk_at dksX0_told_1 0 rfl rfl)
abbrev cX0_toldOf : ByteArray := prog_1_method_56_code
def yX0_toldOf : MethodName := ⟨RX0, "toldOf", "(I)I"⟩
def dkwX0_toldOf_3 : List UInt8 := [180, 0, 94, 172, 42, 180, 0, 33, 180, 0, 219, 27, 16, 6, 100, 46, 172, 42, 180, 0, 117, 172]
abbrev dktX0_toldOf_3 : List UInt8 := dkwX0_toldOf_3 ++ []
def dkwX0_toldOf_2 : List UInt8 := [42, 180, 0, 76, 27, 46, 172, 42, 180, 1, 127, 172, 42, 180, 0, 33, 180, 0, 137, 172, 42, 180, 0, 33]
abbrev dktX0_toldOf_2 : List UInt8 := dkwX0_toldOf_2 ++ dktX0_toldOf_3
def dkwX0_toldOf_1 : List UInt8 := [170, 0, 0, 0, 0, 0, 88, 0, 0, 0, 0, 0, 0, 0, 7, 0, 0, 0, 47, 0, 0, 0, 47, 0, 0, 0, 47, 0, 0, 0, 54, 0, 0, 0, 59, 0, 0, 0, 67, 0, 0, 0, 75, 0, 0, 0, 75]
abbrev dktX0_toldOf_1 : List UInt8 := dkwX0_toldOf_1 ++ dktX0_toldOf_2
def dkwX0_toldOf_0 : List UInt8 := [27]
abbrev dktX0_toldOf_0 : List UInt8 := dkwX0_toldOf_0 ++ dktX0_toldOf_1
theorem dksX0_toldOf_0 : cX0_toldOf.data.toList.drop 0 = dktX0_toldOf_0 := by decide +kernel
theorem dksX0_toldOf_1 : cX0_toldOf.data.toList.drop 1 = dktX0_toldOf_1 := dk_seg dksX0_toldOf_0 1 rfl rfl
theorem dksX0_toldOf_2 : cX0_toldOf.data.toList.drop 48 = dktX0_toldOf_2 := dk_seg dksX0_toldOf_1 47 rfl rfl
theorem dksX0_toldOf_3 : cX0_toldOf.data.toList.drop 72 = dktX0_toldOf_3 := dk_seg dksX0_toldOf_2 24 rfl rfl
theorem dX0_toldOf_0 : decode cX0_toldOf 0 = .ok (.iload_n 1, 1) := dk_27 (dk_at dksX0_toldOf_0 0 rfl rfl)
theorem dX0_toldOf_1 : decode cX0_toldOf 1 = .ok (.tableswitch 88 0 7 #[47, 47, 47, 54, 59, 67, 75, 75], 47) := by decide +kernel
theorem dX0_toldOf_48 : decode cX0_toldOf 48 = .ok (.aload_n 0, 1) := dk_42 (dk_at dksX0_toldOf_2 0 rfl rfl)
theorem dX0_toldOf_49 : decode cX0_toldOf 49 = .ok (.getfield 76, 3) := dk_180 0 76 (dk_at dksX0_toldOf_2 1 rfl rfl)
theorem dX0_toldOf_52 : decode cX0_toldOf 52 = .ok (.iload_n 1, 1) := dk_27 (dk_at dksX0_toldOf_2 4 rfl rfl)
theorem dX0_toldOf_53 : decode cX0_toldOf 53 = .ok (.iaload, 1) := dk_46 (dk_at dksX0_toldOf_2 5 rfl rfl)
theorem dX0_toldOf_54 : decode cX0_toldOf 54 = .ok (.ireturn, 1) := dk_172 (dk_at dksX0_toldOf_2 6 rfl rfl)
theorem dX0_toldOf_55 : decode cX0_toldOf 55 = .ok (.aload_n 0, 1) := dk_42 (dk_at dksX0_toldOf_2 7 rfl rfl)
theorem dX0_toldOf_56 : decode cX0_toldOf 56 = .ok (.getfield 383, 3) := dk_180 1 127 (dk_at dksX0_toldOf_2 8 rfl rfl)
theorem dX0_toldOf_59 : decode cX0_toldOf 59 = .ok (.ireturn, 1) := dk_172 (dk_at dksX0_toldOf_2 11 rfl rfl)
theorem dX0_toldOf_60 : decode cX0_toldOf 60 = .ok (.aload_n 0, 1) := dk_42 (dk_at dksX0_toldOf_2 12 rfl rfl)
theorem dX0_toldOf_61 : decode cX0_toldOf 61 = .ok (.getfield 33, 3) := dk_180 0 33 (dk_at dksX0_toldOf_2 13 rfl rfl)
theorem dX0_toldOf_64 : decode cX0_toldOf 64 = .ok (.getfield 137, 3) := dk_180 0 137 (dk_at dksX0_toldOf_2 16 rfl rfl)
theorem dX0_toldOf_67 : decode cX0_toldOf 67 = .ok (.ireturn, 1) := dk_172 (dk_at dksX0_toldOf_2 19 rfl rfl)
theorem dX0_toldOf_68 : decode cX0_toldOf 68 = .ok (.aload_n 0, 1) := dk_42 (dk_at dksX0_toldOf_2 20 rfl rfl)
theorem dX0_toldOf_69 : decode cX0_toldOf 69 = .ok (.getfield 33, 3) := dk_180 0 33 (dk_at dksX0_toldOf_2 21 rfl rfl)
theorem dX0_toldOf_72 : decode cX0_toldOf 72 = .ok (.getfield 94, 3) := dk_180 0 94 (dk_at dksX0_toldOf_3 0 rfl rfl)
theorem dX0_toldOf_75 : decode cX0_toldOf 75 = .ok (.ireturn, 1) := dk_172 (dk_at dksX0_toldOf_3 3 rfl rfl)
theorem dX0_toldOf_76 : decode cX0_toldOf 76 = .ok (.aload_n 0, 1) := dk_42 (dk_at dksX0_toldOf_3 4 rfl rfl)
theorem dX0_toldOf_77 : decode cX0_toldOf 77 = .ok (.getfield 33, 3) := dk_180 0 33 (dk_at dksX0_toldOf_3 5 rfl rfl)
theorem dX0_toldOf_80 : decode cX0_toldOf 80 = .ok (.getfield 219, 3) := dk_180 0 219 (dk_at dksX0_toldOf_3 8 rfl rfl)
theorem dX0_toldOf_83 : decode cX0_toldOf 83 = .ok (.iload_n 1, 1) := dk_27 (dk_at dksX0_toldOf_3 11 rfl rfl)
theorem dX0_toldOf_84 : decode cX0_toldOf 84 = .ok (.bipush 6, 2) := dk_16 6 (dk_at dksX0_toldOf_3 12 rfl rfl)
theorem dX0_toldOf_86 : decode cX0_toldOf 86 = .ok (.isub, 1) := dk_100 (dk_at dksX0_toldOf_3 14 rfl rfl)
theorem dX0_toldOf_87 : decode cX0_toldOf 87 = .ok (.iaload, 1) := dk_46 (dk_at dksX0_toldOf_3 15 rfl rfl)
theorem dX0_toldOf_88 : decode cX0_toldOf 88 = .ok (.ireturn, 1) := dk_172 (dk_at dksX0_toldOf_3 16 rfl rfl)
theorem dX0_toldOf_89 : decode cX0_toldOf 89 = .ok (.aload_n 0, 1) := dk_42 (dk_at dksX0_toldOf_3 17 rfl rfl)
theorem dX0_toldOf_90 : decode cX0_toldOf 90 = .ok (.getfield 117, 3) := dk_180 0 117 (dk_at dksX0_toldOf_3 18 rfl rfl)
theorem dX0_toldOf_93 : decode cX0_toldOf 93 = .ok (.ireturn, 1) := dk_172 (dk_at dksX0_toldOf_3 21 rfl rfl)
abbrev cX0_digest : ByteArray := prog_1_method_58_code
def yX0_digest : MethodName := ⟨RX0, "digest", "()J"⟩
def dkwX0_digest_7 : List UInt8 := [167, 255, 234, 31, 173]
abbrev dktX0_digest_7 : List UInt8 := dkwX0_digest_7 ++ []
def dkwX0_digest_6 : List UInt8 := [3, 62, 29, 16, 6, 162, 0, 22, 20, 1, 162, 31, 105, 42, 29, 182, 1, 48, 133, 97, 64, 132, 3, 1]
abbrev dktX0_digest_6 : List UInt8 := dkwX0_digest_6 ++ dktX0_digest_7
def dkwX0_digest_5 : List UInt8 := [29, 182, 0, 245, 133, 97, 105, 42, 182, 0, 250, 29, 182, 1, 21, 133, 97, 64, 132, 3, 1, 167, 255, 176]
abbrev dktX0_digest_5 : List UInt8 := dkwX0_digest_5 ++ dktX0_digest_6
def dkwX0_digest_4 : List UInt8 := [180, 1, 164, 21, 4, 46, 133, 97, 64, 132, 4, 1, 167, 255, 223, 20, 1, 162, 20, 1, 162, 31, 105, 42]
abbrev dktX0_digest_4 : List UInt8 := dkwX0_digest_4 ++ dktX0_digest_5
def dkwX0_digest_3 : List UInt8 := [54, 4, 21, 4, 16, 32, 162, 0, 32, 20, 1, 162, 31, 105, 42, 180, 0, 33, 180, 0, 185, 29, 50]
abbrev dktX0_digest_3 : List UInt8 := dkwX0_digest_3 ++ dktX0_digest_4
def dkwX0_digest_2 : List UInt8 := [42, 180, 0, 68, 4, 46, 133, 97, 64, 3, 62, 29, 42, 180, 0, 33, 180, 0, 94, 162, 0, 75, 3]
abbrev dktX0_digest_2 : List UInt8 := dkwX0_digest_2 ++ dktX0_digest_3
def dkwX0_digest_1 : List UInt8 := [64, 132, 3, 1, 167, 255, 234, 20, 1, 162, 20, 1, 162, 31, 105, 42, 180, 0, 68, 3, 46, 133, 97, 105]
abbrev dktX0_digest_1 : List UInt8 := dkwX0_digest_1 ++ dktX0_digest_2
def dkwX0_digest_0 : List UInt8 := [20, 1, 160, 64, 3, 62, 29, 16, 9, 162, 0, 22, 20, 1, 162, 31, 105, 42, 29, 182, 1, 157, 133, 97]
abbrev dktX0_digest_0 : List UInt8 := dkwX0_digest_0 ++ dktX0_digest_1
theorem dksX0_digest_0 : cX0_digest.data.toList.drop 0 = dktX0_digest_0 := by decide +kernel
theorem dksX0_digest_1 : cX0_digest.data.toList.drop 24 = dktX0_digest_1 := dk_seg dksX0_digest_0 24 rfl rfl
theorem dksX0_digest_2 : cX0_digest.data.toList.drop 48 = dktX0_digest_2 := dk_seg dksX0_digest_1 24 rfl rfl
theorem dksX0_digest_3 : cX0_digest.data.toList.drop 71 = dktX0_digest_3 := dk_seg dksX0_digest_2 23 rfl rfl
theorem dksX0_digest_4 : cX0_digest.data.toList.drop 94 = dktX0_digest_4 := dk_seg dksX0_digest_3 23 rfl rfl
theorem dksX0_digest_5 : cX0_digest.data.toList.drop 118 = dktX0_digest_5 := dk_seg dksX0_digest_4 24 rfl rfl
theorem dksX0_digest_6 : cX0_digest.data.toList.drop 142 = dktX0_digest_6 := dk_seg dksX0_digest_5 24 rfl rfl
theorem dksX0_digest_7 : cX0_digest.data.toList.drop 166 = dktX0_digest_7 := dk_seg dksX0_digest_6 24 rfl rfl
theorem dX0_digest_0 : decode cX0_digest 0 = .ok (.ldc2_w 416, 3) := dk_20 1 160 (dk_at dksX0_digest_0 0 rfl rfl)
theorem dX0_digest_3 : decode cX0_digest 3 = .ok (.lstore_n 1, 1) := dk_64 (dk_at dksX0_digest_0 3 rfl rfl)
theorem dX0_digest_4 : decode cX0_digest 4 = .ok (.iconst 0, 1) := dk_3 (dk_at dksX0_digest_0 4 rfl rfl)
theorem dX0_digest_5 : decode cX0_digest 5 = .ok (.istore_n 3, 1) := dk_62 (dk_at dksX0_digest_0 5 rfl rfl)
theorem dX0_digest_6 : decode cX0_digest 6 = .ok (.iload_n 3, 1) := dk_29 (dk_at dksX0_digest_0 6 rfl rfl)
theorem dX0_digest_7 : decode cX0_digest 7 = .ok (.bipush 9, 2) := dk_16 9 (dk_at dksX0_digest_0 7 rfl rfl)
theorem dX0_digest_9 : decode cX0_digest 9 = .ok (.if_icmp .ge 22, 3) := dk_162 0 22 (dk_at dksX0_digest_0 9 rfl rfl)
theorem dX0_digest_12 : decode cX0_digest 12 = .ok (.ldc2_w 418, 3) := dk_20 1 162 (dk_at dksX0_digest_0 12 rfl rfl)
theorem dX0_digest_15 : decode cX0_digest 15 = .ok (.lload_n 1, 1) := dk_31 (dk_at dksX0_digest_0 15 rfl rfl)
theorem dX0_digest_16 : decode cX0_digest 16 = .ok (.lmul, 1) := dk_105 (dk_at dksX0_digest_0 16 rfl rfl)
theorem dX0_digest_17 : decode cX0_digest 17 = .ok (.aload_n 0, 1) := dk_42 (dk_at dksX0_digest_0 17 rfl rfl)
theorem dX0_digest_18 : decode cX0_digest 18 = .ok (.iload_n 3, 1) := dk_29 (dk_at dksX0_digest_0 18 rfl rfl)
theorem dX0_digest_19 : decode cX0_digest 19 = .ok (.invokevirtual 413, 3) := dk_182 1 157 (dk_at dksX0_digest_0 19 rfl rfl)
theorem dX0_digest_22 : decode cX0_digest 22 = .ok (.i2l, 1) := dk_133 (dk_at dksX0_digest_0 22 rfl rfl)
theorem dX0_digest_23 : decode cX0_digest 23 = .ok (.ladd, 1) := dk_97 (dk_at dksX0_digest_0 23 rfl rfl)
theorem dX0_digest_24 : decode cX0_digest 24 = .ok (.lstore_n 1, 1) := dk_64 (dk_at dksX0_digest_1 0 rfl rfl)
theorem dX0_digest_25 : decode cX0_digest 25 = .ok (.iinc 3 1, 3) := dk_132 3 1 (dk_at dksX0_digest_1 1 rfl rfl)
theorem dX0_digest_28 : decode cX0_digest 28 = .ok (.goto (-22), 3) := dk_167 255 234 (dk_at dksX0_digest_1 4 rfl rfl)
theorem dX0_digest_31 : decode cX0_digest 31 = .ok (.ldc2_w 418, 3) := dk_20 1 162 (dk_at dksX0_digest_1 7 rfl rfl)
theorem dX0_digest_34 : decode cX0_digest 34 = .ok (.ldc2_w 418, 3) := dk_20 1 162 (dk_at dksX0_digest_1 10 rfl rfl)
theorem dX0_digest_37 : decode cX0_digest 37 = .ok (.lload_n 1, 1) := dk_31 (dk_at dksX0_digest_1 13 rfl rfl)
theorem dX0_digest_38 : decode cX0_digest 38 = .ok (.lmul, 1) := dk_105 (dk_at dksX0_digest_1 14 rfl rfl)
theorem dX0_digest_39 : decode cX0_digest 39 = .ok (.aload_n 0, 1) := dk_42 (dk_at dksX0_digest_1 15 rfl rfl)
theorem dX0_digest_40 : decode cX0_digest 40 = .ok (.getfield 68, 3) := dk_180 0 68 (dk_at dksX0_digest_1 16 rfl rfl)
theorem dX0_digest_43 : decode cX0_digest 43 = .ok (.iconst 0, 1) := dk_3 (dk_at dksX0_digest_1 19 rfl rfl)
theorem dX0_digest_44 : decode cX0_digest 44 = .ok (.iaload, 1) := dk_46 (dk_at dksX0_digest_1 20 rfl rfl)
theorem dX0_digest_45 : decode cX0_digest 45 = .ok (.i2l, 1) := dk_133 (dk_at dksX0_digest_1 21 rfl rfl)
theorem dX0_digest_46 : decode cX0_digest 46 = .ok (.ladd, 1) := dk_97 (dk_at dksX0_digest_1 22 rfl rfl)
theorem dX0_digest_47 : decode cX0_digest 47 = .ok (.lmul, 1) := dk_105 (dk_at dksX0_digest_1 23 rfl rfl)
theorem dX0_digest_48 : decode cX0_digest 48 = .ok (.aload_n 0, 1) := dk_42 (dk_at dksX0_digest_2 0 rfl rfl)
theorem dX0_digest_49 : decode cX0_digest 49 = .ok (.getfield 68, 3) := dk_180 0 68 (dk_at dksX0_digest_2 1 rfl rfl)
theorem dX0_digest_52 : decode cX0_digest 52 = .ok (.iconst 1, 1) := dk_4 (dk_at dksX0_digest_2 4 rfl rfl)
theorem dX0_digest_53 : decode cX0_digest 53 = .ok (.iaload, 1) := dk_46 (dk_at dksX0_digest_2 5 rfl rfl)
theorem dX0_digest_54 : decode cX0_digest 54 = .ok (.i2l, 1) := dk_133 (dk_at dksX0_digest_2 6 rfl rfl)
theorem dX0_digest_55 : decode cX0_digest 55 = .ok (.ladd, 1) := dk_97 (dk_at dksX0_digest_2 7 rfl rfl)
theorem dX0_digest_56 : decode cX0_digest 56 = .ok (.lstore_n 1, 1) := dk_64 (dk_at dksX0_digest_2 8 rfl rfl)
theorem dX0_digest_57 : decode cX0_digest 57 = .ok (.iconst 0, 1) := dk_3 (dk_at dksX0_digest_2 9 rfl rfl)
theorem dX0_digest_58 : decode cX0_digest 58 = .ok (.istore_n 3, 1) := dk_62 (dk_at dksX0_digest_2 10 rfl rfl)
theorem dX0_digest_59 : decode cX0_digest 59 = .ok (.iload_n 3, 1) := dk_29 (dk_at dksX0_digest_2 11 rfl rfl)
theorem dX0_digest_60 : decode cX0_digest 60 = .ok (.aload_n 0, 1) := dk_42 (dk_at dksX0_digest_2 12 rfl rfl)
theorem dX0_digest_61 : decode cX0_digest 61 = .ok (.getfield 33, 3) := dk_180 0 33 (dk_at dksX0_digest_2 13 rfl rfl)
theorem dX0_digest_64 : decode cX0_digest 64 = .ok (.getfield 94, 3) := dk_180 0 94 (dk_at dksX0_digest_2 16 rfl rfl)
theorem dX0_digest_67 : decode cX0_digest 67 = .ok (.if_icmp .ge 75, 3) := dk_162 0 75 (dk_at dksX0_digest_2 19 rfl rfl)
theorem dX0_digest_70 : decode cX0_digest 70 = .ok (.iconst 0, 1) := dk_3 (dk_at dksX0_digest_2 22 rfl rfl)
theorem dX0_digest_71 : decode cX0_digest 71 = .ok (.istore 4, 2) := dk_54 4 (dk_at dksX0_digest_3 0 rfl rfl)
theorem dX0_digest_73 : decode cX0_digest 73 = .ok (.iload 4, 2) := dk_21 4 (dk_at dksX0_digest_3 2 rfl rfl)
theorem dX0_digest_75 : decode cX0_digest 75 = .ok (.bipush 32, 2) := dk_16 32 (dk_at dksX0_digest_3 4 rfl rfl)
theorem dX0_digest_77 : decode cX0_digest 77 = .ok (.if_icmp .ge 32, 3) := dk_162 0 32 (dk_at dksX0_digest_3 6 rfl rfl)
theorem dX0_digest_80 : decode cX0_digest 80 = .ok (.ldc2_w 418, 3) := dk_20 1 162 (dk_at dksX0_digest_3 9 rfl rfl)
theorem dX0_digest_83 : decode cX0_digest 83 = .ok (.lload_n 1, 1) := dk_31 (dk_at dksX0_digest_3 12 rfl rfl)
theorem dX0_digest_84 : decode cX0_digest 84 = .ok (.lmul, 1) := dk_105 (dk_at dksX0_digest_3 13 rfl rfl)
theorem dX0_digest_85 : decode cX0_digest 85 = .ok (.aload_n 0, 1) := dk_42 (dk_at dksX0_digest_3 14 rfl rfl)
theorem dX0_digest_86 : decode cX0_digest 86 = .ok (.getfield 33, 3) := dk_180 0 33 (dk_at dksX0_digest_3 15 rfl rfl)
theorem dX0_digest_89 : decode cX0_digest 89 = .ok (.getfield 185, 3) := dk_180 0 185 (dk_at dksX0_digest_3 18 rfl rfl)
theorem dX0_digest_92 : decode cX0_digest 92 = .ok (.iload_n 3, 1) := dk_29 (dk_at dksX0_digest_3 21 rfl rfl)
theorem dX0_digest_93 : decode cX0_digest 93 = .ok (.aaload, 1) := dk_50 (dk_at dksX0_digest_3 22 rfl rfl)
theorem dX0_digest_94 : decode cX0_digest 94 = .ok (.getfield 420, 3) := dk_180 1 164 (dk_at dksX0_digest_4 0 rfl rfl)
theorem dX0_digest_97 : decode cX0_digest 97 = .ok (.iload 4, 2) := dk_21 4 (dk_at dksX0_digest_4 3 rfl rfl)
theorem dX0_digest_99 : decode cX0_digest 99 = .ok (.iaload, 1) := dk_46 (dk_at dksX0_digest_4 5 rfl rfl)
theorem dX0_digest_100 : decode cX0_digest 100 = .ok (.i2l, 1) := dk_133 (dk_at dksX0_digest_4 6 rfl rfl)
theorem dX0_digest_101 : decode cX0_digest 101 = .ok (.ladd, 1) := dk_97 (dk_at dksX0_digest_4 7 rfl rfl)
theorem dX0_digest_102 : decode cX0_digest 102 = .ok (.lstore_n 1, 1) := dk_64 (dk_at dksX0_digest_4 8 rfl rfl)
theorem dX0_digest_103 : decode cX0_digest 103 = .ok (.iinc 4 1, 3) := dk_132 4 1 (dk_at dksX0_digest_4 9 rfl rfl)
theorem dX0_digest_106 : decode cX0_digest 106 = .ok (.goto (-33), 3) := dk_167 255 223 (dk_at dksX0_digest_4 12 rfl rfl)
theorem dX0_digest_109 : decode cX0_digest 109 = .ok (.ldc2_w 418, 3) := dk_20 1 162 (dk_at dksX0_digest_4 15 rfl rfl)
theorem dX0_digest_112 : decode cX0_digest 112 = .ok (.ldc2_w 418, 3) := dk_20 1 162 (dk_at dksX0_digest_4 18 rfl rfl)
theorem dX0_digest_115 : decode cX0_digest 115 = .ok (.lload_n 1, 1) := dk_31 (dk_at dksX0_digest_4 21 rfl rfl)
theorem dX0_digest_116 : decode cX0_digest 116 = .ok (.lmul, 1) := dk_105 (dk_at dksX0_digest_4 22 rfl rfl)
theorem dX0_digest_117 : decode cX0_digest 117 = .ok (.aload_n 0, 1) := dk_42 (dk_at dksX0_digest_4 23 rfl rfl)
theorem dX0_digest_118 : decode cX0_digest 118 = .ok (.iload_n 3, 1) := dk_29 (dk_at dksX0_digest_5 0 rfl rfl)
theorem dX0_digest_119 : decode cX0_digest 119 = .ok (.invokevirtual 245, 3) := dk_182 0 245 (dk_at dksX0_digest_5 1 rfl rfl)
theorem dX0_digest_122 : decode cX0_digest 122 = .ok (.i2l, 1) := dk_133 (dk_at dksX0_digest_5 4 rfl rfl)
theorem dX0_digest_123 : decode cX0_digest 123 = .ok (.ladd, 1) := dk_97 (dk_at dksX0_digest_5 5 rfl rfl)
theorem dX0_digest_124 : decode cX0_digest 124 = .ok (.lmul, 1) := dk_105 (dk_at dksX0_digest_5 6 rfl rfl)
theorem dX0_digest_125 : decode cX0_digest 125 = .ok (.aload_n 0, 1) := dk_42 (dk_at dksX0_digest_5 7 rfl rfl)
theorem dX0_digest_126 : decode cX0_digest 126 = .ok (.invokevirtual 250, 3) := dk_182 0 250 (dk_at dksX0_digest_5 8 rfl rfl)
theorem dX0_digest_129 : decode cX0_digest 129 = .ok (.iload_n 3, 1) := dk_29 (dk_at dksX0_digest_5 11 rfl rfl)
theorem dX0_digest_130 : decode cX0_digest 130 = .ok (.invokevirtual 277, 3) := dk_182 1 21 (dk_at dksX0_digest_5 12 rfl rfl)
theorem dX0_digest_133 : decode cX0_digest 133 = .ok (.i2l, 1) := dk_133 (dk_at dksX0_digest_5 15 rfl rfl)
theorem dX0_digest_134 : decode cX0_digest 134 = .ok (.ladd, 1) := dk_97 (dk_at dksX0_digest_5 16 rfl rfl)
theorem dX0_digest_135 : decode cX0_digest 135 = .ok (.lstore_n 1, 1) := dk_64 (dk_at dksX0_digest_5 17 rfl rfl)
theorem dX0_digest_136 : decode cX0_digest 136 = .ok (.iinc 3 1, 3) := dk_132 3 1 (dk_at dksX0_digest_5 18 rfl rfl)
theorem dX0_digest_139 : decode cX0_digest 139 = .ok (.goto (-80), 3) := dk_167 255 176 (dk_at dksX0_digest_5 21 rfl rfl)
theorem dX0_digest_142 : decode cX0_digest 142 = .ok (.iconst 0, 1) := dk_3 (dk_at dksX0_digest_6 0 rfl rfl)
theorem dX0_digest_143 : decode cX0_digest 143 = .ok (.istore_n 3, 1) := dk_62 (dk_at dksX0_digest_6 1 rfl rfl)
theorem dX0_digest_144 : decode cX0_digest 144 = .ok (.iload_n 3, 1) := dk_29 (dk_at dksX0_digest_6 2 rfl rfl)
theorem dX0_digest_145 : decode cX0_digest 145 = .ok (.bipush 6, 2) := dk_16 6 (dk_at dksX0_digest_6 3 rfl rfl)
theorem dX0_digest_147 : decode cX0_digest 147 = .ok (.if_icmp .ge 22, 3) := dk_162 0 22 (dk_at dksX0_digest_6 5 rfl rfl)
theorem dX0_digest_150 : decode cX0_digest 150 = .ok (.ldc2_w 418, 3) := dk_20 1 162 (dk_at dksX0_digest_6 8 rfl rfl)
theorem dX0_digest_153 : decode cX0_digest 153 = .ok (.lload_n 1, 1) := dk_31 (dk_at dksX0_digest_6 11 rfl rfl)
theorem dX0_digest_154 : decode cX0_digest 154 = .ok (.lmul, 1) := dk_105 (dk_at dksX0_digest_6 12 rfl rfl)
theorem dX0_digest_155 : decode cX0_digest 155 = .ok (.aload_n 0, 1) := dk_42 (dk_at dksX0_digest_6 13 rfl rfl)
theorem dX0_digest_156 : decode cX0_digest 156 = .ok (.iload_n 3, 1) := dk_29 (dk_at dksX0_digest_6 14 rfl rfl)
theorem dX0_digest_157 : decode cX0_digest 157 = .ok (.invokevirtual 304, 3) := dk_182 1 48 (dk_at dksX0_digest_6 15 rfl rfl)
theorem dX0_digest_160 : decode cX0_digest 160 = .ok (.i2l, 1) := dk_133 (dk_at dksX0_digest_6 18 rfl rfl)
theorem dX0_digest_161 : decode cX0_digest 161 = .ok (.ladd, 1) := dk_97 (dk_at dksX0_digest_6 19 rfl rfl)
theorem dX0_digest_162 : decode cX0_digest 162 = .ok (.lstore_n 1, 1) := dk_64 (dk_at dksX0_digest_6 20 rfl rfl)
theorem dX0_digest_163 : decode cX0_digest 163 = .ok (.iinc 3 1, 3) := dk_132 3 1 (dk_at dksX0_digest_6 21 rfl rfl)
theorem dX0_digest_166 : decode cX0_digest 166 = .ok (.goto (-22), 3) := dk_167 255 234 (dk_at dksX0_digest_7 0 rfl rfl)
theorem dX0_digest_169 : decode cX0_digest 169 = .ok (.lload_n 1, 1) := dk_31 (dk_at dksX0_digest_7 3 rfl rfl)
theorem dX0_digest_170 : decode cX0_digest 170 = .ok (.lreturn, 1) := dk_173 (dk_at dksX0_digest_7 4 rfl rfl)
theorem q109 : (Jvm.Cond.initialized "PictureRing") ∈ lw_all := lw_g (lw_at lw_m1 1 rfl) rfl
theorem q148 : (Jvm.Cond.instantiable "PictureRing" (12 : Nat)) ∈ lw_all := lw_g (lw_at lw_m1 40 rfl) rfl
theorem q150 : (Jvm.Cond.instanceMethod ({ cls := "PictureRing", name := "<init>", desc := "()V" } : Jvm.MethodName)) ∈ lw_all := lw_g (lw_at lw_m1 42 rfl) rfl
theorem q151 : (Jvm.Cond.code ({ cls := "PictureRing", name := "<init>", desc := "()V" } : Jvm.MethodName) prog_1_method_7_code (1 : Nat) (Option.none : Option Jvm.ClassFile.FieldType)) ∈ lw_all := lw_g (lw_at lw_m1 43 rfl) rfl
theorem q152 : (Jvm.Cond.methodLink "PictureRing" (30 : Nat) ({ cls := "java/lang/Object", name := "<init>", desc := "()V" } : Jvm.MethodName)) ∈ lw_all := lw_g (lw_at lw_m1 44 rfl) rfl
theorem q155 : (Jvm.Cond.classLink "PictureRing" (24 : Nat) "PictureRing$State") ∈ lw_all := lw_g (lw_at lw_m1 47 rfl) rfl
theorem q157 : (Jvm.Cond.methodLinkNest "PictureRing" (26 : Nat) ({ cls := "PictureRing$State", name := "<init>", desc := "()V" } : Jvm.MethodName) "PictureRing") ∈ lw_tbl := lw_at lw_m1 49 rfl
theorem q164 : (Jvm.Cond.fieldLinkNest "PictureRing" (150 : Nat) "PictureRing$State" "world" "[I" "PictureRing") ∈ lw_tbl := lw_at lw_m1 56 rfl
theorem q166 : (Jvm.Cond.fieldLinkNest "PictureRing" (137 : Nat) "PictureRing$State" "round" "I" "PictureRing") ∈ lw_tbl := lw_at lw_m1 58 rfl
theorem q169 : (Jvm.Cond.fieldLinkNest "PictureRing" (185 : Nat) "PictureRing$State" "pictures" "[LPictureRing$Picture;" "PictureRing") ∈ lw_tbl := lw_at lw_m1 61 rfl
theorem q172 : (Jvm.Cond.fieldLinkNest "PictureRing" (94 : Nat) "PictureRing$State" "many" "I" "PictureRing") ∈ lw_tbl := lw_at lw_m1 64 rfl
theorem q175 : (Jvm.Cond.fieldLinkNest "PictureRing" (219 : Nat) "PictureRing$State" "settings" "[I" "PictureRing") ∈ lw_tbl := lw_at lw_m1 67 rfl
theorem q188 : (Jvm.Cond.methodLink "PictureRing" (42 : Nat) ({ cls := "PictureRing", name := "states", desc := "(I)[LPictureRing$State;" } : Jvm.MethodName)) ∈ lw_all := lw_g (lw_at lw_m1 80 rfl) rfl
theorem q189 : (Jvm.Cond.static ({ cls := "PictureRing", name := "states", desc := "(I)[LPictureRing$State;" } : Jvm.MethodName)) ∈ lw_all := lw_g (lw_at lw_m1 81 rfl) rfl
theorem q190 : (Jvm.Cond.code ({ cls := "PictureRing", name := "states", desc := "(I)[LPictureRing$State;" } : Jvm.MethodName) prog_1_method_6_code (3 : Nat) (Option.some (Jvm.ClassFile.FieldType.array (Jvm.ClassFile.FieldType.object "PictureRing$State")))) ∈ lw_all := lw_g (lw_at lw_m1 82 rfl) rfl
theorem q192 : (Jvm.Cond.classLink "PictureRing" (50 : Nat) "PictureRing$Way") ∈ lw_all := lw_g (lw_at lw_m1 84 rfl) rfl
theorem q194 : (Jvm.Cond.methodLink "PictureRing" (52 : Nat) ({ cls := "PictureRing", name := "way", desc := "(II)LPictureRing$Way;" } : Jvm.MethodName)) ∈ lw_all := lw_g (lw_at lw_m1 86 rfl) rfl
theorem q195 : (Jvm.Cond.static ({ cls := "PictureRing", name := "way", desc := "(II)LPictureRing$Way;" } : Jvm.MethodName)) ∈ lw_all := lw_g (lw_at lw_m1 87 rfl) rfl
theorem q196 : (Jvm.Cond.code ({ cls := "PictureRing", name := "way", desc := "(II)LPictureRing$Way;" } : Jvm.MethodName) prog_1_method_4_code (2 : Nat) (Option.some (Jvm.ClassFile.FieldType.object "PictureRing$Way"))) ∈ lw_all := lw_g (lw_at lw_m1 88 rfl) rfl
theorem q197 : (Jvm.Cond.static ({ cls := "PictureRing", name := "lambda$way$0", desc := "(IILPictureRing$Picture;II)I" } : Jvm.MethodName)) ∈ lw_all := lw_g (lw_at lw_m1 89 rfl) rfl
theorem q198 : (Jvm.Cond.code ({ cls := "PictureRing", name := "lambda$way$0", desc := "(IILPictureRing$Picture;II)I" } : Jvm.MethodName) prog_1_method_62_code (5 : Nat) (Option.some Jvm.ClassFile.FieldType.int)) ∈ lw_all := lw_g (lw_at lw_m1 90 rfl) rfl
theorem q199 : (Jvm.Cond.methodLink "PictureRing" (203 : Nat) ({ cls := "PictureRing$Picture", name := "at", desc := "(II)I" } : Jvm.MethodName)) ∈ lw_all := lw_g (lw_at lw_m1 91 rfl) rfl
theorem q203 : (Jvm.Cond.methodLink "PictureRing" (425 : Nat) ({ cls := "java/lang/Math", name := "abs", desc := "(I)I" } : Jvm.MethodName)) ∈ lw_all := lw_g (lw_at lw_m1 95 rfl) rfl
theorem q206 : (Jvm.Cond.classLink "PictureRing" (59 : Nat) "PictureRing$Joine\x72") ∈ lw_all := lw_g (lw_at lw_m1 98 rfl) rfl
theorem q208 : (Jvm.Cond.methodLinkNest "PictureRing" (61 : Nat) ({ cls := "PictureRing$Joine\x72", name := "<init>", desc := "(LPictureRing;)V" } : Jvm.MethodName) "PictureRing") ∈ lw_tbl := lw_at lw_m1 100 rfl
theorem q213 : (Jvm.Cond.static ({ cls := "PictureRing", name := "rowOf", desc := "(I)[LPictureRing$Corners;" } : Jvm.MethodName)) ∈ lw_all := lw_g (lw_at lw_m1 105 rfl) rfl
theorem q214 : (Jvm.Cond.code ({ cls := "PictureRing", name := "rowOf", desc := "(I)[LPictureRing$Corners;" } : Jvm.MethodName) prog_1_method_30_code (3 : Nat) (Option.some (Jvm.ClassFile.FieldType.array (Jvm.ClassFile.FieldType.object "PictureRing$Corners")))) ∈ lw_all := lw_g (lw_at lw_m1 106 rfl) rfl
theorem q215 : (Jvm.Cond.classLink "PictureRing" (225 : Nat) "PictureRing$Corners") ∈ lw_all := lw_g (lw_at lw_m1 107 rfl) rfl
theorem q218 : (Jvm.Cond.methodLinkNest "PictureRing" (227 : Nat) ({ cls := "PictureRing$Corners", name := "<init>", desc := "()V" } : Jvm.MethodName) "PictureRing") ∈ lw_tbl := lw_at lw_m1 110 rfl
theorem q326 : (Jvm.Cond.static ({ cls := "PictureRing", name := "gcd", desc := "(JJ)J" } : Jvm.MethodName)) ∈ lw_all := lw_g (lw_at lw_m1 218 rfl) rfl
theorem q327 : (Jvm.Cond.code ({ cls := "PictureRing", name := "gcd", desc := "(JJ)J" } : Jvm.MethodName) prog_1_method_5_code (10 : Nat) (Option.some Jvm.ClassFile.FieldType.long)) ∈ lw_all := lw_g (lw_at lw_m1 219 rfl) rfl
theorem q328 : (Jvm.Cond.methodLink "PictureRing" (20 : Nat) ({ cls := "java/lang/Math", name := "abs", desc := "(J)J" } : Jvm.MethodName)) ∈ lw_all := lw_g (lw_at lw_m1 220 rfl) rfl
theorem q332 : (Jvm.Cond.fieldLinkNest "PictureRing" (350 : Nat) "PictureRing$Fraction" "above" "J" "PictureRing") ∈ lw_tbl := lw_at lw_m1 224 rfl
theorem q334 : (Jvm.Cond.fieldLinkNest "PictureRing" (356 : Nat) "PictureRing$Fraction" "below" "J" "PictureRing") ∈ lw_tbl := lw_at lw_m1 226 rfl
theorem q341 : (Jvm.Cond.fieldLinkNest "PictureRing" (110 : Nat) "PictureRing$Joine\x72" "old" "Z" "PictureRing") ∈ lw_tbl := lw_at lw_m1 233 rfl
theorem q345 : (Jvm.Cond.fieldLinkNest "PictureRing" (327 : Nat) "PictureRing$Joine\x72" "links" "[LPictureRing$Link;" "PictureRing") ∈ lw_tbl := lw_at lw_m1 237 rfl
theorem q347 : (Jvm.Cond.fieldLinkNest "PictureRing" (280 : Nat) "PictureRing$Joine\x72" "ahead" "[I" "PictureRing") ∈ lw_tbl := lw_at lw_m1 239 rfl
theorem q349 : (Jvm.Cond.fieldLinkNest "PictureRing" (283 : Nat) "PictureRing$Joine\x72" "taken" "I" "PictureRing") ∈ lw_tbl := lw_at lw_m2 1 rfl
theorem q351 : (Jvm.Cond.fieldLinkNest "PictureRing" (286 : Nat) "PictureRing$Joine\x72" "closed" "Z" "PictureRing") ∈ lw_tbl := lw_at lw_m2 3 rfl
theorem q353 : (Jvm.Cond.fieldLinkNest "PictureRing" (289 : Nat) "PictureRing$Joine\x72" "turn" "I" "PictureRing") ∈ lw_tbl := lw_at lw_m2 5 rfl
theorem q355 : (Jvm.Cond.fieldLinkNest "PictureRing" (292 : Nat) "PictureRing$Joine\x72" "drift" "I" "PictureRing") ∈ lw_tbl := lw_at lw_m2 7 rfl
theorem q357 : (Jvm.Cond.fieldLinkNest "PictureRing" (316 : Nat) "PictureRing$Joine\x72" "seams" "[[I" "PictureRing") ∈ lw_tbl := lw_at lw_m2 9 rfl
theorem q359 : (Jvm.Cond.fieldLinkNest "PictureRing" (359 : Nat) "PictureRing$Joine\x72" "levels" "[LPictureRing$Fraction;" "PictureRing") ∈ lw_tbl := lw_at lw_m2 11 rfl
theorem q361 : (Jvm.Cond.fieldLinkNest "PictureRing" (368 : Nat) "PictureRing$Joine\x72" "rest" "LPictureRing$Fraction;" "PictureRing") ∈ lw_tbl := lw_at lw_m2 13 rfl
theorem q363 : (Jvm.Cond.fieldLinkNest "PictureRing" (335 : Nat) "PictureRing$Joine\x72" "cells" "I" "PictureRing") ∈ lw_tbl := lw_at lw_m2 15 rfl
theorem q365 : (Jvm.Cond.fieldLinkNest "PictureRing" (338 : Nat) "PictureRing$Joine\x72" "unlike" "I" "PictureRing") ∈ lw_tbl := lw_at lw_m2 17 rfl
theorem q367 : (Jvm.Cond.fieldLinkNest "PictureRing" (345 : Nat) "PictureRing$Joine\x72" "more" "I" "PictureRing") ∈ lw_tbl := lw_at lw_m2 19 rfl
theorem q402 : (Jvm.Cond.classLink "PictureRing" (79 : Nat) "PictureRing$Reade\x72") ∈ lw_all := lw_g (lw_at lw_m2 54 rfl) rfl
theorem q404 : (Jvm.Cond.methodLinkNest "PictureRing" (81 : Nat) ({ cls := "PictureRing$Reade\x72", name := "<init>", desc := "(LPictureRing;)V" } : Jvm.MethodName) "PictureRing") ∈ lw_tbl := lw_at lw_m2 56 rfl
theorem q417 : (Jvm.Cond.fieldLink "PictureRing" (33 : Nat) "PictureRing" "now" "LPictureRing$State;") ∈ lw_all := lw_g (lw_at lw_m2 69 rfl) rfl
theorem q418 : (Jvm.Cond.fieldLink "PictureRing" (39 : Nat) "PictureRing" "before" "LPictureRing$State;") ∈ lw_all := lw_g (lw_at lw_m2 70 rfl) rfl
theorem q419 : (Jvm.Cond.fieldLink "PictureRing" (46 : Nat) "PictureRing" "past" "[LPictureRing$State;") ∈ lw_all := lw_g (lw_at lw_m2 71 rfl) rfl
theorem q420 : (Jvm.Cond.fieldLink "PictureRing" (117 : Nat) "PictureRing" "many" "I") ∈ lw_all := lw_g (lw_at lw_m2 72 rfl) rfl
theorem q421 : (Jvm.Cond.fieldLink "PictureRing" (114 : Nat) "PictureRing" "quiet" "Z") ∈ lw_all := lw_g (lw_at lw_m2 73 rfl) rfl
theorem q423 : (Jvm.Cond.fieldLink "PictureRing" (55 : Nat) "PictureRing" "ways" "[LPictureRing$Way;") ∈ lw_all := lw_g (lw_at lw_m2 75 rfl) rfl
theorem q424 : (Jvm.Cond.fieldLink "PictureRing" (64 : Nat) "PictureRing" "joine\x72" "LPictureRing$Joiner;") ∈ lw_all := lw_g (lw_at lw_m2 76 rfl) rfl
theorem q425 : (Jvm.Cond.fieldLink "PictureRing" (68 : Nat) "PictureRing" "cause" "[I") ∈ lw_all := lw_g (lw_at lw_m2 77 rfl) rfl
theorem q427 : (Jvm.Cond.fieldLink "PictureRing" (72 : Nat) "PictureRing" "text" "[B") ∈ lw_all := lw_g (lw_at lw_m2 79 rfl) rfl
theorem q429 : (Jvm.Cond.fieldLink "PictureRing" (383 : Nat) "PictureRing" "typed" "I") ∈ lw_all := lw_g (lw_at lw_m2 81 rfl) rfl
theorem q430 : (Jvm.Cond.fieldLink "PictureRing" (76 : Nat) "PictureRing" "refused" "[I") ∈ lw_all := lw_g (lw_at lw_m2 82 rfl) rfl
theorem q431 : (Jvm.Cond.fieldLink "PictureRing" (82 : Nat) "PictureRing" "reade\x72" "LPictureRing$Reader;") ∈ lw_all := lw_g (lw_at lw_m2 83 rfl) rfl
theorem q432 : (Jvm.Cond.laysFinal "PictureRing" "PictureRing" "now" "LPictureRing$State;") ∈ lw_all := lw_g (lw_at lw_m2 84 rfl) rfl
theorem q433 : (Jvm.Cond.soleField "PictureRing" "now") ∈ lw_all := lw_g (lw_at lw_m2 85 rfl) rfl
theorem q434 : (Jvm.Cond.laysFinal "PictureRing" "PictureRing" "before" "LPictureRing$State;") ∈ lw_all := lw_g (lw_at lw_m2 86 rfl) rfl
theorem q435 : (Jvm.Cond.soleField "PictureRing" "before") ∈ lw_all := lw_g (lw_at lw_m2 87 rfl) rfl
theorem q436 : (Jvm.Cond.laysFinal "PictureRing" "PictureRing" "past" "[LPictureRing$State;") ∈ lw_all := lw_g (lw_at lw_m2 88 rfl) rfl
theorem q437 : (Jvm.Cond.soleField "PictureRing" "past") ∈ lw_all := lw_g (lw_at lw_m2 89 rfl) rfl
theorem q438 : (Jvm.Cond.lays "PictureRing" "PictureRing" "many" "I") ∈ lw_all := lw_g (lw_at lw_m2 90 rfl) rfl
theorem q439 : (Jvm.Cond.soleField "PictureRing" "many") ∈ lw_all := lw_g (lw_at lw_m2 91 rfl) rfl
theorem q440 : (Jvm.Cond.lays "PictureRing" "PictureRing" "quiet" "Z") ∈ lw_all := lw_g (lw_at lw_m2 92 rfl) rfl
theorem q441 : (Jvm.Cond.soleField "PictureRing" "quiet") ∈ lw_all := lw_g (lw_at lw_m2 93 rfl) rfl
theorem q442 : (Jvm.Cond.laysFinal "PictureRing" "PictureRing" "ways" "[LPictureRing$Way;") ∈ lw_all := lw_g (lw_at lw_m2 94 rfl) rfl
theorem q443 : (Jvm.Cond.soleField "PictureRing" "ways") ∈ lw_all := lw_g (lw_at lw_m2 95 rfl) rfl
theorem q444 : (Jvm.Cond.laysFinal "PictureRing" "PictureRing" "joine\x72" "LPictureRing$Joiner;") ∈ lw_all := lw_g (lw_at lw_m2 96 rfl) rfl
theorem q445 : (Jvm.Cond.soleField "PictureRing" "joine\x72") ∈ lw_all := lw_g (lw_at lw_m2 97 rfl) rfl
theorem q446 : (Jvm.Cond.laysFinal "PictureRing" "PictureRing" "cause" "[I") ∈ lw_all := lw_g (lw_at lw_m2 98 rfl) rfl
theorem q447 : (Jvm.Cond.soleField "PictureRing" "cause") ∈ lw_all := lw_g (lw_at lw_m2 99 rfl) rfl
theorem q448 : (Jvm.Cond.laysFinal "PictureRing" "PictureRing" "text" "[B") ∈ lw_all := lw_g (lw_at lw_m2 100 rfl) rfl
theorem q449 : (Jvm.Cond.soleField "PictureRing" "text") ∈ lw_all := lw_g (lw_at lw_m2 101 rfl) rfl
theorem q450 : (Jvm.Cond.lays "PictureRing" "PictureRing" "typed" "I") ∈ lw_all := lw_g (lw_at lw_m2 102 rfl) rfl
theorem q451 : (Jvm.Cond.soleField "PictureRing" "typed") ∈ lw_all := lw_g (lw_at lw_m2 103 rfl) rfl
theorem q452 : (Jvm.Cond.laysFinal "PictureRing" "PictureRing" "refused" "[I") ∈ lw_all := lw_g (lw_at lw_m2 104 rfl) rfl
theorem q453 : (Jvm.Cond.soleField "PictureRing" "refused") ∈ lw_all := lw_g (lw_at lw_m2 105 rfl) rfl
theorem q454 : (Jvm.Cond.laysFinal "PictureRing" "PictureRing" "reade\x72" "LPictureRing$Reader;") ∈ lw_all := lw_g (lw_at lw_m2 106 rfl) rfl
theorem q455 : (Jvm.Cond.soleField "PictureRing" "reade\x72") ∈ lw_all := lw_g (lw_at lw_m2 107 rfl) rfl
theorem q456 : (Jvm.Cond.superclass "PictureRing" "java/lang/Object") ∈ lw_all := lw_g (lw_at lw_m2 108 rfl) rfl
theorem q458 : (Jvm.Cond.instanceMethod ({ cls := "PictureRing", name := "world", desc := "(II)I" } : Jvm.MethodName)) ∈ lw_all := lw_g (lw_at lw_m2 110 rfl) rfl
theorem q459 : (Jvm.Cond.selects "PictureRing" ({ cls := "PictureRing", name := "world", desc := "(II)I" } : Jvm.MethodName) ({ cls := "PictureRing", name := "world", desc := "(II)I" } : Jvm.MethodName)) ∈ lw_all := lw_g (lw_at lw_m2 111 rfl) rfl
theorem q460 : (Jvm.Cond.code ({ cls := "PictureRing", name := "world", desc := "(II)I" } : Jvm.MethodName) prog_1_method_17_code (3 : Nat) (Option.some Jvm.ClassFile.FieldType.int)) ∈ lw_all := lw_g (lw_at lw_m2 112 rfl) rfl
theorem q461 : (Jvm.Cond.methodLink "PictureRing" (153 : Nat) ({ cls := "PictureRing", name := "worldTo", desc := "(II)I" } : Jvm.MethodName)) ∈ lw_all := lw_g (lw_at lw_m2 113 rfl) rfl
theorem q462 : (Jvm.Cond.privateMethod ({ cls := "PictureRing", name := "worldTo", desc := "(II)I" } : Jvm.MethodName)) ∈ lw_tbl := lw_at lw_m2 114 rfl
theorem q463 : (Jvm.Cond.instanceMethod ({ cls := "PictureRing", name := "worldTo", desc := "(II)I" } : Jvm.MethodName)) ∈ lw_all := lw_g (lw_at lw_m2 115 rfl) rfl
theorem q464 : (Jvm.Cond.code ({ cls := "PictureRing", name := "worldTo", desc := "(II)I" } : Jvm.MethodName) prog_1_method_16_code (8 : Nat) (Option.some Jvm.ClassFile.FieldType.int)) ∈ lw_all := lw_g (lw_at lw_m2 116 rfl) rfl
theorem q465 : (Jvm.Cond.constantLong "PictureRing" (128 : Nat) (999999 : Int64)) ∈ lw_all := lw_g (lw_at lw_m2 117 rfl) rfl
theorem q466 : (Jvm.Cond.methodLink "PictureRing" (98 : Nat) ({ cls := "PictureRing", name := "in", desc := "(JJJ)Z" } : Jvm.MethodName)) ∈ lw_all := lw_g (lw_at lw_m2 118 rfl) rfl
theorem q467 : (Jvm.Cond.static ({ cls := "PictureRing", name := "in", desc := "(JJJ)Z" } : Jvm.MethodName)) ∈ lw_all := lw_g (lw_at lw_m2 119 rfl) rfl
theorem q468 : (Jvm.Cond.code ({ cls := "PictureRing", name := "in", desc := "(JJJ)Z" } : Jvm.MethodName) prog_1_method_1_code (6 : Nat) (Option.some Jvm.ClassFile.FieldType.boolean)) ∈ lw_all := lw_g (lw_at lw_m2 120 rfl) rfl
theorem q469 : (Jvm.Cond.constantLong "PictureRing" (130 : Nat) (12 : Int64)) ∈ lw_all := lw_g (lw_at lw_m2 121 rfl) rfl
theorem q470 : (Jvm.Cond.constantLong "PictureRing" (132 : Nat) (32 : Int64)) ∈ lw_all := lw_g (lw_at lw_m2 122 rfl) rfl
theorem q471 : (Jvm.Cond.methodLink "PictureRing" (134 : Nat) ({ cls := "PictureRing", name := "leaves", desc := "()V" } : Jvm.MethodName)) ∈ lw_all := lw_g (lw_at lw_m2 123 rfl) rfl
theorem q472 : (Jvm.Cond.privateMethod ({ cls := "PictureRing", name := "leaves", desc := "()V" } : Jvm.MethodName)) ∈ lw_tbl := lw_at lw_m2 124 rfl
theorem q473 : (Jvm.Cond.instanceMethod ({ cls := "PictureRing", name := "leaves", desc := "()V" } : Jvm.MethodName)) ∈ lw_all := lw_g (lw_at lw_m2 125 rfl) rfl
theorem q474 : (Jvm.Cond.code ({ cls := "PictureRing", name := "leaves", desc := "()V" } : Jvm.MethodName) prog_1_method_15_code (2 : Nat) (Option.none : Option Jvm.ClassFile.FieldType)) ∈ lw_all := lw_g (lw_at lw_m2 126 rfl) rfl
theorem q475 : (Jvm.Cond.methodLink "PictureRing" (118 : Nat) ({ cls := "java/lang/System", name := "arraycopy", desc := "(Ljava/lang/Object;ILjava/lang/Object;II)V" } : Jvm.MethodName)) ∈ lw_all := lw_g (lw_at lw_m2 127 rfl) rfl
theorem q478 : (Jvm.Cond.methodLink "PictureRing" (124 : Nat) ({ cls := "PictureRing$State", name := "takes", desc := "(LPictureRing$State;)V" } : Jvm.MethodName)) ∈ lw_all := lw_g (lw_at lw_m2 130 rfl) rfl
theorem q483 : (Jvm.Cond.constantLong "PictureRing" (140 : Nat) (1103515245 : Int64)) ∈ lw_all := lw_g (lw_at lw_m2 135 rfl) rfl
theorem q484 : (Jvm.Cond.constantLong "PictureRing" (142 : Nat) (12345 : Int64)) ∈ lw_all := lw_g (lw_at lw_m2 136 rfl) rfl
theorem q485 : (Jvm.Cond.constantLong "PictureRing" (144 : Nat) (2147483648 : Int64)) ∈ lw_all := lw_g (lw_at lw_m2 137 rfl) rfl
theorem q486 : (Jvm.Cond.constantLong "PictureRing" (146 : Nat) (65536 : Int64)) ∈ lw_all := lw_g (lw_at lw_m2 138 rfl) rfl
theorem q487 : (Jvm.Cond.constantLong "PictureRing" (148 : Nat) (64 : Int64)) ∈ lw_all := lw_g (lw_at lw_m2 139 rfl) rfl
theorem q488 : (Jvm.Cond.methodLink "PictureRing" (156 : Nat) ({ cls := "PictureRing", name := "counted", desc := "(I)I" } : Jvm.MethodName)) ∈ lw_all := lw_g (lw_at lw_m2 140 rfl) rfl
theorem q489 : (Jvm.Cond.privateMethod ({ cls := "PictureRing", name := "counted", desc := "(I)I" } : Jvm.MethodName)) ∈ lw_tbl := lw_at lw_m2 141 rfl
theorem q490 : (Jvm.Cond.instanceMethod ({ cls := "PictureRing", name := "counted", desc := "(I)I" } : Jvm.MethodName)) ∈ lw_all := lw_g (lw_at lw_m2 142 rfl) rfl
theorem q491 : (Jvm.Cond.code ({ cls := "PictureRing", name := "counted", desc := "(I)I" } : Jvm.MethodName) prog_1_method_11_code (2 : Nat) (Option.some Jvm.ClassFile.FieldType.int)) ∈ lw_all := lw_g (lw_at lw_m2 143 rfl) rfl
theorem q492 : (Jvm.Cond.methodLink "PictureRing" (90 : Nat) ({ cls := "PictureRing", name := "bad", desc := "()I" } : Jvm.MethodName)) ∈ lw_all := lw_g (lw_at lw_m2 144 rfl) rfl
theorem q493 : (Jvm.Cond.privateMethod ({ cls := "PictureRing", name := "bad", desc := "()I" } : Jvm.MethodName)) ∈ lw_tbl := lw_at lw_m2 145 rfl
theorem q494 : (Jvm.Cond.instanceMethod ({ cls := "PictureRing", name := "bad", desc := "()I" } : Jvm.MethodName)) ∈ lw_all := lw_g (lw_at lw_m2 146 rfl) rfl
theorem q495 : (Jvm.Cond.code ({ cls := "PictureRing", name := "bad", desc := "()I" } : Jvm.MethodName) prog_1_method_9_code (1 : Nat) (Option.some Jvm.ClassFile.FieldType.int)) ∈ lw_all := lw_g (lw_at lw_m2 147 rfl) rfl
theorem q496 : (Jvm.Cond.methodLink "PictureRing" (86 : Nat) ({ cls := "PictureRing", name := "refuses", desc := "(II)I" } : Jvm.MethodName)) ∈ lw_all := lw_g (lw_at lw_m2 148 rfl) rfl
theorem q497 : (Jvm.Cond.privateMethod ({ cls := "PictureRing", name := "refuses", desc := "(II)I" } : Jvm.MethodName)) ∈ lw_tbl := lw_at lw_m2 149 rfl
theorem q498 : (Jvm.Cond.instanceMethod ({ cls := "PictureRing", name := "refuses", desc := "(II)I" } : Jvm.MethodName)) ∈ lw_all := lw_g (lw_at lw_m2 150 rfl) rfl
theorem q499 : (Jvm.Cond.code ({ cls := "PictureRing", name := "refuses", desc := "(II)I" } : Jvm.MethodName) prog_1_method_8_code (3 : Nat) (Option.some Jvm.ClassFile.FieldType.int)) ∈ lw_all := lw_g (lw_at lw_m2 151 rfl) rfl
theorem q501 : (Jvm.Cond.instanceMethod ({ cls := "PictureRing", name := "dots", desc := "(III)I" } : Jvm.MethodName)) ∈ lw_all := lw_g (lw_at lw_m2 153 rfl) rfl
theorem q502 : (Jvm.Cond.selects "PictureRing" ({ cls := "PictureRing", name := "dots", desc := "(III)I" } : Jvm.MethodName) ({ cls := "PictureRing", name := "dots", desc := "(III)I" } : Jvm.MethodName)) ∈ lw_all := lw_g (lw_at lw_m2 154 rfl) rfl
theorem q503 : (Jvm.Cond.code ({ cls := "PictureRing", name := "dots", desc := "(III)I" } : Jvm.MethodName) prog_1_method_20_code (4 : Nat) (Option.some Jvm.ClassFile.FieldType.int)) ∈ lw_all := lw_g (lw_at lw_m2 155 rfl) rfl
theorem q504 : (Jvm.Cond.methodLink "PictureRing" (173 : Nat) ({ cls := "PictureRing", name := "dotsTo", desc := "(III)I" } : Jvm.MethodName)) ∈ lw_all := lw_g (lw_at lw_m2 156 rfl) rfl
theorem q505 : (Jvm.Cond.privateMethod ({ cls := "PictureRing", name := "dotsTo", desc := "(III)I" } : Jvm.MethodName)) ∈ lw_tbl := lw_at lw_m2 157 rfl
theorem q506 : (Jvm.Cond.instanceMethod ({ cls := "PictureRing", name := "dotsTo", desc := "(III)I" } : Jvm.MethodName)) ∈ lw_all := lw_g (lw_at lw_m2 158 rfl) rfl
theorem q507 : (Jvm.Cond.code ({ cls := "PictureRing", name := "dotsTo", desc := "(III)I" } : Jvm.MethodName) prog_1_method_19_code (6 : Nat) (Option.some Jvm.ClassFile.FieldType.int)) ∈ lw_all := lw_g (lw_at lw_m2 159 rfl) rfl
theorem q508 : (Jvm.Cond.methodLink "PictureRing" (162 : Nat) ({ cls := "PictureRing", name := "isDot", desc := "(II)Z" } : Jvm.MethodName)) ∈ lw_all := lw_g (lw_at lw_m2 160 rfl) rfl
theorem q509 : (Jvm.Cond.privateMethod ({ cls := "PictureRing", name := "isDot", desc := "(II)Z" } : Jvm.MethodName)) ∈ lw_tbl := lw_at lw_m2 161 rfl
theorem q510 : (Jvm.Cond.instanceMethod ({ cls := "PictureRing", name := "isDot", desc := "(II)Z" } : Jvm.MethodName)) ∈ lw_all := lw_g (lw_at lw_m2 162 rfl) rfl
theorem q511 : (Jvm.Cond.code ({ cls := "PictureRing", name := "isDot", desc := "(II)Z" } : Jvm.MethodName) prog_1_method_18_code (3 : Nat) (Option.some Jvm.ClassFile.FieldType.boolean)) ∈ lw_all := lw_g (lw_at lw_m2 163 rfl) rfl
theorem q512 : (Jvm.Cond.constantLong "PictureRing" (160 : Nat) (5 : Int64)) ∈ lw_all := lw_g (lw_at lw_m2 164 rfl) rfl
theorem q513 : (Jvm.Cond.constantLong "PictureRing" (166 : Nat) (63 : Int64)) ∈ lw_all := lw_g (lw_at lw_m2 165 rfl) rfl
theorem q514 : (Jvm.Cond.methodLink "PictureRing" (168 : Nat) ({ cls := "[I", name := "clone", desc := "()Ljava/lang/Object;" } : Jvm.MethodName)) ∈ lw_all := lw_g (lw_at lw_m2 166 rfl) rfl
theorem q520 : (Jvm.Cond.classLink "PictureRing" (169 : Nat) "[I") ∈ lw_all := lw_g (lw_at lw_m2 172 rfl) rfl
theorem q522 : (Jvm.Cond.instanceMethod ({ cls := "PictureRing", name := "shot", desc := "(III)I" } : Jvm.MethodName)) ∈ lw_all := lw_g (lw_at lw_m2 174 rfl) rfl
theorem q523 : (Jvm.Cond.selects "PictureRing" ({ cls := "PictureRing", name := "shot", desc := "(III)I" } : Jvm.MethodName) ({ cls := "PictureRing", name := "shot", desc := "(III)I" } : Jvm.MethodName)) ∈ lw_all := lw_g (lw_at lw_m2 175 rfl) rfl
theorem q524 : (Jvm.Cond.code ({ cls := "PictureRing", name := "shot", desc := "(III)I" } : Jvm.MethodName) prog_1_method_22_code (4 : Nat) (Option.some Jvm.ClassFile.FieldType.int)) ∈ lw_all := lw_g (lw_at lw_m2 176 rfl) rfl
theorem q525 : (Jvm.Cond.methodLink "PictureRing" (194 : Nat) ({ cls := "PictureRing", name := "shotTo", desc := "(III)I" } : Jvm.MethodName)) ∈ lw_all := lw_g (lw_at lw_m2 177 rfl) rfl
theorem q526 : (Jvm.Cond.privateMethod ({ cls := "PictureRing", name := "shotTo", desc := "(III)I" } : Jvm.MethodName)) ∈ lw_tbl := lw_at lw_m2 178 rfl
theorem q527 : (Jvm.Cond.instanceMethod ({ cls := "PictureRing", name := "shotTo", desc := "(III)I" } : Jvm.MethodName)) ∈ lw_all := lw_g (lw_at lw_m2 179 rfl) rfl
theorem q528 : (Jvm.Cond.code ({ cls := "PictureRing", name := "shotTo", desc := "(III)I" } : Jvm.MethodName) prog_1_method_21_code (7 : Nat) (Option.some Jvm.ClassFile.FieldType.int)) ∈ lw_all := lw_g (lw_at lw_m2 180 rfl) rfl
theorem q529 : (Jvm.Cond.constantLong "PictureRing" (106 : Nat) (2 : Int64)) ∈ lw_all := lw_g (lw_at lw_m2 181 rfl) rfl
theorem q530 : (Jvm.Cond.constantLong "PictureRing" (177 : Nat) (-20 : Int64)) ∈ lw_all := lw_g (lw_at lw_m2 182 rfl) rfl
theorem q531 : (Jvm.Cond.constantLong "PictureRing" (179 : Nat) (20 : Int64)) ∈ lw_all := lw_g (lw_at lw_m2 183 rfl) rfl
theorem q532 : (Jvm.Cond.methodLink "PictureRing" (181 : Nat) ({ cls := "PictureRing", name := "into", desc := "(JI)I" } : Jvm.MethodName)) ∈ lw_all := lw_g (lw_at lw_m2 184 rfl) rfl
theorem q533 : (Jvm.Cond.static ({ cls := "PictureRing", name := "into", desc := "(JI)I" } : Jvm.MethodName)) ∈ lw_all := lw_g (lw_at lw_m2 185 rfl) rfl
theorem q534 : (Jvm.Cond.code ({ cls := "PictureRing", name := "into", desc := "(JI)I" } : Jvm.MethodName) prog_1_method_2_code (3 : Nat) (Option.some Jvm.ClassFile.FieldType.int)) ∈ lw_all := lw_g (lw_at lw_m2 186 rfl) rfl
theorem q535 : (Jvm.Cond.methodLink "PictureRing" (1 : Nat) ({ cls := "java/lang/Math", name := "min", desc := "(JJ)J" } : Jvm.MethodName)) ∈ lw_all := lw_g (lw_at lw_m2 187 rfl) rfl
theorem q538 : (Jvm.Cond.methodLink "PictureRing" (7 : Nat) ({ cls := "java/lang/Math", name := "max", desc := "(JJ)J" } : Jvm.MethodName)) ∈ lw_all := lw_g (lw_at lw_m2 190 rfl) rfl
theorem q541 : (Jvm.Cond.classLink "PictureRing" (189 : Nat) "PictureRing$Picture") ∈ lw_all := lw_g (lw_at lw_m2 193 rfl) rfl
theorem q543 : (Jvm.Cond.methodLink "PictureRing" (191 : Nat) ({ cls := "PictureRing$Picture", name := "<init>", desc := "([IIII)V" } : Jvm.MethodName)) ∈ lw_all := lw_g (lw_at lw_m2 195 rfl) rfl
theorem q548 : (Jvm.Cond.fieldLinkNest "PictureRing" (420 : Nat) "PictureRing$Picture" "cells" "[I" "PictureRing") ∈ lw_tbl := lw_at lw_m2 200 rfl
theorem q565 : (Jvm.Cond.instanceMethod ({ cls := "PictureRing", name := "paint", desc := "(IIII)I" } : Jvm.MethodName)) ∈ lw_all := lw_g (lw_at lw_m2 217 rfl) rfl
theorem q566 : (Jvm.Cond.selects "PictureRing" ({ cls := "PictureRing", name := "paint", desc := "(IIII)I" } : Jvm.MethodName) ({ cls := "PictureRing", name := "paint", desc := "(IIII)I" } : Jvm.MethodName)) ∈ lw_all := lw_g (lw_at lw_m2 218 rfl) rfl
theorem q567 : (Jvm.Cond.code ({ cls := "PictureRing", name := "paint", desc := "(IIII)I" } : Jvm.MethodName) prog_1_method_24_code (5 : Nat) (Option.some Jvm.ClassFile.FieldType.int)) ∈ lw_all := lw_g (lw_at lw_m2 219 rfl) rfl
theorem q568 : (Jvm.Cond.methodLink "PictureRing" (210 : Nat) ({ cls := "PictureRing", name := "paintTo", desc := "(IIII)I" } : Jvm.MethodName)) ∈ lw_all := lw_g (lw_at lw_m2 220 rfl) rfl
theorem q569 : (Jvm.Cond.privateMethod ({ cls := "PictureRing", name := "paintTo", desc := "(IIII)I" } : Jvm.MethodName)) ∈ lw_tbl := lw_at lw_m2 221 rfl
theorem q570 : (Jvm.Cond.instanceMethod ({ cls := "PictureRing", name := "paintTo", desc := "(IIII)I" } : Jvm.MethodName)) ∈ lw_all := lw_g (lw_at lw_m2 222 rfl) rfl
theorem q571 : (Jvm.Cond.code ({ cls := "PictureRing", name := "paintTo", desc := "(IIII)I" } : Jvm.MethodName) prog_1_method_23_code (6 : Nat) (Option.some Jvm.ClassFile.FieldType.int)) ∈ lw_all := lw_g (lw_at lw_m2 223 rfl) rfl
theorem q572 : (Jvm.Cond.methodLink "PictureRing" (197 : Nat) ({ cls := "PictureRing", name := "isPicture", desc := "(I)Z" } : Jvm.MethodName)) ∈ lw_all := lw_g (lw_at lw_m2 224 rfl) rfl
theorem q573 : (Jvm.Cond.privateMethod ({ cls := "PictureRing", name := "isPicture", desc := "(I)Z" } : Jvm.MethodName)) ∈ lw_tbl := lw_at lw_m2 225 rfl
theorem q574 : (Jvm.Cond.instanceMethod ({ cls := "PictureRing", name := "isPicture", desc := "(I)Z" } : Jvm.MethodName)) ∈ lw_all := lw_g (lw_at lw_m2 226 rfl) rfl
theorem q575 : (Jvm.Cond.code ({ cls := "PictureRing", name := "isPicture", desc := "(I)Z" } : Jvm.MethodName) prog_1_method_12_code (2 : Nat) (Option.some Jvm.ClassFile.FieldType.boolean)) ∈ lw_all := lw_g (lw_at lw_m2 227 rfl) rfl
theorem q576 : (Jvm.Cond.methodLink "PictureRing" (200 : Nat) ({ cls := "PictureRing", name := "isCell", desc := "(II)Z" } : Jvm.MethodName)) ∈ lw_all := lw_g (lw_at lw_m2 228 rfl) rfl
theorem q577 : (Jvm.Cond.static ({ cls := "PictureRing", name := "isCell", desc := "(II)Z" } : Jvm.MethodName)) ∈ lw_all := lw_g (lw_at lw_m2 229 rfl) rfl
theorem q578 : (Jvm.Cond.code ({ cls := "PictureRing", name := "isCell", desc := "(II)Z" } : Jvm.MethodName) prog_1_method_13_code (2 : Nat) (Option.some Jvm.ClassFile.FieldType.boolean)) ∈ lw_all := lw_g (lw_at lw_m2 230 rfl) rfl
theorem q579 : (Jvm.Cond.constantLong "PictureRing" (102 : Nat) (3 : Int64)) ∈ lw_all := lw_g (lw_at lw_m2 231 rfl) rfl
theorem q580 : (Jvm.Cond.constantLong "PictureRing" (104 : Nat) (7 : Int64)) ∈ lw_all := lw_g (lw_at lw_m2 232 rfl) rfl
theorem q581 : (Jvm.Cond.methodLink "PictureRing" (206 : Nat) ({ cls := "PictureRing$Picture", name := "with", desc := "(III)LPictureRing$Picture;" } : Jvm.MethodName)) ∈ lw_all := lw_g (lw_at lw_m2 233 rfl) rfl
theorem q590 : (Jvm.Cond.instanceMethod ({ cls := "PictureRing", name := "drops", desc := "(I)I" } : Jvm.MethodName)) ∈ lw_all := lw_g (lw_at lw_m3 2 rfl) rfl
theorem q591 : (Jvm.Cond.selects "PictureRing" ({ cls := "PictureRing", name := "drops", desc := "(I)I" } : Jvm.MethodName) ({ cls := "PictureRing", name := "drops", desc := "(I)I" } : Jvm.MethodName)) ∈ lw_all := lw_g (lw_at lw_m3 3 rfl) rfl
theorem q592 : (Jvm.Cond.code ({ cls := "PictureRing", name := "drops", desc := "(I)I" } : Jvm.MethodName) prog_1_method_26_code (2 : Nat) (Option.some Jvm.ClassFile.FieldType.int)) ∈ lw_all := lw_g (lw_at lw_m3 4 rfl) rfl
theorem q593 : (Jvm.Cond.methodLink "PictureRing" (214 : Nat) ({ cls := "PictureRing", name := "dropsTo", desc := "(I)I" } : Jvm.MethodName)) ∈ lw_all := lw_g (lw_at lw_m3 5 rfl) rfl
theorem q594 : (Jvm.Cond.privateMethod ({ cls := "PictureRing", name := "dropsTo", desc := "(I)I" } : Jvm.MethodName)) ∈ lw_tbl := lw_at lw_m3 6 rfl
theorem q595 : (Jvm.Cond.instanceMethod ({ cls := "PictureRing", name := "dropsTo", desc := "(I)I" } : Jvm.MethodName)) ∈ lw_all := lw_g (lw_at lw_m3 7 rfl) rfl
theorem q596 : (Jvm.Cond.code ({ cls := "PictureRing", name := "dropsTo", desc := "(I)I" } : Jvm.MethodName) prog_1_method_25_code (2 : Nat) (Option.some Jvm.ClassFile.FieldType.int)) ∈ lw_all := lw_g (lw_at lw_m3 8 rfl) rfl
theorem q598 : (Jvm.Cond.instanceMethod ({ cls := "PictureRing", name := "sets", desc := "(II)I" } : Jvm.MethodName)) ∈ lw_all := lw_g (lw_at lw_m3 10 rfl) rfl
theorem q599 : (Jvm.Cond.selects "PictureRing" ({ cls := "PictureRing", name := "sets", desc := "(II)I" } : Jvm.MethodName) ({ cls := "PictureRing", name := "sets", desc := "(II)I" } : Jvm.MethodName)) ∈ lw_all := lw_g (lw_at lw_m3 11 rfl) rfl
theorem q600 : (Jvm.Cond.code ({ cls := "PictureRing", name := "sets", desc := "(II)I" } : Jvm.MethodName) prog_1_method_28_code (3 : Nat) (Option.some Jvm.ClassFile.FieldType.int)) ∈ lw_all := lw_g (lw_at lw_m3 12 rfl) rfl
theorem q601 : (Jvm.Cond.methodLink "PictureRing" (222 : Nat) ({ cls := "PictureRing", name := "setsTo", desc := "(II)I" } : Jvm.MethodName)) ∈ lw_all := lw_g (lw_at lw_m3 13 rfl) rfl
theorem q602 : (Jvm.Cond.privateMethod ({ cls := "PictureRing", name := "setsTo", desc := "(II)I" } : Jvm.MethodName)) ∈ lw_tbl := lw_at lw_m3 14 rfl
theorem q603 : (Jvm.Cond.instanceMethod ({ cls := "PictureRing", name := "setsTo", desc := "(II)I" } : Jvm.MethodName)) ∈ lw_all := lw_g (lw_at lw_m3 15 rfl) rfl
theorem q604 : (Jvm.Cond.code ({ cls := "PictureRing", name := "setsTo", desc := "(II)I" } : Jvm.MethodName) prog_1_method_27_code (4 : Nat) (Option.some Jvm.ClassFile.FieldType.int)) ∈ lw_all := lw_g (lw_at lw_m3 16 rfl) rfl
theorem q605 : (Jvm.Cond.constantLong "PictureRing" (217 : Nat) (126 : Int64)) ∈ lw_all := lw_g (lw_at lw_m3 17 rfl) rfl
theorem q607 : (Jvm.Cond.instanceMethod ({ cls := "PictureRing", name := "value", desc := "(III)I" } : Jvm.MethodName)) ∈ lw_all := lw_g (lw_at lw_m3 19 rfl) rfl
theorem q608 : (Jvm.Cond.selects "PictureRing" ({ cls := "PictureRing", name := "value", desc := "(III)I" } : Jvm.MethodName) ({ cls := "PictureRing", name := "value", desc := "(III)I" } : Jvm.MethodName)) ∈ lw_all := lw_g (lw_at lw_m3 20 rfl) rfl
theorem q609 : (Jvm.Cond.code ({ cls := "PictureRing", name := "value", desc := "(III)I" } : Jvm.MethodName) prog_1_method_29_code (4 : Nat) (Option.some Jvm.ClassFile.FieldType.int)) ∈ lw_all := lw_g (lw_at lw_m3 21 rfl) rfl
theorem q611 : (Jvm.Cond.instanceMethod ({ cls := "PictureRing", name := "change", desc := "(III)I" } : Jvm.MethodName)) ∈ lw_all := lw_g (lw_at lw_m3 23 rfl) rfl
theorem q612 : (Jvm.Cond.selects "PictureRing" ({ cls := "PictureRing", name := "change", desc := "(III)I" } : Jvm.MethodName) ({ cls := "PictureRing", name := "change", desc := "(III)I" } : Jvm.MethodName)) ∈ lw_all := lw_g (lw_at lw_m3 24 rfl) rfl
theorem q613 : (Jvm.Cond.code ({ cls := "PictureRing", name := "change", desc := "(III)I" } : Jvm.MethodName) prog_1_method_32_code (4 : Nat) (Option.some Jvm.ClassFile.FieldType.int)) ∈ lw_all := lw_g (lw_at lw_m3 25 rfl) rfl
theorem q614 : (Jvm.Cond.methodLink "PictureRing" (231 : Nat) ({ cls := "PictureRing", name := "isInne\x72", desc := "(II)Z" } : Jvm.MethodName)) ∈ lw_all := lw_g (lw_at lw_m3 26 rfl) rfl
theorem q615 : (Jvm.Cond.static ({ cls := "PictureRing", name := "isInne\x72", desc := "(II)Z" } : Jvm.MethodName)) ∈ lw_all := lw_g (lw_at lw_m3 27 rfl) rfl
theorem q616 : (Jvm.Cond.code ({ cls := "PictureRing", name := "isInne\x72", desc := "(II)Z" } : Jvm.MethodName) prog_1_method_14_code (2 : Nat) (Option.some Jvm.ClassFile.FieldType.boolean)) ∈ lw_all := lw_g (lw_at lw_m3 28 rfl) rfl
theorem q617 : (Jvm.Cond.constantLong "PictureRing" (108 : Nat) (6 : Int64)) ∈ lw_all := lw_g (lw_at lw_m3 29 rfl) rfl
theorem q618 : (Jvm.Cond.methodLink "PictureRing" (234 : Nat) ({ cls := "PictureRing$Joine\x72", name := "change", desc := "(LPictureRing$Picture;II)I" } : Jvm.MethodName)) ∈ lw_all := lw_g (lw_at lw_m3 30 rfl) rfl
theorem q631 : (Jvm.Cond.instanceMethod ({ cls := "PictureRing", name := "corners", desc := "(I)I" } : Jvm.MethodName)) ∈ lw_all := lw_g (lw_at lw_m3 43 rfl) rfl
theorem q632 : (Jvm.Cond.selects "PictureRing" ({ cls := "PictureRing", name := "corners", desc := "(I)I" } : Jvm.MethodName) ({ cls := "PictureRing", name := "corners", desc := "(I)I" } : Jvm.MethodName)) ∈ lw_all := lw_g (lw_at lw_m3 44 rfl) rfl
theorem q633 : (Jvm.Cond.code ({ cls := "PictureRing", name := "corners", desc := "(I)I" } : Jvm.MethodName) prog_1_method_34_code (2 : Nat) (Option.some Jvm.ClassFile.FieldType.int)) ∈ lw_all := lw_g (lw_at lw_m3 45 rfl) rfl
theorem q634 : (Jvm.Cond.methodLink "PictureRing" (245 : Nat) ({ cls := "PictureRing", name := "cornersOf", desc := "(I)I" } : Jvm.MethodName)) ∈ lw_all := lw_g (lw_at lw_m3 46 rfl) rfl
theorem q635 : (Jvm.Cond.privateMethod ({ cls := "PictureRing", name := "cornersOf", desc := "(I)I" } : Jvm.MethodName)) ∈ lw_tbl := lw_at lw_m3 47 rfl
theorem q636 : (Jvm.Cond.instanceMethod ({ cls := "PictureRing", name := "cornersOf", desc := "(I)I" } : Jvm.MethodName)) ∈ lw_all := lw_g (lw_at lw_m3 48 rfl) rfl
theorem q637 : (Jvm.Cond.code ({ cls := "PictureRing", name := "cornersOf", desc := "(I)I" } : Jvm.MethodName) prog_1_method_33_code (3 : Nat) (Option.some Jvm.ClassFile.FieldType.int)) ∈ lw_all := lw_g (lw_at lw_m3 49 rfl) rfl
theorem q638 : (Jvm.Cond.privateMethod ({ cls := "PictureRing", name := "lambda$cornersOf$1", desc := "(LPictureRing$Picture;I)Z" } : Jvm.MethodName)) ∈ lw_tbl := lw_at lw_m3 50 rfl
theorem q639 : (Jvm.Cond.instanceMethod ({ cls := "PictureRing", name := "lambda$cornersOf$1", desc := "(LPictureRing$Picture;I)Z" } : Jvm.MethodName)) ∈ lw_all := lw_g (lw_at lw_m3 51 rfl) rfl
theorem q640 : (Jvm.Cond.code ({ cls := "PictureRing", name := "lambda$cornersOf$1", desc := "(LPictureRing$Picture;I)Z" } : Jvm.MethodName) prog_1_method_61_code (3 : Nat) (Option.some Jvm.ClassFile.FieldType.boolean)) ∈ lw_all := lw_g (lw_at lw_m3 52 rfl) rfl
theorem q641 : (Jvm.Cond.methodLink "PictureRing" (241 : Nat) ({ cls := "PictureRing", name := "bits", desc := "(ILPictureRing$Test;)I" } : Jvm.MethodName)) ∈ lw_all := lw_g (lw_at lw_m3 53 rfl) rfl
theorem q642 : (Jvm.Cond.static ({ cls := "PictureRing", name := "bits", desc := "(ILPictureRing$Test;)I" } : Jvm.MethodName)) ∈ lw_all := lw_g (lw_at lw_m3 54 rfl) rfl
theorem q643 : (Jvm.Cond.code ({ cls := "PictureRing", name := "bits", desc := "(ILPictureRing$Test;)I" } : Jvm.MethodName) prog_1_method_3_code (4 : Nat) (Option.some Jvm.ClassFile.FieldType.int)) ∈ lw_all := lw_g (lw_at lw_m3 55 rfl) rfl
theorem q644 : (Jvm.Cond.interfaceEntry "PictureRing" (10 : Nat)) ∈ lw_tbl := lw_at lw_m3 56 rfl
theorem q645 : (Jvm.Cond.methodLink "PictureRing" (10 : Nat) ({ cls := "PictureRing$Test", name := "is", desc := "(I)Z" } : Jvm.MethodName)) ∈ lw_all := lw_g (lw_at lw_m3 57 rfl) rfl
theorem q649 : (Jvm.Cond.instanceMethod ({ cls := "PictureRing", name := "votes", desc := "(IIII)I" } : Jvm.MethodName)) ∈ lw_all := lw_g (lw_at lw_m3 61 rfl) rfl
theorem q650 : (Jvm.Cond.selects "PictureRing" ({ cls := "PictureRing", name := "votes", desc := "(IIII)I" } : Jvm.MethodName) ({ cls := "PictureRing", name := "votes", desc := "(IIII)I" } : Jvm.MethodName)) ∈ lw_all := lw_g (lw_at lw_m3 62 rfl) rfl
theorem q651 : (Jvm.Cond.code ({ cls := "PictureRing", name := "votes", desc := "(IIII)I" } : Jvm.MethodName) prog_1_method_35_code (5 : Nat) (Option.some Jvm.ClassFile.FieldType.int)) ∈ lw_all := lw_g (lw_at lw_m3 63 rfl) rfl
theorem q652 : (Jvm.Cond.constantLong "PictureRing" (248 : Nat) (-1 : Int64)) ∈ lw_all := lw_g (lw_at lw_m3 64 rfl) rfl
theorem q653 : (Jvm.Cond.methodLink "PictureRing" (250 : Nat) ({ cls := "PictureRing", name := "joined", desc := "()LPictureRing$Joiner;" } : Jvm.MethodName)) ∈ lw_all := lw_g (lw_at lw_m3 65 rfl) rfl
theorem q654 : (Jvm.Cond.privateMethod ({ cls := "PictureRing", name := "joined", desc := "()LPictureRing$Joiner;" } : Jvm.MethodName)) ∈ lw_tbl := lw_at lw_m3 66 rfl
theorem q655 : (Jvm.Cond.instanceMethod ({ cls := "PictureRing", name := "joined", desc := "()LPictureRing$Joiner;" } : Jvm.MethodName)) ∈ lw_all := lw_g (lw_at lw_m3 67 rfl) rfl
theorem q656 : (Jvm.Cond.code ({ cls := "PictureRing", name := "joined", desc := "()LPictureRing$Joiner;" } : Jvm.MethodName) prog_1_method_31_code (1 : Nat) (Option.some (Jvm.ClassFile.FieldType.object "PictureRing$Joine\x72"))) ∈ lw_all := lw_g (lw_at lw_m3 68 rfl) rfl
theorem q657 : (Jvm.Cond.methodLink "PictureRing" (228 : Nat) ({ cls := "PictureRing$Joine\x72", name := "finds", desc := "()V" } : Jvm.MethodName)) ∈ lw_all := lw_g (lw_at lw_m3 69 rfl) rfl
theorem q1057 : (Jvm.Cond.fieldLinkNest "PictureRing" (269 : Nat) "PictureRing$Shift" "lowe\x72" "I" "PictureRing") ∈ lw_tbl := lw_at lw_m4 229 rfl
theorem q1061 : (Jvm.Cond.fieldLinkNest "PictureRing" (274 : Nat) "PictureRing$Shift" "right" "I" "PictureRing") ∈ lw_tbl := lw_at lw_m4 233 rfl
theorem q1125 : (Jvm.Cond.fieldLinkNest "PictureRing" (320 : Nat) "PictureRing$Link" "from" "I" "PictureRing") ∈ lw_tbl := lw_at lw_m5 57 rfl
theorem q1131 : (Jvm.Cond.fieldLinkNest "PictureRing" (265 : Nat) "PictureRing$Link" "shift" "LPictureRing$Shift;" "PictureRing") ∈ lw_tbl := lw_at lw_m5 63 rfl
theorem q1135 : (Jvm.Cond.fieldLinkNest "PictureRing" (261 : Nat) "PictureRing$Link" "votes" "I" "PictureRing") ∈ lw_tbl := lw_at lw_m5 67 rfl
theorem q1175 : (Jvm.Cond.selects "PictureRing" ({ cls := "java/lang/Object", name := "getClass", desc := "()Ljava/lang/Class;" } : Jvm.MethodName) ({ cls := "java/lang/Object", name := "getClass", desc := "()Ljava/lang/Class;" } : Jvm.MethodName)) ∈ lw_all := lw_g (lw_at lw_m5 107 rfl) rfl
theorem q1333 : (Jvm.Cond.methodLink "PictureRing" (254 : Nat) ({ cls := "PictureRing$Joine\x72", name := "votes", desc := "(IIII)I" } : Jvm.MethodName)) ∈ lw_all := lw_g (lw_at lw_m6 25 rfl) rfl
theorem q1335 : (Jvm.Cond.instanceMethod ({ cls := "PictureRing", name := "link", desc := "(III)I" } : Jvm.MethodName)) ∈ lw_all := lw_g (lw_at lw_m6 27 rfl) rfl
theorem q1336 : (Jvm.Cond.selects "PictureRing" ({ cls := "PictureRing", name := "link", desc := "(III)I" } : Jvm.MethodName) ({ cls := "PictureRing", name := "link", desc := "(III)I" } : Jvm.MethodName)) ∈ lw_all := lw_g (lw_at lw_m6 28 rfl) rfl
theorem q1337 : (Jvm.Cond.code ({ cls := "PictureRing", name := "link", desc := "(III)I" } : Jvm.MethodName) prog_1_method_36_code (5 : Nat) (Option.some Jvm.ClassFile.FieldType.int)) ∈ lw_all := lw_g (lw_at lw_m6 29 rfl) rfl
theorem q1338 : (Jvm.Cond.methodLink "PictureRing" (257 : Nat) ({ cls := "PictureRing$Joine\x72", name := "link", desc := "(II)LPictureRing$Link;" } : Jvm.MethodName)) ∈ lw_all := lw_g (lw_at lw_m6 30 rfl) rfl
theorem q1340 : (Jvm.Cond.instanceMethod ({ cls := "PictureRing", name := "chain", desc := "(II)I" } : Jvm.MethodName)) ∈ lw_all := lw_g (lw_at lw_m6 32 rfl) rfl
theorem q1341 : (Jvm.Cond.selects "PictureRing" ({ cls := "PictureRing", name := "chain", desc := "(II)I" } : Jvm.MethodName) ({ cls := "PictureRing", name := "chain", desc := "(II)I" } : Jvm.MethodName)) ∈ lw_all := lw_g (lw_at lw_m6 33 rfl) rfl
theorem q1342 : (Jvm.Cond.code ({ cls := "PictureRing", name := "chain", desc := "(II)I" } : Jvm.MethodName) prog_1_method_37_code (3 : Nat) (Option.some Jvm.ClassFile.FieldType.int)) ∈ lw_all := lw_g (lw_at lw_m6 34 rfl) rfl
theorem q1343 : (Jvm.Cond.methodLink "PictureRing" (277 : Nat) ({ cls := "PictureRing$Joine\x72", name := "followe\x72", desc := "(I)I" } : Jvm.MethodName)) ∈ lw_all := lw_g (lw_at lw_m6 35 rfl) rfl
theorem q1348 : (Jvm.Cond.instanceMethod ({ cls := "PictureRing", name := "all", desc := "(I)I" } : Jvm.MethodName)) ∈ lw_all := lw_g (lw_at lw_m6 40 rfl) rfl
theorem q1349 : (Jvm.Cond.selects "PictureRing" ({ cls := "PictureRing", name := "all", desc := "(I)I" } : Jvm.MethodName) ({ cls := "PictureRing", name := "all", desc := "(I)I" } : Jvm.MethodName)) ∈ lw_all := lw_g (lw_at lw_m6 41 rfl) rfl
theorem q1350 : (Jvm.Cond.code ({ cls := "PictureRing", name := "all", desc := "(I)I" } : Jvm.MethodName) prog_1_method_39_code (2 : Nat) (Option.some Jvm.ClassFile.FieldType.int)) ∈ lw_all := lw_g (lw_at lw_m6 42 rfl) rfl
theorem q1351 : (Jvm.Cond.methodLink "PictureRing" (304 : Nat) ({ cls := "PictureRing", name := "allOf", desc := "(I)I" } : Jvm.MethodName)) ∈ lw_all := lw_g (lw_at lw_m6 43 rfl) rfl
theorem q1352 : (Jvm.Cond.privateMethod ({ cls := "PictureRing", name := "allOf", desc := "(I)I" } : Jvm.MethodName)) ∈ lw_tbl := lw_at lw_m6 44 rfl
theorem q1353 : (Jvm.Cond.instanceMethod ({ cls := "PictureRing", name := "allOf", desc := "(I)I" } : Jvm.MethodName)) ∈ lw_all := lw_g (lw_at lw_m6 45 rfl) rfl
theorem q1354 : (Jvm.Cond.code ({ cls := "PictureRing", name := "allOf", desc := "(I)I" } : Jvm.MethodName) prog_1_method_38_code (3 : Nat) (Option.some Jvm.ClassFile.FieldType.int)) ∈ lw_all := lw_g (lw_at lw_m6 46 rfl) rfl
theorem q1355 : (Jvm.Cond.static ({ cls := "PictureRing", name := "lambda$allOf$2", desc := "(LPictureRing$Joiner;I)Z" } : Jvm.MethodName)) ∈ lw_all := lw_g (lw_at lw_m6 47 rfl) rfl
theorem q1356 : (Jvm.Cond.code ({ cls := "PictureRing", name := "lambda$allOf$2", desc := "(LPictureRing$Joiner;I)Z" } : Jvm.MethodName) prog_1_method_60_code (2 : Nat) (Option.some Jvm.ClassFile.FieldType.boolean)) ∈ lw_all := lw_g (lw_at lw_m6 48 rfl) rfl
theorem q1357 : (Jvm.Cond.methodLink "PictureRing" (422 : Nat) ({ cls := "PictureRing$Joine\x72", name := "isRight", desc := "(I)Z" } : Jvm.MethodName)) ∈ lw_all := lw_g (lw_at lw_m6 49 rfl) rfl
theorem q1361 : (Jvm.Cond.methodLink "PictureRing" (298 : Nat) ({ cls := "java/lang/Intege\x72", name := "bitCount", desc := "(I)I" } : Jvm.MethodName)) ∈ lw_all := lw_g (lw_at lw_m6 53 rfl) rfl
theorem q1367 : (Jvm.Cond.static ({ cls := "PictureRing", name := "lambda$allOf$3", desc := "(LPictureRing$Joiner;I)Z" } : Jvm.MethodName)) ∈ lw_all := lw_g (lw_at lw_m6 59 rfl) rfl
theorem q1368 : (Jvm.Cond.code ({ cls := "PictureRing", name := "lambda$allOf$3", desc := "(LPictureRing$Joiner;I)Z" } : Jvm.MethodName) prog_1_method_59_code (2 : Nat) (Option.some Jvm.ClassFile.FieldType.boolean)) ∈ lw_all := lw_g (lw_at lw_m6 60 rfl) rfl
theorem q1370 : (Jvm.Cond.instanceMethod ({ cls := "PictureRing", name := "place", desc := "(II)I" } : Jvm.MethodName)) ∈ lw_all := lw_g (lw_at lw_m6 62 rfl) rfl
theorem q1371 : (Jvm.Cond.selects "PictureRing" ({ cls := "PictureRing", name := "place", desc := "(II)I" } : Jvm.MethodName) ({ cls := "PictureRing", name := "place", desc := "(II)I" } : Jvm.MethodName)) ∈ lw_all := lw_g (lw_at lw_m6 63 rfl) rfl
theorem q1372 : (Jvm.Cond.code ({ cls := "PictureRing", name := "place", desc := "(II)I" } : Jvm.MethodName) prog_1_method_40_code (3 : Nat) (Option.some Jvm.ClassFile.FieldType.int)) ∈ lw_all := lw_g (lw_at lw_m6 64 rfl) rfl
theorem q1373 : (Jvm.Cond.methodLink "PictureRing" (307 : Nat) ({ cls := "PictureRing$Joine\x72", name := "place", desc := "(II)I" } : Jvm.MethodName)) ∈ lw_all := lw_g (lw_at lw_m6 65 rfl) rfl
theorem q1380 : (Jvm.Cond.methodLink "PictureRing" (310 : Nat) ({ cls := "PictureRing", name := "no", desc := "()I" } : Jvm.MethodName)) ∈ lw_all := lw_g (lw_at lw_m6 72 rfl) rfl
theorem q1381 : (Jvm.Cond.privateMethod ({ cls := "PictureRing", name := "no", desc := "()I" } : Jvm.MethodName)) ∈ lw_tbl := lw_at lw_m6 73 rfl
theorem q1382 : (Jvm.Cond.instanceMethod ({ cls := "PictureRing", name := "no", desc := "()I" } : Jvm.MethodName)) ∈ lw_all := lw_g (lw_at lw_m6 74 rfl) rfl
theorem q1383 : (Jvm.Cond.code ({ cls := "PictureRing", name := "no", desc := "()I" } : Jvm.MethodName) prog_1_method_10_code (1 : Nat) (Option.some Jvm.ClassFile.FieldType.int)) ∈ lw_all := lw_g (lw_at lw_m6 75 rfl) rfl
theorem q1385 : (Jvm.Cond.instanceMethod ({ cls := "PictureRing", name := "overlap", desc := "(II)I" } : Jvm.MethodName)) ∈ lw_all := lw_g (lw_at lw_m6 77 rfl) rfl
theorem q1386 : (Jvm.Cond.selects "PictureRing" ({ cls := "PictureRing", name := "overlap", desc := "(II)I" } : Jvm.MethodName) ({ cls := "PictureRing", name := "overlap", desc := "(II)I" } : Jvm.MethodName)) ∈ lw_all := lw_g (lw_at lw_m6 78 rfl) rfl
theorem q1387 : (Jvm.Cond.code ({ cls := "PictureRing", name := "overlap", desc := "(II)I" } : Jvm.MethodName) prog_1_method_42_code (4 : Nat) (Option.some Jvm.ClassFile.FieldType.int)) ∈ lw_all := lw_g (lw_at lw_m6 79 rfl) rfl
theorem q1388 : (Jvm.Cond.methodLink "PictureRing" (331 : Nat) ({ cls := "PictureRing$Joine\x72", name := "measures", desc := "(LPictureRing$Link;)V" } : Jvm.MethodName)) ∈ lw_all := lw_g (lw_at lw_m6 80 rfl) rfl
theorem q1389 : (Jvm.Cond.methodLink "PictureRing" (341 : Nat) ({ cls := "PictureRing", name := "seamCost", desc := "(LPictureRing$Link;)I" } : Jvm.MethodName)) ∈ lw_all := lw_g (lw_at lw_m6 81 rfl) rfl
theorem q1390 : (Jvm.Cond.privateMethod ({ cls := "PictureRing", name := "seamCost", desc := "(LPictureRing$Link;)I" } : Jvm.MethodName)) ∈ lw_tbl := lw_at lw_m6 82 rfl
theorem q1391 : (Jvm.Cond.instanceMethod ({ cls := "PictureRing", name := "seamCost", desc := "(LPictureRing$Link;)I" } : Jvm.MethodName)) ∈ lw_all := lw_g (lw_at lw_m6 83 rfl) rfl
theorem q1392 : (Jvm.Cond.code ({ cls := "PictureRing", name := "seamCost", desc := "(LPictureRing$Link;)I" } : Jvm.MethodName) prog_1_method_41_code (4 : Nat) (Option.some Jvm.ClassFile.FieldType.int)) ∈ lw_all := lw_g (lw_at lw_m6 84 rfl) rfl
theorem q1393 : (Jvm.Cond.methodLink "PictureRing" (313 : Nat) ({ cls := "PictureRing$Link", name := "isRow", desc := "(I)Z" } : Jvm.MethodName)) ∈ lw_all := lw_g (lw_at lw_m6 85 rfl) rfl
theorem q1394 : (Jvm.Cond.methodLinkNest "PictureRing" (323 : Nat) ({ cls := "PictureRing$Joine\x72", name := "difference", desc := "(LPictureRing$Link;II)I" } : Jvm.MethodName) "PictureRing") ∈ lw_tbl := lw_at lw_m6 86 rfl
theorem q1396 : (Jvm.Cond.instanceMethod ({ cls := "PictureRing", name := "seam", desc := "(II)I" } : Jvm.MethodName)) ∈ lw_all := lw_g (lw_at lw_m6 88 rfl) rfl
theorem q1397 : (Jvm.Cond.selects "PictureRing" ({ cls := "PictureRing", name := "seam", desc := "(II)I" } : Jvm.MethodName) ({ cls := "PictureRing", name := "seam", desc := "(II)I" } : Jvm.MethodName)) ∈ lw_all := lw_g (lw_at lw_m6 89 rfl) rfl
theorem q1398 : (Jvm.Cond.codeWith ({ cls := "PictureRing", name := "seam", desc := "(II)I" } : Jvm.MethodName) prog_1_method_43_code (5 : Nat) (Option.some Jvm.ClassFile.FieldType.int) [((33 : Nat), (38 : Nat), (39 : Nat), (348 : Nat))]) ∈ lw_all := lw_g (lw_at lw_m6 90 rfl) rfl
theorem q1399 : (Jvm.Cond.classLink "PictureRing" (348 : Nat) "java/lang/NullPointerException") ∈ lw_all := lw_g (lw_at lw_m6 91 rfl) rfl
theorem q1402 : (Jvm.Cond.instanceMethod ({ cls := "PictureRing", name := "level", desc := "(II)J" } : Jvm.MethodName)) ∈ lw_all := lw_g (lw_at lw_m6 94 rfl) rfl
theorem q1403 : (Jvm.Cond.selects "PictureRing" ({ cls := "PictureRing", name := "level", desc := "(II)J" } : Jvm.MethodName) ({ cls := "PictureRing", name := "level", desc := "(II)J" } : Jvm.MethodName)) ∈ lw_all := lw_g (lw_at lw_m6 95 rfl) rfl
theorem q1404 : (Jvm.Cond.code ({ cls := "PictureRing", name := "level", desc := "(II)J" } : Jvm.MethodName) prog_1_method_45_code (3 : Nat) (Option.some Jvm.ClassFile.FieldType.long)) ∈ lw_all := lw_g (lw_at lw_m6 96 rfl) rfl
theorem q1405 : (Jvm.Cond.methodLink "PictureRing" (363 : Nat) ({ cls := "PictureRing", name := "part", desc := "(LPictureRing$Fraction;I)J" } : Jvm.MethodName)) ∈ lw_all := lw_g (lw_at lw_m6 97 rfl) rfl
theorem q1406 : (Jvm.Cond.static ({ cls := "PictureRing", name := "part", desc := "(LPictureRing$Fraction;I)J" } : Jvm.MethodName)) ∈ lw_all := lw_g (lw_at lw_m6 98 rfl) rfl
theorem q1407 : (Jvm.Cond.code ({ cls := "PictureRing", name := "part", desc := "(LPictureRing$Fraction;I)J" } : Jvm.MethodName) prog_1_method_44_code (2 : Nat) (Option.some Jvm.ClassFile.FieldType.long)) ∈ lw_all := lw_g (lw_at lw_m6 99 rfl) rfl
theorem q1408 : (Jvm.Cond.constant "PictureRing" (367 : Nat) (-999999 : Int32)) ∈ lw_all := lw_g (lw_at lw_m6 100 rfl) rfl
theorem q1410 : (Jvm.Cond.instanceMethod ({ cls := "PictureRing", name := "rest", desc := "(I)J" } : Jvm.MethodName)) ∈ lw_all := lw_g (lw_at lw_m6 102 rfl) rfl
theorem q1411 : (Jvm.Cond.selects "PictureRing" ({ cls := "PictureRing", name := "rest", desc := "(I)J" } : Jvm.MethodName) ({ cls := "PictureRing", name := "rest", desc := "(I)J" } : Jvm.MethodName)) ∈ lw_all := lw_g (lw_at lw_m6 103 rfl) rfl
theorem q1412 : (Jvm.Cond.code ({ cls := "PictureRing", name := "rest", desc := "(I)J" } : Jvm.MethodName) prog_1_method_46_code (2 : Nat) (Option.some Jvm.ClassFile.FieldType.long)) ∈ lw_all := lw_g (lw_at lw_m6 104 rfl) rfl
theorem q1414 : (Jvm.Cond.instanceMethod ({ cls := "PictureRing", name := "shows", desc := "(II)I" } : Jvm.MethodName)) ∈ lw_all := lw_g (lw_at lw_m6 106 rfl) rfl
theorem q1415 : (Jvm.Cond.selects "PictureRing" ({ cls := "PictureRing", name := "shows", desc := "(II)I" } : Jvm.MethodName) ({ cls := "PictureRing", name := "shows", desc := "(II)I" } : Jvm.MethodName)) ∈ lw_all := lw_g (lw_at lw_m6 107 rfl) rfl
theorem q1416 : (Jvm.Cond.code ({ cls := "PictureRing", name := "shows", desc := "(II)I" } : Jvm.MethodName) prog_1_method_47_code (3 : Nat) (Option.some Jvm.ClassFile.FieldType.int)) ∈ lw_all := lw_g (lw_at lw_m6 108 rfl) rfl
theorem q1417 : (Jvm.Cond.methodLink "PictureRing" (372 : Nat) ({ cls := "PictureRing$Joine\x72", name := "shown", desc := "(II)I" } : Jvm.MethodName)) ∈ lw_all := lw_g (lw_at lw_m6 109 rfl) rfl
theorem q1425 : (Jvm.Cond.instanceMethod ({ cls := "PictureRing", name := "seen", desc := "(III)I" } : Jvm.MethodName)) ∈ lw_all := lw_g (lw_at lw_m6 117 rfl) rfl
theorem q1426 : (Jvm.Cond.selects "PictureRing" ({ cls := "PictureRing", name := "seen", desc := "(III)I" } : Jvm.MethodName) ({ cls := "PictureRing", name := "seen", desc := "(III)I" } : Jvm.MethodName)) ∈ lw_all := lw_g (lw_at lw_m6 118 rfl) rfl
theorem q1427 : (Jvm.Cond.code ({ cls := "PictureRing", name := "seen", desc := "(III)I" } : Jvm.MethodName) prog_1_method_49_code (4 : Nat) (Option.some Jvm.ClassFile.FieldType.int)) ∈ lw_all := lw_g (lw_at lw_m6 119 rfl) rfl
theorem q1428 : (Jvm.Cond.methodLink "PictureRing" (378 : Nat) ({ cls := "PictureRing", name := "seenAt", desc := "(III)I" } : Jvm.MethodName)) ∈ lw_all := lw_g (lw_at lw_m6 120 rfl) rfl
theorem q1429 : (Jvm.Cond.privateMethod ({ cls := "PictureRing", name := "seenAt", desc := "(III)I" } : Jvm.MethodName)) ∈ lw_tbl := lw_at lw_m6 121 rfl
theorem q1430 : (Jvm.Cond.instanceMethod ({ cls := "PictureRing", name := "seenAt", desc := "(III)I" } : Jvm.MethodName)) ∈ lw_all := lw_g (lw_at lw_m6 122 rfl) rfl
theorem q1431 : (Jvm.Cond.code ({ cls := "PictureRing", name := "seenAt", desc := "(III)I" } : Jvm.MethodName) prog_1_method_48_code (7 : Nat) (Option.some Jvm.ClassFile.FieldType.int)) ∈ lw_all := lw_g (lw_at lw_m6 123 rfl) rfl
theorem q1432 : (Jvm.Cond.methodLink "PictureRing" (375 : Nat) ({ cls := "java/lang/Math", name := "floorDiv", desc := "(JJ)J" } : Jvm.MethodName)) ∈ lw_all := lw_g (lw_at lw_m6 124 rfl) rfl
theorem q1436 : (Jvm.Cond.instanceMethod ({ cls := "PictureRing", name := "type", desc := "(I)I" } : Jvm.MethodName)) ∈ lw_all := lw_g (lw_at lw_m6 128 rfl) rfl
theorem q1437 : (Jvm.Cond.selects "PictureRing" ({ cls := "PictureRing", name := "type", desc := "(I)I" } : Jvm.MethodName) ({ cls := "PictureRing", name := "type", desc := "(I)I" } : Jvm.MethodName)) ∈ lw_all := lw_g (lw_at lw_m6 129 rfl) rfl
theorem q1438 : (Jvm.Cond.code ({ cls := "PictureRing", name := "type", desc := "(I)I" } : Jvm.MethodName) prog_1_method_50_code (2 : Nat) (Option.some Jvm.ClassFile.FieldType.int)) ∈ lw_all := lw_g (lw_at lw_m6 130 rfl) rfl
theorem q1439 : (Jvm.Cond.constantLong "PictureRing" (381 : Nat) (127 : Int64)) ∈ lw_all := lw_g (lw_at lw_m6 131 rfl) rfl
theorem q1441 : (Jvm.Cond.instanceMethod ({ cls := "PictureRing", name := "clea\x72", desc := "()I" } : Jvm.MethodName)) ∈ lw_all := lw_g (lw_at lw_m6 133 rfl) rfl
theorem q1442 : (Jvm.Cond.selects "PictureRing" ({ cls := "PictureRing", name := "clea\x72", desc := "()I" } : Jvm.MethodName) ({ cls := "PictureRing", name := "clea\x72", desc := "()I" } : Jvm.MethodName)) ∈ lw_all := lw_g (lw_at lw_m6 134 rfl) rfl
theorem q1443 : (Jvm.Cond.code ({ cls := "PictureRing", name := "clea\x72", desc := "()I" } : Jvm.MethodName) prog_1_method_51_code (2 : Nat) (Option.some Jvm.ClassFile.FieldType.int)) ∈ lw_all := lw_g (lw_at lw_m6 135 rfl) rfl
theorem q1445 : (Jvm.Cond.instanceMethod ({ cls := "PictureRing", name := "reads", desc := "()I" } : Jvm.MethodName)) ∈ lw_all := lw_g (lw_at lw_m6 137 rfl) rfl
theorem q1446 : (Jvm.Cond.selects "PictureRing" ({ cls := "PictureRing", name := "reads", desc := "()I" } : Jvm.MethodName) ({ cls := "PictureRing", name := "reads", desc := "()I" } : Jvm.MethodName)) ∈ lw_all := lw_g (lw_at lw_m6 138 rfl) rfl
theorem q1447 : (Jvm.Cond.codeWith ({ cls := "PictureRing", name := "reads", desc := "()I" } : Jvm.MethodName) prog_1_method_53_code (5 : Nat) (Option.some Jvm.ClassFile.FieldType.int) [((16 : Nat), (63 : Nat), (78 : Nat), (395 : Nat)), ((16 : Nat), (63 : Nat), (102 : Nat), (399 : Nat)), ((16 : Nat), (63 : Nat), (180 : Nat), (0 : Nat)), ((78 : Nat), (87 : Nat), (180 : Nat), (0 : Nat)), ((102 : Nat), (165 : Nat), (180 : Nat), (0 : Nat)), ((180 : Nat), (182 : Nat), (180 : Nat), (0 : Nat))]) ∈ lw_all := lw_g (lw_at lw_m6 139 rfl) rfl
theorem q1448 : (Jvm.Cond.classLink "PictureRing" (395 : Nat) "PictureRing$Fault") ∈ lw_all := lw_g (lw_at lw_m6 140 rfl) rfl
theorem q1449 : (Jvm.Cond.classLink "PictureRing" (399 : Nat) "PictureRing$Stopped") ∈ lw_all := lw_g (lw_at lw_m6 141 rfl) rfl
theorem q1450 : (Jvm.Cond.methodLink "PictureRing" (391 : Nat) ({ cls := "PictureRing$Reade\x72", name := "reads", desc := "(Z)I" } : Jvm.MethodName)) ∈ lw_all := lw_g (lw_at lw_m6 142 rfl) rfl
theorem q1486 : (Jvm.Cond.fieldLinkNest "PictureRing" (397 : Nat) "PictureRing$Fault" "place" "I" "PictureRing") ∈ lw_tbl := lw_at lw_m6 178 rfl
theorem q1543 : (Jvm.Cond.static ({ cls := "PictureRing", name := "wants", desc := "(I)V" } : Jvm.MethodName)) ∈ lw_all := lw_g (lw_at lw_m6 235 rfl) rfl
theorem q1544 : (Jvm.Cond.code ({ cls := "PictureRing", name := "wants", desc := "(I)V" } : Jvm.MethodName) prog_1_method_52_code (1 : Nat) (Option.none : Option Jvm.ClassFile.FieldType)) ∈ lw_all := lw_g (lw_at lw_m6 236 rfl) rfl
theorem q1545 : (Jvm.Cond.classLink "PictureRing" (386 : Nat) "PictureRing$Refused") ∈ lw_all := lw_g (lw_at lw_m6 237 rfl) rfl
theorem q1554 : (Jvm.Cond.methodLink "PictureRing" (388 : Nat) ({ cls := "PictureRing$Refused", name := "<init>", desc := "(I)V" } : Jvm.MethodName)) ∈ lw_all := lw_g (lw_at lw_m7 6 rfl) rfl
theorem q1559 : (Jvm.Cond.fieldLinkNest "PictureRing" (405 : Nat) "PictureRing$Refused" "answe\x72" "I" "PictureRing") ∈ lw_tbl := lw_at lw_m7 11 rfl
theorem q1578 : (Jvm.Cond.fieldLinkNest "PictureRing" (408 : Nat) "PictureRing$Stopped" "orde\x72" "I" "PictureRing") ∈ lw_tbl := lw_at lw_m7 30 rfl
theorem q1583 : (Jvm.Cond.methodLink "PictureRing" (401 : Nat) ({ cls := "PictureRing$Stopped", name := "getCause", desc := "()Ljava/lang/Throwable;" } : Jvm.MethodName)) ∈ lw_all := lw_g (lw_at lw_m7 35 rfl) rfl
theorem q1590 : (Jvm.Cond.instanceMethod ({ cls := "PictureRing", name := "why", desc := "(I)I" } : Jvm.MethodName)) ∈ lw_all := lw_g (lw_at lw_m7 42 rfl) rfl
theorem q1591 : (Jvm.Cond.selects "PictureRing" ({ cls := "PictureRing", name := "why", desc := "(I)I" } : Jvm.MethodName) ({ cls := "PictureRing", name := "why", desc := "(I)I" } : Jvm.MethodName)) ∈ lw_all := lw_g (lw_at lw_m7 43 rfl) rfl
theorem q1592 : (Jvm.Cond.code ({ cls := "PictureRing", name := "why", desc := "(I)I" } : Jvm.MethodName) prog_1_method_54_code (2 : Nat) (Option.some Jvm.ClassFile.FieldType.int)) ∈ lw_all := lw_g (lw_at lw_m7 44 rfl) rfl
theorem q1594 : (Jvm.Cond.instanceMethod ({ cls := "PictureRing", name := "back", desc := "()I" } : Jvm.MethodName)) ∈ lw_all := lw_g (lw_at lw_m7 46 rfl) rfl
theorem q1595 : (Jvm.Cond.selects "PictureRing" ({ cls := "PictureRing", name := "back", desc := "()I" } : Jvm.MethodName) ({ cls := "PictureRing", name := "back", desc := "()I" } : Jvm.MethodName)) ∈ lw_all := lw_g (lw_at lw_m7 47 rfl) rfl
theorem q1596 : (Jvm.Cond.code ({ cls := "PictureRing", name := "back", desc := "()I" } : Jvm.MethodName) prog_1_method_55_code (1 : Nat) (Option.some Jvm.ClassFile.FieldType.int)) ∈ lw_all := lw_g (lw_at lw_m7 48 rfl) rfl
theorem q1598 : (Jvm.Cond.instanceMethod ({ cls := "PictureRing", name := "told", desc := "(I)I" } : Jvm.MethodName)) ∈ lw_all := lw_g (lw_at lw_m7 50 rfl) rfl
theorem q1599 : (Jvm.Cond.selects "PictureRing" ({ cls := "PictureRing", name := "told", desc := "(I)I" } : Jvm.MethodName) ({ cls := "PictureRing", name := "told", desc := "(I)I" } : Jvm.MethodName)) ∈ lw_all := lw_g (lw_at lw_m7 51 rfl) rfl
theorem q1600 : (Jvm.Cond.code ({ cls := "PictureRing", name := "told", desc := "(I)I" } : Jvm.MethodName) prog_1_method_57_code (2 : Nat) (Option.some Jvm.ClassFile.FieldType.int)) ∈ lw_all := lw_g (lw_at lw_m7 52 rfl) rfl
theorem q1601 : (Jvm.Cond.constantLong "PictureRing" (411 : Nat) (8 : Int64)) ∈ lw_all := lw_g (lw_at lw_m7 53 rfl) rfl
theorem q1602 : (Jvm.Cond.methodLink "PictureRing" (413 : Nat) ({ cls := "PictureRing", name := "toldOf", desc := "(I)I" } : Jvm.MethodName)) ∈ lw_all := lw_g (lw_at lw_m7 54 rfl) rfl
theorem q1603 : (Jvm.Cond.privateMethod ({ cls := "PictureRing", name := "toldOf", desc := "(I)I" } : Jvm.MethodName)) ∈ lw_tbl := lw_at lw_m7 55 rfl
theorem q1604 : (Jvm.Cond.instanceMethod ({ cls := "PictureRing", name := "toldOf", desc := "(I)I" } : Jvm.MethodName)) ∈ lw_all := lw_g (lw_at lw_m7 56 rfl) rfl
theorem q1605 : (Jvm.Cond.code ({ cls := "PictureRing", name := "toldOf", desc := "(I)I" } : Jvm.MethodName) prog_1_method_56_code (2 : Nat) (Option.some Jvm.ClassFile.FieldType.int)) ∈ lw_all := lw_g (lw_at lw_m7 57 rfl) rfl
theorem q1607 : (Jvm.Cond.instanceMethod ({ cls := "PictureRing", name := "digest", desc := "()J" } : Jvm.MethodName)) ∈ lw_all := lw_g (lw_at lw_m7 59 rfl) rfl
theorem q1608 : (Jvm.Cond.selects "PictureRing" ({ cls := "PictureRing", name := "digest", desc := "()J" } : Jvm.MethodName) ({ cls := "PictureRing", name := "digest", desc := "()J" } : Jvm.MethodName)) ∈ lw_all := lw_g (lw_at lw_m7 60 rfl) rfl
theorem q1609 : (Jvm.Cond.code ({ cls := "PictureRing", name := "digest", desc := "()J" } : Jvm.MethodName) prog_1_method_58_code (5 : Nat) (Option.some Jvm.ClassFile.FieldType.long)) ∈ lw_all := lw_g (lw_at lw_m7 61 rfl) rfl
theorem q1610 : (Jvm.Cond.constantLong "PictureRing" (416 : Nat) (2269 : Int64)) ∈ lw_all := lw_g (lw_at lw_m7 62 rfl) rfl
theorem q1611 : (Jvm.Cond.constantLong "PictureRing" (418 : Nat) (31 : Int64)) ∈ lw_all := lw_g (lw_at lw_m7 63 rfl) rfl
theorem q2070 : (Jvm.Cond.castable "PictureRing" "java/lang/Object") ∈ lw_tbl := lw_at lw_m9 42 rfl
theorem in_X0 : ∀ w ∈ wsX00, w ∈ lw_all := lw_in wsX00 [432, 434, 436, 438, 440, 442, 444, 446, 448, 450, 452, 454] (by decide +kernel) (by decide +kernel)

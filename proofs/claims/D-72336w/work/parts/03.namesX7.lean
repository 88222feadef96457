/-! PictureRingModel -/
set_option maxRecDepth 100000
def RX7 : String := "PictureRingModel"
def TX7 : u_T := fun k => match k with
  | 0 => ("PictureRingModel", "all", "[I", true)
  | 1 => ("PictureRingModel", "past", "[I", true)
  | 2 => ("PictureRingModel", "aside", "[I", true)
  | 3 => ("PictureRingModel", "states", "I", false)
  | 4 => ("PictureRingModel", "refused", "[I", true)
  | 5 => ("PictureRingModel", "causeKind", "I", false)
  | 6 => ("PictureRingModel", "causeOrde\x72", "I", false)
  | 7 => ("PictureRingModel", "corne\x72", "[I", true)
  | 8 => ("PictureRingModel", "linkVotes", "[I", true)
  | 9 => ("PictureRingModel", "linkE", "[I", true)
  | 10 => ("PictureRingModel", "linkF", "[I", true)
  | 11 => ("PictureRingModel", "followe\x72", "[I", true)
  | 12 => ("PictureRingModel", "ahead", "[I", true)
  | 13 => ("PictureRingModel", "least", "[I", true)
  | 14 => ("PictureRingModel", "seam", "[I", true)
  | 15 => ("PictureRingModel", "above", "J", false)
  | 16 => ("PictureRingModel", "below", "J", false)
  | 17 => ("PictureRingModel", "text", "[I", true)
  | 18 => ("PictureRingModel", "textLong", "I", false)
  | 19 => ("PictureRingModel", "place", "I", false)
  | 20 => ("PictureRingModel", "value", "I", false)
  | 21 => ("PictureRingModel", "numbers", "[I", true)
  | _ => ("PictureRingModel", "not", "I", false)
def tyX7 : Nat → FieldType := fun k => match k with
  | 0 => .array .int
  | 1 => .array .int
  | 2 => .array .int
  | 3 => .int
  | 4 => .array .int
  | 5 => .int
  | 6 => .int
  | 7 => .array .int
  | 8 => .array .int
  | 9 => .array .int
  | 10 => .array .int
  | 11 => .array .int
  | 12 => .array .int
  | 13 => .array .int
  | 14 => .array .int
  | 15 => .long
  | 16 => .long
  | 17 => .array .int
  | 18 => .int
  | 19 => .int
  | 20 => .int
  | 21 => .array .int
  | _ => .int
abbrev wsX70 : List Cond := u_ws RX7 TX7 23
set_option maxRecDepth 100000 in
theorem nmX7 : ∀ a, a < 23 → ∀ b, b < 23 → a ≠ b → (TX7 a).2.1 ≠ (TX7 b).2.1 := by decide +kernel
set_option maxRecDepth 100000 in
theorem tyX7_ok : ∀ k, k < 23 → parseFieldDescriptor (TX7 k).2.2.1 = some (tyX7 k) := by decide +kernel
abbrev cX7_init : ByteArray := prog_20_method_1_code
def yX7_init : MethodName := ⟨RX7, "<init>", "()V"⟩
def dkwX7_init_5 : List UInt8 := [181, 0, 53, 42, 180, 0, 7, 4, 16, 8, 79, 42, 180, 0, 7, 5, 16, 12, 79, 177]
abbrev dktX7_init_5 : List UInt8 := dkwX7_init_5 ++ []
def dkwX7_init_4 : List UInt8 := [188, 10, 181, 0, 44, 42, 7, 188, 10, 181, 0, 47, 42, 16, 120, 188, 10, 181, 0, 50, 42, 7, 188, 10]
abbrev dktX7_init_4 : List UInt8 := dkwX7_init_4 ++ dktX7_init_5
def dkwX7_init_3 : List UInt8 := [188, 10, 181, 0, 35, 42, 16, 6, 188, 10, 181, 0, 38, 42, 16, 6, 188, 10, 181, 0, 41, 42, 16, 32]
abbrev dktX7_init_3 : List UInt8 := dkwX7_init_3 ++ dktX7_init_4
def dkwX7_init_2 : List UInt8 := [188, 10, 181, 0, 26, 42, 16, 36, 188, 10, 181, 0, 29, 42, 16, 36, 188, 10, 181, 0, 32, 42, 16, 36]
abbrev dktX7_init_2 : List UInt8 := dkwX7_init_2 ++ dktX7_init_3
def dkwX7_init_1 : List UInt8 := [17, 1, 150, 188, 10, 181, 0, 16, 42, 6, 188, 10, 181, 0, 19, 42, 2, 181, 0, 22, 42, 16, 6]
abbrev dktX7_init_1 : List UInt8 := dkwX7_init_1 ++ dktX7_init_2
def dkwX7_init_0 : List UInt8 := [42, 183, 0, 1, 42, 17, 1, 150, 188, 10, 181, 0, 7, 42, 17, 7, 238, 188, 10, 181, 0, 13, 42]
abbrev dktX7_init_0 : List UInt8 := dkwX7_init_0 ++ dktX7_init_1
theorem dksX7_init_0 : cX7_init.data.toList.drop 0 = dktX7_init_0 := by decide +kernel
theorem dksX7_init_1 : cX7_init.data.toList.drop 23 = dktX7_init_1 := dk_seg dksX7_init_0 23 rfl rfl
theorem dksX7_init_2 : cX7_init.data.toList.drop 46 = dktX7_init_2 := dk_seg dksX7_init_1 23 rfl rfl
theorem dksX7_init_3 : cX7_init.data.toList.drop 70 = dktX7_init_3 := dk_seg dksX7_init_2 24 rfl rfl
theorem dksX7_init_4 : cX7_init.data.toList.drop 94 = dktX7_init_4 := dk_seg dksX7_init_3 24 rfl rfl
theorem dksX7_init_5 : cX7_init.data.toList.drop 118 = dktX7_init_5 := dk_seg dksX7_init_4 24 rfl rfl
theorem dX7_init_0 : decode cX7_init 0 = .ok (.aload_n 0, 1) := dk_42 (dk_at dksX7_init_0 0 rfl rfl)
theorem dX7_init_1 : decode cX7_init 1 = .ok (.invokespecial 1, 3) := dk_183 0 1 (dk_at dksX7_init_0 1 rfl rfl)
theorem dX7_init_4 : decode cX7_init 4 = .ok (.aload_n 0, 1) := dk_42 (dk_at dksX7_init_0 4 rfl rfl)
theorem dX7_init_5 : decode cX7_init 5 = .ok (.sipush 406, 3) := dk_17 1 150 (dk_at dksX7_init_0 5 rfl rfl)
theorem dX7_init_8 : decode cX7_init 8 = .ok (.newarray .int, 2) := dk_188_10 (dk_at dksX7_init_0 8 rfl rfl)
theorem dX7_init_10 : decode cX7_init 10 = .ok (.putfield 7, 3) := dk_181 0 7 (dk_at dksX7_init_0 10 rfl rfl)
theorem dX7_init_13 : decode cX7_init 13 = .ok (.aload_n 0, 1) := dk_42 (dk_at dksX7_init_0 13 rfl rfl)
theorem dX7_init_14 : decode cX7_init 14 = .ok (.sipush 2030, 3) := dk_17 7 238 (dk_at dksX7_init_0 14 rfl rfl)
theorem dX7_init_17 : decode cX7_init 17 = .ok (.newarray .int, 2) := dk_188_10 (dk_at dksX7_init_0 17 rfl rfl)
theorem dX7_init_19 : decode cX7_init 19 = .ok (.putfield 13, 3) := dk_181 0 13 (dk_at dksX7_init_0 19 rfl rfl)
theorem dX7_init_22 : decode cX7_init 22 = .ok (.aload_n 0, 1) := dk_42 (dk_at dksX7_init_0 22 rfl rfl)
theorem dX7_init_23 : decode cX7_init 23 = .ok (.sipush 406, 3) := dk_17 1 150 (dk_at dksX7_init_1 0 rfl rfl)
theorem dX7_init_26 : decode cX7_init 26 = .ok (.newarray .int, 2) := dk_188_10 (dk_at dksX7_init_1 3 rfl rfl)
theorem dX7_init_28 : decode cX7_init 28 = .ok (.putfield 16, 3) := dk_181 0 16 (dk_at dksX7_init_1 5 rfl rfl)
theorem dX7_init_31 : decode cX7_init 31 = .ok (.aload_n 0, 1) := dk_42 (dk_at dksX7_init_1 8 rfl rfl)
theorem dX7_init_32 : decode cX7_init 32 = .ok (.iconst 3, 1) := dk_6 (dk_at dksX7_init_1 9 rfl rfl)
theorem dX7_init_33 : decode cX7_init 33 = .ok (.newarray .int, 2) := dk_188_10 (dk_at dksX7_init_1 10 rfl rfl)
theorem dX7_init_35 : decode cX7_init 35 = .ok (.putfield 19, 3) := dk_181 0 19 (dk_at dksX7_init_1 12 rfl rfl)
theorem dX7_init_38 : decode cX7_init 38 = .ok (.aload_n 0, 1) := dk_42 (dk_at dksX7_init_1 15 rfl rfl)
theorem dX7_init_39 : decode cX7_init 39 = .ok (.iconst (-1), 1) := dk_2 (dk_at dksX7_init_1 16 rfl rfl)
theorem dX7_init_40 : decode cX7_init 40 = .ok (.putfield 22, 3) := dk_181 0 22 (dk_at dksX7_init_1 17 rfl rfl)
theorem dX7_init_43 : decode cX7_init 43 = .ok (.aload_n 0, 1) := dk_42 (dk_at dksX7_init_1 20 rfl rfl)
theorem dX7_init_44 : decode cX7_init 44 = .ok (.bipush 6, 2) := dk_16 6 (dk_at dksX7_init_1 21 rfl rfl)
theorem dX7_init_46 : decode cX7_init 46 = .ok (.newarray .int, 2) := dk_188_10 (dk_at dksX7_init_2 0 rfl rfl)
theorem dX7_init_48 : decode cX7_init 48 = .ok (.putfield 26, 3) := dk_181 0 26 (dk_at dksX7_init_2 2 rfl rfl)
theorem dX7_init_51 : decode cX7_init 51 = .ok (.aload_n 0, 1) := dk_42 (dk_at dksX7_init_2 5 rfl rfl)
theorem dX7_init_52 : decode cX7_init 52 = .ok (.bipush 36, 2) := dk_16 36 (dk_at dksX7_init_2 6 rfl rfl)
theorem dX7_init_54 : decode cX7_init 54 = .ok (.newarray .int, 2) := dk_188_10 (dk_at dksX7_init_2 8 rfl rfl)
theorem dX7_init_56 : decode cX7_init 56 = .ok (.putfield 29, 3) := dk_181 0 29 (dk_at dksX7_init_2 10 rfl rfl)
theorem dX7_init_59 : decode cX7_init 59 = .ok (.aload_n 0, 1) := dk_42 (dk_at dksX7_init_2 13 rfl rfl)
theorem dX7_init_60 : decode cX7_init 60 = .ok (.bipush 36, 2) := dk_16 36 (dk_at dksX7_init_2 14 rfl rfl)
theorem dX7_init_62 : decode cX7_init 62 = .ok (.newarray .int, 2) := dk_188_10 (dk_at dksX7_init_2 16 rfl rfl)
theorem dX7_init_64 : decode cX7_init 64 = .ok (.putfield 32, 3) := dk_181 0 32 (dk_at dksX7_init_2 18 rfl rfl)
theorem dX7_init_67 : decode cX7_init 67 = .ok (.aload_n 0, 1) := dk_42 (dk_at dksX7_init_2 21 rfl rfl)
theorem dX7_init_68 : decode cX7_init 68 = .ok (.bipush 36, 2) := dk_16 36 (dk_at dksX7_init_2 22 rfl rfl)
theorem dX7_init_70 : decode cX7_init 70 = .ok (.newarray .int, 2) := dk_188_10 (dk_at dksX7_init_3 0 rfl rfl)
theorem dX7_init_72 : decode cX7_init 72 = .ok (.putfield 35, 3) := dk_181 0 35 (dk_at dksX7_init_3 2 rfl rfl)
theorem dX7_init_75 : decode cX7_init 75 = .ok (.aload_n 0, 1) := dk_42 (dk_at dksX7_init_3 5 rfl rfl)
theorem dX7_init_76 : decode cX7_init 76 = .ok (.bipush 6, 2) := dk_16 6 (dk_at dksX7_init_3 6 rfl rfl)
theorem dX7_init_78 : decode cX7_init 78 = .ok (.newarray .int, 2) := dk_188_10 (dk_at dksX7_init_3 8 rfl rfl)
theorem dX7_init_80 : decode cX7_init 80 = .ok (.putfield 38, 3) := dk_181 0 38 (dk_at dksX7_init_3 10 rfl rfl)
theorem dX7_init_83 : decode cX7_init 83 = .ok (.aload_n 0, 1) := dk_42 (dk_at dksX7_init_3 13 rfl rfl)
theorem dX7_init_84 : decode cX7_init 84 = .ok (.bipush 6, 2) := dk_16 6 (dk_at dksX7_init_3 14 rfl rfl)
theorem dX7_init_86 : decode cX7_init 86 = .ok (.newarray .int, 2) := dk_188_10 (dk_at dksX7_init_3 16 rfl rfl)
theorem dX7_init_88 : decode cX7_init 88 = .ok (.putfield 41, 3) := dk_181 0 41 (dk_at dksX7_init_3 18 rfl rfl)
theorem dX7_init_91 : decode cX7_init 91 = .ok (.aload_n 0, 1) := dk_42 (dk_at dksX7_init_3 21 rfl rfl)
theorem dX7_init_92 : decode cX7_init 92 = .ok (.bipush 32, 2) := dk_16 32 (dk_at dksX7_init_3 22 rfl rfl)
theorem dX7_init_94 : decode cX7_init 94 = .ok (.newarray .int, 2) := dk_188_10 (dk_at dksX7_init_4 0 rfl rfl)
theorem dX7_init_96 : decode cX7_init 96 = .ok (.putfield 44, 3) := dk_181 0 44 (dk_at dksX7_init_4 2 rfl rfl)
theorem dX7_init_99 : decode cX7_init 99 = .ok (.aload_n 0, 1) := dk_42 (dk_at dksX7_init_4 5 rfl rfl)
theorem dX7_init_100 : decode cX7_init 100 = .ok (.iconst 4, 1) := dk_7 (dk_at dksX7_init_4 6 rfl rfl)
theorem dX7_init_101 : decode cX7_init 101 = .ok (.newarray .int, 2) := dk_188_10 (dk_at dksX7_init_4 7 rfl rfl)
theorem dX7_init_103 : decode cX7_init 103 = .ok (.putfield 47, 3) := dk_181 0 47 (dk_at dksX7_init_4 9 rfl rfl)
theorem dX7_init_106 : decode cX7_init 106 = .ok (.aload_n 0, 1) := dk_42 (dk_at dksX7_init_4 12 rfl rfl)
theorem dX7_init_107 : decode cX7_init 107 = .ok (.bipush 120, 2) := dk_16 120 (dk_at dksX7_init_4 13 rfl rfl)
theorem dX7_init_109 : decode cX7_init 109 = .ok (.newarray .int, 2) := dk_188_10 (dk_at dksX7_init_4 15 rfl rfl)
theorem dX7_init_111 : decode cX7_init 111 = .ok (.putfield 50, 3) := dk_181 0 50 (dk_at dksX7_init_4 17 rfl rfl)
theorem dX7_init_114 : decode cX7_init 114 = .ok (.aload_n 0, 1) := dk_42 (dk_at dksX7_init_4 20 rfl rfl)
theorem dX7_init_115 : decode cX7_init 115 = .ok (.iconst 4, 1) := dk_7 (dk_at dksX7_init_4 21 rfl rfl)
theorem dX7_init_116 : decode cX7_init 116 = .ok (.newarray .int, 2) := dk_188_10 (dk_at dksX7_init_4 22 rfl rfl)
theorem dX7_init_118 : decode cX7_init 118 = .ok (.putfield 53, 3) := dk_181 0 53 (dk_at dksX7_init_5 0 rfl rfl)
theorem dX7_init_121 : decode cX7_init 121 = .ok (.aload_n 0, 1) := dk_42 (dk_at dksX7_init_5 3 rfl rfl)
theorem dX7_init_122 : decode cX7_init 122 = .ok (.getfield 7, 3) := dk_180 0 7 (dk_at dksX7_init_5 4 rfl rfl)
theorem dX7_init_125 : decode cX7_init 125 = .ok (.iconst 1, 1) := dk_4 (dk_at dksX7_init_5 7 rfl rfl)
theorem dX7_init_126 : decode cX7_init 126 = .ok (.bipush 8, 2) := dk_16 8 (dk_at dksX7_init_5 8 rfl rfl)
theorem dX7_init_128 : decode cX7_init 128 = .ok (.iastore, 1) := dk_79 (dk_at dksX7_init_5 10 rfl rfl)
theorem dX7_init_129 : decode cX7_init 129 = .ok (.aload_n 0, 1) := dk_42 (dk_at dksX7_init_5 11 rfl rfl)
theorem dX7_init_130 : decode cX7_init 130 = .ok (.getfield 7, 3) := dk_180 0 7 (dk_at dksX7_init_5 12 rfl rfl)
theorem dX7_init_133 : decode cX7_init 133 = .ok (.iconst 2, 1) := dk_5 (dk_at dksX7_init_5 15 rfl rfl)
theorem dX7_init_134 : decode cX7_init 134 = .ok (.bipush 12, 2) := dk_16 12 (dk_at dksX7_init_5 16 rfl rfl)
theorem dX7_init_136 : decode cX7_init 136 = .ok (.iastore, 1) := dk_79 (dk_at dksX7_init_5 18 rfl rfl)
theorem dX7_init_137 : decode cX7_init 137 = .ok (.return_, 1) := dk_177 (dk_at dksX7_init_5 19 rfl rfl)
abbrev cX7_world : ByteArray := prog_20_method_15_code
def yX7_world : MethodName := ⟨RX7, "world", "(II)I"⟩
def dkwX7_world_1 : List UInt8 := [182, 0, 98, 172]
abbrev dktX7_world_1 : List UInt8 := dkwX7_world_1 ++ []
def dkwX7_world_0 : List UInt8 := [27, 28, 184, 0, 87, 154, 0, 10, 42, 16, 254, 182, 0, 91, 172, 42, 182, 0, 95, 42, 27, 28]
abbrev dktX7_world_0 : List UInt8 := dkwX7_world_0 ++ dktX7_world_1
theorem dksX7_world_0 : cX7_world.data.toList.drop 0 = dktX7_world_0 := by decide +kernel
theorem dksX7_world_1 : cX7_world.data.toList.drop 22 = dktX7_world_1 := dk_seg dksX7_world_0 22 rfl rfl
theorem dX7_world_0 : decode cX7_world 0 = .ok (.iload_n 1, 1) := dk_27 (dk_at dksX7_world_0 0 rfl rfl)
theorem dX7_world_1 : decode cX7_world 1 = .ok (.iload_n 2, 1) := dk_28 (dk_at dksX7_world_0 1 rfl rfl)
theorem dX7_world_2 : decode cX7_world 2 = .ok (.invokestatic 87, 3) := dk_184 0 87 (dk_at dksX7_world_0 2 rfl rfl)
theorem dX7_world_5 : decode cX7_world 5 = .ok (.ifCond .ne 10, 3) := dk_154 0 10 (dk_at dksX7_world_0 5 rfl rfl)
theorem dX7_world_8 : decode cX7_world 8 = .ok (.aload_n 0, 1) := dk_42 (dk_at dksX7_world_0 8 rfl rfl)
theorem dX7_world_9 : decode cX7_world 9 = .ok (.bipush (-2), 2) := dk_16 254 (dk_at dksX7_world_0 9 rfl rfl)
theorem dX7_world_11 : decode cX7_world 11 = .ok (.invokevirtual 91, 3) := dk_182 0 91 (dk_at dksX7_world_0 11 rfl rfl)
theorem dX7_world_14 : decode cX7_world 14 = .ok (.ireturn, 1) := dk_172 (dk_at dksX7_world_0 14 rfl rfl)
theorem dX7_world_15 : decode cX7_world 15 = .ok (.aload_n 0, 1) := dk_42 (dk_at dksX7_world_0 15 rfl rfl)
theorem dX7_world_16 : decode cX7_world 16 = .ok (.invokevirtual 95, 3) := dk_182 0 95 (dk_at dksX7_world_0 16 rfl rfl)
theorem dX7_world_19 : decode cX7_world 19 = .ok (.aload_n 0, 1) := dk_42 (dk_at dksX7_world_0 19 rfl rfl)
theorem dX7_world_20 : decode cX7_world 20 = .ok (.iload_n 1, 1) := dk_27 (dk_at dksX7_world_0 20 rfl rfl)
theorem dX7_world_21 : decode cX7_world 21 = .ok (.iload_n 2, 1) := dk_28 (dk_at dksX7_world_0 21 rfl rfl)
theorem dX7_world_22 : decode cX7_world 22 = .ok (.invokevirtual 98, 3) := dk_182 0 98 (dk_at dksX7_world_1 0 rfl rfl)
theorem dX7_world_25 : decode cX7_world 25 = .ok (.ireturn, 1) := dk_172 (dk_at dksX7_world_1 3 rfl rfl)
abbrev cX7_isWorld : ByteArray := prog_20_method_13_code
def yX7_isWorld : MethodName := ⟨RX7, "isWorld", "(II)Z"⟩
def dkwX7_isWorld_1 : List UInt8 := [153, 0, 7, 4, 167, 0, 4, 3, 172]
abbrev dktX7_isWorld_1 : List UInt8 := dkwX7_isWorld_1 ++ []
def dkwX7_isWorld_0 : List UInt8 := [26, 133, 9, 20, 0, 71, 184, 0, 63, 153, 0, 21, 27, 133, 20, 0, 73, 20, 0, 75, 184, 0, 63]
abbrev dktX7_isWorld_0 : List UInt8 := dkwX7_isWorld_0 ++ dktX7_isWorld_1
theorem dksX7_isWorld_0 : cX7_isWorld.data.toList.drop 0 = dktX7_isWorld_0 := by decide +kernel
theorem dksX7_isWorld_1 : cX7_isWorld.data.toList.drop 23 = dktX7_isWorld_1 := dk_seg dksX7_isWorld_0 23 rfl rfl
theorem dX7_isWorld_0 : decode cX7_isWorld 0 = .ok (.iload_n 0, 1) := dk_26 (dk_at dksX7_isWorld_0 0 rfl rfl)
theorem dX7_isWorld_1 : decode cX7_isWorld 1 = .ok (.i2l, 1) := dk_133 (dk_at dksX7_isWorld_0 1 rfl rfl)
theorem dX7_isWorld_2 : decode cX7_isWorld 2 = .ok (.lconst 0, 1) := dk_9 (dk_at dksX7_isWorld_0 2 rfl rfl)
theorem dX7_isWorld_3 : decode cX7_isWorld 3 = .ok (.ldc2_w 71, 3) := dk_20 0 71 (dk_at dksX7_isWorld_0 3 rfl rfl)
theorem dX7_isWorld_6 : decode cX7_isWorld 6 = .ok (.invokestatic 63, 3) := dk_184 0 63 (dk_at dksX7_isWorld_0 6 rfl rfl)
theorem dX7_isWorld_9 : decode cX7_isWorld 9 = .ok (.ifCond .eq 21, 3) := dk_153 0 21 (dk_at dksX7_isWorld_0 9 rfl rfl)
theorem dX7_isWorld_12 : decode cX7_isWorld 12 = .ok (.iload_n 1, 1) := dk_27 (dk_at dksX7_isWorld_0 12 rfl rfl)
theorem dX7_isWorld_13 : decode cX7_isWorld 13 = .ok (.i2l, 1) := dk_133 (dk_at dksX7_isWorld_0 13 rfl rfl)
theorem dX7_isWorld_14 : decode cX7_isWorld 14 = .ok (.ldc2_w 73, 3) := dk_20 0 73 (dk_at dksX7_isWorld_0 14 rfl rfl)
theorem dX7_isWorld_17 : decode cX7_isWorld 17 = .ok (.ldc2_w 75, 3) := dk_20 0 75 (dk_at dksX7_isWorld_0 17 rfl rfl)
theorem dX7_isWorld_20 : decode cX7_isWorld 20 = .ok (.invokestatic 63, 3) := dk_184 0 63 (dk_at dksX7_isWorld_0 20 rfl rfl)
theorem dX7_isWorld_23 : decode cX7_isWorld 23 = .ok (.ifCond .eq 7, 3) := dk_153 0 7 (dk_at dksX7_isWorld_1 0 rfl rfl)
theorem dX7_isWorld_26 : decode cX7_isWorld 26 = .ok (.iconst 1, 1) := dk_4 (dk_at dksX7_isWorld_1 3 rfl rfl)
theorem dX7_isWorld_27 : decode cX7_isWorld 27 = .ok (.goto 4, 3) := dk_167 0 4 (dk_at dksX7_isWorld_1 4 rfl rfl)
theorem dX7_isWorld_30 : decode cX7_isWorld 30 = .ok (.iconst 0, 1) := dk_3 (dk_at dksX7_isWorld_1 7 rfl rfl)
theorem dX7_isWorld_31 : decode cX7_isWorld 31 = .ok (.ireturn, 1) := dk_172 (dk_at dksX7_isWorld_1 8 rfl rfl)
abbrev cX7_in : ByteArray := prog_20_method_3_code
def yX7_in : MethodName := ⟨RX7, "in", "(JJJ)Z"⟩
def dkwX7_in_0 : List UInt8 := [30, 32, 148, 155, 0, 14, 30, 22, 4, 148, 157, 0, 7, 4, 167, 0, 4, 3, 172]
abbrev dktX7_in_0 : List UInt8 := dkwX7_in_0 ++ []
theorem dksX7_in_0 : cX7_in.data.toList.drop 0 = dktX7_in_0 := by decide +kernel
theorem dX7_in_0 : decode cX7_in 0 = .ok (.lload_n 0, 1) := dk_30 (dk_at dksX7_in_0 0 rfl rfl)
theorem dX7_in_1 : decode cX7_in 1 = .ok (.lload_n 2, 1) := dk_32 (dk_at dksX7_in_0 1 rfl rfl)
theorem dX7_in_2 : decode cX7_in 2 = .ok (.lcmp, 1) := dk_148 (dk_at dksX7_in_0 2 rfl rfl)
theorem dX7_in_3 : decode cX7_in 3 = .ok (.ifCond .lt 14, 3) := dk_155 0 14 (dk_at dksX7_in_0 3 rfl rfl)
theorem dX7_in_6 : decode cX7_in 6 = .ok (.lload_n 0, 1) := dk_30 (dk_at dksX7_in_0 6 rfl rfl)
theorem dX7_in_7 : decode cX7_in 7 = .ok (.lload 4, 2) := dk_22 4 (dk_at dksX7_in_0 7 rfl rfl)
theorem dX7_in_9 : decode cX7_in 9 = .ok (.lcmp, 1) := dk_148 (dk_at dksX7_in_0 9 rfl rfl)
theorem dX7_in_10 : decode cX7_in 10 = .ok (.ifCond .gt 7, 3) := dk_157 0 7 (dk_at dksX7_in_0 10 rfl rfl)
theorem dX7_in_13 : decode cX7_in 13 = .ok (.iconst 1, 1) := dk_4 (dk_at dksX7_in_0 13 rfl rfl)
theorem dX7_in_14 : decode cX7_in 14 = .ok (.goto 4, 3) := dk_167 0 4 (dk_at dksX7_in_0 14 rfl rfl)
theorem dX7_in_17 : decode cX7_in 17 = .ok (.iconst 0, 1) := dk_3 (dk_at dksX7_in_0 17 rfl rfl)
theorem dX7_in_18 : decode cX7_in 18 = .ok (.ireturn, 1) := dk_172 (dk_at dksX7_in_0 18 rfl rfl)
abbrev cX7_refuses : ByteArray := prog_20_method_4_code
def yX7_refuses : MethodName := ⟨RX7, "refuses", "(I)I"⟩
def dkwX7_refuses_0 : List UInt8 := [42, 180, 0, 19, 16, 254, 27, 100, 92, 46, 4, 96, 79, 27, 172]
abbrev dktX7_refuses_0 : List UInt8 := dkwX7_refuses_0 ++ []
theorem dksX7_refuses_0 : cX7_refuses.data.toList.drop 0 = dktX7_refuses_0 := by decide +kernel
theorem dX7_refuses_0 : decode cX7_refuses 0 = .ok (.aload_n 0, 1) := dk_42 (dk_at dksX7_refuses_0 0 rfl rfl)
theorem dX7_refuses_1 : decode cX7_refuses 1 = .ok (.getfield 19, 3) := dk_180 0 19 (dk_at dksX7_refuses_0 1 rfl rfl)
theorem dX7_refuses_4 : decode cX7_refuses 4 = .ok (.bipush (-2), 2) := dk_16 254 (dk_at dksX7_refuses_0 4 rfl rfl)
theorem dX7_refuses_6 : decode cX7_refuses 6 = .ok (.iload_n 1, 1) := dk_27 (dk_at dksX7_refuses_0 6 rfl rfl)
theorem dX7_refuses_7 : decode cX7_refuses 7 = .ok (.isub, 1) := dk_100 (dk_at dksX7_refuses_0 7 rfl rfl)
theorem dX7_refuses_8 : decode cX7_refuses 8 = .ok (.dup2, 1) := dk_92 (dk_at dksX7_refuses_0 8 rfl rfl)
theorem dX7_refuses_9 : decode cX7_refuses 9 = .ok (.iaload, 1) := dk_46 (dk_at dksX7_refuses_0 9 rfl rfl)
theorem dX7_refuses_10 : decode cX7_refuses 10 = .ok (.iconst 1, 1) := dk_4 (dk_at dksX7_refuses_0 10 rfl rfl)
theorem dX7_refuses_11 : decode cX7_refuses 11 = .ok (.iadd, 1) := dk_96 (dk_at dksX7_refuses_0 11 rfl rfl)
theorem dX7_refuses_12 : decode cX7_refuses 12 = .ok (.iastore, 1) := dk_79 (dk_at dksX7_refuses_0 12 rfl rfl)
theorem dX7_refuses_13 : decode cX7_refuses 13 = .ok (.iload_n 1, 1) := dk_27 (dk_at dksX7_refuses_0 13 rfl rfl)
theorem dX7_refuses_14 : decode cX7_refuses 14 = .ok (.ireturn, 1) := dk_172 (dk_at dksX7_refuses_0 14 rfl rfl)
abbrev cX7_keep : ByteArray := prog_20_method_5_code
def yX7_keep : MethodName := ⟨RX7, "keep", "()V"⟩
def dkwX7_keep_4 : List UInt8 := [181, 0, 56, 177]
abbrev dktX7_keep_4 : List UInt8 := dkwX7_keep_4 ++ []
def dkwX7_keep_3 : List UInt8 := [27, 96, 42, 180, 0, 7, 27, 46, 79, 132, 1, 1, 167, 255, 225, 42, 89, 180, 0, 56, 4, 96]
abbrev dktX7_keep_3 : List UInt8 := dkwX7_keep_3 ++ dktX7_keep_4
def dkwX7_keep_2 : List UInt8 := [181, 0, 56, 3, 60, 27, 17, 1, 150, 162, 0, 30, 42, 180, 0, 13, 17, 1, 150, 42, 180, 0, 56, 104]
abbrev dktX7_keep_2 : List UInt8 := dkwX7_keep_2 ++ dktX7_keep_3
def dkwX7_keep_1 : List UInt8 := [180, 0, 13, 27, 17, 1, 150, 96, 46, 79, 132, 1, 1, 167, 255, 230, 42, 89, 180, 0, 56, 4, 100]
abbrev dktX7_keep_1 : List UInt8 := dkwX7_keep_1 ++ dktX7_keep_2
def dkwX7_keep_0 : List UInt8 := [42, 180, 0, 56, 8, 160, 0, 44, 3, 60, 27, 17, 6, 88, 162, 0, 25, 42, 180, 0, 13, 27, 42]
abbrev dktX7_keep_0 : List UInt8 := dkwX7_keep_0 ++ dktX7_keep_1
theorem dksX7_keep_0 : cX7_keep.data.toList.drop 0 = dktX7_keep_0 := by decide +kernel
theorem dksX7_keep_1 : cX7_keep.data.toList.drop 23 = dktX7_keep_1 := dk_seg dksX7_keep_0 23 rfl rfl
theorem dksX7_keep_2 : cX7_keep.data.toList.drop 46 = dktX7_keep_2 := dk_seg dksX7_keep_1 23 rfl rfl
theorem dksX7_keep_3 : cX7_keep.data.toList.drop 70 = dktX7_keep_3 := dk_seg dksX7_keep_2 24 rfl rfl
theorem dksX7_keep_4 : cX7_keep.data.toList.drop 92 = dktX7_keep_4 := dk_seg dksX7_keep_3 22 rfl rfl
theorem dX7_keep_0 : decode cX7_keep 0 = .ok (.aload_n 0, 1) := dk_42 (dk_at dksX7_keep_0 0 rfl rfl)
theorem dX7_keep_1 : decode cX7_keep 1 = .ok (.getfield 56, 3) := dk_180 0 56 (dk_at dksX7_keep_0 1 rfl rfl)
theorem dX7_keep_4 : decode cX7_keep 4 = .ok (.iconst 5, 1) := dk_8 (dk_at dksX7_keep_0 4 rfl rfl)
theorem dX7_keep_5 : decode cX7_keep 5 = .ok (.if_icmp .ne 44, 3) := dk_160 0 44 (dk_at dksX7_keep_0 5 rfl rfl)
theorem dX7_keep_8 : decode cX7_keep 8 = .ok (.iconst 0, 1) := dk_3 (dk_at dksX7_keep_0 8 rfl rfl)
theorem dX7_keep_9 : decode cX7_keep 9 = .ok (.istore_n 1, 1) := dk_60 (dk_at dksX7_keep_0 9 rfl rfl)
theorem dX7_keep_10 : decode cX7_keep 10 = .ok (.iload_n 1, 1) := dk_27 (dk_at dksX7_keep_0 10 rfl rfl)
theorem dX7_keep_11 : decode cX7_keep 11 = .ok (.sipush 1624, 3) := dk_17 6 88 (dk_at dksX7_keep_0 11 rfl rfl)
theorem dX7_keep_14 : decode cX7_keep 14 = .ok (.if_icmp .ge 25, 3) := dk_162 0 25 (dk_at dksX7_keep_0 14 rfl rfl)
theorem dX7_keep_17 : decode cX7_keep 17 = .ok (.aload_n 0, 1) := dk_42 (dk_at dksX7_keep_0 17 rfl rfl)
theorem dX7_keep_18 : decode cX7_keep 18 = .ok (.getfield 13, 3) := dk_180 0 13 (dk_at dksX7_keep_0 18 rfl rfl)
theorem dX7_keep_21 : decode cX7_keep 21 = .ok (.iload_n 1, 1) := dk_27 (dk_at dksX7_keep_0 21 rfl rfl)
theorem dX7_keep_22 : decode cX7_keep 22 = .ok (.aload_n 0, 1) := dk_42 (dk_at dksX7_keep_0 22 rfl rfl)
theorem dX7_keep_23 : decode cX7_keep 23 = .ok (.getfield 13, 3) := dk_180 0 13 (dk_at dksX7_keep_1 0 rfl rfl)
theorem dX7_keep_26 : decode cX7_keep 26 = .ok (.iload_n 1, 1) := dk_27 (dk_at dksX7_keep_1 3 rfl rfl)
theorem dX7_keep_27 : decode cX7_keep 27 = .ok (.sipush 406, 3) := dk_17 1 150 (dk_at dksX7_keep_1 4 rfl rfl)
theorem dX7_keep_30 : decode cX7_keep 30 = .ok (.iadd, 1) := dk_96 (dk_at dksX7_keep_1 7 rfl rfl)
theorem dX7_keep_31 : decode cX7_keep 31 = .ok (.iaload, 1) := dk_46 (dk_at dksX7_keep_1 8 rfl rfl)
theorem dX7_keep_32 : decode cX7_keep 32 = .ok (.iastore, 1) := dk_79 (dk_at dksX7_keep_1 9 rfl rfl)
theorem dX7_keep_33 : decode cX7_keep 33 = .ok (.iinc 1 1, 3) := dk_132 1 1 (dk_at dksX7_keep_1 10 rfl rfl)
theorem dX7_keep_36 : decode cX7_keep 36 = .ok (.goto (-26), 3) := dk_167 255 230 (dk_at dksX7_keep_1 13 rfl rfl)
theorem dX7_keep_39 : decode cX7_keep 39 = .ok (.aload_n 0, 1) := dk_42 (dk_at dksX7_keep_1 16 rfl rfl)
theorem dX7_keep_40 : decode cX7_keep 40 = .ok (.dup, 1) := dk_89 (dk_at dksX7_keep_1 17 rfl rfl)
theorem dX7_keep_41 : decode cX7_keep 41 = .ok (.getfield 56, 3) := dk_180 0 56 (dk_at dksX7_keep_1 18 rfl rfl)
theorem dX7_keep_44 : decode cX7_keep 44 = .ok (.iconst 1, 1) := dk_4 (dk_at dksX7_keep_1 21 rfl rfl)
theorem dX7_keep_45 : decode cX7_keep 45 = .ok (.isub, 1) := dk_100 (dk_at dksX7_keep_1 22 rfl rfl)
theorem dX7_keep_46 : decode cX7_keep 46 = .ok (.putfield 56, 3) := dk_181 0 56 (dk_at dksX7_keep_2 0 rfl rfl)
theorem dX7_keep_49 : decode cX7_keep 49 = .ok (.iconst 0, 1) := dk_3 (dk_at dksX7_keep_2 3 rfl rfl)
theorem dX7_keep_50 : decode cX7_keep 50 = .ok (.istore_n 1, 1) := dk_60 (dk_at dksX7_keep_2 4 rfl rfl)
theorem dX7_keep_51 : decode cX7_keep 51 = .ok (.iload_n 1, 1) := dk_27 (dk_at dksX7_keep_2 5 rfl rfl)
theorem dX7_keep_52 : decode cX7_keep 52 = .ok (.sipush 406, 3) := dk_17 1 150 (dk_at dksX7_keep_2 6 rfl rfl)
theorem dX7_keep_55 : decode cX7_keep 55 = .ok (.if_icmp .ge 30, 3) := dk_162 0 30 (dk_at dksX7_keep_2 9 rfl rfl)
theorem dX7_keep_58 : decode cX7_keep 58 = .ok (.aload_n 0, 1) := dk_42 (dk_at dksX7_keep_2 12 rfl rfl)
theorem dX7_keep_59 : decode cX7_keep 59 = .ok (.getfield 13, 3) := dk_180 0 13 (dk_at dksX7_keep_2 13 rfl rfl)
theorem dX7_keep_62 : decode cX7_keep 62 = .ok (.sipush 406, 3) := dk_17 1 150 (dk_at dksX7_keep_2 16 rfl rfl)
theorem dX7_keep_65 : decode cX7_keep 65 = .ok (.aload_n 0, 1) := dk_42 (dk_at dksX7_keep_2 19 rfl rfl)
theorem dX7_keep_66 : decode cX7_keep 66 = .ok (.getfield 56, 3) := dk_180 0 56 (dk_at dksX7_keep_2 20 rfl rfl)
theorem dX7_keep_69 : decode cX7_keep 69 = .ok (.imul, 1) := dk_104 (dk_at dksX7_keep_2 23 rfl rfl)
theorem dX7_keep_70 : decode cX7_keep 70 = .ok (.iload_n 1, 1) := dk_27 (dk_at dksX7_keep_3 0 rfl rfl)
theorem dX7_keep_71 : decode cX7_keep 71 = .ok (.iadd, 1) := dk_96 (dk_at dksX7_keep_3 1 rfl rfl)
theorem dX7_keep_72 : decode cX7_keep 72 = .ok (.aload_n 0, 1) := dk_42 (dk_at dksX7_keep_3 2 rfl rfl)
theorem dX7_keep_73 : decode cX7_keep 73 = .ok (.getfield 7, 3) := dk_180 0 7 (dk_at dksX7_keep_3 3 rfl rfl)
theorem dX7_keep_76 : decode cX7_keep 76 = .ok (.iload_n 1, 1) := dk_27 (dk_at dksX7_keep_3 6 rfl rfl)
theorem dX7_keep_77 : decode cX7_keep 77 = .ok (.iaload, 1) := dk_46 (dk_at dksX7_keep_3 7 rfl rfl)
theorem dX7_keep_78 : decode cX7_keep 78 = .ok (.iastore, 1) := dk_79 (dk_at dksX7_keep_3 8 rfl rfl)
theorem dX7_keep_79 : decode cX7_keep 79 = .ok (.iinc 1 1, 3) := dk_132 1 1 (dk_at dksX7_keep_3 9 rfl rfl)
theorem dX7_keep_82 : decode cX7_keep 82 = .ok (.goto (-31), 3) := dk_167 255 225 (dk_at dksX7_keep_3 12 rfl rfl)
theorem dX7_keep_85 : decode cX7_keep 85 = .ok (.aload_n 0, 1) := dk_42 (dk_at dksX7_keep_3 15 rfl rfl)
theorem dX7_keep_86 : decode cX7_keep 86 = .ok (.dup, 1) := dk_89 (dk_at dksX7_keep_3 16 rfl rfl)
theorem dX7_keep_87 : decode cX7_keep 87 = .ok (.getfield 56, 3) := dk_180 0 56 (dk_at dksX7_keep_3 17 rfl rfl)
theorem dX7_keep_90 : decode cX7_keep 90 = .ok (.iconst 1, 1) := dk_4 (dk_at dksX7_keep_3 20 rfl rfl)
theorem dX7_keep_91 : decode cX7_keep 91 = .ok (.iadd, 1) := dk_96 (dk_at dksX7_keep_3 21 rfl rfl)
theorem dX7_keep_92 : decode cX7_keep 92 = .ok (.putfield 56, 3) := dk_181 0 56 (dk_at dksX7_keep_4 0 rfl rfl)
theorem dX7_keep_95 : decode cX7_keep 95 = .ok (.return_, 1) := dk_177 (dk_at dksX7_keep_4 3 rfl rfl)
abbrev cX7_worldNow : ByteArray := prog_20_method_14_code
def yX7_worldNow : MethodName := ⟨RX7, "worldNow", "(II)I"⟩
def dkwX7_worldNow_3 : List UInt8 := [79, 132, 7, 1, 167, 255, 204, 132, 6, 1, 167, 255, 189, 42, 180, 0, 7, 3, 28, 79, 29, 172]
abbrev dktX7_worldNow_3 : List UInt8 := dkwX7_worldNow_3 ++ []
def dkwX7_worldNow_2 : List UInt8 := [180, 0, 7, 7, 16, 32, 21, 7, 104, 96, 21, 6, 96, 22, 4, 20, 0, 83, 109, 20, 0, 85, 113, 136]
abbrev dktX7_worldNow_2 : List UInt8 := dkwX7_worldNow_2 ++ dktX7_worldNow_3
def dkwX7_worldNow_1 : List UInt8 := [21, 7, 16, 6, 162, 0, 51, 22, 4, 20, 0, 77, 105, 20, 0, 79, 97, 20, 0, 81, 113, 55, 4, 42]
abbrev dktX7_worldNow_1 : List UInt8 := dkwX7_worldNow_1 ++ dktX7_worldNow_2
def dkwX7_worldNow_0 : List UInt8 := [42, 180, 0, 7, 3, 46, 62, 27, 133, 55, 4, 3, 54, 6, 21, 6, 28, 162, 0, 67, 3, 54, 7]
abbrev dktX7_worldNow_0 : List UInt8 := dkwX7_worldNow_0 ++ dktX7_worldNow_1
theorem dksX7_worldNow_0 : cX7_worldNow.data.toList.drop 0 = dktX7_worldNow_0 := by decide +kernel
theorem dksX7_worldNow_1 : cX7_worldNow.data.toList.drop 23 = dktX7_worldNow_1 := dk_seg dksX7_worldNow_0 23 rfl rfl
theorem dksX7_worldNow_2 : cX7_worldNow.data.toList.drop 47 = dktX7_worldNow_2 := dk_seg dksX7_worldNow_1 24 rfl rfl
theorem dksX7_worldNow_3 : cX7_worldNow.data.toList.drop 71 = dktX7_worldNow_3 := dk_seg dksX7_worldNow_2 24 rfl rfl
theorem dX7_worldNow_0 : decode cX7_worldNow 0 = .ok (.aload_n 0, 1) := dk_42 (dk_at dksX7_worldNow_0 0 rfl rfl)
theorem dX7_worldNow_1 : decode cX7_worldNow 1 = .ok (.getfield 7, 3) := dk_180 0 7 (dk_at dksX7_worldNow_0 1 rfl rfl)
theorem dX7_worldNow_4 : decode cX7_worldNow 4 = .ok (.iconst 0, 1) := dk_3 (dk_at dksX7_worldNow_0 4 rfl rfl)
theorem dX7_worldNow_5 : decode cX7_worldNow 5 = .ok (.iaload, 1) := dk_46 (dk_at dksX7_worldNow_0 5 rfl rfl)
theorem dX7_worldNow_6 : decode cX7_worldNow 6 = .ok (.istore_n 3, 1) := dk_62 (dk_at dksX7_worldNow_0 6 rfl rfl)
theorem dX7_worldNow_7 : decode cX7_worldNow 7 = .ok (.iload_n 1, 1) := dk_27 (dk_at dksX7_worldNow_0 7 rfl rfl)
theorem dX7_worldNow_8 : decode cX7_worldNow 8 = .ok (.i2l, 1) := dk_133 (dk_at dksX7_worldNow_0 8 rfl rfl)
theorem dX7_worldNow_9 : decode cX7_worldNow 9 = .ok (.lstore 4, 2) := dk_55 4 (dk_at dksX7_worldNow_0 9 rfl rfl)
theorem dX7_worldNow_11 : decode cX7_worldNow 11 = .ok (.iconst 0, 1) := dk_3 (dk_at dksX7_worldNow_0 11 rfl rfl)
theorem dX7_worldNow_12 : decode cX7_worldNow 12 = .ok (.istore 6, 2) := dk_54 6 (dk_at dksX7_worldNow_0 12 rfl rfl)
theorem dX7_worldNow_14 : decode cX7_worldNow 14 = .ok (.iload 6, 2) := dk_21 6 (dk_at dksX7_worldNow_0 14 rfl rfl)
theorem dX7_worldNow_16 : decode cX7_worldNow 16 = .ok (.iload_n 2, 1) := dk_28 (dk_at dksX7_worldNow_0 16 rfl rfl)
theorem dX7_worldNow_17 : decode cX7_worldNow 17 = .ok (.if_icmp .ge 67, 3) := dk_162 0 67 (dk_at dksX7_worldNow_0 17 rfl rfl)
theorem dX7_worldNow_20 : decode cX7_worldNow 20 = .ok (.iconst 0, 1) := dk_3 (dk_at dksX7_worldNow_0 20 rfl rfl)
theorem dX7_worldNow_21 : decode cX7_worldNow 21 = .ok (.istore 7, 2) := dk_54 7 (dk_at dksX7_worldNow_0 21 rfl rfl)
theorem dX7_worldNow_23 : decode cX7_worldNow 23 = .ok (.iload 7, 2) := dk_21 7 (dk_at dksX7_worldNow_1 0 rfl rfl)
theorem dX7_worldNow_25 : decode cX7_worldNow 25 = .ok (.bipush 6, 2) := dk_16 6 (dk_at dksX7_worldNow_1 2 rfl rfl)
theorem dX7_worldNow_27 : decode cX7_worldNow 27 = .ok (.if_icmp .ge 51, 3) := dk_162 0 51 (dk_at dksX7_worldNow_1 4 rfl rfl)
theorem dX7_worldNow_30 : decode cX7_worldNow 30 = .ok (.lload 4, 2) := dk_22 4 (dk_at dksX7_worldNow_1 7 rfl rfl)
theorem dX7_worldNow_32 : decode cX7_worldNow 32 = .ok (.ldc2_w 77, 3) := dk_20 0 77 (dk_at dksX7_worldNow_1 9 rfl rfl)
theorem dX7_worldNow_35 : decode cX7_worldNow 35 = .ok (.lmul, 1) := dk_105 (dk_at dksX7_worldNow_1 12 rfl rfl)
theorem dX7_worldNow_36 : decode cX7_worldNow 36 = .ok (.ldc2_w 79, 3) := dk_20 0 79 (dk_at dksX7_worldNow_1 13 rfl rfl)
theorem dX7_worldNow_39 : decode cX7_worldNow 39 = .ok (.ladd, 1) := dk_97 (dk_at dksX7_worldNow_1 16 rfl rfl)
theorem dX7_worldNow_40 : decode cX7_worldNow 40 = .ok (.ldc2_w 81, 3) := dk_20 0 81 (dk_at dksX7_worldNow_1 17 rfl rfl)
theorem dX7_worldNow_43 : decode cX7_worldNow 43 = .ok (.lrem, 1) := dk_113 (dk_at dksX7_worldNow_1 20 rfl rfl)
theorem dX7_worldNow_44 : decode cX7_worldNow 44 = .ok (.lstore 4, 2) := dk_55 4 (dk_at dksX7_worldNow_1 21 rfl rfl)
theorem dX7_worldNow_46 : decode cX7_worldNow 46 = .ok (.aload_n 0, 1) := dk_42 (dk_at dksX7_worldNow_1 23 rfl rfl)
theorem dX7_worldNow_47 : decode cX7_worldNow 47 = .ok (.getfield 7, 3) := dk_180 0 7 (dk_at dksX7_worldNow_2 0 rfl rfl)
theorem dX7_worldNow_50 : decode cX7_worldNow 50 = .ok (.iconst 4, 1) := dk_7 (dk_at dksX7_worldNow_2 3 rfl rfl)
theorem dX7_worldNow_51 : decode cX7_worldNow 51 = .ok (.bipush 32, 2) := dk_16 32 (dk_at dksX7_worldNow_2 4 rfl rfl)
theorem dX7_worldNow_53 : decode cX7_worldNow 53 = .ok (.iload 7, 2) := dk_21 7 (dk_at dksX7_worldNow_2 6 rfl rfl)
theorem dX7_worldNow_55 : decode cX7_worldNow 55 = .ok (.imul, 1) := dk_104 (dk_at dksX7_worldNow_2 8 rfl rfl)
theorem dX7_worldNow_56 : decode cX7_worldNow 56 = .ok (.iadd, 1) := dk_96 (dk_at dksX7_worldNow_2 9 rfl rfl)
theorem dX7_worldNow_57 : decode cX7_worldNow 57 = .ok (.iload 6, 2) := dk_21 6 (dk_at dksX7_worldNow_2 10 rfl rfl)
theorem dX7_worldNow_59 : decode cX7_worldNow 59 = .ok (.iadd, 1) := dk_96 (dk_at dksX7_worldNow_2 12 rfl rfl)
theorem dX7_worldNow_60 : decode cX7_worldNow 60 = .ok (.lload 4, 2) := dk_22 4 (dk_at dksX7_worldNow_2 13 rfl rfl)
theorem dX7_worldNow_62 : decode cX7_worldNow 62 = .ok (.ldc2_w 83, 3) := dk_20 0 83 (dk_at dksX7_worldNow_2 15 rfl rfl)
theorem dX7_worldNow_65 : decode cX7_worldNow 65 = .ok (.ldiv, 1) := dk_109 (dk_at dksX7_worldNow_2 18 rfl rfl)
theorem dX7_worldNow_66 : decode cX7_worldNow 66 = .ok (.ldc2_w 85, 3) := dk_20 0 85 (dk_at dksX7_worldNow_2 19 rfl rfl)
theorem dX7_worldNow_69 : decode cX7_worldNow 69 = .ok (.lrem, 1) := dk_113 (dk_at dksX7_worldNow_2 22 rfl rfl)
theorem dX7_worldNow_70 : decode cX7_worldNow 70 = .ok (.l2i, 1) := dk_136 (dk_at dksX7_worldNow_2 23 rfl rfl)
theorem dX7_worldNow_71 : decode cX7_worldNow 71 = .ok (.iastore, 1) := dk_79 (dk_at dksX7_worldNow_3 0 rfl rfl)
theorem dX7_worldNow_72 : decode cX7_worldNow 72 = .ok (.iinc 7 1, 3) := dk_132 7 1 (dk_at dksX7_worldNow_3 1 rfl rfl)
theorem dX7_worldNow_75 : decode cX7_worldNow 75 = .ok (.goto (-52), 3) := dk_167 255 204 (dk_at dksX7_worldNow_3 4 rfl rfl)
theorem dX7_worldNow_78 : decode cX7_worldNow 78 = .ok (.iinc 6 1, 3) := dk_132 6 1 (dk_at dksX7_worldNow_3 7 rfl rfl)
theorem dX7_worldNow_81 : decode cX7_worldNow 81 = .ok (.goto (-67), 3) := dk_167 255 189 (dk_at dksX7_worldNow_3 10 rfl rfl)
theorem dX7_worldNow_84 : decode cX7_worldNow 84 = .ok (.aload_n 0, 1) := dk_42 (dk_at dksX7_worldNow_3 13 rfl rfl)
theorem dX7_worldNow_85 : decode cX7_worldNow 85 = .ok (.getfield 7, 3) := dk_180 0 7 (dk_at dksX7_worldNow_3 14 rfl rfl)
theorem dX7_worldNow_88 : decode cX7_worldNow 88 = .ok (.iconst 0, 1) := dk_3 (dk_at dksX7_worldNow_3 17 rfl rfl)
theorem dX7_worldNow_89 : decode cX7_worldNow 89 = .ok (.iload_n 2, 1) := dk_28 (dk_at dksX7_worldNow_3 18 rfl rfl)
theorem dX7_worldNow_90 : decode cX7_worldNow 90 = .ok (.iastore, 1) := dk_79 (dk_at dksX7_worldNow_3 19 rfl rfl)
theorem dX7_worldNow_91 : decode cX7_worldNow 91 = .ok (.iload_n 3, 1) := dk_29 (dk_at dksX7_worldNow_3 20 rfl rfl)
theorem dX7_worldNow_92 : decode cX7_worldNow 92 = .ok (.ireturn, 1) := dk_172 (dk_at dksX7_worldNow_3 21 rfl rfl)
abbrev cX7_dots : ByteArray := prog_20_method_18_code
def yX7_dots : MethodName := ⟨RX7, "dots", "(III)I"⟩
def dkwX7_dots_1 : List UInt8 := [182, 0, 91, 172, 42, 182, 0, 95, 42, 7, 16, 32, 27, 104, 96, 28, 96, 29, 182, 0, 109, 172]
abbrev dktX7_dots_1 : List UInt8 := dkwX7_dots_1 ++ []
def dkwX7_dots_0 : List UInt8 := [42, 27, 28, 182, 0, 104, 153, 0, 15, 29, 133, 9, 20, 0, 107, 184, 0, 63, 154, 0, 10, 42, 16, 254]
abbrev dktX7_dots_0 : List UInt8 := dkwX7_dots_0 ++ dktX7_dots_1
theorem dksX7_dots_0 : cX7_dots.data.toList.drop 0 = dktX7_dots_0 := by decide +kernel
theorem dksX7_dots_1 : cX7_dots.data.toList.drop 24 = dktX7_dots_1 := dk_seg dksX7_dots_0 24 rfl rfl
theorem dX7_dots_0 : decode cX7_dots 0 = .ok (.aload_n 0, 1) := dk_42 (dk_at dksX7_dots_0 0 rfl rfl)
theorem dX7_dots_1 : decode cX7_dots 1 = .ok (.iload_n 1, 1) := dk_27 (dk_at dksX7_dots_0 1 rfl rfl)
theorem dX7_dots_2 : decode cX7_dots 2 = .ok (.iload_n 2, 1) := dk_28 (dk_at dksX7_dots_0 2 rfl rfl)
theorem dX7_dots_3 : decode cX7_dots 3 = .ok (.invokevirtual 104, 3) := dk_182 0 104 (dk_at dksX7_dots_0 3 rfl rfl)
theorem dX7_dots_6 : decode cX7_dots 6 = .ok (.ifCond .eq 15, 3) := dk_153 0 15 (dk_at dksX7_dots_0 6 rfl rfl)
theorem dX7_dots_9 : decode cX7_dots 9 = .ok (.iload_n 3, 1) := dk_29 (dk_at dksX7_dots_0 9 rfl rfl)
theorem dX7_dots_10 : decode cX7_dots 10 = .ok (.i2l, 1) := dk_133 (dk_at dksX7_dots_0 10 rfl rfl)
theorem dX7_dots_11 : decode cX7_dots 11 = .ok (.lconst 0, 1) := dk_9 (dk_at dksX7_dots_0 11 rfl rfl)
theorem dX7_dots_12 : decode cX7_dots 12 = .ok (.ldc2_w 107, 3) := dk_20 0 107 (dk_at dksX7_dots_0 12 rfl rfl)
theorem dX7_dots_15 : decode cX7_dots 15 = .ok (.invokestatic 63, 3) := dk_184 0 63 (dk_at dksX7_dots_0 15 rfl rfl)
theorem dX7_dots_18 : decode cX7_dots 18 = .ok (.ifCond .ne 10, 3) := dk_154 0 10 (dk_at dksX7_dots_0 18 rfl rfl)
theorem dX7_dots_21 : decode cX7_dots 21 = .ok (.aload_n 0, 1) := dk_42 (dk_at dksX7_dots_0 21 rfl rfl)
theorem dX7_dots_22 : decode cX7_dots 22 = .ok (.bipush (-2), 2) := dk_16 254 (dk_at dksX7_dots_0 22 rfl rfl)
theorem dX7_dots_24 : decode cX7_dots 24 = .ok (.invokevirtual 91, 3) := dk_182 0 91 (dk_at dksX7_dots_1 0 rfl rfl)
theorem dX7_dots_27 : decode cX7_dots 27 = .ok (.ireturn, 1) := dk_172 (dk_at dksX7_dots_1 3 rfl rfl)
theorem dX7_dots_28 : decode cX7_dots 28 = .ok (.aload_n 0, 1) := dk_42 (dk_at dksX7_dots_1 4 rfl rfl)
theorem dX7_dots_29 : decode cX7_dots 29 = .ok (.invokevirtual 95, 3) := dk_182 0 95 (dk_at dksX7_dots_1 5 rfl rfl)
theorem dX7_dots_32 : decode cX7_dots 32 = .ok (.aload_n 0, 1) := dk_42 (dk_at dksX7_dots_1 8 rfl rfl)
theorem dX7_dots_33 : decode cX7_dots 33 = .ok (.iconst 4, 1) := dk_7 (dk_at dksX7_dots_1 9 rfl rfl)
theorem dX7_dots_34 : decode cX7_dots 34 = .ok (.bipush 32, 2) := dk_16 32 (dk_at dksX7_dots_1 10 rfl rfl)
theorem dX7_dots_36 : decode cX7_dots 36 = .ok (.iload_n 1, 1) := dk_27 (dk_at dksX7_dots_1 12 rfl rfl)
theorem dX7_dots_37 : decode cX7_dots 37 = .ok (.imul, 1) := dk_104 (dk_at dksX7_dots_1 13 rfl rfl)
theorem dX7_dots_38 : decode cX7_dots 38 = .ok (.iadd, 1) := dk_96 (dk_at dksX7_dots_1 14 rfl rfl)
theorem dX7_dots_39 : decode cX7_dots 39 = .ok (.iload_n 2, 1) := dk_28 (dk_at dksX7_dots_1 15 rfl rfl)
theorem dX7_dots_40 : decode cX7_dots 40 = .ok (.iadd, 1) := dk_96 (dk_at dksX7_dots_1 16 rfl rfl)
theorem dX7_dots_41 : decode cX7_dots 41 = .ok (.iload_n 3, 1) := dk_29 (dk_at dksX7_dots_1 17 rfl rfl)
theorem dX7_dots_42 : decode cX7_dots 42 = .ok (.invokevirtual 109, 3) := dk_182 0 109 (dk_at dksX7_dots_1 18 rfl rfl)
theorem dX7_dots_45 : decode cX7_dots 45 = .ok (.ireturn, 1) := dk_172 (dk_at dksX7_dots_1 21 rfl rfl)
abbrev cX7_isDot : ByteArray := prog_20_method_16_code
def yX7_isDot : MethodName := ⟨RX7, "isDot", "(II)Z"⟩
def dkwX7_isDot_1 : List UInt8 := [184, 0, 63, 153, 0, 7, 4, 167, 0, 4, 3, 172]
abbrev dktX7_isDot_1 : List UInt8 := dkwX7_isDot_1 ++ []
def dkwX7_isDot_0 : List UInt8 := [27, 133, 9, 20, 0, 102, 184, 0, 63, 153, 0, 25, 28, 133, 9, 42, 180, 0, 7, 3, 46, 4, 100, 133]
abbrev dktX7_isDot_0 : List UInt8 := dkwX7_isDot_0 ++ dktX7_isDot_1
theorem dksX7_isDot_0 : cX7_isDot.data.toList.drop 0 = dktX7_isDot_0 := by decide +kernel
theorem dksX7_isDot_1 : cX7_isDot.data.toList.drop 24 = dktX7_isDot_1 := dk_seg dksX7_isDot_0 24 rfl rfl
theorem dX7_isDot_0 : decode cX7_isDot 0 = .ok (.iload_n 1, 1) := dk_27 (dk_at dksX7_isDot_0 0 rfl rfl)
theorem dX7_isDot_1 : decode cX7_isDot 1 = .ok (.i2l, 1) := dk_133 (dk_at dksX7_isDot_0 1 rfl rfl)
theorem dX7_isDot_2 : decode cX7_isDot 2 = .ok (.lconst 0, 1) := dk_9 (dk_at dksX7_isDot_0 2 rfl rfl)
theorem dX7_isDot_3 : decode cX7_isDot 3 = .ok (.ldc2_w 102, 3) := dk_20 0 102 (dk_at dksX7_isDot_0 3 rfl rfl)
theorem dX7_isDot_6 : decode cX7_isDot 6 = .ok (.invokestatic 63, 3) := dk_184 0 63 (dk_at dksX7_isDot_0 6 rfl rfl)
theorem dX7_isDot_9 : decode cX7_isDot 9 = .ok (.ifCond .eq 25, 3) := dk_153 0 25 (dk_at dksX7_isDot_0 9 rfl rfl)
theorem dX7_isDot_12 : decode cX7_isDot 12 = .ok (.iload_n 2, 1) := dk_28 (dk_at dksX7_isDot_0 12 rfl rfl)
theorem dX7_isDot_13 : decode cX7_isDot 13 = .ok (.i2l, 1) := dk_133 (dk_at dksX7_isDot_0 13 rfl rfl)
theorem dX7_isDot_14 : decode cX7_isDot 14 = .ok (.lconst 0, 1) := dk_9 (dk_at dksX7_isDot_0 14 rfl rfl)
theorem dX7_isDot_15 : decode cX7_isDot 15 = .ok (.aload_n 0, 1) := dk_42 (dk_at dksX7_isDot_0 15 rfl rfl)
theorem dX7_isDot_16 : decode cX7_isDot 16 = .ok (.getfield 7, 3) := dk_180 0 7 (dk_at dksX7_isDot_0 16 rfl rfl)
theorem dX7_isDot_19 : decode cX7_isDot 19 = .ok (.iconst 0, 1) := dk_3 (dk_at dksX7_isDot_0 19 rfl rfl)
theorem dX7_isDot_20 : decode cX7_isDot 20 = .ok (.iaload, 1) := dk_46 (dk_at dksX7_isDot_0 20 rfl rfl)
theorem dX7_isDot_21 : decode cX7_isDot 21 = .ok (.iconst 1, 1) := dk_4 (dk_at dksX7_isDot_0 21 rfl rfl)
theorem dX7_isDot_22 : decode cX7_isDot 22 = .ok (.isub, 1) := dk_100 (dk_at dksX7_isDot_0 22 rfl rfl)
theorem dX7_isDot_23 : decode cX7_isDot 23 = .ok (.i2l, 1) := dk_133 (dk_at dksX7_isDot_0 23 rfl rfl)
theorem dX7_isDot_24 : decode cX7_isDot 24 = .ok (.invokestatic 63, 3) := dk_184 0 63 (dk_at dksX7_isDot_1 0 rfl rfl)
theorem dX7_isDot_27 : decode cX7_isDot 27 = .ok (.ifCond .eq 7, 3) := dk_153 0 7 (dk_at dksX7_isDot_1 3 rfl rfl)
theorem dX7_isDot_30 : decode cX7_isDot 30 = .ok (.iconst 1, 1) := dk_4 (dk_at dksX7_isDot_1 6 rfl rfl)
theorem dX7_isDot_31 : decode cX7_isDot 31 = .ok (.goto 4, 3) := dk_167 0 4 (dk_at dksX7_isDot_1 7 rfl rfl)
theorem dX7_isDot_34 : decode cX7_isDot 34 = .ok (.iconst 0, 1) := dk_3 (dk_at dksX7_isDot_1 10 rfl rfl)
theorem dX7_isDot_35 : decode cX7_isDot 35 = .ok (.ireturn, 1) := dk_172 (dk_at dksX7_isDot_1 11 rfl rfl)
abbrev cX7_cellNow : ByteArray := prog_20_method_17_code
def yX7_cellNow : MethodName := ⟨RX7, "cellNow", "(II)I"⟩
def dkwX7_cellNow_0 : List UInt8 := [42, 180, 0, 7, 27, 46, 62, 42, 180, 0, 7, 27, 28, 79, 29, 172]
abbrev dktX7_cellNow_0 : List UInt8 := dkwX7_cellNow_0 ++ []
theorem dksX7_cellNow_0 : cX7_cellNow.data.toList.drop 0 = dktX7_cellNow_0 := by decide +kernel
theorem dX7_cellNow_0 : decode cX7_cellNow 0 = .ok (.aload_n 0, 1) := dk_42 (dk_at dksX7_cellNow_0 0 rfl rfl)
theorem dX7_cellNow_1 : decode cX7_cellNow 1 = .ok (.getfield 7, 3) := dk_180 0 7 (dk_at dksX7_cellNow_0 1 rfl rfl)
theorem dX7_cellNow_4 : decode cX7_cellNow 4 = .ok (.iload_n 1, 1) := dk_27 (dk_at dksX7_cellNow_0 4 rfl rfl)
theorem dX7_cellNow_5 : decode cX7_cellNow 5 = .ok (.iaload, 1) := dk_46 (dk_at dksX7_cellNow_0 5 rfl rfl)
theorem dX7_cellNow_6 : decode cX7_cellNow 6 = .ok (.istore_n 3, 1) := dk_62 (dk_at dksX7_cellNow_0 6 rfl rfl)
theorem dX7_cellNow_7 : decode cX7_cellNow 7 = .ok (.aload_n 0, 1) := dk_42 (dk_at dksX7_cellNow_0 7 rfl rfl)
theorem dX7_cellNow_8 : decode cX7_cellNow 8 = .ok (.getfield 7, 3) := dk_180 0 7 (dk_at dksX7_cellNow_0 8 rfl rfl)
theorem dX7_cellNow_11 : decode cX7_cellNow 11 = .ok (.iload_n 1, 1) := dk_27 (dk_at dksX7_cellNow_0 11 rfl rfl)
theorem dX7_cellNow_12 : decode cX7_cellNow 12 = .ok (.iload_n 2, 1) := dk_28 (dk_at dksX7_cellNow_0 12 rfl rfl)
theorem dX7_cellNow_13 : decode cX7_cellNow 13 = .ok (.iastore, 1) := dk_79 (dk_at dksX7_cellNow_0 13 rfl rfl)
theorem dX7_cellNow_14 : decode cX7_cellNow 14 = .ok (.iload_n 3, 1) := dk_29 (dk_at dksX7_cellNow_0 14 rfl rfl)
theorem dX7_cellNow_15 : decode cX7_cellNow 15 = .ok (.ireturn, 1) := dk_172 (dk_at dksX7_cellNow_0 15 rfl rfl)
abbrev cX7_shot : ByteArray := prog_20_method_21_code
def yX7_shot : MethodName := ⟨RX7, "shot", "(III)I"⟩
def dkwX7_shot_1 : List UInt8 := [182, 0, 95, 42, 27, 28, 29, 182, 0, 125, 172]
abbrev dktX7_shot_1 : List UInt8 := dkwX7_shot_1 ++ []
def dkwX7_shot_0 : List UInt8 := [42, 27, 28, 29, 182, 0, 121, 54, 4, 21, 4, 156, 0, 10, 42, 21, 4, 182, 0, 91, 172, 42]
abbrev dktX7_shot_0 : List UInt8 := dkwX7_shot_0 ++ dktX7_shot_1
theorem dksX7_shot_0 : cX7_shot.data.toList.drop 0 = dktX7_shot_0 := by decide +kernel
theorem dksX7_shot_1 : cX7_shot.data.toList.drop 22 = dktX7_shot_1 := dk_seg dksX7_shot_0 22 rfl rfl
theorem dX7_shot_0 : decode cX7_shot 0 = .ok (.aload_n 0, 1) := dk_42 (dk_at dksX7_shot_0 0 rfl rfl)
theorem dX7_shot_1 : decode cX7_shot 1 = .ok (.iload_n 1, 1) := dk_27 (dk_at dksX7_shot_0 1 rfl rfl)
theorem dX7_shot_2 : decode cX7_shot 2 = .ok (.iload_n 2, 1) := dk_28 (dk_at dksX7_shot_0 2 rfl rfl)
theorem dX7_shot_3 : decode cX7_shot 3 = .ok (.iload_n 3, 1) := dk_29 (dk_at dksX7_shot_0 3 rfl rfl)
theorem dX7_shot_4 : decode cX7_shot 4 = .ok (.invokevirtual 121, 3) := dk_182 0 121 (dk_at dksX7_shot_0 4 rfl rfl)
theorem dX7_shot_7 : decode cX7_shot 7 = .ok (.istore 4, 2) := dk_54 4 (dk_at dksX7_shot_0 7 rfl rfl)
theorem dX7_shot_9 : decode cX7_shot 9 = .ok (.iload 4, 2) := dk_21 4 (dk_at dksX7_shot_0 9 rfl rfl)
theorem dX7_shot_11 : decode cX7_shot 11 = .ok (.ifCond .ge 10, 3) := dk_156 0 10 (dk_at dksX7_shot_0 11 rfl rfl)
theorem dX7_shot_14 : decode cX7_shot 14 = .ok (.aload_n 0, 1) := dk_42 (dk_at dksX7_shot_0 14 rfl rfl)
theorem dX7_shot_15 : decode cX7_shot 15 = .ok (.iload 4, 2) := dk_21 4 (dk_at dksX7_shot_0 15 rfl rfl)
theorem dX7_shot_17 : decode cX7_shot 17 = .ok (.invokevirtual 91, 3) := dk_182 0 91 (dk_at dksX7_shot_0 17 rfl rfl)
theorem dX7_shot_20 : decode cX7_shot 20 = .ok (.ireturn, 1) := dk_172 (dk_at dksX7_shot_0 20 rfl rfl)
theorem dX7_shot_21 : decode cX7_shot 21 = .ok (.aload_n 0, 1) := dk_42 (dk_at dksX7_shot_0 21 rfl rfl)
theorem dX7_shot_22 : decode cX7_shot 22 = .ok (.invokevirtual 95, 3) := dk_182 0 95 (dk_at dksX7_shot_1 0 rfl rfl)
theorem dX7_shot_25 : decode cX7_shot 25 = .ok (.aload_n 0, 1) := dk_42 (dk_at dksX7_shot_1 3 rfl rfl)
theorem dX7_shot_26 : decode cX7_shot 26 = .ok (.iload_n 1, 1) := dk_27 (dk_at dksX7_shot_1 4 rfl rfl)
theorem dX7_shot_27 : decode cX7_shot 27 = .ok (.iload_n 2, 1) := dk_28 (dk_at dksX7_shot_1 5 rfl rfl)
theorem dX7_shot_28 : decode cX7_shot 28 = .ok (.iload_n 3, 1) := dk_29 (dk_at dksX7_shot_1 6 rfl rfl)
theorem dX7_shot_29 : decode cX7_shot 29 = .ok (.invokevirtual 125, 3) := dk_182 0 125 (dk_at dksX7_shot_1 7 rfl rfl)
theorem dX7_shot_32 : decode cX7_shot 32 = .ok (.ireturn, 1) := dk_172 (dk_at dksX7_shot_1 10 rfl rfl)
abbrev cX7_canShoot : ByteArray := prog_20_method_19_code
def yX7_canShoot : MethodName := ⟨RX7, "canShoot", "(III)I"⟩
def dkwX7_canShoot_2 : List UInt8 := [167, 0, 18, 42, 182, 0, 59, 16, 6, 160, 0, 8, 16, 252, 167, 0, 4, 3, 172]
abbrev dktX7_canShoot_2 : List UInt8 := dkwX7_canShoot_2 ++ []
def dkwX7_canShoot_1 : List UInt8 := [184, 0, 63, 153, 0, 17, 29, 133, 20, 0, 114, 20, 0, 116, 184, 0, 63, 154, 0, 8, 16, 254]
abbrev dktX7_canShoot_1 : List UInt8 := dkwX7_canShoot_1 ++ dktX7_canShoot_2
def dkwX7_canShoot_0 : List UInt8 := [27, 133, 9, 42, 180, 0, 7, 3, 46, 4, 100, 133, 184, 0, 63, 153, 0, 29, 28, 133, 9, 20, 0, 112]
abbrev dktX7_canShoot_0 : List UInt8 := dkwX7_canShoot_0 ++ dktX7_canShoot_1
theorem dksX7_canShoot_0 : cX7_canShoot.data.toList.drop 0 = dktX7_canShoot_0 := by decide +kernel
theorem dksX7_canShoot_1 : cX7_canShoot.data.toList.drop 24 = dktX7_canShoot_1 := dk_seg dksX7_canShoot_0 24 rfl rfl
theorem dksX7_canShoot_2 : cX7_canShoot.data.toList.drop 46 = dktX7_canShoot_2 := dk_seg dksX7_canShoot_1 22 rfl rfl
theorem dX7_canShoot_0 : decode cX7_canShoot 0 = .ok (.iload_n 1, 1) := dk_27 (dk_at dksX7_canShoot_0 0 rfl rfl)
theorem dX7_canShoot_1 : decode cX7_canShoot 1 = .ok (.i2l, 1) := dk_133 (dk_at dksX7_canShoot_0 1 rfl rfl)
theorem dX7_canShoot_2 : decode cX7_canShoot 2 = .ok (.lconst 0, 1) := dk_9 (dk_at dksX7_canShoot_0 2 rfl rfl)
theorem dX7_canShoot_3 : decode cX7_canShoot 3 = .ok (.aload_n 0, 1) := dk_42 (dk_at dksX7_canShoot_0 3 rfl rfl)
theorem dX7_canShoot_4 : decode cX7_canShoot 4 = .ok (.getfield 7, 3) := dk_180 0 7 (dk_at dksX7_canShoot_0 4 rfl rfl)
theorem dX7_canShoot_7 : decode cX7_canShoot 7 = .ok (.iconst 0, 1) := dk_3 (dk_at dksX7_canShoot_0 7 rfl rfl)
theorem dX7_canShoot_8 : decode cX7_canShoot 8 = .ok (.iaload, 1) := dk_46 (dk_at dksX7_canShoot_0 8 rfl rfl)
theorem dX7_canShoot_9 : decode cX7_canShoot 9 = .ok (.iconst 1, 1) := dk_4 (dk_at dksX7_canShoot_0 9 rfl rfl)
theorem dX7_canShoot_10 : decode cX7_canShoot 10 = .ok (.isub, 1) := dk_100 (dk_at dksX7_canShoot_0 10 rfl rfl)
theorem dX7_canShoot_11 : decode cX7_canShoot 11 = .ok (.i2l, 1) := dk_133 (dk_at dksX7_canShoot_0 11 rfl rfl)
theorem dX7_canShoot_12 : decode cX7_canShoot 12 = .ok (.invokestatic 63, 3) := dk_184 0 63 (dk_at dksX7_canShoot_0 12 rfl rfl)
theorem dX7_canShoot_15 : decode cX7_canShoot 15 = .ok (.ifCond .eq 29, 3) := dk_153 0 29 (dk_at dksX7_canShoot_0 15 rfl rfl)
theorem dX7_canShoot_18 : decode cX7_canShoot 18 = .ok (.iload_n 2, 1) := dk_28 (dk_at dksX7_canShoot_0 18 rfl rfl)
theorem dX7_canShoot_19 : decode cX7_canShoot 19 = .ok (.i2l, 1) := dk_133 (dk_at dksX7_canShoot_0 19 rfl rfl)
theorem dX7_canShoot_20 : decode cX7_canShoot 20 = .ok (.lconst 0, 1) := dk_9 (dk_at dksX7_canShoot_0 20 rfl rfl)
theorem dX7_canShoot_21 : decode cX7_canShoot 21 = .ok (.ldc2_w 112, 3) := dk_20 0 112 (dk_at dksX7_canShoot_0 21 rfl rfl)
theorem dX7_canShoot_24 : decode cX7_canShoot 24 = .ok (.invokestatic 63, 3) := dk_184 0 63 (dk_at dksX7_canShoot_1 0 rfl rfl)
theorem dX7_canShoot_27 : decode cX7_canShoot 27 = .ok (.ifCond .eq 17, 3) := dk_153 0 17 (dk_at dksX7_canShoot_1 3 rfl rfl)
theorem dX7_canShoot_30 : decode cX7_canShoot 30 = .ok (.iload_n 3, 1) := dk_29 (dk_at dksX7_canShoot_1 6 rfl rfl)
theorem dX7_canShoot_31 : decode cX7_canShoot 31 = .ok (.i2l, 1) := dk_133 (dk_at dksX7_canShoot_1 7 rfl rfl)
theorem dX7_canShoot_32 : decode cX7_canShoot 32 = .ok (.ldc2_w 114, 3) := dk_20 0 114 (dk_at dksX7_canShoot_1 8 rfl rfl)
theorem dX7_canShoot_35 : decode cX7_canShoot 35 = .ok (.ldc2_w 116, 3) := dk_20 0 116 (dk_at dksX7_canShoot_1 11 rfl rfl)
theorem dX7_canShoot_38 : decode cX7_canShoot 38 = .ok (.invokestatic 63, 3) := dk_184 0 63 (dk_at dksX7_canShoot_1 14 rfl rfl)
theorem dX7_canShoot_41 : decode cX7_canShoot 41 = .ok (.ifCond .ne 8, 3) := dk_154 0 8 (dk_at dksX7_canShoot_1 17 rfl rfl)
theorem dX7_canShoot_44 : decode cX7_canShoot 44 = .ok (.bipush (-2), 2) := dk_16 254 (dk_at dksX7_canShoot_1 20 rfl rfl)
theorem dX7_canShoot_46 : decode cX7_canShoot 46 = .ok (.goto 18, 3) := dk_167 0 18 (dk_at dksX7_canShoot_2 0 rfl rfl)
theorem dX7_canShoot_49 : decode cX7_canShoot 49 = .ok (.aload_n 0, 1) := dk_42 (dk_at dksX7_canShoot_2 3 rfl rfl)
theorem dX7_canShoot_50 : decode cX7_canShoot 50 = .ok (.invokevirtual 59, 3) := dk_182 0 59 (dk_at dksX7_canShoot_2 4 rfl rfl)
theorem dX7_canShoot_53 : decode cX7_canShoot 53 = .ok (.bipush 6, 2) := dk_16 6 (dk_at dksX7_canShoot_2 7 rfl rfl)
theorem dX7_canShoot_55 : decode cX7_canShoot 55 = .ok (.if_icmp .ne 8, 3) := dk_160 0 8 (dk_at dksX7_canShoot_2 9 rfl rfl)
theorem dX7_canShoot_58 : decode cX7_canShoot 58 = .ok (.bipush (-4), 2) := dk_16 252 (dk_at dksX7_canShoot_2 12 rfl rfl)
theorem dX7_canShoot_60 : decode cX7_canShoot 60 = .ok (.goto 4, 3) := dk_167 0 4 (dk_at dksX7_canShoot_2 14 rfl rfl)
theorem dX7_canShoot_63 : decode cX7_canShoot 63 = .ok (.iconst 0, 1) := dk_3 (dk_at dksX7_canShoot_2 17 rfl rfl)
theorem dX7_canShoot_64 : decode cX7_canShoot 64 = .ok (.ireturn, 1) := dk_172 (dk_at dksX7_canShoot_2 18 rfl rfl)
abbrev cX7_many : ByteArray := prog_20_method_8_code
def yX7_many : MethodName := ⟨RX7, "many", "()I"⟩
def dkwX7_many_0 : List UInt8 := [42, 180, 0, 7, 6, 46, 172]
abbrev dktX7_many_0 : List UInt8 := dkwX7_many_0 ++ []
theorem dksX7_many_0 : cX7_many.data.toList.drop 0 = dktX7_many_0 := by decide +kernel
theorem dX7_many_0 : decode cX7_many 0 = .ok (.aload_n 0, 1) := dk_42 (dk_at dksX7_many_0 0 rfl rfl)
theorem dX7_many_1 : decode cX7_many 1 = .ok (.getfield 7, 3) := dk_180 0 7 (dk_at dksX7_many_0 1 rfl rfl)
theorem dX7_many_4 : decode cX7_many 4 = .ok (.iconst 3, 1) := dk_6 (dk_at dksX7_many_0 4 rfl rfl)
theorem dX7_many_5 : decode cX7_many 5 = .ok (.iaload, 1) := dk_46 (dk_at dksX7_many_0 5 rfl rfl)
theorem dX7_many_6 : decode cX7_many 6 = .ok (.ireturn, 1) := dk_172 (dk_at dksX7_many_0 6 rfl rfl)
abbrev cX7_shotNow : ByteArray := prog_20_method_20_code
def yX7_shotNow : MethodName := ⟨RX7, "shotNow", "(III)I"⟩
def dkwX7_shotNow_7 : List UInt8 := [21, 4, 172]
abbrev dktX7_shotNow_7 : List UInt8 := dkwX7_shotNow_7 ++ []
def dkwX7_shotNow_6 : List UInt8 := [104, 96, 16, 32, 96, 5, 96, 42, 180, 0, 7, 3, 46, 79, 42, 180, 0, 7, 6, 92, 46, 4, 96, 79]
abbrev dktX7_shotNow_6 : List UInt8 := dkwX7_shotNow_6 ++ dktX7_shotNow_7
def dkwX7_shotNow_5 : List UInt8 := [16, 35, 21, 4, 104, 96, 16, 32, 96, 4, 96, 28, 79, 42, 180, 0, 7, 17, 0, 196, 16, 35, 21, 4]
abbrev dktX7_shotNow_5 : List UInt8 := dkwX7_shotNow_5 ++ dktX7_shotNow_6
def dkwX7_shotNow_4 : List UInt8 := [180, 0, 7, 17, 0, 196, 16, 35, 21, 4, 104, 96, 16, 32, 96, 27, 79, 42, 180, 0, 7, 17, 0, 196]
abbrev dktX7_shotNow_4 : List UInt8 := dkwX7_shotNow_4 ++ dktX7_shotNow_5
def dkwX7_shotNow_3 : List UInt8 := [112, 96, 46, 29, 96, 184, 0, 118, 79, 132, 6, 1, 167, 255, 192, 132, 5, 1, 167, 255, 177, 42]
abbrev dktX7_shotNow_3 : List UInt8 := dkwX7_shotNow_3 ++ dktX7_shotNow_4
def dkwX7_shotNow_2 : List UInt8 := [96, 42, 180, 0, 7, 7, 16, 32, 28, 21, 5, 96, 104, 96, 27, 21, 6, 96, 42, 180, 0, 7, 3, 46]
abbrev dktX7_shotNow_2 : List UInt8 := dkwX7_shotNow_2 ++ dktX7_shotNow_3
def dkwX7_shotNow_1 : List UInt8 := [162, 0, 63, 42, 180, 0, 7, 17, 0, 196, 16, 35, 21, 4, 104, 96, 16, 8, 21, 5, 104, 96, 21, 6]
abbrev dktX7_shotNow_1 : List UInt8 := dkwX7_shotNow_1 ++ dktX7_shotNow_2
def dkwX7_shotNow_0 : List UInt8 := [42, 182, 0, 59, 54, 4, 3, 54, 5, 21, 5, 7, 162, 0, 79, 3, 54, 6, 21, 6, 16, 8]
abbrev dktX7_shotNow_0 : List UInt8 := dkwX7_shotNow_0 ++ dktX7_shotNow_1
theorem dksX7_shotNow_0 : cX7_shotNow.data.toList.drop 0 = dktX7_shotNow_0 := by decide +kernel
theorem dksX7_shotNow_1 : cX7_shotNow.data.toList.drop 22 = dktX7_shotNow_1 := dk_seg dksX7_shotNow_0 22 rfl rfl
theorem dksX7_shotNow_2 : cX7_shotNow.data.toList.drop 46 = dktX7_shotNow_2 := dk_seg dksX7_shotNow_1 24 rfl rfl
theorem dksX7_shotNow_3 : cX7_shotNow.data.toList.drop 70 = dktX7_shotNow_3 := dk_seg dksX7_shotNow_2 24 rfl rfl
theorem dksX7_shotNow_4 : cX7_shotNow.data.toList.drop 92 = dktX7_shotNow_4 := dk_seg dksX7_shotNow_3 22 rfl rfl
theorem dksX7_shotNow_5 : cX7_shotNow.data.toList.drop 116 = dktX7_shotNow_5 := dk_seg dksX7_shotNow_4 24 rfl rfl
theorem dksX7_shotNow_6 : cX7_shotNow.data.toList.drop 140 = dktX7_shotNow_6 := dk_seg dksX7_shotNow_5 24 rfl rfl
theorem dksX7_shotNow_7 : cX7_shotNow.data.toList.drop 164 = dktX7_shotNow_7 := dk_seg dksX7_shotNow_6 24 rfl rfl
theorem dX7_shotNow_0 : decode cX7_shotNow 0 = .ok (.aload_n 0, 1) := dk_42 (dk_at dksX7_shotNow_0 0 rfl rfl)
theorem dX7_shotNow_1 : decode cX7_shotNow 1 = .ok (.invokevirtual 59, 3) := dk_182 0 59 (dk_at dksX7_shotNow_0 1 rfl rfl)
theorem dX7_shotNow_4 : decode cX7_shotNow 4 = .ok (.istore 4, 2) := dk_54 4 (dk_at dksX7_shotNow_0 4 rfl rfl)
theorem dX7_shotNow_6 : decode cX7_shotNow 6 = .ok (.iconst 0, 1) := dk_3 (dk_at dksX7_shotNow_0 6 rfl rfl)
theorem dX7_shotNow_7 : decode cX7_shotNow 7 = .ok (.istore 5, 2) := dk_54 5 (dk_at dksX7_shotNow_0 7 rfl rfl)
theorem dX7_shotNow_9 : decode cX7_shotNow 9 = .ok (.iload 5, 2) := dk_21 5 (dk_at dksX7_shotNow_0 9 rfl rfl)
theorem dX7_shotNow_11 : decode cX7_shotNow 11 = .ok (.iconst 4, 1) := dk_7 (dk_at dksX7_shotNow_0 11 rfl rfl)
theorem dX7_shotNow_12 : decode cX7_shotNow 12 = .ok (.if_icmp .ge 79, 3) := dk_162 0 79 (dk_at dksX7_shotNow_0 12 rfl rfl)
theorem dX7_shotNow_15 : decode cX7_shotNow 15 = .ok (.iconst 0, 1) := dk_3 (dk_at dksX7_shotNow_0 15 rfl rfl)
theorem dX7_shotNow_16 : decode cX7_shotNow 16 = .ok (.istore 6, 2) := dk_54 6 (dk_at dksX7_shotNow_0 16 rfl rfl)
theorem dX7_shotNow_18 : decode cX7_shotNow 18 = .ok (.iload 6, 2) := dk_21 6 (dk_at dksX7_shotNow_0 18 rfl rfl)
theorem dX7_shotNow_20 : decode cX7_shotNow 20 = .ok (.bipush 8, 2) := dk_16 8 (dk_at dksX7_shotNow_0 20 rfl rfl)
theorem dX7_shotNow_22 : decode cX7_shotNow 22 = .ok (.if_icmp .ge 63, 3) := dk_162 0 63 (dk_at dksX7_shotNow_1 0 rfl rfl)
theorem dX7_shotNow_25 : decode cX7_shotNow 25 = .ok (.aload_n 0, 1) := dk_42 (dk_at dksX7_shotNow_1 3 rfl rfl)
theorem dX7_shotNow_26 : decode cX7_shotNow 26 = .ok (.getfield 7, 3) := dk_180 0 7 (dk_at dksX7_shotNow_1 4 rfl rfl)
theorem dX7_shotNow_29 : decode cX7_shotNow 29 = .ok (.sipush 196, 3) := dk_17 0 196 (dk_at dksX7_shotNow_1 7 rfl rfl)
theorem dX7_shotNow_32 : decode cX7_shotNow 32 = .ok (.bipush 35, 2) := dk_16 35 (dk_at dksX7_shotNow_1 10 rfl rfl)
theorem dX7_shotNow_34 : decode cX7_shotNow 34 = .ok (.iload 4, 2) := dk_21 4 (dk_at dksX7_shotNow_1 12 rfl rfl)
theorem dX7_shotNow_36 : decode cX7_shotNow 36 = .ok (.imul, 1) := dk_104 (dk_at dksX7_shotNow_1 14 rfl rfl)
theorem dX7_shotNow_37 : decode cX7_shotNow 37 = .ok (.iadd, 1) := dk_96 (dk_at dksX7_shotNow_1 15 rfl rfl)
theorem dX7_shotNow_38 : decode cX7_shotNow 38 = .ok (.bipush 8, 2) := dk_16 8 (dk_at dksX7_shotNow_1 16 rfl rfl)
theorem dX7_shotNow_40 : decode cX7_shotNow 40 = .ok (.iload 5, 2) := dk_21 5 (dk_at dksX7_shotNow_1 18 rfl rfl)
theorem dX7_shotNow_42 : decode cX7_shotNow 42 = .ok (.imul, 1) := dk_104 (dk_at dksX7_shotNow_1 20 rfl rfl)
theorem dX7_shotNow_43 : decode cX7_shotNow 43 = .ok (.iadd, 1) := dk_96 (dk_at dksX7_shotNow_1 21 rfl rfl)
theorem dX7_shotNow_44 : decode cX7_shotNow 44 = .ok (.iload 6, 2) := dk_21 6 (dk_at dksX7_shotNow_1 22 rfl rfl)
theorem dX7_shotNow_46 : decode cX7_shotNow 46 = .ok (.iadd, 1) := dk_96 (dk_at dksX7_shotNow_2 0 rfl rfl)
theorem dX7_shotNow_47 : decode cX7_shotNow 47 = .ok (.aload_n 0, 1) := dk_42 (dk_at dksX7_shotNow_2 1 rfl rfl)
theorem dX7_shotNow_48 : decode cX7_shotNow 48 = .ok (.getfield 7, 3) := dk_180 0 7 (dk_at dksX7_shotNow_2 2 rfl rfl)
theorem dX7_shotNow_51 : decode cX7_shotNow 51 = .ok (.iconst 4, 1) := dk_7 (dk_at dksX7_shotNow_2 5 rfl rfl)
theorem dX7_shotNow_52 : decode cX7_shotNow 52 = .ok (.bipush 32, 2) := dk_16 32 (dk_at dksX7_shotNow_2 6 rfl rfl)
theorem dX7_shotNow_54 : decode cX7_shotNow 54 = .ok (.iload_n 2, 1) := dk_28 (dk_at dksX7_shotNow_2 8 rfl rfl)
theorem dX7_shotNow_55 : decode cX7_shotNow 55 = .ok (.iload 5, 2) := dk_21 5 (dk_at dksX7_shotNow_2 9 rfl rfl)
theorem dX7_shotNow_57 : decode cX7_shotNow 57 = .ok (.iadd, 1) := dk_96 (dk_at dksX7_shotNow_2 11 rfl rfl)
theorem dX7_shotNow_58 : decode cX7_shotNow 58 = .ok (.imul, 1) := dk_104 (dk_at dksX7_shotNow_2 12 rfl rfl)
theorem dX7_shotNow_59 : decode cX7_shotNow 59 = .ok (.iadd, 1) := dk_96 (dk_at dksX7_shotNow_2 13 rfl rfl)
theorem dX7_shotNow_60 : decode cX7_shotNow 60 = .ok (.iload_n 1, 1) := dk_27 (dk_at dksX7_shotNow_2 14 rfl rfl)
theorem dX7_shotNow_61 : decode cX7_shotNow 61 = .ok (.iload 6, 2) := dk_21 6 (dk_at dksX7_shotNow_2 15 rfl rfl)
theorem dX7_shotNow_63 : decode cX7_shotNow 63 = .ok (.iadd, 1) := dk_96 (dk_at dksX7_shotNow_2 17 rfl rfl)
theorem dX7_shotNow_64 : decode cX7_shotNow 64 = .ok (.aload_n 0, 1) := dk_42 (dk_at dksX7_shotNow_2 18 rfl rfl)
theorem dX7_shotNow_65 : decode cX7_shotNow 65 = .ok (.getfield 7, 3) := dk_180 0 7 (dk_at dksX7_shotNow_2 19 rfl rfl)
theorem dX7_shotNow_68 : decode cX7_shotNow 68 = .ok (.iconst 0, 1) := dk_3 (dk_at dksX7_shotNow_2 22 rfl rfl)
theorem dX7_shotNow_69 : decode cX7_shotNow 69 = .ok (.iaload, 1) := dk_46 (dk_at dksX7_shotNow_2 23 rfl rfl)
theorem dX7_shotNow_70 : decode cX7_shotNow 70 = .ok (.irem, 1) := dk_112 (dk_at dksX7_shotNow_3 0 rfl rfl)
theorem dX7_shotNow_71 : decode cX7_shotNow 71 = .ok (.iadd, 1) := dk_96 (dk_at dksX7_shotNow_3 1 rfl rfl)
theorem dX7_shotNow_72 : decode cX7_shotNow 72 = .ok (.iaload, 1) := dk_46 (dk_at dksX7_shotNow_3 2 rfl rfl)
theorem dX7_shotNow_73 : decode cX7_shotNow 73 = .ok (.iload_n 3, 1) := dk_29 (dk_at dksX7_shotNow_3 3 rfl rfl)
theorem dX7_shotNow_74 : decode cX7_shotNow 74 = .ok (.iadd, 1) := dk_96 (dk_at dksX7_shotNow_3 4 rfl rfl)
theorem dX7_shotNow_75 : decode cX7_shotNow 75 = .ok (.invokestatic 118, 3) := dk_184 0 118 (dk_at dksX7_shotNow_3 5 rfl rfl)
theorem dX7_shotNow_78 : decode cX7_shotNow 78 = .ok (.iastore, 1) := dk_79 (dk_at dksX7_shotNow_3 8 rfl rfl)
theorem dX7_shotNow_79 : decode cX7_shotNow 79 = .ok (.iinc 6 1, 3) := dk_132 6 1 (dk_at dksX7_shotNow_3 9 rfl rfl)
theorem dX7_shotNow_82 : decode cX7_shotNow 82 = .ok (.goto (-64), 3) := dk_167 255 192 (dk_at dksX7_shotNow_3 12 rfl rfl)
theorem dX7_shotNow_85 : decode cX7_shotNow 85 = .ok (.iinc 5 1, 3) := dk_132 5 1 (dk_at dksX7_shotNow_3 15 rfl rfl)
theorem dX7_shotNow_88 : decode cX7_shotNow 88 = .ok (.goto (-79), 3) := dk_167 255 177 (dk_at dksX7_shotNow_3 18 rfl rfl)
theorem dX7_shotNow_91 : decode cX7_shotNow 91 = .ok (.aload_n 0, 1) := dk_42 (dk_at dksX7_shotNow_3 21 rfl rfl)
theorem dX7_shotNow_92 : decode cX7_shotNow 92 = .ok (.getfield 7, 3) := dk_180 0 7 (dk_at dksX7_shotNow_4 0 rfl rfl)
theorem dX7_shotNow_95 : decode cX7_shotNow 95 = .ok (.sipush 196, 3) := dk_17 0 196 (dk_at dksX7_shotNow_4 3 rfl rfl)
theorem dX7_shotNow_98 : decode cX7_shotNow 98 = .ok (.bipush 35, 2) := dk_16 35 (dk_at dksX7_shotNow_4 6 rfl rfl)
theorem dX7_shotNow_100 : decode cX7_shotNow 100 = .ok (.iload 4, 2) := dk_21 4 (dk_at dksX7_shotNow_4 8 rfl rfl)
theorem dX7_shotNow_102 : decode cX7_shotNow 102 = .ok (.imul, 1) := dk_104 (dk_at dksX7_shotNow_4 10 rfl rfl)
theorem dX7_shotNow_103 : decode cX7_shotNow 103 = .ok (.iadd, 1) := dk_96 (dk_at dksX7_shotNow_4 11 rfl rfl)
theorem dX7_shotNow_104 : decode cX7_shotNow 104 = .ok (.bipush 32, 2) := dk_16 32 (dk_at dksX7_shotNow_4 12 rfl rfl)
theorem dX7_shotNow_106 : decode cX7_shotNow 106 = .ok (.iadd, 1) := dk_96 (dk_at dksX7_shotNow_4 14 rfl rfl)
theorem dX7_shotNow_107 : decode cX7_shotNow 107 = .ok (.iload_n 1, 1) := dk_27 (dk_at dksX7_shotNow_4 15 rfl rfl)
theorem dX7_shotNow_108 : decode cX7_shotNow 108 = .ok (.iastore, 1) := dk_79 (dk_at dksX7_shotNow_4 16 rfl rfl)
theorem dX7_shotNow_109 : decode cX7_shotNow 109 = .ok (.aload_n 0, 1) := dk_42 (dk_at dksX7_shotNow_4 17 rfl rfl)
theorem dX7_shotNow_110 : decode cX7_shotNow 110 = .ok (.getfield 7, 3) := dk_180 0 7 (dk_at dksX7_shotNow_4 18 rfl rfl)
theorem dX7_shotNow_113 : decode cX7_shotNow 113 = .ok (.sipush 196, 3) := dk_17 0 196 (dk_at dksX7_shotNow_4 21 rfl rfl)
theorem dX7_shotNow_116 : decode cX7_shotNow 116 = .ok (.bipush 35, 2) := dk_16 35 (dk_at dksX7_shotNow_5 0 rfl rfl)
theorem dX7_shotNow_118 : decode cX7_shotNow 118 = .ok (.iload 4, 2) := dk_21 4 (dk_at dksX7_shotNow_5 2 rfl rfl)
theorem dX7_shotNow_120 : decode cX7_shotNow 120 = .ok (.imul, 1) := dk_104 (dk_at dksX7_shotNow_5 4 rfl rfl)
theorem dX7_shotNow_121 : decode cX7_shotNow 121 = .ok (.iadd, 1) := dk_96 (dk_at dksX7_shotNow_5 5 rfl rfl)
theorem dX7_shotNow_122 : decode cX7_shotNow 122 = .ok (.bipush 32, 2) := dk_16 32 (dk_at dksX7_shotNow_5 6 rfl rfl)
theorem dX7_shotNow_124 : decode cX7_shotNow 124 = .ok (.iadd, 1) := dk_96 (dk_at dksX7_shotNow_5 8 rfl rfl)
theorem dX7_shotNow_125 : decode cX7_shotNow 125 = .ok (.iconst 1, 1) := dk_4 (dk_at dksX7_shotNow_5 9 rfl rfl)
theorem dX7_shotNow_126 : decode cX7_shotNow 126 = .ok (.iadd, 1) := dk_96 (dk_at dksX7_shotNow_5 10 rfl rfl)
theorem dX7_shotNow_127 : decode cX7_shotNow 127 = .ok (.iload_n 2, 1) := dk_28 (dk_at dksX7_shotNow_5 11 rfl rfl)
theorem dX7_shotNow_128 : decode cX7_shotNow 128 = .ok (.iastore, 1) := dk_79 (dk_at dksX7_shotNow_5 12 rfl rfl)
theorem dX7_shotNow_129 : decode cX7_shotNow 129 = .ok (.aload_n 0, 1) := dk_42 (dk_at dksX7_shotNow_5 13 rfl rfl)
theorem dX7_shotNow_130 : decode cX7_shotNow 130 = .ok (.getfield 7, 3) := dk_180 0 7 (dk_at dksX7_shotNow_5 14 rfl rfl)
theorem dX7_shotNow_133 : decode cX7_shotNow 133 = .ok (.sipush 196, 3) := dk_17 0 196 (dk_at dksX7_shotNow_5 17 rfl rfl)
theorem dX7_shotNow_136 : decode cX7_shotNow 136 = .ok (.bipush 35, 2) := dk_16 35 (dk_at dksX7_shotNow_5 20 rfl rfl)
theorem dX7_shotNow_138 : decode cX7_shotNow 138 = .ok (.iload 4, 2) := dk_21 4 (dk_at dksX7_shotNow_5 22 rfl rfl)
theorem dX7_shotNow_140 : decode cX7_shotNow 140 = .ok (.imul, 1) := dk_104 (dk_at dksX7_shotNow_6 0 rfl rfl)
theorem dX7_shotNow_141 : decode cX7_shotNow 141 = .ok (.iadd, 1) := dk_96 (dk_at dksX7_shotNow_6 1 rfl rfl)
theorem dX7_shotNow_142 : decode cX7_shotNow 142 = .ok (.bipush 32, 2) := dk_16 32 (dk_at dksX7_shotNow_6 2 rfl rfl)
theorem dX7_shotNow_144 : decode cX7_shotNow 144 = .ok (.iadd, 1) := dk_96 (dk_at dksX7_shotNow_6 4 rfl rfl)
theorem dX7_shotNow_145 : decode cX7_shotNow 145 = .ok (.iconst 2, 1) := dk_5 (dk_at dksX7_shotNow_6 5 rfl rfl)
theorem dX7_shotNow_146 : decode cX7_shotNow 146 = .ok (.iadd, 1) := dk_96 (dk_at dksX7_shotNow_6 6 rfl rfl)
theorem dX7_shotNow_147 : decode cX7_shotNow 147 = .ok (.aload_n 0, 1) := dk_42 (dk_at dksX7_shotNow_6 7 rfl rfl)
theorem dX7_shotNow_148 : decode cX7_shotNow 148 = .ok (.getfield 7, 3) := dk_180 0 7 (dk_at dksX7_shotNow_6 8 rfl rfl)
theorem dX7_shotNow_151 : decode cX7_shotNow 151 = .ok (.iconst 0, 1) := dk_3 (dk_at dksX7_shotNow_6 11 rfl rfl)
theorem dX7_shotNow_152 : decode cX7_shotNow 152 = .ok (.iaload, 1) := dk_46 (dk_at dksX7_shotNow_6 12 rfl rfl)
theorem dX7_shotNow_153 : decode cX7_shotNow 153 = .ok (.iastore, 1) := dk_79 (dk_at dksX7_shotNow_6 13 rfl rfl)
theorem dX7_shotNow_154 : decode cX7_shotNow 154 = .ok (.aload_n 0, 1) := dk_42 (dk_at dksX7_shotNow_6 14 rfl rfl)
theorem dX7_shotNow_155 : decode cX7_shotNow 155 = .ok (.getfield 7, 3) := dk_180 0 7 (dk_at dksX7_shotNow_6 15 rfl rfl)
theorem dX7_shotNow_158 : decode cX7_shotNow 158 = .ok (.iconst 3, 1) := dk_6 (dk_at dksX7_shotNow_6 18 rfl rfl)
theorem dX7_shotNow_159 : decode cX7_shotNow 159 = .ok (.dup2, 1) := dk_92 (dk_at dksX7_shotNow_6 19 rfl rfl)
theorem dX7_shotNow_160 : decode cX7_shotNow 160 = .ok (.iaload, 1) := dk_46 (dk_at dksX7_shotNow_6 20 rfl rfl)
theorem dX7_shotNow_161 : decode cX7_shotNow 161 = .ok (.iconst 1, 1) := dk_4 (dk_at dksX7_shotNow_6 21 rfl rfl)
theorem dX7_shotNow_162 : decode cX7_shotNow 162 = .ok (.iadd, 1) := dk_96 (dk_at dksX7_shotNow_6 22 rfl rfl)
theorem dX7_shotNow_163 : decode cX7_shotNow 163 = .ok (.iastore, 1) := dk_79 (dk_at dksX7_shotNow_6 23 rfl rfl)
theorem dX7_shotNow_164 : decode cX7_shotNow 164 = .ok (.iload 4, 2) := dk_21 4 (dk_at dksX7_shotNow_7 0 rfl rfl)
theorem dX7_shotNow_166 : decode cX7_shotNow 166 = .ok (.ireturn, 1) := dk_172 (dk_at dksX7_shotNow_7 2 rfl rfl)
abbrev cX7_held : ByteArray := prog_20_method_7_code
def yX7_held : MethodName := ⟨RX7, "held", "(I)I"⟩
def dkwX7_held_0 : List UInt8 := [26, 156, 0, 7, 3, 167, 0, 15, 26, 16, 63, 164, 0, 8, 16, 63, 167, 0, 4, 26, 172]
abbrev dktX7_held_0 : List UInt8 := dkwX7_held_0 ++ []
theorem dksX7_held_0 : cX7_held.data.toList.drop 0 = dktX7_held_0 := by decide +kernel
theorem dX7_held_0 : decode cX7_held 0 = .ok (.iload_n 0, 1) := dk_26 (dk_at dksX7_held_0 0 rfl rfl)
theorem dX7_held_1 : decode cX7_held 1 = .ok (.ifCond .ge 7, 3) := dk_156 0 7 (dk_at dksX7_held_0 1 rfl rfl)
theorem dX7_held_4 : decode cX7_held 4 = .ok (.iconst 0, 1) := dk_3 (dk_at dksX7_held_0 4 rfl rfl)
theorem dX7_held_5 : decode cX7_held 5 = .ok (.goto 15, 3) := dk_167 0 15 (dk_at dksX7_held_0 5 rfl rfl)
theorem dX7_held_8 : decode cX7_held 8 = .ok (.iload_n 0, 1) := dk_26 (dk_at dksX7_held_0 8 rfl rfl)
theorem dX7_held_9 : decode cX7_held 9 = .ok (.bipush 63, 2) := dk_16 63 (dk_at dksX7_held_0 9 rfl rfl)
theorem dX7_held_11 : decode cX7_held 11 = .ok (.if_icmp .le 8, 3) := dk_164 0 8 (dk_at dksX7_held_0 11 rfl rfl)
theorem dX7_held_14 : decode cX7_held 14 = .ok (.bipush 63, 2) := dk_16 63 (dk_at dksX7_held_0 14 rfl rfl)
theorem dX7_held_16 : decode cX7_held 16 = .ok (.goto 4, 3) := dk_167 0 4 (dk_at dksX7_held_0 16 rfl rfl)
theorem dX7_held_19 : decode cX7_held 19 = .ok (.iload_n 0, 1) := dk_26 (dk_at dksX7_held_0 19 rfl rfl)
theorem dX7_held_20 : decode cX7_held 20 = .ok (.ireturn, 1) := dk_172 (dk_at dksX7_held_0 20 rfl rfl)
abbrev cX7_paint : ByteArray := prog_20_method_22_code
def yX7_paint : MethodName := ⟨RX7, "paint", "(IIII)I"⟩
def dkwX7_paint_2 : List UInt8 := [104, 96, 16, 8, 28, 104, 96, 29, 96, 21, 4, 182, 0, 109, 172]
abbrev dktX7_paint_2 : List UInt8 := dkwX7_paint_2 ++ []
def dkwX7_paint_1 : List UInt8 := [184, 0, 63, 154, 0, 10, 42, 16, 254, 182, 0, 91, 172, 42, 182, 0, 95, 42, 17, 0, 196, 16, 35, 27]
abbrev dktX7_paint_1 : List UInt8 := dkwX7_paint_1 ++ dktX7_paint_2
def dkwX7_paint_0 : List UInt8 := [42, 27, 182, 0, 128, 153, 0, 24, 28, 29, 184, 0, 132, 153, 0, 16, 21, 4, 133, 9, 20, 0, 107]
abbrev dktX7_paint_0 : List UInt8 := dkwX7_paint_0 ++ dktX7_paint_1
theorem dksX7_paint_0 : cX7_paint.data.toList.drop 0 = dktX7_paint_0 := by decide +kernel
theorem dksX7_paint_1 : cX7_paint.data.toList.drop 23 = dktX7_paint_1 := dk_seg dksX7_paint_0 23 rfl rfl
theorem dksX7_paint_2 : cX7_paint.data.toList.drop 47 = dktX7_paint_2 := dk_seg dksX7_paint_1 24 rfl rfl
theorem dX7_paint_0 : decode cX7_paint 0 = .ok (.aload_n 0, 1) := dk_42 (dk_at dksX7_paint_0 0 rfl rfl)
theorem dX7_paint_1 : decode cX7_paint 1 = .ok (.iload_n 1, 1) := dk_27 (dk_at dksX7_paint_0 1 rfl rfl)
theorem dX7_paint_2 : decode cX7_paint 2 = .ok (.invokevirtual 128, 3) := dk_182 0 128 (dk_at dksX7_paint_0 2 rfl rfl)
theorem dX7_paint_5 : decode cX7_paint 5 = .ok (.ifCond .eq 24, 3) := dk_153 0 24 (dk_at dksX7_paint_0 5 rfl rfl)
theorem dX7_paint_8 : decode cX7_paint 8 = .ok (.iload_n 2, 1) := dk_28 (dk_at dksX7_paint_0 8 rfl rfl)
theorem dX7_paint_9 : decode cX7_paint 9 = .ok (.iload_n 3, 1) := dk_29 (dk_at dksX7_paint_0 9 rfl rfl)
theorem dX7_paint_10 : decode cX7_paint 10 = .ok (.invokestatic 132, 3) := dk_184 0 132 (dk_at dksX7_paint_0 10 rfl rfl)
theorem dX7_paint_13 : decode cX7_paint 13 = .ok (.ifCond .eq 16, 3) := dk_153 0 16 (dk_at dksX7_paint_0 13 rfl rfl)
theorem dX7_paint_16 : decode cX7_paint 16 = .ok (.iload 4, 2) := dk_21 4 (dk_at dksX7_paint_0 16 rfl rfl)
theorem dX7_paint_18 : decode cX7_paint 18 = .ok (.i2l, 1) := dk_133 (dk_at dksX7_paint_0 18 rfl rfl)
theorem dX7_paint_19 : decode cX7_paint 19 = .ok (.lconst 0, 1) := dk_9 (dk_at dksX7_paint_0 19 rfl rfl)
theorem dX7_paint_20 : decode cX7_paint 20 = .ok (.ldc2_w 107, 3) := dk_20 0 107 (dk_at dksX7_paint_0 20 rfl rfl)
theorem dX7_paint_23 : decode cX7_paint 23 = .ok (.invokestatic 63, 3) := dk_184 0 63 (dk_at dksX7_paint_1 0 rfl rfl)
theorem dX7_paint_26 : decode cX7_paint 26 = .ok (.ifCond .ne 10, 3) := dk_154 0 10 (dk_at dksX7_paint_1 3 rfl rfl)
theorem dX7_paint_29 : decode cX7_paint 29 = .ok (.aload_n 0, 1) := dk_42 (dk_at dksX7_paint_1 6 rfl rfl)
theorem dX7_paint_30 : decode cX7_paint 30 = .ok (.bipush (-2), 2) := dk_16 254 (dk_at dksX7_paint_1 7 rfl rfl)
theorem dX7_paint_32 : decode cX7_paint 32 = .ok (.invokevirtual 91, 3) := dk_182 0 91 (dk_at dksX7_paint_1 9 rfl rfl)
theorem dX7_paint_35 : decode cX7_paint 35 = .ok (.ireturn, 1) := dk_172 (dk_at dksX7_paint_1 12 rfl rfl)
theorem dX7_paint_36 : decode cX7_paint 36 = .ok (.aload_n 0, 1) := dk_42 (dk_at dksX7_paint_1 13 rfl rfl)
theorem dX7_paint_37 : decode cX7_paint 37 = .ok (.invokevirtual 95, 3) := dk_182 0 95 (dk_at dksX7_paint_1 14 rfl rfl)
theorem dX7_paint_40 : decode cX7_paint 40 = .ok (.aload_n 0, 1) := dk_42 (dk_at dksX7_paint_1 17 rfl rfl)
theorem dX7_paint_41 : decode cX7_paint 41 = .ok (.sipush 196, 3) := dk_17 0 196 (dk_at dksX7_paint_1 18 rfl rfl)
theorem dX7_paint_44 : decode cX7_paint 44 = .ok (.bipush 35, 2) := dk_16 35 (dk_at dksX7_paint_1 21 rfl rfl)
theorem dX7_paint_46 : decode cX7_paint 46 = .ok (.iload_n 1, 1) := dk_27 (dk_at dksX7_paint_1 23 rfl rfl)
theorem dX7_paint_47 : decode cX7_paint 47 = .ok (.imul, 1) := dk_104 (dk_at dksX7_paint_2 0 rfl rfl)
theorem dX7_paint_48 : decode cX7_paint 48 = .ok (.iadd, 1) := dk_96 (dk_at dksX7_paint_2 1 rfl rfl)
theorem dX7_paint_49 : decode cX7_paint 49 = .ok (.bipush 8, 2) := dk_16 8 (dk_at dksX7_paint_2 2 rfl rfl)
theorem dX7_paint_51 : decode cX7_paint 51 = .ok (.iload_n 2, 1) := dk_28 (dk_at dksX7_paint_2 4 rfl rfl)
theorem dX7_paint_52 : decode cX7_paint 52 = .ok (.imul, 1) := dk_104 (dk_at dksX7_paint_2 5 rfl rfl)
theorem dX7_paint_53 : decode cX7_paint 53 = .ok (.iadd, 1) := dk_96 (dk_at dksX7_paint_2 6 rfl rfl)
theorem dX7_paint_54 : decode cX7_paint 54 = .ok (.iload_n 3, 1) := dk_29 (dk_at dksX7_paint_2 7 rfl rfl)
theorem dX7_paint_55 : decode cX7_paint 55 = .ok (.iadd, 1) := dk_96 (dk_at dksX7_paint_2 8 rfl rfl)
theorem dX7_paint_56 : decode cX7_paint 56 = .ok (.iload 4, 2) := dk_21 4 (dk_at dksX7_paint_2 9 rfl rfl)
theorem dX7_paint_58 : decode cX7_paint 58 = .ok (.invokevirtual 109, 3) := dk_182 0 109 (dk_at dksX7_paint_2 11 rfl rfl)
theorem dX7_paint_61 : decode cX7_paint 61 = .ok (.ireturn, 1) := dk_172 (dk_at dksX7_paint_2 14 rfl rfl)
abbrev cX7_isPicture : ByteArray := prog_20_method_9_code
def yX7_isPicture : MethodName := ⟨RX7, "isPicture", "(I)Z"⟩
def dkwX7_isPicture_0 : List UInt8 := [27, 133, 9, 42, 182, 0, 59, 4, 100, 133, 184, 0, 63, 172]
abbrev dktX7_isPicture_0 : List UInt8 := dkwX7_isPicture_0 ++ []
theorem dksX7_isPicture_0 : cX7_isPicture.data.toList.drop 0 = dktX7_isPicture_0 := by decide +kernel
theorem dX7_isPicture_0 : decode cX7_isPicture 0 = .ok (.iload_n 1, 1) := dk_27 (dk_at dksX7_isPicture_0 0 rfl rfl)
theorem dX7_isPicture_1 : decode cX7_isPicture 1 = .ok (.i2l, 1) := dk_133 (dk_at dksX7_isPicture_0 1 rfl rfl)
theorem dX7_isPicture_2 : decode cX7_isPicture 2 = .ok (.lconst 0, 1) := dk_9 (dk_at dksX7_isPicture_0 2 rfl rfl)
theorem dX7_isPicture_3 : decode cX7_isPicture 3 = .ok (.aload_n 0, 1) := dk_42 (dk_at dksX7_isPicture_0 3 rfl rfl)
theorem dX7_isPicture_4 : decode cX7_isPicture 4 = .ok (.invokevirtual 59, 3) := dk_182 0 59 (dk_at dksX7_isPicture_0 4 rfl rfl)
theorem dX7_isPicture_7 : decode cX7_isPicture 7 = .ok (.iconst 1, 1) := dk_4 (dk_at dksX7_isPicture_0 7 rfl rfl)
theorem dX7_isPicture_8 : decode cX7_isPicture 8 = .ok (.isub, 1) := dk_100 (dk_at dksX7_isPicture_0 8 rfl rfl)
theorem dX7_isPicture_9 : decode cX7_isPicture 9 = .ok (.i2l, 1) := dk_133 (dk_at dksX7_isPicture_0 9 rfl rfl)
theorem dX7_isPicture_10 : decode cX7_isPicture 10 = .ok (.invokestatic 63, 3) := dk_184 0 63 (dk_at dksX7_isPicture_0 10 rfl rfl)
theorem dX7_isPicture_13 : decode cX7_isPicture 13 = .ok (.ireturn, 1) := dk_172 (dk_at dksX7_isPicture_0 13 rfl rfl)
abbrev cX7_isCell : ByteArray := prog_20_method_10_code
def yX7_isCell : MethodName := ⟨RX7, "isCell", "(II)Z"⟩
def dkwX7_isCell_1 : List UInt8 := [4, 167, 0, 4, 3, 172]
abbrev dktX7_isCell_1 : List UInt8 := dkwX7_isCell_1 ++ []
def dkwX7_isCell_0 : List UInt8 := [26, 133, 9, 20, 0, 67, 184, 0, 63, 153, 0, 19, 27, 133, 9, 20, 0, 69, 184, 0, 63, 153, 0, 7]
abbrev dktX7_isCell_0 : List UInt8 := dkwX7_isCell_0 ++ dktX7_isCell_1
theorem dksX7_isCell_0 : cX7_isCell.data.toList.drop 0 = dktX7_isCell_0 := by decide +kernel
theorem dksX7_isCell_1 : cX7_isCell.data.toList.drop 24 = dktX7_isCell_1 := dk_seg dksX7_isCell_0 24 rfl rfl
theorem dX7_isCell_0 : decode cX7_isCell 0 = .ok (.iload_n 0, 1) := dk_26 (dk_at dksX7_isCell_0 0 rfl rfl)
theorem dX7_isCell_1 : decode cX7_isCell 1 = .ok (.i2l, 1) := dk_133 (dk_at dksX7_isCell_0 1 rfl rfl)
theorem dX7_isCell_2 : decode cX7_isCell 2 = .ok (.lconst 0, 1) := dk_9 (dk_at dksX7_isCell_0 2 rfl rfl)
theorem dX7_isCell_3 : decode cX7_isCell 3 = .ok (.ldc2_w 67, 3) := dk_20 0 67 (dk_at dksX7_isCell_0 3 rfl rfl)
theorem dX7_isCell_6 : decode cX7_isCell 6 = .ok (.invokestatic 63, 3) := dk_184 0 63 (dk_at dksX7_isCell_0 6 rfl rfl)
theorem dX7_isCell_9 : decode cX7_isCell 9 = .ok (.ifCond .eq 19, 3) := dk_153 0 19 (dk_at dksX7_isCell_0 9 rfl rfl)
theorem dX7_isCell_12 : decode cX7_isCell 12 = .ok (.iload_n 1, 1) := dk_27 (dk_at dksX7_isCell_0 12 rfl rfl)
theorem dX7_isCell_13 : decode cX7_isCell 13 = .ok (.i2l, 1) := dk_133 (dk_at dksX7_isCell_0 13 rfl rfl)
theorem dX7_isCell_14 : decode cX7_isCell 14 = .ok (.lconst 0, 1) := dk_9 (dk_at dksX7_isCell_0 14 rfl rfl)
theorem dX7_isCell_15 : decode cX7_isCell 15 = .ok (.ldc2_w 69, 3) := dk_20 0 69 (dk_at dksX7_isCell_0 15 rfl rfl)
theorem dX7_isCell_18 : decode cX7_isCell 18 = .ok (.invokestatic 63, 3) := dk_184 0 63 (dk_at dksX7_isCell_0 18 rfl rfl)
theorem dX7_isCell_21 : decode cX7_isCell 21 = .ok (.ifCond .eq 7, 3) := dk_153 0 7 (dk_at dksX7_isCell_0 21 rfl rfl)
theorem dX7_isCell_24 : decode cX7_isCell 24 = .ok (.iconst 1, 1) := dk_4 (dk_at dksX7_isCell_1 0 rfl rfl)
theorem dX7_isCell_25 : decode cX7_isCell 25 = .ok (.goto 4, 3) := dk_167 0 4 (dk_at dksX7_isCell_1 1 rfl rfl)
theorem dX7_isCell_28 : decode cX7_isCell 28 = .ok (.iconst 0, 1) := dk_3 (dk_at dksX7_isCell_1 4 rfl rfl)
theorem dX7_isCell_29 : decode cX7_isCell 29 = .ok (.ireturn, 1) := dk_172 (dk_at dksX7_isCell_1 5 rfl rfl)
abbrev cX7_drops : ByteArray := prog_20_method_24_code
def yX7_drops : MethodName := ⟨RX7, "drops", "(I)I"⟩
def dkwX7_drops_1 : List UInt8 := [172]
abbrev dktX7_drops_1 : List UInt8 := dkwX7_drops_1 ++ []
def dkwX7_drops_0 : List UInt8 := [42, 27, 182, 0, 128, 154, 0, 10, 42, 16, 254, 182, 0, 91, 172, 42, 182, 0, 95, 42, 27, 182, 0, 135]
abbrev dktX7_drops_0 : List UInt8 := dkwX7_drops_0 ++ dktX7_drops_1
theorem dksX7_drops_0 : cX7_drops.data.toList.drop 0 = dktX7_drops_0 := by decide +kernel
theorem dksX7_drops_1 : cX7_drops.data.toList.drop 24 = dktX7_drops_1 := dk_seg dksX7_drops_0 24 rfl rfl
theorem dX7_drops_0 : decode cX7_drops 0 = .ok (.aload_n 0, 1) := dk_42 (dk_at dksX7_drops_0 0 rfl rfl)
theorem dX7_drops_1 : decode cX7_drops 1 = .ok (.iload_n 1, 1) := dk_27 (dk_at dksX7_drops_0 1 rfl rfl)
theorem dX7_drops_2 : decode cX7_drops 2 = .ok (.invokevirtual 128, 3) := dk_182 0 128 (dk_at dksX7_drops_0 2 rfl rfl)
theorem dX7_drops_5 : decode cX7_drops 5 = .ok (.ifCond .ne 10, 3) := dk_154 0 10 (dk_at dksX7_drops_0 5 rfl rfl)
theorem dX7_drops_8 : decode cX7_drops 8 = .ok (.aload_n 0, 1) := dk_42 (dk_at dksX7_drops_0 8 rfl rfl)
theorem dX7_drops_9 : decode cX7_drops 9 = .ok (.bipush (-2), 2) := dk_16 254 (dk_at dksX7_drops_0 9 rfl rfl)
theorem dX7_drops_11 : decode cX7_drops 11 = .ok (.invokevirtual 91, 3) := dk_182 0 91 (dk_at dksX7_drops_0 11 rfl rfl)
theorem dX7_drops_14 : decode cX7_drops 14 = .ok (.ireturn, 1) := dk_172 (dk_at dksX7_drops_0 14 rfl rfl)
theorem dX7_drops_15 : decode cX7_drops 15 = .ok (.aload_n 0, 1) := dk_42 (dk_at dksX7_drops_0 15 rfl rfl)
theorem dX7_drops_16 : decode cX7_drops 16 = .ok (.invokevirtual 95, 3) := dk_182 0 95 (dk_at dksX7_drops_0 16 rfl rfl)
theorem dX7_drops_19 : decode cX7_drops 19 = .ok (.aload_n 0, 1) := dk_42 (dk_at dksX7_drops_0 19 rfl rfl)
theorem dX7_drops_20 : decode cX7_drops 20 = .ok (.iload_n 1, 1) := dk_27 (dk_at dksX7_drops_0 20 rfl rfl)
theorem dX7_drops_21 : decode cX7_drops 21 = .ok (.invokevirtual 135, 3) := dk_182 0 135 (dk_at dksX7_drops_0 21 rfl rfl)
theorem dX7_drops_24 : decode cX7_drops 24 = .ok (.ireturn, 1) := dk_172 (dk_at dksX7_drops_1 0 rfl rfl)
abbrev cX7_dropNow : ByteArray := prog_20_method_23_code
def yX7_dropNow : MethodName := ⟨RX7, "dropNow", "(I)I"⟩
def dkwX7_dropNow_2 : List UInt8 := [42, 180, 0, 7, 6, 92, 46, 4, 100, 79, 42, 182, 0, 59, 172]
abbrev dktX7_dropNow_2 : List UInt8 := dkwX7_dropNow_2 ++ []
def dkwX7_dropNow_1 : List UInt8 := [162, 0, 24, 42, 180, 0, 7, 28, 42, 180, 0, 7, 28, 16, 35, 96, 46, 79, 132, 2, 1, 167, 255, 221]
abbrev dktX7_dropNow_1 : List UInt8 := dkwX7_dropNow_1 ++ dktX7_dropNow_2
def dkwX7_dropNow_0 : List UInt8 := [17, 0, 196, 16, 35, 27, 104, 96, 61, 28, 17, 0, 196, 16, 35, 42, 182, 0, 59, 4, 100, 104, 96]
abbrev dktX7_dropNow_0 : List UInt8 := dkwX7_dropNow_0 ++ dktX7_dropNow_1
theorem dksX7_dropNow_0 : cX7_dropNow.data.toList.drop 0 = dktX7_dropNow_0 := by decide +kernel
theorem dksX7_dropNow_1 : cX7_dropNow.data.toList.drop 23 = dktX7_dropNow_1 := dk_seg dksX7_dropNow_0 23 rfl rfl
theorem dksX7_dropNow_2 : cX7_dropNow.data.toList.drop 47 = dktX7_dropNow_2 := dk_seg dksX7_dropNow_1 24 rfl rfl
theorem dX7_dropNow_0 : decode cX7_dropNow 0 = .ok (.sipush 196, 3) := dk_17 0 196 (dk_at dksX7_dropNow_0 0 rfl rfl)
theorem dX7_dropNow_3 : decode cX7_dropNow 3 = .ok (.bipush 35, 2) := dk_16 35 (dk_at dksX7_dropNow_0 3 rfl rfl)
theorem dX7_dropNow_5 : decode cX7_dropNow 5 = .ok (.iload_n 1, 1) := dk_27 (dk_at dksX7_dropNow_0 5 rfl rfl)
theorem dX7_dropNow_6 : decode cX7_dropNow 6 = .ok (.imul, 1) := dk_104 (dk_at dksX7_dropNow_0 6 rfl rfl)
theorem dX7_dropNow_7 : decode cX7_dropNow 7 = .ok (.iadd, 1) := dk_96 (dk_at dksX7_dropNow_0 7 rfl rfl)
theorem dX7_dropNow_8 : decode cX7_dropNow 8 = .ok (.istore_n 2, 1) := dk_61 (dk_at dksX7_dropNow_0 8 rfl rfl)
theorem dX7_dropNow_9 : decode cX7_dropNow 9 = .ok (.iload_n 2, 1) := dk_28 (dk_at dksX7_dropNow_0 9 rfl rfl)
theorem dX7_dropNow_10 : decode cX7_dropNow 10 = .ok (.sipush 196, 3) := dk_17 0 196 (dk_at dksX7_dropNow_0 10 rfl rfl)
theorem dX7_dropNow_13 : decode cX7_dropNow 13 = .ok (.bipush 35, 2) := dk_16 35 (dk_at dksX7_dropNow_0 13 rfl rfl)
theorem dX7_dropNow_15 : decode cX7_dropNow 15 = .ok (.aload_n 0, 1) := dk_42 (dk_at dksX7_dropNow_0 15 rfl rfl)
theorem dX7_dropNow_16 : decode cX7_dropNow 16 = .ok (.invokevirtual 59, 3) := dk_182 0 59 (dk_at dksX7_dropNow_0 16 rfl rfl)
theorem dX7_dropNow_19 : decode cX7_dropNow 19 = .ok (.iconst 1, 1) := dk_4 (dk_at dksX7_dropNow_0 19 rfl rfl)
theorem dX7_dropNow_20 : decode cX7_dropNow 20 = .ok (.isub, 1) := dk_100 (dk_at dksX7_dropNow_0 20 rfl rfl)
theorem dX7_dropNow_21 : decode cX7_dropNow 21 = .ok (.imul, 1) := dk_104 (dk_at dksX7_dropNow_0 21 rfl rfl)
theorem dX7_dropNow_22 : decode cX7_dropNow 22 = .ok (.iadd, 1) := dk_96 (dk_at dksX7_dropNow_0 22 rfl rfl)
theorem dX7_dropNow_23 : decode cX7_dropNow 23 = .ok (.if_icmp .ge 24, 3) := dk_162 0 24 (dk_at dksX7_dropNow_1 0 rfl rfl)
theorem dX7_dropNow_26 : decode cX7_dropNow 26 = .ok (.aload_n 0, 1) := dk_42 (dk_at dksX7_dropNow_1 3 rfl rfl)
theorem dX7_dropNow_27 : decode cX7_dropNow 27 = .ok (.getfield 7, 3) := dk_180 0 7 (dk_at dksX7_dropNow_1 4 rfl rfl)
theorem dX7_dropNow_30 : decode cX7_dropNow 30 = .ok (.iload_n 2, 1) := dk_28 (dk_at dksX7_dropNow_1 7 rfl rfl)
theorem dX7_dropNow_31 : decode cX7_dropNow 31 = .ok (.aload_n 0, 1) := dk_42 (dk_at dksX7_dropNow_1 8 rfl rfl)
theorem dX7_dropNow_32 : decode cX7_dropNow 32 = .ok (.getfield 7, 3) := dk_180 0 7 (dk_at dksX7_dropNow_1 9 rfl rfl)
theorem dX7_dropNow_35 : decode cX7_dropNow 35 = .ok (.iload_n 2, 1) := dk_28 (dk_at dksX7_dropNow_1 12 rfl rfl)
theorem dX7_dropNow_36 : decode cX7_dropNow 36 = .ok (.bipush 35, 2) := dk_16 35 (dk_at dksX7_dropNow_1 13 rfl rfl)
theorem dX7_dropNow_38 : decode cX7_dropNow 38 = .ok (.iadd, 1) := dk_96 (dk_at dksX7_dropNow_1 15 rfl rfl)
theorem dX7_dropNow_39 : decode cX7_dropNow 39 = .ok (.iaload, 1) := dk_46 (dk_at dksX7_dropNow_1 16 rfl rfl)
theorem dX7_dropNow_40 : decode cX7_dropNow 40 = .ok (.iastore, 1) := dk_79 (dk_at dksX7_dropNow_1 17 rfl rfl)
theorem dX7_dropNow_41 : decode cX7_dropNow 41 = .ok (.iinc 2 1, 3) := dk_132 2 1 (dk_at dksX7_dropNow_1 18 rfl rfl)
theorem dX7_dropNow_44 : decode cX7_dropNow 44 = .ok (.goto (-35), 3) := dk_167 255 221 (dk_at dksX7_dropNow_1 21 rfl rfl)
theorem dX7_dropNow_47 : decode cX7_dropNow 47 = .ok (.aload_n 0, 1) := dk_42 (dk_at dksX7_dropNow_2 0 rfl rfl)
theorem dX7_dropNow_48 : decode cX7_dropNow 48 = .ok (.getfield 7, 3) := dk_180 0 7 (dk_at dksX7_dropNow_2 1 rfl rfl)
theorem dX7_dropNow_51 : decode cX7_dropNow 51 = .ok (.iconst 3, 1) := dk_6 (dk_at dksX7_dropNow_2 4 rfl rfl)
theorem dX7_dropNow_52 : decode cX7_dropNow 52 = .ok (.dup2, 1) := dk_92 (dk_at dksX7_dropNow_2 5 rfl rfl)
theorem dX7_dropNow_53 : decode cX7_dropNow 53 = .ok (.iaload, 1) := dk_46 (dk_at dksX7_dropNow_2 6 rfl rfl)
theorem dX7_dropNow_54 : decode cX7_dropNow 54 = .ok (.iconst 1, 1) := dk_4 (dk_at dksX7_dropNow_2 7 rfl rfl)
theorem dX7_dropNow_55 : decode cX7_dropNow 55 = .ok (.isub, 1) := dk_100 (dk_at dksX7_dropNow_2 8 rfl rfl)
theorem dX7_dropNow_56 : decode cX7_dropNow 56 = .ok (.iastore, 1) := dk_79 (dk_at dksX7_dropNow_2 9 rfl rfl)
theorem dX7_dropNow_57 : decode cX7_dropNow 57 = .ok (.aload_n 0, 1) := dk_42 (dk_at dksX7_dropNow_2 10 rfl rfl)
theorem dX7_dropNow_58 : decode cX7_dropNow 58 = .ok (.invokevirtual 59, 3) := dk_182 0 59 (dk_at dksX7_dropNow_2 11 rfl rfl)
theorem dX7_dropNow_61 : decode cX7_dropNow 61 = .ok (.ireturn, 1) := dk_172 (dk_at dksX7_dropNow_2 14 rfl rfl)
abbrev cX7_sets : ByteArray := prog_20_method_26_code
def yX7_sets : MethodName := ⟨RX7, "sets", "(II)I"⟩
def dkwX7_sets_1 : List UInt8 := [182, 0, 109, 172]
abbrev dktX7_sets_1 : List UInt8 := dkwX7_sets_1 ++ []
def dkwX7_sets_0 : List UInt8 := [27, 28, 184, 0, 140, 154, 0, 10, 42, 16, 254, 182, 0, 91, 172, 42, 182, 0, 95, 42, 4, 27, 96, 28]
abbrev dktX7_sets_0 : List UInt8 := dkwX7_sets_0 ++ dktX7_sets_1
theorem dksX7_sets_0 : cX7_sets.data.toList.drop 0 = dktX7_sets_0 := by decide +kernel
theorem dksX7_sets_1 : cX7_sets.data.toList.drop 24 = dktX7_sets_1 := dk_seg dksX7_sets_0 24 rfl rfl
theorem dX7_sets_0 : decode cX7_sets 0 = .ok (.iload_n 1, 1) := dk_27 (dk_at dksX7_sets_0 0 rfl rfl)
theorem dX7_sets_1 : decode cX7_sets 1 = .ok (.iload_n 2, 1) := dk_28 (dk_at dksX7_sets_0 1 rfl rfl)
theorem dX7_sets_2 : decode cX7_sets 2 = .ok (.invokestatic 140, 3) := dk_184 0 140 (dk_at dksX7_sets_0 2 rfl rfl)
theorem dX7_sets_5 : decode cX7_sets 5 = .ok (.ifCond .ne 10, 3) := dk_154 0 10 (dk_at dksX7_sets_0 5 rfl rfl)
theorem dX7_sets_8 : decode cX7_sets 8 = .ok (.aload_n 0, 1) := dk_42 (dk_at dksX7_sets_0 8 rfl rfl)
theorem dX7_sets_9 : decode cX7_sets 9 = .ok (.bipush (-2), 2) := dk_16 254 (dk_at dksX7_sets_0 9 rfl rfl)
theorem dX7_sets_11 : decode cX7_sets 11 = .ok (.invokevirtual 91, 3) := dk_182 0 91 (dk_at dksX7_sets_0 11 rfl rfl)
theorem dX7_sets_14 : decode cX7_sets 14 = .ok (.ireturn, 1) := dk_172 (dk_at dksX7_sets_0 14 rfl rfl)
theorem dX7_sets_15 : decode cX7_sets 15 = .ok (.aload_n 0, 1) := dk_42 (dk_at dksX7_sets_0 15 rfl rfl)
theorem dX7_sets_16 : decode cX7_sets 16 = .ok (.invokevirtual 95, 3) := dk_182 0 95 (dk_at dksX7_sets_0 16 rfl rfl)
theorem dX7_sets_19 : decode cX7_sets 19 = .ok (.aload_n 0, 1) := dk_42 (dk_at dksX7_sets_0 19 rfl rfl)
theorem dX7_sets_20 : decode cX7_sets 20 = .ok (.iconst 1, 1) := dk_4 (dk_at dksX7_sets_0 20 rfl rfl)
theorem dX7_sets_21 : decode cX7_sets 21 = .ok (.iload_n 1, 1) := dk_27 (dk_at dksX7_sets_0 21 rfl rfl)
theorem dX7_sets_22 : decode cX7_sets 22 = .ok (.iadd, 1) := dk_96 (dk_at dksX7_sets_0 22 rfl rfl)
theorem dX7_sets_23 : decode cX7_sets 23 = .ok (.iload_n 2, 1) := dk_28 (dk_at dksX7_sets_0 23 rfl rfl)
theorem dX7_sets_24 : decode cX7_sets 24 = .ok (.invokevirtual 109, 3) := dk_182 0 109 (dk_at dksX7_sets_1 0 rfl rfl)
theorem dX7_sets_27 : decode cX7_sets 27 = .ok (.ireturn, 1) := dk_172 (dk_at dksX7_sets_1 3 rfl rfl)
abbrev cX7_isSetting : ByteArray := prog_20_method_25_code
def yX7_isSetting : MethodName := ⟨RX7, "isSetting", "(II)Z"⟩
def dkwX7_isSetting_1 : List UInt8 := [20, 0, 107, 184, 0, 63, 153, 0, 7, 4, 167, 0, 4, 3, 172]
abbrev dktX7_isSetting_1 : List UInt8 := dkwX7_isSetting_1 ++ []
def dkwX7_isSetting_0 : List UInt8 := [26, 154, 0, 15, 27, 133, 10, 20, 0, 138, 184, 0, 63, 154, 0, 20, 26, 4, 160, 0, 19, 27, 133, 9]
abbrev dktX7_isSetting_0 : List UInt8 := dkwX7_isSetting_0 ++ dktX7_isSetting_1
theorem dksX7_isSetting_0 : cX7_isSetting.data.toList.drop 0 = dktX7_isSetting_0 := by decide +kernel
theorem dksX7_isSetting_1 : cX7_isSetting.data.toList.drop 24 = dktX7_isSetting_1 := dk_seg dksX7_isSetting_0 24 rfl rfl
theorem dX7_isSetting_0 : decode cX7_isSetting 0 = .ok (.iload_n 0, 1) := dk_26 (dk_at dksX7_isSetting_0 0 rfl rfl)
theorem dX7_isSetting_1 : decode cX7_isSetting 1 = .ok (.ifCond .ne 15, 3) := dk_154 0 15 (dk_at dksX7_isSetting_0 1 rfl rfl)
theorem dX7_isSetting_4 : decode cX7_isSetting 4 = .ok (.iload_n 1, 1) := dk_27 (dk_at dksX7_isSetting_0 4 rfl rfl)
theorem dX7_isSetting_5 : decode cX7_isSetting 5 = .ok (.i2l, 1) := dk_133 (dk_at dksX7_isSetting_0 5 rfl rfl)
theorem dX7_isSetting_6 : decode cX7_isSetting 6 = .ok (.lconst 1, 1) := dk_10 (dk_at dksX7_isSetting_0 6 rfl rfl)
theorem dX7_isSetting_7 : decode cX7_isSetting 7 = .ok (.ldc2_w 138, 3) := dk_20 0 138 (dk_at dksX7_isSetting_0 7 rfl rfl)
theorem dX7_isSetting_10 : decode cX7_isSetting 10 = .ok (.invokestatic 63, 3) := dk_184 0 63 (dk_at dksX7_isSetting_0 10 rfl rfl)
theorem dX7_isSetting_13 : decode cX7_isSetting 13 = .ok (.ifCond .ne 20, 3) := dk_154 0 20 (dk_at dksX7_isSetting_0 13 rfl rfl)
theorem dX7_isSetting_16 : decode cX7_isSetting 16 = .ok (.iload_n 0, 1) := dk_26 (dk_at dksX7_isSetting_0 16 rfl rfl)
theorem dX7_isSetting_17 : decode cX7_isSetting 17 = .ok (.iconst 1, 1) := dk_4 (dk_at dksX7_isSetting_0 17 rfl rfl)
theorem dX7_isSetting_18 : decode cX7_isSetting 18 = .ok (.if_icmp .ne 19, 3) := dk_160 0 19 (dk_at dksX7_isSetting_0 18 rfl rfl)
theorem dX7_isSetting_21 : decode cX7_isSetting 21 = .ok (.iload_n 1, 1) := dk_27 (dk_at dksX7_isSetting_0 21 rfl rfl)
theorem dX7_isSetting_22 : decode cX7_isSetting 22 = .ok (.i2l, 1) := dk_133 (dk_at dksX7_isSetting_0 22 rfl rfl)
theorem dX7_isSetting_23 : decode cX7_isSetting 23 = .ok (.lconst 0, 1) := dk_9 (dk_at dksX7_isSetting_0 23 rfl rfl)
theorem dX7_isSetting_24 : decode cX7_isSetting 24 = .ok (.ldc2_w 107, 3) := dk_20 0 107 (dk_at dksX7_isSetting_1 0 rfl rfl)
theorem dX7_isSetting_27 : decode cX7_isSetting 27 = .ok (.invokestatic 63, 3) := dk_184 0 63 (dk_at dksX7_isSetting_1 3 rfl rfl)
theorem dX7_isSetting_30 : decode cX7_isSetting 30 = .ok (.ifCond .eq 7, 3) := dk_153 0 7 (dk_at dksX7_isSetting_1 6 rfl rfl)
theorem dX7_isSetting_33 : decode cX7_isSetting 33 = .ok (.iconst 1, 1) := dk_4 (dk_at dksX7_isSetting_1 9 rfl rfl)
theorem dX7_isSetting_34 : decode cX7_isSetting 34 = .ok (.goto 4, 3) := dk_167 0 4 (dk_at dksX7_isSetting_1 10 rfl rfl)
theorem dX7_isSetting_37 : decode cX7_isSetting 37 = .ok (.iconst 0, 1) := dk_3 (dk_at dksX7_isSetting_1 13 rfl rfl)
theorem dX7_isSetting_38 : decode cX7_isSetting 38 = .ok (.ireturn, 1) := dk_172 (dk_at dksX7_isSetting_1 14 rfl rfl)
abbrev cX7_value : ByteArray := prog_20_method_27_code
def yX7_value : MethodName := ⟨RX7, "value", "(III)I"⟩
def dkwX7_value_2 : List UInt8 := [184, 0, 132, 153, 0, 13, 42, 27, 28, 29, 182, 0, 143, 167, 0, 9, 42, 16, 254, 182, 0, 91, 172]
abbrev dktX7_value_2 : List UInt8 := dkwX7_value_2 ++ []
def dkwX7_value_1 : List UInt8 := [29, 96, 46, 167, 0, 9, 42, 16, 254, 182, 0, 91, 172, 42, 27, 182, 0, 128, 153, 0, 21, 28, 29]
abbrev dktX7_value_1 : List UInt8 := dkwX7_value_1 ++ dktX7_value_2
def dkwX7_value_0 : List UInt8 := [27, 2, 160, 0, 35, 42, 28, 29, 182, 0, 104, 153, 0, 19, 42, 180, 0, 7, 7, 16, 32, 28, 104, 96]
abbrev dktX7_value_0 : List UInt8 := dkwX7_value_0 ++ dktX7_value_1
theorem dksX7_value_0 : cX7_value.data.toList.drop 0 = dktX7_value_0 := by decide +kernel
theorem dksX7_value_1 : cX7_value.data.toList.drop 24 = dktX7_value_1 := dk_seg dksX7_value_0 24 rfl rfl
theorem dksX7_value_2 : cX7_value.data.toList.drop 47 = dktX7_value_2 := dk_seg dksX7_value_1 23 rfl rfl
theorem dX7_value_0 : decode cX7_value 0 = .ok (.iload_n 1, 1) := dk_27 (dk_at dksX7_value_0 0 rfl rfl)
theorem dX7_value_1 : decode cX7_value 1 = .ok (.iconst (-1), 1) := dk_2 (dk_at dksX7_value_0 1 rfl rfl)
theorem dX7_value_2 : decode cX7_value 2 = .ok (.if_icmp .ne 35, 3) := dk_160 0 35 (dk_at dksX7_value_0 2 rfl rfl)
theorem dX7_value_5 : decode cX7_value 5 = .ok (.aload_n 0, 1) := dk_42 (dk_at dksX7_value_0 5 rfl rfl)
theorem dX7_value_6 : decode cX7_value 6 = .ok (.iload_n 2, 1) := dk_28 (dk_at dksX7_value_0 6 rfl rfl)
theorem dX7_value_7 : decode cX7_value 7 = .ok (.iload_n 3, 1) := dk_29 (dk_at dksX7_value_0 7 rfl rfl)
theorem dX7_value_8 : decode cX7_value 8 = .ok (.invokevirtual 104, 3) := dk_182 0 104 (dk_at dksX7_value_0 8 rfl rfl)
theorem dX7_value_11 : decode cX7_value 11 = .ok (.ifCond .eq 19, 3) := dk_153 0 19 (dk_at dksX7_value_0 11 rfl rfl)
theorem dX7_value_14 : decode cX7_value 14 = .ok (.aload_n 0, 1) := dk_42 (dk_at dksX7_value_0 14 rfl rfl)
theorem dX7_value_15 : decode cX7_value 15 = .ok (.getfield 7, 3) := dk_180 0 7 (dk_at dksX7_value_0 15 rfl rfl)
theorem dX7_value_18 : decode cX7_value 18 = .ok (.iconst 4, 1) := dk_7 (dk_at dksX7_value_0 18 rfl rfl)
theorem dX7_value_19 : decode cX7_value 19 = .ok (.bipush 32, 2) := dk_16 32 (dk_at dksX7_value_0 19 rfl rfl)
theorem dX7_value_21 : decode cX7_value 21 = .ok (.iload_n 2, 1) := dk_28 (dk_at dksX7_value_0 21 rfl rfl)
theorem dX7_value_22 : decode cX7_value 22 = .ok (.imul, 1) := dk_104 (dk_at dksX7_value_0 22 rfl rfl)
theorem dX7_value_23 : decode cX7_value 23 = .ok (.iadd, 1) := dk_96 (dk_at dksX7_value_0 23 rfl rfl)
theorem dX7_value_24 : decode cX7_value 24 = .ok (.iload_n 3, 1) := dk_29 (dk_at dksX7_value_1 0 rfl rfl)
theorem dX7_value_25 : decode cX7_value 25 = .ok (.iadd, 1) := dk_96 (dk_at dksX7_value_1 1 rfl rfl)
theorem dX7_value_26 : decode cX7_value 26 = .ok (.iaload, 1) := dk_46 (dk_at dksX7_value_1 2 rfl rfl)
theorem dX7_value_27 : decode cX7_value 27 = .ok (.goto 9, 3) := dk_167 0 9 (dk_at dksX7_value_1 3 rfl rfl)
theorem dX7_value_30 : decode cX7_value 30 = .ok (.aload_n 0, 1) := dk_42 (dk_at dksX7_value_1 6 rfl rfl)
theorem dX7_value_31 : decode cX7_value 31 = .ok (.bipush (-2), 2) := dk_16 254 (dk_at dksX7_value_1 7 rfl rfl)
theorem dX7_value_33 : decode cX7_value 33 = .ok (.invokevirtual 91, 3) := dk_182 0 91 (dk_at dksX7_value_1 9 rfl rfl)
theorem dX7_value_36 : decode cX7_value 36 = .ok (.ireturn, 1) := dk_172 (dk_at dksX7_value_1 12 rfl rfl)
theorem dX7_value_37 : decode cX7_value 37 = .ok (.aload_n 0, 1) := dk_42 (dk_at dksX7_value_1 13 rfl rfl)
theorem dX7_value_38 : decode cX7_value 38 = .ok (.iload_n 1, 1) := dk_27 (dk_at dksX7_value_1 14 rfl rfl)
theorem dX7_value_39 : decode cX7_value 39 = .ok (.invokevirtual 128, 3) := dk_182 0 128 (dk_at dksX7_value_1 15 rfl rfl)
theorem dX7_value_42 : decode cX7_value 42 = .ok (.ifCond .eq 21, 3) := dk_153 0 21 (dk_at dksX7_value_1 18 rfl rfl)
theorem dX7_value_45 : decode cX7_value 45 = .ok (.iload_n 2, 1) := dk_28 (dk_at dksX7_value_1 21 rfl rfl)
theorem dX7_value_46 : decode cX7_value 46 = .ok (.iload_n 3, 1) := dk_29 (dk_at dksX7_value_1 22 rfl rfl)
theorem dX7_value_47 : decode cX7_value 47 = .ok (.invokestatic 132, 3) := dk_184 0 132 (dk_at dksX7_value_2 0 rfl rfl)
theorem dX7_value_50 : decode cX7_value 50 = .ok (.ifCond .eq 13, 3) := dk_153 0 13 (dk_at dksX7_value_2 3 rfl rfl)
theorem dX7_value_53 : decode cX7_value 53 = .ok (.aload_n 0, 1) := dk_42 (dk_at dksX7_value_2 6 rfl rfl)
theorem dX7_value_54 : decode cX7_value 54 = .ok (.iload_n 1, 1) := dk_27 (dk_at dksX7_value_2 7 rfl rfl)
theorem dX7_value_55 : decode cX7_value 55 = .ok (.iload_n 2, 1) := dk_28 (dk_at dksX7_value_2 8 rfl rfl)
theorem dX7_value_56 : decode cX7_value 56 = .ok (.iload_n 3, 1) := dk_29 (dk_at dksX7_value_2 9 rfl rfl)
theorem dX7_value_57 : decode cX7_value 57 = .ok (.invokevirtual 143, 3) := dk_182 0 143 (dk_at dksX7_value_2 10 rfl rfl)
theorem dX7_value_60 : decode cX7_value 60 = .ok (.goto 9, 3) := dk_167 0 9 (dk_at dksX7_value_2 13 rfl rfl)
theorem dX7_value_63 : decode cX7_value 63 = .ok (.aload_n 0, 1) := dk_42 (dk_at dksX7_value_2 16 rfl rfl)
theorem dX7_value_64 : decode cX7_value 64 = .ok (.bipush (-2), 2) := dk_16 254 (dk_at dksX7_value_2 17 rfl rfl)
theorem dX7_value_66 : decode cX7_value 66 = .ok (.invokevirtual 91, 3) := dk_182 0 91 (dk_at dksX7_value_2 19 rfl rfl)
theorem dX7_value_69 : decode cX7_value 69 = .ok (.ireturn, 1) := dk_172 (dk_at dksX7_value_2 22 rfl rfl)
abbrev cX7_at : ByteArray := prog_20_method_11_code
def yX7_at : MethodName := ⟨RX7, "at", "(III)I"⟩
def dkwX7_at_0 : List UInt8 := [42, 180, 0, 7, 17, 0, 196, 16, 35, 27, 104, 96, 16, 8, 28, 104, 96, 29, 96, 46, 172]
abbrev dktX7_at_0 : List UInt8 := dkwX7_at_0 ++ []
theorem dksX7_at_0 : cX7_at.data.toList.drop 0 = dktX7_at_0 := by decide +kernel
theorem dX7_at_0 : decode cX7_at 0 = .ok (.aload_n 0, 1) := dk_42 (dk_at dksX7_at_0 0 rfl rfl)
theorem dX7_at_1 : decode cX7_at 1 = .ok (.getfield 7, 3) := dk_180 0 7 (dk_at dksX7_at_0 1 rfl rfl)
theorem dX7_at_4 : decode cX7_at 4 = .ok (.sipush 196, 3) := dk_17 0 196 (dk_at dksX7_at_0 4 rfl rfl)
theorem dX7_at_7 : decode cX7_at 7 = .ok (.bipush 35, 2) := dk_16 35 (dk_at dksX7_at_0 7 rfl rfl)
theorem dX7_at_9 : decode cX7_at 9 = .ok (.iload_n 1, 1) := dk_27 (dk_at dksX7_at_0 9 rfl rfl)
theorem dX7_at_10 : decode cX7_at 10 = .ok (.imul, 1) := dk_104 (dk_at dksX7_at_0 10 rfl rfl)
theorem dX7_at_11 : decode cX7_at 11 = .ok (.iadd, 1) := dk_96 (dk_at dksX7_at_0 11 rfl rfl)
theorem dX7_at_12 : decode cX7_at 12 = .ok (.bipush 8, 2) := dk_16 8 (dk_at dksX7_at_0 12 rfl rfl)
theorem dX7_at_14 : decode cX7_at 14 = .ok (.iload_n 2, 1) := dk_28 (dk_at dksX7_at_0 14 rfl rfl)
theorem dX7_at_15 : decode cX7_at 15 = .ok (.imul, 1) := dk_104 (dk_at dksX7_at_0 15 rfl rfl)
theorem dX7_at_16 : decode cX7_at 16 = .ok (.iadd, 1) := dk_96 (dk_at dksX7_at_0 16 rfl rfl)
theorem dX7_at_17 : decode cX7_at 17 = .ok (.iload_n 3, 1) := dk_29 (dk_at dksX7_at_0 17 rfl rfl)
theorem dX7_at_18 : decode cX7_at 18 = .ok (.iadd, 1) := dk_96 (dk_at dksX7_at_0 18 rfl rfl)
theorem dX7_at_19 : decode cX7_at 19 = .ok (.iaload, 1) := dk_46 (dk_at dksX7_at_0 19 rfl rfl)
theorem dX7_at_20 : decode cX7_at 20 = .ok (.ireturn, 1) := dk_172 (dk_at dksX7_at_0 20 rfl rfl)
abbrev cX7_change : ByteArray := prog_20_method_31_code
def yX7_change : MethodName := ⟨RX7, "change", "(III)I"⟩
def dkwX7_change_1 : List UInt8 := [167, 0, 9, 42, 16, 254, 182, 0, 91, 172]
abbrev dktX7_change_1 : List UInt8 := dkwX7_change_1 ++ []
def dkwX7_change_0 : List UInt8 := [42, 27, 182, 0, 128, 153, 0, 21, 28, 29, 184, 0, 155, 153, 0, 13, 42, 27, 28, 29, 182, 0, 158]
abbrev dktX7_change_0 : List UInt8 := dkwX7_change_0 ++ dktX7_change_1
theorem dksX7_change_0 : cX7_change.data.toList.drop 0 = dktX7_change_0 := by decide +kernel
theorem dksX7_change_1 : cX7_change.data.toList.drop 23 = dktX7_change_1 := dk_seg dksX7_change_0 23 rfl rfl
theorem dX7_change_0 : decode cX7_change 0 = .ok (.aload_n 0, 1) := dk_42 (dk_at dksX7_change_0 0 rfl rfl)
theorem dX7_change_1 : decode cX7_change 1 = .ok (.iload_n 1, 1) := dk_27 (dk_at dksX7_change_0 1 rfl rfl)
theorem dX7_change_2 : decode cX7_change 2 = .ok (.invokevirtual 128, 3) := dk_182 0 128 (dk_at dksX7_change_0 2 rfl rfl)
theorem dX7_change_5 : decode cX7_change 5 = .ok (.ifCond .eq 21, 3) := dk_153 0 21 (dk_at dksX7_change_0 5 rfl rfl)
theorem dX7_change_8 : decode cX7_change 8 = .ok (.iload_n 2, 1) := dk_28 (dk_at dksX7_change_0 8 rfl rfl)
theorem dX7_change_9 : decode cX7_change 9 = .ok (.iload_n 3, 1) := dk_29 (dk_at dksX7_change_0 9 rfl rfl)
theorem dX7_change_10 : decode cX7_change 10 = .ok (.invokestatic 155, 3) := dk_184 0 155 (dk_at dksX7_change_0 10 rfl rfl)
theorem dX7_change_13 : decode cX7_change 13 = .ok (.ifCond .eq 13, 3) := dk_153 0 13 (dk_at dksX7_change_0 13 rfl rfl)
theorem dX7_change_16 : decode cX7_change 16 = .ok (.aload_n 0, 1) := dk_42 (dk_at dksX7_change_0 16 rfl rfl)
theorem dX7_change_17 : decode cX7_change 17 = .ok (.iload_n 1, 1) := dk_27 (dk_at dksX7_change_0 17 rfl rfl)
theorem dX7_change_18 : decode cX7_change 18 = .ok (.iload_n 2, 1) := dk_28 (dk_at dksX7_change_0 18 rfl rfl)
theorem dX7_change_19 : decode cX7_change 19 = .ok (.iload_n 3, 1) := dk_29 (dk_at dksX7_change_0 19 rfl rfl)
theorem dX7_change_20 : decode cX7_change 20 = .ok (.invokevirtual 158, 3) := dk_182 0 158 (dk_at dksX7_change_0 20 rfl rfl)
theorem dX7_change_23 : decode cX7_change 23 = .ok (.goto 9, 3) := dk_167 0 9 (dk_at dksX7_change_1 0 rfl rfl)
theorem dX7_change_26 : decode cX7_change 26 = .ok (.aload_n 0, 1) := dk_42 (dk_at dksX7_change_1 3 rfl rfl)
theorem dX7_change_27 : decode cX7_change 27 = .ok (.bipush (-2), 2) := dk_16 254 (dk_at dksX7_change_1 4 rfl rfl)
theorem dX7_change_29 : decode cX7_change 29 = .ok (.invokevirtual 91, 3) := dk_182 0 91 (dk_at dksX7_change_1 6 rfl rfl)
theorem dX7_change_32 : decode cX7_change 32 = .ok (.ireturn, 1) := dk_172 (dk_at dksX7_change_1 9 rfl rfl)
abbrev cX7_isInner : ByteArray := prog_20_method_30_code
def yX7_isInner : MethodName := ⟨RX7, "isInne\x72", "(II)Z"⟩
def dkwX7_isInner_1 : List UInt8 := [4, 167, 0, 4, 3, 172]
abbrev dktX7_isInner_1 : List UInt8 := dkwX7_isInner_1 ++ []
def dkwX7_isInner_0 : List UInt8 := [26, 133, 10, 20, 0, 112, 184, 0, 63, 153, 0, 19, 27, 133, 10, 20, 0, 153, 184, 0, 63, 153, 0, 7]
abbrev dktX7_isInner_0 : List UInt8 := dkwX7_isInner_0 ++ dktX7_isInner_1
theorem dksX7_isInner_0 : cX7_isInner.data.toList.drop 0 = dktX7_isInner_0 := by decide +kernel
theorem dksX7_isInner_1 : cX7_isInner.data.toList.drop 24 = dktX7_isInner_1 := dk_seg dksX7_isInner_0 24 rfl rfl
theorem dX7_isInner_0 : decode cX7_isInner 0 = .ok (.iload_n 0, 1) := dk_26 (dk_at dksX7_isInner_0 0 rfl rfl)
theorem dX7_isInner_1 : decode cX7_isInner 1 = .ok (.i2l, 1) := dk_133 (dk_at dksX7_isInner_0 1 rfl rfl)
theorem dX7_isInner_2 : decode cX7_isInner 2 = .ok (.lconst 1, 1) := dk_10 (dk_at dksX7_isInner_0 2 rfl rfl)
theorem dX7_isInner_3 : decode cX7_isInner 3 = .ok (.ldc2_w 112, 3) := dk_20 0 112 (dk_at dksX7_isInner_0 3 rfl rfl)
theorem dX7_isInner_6 : decode cX7_isInner 6 = .ok (.invokestatic 63, 3) := dk_184 0 63 (dk_at dksX7_isInner_0 6 rfl rfl)
theorem dX7_isInner_9 : decode cX7_isInner 9 = .ok (.ifCond .eq 19, 3) := dk_153 0 19 (dk_at dksX7_isInner_0 9 rfl rfl)
theorem dX7_isInner_12 : decode cX7_isInner 12 = .ok (.iload_n 1, 1) := dk_27 (dk_at dksX7_isInner_0 12 rfl rfl)
theorem dX7_isInner_13 : decode cX7_isInner 13 = .ok (.i2l, 1) := dk_133 (dk_at dksX7_isInner_0 13 rfl rfl)
theorem dX7_isInner_14 : decode cX7_isInner 14 = .ok (.lconst 1, 1) := dk_10 (dk_at dksX7_isInner_0 14 rfl rfl)
theorem dX7_isInner_15 : decode cX7_isInner 15 = .ok (.ldc2_w 153, 3) := dk_20 0 153 (dk_at dksX7_isInner_0 15 rfl rfl)
theorem dX7_isInner_18 : decode cX7_isInner 18 = .ok (.invokestatic 63, 3) := dk_184 0 63 (dk_at dksX7_isInner_0 18 rfl rfl)
theorem dX7_isInner_21 : decode cX7_isInner 21 = .ok (.ifCond .eq 7, 3) := dk_153 0 7 (dk_at dksX7_isInner_0 21 rfl rfl)
theorem dX7_isInner_24 : decode cX7_isInner 24 = .ok (.iconst 1, 1) := dk_4 (dk_at dksX7_isInner_1 0 rfl rfl)
theorem dX7_isInner_25 : decode cX7_isInner 25 = .ok (.goto 4, 3) := dk_167 0 4 (dk_at dksX7_isInner_1 1 rfl rfl)
theorem dX7_isInner_28 : decode cX7_isInner 28 = .ok (.iconst 0, 1) := dk_3 (dk_at dksX7_isInner_1 4 rfl rfl)
theorem dX7_isInner_29 : decode cX7_isInner 29 = .ok (.ireturn, 1) := dk_172 (dk_at dksX7_isInner_1 5 rfl rfl)
abbrev cX7_changeNow : ByteArray := prog_20_method_29_code
def yX7_changeNow : MethodName := ⟨RX7, "changeNow", "(III)I"⟩
def dkwX7_changeNow_3 : List UInt8 := [182, 0, 149, 54, 5, 21, 5, 21, 4, 162, 0, 8, 21, 5, 167, 0, 5, 21, 4, 172]
abbrev dktX7_changeNow_3 : List UInt8 := dkwX7_changeNow_3 ++ []
def dkwX7_changeNow_2 : List UInt8 := [54, 5, 21, 5, 21, 4, 162, 0, 8, 21, 5, 167, 0, 5, 21, 4, 54, 4, 42, 27, 28, 29, 4, 2]
abbrev dktX7_changeNow_2 : List UInt8 := dkwX7_changeNow_2 ++ dktX7_changeNow_3
def dkwX7_changeNow_1 : List UInt8 := [21, 4, 162, 0, 8, 21, 5, 167, 0, 5, 21, 4, 54, 4, 42, 27, 28, 29, 4, 4, 182, 0, 149]
abbrev dktX7_changeNow_1 : List UInt8 := dkwX7_changeNow_1 ++ dktX7_changeNow_2
def dkwX7_changeNow_0 : List UInt8 := [42, 27, 28, 29, 3, 4, 182, 0, 149, 54, 4, 42, 27, 28, 29, 4, 3, 182, 0, 149, 54, 5, 21, 5]
abbrev dktX7_changeNow_0 : List UInt8 := dkwX7_changeNow_0 ++ dktX7_changeNow_1
theorem dksX7_changeNow_0 : cX7_changeNow.data.toList.drop 0 = dktX7_changeNow_0 := by decide +kernel
theorem dksX7_changeNow_1 : cX7_changeNow.data.toList.drop 24 = dktX7_changeNow_1 := dk_seg dksX7_changeNow_0 24 rfl rfl
theorem dksX7_changeNow_2 : cX7_changeNow.data.toList.drop 47 = dktX7_changeNow_2 := dk_seg dksX7_changeNow_1 23 rfl rfl
theorem dksX7_changeNow_3 : cX7_changeNow.data.toList.drop 71 = dktX7_changeNow_3 := dk_seg dksX7_changeNow_2 24 rfl rfl
theorem dX7_changeNow_0 : decode cX7_changeNow 0 = .ok (.aload_n 0, 1) := dk_42 (dk_at dksX7_changeNow_0 0 rfl rfl)
theorem dX7_changeNow_1 : decode cX7_changeNow 1 = .ok (.iload_n 1, 1) := dk_27 (dk_at dksX7_changeNow_0 1 rfl rfl)
theorem dX7_changeNow_2 : decode cX7_changeNow 2 = .ok (.iload_n 2, 1) := dk_28 (dk_at dksX7_changeNow_0 2 rfl rfl)
theorem dX7_changeNow_3 : decode cX7_changeNow 3 = .ok (.iload_n 3, 1) := dk_29 (dk_at dksX7_changeNow_0 3 rfl rfl)
theorem dX7_changeNow_4 : decode cX7_changeNow 4 = .ok (.iconst 0, 1) := dk_3 (dk_at dksX7_changeNow_0 4 rfl rfl)
theorem dX7_changeNow_5 : decode cX7_changeNow 5 = .ok (.iconst 1, 1) := dk_4 (dk_at dksX7_changeNow_0 5 rfl rfl)
theorem dX7_changeNow_6 : decode cX7_changeNow 6 = .ok (.invokevirtual 149, 3) := dk_182 0 149 (dk_at dksX7_changeNow_0 6 rfl rfl)
theorem dX7_changeNow_9 : decode cX7_changeNow 9 = .ok (.istore 4, 2) := dk_54 4 (dk_at dksX7_changeNow_0 9 rfl rfl)
theorem dX7_changeNow_11 : decode cX7_changeNow 11 = .ok (.aload_n 0, 1) := dk_42 (dk_at dksX7_changeNow_0 11 rfl rfl)
theorem dX7_changeNow_12 : decode cX7_changeNow 12 = .ok (.iload_n 1, 1) := dk_27 (dk_at dksX7_changeNow_0 12 rfl rfl)
theorem dX7_changeNow_13 : decode cX7_changeNow 13 = .ok (.iload_n 2, 1) := dk_28 (dk_at dksX7_changeNow_0 13 rfl rfl)
theorem dX7_changeNow_14 : decode cX7_changeNow 14 = .ok (.iload_n 3, 1) := dk_29 (dk_at dksX7_changeNow_0 14 rfl rfl)
theorem dX7_changeNow_15 : decode cX7_changeNow 15 = .ok (.iconst 1, 1) := dk_4 (dk_at dksX7_changeNow_0 15 rfl rfl)
theorem dX7_changeNow_16 : decode cX7_changeNow 16 = .ok (.iconst 0, 1) := dk_3 (dk_at dksX7_changeNow_0 16 rfl rfl)
theorem dX7_changeNow_17 : decode cX7_changeNow 17 = .ok (.invokevirtual 149, 3) := dk_182 0 149 (dk_at dksX7_changeNow_0 17 rfl rfl)
theorem dX7_changeNow_20 : decode cX7_changeNow 20 = .ok (.istore 5, 2) := dk_54 5 (dk_at dksX7_changeNow_0 20 rfl rfl)
theorem dX7_changeNow_22 : decode cX7_changeNow 22 = .ok (.iload 5, 2) := dk_21 5 (dk_at dksX7_changeNow_0 22 rfl rfl)
theorem dX7_changeNow_24 : decode cX7_changeNow 24 = .ok (.iload 4, 2) := dk_21 4 (dk_at dksX7_changeNow_1 0 rfl rfl)
theorem dX7_changeNow_26 : decode cX7_changeNow 26 = .ok (.if_icmp .ge 8, 3) := dk_162 0 8 (dk_at dksX7_changeNow_1 2 rfl rfl)
theorem dX7_changeNow_29 : decode cX7_changeNow 29 = .ok (.iload 5, 2) := dk_21 5 (dk_at dksX7_changeNow_1 5 rfl rfl)
theorem dX7_changeNow_31 : decode cX7_changeNow 31 = .ok (.goto 5, 3) := dk_167 0 5 (dk_at dksX7_changeNow_1 7 rfl rfl)
theorem dX7_changeNow_34 : decode cX7_changeNow 34 = .ok (.iload 4, 2) := dk_21 4 (dk_at dksX7_changeNow_1 10 rfl rfl)
theorem dX7_changeNow_36 : decode cX7_changeNow 36 = .ok (.istore 4, 2) := dk_54 4 (dk_at dksX7_changeNow_1 12 rfl rfl)
theorem dX7_changeNow_38 : decode cX7_changeNow 38 = .ok (.aload_n 0, 1) := dk_42 (dk_at dksX7_changeNow_1 14 rfl rfl)
theorem dX7_changeNow_39 : decode cX7_changeNow 39 = .ok (.iload_n 1, 1) := dk_27 (dk_at dksX7_changeNow_1 15 rfl rfl)
theorem dX7_changeNow_40 : decode cX7_changeNow 40 = .ok (.iload_n 2, 1) := dk_28 (dk_at dksX7_changeNow_1 16 rfl rfl)
theorem dX7_changeNow_41 : decode cX7_changeNow 41 = .ok (.iload_n 3, 1) := dk_29 (dk_at dksX7_changeNow_1 17 rfl rfl)
theorem dX7_changeNow_42 : decode cX7_changeNow 42 = .ok (.iconst 1, 1) := dk_4 (dk_at dksX7_changeNow_1 18 rfl rfl)
theorem dX7_changeNow_43 : decode cX7_changeNow 43 = .ok (.iconst 1, 1) := dk_4 (dk_at dksX7_changeNow_1 19 rfl rfl)
theorem dX7_changeNow_44 : decode cX7_changeNow 44 = .ok (.invokevirtual 149, 3) := dk_182 0 149 (dk_at dksX7_changeNow_1 20 rfl rfl)
theorem dX7_changeNow_47 : decode cX7_changeNow 47 = .ok (.istore 5, 2) := dk_54 5 (dk_at dksX7_changeNow_2 0 rfl rfl)
theorem dX7_changeNow_49 : decode cX7_changeNow 49 = .ok (.iload 5, 2) := dk_21 5 (dk_at dksX7_changeNow_2 2 rfl rfl)
theorem dX7_changeNow_51 : decode cX7_changeNow 51 = .ok (.iload 4, 2) := dk_21 4 (dk_at dksX7_changeNow_2 4 rfl rfl)
theorem dX7_changeNow_53 : decode cX7_changeNow 53 = .ok (.if_icmp .ge 8, 3) := dk_162 0 8 (dk_at dksX7_changeNow_2 6 rfl rfl)
theorem dX7_changeNow_56 : decode cX7_changeNow 56 = .ok (.iload 5, 2) := dk_21 5 (dk_at dksX7_changeNow_2 9 rfl rfl)
theorem dX7_changeNow_58 : decode cX7_changeNow 58 = .ok (.goto 5, 3) := dk_167 0 5 (dk_at dksX7_changeNow_2 11 rfl rfl)
theorem dX7_changeNow_61 : decode cX7_changeNow 61 = .ok (.iload 4, 2) := dk_21 4 (dk_at dksX7_changeNow_2 14 rfl rfl)
theorem dX7_changeNow_63 : decode cX7_changeNow 63 = .ok (.istore 4, 2) := dk_54 4 (dk_at dksX7_changeNow_2 16 rfl rfl)
theorem dX7_changeNow_65 : decode cX7_changeNow 65 = .ok (.aload_n 0, 1) := dk_42 (dk_at dksX7_changeNow_2 18 rfl rfl)
theorem dX7_changeNow_66 : decode cX7_changeNow 66 = .ok (.iload_n 1, 1) := dk_27 (dk_at dksX7_changeNow_2 19 rfl rfl)
theorem dX7_changeNow_67 : decode cX7_changeNow 67 = .ok (.iload_n 2, 1) := dk_28 (dk_at dksX7_changeNow_2 20 rfl rfl)
theorem dX7_changeNow_68 : decode cX7_changeNow 68 = .ok (.iload_n 3, 1) := dk_29 (dk_at dksX7_changeNow_2 21 rfl rfl)
theorem dX7_changeNow_69 : decode cX7_changeNow 69 = .ok (.iconst 1, 1) := dk_4 (dk_at dksX7_changeNow_2 22 rfl rfl)
theorem dX7_changeNow_70 : decode cX7_changeNow 70 = .ok (.iconst (-1), 1) := dk_2 (dk_at dksX7_changeNow_2 23 rfl rfl)
theorem dX7_changeNow_71 : decode cX7_changeNow 71 = .ok (.invokevirtual 149, 3) := dk_182 0 149 (dk_at dksX7_changeNow_3 0 rfl rfl)
theorem dX7_changeNow_74 : decode cX7_changeNow 74 = .ok (.istore 5, 2) := dk_54 5 (dk_at dksX7_changeNow_3 3 rfl rfl)
theorem dX7_changeNow_76 : decode cX7_changeNow 76 = .ok (.iload 5, 2) := dk_21 5 (dk_at dksX7_changeNow_3 5 rfl rfl)
theorem dX7_changeNow_78 : decode cX7_changeNow 78 = .ok (.iload 4, 2) := dk_21 4 (dk_at dksX7_changeNow_3 7 rfl rfl)
theorem dX7_changeNow_80 : decode cX7_changeNow 80 = .ok (.if_icmp .ge 8, 3) := dk_162 0 8 (dk_at dksX7_changeNow_3 9 rfl rfl)
theorem dX7_changeNow_83 : decode cX7_changeNow 83 = .ok (.iload 5, 2) := dk_21 5 (dk_at dksX7_changeNow_3 12 rfl rfl)
theorem dX7_changeNow_85 : decode cX7_changeNow 85 = .ok (.goto 5, 3) := dk_167 0 5 (dk_at dksX7_changeNow_3 14 rfl rfl)
theorem dX7_changeNow_88 : decode cX7_changeNow 88 = .ok (.iload 4, 2) := dk_21 4 (dk_at dksX7_changeNow_3 17 rfl rfl)
theorem dX7_changeNow_90 : decode cX7_changeNow 90 = .ok (.ireturn, 1) := dk_172 (dk_at dksX7_changeNow_3 19 rfl rfl)
abbrev cX7_pair : ByteArray := prog_20_method_28_code
def yX7_pair : MethodName := ⟨RX7, "pai\x72", "(IIIII)I"⟩
def dkwX7_pair_2 : List UInt8 := [96, 172]
abbrev dktX7_pair_2 : List UInt8 := dkwX7_pair_2 ++ []
def dkwX7_pair_1 : List UInt8 := [42, 27, 28, 29, 182, 0, 143, 42, 27, 28, 21, 4, 100, 29, 21, 5, 100, 182, 0, 143, 100, 184, 0, 146]
abbrev dktX7_pair_1 : List UInt8 := dkwX7_pair_1 ++ dktX7_pair_2
def dkwX7_pair_0 : List UInt8 := [42, 27, 28, 29, 182, 0, 143, 42, 27, 28, 21, 4, 96, 29, 21, 5, 96, 182, 0, 143, 100, 184, 0, 146]
abbrev dktX7_pair_0 : List UInt8 := dkwX7_pair_0 ++ dktX7_pair_1
theorem dksX7_pair_0 : cX7_pair.data.toList.drop 0 = dktX7_pair_0 := by decide +kernel
theorem dksX7_pair_1 : cX7_pair.data.toList.drop 24 = dktX7_pair_1 := dk_seg dksX7_pair_0 24 rfl rfl
theorem dksX7_pair_2 : cX7_pair.data.toList.drop 48 = dktX7_pair_2 := dk_seg dksX7_pair_1 24 rfl rfl
theorem dX7_pair_0 : decode cX7_pair 0 = .ok (.aload_n 0, 1) := dk_42 (dk_at dksX7_pair_0 0 rfl rfl)
theorem dX7_pair_1 : decode cX7_pair 1 = .ok (.iload_n 1, 1) := dk_27 (dk_at dksX7_pair_0 1 rfl rfl)
theorem dX7_pair_2 : decode cX7_pair 2 = .ok (.iload_n 2, 1) := dk_28 (dk_at dksX7_pair_0 2 rfl rfl)
theorem dX7_pair_3 : decode cX7_pair 3 = .ok (.iload_n 3, 1) := dk_29 (dk_at dksX7_pair_0 3 rfl rfl)
theorem dX7_pair_4 : decode cX7_pair 4 = .ok (.invokevirtual 143, 3) := dk_182 0 143 (dk_at dksX7_pair_0 4 rfl rfl)
theorem dX7_pair_7 : decode cX7_pair 7 = .ok (.aload_n 0, 1) := dk_42 (dk_at dksX7_pair_0 7 rfl rfl)
theorem dX7_pair_8 : decode cX7_pair 8 = .ok (.iload_n 1, 1) := dk_27 (dk_at dksX7_pair_0 8 rfl rfl)
theorem dX7_pair_9 : decode cX7_pair 9 = .ok (.iload_n 2, 1) := dk_28 (dk_at dksX7_pair_0 9 rfl rfl)
theorem dX7_pair_10 : decode cX7_pair 10 = .ok (.iload 4, 2) := dk_21 4 (dk_at dksX7_pair_0 10 rfl rfl)
theorem dX7_pair_12 : decode cX7_pair 12 = .ok (.iadd, 1) := dk_96 (dk_at dksX7_pair_0 12 rfl rfl)
theorem dX7_pair_13 : decode cX7_pair 13 = .ok (.iload_n 3, 1) := dk_29 (dk_at dksX7_pair_0 13 rfl rfl)
theorem dX7_pair_14 : decode cX7_pair 14 = .ok (.iload 5, 2) := dk_21 5 (dk_at dksX7_pair_0 14 rfl rfl)
theorem dX7_pair_16 : decode cX7_pair 16 = .ok (.iadd, 1) := dk_96 (dk_at dksX7_pair_0 16 rfl rfl)
theorem dX7_pair_17 : decode cX7_pair 17 = .ok (.invokevirtual 143, 3) := dk_182 0 143 (dk_at dksX7_pair_0 17 rfl rfl)
theorem dX7_pair_20 : decode cX7_pair 20 = .ok (.isub, 1) := dk_100 (dk_at dksX7_pair_0 20 rfl rfl)
theorem dX7_pair_21 : decode cX7_pair 21 = .ok (.invokestatic 146, 3) := dk_184 0 146 (dk_at dksX7_pair_0 21 rfl rfl)
theorem dX7_pair_24 : decode cX7_pair 24 = .ok (.aload_n 0, 1) := dk_42 (dk_at dksX7_pair_1 0 rfl rfl)
theorem dX7_pair_25 : decode cX7_pair 25 = .ok (.iload_n 1, 1) := dk_27 (dk_at dksX7_pair_1 1 rfl rfl)
theorem dX7_pair_26 : decode cX7_pair 26 = .ok (.iload_n 2, 1) := dk_28 (dk_at dksX7_pair_1 2 rfl rfl)
theorem dX7_pair_27 : decode cX7_pair 27 = .ok (.iload_n 3, 1) := dk_29 (dk_at dksX7_pair_1 3 rfl rfl)
theorem dX7_pair_28 : decode cX7_pair 28 = .ok (.invokevirtual 143, 3) := dk_182 0 143 (dk_at dksX7_pair_1 4 rfl rfl)
theorem dX7_pair_31 : decode cX7_pair 31 = .ok (.aload_n 0, 1) := dk_42 (dk_at dksX7_pair_1 7 rfl rfl)
theorem dX7_pair_32 : decode cX7_pair 32 = .ok (.iload_n 1, 1) := dk_27 (dk_at dksX7_pair_1 8 rfl rfl)
theorem dX7_pair_33 : decode cX7_pair 33 = .ok (.iload_n 2, 1) := dk_28 (dk_at dksX7_pair_1 9 rfl rfl)
theorem dX7_pair_34 : decode cX7_pair 34 = .ok (.iload 4, 2) := dk_21 4 (dk_at dksX7_pair_1 10 rfl rfl)
theorem dX7_pair_36 : decode cX7_pair 36 = .ok (.isub, 1) := dk_100 (dk_at dksX7_pair_1 12 rfl rfl)
theorem dX7_pair_37 : decode cX7_pair 37 = .ok (.iload_n 3, 1) := dk_29 (dk_at dksX7_pair_1 13 rfl rfl)
theorem dX7_pair_38 : decode cX7_pair 38 = .ok (.iload 5, 2) := dk_21 5 (dk_at dksX7_pair_1 14 rfl rfl)
theorem dX7_pair_40 : decode cX7_pair 40 = .ok (.isub, 1) := dk_100 (dk_at dksX7_pair_1 16 rfl rfl)
theorem dX7_pair_41 : decode cX7_pair 41 = .ok (.invokevirtual 143, 3) := dk_182 0 143 (dk_at dksX7_pair_1 17 rfl rfl)
theorem dX7_pair_44 : decode cX7_pair 44 = .ok (.isub, 1) := dk_100 (dk_at dksX7_pair_1 20 rfl rfl)
theorem dX7_pair_45 : decode cX7_pair 45 = .ok (.invokestatic 146, 3) := dk_184 0 146 (dk_at dksX7_pair_1 21 rfl rfl)
theorem dX7_pair_48 : decode cX7_pair 48 = .ok (.iadd, 1) := dk_96 (dk_at dksX7_pair_2 0 rfl rfl)
theorem dX7_pair_49 : decode cX7_pair 49 = .ok (.ireturn, 1) := dk_172 (dk_at dksX7_pair_2 1 rfl rfl)
abbrev cX7_abs : ByteArray := prog_20_method_6_code
def yX7_abs : MethodName := ⟨RX7, "abs", "(I)I"⟩
def dkwX7_abs_0 : List UInt8 := [26, 156, 0, 8, 26, 116, 167, 0, 4, 26, 172]
abbrev dktX7_abs_0 : List UInt8 := dkwX7_abs_0 ++ []
theorem dksX7_abs_0 : cX7_abs.data.toList.drop 0 = dktX7_abs_0 := by decide +kernel
theorem dX7_abs_0 : decode cX7_abs 0 = .ok (.iload_n 0, 1) := dk_26 (dk_at dksX7_abs_0 0 rfl rfl)
theorem dX7_abs_1 : decode cX7_abs 1 = .ok (.ifCond .ge 8, 3) := dk_156 0 8 (dk_at dksX7_abs_0 1 rfl rfl)
theorem dX7_abs_4 : decode cX7_abs 4 = .ok (.iload_n 0, 1) := dk_26 (dk_at dksX7_abs_0 4 rfl rfl)
theorem dX7_abs_5 : decode cX7_abs 5 = .ok (.ineg, 1) := dk_116 (dk_at dksX7_abs_0 5 rfl rfl)
theorem dX7_abs_6 : decode cX7_abs 6 = .ok (.goto 4, 3) := dk_167 0 4 (dk_at dksX7_abs_0 6 rfl rfl)
theorem dX7_abs_9 : decode cX7_abs 9 = .ok (.iload_n 0, 1) := dk_26 (dk_at dksX7_abs_0 9 rfl rfl)
theorem dX7_abs_10 : decode cX7_abs 10 = .ok (.ireturn, 1) := dk_172 (dk_at dksX7_abs_0 10 rfl rfl)
abbrev cX7_corners : ByteArray := prog_20_method_34_code
def yX7_corners : MethodName := ⟨RX7, "corners", "(I)I"⟩
def dkwX7_corners_0 : List UInt8 := [42, 27, 182, 0, 128, 153, 0, 11, 42, 27, 182, 0, 165, 167, 0, 9, 42, 16, 254, 182, 0, 91, 172]
abbrev dktX7_corners_0 : List UInt8 := dkwX7_corners_0 ++ []
theorem dksX7_corners_0 : cX7_corners.data.toList.drop 0 = dktX7_corners_0 := by decide +kernel
theorem dX7_corners_0 : decode cX7_corners 0 = .ok (.aload_n 0, 1) := dk_42 (dk_at dksX7_corners_0 0 rfl rfl)
theorem dX7_corners_1 : decode cX7_corners 1 = .ok (.iload_n 1, 1) := dk_27 (dk_at dksX7_corners_0 1 rfl rfl)
theorem dX7_corners_2 : decode cX7_corners 2 = .ok (.invokevirtual 128, 3) := dk_182 0 128 (dk_at dksX7_corners_0 2 rfl rfl)
theorem dX7_corners_5 : decode cX7_corners 5 = .ok (.ifCond .eq 11, 3) := dk_153 0 11 (dk_at dksX7_corners_0 5 rfl rfl)
theorem dX7_corners_8 : decode cX7_corners 8 = .ok (.aload_n 0, 1) := dk_42 (dk_at dksX7_corners_0 8 rfl rfl)
theorem dX7_corners_9 : decode cX7_corners 9 = .ok (.iload_n 1, 1) := dk_27 (dk_at dksX7_corners_0 9 rfl rfl)
theorem dX7_corners_10 : decode cX7_corners 10 = .ok (.invokevirtual 165, 3) := dk_182 0 165 (dk_at dksX7_corners_0 10 rfl rfl)
theorem dX7_corners_13 : decode cX7_corners 13 = .ok (.goto 9, 3) := dk_167 0 9 (dk_at dksX7_corners_0 13 rfl rfl)
theorem dX7_corners_16 : decode cX7_corners 16 = .ok (.aload_n 0, 1) := dk_42 (dk_at dksX7_corners_0 16 rfl rfl)
theorem dX7_corners_17 : decode cX7_corners 17 = .ok (.bipush (-2), 2) := dk_16 254 (dk_at dksX7_corners_0 17 rfl rfl)
theorem dX7_corners_19 : decode cX7_corners 19 = .ok (.invokevirtual 91, 3) := dk_182 0 91 (dk_at dksX7_corners_0 19 rfl rfl)
theorem dX7_corners_22 : decode cX7_corners 22 = .ok (.ireturn, 1) := dk_172 (dk_at dksX7_corners_0 22 rfl rfl)
abbrev cX7_cornersNow : ByteArray := prog_20_method_33_code
def yX7_cornersNow : MethodName := ⟨RX7, "cornersNow", "(I)I"⟩
def dkwX7_cornersNow_2 : List UInt8 := [3, 128, 61, 132, 4, 1, 167, 255, 215, 132, 3, 1, 167, 255, 201, 28, 172]
abbrev dktX7_cornersNow_2 : List UInt8 := dkwX7_cornersNow_2 ++ []
def dkwX7_cornersNow_1 : List UInt8 := [21, 4, 182, 0, 161, 153, 0, 19, 4, 16, 6, 29, 4, 100, 104, 21, 4, 96, 4, 100, 120, 167, 0, 4]
abbrev dktX7_cornersNow_1 : List UInt8 := dkwX7_cornersNow_1 ++ dktX7_cornersNow_2
def dkwX7_cornersNow_0 : List UInt8 := [3, 61, 4, 62, 29, 5, 163, 0, 56, 4, 54, 4, 21, 4, 16, 6, 163, 0, 40, 28, 42, 27, 29]
abbrev dktX7_cornersNow_0 : List UInt8 := dkwX7_cornersNow_0 ++ dktX7_cornersNow_1
theorem dksX7_cornersNow_0 : cX7_cornersNow.data.toList.drop 0 = dktX7_cornersNow_0 := by decide +kernel
theorem dksX7_cornersNow_1 : cX7_cornersNow.data.toList.drop 23 = dktX7_cornersNow_1 := dk_seg dksX7_cornersNow_0 23 rfl rfl
theorem dksX7_cornersNow_2 : cX7_cornersNow.data.toList.drop 47 = dktX7_cornersNow_2 := dk_seg dksX7_cornersNow_1 24 rfl rfl
theorem dX7_cornersNow_0 : decode cX7_cornersNow 0 = .ok (.iconst 0, 1) := dk_3 (dk_at dksX7_cornersNow_0 0 rfl rfl)
theorem dX7_cornersNow_1 : decode cX7_cornersNow 1 = .ok (.istore_n 2, 1) := dk_61 (dk_at dksX7_cornersNow_0 1 rfl rfl)
theorem dX7_cornersNow_2 : decode cX7_cornersNow 2 = .ok (.iconst 1, 1) := dk_4 (dk_at dksX7_cornersNow_0 2 rfl rfl)
theorem dX7_cornersNow_3 : decode cX7_cornersNow 3 = .ok (.istore_n 3, 1) := dk_62 (dk_at dksX7_cornersNow_0 3 rfl rfl)
theorem dX7_cornersNow_4 : decode cX7_cornersNow 4 = .ok (.iload_n 3, 1) := dk_29 (dk_at dksX7_cornersNow_0 4 rfl rfl)
theorem dX7_cornersNow_5 : decode cX7_cornersNow 5 = .ok (.iconst 2, 1) := dk_5 (dk_at dksX7_cornersNow_0 5 rfl rfl)
theorem dX7_cornersNow_6 : decode cX7_cornersNow 6 = .ok (.if_icmp .gt 56, 3) := dk_163 0 56 (dk_at dksX7_cornersNow_0 6 rfl rfl)
theorem dX7_cornersNow_9 : decode cX7_cornersNow 9 = .ok (.iconst 1, 1) := dk_4 (dk_at dksX7_cornersNow_0 9 rfl rfl)
theorem dX7_cornersNow_10 : decode cX7_cornersNow 10 = .ok (.istore 4, 2) := dk_54 4 (dk_at dksX7_cornersNow_0 10 rfl rfl)
theorem dX7_cornersNow_12 : decode cX7_cornersNow 12 = .ok (.iload 4, 2) := dk_21 4 (dk_at dksX7_cornersNow_0 12 rfl rfl)
theorem dX7_cornersNow_14 : decode cX7_cornersNow 14 = .ok (.bipush 6, 2) := dk_16 6 (dk_at dksX7_cornersNow_0 14 rfl rfl)
theorem dX7_cornersNow_16 : decode cX7_cornersNow 16 = .ok (.if_icmp .gt 40, 3) := dk_163 0 40 (dk_at dksX7_cornersNow_0 16 rfl rfl)
theorem dX7_cornersNow_19 : decode cX7_cornersNow 19 = .ok (.iload_n 2, 1) := dk_28 (dk_at dksX7_cornersNow_0 19 rfl rfl)
theorem dX7_cornersNow_20 : decode cX7_cornersNow 20 = .ok (.aload_n 0, 1) := dk_42 (dk_at dksX7_cornersNow_0 20 rfl rfl)
theorem dX7_cornersNow_21 : decode cX7_cornersNow 21 = .ok (.iload_n 1, 1) := dk_27 (dk_at dksX7_cornersNow_0 21 rfl rfl)
theorem dX7_cornersNow_22 : decode cX7_cornersNow 22 = .ok (.iload_n 3, 1) := dk_29 (dk_at dksX7_cornersNow_0 22 rfl rfl)
theorem dX7_cornersNow_23 : decode cX7_cornersNow 23 = .ok (.iload 4, 2) := dk_21 4 (dk_at dksX7_cornersNow_1 0 rfl rfl)
theorem dX7_cornersNow_25 : decode cX7_cornersNow 25 = .ok (.invokevirtual 161, 3) := dk_182 0 161 (dk_at dksX7_cornersNow_1 2 rfl rfl)
theorem dX7_cornersNow_28 : decode cX7_cornersNow 28 = .ok (.ifCond .eq 19, 3) := dk_153 0 19 (dk_at dksX7_cornersNow_1 5 rfl rfl)
theorem dX7_cornersNow_31 : decode cX7_cornersNow 31 = .ok (.iconst 1, 1) := dk_4 (dk_at dksX7_cornersNow_1 8 rfl rfl)
theorem dX7_cornersNow_32 : decode cX7_cornersNow 32 = .ok (.bipush 6, 2) := dk_16 6 (dk_at dksX7_cornersNow_1 9 rfl rfl)
theorem dX7_cornersNow_34 : decode cX7_cornersNow 34 = .ok (.iload_n 3, 1) := dk_29 (dk_at dksX7_cornersNow_1 11 rfl rfl)
theorem dX7_cornersNow_35 : decode cX7_cornersNow 35 = .ok (.iconst 1, 1) := dk_4 (dk_at dksX7_cornersNow_1 12 rfl rfl)
theorem dX7_cornersNow_36 : decode cX7_cornersNow 36 = .ok (.isub, 1) := dk_100 (dk_at dksX7_cornersNow_1 13 rfl rfl)
theorem dX7_cornersNow_37 : decode cX7_cornersNow 37 = .ok (.imul, 1) := dk_104 (dk_at dksX7_cornersNow_1 14 rfl rfl)
theorem dX7_cornersNow_38 : decode cX7_cornersNow 38 = .ok (.iload 4, 2) := dk_21 4 (dk_at dksX7_cornersNow_1 15 rfl rfl)
theorem dX7_cornersNow_40 : decode cX7_cornersNow 40 = .ok (.iadd, 1) := dk_96 (dk_at dksX7_cornersNow_1 17 rfl rfl)
theorem dX7_cornersNow_41 : decode cX7_cornersNow 41 = .ok (.iconst 1, 1) := dk_4 (dk_at dksX7_cornersNow_1 18 rfl rfl)
theorem dX7_cornersNow_42 : decode cX7_cornersNow 42 = .ok (.isub, 1) := dk_100 (dk_at dksX7_cornersNow_1 19 rfl rfl)
theorem dX7_cornersNow_43 : decode cX7_cornersNow 43 = .ok (.ishl, 1) := dk_120 (dk_at dksX7_cornersNow_1 20 rfl rfl)
theorem dX7_cornersNow_44 : decode cX7_cornersNow 44 = .ok (.goto 4, 3) := dk_167 0 4 (dk_at dksX7_cornersNow_1 21 rfl rfl)
theorem dX7_cornersNow_47 : decode cX7_cornersNow 47 = .ok (.iconst 0, 1) := dk_3 (dk_at dksX7_cornersNow_2 0 rfl rfl)
theorem dX7_cornersNow_48 : decode cX7_cornersNow 48 = .ok (.ior, 1) := dk_128 (dk_at dksX7_cornersNow_2 1 rfl rfl)
theorem dX7_cornersNow_49 : decode cX7_cornersNow 49 = .ok (.istore_n 2, 1) := dk_61 (dk_at dksX7_cornersNow_2 2 rfl rfl)
theorem dX7_cornersNow_50 : decode cX7_cornersNow 50 = .ok (.iinc 4 1, 3) := dk_132 4 1 (dk_at dksX7_cornersNow_2 3 rfl rfl)
theorem dX7_cornersNow_53 : decode cX7_cornersNow 53 = .ok (.goto (-41), 3) := dk_167 255 215 (dk_at dksX7_cornersNow_2 6 rfl rfl)
theorem dX7_cornersNow_56 : decode cX7_cornersNow 56 = .ok (.iinc 3 1, 3) := dk_132 3 1 (dk_at dksX7_cornersNow_2 9 rfl rfl)
theorem dX7_cornersNow_59 : decode cX7_cornersNow 59 = .ok (.goto (-55), 3) := dk_167 255 201 (dk_at dksX7_cornersNow_2 12 rfl rfl)
theorem dX7_cornersNow_62 : decode cX7_cornersNow 62 = .ok (.iload_n 2, 1) := dk_28 (dk_at dksX7_cornersNow_2 15 rfl rfl)
theorem dX7_cornersNow_63 : decode cX7_cornersNow 63 = .ok (.ireturn, 1) := dk_172 (dk_at dksX7_cornersNow_2 16 rfl rfl)
abbrev cX7_isCorner : ByteArray := prog_20_method_32_code
def yX7_isCorner : MethodName := ⟨RX7, "isCorne\x72", "(III)Z"⟩
def dkwX7_isCorner_1 : List UInt8 := [4, 167, 0, 4, 3, 172]
abbrev dktX7_isCorner_1 : List UInt8 := dkwX7_isCorner_1 ++ []
def dkwX7_isCorner_0 : List UInt8 := [28, 29, 184, 0, 155, 153, 0, 23, 42, 27, 28, 29, 182, 0, 158, 42, 180, 0, 7, 4, 46, 161, 0, 7]
abbrev dktX7_isCorner_0 : List UInt8 := dkwX7_isCorner_0 ++ dktX7_isCorner_1
theorem dksX7_isCorner_0 : cX7_isCorner.data.toList.drop 0 = dktX7_isCorner_0 := by decide +kernel
theorem dksX7_isCorner_1 : cX7_isCorner.data.toList.drop 24 = dktX7_isCorner_1 := dk_seg dksX7_isCorner_0 24 rfl rfl
theorem dX7_isCorner_0 : decode cX7_isCorner 0 = .ok (.iload_n 2, 1) := dk_28 (dk_at dksX7_isCorner_0 0 rfl rfl)
theorem dX7_isCorner_1 : decode cX7_isCorner 1 = .ok (.iload_n 3, 1) := dk_29 (dk_at dksX7_isCorner_0 1 rfl rfl)
theorem dX7_isCorner_2 : decode cX7_isCorner 2 = .ok (.invokestatic 155, 3) := dk_184 0 155 (dk_at dksX7_isCorner_0 2 rfl rfl)
theorem dX7_isCorner_5 : decode cX7_isCorner 5 = .ok (.ifCond .eq 23, 3) := dk_153 0 23 (dk_at dksX7_isCorner_0 5 rfl rfl)
theorem dX7_isCorner_8 : decode cX7_isCorner 8 = .ok (.aload_n 0, 1) := dk_42 (dk_at dksX7_isCorner_0 8 rfl rfl)
theorem dX7_isCorner_9 : decode cX7_isCorner 9 = .ok (.iload_n 1, 1) := dk_27 (dk_at dksX7_isCorner_0 9 rfl rfl)
theorem dX7_isCorner_10 : decode cX7_isCorner 10 = .ok (.iload_n 2, 1) := dk_28 (dk_at dksX7_isCorner_0 10 rfl rfl)
theorem dX7_isCorner_11 : decode cX7_isCorner 11 = .ok (.iload_n 3, 1) := dk_29 (dk_at dksX7_isCorner_0 11 rfl rfl)
theorem dX7_isCorner_12 : decode cX7_isCorner 12 = .ok (.invokevirtual 158, 3) := dk_182 0 158 (dk_at dksX7_isCorner_0 12 rfl rfl)
theorem dX7_isCorner_15 : decode cX7_isCorner 15 = .ok (.aload_n 0, 1) := dk_42 (dk_at dksX7_isCorner_0 15 rfl rfl)
theorem dX7_isCorner_16 : decode cX7_isCorner 16 = .ok (.getfield 7, 3) := dk_180 0 7 (dk_at dksX7_isCorner_0 16 rfl rfl)
theorem dX7_isCorner_19 : decode cX7_isCorner 19 = .ok (.iconst 1, 1) := dk_4 (dk_at dksX7_isCorner_0 19 rfl rfl)
theorem dX7_isCorner_20 : decode cX7_isCorner 20 = .ok (.iaload, 1) := dk_46 (dk_at dksX7_isCorner_0 20 rfl rfl)
theorem dX7_isCorner_21 : decode cX7_isCorner 21 = .ok (.if_icmp .lt 7, 3) := dk_161 0 7 (dk_at dksX7_isCorner_0 21 rfl rfl)
theorem dX7_isCorner_24 : decode cX7_isCorner 24 = .ok (.iconst 1, 1) := dk_4 (dk_at dksX7_isCorner_1 0 rfl rfl)
theorem dX7_isCorner_25 : decode cX7_isCorner 25 = .ok (.goto 4, 3) := dk_167 0 4 (dk_at dksX7_isCorner_1 1 rfl rfl)
theorem dX7_isCorner_28 : decode cX7_isCorner 28 = .ok (.iconst 0, 1) := dk_3 (dk_at dksX7_isCorner_1 4 rfl rfl)
theorem dX7_isCorner_29 : decode cX7_isCorner 29 = .ok (.ireturn, 1) := dk_172 (dk_at dksX7_isCorner_1 5 rfl rfl)
abbrev cX7_votes : ByteArray := prog_20_method_39_code
def yX7_votes : MethodName := ⟨RX7, "votes", "(IIII)I"⟩
def dkwX7_votes_2 : List UInt8 := [29, 21, 4, 182, 0, 179, 172]
abbrev dktX7_votes_2 : List UInt8 := dkwX7_votes_2 ++ []
def dkwX7_votes_1 : List UInt8 := [10, 20, 0, 102, 184, 0, 63, 154, 0, 10, 42, 16, 254, 182, 0, 91, 172, 42, 182, 0, 176, 42, 27, 28]
abbrev dktX7_votes_1 : List UInt8 := dkwX7_votes_1 ++ dktX7_votes_2
def dkwX7_votes_0 : List UInt8 := [42, 27, 28, 182, 0, 171, 153, 0, 28, 29, 133, 20, 0, 174, 10, 184, 0, 63, 153, 0, 16, 21, 4, 133]
abbrev dktX7_votes_0 : List UInt8 := dkwX7_votes_0 ++ dktX7_votes_1
theorem dksX7_votes_0 : cX7_votes.data.toList.drop 0 = dktX7_votes_0 := by decide +kernel
theorem dksX7_votes_1 : cX7_votes.data.toList.drop 24 = dktX7_votes_1 := dk_seg dksX7_votes_0 24 rfl rfl
theorem dksX7_votes_2 : cX7_votes.data.toList.drop 48 = dktX7_votes_2 := dk_seg dksX7_votes_1 24 rfl rfl
theorem dX7_votes_0 : decode cX7_votes 0 = .ok (.aload_n 0, 1) := dk_42 (dk_at dksX7_votes_0 0 rfl rfl)
theorem dX7_votes_1 : decode cX7_votes 1 = .ok (.iload_n 1, 1) := dk_27 (dk_at dksX7_votes_0 1 rfl rfl)
theorem dX7_votes_2 : decode cX7_votes 2 = .ok (.iload_n 2, 1) := dk_28 (dk_at dksX7_votes_0 2 rfl rfl)
theorem dX7_votes_3 : decode cX7_votes 3 = .ok (.invokevirtual 171, 3) := dk_182 0 171 (dk_at dksX7_votes_0 3 rfl rfl)
theorem dX7_votes_6 : decode cX7_votes 6 = .ok (.ifCond .eq 28, 3) := dk_153 0 28 (dk_at dksX7_votes_0 6 rfl rfl)
theorem dX7_votes_9 : decode cX7_votes 9 = .ok (.iload_n 3, 1) := dk_29 (dk_at dksX7_votes_0 9 rfl rfl)
theorem dX7_votes_10 : decode cX7_votes 10 = .ok (.i2l, 1) := dk_133 (dk_at dksX7_votes_0 10 rfl rfl)
theorem dX7_votes_11 : decode cX7_votes 11 = .ok (.ldc2_w 174, 3) := dk_20 0 174 (dk_at dksX7_votes_0 11 rfl rfl)
theorem dX7_votes_14 : decode cX7_votes 14 = .ok (.lconst 1, 1) := dk_10 (dk_at dksX7_votes_0 14 rfl rfl)
theorem dX7_votes_15 : decode cX7_votes 15 = .ok (.invokestatic 63, 3) := dk_184 0 63 (dk_at dksX7_votes_0 15 rfl rfl)
theorem dX7_votes_18 : decode cX7_votes 18 = .ok (.ifCond .eq 16, 3) := dk_153 0 16 (dk_at dksX7_votes_0 18 rfl rfl)
theorem dX7_votes_21 : decode cX7_votes 21 = .ok (.iload 4, 2) := dk_21 4 (dk_at dksX7_votes_0 21 rfl rfl)
theorem dX7_votes_23 : decode cX7_votes 23 = .ok (.i2l, 1) := dk_133 (dk_at dksX7_votes_0 23 rfl rfl)
theorem dX7_votes_24 : decode cX7_votes 24 = .ok (.lconst 1, 1) := dk_10 (dk_at dksX7_votes_1 0 rfl rfl)
theorem dX7_votes_25 : decode cX7_votes 25 = .ok (.ldc2_w 102, 3) := dk_20 0 102 (dk_at dksX7_votes_1 1 rfl rfl)
theorem dX7_votes_28 : decode cX7_votes 28 = .ok (.invokestatic 63, 3) := dk_184 0 63 (dk_at dksX7_votes_1 4 rfl rfl)
theorem dX7_votes_31 : decode cX7_votes 31 = .ok (.ifCond .ne 10, 3) := dk_154 0 10 (dk_at dksX7_votes_1 7 rfl rfl)
theorem dX7_votes_34 : decode cX7_votes 34 = .ok (.aload_n 0, 1) := dk_42 (dk_at dksX7_votes_1 10 rfl rfl)
theorem dX7_votes_35 : decode cX7_votes 35 = .ok (.bipush (-2), 2) := dk_16 254 (dk_at dksX7_votes_1 11 rfl rfl)
theorem dX7_votes_37 : decode cX7_votes 37 = .ok (.invokevirtual 91, 3) := dk_182 0 91 (dk_at dksX7_votes_1 13 rfl rfl)
theorem dX7_votes_40 : decode cX7_votes 40 = .ok (.ireturn, 1) := dk_172 (dk_at dksX7_votes_1 16 rfl rfl)
theorem dX7_votes_41 : decode cX7_votes 41 = .ok (.aload_n 0, 1) := dk_42 (dk_at dksX7_votes_1 17 rfl rfl)
theorem dX7_votes_42 : decode cX7_votes 42 = .ok (.invokevirtual 176, 3) := dk_182 0 176 (dk_at dksX7_votes_1 18 rfl rfl)
theorem dX7_votes_45 : decode cX7_votes 45 = .ok (.aload_n 0, 1) := dk_42 (dk_at dksX7_votes_1 21 rfl rfl)
theorem dX7_votes_46 : decode cX7_votes 46 = .ok (.iload_n 1, 1) := dk_27 (dk_at dksX7_votes_1 22 rfl rfl)
theorem dX7_votes_47 : decode cX7_votes 47 = .ok (.iload_n 2, 1) := dk_28 (dk_at dksX7_votes_1 23 rfl rfl)
theorem dX7_votes_48 : decode cX7_votes 48 = .ok (.iload_n 3, 1) := dk_29 (dk_at dksX7_votes_2 0 rfl rfl)
theorem dX7_votes_49 : decode cX7_votes 49 = .ok (.iload 4, 2) := dk_21 4 (dk_at dksX7_votes_2 1 rfl rfl)
theorem dX7_votes_51 : decode cX7_votes 51 = .ok (.invokevirtual 179, 3) := dk_182 0 179 (dk_at dksX7_votes_2 3 rfl rfl)
theorem dX7_votes_54 : decode cX7_votes 54 = .ok (.ireturn, 1) := dk_172 (dk_at dksX7_votes_2 6 rfl rfl)
abbrev cX7_areTwo : ByteArray := prog_20_method_38_code
def yX7_areTwo : MethodName := ⟨RX7, "areTwo", "(II)Z"⟩
def dkwX7_areTwo_1 : List UInt8 := [167, 0, 4, 3, 172]
abbrev dktX7_areTwo_1 : List UInt8 := dkwX7_areTwo_1 ++ []
def dkwX7_areTwo_0 : List UInt8 := [42, 27, 182, 0, 128, 153, 0, 20, 42, 28, 182, 0, 128, 153, 0, 12, 27, 28, 159, 0, 7, 4]
abbrev dktX7_areTwo_0 : List UInt8 := dkwX7_areTwo_0 ++ dktX7_areTwo_1
theorem dksX7_areTwo_0 : cX7_areTwo.data.toList.drop 0 = dktX7_areTwo_0 := by decide +kernel
theorem dksX7_areTwo_1 : cX7_areTwo.data.toList.drop 22 = dktX7_areTwo_1 := dk_seg dksX7_areTwo_0 22 rfl rfl
theorem dX7_areTwo_0 : decode cX7_areTwo 0 = .ok (.aload_n 0, 1) := dk_42 (dk_at dksX7_areTwo_0 0 rfl rfl)
theorem dX7_areTwo_1 : decode cX7_areTwo 1 = .ok (.iload_n 1, 1) := dk_27 (dk_at dksX7_areTwo_0 1 rfl rfl)
theorem dX7_areTwo_2 : decode cX7_areTwo 2 = .ok (.invokevirtual 128, 3) := dk_182 0 128 (dk_at dksX7_areTwo_0 2 rfl rfl)
theorem dX7_areTwo_5 : decode cX7_areTwo 5 = .ok (.ifCond .eq 20, 3) := dk_153 0 20 (dk_at dksX7_areTwo_0 5 rfl rfl)
theorem dX7_areTwo_8 : decode cX7_areTwo 8 = .ok (.aload_n 0, 1) := dk_42 (dk_at dksX7_areTwo_0 8 rfl rfl)
theorem dX7_areTwo_9 : decode cX7_areTwo 9 = .ok (.iload_n 2, 1) := dk_28 (dk_at dksX7_areTwo_0 9 rfl rfl)
theorem dX7_areTwo_10 : decode cX7_areTwo 10 = .ok (.invokevirtual 128, 3) := dk_182 0 128 (dk_at dksX7_areTwo_0 10 rfl rfl)
theorem dX7_areTwo_13 : decode cX7_areTwo 13 = .ok (.ifCond .eq 12, 3) := dk_153 0 12 (dk_at dksX7_areTwo_0 13 rfl rfl)
theorem dX7_areTwo_16 : decode cX7_areTwo 16 = .ok (.iload_n 1, 1) := dk_27 (dk_at dksX7_areTwo_0 16 rfl rfl)
theorem dX7_areTwo_17 : decode cX7_areTwo 17 = .ok (.iload_n 2, 1) := dk_28 (dk_at dksX7_areTwo_0 17 rfl rfl)
theorem dX7_areTwo_18 : decode cX7_areTwo 18 = .ok (.if_icmp .eq 7, 3) := dk_159 0 7 (dk_at dksX7_areTwo_0 18 rfl rfl)
theorem dX7_areTwo_21 : decode cX7_areTwo 21 = .ok (.iconst 1, 1) := dk_4 (dk_at dksX7_areTwo_0 21 rfl rfl)
theorem dX7_areTwo_22 : decode cX7_areTwo 22 = .ok (.goto 4, 3) := dk_167 0 4 (dk_at dksX7_areTwo_1 0 rfl rfl)
theorem dX7_areTwo_25 : decode cX7_areTwo 25 = .ok (.iconst 0, 1) := dk_3 (dk_at dksX7_areTwo_1 3 rfl rfl)
theorem dX7_areTwo_26 : decode cX7_areTwo 26 = .ok (.ireturn, 1) := dk_172 (dk_at dksX7_areTwo_1 4 rfl rfl)
abbrev cX7_laysCorners : ByteArray := prog_20_method_35_code
def yX7_laysCorners : MethodName := ⟨RX7, "laysCorners", "()V"⟩
def dkwX7_laysCorners_1 : List UInt8 := [167, 255, 234, 177]
abbrev dktX7_laysCorners_1 : List UInt8 := dkwX7_laysCorners_1 ++ []
def dkwX7_laysCorners_0 : List UInt8 := [3, 60, 27, 42, 182, 0, 59, 162, 0, 20, 42, 180, 0, 26, 27, 42, 27, 182, 0, 165, 79, 132, 1, 1]
abbrev dktX7_laysCorners_0 : List UInt8 := dkwX7_laysCorners_0 ++ dktX7_laysCorners_1
theorem dksX7_laysCorners_0 : cX7_laysCorners.data.toList.drop 0 = dktX7_laysCorners_0 := by decide +kernel
theorem dksX7_laysCorners_1 : cX7_laysCorners.data.toList.drop 24 = dktX7_laysCorners_1 := dk_seg dksX7_laysCorners_0 24 rfl rfl
theorem dX7_laysCorners_0 : decode cX7_laysCorners 0 = .ok (.iconst 0, 1) := dk_3 (dk_at dksX7_laysCorners_0 0 rfl rfl)
theorem dX7_laysCorners_1 : decode cX7_laysCorners 1 = .ok (.istore_n 1, 1) := dk_60 (dk_at dksX7_laysCorners_0 1 rfl rfl)
theorem dX7_laysCorners_2 : decode cX7_laysCorners 2 = .ok (.iload_n 1, 1) := dk_27 (dk_at dksX7_laysCorners_0 2 rfl rfl)
theorem dX7_laysCorners_3 : decode cX7_laysCorners 3 = .ok (.aload_n 0, 1) := dk_42 (dk_at dksX7_laysCorners_0 3 rfl rfl)
theorem dX7_laysCorners_4 : decode cX7_laysCorners 4 = .ok (.invokevirtual 59, 3) := dk_182 0 59 (dk_at dksX7_laysCorners_0 4 rfl rfl)
theorem dX7_laysCorners_7 : decode cX7_laysCorners 7 = .ok (.if_icmp .ge 20, 3) := dk_162 0 20 (dk_at dksX7_laysCorners_0 7 rfl rfl)
theorem dX7_laysCorners_10 : decode cX7_laysCorners 10 = .ok (.aload_n 0, 1) := dk_42 (dk_at dksX7_laysCorners_0 10 rfl rfl)
theorem dX7_laysCorners_11 : decode cX7_laysCorners 11 = .ok (.getfield 26, 3) := dk_180 0 26 (dk_at dksX7_laysCorners_0 11 rfl rfl)
theorem dX7_laysCorners_14 : decode cX7_laysCorners 14 = .ok (.iload_n 1, 1) := dk_27 (dk_at dksX7_laysCorners_0 14 rfl rfl)
theorem dX7_laysCorners_15 : decode cX7_laysCorners 15 = .ok (.aload_n 0, 1) := dk_42 (dk_at dksX7_laysCorners_0 15 rfl rfl)
theorem dX7_laysCorners_16 : decode cX7_laysCorners 16 = .ok (.iload_n 1, 1) := dk_27 (dk_at dksX7_laysCorners_0 16 rfl rfl)
theorem dX7_laysCorners_17 : decode cX7_laysCorners 17 = .ok (.invokevirtual 165, 3) := dk_182 0 165 (dk_at dksX7_laysCorners_0 17 rfl rfl)
theorem dX7_laysCorners_20 : decode cX7_laysCorners 20 = .ok (.iastore, 1) := dk_79 (dk_at dksX7_laysCorners_0 20 rfl rfl)
theorem dX7_laysCorners_21 : decode cX7_laysCorners 21 = .ok (.iinc 1 1, 3) := dk_132 1 1 (dk_at dksX7_laysCorners_0 21 rfl rfl)
theorem dX7_laysCorners_24 : decode cX7_laysCorners 24 = .ok (.goto (-22), 3) := dk_167 255 234 (dk_at dksX7_laysCorners_1 0 rfl rfl)
theorem dX7_laysCorners_27 : decode cX7_laysCorners 27 = .ok (.return_, 1) := dk_177 (dk_at dksX7_laysCorners_1 3 rfl rfl)
abbrev cX7_votesNow : ByteArray := prog_20_method_37_code
def yX7_votesNow : MethodName := ⟨RX7, "votesNow", "(IIII)I"⟩
def dkwX7_votesNow_5 : List UInt8 := [132, 6, 1, 167, 255, 144, 21, 5, 172]
abbrev dktX7_votesNow_5 : List UInt8 := dkwX7_votesNow_5 ++ []
def dkwX7_votesNow_4 : List UInt8 := [180, 0, 7, 5, 46, 163, 0, 7, 4, 167, 0, 4, 3, 96, 54, 5, 132, 7, 1, 167, 255, 159]
abbrev dktX7_votesNow_4 : List UInt8 := dkwX7_votesNow_4 ++ dktX7_votesNow_5
def dkwX7_votesNow_3 : List UInt8 := [182, 0, 143, 42, 28, 21, 6, 29, 100, 21, 7, 21, 4, 100, 182, 0, 143, 100, 184, 0, 146, 42]
abbrev dktX7_votesNow_3 : List UInt8 := dkwX7_votesNow_3 ++ dktX7_votesNow_4
def dkwX7_votesNow_2 : List UInt8 := [153, 0, 7, 4, 167, 0, 4, 3, 54, 8, 21, 5, 21, 8, 153, 0, 43, 42, 27, 21, 6, 21, 7]
abbrev dktX7_votesNow_2 : List UInt8 := dkwX7_votesNow_2 ++ dktX7_votesNow_3
def dkwX7_votesNow_1 : List UInt8 := [21, 6, 21, 7, 182, 0, 168, 153, 0, 24, 42, 28, 21, 6, 29, 100, 21, 7, 21, 4, 100, 182, 0, 168]
abbrev dktX7_votesNow_1 : List UInt8 := dkwX7_votesNow_1 ++ dktX7_votesNow_2
def dkwX7_votesNow_0 : List UInt8 := [3, 54, 5, 4, 54, 6, 21, 6, 5, 163, 0, 112, 4, 54, 7, 21, 7, 16, 6, 163, 0, 96, 42, 27]
abbrev dktX7_votesNow_0 : List UInt8 := dkwX7_votesNow_0 ++ dktX7_votesNow_1
theorem dksX7_votesNow_0 : cX7_votesNow.data.toList.drop 0 = dktX7_votesNow_0 := by decide +kernel
theorem dksX7_votesNow_1 : cX7_votesNow.data.toList.drop 24 = dktX7_votesNow_1 := dk_seg dksX7_votesNow_0 24 rfl rfl
theorem dksX7_votesNow_2 : cX7_votesNow.data.toList.drop 48 = dktX7_votesNow_2 := dk_seg dksX7_votesNow_1 24 rfl rfl
theorem dksX7_votesNow_3 : cX7_votesNow.data.toList.drop 71 = dktX7_votesNow_3 := dk_seg dksX7_votesNow_2 23 rfl rfl
theorem dksX7_votesNow_4 : cX7_votesNow.data.toList.drop 93 = dktX7_votesNow_4 := dk_seg dksX7_votesNow_3 22 rfl rfl
theorem dksX7_votesNow_5 : cX7_votesNow.data.toList.drop 115 = dktX7_votesNow_5 := dk_seg dksX7_votesNow_4 22 rfl rfl
theorem dX7_votesNow_0 : decode cX7_votesNow 0 = .ok (.iconst 0, 1) := dk_3 (dk_at dksX7_votesNow_0 0 rfl rfl)
theorem dX7_votesNow_1 : decode cX7_votesNow 1 = .ok (.istore 5, 2) := dk_54 5 (dk_at dksX7_votesNow_0 1 rfl rfl)
theorem dX7_votesNow_3 : decode cX7_votesNow 3 = .ok (.iconst 1, 1) := dk_4 (dk_at dksX7_votesNow_0 3 rfl rfl)
theorem dX7_votesNow_4 : decode cX7_votesNow 4 = .ok (.istore 6, 2) := dk_54 6 (dk_at dksX7_votesNow_0 4 rfl rfl)
theorem dX7_votesNow_6 : decode cX7_votesNow 6 = .ok (.iload 6, 2) := dk_21 6 (dk_at dksX7_votesNow_0 6 rfl rfl)
theorem dX7_votesNow_8 : decode cX7_votesNow 8 = .ok (.iconst 2, 1) := dk_5 (dk_at dksX7_votesNow_0 8 rfl rfl)
theorem dX7_votesNow_9 : decode cX7_votesNow 9 = .ok (.if_icmp .gt 112, 3) := dk_163 0 112 (dk_at dksX7_votesNow_0 9 rfl rfl)
theorem dX7_votesNow_12 : decode cX7_votesNow 12 = .ok (.iconst 1, 1) := dk_4 (dk_at dksX7_votesNow_0 12 rfl rfl)
theorem dX7_votesNow_13 : decode cX7_votesNow 13 = .ok (.istore 7, 2) := dk_54 7 (dk_at dksX7_votesNow_0 13 rfl rfl)
theorem dX7_votesNow_15 : decode cX7_votesNow 15 = .ok (.iload 7, 2) := dk_21 7 (dk_at dksX7_votesNow_0 15 rfl rfl)
theorem dX7_votesNow_17 : decode cX7_votesNow 17 = .ok (.bipush 6, 2) := dk_16 6 (dk_at dksX7_votesNow_0 17 rfl rfl)
theorem dX7_votesNow_19 : decode cX7_votesNow 19 = .ok (.if_icmp .gt 96, 3) := dk_163 0 96 (dk_at dksX7_votesNow_0 19 rfl rfl)
theorem dX7_votesNow_22 : decode cX7_votesNow 22 = .ok (.aload_n 0, 1) := dk_42 (dk_at dksX7_votesNow_0 22 rfl rfl)
theorem dX7_votesNow_23 : decode cX7_votesNow 23 = .ok (.iload_n 1, 1) := dk_27 (dk_at dksX7_votesNow_0 23 rfl rfl)
theorem dX7_votesNow_24 : decode cX7_votesNow 24 = .ok (.iload 6, 2) := dk_21 6 (dk_at dksX7_votesNow_1 0 rfl rfl)
theorem dX7_votesNow_26 : decode cX7_votesNow 26 = .ok (.iload 7, 2) := dk_21 7 (dk_at dksX7_votesNow_1 2 rfl rfl)
theorem dX7_votesNow_28 : decode cX7_votesNow 28 = .ok (.invokevirtual 168, 3) := dk_182 0 168 (dk_at dksX7_votesNow_1 4 rfl rfl)
theorem dX7_votesNow_31 : decode cX7_votesNow 31 = .ok (.ifCond .eq 24, 3) := dk_153 0 24 (dk_at dksX7_votesNow_1 7 rfl rfl)
theorem dX7_votesNow_34 : decode cX7_votesNow 34 = .ok (.aload_n 0, 1) := dk_42 (dk_at dksX7_votesNow_1 10 rfl rfl)
theorem dX7_votesNow_35 : decode cX7_votesNow 35 = .ok (.iload_n 2, 1) := dk_28 (dk_at dksX7_votesNow_1 11 rfl rfl)
theorem dX7_votesNow_36 : decode cX7_votesNow 36 = .ok (.iload 6, 2) := dk_21 6 (dk_at dksX7_votesNow_1 12 rfl rfl)
theorem dX7_votesNow_38 : decode cX7_votesNow 38 = .ok (.iload_n 3, 1) := dk_29 (dk_at dksX7_votesNow_1 14 rfl rfl)
theorem dX7_votesNow_39 : decode cX7_votesNow 39 = .ok (.isub, 1) := dk_100 (dk_at dksX7_votesNow_1 15 rfl rfl)
theorem dX7_votesNow_40 : decode cX7_votesNow 40 = .ok (.iload 7, 2) := dk_21 7 (dk_at dksX7_votesNow_1 16 rfl rfl)
theorem dX7_votesNow_42 : decode cX7_votesNow 42 = .ok (.iload 4, 2) := dk_21 4 (dk_at dksX7_votesNow_1 18 rfl rfl)
theorem dX7_votesNow_44 : decode cX7_votesNow 44 = .ok (.isub, 1) := dk_100 (dk_at dksX7_votesNow_1 20 rfl rfl)
theorem dX7_votesNow_45 : decode cX7_votesNow 45 = .ok (.invokevirtual 168, 3) := dk_182 0 168 (dk_at dksX7_votesNow_1 21 rfl rfl)
theorem dX7_votesNow_48 : decode cX7_votesNow 48 = .ok (.ifCond .eq 7, 3) := dk_153 0 7 (dk_at dksX7_votesNow_2 0 rfl rfl)
theorem dX7_votesNow_51 : decode cX7_votesNow 51 = .ok (.iconst 1, 1) := dk_4 (dk_at dksX7_votesNow_2 3 rfl rfl)
theorem dX7_votesNow_52 : decode cX7_votesNow 52 = .ok (.goto 4, 3) := dk_167 0 4 (dk_at dksX7_votesNow_2 4 rfl rfl)
theorem dX7_votesNow_55 : decode cX7_votesNow 55 = .ok (.iconst 0, 1) := dk_3 (dk_at dksX7_votesNow_2 7 rfl rfl)
theorem dX7_votesNow_56 : decode cX7_votesNow 56 = .ok (.istore 8, 2) := dk_54 8 (dk_at dksX7_votesNow_2 8 rfl rfl)
theorem dX7_votesNow_58 : decode cX7_votesNow 58 = .ok (.iload 5, 2) := dk_21 5 (dk_at dksX7_votesNow_2 10 rfl rfl)
theorem dX7_votesNow_60 : decode cX7_votesNow 60 = .ok (.iload 8, 2) := dk_21 8 (dk_at dksX7_votesNow_2 12 rfl rfl)
theorem dX7_votesNow_62 : decode cX7_votesNow 62 = .ok (.ifCond .eq 43, 3) := dk_153 0 43 (dk_at dksX7_votesNow_2 14 rfl rfl)
theorem dX7_votesNow_65 : decode cX7_votesNow 65 = .ok (.aload_n 0, 1) := dk_42 (dk_at dksX7_votesNow_2 17 rfl rfl)
theorem dX7_votesNow_66 : decode cX7_votesNow 66 = .ok (.iload_n 1, 1) := dk_27 (dk_at dksX7_votesNow_2 18 rfl rfl)
theorem dX7_votesNow_67 : decode cX7_votesNow 67 = .ok (.iload 6, 2) := dk_21 6 (dk_at dksX7_votesNow_2 19 rfl rfl)
theorem dX7_votesNow_69 : decode cX7_votesNow 69 = .ok (.iload 7, 2) := dk_21 7 (dk_at dksX7_votesNow_2 21 rfl rfl)
theorem dX7_votesNow_71 : decode cX7_votesNow 71 = .ok (.invokevirtual 143, 3) := dk_182 0 143 (dk_at dksX7_votesNow_3 0 rfl rfl)
theorem dX7_votesNow_74 : decode cX7_votesNow 74 = .ok (.aload_n 0, 1) := dk_42 (dk_at dksX7_votesNow_3 3 rfl rfl)
theorem dX7_votesNow_75 : decode cX7_votesNow 75 = .ok (.iload_n 2, 1) := dk_28 (dk_at dksX7_votesNow_3 4 rfl rfl)
theorem dX7_votesNow_76 : decode cX7_votesNow 76 = .ok (.iload 6, 2) := dk_21 6 (dk_at dksX7_votesNow_3 5 rfl rfl)
theorem dX7_votesNow_78 : decode cX7_votesNow 78 = .ok (.iload_n 3, 1) := dk_29 (dk_at dksX7_votesNow_3 7 rfl rfl)
theorem dX7_votesNow_79 : decode cX7_votesNow 79 = .ok (.isub, 1) := dk_100 (dk_at dksX7_votesNow_3 8 rfl rfl)
theorem dX7_votesNow_80 : decode cX7_votesNow 80 = .ok (.iload 7, 2) := dk_21 7 (dk_at dksX7_votesNow_3 9 rfl rfl)
theorem dX7_votesNow_82 : decode cX7_votesNow 82 = .ok (.iload 4, 2) := dk_21 4 (dk_at dksX7_votesNow_3 11 rfl rfl)
theorem dX7_votesNow_84 : decode cX7_votesNow 84 = .ok (.isub, 1) := dk_100 (dk_at dksX7_votesNow_3 13 rfl rfl)
theorem dX7_votesNow_85 : decode cX7_votesNow 85 = .ok (.invokevirtual 143, 3) := dk_182 0 143 (dk_at dksX7_votesNow_3 14 rfl rfl)
theorem dX7_votesNow_88 : decode cX7_votesNow 88 = .ok (.isub, 1) := dk_100 (dk_at dksX7_votesNow_3 17 rfl rfl)
theorem dX7_votesNow_89 : decode cX7_votesNow 89 = .ok (.invokestatic 146, 3) := dk_184 0 146 (dk_at dksX7_votesNow_3 18 rfl rfl)
theorem dX7_votesNow_92 : decode cX7_votesNow 92 = .ok (.aload_n 0, 1) := dk_42 (dk_at dksX7_votesNow_3 21 rfl rfl)
theorem dX7_votesNow_93 : decode cX7_votesNow 93 = .ok (.getfield 7, 3) := dk_180 0 7 (dk_at dksX7_votesNow_4 0 rfl rfl)
theorem dX7_votesNow_96 : decode cX7_votesNow 96 = .ok (.iconst 2, 1) := dk_5 (dk_at dksX7_votesNow_4 3 rfl rfl)
theorem dX7_votesNow_97 : decode cX7_votesNow 97 = .ok (.iaload, 1) := dk_46 (dk_at dksX7_votesNow_4 4 rfl rfl)
theorem dX7_votesNow_98 : decode cX7_votesNow 98 = .ok (.if_icmp .gt 7, 3) := dk_163 0 7 (dk_at dksX7_votesNow_4 5 rfl rfl)
theorem dX7_votesNow_101 : decode cX7_votesNow 101 = .ok (.iconst 1, 1) := dk_4 (dk_at dksX7_votesNow_4 8 rfl rfl)
theorem dX7_votesNow_102 : decode cX7_votesNow 102 = .ok (.goto 4, 3) := dk_167 0 4 (dk_at dksX7_votesNow_4 9 rfl rfl)
theorem dX7_votesNow_105 : decode cX7_votesNow 105 = .ok (.iconst 0, 1) := dk_3 (dk_at dksX7_votesNow_4 12 rfl rfl)
theorem dX7_votesNow_106 : decode cX7_votesNow 106 = .ok (.iadd, 1) := dk_96 (dk_at dksX7_votesNow_4 13 rfl rfl)
theorem dX7_votesNow_107 : decode cX7_votesNow 107 = .ok (.istore 5, 2) := dk_54 5 (dk_at dksX7_votesNow_4 14 rfl rfl)
theorem dX7_votesNow_109 : decode cX7_votesNow 109 = .ok (.iinc 7 1, 3) := dk_132 7 1 (dk_at dksX7_votesNow_4 16 rfl rfl)
theorem dX7_votesNow_112 : decode cX7_votesNow 112 = .ok (.goto (-97), 3) := dk_167 255 159 (dk_at dksX7_votesNow_4 19 rfl rfl)
theorem dX7_votesNow_115 : decode cX7_votesNow 115 = .ok (.iinc 6 1, 3) := dk_132 6 1 (dk_at dksX7_votesNow_5 0 rfl rfl)
theorem dX7_votesNow_118 : decode cX7_votesNow 118 = .ok (.goto (-112), 3) := dk_167 255 144 (dk_at dksX7_votesNow_5 3 rfl rfl)
theorem dX7_votesNow_121 : decode cX7_votesNow 121 = .ok (.iload 5, 2) := dk_21 5 (dk_at dksX7_votesNow_5 6 rfl rfl)
theorem dX7_votesNow_123 : decode cX7_votesNow 123 = .ok (.ireturn, 1) := dk_172 (dk_at dksX7_votesNow_5 8 rfl rfl)
abbrev cX7_hasCorner : ByteArray := prog_20_method_36_code
def yX7_hasCorner : MethodName := ⟨RX7, "hasCorne\x72", "(III)Z"⟩
def dkwX7_hasCorner_1 : List UInt8 := [122, 4, 126, 4, 160, 0, 7, 4, 167, 0, 4, 3, 172]
abbrev dktX7_hasCorner_1 : List UInt8 := dkwX7_hasCorner_1 ++ []
def dkwX7_hasCorner_0 : List UInt8 := [28, 29, 184, 0, 155, 153, 0, 30, 42, 180, 0, 26, 27, 46, 16, 6, 28, 4, 100, 104, 29, 96, 4, 100]
abbrev dktX7_hasCorner_0 : List UInt8 := dkwX7_hasCorner_0 ++ dktX7_hasCorner_1
theorem dksX7_hasCorner_0 : cX7_hasCorner.data.toList.drop 0 = dktX7_hasCorner_0 := by decide +kernel
theorem dksX7_hasCorner_1 : cX7_hasCorner.data.toList.drop 24 = dktX7_hasCorner_1 := dk_seg dksX7_hasCorner_0 24 rfl rfl
theorem dX7_hasCorner_0 : decode cX7_hasCorner 0 = .ok (.iload_n 2, 1) := dk_28 (dk_at dksX7_hasCorner_0 0 rfl rfl)
theorem dX7_hasCorner_1 : decode cX7_hasCorner 1 = .ok (.iload_n 3, 1) := dk_29 (dk_at dksX7_hasCorner_0 1 rfl rfl)
theorem dX7_hasCorner_2 : decode cX7_hasCorner 2 = .ok (.invokestatic 155, 3) := dk_184 0 155 (dk_at dksX7_hasCorner_0 2 rfl rfl)
theorem dX7_hasCorner_5 : decode cX7_hasCorner 5 = .ok (.ifCond .eq 30, 3) := dk_153 0 30 (dk_at dksX7_hasCorner_0 5 rfl rfl)
theorem dX7_hasCorner_8 : decode cX7_hasCorner 8 = .ok (.aload_n 0, 1) := dk_42 (dk_at dksX7_hasCorner_0 8 rfl rfl)
theorem dX7_hasCorner_9 : decode cX7_hasCorner 9 = .ok (.getfield 26, 3) := dk_180 0 26 (dk_at dksX7_hasCorner_0 9 rfl rfl)
theorem dX7_hasCorner_12 : decode cX7_hasCorner 12 = .ok (.iload_n 1, 1) := dk_27 (dk_at dksX7_hasCorner_0 12 rfl rfl)
theorem dX7_hasCorner_13 : decode cX7_hasCorner 13 = .ok (.iaload, 1) := dk_46 (dk_at dksX7_hasCorner_0 13 rfl rfl)
theorem dX7_hasCorner_14 : decode cX7_hasCorner 14 = .ok (.bipush 6, 2) := dk_16 6 (dk_at dksX7_hasCorner_0 14 rfl rfl)
theorem dX7_hasCorner_16 : decode cX7_hasCorner 16 = .ok (.iload_n 2, 1) := dk_28 (dk_at dksX7_hasCorner_0 16 rfl rfl)
theorem dX7_hasCorner_17 : decode cX7_hasCorner 17 = .ok (.iconst 1, 1) := dk_4 (dk_at dksX7_hasCorner_0 17 rfl rfl)
theorem dX7_hasCorner_18 : decode cX7_hasCorner 18 = .ok (.isub, 1) := dk_100 (dk_at dksX7_hasCorner_0 18 rfl rfl)
theorem dX7_hasCorner_19 : decode cX7_hasCorner 19 = .ok (.imul, 1) := dk_104 (dk_at dksX7_hasCorner_0 19 rfl rfl)
theorem dX7_hasCorner_20 : decode cX7_hasCorner 20 = .ok (.iload_n 3, 1) := dk_29 (dk_at dksX7_hasCorner_0 20 rfl rfl)
theorem dX7_hasCorner_21 : decode cX7_hasCorner 21 = .ok (.iadd, 1) := dk_96 (dk_at dksX7_hasCorner_0 21 rfl rfl)
theorem dX7_hasCorner_22 : decode cX7_hasCorner 22 = .ok (.iconst 1, 1) := dk_4 (dk_at dksX7_hasCorner_0 22 rfl rfl)
theorem dX7_hasCorner_23 : decode cX7_hasCorner 23 = .ok (.isub, 1) := dk_100 (dk_at dksX7_hasCorner_0 23 rfl rfl)
theorem dX7_hasCorner_24 : decode cX7_hasCorner 24 = .ok (.ishr, 1) := dk_122 (dk_at dksX7_hasCorner_1 0 rfl rfl)
theorem dX7_hasCorner_25 : decode cX7_hasCorner 25 = .ok (.iconst 1, 1) := dk_4 (dk_at dksX7_hasCorner_1 1 rfl rfl)
theorem dX7_hasCorner_26 : decode cX7_hasCorner 26 = .ok (.iand, 1) := dk_126 (dk_at dksX7_hasCorner_1 2 rfl rfl)
theorem dX7_hasCorner_27 : decode cX7_hasCorner 27 = .ok (.iconst 1, 1) := dk_4 (dk_at dksX7_hasCorner_1 3 rfl rfl)
theorem dX7_hasCorner_28 : decode cX7_hasCorner 28 = .ok (.if_icmp .ne 7, 3) := dk_160 0 7 (dk_at dksX7_hasCorner_1 4 rfl rfl)
theorem dX7_hasCorner_31 : decode cX7_hasCorner 31 = .ok (.iconst 1, 1) := dk_4 (dk_at dksX7_hasCorner_1 7 rfl rfl)
theorem dX7_hasCorner_32 : decode cX7_hasCorner 32 = .ok (.goto 4, 3) := dk_167 0 4 (dk_at dksX7_hasCorner_1 8 rfl rfl)
theorem dX7_hasCorner_35 : decode cX7_hasCorner 35 = .ok (.iconst 0, 1) := dk_3 (dk_at dksX7_hasCorner_1 11 rfl rfl)
theorem dX7_hasCorner_36 : decode cX7_hasCorner 36 = .ok (.ireturn, 1) := dk_172 (dk_at dksX7_hasCorner_1 12 rfl rfl)
abbrev cX7_link : ByteArray := prog_20_method_42_code
def yX7_link : MethodName := ⟨RX7, "link", "(III)I"⟩
def dkwX7_link_4 : List UInt8 := [21, 4, 46, 172]
abbrev dktX7_link_4 : List UInt8 := dkwX7_link_4 ++ []
def dkwX7_link_3 : List UInt8 := [167, 0, 27, 29, 4, 160, 0, 15, 42, 180, 0, 32, 21, 4, 46, 4, 96, 167, 0, 10, 42, 180, 0, 35]
abbrev dktX7_link_3 : List UInt8 := dkwX7_link_3 ++ dktX7_link_4
def dkwX7_link_2 : List UInt8 := [154, 0, 13, 42, 180, 0, 29, 21, 4, 46, 167, 0, 41, 42, 180, 0, 29, 21, 4, 46, 154, 0, 7, 2]
abbrev dktX7_link_2 : List UInt8 := dkwX7_link_2 ++ dktX7_link_3
def dkwX7_link_1 : List UInt8 := [182, 0, 91, 172, 42, 182, 0, 176, 42, 27, 28, 182, 0, 183, 16, 6, 27, 104, 28, 96, 54, 4, 29]
abbrev dktX7_link_1 : List UInt8 := dkwX7_link_1 ++ dktX7_link_2
def dkwX7_link_0 : List UInt8 := [42, 27, 28, 182, 0, 171, 153, 0, 15, 29, 133, 9, 20, 0, 112, 184, 0, 63, 154, 0, 10, 42, 16, 254]
abbrev dktX7_link_0 : List UInt8 := dkwX7_link_0 ++ dktX7_link_1
theorem dksX7_link_0 : cX7_link.data.toList.drop 0 = dktX7_link_0 := by decide +kernel
theorem dksX7_link_1 : cX7_link.data.toList.drop 24 = dktX7_link_1 := dk_seg dksX7_link_0 24 rfl rfl
theorem dksX7_link_2 : cX7_link.data.toList.drop 47 = dktX7_link_2 := dk_seg dksX7_link_1 23 rfl rfl
theorem dksX7_link_3 : cX7_link.data.toList.drop 71 = dktX7_link_3 := dk_seg dksX7_link_2 24 rfl rfl
theorem dksX7_link_4 : cX7_link.data.toList.drop 95 = dktX7_link_4 := dk_seg dksX7_link_3 24 rfl rfl
theorem dX7_link_0 : decode cX7_link 0 = .ok (.aload_n 0, 1) := dk_42 (dk_at dksX7_link_0 0 rfl rfl)
theorem dX7_link_1 : decode cX7_link 1 = .ok (.iload_n 1, 1) := dk_27 (dk_at dksX7_link_0 1 rfl rfl)
theorem dX7_link_2 : decode cX7_link 2 = .ok (.iload_n 2, 1) := dk_28 (dk_at dksX7_link_0 2 rfl rfl)
theorem dX7_link_3 : decode cX7_link 3 = .ok (.invokevirtual 171, 3) := dk_182 0 171 (dk_at dksX7_link_0 3 rfl rfl)
theorem dX7_link_6 : decode cX7_link 6 = .ok (.ifCond .eq 15, 3) := dk_153 0 15 (dk_at dksX7_link_0 6 rfl rfl)
theorem dX7_link_9 : decode cX7_link 9 = .ok (.iload_n 3, 1) := dk_29 (dk_at dksX7_link_0 9 rfl rfl)
theorem dX7_link_10 : decode cX7_link 10 = .ok (.i2l, 1) := dk_133 (dk_at dksX7_link_0 10 rfl rfl)
theorem dX7_link_11 : decode cX7_link 11 = .ok (.lconst 0, 1) := dk_9 (dk_at dksX7_link_0 11 rfl rfl)
theorem dX7_link_12 : decode cX7_link 12 = .ok (.ldc2_w 112, 3) := dk_20 0 112 (dk_at dksX7_link_0 12 rfl rfl)
theorem dX7_link_15 : decode cX7_link 15 = .ok (.invokestatic 63, 3) := dk_184 0 63 (dk_at dksX7_link_0 15 rfl rfl)
theorem dX7_link_18 : decode cX7_link 18 = .ok (.ifCond .ne 10, 3) := dk_154 0 10 (dk_at dksX7_link_0 18 rfl rfl)
theorem dX7_link_21 : decode cX7_link 21 = .ok (.aload_n 0, 1) := dk_42 (dk_at dksX7_link_0 21 rfl rfl)
theorem dX7_link_22 : decode cX7_link 22 = .ok (.bipush (-2), 2) := dk_16 254 (dk_at dksX7_link_0 22 rfl rfl)
theorem dX7_link_24 : decode cX7_link 24 = .ok (.invokevirtual 91, 3) := dk_182 0 91 (dk_at dksX7_link_1 0 rfl rfl)
theorem dX7_link_27 : decode cX7_link 27 = .ok (.ireturn, 1) := dk_172 (dk_at dksX7_link_1 3 rfl rfl)
theorem dX7_link_28 : decode cX7_link 28 = .ok (.aload_n 0, 1) := dk_42 (dk_at dksX7_link_1 4 rfl rfl)
theorem dX7_link_29 : decode cX7_link 29 = .ok (.invokevirtual 176, 3) := dk_182 0 176 (dk_at dksX7_link_1 5 rfl rfl)
theorem dX7_link_32 : decode cX7_link 32 = .ok (.aload_n 0, 1) := dk_42 (dk_at dksX7_link_1 8 rfl rfl)
theorem dX7_link_33 : decode cX7_link 33 = .ok (.iload_n 1, 1) := dk_27 (dk_at dksX7_link_1 9 rfl rfl)
theorem dX7_link_34 : decode cX7_link 34 = .ok (.iload_n 2, 1) := dk_28 (dk_at dksX7_link_1 10 rfl rfl)
theorem dX7_link_35 : decode cX7_link 35 = .ok (.invokevirtual 183, 3) := dk_182 0 183 (dk_at dksX7_link_1 11 rfl rfl)
theorem dX7_link_38 : decode cX7_link 38 = .ok (.bipush 6, 2) := dk_16 6 (dk_at dksX7_link_1 14 rfl rfl)
theorem dX7_link_40 : decode cX7_link 40 = .ok (.iload_n 1, 1) := dk_27 (dk_at dksX7_link_1 16 rfl rfl)
theorem dX7_link_41 : decode cX7_link 41 = .ok (.imul, 1) := dk_104 (dk_at dksX7_link_1 17 rfl rfl)
theorem dX7_link_42 : decode cX7_link 42 = .ok (.iload_n 2, 1) := dk_28 (dk_at dksX7_link_1 18 rfl rfl)
theorem dX7_link_43 : decode cX7_link 43 = .ok (.iadd, 1) := dk_96 (dk_at dksX7_link_1 19 rfl rfl)
theorem dX7_link_44 : decode cX7_link 44 = .ok (.istore 4, 2) := dk_54 4 (dk_at dksX7_link_1 20 rfl rfl)
theorem dX7_link_46 : decode cX7_link 46 = .ok (.iload_n 3, 1) := dk_29 (dk_at dksX7_link_1 22 rfl rfl)
theorem dX7_link_47 : decode cX7_link 47 = .ok (.ifCond .ne 13, 3) := dk_154 0 13 (dk_at dksX7_link_2 0 rfl rfl)
theorem dX7_link_50 : decode cX7_link 50 = .ok (.aload_n 0, 1) := dk_42 (dk_at dksX7_link_2 3 rfl rfl)
theorem dX7_link_51 : decode cX7_link 51 = .ok (.getfield 29, 3) := dk_180 0 29 (dk_at dksX7_link_2 4 rfl rfl)
theorem dX7_link_54 : decode cX7_link 54 = .ok (.iload 4, 2) := dk_21 4 (dk_at dksX7_link_2 7 rfl rfl)
theorem dX7_link_56 : decode cX7_link 56 = .ok (.iaload, 1) := dk_46 (dk_at dksX7_link_2 9 rfl rfl)
theorem dX7_link_57 : decode cX7_link 57 = .ok (.goto 41, 3) := dk_167 0 41 (dk_at dksX7_link_2 10 rfl rfl)
theorem dX7_link_60 : decode cX7_link 60 = .ok (.aload_n 0, 1) := dk_42 (dk_at dksX7_link_2 13 rfl rfl)
theorem dX7_link_61 : decode cX7_link 61 = .ok (.getfield 29, 3) := dk_180 0 29 (dk_at dksX7_link_2 14 rfl rfl)
theorem dX7_link_64 : decode cX7_link 64 = .ok (.iload 4, 2) := dk_21 4 (dk_at dksX7_link_2 17 rfl rfl)
theorem dX7_link_66 : decode cX7_link 66 = .ok (.iaload, 1) := dk_46 (dk_at dksX7_link_2 19 rfl rfl)
theorem dX7_link_67 : decode cX7_link 67 = .ok (.ifCond .ne 7, 3) := dk_154 0 7 (dk_at dksX7_link_2 20 rfl rfl)
theorem dX7_link_70 : decode cX7_link 70 = .ok (.iconst (-1), 1) := dk_2 (dk_at dksX7_link_2 23 rfl rfl)
theorem dX7_link_71 : decode cX7_link 71 = .ok (.goto 27, 3) := dk_167 0 27 (dk_at dksX7_link_3 0 rfl rfl)
theorem dX7_link_74 : decode cX7_link 74 = .ok (.iload_n 3, 1) := dk_29 (dk_at dksX7_link_3 3 rfl rfl)
theorem dX7_link_75 : decode cX7_link 75 = .ok (.iconst 1, 1) := dk_4 (dk_at dksX7_link_3 4 rfl rfl)
theorem dX7_link_76 : decode cX7_link 76 = .ok (.if_icmp .ne 15, 3) := dk_160 0 15 (dk_at dksX7_link_3 5 rfl rfl)
theorem dX7_link_79 : decode cX7_link 79 = .ok (.aload_n 0, 1) := dk_42 (dk_at dksX7_link_3 8 rfl rfl)
theorem dX7_link_80 : decode cX7_link 80 = .ok (.getfield 32, 3) := dk_180 0 32 (dk_at dksX7_link_3 9 rfl rfl)
theorem dX7_link_83 : decode cX7_link 83 = .ok (.iload 4, 2) := dk_21 4 (dk_at dksX7_link_3 12 rfl rfl)
theorem dX7_link_85 : decode cX7_link 85 = .ok (.iaload, 1) := dk_46 (dk_at dksX7_link_3 14 rfl rfl)
theorem dX7_link_86 : decode cX7_link 86 = .ok (.iconst 1, 1) := dk_4 (dk_at dksX7_link_3 15 rfl rfl)
theorem dX7_link_87 : decode cX7_link 87 = .ok (.iadd, 1) := dk_96 (dk_at dksX7_link_3 16 rfl rfl)
theorem dX7_link_88 : decode cX7_link 88 = .ok (.goto 10, 3) := dk_167 0 10 (dk_at dksX7_link_3 17 rfl rfl)
theorem dX7_link_91 : decode cX7_link 91 = .ok (.aload_n 0, 1) := dk_42 (dk_at dksX7_link_3 20 rfl rfl)
theorem dX7_link_92 : decode cX7_link 92 = .ok (.getfield 35, 3) := dk_180 0 35 (dk_at dksX7_link_3 21 rfl rfl)
theorem dX7_link_95 : decode cX7_link 95 = .ok (.iload 4, 2) := dk_21 4 (dk_at dksX7_link_4 0 rfl rfl)
theorem dX7_link_97 : decode cX7_link 97 = .ok (.iaload, 1) := dk_46 (dk_at dksX7_link_4 2 rfl rfl)
theorem dX7_link_98 : decode cX7_link 98 = .ok (.ireturn, 1) := dk_172 (dk_at dksX7_link_4 3 rfl rfl)
abbrev cX7_laysLink : ByteArray := prog_20_method_40_code
def yX7_laysLink : MethodName := ⟨RX7, "laysLink", "(II)V"⟩
def dkwX7_laysLink_5 : List UInt8 := [21, 5, 79, 132, 6, 1, 167, 255, 185, 132, 5, 1, 167, 255, 168, 132, 4, 1, 167, 255, 153, 177]
abbrev dktX7_laysLink_5 : List UInt8 := dkwX7_laysLink_5 ++ []
def dkwX7_laysLink_4 : List UInt8 := [164, 0, 27, 42, 180, 0, 29, 29, 21, 7, 79, 42, 180, 0, 32, 29, 21, 6, 79, 42, 180, 0, 35, 29]
abbrev dktX7_laysLink_4 : List UInt8 := dkwX7_laysLink_4 ++ dktX7_laysLink_5
def dkwX7_laysLink_3 : List UInt8 := [28, 21, 6, 21, 5, 182, 0, 179, 167, 0, 4, 3, 54, 7, 21, 7, 42, 180, 0, 29, 29, 46]
abbrev dktX7_laysLink_3 : List UInt8 := dkwX7_laysLink_3 ++ dktX7_laysLink_4
def dkwX7_laysLink_2 : List UInt8 := [21, 4, 116, 54, 6, 21, 6, 21, 4, 163, 0, 70, 21, 6, 184, 0, 146, 21, 4, 160, 0, 16, 42, 27]
abbrev dktX7_laysLink_2 : List UInt8 := dkwX7_laysLink_2 ++ dktX7_laysLink_3
def dkwX7_laysLink_1 : List UInt8 := [180, 0, 35, 29, 3, 79, 3, 54, 4, 21, 4, 4, 163, 0, 103, 4, 54, 5, 21, 5, 8, 163, 0, 88]
abbrev dktX7_laysLink_1 : List UInt8 := dkwX7_laysLink_1 ++ dktX7_laysLink_2
def dkwX7_laysLink_0 : List UInt8 := [16, 6, 27, 104, 28, 96, 62, 42, 180, 0, 29, 29, 3, 79, 42, 180, 0, 32, 29, 3, 79, 42]
abbrev dktX7_laysLink_0 : List UInt8 := dkwX7_laysLink_0 ++ dktX7_laysLink_1
theorem dksX7_laysLink_0 : cX7_laysLink.data.toList.drop 0 = dktX7_laysLink_0 := by decide +kernel
theorem dksX7_laysLink_1 : cX7_laysLink.data.toList.drop 22 = dktX7_laysLink_1 := dk_seg dksX7_laysLink_0 22 rfl rfl
theorem dksX7_laysLink_2 : cX7_laysLink.data.toList.drop 46 = dktX7_laysLink_2 := dk_seg dksX7_laysLink_1 24 rfl rfl
theorem dksX7_laysLink_3 : cX7_laysLink.data.toList.drop 70 = dktX7_laysLink_3 := dk_seg dksX7_laysLink_2 24 rfl rfl
theorem dksX7_laysLink_4 : cX7_laysLink.data.toList.drop 92 = dktX7_laysLink_4 := dk_seg dksX7_laysLink_3 22 rfl rfl
theorem dksX7_laysLink_5 : cX7_laysLink.data.toList.drop 116 = dktX7_laysLink_5 := dk_seg dksX7_laysLink_4 24 rfl rfl
theorem dX7_laysLink_0 : decode cX7_laysLink 0 = .ok (.bipush 6, 2) := dk_16 6 (dk_at dksX7_laysLink_0 0 rfl rfl)
theorem dX7_laysLink_2 : decode cX7_laysLink 2 = .ok (.iload_n 1, 1) := dk_27 (dk_at dksX7_laysLink_0 2 rfl rfl)
theorem dX7_laysLink_3 : decode cX7_laysLink 3 = .ok (.imul, 1) := dk_104 (dk_at dksX7_laysLink_0 3 rfl rfl)
theorem dX7_laysLink_4 : decode cX7_laysLink 4 = .ok (.iload_n 2, 1) := dk_28 (dk_at dksX7_laysLink_0 4 rfl rfl)
theorem dX7_laysLink_5 : decode cX7_laysLink 5 = .ok (.iadd, 1) := dk_96 (dk_at dksX7_laysLink_0 5 rfl rfl)
theorem dX7_laysLink_6 : decode cX7_laysLink 6 = .ok (.istore_n 3, 1) := dk_62 (dk_at dksX7_laysLink_0 6 rfl rfl)
theorem dX7_laysLink_7 : decode cX7_laysLink 7 = .ok (.aload_n 0, 1) := dk_42 (dk_at dksX7_laysLink_0 7 rfl rfl)
theorem dX7_laysLink_8 : decode cX7_laysLink 8 = .ok (.getfield 29, 3) := dk_180 0 29 (dk_at dksX7_laysLink_0 8 rfl rfl)
theorem dX7_laysLink_11 : decode cX7_laysLink 11 = .ok (.iload_n 3, 1) := dk_29 (dk_at dksX7_laysLink_0 11 rfl rfl)
theorem dX7_laysLink_12 : decode cX7_laysLink 12 = .ok (.iconst 0, 1) := dk_3 (dk_at dksX7_laysLink_0 12 rfl rfl)
theorem dX7_laysLink_13 : decode cX7_laysLink 13 = .ok (.iastore, 1) := dk_79 (dk_at dksX7_laysLink_0 13 rfl rfl)
theorem dX7_laysLink_14 : decode cX7_laysLink 14 = .ok (.aload_n 0, 1) := dk_42 (dk_at dksX7_laysLink_0 14 rfl rfl)
theorem dX7_laysLink_15 : decode cX7_laysLink 15 = .ok (.getfield 32, 3) := dk_180 0 32 (dk_at dksX7_laysLink_0 15 rfl rfl)
theorem dX7_laysLink_18 : decode cX7_laysLink 18 = .ok (.iload_n 3, 1) := dk_29 (dk_at dksX7_laysLink_0 18 rfl rfl)
theorem dX7_laysLink_19 : decode cX7_laysLink 19 = .ok (.iconst 0, 1) := dk_3 (dk_at dksX7_laysLink_0 19 rfl rfl)
theorem dX7_laysLink_20 : decode cX7_laysLink 20 = .ok (.iastore, 1) := dk_79 (dk_at dksX7_laysLink_0 20 rfl rfl)
theorem dX7_laysLink_21 : decode cX7_laysLink 21 = .ok (.aload_n 0, 1) := dk_42 (dk_at dksX7_laysLink_0 21 rfl rfl)
theorem dX7_laysLink_22 : decode cX7_laysLink 22 = .ok (.getfield 35, 3) := dk_180 0 35 (dk_at dksX7_laysLink_1 0 rfl rfl)
theorem dX7_laysLink_25 : decode cX7_laysLink 25 = .ok (.iload_n 3, 1) := dk_29 (dk_at dksX7_laysLink_1 3 rfl rfl)
theorem dX7_laysLink_26 : decode cX7_laysLink 26 = .ok (.iconst 0, 1) := dk_3 (dk_at dksX7_laysLink_1 4 rfl rfl)
theorem dX7_laysLink_27 : decode cX7_laysLink 27 = .ok (.iastore, 1) := dk_79 (dk_at dksX7_laysLink_1 5 rfl rfl)
theorem dX7_laysLink_28 : decode cX7_laysLink 28 = .ok (.iconst 0, 1) := dk_3 (dk_at dksX7_laysLink_1 6 rfl rfl)
theorem dX7_laysLink_29 : decode cX7_laysLink 29 = .ok (.istore 4, 2) := dk_54 4 (dk_at dksX7_laysLink_1 7 rfl rfl)
theorem dX7_laysLink_31 : decode cX7_laysLink 31 = .ok (.iload 4, 2) := dk_21 4 (dk_at dksX7_laysLink_1 9 rfl rfl)
theorem dX7_laysLink_33 : decode cX7_laysLink 33 = .ok (.iconst 1, 1) := dk_4 (dk_at dksX7_laysLink_1 11 rfl rfl)
theorem dX7_laysLink_34 : decode cX7_laysLink 34 = .ok (.if_icmp .gt 103, 3) := dk_163 0 103 (dk_at dksX7_laysLink_1 12 rfl rfl)
theorem dX7_laysLink_37 : decode cX7_laysLink 37 = .ok (.iconst 1, 1) := dk_4 (dk_at dksX7_laysLink_1 15 rfl rfl)
theorem dX7_laysLink_38 : decode cX7_laysLink 38 = .ok (.istore 5, 2) := dk_54 5 (dk_at dksX7_laysLink_1 16 rfl rfl)
theorem dX7_laysLink_40 : decode cX7_laysLink 40 = .ok (.iload 5, 2) := dk_21 5 (dk_at dksX7_laysLink_1 18 rfl rfl)
theorem dX7_laysLink_42 : decode cX7_laysLink 42 = .ok (.iconst 5, 1) := dk_8 (dk_at dksX7_laysLink_1 20 rfl rfl)
theorem dX7_laysLink_43 : decode cX7_laysLink 43 = .ok (.if_icmp .gt 88, 3) := dk_163 0 88 (dk_at dksX7_laysLink_1 21 rfl rfl)
theorem dX7_laysLink_46 : decode cX7_laysLink 46 = .ok (.iload 4, 2) := dk_21 4 (dk_at dksX7_laysLink_2 0 rfl rfl)
theorem dX7_laysLink_48 : decode cX7_laysLink 48 = .ok (.ineg, 1) := dk_116 (dk_at dksX7_laysLink_2 2 rfl rfl)
theorem dX7_laysLink_49 : decode cX7_laysLink 49 = .ok (.istore 6, 2) := dk_54 6 (dk_at dksX7_laysLink_2 3 rfl rfl)
theorem dX7_laysLink_51 : decode cX7_laysLink 51 = .ok (.iload 6, 2) := dk_21 6 (dk_at dksX7_laysLink_2 5 rfl rfl)
theorem dX7_laysLink_53 : decode cX7_laysLink 53 = .ok (.iload 4, 2) := dk_21 4 (dk_at dksX7_laysLink_2 7 rfl rfl)
theorem dX7_laysLink_55 : decode cX7_laysLink 55 = .ok (.if_icmp .gt 70, 3) := dk_163 0 70 (dk_at dksX7_laysLink_2 9 rfl rfl)
theorem dX7_laysLink_58 : decode cX7_laysLink 58 = .ok (.iload 6, 2) := dk_21 6 (dk_at dksX7_laysLink_2 12 rfl rfl)
theorem dX7_laysLink_60 : decode cX7_laysLink 60 = .ok (.invokestatic 146, 3) := dk_184 0 146 (dk_at dksX7_laysLink_2 14 rfl rfl)
theorem dX7_laysLink_63 : decode cX7_laysLink 63 = .ok (.iload 4, 2) := dk_21 4 (dk_at dksX7_laysLink_2 17 rfl rfl)
theorem dX7_laysLink_65 : decode cX7_laysLink 65 = .ok (.if_icmp .ne 16, 3) := dk_160 0 16 (dk_at dksX7_laysLink_2 19 rfl rfl)
theorem dX7_laysLink_68 : decode cX7_laysLink 68 = .ok (.aload_n 0, 1) := dk_42 (dk_at dksX7_laysLink_2 22 rfl rfl)
theorem dX7_laysLink_69 : decode cX7_laysLink 69 = .ok (.iload_n 1, 1) := dk_27 (dk_at dksX7_laysLink_2 23 rfl rfl)
theorem dX7_laysLink_70 : decode cX7_laysLink 70 = .ok (.iload_n 2, 1) := dk_28 (dk_at dksX7_laysLink_3 0 rfl rfl)
theorem dX7_laysLink_71 : decode cX7_laysLink 71 = .ok (.iload 6, 2) := dk_21 6 (dk_at dksX7_laysLink_3 1 rfl rfl)
theorem dX7_laysLink_73 : decode cX7_laysLink 73 = .ok (.iload 5, 2) := dk_21 5 (dk_at dksX7_laysLink_3 3 rfl rfl)
theorem dX7_laysLink_75 : decode cX7_laysLink 75 = .ok (.invokevirtual 179, 3) := dk_182 0 179 (dk_at dksX7_laysLink_3 5 rfl rfl)
theorem dX7_laysLink_78 : decode cX7_laysLink 78 = .ok (.goto 4, 3) := dk_167 0 4 (dk_at dksX7_laysLink_3 8 rfl rfl)
theorem dX7_laysLink_81 : decode cX7_laysLink 81 = .ok (.iconst 0, 1) := dk_3 (dk_at dksX7_laysLink_3 11 rfl rfl)
theorem dX7_laysLink_82 : decode cX7_laysLink 82 = .ok (.istore 7, 2) := dk_54 7 (dk_at dksX7_laysLink_3 12 rfl rfl)
theorem dX7_laysLink_84 : decode cX7_laysLink 84 = .ok (.iload 7, 2) := dk_21 7 (dk_at dksX7_laysLink_3 14 rfl rfl)
theorem dX7_laysLink_86 : decode cX7_laysLink 86 = .ok (.aload_n 0, 1) := dk_42 (dk_at dksX7_laysLink_3 16 rfl rfl)
theorem dX7_laysLink_87 : decode cX7_laysLink 87 = .ok (.getfield 29, 3) := dk_180 0 29 (dk_at dksX7_laysLink_3 17 rfl rfl)
theorem dX7_laysLink_90 : decode cX7_laysLink 90 = .ok (.iload_n 3, 1) := dk_29 (dk_at dksX7_laysLink_3 20 rfl rfl)
theorem dX7_laysLink_91 : decode cX7_laysLink 91 = .ok (.iaload, 1) := dk_46 (dk_at dksX7_laysLink_3 21 rfl rfl)
theorem dX7_laysLink_92 : decode cX7_laysLink 92 = .ok (.if_icmp .le 27, 3) := dk_164 0 27 (dk_at dksX7_laysLink_4 0 rfl rfl)
theorem dX7_laysLink_95 : decode cX7_laysLink 95 = .ok (.aload_n 0, 1) := dk_42 (dk_at dksX7_laysLink_4 3 rfl rfl)
theorem dX7_laysLink_96 : decode cX7_laysLink 96 = .ok (.getfield 29, 3) := dk_180 0 29 (dk_at dksX7_laysLink_4 4 rfl rfl)
theorem dX7_laysLink_99 : decode cX7_laysLink 99 = .ok (.iload_n 3, 1) := dk_29 (dk_at dksX7_laysLink_4 7 rfl rfl)
theorem dX7_laysLink_100 : decode cX7_laysLink 100 = .ok (.iload 7, 2) := dk_21 7 (dk_at dksX7_laysLink_4 8 rfl rfl)
theorem dX7_laysLink_102 : decode cX7_laysLink 102 = .ok (.iastore, 1) := dk_79 (dk_at dksX7_laysLink_4 10 rfl rfl)
theorem dX7_laysLink_103 : decode cX7_laysLink 103 = .ok (.aload_n 0, 1) := dk_42 (dk_at dksX7_laysLink_4 11 rfl rfl)
theorem dX7_laysLink_104 : decode cX7_laysLink 104 = .ok (.getfield 32, 3) := dk_180 0 32 (dk_at dksX7_laysLink_4 12 rfl rfl)
theorem dX7_laysLink_107 : decode cX7_laysLink 107 = .ok (.iload_n 3, 1) := dk_29 (dk_at dksX7_laysLink_4 15 rfl rfl)
theorem dX7_laysLink_108 : decode cX7_laysLink 108 = .ok (.iload 6, 2) := dk_21 6 (dk_at dksX7_laysLink_4 16 rfl rfl)
theorem dX7_laysLink_110 : decode cX7_laysLink 110 = .ok (.iastore, 1) := dk_79 (dk_at dksX7_laysLink_4 18 rfl rfl)
theorem dX7_laysLink_111 : decode cX7_laysLink 111 = .ok (.aload_n 0, 1) := dk_42 (dk_at dksX7_laysLink_4 19 rfl rfl)
theorem dX7_laysLink_112 : decode cX7_laysLink 112 = .ok (.getfield 35, 3) := dk_180 0 35 (dk_at dksX7_laysLink_4 20 rfl rfl)
theorem dX7_laysLink_115 : decode cX7_laysLink 115 = .ok (.iload_n 3, 1) := dk_29 (dk_at dksX7_laysLink_4 23 rfl rfl)
theorem dX7_laysLink_116 : decode cX7_laysLink 116 = .ok (.iload 5, 2) := dk_21 5 (dk_at dksX7_laysLink_5 0 rfl rfl)
theorem dX7_laysLink_118 : decode cX7_laysLink 118 = .ok (.iastore, 1) := dk_79 (dk_at dksX7_laysLink_5 2 rfl rfl)
theorem dX7_laysLink_119 : decode cX7_laysLink 119 = .ok (.iinc 6 1, 3) := dk_132 6 1 (dk_at dksX7_laysLink_5 3 rfl rfl)
theorem dX7_laysLink_122 : decode cX7_laysLink 122 = .ok (.goto (-71), 3) := dk_167 255 185 (dk_at dksX7_laysLink_5 6 rfl rfl)
theorem dX7_laysLink_125 : decode cX7_laysLink 125 = .ok (.iinc 5 1, 3) := dk_132 5 1 (dk_at dksX7_laysLink_5 9 rfl rfl)
theorem dX7_laysLink_128 : decode cX7_laysLink 128 = .ok (.goto (-88), 3) := dk_167 255 168 (dk_at dksX7_laysLink_5 12 rfl rfl)
theorem dX7_laysLink_131 : decode cX7_laysLink 131 = .ok (.iinc 4 1, 3) := dk_132 4 1 (dk_at dksX7_laysLink_5 15 rfl rfl)
theorem dX7_laysLink_134 : decode cX7_laysLink 134 = .ok (.goto (-103), 3) := dk_167 255 153 (dk_at dksX7_laysLink_5 18 rfl rfl)
theorem dX7_laysLink_137 : decode cX7_laysLink 137 = .ok (.return_, 1) := dk_177 (dk_at dksX7_laysLink_5 21 rfl rfl)
abbrev cX7_chain : ByteArray := prog_20_method_48_code
def yX7_chain : MethodName := ⟨RX7, "chain", "(II)I"⟩
def dkwX7_chain_2 : List UInt8 := [172]
abbrev dktX7_chain_2 : List UInt8 := dkwX7_chain_2 ++ []
def dkwX7_chain_1 : List UInt8 := [172, 42, 182, 0, 196, 28, 154, 0, 12, 42, 180, 0, 38, 27, 46, 167, 0, 9, 42, 180, 0, 41, 27, 46]
abbrev dktX7_chain_1 : List UInt8 := dkwX7_chain_1 ++ dktX7_chain_2
def dkwX7_chain_0 : List UInt8 := [42, 27, 182, 0, 128, 153, 0, 13, 28, 133, 9, 10, 184, 0, 63, 154, 0, 10, 42, 16, 254, 182, 0, 91]
abbrev dktX7_chain_0 : List UInt8 := dkwX7_chain_0 ++ dktX7_chain_1
theorem dksX7_chain_0 : cX7_chain.data.toList.drop 0 = dktX7_chain_0 := by decide +kernel
theorem dksX7_chain_1 : cX7_chain.data.toList.drop 24 = dktX7_chain_1 := dk_seg dksX7_chain_0 24 rfl rfl
theorem dksX7_chain_2 : cX7_chain.data.toList.drop 48 = dktX7_chain_2 := dk_seg dksX7_chain_1 24 rfl rfl
theorem dX7_chain_0 : decode cX7_chain 0 = .ok (.aload_n 0, 1) := dk_42 (dk_at dksX7_chain_0 0 rfl rfl)
theorem dX7_chain_1 : decode cX7_chain 1 = .ok (.iload_n 1, 1) := dk_27 (dk_at dksX7_chain_0 1 rfl rfl)
theorem dX7_chain_2 : decode cX7_chain 2 = .ok (.invokevirtual 128, 3) := dk_182 0 128 (dk_at dksX7_chain_0 2 rfl rfl)
theorem dX7_chain_5 : decode cX7_chain 5 = .ok (.ifCond .eq 13, 3) := dk_153 0 13 (dk_at dksX7_chain_0 5 rfl rfl)
theorem dX7_chain_8 : decode cX7_chain 8 = .ok (.iload_n 2, 1) := dk_28 (dk_at dksX7_chain_0 8 rfl rfl)
theorem dX7_chain_9 : decode cX7_chain 9 = .ok (.i2l, 1) := dk_133 (dk_at dksX7_chain_0 9 rfl rfl)
theorem dX7_chain_10 : decode cX7_chain 10 = .ok (.lconst 0, 1) := dk_9 (dk_at dksX7_chain_0 10 rfl rfl)
theorem dX7_chain_11 : decode cX7_chain 11 = .ok (.lconst 1, 1) := dk_10 (dk_at dksX7_chain_0 11 rfl rfl)
theorem dX7_chain_12 : decode cX7_chain 12 = .ok (.invokestatic 63, 3) := dk_184 0 63 (dk_at dksX7_chain_0 12 rfl rfl)
theorem dX7_chain_15 : decode cX7_chain 15 = .ok (.ifCond .ne 10, 3) := dk_154 0 10 (dk_at dksX7_chain_0 15 rfl rfl)
theorem dX7_chain_18 : decode cX7_chain 18 = .ok (.aload_n 0, 1) := dk_42 (dk_at dksX7_chain_0 18 rfl rfl)
theorem dX7_chain_19 : decode cX7_chain 19 = .ok (.bipush (-2), 2) := dk_16 254 (dk_at dksX7_chain_0 19 rfl rfl)
theorem dX7_chain_21 : decode cX7_chain 21 = .ok (.invokevirtual 91, 3) := dk_182 0 91 (dk_at dksX7_chain_0 21 rfl rfl)
theorem dX7_chain_24 : decode cX7_chain 24 = .ok (.ireturn, 1) := dk_172 (dk_at dksX7_chain_1 0 rfl rfl)
theorem dX7_chain_25 : decode cX7_chain 25 = .ok (.aload_n 0, 1) := dk_42 (dk_at dksX7_chain_1 1 rfl rfl)
theorem dX7_chain_26 : decode cX7_chain 26 = .ok (.invokevirtual 196, 3) := dk_182 0 196 (dk_at dksX7_chain_1 2 rfl rfl)
theorem dX7_chain_29 : decode cX7_chain 29 = .ok (.iload_n 2, 1) := dk_28 (dk_at dksX7_chain_1 5 rfl rfl)
theorem dX7_chain_30 : decode cX7_chain 30 = .ok (.ifCond .ne 12, 3) := dk_154 0 12 (dk_at dksX7_chain_1 6 rfl rfl)
theorem dX7_chain_33 : decode cX7_chain 33 = .ok (.aload_n 0, 1) := dk_42 (dk_at dksX7_chain_1 9 rfl rfl)
theorem dX7_chain_34 : decode cX7_chain 34 = .ok (.getfield 38, 3) := dk_180 0 38 (dk_at dksX7_chain_1 10 rfl rfl)
theorem dX7_chain_37 : decode cX7_chain 37 = .ok (.iload_n 1, 1) := dk_27 (dk_at dksX7_chain_1 13 rfl rfl)
theorem dX7_chain_38 : decode cX7_chain 38 = .ok (.iaload, 1) := dk_46 (dk_at dksX7_chain_1 14 rfl rfl)
theorem dX7_chain_39 : decode cX7_chain 39 = .ok (.goto 9, 3) := dk_167 0 9 (dk_at dksX7_chain_1 15 rfl rfl)
theorem dX7_chain_42 : decode cX7_chain 42 = .ok (.aload_n 0, 1) := dk_42 (dk_at dksX7_chain_1 18 rfl rfl)
theorem dX7_chain_43 : decode cX7_chain 43 = .ok (.getfield 41, 3) := dk_180 0 41 (dk_at dksX7_chain_1 19 rfl rfl)
theorem dX7_chain_46 : decode cX7_chain 46 = .ok (.iload_n 1, 1) := dk_27 (dk_at dksX7_chain_1 22 rfl rfl)
theorem dX7_chain_47 : decode cX7_chain 47 = .ok (.iaload, 1) := dk_46 (dk_at dksX7_chain_1 23 rfl rfl)
theorem dX7_chain_48 : decode cX7_chain 48 = .ok (.ireturn, 1) := dk_172 (dk_at dksX7_chain_2 0 rfl rfl)
abbrev cX7_laysChain : ByteArray := prog_20_method_45_code
def yX7_laysChain : MethodName := ⟨RX7, "laysChain", "()V"⟩
def dkwX7_laysChain_5 : List UInt8 := [167, 255, 174, 177]
abbrev dktX7_laysChain_5 : List UInt8 := dkwX7_laysChain_5 ++ []
def dkwX7_laysChain_4 : List UInt8 := [79, 42, 180, 0, 41, 29, 28, 79, 132, 3, 1, 167, 255, 202, 132, 2, 1, 167, 255, 186, 132, 1, 255]
abbrev dktX7_laysChain_4 : List UInt8 := dkwX7_laysChain_4 ++ dktX7_laysChain_5
def dkwX7_laysChain_3 : List UInt8 := [28, 104, 29, 96, 46, 27, 160, 0, 26, 42, 28, 29, 182, 0, 193, 153, 0, 17, 42, 180, 0, 38, 28, 29]
abbrev dktX7_laysChain_3 : List UInt8 := dkwX7_laysChain_3 ++ dktX7_laysChain_4
def dkwX7_laysChain_2 : List UInt8 := [162, 0, 68, 3, 62, 29, 42, 182, 0, 59, 162, 0, 52, 28, 29, 159, 0, 41, 42, 180, 0, 29, 16, 6]
abbrev dktX7_laysChain_2 : List UInt8 := dkwX7_laysChain_2 ++ dktX7_laysChain_3
def dkwX7_laysChain_1 : List UInt8 := [2, 79, 132, 1, 1, 167, 255, 233, 16, 12, 60, 27, 158, 0, 84, 3, 61, 28, 42, 182, 0, 59]
abbrev dktX7_laysChain_1 : List UInt8 := dkwX7_laysChain_1 ++ dktX7_laysChain_2
def dkwX7_laysChain_0 : List UInt8 := [42, 182, 0, 190, 3, 60, 27, 16, 6, 162, 0, 23, 42, 180, 0, 38, 27, 2, 79, 42, 180, 0, 41, 27]
abbrev dktX7_laysChain_0 : List UInt8 := dkwX7_laysChain_0 ++ dktX7_laysChain_1
theorem dksX7_laysChain_0 : cX7_laysChain.data.toList.drop 0 = dktX7_laysChain_0 := by decide +kernel
theorem dksX7_laysChain_1 : cX7_laysChain.data.toList.drop 24 = dktX7_laysChain_1 := dk_seg dksX7_laysChain_0 24 rfl rfl
theorem dksX7_laysChain_2 : cX7_laysChain.data.toList.drop 46 = dktX7_laysChain_2 := dk_seg dksX7_laysChain_1 22 rfl rfl
theorem dksX7_laysChain_3 : cX7_laysChain.data.toList.drop 70 = dktX7_laysChain_3 := dk_seg dksX7_laysChain_2 24 rfl rfl
theorem dksX7_laysChain_4 : cX7_laysChain.data.toList.drop 94 = dktX7_laysChain_4 := dk_seg dksX7_laysChain_3 24 rfl rfl
theorem dksX7_laysChain_5 : cX7_laysChain.data.toList.drop 117 = dktX7_laysChain_5 := dk_seg dksX7_laysChain_4 23 rfl rfl
theorem dX7_laysChain_0 : decode cX7_laysChain 0 = .ok (.aload_n 0, 1) := dk_42 (dk_at dksX7_laysChain_0 0 rfl rfl)
theorem dX7_laysChain_1 : decode cX7_laysChain 1 = .ok (.invokevirtual 190, 3) := dk_182 0 190 (dk_at dksX7_laysChain_0 1 rfl rfl)
theorem dX7_laysChain_4 : decode cX7_laysChain 4 = .ok (.iconst 0, 1) := dk_3 (dk_at dksX7_laysChain_0 4 rfl rfl)
theorem dX7_laysChain_5 : decode cX7_laysChain 5 = .ok (.istore_n 1, 1) := dk_60 (dk_at dksX7_laysChain_0 5 rfl rfl)
theorem dX7_laysChain_6 : decode cX7_laysChain 6 = .ok (.iload_n 1, 1) := dk_27 (dk_at dksX7_laysChain_0 6 rfl rfl)
theorem dX7_laysChain_7 : decode cX7_laysChain 7 = .ok (.bipush 6, 2) := dk_16 6 (dk_at dksX7_laysChain_0 7 rfl rfl)
theorem dX7_laysChain_9 : decode cX7_laysChain 9 = .ok (.if_icmp .ge 23, 3) := dk_162 0 23 (dk_at dksX7_laysChain_0 9 rfl rfl)
theorem dX7_laysChain_12 : decode cX7_laysChain 12 = .ok (.aload_n 0, 1) := dk_42 (dk_at dksX7_laysChain_0 12 rfl rfl)
theorem dX7_laysChain_13 : decode cX7_laysChain 13 = .ok (.getfield 38, 3) := dk_180 0 38 (dk_at dksX7_laysChain_0 13 rfl rfl)
theorem dX7_laysChain_16 : decode cX7_laysChain 16 = .ok (.iload_n 1, 1) := dk_27 (dk_at dksX7_laysChain_0 16 rfl rfl)
theorem dX7_laysChain_17 : decode cX7_laysChain 17 = .ok (.iconst (-1), 1) := dk_2 (dk_at dksX7_laysChain_0 17 rfl rfl)
theorem dX7_laysChain_18 : decode cX7_laysChain 18 = .ok (.iastore, 1) := dk_79 (dk_at dksX7_laysChain_0 18 rfl rfl)
theorem dX7_laysChain_19 : decode cX7_laysChain 19 = .ok (.aload_n 0, 1) := dk_42 (dk_at dksX7_laysChain_0 19 rfl rfl)
theorem dX7_laysChain_20 : decode cX7_laysChain 20 = .ok (.getfield 41, 3) := dk_180 0 41 (dk_at dksX7_laysChain_0 20 rfl rfl)
theorem dX7_laysChain_23 : decode cX7_laysChain 23 = .ok (.iload_n 1, 1) := dk_27 (dk_at dksX7_laysChain_0 23 rfl rfl)
theorem dX7_laysChain_24 : decode cX7_laysChain 24 = .ok (.iconst (-1), 1) := dk_2 (dk_at dksX7_laysChain_1 0 rfl rfl)
theorem dX7_laysChain_25 : decode cX7_laysChain 25 = .ok (.iastore, 1) := dk_79 (dk_at dksX7_laysChain_1 1 rfl rfl)
theorem dX7_laysChain_26 : decode cX7_laysChain 26 = .ok (.iinc 1 1, 3) := dk_132 1 1 (dk_at dksX7_laysChain_1 2 rfl rfl)
theorem dX7_laysChain_29 : decode cX7_laysChain 29 = .ok (.goto (-23), 3) := dk_167 255 233 (dk_at dksX7_laysChain_1 5 rfl rfl)
theorem dX7_laysChain_32 : decode cX7_laysChain 32 = .ok (.bipush 12, 2) := dk_16 12 (dk_at dksX7_laysChain_1 8 rfl rfl)
theorem dX7_laysChain_34 : decode cX7_laysChain 34 = .ok (.istore_n 1, 1) := dk_60 (dk_at dksX7_laysChain_1 10 rfl rfl)
theorem dX7_laysChain_35 : decode cX7_laysChain 35 = .ok (.iload_n 1, 1) := dk_27 (dk_at dksX7_laysChain_1 11 rfl rfl)
theorem dX7_laysChain_36 : decode cX7_laysChain 36 = .ok (.ifCond .le 84, 3) := dk_158 0 84 (dk_at dksX7_laysChain_1 12 rfl rfl)
theorem dX7_laysChain_39 : decode cX7_laysChain 39 = .ok (.iconst 0, 1) := dk_3 (dk_at dksX7_laysChain_1 15 rfl rfl)
theorem dX7_laysChain_40 : decode cX7_laysChain 40 = .ok (.istore_n 2, 1) := dk_61 (dk_at dksX7_laysChain_1 16 rfl rfl)
theorem dX7_laysChain_41 : decode cX7_laysChain 41 = .ok (.iload_n 2, 1) := dk_28 (dk_at dksX7_laysChain_1 17 rfl rfl)
theorem dX7_laysChain_42 : decode cX7_laysChain 42 = .ok (.aload_n 0, 1) := dk_42 (dk_at dksX7_laysChain_1 18 rfl rfl)
theorem dX7_laysChain_43 : decode cX7_laysChain 43 = .ok (.invokevirtual 59, 3) := dk_182 0 59 (dk_at dksX7_laysChain_1 19 rfl rfl)
theorem dX7_laysChain_46 : decode cX7_laysChain 46 = .ok (.if_icmp .ge 68, 3) := dk_162 0 68 (dk_at dksX7_laysChain_2 0 rfl rfl)
theorem dX7_laysChain_49 : decode cX7_laysChain 49 = .ok (.iconst 0, 1) := dk_3 (dk_at dksX7_laysChain_2 3 rfl rfl)
theorem dX7_laysChain_50 : decode cX7_laysChain 50 = .ok (.istore_n 3, 1) := dk_62 (dk_at dksX7_laysChain_2 4 rfl rfl)
theorem dX7_laysChain_51 : decode cX7_laysChain 51 = .ok (.iload_n 3, 1) := dk_29 (dk_at dksX7_laysChain_2 5 rfl rfl)
theorem dX7_laysChain_52 : decode cX7_laysChain 52 = .ok (.aload_n 0, 1) := dk_42 (dk_at dksX7_laysChain_2 6 rfl rfl)
theorem dX7_laysChain_53 : decode cX7_laysChain 53 = .ok (.invokevirtual 59, 3) := dk_182 0 59 (dk_at dksX7_laysChain_2 7 rfl rfl)
theorem dX7_laysChain_56 : decode cX7_laysChain 56 = .ok (.if_icmp .ge 52, 3) := dk_162 0 52 (dk_at dksX7_laysChain_2 10 rfl rfl)
theorem dX7_laysChain_59 : decode cX7_laysChain 59 = .ok (.iload_n 2, 1) := dk_28 (dk_at dksX7_laysChain_2 13 rfl rfl)
theorem dX7_laysChain_60 : decode cX7_laysChain 60 = .ok (.iload_n 3, 1) := dk_29 (dk_at dksX7_laysChain_2 14 rfl rfl)
theorem dX7_laysChain_61 : decode cX7_laysChain 61 = .ok (.if_icmp .eq 41, 3) := dk_159 0 41 (dk_at dksX7_laysChain_2 15 rfl rfl)
theorem dX7_laysChain_64 : decode cX7_laysChain 64 = .ok (.aload_n 0, 1) := dk_42 (dk_at dksX7_laysChain_2 18 rfl rfl)
theorem dX7_laysChain_65 : decode cX7_laysChain 65 = .ok (.getfield 29, 3) := dk_180 0 29 (dk_at dksX7_laysChain_2 19 rfl rfl)
theorem dX7_laysChain_68 : decode cX7_laysChain 68 = .ok (.bipush 6, 2) := dk_16 6 (dk_at dksX7_laysChain_2 22 rfl rfl)
theorem dX7_laysChain_70 : decode cX7_laysChain 70 = .ok (.iload_n 2, 1) := dk_28 (dk_at dksX7_laysChain_3 0 rfl rfl)
theorem dX7_laysChain_71 : decode cX7_laysChain 71 = .ok (.imul, 1) := dk_104 (dk_at dksX7_laysChain_3 1 rfl rfl)
theorem dX7_laysChain_72 : decode cX7_laysChain 72 = .ok (.iload_n 3, 1) := dk_29 (dk_at dksX7_laysChain_3 2 rfl rfl)
theorem dX7_laysChain_73 : decode cX7_laysChain 73 = .ok (.iadd, 1) := dk_96 (dk_at dksX7_laysChain_3 3 rfl rfl)
theorem dX7_laysChain_74 : decode cX7_laysChain 74 = .ok (.iaload, 1) := dk_46 (dk_at dksX7_laysChain_3 4 rfl rfl)
theorem dX7_laysChain_75 : decode cX7_laysChain 75 = .ok (.iload_n 1, 1) := dk_27 (dk_at dksX7_laysChain_3 5 rfl rfl)
theorem dX7_laysChain_76 : decode cX7_laysChain 76 = .ok (.if_icmp .ne 26, 3) := dk_160 0 26 (dk_at dksX7_laysChain_3 6 rfl rfl)
theorem dX7_laysChain_79 : decode cX7_laysChain 79 = .ok (.aload_n 0, 1) := dk_42 (dk_at dksX7_laysChain_3 9 rfl rfl)
theorem dX7_laysChain_80 : decode cX7_laysChain 80 = .ok (.iload_n 2, 1) := dk_28 (dk_at dksX7_laysChain_3 10 rfl rfl)
theorem dX7_laysChain_81 : decode cX7_laysChain 81 = .ok (.iload_n 3, 1) := dk_29 (dk_at dksX7_laysChain_3 11 rfl rfl)
theorem dX7_laysChain_82 : decode cX7_laysChain 82 = .ok (.invokevirtual 193, 3) := dk_182 0 193 (dk_at dksX7_laysChain_3 12 rfl rfl)
theorem dX7_laysChain_85 : decode cX7_laysChain 85 = .ok (.ifCond .eq 17, 3) := dk_153 0 17 (dk_at dksX7_laysChain_3 15 rfl rfl)
theorem dX7_laysChain_88 : decode cX7_laysChain 88 = .ok (.aload_n 0, 1) := dk_42 (dk_at dksX7_laysChain_3 18 rfl rfl)
theorem dX7_laysChain_89 : decode cX7_laysChain 89 = .ok (.getfield 38, 3) := dk_180 0 38 (dk_at dksX7_laysChain_3 19 rfl rfl)
theorem dX7_laysChain_92 : decode cX7_laysChain 92 = .ok (.iload_n 2, 1) := dk_28 (dk_at dksX7_laysChain_3 22 rfl rfl)
theorem dX7_laysChain_93 : decode cX7_laysChain 93 = .ok (.iload_n 3, 1) := dk_29 (dk_at dksX7_laysChain_3 23 rfl rfl)
theorem dX7_laysChain_94 : decode cX7_laysChain 94 = .ok (.iastore, 1) := dk_79 (dk_at dksX7_laysChain_4 0 rfl rfl)
theorem dX7_laysChain_95 : decode cX7_laysChain 95 = .ok (.aload_n 0, 1) := dk_42 (dk_at dksX7_laysChain_4 1 rfl rfl)
theorem dX7_laysChain_96 : decode cX7_laysChain 96 = .ok (.getfield 41, 3) := dk_180 0 41 (dk_at dksX7_laysChain_4 2 rfl rfl)
theorem dX7_laysChain_99 : decode cX7_laysChain 99 = .ok (.iload_n 3, 1) := dk_29 (dk_at dksX7_laysChain_4 5 rfl rfl)
theorem dX7_laysChain_100 : decode cX7_laysChain 100 = .ok (.iload_n 2, 1) := dk_28 (dk_at dksX7_laysChain_4 6 rfl rfl)
theorem dX7_laysChain_101 : decode cX7_laysChain 101 = .ok (.iastore, 1) := dk_79 (dk_at dksX7_laysChain_4 7 rfl rfl)
theorem dX7_laysChain_102 : decode cX7_laysChain 102 = .ok (.iinc 3 1, 3) := dk_132 3 1 (dk_at dksX7_laysChain_4 8 rfl rfl)
theorem dX7_laysChain_105 : decode cX7_laysChain 105 = .ok (.goto (-54), 3) := dk_167 255 202 (dk_at dksX7_laysChain_4 11 rfl rfl)
theorem dX7_laysChain_108 : decode cX7_laysChain 108 = .ok (.iinc 2 1, 3) := dk_132 2 1 (dk_at dksX7_laysChain_4 14 rfl rfl)
theorem dX7_laysChain_111 : decode cX7_laysChain 111 = .ok (.goto (-70), 3) := dk_167 255 186 (dk_at dksX7_laysChain_4 17 rfl rfl)
theorem dX7_laysChain_114 : decode cX7_laysChain 114 = .ok (.iinc 1 (-1), 3) := dk_132 1 255 (dk_at dksX7_laysChain_4 20 rfl rfl)
theorem dX7_laysChain_117 : decode cX7_laysChain 117 = .ok (.goto (-82), 3) := dk_167 255 174 (dk_at dksX7_laysChain_5 0 rfl rfl)
theorem dX7_laysChain_120 : decode cX7_laysChain 120 = .ok (.return_, 1) := dk_177 (dk_at dksX7_laysChain_5 3 rfl rfl)
abbrev cX7_laysLinks : ByteArray := prog_20_method_41_code
def yX7_laysLinks : MethodName := ⟨RX7, "laysLinks", "()V"⟩
def dkwX7_laysLinks_1 : List UInt8 := [27, 28, 159, 0, 9, 42, 27, 28, 182, 0, 183, 132, 2, 1, 167, 255, 234, 132, 1, 1, 167, 255, 218, 177]
abbrev dktX7_laysLinks_1 : List UInt8 := dkwX7_laysLinks_1 ++ []
def dkwX7_laysLinks_0 : List UInt8 := [42, 182, 0, 176, 3, 60, 27, 42, 182, 0, 59, 162, 0, 36, 3, 61, 28, 42, 182, 0, 59, 162, 0, 20]
abbrev dktX7_laysLinks_0 : List UInt8 := dkwX7_laysLinks_0 ++ dktX7_laysLinks_1
theorem dksX7_laysLinks_0 : cX7_laysLinks.data.toList.drop 0 = dktX7_laysLinks_0 := by decide +kernel
theorem dksX7_laysLinks_1 : cX7_laysLinks.data.toList.drop 24 = dktX7_laysLinks_1 := dk_seg dksX7_laysLinks_0 24 rfl rfl
theorem dX7_laysLinks_0 : decode cX7_laysLinks 0 = .ok (.aload_n 0, 1) := dk_42 (dk_at dksX7_laysLinks_0 0 rfl rfl)
theorem dX7_laysLinks_1 : decode cX7_laysLinks 1 = .ok (.invokevirtual 176, 3) := dk_182 0 176 (dk_at dksX7_laysLinks_0 1 rfl rfl)
theorem dX7_laysLinks_4 : decode cX7_laysLinks 4 = .ok (.iconst 0, 1) := dk_3 (dk_at dksX7_laysLinks_0 4 rfl rfl)
theorem dX7_laysLinks_5 : decode cX7_laysLinks 5 = .ok (.istore_n 1, 1) := dk_60 (dk_at dksX7_laysLinks_0 5 rfl rfl)
theorem dX7_laysLinks_6 : decode cX7_laysLinks 6 = .ok (.iload_n 1, 1) := dk_27 (dk_at dksX7_laysLinks_0 6 rfl rfl)
theorem dX7_laysLinks_7 : decode cX7_laysLinks 7 = .ok (.aload_n 0, 1) := dk_42 (dk_at dksX7_laysLinks_0 7 rfl rfl)
theorem dX7_laysLinks_8 : decode cX7_laysLinks 8 = .ok (.invokevirtual 59, 3) := dk_182 0 59 (dk_at dksX7_laysLinks_0 8 rfl rfl)
theorem dX7_laysLinks_11 : decode cX7_laysLinks 11 = .ok (.if_icmp .ge 36, 3) := dk_162 0 36 (dk_at dksX7_laysLinks_0 11 rfl rfl)
theorem dX7_laysLinks_14 : decode cX7_laysLinks 14 = .ok (.iconst 0, 1) := dk_3 (dk_at dksX7_laysLinks_0 14 rfl rfl)
theorem dX7_laysLinks_15 : decode cX7_laysLinks 15 = .ok (.istore_n 2, 1) := dk_61 (dk_at dksX7_laysLinks_0 15 rfl rfl)
theorem dX7_laysLinks_16 : decode cX7_laysLinks 16 = .ok (.iload_n 2, 1) := dk_28 (dk_at dksX7_laysLinks_0 16 rfl rfl)
theorem dX7_laysLinks_17 : decode cX7_laysLinks 17 = .ok (.aload_n 0, 1) := dk_42 (dk_at dksX7_laysLinks_0 17 rfl rfl)
theorem dX7_laysLinks_18 : decode cX7_laysLinks 18 = .ok (.invokevirtual 59, 3) := dk_182 0 59 (dk_at dksX7_laysLinks_0 18 rfl rfl)
theorem dX7_laysLinks_21 : decode cX7_laysLinks 21 = .ok (.if_icmp .ge 20, 3) := dk_162 0 20 (dk_at dksX7_laysLinks_0 21 rfl rfl)
theorem dX7_laysLinks_24 : decode cX7_laysLinks 24 = .ok (.iload_n 1, 1) := dk_27 (dk_at dksX7_laysLinks_1 0 rfl rfl)
theorem dX7_laysLinks_25 : decode cX7_laysLinks 25 = .ok (.iload_n 2, 1) := dk_28 (dk_at dksX7_laysLinks_1 1 rfl rfl)
theorem dX7_laysLinks_26 : decode cX7_laysLinks 26 = .ok (.if_icmp .eq 9, 3) := dk_159 0 9 (dk_at dksX7_laysLinks_1 2 rfl rfl)
theorem dX7_laysLinks_29 : decode cX7_laysLinks 29 = .ok (.aload_n 0, 1) := dk_42 (dk_at dksX7_laysLinks_1 5 rfl rfl)
theorem dX7_laysLinks_30 : decode cX7_laysLinks 30 = .ok (.iload_n 1, 1) := dk_27 (dk_at dksX7_laysLinks_1 6 rfl rfl)
theorem dX7_laysLinks_31 : decode cX7_laysLinks 31 = .ok (.iload_n 2, 1) := dk_28 (dk_at dksX7_laysLinks_1 7 rfl rfl)
theorem dX7_laysLinks_32 : decode cX7_laysLinks 32 = .ok (.invokevirtual 183, 3) := dk_182 0 183 (dk_at dksX7_laysLinks_1 8 rfl rfl)
theorem dX7_laysLinks_35 : decode cX7_laysLinks 35 = .ok (.iinc 2 1, 3) := dk_132 2 1 (dk_at dksX7_laysLinks_1 11 rfl rfl)
theorem dX7_laysLinks_38 : decode cX7_laysLinks 38 = .ok (.goto (-22), 3) := dk_167 255 234 (dk_at dksX7_laysLinks_1 14 rfl rfl)
theorem dX7_laysLinks_41 : decode cX7_laysLinks 41 = .ok (.iinc 1 1, 3) := dk_132 1 1 (dk_at dksX7_laysLinks_1 17 rfl rfl)
theorem dX7_laysLinks_44 : decode cX7_laysLinks 44 = .ok (.goto (-38), 3) := dk_167 255 218 (dk_at dksX7_laysLinks_1 20 rfl rfl)
theorem dX7_laysLinks_47 : decode cX7_laysLinks 47 = .ok (.return_, 1) := dk_177 (dk_at dksX7_laysLinks_1 23 rfl rfl)
abbrev cX7_mayTake : ByteArray := prog_20_method_44_code
def yX7_mayTake : MethodName := ⟨RX7, "mayTake", "(II)Z"⟩
def dkwX7_mayTake_1 : List UInt8 := [27, 182, 0, 187, 62, 29, 153, 0, 11, 29, 42, 182, 0, 59, 160, 0, 7, 4, 167, 0, 4, 3, 172]
abbrev dktX7_mayTake_1 : List UInt8 := dkwX7_mayTake_1 ++ []
def dkwX7_mayTake_0 : List UInt8 := [42, 180, 0, 38, 27, 46, 2, 160, 0, 13, 42, 180, 0, 41, 28, 46, 2, 159, 0, 5, 3, 172, 42, 28]
abbrev dktX7_mayTake_0 : List UInt8 := dkwX7_mayTake_0 ++ dktX7_mayTake_1
theorem dksX7_mayTake_0 : cX7_mayTake.data.toList.drop 0 = dktX7_mayTake_0 := by decide +kernel
theorem dksX7_mayTake_1 : cX7_mayTake.data.toList.drop 24 = dktX7_mayTake_1 := dk_seg dksX7_mayTake_0 24 rfl rfl
theorem dX7_mayTake_0 : decode cX7_mayTake 0 = .ok (.aload_n 0, 1) := dk_42 (dk_at dksX7_mayTake_0 0 rfl rfl)
theorem dX7_mayTake_1 : decode cX7_mayTake 1 = .ok (.getfield 38, 3) := dk_180 0 38 (dk_at dksX7_mayTake_0 1 rfl rfl)
theorem dX7_mayTake_4 : decode cX7_mayTake 4 = .ok (.iload_n 1, 1) := dk_27 (dk_at dksX7_mayTake_0 4 rfl rfl)
theorem dX7_mayTake_5 : decode cX7_mayTake 5 = .ok (.iaload, 1) := dk_46 (dk_at dksX7_mayTake_0 5 rfl rfl)
theorem dX7_mayTake_6 : decode cX7_mayTake 6 = .ok (.iconst (-1), 1) := dk_2 (dk_at dksX7_mayTake_0 6 rfl rfl)
theorem dX7_mayTake_7 : decode cX7_mayTake 7 = .ok (.if_icmp .ne 13, 3) := dk_160 0 13 (dk_at dksX7_mayTake_0 7 rfl rfl)
theorem dX7_mayTake_10 : decode cX7_mayTake 10 = .ok (.aload_n 0, 1) := dk_42 (dk_at dksX7_mayTake_0 10 rfl rfl)
theorem dX7_mayTake_11 : decode cX7_mayTake 11 = .ok (.getfield 41, 3) := dk_180 0 41 (dk_at dksX7_mayTake_0 11 rfl rfl)
theorem dX7_mayTake_14 : decode cX7_mayTake 14 = .ok (.iload_n 2, 1) := dk_28 (dk_at dksX7_mayTake_0 14 rfl rfl)
theorem dX7_mayTake_15 : decode cX7_mayTake 15 = .ok (.iaload, 1) := dk_46 (dk_at dksX7_mayTake_0 15 rfl rfl)
theorem dX7_mayTake_16 : decode cX7_mayTake 16 = .ok (.iconst (-1), 1) := dk_2 (dk_at dksX7_mayTake_0 16 rfl rfl)
theorem dX7_mayTake_17 : decode cX7_mayTake 17 = .ok (.if_icmp .eq 5, 3) := dk_159 0 5 (dk_at dksX7_mayTake_0 17 rfl rfl)
theorem dX7_mayTake_20 : decode cX7_mayTake 20 = .ok (.iconst 0, 1) := dk_3 (dk_at dksX7_mayTake_0 20 rfl rfl)
theorem dX7_mayTake_21 : decode cX7_mayTake 21 = .ok (.ireturn, 1) := dk_172 (dk_at dksX7_mayTake_0 21 rfl rfl)
theorem dX7_mayTake_22 : decode cX7_mayTake 22 = .ok (.aload_n 0, 1) := dk_42 (dk_at dksX7_mayTake_0 22 rfl rfl)
theorem dX7_mayTake_23 : decode cX7_mayTake 23 = .ok (.iload_n 2, 1) := dk_28 (dk_at dksX7_mayTake_0 23 rfl rfl)
theorem dX7_mayTake_24 : decode cX7_mayTake 24 = .ok (.iload_n 1, 1) := dk_27 (dk_at dksX7_mayTake_1 0 rfl rfl)
theorem dX7_mayTake_25 : decode cX7_mayTake 25 = .ok (.invokevirtual 187, 3) := dk_182 0 187 (dk_at dksX7_mayTake_1 1 rfl rfl)
theorem dX7_mayTake_28 : decode cX7_mayTake 28 = .ok (.istore_n 3, 1) := dk_62 (dk_at dksX7_mayTake_1 4 rfl rfl)
theorem dX7_mayTake_29 : decode cX7_mayTake 29 = .ok (.iload_n 3, 1) := dk_29 (dk_at dksX7_mayTake_1 5 rfl rfl)
theorem dX7_mayTake_30 : decode cX7_mayTake 30 = .ok (.ifCond .eq 11, 3) := dk_153 0 11 (dk_at dksX7_mayTake_1 6 rfl rfl)
theorem dX7_mayTake_33 : decode cX7_mayTake 33 = .ok (.iload_n 3, 1) := dk_29 (dk_at dksX7_mayTake_1 9 rfl rfl)
theorem dX7_mayTake_34 : decode cX7_mayTake 34 = .ok (.aload_n 0, 1) := dk_42 (dk_at dksX7_mayTake_1 10 rfl rfl)
theorem dX7_mayTake_35 : decode cX7_mayTake 35 = .ok (.invokevirtual 59, 3) := dk_182 0 59 (dk_at dksX7_mayTake_1 11 rfl rfl)
theorem dX7_mayTake_38 : decode cX7_mayTake 38 = .ok (.if_icmp .ne 7, 3) := dk_160 0 7 (dk_at dksX7_mayTake_1 14 rfl rfl)
theorem dX7_mayTake_41 : decode cX7_mayTake 41 = .ok (.iconst 1, 1) := dk_4 (dk_at dksX7_mayTake_1 17 rfl rfl)
theorem dX7_mayTake_42 : decode cX7_mayTake 42 = .ok (.goto 4, 3) := dk_167 0 4 (dk_at dksX7_mayTake_1 18 rfl rfl)
theorem dX7_mayTake_45 : decode cX7_mayTake 45 = .ok (.iconst 0, 1) := dk_3 (dk_at dksX7_mayTake_1 21 rfl rfl)
theorem dX7_mayTake_46 : decode cX7_mayTake 46 = .ok (.ireturn, 1) := dk_172 (dk_at dksX7_mayTake_1 22 rfl rfl)
abbrev cX7_wayFrom : ByteArray := prog_20_method_43_code
def yX7_wayFrom : MethodName := ⟨RX7, "wayFrom", "(II)I"⟩
def dkwX7_wayFrom_2 : List UInt8 := [3, 172]
abbrev dktX7_wayFrom_2 : List UInt8 := dkwX7_wayFrom_2 ++ []
def dkwX7_wayFrom_1 : List UInt8 := [180, 0, 38, 21, 4, 46, 54, 4, 132, 3, 1, 167, 255, 227, 21, 4, 28, 160, 0, 7, 29, 167, 0, 4]
abbrev dktX7_wayFrom_1 : List UInt8 := dkwX7_wayFrom_1 ++ dktX7_wayFrom_2
def dkwX7_wayFrom_0 : List UInt8 := [4, 62, 27, 54, 4, 21, 4, 28, 159, 0, 29, 42, 180, 0, 38, 21, 4, 46, 2, 159, 0, 18, 42]
abbrev dktX7_wayFrom_0 : List UInt8 := dkwX7_wayFrom_0 ++ dktX7_wayFrom_1
theorem dksX7_wayFrom_0 : cX7_wayFrom.data.toList.drop 0 = dktX7_wayFrom_0 := by decide +kernel
theorem dksX7_wayFrom_1 : cX7_wayFrom.data.toList.drop 23 = dktX7_wayFrom_1 := dk_seg dksX7_wayFrom_0 23 rfl rfl
theorem dksX7_wayFrom_2 : cX7_wayFrom.data.toList.drop 47 = dktX7_wayFrom_2 := dk_seg dksX7_wayFrom_1 24 rfl rfl
theorem dX7_wayFrom_0 : decode cX7_wayFrom 0 = .ok (.iconst 1, 1) := dk_4 (dk_at dksX7_wayFrom_0 0 rfl rfl)
theorem dX7_wayFrom_1 : decode cX7_wayFrom 1 = .ok (.istore_n 3, 1) := dk_62 (dk_at dksX7_wayFrom_0 1 rfl rfl)
theorem dX7_wayFrom_2 : decode cX7_wayFrom 2 = .ok (.iload_n 1, 1) := dk_27 (dk_at dksX7_wayFrom_0 2 rfl rfl)
theorem dX7_wayFrom_3 : decode cX7_wayFrom 3 = .ok (.istore 4, 2) := dk_54 4 (dk_at dksX7_wayFrom_0 3 rfl rfl)
theorem dX7_wayFrom_5 : decode cX7_wayFrom 5 = .ok (.iload 4, 2) := dk_21 4 (dk_at dksX7_wayFrom_0 5 rfl rfl)
theorem dX7_wayFrom_7 : decode cX7_wayFrom 7 = .ok (.iload_n 2, 1) := dk_28 (dk_at dksX7_wayFrom_0 7 rfl rfl)
theorem dX7_wayFrom_8 : decode cX7_wayFrom 8 = .ok (.if_icmp .eq 29, 3) := dk_159 0 29 (dk_at dksX7_wayFrom_0 8 rfl rfl)
theorem dX7_wayFrom_11 : decode cX7_wayFrom 11 = .ok (.aload_n 0, 1) := dk_42 (dk_at dksX7_wayFrom_0 11 rfl rfl)
theorem dX7_wayFrom_12 : decode cX7_wayFrom 12 = .ok (.getfield 38, 3) := dk_180 0 38 (dk_at dksX7_wayFrom_0 12 rfl rfl)
theorem dX7_wayFrom_15 : decode cX7_wayFrom 15 = .ok (.iload 4, 2) := dk_21 4 (dk_at dksX7_wayFrom_0 15 rfl rfl)
theorem dX7_wayFrom_17 : decode cX7_wayFrom 17 = .ok (.iaload, 1) := dk_46 (dk_at dksX7_wayFrom_0 17 rfl rfl)
theorem dX7_wayFrom_18 : decode cX7_wayFrom 18 = .ok (.iconst (-1), 1) := dk_2 (dk_at dksX7_wayFrom_0 18 rfl rfl)
theorem dX7_wayFrom_19 : decode cX7_wayFrom 19 = .ok (.if_icmp .eq 18, 3) := dk_159 0 18 (dk_at dksX7_wayFrom_0 19 rfl rfl)
theorem dX7_wayFrom_22 : decode cX7_wayFrom 22 = .ok (.aload_n 0, 1) := dk_42 (dk_at dksX7_wayFrom_0 22 rfl rfl)
theorem dX7_wayFrom_23 : decode cX7_wayFrom 23 = .ok (.getfield 38, 3) := dk_180 0 38 (dk_at dksX7_wayFrom_1 0 rfl rfl)
theorem dX7_wayFrom_26 : decode cX7_wayFrom 26 = .ok (.iload 4, 2) := dk_21 4 (dk_at dksX7_wayFrom_1 3 rfl rfl)
theorem dX7_wayFrom_28 : decode cX7_wayFrom 28 = .ok (.iaload, 1) := dk_46 (dk_at dksX7_wayFrom_1 5 rfl rfl)
theorem dX7_wayFrom_29 : decode cX7_wayFrom 29 = .ok (.istore 4, 2) := dk_54 4 (dk_at dksX7_wayFrom_1 6 rfl rfl)
theorem dX7_wayFrom_31 : decode cX7_wayFrom 31 = .ok (.iinc 3 1, 3) := dk_132 3 1 (dk_at dksX7_wayFrom_1 8 rfl rfl)
theorem dX7_wayFrom_34 : decode cX7_wayFrom 34 = .ok (.goto (-29), 3) := dk_167 255 227 (dk_at dksX7_wayFrom_1 11 rfl rfl)
theorem dX7_wayFrom_37 : decode cX7_wayFrom 37 = .ok (.iload 4, 2) := dk_21 4 (dk_at dksX7_wayFrom_1 14 rfl rfl)
theorem dX7_wayFrom_39 : decode cX7_wayFrom 39 = .ok (.iload_n 2, 1) := dk_28 (dk_at dksX7_wayFrom_1 16 rfl rfl)
theorem dX7_wayFrom_40 : decode cX7_wayFrom 40 = .ok (.if_icmp .ne 7, 3) := dk_160 0 7 (dk_at dksX7_wayFrom_1 17 rfl rfl)
theorem dX7_wayFrom_43 : decode cX7_wayFrom 43 = .ok (.iload_n 3, 1) := dk_29 (dk_at dksX7_wayFrom_1 20 rfl rfl)
theorem dX7_wayFrom_44 : decode cX7_wayFrom 44 = .ok (.goto 4, 3) := dk_167 0 4 (dk_at dksX7_wayFrom_1 21 rfl rfl)
theorem dX7_wayFrom_47 : decode cX7_wayFrom 47 = .ok (.iconst 0, 1) := dk_3 (dk_at dksX7_wayFrom_2 0 rfl rfl)
theorem dX7_wayFrom_48 : decode cX7_wayFrom 48 = .ok (.ireturn, 1) := dk_172 (dk_at dksX7_wayFrom_2 1 rfl rfl)
abbrev cX7_all : ByteArray := prog_20_method_54_code
def yX7_all : MethodName := ⟨RX7, "all", "(I)I"⟩
def dkwX7_all_1 : List UInt8 := [27, 182, 0, 222, 172]
abbrev dktX7_all_1 : List UInt8 := dkwX7_all_1 ++ []
def dkwX7_all_0 : List UInt8 := [27, 133, 9, 20, 0, 102, 184, 0, 63, 154, 0, 10, 42, 16, 254, 182, 0, 91, 172, 42, 182, 0, 196, 42]
abbrev dktX7_all_0 : List UInt8 := dkwX7_all_0 ++ dktX7_all_1
theorem dksX7_all_0 : cX7_all.data.toList.drop 0 = dktX7_all_0 := by decide +kernel
theorem dksX7_all_1 : cX7_all.data.toList.drop 24 = dktX7_all_1 := dk_seg dksX7_all_0 24 rfl rfl
theorem dX7_all_0 : decode cX7_all 0 = .ok (.iload_n 1, 1) := dk_27 (dk_at dksX7_all_0 0 rfl rfl)
theorem dX7_all_1 : decode cX7_all 1 = .ok (.i2l, 1) := dk_133 (dk_at dksX7_all_0 1 rfl rfl)
theorem dX7_all_2 : decode cX7_all 2 = .ok (.lconst 0, 1) := dk_9 (dk_at dksX7_all_0 2 rfl rfl)
theorem dX7_all_3 : decode cX7_all 3 = .ok (.ldc2_w 102, 3) := dk_20 0 102 (dk_at dksX7_all_0 3 rfl rfl)
theorem dX7_all_6 : decode cX7_all 6 = .ok (.invokestatic 63, 3) := dk_184 0 63 (dk_at dksX7_all_0 6 rfl rfl)
theorem dX7_all_9 : decode cX7_all 9 = .ok (.ifCond .ne 10, 3) := dk_154 0 10 (dk_at dksX7_all_0 9 rfl rfl)
theorem dX7_all_12 : decode cX7_all 12 = .ok (.aload_n 0, 1) := dk_42 (dk_at dksX7_all_0 12 rfl rfl)
theorem dX7_all_13 : decode cX7_all 13 = .ok (.bipush (-2), 2) := dk_16 254 (dk_at dksX7_all_0 13 rfl rfl)
theorem dX7_all_15 : decode cX7_all 15 = .ok (.invokevirtual 91, 3) := dk_182 0 91 (dk_at dksX7_all_0 15 rfl rfl)
theorem dX7_all_18 : decode cX7_all 18 = .ok (.ireturn, 1) := dk_172 (dk_at dksX7_all_0 18 rfl rfl)
theorem dX7_all_19 : decode cX7_all 19 = .ok (.aload_n 0, 1) := dk_42 (dk_at dksX7_all_0 19 rfl rfl)
theorem dX7_all_20 : decode cX7_all 20 = .ok (.invokevirtual 196, 3) := dk_182 0 196 (dk_at dksX7_all_0 20 rfl rfl)
theorem dX7_all_23 : decode cX7_all 23 = .ok (.aload_n 0, 1) := dk_42 (dk_at dksX7_all_0 23 rfl rfl)
theorem dX7_all_24 : decode cX7_all 24 = .ok (.iload_n 1, 1) := dk_27 (dk_at dksX7_all_1 0 rfl rfl)
theorem dX7_all_25 : decode cX7_all 25 = .ok (.invokevirtual 222, 3) := dk_182 0 222 (dk_at dksX7_all_1 1 rfl rfl)
theorem dX7_all_28 : decode cX7_all 28 = .ok (.ireturn, 1) := dk_172 (dk_at dksX7_all_1 4 rfl rfl)
abbrev cX7_allNow : ByteArray := prog_20_method_53_code
def yX7_allNow : MethodName := ⟨RX7, "allNow", "(I)I"⟩
def dkwX7_allNow_5 : List UInt8 := [42, 4, 182, 0, 218, 16, 6, 96, 172, 28, 172, 29, 172]
abbrev dktX7_allNow_5 : List UInt8 := dkwX7_allNow_5 ++ []
def dkwX7_allNow_4 : List UInt8 := [42, 182, 0, 199, 172, 42, 182, 0, 214, 153, 0, 7, 4, 167, 0, 4, 3, 172, 42, 3, 182, 0, 218, 172]
abbrev dktX7_allNow_4 : List UInt8 := dkwX7_allNow_4 ++ dktX7_allNow_5
def dkwX7_allNow_3 : List UInt8 := [170, 0, 0, 0, 0, 69, 0, 0, 0, 0, 0, 0, 0, 4, 0, 0, 0, 34, 0, 0, 0, 39, 0, 0, 0, 52, 0, 0, 0, 58, 0, 0, 0, 67]
abbrev dktX7_allNow_3 : List UInt8 := dkwX7_allNow_3 ++ dktX7_allNow_4
def dkwX7_allNow_2 : List UInt8 := [180, 0, 41, 21, 4, 46, 2, 160, 0, 7, 4, 167, 0, 4, 3, 96, 62, 132, 4, 1, 167, 255, 197, 27]
abbrev dktX7_allNow_2 : List UInt8 := dkwX7_allNow_2 ++ dktX7_allNow_3
def dkwX7_allNow_1 : List UInt8 := [2, 159, 0, 16, 42, 21, 4, 182, 0, 211, 153, 0, 7, 4, 167, 0, 4, 3, 96, 61, 29, 42]
abbrev dktX7_allNow_1 : List UInt8 := dkwX7_allNow_1 ++ dktX7_allNow_2
def dkwX7_allNow_0 : List UInt8 := [3, 61, 3, 62, 3, 54, 4, 21, 4, 42, 182, 0, 59, 162, 0, 56, 28, 42, 180, 0, 38, 21, 4, 46]
abbrev dktX7_allNow_0 : List UInt8 := dkwX7_allNow_0 ++ dktX7_allNow_1
theorem dksX7_allNow_0 : cX7_allNow.data.toList.drop 0 = dktX7_allNow_0 := by decide +kernel
theorem dksX7_allNow_1 : cX7_allNow.data.toList.drop 24 = dktX7_allNow_1 := dk_seg dksX7_allNow_0 24 rfl rfl
theorem dksX7_allNow_2 : cX7_allNow.data.toList.drop 46 = dktX7_allNow_2 := dk_seg dksX7_allNow_1 22 rfl rfl
theorem dksX7_allNow_3 : cX7_allNow.data.toList.drop 70 = dktX7_allNow_3 := dk_seg dksX7_allNow_2 24 rfl rfl
theorem dksX7_allNow_4 : cX7_allNow.data.toList.drop 104 = dktX7_allNow_4 := dk_seg dksX7_allNow_3 34 rfl rfl
theorem dksX7_allNow_5 : cX7_allNow.data.toList.drop 128 = dktX7_allNow_5 := dk_seg dksX7_allNow_4 24 rfl rfl
theorem dX7_allNow_0 : decode cX7_allNow 0 = .ok (.iconst 0, 1) := dk_3 (dk_at dksX7_allNow_0 0 rfl rfl)
theorem dX7_allNow_1 : decode cX7_allNow 1 = .ok (.istore_n 2, 1) := dk_61 (dk_at dksX7_allNow_0 1 rfl rfl)
theorem dX7_allNow_2 : decode cX7_allNow 2 = .ok (.iconst 0, 1) := dk_3 (dk_at dksX7_allNow_0 2 rfl rfl)
theorem dX7_allNow_3 : decode cX7_allNow 3 = .ok (.istore_n 3, 1) := dk_62 (dk_at dksX7_allNow_0 3 rfl rfl)
theorem dX7_allNow_4 : decode cX7_allNow 4 = .ok (.iconst 0, 1) := dk_3 (dk_at dksX7_allNow_0 4 rfl rfl)
theorem dX7_allNow_5 : decode cX7_allNow 5 = .ok (.istore 4, 2) := dk_54 4 (dk_at dksX7_allNow_0 5 rfl rfl)
theorem dX7_allNow_7 : decode cX7_allNow 7 = .ok (.iload 4, 2) := dk_21 4 (dk_at dksX7_allNow_0 7 rfl rfl)
theorem dX7_allNow_9 : decode cX7_allNow 9 = .ok (.aload_n 0, 1) := dk_42 (dk_at dksX7_allNow_0 9 rfl rfl)
theorem dX7_allNow_10 : decode cX7_allNow 10 = .ok (.invokevirtual 59, 3) := dk_182 0 59 (dk_at dksX7_allNow_0 10 rfl rfl)
theorem dX7_allNow_13 : decode cX7_allNow 13 = .ok (.if_icmp .ge 56, 3) := dk_162 0 56 (dk_at dksX7_allNow_0 13 rfl rfl)
theorem dX7_allNow_16 : decode cX7_allNow 16 = .ok (.iload_n 2, 1) := dk_28 (dk_at dksX7_allNow_0 16 rfl rfl)
theorem dX7_allNow_17 : decode cX7_allNow 17 = .ok (.aload_n 0, 1) := dk_42 (dk_at dksX7_allNow_0 17 rfl rfl)
theorem dX7_allNow_18 : decode cX7_allNow 18 = .ok (.getfield 38, 3) := dk_180 0 38 (dk_at dksX7_allNow_0 18 rfl rfl)
theorem dX7_allNow_21 : decode cX7_allNow 21 = .ok (.iload 4, 2) := dk_21 4 (dk_at dksX7_allNow_0 21 rfl rfl)
theorem dX7_allNow_23 : decode cX7_allNow 23 = .ok (.iaload, 1) := dk_46 (dk_at dksX7_allNow_0 23 rfl rfl)
theorem dX7_allNow_24 : decode cX7_allNow 24 = .ok (.iconst (-1), 1) := dk_2 (dk_at dksX7_allNow_1 0 rfl rfl)
theorem dX7_allNow_25 : decode cX7_allNow 25 = .ok (.if_icmp .eq 16, 3) := dk_159 0 16 (dk_at dksX7_allNow_1 1 rfl rfl)
theorem dX7_allNow_28 : decode cX7_allNow 28 = .ok (.aload_n 0, 1) := dk_42 (dk_at dksX7_allNow_1 4 rfl rfl)
theorem dX7_allNow_29 : decode cX7_allNow 29 = .ok (.iload 4, 2) := dk_21 4 (dk_at dksX7_allNow_1 5 rfl rfl)
theorem dX7_allNow_31 : decode cX7_allNow 31 = .ok (.invokevirtual 211, 3) := dk_182 0 211 (dk_at dksX7_allNow_1 7 rfl rfl)
theorem dX7_allNow_34 : decode cX7_allNow 34 = .ok (.ifCond .eq 7, 3) := dk_153 0 7 (dk_at dksX7_allNow_1 10 rfl rfl)
theorem dX7_allNow_37 : decode cX7_allNow 37 = .ok (.iconst 1, 1) := dk_4 (dk_at dksX7_allNow_1 13 rfl rfl)
theorem dX7_allNow_38 : decode cX7_allNow 38 = .ok (.goto 4, 3) := dk_167 0 4 (dk_at dksX7_allNow_1 14 rfl rfl)
theorem dX7_allNow_41 : decode cX7_allNow 41 = .ok (.iconst 0, 1) := dk_3 (dk_at dksX7_allNow_1 17 rfl rfl)
theorem dX7_allNow_42 : decode cX7_allNow 42 = .ok (.iadd, 1) := dk_96 (dk_at dksX7_allNow_1 18 rfl rfl)
theorem dX7_allNow_43 : decode cX7_allNow 43 = .ok (.istore_n 2, 1) := dk_61 (dk_at dksX7_allNow_1 19 rfl rfl)
theorem dX7_allNow_44 : decode cX7_allNow 44 = .ok (.iload_n 3, 1) := dk_29 (dk_at dksX7_allNow_1 20 rfl rfl)
theorem dX7_allNow_45 : decode cX7_allNow 45 = .ok (.aload_n 0, 1) := dk_42 (dk_at dksX7_allNow_1 21 rfl rfl)
theorem dX7_allNow_46 : decode cX7_allNow 46 = .ok (.getfield 41, 3) := dk_180 0 41 (dk_at dksX7_allNow_2 0 rfl rfl)
theorem dX7_allNow_49 : decode cX7_allNow 49 = .ok (.iload 4, 2) := dk_21 4 (dk_at dksX7_allNow_2 3 rfl rfl)
theorem dX7_allNow_51 : decode cX7_allNow 51 = .ok (.iaload, 1) := dk_46 (dk_at dksX7_allNow_2 5 rfl rfl)
theorem dX7_allNow_52 : decode cX7_allNow 52 = .ok (.iconst (-1), 1) := dk_2 (dk_at dksX7_allNow_2 6 rfl rfl)
theorem dX7_allNow_53 : decode cX7_allNow 53 = .ok (.if_icmp .ne 7, 3) := dk_160 0 7 (dk_at dksX7_allNow_2 7 rfl rfl)
theorem dX7_allNow_56 : decode cX7_allNow 56 = .ok (.iconst 1, 1) := dk_4 (dk_at dksX7_allNow_2 10 rfl rfl)
theorem dX7_allNow_57 : decode cX7_allNow 57 = .ok (.goto 4, 3) := dk_167 0 4 (dk_at dksX7_allNow_2 11 rfl rfl)
theorem dX7_allNow_60 : decode cX7_allNow 60 = .ok (.iconst 0, 1) := dk_3 (dk_at dksX7_allNow_2 14 rfl rfl)
theorem dX7_allNow_61 : decode cX7_allNow 61 = .ok (.iadd, 1) := dk_96 (dk_at dksX7_allNow_2 15 rfl rfl)
theorem dX7_allNow_62 : decode cX7_allNow 62 = .ok (.istore_n 3, 1) := dk_62 (dk_at dksX7_allNow_2 16 rfl rfl)
theorem dX7_allNow_63 : decode cX7_allNow 63 = .ok (.iinc 4 1, 3) := dk_132 4 1 (dk_at dksX7_allNow_2 17 rfl rfl)
theorem dX7_allNow_66 : decode cX7_allNow 66 = .ok (.goto (-59), 3) := dk_167 255 197 (dk_at dksX7_allNow_2 20 rfl rfl)
theorem dX7_allNow_69 : decode cX7_allNow 69 = .ok (.iload_n 1, 1) := dk_27 (dk_at dksX7_allNow_2 23 rfl rfl)
theorem dX7_allNow_70 : decode cX7_allNow 70 = .ok (.tableswitch 69 0 4 #[34, 39, 52, 58, 67], 34) := by decide +kernel
theorem dX7_allNow_104 : decode cX7_allNow 104 = .ok (.aload_n 0, 1) := dk_42 (dk_at dksX7_allNow_4 0 rfl rfl)
theorem dX7_allNow_105 : decode cX7_allNow 105 = .ok (.invokevirtual 199, 3) := dk_182 0 199 (dk_at dksX7_allNow_4 1 rfl rfl)
theorem dX7_allNow_108 : decode cX7_allNow 108 = .ok (.ireturn, 1) := dk_172 (dk_at dksX7_allNow_4 4 rfl rfl)
theorem dX7_allNow_109 : decode cX7_allNow 109 = .ok (.aload_n 0, 1) := dk_42 (dk_at dksX7_allNow_4 5 rfl rfl)
theorem dX7_allNow_110 : decode cX7_allNow 110 = .ok (.invokevirtual 214, 3) := dk_182 0 214 (dk_at dksX7_allNow_4 6 rfl rfl)
theorem dX7_allNow_113 : decode cX7_allNow 113 = .ok (.ifCond .eq 7, 3) := dk_153 0 7 (dk_at dksX7_allNow_4 9 rfl rfl)
theorem dX7_allNow_116 : decode cX7_allNow 116 = .ok (.iconst 1, 1) := dk_4 (dk_at dksX7_allNow_4 12 rfl rfl)
theorem dX7_allNow_117 : decode cX7_allNow 117 = .ok (.goto 4, 3) := dk_167 0 4 (dk_at dksX7_allNow_4 13 rfl rfl)
theorem dX7_allNow_120 : decode cX7_allNow 120 = .ok (.iconst 0, 1) := dk_3 (dk_at dksX7_allNow_4 16 rfl rfl)
theorem dX7_allNow_121 : decode cX7_allNow 121 = .ok (.ireturn, 1) := dk_172 (dk_at dksX7_allNow_4 17 rfl rfl)
theorem dX7_allNow_122 : decode cX7_allNow 122 = .ok (.aload_n 0, 1) := dk_42 (dk_at dksX7_allNow_4 18 rfl rfl)
theorem dX7_allNow_123 : decode cX7_allNow 123 = .ok (.iconst 0, 1) := dk_3 (dk_at dksX7_allNow_4 19 rfl rfl)
theorem dX7_allNow_124 : decode cX7_allNow 124 = .ok (.invokevirtual 218, 3) := dk_182 0 218 (dk_at dksX7_allNow_4 20 rfl rfl)
theorem dX7_allNow_127 : decode cX7_allNow 127 = .ok (.ireturn, 1) := dk_172 (dk_at dksX7_allNow_4 23 rfl rfl)
theorem dX7_allNow_128 : decode cX7_allNow 128 = .ok (.aload_n 0, 1) := dk_42 (dk_at dksX7_allNow_5 0 rfl rfl)
theorem dX7_allNow_129 : decode cX7_allNow 129 = .ok (.iconst 1, 1) := dk_4 (dk_at dksX7_allNow_5 1 rfl rfl)
theorem dX7_allNow_130 : decode cX7_allNow 130 = .ok (.invokevirtual 218, 3) := dk_182 0 218 (dk_at dksX7_allNow_5 2 rfl rfl)
theorem dX7_allNow_133 : decode cX7_allNow 133 = .ok (.bipush 6, 2) := dk_16 6 (dk_at dksX7_allNow_5 5 rfl rfl)
theorem dX7_allNow_135 : decode cX7_allNow 135 = .ok (.iadd, 1) := dk_96 (dk_at dksX7_allNow_5 7 rfl rfl)
theorem dX7_allNow_136 : decode cX7_allNow 136 = .ok (.ireturn, 1) := dk_172 (dk_at dksX7_allNow_5 8 rfl rfl)
theorem dX7_allNow_137 : decode cX7_allNow 137 = .ok (.iload_n 2, 1) := dk_28 (dk_at dksX7_allNow_5 9 rfl rfl)
theorem dX7_allNow_138 : decode cX7_allNow 138 = .ok (.ireturn, 1) := dk_172 (dk_at dksX7_allNow_5 10 rfl rfl)
theorem dX7_allNow_139 : decode cX7_allNow 139 = .ok (.iload_n 3, 1) := dk_29 (dk_at dksX7_allNow_5 11 rfl rfl)
theorem dX7_allNow_140 : decode cX7_allNow 140 = .ok (.ireturn, 1) := dk_172 (dk_at dksX7_allNow_5 12 rfl rfl)
abbrev cX7_isRight : ByteArray := prog_20_method_52_code
def yX7_isRight : MethodName := ⟨RX7, "isRight", "(I)Z"⟩
def dkwX7_isRight_3 : List UInt8 := [3, 172]
abbrev dktX7_isRight_3 : List UInt8 := dkwX7_isRight_3 ++ []
def dkwX7_isRight_2 : List UInt8 := [27, 4, 182, 0, 208, 42, 27, 182, 0, 202, 96, 42, 28, 4, 182, 0, 208, 160, 0, 7, 4, 167, 0, 4]
abbrev dktX7_isRight_2 : List UInt8 := dkwX7_isRight_2 ++ dktX7_isRight_3
def dkwX7_isRight_1 : List UInt8 := [42, 27, 3, 182, 0, 208, 42, 27, 182, 0, 205, 96, 29, 112, 42, 28, 3, 182, 0, 208, 160, 0, 28, 42]
abbrev dktX7_isRight_1 : List UInt8 := dkwX7_isRight_1 ++ dktX7_isRight_2
def dkwX7_isRight_0 : List UInt8 := [42, 180, 0, 38, 27, 46, 61, 42, 27, 5, 182, 0, 208, 62, 29, 42, 28, 5, 182, 0, 208, 160, 0, 51]
abbrev dktX7_isRight_0 : List UInt8 := dkwX7_isRight_0 ++ dktX7_isRight_1
theorem dksX7_isRight_0 : cX7_isRight.data.toList.drop 0 = dktX7_isRight_0 := by decide +kernel
theorem dksX7_isRight_1 : cX7_isRight.data.toList.drop 24 = dktX7_isRight_1 := dk_seg dksX7_isRight_0 24 rfl rfl
theorem dksX7_isRight_2 : cX7_isRight.data.toList.drop 48 = dktX7_isRight_2 := dk_seg dksX7_isRight_1 24 rfl rfl
theorem dksX7_isRight_3 : cX7_isRight.data.toList.drop 72 = dktX7_isRight_3 := dk_seg dksX7_isRight_2 24 rfl rfl
theorem dX7_isRight_0 : decode cX7_isRight 0 = .ok (.aload_n 0, 1) := dk_42 (dk_at dksX7_isRight_0 0 rfl rfl)
theorem dX7_isRight_1 : decode cX7_isRight 1 = .ok (.getfield 38, 3) := dk_180 0 38 (dk_at dksX7_isRight_0 1 rfl rfl)
theorem dX7_isRight_4 : decode cX7_isRight 4 = .ok (.iload_n 1, 1) := dk_27 (dk_at dksX7_isRight_0 4 rfl rfl)
theorem dX7_isRight_5 : decode cX7_isRight 5 = .ok (.iaload, 1) := dk_46 (dk_at dksX7_isRight_0 5 rfl rfl)
theorem dX7_isRight_6 : decode cX7_isRight 6 = .ok (.istore_n 2, 1) := dk_61 (dk_at dksX7_isRight_0 6 rfl rfl)
theorem dX7_isRight_7 : decode cX7_isRight 7 = .ok (.aload_n 0, 1) := dk_42 (dk_at dksX7_isRight_0 7 rfl rfl)
theorem dX7_isRight_8 : decode cX7_isRight 8 = .ok (.iload_n 1, 1) := dk_27 (dk_at dksX7_isRight_0 8 rfl rfl)
theorem dX7_isRight_9 : decode cX7_isRight 9 = .ok (.iconst 2, 1) := dk_5 (dk_at dksX7_isRight_0 9 rfl rfl)
theorem dX7_isRight_10 : decode cX7_isRight 10 = .ok (.invokevirtual 208, 3) := dk_182 0 208 (dk_at dksX7_isRight_0 10 rfl rfl)
theorem dX7_isRight_13 : decode cX7_isRight 13 = .ok (.istore_n 3, 1) := dk_62 (dk_at dksX7_isRight_0 13 rfl rfl)
theorem dX7_isRight_14 : decode cX7_isRight 14 = .ok (.iload_n 3, 1) := dk_29 (dk_at dksX7_isRight_0 14 rfl rfl)
theorem dX7_isRight_15 : decode cX7_isRight 15 = .ok (.aload_n 0, 1) := dk_42 (dk_at dksX7_isRight_0 15 rfl rfl)
theorem dX7_isRight_16 : decode cX7_isRight 16 = .ok (.iload_n 2, 1) := dk_28 (dk_at dksX7_isRight_0 16 rfl rfl)
theorem dX7_isRight_17 : decode cX7_isRight 17 = .ok (.iconst 2, 1) := dk_5 (dk_at dksX7_isRight_0 17 rfl rfl)
theorem dX7_isRight_18 : decode cX7_isRight 18 = .ok (.invokevirtual 208, 3) := dk_182 0 208 (dk_at dksX7_isRight_0 18 rfl rfl)
theorem dX7_isRight_21 : decode cX7_isRight 21 = .ok (.if_icmp .ne 51, 3) := dk_160 0 51 (dk_at dksX7_isRight_0 21 rfl rfl)
theorem dX7_isRight_24 : decode cX7_isRight 24 = .ok (.aload_n 0, 1) := dk_42 (dk_at dksX7_isRight_1 0 rfl rfl)
theorem dX7_isRight_25 : decode cX7_isRight 25 = .ok (.iload_n 1, 1) := dk_27 (dk_at dksX7_isRight_1 1 rfl rfl)
theorem dX7_isRight_26 : decode cX7_isRight 26 = .ok (.iconst 0, 1) := dk_3 (dk_at dksX7_isRight_1 2 rfl rfl)
theorem dX7_isRight_27 : decode cX7_isRight 27 = .ok (.invokevirtual 208, 3) := dk_182 0 208 (dk_at dksX7_isRight_1 3 rfl rfl)
theorem dX7_isRight_30 : decode cX7_isRight 30 = .ok (.aload_n 0, 1) := dk_42 (dk_at dksX7_isRight_1 6 rfl rfl)
theorem dX7_isRight_31 : decode cX7_isRight 31 = .ok (.iload_n 1, 1) := dk_27 (dk_at dksX7_isRight_1 7 rfl rfl)
theorem dX7_isRight_32 : decode cX7_isRight 32 = .ok (.invokevirtual 205, 3) := dk_182 0 205 (dk_at dksX7_isRight_1 8 rfl rfl)
theorem dX7_isRight_35 : decode cX7_isRight 35 = .ok (.iadd, 1) := dk_96 (dk_at dksX7_isRight_1 11 rfl rfl)
theorem dX7_isRight_36 : decode cX7_isRight 36 = .ok (.iload_n 3, 1) := dk_29 (dk_at dksX7_isRight_1 12 rfl rfl)
theorem dX7_isRight_37 : decode cX7_isRight 37 = .ok (.irem, 1) := dk_112 (dk_at dksX7_isRight_1 13 rfl rfl)
theorem dX7_isRight_38 : decode cX7_isRight 38 = .ok (.aload_n 0, 1) := dk_42 (dk_at dksX7_isRight_1 14 rfl rfl)
theorem dX7_isRight_39 : decode cX7_isRight 39 = .ok (.iload_n 2, 1) := dk_28 (dk_at dksX7_isRight_1 15 rfl rfl)
theorem dX7_isRight_40 : decode cX7_isRight 40 = .ok (.iconst 0, 1) := dk_3 (dk_at dksX7_isRight_1 16 rfl rfl)
theorem dX7_isRight_41 : decode cX7_isRight 41 = .ok (.invokevirtual 208, 3) := dk_182 0 208 (dk_at dksX7_isRight_1 17 rfl rfl)
theorem dX7_isRight_44 : decode cX7_isRight 44 = .ok (.if_icmp .ne 28, 3) := dk_160 0 28 (dk_at dksX7_isRight_1 20 rfl rfl)
theorem dX7_isRight_47 : decode cX7_isRight 47 = .ok (.aload_n 0, 1) := dk_42 (dk_at dksX7_isRight_1 23 rfl rfl)
theorem dX7_isRight_48 : decode cX7_isRight 48 = .ok (.iload_n 1, 1) := dk_27 (dk_at dksX7_isRight_2 0 rfl rfl)
theorem dX7_isRight_49 : decode cX7_isRight 49 = .ok (.iconst 1, 1) := dk_4 (dk_at dksX7_isRight_2 1 rfl rfl)
theorem dX7_isRight_50 : decode cX7_isRight 50 = .ok (.invokevirtual 208, 3) := dk_182 0 208 (dk_at dksX7_isRight_2 2 rfl rfl)
theorem dX7_isRight_53 : decode cX7_isRight 53 = .ok (.aload_n 0, 1) := dk_42 (dk_at dksX7_isRight_2 5 rfl rfl)
theorem dX7_isRight_54 : decode cX7_isRight 54 = .ok (.iload_n 1, 1) := dk_27 (dk_at dksX7_isRight_2 6 rfl rfl)
theorem dX7_isRight_55 : decode cX7_isRight 55 = .ok (.invokevirtual 202, 3) := dk_182 0 202 (dk_at dksX7_isRight_2 7 rfl rfl)
theorem dX7_isRight_58 : decode cX7_isRight 58 = .ok (.iadd, 1) := dk_96 (dk_at dksX7_isRight_2 10 rfl rfl)
theorem dX7_isRight_59 : decode cX7_isRight 59 = .ok (.aload_n 0, 1) := dk_42 (dk_at dksX7_isRight_2 11 rfl rfl)
theorem dX7_isRight_60 : decode cX7_isRight 60 = .ok (.iload_n 2, 1) := dk_28 (dk_at dksX7_isRight_2 12 rfl rfl)
theorem dX7_isRight_61 : decode cX7_isRight 61 = .ok (.iconst 1, 1) := dk_4 (dk_at dksX7_isRight_2 13 rfl rfl)
theorem dX7_isRight_62 : decode cX7_isRight 62 = .ok (.invokevirtual 208, 3) := dk_182 0 208 (dk_at dksX7_isRight_2 14 rfl rfl)
theorem dX7_isRight_65 : decode cX7_isRight 65 = .ok (.if_icmp .ne 7, 3) := dk_160 0 7 (dk_at dksX7_isRight_2 17 rfl rfl)
theorem dX7_isRight_68 : decode cX7_isRight 68 = .ok (.iconst 1, 1) := dk_4 (dk_at dksX7_isRight_2 20 rfl rfl)
theorem dX7_isRight_69 : decode cX7_isRight 69 = .ok (.goto 4, 3) := dk_167 0 4 (dk_at dksX7_isRight_2 21 rfl rfl)
theorem dX7_isRight_72 : decode cX7_isRight 72 = .ok (.iconst 0, 1) := dk_3 (dk_at dksX7_isRight_3 0 rfl rfl)
theorem dX7_isRight_73 : decode cX7_isRight 73 = .ok (.ireturn, 1) := dk_172 (dk_at dksX7_isRight_3 1 rfl rfl)
abbrev cX7_shotOf : ByteArray := prog_20_method_12_code
def yX7_shotOf : MethodName := ⟨RX7, "shotOf", "(II)I"⟩
def dkwX7_shotOf_0 : List UInt8 := [42, 180, 0, 7, 17, 0, 196, 16, 35, 27, 104, 96, 16, 32, 96, 28, 96, 46, 172]
abbrev dktX7_shotOf_0 : List UInt8 := dkwX7_shotOf_0 ++ []
theorem dksX7_shotOf_0 : cX7_shotOf.data.toList.drop 0 = dktX7_shotOf_0 := by decide +kernel
theorem dX7_shotOf_0 : decode cX7_shotOf 0 = .ok (.aload_n 0, 1) := dk_42 (dk_at dksX7_shotOf_0 0 rfl rfl)
theorem dX7_shotOf_1 : decode cX7_shotOf 1 = .ok (.getfield 7, 3) := dk_180 0 7 (dk_at dksX7_shotOf_0 1 rfl rfl)
theorem dX7_shotOf_4 : decode cX7_shotOf 4 = .ok (.sipush 196, 3) := dk_17 0 196 (dk_at dksX7_shotOf_0 4 rfl rfl)
theorem dX7_shotOf_7 : decode cX7_shotOf 7 = .ok (.bipush 35, 2) := dk_16 35 (dk_at dksX7_shotOf_0 7 rfl rfl)
theorem dX7_shotOf_9 : decode cX7_shotOf 9 = .ok (.iload_n 1, 1) := dk_27 (dk_at dksX7_shotOf_0 9 rfl rfl)
theorem dX7_shotOf_10 : decode cX7_shotOf 10 = .ok (.imul, 1) := dk_104 (dk_at dksX7_shotOf_0 10 rfl rfl)
theorem dX7_shotOf_11 : decode cX7_shotOf 11 = .ok (.iadd, 1) := dk_96 (dk_at dksX7_shotOf_0 11 rfl rfl)
theorem dX7_shotOf_12 : decode cX7_shotOf 12 = .ok (.bipush 32, 2) := dk_16 32 (dk_at dksX7_shotOf_0 12 rfl rfl)
theorem dX7_shotOf_14 : decode cX7_shotOf 14 = .ok (.iadd, 1) := dk_96 (dk_at dksX7_shotOf_0 14 rfl rfl)
theorem dX7_shotOf_15 : decode cX7_shotOf 15 = .ok (.iload_n 2, 1) := dk_28 (dk_at dksX7_shotOf_0 15 rfl rfl)
theorem dX7_shotOf_16 : decode cX7_shotOf 16 = .ok (.iadd, 1) := dk_96 (dk_at dksX7_shotOf_0 16 rfl rfl)
theorem dX7_shotOf_17 : decode cX7_shotOf 17 = .ok (.iaload, 1) := dk_46 (dk_at dksX7_shotOf_0 17 rfl rfl)
theorem dX7_shotOf_18 : decode cX7_shotOf 18 = .ok (.ireturn, 1) := dk_172 (dk_at dksX7_shotOf_0 18 rfl rfl)
abbrev cX7_fOf : ByteArray := prog_20_method_47_code
def yX7_fOf : MethodName := ⟨RX7, "fOf", "(I)I"⟩
def dkwX7_fOf_0 : List UInt8 := [42, 180, 0, 35, 16, 6, 27, 104, 42, 180, 0, 38, 27, 46, 96, 46, 172]
abbrev dktX7_fOf_0 : List UInt8 := dkwX7_fOf_0 ++ []
theorem dksX7_fOf_0 : cX7_fOf.data.toList.drop 0 = dktX7_fOf_0 := by decide +kernel
theorem dX7_fOf_0 : decode cX7_fOf 0 = .ok (.aload_n 0, 1) := dk_42 (dk_at dksX7_fOf_0 0 rfl rfl)
theorem dX7_fOf_1 : decode cX7_fOf 1 = .ok (.getfield 35, 3) := dk_180 0 35 (dk_at dksX7_fOf_0 1 rfl rfl)
theorem dX7_fOf_4 : decode cX7_fOf 4 = .ok (.bipush 6, 2) := dk_16 6 (dk_at dksX7_fOf_0 4 rfl rfl)
theorem dX7_fOf_6 : decode cX7_fOf 6 = .ok (.iload_n 1, 1) := dk_27 (dk_at dksX7_fOf_0 6 rfl rfl)
theorem dX7_fOf_7 : decode cX7_fOf 7 = .ok (.imul, 1) := dk_104 (dk_at dksX7_fOf_0 7 rfl rfl)
theorem dX7_fOf_8 : decode cX7_fOf 8 = .ok (.aload_n 0, 1) := dk_42 (dk_at dksX7_fOf_0 8 rfl rfl)
theorem dX7_fOf_9 : decode cX7_fOf 9 = .ok (.getfield 38, 3) := dk_180 0 38 (dk_at dksX7_fOf_0 9 rfl rfl)
theorem dX7_fOf_12 : decode cX7_fOf 12 = .ok (.iload_n 1, 1) := dk_27 (dk_at dksX7_fOf_0 12 rfl rfl)
theorem dX7_fOf_13 : decode cX7_fOf 13 = .ok (.iaload, 1) := dk_46 (dk_at dksX7_fOf_0 13 rfl rfl)
theorem dX7_fOf_14 : decode cX7_fOf 14 = .ok (.iadd, 1) := dk_96 (dk_at dksX7_fOf_0 14 rfl rfl)
theorem dX7_fOf_15 : decode cX7_fOf 15 = .ok (.iaload, 1) := dk_46 (dk_at dksX7_fOf_0 15 rfl rfl)
theorem dX7_fOf_16 : decode cX7_fOf 16 = .ok (.ireturn, 1) := dk_172 (dk_at dksX7_fOf_0 16 rfl rfl)
abbrev cX7_eOf : ByteArray := prog_20_method_46_code
def yX7_eOf : MethodName := ⟨RX7, "eOf", "(I)I"⟩
def dkwX7_eOf_0 : List UInt8 := [42, 180, 0, 32, 16, 6, 27, 104, 42, 180, 0, 38, 27, 46, 96, 46, 172]
abbrev dktX7_eOf_0 : List UInt8 := dkwX7_eOf_0 ++ []
theorem dksX7_eOf_0 : cX7_eOf.data.toList.drop 0 = dktX7_eOf_0 := by decide +kernel
theorem dX7_eOf_0 : decode cX7_eOf 0 = .ok (.aload_n 0, 1) := dk_42 (dk_at dksX7_eOf_0 0 rfl rfl)
theorem dX7_eOf_1 : decode cX7_eOf 1 = .ok (.getfield 32, 3) := dk_180 0 32 (dk_at dksX7_eOf_0 1 rfl rfl)
theorem dX7_eOf_4 : decode cX7_eOf 4 = .ok (.bipush 6, 2) := dk_16 6 (dk_at dksX7_eOf_0 4 rfl rfl)
theorem dX7_eOf_6 : decode cX7_eOf 6 = .ok (.iload_n 1, 1) := dk_27 (dk_at dksX7_eOf_0 6 rfl rfl)
theorem dX7_eOf_7 : decode cX7_eOf 7 = .ok (.imul, 1) := dk_104 (dk_at dksX7_eOf_0 7 rfl rfl)
theorem dX7_eOf_8 : decode cX7_eOf 8 = .ok (.aload_n 0, 1) := dk_42 (dk_at dksX7_eOf_0 8 rfl rfl)
theorem dX7_eOf_9 : decode cX7_eOf 9 = .ok (.getfield 38, 3) := dk_180 0 38 (dk_at dksX7_eOf_0 9 rfl rfl)
theorem dX7_eOf_12 : decode cX7_eOf 12 = .ok (.iload_n 1, 1) := dk_27 (dk_at dksX7_eOf_0 12 rfl rfl)
theorem dX7_eOf_13 : decode cX7_eOf 13 = .ok (.iaload, 1) := dk_46 (dk_at dksX7_eOf_0 13 rfl rfl)
theorem dX7_eOf_14 : decode cX7_eOf 14 = .ok (.iadd, 1) := dk_96 (dk_at dksX7_eOf_0 14 rfl rfl)
theorem dX7_eOf_15 : decode cX7_eOf 15 = .ok (.iaload, 1) := dk_46 (dk_at dksX7_eOf_0 15 rfl rfl)
theorem dX7_eOf_16 : decode cX7_eOf 16 = .ok (.ireturn, 1) := dk_172 (dk_at dksX7_eOf_0 16 rfl rfl)
abbrev cX7_taken : ByteArray := prog_20_method_49_code
def yX7_taken : MethodName := ⟨RX7, "taken", "()I"⟩
def dkwX7_taken_1 : List UInt8 := [167, 0, 4, 3, 96, 60, 132, 2, 1, 167, 255, 227, 27, 172]
abbrev dktX7_taken_1 : List UInt8 := dkwX7_taken_1 ++ []
def dkwX7_taken_0 : List UInt8 := [3, 60, 3, 61, 28, 42, 182, 0, 59, 162, 0, 27, 27, 42, 180, 0, 38, 28, 46, 2, 159, 0, 7, 4]
abbrev dktX7_taken_0 : List UInt8 := dkwX7_taken_0 ++ dktX7_taken_1
theorem dksX7_taken_0 : cX7_taken.data.toList.drop 0 = dktX7_taken_0 := by decide +kernel
theorem dksX7_taken_1 : cX7_taken.data.toList.drop 24 = dktX7_taken_1 := dk_seg dksX7_taken_0 24 rfl rfl
theorem dX7_taken_0 : decode cX7_taken 0 = .ok (.iconst 0, 1) := dk_3 (dk_at dksX7_taken_0 0 rfl rfl)
theorem dX7_taken_1 : decode cX7_taken 1 = .ok (.istore_n 1, 1) := dk_60 (dk_at dksX7_taken_0 1 rfl rfl)
theorem dX7_taken_2 : decode cX7_taken 2 = .ok (.iconst 0, 1) := dk_3 (dk_at dksX7_taken_0 2 rfl rfl)
theorem dX7_taken_3 : decode cX7_taken 3 = .ok (.istore_n 2, 1) := dk_61 (dk_at dksX7_taken_0 3 rfl rfl)
theorem dX7_taken_4 : decode cX7_taken 4 = .ok (.iload_n 2, 1) := dk_28 (dk_at dksX7_taken_0 4 rfl rfl)
theorem dX7_taken_5 : decode cX7_taken 5 = .ok (.aload_n 0, 1) := dk_42 (dk_at dksX7_taken_0 5 rfl rfl)
theorem dX7_taken_6 : decode cX7_taken 6 = .ok (.invokevirtual 59, 3) := dk_182 0 59 (dk_at dksX7_taken_0 6 rfl rfl)
theorem dX7_taken_9 : decode cX7_taken 9 = .ok (.if_icmp .ge 27, 3) := dk_162 0 27 (dk_at dksX7_taken_0 9 rfl rfl)
theorem dX7_taken_12 : decode cX7_taken 12 = .ok (.iload_n 1, 1) := dk_27 (dk_at dksX7_taken_0 12 rfl rfl)
theorem dX7_taken_13 : decode cX7_taken 13 = .ok (.aload_n 0, 1) := dk_42 (dk_at dksX7_taken_0 13 rfl rfl)
theorem dX7_taken_14 : decode cX7_taken 14 = .ok (.getfield 38, 3) := dk_180 0 38 (dk_at dksX7_taken_0 14 rfl rfl)
theorem dX7_taken_17 : decode cX7_taken 17 = .ok (.iload_n 2, 1) := dk_28 (dk_at dksX7_taken_0 17 rfl rfl)
theorem dX7_taken_18 : decode cX7_taken 18 = .ok (.iaload, 1) := dk_46 (dk_at dksX7_taken_0 18 rfl rfl)
theorem dX7_taken_19 : decode cX7_taken 19 = .ok (.iconst (-1), 1) := dk_2 (dk_at dksX7_taken_0 19 rfl rfl)
theorem dX7_taken_20 : decode cX7_taken 20 = .ok (.if_icmp .eq 7, 3) := dk_159 0 7 (dk_at dksX7_taken_0 20 rfl rfl)
theorem dX7_taken_23 : decode cX7_taken 23 = .ok (.iconst 1, 1) := dk_4 (dk_at dksX7_taken_0 23 rfl rfl)
theorem dX7_taken_24 : decode cX7_taken 24 = .ok (.goto 4, 3) := dk_167 0 4 (dk_at dksX7_taken_1 0 rfl rfl)
theorem dX7_taken_27 : decode cX7_taken 27 = .ok (.iconst 0, 1) := dk_3 (dk_at dksX7_taken_1 3 rfl rfl)
theorem dX7_taken_28 : decode cX7_taken 28 = .ok (.iadd, 1) := dk_96 (dk_at dksX7_taken_1 4 rfl rfl)
theorem dX7_taken_29 : decode cX7_taken 29 = .ok (.istore_n 1, 1) := dk_60 (dk_at dksX7_taken_1 5 rfl rfl)
theorem dX7_taken_30 : decode cX7_taken 30 = .ok (.iinc 2 1, 3) := dk_132 2 1 (dk_at dksX7_taken_1 6 rfl rfl)
theorem dX7_taken_33 : decode cX7_taken 33 = .ok (.goto (-29), 3) := dk_167 255 227 (dk_at dksX7_taken_1 9 rfl rfl)
theorem dX7_taken_36 : decode cX7_taken 36 = .ok (.iload_n 1, 1) := dk_27 (dk_at dksX7_taken_1 12 rfl rfl)
theorem dX7_taken_37 : decode cX7_taken 37 = .ok (.ireturn, 1) := dk_172 (dk_at dksX7_taken_1 13 rfl rfl)
abbrev cX7_isClosed : ByteArray := prog_20_method_50_code
def yX7_isClosed : MethodName := ⟨RX7, "isClosed", "()Z"⟩
def dkwX7_isClosed_1 : List UInt8 := [172]
abbrev dktX7_isClosed_1 : List UInt8 := dkwX7_isClosed_1 ++ []
def dkwX7_isClosed_0 : List UInt8 := [42, 182, 0, 59, 5, 161, 0, 18, 42, 182, 0, 199, 42, 182, 0, 59, 160, 0, 7, 4, 167, 0, 4, 3]
abbrev dktX7_isClosed_0 : List UInt8 := dkwX7_isClosed_0 ++ dktX7_isClosed_1
theorem dksX7_isClosed_0 : cX7_isClosed.data.toList.drop 0 = dktX7_isClosed_0 := by decide +kernel
theorem dksX7_isClosed_1 : cX7_isClosed.data.toList.drop 24 = dktX7_isClosed_1 := dk_seg dksX7_isClosed_0 24 rfl rfl
theorem dX7_isClosed_0 : decode cX7_isClosed 0 = .ok (.aload_n 0, 1) := dk_42 (dk_at dksX7_isClosed_0 0 rfl rfl)
theorem dX7_isClosed_1 : decode cX7_isClosed 1 = .ok (.invokevirtual 59, 3) := dk_182 0 59 (dk_at dksX7_isClosed_0 1 rfl rfl)
theorem dX7_isClosed_4 : decode cX7_isClosed 4 = .ok (.iconst 2, 1) := dk_5 (dk_at dksX7_isClosed_0 4 rfl rfl)
theorem dX7_isClosed_5 : decode cX7_isClosed 5 = .ok (.if_icmp .lt 18, 3) := dk_161 0 18 (dk_at dksX7_isClosed_0 5 rfl rfl)
theorem dX7_isClosed_8 : decode cX7_isClosed 8 = .ok (.aload_n 0, 1) := dk_42 (dk_at dksX7_isClosed_0 8 rfl rfl)
theorem dX7_isClosed_9 : decode cX7_isClosed 9 = .ok (.invokevirtual 199, 3) := dk_182 0 199 (dk_at dksX7_isClosed_0 9 rfl rfl)
theorem dX7_isClosed_12 : decode cX7_isClosed 12 = .ok (.aload_n 0, 1) := dk_42 (dk_at dksX7_isClosed_0 12 rfl rfl)
theorem dX7_isClosed_13 : decode cX7_isClosed 13 = .ok (.invokevirtual 59, 3) := dk_182 0 59 (dk_at dksX7_isClosed_0 13 rfl rfl)
theorem dX7_isClosed_16 : decode cX7_isClosed 16 = .ok (.if_icmp .ne 7, 3) := dk_160 0 7 (dk_at dksX7_isClosed_0 16 rfl rfl)
theorem dX7_isClosed_19 : decode cX7_isClosed 19 = .ok (.iconst 1, 1) := dk_4 (dk_at dksX7_isClosed_0 19 rfl rfl)
theorem dX7_isClosed_20 : decode cX7_isClosed 20 = .ok (.goto 4, 3) := dk_167 0 4 (dk_at dksX7_isClosed_0 20 rfl rfl)
theorem dX7_isClosed_23 : decode cX7_isClosed 23 = .ok (.iconst 0, 1) := dk_3 (dk_at dksX7_isClosed_0 23 rfl rfl)
theorem dX7_isClosed_24 : decode cX7_isClosed 24 = .ok (.ireturn, 1) := dk_172 (dk_at dksX7_isClosed_1 0 rfl rfl)
abbrev cX7_sumOf : ByteArray := prog_20_method_51_code
def yX7_sumOf : MethodName := ⟨RX7, "sumOf", "(Z)I"⟩
def dkwX7_sumOf_2 : List UInt8 := [132, 3, 1, 167, 255, 211, 28, 172]
abbrev dktX7_sumOf_2 : List UInt8 := dkwX7_sumOf_2 ++ []
def dkwX7_sumOf_1 : List UInt8 := [167, 0, 20, 27, 153, 0, 11, 42, 29, 182, 0, 202, 167, 0, 8, 42, 29, 182, 0, 205, 96, 61]
abbrev dktX7_sumOf_1 : List UInt8 := dkwX7_sumOf_1 ++ dktX7_sumOf_2
def dkwX7_sumOf_0 : List UInt8 := [3, 61, 3, 62, 29, 42, 182, 0, 59, 162, 0, 43, 28, 42, 180, 0, 38, 29, 46, 2, 160, 0, 7, 3]
abbrev dktX7_sumOf_0 : List UInt8 := dkwX7_sumOf_0 ++ dktX7_sumOf_1
theorem dksX7_sumOf_0 : cX7_sumOf.data.toList.drop 0 = dktX7_sumOf_0 := by decide +kernel
theorem dksX7_sumOf_1 : cX7_sumOf.data.toList.drop 24 = dktX7_sumOf_1 := dk_seg dksX7_sumOf_0 24 rfl rfl
theorem dksX7_sumOf_2 : cX7_sumOf.data.toList.drop 46 = dktX7_sumOf_2 := dk_seg dksX7_sumOf_1 22 rfl rfl
theorem dX7_sumOf_0 : decode cX7_sumOf 0 = .ok (.iconst 0, 1) := dk_3 (dk_at dksX7_sumOf_0 0 rfl rfl)
theorem dX7_sumOf_1 : decode cX7_sumOf 1 = .ok (.istore_n 2, 1) := dk_61 (dk_at dksX7_sumOf_0 1 rfl rfl)
theorem dX7_sumOf_2 : decode cX7_sumOf 2 = .ok (.iconst 0, 1) := dk_3 (dk_at dksX7_sumOf_0 2 rfl rfl)
theorem dX7_sumOf_3 : decode cX7_sumOf 3 = .ok (.istore_n 3, 1) := dk_62 (dk_at dksX7_sumOf_0 3 rfl rfl)
theorem dX7_sumOf_4 : decode cX7_sumOf 4 = .ok (.iload_n 3, 1) := dk_29 (dk_at dksX7_sumOf_0 4 rfl rfl)
theorem dX7_sumOf_5 : decode cX7_sumOf 5 = .ok (.aload_n 0, 1) := dk_42 (dk_at dksX7_sumOf_0 5 rfl rfl)
theorem dX7_sumOf_6 : decode cX7_sumOf 6 = .ok (.invokevirtual 59, 3) := dk_182 0 59 (dk_at dksX7_sumOf_0 6 rfl rfl)
theorem dX7_sumOf_9 : decode cX7_sumOf 9 = .ok (.if_icmp .ge 43, 3) := dk_162 0 43 (dk_at dksX7_sumOf_0 9 rfl rfl)
theorem dX7_sumOf_12 : decode cX7_sumOf 12 = .ok (.iload_n 2, 1) := dk_28 (dk_at dksX7_sumOf_0 12 rfl rfl)
theorem dX7_sumOf_13 : decode cX7_sumOf 13 = .ok (.aload_n 0, 1) := dk_42 (dk_at dksX7_sumOf_0 13 rfl rfl)
theorem dX7_sumOf_14 : decode cX7_sumOf 14 = .ok (.getfield 38, 3) := dk_180 0 38 (dk_at dksX7_sumOf_0 14 rfl rfl)
theorem dX7_sumOf_17 : decode cX7_sumOf 17 = .ok (.iload_n 3, 1) := dk_29 (dk_at dksX7_sumOf_0 17 rfl rfl)
theorem dX7_sumOf_18 : decode cX7_sumOf 18 = .ok (.iaload, 1) := dk_46 (dk_at dksX7_sumOf_0 18 rfl rfl)
theorem dX7_sumOf_19 : decode cX7_sumOf 19 = .ok (.iconst (-1), 1) := dk_2 (dk_at dksX7_sumOf_0 19 rfl rfl)
theorem dX7_sumOf_20 : decode cX7_sumOf 20 = .ok (.if_icmp .ne 7, 3) := dk_160 0 7 (dk_at dksX7_sumOf_0 20 rfl rfl)
theorem dX7_sumOf_23 : decode cX7_sumOf 23 = .ok (.iconst 0, 1) := dk_3 (dk_at dksX7_sumOf_0 23 rfl rfl)
theorem dX7_sumOf_24 : decode cX7_sumOf 24 = .ok (.goto 20, 3) := dk_167 0 20 (dk_at dksX7_sumOf_1 0 rfl rfl)
theorem dX7_sumOf_27 : decode cX7_sumOf 27 = .ok (.iload_n 1, 1) := dk_27 (dk_at dksX7_sumOf_1 3 rfl rfl)
theorem dX7_sumOf_28 : decode cX7_sumOf 28 = .ok (.ifCond .eq 11, 3) := dk_153 0 11 (dk_at dksX7_sumOf_1 4 rfl rfl)
theorem dX7_sumOf_31 : decode cX7_sumOf 31 = .ok (.aload_n 0, 1) := dk_42 (dk_at dksX7_sumOf_1 7 rfl rfl)
theorem dX7_sumOf_32 : decode cX7_sumOf 32 = .ok (.iload_n 3, 1) := dk_29 (dk_at dksX7_sumOf_1 8 rfl rfl)
theorem dX7_sumOf_33 : decode cX7_sumOf 33 = .ok (.invokevirtual 202, 3) := dk_182 0 202 (dk_at dksX7_sumOf_1 9 rfl rfl)
theorem dX7_sumOf_36 : decode cX7_sumOf 36 = .ok (.goto 8, 3) := dk_167 0 8 (dk_at dksX7_sumOf_1 12 rfl rfl)
theorem dX7_sumOf_39 : decode cX7_sumOf 39 = .ok (.aload_n 0, 1) := dk_42 (dk_at dksX7_sumOf_1 15 rfl rfl)
theorem dX7_sumOf_40 : decode cX7_sumOf 40 = .ok (.iload_n 3, 1) := dk_29 (dk_at dksX7_sumOf_1 16 rfl rfl)
theorem dX7_sumOf_41 : decode cX7_sumOf 41 = .ok (.invokevirtual 205, 3) := dk_182 0 205 (dk_at dksX7_sumOf_1 17 rfl rfl)
theorem dX7_sumOf_44 : decode cX7_sumOf 44 = .ok (.iadd, 1) := dk_96 (dk_at dksX7_sumOf_1 20 rfl rfl)
theorem dX7_sumOf_45 : decode cX7_sumOf 45 = .ok (.istore_n 2, 1) := dk_61 (dk_at dksX7_sumOf_1 21 rfl rfl)
theorem dX7_sumOf_46 : decode cX7_sumOf 46 = .ok (.iinc 3 1, 3) := dk_132 3 1 (dk_at dksX7_sumOf_2 0 rfl rfl)
theorem dX7_sumOf_49 : decode cX7_sumOf 49 = .ok (.goto (-45), 3) := dk_167 255 211 (dk_at dksX7_sumOf_2 3 rfl rfl)
theorem dX7_sumOf_52 : decode cX7_sumOf 52 = .ok (.iload_n 2, 1) := dk_28 (dk_at dksX7_sumOf_2 6 rfl rfl)
theorem dX7_sumOf_53 : decode cX7_sumOf 53 = .ok (.ireturn, 1) := dk_172 (dk_at dksX7_sumOf_2 7 rfl rfl)
abbrev cX7_place : ByteArray := prog_20_method_56_code
def yX7_place : MethodName := ⟨RX7, "place", "(II)I"⟩
def dkwX7_place_5 : List UInt8 := [54, 6, 28, 154, 0, 7, 29, 167, 0, 11, 21, 4, 21, 6, 100, 16, 20, 96, 172]
abbrev dktX7_place_5 : List UInt8 := dkwX7_place_5 ++ []
def dkwX7_place_4 : List UInt8 := [42, 4, 182, 0, 218, 104, 21, 5, 104, 42, 182, 0, 59, 96, 5, 42, 182, 0, 59, 104, 184, 0, 225]
abbrev dktX7_place_4 : List UInt8 := dkwX7_place_4 ++ dktX7_place_5
def dkwX7_place_3 : List UInt8 := [21, 6, 182, 0, 202, 96, 54, 4, 132, 5, 1, 42, 180, 0, 38, 21, 6, 46, 54, 6, 167, 255, 218, 5]
abbrev dktX7_place_3 : List UInt8 := dkwX7_place_3 ++ dktX7_place_4
def dkwX7_place_2 : List UInt8 := [3, 54, 5, 3, 54, 6, 21, 6, 27, 159, 0, 38, 29, 42, 21, 6, 182, 0, 205, 96, 62, 21, 4, 42]
abbrev dktX7_place_2 : List UInt8 := dkwX7_place_2 ++ dktX7_place_3
def dkwX7_place_1 : List UInt8 := [172, 42, 182, 0, 196, 42, 182, 0, 214, 154, 0, 10, 42, 16, 253, 182, 0, 91, 172, 3, 62, 3, 54, 4]
abbrev dktX7_place_1 : List UInt8 := dkwX7_place_1 ++ dktX7_place_2
def dkwX7_place_0 : List UInt8 := [42, 27, 182, 0, 128, 153, 0, 13, 28, 133, 9, 10, 184, 0, 63, 154, 0, 10, 42, 16, 254, 182, 0, 91]
abbrev dktX7_place_0 : List UInt8 := dkwX7_place_0 ++ dktX7_place_1
theorem dksX7_place_0 : cX7_place.data.toList.drop 0 = dktX7_place_0 := by decide +kernel
theorem dksX7_place_1 : cX7_place.data.toList.drop 24 = dktX7_place_1 := dk_seg dksX7_place_0 24 rfl rfl
theorem dksX7_place_2 : cX7_place.data.toList.drop 48 = dktX7_place_2 := dk_seg dksX7_place_1 24 rfl rfl
theorem dksX7_place_3 : cX7_place.data.toList.drop 72 = dktX7_place_3 := dk_seg dksX7_place_2 24 rfl rfl
theorem dksX7_place_4 : cX7_place.data.toList.drop 96 = dktX7_place_4 := dk_seg dksX7_place_3 24 rfl rfl
theorem dksX7_place_5 : cX7_place.data.toList.drop 119 = dktX7_place_5 := dk_seg dksX7_place_4 23 rfl rfl
theorem dX7_place_0 : decode cX7_place 0 = .ok (.aload_n 0, 1) := dk_42 (dk_at dksX7_place_0 0 rfl rfl)
theorem dX7_place_1 : decode cX7_place 1 = .ok (.iload_n 1, 1) := dk_27 (dk_at dksX7_place_0 1 rfl rfl)
theorem dX7_place_2 : decode cX7_place 2 = .ok (.invokevirtual 128, 3) := dk_182 0 128 (dk_at dksX7_place_0 2 rfl rfl)
theorem dX7_place_5 : decode cX7_place 5 = .ok (.ifCond .eq 13, 3) := dk_153 0 13 (dk_at dksX7_place_0 5 rfl rfl)
theorem dX7_place_8 : decode cX7_place 8 = .ok (.iload_n 2, 1) := dk_28 (dk_at dksX7_place_0 8 rfl rfl)
theorem dX7_place_9 : decode cX7_place 9 = .ok (.i2l, 1) := dk_133 (dk_at dksX7_place_0 9 rfl rfl)
theorem dX7_place_10 : decode cX7_place 10 = .ok (.lconst 0, 1) := dk_9 (dk_at dksX7_place_0 10 rfl rfl)
theorem dX7_place_11 : decode cX7_place 11 = .ok (.lconst 1, 1) := dk_10 (dk_at dksX7_place_0 11 rfl rfl)
theorem dX7_place_12 : decode cX7_place 12 = .ok (.invokestatic 63, 3) := dk_184 0 63 (dk_at dksX7_place_0 12 rfl rfl)
theorem dX7_place_15 : decode cX7_place 15 = .ok (.ifCond .ne 10, 3) := dk_154 0 10 (dk_at dksX7_place_0 15 rfl rfl)
theorem dX7_place_18 : decode cX7_place 18 = .ok (.aload_n 0, 1) := dk_42 (dk_at dksX7_place_0 18 rfl rfl)
theorem dX7_place_19 : decode cX7_place 19 = .ok (.bipush (-2), 2) := dk_16 254 (dk_at dksX7_place_0 19 rfl rfl)
theorem dX7_place_21 : decode cX7_place 21 = .ok (.invokevirtual 91, 3) := dk_182 0 91 (dk_at dksX7_place_0 21 rfl rfl)
theorem dX7_place_24 : decode cX7_place 24 = .ok (.ireturn, 1) := dk_172 (dk_at dksX7_place_1 0 rfl rfl)
theorem dX7_place_25 : decode cX7_place 25 = .ok (.aload_n 0, 1) := dk_42 (dk_at dksX7_place_1 1 rfl rfl)
theorem dX7_place_26 : decode cX7_place 26 = .ok (.invokevirtual 196, 3) := dk_182 0 196 (dk_at dksX7_place_1 2 rfl rfl)
theorem dX7_place_29 : decode cX7_place 29 = .ok (.aload_n 0, 1) := dk_42 (dk_at dksX7_place_1 5 rfl rfl)
theorem dX7_place_30 : decode cX7_place 30 = .ok (.invokevirtual 214, 3) := dk_182 0 214 (dk_at dksX7_place_1 6 rfl rfl)
theorem dX7_place_33 : decode cX7_place 33 = .ok (.ifCond .ne 10, 3) := dk_154 0 10 (dk_at dksX7_place_1 9 rfl rfl)
theorem dX7_place_36 : decode cX7_place 36 = .ok (.aload_n 0, 1) := dk_42 (dk_at dksX7_place_1 12 rfl rfl)
theorem dX7_place_37 : decode cX7_place 37 = .ok (.bipush (-3), 2) := dk_16 253 (dk_at dksX7_place_1 13 rfl rfl)
theorem dX7_place_39 : decode cX7_place 39 = .ok (.invokevirtual 91, 3) := dk_182 0 91 (dk_at dksX7_place_1 15 rfl rfl)
theorem dX7_place_42 : decode cX7_place 42 = .ok (.ireturn, 1) := dk_172 (dk_at dksX7_place_1 18 rfl rfl)
theorem dX7_place_43 : decode cX7_place 43 = .ok (.iconst 0, 1) := dk_3 (dk_at dksX7_place_1 19 rfl rfl)
theorem dX7_place_44 : decode cX7_place 44 = .ok (.istore_n 3, 1) := dk_62 (dk_at dksX7_place_1 20 rfl rfl)
theorem dX7_place_45 : decode cX7_place 45 = .ok (.iconst 0, 1) := dk_3 (dk_at dksX7_place_1 21 rfl rfl)
theorem dX7_place_46 : decode cX7_place 46 = .ok (.istore 4, 2) := dk_54 4 (dk_at dksX7_place_1 22 rfl rfl)
theorem dX7_place_48 : decode cX7_place 48 = .ok (.iconst 0, 1) := dk_3 (dk_at dksX7_place_2 0 rfl rfl)
theorem dX7_place_49 : decode cX7_place 49 = .ok (.istore 5, 2) := dk_54 5 (dk_at dksX7_place_2 1 rfl rfl)
theorem dX7_place_51 : decode cX7_place 51 = .ok (.iconst 0, 1) := dk_3 (dk_at dksX7_place_2 3 rfl rfl)
theorem dX7_place_52 : decode cX7_place 52 = .ok (.istore 6, 2) := dk_54 6 (dk_at dksX7_place_2 4 rfl rfl)
theorem dX7_place_54 : decode cX7_place 54 = .ok (.iload 6, 2) := dk_21 6 (dk_at dksX7_place_2 6 rfl rfl)
theorem dX7_place_56 : decode cX7_place 56 = .ok (.iload_n 1, 1) := dk_27 (dk_at dksX7_place_2 8 rfl rfl)
theorem dX7_place_57 : decode cX7_place 57 = .ok (.if_icmp .eq 38, 3) := dk_159 0 38 (dk_at dksX7_place_2 9 rfl rfl)
theorem dX7_place_60 : decode cX7_place 60 = .ok (.iload_n 3, 1) := dk_29 (dk_at dksX7_place_2 12 rfl rfl)
theorem dX7_place_61 : decode cX7_place 61 = .ok (.aload_n 0, 1) := dk_42 (dk_at dksX7_place_2 13 rfl rfl)
theorem dX7_place_62 : decode cX7_place 62 = .ok (.iload 6, 2) := dk_21 6 (dk_at dksX7_place_2 14 rfl rfl)
theorem dX7_place_64 : decode cX7_place 64 = .ok (.invokevirtual 205, 3) := dk_182 0 205 (dk_at dksX7_place_2 16 rfl rfl)
theorem dX7_place_67 : decode cX7_place 67 = .ok (.iadd, 1) := dk_96 (dk_at dksX7_place_2 19 rfl rfl)
theorem dX7_place_68 : decode cX7_place 68 = .ok (.istore_n 3, 1) := dk_62 (dk_at dksX7_place_2 20 rfl rfl)
theorem dX7_place_69 : decode cX7_place 69 = .ok (.iload 4, 2) := dk_21 4 (dk_at dksX7_place_2 21 rfl rfl)
theorem dX7_place_71 : decode cX7_place 71 = .ok (.aload_n 0, 1) := dk_42 (dk_at dksX7_place_2 23 rfl rfl)
theorem dX7_place_72 : decode cX7_place 72 = .ok (.iload 6, 2) := dk_21 6 (dk_at dksX7_place_3 0 rfl rfl)
theorem dX7_place_74 : decode cX7_place 74 = .ok (.invokevirtual 202, 3) := dk_182 0 202 (dk_at dksX7_place_3 2 rfl rfl)
theorem dX7_place_77 : decode cX7_place 77 = .ok (.iadd, 1) := dk_96 (dk_at dksX7_place_3 5 rfl rfl)
theorem dX7_place_78 : decode cX7_place 78 = .ok (.istore 4, 2) := dk_54 4 (dk_at dksX7_place_3 6 rfl rfl)
theorem dX7_place_80 : decode cX7_place 80 = .ok (.iinc 5 1, 3) := dk_132 5 1 (dk_at dksX7_place_3 8 rfl rfl)
theorem dX7_place_83 : decode cX7_place 83 = .ok (.aload_n 0, 1) := dk_42 (dk_at dksX7_place_3 11 rfl rfl)
theorem dX7_place_84 : decode cX7_place 84 = .ok (.getfield 38, 3) := dk_180 0 38 (dk_at dksX7_place_3 12 rfl rfl)
theorem dX7_place_87 : decode cX7_place 87 = .ok (.iload 6, 2) := dk_21 6 (dk_at dksX7_place_3 15 rfl rfl)
theorem dX7_place_89 : decode cX7_place 89 = .ok (.iaload, 1) := dk_46 (dk_at dksX7_place_3 17 rfl rfl)
theorem dX7_place_90 : decode cX7_place 90 = .ok (.istore 6, 2) := dk_54 6 (dk_at dksX7_place_3 18 rfl rfl)
theorem dX7_place_92 : decode cX7_place 92 = .ok (.goto (-38), 3) := dk_167 255 218 (dk_at dksX7_place_3 20 rfl rfl)
theorem dX7_place_95 : decode cX7_place 95 = .ok (.iconst 2, 1) := dk_5 (dk_at dksX7_place_3 23 rfl rfl)
theorem dX7_place_96 : decode cX7_place 96 = .ok (.aload_n 0, 1) := dk_42 (dk_at dksX7_place_4 0 rfl rfl)
theorem dX7_place_97 : decode cX7_place 97 = .ok (.iconst 1, 1) := dk_4 (dk_at dksX7_place_4 1 rfl rfl)
theorem dX7_place_98 : decode cX7_place 98 = .ok (.invokevirtual 218, 3) := dk_182 0 218 (dk_at dksX7_place_4 2 rfl rfl)
theorem dX7_place_101 : decode cX7_place 101 = .ok (.imul, 1) := dk_104 (dk_at dksX7_place_4 5 rfl rfl)
theorem dX7_place_102 : decode cX7_place 102 = .ok (.iload 5, 2) := dk_21 5 (dk_at dksX7_place_4 6 rfl rfl)
theorem dX7_place_104 : decode cX7_place 104 = .ok (.imul, 1) := dk_104 (dk_at dksX7_place_4 8 rfl rfl)
theorem dX7_place_105 : decode cX7_place 105 = .ok (.aload_n 0, 1) := dk_42 (dk_at dksX7_place_4 9 rfl rfl)
theorem dX7_place_106 : decode cX7_place 106 = .ok (.invokevirtual 59, 3) := dk_182 0 59 (dk_at dksX7_place_4 10 rfl rfl)
theorem dX7_place_109 : decode cX7_place 109 = .ok (.iadd, 1) := dk_96 (dk_at dksX7_place_4 13 rfl rfl)
theorem dX7_place_110 : decode cX7_place 110 = .ok (.iconst 2, 1) := dk_5 (dk_at dksX7_place_4 14 rfl rfl)
theorem dX7_place_111 : decode cX7_place 111 = .ok (.aload_n 0, 1) := dk_42 (dk_at dksX7_place_4 15 rfl rfl)
theorem dX7_place_112 : decode cX7_place 112 = .ok (.invokevirtual 59, 3) := dk_182 0 59 (dk_at dksX7_place_4 16 rfl rfl)
theorem dX7_place_115 : decode cX7_place 115 = .ok (.imul, 1) := dk_104 (dk_at dksX7_place_4 19 rfl rfl)
theorem dX7_place_116 : decode cX7_place 116 = .ok (.invokestatic 225, 3) := dk_184 0 225 (dk_at dksX7_place_4 20 rfl rfl)
theorem dX7_place_119 : decode cX7_place 119 = .ok (.istore 6, 2) := dk_54 6 (dk_at dksX7_place_5 0 rfl rfl)
theorem dX7_place_121 : decode cX7_place 121 = .ok (.iload_n 2, 1) := dk_28 (dk_at dksX7_place_5 2 rfl rfl)
theorem dX7_place_122 : decode cX7_place 122 = .ok (.ifCond .ne 7, 3) := dk_154 0 7 (dk_at dksX7_place_5 3 rfl rfl)
theorem dX7_place_125 : decode cX7_place 125 = .ok (.iload_n 3, 1) := dk_29 (dk_at dksX7_place_5 6 rfl rfl)
theorem dX7_place_126 : decode cX7_place 126 = .ok (.goto 11, 3) := dk_167 0 11 (dk_at dksX7_place_5 7 rfl rfl)
theorem dX7_place_129 : decode cX7_place 129 = .ok (.iload 4, 2) := dk_21 4 (dk_at dksX7_place_5 10 rfl rfl)
theorem dX7_place_131 : decode cX7_place 131 = .ok (.iload 6, 2) := dk_21 6 (dk_at dksX7_place_5 12 rfl rfl)
theorem dX7_place_133 : decode cX7_place 133 = .ok (.isub, 1) := dk_100 (dk_at dksX7_place_5 14 rfl rfl)
theorem dX7_place_134 : decode cX7_place 134 = .ok (.bipush 20, 2) := dk_16 20 (dk_at dksX7_place_5 15 rfl rfl)
theorem dX7_place_136 : decode cX7_place 136 = .ok (.iadd, 1) := dk_96 (dk_at dksX7_place_5 17 rfl rfl)
theorem dX7_place_137 : decode cX7_place 137 = .ok (.ireturn, 1) := dk_172 (dk_at dksX7_place_5 18 rfl rfl)
abbrev cX7_floorBy : ByteArray := prog_20_method_55_code
def yX7_floorBy : MethodName := ⟨RX7, "floorBy", "(II)I"⟩
def dkwX7_floorBy_0 : List UInt8 := [26, 27, 108, 61, 26, 27, 112, 156, 0, 9, 28, 4, 100, 167, 0, 4, 28, 172]
abbrev dktX7_floorBy_0 : List UInt8 := dkwX7_floorBy_0 ++ []
theorem dksX7_floorBy_0 : cX7_floorBy.data.toList.drop 0 = dktX7_floorBy_0 := by decide +kernel
theorem dX7_floorBy_0 : decode cX7_floorBy 0 = .ok (.iload_n 0, 1) := dk_26 (dk_at dksX7_floorBy_0 0 rfl rfl)
theorem dX7_floorBy_1 : decode cX7_floorBy 1 = .ok (.iload_n 1, 1) := dk_27 (dk_at dksX7_floorBy_0 1 rfl rfl)
theorem dX7_floorBy_2 : decode cX7_floorBy 2 = .ok (.idiv, 1) := dk_108 (dk_at dksX7_floorBy_0 2 rfl rfl)
theorem dX7_floorBy_3 : decode cX7_floorBy 3 = .ok (.istore_n 2, 1) := dk_61 (dk_at dksX7_floorBy_0 3 rfl rfl)
theorem dX7_floorBy_4 : decode cX7_floorBy 4 = .ok (.iload_n 0, 1) := dk_26 (dk_at dksX7_floorBy_0 4 rfl rfl)
theorem dX7_floorBy_5 : decode cX7_floorBy 5 = .ok (.iload_n 1, 1) := dk_27 (dk_at dksX7_floorBy_0 5 rfl rfl)
theorem dX7_floorBy_6 : decode cX7_floorBy 6 = .ok (.irem, 1) := dk_112 (dk_at dksX7_floorBy_0 6 rfl rfl)
theorem dX7_floorBy_7 : decode cX7_floorBy 7 = .ok (.ifCond .ge 9, 3) := dk_156 0 9 (dk_at dksX7_floorBy_0 7 rfl rfl)
theorem dX7_floorBy_10 : decode cX7_floorBy 10 = .ok (.iload_n 2, 1) := dk_28 (dk_at dksX7_floorBy_0 10 rfl rfl)
theorem dX7_floorBy_11 : decode cX7_floorBy 11 = .ok (.iconst 1, 1) := dk_4 (dk_at dksX7_floorBy_0 11 rfl rfl)
theorem dX7_floorBy_12 : decode cX7_floorBy 12 = .ok (.isub, 1) := dk_100 (dk_at dksX7_floorBy_0 12 rfl rfl)
theorem dX7_floorBy_13 : decode cX7_floorBy 13 = .ok (.goto 4, 3) := dk_167 0 4 (dk_at dksX7_floorBy_0 13 rfl rfl)
theorem dX7_floorBy_16 : decode cX7_floorBy 16 = .ok (.iload_n 2, 1) := dk_28 (dk_at dksX7_floorBy_0 16 rfl rfl)
theorem dX7_floorBy_17 : decode cX7_floorBy 17 = .ok (.ireturn, 1) := dk_172 (dk_at dksX7_floorBy_0 17 rfl rfl)
abbrev cX7_overlap : ByteArray := prog_20_method_64_code
def yX7_overlap : MethodName := ⟨RX7, "overlap", "(II)I"⟩
def dkwX7_overlap_4 : List UInt8 := [17, 7, 208, 96, 172]
abbrev dktX7_overlap_4 : List UInt8 := dkwX7_overlap_4 ++ []
def dkwX7_overlap_3 : List UInt8 := [167, 0, 26, 28, 5, 160, 0, 11, 42, 27, 182, 0, 248, 167, 0, 13, 42, 27, 4, 182, 0, 244]
abbrev dktX7_overlap_3 : List UInt8 := dkwX7_overlap_3 ++ dktX7_overlap_4
def dkwX7_overlap_2 : List UInt8 := [172, 28, 154, 0, 11, 42, 27, 182, 0, 241, 167, 0, 40, 28, 4, 160, 0, 12, 42, 27, 3, 182, 0, 244]
abbrev dktX7_overlap_2 : List UInt8 := dkwX7_overlap_2 ++ dktX7_overlap_3
def dkwX7_overlap_1 : List UInt8 := [182, 0, 91, 172, 42, 182, 0, 196, 42, 180, 0, 38, 27, 46, 2, 160, 0, 10, 42, 16, 253, 182, 0, 91]
abbrev dktX7_overlap_1 : List UInt8 := dkwX7_overlap_1 ++ dktX7_overlap_2
def dkwX7_overlap_0 : List UInt8 := [42, 27, 182, 0, 128, 153, 0, 15, 28, 133, 9, 20, 0, 67, 184, 0, 63, 154, 0, 10, 42, 16, 254]
abbrev dktX7_overlap_0 : List UInt8 := dkwX7_overlap_0 ++ dktX7_overlap_1
theorem dksX7_overlap_0 : cX7_overlap.data.toList.drop 0 = dktX7_overlap_0 := by decide +kernel
theorem dksX7_overlap_1 : cX7_overlap.data.toList.drop 23 = dktX7_overlap_1 := dk_seg dksX7_overlap_0 23 rfl rfl
theorem dksX7_overlap_2 : cX7_overlap.data.toList.drop 47 = dktX7_overlap_2 := dk_seg dksX7_overlap_1 24 rfl rfl
theorem dksX7_overlap_3 : cX7_overlap.data.toList.drop 71 = dktX7_overlap_3 := dk_seg dksX7_overlap_2 24 rfl rfl
theorem dksX7_overlap_4 : cX7_overlap.data.toList.drop 93 = dktX7_overlap_4 := dk_seg dksX7_overlap_3 22 rfl rfl
theorem dX7_overlap_0 : decode cX7_overlap 0 = .ok (.aload_n 0, 1) := dk_42 (dk_at dksX7_overlap_0 0 rfl rfl)
theorem dX7_overlap_1 : decode cX7_overlap 1 = .ok (.iload_n 1, 1) := dk_27 (dk_at dksX7_overlap_0 1 rfl rfl)
theorem dX7_overlap_2 : decode cX7_overlap 2 = .ok (.invokevirtual 128, 3) := dk_182 0 128 (dk_at dksX7_overlap_0 2 rfl rfl)
theorem dX7_overlap_5 : decode cX7_overlap 5 = .ok (.ifCond .eq 15, 3) := dk_153 0 15 (dk_at dksX7_overlap_0 5 rfl rfl)
theorem dX7_overlap_8 : decode cX7_overlap 8 = .ok (.iload_n 2, 1) := dk_28 (dk_at dksX7_overlap_0 8 rfl rfl)
theorem dX7_overlap_9 : decode cX7_overlap 9 = .ok (.i2l, 1) := dk_133 (dk_at dksX7_overlap_0 9 rfl rfl)
theorem dX7_overlap_10 : decode cX7_overlap 10 = .ok (.lconst 0, 1) := dk_9 (dk_at dksX7_overlap_0 10 rfl rfl)
theorem dX7_overlap_11 : decode cX7_overlap 11 = .ok (.ldc2_w 67, 3) := dk_20 0 67 (dk_at dksX7_overlap_0 11 rfl rfl)
theorem dX7_overlap_14 : decode cX7_overlap 14 = .ok (.invokestatic 63, 3) := dk_184 0 63 (dk_at dksX7_overlap_0 14 rfl rfl)
theorem dX7_overlap_17 : decode cX7_overlap 17 = .ok (.ifCond .ne 10, 3) := dk_154 0 10 (dk_at dksX7_overlap_0 17 rfl rfl)
theorem dX7_overlap_20 : decode cX7_overlap 20 = .ok (.aload_n 0, 1) := dk_42 (dk_at dksX7_overlap_0 20 rfl rfl)
theorem dX7_overlap_21 : decode cX7_overlap 21 = .ok (.bipush (-2), 2) := dk_16 254 (dk_at dksX7_overlap_0 21 rfl rfl)
theorem dX7_overlap_23 : decode cX7_overlap 23 = .ok (.invokevirtual 91, 3) := dk_182 0 91 (dk_at dksX7_overlap_1 0 rfl rfl)
theorem dX7_overlap_26 : decode cX7_overlap 26 = .ok (.ireturn, 1) := dk_172 (dk_at dksX7_overlap_1 3 rfl rfl)
theorem dX7_overlap_27 : decode cX7_overlap 27 = .ok (.aload_n 0, 1) := dk_42 (dk_at dksX7_overlap_1 4 rfl rfl)
theorem dX7_overlap_28 : decode cX7_overlap 28 = .ok (.invokevirtual 196, 3) := dk_182 0 196 (dk_at dksX7_overlap_1 5 rfl rfl)
theorem dX7_overlap_31 : decode cX7_overlap 31 = .ok (.aload_n 0, 1) := dk_42 (dk_at dksX7_overlap_1 8 rfl rfl)
theorem dX7_overlap_32 : decode cX7_overlap 32 = .ok (.getfield 38, 3) := dk_180 0 38 (dk_at dksX7_overlap_1 9 rfl rfl)
theorem dX7_overlap_35 : decode cX7_overlap 35 = .ok (.iload_n 1, 1) := dk_27 (dk_at dksX7_overlap_1 12 rfl rfl)
theorem dX7_overlap_36 : decode cX7_overlap 36 = .ok (.iaload, 1) := dk_46 (dk_at dksX7_overlap_1 13 rfl rfl)
theorem dX7_overlap_37 : decode cX7_overlap 37 = .ok (.iconst (-1), 1) := dk_2 (dk_at dksX7_overlap_1 14 rfl rfl)
theorem dX7_overlap_38 : decode cX7_overlap 38 = .ok (.if_icmp .ne 10, 3) := dk_160 0 10 (dk_at dksX7_overlap_1 15 rfl rfl)
theorem dX7_overlap_41 : decode cX7_overlap 41 = .ok (.aload_n 0, 1) := dk_42 (dk_at dksX7_overlap_1 18 rfl rfl)
theorem dX7_overlap_42 : decode cX7_overlap 42 = .ok (.bipush (-3), 2) := dk_16 253 (dk_at dksX7_overlap_1 19 rfl rfl)
theorem dX7_overlap_44 : decode cX7_overlap 44 = .ok (.invokevirtual 91, 3) := dk_182 0 91 (dk_at dksX7_overlap_1 21 rfl rfl)
theorem dX7_overlap_47 : decode cX7_overlap 47 = .ok (.ireturn, 1) := dk_172 (dk_at dksX7_overlap_2 0 rfl rfl)
theorem dX7_overlap_48 : decode cX7_overlap 48 = .ok (.iload_n 2, 1) := dk_28 (dk_at dksX7_overlap_2 1 rfl rfl)
theorem dX7_overlap_49 : decode cX7_overlap 49 = .ok (.ifCond .ne 11, 3) := dk_154 0 11 (dk_at dksX7_overlap_2 2 rfl rfl)
theorem dX7_overlap_52 : decode cX7_overlap 52 = .ok (.aload_n 0, 1) := dk_42 (dk_at dksX7_overlap_2 5 rfl rfl)
theorem dX7_overlap_53 : decode cX7_overlap 53 = .ok (.iload_n 1, 1) := dk_27 (dk_at dksX7_overlap_2 6 rfl rfl)
theorem dX7_overlap_54 : decode cX7_overlap 54 = .ok (.invokevirtual 241, 3) := dk_182 0 241 (dk_at dksX7_overlap_2 7 rfl rfl)
theorem dX7_overlap_57 : decode cX7_overlap 57 = .ok (.goto 40, 3) := dk_167 0 40 (dk_at dksX7_overlap_2 10 rfl rfl)
theorem dX7_overlap_60 : decode cX7_overlap 60 = .ok (.iload_n 2, 1) := dk_28 (dk_at dksX7_overlap_2 13 rfl rfl)
theorem dX7_overlap_61 : decode cX7_overlap 61 = .ok (.iconst 1, 1) := dk_4 (dk_at dksX7_overlap_2 14 rfl rfl)
theorem dX7_overlap_62 : decode cX7_overlap 62 = .ok (.if_icmp .ne 12, 3) := dk_160 0 12 (dk_at dksX7_overlap_2 15 rfl rfl)
theorem dX7_overlap_65 : decode cX7_overlap 65 = .ok (.aload_n 0, 1) := dk_42 (dk_at dksX7_overlap_2 18 rfl rfl)
theorem dX7_overlap_66 : decode cX7_overlap 66 = .ok (.iload_n 1, 1) := dk_27 (dk_at dksX7_overlap_2 19 rfl rfl)
theorem dX7_overlap_67 : decode cX7_overlap 67 = .ok (.iconst 0, 1) := dk_3 (dk_at dksX7_overlap_2 20 rfl rfl)
theorem dX7_overlap_68 : decode cX7_overlap 68 = .ok (.invokevirtual 244, 3) := dk_182 0 244 (dk_at dksX7_overlap_2 21 rfl rfl)
theorem dX7_overlap_71 : decode cX7_overlap 71 = .ok (.goto 26, 3) := dk_167 0 26 (dk_at dksX7_overlap_3 0 rfl rfl)
theorem dX7_overlap_74 : decode cX7_overlap 74 = .ok (.iload_n 2, 1) := dk_28 (dk_at dksX7_overlap_3 3 rfl rfl)
theorem dX7_overlap_75 : decode cX7_overlap 75 = .ok (.iconst 2, 1) := dk_5 (dk_at dksX7_overlap_3 4 rfl rfl)
theorem dX7_overlap_76 : decode cX7_overlap 76 = .ok (.if_icmp .ne 11, 3) := dk_160 0 11 (dk_at dksX7_overlap_3 5 rfl rfl)
theorem dX7_overlap_79 : decode cX7_overlap 79 = .ok (.aload_n 0, 1) := dk_42 (dk_at dksX7_overlap_3 8 rfl rfl)
theorem dX7_overlap_80 : decode cX7_overlap 80 = .ok (.iload_n 1, 1) := dk_27 (dk_at dksX7_overlap_3 9 rfl rfl)
theorem dX7_overlap_81 : decode cX7_overlap 81 = .ok (.invokevirtual 248, 3) := dk_182 0 248 (dk_at dksX7_overlap_3 10 rfl rfl)
theorem dX7_overlap_84 : decode cX7_overlap 84 = .ok (.goto 13, 3) := dk_167 0 13 (dk_at dksX7_overlap_3 13 rfl rfl)
theorem dX7_overlap_87 : decode cX7_overlap 87 = .ok (.aload_n 0, 1) := dk_42 (dk_at dksX7_overlap_3 16 rfl rfl)
theorem dX7_overlap_88 : decode cX7_overlap 88 = .ok (.iload_n 1, 1) := dk_27 (dk_at dksX7_overlap_3 17 rfl rfl)
theorem dX7_overlap_89 : decode cX7_overlap 89 = .ok (.iconst 1, 1) := dk_4 (dk_at dksX7_overlap_3 18 rfl rfl)
theorem dX7_overlap_90 : decode cX7_overlap 90 = .ok (.invokevirtual 244, 3) := dk_182 0 244 (dk_at dksX7_overlap_3 19 rfl rfl)
theorem dX7_overlap_93 : decode cX7_overlap 93 = .ok (.sipush 2000, 3) := dk_17 7 208 (dk_at dksX7_overlap_4 0 rfl rfl)
theorem dX7_overlap_96 : decode cX7_overlap 96 = .ok (.iadd, 1) := dk_96 (dk_at dksX7_overlap_4 3 rfl rfl)
theorem dX7_overlap_97 : decode cX7_overlap 97 = .ok (.ireturn, 1) := dk_172 (dk_at dksX7_overlap_4 4 rfl rfl)
abbrev cX7_cells : ByteArray := prog_20_method_62_code
def yX7_cells : MethodName := ⟨RX7, "cells", "(I)I"⟩
def dkwX7_cells_0 : List UInt8 := [7, 42, 27, 182, 0, 202, 184, 0, 146, 100, 16, 8, 42, 27, 182, 0, 205, 100, 104, 172]
abbrev dktX7_cells_0 : List UInt8 := dkwX7_cells_0 ++ []
theorem dksX7_cells_0 : cX7_cells.data.toList.drop 0 = dktX7_cells_0 := by decide +kernel
theorem dX7_cells_0 : decode cX7_cells 0 = .ok (.iconst 4, 1) := dk_7 (dk_at dksX7_cells_0 0 rfl rfl)
theorem dX7_cells_1 : decode cX7_cells 1 = .ok (.aload_n 0, 1) := dk_42 (dk_at dksX7_cells_0 1 rfl rfl)
theorem dX7_cells_2 : decode cX7_cells 2 = .ok (.iload_n 1, 1) := dk_27 (dk_at dksX7_cells_0 2 rfl rfl)
theorem dX7_cells_3 : decode cX7_cells 3 = .ok (.invokevirtual 202, 3) := dk_182 0 202 (dk_at dksX7_cells_0 3 rfl rfl)
theorem dX7_cells_6 : decode cX7_cells 6 = .ok (.invokestatic 146, 3) := dk_184 0 146 (dk_at dksX7_cells_0 6 rfl rfl)
theorem dX7_cells_9 : decode cX7_cells 9 = .ok (.isub, 1) := dk_100 (dk_at dksX7_cells_0 9 rfl rfl)
theorem dX7_cells_10 : decode cX7_cells 10 = .ok (.bipush 8, 2) := dk_16 8 (dk_at dksX7_cells_0 10 rfl rfl)
theorem dX7_cells_12 : decode cX7_cells 12 = .ok (.aload_n 0, 1) := dk_42 (dk_at dksX7_cells_0 12 rfl rfl)
theorem dX7_cells_13 : decode cX7_cells 13 = .ok (.iload_n 1, 1) := dk_27 (dk_at dksX7_cells_0 13 rfl rfl)
theorem dX7_cells_14 : decode cX7_cells 14 = .ok (.invokevirtual 205, 3) := dk_182 0 205 (dk_at dksX7_cells_0 14 rfl rfl)
theorem dX7_cells_17 : decode cX7_cells 17 = .ok (.isub, 1) := dk_100 (dk_at dksX7_cells_0 17 rfl rfl)
theorem dX7_cells_18 : decode cX7_cells 18 = .ok (.imul, 1) := dk_104 (dk_at dksX7_cells_0 18 rfl rfl)
theorem dX7_cells_19 : decode cX7_cells 19 = .ok (.ireturn, 1) := dk_172 (dk_at dksX7_cells_0 19 rfl rfl)
abbrev cX7_differences : ByteArray := prog_20_method_63_code
def yX7_differences : MethodName := ⟨RX7, "differences", "(IZ)I"⟩
def dkwX7_differences_3 : List UInt8 := [167, 255, 205, 132, 4, 1, 167, 255, 186, 29, 172]
abbrev dktX7_differences_3 : List UInt8 := dkwX7_differences_3 ++ []
def dkwX7_differences_2 : List UInt8 := [182, 0, 234, 167, 0, 15, 42, 27, 21, 4, 21, 5, 182, 0, 234, 184, 0, 146, 96, 62, 132, 5, 1]
abbrev dktX7_differences_2 : List UInt8 := dkwX7_differences_2 ++ dktX7_differences_3
def dkwX7_differences_1 : List UInt8 := [162, 0, 50, 42, 27, 21, 4, 182, 0, 228, 153, 0, 40, 29, 28, 153, 0, 15, 42, 27, 21, 4, 21, 5]
abbrev dktX7_differences_1 : List UInt8 := dkwX7_differences_1 ++ dktX7_differences_2
def dkwX7_differences_0 : List UInt8 := [3, 62, 3, 54, 4, 21, 4, 7, 162, 0, 70, 42, 27, 182, 0, 205, 54, 5, 21, 5, 16, 8]
abbrev dktX7_differences_0 : List UInt8 := dkwX7_differences_0 ++ dktX7_differences_1
theorem dksX7_differences_0 : cX7_differences.data.toList.drop 0 = dktX7_differences_0 := by decide +kernel
theorem dksX7_differences_1 : cX7_differences.data.toList.drop 22 = dktX7_differences_1 := dk_seg dksX7_differences_0 22 rfl rfl
theorem dksX7_differences_2 : cX7_differences.data.toList.drop 46 = dktX7_differences_2 := dk_seg dksX7_differences_1 24 rfl rfl
theorem dksX7_differences_3 : cX7_differences.data.toList.drop 69 = dktX7_differences_3 := dk_seg dksX7_differences_2 23 rfl rfl
theorem dX7_differences_0 : decode cX7_differences 0 = .ok (.iconst 0, 1) := dk_3 (dk_at dksX7_differences_0 0 rfl rfl)
theorem dX7_differences_1 : decode cX7_differences 1 = .ok (.istore_n 3, 1) := dk_62 (dk_at dksX7_differences_0 1 rfl rfl)
theorem dX7_differences_2 : decode cX7_differences 2 = .ok (.iconst 0, 1) := dk_3 (dk_at dksX7_differences_0 2 rfl rfl)
theorem dX7_differences_3 : decode cX7_differences 3 = .ok (.istore 4, 2) := dk_54 4 (dk_at dksX7_differences_0 3 rfl rfl)
theorem dX7_differences_5 : decode cX7_differences 5 = .ok (.iload 4, 2) := dk_21 4 (dk_at dksX7_differences_0 5 rfl rfl)
theorem dX7_differences_7 : decode cX7_differences 7 = .ok (.iconst 4, 1) := dk_7 (dk_at dksX7_differences_0 7 rfl rfl)
theorem dX7_differences_8 : decode cX7_differences 8 = .ok (.if_icmp .ge 70, 3) := dk_162 0 70 (dk_at dksX7_differences_0 8 rfl rfl)
theorem dX7_differences_11 : decode cX7_differences 11 = .ok (.aload_n 0, 1) := dk_42 (dk_at dksX7_differences_0 11 rfl rfl)
theorem dX7_differences_12 : decode cX7_differences 12 = .ok (.iload_n 1, 1) := dk_27 (dk_at dksX7_differences_0 12 rfl rfl)
theorem dX7_differences_13 : decode cX7_differences 13 = .ok (.invokevirtual 205, 3) := dk_182 0 205 (dk_at dksX7_differences_0 13 rfl rfl)
theorem dX7_differences_16 : decode cX7_differences 16 = .ok (.istore 5, 2) := dk_54 5 (dk_at dksX7_differences_0 16 rfl rfl)
theorem dX7_differences_18 : decode cX7_differences 18 = .ok (.iload 5, 2) := dk_21 5 (dk_at dksX7_differences_0 18 rfl rfl)
theorem dX7_differences_20 : decode cX7_differences 20 = .ok (.bipush 8, 2) := dk_16 8 (dk_at dksX7_differences_0 20 rfl rfl)
theorem dX7_differences_22 : decode cX7_differences 22 = .ok (.if_icmp .ge 50, 3) := dk_162 0 50 (dk_at dksX7_differences_1 0 rfl rfl)
theorem dX7_differences_25 : decode cX7_differences 25 = .ok (.aload_n 0, 1) := dk_42 (dk_at dksX7_differences_1 3 rfl rfl)
theorem dX7_differences_26 : decode cX7_differences 26 = .ok (.iload_n 1, 1) := dk_27 (dk_at dksX7_differences_1 4 rfl rfl)
theorem dX7_differences_27 : decode cX7_differences 27 = .ok (.iload 4, 2) := dk_21 4 (dk_at dksX7_differences_1 5 rfl rfl)
theorem dX7_differences_29 : decode cX7_differences 29 = .ok (.invokevirtual 228, 3) := dk_182 0 228 (dk_at dksX7_differences_1 7 rfl rfl)
theorem dX7_differences_32 : decode cX7_differences 32 = .ok (.ifCond .eq 40, 3) := dk_153 0 40 (dk_at dksX7_differences_1 10 rfl rfl)
theorem dX7_differences_35 : decode cX7_differences 35 = .ok (.iload_n 3, 1) := dk_29 (dk_at dksX7_differences_1 13 rfl rfl)
theorem dX7_differences_36 : decode cX7_differences 36 = .ok (.iload_n 2, 1) := dk_28 (dk_at dksX7_differences_1 14 rfl rfl)
theorem dX7_differences_37 : decode cX7_differences 37 = .ok (.ifCond .eq 15, 3) := dk_153 0 15 (dk_at dksX7_differences_1 15 rfl rfl)
theorem dX7_differences_40 : decode cX7_differences 40 = .ok (.aload_n 0, 1) := dk_42 (dk_at dksX7_differences_1 18 rfl rfl)
theorem dX7_differences_41 : decode cX7_differences 41 = .ok (.iload_n 1, 1) := dk_27 (dk_at dksX7_differences_1 19 rfl rfl)
theorem dX7_differences_42 : decode cX7_differences 42 = .ok (.iload 4, 2) := dk_21 4 (dk_at dksX7_differences_1 20 rfl rfl)
theorem dX7_differences_44 : decode cX7_differences 44 = .ok (.iload 5, 2) := dk_21 5 (dk_at dksX7_differences_1 22 rfl rfl)
theorem dX7_differences_46 : decode cX7_differences 46 = .ok (.invokevirtual 234, 3) := dk_182 0 234 (dk_at dksX7_differences_2 0 rfl rfl)
theorem dX7_differences_49 : decode cX7_differences 49 = .ok (.goto 15, 3) := dk_167 0 15 (dk_at dksX7_differences_2 3 rfl rfl)
theorem dX7_differences_52 : decode cX7_differences 52 = .ok (.aload_n 0, 1) := dk_42 (dk_at dksX7_differences_2 6 rfl rfl)
theorem dX7_differences_53 : decode cX7_differences 53 = .ok (.iload_n 1, 1) := dk_27 (dk_at dksX7_differences_2 7 rfl rfl)
theorem dX7_differences_54 : decode cX7_differences 54 = .ok (.iload 4, 2) := dk_21 4 (dk_at dksX7_differences_2 8 rfl rfl)
theorem dX7_differences_56 : decode cX7_differences 56 = .ok (.iload 5, 2) := dk_21 5 (dk_at dksX7_differences_2 10 rfl rfl)
theorem dX7_differences_58 : decode cX7_differences 58 = .ok (.invokevirtual 234, 3) := dk_182 0 234 (dk_at dksX7_differences_2 12 rfl rfl)
theorem dX7_differences_61 : decode cX7_differences 61 = .ok (.invokestatic 146, 3) := dk_184 0 146 (dk_at dksX7_differences_2 15 rfl rfl)
theorem dX7_differences_64 : decode cX7_differences 64 = .ok (.iadd, 1) := dk_96 (dk_at dksX7_differences_2 18 rfl rfl)
theorem dX7_differences_65 : decode cX7_differences 65 = .ok (.istore_n 3, 1) := dk_62 (dk_at dksX7_differences_2 19 rfl rfl)
theorem dX7_differences_66 : decode cX7_differences 66 = .ok (.iinc 5 1, 3) := dk_132 5 1 (dk_at dksX7_differences_2 20 rfl rfl)
theorem dX7_differences_69 : decode cX7_differences 69 = .ok (.goto (-51), 3) := dk_167 255 205 (dk_at dksX7_differences_3 0 rfl rfl)
theorem dX7_differences_72 : decode cX7_differences 72 = .ok (.iinc 4 1, 3) := dk_132 4 1 (dk_at dksX7_differences_3 3 rfl rfl)
theorem dX7_differences_75 : decode cX7_differences 75 = .ok (.goto (-70), 3) := dk_167 255 186 (dk_at dksX7_differences_3 6 rfl rfl)
theorem dX7_differences_78 : decode cX7_differences 78 = .ok (.iload_n 3, 1) := dk_29 (dk_at dksX7_differences_3 9 rfl rfl)
theorem dX7_differences_79 : decode cX7_differences 79 = .ok (.ireturn, 1) := dk_172 (dk_at dksX7_differences_3 10 rfl rfl)
abbrev cX7_hasRow : ByteArray := prog_20_method_58_code
def yX7_hasRow : MethodName := ⟨RX7, "hasRow", "(II)Z"⟩
def dkwX7_hasRow_1 : List UInt8 := [184, 0, 63, 153, 0, 7, 4, 167, 0, 4, 3, 172]
abbrev dktX7_hasRow_1 : List UInt8 := dkwX7_hasRow_1 ++ []
def dkwX7_hasRow_0 : List UInt8 := [28, 133, 9, 20, 0, 67, 184, 0, 63, 153, 0, 25, 28, 42, 27, 182, 0, 202, 100, 133, 9, 20, 0, 67]
abbrev dktX7_hasRow_0 : List UInt8 := dkwX7_hasRow_0 ++ dktX7_hasRow_1
theorem dksX7_hasRow_0 : cX7_hasRow.data.toList.drop 0 = dktX7_hasRow_0 := by decide +kernel
theorem dksX7_hasRow_1 : cX7_hasRow.data.toList.drop 24 = dktX7_hasRow_1 := dk_seg dksX7_hasRow_0 24 rfl rfl
theorem dX7_hasRow_0 : decode cX7_hasRow 0 = .ok (.iload_n 2, 1) := dk_28 (dk_at dksX7_hasRow_0 0 rfl rfl)
theorem dX7_hasRow_1 : decode cX7_hasRow 1 = .ok (.i2l, 1) := dk_133 (dk_at dksX7_hasRow_0 1 rfl rfl)
theorem dX7_hasRow_2 : decode cX7_hasRow 2 = .ok (.lconst 0, 1) := dk_9 (dk_at dksX7_hasRow_0 2 rfl rfl)
theorem dX7_hasRow_3 : decode cX7_hasRow 3 = .ok (.ldc2_w 67, 3) := dk_20 0 67 (dk_at dksX7_hasRow_0 3 rfl rfl)
theorem dX7_hasRow_6 : decode cX7_hasRow 6 = .ok (.invokestatic 63, 3) := dk_184 0 63 (dk_at dksX7_hasRow_0 6 rfl rfl)
theorem dX7_hasRow_9 : decode cX7_hasRow 9 = .ok (.ifCond .eq 25, 3) := dk_153 0 25 (dk_at dksX7_hasRow_0 9 rfl rfl)
theorem dX7_hasRow_12 : decode cX7_hasRow 12 = .ok (.iload_n 2, 1) := dk_28 (dk_at dksX7_hasRow_0 12 rfl rfl)
theorem dX7_hasRow_13 : decode cX7_hasRow 13 = .ok (.aload_n 0, 1) := dk_42 (dk_at dksX7_hasRow_0 13 rfl rfl)
theorem dX7_hasRow_14 : decode cX7_hasRow 14 = .ok (.iload_n 1, 1) := dk_27 (dk_at dksX7_hasRow_0 14 rfl rfl)
theorem dX7_hasRow_15 : decode cX7_hasRow 15 = .ok (.invokevirtual 202, 3) := dk_182 0 202 (dk_at dksX7_hasRow_0 15 rfl rfl)
theorem dX7_hasRow_18 : decode cX7_hasRow 18 = .ok (.isub, 1) := dk_100 (dk_at dksX7_hasRow_0 18 rfl rfl)
theorem dX7_hasRow_19 : decode cX7_hasRow 19 = .ok (.i2l, 1) := dk_133 (dk_at dksX7_hasRow_0 19 rfl rfl)
theorem dX7_hasRow_20 : decode cX7_hasRow 20 = .ok (.lconst 0, 1) := dk_9 (dk_at dksX7_hasRow_0 20 rfl rfl)
theorem dX7_hasRow_21 : decode cX7_hasRow 21 = .ok (.ldc2_w 67, 3) := dk_20 0 67 (dk_at dksX7_hasRow_0 21 rfl rfl)
theorem dX7_hasRow_24 : decode cX7_hasRow 24 = .ok (.invokestatic 63, 3) := dk_184 0 63 (dk_at dksX7_hasRow_1 0 rfl rfl)
theorem dX7_hasRow_27 : decode cX7_hasRow 27 = .ok (.ifCond .eq 7, 3) := dk_153 0 7 (dk_at dksX7_hasRow_1 3 rfl rfl)
theorem dX7_hasRow_30 : decode cX7_hasRow 30 = .ok (.iconst 1, 1) := dk_4 (dk_at dksX7_hasRow_1 6 rfl rfl)
theorem dX7_hasRow_31 : decode cX7_hasRow 31 = .ok (.goto 4, 3) := dk_167 0 4 (dk_at dksX7_hasRow_1 7 rfl rfl)
theorem dX7_hasRow_34 : decode cX7_hasRow 34 = .ok (.iconst 0, 1) := dk_3 (dk_at dksX7_hasRow_1 10 rfl rfl)
theorem dX7_hasRow_35 : decode cX7_hasRow 35 = .ok (.ireturn, 1) := dk_172 (dk_at dksX7_hasRow_1 11 rfl rfl)
abbrev cX7_differs : ByteArray := prog_20_method_57_code
def yX7_differs : MethodName := ⟨RX7, "differs", "(III)I"⟩
def dkwX7_differs_1 : List UInt8 := [182, 0, 205, 100, 182, 0, 143, 100, 172]
abbrev dktX7_differs_1 : List UInt8 := dkwX7_differs_1 ++ []
def dkwX7_differs_0 : List UInt8 := [42, 27, 28, 29, 182, 0, 143, 42, 42, 180, 0, 38, 27, 46, 28, 42, 27, 182, 0, 202, 100, 29, 42, 27]
abbrev dktX7_differs_0 : List UInt8 := dkwX7_differs_0 ++ dktX7_differs_1
theorem dksX7_differs_0 : cX7_differs.data.toList.drop 0 = dktX7_differs_0 := by decide +kernel
theorem dksX7_differs_1 : cX7_differs.data.toList.drop 24 = dktX7_differs_1 := dk_seg dksX7_differs_0 24 rfl rfl
theorem dX7_differs_0 : decode cX7_differs 0 = .ok (.aload_n 0, 1) := dk_42 (dk_at dksX7_differs_0 0 rfl rfl)
theorem dX7_differs_1 : decode cX7_differs 1 = .ok (.iload_n 1, 1) := dk_27 (dk_at dksX7_differs_0 1 rfl rfl)
theorem dX7_differs_2 : decode cX7_differs 2 = .ok (.iload_n 2, 1) := dk_28 (dk_at dksX7_differs_0 2 rfl rfl)
theorem dX7_differs_3 : decode cX7_differs 3 = .ok (.iload_n 3, 1) := dk_29 (dk_at dksX7_differs_0 3 rfl rfl)
theorem dX7_differs_4 : decode cX7_differs 4 = .ok (.invokevirtual 143, 3) := dk_182 0 143 (dk_at dksX7_differs_0 4 rfl rfl)
theorem dX7_differs_7 : decode cX7_differs 7 = .ok (.aload_n 0, 1) := dk_42 (dk_at dksX7_differs_0 7 rfl rfl)
theorem dX7_differs_8 : decode cX7_differs 8 = .ok (.aload_n 0, 1) := dk_42 (dk_at dksX7_differs_0 8 rfl rfl)
theorem dX7_differs_9 : decode cX7_differs 9 = .ok (.getfield 38, 3) := dk_180 0 38 (dk_at dksX7_differs_0 9 rfl rfl)
theorem dX7_differs_12 : decode cX7_differs 12 = .ok (.iload_n 1, 1) := dk_27 (dk_at dksX7_differs_0 12 rfl rfl)
theorem dX7_differs_13 : decode cX7_differs 13 = .ok (.iaload, 1) := dk_46 (dk_at dksX7_differs_0 13 rfl rfl)
theorem dX7_differs_14 : decode cX7_differs 14 = .ok (.iload_n 2, 1) := dk_28 (dk_at dksX7_differs_0 14 rfl rfl)
theorem dX7_differs_15 : decode cX7_differs 15 = .ok (.aload_n 0, 1) := dk_42 (dk_at dksX7_differs_0 15 rfl rfl)
theorem dX7_differs_16 : decode cX7_differs 16 = .ok (.iload_n 1, 1) := dk_27 (dk_at dksX7_differs_0 16 rfl rfl)
theorem dX7_differs_17 : decode cX7_differs 17 = .ok (.invokevirtual 202, 3) := dk_182 0 202 (dk_at dksX7_differs_0 17 rfl rfl)
theorem dX7_differs_20 : decode cX7_differs 20 = .ok (.isub, 1) := dk_100 (dk_at dksX7_differs_0 20 rfl rfl)
theorem dX7_differs_21 : decode cX7_differs 21 = .ok (.iload_n 3, 1) := dk_29 (dk_at dksX7_differs_0 21 rfl rfl)
theorem dX7_differs_22 : decode cX7_differs 22 = .ok (.aload_n 0, 1) := dk_42 (dk_at dksX7_differs_0 22 rfl rfl)
theorem dX7_differs_23 : decode cX7_differs 23 = .ok (.iload_n 1, 1) := dk_27 (dk_at dksX7_differs_0 23 rfl rfl)
theorem dX7_differs_24 : decode cX7_differs 24 = .ok (.invokevirtual 205, 3) := dk_182 0 205 (dk_at dksX7_differs_1 0 rfl rfl)
theorem dX7_differs_27 : decode cX7_differs 27 = .ok (.isub, 1) := dk_100 (dk_at dksX7_differs_1 3 rfl rfl)
theorem dX7_differs_28 : decode cX7_differs 28 = .ok (.invokevirtual 143, 3) := dk_182 0 143 (dk_at dksX7_differs_1 4 rfl rfl)
theorem dX7_differs_31 : decode cX7_differs 31 = .ok (.isub, 1) := dk_100 (dk_at dksX7_differs_1 7 rfl rfl)
theorem dX7_differs_32 : decode cX7_differs 32 = .ok (.ireturn, 1) := dk_172 (dk_at dksX7_differs_1 8 rfl rfl)
abbrev cX7_seamSum : ByteArray := prog_20_method_61_code
def yX7_seamSum : MethodName := ⟨RX7, "seamSum", "(I)I"⟩
def dkwX7_seamSum_2 : List UInt8 := [132, 3, 1, 167, 255, 216, 28, 172]
abbrev dktX7_seamSum_2 : List UInt8 := dkwX7_seamSum_2 ++ []
def dkwX7_seamSum_1 : List UInt8 := [160, 0, 7, 3, 167, 0, 18, 42, 27, 29, 42, 180, 0, 47, 29, 46, 182, 0, 234, 184, 0, 146, 96, 61]
abbrev dktX7_seamSum_1 : List UInt8 := dkwX7_seamSum_1 ++ dktX7_seamSum_2
def dkwX7_seamSum_0 : List UInt8 := [3, 61, 42, 27, 182, 0, 237, 3, 62, 29, 7, 162, 0, 41, 28, 42, 180, 0, 47, 29, 46, 2]
abbrev dktX7_seamSum_0 : List UInt8 := dkwX7_seamSum_0 ++ dktX7_seamSum_1
theorem dksX7_seamSum_0 : cX7_seamSum.data.toList.drop 0 = dktX7_seamSum_0 := by decide +kernel
theorem dksX7_seamSum_1 : cX7_seamSum.data.toList.drop 22 = dktX7_seamSum_1 := dk_seg dksX7_seamSum_0 22 rfl rfl
theorem dksX7_seamSum_2 : cX7_seamSum.data.toList.drop 46 = dktX7_seamSum_2 := dk_seg dksX7_seamSum_1 24 rfl rfl
theorem dX7_seamSum_0 : decode cX7_seamSum 0 = .ok (.iconst 0, 1) := dk_3 (dk_at dksX7_seamSum_0 0 rfl rfl)
theorem dX7_seamSum_1 : decode cX7_seamSum 1 = .ok (.istore_n 2, 1) := dk_61 (dk_at dksX7_seamSum_0 1 rfl rfl)
theorem dX7_seamSum_2 : decode cX7_seamSum 2 = .ok (.aload_n 0, 1) := dk_42 (dk_at dksX7_seamSum_0 2 rfl rfl)
theorem dX7_seamSum_3 : decode cX7_seamSum 3 = .ok (.iload_n 1, 1) := dk_27 (dk_at dksX7_seamSum_0 3 rfl rfl)
theorem dX7_seamSum_4 : decode cX7_seamSum 4 = .ok (.invokevirtual 237, 3) := dk_182 0 237 (dk_at dksX7_seamSum_0 4 rfl rfl)
theorem dX7_seamSum_7 : decode cX7_seamSum 7 = .ok (.iconst 0, 1) := dk_3 (dk_at dksX7_seamSum_0 7 rfl rfl)
theorem dX7_seamSum_8 : decode cX7_seamSum 8 = .ok (.istore_n 3, 1) := dk_62 (dk_at dksX7_seamSum_0 8 rfl rfl)
theorem dX7_seamSum_9 : decode cX7_seamSum 9 = .ok (.iload_n 3, 1) := dk_29 (dk_at dksX7_seamSum_0 9 rfl rfl)
theorem dX7_seamSum_10 : decode cX7_seamSum 10 = .ok (.iconst 4, 1) := dk_7 (dk_at dksX7_seamSum_0 10 rfl rfl)
theorem dX7_seamSum_11 : decode cX7_seamSum 11 = .ok (.if_icmp .ge 41, 3) := dk_162 0 41 (dk_at dksX7_seamSum_0 11 rfl rfl)
theorem dX7_seamSum_14 : decode cX7_seamSum 14 = .ok (.iload_n 2, 1) := dk_28 (dk_at dksX7_seamSum_0 14 rfl rfl)
theorem dX7_seamSum_15 : decode cX7_seamSum 15 = .ok (.aload_n 0, 1) := dk_42 (dk_at dksX7_seamSum_0 15 rfl rfl)
theorem dX7_seamSum_16 : decode cX7_seamSum 16 = .ok (.getfield 47, 3) := dk_180 0 47 (dk_at dksX7_seamSum_0 16 rfl rfl)
theorem dX7_seamSum_19 : decode cX7_seamSum 19 = .ok (.iload_n 3, 1) := dk_29 (dk_at dksX7_seamSum_0 19 rfl rfl)
theorem dX7_seamSum_20 : decode cX7_seamSum 20 = .ok (.iaload, 1) := dk_46 (dk_at dksX7_seamSum_0 20 rfl rfl)
theorem dX7_seamSum_21 : decode cX7_seamSum 21 = .ok (.iconst (-1), 1) := dk_2 (dk_at dksX7_seamSum_0 21 rfl rfl)
theorem dX7_seamSum_22 : decode cX7_seamSum 22 = .ok (.if_icmp .ne 7, 3) := dk_160 0 7 (dk_at dksX7_seamSum_1 0 rfl rfl)
theorem dX7_seamSum_25 : decode cX7_seamSum 25 = .ok (.iconst 0, 1) := dk_3 (dk_at dksX7_seamSum_1 3 rfl rfl)
theorem dX7_seamSum_26 : decode cX7_seamSum 26 = .ok (.goto 18, 3) := dk_167 0 18 (dk_at dksX7_seamSum_1 4 rfl rfl)
theorem dX7_seamSum_29 : decode cX7_seamSum 29 = .ok (.aload_n 0, 1) := dk_42 (dk_at dksX7_seamSum_1 7 rfl rfl)
theorem dX7_seamSum_30 : decode cX7_seamSum 30 = .ok (.iload_n 1, 1) := dk_27 (dk_at dksX7_seamSum_1 8 rfl rfl)
theorem dX7_seamSum_31 : decode cX7_seamSum 31 = .ok (.iload_n 3, 1) := dk_29 (dk_at dksX7_seamSum_1 9 rfl rfl)
theorem dX7_seamSum_32 : decode cX7_seamSum 32 = .ok (.aload_n 0, 1) := dk_42 (dk_at dksX7_seamSum_1 10 rfl rfl)
theorem dX7_seamSum_33 : decode cX7_seamSum 33 = .ok (.getfield 47, 3) := dk_180 0 47 (dk_at dksX7_seamSum_1 11 rfl rfl)
theorem dX7_seamSum_36 : decode cX7_seamSum 36 = .ok (.iload_n 3, 1) := dk_29 (dk_at dksX7_seamSum_1 14 rfl rfl)
theorem dX7_seamSum_37 : decode cX7_seamSum 37 = .ok (.iaload, 1) := dk_46 (dk_at dksX7_seamSum_1 15 rfl rfl)
theorem dX7_seamSum_38 : decode cX7_seamSum 38 = .ok (.invokevirtual 234, 3) := dk_182 0 234 (dk_at dksX7_seamSum_1 16 rfl rfl)
theorem dX7_seamSum_41 : decode cX7_seamSum 41 = .ok (.invokestatic 146, 3) := dk_184 0 146 (dk_at dksX7_seamSum_1 19 rfl rfl)
theorem dX7_seamSum_44 : decode cX7_seamSum 44 = .ok (.iadd, 1) := dk_96 (dk_at dksX7_seamSum_1 22 rfl rfl)
theorem dX7_seamSum_45 : decode cX7_seamSum 45 = .ok (.istore_n 2, 1) := dk_61 (dk_at dksX7_seamSum_1 23 rfl rfl)
theorem dX7_seamSum_46 : decode cX7_seamSum 46 = .ok (.iinc 3 1, 3) := dk_132 3 1 (dk_at dksX7_seamSum_2 0 rfl rfl)
theorem dX7_seamSum_49 : decode cX7_seamSum 49 = .ok (.goto (-40), 3) := dk_167 255 216 (dk_at dksX7_seamSum_2 3 rfl rfl)
theorem dX7_seamSum_52 : decode cX7_seamSum 52 = .ok (.iload_n 2, 1) := dk_28 (dk_at dksX7_seamSum_2 6 rfl rfl)
theorem dX7_seamSum_53 : decode cX7_seamSum 53 = .ok (.ireturn, 1) := dk_172 (dk_at dksX7_seamSum_2 7 rfl rfl)
abbrev cX7_laysSeam : ByteArray := prog_20_method_60_code
def yX7_laysSeam : MethodName := ⟨RX7, "laysSeam", "(I)V"⟩
def dkwX7_laysSeam_12 : List UInt8 := [167, 255, 144, 132, 3, 1, 167, 255, 130, 177]
abbrev dktX7_laysSeam_12 : List UInt8 := dkwX7_laysSeam_12 ++ []
def dkwX7_laysSeam_11 : List UInt8 := [29, 104, 42, 180, 0, 47, 29, 46, 96, 46, 162, 0, 11, 42, 180, 0, 47, 29, 21, 4, 79, 132, 4, 1]
abbrev dktX7_laysSeam_11 : List UInt8 := dkwX7_laysSeam_11 ++ dktX7_laysSeam_12
def dkwX7_laysSeam_10 : List UInt8 := [29, 46, 2, 159, 0, 34, 42, 180, 0, 44, 16, 8, 29, 104, 21, 4, 96, 46, 42, 180, 0, 44, 16, 8]
abbrev dktX7_laysSeam_10 : List UInt8 := dkwX7_laysSeam_10 ++ dktX7_laysSeam_11
def dkwX7_laysSeam_9 : List UInt8 := [100, 46, 184, 0, 231, 153, 0, 7, 4, 167, 0, 4, 3, 54, 5, 21, 5, 153, 0, 52, 42, 180, 0, 47]
abbrev dktX7_laysSeam_9 : List UInt8 := dkwX7_laysSeam_9 ++ dktX7_laysSeam_10
def dkwX7_laysSeam_8 : List UInt8 := [29, 153, 0, 31, 42, 180, 0, 47, 29, 4, 100, 46, 2, 159, 0, 19, 21, 4, 42, 180, 0, 47, 29, 4]
abbrev dktX7_laysSeam_8 : List UInt8 := dkwX7_laysSeam_8 ++ dktX7_laysSeam_9
def dkwX7_laysSeam_7 : List UInt8 := [29, 7, 162, 0, 127, 28, 54, 4, 21, 4, 16, 8, 162, 0, 111, 42, 27, 29, 182, 0, 228, 153, 0, 102]
abbrev dktX7_laysSeam_7 : List UInt8 := dkwX7_laysSeam_7 ++ dktX7_laysSeam_8
def dkwX7_laysSeam_6 : List UInt8 := [182, 0, 234, 184, 0, 146, 21, 5, 96, 79, 132, 4, 1, 167, 255, 125, 132, 3, 255, 167, 255, 105, 3, 62]
abbrev dktX7_laysSeam_6 : List UInt8 := dkwX7_laysSeam_6 ++ dktX7_laysSeam_7
def dkwX7_laysSeam_5 : List UInt8 := [54, 6, 132, 7, 1, 167, 255, 182, 42, 180, 0, 44, 16, 8, 29, 104, 21, 4, 96, 42, 27, 29, 21, 4]
abbrev dktX7_laysSeam_5 : List UInt8 := dkwX7_laysSeam_5 ++ dktX7_laysSeam_6
def dkwX7_laysSeam_4 : List UInt8 := [46, 21, 5, 162, 0, 22, 42, 180, 0, 44, 16, 8, 29, 4, 96, 104, 21, 7, 96, 46, 54, 5, 4]
abbrev dktX7_laysSeam_4 : List UInt8 := dkwX7_laysSeam_4 ++ dktX7_laysSeam_5
def dkwX7_laysSeam_3 : List UInt8 := [184, 0, 231, 153, 0, 46, 21, 6, 153, 0, 22, 42, 180, 0, 44, 16, 8, 29, 4, 96, 104, 21, 7, 96]
abbrev dktX7_laysSeam_3 : List UInt8 := dkwX7_laysSeam_3 ++ dktX7_laysSeam_4
def dkwX7_laysSeam_2 : List UInt8 := [21, 7, 16, 8, 162, 0, 73, 42, 27, 29, 4, 96, 182, 0, 228, 153, 0, 62, 21, 4, 21, 7]
abbrev dktX7_laysSeam_2 : List UInt8 := dkwX7_laysSeam_2 ++ dktX7_laysSeam_3
def dkwX7_laysSeam_1 : List UInt8 := [16, 8, 162, 0, 130, 42, 27, 29, 182, 0, 228, 153, 0, 121, 3, 54, 5, 3, 54, 6, 28, 54, 7]
abbrev dktX7_laysSeam_1 : List UInt8 := dkwX7_laysSeam_1 ++ dktX7_laysSeam_2
def dkwX7_laysSeam_0 : List UInt8 := [42, 27, 182, 0, 205, 61, 6, 62, 29, 155, 0, 153, 42, 180, 0, 47, 29, 2, 79, 28, 54, 4, 21, 4]
abbrev dktX7_laysSeam_0 : List UInt8 := dkwX7_laysSeam_0 ++ dktX7_laysSeam_1
theorem dksX7_laysSeam_0 : cX7_laysSeam.data.toList.drop 0 = dktX7_laysSeam_0 := by decide +kernel
theorem dksX7_laysSeam_1 : cX7_laysSeam.data.toList.drop 24 = dktX7_laysSeam_1 := dk_seg dksX7_laysSeam_0 24 rfl rfl
theorem dksX7_laysSeam_2 : cX7_laysSeam.data.toList.drop 47 = dktX7_laysSeam_2 := dk_seg dksX7_laysSeam_1 23 rfl rfl
theorem dksX7_laysSeam_3 : cX7_laysSeam.data.toList.drop 69 = dktX7_laysSeam_3 := dk_seg dksX7_laysSeam_2 22 rfl rfl
theorem dksX7_laysSeam_4 : cX7_laysSeam.data.toList.drop 93 = dktX7_laysSeam_4 := dk_seg dksX7_laysSeam_3 24 rfl rfl
theorem dksX7_laysSeam_5 : cX7_laysSeam.data.toList.drop 116 = dktX7_laysSeam_5 := dk_seg dksX7_laysSeam_4 23 rfl rfl
theorem dksX7_laysSeam_6 : cX7_laysSeam.data.toList.drop 140 = dktX7_laysSeam_6 := dk_seg dksX7_laysSeam_5 24 rfl rfl
theorem dksX7_laysSeam_7 : cX7_laysSeam.data.toList.drop 164 = dktX7_laysSeam_7 := dk_seg dksX7_laysSeam_6 24 rfl rfl
theorem dksX7_laysSeam_8 : cX7_laysSeam.data.toList.drop 188 = dktX7_laysSeam_8 := dk_seg dksX7_laysSeam_7 24 rfl rfl
theorem dksX7_laysSeam_9 : cX7_laysSeam.data.toList.drop 212 = dktX7_laysSeam_9 := dk_seg dksX7_laysSeam_8 24 rfl rfl
theorem dksX7_laysSeam_10 : cX7_laysSeam.data.toList.drop 236 = dktX7_laysSeam_10 := dk_seg dksX7_laysSeam_9 24 rfl rfl
theorem dksX7_laysSeam_11 : cX7_laysSeam.data.toList.drop 260 = dktX7_laysSeam_11 := dk_seg dksX7_laysSeam_10 24 rfl rfl
theorem dksX7_laysSeam_12 : cX7_laysSeam.data.toList.drop 284 = dktX7_laysSeam_12 := dk_seg dksX7_laysSeam_11 24 rfl rfl
theorem dX7_laysSeam_0 : decode cX7_laysSeam 0 = .ok (.aload_n 0, 1) := dk_42 (dk_at dksX7_laysSeam_0 0 rfl rfl)
theorem dX7_laysSeam_1 : decode cX7_laysSeam 1 = .ok (.iload_n 1, 1) := dk_27 (dk_at dksX7_laysSeam_0 1 rfl rfl)
theorem dX7_laysSeam_2 : decode cX7_laysSeam 2 = .ok (.invokevirtual 205, 3) := dk_182 0 205 (dk_at dksX7_laysSeam_0 2 rfl rfl)
theorem dX7_laysSeam_5 : decode cX7_laysSeam 5 = .ok (.istore_n 2, 1) := dk_61 (dk_at dksX7_laysSeam_0 5 rfl rfl)
theorem dX7_laysSeam_6 : decode cX7_laysSeam 6 = .ok (.iconst 3, 1) := dk_6 (dk_at dksX7_laysSeam_0 6 rfl rfl)
theorem dX7_laysSeam_7 : decode cX7_laysSeam 7 = .ok (.istore_n 3, 1) := dk_62 (dk_at dksX7_laysSeam_0 7 rfl rfl)
theorem dX7_laysSeam_8 : decode cX7_laysSeam 8 = .ok (.iload_n 3, 1) := dk_29 (dk_at dksX7_laysSeam_0 8 rfl rfl)
theorem dX7_laysSeam_9 : decode cX7_laysSeam 9 = .ok (.ifCond .lt 153, 3) := dk_155 0 153 (dk_at dksX7_laysSeam_0 9 rfl rfl)
theorem dX7_laysSeam_12 : decode cX7_laysSeam 12 = .ok (.aload_n 0, 1) := dk_42 (dk_at dksX7_laysSeam_0 12 rfl rfl)
theorem dX7_laysSeam_13 : decode cX7_laysSeam 13 = .ok (.getfield 47, 3) := dk_180 0 47 (dk_at dksX7_laysSeam_0 13 rfl rfl)
theorem dX7_laysSeam_16 : decode cX7_laysSeam 16 = .ok (.iload_n 3, 1) := dk_29 (dk_at dksX7_laysSeam_0 16 rfl rfl)
theorem dX7_laysSeam_17 : decode cX7_laysSeam 17 = .ok (.iconst (-1), 1) := dk_2 (dk_at dksX7_laysSeam_0 17 rfl rfl)
theorem dX7_laysSeam_18 : decode cX7_laysSeam 18 = .ok (.iastore, 1) := dk_79 (dk_at dksX7_laysSeam_0 18 rfl rfl)
theorem dX7_laysSeam_19 : decode cX7_laysSeam 19 = .ok (.iload_n 2, 1) := dk_28 (dk_at dksX7_laysSeam_0 19 rfl rfl)
theorem dX7_laysSeam_20 : decode cX7_laysSeam 20 = .ok (.istore 4, 2) := dk_54 4 (dk_at dksX7_laysSeam_0 20 rfl rfl)
theorem dX7_laysSeam_22 : decode cX7_laysSeam 22 = .ok (.iload 4, 2) := dk_21 4 (dk_at dksX7_laysSeam_0 22 rfl rfl)
theorem dX7_laysSeam_24 : decode cX7_laysSeam 24 = .ok (.bipush 8, 2) := dk_16 8 (dk_at dksX7_laysSeam_1 0 rfl rfl)
theorem dX7_laysSeam_26 : decode cX7_laysSeam 26 = .ok (.if_icmp .ge 130, 3) := dk_162 0 130 (dk_at dksX7_laysSeam_1 2 rfl rfl)
theorem dX7_laysSeam_29 : decode cX7_laysSeam 29 = .ok (.aload_n 0, 1) := dk_42 (dk_at dksX7_laysSeam_1 5 rfl rfl)
theorem dX7_laysSeam_30 : decode cX7_laysSeam 30 = .ok (.iload_n 1, 1) := dk_27 (dk_at dksX7_laysSeam_1 6 rfl rfl)
theorem dX7_laysSeam_31 : decode cX7_laysSeam 31 = .ok (.iload_n 3, 1) := dk_29 (dk_at dksX7_laysSeam_1 7 rfl rfl)
theorem dX7_laysSeam_32 : decode cX7_laysSeam 32 = .ok (.invokevirtual 228, 3) := dk_182 0 228 (dk_at dksX7_laysSeam_1 8 rfl rfl)
theorem dX7_laysSeam_35 : decode cX7_laysSeam 35 = .ok (.ifCond .eq 121, 3) := dk_153 0 121 (dk_at dksX7_laysSeam_1 11 rfl rfl)
theorem dX7_laysSeam_38 : decode cX7_laysSeam 38 = .ok (.iconst 0, 1) := dk_3 (dk_at dksX7_laysSeam_1 14 rfl rfl)
theorem dX7_laysSeam_39 : decode cX7_laysSeam 39 = .ok (.istore 5, 2) := dk_54 5 (dk_at dksX7_laysSeam_1 15 rfl rfl)
theorem dX7_laysSeam_41 : decode cX7_laysSeam 41 = .ok (.iconst 0, 1) := dk_3 (dk_at dksX7_laysSeam_1 17 rfl rfl)
theorem dX7_laysSeam_42 : decode cX7_laysSeam 42 = .ok (.istore 6, 2) := dk_54 6 (dk_at dksX7_laysSeam_1 18 rfl rfl)
theorem dX7_laysSeam_44 : decode cX7_laysSeam 44 = .ok (.iload_n 2, 1) := dk_28 (dk_at dksX7_laysSeam_1 20 rfl rfl)
theorem dX7_laysSeam_45 : decode cX7_laysSeam 45 = .ok (.istore 7, 2) := dk_54 7 (dk_at dksX7_laysSeam_1 21 rfl rfl)
theorem dX7_laysSeam_47 : decode cX7_laysSeam 47 = .ok (.iload 7, 2) := dk_21 7 (dk_at dksX7_laysSeam_2 0 rfl rfl)
theorem dX7_laysSeam_49 : decode cX7_laysSeam 49 = .ok (.bipush 8, 2) := dk_16 8 (dk_at dksX7_laysSeam_2 2 rfl rfl)
theorem dX7_laysSeam_51 : decode cX7_laysSeam 51 = .ok (.if_icmp .ge 73, 3) := dk_162 0 73 (dk_at dksX7_laysSeam_2 4 rfl rfl)
theorem dX7_laysSeam_54 : decode cX7_laysSeam 54 = .ok (.aload_n 0, 1) := dk_42 (dk_at dksX7_laysSeam_2 7 rfl rfl)
theorem dX7_laysSeam_55 : decode cX7_laysSeam 55 = .ok (.iload_n 1, 1) := dk_27 (dk_at dksX7_laysSeam_2 8 rfl rfl)
theorem dX7_laysSeam_56 : decode cX7_laysSeam 56 = .ok (.iload_n 3, 1) := dk_29 (dk_at dksX7_laysSeam_2 9 rfl rfl)
theorem dX7_laysSeam_57 : decode cX7_laysSeam 57 = .ok (.iconst 1, 1) := dk_4 (dk_at dksX7_laysSeam_2 10 rfl rfl)
theorem dX7_laysSeam_58 : decode cX7_laysSeam 58 = .ok (.iadd, 1) := dk_96 (dk_at dksX7_laysSeam_2 11 rfl rfl)
theorem dX7_laysSeam_59 : decode cX7_laysSeam 59 = .ok (.invokevirtual 228, 3) := dk_182 0 228 (dk_at dksX7_laysSeam_2 12 rfl rfl)
theorem dX7_laysSeam_62 : decode cX7_laysSeam 62 = .ok (.ifCond .eq 62, 3) := dk_153 0 62 (dk_at dksX7_laysSeam_2 15 rfl rfl)
theorem dX7_laysSeam_65 : decode cX7_laysSeam 65 = .ok (.iload 4, 2) := dk_21 4 (dk_at dksX7_laysSeam_2 18 rfl rfl)
theorem dX7_laysSeam_67 : decode cX7_laysSeam 67 = .ok (.iload 7, 2) := dk_21 7 (dk_at dksX7_laysSeam_2 20 rfl rfl)
theorem dX7_laysSeam_69 : decode cX7_laysSeam 69 = .ok (.invokestatic 231, 3) := dk_184 0 231 (dk_at dksX7_laysSeam_3 0 rfl rfl)
theorem dX7_laysSeam_72 : decode cX7_laysSeam 72 = .ok (.ifCond .eq 46, 3) := dk_153 0 46 (dk_at dksX7_laysSeam_3 3 rfl rfl)
theorem dX7_laysSeam_75 : decode cX7_laysSeam 75 = .ok (.iload 6, 2) := dk_21 6 (dk_at dksX7_laysSeam_3 6 rfl rfl)
theorem dX7_laysSeam_77 : decode cX7_laysSeam 77 = .ok (.ifCond .eq 22, 3) := dk_153 0 22 (dk_at dksX7_laysSeam_3 8 rfl rfl)
theorem dX7_laysSeam_80 : decode cX7_laysSeam 80 = .ok (.aload_n 0, 1) := dk_42 (dk_at dksX7_laysSeam_3 11 rfl rfl)
theorem dX7_laysSeam_81 : decode cX7_laysSeam 81 = .ok (.getfield 44, 3) := dk_180 0 44 (dk_at dksX7_laysSeam_3 12 rfl rfl)
theorem dX7_laysSeam_84 : decode cX7_laysSeam 84 = .ok (.bipush 8, 2) := dk_16 8 (dk_at dksX7_laysSeam_3 15 rfl rfl)
theorem dX7_laysSeam_86 : decode cX7_laysSeam 86 = .ok (.iload_n 3, 1) := dk_29 (dk_at dksX7_laysSeam_3 17 rfl rfl)
theorem dX7_laysSeam_87 : decode cX7_laysSeam 87 = .ok (.iconst 1, 1) := dk_4 (dk_at dksX7_laysSeam_3 18 rfl rfl)
theorem dX7_laysSeam_88 : decode cX7_laysSeam 88 = .ok (.iadd, 1) := dk_96 (dk_at dksX7_laysSeam_3 19 rfl rfl)
theorem dX7_laysSeam_89 : decode cX7_laysSeam 89 = .ok (.imul, 1) := dk_104 (dk_at dksX7_laysSeam_3 20 rfl rfl)
theorem dX7_laysSeam_90 : decode cX7_laysSeam 90 = .ok (.iload 7, 2) := dk_21 7 (dk_at dksX7_laysSeam_3 21 rfl rfl)
theorem dX7_laysSeam_92 : decode cX7_laysSeam 92 = .ok (.iadd, 1) := dk_96 (dk_at dksX7_laysSeam_3 23 rfl rfl)
theorem dX7_laysSeam_93 : decode cX7_laysSeam 93 = .ok (.iaload, 1) := dk_46 (dk_at dksX7_laysSeam_4 0 rfl rfl)
theorem dX7_laysSeam_94 : decode cX7_laysSeam 94 = .ok (.iload 5, 2) := dk_21 5 (dk_at dksX7_laysSeam_4 1 rfl rfl)
theorem dX7_laysSeam_96 : decode cX7_laysSeam 96 = .ok (.if_icmp .ge 22, 3) := dk_162 0 22 (dk_at dksX7_laysSeam_4 3 rfl rfl)
theorem dX7_laysSeam_99 : decode cX7_laysSeam 99 = .ok (.aload_n 0, 1) := dk_42 (dk_at dksX7_laysSeam_4 6 rfl rfl)
theorem dX7_laysSeam_100 : decode cX7_laysSeam 100 = .ok (.getfield 44, 3) := dk_180 0 44 (dk_at dksX7_laysSeam_4 7 rfl rfl)
theorem dX7_laysSeam_103 : decode cX7_laysSeam 103 = .ok (.bipush 8, 2) := dk_16 8 (dk_at dksX7_laysSeam_4 10 rfl rfl)
theorem dX7_laysSeam_105 : decode cX7_laysSeam 105 = .ok (.iload_n 3, 1) := dk_29 (dk_at dksX7_laysSeam_4 12 rfl rfl)
theorem dX7_laysSeam_106 : decode cX7_laysSeam 106 = .ok (.iconst 1, 1) := dk_4 (dk_at dksX7_laysSeam_4 13 rfl rfl)
theorem dX7_laysSeam_107 : decode cX7_laysSeam 107 = .ok (.iadd, 1) := dk_96 (dk_at dksX7_laysSeam_4 14 rfl rfl)
theorem dX7_laysSeam_108 : decode cX7_laysSeam 108 = .ok (.imul, 1) := dk_104 (dk_at dksX7_laysSeam_4 15 rfl rfl)
theorem dX7_laysSeam_109 : decode cX7_laysSeam 109 = .ok (.iload 7, 2) := dk_21 7 (dk_at dksX7_laysSeam_4 16 rfl rfl)
theorem dX7_laysSeam_111 : decode cX7_laysSeam 111 = .ok (.iadd, 1) := dk_96 (dk_at dksX7_laysSeam_4 18 rfl rfl)
theorem dX7_laysSeam_112 : decode cX7_laysSeam 112 = .ok (.iaload, 1) := dk_46 (dk_at dksX7_laysSeam_4 19 rfl rfl)
theorem dX7_laysSeam_113 : decode cX7_laysSeam 113 = .ok (.istore 5, 2) := dk_54 5 (dk_at dksX7_laysSeam_4 20 rfl rfl)
theorem dX7_laysSeam_115 : decode cX7_laysSeam 115 = .ok (.iconst 1, 1) := dk_4 (dk_at dksX7_laysSeam_4 22 rfl rfl)
theorem dX7_laysSeam_116 : decode cX7_laysSeam 116 = .ok (.istore 6, 2) := dk_54 6 (dk_at dksX7_laysSeam_5 0 rfl rfl)
theorem dX7_laysSeam_118 : decode cX7_laysSeam 118 = .ok (.iinc 7 1, 3) := dk_132 7 1 (dk_at dksX7_laysSeam_5 2 rfl rfl)
theorem dX7_laysSeam_121 : decode cX7_laysSeam 121 = .ok (.goto (-74), 3) := dk_167 255 182 (dk_at dksX7_laysSeam_5 5 rfl rfl)
theorem dX7_laysSeam_124 : decode cX7_laysSeam 124 = .ok (.aload_n 0, 1) := dk_42 (dk_at dksX7_laysSeam_5 8 rfl rfl)
theorem dX7_laysSeam_125 : decode cX7_laysSeam 125 = .ok (.getfield 44, 3) := dk_180 0 44 (dk_at dksX7_laysSeam_5 9 rfl rfl)
theorem dX7_laysSeam_128 : decode cX7_laysSeam 128 = .ok (.bipush 8, 2) := dk_16 8 (dk_at dksX7_laysSeam_5 12 rfl rfl)
theorem dX7_laysSeam_130 : decode cX7_laysSeam 130 = .ok (.iload_n 3, 1) := dk_29 (dk_at dksX7_laysSeam_5 14 rfl rfl)
theorem dX7_laysSeam_131 : decode cX7_laysSeam 131 = .ok (.imul, 1) := dk_104 (dk_at dksX7_laysSeam_5 15 rfl rfl)
theorem dX7_laysSeam_132 : decode cX7_laysSeam 132 = .ok (.iload 4, 2) := dk_21 4 (dk_at dksX7_laysSeam_5 16 rfl rfl)
theorem dX7_laysSeam_134 : decode cX7_laysSeam 134 = .ok (.iadd, 1) := dk_96 (dk_at dksX7_laysSeam_5 18 rfl rfl)
theorem dX7_laysSeam_135 : decode cX7_laysSeam 135 = .ok (.aload_n 0, 1) := dk_42 (dk_at dksX7_laysSeam_5 19 rfl rfl)
theorem dX7_laysSeam_136 : decode cX7_laysSeam 136 = .ok (.iload_n 1, 1) := dk_27 (dk_at dksX7_laysSeam_5 20 rfl rfl)
theorem dX7_laysSeam_137 : decode cX7_laysSeam 137 = .ok (.iload_n 3, 1) := dk_29 (dk_at dksX7_laysSeam_5 21 rfl rfl)
theorem dX7_laysSeam_138 : decode cX7_laysSeam 138 = .ok (.iload 4, 2) := dk_21 4 (dk_at dksX7_laysSeam_5 22 rfl rfl)
theorem dX7_laysSeam_140 : decode cX7_laysSeam 140 = .ok (.invokevirtual 234, 3) := dk_182 0 234 (dk_at dksX7_laysSeam_6 0 rfl rfl)
theorem dX7_laysSeam_143 : decode cX7_laysSeam 143 = .ok (.invokestatic 146, 3) := dk_184 0 146 (dk_at dksX7_laysSeam_6 3 rfl rfl)
theorem dX7_laysSeam_146 : decode cX7_laysSeam 146 = .ok (.iload 5, 2) := dk_21 5 (dk_at dksX7_laysSeam_6 6 rfl rfl)
theorem dX7_laysSeam_148 : decode cX7_laysSeam 148 = .ok (.iadd, 1) := dk_96 (dk_at dksX7_laysSeam_6 8 rfl rfl)
theorem dX7_laysSeam_149 : decode cX7_laysSeam 149 = .ok (.iastore, 1) := dk_79 (dk_at dksX7_laysSeam_6 9 rfl rfl)
theorem dX7_laysSeam_150 : decode cX7_laysSeam 150 = .ok (.iinc 4 1, 3) := dk_132 4 1 (dk_at dksX7_laysSeam_6 10 rfl rfl)
theorem dX7_laysSeam_153 : decode cX7_laysSeam 153 = .ok (.goto (-131), 3) := dk_167 255 125 (dk_at dksX7_laysSeam_6 13 rfl rfl)
theorem dX7_laysSeam_156 : decode cX7_laysSeam 156 = .ok (.iinc 3 (-1), 3) := dk_132 3 255 (dk_at dksX7_laysSeam_6 16 rfl rfl)
theorem dX7_laysSeam_159 : decode cX7_laysSeam 159 = .ok (.goto (-151), 3) := dk_167 255 105 (dk_at dksX7_laysSeam_6 19 rfl rfl)
theorem dX7_laysSeam_162 : decode cX7_laysSeam 162 = .ok (.iconst 0, 1) := dk_3 (dk_at dksX7_laysSeam_6 22 rfl rfl)
theorem dX7_laysSeam_163 : decode cX7_laysSeam 163 = .ok (.istore_n 3, 1) := dk_62 (dk_at dksX7_laysSeam_6 23 rfl rfl)
theorem dX7_laysSeam_164 : decode cX7_laysSeam 164 = .ok (.iload_n 3, 1) := dk_29 (dk_at dksX7_laysSeam_7 0 rfl rfl)
theorem dX7_laysSeam_165 : decode cX7_laysSeam 165 = .ok (.iconst 4, 1) := dk_7 (dk_at dksX7_laysSeam_7 1 rfl rfl)
theorem dX7_laysSeam_166 : decode cX7_laysSeam 166 = .ok (.if_icmp .ge 127, 3) := dk_162 0 127 (dk_at dksX7_laysSeam_7 2 rfl rfl)
theorem dX7_laysSeam_169 : decode cX7_laysSeam 169 = .ok (.iload_n 2, 1) := dk_28 (dk_at dksX7_laysSeam_7 5 rfl rfl)
theorem dX7_laysSeam_170 : decode cX7_laysSeam 170 = .ok (.istore 4, 2) := dk_54 4 (dk_at dksX7_laysSeam_7 6 rfl rfl)
theorem dX7_laysSeam_172 : decode cX7_laysSeam 172 = .ok (.iload 4, 2) := dk_21 4 (dk_at dksX7_laysSeam_7 8 rfl rfl)
theorem dX7_laysSeam_174 : decode cX7_laysSeam 174 = .ok (.bipush 8, 2) := dk_16 8 (dk_at dksX7_laysSeam_7 10 rfl rfl)
theorem dX7_laysSeam_176 : decode cX7_laysSeam 176 = .ok (.if_icmp .ge 111, 3) := dk_162 0 111 (dk_at dksX7_laysSeam_7 12 rfl rfl)
theorem dX7_laysSeam_179 : decode cX7_laysSeam 179 = .ok (.aload_n 0, 1) := dk_42 (dk_at dksX7_laysSeam_7 15 rfl rfl)
theorem dX7_laysSeam_180 : decode cX7_laysSeam 180 = .ok (.iload_n 1, 1) := dk_27 (dk_at dksX7_laysSeam_7 16 rfl rfl)
theorem dX7_laysSeam_181 : decode cX7_laysSeam 181 = .ok (.iload_n 3, 1) := dk_29 (dk_at dksX7_laysSeam_7 17 rfl rfl)
theorem dX7_laysSeam_182 : decode cX7_laysSeam 182 = .ok (.invokevirtual 228, 3) := dk_182 0 228 (dk_at dksX7_laysSeam_7 18 rfl rfl)
theorem dX7_laysSeam_185 : decode cX7_laysSeam 185 = .ok (.ifCond .eq 102, 3) := dk_153 0 102 (dk_at dksX7_laysSeam_7 21 rfl rfl)
theorem dX7_laysSeam_188 : decode cX7_laysSeam 188 = .ok (.iload_n 3, 1) := dk_29 (dk_at dksX7_laysSeam_8 0 rfl rfl)
theorem dX7_laysSeam_189 : decode cX7_laysSeam 189 = .ok (.ifCond .eq 31, 3) := dk_153 0 31 (dk_at dksX7_laysSeam_8 1 rfl rfl)
theorem dX7_laysSeam_192 : decode cX7_laysSeam 192 = .ok (.aload_n 0, 1) := dk_42 (dk_at dksX7_laysSeam_8 4 rfl rfl)
theorem dX7_laysSeam_193 : decode cX7_laysSeam 193 = .ok (.getfield 47, 3) := dk_180 0 47 (dk_at dksX7_laysSeam_8 5 rfl rfl)
theorem dX7_laysSeam_196 : decode cX7_laysSeam 196 = .ok (.iload_n 3, 1) := dk_29 (dk_at dksX7_laysSeam_8 8 rfl rfl)
theorem dX7_laysSeam_197 : decode cX7_laysSeam 197 = .ok (.iconst 1, 1) := dk_4 (dk_at dksX7_laysSeam_8 9 rfl rfl)
theorem dX7_laysSeam_198 : decode cX7_laysSeam 198 = .ok (.isub, 1) := dk_100 (dk_at dksX7_laysSeam_8 10 rfl rfl)
theorem dX7_laysSeam_199 : decode cX7_laysSeam 199 = .ok (.iaload, 1) := dk_46 (dk_at dksX7_laysSeam_8 11 rfl rfl)
theorem dX7_laysSeam_200 : decode cX7_laysSeam 200 = .ok (.iconst (-1), 1) := dk_2 (dk_at dksX7_laysSeam_8 12 rfl rfl)
theorem dX7_laysSeam_201 : decode cX7_laysSeam 201 = .ok (.if_icmp .eq 19, 3) := dk_159 0 19 (dk_at dksX7_laysSeam_8 13 rfl rfl)
theorem dX7_laysSeam_204 : decode cX7_laysSeam 204 = .ok (.iload 4, 2) := dk_21 4 (dk_at dksX7_laysSeam_8 16 rfl rfl)
theorem dX7_laysSeam_206 : decode cX7_laysSeam 206 = .ok (.aload_n 0, 1) := dk_42 (dk_at dksX7_laysSeam_8 18 rfl rfl)
theorem dX7_laysSeam_207 : decode cX7_laysSeam 207 = .ok (.getfield 47, 3) := dk_180 0 47 (dk_at dksX7_laysSeam_8 19 rfl rfl)
theorem dX7_laysSeam_210 : decode cX7_laysSeam 210 = .ok (.iload_n 3, 1) := dk_29 (dk_at dksX7_laysSeam_8 22 rfl rfl)
theorem dX7_laysSeam_211 : decode cX7_laysSeam 211 = .ok (.iconst 1, 1) := dk_4 (dk_at dksX7_laysSeam_8 23 rfl rfl)
theorem dX7_laysSeam_212 : decode cX7_laysSeam 212 = .ok (.isub, 1) := dk_100 (dk_at dksX7_laysSeam_9 0 rfl rfl)
theorem dX7_laysSeam_213 : decode cX7_laysSeam 213 = .ok (.iaload, 1) := dk_46 (dk_at dksX7_laysSeam_9 1 rfl rfl)
theorem dX7_laysSeam_214 : decode cX7_laysSeam 214 = .ok (.invokestatic 231, 3) := dk_184 0 231 (dk_at dksX7_laysSeam_9 2 rfl rfl)
theorem dX7_laysSeam_217 : decode cX7_laysSeam 217 = .ok (.ifCond .eq 7, 3) := dk_153 0 7 (dk_at dksX7_laysSeam_9 5 rfl rfl)
theorem dX7_laysSeam_220 : decode cX7_laysSeam 220 = .ok (.iconst 1, 1) := dk_4 (dk_at dksX7_laysSeam_9 8 rfl rfl)
theorem dX7_laysSeam_221 : decode cX7_laysSeam 221 = .ok (.goto 4, 3) := dk_167 0 4 (dk_at dksX7_laysSeam_9 9 rfl rfl)
theorem dX7_laysSeam_224 : decode cX7_laysSeam 224 = .ok (.iconst 0, 1) := dk_3 (dk_at dksX7_laysSeam_9 12 rfl rfl)
theorem dX7_laysSeam_225 : decode cX7_laysSeam 225 = .ok (.istore 5, 2) := dk_54 5 (dk_at dksX7_laysSeam_9 13 rfl rfl)
theorem dX7_laysSeam_227 : decode cX7_laysSeam 227 = .ok (.iload 5, 2) := dk_21 5 (dk_at dksX7_laysSeam_9 15 rfl rfl)
theorem dX7_laysSeam_229 : decode cX7_laysSeam 229 = .ok (.ifCond .eq 52, 3) := dk_153 0 52 (dk_at dksX7_laysSeam_9 17 rfl rfl)
theorem dX7_laysSeam_232 : decode cX7_laysSeam 232 = .ok (.aload_n 0, 1) := dk_42 (dk_at dksX7_laysSeam_9 20 rfl rfl)
theorem dX7_laysSeam_233 : decode cX7_laysSeam 233 = .ok (.getfield 47, 3) := dk_180 0 47 (dk_at dksX7_laysSeam_9 21 rfl rfl)
theorem dX7_laysSeam_236 : decode cX7_laysSeam 236 = .ok (.iload_n 3, 1) := dk_29 (dk_at dksX7_laysSeam_10 0 rfl rfl)
theorem dX7_laysSeam_237 : decode cX7_laysSeam 237 = .ok (.iaload, 1) := dk_46 (dk_at dksX7_laysSeam_10 1 rfl rfl)
theorem dX7_laysSeam_238 : decode cX7_laysSeam 238 = .ok (.iconst (-1), 1) := dk_2 (dk_at dksX7_laysSeam_10 2 rfl rfl)
theorem dX7_laysSeam_239 : decode cX7_laysSeam 239 = .ok (.if_icmp .eq 34, 3) := dk_159 0 34 (dk_at dksX7_laysSeam_10 3 rfl rfl)
theorem dX7_laysSeam_242 : decode cX7_laysSeam 242 = .ok (.aload_n 0, 1) := dk_42 (dk_at dksX7_laysSeam_10 6 rfl rfl)
theorem dX7_laysSeam_243 : decode cX7_laysSeam 243 = .ok (.getfield 44, 3) := dk_180 0 44 (dk_at dksX7_laysSeam_10 7 rfl rfl)
theorem dX7_laysSeam_246 : decode cX7_laysSeam 246 = .ok (.bipush 8, 2) := dk_16 8 (dk_at dksX7_laysSeam_10 10 rfl rfl)
theorem dX7_laysSeam_248 : decode cX7_laysSeam 248 = .ok (.iload_n 3, 1) := dk_29 (dk_at dksX7_laysSeam_10 12 rfl rfl)
theorem dX7_laysSeam_249 : decode cX7_laysSeam 249 = .ok (.imul, 1) := dk_104 (dk_at dksX7_laysSeam_10 13 rfl rfl)
theorem dX7_laysSeam_250 : decode cX7_laysSeam 250 = .ok (.iload 4, 2) := dk_21 4 (dk_at dksX7_laysSeam_10 14 rfl rfl)
theorem dX7_laysSeam_252 : decode cX7_laysSeam 252 = .ok (.iadd, 1) := dk_96 (dk_at dksX7_laysSeam_10 16 rfl rfl)
theorem dX7_laysSeam_253 : decode cX7_laysSeam 253 = .ok (.iaload, 1) := dk_46 (dk_at dksX7_laysSeam_10 17 rfl rfl)
theorem dX7_laysSeam_254 : decode cX7_laysSeam 254 = .ok (.aload_n 0, 1) := dk_42 (dk_at dksX7_laysSeam_10 18 rfl rfl)
theorem dX7_laysSeam_255 : decode cX7_laysSeam 255 = .ok (.getfield 44, 3) := dk_180 0 44 (dk_at dksX7_laysSeam_10 19 rfl rfl)
theorem dX7_laysSeam_258 : decode cX7_laysSeam 258 = .ok (.bipush 8, 2) := dk_16 8 (dk_at dksX7_laysSeam_10 22 rfl rfl)
theorem dX7_laysSeam_260 : decode cX7_laysSeam 260 = .ok (.iload_n 3, 1) := dk_29 (dk_at dksX7_laysSeam_11 0 rfl rfl)
theorem dX7_laysSeam_261 : decode cX7_laysSeam 261 = .ok (.imul, 1) := dk_104 (dk_at dksX7_laysSeam_11 1 rfl rfl)
theorem dX7_laysSeam_262 : decode cX7_laysSeam 262 = .ok (.aload_n 0, 1) := dk_42 (dk_at dksX7_laysSeam_11 2 rfl rfl)
theorem dX7_laysSeam_263 : decode cX7_laysSeam 263 = .ok (.getfield 47, 3) := dk_180 0 47 (dk_at dksX7_laysSeam_11 3 rfl rfl)
theorem dX7_laysSeam_266 : decode cX7_laysSeam 266 = .ok (.iload_n 3, 1) := dk_29 (dk_at dksX7_laysSeam_11 6 rfl rfl)
theorem dX7_laysSeam_267 : decode cX7_laysSeam 267 = .ok (.iaload, 1) := dk_46 (dk_at dksX7_laysSeam_11 7 rfl rfl)
theorem dX7_laysSeam_268 : decode cX7_laysSeam 268 = .ok (.iadd, 1) := dk_96 (dk_at dksX7_laysSeam_11 8 rfl rfl)
theorem dX7_laysSeam_269 : decode cX7_laysSeam 269 = .ok (.iaload, 1) := dk_46 (dk_at dksX7_laysSeam_11 9 rfl rfl)
theorem dX7_laysSeam_270 : decode cX7_laysSeam 270 = .ok (.if_icmp .ge 11, 3) := dk_162 0 11 (dk_at dksX7_laysSeam_11 10 rfl rfl)
theorem dX7_laysSeam_273 : decode cX7_laysSeam 273 = .ok (.aload_n 0, 1) := dk_42 (dk_at dksX7_laysSeam_11 13 rfl rfl)
theorem dX7_laysSeam_274 : decode cX7_laysSeam 274 = .ok (.getfield 47, 3) := dk_180 0 47 (dk_at dksX7_laysSeam_11 14 rfl rfl)
theorem dX7_laysSeam_277 : decode cX7_laysSeam 277 = .ok (.iload_n 3, 1) := dk_29 (dk_at dksX7_laysSeam_11 17 rfl rfl)
theorem dX7_laysSeam_278 : decode cX7_laysSeam 278 = .ok (.iload 4, 2) := dk_21 4 (dk_at dksX7_laysSeam_11 18 rfl rfl)
theorem dX7_laysSeam_280 : decode cX7_laysSeam 280 = .ok (.iastore, 1) := dk_79 (dk_at dksX7_laysSeam_11 20 rfl rfl)
theorem dX7_laysSeam_281 : decode cX7_laysSeam 281 = .ok (.iinc 4 1, 3) := dk_132 4 1 (dk_at dksX7_laysSeam_11 21 rfl rfl)
theorem dX7_laysSeam_284 : decode cX7_laysSeam 284 = .ok (.goto (-112), 3) := dk_167 255 144 (dk_at dksX7_laysSeam_12 0 rfl rfl)
theorem dX7_laysSeam_287 : decode cX7_laysSeam 287 = .ok (.iinc 3 1, 3) := dk_132 3 1 (dk_at dksX7_laysSeam_12 3 rfl rfl)
theorem dX7_laysSeam_290 : decode cX7_laysSeam 290 = .ok (.goto (-126), 3) := dk_167 255 130 (dk_at dksX7_laysSeam_12 6 rfl rfl)
theorem dX7_laysSeam_293 : decode cX7_laysSeam 293 = .ok (.return_, 1) := dk_177 (dk_at dksX7_laysSeam_12 9 rfl rfl)
abbrev cX7_isNear : ByteArray := prog_20_method_59_code
def yX7_isNear : MethodName := ⟨RX7, "isNea\x72", "(II)Z"⟩
def dkwX7_isNear_0 : List UInt8 := [26, 27, 100, 4, 163, 0, 14, 27, 26, 100, 4, 163, 0, 7, 4, 167, 0, 4, 3, 172]
abbrev dktX7_isNear_0 : List UInt8 := dkwX7_isNear_0 ++ []
theorem dksX7_isNear_0 : cX7_isNear.data.toList.drop 0 = dktX7_isNear_0 := by decide +kernel
theorem dX7_isNear_0 : decode cX7_isNear 0 = .ok (.iload_n 0, 1) := dk_26 (dk_at dksX7_isNear_0 0 rfl rfl)
theorem dX7_isNear_1 : decode cX7_isNear 1 = .ok (.iload_n 1, 1) := dk_27 (dk_at dksX7_isNear_0 1 rfl rfl)
theorem dX7_isNear_2 : decode cX7_isNear 2 = .ok (.isub, 1) := dk_100 (dk_at dksX7_isNear_0 2 rfl rfl)
theorem dX7_isNear_3 : decode cX7_isNear 3 = .ok (.iconst 1, 1) := dk_4 (dk_at dksX7_isNear_0 3 rfl rfl)
theorem dX7_isNear_4 : decode cX7_isNear 4 = .ok (.if_icmp .gt 14, 3) := dk_163 0 14 (dk_at dksX7_isNear_0 4 rfl rfl)
theorem dX7_isNear_7 : decode cX7_isNear 7 = .ok (.iload_n 1, 1) := dk_27 (dk_at dksX7_isNear_0 7 rfl rfl)
theorem dX7_isNear_8 : decode cX7_isNear 8 = .ok (.iload_n 0, 1) := dk_26 (dk_at dksX7_isNear_0 8 rfl rfl)
theorem dX7_isNear_9 : decode cX7_isNear 9 = .ok (.isub, 1) := dk_100 (dk_at dksX7_isNear_0 9 rfl rfl)
theorem dX7_isNear_10 : decode cX7_isNear 10 = .ok (.iconst 1, 1) := dk_4 (dk_at dksX7_isNear_0 10 rfl rfl)
theorem dX7_isNear_11 : decode cX7_isNear 11 = .ok (.if_icmp .gt 7, 3) := dk_163 0 7 (dk_at dksX7_isNear_0 11 rfl rfl)
theorem dX7_isNear_14 : decode cX7_isNear 14 = .ok (.iconst 1, 1) := dk_4 (dk_at dksX7_isNear_0 14 rfl rfl)
theorem dX7_isNear_15 : decode cX7_isNear 15 = .ok (.goto 4, 3) := dk_167 0 4 (dk_at dksX7_isNear_0 15 rfl rfl)
theorem dX7_isNear_18 : decode cX7_isNear 18 = .ok (.iconst 0, 1) := dk_3 (dk_at dksX7_isNear_0 18 rfl rfl)
theorem dX7_isNear_19 : decode cX7_isNear 19 = .ok (.ireturn, 1) := dk_172 (dk_at dksX7_isNear_0 19 rfl rfl)
abbrev cX7_seam : ByteArray := prog_20_method_65_code
def yX7_seam : MethodName := ⟨RX7, "seam", "(II)I"⟩
def dkwX7_seam_2 : List UInt8 := [172, 42, 27, 182, 0, 237, 42, 180, 0, 47, 28, 46, 172]
abbrev dktX7_seam_2 : List UInt8 := dkwX7_seam_2 ++ []
def dkwX7_seam_1 : List UInt8 := [182, 0, 91, 172, 42, 182, 0, 196, 42, 180, 0, 38, 27, 46, 2, 160, 0, 10, 42, 16, 253, 182, 0, 91]
abbrev dktX7_seam_1 : List UInt8 := dkwX7_seam_1 ++ dktX7_seam_2
def dkwX7_seam_0 : List UInt8 := [42, 27, 182, 0, 128, 153, 0, 15, 28, 133, 9, 20, 0, 67, 184, 0, 63, 154, 0, 10, 42, 16, 254]
abbrev dktX7_seam_0 : List UInt8 := dkwX7_seam_0 ++ dktX7_seam_1
theorem dksX7_seam_0 : cX7_seam.data.toList.drop 0 = dktX7_seam_0 := by decide +kernel
theorem dksX7_seam_1 : cX7_seam.data.toList.drop 23 = dktX7_seam_1 := dk_seg dksX7_seam_0 23 rfl rfl
theorem dksX7_seam_2 : cX7_seam.data.toList.drop 47 = dktX7_seam_2 := dk_seg dksX7_seam_1 24 rfl rfl
theorem dX7_seam_0 : decode cX7_seam 0 = .ok (.aload_n 0, 1) := dk_42 (dk_at dksX7_seam_0 0 rfl rfl)
theorem dX7_seam_1 : decode cX7_seam 1 = .ok (.iload_n 1, 1) := dk_27 (dk_at dksX7_seam_0 1 rfl rfl)
theorem dX7_seam_2 : decode cX7_seam 2 = .ok (.invokevirtual 128, 3) := dk_182 0 128 (dk_at dksX7_seam_0 2 rfl rfl)
theorem dX7_seam_5 : decode cX7_seam 5 = .ok (.ifCond .eq 15, 3) := dk_153 0 15 (dk_at dksX7_seam_0 5 rfl rfl)
theorem dX7_seam_8 : decode cX7_seam 8 = .ok (.iload_n 2, 1) := dk_28 (dk_at dksX7_seam_0 8 rfl rfl)
theorem dX7_seam_9 : decode cX7_seam 9 = .ok (.i2l, 1) := dk_133 (dk_at dksX7_seam_0 9 rfl rfl)
theorem dX7_seam_10 : decode cX7_seam 10 = .ok (.lconst 0, 1) := dk_9 (dk_at dksX7_seam_0 10 rfl rfl)
theorem dX7_seam_11 : decode cX7_seam 11 = .ok (.ldc2_w 67, 3) := dk_20 0 67 (dk_at dksX7_seam_0 11 rfl rfl)
theorem dX7_seam_14 : decode cX7_seam 14 = .ok (.invokestatic 63, 3) := dk_184 0 63 (dk_at dksX7_seam_0 14 rfl rfl)
theorem dX7_seam_17 : decode cX7_seam 17 = .ok (.ifCond .ne 10, 3) := dk_154 0 10 (dk_at dksX7_seam_0 17 rfl rfl)
theorem dX7_seam_20 : decode cX7_seam 20 = .ok (.aload_n 0, 1) := dk_42 (dk_at dksX7_seam_0 20 rfl rfl)
theorem dX7_seam_21 : decode cX7_seam 21 = .ok (.bipush (-2), 2) := dk_16 254 (dk_at dksX7_seam_0 21 rfl rfl)
theorem dX7_seam_23 : decode cX7_seam 23 = .ok (.invokevirtual 91, 3) := dk_182 0 91 (dk_at dksX7_seam_1 0 rfl rfl)
theorem dX7_seam_26 : decode cX7_seam 26 = .ok (.ireturn, 1) := dk_172 (dk_at dksX7_seam_1 3 rfl rfl)
theorem dX7_seam_27 : decode cX7_seam 27 = .ok (.aload_n 0, 1) := dk_42 (dk_at dksX7_seam_1 4 rfl rfl)
theorem dX7_seam_28 : decode cX7_seam 28 = .ok (.invokevirtual 196, 3) := dk_182 0 196 (dk_at dksX7_seam_1 5 rfl rfl)
theorem dX7_seam_31 : decode cX7_seam 31 = .ok (.aload_n 0, 1) := dk_42 (dk_at dksX7_seam_1 8 rfl rfl)
theorem dX7_seam_32 : decode cX7_seam 32 = .ok (.getfield 38, 3) := dk_180 0 38 (dk_at dksX7_seam_1 9 rfl rfl)
theorem dX7_seam_35 : decode cX7_seam 35 = .ok (.iload_n 1, 1) := dk_27 (dk_at dksX7_seam_1 12 rfl rfl)
theorem dX7_seam_36 : decode cX7_seam 36 = .ok (.iaload, 1) := dk_46 (dk_at dksX7_seam_1 13 rfl rfl)
theorem dX7_seam_37 : decode cX7_seam 37 = .ok (.iconst (-1), 1) := dk_2 (dk_at dksX7_seam_1 14 rfl rfl)
theorem dX7_seam_38 : decode cX7_seam 38 = .ok (.if_icmp .ne 10, 3) := dk_160 0 10 (dk_at dksX7_seam_1 15 rfl rfl)
theorem dX7_seam_41 : decode cX7_seam 41 = .ok (.aload_n 0, 1) := dk_42 (dk_at dksX7_seam_1 18 rfl rfl)
theorem dX7_seam_42 : decode cX7_seam 42 = .ok (.bipush (-3), 2) := dk_16 253 (dk_at dksX7_seam_1 19 rfl rfl)
theorem dX7_seam_44 : decode cX7_seam 44 = .ok (.invokevirtual 91, 3) := dk_182 0 91 (dk_at dksX7_seam_1 21 rfl rfl)
theorem dX7_seam_47 : decode cX7_seam 47 = .ok (.ireturn, 1) := dk_172 (dk_at dksX7_seam_2 0 rfl rfl)
theorem dX7_seam_48 : decode cX7_seam 48 = .ok (.aload_n 0, 1) := dk_42 (dk_at dksX7_seam_2 1 rfl rfl)
theorem dX7_seam_49 : decode cX7_seam 49 = .ok (.iload_n 1, 1) := dk_27 (dk_at dksX7_seam_2 2 rfl rfl)
theorem dX7_seam_50 : decode cX7_seam 50 = .ok (.invokevirtual 237, 3) := dk_182 0 237 (dk_at dksX7_seam_2 3 rfl rfl)
theorem dX7_seam_53 : decode cX7_seam 53 = .ok (.aload_n 0, 1) := dk_42 (dk_at dksX7_seam_2 6 rfl rfl)
theorem dX7_seam_54 : decode cX7_seam 54 = .ok (.getfield 47, 3) := dk_180 0 47 (dk_at dksX7_seam_2 7 rfl rfl)
theorem dX7_seam_57 : decode cX7_seam 57 = .ok (.iload_n 2, 1) := dk_28 (dk_at dksX7_seam_2 10 rfl rfl)
theorem dX7_seam_58 : decode cX7_seam 58 = .ok (.iaload, 1) := dk_46 (dk_at dksX7_seam_2 11 rfl rfl)
theorem dX7_seam_59 : decode cX7_seam 59 = .ok (.ireturn, 1) := dk_172 (dk_at dksX7_seam_2 12 rfl rfl)
abbrev cX7_level : ByteArray := prog_20_method_71_code
def yX7_level : MethodName := ⟨RX7, "level", "(II)J"⟩
def dkwX7_level_2 : List UInt8 := [180, 0, 251, 167, 0, 7, 42, 180, 0, 255, 173]
abbrev dktX7_level_2 : List UInt8 := dkwX7_level_2 ++ []
def dkwX7_level_1 : List UInt8 := [46, 4, 96, 79, 20, 1, 18, 173, 42, 182, 0, 196, 42, 27, 182, 1, 20, 28, 154, 0, 10, 42]
abbrev dktX7_level_1 : List UInt8 := dkwX7_level_1 ++ dktX7_level_2
def dkwX7_level_0 : List UInt8 := [42, 27, 182, 0, 128, 153, 0, 13, 28, 133, 9, 10, 184, 0, 63, 154, 0, 17, 42, 180, 0, 19, 3, 92]
abbrev dktX7_level_0 : List UInt8 := dkwX7_level_0 ++ dktX7_level_1
theorem dksX7_level_0 : cX7_level.data.toList.drop 0 = dktX7_level_0 := by decide +kernel
theorem dksX7_level_1 : cX7_level.data.toList.drop 24 = dktX7_level_1 := dk_seg dksX7_level_0 24 rfl rfl
theorem dksX7_level_2 : cX7_level.data.toList.drop 46 = dktX7_level_2 := dk_seg dksX7_level_1 22 rfl rfl
theorem dX7_level_0 : decode cX7_level 0 = .ok (.aload_n 0, 1) := dk_42 (dk_at dksX7_level_0 0 rfl rfl)
theorem dX7_level_1 : decode cX7_level 1 = .ok (.iload_n 1, 1) := dk_27 (dk_at dksX7_level_0 1 rfl rfl)
theorem dX7_level_2 : decode cX7_level 2 = .ok (.invokevirtual 128, 3) := dk_182 0 128 (dk_at dksX7_level_0 2 rfl rfl)
theorem dX7_level_5 : decode cX7_level 5 = .ok (.ifCond .eq 13, 3) := dk_153 0 13 (dk_at dksX7_level_0 5 rfl rfl)
theorem dX7_level_8 : decode cX7_level 8 = .ok (.iload_n 2, 1) := dk_28 (dk_at dksX7_level_0 8 rfl rfl)
theorem dX7_level_9 : decode cX7_level 9 = .ok (.i2l, 1) := dk_133 (dk_at dksX7_level_0 9 rfl rfl)
theorem dX7_level_10 : decode cX7_level 10 = .ok (.lconst 0, 1) := dk_9 (dk_at dksX7_level_0 10 rfl rfl)
theorem dX7_level_11 : decode cX7_level 11 = .ok (.lconst 1, 1) := dk_10 (dk_at dksX7_level_0 11 rfl rfl)
theorem dX7_level_12 : decode cX7_level 12 = .ok (.invokestatic 63, 3) := dk_184 0 63 (dk_at dksX7_level_0 12 rfl rfl)
theorem dX7_level_15 : decode cX7_level 15 = .ok (.ifCond .ne 17, 3) := dk_154 0 17 (dk_at dksX7_level_0 15 rfl rfl)
theorem dX7_level_18 : decode cX7_level 18 = .ok (.aload_n 0, 1) := dk_42 (dk_at dksX7_level_0 18 rfl rfl)
theorem dX7_level_19 : decode cX7_level 19 = .ok (.getfield 19, 3) := dk_180 0 19 (dk_at dksX7_level_0 19 rfl rfl)
theorem dX7_level_22 : decode cX7_level 22 = .ok (.iconst 0, 1) := dk_3 (dk_at dksX7_level_0 22 rfl rfl)
theorem dX7_level_23 : decode cX7_level 23 = .ok (.dup2, 1) := dk_92 (dk_at dksX7_level_0 23 rfl rfl)
theorem dX7_level_24 : decode cX7_level 24 = .ok (.iaload, 1) := dk_46 (dk_at dksX7_level_1 0 rfl rfl)
theorem dX7_level_25 : decode cX7_level 25 = .ok (.iconst 1, 1) := dk_4 (dk_at dksX7_level_1 1 rfl rfl)
theorem dX7_level_26 : decode cX7_level 26 = .ok (.iadd, 1) := dk_96 (dk_at dksX7_level_1 2 rfl rfl)
theorem dX7_level_27 : decode cX7_level 27 = .ok (.iastore, 1) := dk_79 (dk_at dksX7_level_1 3 rfl rfl)
theorem dX7_level_28 : decode cX7_level 28 = .ok (.ldc2_w 274, 3) := dk_20 1 18 (dk_at dksX7_level_1 4 rfl rfl)
theorem dX7_level_31 : decode cX7_level 31 = .ok (.lreturn, 1) := dk_173 (dk_at dksX7_level_1 7 rfl rfl)
theorem dX7_level_32 : decode cX7_level 32 = .ok (.aload_n 0, 1) := dk_42 (dk_at dksX7_level_1 8 rfl rfl)
theorem dX7_level_33 : decode cX7_level 33 = .ok (.invokevirtual 196, 3) := dk_182 0 196 (dk_at dksX7_level_1 9 rfl rfl)
theorem dX7_level_36 : decode cX7_level 36 = .ok (.aload_n 0, 1) := dk_42 (dk_at dksX7_level_1 12 rfl rfl)
theorem dX7_level_37 : decode cX7_level 37 = .ok (.iload_n 1, 1) := dk_27 (dk_at dksX7_level_1 13 rfl rfl)
theorem dX7_level_38 : decode cX7_level 38 = .ok (.invokevirtual 276, 3) := dk_182 1 20 (dk_at dksX7_level_1 14 rfl rfl)
theorem dX7_level_41 : decode cX7_level 41 = .ok (.iload_n 2, 1) := dk_28 (dk_at dksX7_level_1 17 rfl rfl)
theorem dX7_level_42 : decode cX7_level 42 = .ok (.ifCond .ne 10, 3) := dk_154 0 10 (dk_at dksX7_level_1 18 rfl rfl)
theorem dX7_level_45 : decode cX7_level 45 = .ok (.aload_n 0, 1) := dk_42 (dk_at dksX7_level_1 21 rfl rfl)
theorem dX7_level_46 : decode cX7_level 46 = .ok (.getfield 251, 3) := dk_180 0 251 (dk_at dksX7_level_2 0 rfl rfl)
theorem dX7_level_49 : decode cX7_level 49 = .ok (.goto 7, 3) := dk_167 0 7 (dk_at dksX7_level_2 3 rfl rfl)
theorem dX7_level_52 : decode cX7_level 52 = .ok (.aload_n 0, 1) := dk_42 (dk_at dksX7_level_2 6 rfl rfl)
theorem dX7_level_53 : decode cX7_level 53 = .ok (.getfield 255, 3) := dk_180 0 255 (dk_at dksX7_level_2 7 rfl rfl)
theorem dX7_level_56 : decode cX7_level 56 = .ok (.lreturn, 1) := dk_173 (dk_at dksX7_level_2 10 rfl rfl)
abbrev cX7_laysLevel : ByteArray := prog_20_method_70_code
def yX7_laysLevel : MethodName := ⟨RX7, "laysLevel", "(I)V"⟩
def dkwX7_laysLevel_5 : List UInt8 := [182, 1, 2, 105, 97, 181, 0, 251, 42, 180, 0, 41, 28, 46, 61, 167, 255, 222, 42, 182, 1, 15, 177]
abbrev dktX7_laysLevel_5 : List UInt8 := dkwX7_laysLevel_5 ++ []
def dkwX7_laysLevel_4 : List UInt8 := [27, 46, 61, 28, 2, 159, 0, 35, 42, 89, 180, 0, 251, 42, 28, 4, 182, 0, 244, 133, 42, 28]
abbrev dktX7_laysLevel_4 : List UInt8 := dkwX7_laysLevel_4 ++ dktX7_laysLevel_5
def dkwX7_laysLevel_3 : List UInt8 := [21, 6, 46, 54, 6, 167, 255, 212, 42, 20, 1, 6, 32, 105, 181, 0, 255, 167, 0, 47, 42, 180, 0, 41]
abbrev dktX7_laysLevel_3 : List UInt8 := dkwX7_laysLevel_3 ++ dktX7_laysLevel_4
def dkwX7_laysLevel_2 : List UInt8 := [182, 0, 244, 133, 32, 105, 22, 4, 101, 42, 21, 6, 182, 1, 2, 105, 97, 181, 0, 251, 42, 180, 0, 38]
abbrev dktX7_laysLevel_2 : List UInt8 := dkwX7_laysLevel_2 ++ dktX7_laysLevel_3
def dkwX7_laysLevel_1 : List UInt8 := [42, 182, 1, 12, 55, 4, 3, 54, 6, 21, 6, 27, 159, 0, 44, 42, 89, 180, 0, 251, 42, 21, 6, 4]
abbrev dktX7_laysLevel_1 : List UInt8 := dkwX7_laysLevel_1 ++ dktX7_laysLevel_2
def dkwX7_laysLevel_0 : List UInt8 := [42, 9, 181, 0, 251, 42, 20, 1, 6, 181, 0, 255, 42, 182, 0, 214, 153, 0, 76, 42, 182, 1, 8, 65]
abbrev dktX7_laysLevel_0 : List UInt8 := dkwX7_laysLevel_0 ++ dktX7_laysLevel_1
theorem dksX7_laysLevel_0 : cX7_laysLevel.data.toList.drop 0 = dktX7_laysLevel_0 := by decide +kernel
theorem dksX7_laysLevel_1 : cX7_laysLevel.data.toList.drop 24 = dktX7_laysLevel_1 := dk_seg dksX7_laysLevel_0 24 rfl rfl
theorem dksX7_laysLevel_2 : cX7_laysLevel.data.toList.drop 48 = dktX7_laysLevel_2 := dk_seg dksX7_laysLevel_1 24 rfl rfl
theorem dksX7_laysLevel_3 : cX7_laysLevel.data.toList.drop 72 = dktX7_laysLevel_3 := dk_seg dksX7_laysLevel_2 24 rfl rfl
theorem dksX7_laysLevel_4 : cX7_laysLevel.data.toList.drop 96 = dktX7_laysLevel_4 := dk_seg dksX7_laysLevel_3 24 rfl rfl
theorem dksX7_laysLevel_5 : cX7_laysLevel.data.toList.drop 118 = dktX7_laysLevel_5 := dk_seg dksX7_laysLevel_4 22 rfl rfl
theorem dX7_laysLevel_0 : decode cX7_laysLevel 0 = .ok (.aload_n 0, 1) := dk_42 (dk_at dksX7_laysLevel_0 0 rfl rfl)
theorem dX7_laysLevel_1 : decode cX7_laysLevel 1 = .ok (.lconst 0, 1) := dk_9 (dk_at dksX7_laysLevel_0 1 rfl rfl)
theorem dX7_laysLevel_2 : decode cX7_laysLevel 2 = .ok (.putfield 251, 3) := dk_181 0 251 (dk_at dksX7_laysLevel_0 2 rfl rfl)
theorem dX7_laysLevel_5 : decode cX7_laysLevel 5 = .ok (.aload_n 0, 1) := dk_42 (dk_at dksX7_laysLevel_0 5 rfl rfl)
theorem dX7_laysLevel_6 : decode cX7_laysLevel 6 = .ok (.ldc2_w 262, 3) := dk_20 1 6 (dk_at dksX7_laysLevel_0 6 rfl rfl)
theorem dX7_laysLevel_9 : decode cX7_laysLevel 9 = .ok (.putfield 255, 3) := dk_181 0 255 (dk_at dksX7_laysLevel_0 9 rfl rfl)
theorem dX7_laysLevel_12 : decode cX7_laysLevel 12 = .ok (.aload_n 0, 1) := dk_42 (dk_at dksX7_laysLevel_0 12 rfl rfl)
theorem dX7_laysLevel_13 : decode cX7_laysLevel 13 = .ok (.invokevirtual 214, 3) := dk_182 0 214 (dk_at dksX7_laysLevel_0 13 rfl rfl)
theorem dX7_laysLevel_16 : decode cX7_laysLevel 16 = .ok (.ifCond .eq 76, 3) := dk_153 0 76 (dk_at dksX7_laysLevel_0 16 rfl rfl)
theorem dX7_laysLevel_19 : decode cX7_laysLevel 19 = .ok (.aload_n 0, 1) := dk_42 (dk_at dksX7_laysLevel_0 19 rfl rfl)
theorem dX7_laysLevel_20 : decode cX7_laysLevel 20 = .ok (.invokevirtual 264, 3) := dk_182 1 8 (dk_at dksX7_laysLevel_0 20 rfl rfl)
theorem dX7_laysLevel_23 : decode cX7_laysLevel 23 = .ok (.lstore_n 2, 1) := dk_65 (dk_at dksX7_laysLevel_0 23 rfl rfl)
theorem dX7_laysLevel_24 : decode cX7_laysLevel 24 = .ok (.aload_n 0, 1) := dk_42 (dk_at dksX7_laysLevel_1 0 rfl rfl)
theorem dX7_laysLevel_25 : decode cX7_laysLevel 25 = .ok (.invokevirtual 268, 3) := dk_182 1 12 (dk_at dksX7_laysLevel_1 1 rfl rfl)
theorem dX7_laysLevel_28 : decode cX7_laysLevel 28 = .ok (.lstore 4, 2) := dk_55 4 (dk_at dksX7_laysLevel_1 4 rfl rfl)
theorem dX7_laysLevel_30 : decode cX7_laysLevel 30 = .ok (.iconst 0, 1) := dk_3 (dk_at dksX7_laysLevel_1 6 rfl rfl)
theorem dX7_laysLevel_31 : decode cX7_laysLevel 31 = .ok (.istore 6, 2) := dk_54 6 (dk_at dksX7_laysLevel_1 7 rfl rfl)
theorem dX7_laysLevel_33 : decode cX7_laysLevel 33 = .ok (.iload 6, 2) := dk_21 6 (dk_at dksX7_laysLevel_1 9 rfl rfl)
theorem dX7_laysLevel_35 : decode cX7_laysLevel 35 = .ok (.iload_n 1, 1) := dk_27 (dk_at dksX7_laysLevel_1 11 rfl rfl)
theorem dX7_laysLevel_36 : decode cX7_laysLevel 36 = .ok (.if_icmp .eq 44, 3) := dk_159 0 44 (dk_at dksX7_laysLevel_1 12 rfl rfl)
theorem dX7_laysLevel_39 : decode cX7_laysLevel 39 = .ok (.aload_n 0, 1) := dk_42 (dk_at dksX7_laysLevel_1 15 rfl rfl)
theorem dX7_laysLevel_40 : decode cX7_laysLevel 40 = .ok (.dup, 1) := dk_89 (dk_at dksX7_laysLevel_1 16 rfl rfl)
theorem dX7_laysLevel_41 : decode cX7_laysLevel 41 = .ok (.getfield 251, 3) := dk_180 0 251 (dk_at dksX7_laysLevel_1 17 rfl rfl)
theorem dX7_laysLevel_44 : decode cX7_laysLevel 44 = .ok (.aload_n 0, 1) := dk_42 (dk_at dksX7_laysLevel_1 20 rfl rfl)
theorem dX7_laysLevel_45 : decode cX7_laysLevel 45 = .ok (.iload 6, 2) := dk_21 6 (dk_at dksX7_laysLevel_1 21 rfl rfl)
theorem dX7_laysLevel_47 : decode cX7_laysLevel 47 = .ok (.iconst 1, 1) := dk_4 (dk_at dksX7_laysLevel_1 23 rfl rfl)
theorem dX7_laysLevel_48 : decode cX7_laysLevel 48 = .ok (.invokevirtual 244, 3) := dk_182 0 244 (dk_at dksX7_laysLevel_2 0 rfl rfl)
theorem dX7_laysLevel_51 : decode cX7_laysLevel 51 = .ok (.i2l, 1) := dk_133 (dk_at dksX7_laysLevel_2 3 rfl rfl)
theorem dX7_laysLevel_52 : decode cX7_laysLevel 52 = .ok (.lload_n 2, 1) := dk_32 (dk_at dksX7_laysLevel_2 4 rfl rfl)
theorem dX7_laysLevel_53 : decode cX7_laysLevel 53 = .ok (.lmul, 1) := dk_105 (dk_at dksX7_laysLevel_2 5 rfl rfl)
theorem dX7_laysLevel_54 : decode cX7_laysLevel 54 = .ok (.lload 4, 2) := dk_22 4 (dk_at dksX7_laysLevel_2 6 rfl rfl)
theorem dX7_laysLevel_56 : decode cX7_laysLevel 56 = .ok (.lsub, 1) := dk_101 (dk_at dksX7_laysLevel_2 8 rfl rfl)
theorem dX7_laysLevel_57 : decode cX7_laysLevel 57 = .ok (.aload_n 0, 1) := dk_42 (dk_at dksX7_laysLevel_2 9 rfl rfl)
theorem dX7_laysLevel_58 : decode cX7_laysLevel 58 = .ok (.iload 6, 2) := dk_21 6 (dk_at dksX7_laysLevel_2 10 rfl rfl)
theorem dX7_laysLevel_60 : decode cX7_laysLevel 60 = .ok (.invokevirtual 258, 3) := dk_182 1 2 (dk_at dksX7_laysLevel_2 12 rfl rfl)
theorem dX7_laysLevel_63 : decode cX7_laysLevel 63 = .ok (.lmul, 1) := dk_105 (dk_at dksX7_laysLevel_2 15 rfl rfl)
theorem dX7_laysLevel_64 : decode cX7_laysLevel 64 = .ok (.ladd, 1) := dk_97 (dk_at dksX7_laysLevel_2 16 rfl rfl)
theorem dX7_laysLevel_65 : decode cX7_laysLevel 65 = .ok (.putfield 251, 3) := dk_181 0 251 (dk_at dksX7_laysLevel_2 17 rfl rfl)
theorem dX7_laysLevel_68 : decode cX7_laysLevel 68 = .ok (.aload_n 0, 1) := dk_42 (dk_at dksX7_laysLevel_2 20 rfl rfl)
theorem dX7_laysLevel_69 : decode cX7_laysLevel 69 = .ok (.getfield 38, 3) := dk_180 0 38 (dk_at dksX7_laysLevel_2 21 rfl rfl)
theorem dX7_laysLevel_72 : decode cX7_laysLevel 72 = .ok (.iload 6, 2) := dk_21 6 (dk_at dksX7_laysLevel_3 0 rfl rfl)
theorem dX7_laysLevel_74 : decode cX7_laysLevel 74 = .ok (.iaload, 1) := dk_46 (dk_at dksX7_laysLevel_3 2 rfl rfl)
theorem dX7_laysLevel_75 : decode cX7_laysLevel 75 = .ok (.istore 6, 2) := dk_54 6 (dk_at dksX7_laysLevel_3 3 rfl rfl)
theorem dX7_laysLevel_77 : decode cX7_laysLevel 77 = .ok (.goto (-44), 3) := dk_167 255 212 (dk_at dksX7_laysLevel_3 5 rfl rfl)
theorem dX7_laysLevel_80 : decode cX7_laysLevel 80 = .ok (.aload_n 0, 1) := dk_42 (dk_at dksX7_laysLevel_3 8 rfl rfl)
theorem dX7_laysLevel_81 : decode cX7_laysLevel 81 = .ok (.ldc2_w 262, 3) := dk_20 1 6 (dk_at dksX7_laysLevel_3 9 rfl rfl)
theorem dX7_laysLevel_84 : decode cX7_laysLevel 84 = .ok (.lload_n 2, 1) := dk_32 (dk_at dksX7_laysLevel_3 12 rfl rfl)
theorem dX7_laysLevel_85 : decode cX7_laysLevel 85 = .ok (.lmul, 1) := dk_105 (dk_at dksX7_laysLevel_3 13 rfl rfl)
theorem dX7_laysLevel_86 : decode cX7_laysLevel 86 = .ok (.putfield 255, 3) := dk_181 0 255 (dk_at dksX7_laysLevel_3 14 rfl rfl)
theorem dX7_laysLevel_89 : decode cX7_laysLevel 89 = .ok (.goto 47, 3) := dk_167 0 47 (dk_at dksX7_laysLevel_3 17 rfl rfl)
theorem dX7_laysLevel_92 : decode cX7_laysLevel 92 = .ok (.aload_n 0, 1) := dk_42 (dk_at dksX7_laysLevel_3 20 rfl rfl)
theorem dX7_laysLevel_93 : decode cX7_laysLevel 93 = .ok (.getfield 41, 3) := dk_180 0 41 (dk_at dksX7_laysLevel_3 21 rfl rfl)
theorem dX7_laysLevel_96 : decode cX7_laysLevel 96 = .ok (.iload_n 1, 1) := dk_27 (dk_at dksX7_laysLevel_4 0 rfl rfl)
theorem dX7_laysLevel_97 : decode cX7_laysLevel 97 = .ok (.iaload, 1) := dk_46 (dk_at dksX7_laysLevel_4 1 rfl rfl)
theorem dX7_laysLevel_98 : decode cX7_laysLevel 98 = .ok (.istore_n 2, 1) := dk_61 (dk_at dksX7_laysLevel_4 2 rfl rfl)
theorem dX7_laysLevel_99 : decode cX7_laysLevel 99 = .ok (.iload_n 2, 1) := dk_28 (dk_at dksX7_laysLevel_4 3 rfl rfl)
theorem dX7_laysLevel_100 : decode cX7_laysLevel 100 = .ok (.iconst (-1), 1) := dk_2 (dk_at dksX7_laysLevel_4 4 rfl rfl)
theorem dX7_laysLevel_101 : decode cX7_laysLevel 101 = .ok (.if_icmp .eq 35, 3) := dk_159 0 35 (dk_at dksX7_laysLevel_4 5 rfl rfl)
theorem dX7_laysLevel_104 : decode cX7_laysLevel 104 = .ok (.aload_n 0, 1) := dk_42 (dk_at dksX7_laysLevel_4 8 rfl rfl)
theorem dX7_laysLevel_105 : decode cX7_laysLevel 105 = .ok (.dup, 1) := dk_89 (dk_at dksX7_laysLevel_4 9 rfl rfl)
theorem dX7_laysLevel_106 : decode cX7_laysLevel 106 = .ok (.getfield 251, 3) := dk_180 0 251 (dk_at dksX7_laysLevel_4 10 rfl rfl)
theorem dX7_laysLevel_109 : decode cX7_laysLevel 109 = .ok (.aload_n 0, 1) := dk_42 (dk_at dksX7_laysLevel_4 13 rfl rfl)
theorem dX7_laysLevel_110 : decode cX7_laysLevel 110 = .ok (.iload_n 2, 1) := dk_28 (dk_at dksX7_laysLevel_4 14 rfl rfl)
theorem dX7_laysLevel_111 : decode cX7_laysLevel 111 = .ok (.iconst 1, 1) := dk_4 (dk_at dksX7_laysLevel_4 15 rfl rfl)
theorem dX7_laysLevel_112 : decode cX7_laysLevel 112 = .ok (.invokevirtual 244, 3) := dk_182 0 244 (dk_at dksX7_laysLevel_4 16 rfl rfl)
theorem dX7_laysLevel_115 : decode cX7_laysLevel 115 = .ok (.i2l, 1) := dk_133 (dk_at dksX7_laysLevel_4 19 rfl rfl)
theorem dX7_laysLevel_116 : decode cX7_laysLevel 116 = .ok (.aload_n 0, 1) := dk_42 (dk_at dksX7_laysLevel_4 20 rfl rfl)
theorem dX7_laysLevel_117 : decode cX7_laysLevel 117 = .ok (.iload_n 2, 1) := dk_28 (dk_at dksX7_laysLevel_4 21 rfl rfl)
theorem dX7_laysLevel_118 : decode cX7_laysLevel 118 = .ok (.invokevirtual 258, 3) := dk_182 1 2 (dk_at dksX7_laysLevel_5 0 rfl rfl)
theorem dX7_laysLevel_121 : decode cX7_laysLevel 121 = .ok (.lmul, 1) := dk_105 (dk_at dksX7_laysLevel_5 3 rfl rfl)
theorem dX7_laysLevel_122 : decode cX7_laysLevel 122 = .ok (.ladd, 1) := dk_97 (dk_at dksX7_laysLevel_5 4 rfl rfl)
theorem dX7_laysLevel_123 : decode cX7_laysLevel 123 = .ok (.putfield 251, 3) := dk_181 0 251 (dk_at dksX7_laysLevel_5 5 rfl rfl)
theorem dX7_laysLevel_126 : decode cX7_laysLevel 126 = .ok (.aload_n 0, 1) := dk_42 (dk_at dksX7_laysLevel_5 8 rfl rfl)
theorem dX7_laysLevel_127 : decode cX7_laysLevel 127 = .ok (.getfield 41, 3) := dk_180 0 41 (dk_at dksX7_laysLevel_5 9 rfl rfl)
theorem dX7_laysLevel_130 : decode cX7_laysLevel 130 = .ok (.iload_n 2, 1) := dk_28 (dk_at dksX7_laysLevel_5 12 rfl rfl)
theorem dX7_laysLevel_131 : decode cX7_laysLevel 131 = .ok (.iaload, 1) := dk_46 (dk_at dksX7_laysLevel_5 13 rfl rfl)
theorem dX7_laysLevel_132 : decode cX7_laysLevel 132 = .ok (.istore_n 2, 1) := dk_61 (dk_at dksX7_laysLevel_5 14 rfl rfl)
theorem dX7_laysLevel_133 : decode cX7_laysLevel 133 = .ok (.goto (-34), 3) := dk_167 255 222 (dk_at dksX7_laysLevel_5 15 rfl rfl)
theorem dX7_laysLevel_136 : decode cX7_laysLevel 136 = .ok (.aload_n 0, 1) := dk_42 (dk_at dksX7_laysLevel_5 18 rfl rfl)
theorem dX7_laysLevel_137 : decode cX7_laysLevel 137 = .ok (.invokevirtual 271, 3) := dk_182 1 15 (dk_at dksX7_laysLevel_5 19 rfl rfl)
theorem dX7_laysLevel_140 : decode cX7_laysLevel 140 = .ok (.return_, 1) := dk_177 (dk_at dksX7_laysLevel_5 22 rfl rfl)
abbrev cX7_shares : ByteArray := prog_20_method_68_code
def yX7_shares : MethodName := ⟨RX7, "shares", "()J"⟩
def dkwX7_shares_1 : List UInt8 := [167, 255, 237, 31, 173]
abbrev dktX7_shares_1 : List UInt8 := dkwX7_shares_1 ++ []
def dkwX7_shares_0 : List UInt8 := [9, 64, 3, 62, 29, 42, 182, 0, 59, 162, 0, 17, 31, 42, 29, 182, 1, 2, 97, 64, 132, 3, 1]
abbrev dktX7_shares_0 : List UInt8 := dkwX7_shares_0 ++ dktX7_shares_1
theorem dksX7_shares_0 : cX7_shares.data.toList.drop 0 = dktX7_shares_0 := by decide +kernel
theorem dksX7_shares_1 : cX7_shares.data.toList.drop 23 = dktX7_shares_1 := dk_seg dksX7_shares_0 23 rfl rfl
theorem dX7_shares_0 : decode cX7_shares 0 = .ok (.lconst 0, 1) := dk_9 (dk_at dksX7_shares_0 0 rfl rfl)
theorem dX7_shares_1 : decode cX7_shares 1 = .ok (.lstore_n 1, 1) := dk_64 (dk_at dksX7_shares_0 1 rfl rfl)
theorem dX7_shares_2 : decode cX7_shares 2 = .ok (.iconst 0, 1) := dk_3 (dk_at dksX7_shares_0 2 rfl rfl)
theorem dX7_shares_3 : decode cX7_shares 3 = .ok (.istore_n 3, 1) := dk_62 (dk_at dksX7_shares_0 3 rfl rfl)
theorem dX7_shares_4 : decode cX7_shares 4 = .ok (.iload_n 3, 1) := dk_29 (dk_at dksX7_shares_0 4 rfl rfl)
theorem dX7_shares_5 : decode cX7_shares 5 = .ok (.aload_n 0, 1) := dk_42 (dk_at dksX7_shares_0 5 rfl rfl)
theorem dX7_shares_6 : decode cX7_shares 6 = .ok (.invokevirtual 59, 3) := dk_182 0 59 (dk_at dksX7_shares_0 6 rfl rfl)
theorem dX7_shares_9 : decode cX7_shares 9 = .ok (.if_icmp .ge 17, 3) := dk_162 0 17 (dk_at dksX7_shares_0 9 rfl rfl)
theorem dX7_shares_12 : decode cX7_shares 12 = .ok (.lload_n 1, 1) := dk_31 (dk_at dksX7_shares_0 12 rfl rfl)
theorem dX7_shares_13 : decode cX7_shares 13 = .ok (.aload_n 0, 1) := dk_42 (dk_at dksX7_shares_0 13 rfl rfl)
theorem dX7_shares_14 : decode cX7_shares 14 = .ok (.iload_n 3, 1) := dk_29 (dk_at dksX7_shares_0 14 rfl rfl)
theorem dX7_shares_15 : decode cX7_shares 15 = .ok (.invokevirtual 258, 3) := dk_182 1 2 (dk_at dksX7_shares_0 15 rfl rfl)
theorem dX7_shares_18 : decode cX7_shares 18 = .ok (.ladd, 1) := dk_97 (dk_at dksX7_shares_0 18 rfl rfl)
theorem dX7_shares_19 : decode cX7_shares 19 = .ok (.lstore_n 1, 1) := dk_64 (dk_at dksX7_shares_0 19 rfl rfl)
theorem dX7_shares_20 : decode cX7_shares 20 = .ok (.iinc 3 1, 3) := dk_132 3 1 (dk_at dksX7_shares_0 20 rfl rfl)
theorem dX7_shares_23 : decode cX7_shares 23 = .ok (.goto (-19), 3) := dk_167 255 237 (dk_at dksX7_shares_1 0 rfl rfl)
theorem dX7_shares_26 : decode cX7_shares 26 = .ok (.lload_n 1, 1) := dk_31 (dk_at dksX7_shares_1 3 rfl rfl)
theorem dX7_shares_27 : decode cX7_shares 27 = .ok (.lreturn, 1) := dk_173 (dk_at dksX7_shares_1 4 rfl rfl)
abbrev cX7_share : ByteArray := prog_20_method_67_code
def yX7_share : MethodName := ⟨RX7, "share", "(I)J"⟩
def dkwX7_share_0 : List UInt8 := [17, 19, 176, 42, 27, 182, 0, 241, 108, 133, 173]
abbrev dktX7_share_0 : List UInt8 := dkwX7_share_0 ++ []
theorem dksX7_share_0 : cX7_share.data.toList.drop 0 = dktX7_share_0 := by decide +kernel
theorem dX7_share_0 : decode cX7_share 0 = .ok (.sipush 5040, 3) := dk_17 19 176 (dk_at dksX7_share_0 0 rfl rfl)
theorem dX7_share_3 : decode cX7_share 3 = .ok (.aload_n 0, 1) := dk_42 (dk_at dksX7_share_0 3 rfl rfl)
theorem dX7_share_4 : decode cX7_share 4 = .ok (.iload_n 1, 1) := dk_27 (dk_at dksX7_share_0 4 rfl rfl)
theorem dX7_share_5 : decode cX7_share 5 = .ok (.invokevirtual 241, 3) := dk_182 0 241 (dk_at dksX7_share_0 5 rfl rfl)
theorem dX7_share_8 : decode cX7_share 8 = .ok (.idiv, 1) := dk_108 (dk_at dksX7_share_0 8 rfl rfl)
theorem dX7_share_9 : decode cX7_share 9 = .ok (.i2l, 1) := dk_133 (dk_at dksX7_share_0 9 rfl rfl)
theorem dX7_share_10 : decode cX7_share 10 = .ok (.lreturn, 1) := dk_173 (dk_at dksX7_share_0 10 rfl rfl)
abbrev cX7_leftOver : ByteArray := prog_20_method_69_code
def yX7_leftOver : MethodName := ⟨RX7, "leftOve\x72", "()J"⟩
def dkwX7_leftOver_1 : List UInt8 := [182, 1, 2, 105, 97, 64, 132, 3, 1, 167, 255, 229, 31, 173]
abbrev dktX7_leftOver_1 : List UInt8 := dkwX7_leftOver_1 ++ []
def dkwX7_leftOver_0 : List UInt8 := [9, 64, 3, 62, 29, 42, 182, 0, 59, 162, 0, 25, 31, 42, 29, 4, 182, 0, 244, 133, 42, 29]
abbrev dktX7_leftOver_0 : List UInt8 := dkwX7_leftOver_0 ++ dktX7_leftOver_1
theorem dksX7_leftOver_0 : cX7_leftOver.data.toList.drop 0 = dktX7_leftOver_0 := by decide +kernel
theorem dksX7_leftOver_1 : cX7_leftOver.data.toList.drop 22 = dktX7_leftOver_1 := dk_seg dksX7_leftOver_0 22 rfl rfl
theorem dX7_leftOver_0 : decode cX7_leftOver 0 = .ok (.lconst 0, 1) := dk_9 (dk_at dksX7_leftOver_0 0 rfl rfl)
theorem dX7_leftOver_1 : decode cX7_leftOver 1 = .ok (.lstore_n 1, 1) := dk_64 (dk_at dksX7_leftOver_0 1 rfl rfl)
theorem dX7_leftOver_2 : decode cX7_leftOver 2 = .ok (.iconst 0, 1) := dk_3 (dk_at dksX7_leftOver_0 2 rfl rfl)
theorem dX7_leftOver_3 : decode cX7_leftOver 3 = .ok (.istore_n 3, 1) := dk_62 (dk_at dksX7_leftOver_0 3 rfl rfl)
theorem dX7_leftOver_4 : decode cX7_leftOver 4 = .ok (.iload_n 3, 1) := dk_29 (dk_at dksX7_leftOver_0 4 rfl rfl)
theorem dX7_leftOver_5 : decode cX7_leftOver 5 = .ok (.aload_n 0, 1) := dk_42 (dk_at dksX7_leftOver_0 5 rfl rfl)
theorem dX7_leftOver_6 : decode cX7_leftOver 6 = .ok (.invokevirtual 59, 3) := dk_182 0 59 (dk_at dksX7_leftOver_0 6 rfl rfl)
theorem dX7_leftOver_9 : decode cX7_leftOver 9 = .ok (.if_icmp .ge 25, 3) := dk_162 0 25 (dk_at dksX7_leftOver_0 9 rfl rfl)
theorem dX7_leftOver_12 : decode cX7_leftOver 12 = .ok (.lload_n 1, 1) := dk_31 (dk_at dksX7_leftOver_0 12 rfl rfl)
theorem dX7_leftOver_13 : decode cX7_leftOver 13 = .ok (.aload_n 0, 1) := dk_42 (dk_at dksX7_leftOver_0 13 rfl rfl)
theorem dX7_leftOver_14 : decode cX7_leftOver 14 = .ok (.iload_n 3, 1) := dk_29 (dk_at dksX7_leftOver_0 14 rfl rfl)
theorem dX7_leftOver_15 : decode cX7_leftOver 15 = .ok (.iconst 1, 1) := dk_4 (dk_at dksX7_leftOver_0 15 rfl rfl)
theorem dX7_leftOver_16 : decode cX7_leftOver 16 = .ok (.invokevirtual 244, 3) := dk_182 0 244 (dk_at dksX7_leftOver_0 16 rfl rfl)
theorem dX7_leftOver_19 : decode cX7_leftOver 19 = .ok (.i2l, 1) := dk_133 (dk_at dksX7_leftOver_0 19 rfl rfl)
theorem dX7_leftOver_20 : decode cX7_leftOver 20 = .ok (.aload_n 0, 1) := dk_42 (dk_at dksX7_leftOver_0 20 rfl rfl)
theorem dX7_leftOver_21 : decode cX7_leftOver 21 = .ok (.iload_n 3, 1) := dk_29 (dk_at dksX7_leftOver_0 21 rfl rfl)
theorem dX7_leftOver_22 : decode cX7_leftOver 22 = .ok (.invokevirtual 258, 3) := dk_182 1 2 (dk_at dksX7_leftOver_1 0 rfl rfl)
theorem dX7_leftOver_25 : decode cX7_leftOver 25 = .ok (.lmul, 1) := dk_105 (dk_at dksX7_leftOver_1 3 rfl rfl)
theorem dX7_leftOver_26 : decode cX7_leftOver 26 = .ok (.ladd, 1) := dk_97 (dk_at dksX7_leftOver_1 4 rfl rfl)
theorem dX7_leftOver_27 : decode cX7_leftOver 27 = .ok (.lstore_n 1, 1) := dk_64 (dk_at dksX7_leftOver_1 5 rfl rfl)
theorem dX7_leftOver_28 : decode cX7_leftOver 28 = .ok (.iinc 3 1, 3) := dk_132 3 1 (dk_at dksX7_leftOver_1 6 rfl rfl)
theorem dX7_leftOver_31 : decode cX7_leftOver 31 = .ok (.goto (-27), 3) := dk_167 255 229 (dk_at dksX7_leftOver_1 9 rfl rfl)
theorem dX7_leftOver_34 : decode cX7_leftOver 34 = .ok (.lload_n 1, 1) := dk_31 (dk_at dksX7_leftOver_1 12 rfl rfl)
theorem dX7_leftOver_35 : decode cX7_leftOver 35 = .ok (.lreturn, 1) := dk_173 (dk_at dksX7_leftOver_1 13 rfl rfl)
abbrev cX7_lowest : ByteArray := prog_20_method_66_code
def yX7_lowest : MethodName := ⟨RX7, "lowest", "()V"⟩
def dkwX7_lowest_2 : List UInt8 := [89, 180, 0, 251, 31, 109, 181, 0, 251, 42, 89, 180, 0, 255, 31, 109, 181, 0, 255, 177]
abbrev dktX7_lowest_2 : List UInt8 := dkwX7_lowest_2 ++ []
def dkwX7_lowest_1 : List UInt8 := [180, 0, 255, 66, 33, 9, 148, 153, 0, 16, 31, 33, 113, 55, 5, 33, 64, 22, 5, 66, 167, 255, 240, 42]
abbrev dktX7_lowest_1 : List UInt8 := dkwX7_lowest_1 ++ dktX7_lowest_2
def dkwX7_lowest_0 : List UInt8 := [42, 180, 0, 251, 9, 148, 156, 0, 11, 42, 180, 0, 251, 117, 167, 0, 7, 42, 180, 0, 251, 64, 42]
abbrev dktX7_lowest_0 : List UInt8 := dkwX7_lowest_0 ++ dktX7_lowest_1
theorem dksX7_lowest_0 : cX7_lowest.data.toList.drop 0 = dktX7_lowest_0 := by decide +kernel
theorem dksX7_lowest_1 : cX7_lowest.data.toList.drop 23 = dktX7_lowest_1 := dk_seg dksX7_lowest_0 23 rfl rfl
theorem dksX7_lowest_2 : cX7_lowest.data.toList.drop 47 = dktX7_lowest_2 := dk_seg dksX7_lowest_1 24 rfl rfl
theorem dX7_lowest_0 : decode cX7_lowest 0 = .ok (.aload_n 0, 1) := dk_42 (dk_at dksX7_lowest_0 0 rfl rfl)
theorem dX7_lowest_1 : decode cX7_lowest 1 = .ok (.getfield 251, 3) := dk_180 0 251 (dk_at dksX7_lowest_0 1 rfl rfl)
theorem dX7_lowest_4 : decode cX7_lowest 4 = .ok (.lconst 0, 1) := dk_9 (dk_at dksX7_lowest_0 4 rfl rfl)
theorem dX7_lowest_5 : decode cX7_lowest 5 = .ok (.lcmp, 1) := dk_148 (dk_at dksX7_lowest_0 5 rfl rfl)
theorem dX7_lowest_6 : decode cX7_lowest 6 = .ok (.ifCond .ge 11, 3) := dk_156 0 11 (dk_at dksX7_lowest_0 6 rfl rfl)
theorem dX7_lowest_9 : decode cX7_lowest 9 = .ok (.aload_n 0, 1) := dk_42 (dk_at dksX7_lowest_0 9 rfl rfl)
theorem dX7_lowest_10 : decode cX7_lowest 10 = .ok (.getfield 251, 3) := dk_180 0 251 (dk_at dksX7_lowest_0 10 rfl rfl)
theorem dX7_lowest_13 : decode cX7_lowest 13 = .ok (.lneg, 1) := dk_117 (dk_at dksX7_lowest_0 13 rfl rfl)
theorem dX7_lowest_14 : decode cX7_lowest 14 = .ok (.goto 7, 3) := dk_167 0 7 (dk_at dksX7_lowest_0 14 rfl rfl)
theorem dX7_lowest_17 : decode cX7_lowest 17 = .ok (.aload_n 0, 1) := dk_42 (dk_at dksX7_lowest_0 17 rfl rfl)
theorem dX7_lowest_18 : decode cX7_lowest 18 = .ok (.getfield 251, 3) := dk_180 0 251 (dk_at dksX7_lowest_0 18 rfl rfl)
theorem dX7_lowest_21 : decode cX7_lowest 21 = .ok (.lstore_n 1, 1) := dk_64 (dk_at dksX7_lowest_0 21 rfl rfl)
theorem dX7_lowest_22 : decode cX7_lowest 22 = .ok (.aload_n 0, 1) := dk_42 (dk_at dksX7_lowest_0 22 rfl rfl)
theorem dX7_lowest_23 : decode cX7_lowest 23 = .ok (.getfield 255, 3) := dk_180 0 255 (dk_at dksX7_lowest_1 0 rfl rfl)
theorem dX7_lowest_26 : decode cX7_lowest 26 = .ok (.lstore_n 3, 1) := dk_66 (dk_at dksX7_lowest_1 3 rfl rfl)
theorem dX7_lowest_27 : decode cX7_lowest 27 = .ok (.lload_n 3, 1) := dk_33 (dk_at dksX7_lowest_1 4 rfl rfl)
theorem dX7_lowest_28 : decode cX7_lowest 28 = .ok (.lconst 0, 1) := dk_9 (dk_at dksX7_lowest_1 5 rfl rfl)
theorem dX7_lowest_29 : decode cX7_lowest 29 = .ok (.lcmp, 1) := dk_148 (dk_at dksX7_lowest_1 6 rfl rfl)
theorem dX7_lowest_30 : decode cX7_lowest 30 = .ok (.ifCond .eq 16, 3) := dk_153 0 16 (dk_at dksX7_lowest_1 7 rfl rfl)
theorem dX7_lowest_33 : decode cX7_lowest 33 = .ok (.lload_n 1, 1) := dk_31 (dk_at dksX7_lowest_1 10 rfl rfl)
theorem dX7_lowest_34 : decode cX7_lowest 34 = .ok (.lload_n 3, 1) := dk_33 (dk_at dksX7_lowest_1 11 rfl rfl)
theorem dX7_lowest_35 : decode cX7_lowest 35 = .ok (.lrem, 1) := dk_113 (dk_at dksX7_lowest_1 12 rfl rfl)
theorem dX7_lowest_36 : decode cX7_lowest 36 = .ok (.lstore 5, 2) := dk_55 5 (dk_at dksX7_lowest_1 13 rfl rfl)
theorem dX7_lowest_38 : decode cX7_lowest 38 = .ok (.lload_n 3, 1) := dk_33 (dk_at dksX7_lowest_1 15 rfl rfl)
theorem dX7_lowest_39 : decode cX7_lowest 39 = .ok (.lstore_n 1, 1) := dk_64 (dk_at dksX7_lowest_1 16 rfl rfl)
theorem dX7_lowest_40 : decode cX7_lowest 40 = .ok (.lload 5, 2) := dk_22 5 (dk_at dksX7_lowest_1 17 rfl rfl)
theorem dX7_lowest_42 : decode cX7_lowest 42 = .ok (.lstore_n 3, 1) := dk_66 (dk_at dksX7_lowest_1 19 rfl rfl)
theorem dX7_lowest_43 : decode cX7_lowest 43 = .ok (.goto (-16), 3) := dk_167 255 240 (dk_at dksX7_lowest_1 20 rfl rfl)
theorem dX7_lowest_46 : decode cX7_lowest 46 = .ok (.aload_n 0, 1) := dk_42 (dk_at dksX7_lowest_1 23 rfl rfl)
theorem dX7_lowest_47 : decode cX7_lowest 47 = .ok (.dup, 1) := dk_89 (dk_at dksX7_lowest_2 0 rfl rfl)
theorem dX7_lowest_48 : decode cX7_lowest 48 = .ok (.getfield 251, 3) := dk_180 0 251 (dk_at dksX7_lowest_2 1 rfl rfl)
theorem dX7_lowest_51 : decode cX7_lowest 51 = .ok (.lload_n 1, 1) := dk_31 (dk_at dksX7_lowest_2 4 rfl rfl)
theorem dX7_lowest_52 : decode cX7_lowest 52 = .ok (.ldiv, 1) := dk_109 (dk_at dksX7_lowest_2 5 rfl rfl)
theorem dX7_lowest_53 : decode cX7_lowest 53 = .ok (.putfield 251, 3) := dk_181 0 251 (dk_at dksX7_lowest_2 6 rfl rfl)
theorem dX7_lowest_56 : decode cX7_lowest 56 = .ok (.aload_n 0, 1) := dk_42 (dk_at dksX7_lowest_2 9 rfl rfl)
theorem dX7_lowest_57 : decode cX7_lowest 57 = .ok (.dup, 1) := dk_89 (dk_at dksX7_lowest_2 10 rfl rfl)
theorem dX7_lowest_58 : decode cX7_lowest 58 = .ok (.getfield 255, 3) := dk_180 0 255 (dk_at dksX7_lowest_2 11 rfl rfl)
theorem dX7_lowest_61 : decode cX7_lowest 61 = .ok (.lload_n 1, 1) := dk_31 (dk_at dksX7_lowest_2 14 rfl rfl)
theorem dX7_lowest_62 : decode cX7_lowest 62 = .ok (.ldiv, 1) := dk_109 (dk_at dksX7_lowest_2 15 rfl rfl)
theorem dX7_lowest_63 : decode cX7_lowest 63 = .ok (.putfield 255, 3) := dk_181 0 255 (dk_at dksX7_lowest_2 16 rfl rfl)
theorem dX7_lowest_66 : decode cX7_lowest 66 = .ok (.return_, 1) := dk_177 (dk_at dksX7_lowest_2 19 rfl rfl)
abbrev cX7_rest : ByteArray := prog_20_method_72_code
def yX7_rest : MethodName := ⟨RX7, "rest", "(I)J"⟩
def dkwX7_rest_3 : List UInt8 := [42, 180, 0, 251, 167, 0, 7, 42, 180, 0, 255, 173]
abbrev dktX7_rest_3 : List UInt8 := dkwX7_rest_3 ++ []
def dkwX7_rest_2 : List UInt8 := [105, 181, 0, 251, 42, 20, 1, 6, 42, 182, 1, 8, 105, 181, 0, 255, 42, 182, 1, 15, 27, 154, 0, 10]
abbrev dktX7_rest_2 : List UInt8 := dkwX7_rest_2 ++ dktX7_rest_3
def dkwX7_rest_1 : List UInt8 := [181, 0, 251, 42, 10, 181, 0, 255, 42, 182, 0, 214, 153, 0, 32, 42, 42, 182, 1, 12, 42, 182, 1, 12]
abbrev dktX7_rest_1 : List UInt8 := dkwX7_rest_1 ++ dktX7_rest_2
def dkwX7_rest_0 : List UInt8 := [27, 133, 9, 10, 184, 0, 63, 154, 0, 11, 42, 16, 254, 182, 0, 91, 133, 173, 42, 182, 0, 196, 42, 9]
abbrev dktX7_rest_0 : List UInt8 := dkwX7_rest_0 ++ dktX7_rest_1
theorem dksX7_rest_0 : cX7_rest.data.toList.drop 0 = dktX7_rest_0 := by decide +kernel
theorem dksX7_rest_1 : cX7_rest.data.toList.drop 24 = dktX7_rest_1 := dk_seg dksX7_rest_0 24 rfl rfl
theorem dksX7_rest_2 : cX7_rest.data.toList.drop 48 = dktX7_rest_2 := dk_seg dksX7_rest_1 24 rfl rfl
theorem dksX7_rest_3 : cX7_rest.data.toList.drop 72 = dktX7_rest_3 := dk_seg dksX7_rest_2 24 rfl rfl
theorem dX7_rest_0 : decode cX7_rest 0 = .ok (.iload_n 1, 1) := dk_27 (dk_at dksX7_rest_0 0 rfl rfl)
theorem dX7_rest_1 : decode cX7_rest 1 = .ok (.i2l, 1) := dk_133 (dk_at dksX7_rest_0 1 rfl rfl)
theorem dX7_rest_2 : decode cX7_rest 2 = .ok (.lconst 0, 1) := dk_9 (dk_at dksX7_rest_0 2 rfl rfl)
theorem dX7_rest_3 : decode cX7_rest 3 = .ok (.lconst 1, 1) := dk_10 (dk_at dksX7_rest_0 3 rfl rfl)
theorem dX7_rest_4 : decode cX7_rest 4 = .ok (.invokestatic 63, 3) := dk_184 0 63 (dk_at dksX7_rest_0 4 rfl rfl)
theorem dX7_rest_7 : decode cX7_rest 7 = .ok (.ifCond .ne 11, 3) := dk_154 0 11 (dk_at dksX7_rest_0 7 rfl rfl)
theorem dX7_rest_10 : decode cX7_rest 10 = .ok (.aload_n 0, 1) := dk_42 (dk_at dksX7_rest_0 10 rfl rfl)
theorem dX7_rest_11 : decode cX7_rest 11 = .ok (.bipush (-2), 2) := dk_16 254 (dk_at dksX7_rest_0 11 rfl rfl)
theorem dX7_rest_13 : decode cX7_rest 13 = .ok (.invokevirtual 91, 3) := dk_182 0 91 (dk_at dksX7_rest_0 13 rfl rfl)
theorem dX7_rest_16 : decode cX7_rest 16 = .ok (.i2l, 1) := dk_133 (dk_at dksX7_rest_0 16 rfl rfl)
theorem dX7_rest_17 : decode cX7_rest 17 = .ok (.lreturn, 1) := dk_173 (dk_at dksX7_rest_0 17 rfl rfl)
theorem dX7_rest_18 : decode cX7_rest 18 = .ok (.aload_n 0, 1) := dk_42 (dk_at dksX7_rest_0 18 rfl rfl)
theorem dX7_rest_19 : decode cX7_rest 19 = .ok (.invokevirtual 196, 3) := dk_182 0 196 (dk_at dksX7_rest_0 19 rfl rfl)
theorem dX7_rest_22 : decode cX7_rest 22 = .ok (.aload_n 0, 1) := dk_42 (dk_at dksX7_rest_0 22 rfl rfl)
theorem dX7_rest_23 : decode cX7_rest 23 = .ok (.lconst 0, 1) := dk_9 (dk_at dksX7_rest_0 23 rfl rfl)
theorem dX7_rest_24 : decode cX7_rest 24 = .ok (.putfield 251, 3) := dk_181 0 251 (dk_at dksX7_rest_1 0 rfl rfl)
theorem dX7_rest_27 : decode cX7_rest 27 = .ok (.aload_n 0, 1) := dk_42 (dk_at dksX7_rest_1 3 rfl rfl)
theorem dX7_rest_28 : decode cX7_rest 28 = .ok (.lconst 1, 1) := dk_10 (dk_at dksX7_rest_1 4 rfl rfl)
theorem dX7_rest_29 : decode cX7_rest 29 = .ok (.putfield 255, 3) := dk_181 0 255 (dk_at dksX7_rest_1 5 rfl rfl)
theorem dX7_rest_32 : decode cX7_rest 32 = .ok (.aload_n 0, 1) := dk_42 (dk_at dksX7_rest_1 8 rfl rfl)
theorem dX7_rest_33 : decode cX7_rest 33 = .ok (.invokevirtual 214, 3) := dk_182 0 214 (dk_at dksX7_rest_1 9 rfl rfl)
theorem dX7_rest_36 : decode cX7_rest 36 = .ok (.ifCond .eq 32, 3) := dk_153 0 32 (dk_at dksX7_rest_1 12 rfl rfl)
theorem dX7_rest_39 : decode cX7_rest 39 = .ok (.aload_n 0, 1) := dk_42 (dk_at dksX7_rest_1 15 rfl rfl)
theorem dX7_rest_40 : decode cX7_rest 40 = .ok (.aload_n 0, 1) := dk_42 (dk_at dksX7_rest_1 16 rfl rfl)
theorem dX7_rest_41 : decode cX7_rest 41 = .ok (.invokevirtual 268, 3) := dk_182 1 12 (dk_at dksX7_rest_1 17 rfl rfl)
theorem dX7_rest_44 : decode cX7_rest 44 = .ok (.aload_n 0, 1) := dk_42 (dk_at dksX7_rest_1 20 rfl rfl)
theorem dX7_rest_45 : decode cX7_rest 45 = .ok (.invokevirtual 268, 3) := dk_182 1 12 (dk_at dksX7_rest_1 21 rfl rfl)
theorem dX7_rest_48 : decode cX7_rest 48 = .ok (.lmul, 1) := dk_105 (dk_at dksX7_rest_2 0 rfl rfl)
theorem dX7_rest_49 : decode cX7_rest 49 = .ok (.putfield 251, 3) := dk_181 0 251 (dk_at dksX7_rest_2 1 rfl rfl)
theorem dX7_rest_52 : decode cX7_rest 52 = .ok (.aload_n 0, 1) := dk_42 (dk_at dksX7_rest_2 4 rfl rfl)
theorem dX7_rest_53 : decode cX7_rest 53 = .ok (.ldc2_w 262, 3) := dk_20 1 6 (dk_at dksX7_rest_2 5 rfl rfl)
theorem dX7_rest_56 : decode cX7_rest 56 = .ok (.aload_n 0, 1) := dk_42 (dk_at dksX7_rest_2 8 rfl rfl)
theorem dX7_rest_57 : decode cX7_rest 57 = .ok (.invokevirtual 264, 3) := dk_182 1 8 (dk_at dksX7_rest_2 9 rfl rfl)
theorem dX7_rest_60 : decode cX7_rest 60 = .ok (.lmul, 1) := dk_105 (dk_at dksX7_rest_2 12 rfl rfl)
theorem dX7_rest_61 : decode cX7_rest 61 = .ok (.putfield 255, 3) := dk_181 0 255 (dk_at dksX7_rest_2 13 rfl rfl)
theorem dX7_rest_64 : decode cX7_rest 64 = .ok (.aload_n 0, 1) := dk_42 (dk_at dksX7_rest_2 16 rfl rfl)
theorem dX7_rest_65 : decode cX7_rest 65 = .ok (.invokevirtual 271, 3) := dk_182 1 15 (dk_at dksX7_rest_2 17 rfl rfl)
theorem dX7_rest_68 : decode cX7_rest 68 = .ok (.iload_n 1, 1) := dk_27 (dk_at dksX7_rest_2 20 rfl rfl)
theorem dX7_rest_69 : decode cX7_rest 69 = .ok (.ifCond .ne 10, 3) := dk_154 0 10 (dk_at dksX7_rest_2 21 rfl rfl)
theorem dX7_rest_72 : decode cX7_rest 72 = .ok (.aload_n 0, 1) := dk_42 (dk_at dksX7_rest_3 0 rfl rfl)
theorem dX7_rest_73 : decode cX7_rest 73 = .ok (.getfield 251, 3) := dk_180 0 251 (dk_at dksX7_rest_3 1 rfl rfl)
theorem dX7_rest_76 : decode cX7_rest 76 = .ok (.goto 7, 3) := dk_167 0 7 (dk_at dksX7_rest_3 4 rfl rfl)
theorem dX7_rest_79 : decode cX7_rest 79 = .ok (.aload_n 0, 1) := dk_42 (dk_at dksX7_rest_3 7 rfl rfl)
theorem dX7_rest_80 : decode cX7_rest 80 = .ok (.getfield 255, 3) := dk_180 0 255 (dk_at dksX7_rest_3 8 rfl rfl)
theorem dX7_rest_83 : decode cX7_rest 83 = .ok (.lreturn, 1) := dk_173 (dk_at dksX7_rest_3 11 rfl rfl)
abbrev cX7_shows : ByteArray := prog_20_method_73_code
def yX7_shows : MethodName := ⟨RX7, "shows", "(II)I"⟩
def dkwX7_shows_6 : List UInt8 := [21, 7, 120, 128, 54, 6, 132, 7, 1, 167, 255, 237, 21, 6, 172]
abbrev dktX7_shows_6 : List UInt8 := dkwX7_shows_6 ++ []
def dkwX7_shows_5 : List UInt8 := [42, 180, 0, 47, 28, 46, 54, 4, 3, 54, 6, 29, 54, 7, 21, 7, 21, 4, 162, 0, 18, 21, 6, 4]
abbrev dktX7_shows_5 : List UInt8 := dkwX7_shows_5 ++ dktX7_shows_6
def dkwX7_shows_4 : List UInt8 := [42, 180, 0, 38, 27, 46, 2, 159, 0, 25, 42, 27, 28, 182, 0, 228, 153, 0, 16, 42, 27, 182, 0, 237]
abbrev dktX7_shows_4 : List UInt8 := dkwX7_shows_4 ++ dktX7_shows_5
def dkwX7_shows_3 : List UInt8 := [182, 0, 237, 42, 180, 0, 47, 28, 42, 21, 5, 182, 0, 202, 96, 46, 42, 21, 5, 182, 0, 205, 100, 62]
abbrev dktX7_shows_3 : List UInt8 := dkwX7_shows_3 ++ dktX7_shows_4
def dkwX7_shows_2 : List UInt8 := [2, 159, 0, 47, 42, 21, 5, 28, 42, 21, 5, 182, 0, 202, 96, 182, 0, 228, 153, 0, 30, 42, 21, 5]
abbrev dktX7_shows_2 : List UInt8 := dkwX7_shows_2 ++ dktX7_shows_3
def dkwX7_shows_1 : List UInt8 := [182, 0, 91, 172, 42, 182, 0, 196, 3, 62, 16, 8, 54, 4, 42, 180, 0, 41, 27, 46, 54, 5, 21, 5]
abbrev dktX7_shows_1 : List UInt8 := dkwX7_shows_1 ++ dktX7_shows_2
def dkwX7_shows_0 : List UInt8 := [42, 27, 182, 0, 128, 153, 0, 15, 28, 133, 9, 20, 0, 67, 184, 0, 63, 154, 0, 10, 42, 16, 254]
abbrev dktX7_shows_0 : List UInt8 := dkwX7_shows_0 ++ dktX7_shows_1
theorem dksX7_shows_0 : cX7_shows.data.toList.drop 0 = dktX7_shows_0 := by decide +kernel
theorem dksX7_shows_1 : cX7_shows.data.toList.drop 23 = dktX7_shows_1 := dk_seg dksX7_shows_0 23 rfl rfl
theorem dksX7_shows_2 : cX7_shows.data.toList.drop 47 = dktX7_shows_2 := dk_seg dksX7_shows_1 24 rfl rfl
theorem dksX7_shows_3 : cX7_shows.data.toList.drop 71 = dktX7_shows_3 := dk_seg dksX7_shows_2 24 rfl rfl
theorem dksX7_shows_4 : cX7_shows.data.toList.drop 95 = dktX7_shows_4 := dk_seg dksX7_shows_3 24 rfl rfl
theorem dksX7_shows_5 : cX7_shows.data.toList.drop 119 = dktX7_shows_5 := dk_seg dksX7_shows_4 24 rfl rfl
theorem dksX7_shows_6 : cX7_shows.data.toList.drop 143 = dktX7_shows_6 := dk_seg dksX7_shows_5 24 rfl rfl
theorem dX7_shows_0 : decode cX7_shows 0 = .ok (.aload_n 0, 1) := dk_42 (dk_at dksX7_shows_0 0 rfl rfl)
theorem dX7_shows_1 : decode cX7_shows 1 = .ok (.iload_n 1, 1) := dk_27 (dk_at dksX7_shows_0 1 rfl rfl)
theorem dX7_shows_2 : decode cX7_shows 2 = .ok (.invokevirtual 128, 3) := dk_182 0 128 (dk_at dksX7_shows_0 2 rfl rfl)
theorem dX7_shows_5 : decode cX7_shows 5 = .ok (.ifCond .eq 15, 3) := dk_153 0 15 (dk_at dksX7_shows_0 5 rfl rfl)
theorem dX7_shows_8 : decode cX7_shows 8 = .ok (.iload_n 2, 1) := dk_28 (dk_at dksX7_shows_0 8 rfl rfl)
theorem dX7_shows_9 : decode cX7_shows 9 = .ok (.i2l, 1) := dk_133 (dk_at dksX7_shows_0 9 rfl rfl)
theorem dX7_shows_10 : decode cX7_shows 10 = .ok (.lconst 0, 1) := dk_9 (dk_at dksX7_shows_0 10 rfl rfl)
theorem dX7_shows_11 : decode cX7_shows 11 = .ok (.ldc2_w 67, 3) := dk_20 0 67 (dk_at dksX7_shows_0 11 rfl rfl)
theorem dX7_shows_14 : decode cX7_shows 14 = .ok (.invokestatic 63, 3) := dk_184 0 63 (dk_at dksX7_shows_0 14 rfl rfl)
theorem dX7_shows_17 : decode cX7_shows 17 = .ok (.ifCond .ne 10, 3) := dk_154 0 10 (dk_at dksX7_shows_0 17 rfl rfl)
theorem dX7_shows_20 : decode cX7_shows 20 = .ok (.aload_n 0, 1) := dk_42 (dk_at dksX7_shows_0 20 rfl rfl)
theorem dX7_shows_21 : decode cX7_shows 21 = .ok (.bipush (-2), 2) := dk_16 254 (dk_at dksX7_shows_0 21 rfl rfl)
theorem dX7_shows_23 : decode cX7_shows 23 = .ok (.invokevirtual 91, 3) := dk_182 0 91 (dk_at dksX7_shows_1 0 rfl rfl)
theorem dX7_shows_26 : decode cX7_shows 26 = .ok (.ireturn, 1) := dk_172 (dk_at dksX7_shows_1 3 rfl rfl)
theorem dX7_shows_27 : decode cX7_shows 27 = .ok (.aload_n 0, 1) := dk_42 (dk_at dksX7_shows_1 4 rfl rfl)
theorem dX7_shows_28 : decode cX7_shows 28 = .ok (.invokevirtual 196, 3) := dk_182 0 196 (dk_at dksX7_shows_1 5 rfl rfl)
theorem dX7_shows_31 : decode cX7_shows 31 = .ok (.iconst 0, 1) := dk_3 (dk_at dksX7_shows_1 8 rfl rfl)
theorem dX7_shows_32 : decode cX7_shows 32 = .ok (.istore_n 3, 1) := dk_62 (dk_at dksX7_shows_1 9 rfl rfl)
theorem dX7_shows_33 : decode cX7_shows 33 = .ok (.bipush 8, 2) := dk_16 8 (dk_at dksX7_shows_1 10 rfl rfl)
theorem dX7_shows_35 : decode cX7_shows 35 = .ok (.istore 4, 2) := dk_54 4 (dk_at dksX7_shows_1 12 rfl rfl)
theorem dX7_shows_37 : decode cX7_shows 37 = .ok (.aload_n 0, 1) := dk_42 (dk_at dksX7_shows_1 14 rfl rfl)
theorem dX7_shows_38 : decode cX7_shows 38 = .ok (.getfield 41, 3) := dk_180 0 41 (dk_at dksX7_shows_1 15 rfl rfl)
theorem dX7_shows_41 : decode cX7_shows 41 = .ok (.iload_n 1, 1) := dk_27 (dk_at dksX7_shows_1 18 rfl rfl)
theorem dX7_shows_42 : decode cX7_shows 42 = .ok (.iaload, 1) := dk_46 (dk_at dksX7_shows_1 19 rfl rfl)
theorem dX7_shows_43 : decode cX7_shows 43 = .ok (.istore 5, 2) := dk_54 5 (dk_at dksX7_shows_1 20 rfl rfl)
theorem dX7_shows_45 : decode cX7_shows 45 = .ok (.iload 5, 2) := dk_21 5 (dk_at dksX7_shows_1 22 rfl rfl)
theorem dX7_shows_47 : decode cX7_shows 47 = .ok (.iconst (-1), 1) := dk_2 (dk_at dksX7_shows_2 0 rfl rfl)
theorem dX7_shows_48 : decode cX7_shows 48 = .ok (.if_icmp .eq 47, 3) := dk_159 0 47 (dk_at dksX7_shows_2 1 rfl rfl)
theorem dX7_shows_51 : decode cX7_shows 51 = .ok (.aload_n 0, 1) := dk_42 (dk_at dksX7_shows_2 4 rfl rfl)
theorem dX7_shows_52 : decode cX7_shows 52 = .ok (.iload 5, 2) := dk_21 5 (dk_at dksX7_shows_2 5 rfl rfl)
theorem dX7_shows_54 : decode cX7_shows 54 = .ok (.iload_n 2, 1) := dk_28 (dk_at dksX7_shows_2 7 rfl rfl)
theorem dX7_shows_55 : decode cX7_shows 55 = .ok (.aload_n 0, 1) := dk_42 (dk_at dksX7_shows_2 8 rfl rfl)
theorem dX7_shows_56 : decode cX7_shows 56 = .ok (.iload 5, 2) := dk_21 5 (dk_at dksX7_shows_2 9 rfl rfl)
theorem dX7_shows_58 : decode cX7_shows 58 = .ok (.invokevirtual 202, 3) := dk_182 0 202 (dk_at dksX7_shows_2 11 rfl rfl)
theorem dX7_shows_61 : decode cX7_shows 61 = .ok (.iadd, 1) := dk_96 (dk_at dksX7_shows_2 14 rfl rfl)
theorem dX7_shows_62 : decode cX7_shows 62 = .ok (.invokevirtual 228, 3) := dk_182 0 228 (dk_at dksX7_shows_2 15 rfl rfl)
theorem dX7_shows_65 : decode cX7_shows 65 = .ok (.ifCond .eq 30, 3) := dk_153 0 30 (dk_at dksX7_shows_2 18 rfl rfl)
theorem dX7_shows_68 : decode cX7_shows 68 = .ok (.aload_n 0, 1) := dk_42 (dk_at dksX7_shows_2 21 rfl rfl)
theorem dX7_shows_69 : decode cX7_shows 69 = .ok (.iload 5, 2) := dk_21 5 (dk_at dksX7_shows_2 22 rfl rfl)
theorem dX7_shows_71 : decode cX7_shows 71 = .ok (.invokevirtual 237, 3) := dk_182 0 237 (dk_at dksX7_shows_3 0 rfl rfl)
theorem dX7_shows_74 : decode cX7_shows 74 = .ok (.aload_n 0, 1) := dk_42 (dk_at dksX7_shows_3 3 rfl rfl)
theorem dX7_shows_75 : decode cX7_shows 75 = .ok (.getfield 47, 3) := dk_180 0 47 (dk_at dksX7_shows_3 4 rfl rfl)
theorem dX7_shows_78 : decode cX7_shows 78 = .ok (.iload_n 2, 1) := dk_28 (dk_at dksX7_shows_3 7 rfl rfl)
theorem dX7_shows_79 : decode cX7_shows 79 = .ok (.aload_n 0, 1) := dk_42 (dk_at dksX7_shows_3 8 rfl rfl)
theorem dX7_shows_80 : decode cX7_shows 80 = .ok (.iload 5, 2) := dk_21 5 (dk_at dksX7_shows_3 9 rfl rfl)
theorem dX7_shows_82 : decode cX7_shows 82 = .ok (.invokevirtual 202, 3) := dk_182 0 202 (dk_at dksX7_shows_3 11 rfl rfl)
theorem dX7_shows_85 : decode cX7_shows 85 = .ok (.iadd, 1) := dk_96 (dk_at dksX7_shows_3 14 rfl rfl)
theorem dX7_shows_86 : decode cX7_shows 86 = .ok (.iaload, 1) := dk_46 (dk_at dksX7_shows_3 15 rfl rfl)
theorem dX7_shows_87 : decode cX7_shows 87 = .ok (.aload_n 0, 1) := dk_42 (dk_at dksX7_shows_3 16 rfl rfl)
theorem dX7_shows_88 : decode cX7_shows 88 = .ok (.iload 5, 2) := dk_21 5 (dk_at dksX7_shows_3 17 rfl rfl)
theorem dX7_shows_90 : decode cX7_shows 90 = .ok (.invokevirtual 205, 3) := dk_182 0 205 (dk_at dksX7_shows_3 19 rfl rfl)
theorem dX7_shows_93 : decode cX7_shows 93 = .ok (.isub, 1) := dk_100 (dk_at dksX7_shows_3 22 rfl rfl)
theorem dX7_shows_94 : decode cX7_shows 94 = .ok (.istore_n 3, 1) := dk_62 (dk_at dksX7_shows_3 23 rfl rfl)
theorem dX7_shows_95 : decode cX7_shows 95 = .ok (.aload_n 0, 1) := dk_42 (dk_at dksX7_shows_4 0 rfl rfl)
theorem dX7_shows_96 : decode cX7_shows 96 = .ok (.getfield 38, 3) := dk_180 0 38 (dk_at dksX7_shows_4 1 rfl rfl)
theorem dX7_shows_99 : decode cX7_shows 99 = .ok (.iload_n 1, 1) := dk_27 (dk_at dksX7_shows_4 4 rfl rfl)
theorem dX7_shows_100 : decode cX7_shows 100 = .ok (.iaload, 1) := dk_46 (dk_at dksX7_shows_4 5 rfl rfl)
theorem dX7_shows_101 : decode cX7_shows 101 = .ok (.iconst (-1), 1) := dk_2 (dk_at dksX7_shows_4 6 rfl rfl)
theorem dX7_shows_102 : decode cX7_shows 102 = .ok (.if_icmp .eq 25, 3) := dk_159 0 25 (dk_at dksX7_shows_4 7 rfl rfl)
theorem dX7_shows_105 : decode cX7_shows 105 = .ok (.aload_n 0, 1) := dk_42 (dk_at dksX7_shows_4 10 rfl rfl)
theorem dX7_shows_106 : decode cX7_shows 106 = .ok (.iload_n 1, 1) := dk_27 (dk_at dksX7_shows_4 11 rfl rfl)
theorem dX7_shows_107 : decode cX7_shows 107 = .ok (.iload_n 2, 1) := dk_28 (dk_at dksX7_shows_4 12 rfl rfl)
theorem dX7_shows_108 : decode cX7_shows 108 = .ok (.invokevirtual 228, 3) := dk_182 0 228 (dk_at dksX7_shows_4 13 rfl rfl)
theorem dX7_shows_111 : decode cX7_shows 111 = .ok (.ifCond .eq 16, 3) := dk_153 0 16 (dk_at dksX7_shows_4 16 rfl rfl)
theorem dX7_shows_114 : decode cX7_shows 114 = .ok (.aload_n 0, 1) := dk_42 (dk_at dksX7_shows_4 19 rfl rfl)
theorem dX7_shows_115 : decode cX7_shows 115 = .ok (.iload_n 1, 1) := dk_27 (dk_at dksX7_shows_4 20 rfl rfl)
theorem dX7_shows_116 : decode cX7_shows 116 = .ok (.invokevirtual 237, 3) := dk_182 0 237 (dk_at dksX7_shows_4 21 rfl rfl)
theorem dX7_shows_119 : decode cX7_shows 119 = .ok (.aload_n 0, 1) := dk_42 (dk_at dksX7_shows_5 0 rfl rfl)
theorem dX7_shows_120 : decode cX7_shows 120 = .ok (.getfield 47, 3) := dk_180 0 47 (dk_at dksX7_shows_5 1 rfl rfl)
theorem dX7_shows_123 : decode cX7_shows 123 = .ok (.iload_n 2, 1) := dk_28 (dk_at dksX7_shows_5 4 rfl rfl)
theorem dX7_shows_124 : decode cX7_shows 124 = .ok (.iaload, 1) := dk_46 (dk_at dksX7_shows_5 5 rfl rfl)
theorem dX7_shows_125 : decode cX7_shows 125 = .ok (.istore 4, 2) := dk_54 4 (dk_at dksX7_shows_5 6 rfl rfl)
theorem dX7_shows_127 : decode cX7_shows 127 = .ok (.iconst 0, 1) := dk_3 (dk_at dksX7_shows_5 8 rfl rfl)
theorem dX7_shows_128 : decode cX7_shows 128 = .ok (.istore 6, 2) := dk_54 6 (dk_at dksX7_shows_5 9 rfl rfl)
theorem dX7_shows_130 : decode cX7_shows 130 = .ok (.iload_n 3, 1) := dk_29 (dk_at dksX7_shows_5 11 rfl rfl)
theorem dX7_shows_131 : decode cX7_shows 131 = .ok (.istore 7, 2) := dk_54 7 (dk_at dksX7_shows_5 12 rfl rfl)
theorem dX7_shows_133 : decode cX7_shows 133 = .ok (.iload 7, 2) := dk_21 7 (dk_at dksX7_shows_5 14 rfl rfl)
theorem dX7_shows_135 : decode cX7_shows 135 = .ok (.iload 4, 2) := dk_21 4 (dk_at dksX7_shows_5 16 rfl rfl)
theorem dX7_shows_137 : decode cX7_shows 137 = .ok (.if_icmp .ge 18, 3) := dk_162 0 18 (dk_at dksX7_shows_5 18 rfl rfl)
theorem dX7_shows_140 : decode cX7_shows 140 = .ok (.iload 6, 2) := dk_21 6 (dk_at dksX7_shows_5 21 rfl rfl)
theorem dX7_shows_142 : decode cX7_shows 142 = .ok (.iconst 1, 1) := dk_4 (dk_at dksX7_shows_5 23 rfl rfl)
theorem dX7_shows_143 : decode cX7_shows 143 = .ok (.iload 7, 2) := dk_21 7 (dk_at dksX7_shows_6 0 rfl rfl)
theorem dX7_shows_145 : decode cX7_shows 145 = .ok (.ishl, 1) := dk_120 (dk_at dksX7_shows_6 2 rfl rfl)
theorem dX7_shows_146 : decode cX7_shows 146 = .ok (.ior, 1) := dk_128 (dk_at dksX7_shows_6 3 rfl rfl)
theorem dX7_shows_147 : decode cX7_shows 147 = .ok (.istore 6, 2) := dk_54 6 (dk_at dksX7_shows_6 4 rfl rfl)
theorem dX7_shows_149 : decode cX7_shows 149 = .ok (.iinc 7 1, 3) := dk_132 7 1 (dk_at dksX7_shows_6 6 rfl rfl)
theorem dX7_shows_152 : decode cX7_shows 152 = .ok (.goto (-19), 3) := dk_167 255 237 (dk_at dksX7_shows_6 9 rfl rfl)
theorem dX7_shows_155 : decode cX7_shows 155 = .ok (.iload 6, 2) := dk_21 6 (dk_at dksX7_shows_6 12 rfl rfl)
theorem dX7_shows_157 : decode cX7_shows 157 = .ok (.ireturn, 1) := dk_172 (dk_at dksX7_shows_6 14 rfl rfl)
abbrev cX7_seen : ByteArray := prog_20_method_74_code
def yX7_seen : MethodName := ⟨RX7, "seen", "(III)I"⟩
def dkwX7_seen_5 : List UInt8 := [167, 0, 6, 22, 8, 136, 172]
abbrev dktX7_seen_5 : List UInt8 := dkwX7_seen_5 ++ []
def dkwX7_seen_4 : List UInt8 := [22, 8, 9, 148, 156, 0, 7, 3, 167, 0, 20, 22, 8, 20, 0, 107, 148, 158, 0, 8, 16, 63]
abbrev dktX7_seen_4 : List UInt8 := dkwX7_seen_4 ++ dktX7_seen_5
def dkwX7_seen_3 : List UInt8 := [22, 4, 22, 6, 109, 22, 4, 22, 6, 113, 9, 148, 156, 0, 7, 10, 167, 0, 4, 9, 101, 55, 8]
abbrev dktX7_seen_3 : List UInt8 := dkwX7_seen_3 ++ dktX7_seen_4
def dkwX7_seen_2 : List UInt8 := [42, 180, 0, 251, 97, 105, 42, 180, 0, 255, 97, 55, 4, 20, 0, 112, 42, 180, 0, 255, 105, 55, 6]
abbrev dktX7_seen_2 : List UInt8 := dkwX7_seen_2 ++ dktX7_seen_3
def dkwX7_seen_1 : List UInt8 := [182, 0, 196, 42, 27, 182, 1, 20, 20, 0, 112, 42, 27, 28, 29, 182, 0, 143, 133, 42, 180, 0, 255, 105]
abbrev dktX7_seen_1 : List UInt8 := dkwX7_seen_1 ++ dktX7_seen_2
def dkwX7_seen_0 : List UInt8 := [42, 27, 182, 0, 128, 153, 0, 11, 28, 29, 184, 0, 132, 154, 0, 10, 42, 16, 254, 182, 0, 91, 172, 42]
abbrev dktX7_seen_0 : List UInt8 := dkwX7_seen_0 ++ dktX7_seen_1
theorem dksX7_seen_0 : cX7_seen.data.toList.drop 0 = dktX7_seen_0 := by decide +kernel
theorem dksX7_seen_1 : cX7_seen.data.toList.drop 24 = dktX7_seen_1 := dk_seg dksX7_seen_0 24 rfl rfl
theorem dksX7_seen_2 : cX7_seen.data.toList.drop 48 = dktX7_seen_2 := dk_seg dksX7_seen_1 24 rfl rfl
theorem dksX7_seen_3 : cX7_seen.data.toList.drop 71 = dktX7_seen_3 := dk_seg dksX7_seen_2 23 rfl rfl
theorem dksX7_seen_4 : cX7_seen.data.toList.drop 94 = dktX7_seen_4 := dk_seg dksX7_seen_3 23 rfl rfl
theorem dksX7_seen_5 : cX7_seen.data.toList.drop 116 = dktX7_seen_5 := dk_seg dksX7_seen_4 22 rfl rfl
theorem dX7_seen_0 : decode cX7_seen 0 = .ok (.aload_n 0, 1) := dk_42 (dk_at dksX7_seen_0 0 rfl rfl)
theorem dX7_seen_1 : decode cX7_seen 1 = .ok (.iload_n 1, 1) := dk_27 (dk_at dksX7_seen_0 1 rfl rfl)
theorem dX7_seen_2 : decode cX7_seen 2 = .ok (.invokevirtual 128, 3) := dk_182 0 128 (dk_at dksX7_seen_0 2 rfl rfl)
theorem dX7_seen_5 : decode cX7_seen 5 = .ok (.ifCond .eq 11, 3) := dk_153 0 11 (dk_at dksX7_seen_0 5 rfl rfl)
theorem dX7_seen_8 : decode cX7_seen 8 = .ok (.iload_n 2, 1) := dk_28 (dk_at dksX7_seen_0 8 rfl rfl)
theorem dX7_seen_9 : decode cX7_seen 9 = .ok (.iload_n 3, 1) := dk_29 (dk_at dksX7_seen_0 9 rfl rfl)
theorem dX7_seen_10 : decode cX7_seen 10 = .ok (.invokestatic 132, 3) := dk_184 0 132 (dk_at dksX7_seen_0 10 rfl rfl)
theorem dX7_seen_13 : decode cX7_seen 13 = .ok (.ifCond .ne 10, 3) := dk_154 0 10 (dk_at dksX7_seen_0 13 rfl rfl)
theorem dX7_seen_16 : decode cX7_seen 16 = .ok (.aload_n 0, 1) := dk_42 (dk_at dksX7_seen_0 16 rfl rfl)
theorem dX7_seen_17 : decode cX7_seen 17 = .ok (.bipush (-2), 2) := dk_16 254 (dk_at dksX7_seen_0 17 rfl rfl)
theorem dX7_seen_19 : decode cX7_seen 19 = .ok (.invokevirtual 91, 3) := dk_182 0 91 (dk_at dksX7_seen_0 19 rfl rfl)
theorem dX7_seen_22 : decode cX7_seen 22 = .ok (.ireturn, 1) := dk_172 (dk_at dksX7_seen_0 22 rfl rfl)
theorem dX7_seen_23 : decode cX7_seen 23 = .ok (.aload_n 0, 1) := dk_42 (dk_at dksX7_seen_0 23 rfl rfl)
theorem dX7_seen_24 : decode cX7_seen 24 = .ok (.invokevirtual 196, 3) := dk_182 0 196 (dk_at dksX7_seen_1 0 rfl rfl)
theorem dX7_seen_27 : decode cX7_seen 27 = .ok (.aload_n 0, 1) := dk_42 (dk_at dksX7_seen_1 3 rfl rfl)
theorem dX7_seen_28 : decode cX7_seen 28 = .ok (.iload_n 1, 1) := dk_27 (dk_at dksX7_seen_1 4 rfl rfl)
theorem dX7_seen_29 : decode cX7_seen 29 = .ok (.invokevirtual 276, 3) := dk_182 1 20 (dk_at dksX7_seen_1 5 rfl rfl)
theorem dX7_seen_32 : decode cX7_seen 32 = .ok (.ldc2_w 112, 3) := dk_20 0 112 (dk_at dksX7_seen_1 8 rfl rfl)
theorem dX7_seen_35 : decode cX7_seen 35 = .ok (.aload_n 0, 1) := dk_42 (dk_at dksX7_seen_1 11 rfl rfl)
theorem dX7_seen_36 : decode cX7_seen 36 = .ok (.iload_n 1, 1) := dk_27 (dk_at dksX7_seen_1 12 rfl rfl)
theorem dX7_seen_37 : decode cX7_seen 37 = .ok (.iload_n 2, 1) := dk_28 (dk_at dksX7_seen_1 13 rfl rfl)
theorem dX7_seen_38 : decode cX7_seen 38 = .ok (.iload_n 3, 1) := dk_29 (dk_at dksX7_seen_1 14 rfl rfl)
theorem dX7_seen_39 : decode cX7_seen 39 = .ok (.invokevirtual 143, 3) := dk_182 0 143 (dk_at dksX7_seen_1 15 rfl rfl)
theorem dX7_seen_42 : decode cX7_seen 42 = .ok (.i2l, 1) := dk_133 (dk_at dksX7_seen_1 18 rfl rfl)
theorem dX7_seen_43 : decode cX7_seen 43 = .ok (.aload_n 0, 1) := dk_42 (dk_at dksX7_seen_1 19 rfl rfl)
theorem dX7_seen_44 : decode cX7_seen 44 = .ok (.getfield 255, 3) := dk_180 0 255 (dk_at dksX7_seen_1 20 rfl rfl)
theorem dX7_seen_47 : decode cX7_seen 47 = .ok (.lmul, 1) := dk_105 (dk_at dksX7_seen_1 23 rfl rfl)
theorem dX7_seen_48 : decode cX7_seen 48 = .ok (.aload_n 0, 1) := dk_42 (dk_at dksX7_seen_2 0 rfl rfl)
theorem dX7_seen_49 : decode cX7_seen 49 = .ok (.getfield 251, 3) := dk_180 0 251 (dk_at dksX7_seen_2 1 rfl rfl)
theorem dX7_seen_52 : decode cX7_seen 52 = .ok (.ladd, 1) := dk_97 (dk_at dksX7_seen_2 4 rfl rfl)
theorem dX7_seen_53 : decode cX7_seen 53 = .ok (.lmul, 1) := dk_105 (dk_at dksX7_seen_2 5 rfl rfl)
theorem dX7_seen_54 : decode cX7_seen 54 = .ok (.aload_n 0, 1) := dk_42 (dk_at dksX7_seen_2 6 rfl rfl)
theorem dX7_seen_55 : decode cX7_seen 55 = .ok (.getfield 255, 3) := dk_180 0 255 (dk_at dksX7_seen_2 7 rfl rfl)
theorem dX7_seen_58 : decode cX7_seen 58 = .ok (.ladd, 1) := dk_97 (dk_at dksX7_seen_2 10 rfl rfl)
theorem dX7_seen_59 : decode cX7_seen 59 = .ok (.lstore 4, 2) := dk_55 4 (dk_at dksX7_seen_2 11 rfl rfl)
theorem dX7_seen_61 : decode cX7_seen 61 = .ok (.ldc2_w 112, 3) := dk_20 0 112 (dk_at dksX7_seen_2 13 rfl rfl)
theorem dX7_seen_64 : decode cX7_seen 64 = .ok (.aload_n 0, 1) := dk_42 (dk_at dksX7_seen_2 16 rfl rfl)
theorem dX7_seen_65 : decode cX7_seen 65 = .ok (.getfield 255, 3) := dk_180 0 255 (dk_at dksX7_seen_2 17 rfl rfl)
theorem dX7_seen_68 : decode cX7_seen 68 = .ok (.lmul, 1) := dk_105 (dk_at dksX7_seen_2 20 rfl rfl)
theorem dX7_seen_69 : decode cX7_seen 69 = .ok (.lstore 6, 2) := dk_55 6 (dk_at dksX7_seen_2 21 rfl rfl)
theorem dX7_seen_71 : decode cX7_seen 71 = .ok (.lload 4, 2) := dk_22 4 (dk_at dksX7_seen_3 0 rfl rfl)
theorem dX7_seen_73 : decode cX7_seen 73 = .ok (.lload 6, 2) := dk_22 6 (dk_at dksX7_seen_3 2 rfl rfl)
theorem dX7_seen_75 : decode cX7_seen 75 = .ok (.ldiv, 1) := dk_109 (dk_at dksX7_seen_3 4 rfl rfl)
theorem dX7_seen_76 : decode cX7_seen 76 = .ok (.lload 4, 2) := dk_22 4 (dk_at dksX7_seen_3 5 rfl rfl)
theorem dX7_seen_78 : decode cX7_seen 78 = .ok (.lload 6, 2) := dk_22 6 (dk_at dksX7_seen_3 7 rfl rfl)
theorem dX7_seen_80 : decode cX7_seen 80 = .ok (.lrem, 1) := dk_113 (dk_at dksX7_seen_3 9 rfl rfl)
theorem dX7_seen_81 : decode cX7_seen 81 = .ok (.lconst 0, 1) := dk_9 (dk_at dksX7_seen_3 10 rfl rfl)
theorem dX7_seen_82 : decode cX7_seen 82 = .ok (.lcmp, 1) := dk_148 (dk_at dksX7_seen_3 11 rfl rfl)
theorem dX7_seen_83 : decode cX7_seen 83 = .ok (.ifCond .ge 7, 3) := dk_156 0 7 (dk_at dksX7_seen_3 12 rfl rfl)
theorem dX7_seen_86 : decode cX7_seen 86 = .ok (.lconst 1, 1) := dk_10 (dk_at dksX7_seen_3 15 rfl rfl)
theorem dX7_seen_87 : decode cX7_seen 87 = .ok (.goto 4, 3) := dk_167 0 4 (dk_at dksX7_seen_3 16 rfl rfl)
theorem dX7_seen_90 : decode cX7_seen 90 = .ok (.lconst 0, 1) := dk_9 (dk_at dksX7_seen_3 19 rfl rfl)
theorem dX7_seen_91 : decode cX7_seen 91 = .ok (.lsub, 1) := dk_101 (dk_at dksX7_seen_3 20 rfl rfl)
theorem dX7_seen_92 : decode cX7_seen 92 = .ok (.lstore 8, 2) := dk_55 8 (dk_at dksX7_seen_3 21 rfl rfl)
theorem dX7_seen_94 : decode cX7_seen 94 = .ok (.lload 8, 2) := dk_22 8 (dk_at dksX7_seen_4 0 rfl rfl)
theorem dX7_seen_96 : decode cX7_seen 96 = .ok (.lconst 0, 1) := dk_9 (dk_at dksX7_seen_4 2 rfl rfl)
theorem dX7_seen_97 : decode cX7_seen 97 = .ok (.lcmp, 1) := dk_148 (dk_at dksX7_seen_4 3 rfl rfl)
theorem dX7_seen_98 : decode cX7_seen 98 = .ok (.ifCond .ge 7, 3) := dk_156 0 7 (dk_at dksX7_seen_4 4 rfl rfl)
theorem dX7_seen_101 : decode cX7_seen 101 = .ok (.iconst 0, 1) := dk_3 (dk_at dksX7_seen_4 7 rfl rfl)
theorem dX7_seen_102 : decode cX7_seen 102 = .ok (.goto 20, 3) := dk_167 0 20 (dk_at dksX7_seen_4 8 rfl rfl)
theorem dX7_seen_105 : decode cX7_seen 105 = .ok (.lload 8, 2) := dk_22 8 (dk_at dksX7_seen_4 11 rfl rfl)
theorem dX7_seen_107 : decode cX7_seen 107 = .ok (.ldc2_w 107, 3) := dk_20 0 107 (dk_at dksX7_seen_4 13 rfl rfl)
theorem dX7_seen_110 : decode cX7_seen 110 = .ok (.lcmp, 1) := dk_148 (dk_at dksX7_seen_4 16 rfl rfl)
theorem dX7_seen_111 : decode cX7_seen 111 = .ok (.ifCond .le 8, 3) := dk_158 0 8 (dk_at dksX7_seen_4 17 rfl rfl)
theorem dX7_seen_114 : decode cX7_seen 114 = .ok (.bipush 63, 2) := dk_16 63 (dk_at dksX7_seen_4 20 rfl rfl)
theorem dX7_seen_116 : decode cX7_seen 116 = .ok (.goto 6, 3) := dk_167 0 6 (dk_at dksX7_seen_5 0 rfl rfl)
theorem dX7_seen_119 : decode cX7_seen 119 = .ok (.lload 8, 2) := dk_22 8 (dk_at dksX7_seen_5 3 rfl rfl)
theorem dX7_seen_121 : decode cX7_seen 121 = .ok (.l2i, 1) := dk_136 (dk_at dksX7_seen_5 5 rfl rfl)
theorem dX7_seen_122 : decode cX7_seen 122 = .ok (.ireturn, 1) := dk_172 (dk_at dksX7_seen_5 6 rfl rfl)
abbrev cX7_type : ByteArray := prog_20_method_75_code
def yX7_type : MethodName := ⟨RX7, "type", "(I)I"⟩
def dkwX7_type_2 : List UInt8 := [180, 1, 25, 4, 96, 181, 1, 25, 42, 180, 1, 25, 172]
abbrev dktX7_type_2 : List UInt8 := dkwX7_type_2 ++ []
def dkwX7_type_1 : List UInt8 := [16, 120, 160, 0, 10, 42, 16, 252, 182, 0, 91, 172, 42, 180, 0, 50, 42, 180, 1, 25, 27, 79, 42, 89]
abbrev dktX7_type_1 : List UInt8 := dkwX7_type_1 ++ dktX7_type_2
def dkwX7_type_0 : List UInt8 := [27, 133, 9, 20, 1, 23, 184, 0, 63, 154, 0, 10, 42, 16, 254, 182, 0, 91, 172, 42, 180, 1, 25]
abbrev dktX7_type_0 : List UInt8 := dkwX7_type_0 ++ dktX7_type_1
theorem dksX7_type_0 : cX7_type.data.toList.drop 0 = dktX7_type_0 := by decide +kernel
theorem dksX7_type_1 : cX7_type.data.toList.drop 23 = dktX7_type_1 := dk_seg dksX7_type_0 23 rfl rfl
theorem dksX7_type_2 : cX7_type.data.toList.drop 47 = dktX7_type_2 := dk_seg dksX7_type_1 24 rfl rfl
theorem dX7_type_0 : decode cX7_type 0 = .ok (.iload_n 1, 1) := dk_27 (dk_at dksX7_type_0 0 rfl rfl)
theorem dX7_type_1 : decode cX7_type 1 = .ok (.i2l, 1) := dk_133 (dk_at dksX7_type_0 1 rfl rfl)
theorem dX7_type_2 : decode cX7_type 2 = .ok (.lconst 0, 1) := dk_9 (dk_at dksX7_type_0 2 rfl rfl)
theorem dX7_type_3 : decode cX7_type 3 = .ok (.ldc2_w 279, 3) := dk_20 1 23 (dk_at dksX7_type_0 3 rfl rfl)
theorem dX7_type_6 : decode cX7_type 6 = .ok (.invokestatic 63, 3) := dk_184 0 63 (dk_at dksX7_type_0 6 rfl rfl)
theorem dX7_type_9 : decode cX7_type 9 = .ok (.ifCond .ne 10, 3) := dk_154 0 10 (dk_at dksX7_type_0 9 rfl rfl)
theorem dX7_type_12 : decode cX7_type 12 = .ok (.aload_n 0, 1) := dk_42 (dk_at dksX7_type_0 12 rfl rfl)
theorem dX7_type_13 : decode cX7_type 13 = .ok (.bipush (-2), 2) := dk_16 254 (dk_at dksX7_type_0 13 rfl rfl)
theorem dX7_type_15 : decode cX7_type 15 = .ok (.invokevirtual 91, 3) := dk_182 0 91 (dk_at dksX7_type_0 15 rfl rfl)
theorem dX7_type_18 : decode cX7_type 18 = .ok (.ireturn, 1) := dk_172 (dk_at dksX7_type_0 18 rfl rfl)
theorem dX7_type_19 : decode cX7_type 19 = .ok (.aload_n 0, 1) := dk_42 (dk_at dksX7_type_0 19 rfl rfl)
theorem dX7_type_20 : decode cX7_type 20 = .ok (.getfield 281, 3) := dk_180 1 25 (dk_at dksX7_type_0 20 rfl rfl)
theorem dX7_type_23 : decode cX7_type 23 = .ok (.bipush 120, 2) := dk_16 120 (dk_at dksX7_type_1 0 rfl rfl)
theorem dX7_type_25 : decode cX7_type 25 = .ok (.if_icmp .ne 10, 3) := dk_160 0 10 (dk_at dksX7_type_1 2 rfl rfl)
theorem dX7_type_28 : decode cX7_type 28 = .ok (.aload_n 0, 1) := dk_42 (dk_at dksX7_type_1 5 rfl rfl)
theorem dX7_type_29 : decode cX7_type 29 = .ok (.bipush (-4), 2) := dk_16 252 (dk_at dksX7_type_1 6 rfl rfl)
theorem dX7_type_31 : decode cX7_type 31 = .ok (.invokevirtual 91, 3) := dk_182 0 91 (dk_at dksX7_type_1 8 rfl rfl)
theorem dX7_type_34 : decode cX7_type 34 = .ok (.ireturn, 1) := dk_172 (dk_at dksX7_type_1 11 rfl rfl)
theorem dX7_type_35 : decode cX7_type 35 = .ok (.aload_n 0, 1) := dk_42 (dk_at dksX7_type_1 12 rfl rfl)
theorem dX7_type_36 : decode cX7_type 36 = .ok (.getfield 50, 3) := dk_180 0 50 (dk_at dksX7_type_1 13 rfl rfl)
theorem dX7_type_39 : decode cX7_type 39 = .ok (.aload_n 0, 1) := dk_42 (dk_at dksX7_type_1 16 rfl rfl)
theorem dX7_type_40 : decode cX7_type 40 = .ok (.getfield 281, 3) := dk_180 1 25 (dk_at dksX7_type_1 17 rfl rfl)
theorem dX7_type_43 : decode cX7_type 43 = .ok (.iload_n 1, 1) := dk_27 (dk_at dksX7_type_1 20 rfl rfl)
theorem dX7_type_44 : decode cX7_type 44 = .ok (.iastore, 1) := dk_79 (dk_at dksX7_type_1 21 rfl rfl)
theorem dX7_type_45 : decode cX7_type 45 = .ok (.aload_n 0, 1) := dk_42 (dk_at dksX7_type_1 22 rfl rfl)
theorem dX7_type_46 : decode cX7_type 46 = .ok (.dup, 1) := dk_89 (dk_at dksX7_type_1 23 rfl rfl)
theorem dX7_type_47 : decode cX7_type 47 = .ok (.getfield 281, 3) := dk_180 1 25 (dk_at dksX7_type_2 0 rfl rfl)
theorem dX7_type_50 : decode cX7_type 50 = .ok (.iconst 1, 1) := dk_4 (dk_at dksX7_type_2 3 rfl rfl)
theorem dX7_type_51 : decode cX7_type 51 = .ok (.iadd, 1) := dk_96 (dk_at dksX7_type_2 4 rfl rfl)
theorem dX7_type_52 : decode cX7_type 52 = .ok (.putfield 281, 3) := dk_181 1 25 (dk_at dksX7_type_2 5 rfl rfl)
theorem dX7_type_55 : decode cX7_type 55 = .ok (.aload_n 0, 1) := dk_42 (dk_at dksX7_type_2 8 rfl rfl)
theorem dX7_type_56 : decode cX7_type 56 = .ok (.getfield 281, 3) := dk_180 1 25 (dk_at dksX7_type_2 9 rfl rfl)
theorem dX7_type_59 : decode cX7_type 59 = .ok (.ireturn, 1) := dk_172 (dk_at dksX7_type_2 12 rfl rfl)
abbrev cX7_clear : ByteArray := prog_20_method_76_code
def yX7_clear : MethodName := ⟨RX7, "clea\x72", "()I"⟩
def dkwX7_clear_0 : List UInt8 := [42, 180, 1, 25, 60, 42, 3, 181, 1, 25, 27, 172]
abbrev dktX7_clear_0 : List UInt8 := dkwX7_clear_0 ++ []
theorem dksX7_clear_0 : cX7_clear.data.toList.drop 0 = dktX7_clear_0 := by decide +kernel
theorem dX7_clear_0 : decode cX7_clear 0 = .ok (.aload_n 0, 1) := dk_42 (dk_at dksX7_clear_0 0 rfl rfl)
theorem dX7_clear_1 : decode cX7_clear 1 = .ok (.getfield 281, 3) := dk_180 1 25 (dk_at dksX7_clear_0 1 rfl rfl)
theorem dX7_clear_4 : decode cX7_clear 4 = .ok (.istore_n 1, 1) := dk_60 (dk_at dksX7_clear_0 4 rfl rfl)
theorem dX7_clear_5 : decode cX7_clear 5 = .ok (.aload_n 0, 1) := dk_42 (dk_at dksX7_clear_0 5 rfl rfl)
theorem dX7_clear_6 : decode cX7_clear 6 = .ok (.iconst 0, 1) := dk_3 (dk_at dksX7_clear_0 6 rfl rfl)
theorem dX7_clear_7 : decode cX7_clear 7 = .ok (.putfield 281, 3) := dk_181 1 25 (dk_at dksX7_clear_0 7 rfl rfl)
theorem dX7_clear_10 : decode cX7_clear 10 = .ok (.iload_n 1, 1) := dk_27 (dk_at dksX7_clear_0 10 rfl rfl)
theorem dX7_clear_11 : decode cX7_clear 11 = .ok (.ireturn, 1) := dk_172 (dk_at dksX7_clear_0 11 rfl rfl)
abbrev cX7_reads : ByteArray := prog_20_method_85_code
def yX7_reads : MethodName := ⟨RX7, "reads", "()I"⟩
def dkwX7_reads_6 : List UInt8 := [28, 181, 0, 22, 17, 252, 24, 28, 100, 172, 132, 2, 1, 167, 255, 185, 42, 182, 1, 69, 28, 172]
abbrev dktX7_reads_6 : List UInt8 := dkwX7_reads_6 ++ []
def dkwX7_reads_5 : List UInt8 := [29, 42, 180, 0, 16, 29, 46, 79, 132, 3, 1, 167, 255, 234, 42, 42, 180, 1, 57, 116, 181, 1, 66, 42]
abbrev dktX7_reads_5 : List UInt8 := dkwX7_reads_5 ++ dktX7_reads_6
def dkwX7_reads_4 : List UInt8 := [182, 1, 63, 60, 42, 180, 1, 57, 156, 0, 50, 3, 62, 29, 17, 1, 150, 162, 0, 21, 42, 180, 0, 7]
abbrev dktX7_reads_4 : List UInt8 := dkwX7_reads_4 ++ dktX7_reads_5
def dkwX7_reads_3 : List UInt8 := [3, 61, 42, 3, 181, 1, 28, 42, 3, 181, 1, 57, 42, 182, 1, 35, 2, 159, 0, 69, 42, 4]
abbrev dktX7_reads_3 : List UInt8 := dkwX7_reads_3 ++ dktX7_reads_4
def dkwX7_reads_2 : List UInt8 := [17, 1, 150, 162, 0, 21, 42, 180, 0, 16, 28, 42, 180, 0, 7, 28, 46, 79, 132, 2, 1, 167, 255, 234]
abbrev dktX7_reads_2 : List UInt8 := dkwX7_reads_2 ++ dktX7_reads_3
def dkwX7_reads_1 : List UInt8 := [3, 182, 1, 63, 60, 167, 255, 238, 27, 154, 0, 11, 16, 246, 42, 180, 1, 28, 100, 172, 3, 61, 28]
abbrev dktX7_reads_1 : List UInt8 := dkwX7_reads_1 ++ dktX7_reads_2
def dkwX7_reads_0 : List UInt8 := [42, 3, 181, 1, 28, 42, 3, 182, 1, 63, 60, 27, 153, 0, 20, 42, 182, 1, 35, 2, 159, 0, 12, 42]
abbrev dktX7_reads_0 : List UInt8 := dkwX7_reads_0 ++ dktX7_reads_1
theorem dksX7_reads_0 : cX7_reads.data.toList.drop 0 = dktX7_reads_0 := by decide +kernel
theorem dksX7_reads_1 : cX7_reads.data.toList.drop 24 = dktX7_reads_1 := dk_seg dksX7_reads_0 24 rfl rfl
theorem dksX7_reads_2 : cX7_reads.data.toList.drop 47 = dktX7_reads_2 := dk_seg dksX7_reads_1 23 rfl rfl
theorem dksX7_reads_3 : cX7_reads.data.toList.drop 71 = dktX7_reads_3 := dk_seg dksX7_reads_2 24 rfl rfl
theorem dksX7_reads_4 : cX7_reads.data.toList.drop 93 = dktX7_reads_4 := dk_seg dksX7_reads_3 22 rfl rfl
theorem dksX7_reads_5 : cX7_reads.data.toList.drop 117 = dktX7_reads_5 := dk_seg dksX7_reads_4 24 rfl rfl
theorem dksX7_reads_6 : cX7_reads.data.toList.drop 141 = dktX7_reads_6 := dk_seg dksX7_reads_5 24 rfl rfl
theorem dX7_reads_0 : decode cX7_reads 0 = .ok (.aload_n 0, 1) := dk_42 (dk_at dksX7_reads_0 0 rfl rfl)
theorem dX7_reads_1 : decode cX7_reads 1 = .ok (.iconst 0, 1) := dk_3 (dk_at dksX7_reads_0 1 rfl rfl)
theorem dX7_reads_2 : decode cX7_reads 2 = .ok (.putfield 284, 3) := dk_181 1 28 (dk_at dksX7_reads_0 2 rfl rfl)
theorem dX7_reads_5 : decode cX7_reads 5 = .ok (.aload_n 0, 1) := dk_42 (dk_at dksX7_reads_0 5 rfl rfl)
theorem dX7_reads_6 : decode cX7_reads 6 = .ok (.iconst 0, 1) := dk_3 (dk_at dksX7_reads_0 6 rfl rfl)
theorem dX7_reads_7 : decode cX7_reads 7 = .ok (.invokevirtual 319, 3) := dk_182 1 63 (dk_at dksX7_reads_0 7 rfl rfl)
theorem dX7_reads_10 : decode cX7_reads 10 = .ok (.istore_n 1, 1) := dk_60 (dk_at dksX7_reads_0 10 rfl rfl)
theorem dX7_reads_11 : decode cX7_reads 11 = .ok (.iload_n 1, 1) := dk_27 (dk_at dksX7_reads_0 11 rfl rfl)
theorem dX7_reads_12 : decode cX7_reads 12 = .ok (.ifCond .eq 20, 3) := dk_153 0 20 (dk_at dksX7_reads_0 12 rfl rfl)
theorem dX7_reads_15 : decode cX7_reads 15 = .ok (.aload_n 0, 1) := dk_42 (dk_at dksX7_reads_0 15 rfl rfl)
theorem dX7_reads_16 : decode cX7_reads 16 = .ok (.invokevirtual 291, 3) := dk_182 1 35 (dk_at dksX7_reads_0 16 rfl rfl)
theorem dX7_reads_19 : decode cX7_reads 19 = .ok (.iconst (-1), 1) := dk_2 (dk_at dksX7_reads_0 19 rfl rfl)
theorem dX7_reads_20 : decode cX7_reads 20 = .ok (.if_icmp .eq 12, 3) := dk_159 0 12 (dk_at dksX7_reads_0 20 rfl rfl)
theorem dX7_reads_23 : decode cX7_reads 23 = .ok (.aload_n 0, 1) := dk_42 (dk_at dksX7_reads_0 23 rfl rfl)
theorem dX7_reads_24 : decode cX7_reads 24 = .ok (.iconst 0, 1) := dk_3 (dk_at dksX7_reads_1 0 rfl rfl)
theorem dX7_reads_25 : decode cX7_reads 25 = .ok (.invokevirtual 319, 3) := dk_182 1 63 (dk_at dksX7_reads_1 1 rfl rfl)
theorem dX7_reads_28 : decode cX7_reads 28 = .ok (.istore_n 1, 1) := dk_60 (dk_at dksX7_reads_1 4 rfl rfl)
theorem dX7_reads_29 : decode cX7_reads 29 = .ok (.goto (-18), 3) := dk_167 255 238 (dk_at dksX7_reads_1 5 rfl rfl)
theorem dX7_reads_32 : decode cX7_reads 32 = .ok (.iload_n 1, 1) := dk_27 (dk_at dksX7_reads_1 8 rfl rfl)
theorem dX7_reads_33 : decode cX7_reads 33 = .ok (.ifCond .ne 11, 3) := dk_154 0 11 (dk_at dksX7_reads_1 9 rfl rfl)
theorem dX7_reads_36 : decode cX7_reads 36 = .ok (.bipush (-10), 2) := dk_16 246 (dk_at dksX7_reads_1 12 rfl rfl)
theorem dX7_reads_38 : decode cX7_reads 38 = .ok (.aload_n 0, 1) := dk_42 (dk_at dksX7_reads_1 14 rfl rfl)
theorem dX7_reads_39 : decode cX7_reads 39 = .ok (.getfield 284, 3) := dk_180 1 28 (dk_at dksX7_reads_1 15 rfl rfl)
theorem dX7_reads_42 : decode cX7_reads 42 = .ok (.isub, 1) := dk_100 (dk_at dksX7_reads_1 18 rfl rfl)
theorem dX7_reads_43 : decode cX7_reads 43 = .ok (.ireturn, 1) := dk_172 (dk_at dksX7_reads_1 19 rfl rfl)
theorem dX7_reads_44 : decode cX7_reads 44 = .ok (.iconst 0, 1) := dk_3 (dk_at dksX7_reads_1 20 rfl rfl)
theorem dX7_reads_45 : decode cX7_reads 45 = .ok (.istore_n 2, 1) := dk_61 (dk_at dksX7_reads_1 21 rfl rfl)
theorem dX7_reads_46 : decode cX7_reads 46 = .ok (.iload_n 2, 1) := dk_28 (dk_at dksX7_reads_1 22 rfl rfl)
theorem dX7_reads_47 : decode cX7_reads 47 = .ok (.sipush 406, 3) := dk_17 1 150 (dk_at dksX7_reads_2 0 rfl rfl)
theorem dX7_reads_50 : decode cX7_reads 50 = .ok (.if_icmp .ge 21, 3) := dk_162 0 21 (dk_at dksX7_reads_2 3 rfl rfl)
theorem dX7_reads_53 : decode cX7_reads 53 = .ok (.aload_n 0, 1) := dk_42 (dk_at dksX7_reads_2 6 rfl rfl)
theorem dX7_reads_54 : decode cX7_reads 54 = .ok (.getfield 16, 3) := dk_180 0 16 (dk_at dksX7_reads_2 7 rfl rfl)
theorem dX7_reads_57 : decode cX7_reads 57 = .ok (.iload_n 2, 1) := dk_28 (dk_at dksX7_reads_2 10 rfl rfl)
theorem dX7_reads_58 : decode cX7_reads 58 = .ok (.aload_n 0, 1) := dk_42 (dk_at dksX7_reads_2 11 rfl rfl)
theorem dX7_reads_59 : decode cX7_reads 59 = .ok (.getfield 7, 3) := dk_180 0 7 (dk_at dksX7_reads_2 12 rfl rfl)
theorem dX7_reads_62 : decode cX7_reads 62 = .ok (.iload_n 2, 1) := dk_28 (dk_at dksX7_reads_2 15 rfl rfl)
theorem dX7_reads_63 : decode cX7_reads 63 = .ok (.iaload, 1) := dk_46 (dk_at dksX7_reads_2 16 rfl rfl)
theorem dX7_reads_64 : decode cX7_reads 64 = .ok (.iastore, 1) := dk_79 (dk_at dksX7_reads_2 17 rfl rfl)
theorem dX7_reads_65 : decode cX7_reads 65 = .ok (.iinc 2 1, 3) := dk_132 2 1 (dk_at dksX7_reads_2 18 rfl rfl)
theorem dX7_reads_68 : decode cX7_reads 68 = .ok (.goto (-22), 3) := dk_167 255 234 (dk_at dksX7_reads_2 21 rfl rfl)
theorem dX7_reads_71 : decode cX7_reads 71 = .ok (.iconst 0, 1) := dk_3 (dk_at dksX7_reads_3 0 rfl rfl)
theorem dX7_reads_72 : decode cX7_reads 72 = .ok (.istore_n 2, 1) := dk_61 (dk_at dksX7_reads_3 1 rfl rfl)
theorem dX7_reads_73 : decode cX7_reads 73 = .ok (.aload_n 0, 1) := dk_42 (dk_at dksX7_reads_3 2 rfl rfl)
theorem dX7_reads_74 : decode cX7_reads 74 = .ok (.iconst 0, 1) := dk_3 (dk_at dksX7_reads_3 3 rfl rfl)
theorem dX7_reads_75 : decode cX7_reads 75 = .ok (.putfield 284, 3) := dk_181 1 28 (dk_at dksX7_reads_3 4 rfl rfl)
theorem dX7_reads_78 : decode cX7_reads 78 = .ok (.aload_n 0, 1) := dk_42 (dk_at dksX7_reads_3 7 rfl rfl)
theorem dX7_reads_79 : decode cX7_reads 79 = .ok (.iconst 0, 1) := dk_3 (dk_at dksX7_reads_3 8 rfl rfl)
theorem dX7_reads_80 : decode cX7_reads 80 = .ok (.putfield 313, 3) := dk_181 1 57 (dk_at dksX7_reads_3 9 rfl rfl)
theorem dX7_reads_83 : decode cX7_reads 83 = .ok (.aload_n 0, 1) := dk_42 (dk_at dksX7_reads_3 12 rfl rfl)
theorem dX7_reads_84 : decode cX7_reads 84 = .ok (.invokevirtual 291, 3) := dk_182 1 35 (dk_at dksX7_reads_3 13 rfl rfl)
theorem dX7_reads_87 : decode cX7_reads 87 = .ok (.iconst (-1), 1) := dk_2 (dk_at dksX7_reads_3 16 rfl rfl)
theorem dX7_reads_88 : decode cX7_reads 88 = .ok (.if_icmp .eq 69, 3) := dk_159 0 69 (dk_at dksX7_reads_3 17 rfl rfl)
theorem dX7_reads_91 : decode cX7_reads 91 = .ok (.aload_n 0, 1) := dk_42 (dk_at dksX7_reads_3 20 rfl rfl)
theorem dX7_reads_92 : decode cX7_reads 92 = .ok (.iconst 1, 1) := dk_4 (dk_at dksX7_reads_3 21 rfl rfl)
theorem dX7_reads_93 : decode cX7_reads 93 = .ok (.invokevirtual 319, 3) := dk_182 1 63 (dk_at dksX7_reads_4 0 rfl rfl)
theorem dX7_reads_96 : decode cX7_reads 96 = .ok (.istore_n 1, 1) := dk_60 (dk_at dksX7_reads_4 3 rfl rfl)
theorem dX7_reads_97 : decode cX7_reads 97 = .ok (.aload_n 0, 1) := dk_42 (dk_at dksX7_reads_4 4 rfl rfl)
theorem dX7_reads_98 : decode cX7_reads 98 = .ok (.getfield 313, 3) := dk_180 1 57 (dk_at dksX7_reads_4 5 rfl rfl)
theorem dX7_reads_101 : decode cX7_reads 101 = .ok (.ifCond .ge 50, 3) := dk_156 0 50 (dk_at dksX7_reads_4 8 rfl rfl)
theorem dX7_reads_104 : decode cX7_reads 104 = .ok (.iconst 0, 1) := dk_3 (dk_at dksX7_reads_4 11 rfl rfl)
theorem dX7_reads_105 : decode cX7_reads 105 = .ok (.istore_n 3, 1) := dk_62 (dk_at dksX7_reads_4 12 rfl rfl)
theorem dX7_reads_106 : decode cX7_reads 106 = .ok (.iload_n 3, 1) := dk_29 (dk_at dksX7_reads_4 13 rfl rfl)
theorem dX7_reads_107 : decode cX7_reads 107 = .ok (.sipush 406, 3) := dk_17 1 150 (dk_at dksX7_reads_4 14 rfl rfl)
theorem dX7_reads_110 : decode cX7_reads 110 = .ok (.if_icmp .ge 21, 3) := dk_162 0 21 (dk_at dksX7_reads_4 17 rfl rfl)
theorem dX7_reads_113 : decode cX7_reads 113 = .ok (.aload_n 0, 1) := dk_42 (dk_at dksX7_reads_4 20 rfl rfl)
theorem dX7_reads_114 : decode cX7_reads 114 = .ok (.getfield 7, 3) := dk_180 0 7 (dk_at dksX7_reads_4 21 rfl rfl)
theorem dX7_reads_117 : decode cX7_reads 117 = .ok (.iload_n 3, 1) := dk_29 (dk_at dksX7_reads_5 0 rfl rfl)
theorem dX7_reads_118 : decode cX7_reads 118 = .ok (.aload_n 0, 1) := dk_42 (dk_at dksX7_reads_5 1 rfl rfl)
theorem dX7_reads_119 : decode cX7_reads 119 = .ok (.getfield 16, 3) := dk_180 0 16 (dk_at dksX7_reads_5 2 rfl rfl)
theorem dX7_reads_122 : decode cX7_reads 122 = .ok (.iload_n 3, 1) := dk_29 (dk_at dksX7_reads_5 5 rfl rfl)
theorem dX7_reads_123 : decode cX7_reads 123 = .ok (.iaload, 1) := dk_46 (dk_at dksX7_reads_5 6 rfl rfl)
theorem dX7_reads_124 : decode cX7_reads 124 = .ok (.iastore, 1) := dk_79 (dk_at dksX7_reads_5 7 rfl rfl)
theorem dX7_reads_125 : decode cX7_reads 125 = .ok (.iinc 3 1, 3) := dk_132 3 1 (dk_at dksX7_reads_5 8 rfl rfl)
theorem dX7_reads_128 : decode cX7_reads 128 = .ok (.goto (-22), 3) := dk_167 255 234 (dk_at dksX7_reads_5 11 rfl rfl)
theorem dX7_reads_131 : decode cX7_reads 131 = .ok (.aload_n 0, 1) := dk_42 (dk_at dksX7_reads_5 14 rfl rfl)
theorem dX7_reads_132 : decode cX7_reads 132 = .ok (.aload_n 0, 1) := dk_42 (dk_at dksX7_reads_5 15 rfl rfl)
theorem dX7_reads_133 : decode cX7_reads 133 = .ok (.getfield 313, 3) := dk_180 1 57 (dk_at dksX7_reads_5 16 rfl rfl)
theorem dX7_reads_136 : decode cX7_reads 136 = .ok (.ineg, 1) := dk_116 (dk_at dksX7_reads_5 19 rfl rfl)
theorem dX7_reads_137 : decode cX7_reads 137 = .ok (.putfield 322, 3) := dk_181 1 66 (dk_at dksX7_reads_5 20 rfl rfl)
theorem dX7_reads_140 : decode cX7_reads 140 = .ok (.aload_n 0, 1) := dk_42 (dk_at dksX7_reads_5 23 rfl rfl)
theorem dX7_reads_141 : decode cX7_reads 141 = .ok (.iload_n 2, 1) := dk_28 (dk_at dksX7_reads_6 0 rfl rfl)
theorem dX7_reads_142 : decode cX7_reads 142 = .ok (.putfield 22, 3) := dk_181 0 22 (dk_at dksX7_reads_6 1 rfl rfl)
theorem dX7_reads_145 : decode cX7_reads 145 = .ok (.sipush (-1000), 3) := dk_17 252 24 (dk_at dksX7_reads_6 4 rfl rfl)
theorem dX7_reads_148 : decode cX7_reads 148 = .ok (.iload_n 2, 1) := dk_28 (dk_at dksX7_reads_6 7 rfl rfl)
theorem dX7_reads_149 : decode cX7_reads 149 = .ok (.isub, 1) := dk_100 (dk_at dksX7_reads_6 8 rfl rfl)
theorem dX7_reads_150 : decode cX7_reads 150 = .ok (.ireturn, 1) := dk_172 (dk_at dksX7_reads_6 9 rfl rfl)
theorem dX7_reads_151 : decode cX7_reads 151 = .ok (.iinc 2 1, 3) := dk_132 2 1 (dk_at dksX7_reads_6 10 rfl rfl)
theorem dX7_reads_154 : decode cX7_reads 154 = .ok (.goto (-71), 3) := dk_167 255 185 (dk_at dksX7_reads_6 13 rfl rfl)
theorem dX7_reads_157 : decode cX7_reads 157 = .ok (.aload_n 0, 1) := dk_42 (dk_at dksX7_reads_6 16 rfl rfl)
theorem dX7_reads_158 : decode cX7_reads 158 = .ok (.invokevirtual 325, 3) := dk_182 1 69 (dk_at dksX7_reads_6 17 rfl rfl)
theorem dX7_reads_161 : decode cX7_reads 161 = .ok (.iload_n 2, 1) := dk_28 (dk_at dksX7_reads_6 20 rfl rfl)
theorem dX7_reads_162 : decode cX7_reads 162 = .ok (.ireturn, 1) := dk_172 (dk_at dksX7_reads_6 21 rfl rfl)
abbrev cX7_readsOrder : ByteArray := prog_20_method_84_code
def yX7_readsOrder : MethodName := ⟨RX7, "readsOrde\x72", "(Z)Z"⟩
def dkwX7_readsOrder_5 : List UInt8 := [180, 1, 57, 154, 0, 8, 42, 28, 182, 1, 60, 4, 172]
abbrev dktX7_readsOrder_5 : List UInt8 := dkwX7_readsOrder_5 ++ []
def dkwX7_readsOrder_4 : List UInt8 := [180, 1, 28, 4, 96, 181, 1, 28, 27, 153, 0, 24, 42, 42, 28, 182, 1, 54, 181, 1, 57, 42]
abbrev dktX7_readsOrder_4 : List UInt8 := dkwX7_readsOrder_4 ++ dktX7_readsOrder_5
def dkwX7_readsOrder_3 : List UInt8 := [167, 0, 4, 2, 182, 1, 51, 153, 0, 12, 42, 182, 1, 35, 16, 59, 159, 0, 5, 3, 172, 42, 89]
abbrev dktX7_readsOrder_3 : List UInt8 := dkwX7_readsOrder_3 ++ dktX7_readsOrder_4
def dkwX7_readsOrder_2 : List UInt8 := [172, 42, 89, 180, 1, 28, 4, 96, 181, 1, 28, 42, 28, 184, 1, 48, 28, 16, 115, 160, 0, 7, 5]
abbrev dktX7_readsOrder_2 : List UInt8 := dkwX7_readsOrder_2 ++ dktX7_readsOrder_3
def dkwX7_readsOrder_1 : List UInt8 := [16, 99, 159, 0, 23, 28, 16, 116, 159, 0, 17, 28, 16, 97, 159, 0, 11, 28, 16, 120, 159, 0, 5, 3]
abbrev dktX7_readsOrder_1 : List UInt8 := dkwX7_readsOrder_1 ++ dktX7_readsOrder_2
def dkwX7_readsOrder_0 : List UInt8 := [42, 182, 1, 35, 61, 28, 16, 119, 159, 0, 41, 28, 16, 115, 159, 0, 35, 28, 16, 112, 159, 0, 29, 28]
abbrev dktX7_readsOrder_0 : List UInt8 := dkwX7_readsOrder_0 ++ dktX7_readsOrder_1
theorem dksX7_readsOrder_0 : cX7_readsOrder.data.toList.drop 0 = dktX7_readsOrder_0 := by decide +kernel
theorem dksX7_readsOrder_1 : cX7_readsOrder.data.toList.drop 24 = dktX7_readsOrder_1 := dk_seg dksX7_readsOrder_0 24 rfl rfl
theorem dksX7_readsOrder_2 : cX7_readsOrder.data.toList.drop 48 = dktX7_readsOrder_2 := dk_seg dksX7_readsOrder_1 24 rfl rfl
theorem dksX7_readsOrder_3 : cX7_readsOrder.data.toList.drop 71 = dktX7_readsOrder_3 := dk_seg dksX7_readsOrder_2 23 rfl rfl
theorem dksX7_readsOrder_4 : cX7_readsOrder.data.toList.drop 94 = dktX7_readsOrder_4 := dk_seg dksX7_readsOrder_3 23 rfl rfl
theorem dksX7_readsOrder_5 : cX7_readsOrder.data.toList.drop 116 = dktX7_readsOrder_5 := dk_seg dksX7_readsOrder_4 22 rfl rfl
theorem dX7_readsOrder_0 : decode cX7_readsOrder 0 = .ok (.aload_n 0, 1) := dk_42 (dk_at dksX7_readsOrder_0 0 rfl rfl)
theorem dX7_readsOrder_1 : decode cX7_readsOrder 1 = .ok (.invokevirtual 291, 3) := dk_182 1 35 (dk_at dksX7_readsOrder_0 1 rfl rfl)
theorem dX7_readsOrder_4 : decode cX7_readsOrder 4 = .ok (.istore_n 2, 1) := dk_61 (dk_at dksX7_readsOrder_0 4 rfl rfl)
theorem dX7_readsOrder_5 : decode cX7_readsOrder 5 = .ok (.iload_n 2, 1) := dk_28 (dk_at dksX7_readsOrder_0 5 rfl rfl)
theorem dX7_readsOrder_6 : decode cX7_readsOrder 6 = .ok (.bipush 119, 2) := dk_16 119 (dk_at dksX7_readsOrder_0 6 rfl rfl)
theorem dX7_readsOrder_8 : decode cX7_readsOrder 8 = .ok (.if_icmp .eq 41, 3) := dk_159 0 41 (dk_at dksX7_readsOrder_0 8 rfl rfl)
theorem dX7_readsOrder_11 : decode cX7_readsOrder 11 = .ok (.iload_n 2, 1) := dk_28 (dk_at dksX7_readsOrder_0 11 rfl rfl)
theorem dX7_readsOrder_12 : decode cX7_readsOrder 12 = .ok (.bipush 115, 2) := dk_16 115 (dk_at dksX7_readsOrder_0 12 rfl rfl)
theorem dX7_readsOrder_14 : decode cX7_readsOrder 14 = .ok (.if_icmp .eq 35, 3) := dk_159 0 35 (dk_at dksX7_readsOrder_0 14 rfl rfl)
theorem dX7_readsOrder_17 : decode cX7_readsOrder 17 = .ok (.iload_n 2, 1) := dk_28 (dk_at dksX7_readsOrder_0 17 rfl rfl)
theorem dX7_readsOrder_18 : decode cX7_readsOrder 18 = .ok (.bipush 112, 2) := dk_16 112 (dk_at dksX7_readsOrder_0 18 rfl rfl)
theorem dX7_readsOrder_20 : decode cX7_readsOrder 20 = .ok (.if_icmp .eq 29, 3) := dk_159 0 29 (dk_at dksX7_readsOrder_0 20 rfl rfl)
theorem dX7_readsOrder_23 : decode cX7_readsOrder 23 = .ok (.iload_n 2, 1) := dk_28 (dk_at dksX7_readsOrder_0 23 rfl rfl)
theorem dX7_readsOrder_24 : decode cX7_readsOrder 24 = .ok (.bipush 99, 2) := dk_16 99 (dk_at dksX7_readsOrder_1 0 rfl rfl)
theorem dX7_readsOrder_26 : decode cX7_readsOrder 26 = .ok (.if_icmp .eq 23, 3) := dk_159 0 23 (dk_at dksX7_readsOrder_1 2 rfl rfl)
theorem dX7_readsOrder_29 : decode cX7_readsOrder 29 = .ok (.iload_n 2, 1) := dk_28 (dk_at dksX7_readsOrder_1 5 rfl rfl)
theorem dX7_readsOrder_30 : decode cX7_readsOrder 30 = .ok (.bipush 116, 2) := dk_16 116 (dk_at dksX7_readsOrder_1 6 rfl rfl)
theorem dX7_readsOrder_32 : decode cX7_readsOrder 32 = .ok (.if_icmp .eq 17, 3) := dk_159 0 17 (dk_at dksX7_readsOrder_1 8 rfl rfl)
theorem dX7_readsOrder_35 : decode cX7_readsOrder 35 = .ok (.iload_n 2, 1) := dk_28 (dk_at dksX7_readsOrder_1 11 rfl rfl)
theorem dX7_readsOrder_36 : decode cX7_readsOrder 36 = .ok (.bipush 97, 2) := dk_16 97 (dk_at dksX7_readsOrder_1 12 rfl rfl)
theorem dX7_readsOrder_38 : decode cX7_readsOrder 38 = .ok (.if_icmp .eq 11, 3) := dk_159 0 11 (dk_at dksX7_readsOrder_1 14 rfl rfl)
theorem dX7_readsOrder_41 : decode cX7_readsOrder 41 = .ok (.iload_n 2, 1) := dk_28 (dk_at dksX7_readsOrder_1 17 rfl rfl)
theorem dX7_readsOrder_42 : decode cX7_readsOrder 42 = .ok (.bipush 120, 2) := dk_16 120 (dk_at dksX7_readsOrder_1 18 rfl rfl)
theorem dX7_readsOrder_44 : decode cX7_readsOrder 44 = .ok (.if_icmp .eq 5, 3) := dk_159 0 5 (dk_at dksX7_readsOrder_1 20 rfl rfl)
theorem dX7_readsOrder_47 : decode cX7_readsOrder 47 = .ok (.iconst 0, 1) := dk_3 (dk_at dksX7_readsOrder_1 23 rfl rfl)
theorem dX7_readsOrder_48 : decode cX7_readsOrder 48 = .ok (.ireturn, 1) := dk_172 (dk_at dksX7_readsOrder_2 0 rfl rfl)
theorem dX7_readsOrder_49 : decode cX7_readsOrder 49 = .ok (.aload_n 0, 1) := dk_42 (dk_at dksX7_readsOrder_2 1 rfl rfl)
theorem dX7_readsOrder_50 : decode cX7_readsOrder 50 = .ok (.dup, 1) := dk_89 (dk_at dksX7_readsOrder_2 2 rfl rfl)
theorem dX7_readsOrder_51 : decode cX7_readsOrder 51 = .ok (.getfield 284, 3) := dk_180 1 28 (dk_at dksX7_readsOrder_2 3 rfl rfl)
theorem dX7_readsOrder_54 : decode cX7_readsOrder 54 = .ok (.iconst 1, 1) := dk_4 (dk_at dksX7_readsOrder_2 6 rfl rfl)
theorem dX7_readsOrder_55 : decode cX7_readsOrder 55 = .ok (.iadd, 1) := dk_96 (dk_at dksX7_readsOrder_2 7 rfl rfl)
theorem dX7_readsOrder_56 : decode cX7_readsOrder 56 = .ok (.putfield 284, 3) := dk_181 1 28 (dk_at dksX7_readsOrder_2 8 rfl rfl)
theorem dX7_readsOrder_59 : decode cX7_readsOrder 59 = .ok (.aload_n 0, 1) := dk_42 (dk_at dksX7_readsOrder_2 11 rfl rfl)
theorem dX7_readsOrder_60 : decode cX7_readsOrder 60 = .ok (.iload_n 2, 1) := dk_28 (dk_at dksX7_readsOrder_2 12 rfl rfl)
theorem dX7_readsOrder_61 : decode cX7_readsOrder 61 = .ok (.invokestatic 304, 3) := dk_184 1 48 (dk_at dksX7_readsOrder_2 13 rfl rfl)
theorem dX7_readsOrder_64 : decode cX7_readsOrder 64 = .ok (.iload_n 2, 1) := dk_28 (dk_at dksX7_readsOrder_2 16 rfl rfl)
theorem dX7_readsOrder_65 : decode cX7_readsOrder 65 = .ok (.bipush 115, 2) := dk_16 115 (dk_at dksX7_readsOrder_2 17 rfl rfl)
theorem dX7_readsOrder_67 : decode cX7_readsOrder 67 = .ok (.if_icmp .ne 7, 3) := dk_160 0 7 (dk_at dksX7_readsOrder_2 19 rfl rfl)
theorem dX7_readsOrder_70 : decode cX7_readsOrder 70 = .ok (.iconst 2, 1) := dk_5 (dk_at dksX7_readsOrder_2 22 rfl rfl)
theorem dX7_readsOrder_71 : decode cX7_readsOrder 71 = .ok (.goto 4, 3) := dk_167 0 4 (dk_at dksX7_readsOrder_3 0 rfl rfl)
theorem dX7_readsOrder_74 : decode cX7_readsOrder 74 = .ok (.iconst (-1), 1) := dk_2 (dk_at dksX7_readsOrder_3 3 rfl rfl)
theorem dX7_readsOrder_75 : decode cX7_readsOrder 75 = .ok (.invokevirtual 307, 3) := dk_182 1 51 (dk_at dksX7_readsOrder_3 4 rfl rfl)
theorem dX7_readsOrder_78 : decode cX7_readsOrder 78 = .ok (.ifCond .eq 12, 3) := dk_153 0 12 (dk_at dksX7_readsOrder_3 7 rfl rfl)
theorem dX7_readsOrder_81 : decode cX7_readsOrder 81 = .ok (.aload_n 0, 1) := dk_42 (dk_at dksX7_readsOrder_3 10 rfl rfl)
theorem dX7_readsOrder_82 : decode cX7_readsOrder 82 = .ok (.invokevirtual 291, 3) := dk_182 1 35 (dk_at dksX7_readsOrder_3 11 rfl rfl)
theorem dX7_readsOrder_85 : decode cX7_readsOrder 85 = .ok (.bipush 59, 2) := dk_16 59 (dk_at dksX7_readsOrder_3 14 rfl rfl)
theorem dX7_readsOrder_87 : decode cX7_readsOrder 87 = .ok (.if_icmp .eq 5, 3) := dk_159 0 5 (dk_at dksX7_readsOrder_3 16 rfl rfl)
theorem dX7_readsOrder_90 : decode cX7_readsOrder 90 = .ok (.iconst 0, 1) := dk_3 (dk_at dksX7_readsOrder_3 19 rfl rfl)
theorem dX7_readsOrder_91 : decode cX7_readsOrder 91 = .ok (.ireturn, 1) := dk_172 (dk_at dksX7_readsOrder_3 20 rfl rfl)
theorem dX7_readsOrder_92 : decode cX7_readsOrder 92 = .ok (.aload_n 0, 1) := dk_42 (dk_at dksX7_readsOrder_3 21 rfl rfl)
theorem dX7_readsOrder_93 : decode cX7_readsOrder 93 = .ok (.dup, 1) := dk_89 (dk_at dksX7_readsOrder_3 22 rfl rfl)
theorem dX7_readsOrder_94 : decode cX7_readsOrder 94 = .ok (.getfield 284, 3) := dk_180 1 28 (dk_at dksX7_readsOrder_4 0 rfl rfl)
theorem dX7_readsOrder_97 : decode cX7_readsOrder 97 = .ok (.iconst 1, 1) := dk_4 (dk_at dksX7_readsOrder_4 3 rfl rfl)
theorem dX7_readsOrder_98 : decode cX7_readsOrder 98 = .ok (.iadd, 1) := dk_96 (dk_at dksX7_readsOrder_4 4 rfl rfl)
theorem dX7_readsOrder_99 : decode cX7_readsOrder 99 = .ok (.putfield 284, 3) := dk_181 1 28 (dk_at dksX7_readsOrder_4 5 rfl rfl)
theorem dX7_readsOrder_102 : decode cX7_readsOrder 102 = .ok (.iload_n 1, 1) := dk_27 (dk_at dksX7_readsOrder_4 8 rfl rfl)
theorem dX7_readsOrder_103 : decode cX7_readsOrder 103 = .ok (.ifCond .eq 24, 3) := dk_153 0 24 (dk_at dksX7_readsOrder_4 9 rfl rfl)
theorem dX7_readsOrder_106 : decode cX7_readsOrder 106 = .ok (.aload_n 0, 1) := dk_42 (dk_at dksX7_readsOrder_4 12 rfl rfl)
theorem dX7_readsOrder_107 : decode cX7_readsOrder 107 = .ok (.aload_n 0, 1) := dk_42 (dk_at dksX7_readsOrder_4 13 rfl rfl)
theorem dX7_readsOrder_108 : decode cX7_readsOrder 108 = .ok (.iload_n 2, 1) := dk_28 (dk_at dksX7_readsOrder_4 14 rfl rfl)
theorem dX7_readsOrder_109 : decode cX7_readsOrder 109 = .ok (.invokevirtual 310, 3) := dk_182 1 54 (dk_at dksX7_readsOrder_4 15 rfl rfl)
theorem dX7_readsOrder_112 : decode cX7_readsOrder 112 = .ok (.putfield 313, 3) := dk_181 1 57 (dk_at dksX7_readsOrder_4 18 rfl rfl)
theorem dX7_readsOrder_115 : decode cX7_readsOrder 115 = .ok (.aload_n 0, 1) := dk_42 (dk_at dksX7_readsOrder_4 21 rfl rfl)
theorem dX7_readsOrder_116 : decode cX7_readsOrder 116 = .ok (.getfield 313, 3) := dk_180 1 57 (dk_at dksX7_readsOrder_5 0 rfl rfl)
theorem dX7_readsOrder_119 : decode cX7_readsOrder 119 = .ok (.ifCond .ne 8, 3) := dk_154 0 8 (dk_at dksX7_readsOrder_5 3 rfl rfl)
theorem dX7_readsOrder_122 : decode cX7_readsOrder 122 = .ok (.aload_n 0, 1) := dk_42 (dk_at dksX7_readsOrder_5 6 rfl rfl)
theorem dX7_readsOrder_123 : decode cX7_readsOrder 123 = .ok (.iload_n 2, 1) := dk_28 (dk_at dksX7_readsOrder_5 7 rfl rfl)
theorem dX7_readsOrder_124 : decode cX7_readsOrder 124 = .ok (.invokevirtual 316, 3) := dk_182 1 60 (dk_at dksX7_readsOrder_5 8 rfl rfl)
theorem dX7_readsOrder_127 : decode cX7_readsOrder 127 = .ok (.iconst 1, 1) := dk_4 (dk_at dksX7_readsOrder_5 11 rfl rfl)
theorem dX7_readsOrder_128 : decode cX7_readsOrder 128 = .ok (.ireturn, 1) := dk_172 (dk_at dksX7_readsOrder_5 12 rfl rfl)
abbrev cX7_here : ByteArray := prog_20_method_77_code
def yX7_here : MethodName := ⟨RX7, "here", "()I"⟩
def dkwX7_here_2 : List UInt8 := [162, 0, 15, 42, 180, 0, 50, 42, 180, 1, 28, 46, 167, 0, 4, 2, 172]
abbrev dktX7_here_2 : List UInt8 := dkwX7_here_2 ++ []
def dkwX7_here_1 : List UInt8 := [160, 0, 16, 42, 89, 180, 1, 28, 4, 96, 181, 1, 28, 167, 255, 221, 42, 180, 1, 28, 42, 180, 1, 25]
abbrev dktX7_here_1 : List UInt8 := dkwX7_here_1 ++ dktX7_here_2
def dkwX7_here_0 : List UInt8 := [42, 180, 1, 28, 42, 180, 1, 25, 162, 0, 30, 42, 180, 0, 50, 42, 180, 1, 28, 46, 16, 32]
abbrev dktX7_here_0 : List UInt8 := dkwX7_here_0 ++ dktX7_here_1
theorem dksX7_here_0 : cX7_here.data.toList.drop 0 = dktX7_here_0 := by decide +kernel
theorem dksX7_here_1 : cX7_here.data.toList.drop 22 = dktX7_here_1 := dk_seg dksX7_here_0 22 rfl rfl
theorem dksX7_here_2 : cX7_here.data.toList.drop 46 = dktX7_here_2 := dk_seg dksX7_here_1 24 rfl rfl
theorem dX7_here_0 : decode cX7_here 0 = .ok (.aload_n 0, 1) := dk_42 (dk_at dksX7_here_0 0 rfl rfl)
theorem dX7_here_1 : decode cX7_here 1 = .ok (.getfield 284, 3) := dk_180 1 28 (dk_at dksX7_here_0 1 rfl rfl)
theorem dX7_here_4 : decode cX7_here 4 = .ok (.aload_n 0, 1) := dk_42 (dk_at dksX7_here_0 4 rfl rfl)
theorem dX7_here_5 : decode cX7_here 5 = .ok (.getfield 281, 3) := dk_180 1 25 (dk_at dksX7_here_0 5 rfl rfl)
theorem dX7_here_8 : decode cX7_here 8 = .ok (.if_icmp .ge 30, 3) := dk_162 0 30 (dk_at dksX7_here_0 8 rfl rfl)
theorem dX7_here_11 : decode cX7_here 11 = .ok (.aload_n 0, 1) := dk_42 (dk_at dksX7_here_0 11 rfl rfl)
theorem dX7_here_12 : decode cX7_here 12 = .ok (.getfield 50, 3) := dk_180 0 50 (dk_at dksX7_here_0 12 rfl rfl)
theorem dX7_here_15 : decode cX7_here 15 = .ok (.aload_n 0, 1) := dk_42 (dk_at dksX7_here_0 15 rfl rfl)
theorem dX7_here_16 : decode cX7_here 16 = .ok (.getfield 284, 3) := dk_180 1 28 (dk_at dksX7_here_0 16 rfl rfl)
theorem dX7_here_19 : decode cX7_here 19 = .ok (.iaload, 1) := dk_46 (dk_at dksX7_here_0 19 rfl rfl)
theorem dX7_here_20 : decode cX7_here 20 = .ok (.bipush 32, 2) := dk_16 32 (dk_at dksX7_here_0 20 rfl rfl)
theorem dX7_here_22 : decode cX7_here 22 = .ok (.if_icmp .ne 16, 3) := dk_160 0 16 (dk_at dksX7_here_1 0 rfl rfl)
theorem dX7_here_25 : decode cX7_here 25 = .ok (.aload_n 0, 1) := dk_42 (dk_at dksX7_here_1 3 rfl rfl)
theorem dX7_here_26 : decode cX7_here 26 = .ok (.dup, 1) := dk_89 (dk_at dksX7_here_1 4 rfl rfl)
theorem dX7_here_27 : decode cX7_here 27 = .ok (.getfield 284, 3) := dk_180 1 28 (dk_at dksX7_here_1 5 rfl rfl)
theorem dX7_here_30 : decode cX7_here 30 = .ok (.iconst 1, 1) := dk_4 (dk_at dksX7_here_1 8 rfl rfl)
theorem dX7_here_31 : decode cX7_here 31 = .ok (.iadd, 1) := dk_96 (dk_at dksX7_here_1 9 rfl rfl)
theorem dX7_here_32 : decode cX7_here 32 = .ok (.putfield 284, 3) := dk_181 1 28 (dk_at dksX7_here_1 10 rfl rfl)
theorem dX7_here_35 : decode cX7_here 35 = .ok (.goto (-35), 3) := dk_167 255 221 (dk_at dksX7_here_1 13 rfl rfl)
theorem dX7_here_38 : decode cX7_here 38 = .ok (.aload_n 0, 1) := dk_42 (dk_at dksX7_here_1 16 rfl rfl)
theorem dX7_here_39 : decode cX7_here 39 = .ok (.getfield 284, 3) := dk_180 1 28 (dk_at dksX7_here_1 17 rfl rfl)
theorem dX7_here_42 : decode cX7_here 42 = .ok (.aload_n 0, 1) := dk_42 (dk_at dksX7_here_1 20 rfl rfl)
theorem dX7_here_43 : decode cX7_here 43 = .ok (.getfield 281, 3) := dk_180 1 25 (dk_at dksX7_here_1 21 rfl rfl)
theorem dX7_here_46 : decode cX7_here 46 = .ok (.if_icmp .ge 15, 3) := dk_162 0 15 (dk_at dksX7_here_2 0 rfl rfl)
theorem dX7_here_49 : decode cX7_here 49 = .ok (.aload_n 0, 1) := dk_42 (dk_at dksX7_here_2 3 rfl rfl)
theorem dX7_here_50 : decode cX7_here 50 = .ok (.getfield 50, 3) := dk_180 0 50 (dk_at dksX7_here_2 4 rfl rfl)
theorem dX7_here_53 : decode cX7_here 53 = .ok (.aload_n 0, 1) := dk_42 (dk_at dksX7_here_2 7 rfl rfl)
theorem dX7_here_54 : decode cX7_here 54 = .ok (.getfield 284, 3) := dk_180 1 28 (dk_at dksX7_here_2 8 rfl rfl)
theorem dX7_here_57 : decode cX7_here 57 = .ok (.iaload, 1) := dk_46 (dk_at dksX7_here_2 11 rfl rfl)
theorem dX7_here_58 : decode cX7_here 58 = .ok (.goto 4, 3) := dk_167 0 4 (dk_at dksX7_here_2 12 rfl rfl)
theorem dX7_here_61 : decode cX7_here 61 = .ok (.iconst (-1), 1) := dk_2 (dk_at dksX7_here_2 15 rfl rfl)
theorem dX7_here_62 : decode cX7_here 62 = .ok (.ireturn, 1) := dk_172 (dk_at dksX7_here_2 16 rfl rfl)
abbrev cX7_numbersOf : ByteArray := prog_20_method_81_code
def yX7_numbersOf : MethodName := ⟨RX7, "numbersOf", "(I)I"⟩
def dkwX7_numbersOf_1 : List UInt8 := [167, 0, 14, 26, 16, 112, 160, 0, 7, 7, 167, 0, 4, 4, 172]
abbrev dktX7_numbersOf_1 : List UInt8 := dkwX7_numbersOf_1 ++ []
def dkwX7_numbersOf_0 : List UInt8 := [26, 16, 119, 160, 0, 7, 5, 167, 0, 30, 26, 16, 115, 159, 0, 9, 26, 16, 99, 160, 0, 7, 6]
abbrev dktX7_numbersOf_0 : List UInt8 := dkwX7_numbersOf_0 ++ dktX7_numbersOf_1
theorem dksX7_numbersOf_0 : cX7_numbersOf.data.toList.drop 0 = dktX7_numbersOf_0 := by decide +kernel
theorem dksX7_numbersOf_1 : cX7_numbersOf.data.toList.drop 23 = dktX7_numbersOf_1 := dk_seg dksX7_numbersOf_0 23 rfl rfl
theorem dX7_numbersOf_0 : decode cX7_numbersOf 0 = .ok (.iload_n 0, 1) := dk_26 (dk_at dksX7_numbersOf_0 0 rfl rfl)
theorem dX7_numbersOf_1 : decode cX7_numbersOf 1 = .ok (.bipush 119, 2) := dk_16 119 (dk_at dksX7_numbersOf_0 1 rfl rfl)
theorem dX7_numbersOf_3 : decode cX7_numbersOf 3 = .ok (.if_icmp .ne 7, 3) := dk_160 0 7 (dk_at dksX7_numbersOf_0 3 rfl rfl)
theorem dX7_numbersOf_6 : decode cX7_numbersOf 6 = .ok (.iconst 2, 1) := dk_5 (dk_at dksX7_numbersOf_0 6 rfl rfl)
theorem dX7_numbersOf_7 : decode cX7_numbersOf 7 = .ok (.goto 30, 3) := dk_167 0 30 (dk_at dksX7_numbersOf_0 7 rfl rfl)
theorem dX7_numbersOf_10 : decode cX7_numbersOf 10 = .ok (.iload_n 0, 1) := dk_26 (dk_at dksX7_numbersOf_0 10 rfl rfl)
theorem dX7_numbersOf_11 : decode cX7_numbersOf 11 = .ok (.bipush 115, 2) := dk_16 115 (dk_at dksX7_numbersOf_0 11 rfl rfl)
theorem dX7_numbersOf_13 : decode cX7_numbersOf 13 = .ok (.if_icmp .eq 9, 3) := dk_159 0 9 (dk_at dksX7_numbersOf_0 13 rfl rfl)
theorem dX7_numbersOf_16 : decode cX7_numbersOf 16 = .ok (.iload_n 0, 1) := dk_26 (dk_at dksX7_numbersOf_0 16 rfl rfl)
theorem dX7_numbersOf_17 : decode cX7_numbersOf 17 = .ok (.bipush 99, 2) := dk_16 99 (dk_at dksX7_numbersOf_0 17 rfl rfl)
theorem dX7_numbersOf_19 : decode cX7_numbersOf 19 = .ok (.if_icmp .ne 7, 3) := dk_160 0 7 (dk_at dksX7_numbersOf_0 19 rfl rfl)
theorem dX7_numbersOf_22 : decode cX7_numbersOf 22 = .ok (.iconst 3, 1) := dk_6 (dk_at dksX7_numbersOf_0 22 rfl rfl)
theorem dX7_numbersOf_23 : decode cX7_numbersOf 23 = .ok (.goto 14, 3) := dk_167 0 14 (dk_at dksX7_numbersOf_1 0 rfl rfl)
theorem dX7_numbersOf_26 : decode cX7_numbersOf 26 = .ok (.iload_n 0, 1) := dk_26 (dk_at dksX7_numbersOf_1 3 rfl rfl)
theorem dX7_numbersOf_27 : decode cX7_numbersOf 27 = .ok (.bipush 112, 2) := dk_16 112 (dk_at dksX7_numbersOf_1 4 rfl rfl)
theorem dX7_numbersOf_29 : decode cX7_numbersOf 29 = .ok (.if_icmp .ne 7, 3) := dk_160 0 7 (dk_at dksX7_numbersOf_1 6 rfl rfl)
theorem dX7_numbersOf_32 : decode cX7_numbersOf 32 = .ok (.iconst 4, 1) := dk_7 (dk_at dksX7_numbersOf_1 9 rfl rfl)
theorem dX7_numbersOf_33 : decode cX7_numbersOf 33 = .ok (.goto 4, 3) := dk_167 0 4 (dk_at dksX7_numbersOf_1 10 rfl rfl)
theorem dX7_numbersOf_36 : decode cX7_numbersOf 36 = .ok (.iconst 1, 1) := dk_4 (dk_at dksX7_numbersOf_1 13 rfl rfl)
theorem dX7_numbersOf_37 : decode cX7_numbersOf 37 = .ok (.ireturn, 1) := dk_172 (dk_at dksX7_numbersOf_1 14 rfl rfl)
abbrev cX7_takesAll : ByteArray := prog_20_method_80_code
def yX7_takesAll : MethodName := ⟨RX7, "takesAll", "(II)Z"⟩
def dkwX7_takesAll_1 : List UInt8 := [3, 172, 42, 180, 0, 53, 29, 42, 180, 1, 38, 79, 132, 3, 1, 167, 255, 219, 4, 172]
abbrev dktX7_takesAll_1 : List UInt8 := dkwX7_takesAll_1 ++ []
def dkwX7_takesAll_0 : List UInt8 := [3, 62, 29, 27, 162, 0, 38, 42, 29, 28, 160, 0, 7, 4, 167, 0, 4, 3, 182, 1, 44, 154, 0, 5]
abbrev dktX7_takesAll_0 : List UInt8 := dkwX7_takesAll_0 ++ dktX7_takesAll_1
theorem dksX7_takesAll_0 : cX7_takesAll.data.toList.drop 0 = dktX7_takesAll_0 := by decide +kernel
theorem dksX7_takesAll_1 : cX7_takesAll.data.toList.drop 24 = dktX7_takesAll_1 := dk_seg dksX7_takesAll_0 24 rfl rfl
theorem dX7_takesAll_0 : decode cX7_takesAll 0 = .ok (.iconst 0, 1) := dk_3 (dk_at dksX7_takesAll_0 0 rfl rfl)
theorem dX7_takesAll_1 : decode cX7_takesAll 1 = .ok (.istore_n 3, 1) := dk_62 (dk_at dksX7_takesAll_0 1 rfl rfl)
theorem dX7_takesAll_2 : decode cX7_takesAll 2 = .ok (.iload_n 3, 1) := dk_29 (dk_at dksX7_takesAll_0 2 rfl rfl)
theorem dX7_takesAll_3 : decode cX7_takesAll 3 = .ok (.iload_n 1, 1) := dk_27 (dk_at dksX7_takesAll_0 3 rfl rfl)
theorem dX7_takesAll_4 : decode cX7_takesAll 4 = .ok (.if_icmp .ge 38, 3) := dk_162 0 38 (dk_at dksX7_takesAll_0 4 rfl rfl)
theorem dX7_takesAll_7 : decode cX7_takesAll 7 = .ok (.aload_n 0, 1) := dk_42 (dk_at dksX7_takesAll_0 7 rfl rfl)
theorem dX7_takesAll_8 : decode cX7_takesAll 8 = .ok (.iload_n 3, 1) := dk_29 (dk_at dksX7_takesAll_0 8 rfl rfl)
theorem dX7_takesAll_9 : decode cX7_takesAll 9 = .ok (.iload_n 2, 1) := dk_28 (dk_at dksX7_takesAll_0 9 rfl rfl)
theorem dX7_takesAll_10 : decode cX7_takesAll 10 = .ok (.if_icmp .ne 7, 3) := dk_160 0 7 (dk_at dksX7_takesAll_0 10 rfl rfl)
theorem dX7_takesAll_13 : decode cX7_takesAll 13 = .ok (.iconst 1, 1) := dk_4 (dk_at dksX7_takesAll_0 13 rfl rfl)
theorem dX7_takesAll_14 : decode cX7_takesAll 14 = .ok (.goto 4, 3) := dk_167 0 4 (dk_at dksX7_takesAll_0 14 rfl rfl)
theorem dX7_takesAll_17 : decode cX7_takesAll 17 = .ok (.iconst 0, 1) := dk_3 (dk_at dksX7_takesAll_0 17 rfl rfl)
theorem dX7_takesAll_18 : decode cX7_takesAll 18 = .ok (.invokevirtual 300, 3) := dk_182 1 44 (dk_at dksX7_takesAll_0 18 rfl rfl)
theorem dX7_takesAll_21 : decode cX7_takesAll 21 = .ok (.ifCond .ne 5, 3) := dk_154 0 5 (dk_at dksX7_takesAll_0 21 rfl rfl)
theorem dX7_takesAll_24 : decode cX7_takesAll 24 = .ok (.iconst 0, 1) := dk_3 (dk_at dksX7_takesAll_1 0 rfl rfl)
theorem dX7_takesAll_25 : decode cX7_takesAll 25 = .ok (.ireturn, 1) := dk_172 (dk_at dksX7_takesAll_1 1 rfl rfl)
theorem dX7_takesAll_26 : decode cX7_takesAll 26 = .ok (.aload_n 0, 1) := dk_42 (dk_at dksX7_takesAll_1 2 rfl rfl)
theorem dX7_takesAll_27 : decode cX7_takesAll 27 = .ok (.getfield 53, 3) := dk_180 0 53 (dk_at dksX7_takesAll_1 3 rfl rfl)
theorem dX7_takesAll_30 : decode cX7_takesAll 30 = .ok (.iload_n 3, 1) := dk_29 (dk_at dksX7_takesAll_1 6 rfl rfl)
theorem dX7_takesAll_31 : decode cX7_takesAll 31 = .ok (.aload_n 0, 1) := dk_42 (dk_at dksX7_takesAll_1 7 rfl rfl)
theorem dX7_takesAll_32 : decode cX7_takesAll 32 = .ok (.getfield 294, 3) := dk_180 1 38 (dk_at dksX7_takesAll_1 8 rfl rfl)
theorem dX7_takesAll_35 : decode cX7_takesAll 35 = .ok (.iastore, 1) := dk_79 (dk_at dksX7_takesAll_1 11 rfl rfl)
theorem dX7_takesAll_36 : decode cX7_takesAll 36 = .ok (.iinc 3 1, 3) := dk_132 3 1 (dk_at dksX7_takesAll_1 12 rfl rfl)
theorem dX7_takesAll_39 : decode cX7_takesAll 39 = .ok (.goto (-37), 3) := dk_167 255 219 (dk_at dksX7_takesAll_1 15 rfl rfl)
theorem dX7_takesAll_42 : decode cX7_takesAll 42 = .ok (.iconst 1, 1) := dk_4 (dk_at dksX7_takesAll_1 18 rfl rfl)
theorem dX7_takesAll_43 : decode cX7_takesAll 43 = .ok (.ireturn, 1) := dk_172 (dk_at dksX7_takesAll_1 19 rfl rfl)
abbrev cX7_takes : ByteArray := prog_20_method_79_code
def yX7_takes : MethodName := ⟨RX7, "takes", "(Z)Z"⟩
def dkwX7_takes_6 : List UInt8 := [21, 4, 158, 0, 18, 42, 42, 180, 1, 28, 182, 1, 41, 154, 0, 7, 4, 167, 0, 4, 3, 172]
abbrev dktX7_takes_6 : List UInt8 := dkwX7_takes_6 ++ []
def dkwX7_takes_5 : List UInt8 := [28, 153, 0, 11, 42, 180, 1, 38, 116, 167, 0, 7, 42, 180, 1, 38, 181, 1, 38, 29, 2, 159, 0, 23]
abbrev dktX7_takes_5 : List UInt8 := dkwX7_takes_5 ++ dktX7_takes_6
def dkwX7_takes_4 : List UInt8 := [96, 16, 48, 100, 181, 1, 38, 42, 89, 180, 1, 28, 4, 96, 181, 1, 28, 132, 4, 1, 167, 255, 201, 42]
abbrev dktX7_takes_4 : List UInt8 := dkwX7_takes_4 ++ dktX7_takes_5
def dkwX7_takes_3 : List UInt8 := [21, 4, 16, 6, 162, 0, 43, 42, 16, 10, 42, 180, 1, 38, 104, 42, 180, 0, 50, 42, 180, 1, 28, 46]
abbrev dktX7_takes_3 : List UInt8 := dkwX7_takes_3 ++ dktX7_takes_4
def dkwX7_takes_2 : List UInt8 := [182, 1, 35, 62, 3, 54, 4, 42, 3, 181, 1, 38, 42, 42, 180, 1, 28, 182, 1, 41, 153, 0, 50]
abbrev dktX7_takes_2 : List UInt8 := dkwX7_takes_2 ++ dktX7_takes_3
def dkwX7_takes_1 : List UInt8 := [28, 153, 0, 7, 4, 167, 0, 4, 3, 96, 181, 1, 28, 28, 153, 0, 7, 3, 167, 0, 7, 42]
abbrev dktX7_takes_1 : List UInt8 := dkwX7_takes_1 ++ dktX7_takes_2
def dkwX7_takes_0 : List UInt8 := [42, 182, 1, 35, 16, 45, 160, 0, 11, 27, 153, 0, 7, 4, 167, 0, 4, 3, 61, 42, 89, 180, 1, 28]
abbrev dktX7_takes_0 : List UInt8 := dkwX7_takes_0 ++ dktX7_takes_1
theorem dksX7_takes_0 : cX7_takes.data.toList.drop 0 = dktX7_takes_0 := by decide +kernel
theorem dksX7_takes_1 : cX7_takes.data.toList.drop 24 = dktX7_takes_1 := dk_seg dksX7_takes_0 24 rfl rfl
theorem dksX7_takes_2 : cX7_takes.data.toList.drop 46 = dktX7_takes_2 := dk_seg dksX7_takes_1 22 rfl rfl
theorem dksX7_takes_3 : cX7_takes.data.toList.drop 69 = dktX7_takes_3 := dk_seg dksX7_takes_2 23 rfl rfl
theorem dksX7_takes_4 : cX7_takes.data.toList.drop 93 = dktX7_takes_4 := dk_seg dksX7_takes_3 24 rfl rfl
theorem dksX7_takes_5 : cX7_takes.data.toList.drop 117 = dktX7_takes_5 := dk_seg dksX7_takes_4 24 rfl rfl
theorem dksX7_takes_6 : cX7_takes.data.toList.drop 141 = dktX7_takes_6 := dk_seg dksX7_takes_5 24 rfl rfl
theorem dX7_takes_0 : decode cX7_takes 0 = .ok (.aload_n 0, 1) := dk_42 (dk_at dksX7_takes_0 0 rfl rfl)
theorem dX7_takes_1 : decode cX7_takes 1 = .ok (.invokevirtual 291, 3) := dk_182 1 35 (dk_at dksX7_takes_0 1 rfl rfl)
theorem dX7_takes_4 : decode cX7_takes 4 = .ok (.bipush 45, 2) := dk_16 45 (dk_at dksX7_takes_0 4 rfl rfl)
theorem dX7_takes_6 : decode cX7_takes 6 = .ok (.if_icmp .ne 11, 3) := dk_160 0 11 (dk_at dksX7_takes_0 6 rfl rfl)
theorem dX7_takes_9 : decode cX7_takes 9 = .ok (.iload_n 1, 1) := dk_27 (dk_at dksX7_takes_0 9 rfl rfl)
theorem dX7_takes_10 : decode cX7_takes 10 = .ok (.ifCond .eq 7, 3) := dk_153 0 7 (dk_at dksX7_takes_0 10 rfl rfl)
theorem dX7_takes_13 : decode cX7_takes 13 = .ok (.iconst 1, 1) := dk_4 (dk_at dksX7_takes_0 13 rfl rfl)
theorem dX7_takes_14 : decode cX7_takes 14 = .ok (.goto 4, 3) := dk_167 0 4 (dk_at dksX7_takes_0 14 rfl rfl)
theorem dX7_takes_17 : decode cX7_takes 17 = .ok (.iconst 0, 1) := dk_3 (dk_at dksX7_takes_0 17 rfl rfl)
theorem dX7_takes_18 : decode cX7_takes 18 = .ok (.istore_n 2, 1) := dk_61 (dk_at dksX7_takes_0 18 rfl rfl)
theorem dX7_takes_19 : decode cX7_takes 19 = .ok (.aload_n 0, 1) := dk_42 (dk_at dksX7_takes_0 19 rfl rfl)
theorem dX7_takes_20 : decode cX7_takes 20 = .ok (.dup, 1) := dk_89 (dk_at dksX7_takes_0 20 rfl rfl)
theorem dX7_takes_21 : decode cX7_takes 21 = .ok (.getfield 284, 3) := dk_180 1 28 (dk_at dksX7_takes_0 21 rfl rfl)
theorem dX7_takes_24 : decode cX7_takes 24 = .ok (.iload_n 2, 1) := dk_28 (dk_at dksX7_takes_1 0 rfl rfl)
theorem dX7_takes_25 : decode cX7_takes 25 = .ok (.ifCond .eq 7, 3) := dk_153 0 7 (dk_at dksX7_takes_1 1 rfl rfl)
theorem dX7_takes_28 : decode cX7_takes 28 = .ok (.iconst 1, 1) := dk_4 (dk_at dksX7_takes_1 4 rfl rfl)
theorem dX7_takes_29 : decode cX7_takes 29 = .ok (.goto 4, 3) := dk_167 0 4 (dk_at dksX7_takes_1 5 rfl rfl)
theorem dX7_takes_32 : decode cX7_takes 32 = .ok (.iconst 0, 1) := dk_3 (dk_at dksX7_takes_1 8 rfl rfl)
theorem dX7_takes_33 : decode cX7_takes 33 = .ok (.iadd, 1) := dk_96 (dk_at dksX7_takes_1 9 rfl rfl)
theorem dX7_takes_34 : decode cX7_takes 34 = .ok (.putfield 284, 3) := dk_181 1 28 (dk_at dksX7_takes_1 10 rfl rfl)
theorem dX7_takes_37 : decode cX7_takes 37 = .ok (.iload_n 2, 1) := dk_28 (dk_at dksX7_takes_1 13 rfl rfl)
theorem dX7_takes_38 : decode cX7_takes 38 = .ok (.ifCond .eq 7, 3) := dk_153 0 7 (dk_at dksX7_takes_1 14 rfl rfl)
theorem dX7_takes_41 : decode cX7_takes 41 = .ok (.iconst 0, 1) := dk_3 (dk_at dksX7_takes_1 17 rfl rfl)
theorem dX7_takes_42 : decode cX7_takes 42 = .ok (.goto 7, 3) := dk_167 0 7 (dk_at dksX7_takes_1 18 rfl rfl)
theorem dX7_takes_45 : decode cX7_takes 45 = .ok (.aload_n 0, 1) := dk_42 (dk_at dksX7_takes_1 21 rfl rfl)
theorem dX7_takes_46 : decode cX7_takes 46 = .ok (.invokevirtual 291, 3) := dk_182 1 35 (dk_at dksX7_takes_2 0 rfl rfl)
theorem dX7_takes_49 : decode cX7_takes 49 = .ok (.istore_n 3, 1) := dk_62 (dk_at dksX7_takes_2 3 rfl rfl)
theorem dX7_takes_50 : decode cX7_takes 50 = .ok (.iconst 0, 1) := dk_3 (dk_at dksX7_takes_2 4 rfl rfl)
theorem dX7_takes_51 : decode cX7_takes 51 = .ok (.istore 4, 2) := dk_54 4 (dk_at dksX7_takes_2 5 rfl rfl)
theorem dX7_takes_53 : decode cX7_takes 53 = .ok (.aload_n 0, 1) := dk_42 (dk_at dksX7_takes_2 7 rfl rfl)
theorem dX7_takes_54 : decode cX7_takes 54 = .ok (.iconst 0, 1) := dk_3 (dk_at dksX7_takes_2 8 rfl rfl)
theorem dX7_takes_55 : decode cX7_takes 55 = .ok (.putfield 294, 3) := dk_181 1 38 (dk_at dksX7_takes_2 9 rfl rfl)
theorem dX7_takes_58 : decode cX7_takes 58 = .ok (.aload_n 0, 1) := dk_42 (dk_at dksX7_takes_2 12 rfl rfl)
theorem dX7_takes_59 : decode cX7_takes 59 = .ok (.aload_n 0, 1) := dk_42 (dk_at dksX7_takes_2 13 rfl rfl)
theorem dX7_takes_60 : decode cX7_takes 60 = .ok (.getfield 284, 3) := dk_180 1 28 (dk_at dksX7_takes_2 14 rfl rfl)
theorem dX7_takes_63 : decode cX7_takes 63 = .ok (.invokevirtual 297, 3) := dk_182 1 41 (dk_at dksX7_takes_2 17 rfl rfl)
theorem dX7_takes_66 : decode cX7_takes 66 = .ok (.ifCond .eq 50, 3) := dk_153 0 50 (dk_at dksX7_takes_2 20 rfl rfl)
theorem dX7_takes_69 : decode cX7_takes 69 = .ok (.iload 4, 2) := dk_21 4 (dk_at dksX7_takes_3 0 rfl rfl)
theorem dX7_takes_71 : decode cX7_takes 71 = .ok (.bipush 6, 2) := dk_16 6 (dk_at dksX7_takes_3 2 rfl rfl)
theorem dX7_takes_73 : decode cX7_takes 73 = .ok (.if_icmp .ge 43, 3) := dk_162 0 43 (dk_at dksX7_takes_3 4 rfl rfl)
theorem dX7_takes_76 : decode cX7_takes 76 = .ok (.aload_n 0, 1) := dk_42 (dk_at dksX7_takes_3 7 rfl rfl)
theorem dX7_takes_77 : decode cX7_takes 77 = .ok (.bipush 10, 2) := dk_16 10 (dk_at dksX7_takes_3 8 rfl rfl)
theorem dX7_takes_79 : decode cX7_takes 79 = .ok (.aload_n 0, 1) := dk_42 (dk_at dksX7_takes_3 10 rfl rfl)
theorem dX7_takes_80 : decode cX7_takes 80 = .ok (.getfield 294, 3) := dk_180 1 38 (dk_at dksX7_takes_3 11 rfl rfl)
theorem dX7_takes_83 : decode cX7_takes 83 = .ok (.imul, 1) := dk_104 (dk_at dksX7_takes_3 14 rfl rfl)
theorem dX7_takes_84 : decode cX7_takes 84 = .ok (.aload_n 0, 1) := dk_42 (dk_at dksX7_takes_3 15 rfl rfl)
theorem dX7_takes_85 : decode cX7_takes 85 = .ok (.getfield 50, 3) := dk_180 0 50 (dk_at dksX7_takes_3 16 rfl rfl)
theorem dX7_takes_88 : decode cX7_takes 88 = .ok (.aload_n 0, 1) := dk_42 (dk_at dksX7_takes_3 19 rfl rfl)
theorem dX7_takes_89 : decode cX7_takes 89 = .ok (.getfield 284, 3) := dk_180 1 28 (dk_at dksX7_takes_3 20 rfl rfl)
theorem dX7_takes_92 : decode cX7_takes 92 = .ok (.iaload, 1) := dk_46 (dk_at dksX7_takes_3 23 rfl rfl)
theorem dX7_takes_93 : decode cX7_takes 93 = .ok (.iadd, 1) := dk_96 (dk_at dksX7_takes_4 0 rfl rfl)
theorem dX7_takes_94 : decode cX7_takes 94 = .ok (.bipush 48, 2) := dk_16 48 (dk_at dksX7_takes_4 1 rfl rfl)
theorem dX7_takes_96 : decode cX7_takes 96 = .ok (.isub, 1) := dk_100 (dk_at dksX7_takes_4 3 rfl rfl)
theorem dX7_takes_97 : decode cX7_takes 97 = .ok (.putfield 294, 3) := dk_181 1 38 (dk_at dksX7_takes_4 4 rfl rfl)
theorem dX7_takes_100 : decode cX7_takes 100 = .ok (.aload_n 0, 1) := dk_42 (dk_at dksX7_takes_4 7 rfl rfl)
theorem dX7_takes_101 : decode cX7_takes 101 = .ok (.dup, 1) := dk_89 (dk_at dksX7_takes_4 8 rfl rfl)
theorem dX7_takes_102 : decode cX7_takes 102 = .ok (.getfield 284, 3) := dk_180 1 28 (dk_at dksX7_takes_4 9 rfl rfl)
theorem dX7_takes_105 : decode cX7_takes 105 = .ok (.iconst 1, 1) := dk_4 (dk_at dksX7_takes_4 12 rfl rfl)
theorem dX7_takes_106 : decode cX7_takes 106 = .ok (.iadd, 1) := dk_96 (dk_at dksX7_takes_4 13 rfl rfl)
theorem dX7_takes_107 : decode cX7_takes 107 = .ok (.putfield 284, 3) := dk_181 1 28 (dk_at dksX7_takes_4 14 rfl rfl)
theorem dX7_takes_110 : decode cX7_takes 110 = .ok (.iinc 4 1, 3) := dk_132 4 1 (dk_at dksX7_takes_4 17 rfl rfl)
theorem dX7_takes_113 : decode cX7_takes 113 = .ok (.goto (-55), 3) := dk_167 255 201 (dk_at dksX7_takes_4 20 rfl rfl)
theorem dX7_takes_116 : decode cX7_takes 116 = .ok (.aload_n 0, 1) := dk_42 (dk_at dksX7_takes_4 23 rfl rfl)
theorem dX7_takes_117 : decode cX7_takes 117 = .ok (.iload_n 2, 1) := dk_28 (dk_at dksX7_takes_5 0 rfl rfl)
theorem dX7_takes_118 : decode cX7_takes 118 = .ok (.ifCond .eq 11, 3) := dk_153 0 11 (dk_at dksX7_takes_5 1 rfl rfl)
theorem dX7_takes_121 : decode cX7_takes 121 = .ok (.aload_n 0, 1) := dk_42 (dk_at dksX7_takes_5 4 rfl rfl)
theorem dX7_takes_122 : decode cX7_takes 122 = .ok (.getfield 294, 3) := dk_180 1 38 (dk_at dksX7_takes_5 5 rfl rfl)
theorem dX7_takes_125 : decode cX7_takes 125 = .ok (.ineg, 1) := dk_116 (dk_at dksX7_takes_5 8 rfl rfl)
theorem dX7_takes_126 : decode cX7_takes 126 = .ok (.goto 7, 3) := dk_167 0 7 (dk_at dksX7_takes_5 9 rfl rfl)
theorem dX7_takes_129 : decode cX7_takes 129 = .ok (.aload_n 0, 1) := dk_42 (dk_at dksX7_takes_5 12 rfl rfl)
theorem dX7_takes_130 : decode cX7_takes 130 = .ok (.getfield 294, 3) := dk_180 1 38 (dk_at dksX7_takes_5 13 rfl rfl)
theorem dX7_takes_133 : decode cX7_takes 133 = .ok (.putfield 294, 3) := dk_181 1 38 (dk_at dksX7_takes_5 16 rfl rfl)
theorem dX7_takes_136 : decode cX7_takes 136 = .ok (.iload_n 3, 1) := dk_29 (dk_at dksX7_takes_5 19 rfl rfl)
theorem dX7_takes_137 : decode cX7_takes 137 = .ok (.iconst (-1), 1) := dk_2 (dk_at dksX7_takes_5 20 rfl rfl)
theorem dX7_takes_138 : decode cX7_takes 138 = .ok (.if_icmp .eq 23, 3) := dk_159 0 23 (dk_at dksX7_takes_5 21 rfl rfl)
theorem dX7_takes_141 : decode cX7_takes 141 = .ok (.iload 4, 2) := dk_21 4 (dk_at dksX7_takes_6 0 rfl rfl)
theorem dX7_takes_143 : decode cX7_takes 143 = .ok (.ifCond .le 18, 3) := dk_158 0 18 (dk_at dksX7_takes_6 2 rfl rfl)
theorem dX7_takes_146 : decode cX7_takes 146 = .ok (.aload_n 0, 1) := dk_42 (dk_at dksX7_takes_6 5 rfl rfl)
theorem dX7_takes_147 : decode cX7_takes 147 = .ok (.aload_n 0, 1) := dk_42 (dk_at dksX7_takes_6 6 rfl rfl)
theorem dX7_takes_148 : decode cX7_takes 148 = .ok (.getfield 284, 3) := dk_180 1 28 (dk_at dksX7_takes_6 7 rfl rfl)
theorem dX7_takes_151 : decode cX7_takes 151 = .ok (.invokevirtual 297, 3) := dk_182 1 41 (dk_at dksX7_takes_6 10 rfl rfl)
theorem dX7_takes_154 : decode cX7_takes 154 = .ok (.ifCond .ne 7, 3) := dk_154 0 7 (dk_at dksX7_takes_6 13 rfl rfl)
theorem dX7_takes_157 : decode cX7_takes 157 = .ok (.iconst 1, 1) := dk_4 (dk_at dksX7_takes_6 16 rfl rfl)
theorem dX7_takes_158 : decode cX7_takes 158 = .ok (.goto 4, 3) := dk_167 0 4 (dk_at dksX7_takes_6 17 rfl rfl)
theorem dX7_takes_161 : decode cX7_takes 161 = .ok (.iconst 0, 1) := dk_3 (dk_at dksX7_takes_6 20 rfl rfl)
theorem dX7_takes_162 : decode cX7_takes 162 = .ok (.ireturn, 1) := dk_172 (dk_at dksX7_takes_6 21 rfl rfl)
abbrev cX7_isFigure : ByteArray := prog_20_method_78_code
def yX7_isFigure : MethodName := ⟨RX7, "isFigure", "(I)Z"⟩
def dkwX7_isFigure_1 : List UInt8 := [153, 0, 7, 4, 167, 0, 4, 3, 172]
abbrev dktX7_isFigure_1 : List UInt8 := dkwX7_isFigure_1 ++ []
def dkwX7_isFigure_0 : List UInt8 := [27, 42, 180, 1, 25, 162, 0, 26, 42, 180, 0, 50, 27, 46, 133, 20, 1, 31, 20, 1, 33, 184, 0, 63]
abbrev dktX7_isFigure_0 : List UInt8 := dkwX7_isFigure_0 ++ dktX7_isFigure_1
theorem dksX7_isFigure_0 : cX7_isFigure.data.toList.drop 0 = dktX7_isFigure_0 := by decide +kernel
theorem dksX7_isFigure_1 : cX7_isFigure.data.toList.drop 24 = dktX7_isFigure_1 := dk_seg dksX7_isFigure_0 24 rfl rfl
theorem dX7_isFigure_0 : decode cX7_isFigure 0 = .ok (.iload_n 1, 1) := dk_27 (dk_at dksX7_isFigure_0 0 rfl rfl)
theorem dX7_isFigure_1 : decode cX7_isFigure 1 = .ok (.aload_n 0, 1) := dk_42 (dk_at dksX7_isFigure_0 1 rfl rfl)
theorem dX7_isFigure_2 : decode cX7_isFigure 2 = .ok (.getfield 281, 3) := dk_180 1 25 (dk_at dksX7_isFigure_0 2 rfl rfl)
theorem dX7_isFigure_5 : decode cX7_isFigure 5 = .ok (.if_icmp .ge 26, 3) := dk_162 0 26 (dk_at dksX7_isFigure_0 5 rfl rfl)
theorem dX7_isFigure_8 : decode cX7_isFigure 8 = .ok (.aload_n 0, 1) := dk_42 (dk_at dksX7_isFigure_0 8 rfl rfl)
theorem dX7_isFigure_9 : decode cX7_isFigure 9 = .ok (.getfield 50, 3) := dk_180 0 50 (dk_at dksX7_isFigure_0 9 rfl rfl)
theorem dX7_isFigure_12 : decode cX7_isFigure 12 = .ok (.iload_n 1, 1) := dk_27 (dk_at dksX7_isFigure_0 12 rfl rfl)
theorem dX7_isFigure_13 : decode cX7_isFigure 13 = .ok (.iaload, 1) := dk_46 (dk_at dksX7_isFigure_0 13 rfl rfl)
theorem dX7_isFigure_14 : decode cX7_isFigure 14 = .ok (.i2l, 1) := dk_133 (dk_at dksX7_isFigure_0 14 rfl rfl)
theorem dX7_isFigure_15 : decode cX7_isFigure 15 = .ok (.ldc2_w 287, 3) := dk_20 1 31 (dk_at dksX7_isFigure_0 15 rfl rfl)
theorem dX7_isFigure_18 : decode cX7_isFigure 18 = .ok (.ldc2_w 289, 3) := dk_20 1 33 (dk_at dksX7_isFigure_0 18 rfl rfl)
theorem dX7_isFigure_21 : decode cX7_isFigure 21 = .ok (.invokestatic 63, 3) := dk_184 0 63 (dk_at dksX7_isFigure_0 21 rfl rfl)
theorem dX7_isFigure_24 : decode cX7_isFigure 24 = .ok (.ifCond .eq 7, 3) := dk_153 0 7 (dk_at dksX7_isFigure_1 0 rfl rfl)
theorem dX7_isFigure_27 : decode cX7_isFigure 27 = .ok (.iconst 1, 1) := dk_4 (dk_at dksX7_isFigure_1 3 rfl rfl)
theorem dX7_isFigure_28 : decode cX7_isFigure 28 = .ok (.goto 4, 3) := dk_167 0 4 (dk_at dksX7_isFigure_1 4 rfl rfl)
theorem dX7_isFigure_31 : decode cX7_isFigure 31 = .ok (.iconst 0, 1) := dk_3 (dk_at dksX7_isFigure_1 7 rfl rfl)
theorem dX7_isFigure_32 : decode cX7_isFigure 32 = .ok (.ireturn, 1) := dk_172 (dk_at dksX7_isFigure_1 8 rfl rfl)
abbrev cX7_can : ByteArray := prog_20_method_82_code
def yX7_can : MethodName := ⟨RX7, "can", "(I)I"⟩
def dkwX7_can_8 : List UInt8 := [182, 0, 128, 153, 0, 7, 3, 167, 0, 5, 16, 254, 172]
abbrev dktX7_can_8 : List UInt8 := dkwX7_can_8 ++ []
def dkwX7_can_7 : List UInt8 := [167, 0, 5, 16, 254, 172, 4, 28, 184, 0, 140, 153, 0, 7, 3, 167, 0, 5, 16, 254, 172, 42, 28]
abbrev dktX7_can_7 : List UInt8 := dkwX7_can_7 ++ dktX7_can_8
def dkwX7_can_6 : List UInt8 := [184, 0, 63, 153, 0, 7, 3, 167, 0, 5, 16, 254, 172, 3, 28, 184, 0, 140, 153, 0, 7, 3]
abbrev dktX7_can_6 : List UInt8 := dkwX7_can_6 ++ dktX7_can_7
def dkwX7_can_5 : List UInt8 := [16, 254, 172, 42, 28, 29, 182, 0, 104, 153, 0, 24, 42, 180, 0, 53, 5, 46, 133, 9, 20, 0, 107]
abbrev dktX7_can_5 : List UInt8 := dkwX7_can_5 ++ dktX7_can_6
def dkwX7_can_4 : List UInt8 := [153, 0, 24, 42, 180, 0, 53, 6, 46, 133, 9, 20, 0, 107, 184, 0, 63, 153, 0, 7, 3, 167, 0, 5]
abbrev dktX7_can_4 : List UInt8 := dkwX7_can_4 ++ dktX7_can_5
def dkwX7_can_3 : List UInt8 := [182, 0, 121, 172, 42, 28, 182, 0, 128, 153, 0, 37, 29, 42, 180, 0, 53, 5, 46, 184, 0, 132]
abbrev dktX7_can_3 : List UInt8 := dkwX7_can_3 ++ dktX7_can_4
def dkwX7_can_2 : List UInt8 := [28, 29, 184, 0, 87, 153, 0, 7, 3, 167, 0, 5, 16, 254, 172, 42, 28, 29, 42, 180, 0, 53, 5, 46]
abbrev dktX7_can_2 : List UInt8 := dkwX7_can_2 ++ dktX7_can_3
def dkwX7_can_1 : List UInt8 := [171, 0, 0, 0, 193, 0, 0, 0, 6, 0, 0, 0, 97, 0, 0, 0, 178, 0, 0, 0, 99, 0, 0, 0, 130, 0, 0, 0, 112, 0, 0, 0, 85, 0, 0, 0, 115, 0, 0, 0, 72, 0, 0, 0, 116, 0, 0, 0, 163, 0, 0, 0, 119, 0, 0, 0, 57]
abbrev dktX7_can_1 : List UInt8 := dkwX7_can_1 ++ dktX7_can_2
def dkwX7_can_0 : List UInt8 := [42, 180, 0, 53, 3, 46, 61, 42, 180, 0, 53, 4, 46, 62, 27]
abbrev dktX7_can_0 : List UInt8 := dkwX7_can_0 ++ dktX7_can_1
theorem dksX7_can_0 : cX7_can.data.toList.drop 0 = dktX7_can_0 := by decide +kernel
theorem dksX7_can_1 : cX7_can.data.toList.drop 15 = dktX7_can_1 := dk_seg dksX7_can_0 15 rfl rfl
theorem dksX7_can_2 : cX7_can.data.toList.drop 72 = dktX7_can_2 := dk_seg dksX7_can_1 57 rfl rfl
theorem dksX7_can_3 : cX7_can.data.toList.drop 96 = dktX7_can_3 := dk_seg dksX7_can_2 24 rfl rfl
theorem dksX7_can_4 : cX7_can.data.toList.drop 118 = dktX7_can_4 := dk_seg dksX7_can_3 22 rfl rfl
theorem dksX7_can_5 : cX7_can.data.toList.drop 142 = dktX7_can_5 := dk_seg dksX7_can_4 24 rfl rfl
theorem dksX7_can_6 : cX7_can.data.toList.drop 165 = dktX7_can_6 := dk_seg dksX7_can_5 23 rfl rfl
theorem dksX7_can_7 : cX7_can.data.toList.drop 187 = dktX7_can_7 := dk_seg dksX7_can_6 22 rfl rfl
theorem dksX7_can_8 : cX7_can.data.toList.drop 210 = dktX7_can_8 := dk_seg dksX7_can_7 23 rfl rfl
theorem dX7_can_0 : decode cX7_can 0 = .ok (.aload_n 0, 1) := dk_42 (dk_at dksX7_can_0 0 rfl rfl)
theorem dX7_can_1 : decode cX7_can 1 = .ok (.getfield 53, 3) := dk_180 0 53 (dk_at dksX7_can_0 1 rfl rfl)
theorem dX7_can_4 : decode cX7_can 4 = .ok (.iconst 0, 1) := dk_3 (dk_at dksX7_can_0 4 rfl rfl)
theorem dX7_can_5 : decode cX7_can 5 = .ok (.iaload, 1) := dk_46 (dk_at dksX7_can_0 5 rfl rfl)
theorem dX7_can_6 : decode cX7_can 6 = .ok (.istore_n 2, 1) := dk_61 (dk_at dksX7_can_0 6 rfl rfl)
theorem dX7_can_7 : decode cX7_can 7 = .ok (.aload_n 0, 1) := dk_42 (dk_at dksX7_can_0 7 rfl rfl)
theorem dX7_can_8 : decode cX7_can 8 = .ok (.getfield 53, 3) := dk_180 0 53 (dk_at dksX7_can_0 8 rfl rfl)
theorem dX7_can_11 : decode cX7_can 11 = .ok (.iconst 1, 1) := dk_4 (dk_at dksX7_can_0 11 rfl rfl)
theorem dX7_can_12 : decode cX7_can 12 = .ok (.iaload, 1) := dk_46 (dk_at dksX7_can_0 12 rfl rfl)
theorem dX7_can_13 : decode cX7_can 13 = .ok (.istore_n 3, 1) := dk_62 (dk_at dksX7_can_0 13 rfl rfl)
theorem dX7_can_14 : decode cX7_can 14 = .ok (.iload_n 1, 1) := dk_27 (dk_at dksX7_can_0 14 rfl rfl)
theorem dX7_can_15 : decode cX7_can 15 = .ok (.lookupswitch 193 #[(97, 178), (99, 130), (112, 85), (115, 72), (116, 163), (119, 57)], 57) := by decide +kernel
theorem dX7_can_72 : decode cX7_can 72 = .ok (.iload_n 2, 1) := dk_28 (dk_at dksX7_can_2 0 rfl rfl)
theorem dX7_can_73 : decode cX7_can 73 = .ok (.iload_n 3, 1) := dk_29 (dk_at dksX7_can_2 1 rfl rfl)
theorem dX7_can_74 : decode cX7_can 74 = .ok (.invokestatic 87, 3) := dk_184 0 87 (dk_at dksX7_can_2 2 rfl rfl)
theorem dX7_can_77 : decode cX7_can 77 = .ok (.ifCond .eq 7, 3) := dk_153 0 7 (dk_at dksX7_can_2 5 rfl rfl)
theorem dX7_can_80 : decode cX7_can 80 = .ok (.iconst 0, 1) := dk_3 (dk_at dksX7_can_2 8 rfl rfl)
theorem dX7_can_81 : decode cX7_can 81 = .ok (.goto 5, 3) := dk_167 0 5 (dk_at dksX7_can_2 9 rfl rfl)
theorem dX7_can_84 : decode cX7_can 84 = .ok (.bipush (-2), 2) := dk_16 254 (dk_at dksX7_can_2 12 rfl rfl)
theorem dX7_can_86 : decode cX7_can 86 = .ok (.ireturn, 1) := dk_172 (dk_at dksX7_can_2 14 rfl rfl)
theorem dX7_can_87 : decode cX7_can 87 = .ok (.aload_n 0, 1) := dk_42 (dk_at dksX7_can_2 15 rfl rfl)
theorem dX7_can_88 : decode cX7_can 88 = .ok (.iload_n 2, 1) := dk_28 (dk_at dksX7_can_2 16 rfl rfl)
theorem dX7_can_89 : decode cX7_can 89 = .ok (.iload_n 3, 1) := dk_29 (dk_at dksX7_can_2 17 rfl rfl)
theorem dX7_can_90 : decode cX7_can 90 = .ok (.aload_n 0, 1) := dk_42 (dk_at dksX7_can_2 18 rfl rfl)
theorem dX7_can_91 : decode cX7_can 91 = .ok (.getfield 53, 3) := dk_180 0 53 (dk_at dksX7_can_2 19 rfl rfl)
theorem dX7_can_94 : decode cX7_can 94 = .ok (.iconst 2, 1) := dk_5 (dk_at dksX7_can_2 22 rfl rfl)
theorem dX7_can_95 : decode cX7_can 95 = .ok (.iaload, 1) := dk_46 (dk_at dksX7_can_2 23 rfl rfl)
theorem dX7_can_96 : decode cX7_can 96 = .ok (.invokevirtual 121, 3) := dk_182 0 121 (dk_at dksX7_can_3 0 rfl rfl)
theorem dX7_can_99 : decode cX7_can 99 = .ok (.ireturn, 1) := dk_172 (dk_at dksX7_can_3 3 rfl rfl)
theorem dX7_can_100 : decode cX7_can 100 = .ok (.aload_n 0, 1) := dk_42 (dk_at dksX7_can_3 4 rfl rfl)
theorem dX7_can_101 : decode cX7_can 101 = .ok (.iload_n 2, 1) := dk_28 (dk_at dksX7_can_3 5 rfl rfl)
theorem dX7_can_102 : decode cX7_can 102 = .ok (.invokevirtual 128, 3) := dk_182 0 128 (dk_at dksX7_can_3 6 rfl rfl)
theorem dX7_can_105 : decode cX7_can 105 = .ok (.ifCond .eq 37, 3) := dk_153 0 37 (dk_at dksX7_can_3 9 rfl rfl)
theorem dX7_can_108 : decode cX7_can 108 = .ok (.iload_n 3, 1) := dk_29 (dk_at dksX7_can_3 12 rfl rfl)
theorem dX7_can_109 : decode cX7_can 109 = .ok (.aload_n 0, 1) := dk_42 (dk_at dksX7_can_3 13 rfl rfl)
theorem dX7_can_110 : decode cX7_can 110 = .ok (.getfield 53, 3) := dk_180 0 53 (dk_at dksX7_can_3 14 rfl rfl)
theorem dX7_can_113 : decode cX7_can 113 = .ok (.iconst 2, 1) := dk_5 (dk_at dksX7_can_3 17 rfl rfl)
theorem dX7_can_114 : decode cX7_can 114 = .ok (.iaload, 1) := dk_46 (dk_at dksX7_can_3 18 rfl rfl)
theorem dX7_can_115 : decode cX7_can 115 = .ok (.invokestatic 132, 3) := dk_184 0 132 (dk_at dksX7_can_3 19 rfl rfl)
theorem dX7_can_118 : decode cX7_can 118 = .ok (.ifCond .eq 24, 3) := dk_153 0 24 (dk_at dksX7_can_4 0 rfl rfl)
theorem dX7_can_121 : decode cX7_can 121 = .ok (.aload_n 0, 1) := dk_42 (dk_at dksX7_can_4 3 rfl rfl)
theorem dX7_can_122 : decode cX7_can 122 = .ok (.getfield 53, 3) := dk_180 0 53 (dk_at dksX7_can_4 4 rfl rfl)
theorem dX7_can_125 : decode cX7_can 125 = .ok (.iconst 3, 1) := dk_6 (dk_at dksX7_can_4 7 rfl rfl)
theorem dX7_can_126 : decode cX7_can 126 = .ok (.iaload, 1) := dk_46 (dk_at dksX7_can_4 8 rfl rfl)
theorem dX7_can_127 : decode cX7_can 127 = .ok (.i2l, 1) := dk_133 (dk_at dksX7_can_4 9 rfl rfl)
theorem dX7_can_128 : decode cX7_can 128 = .ok (.lconst 0, 1) := dk_9 (dk_at dksX7_can_4 10 rfl rfl)
theorem dX7_can_129 : decode cX7_can 129 = .ok (.ldc2_w 107, 3) := dk_20 0 107 (dk_at dksX7_can_4 11 rfl rfl)
theorem dX7_can_132 : decode cX7_can 132 = .ok (.invokestatic 63, 3) := dk_184 0 63 (dk_at dksX7_can_4 14 rfl rfl)
theorem dX7_can_135 : decode cX7_can 135 = .ok (.ifCond .eq 7, 3) := dk_153 0 7 (dk_at dksX7_can_4 17 rfl rfl)
theorem dX7_can_138 : decode cX7_can 138 = .ok (.iconst 0, 1) := dk_3 (dk_at dksX7_can_4 20 rfl rfl)
theorem dX7_can_139 : decode cX7_can 139 = .ok (.goto 5, 3) := dk_167 0 5 (dk_at dksX7_can_4 21 rfl rfl)
theorem dX7_can_142 : decode cX7_can 142 = .ok (.bipush (-2), 2) := dk_16 254 (dk_at dksX7_can_5 0 rfl rfl)
theorem dX7_can_144 : decode cX7_can 144 = .ok (.ireturn, 1) := dk_172 (dk_at dksX7_can_5 2 rfl rfl)
theorem dX7_can_145 : decode cX7_can 145 = .ok (.aload_n 0, 1) := dk_42 (dk_at dksX7_can_5 3 rfl rfl)
theorem dX7_can_146 : decode cX7_can 146 = .ok (.iload_n 2, 1) := dk_28 (dk_at dksX7_can_5 4 rfl rfl)
theorem dX7_can_147 : decode cX7_can 147 = .ok (.iload_n 3, 1) := dk_29 (dk_at dksX7_can_5 5 rfl rfl)
theorem dX7_can_148 : decode cX7_can 148 = .ok (.invokevirtual 104, 3) := dk_182 0 104 (dk_at dksX7_can_5 6 rfl rfl)
theorem dX7_can_151 : decode cX7_can 151 = .ok (.ifCond .eq 24, 3) := dk_153 0 24 (dk_at dksX7_can_5 9 rfl rfl)
theorem dX7_can_154 : decode cX7_can 154 = .ok (.aload_n 0, 1) := dk_42 (dk_at dksX7_can_5 12 rfl rfl)
theorem dX7_can_155 : decode cX7_can 155 = .ok (.getfield 53, 3) := dk_180 0 53 (dk_at dksX7_can_5 13 rfl rfl)
theorem dX7_can_158 : decode cX7_can 158 = .ok (.iconst 2, 1) := dk_5 (dk_at dksX7_can_5 16 rfl rfl)
theorem dX7_can_159 : decode cX7_can 159 = .ok (.iaload, 1) := dk_46 (dk_at dksX7_can_5 17 rfl rfl)
theorem dX7_can_160 : decode cX7_can 160 = .ok (.i2l, 1) := dk_133 (dk_at dksX7_can_5 18 rfl rfl)
theorem dX7_can_161 : decode cX7_can 161 = .ok (.lconst 0, 1) := dk_9 (dk_at dksX7_can_5 19 rfl rfl)
theorem dX7_can_162 : decode cX7_can 162 = .ok (.ldc2_w 107, 3) := dk_20 0 107 (dk_at dksX7_can_5 20 rfl rfl)
theorem dX7_can_165 : decode cX7_can 165 = .ok (.invokestatic 63, 3) := dk_184 0 63 (dk_at dksX7_can_6 0 rfl rfl)
theorem dX7_can_168 : decode cX7_can 168 = .ok (.ifCond .eq 7, 3) := dk_153 0 7 (dk_at dksX7_can_6 3 rfl rfl)
theorem dX7_can_171 : decode cX7_can 171 = .ok (.iconst 0, 1) := dk_3 (dk_at dksX7_can_6 6 rfl rfl)
theorem dX7_can_172 : decode cX7_can 172 = .ok (.goto 5, 3) := dk_167 0 5 (dk_at dksX7_can_6 7 rfl rfl)
theorem dX7_can_175 : decode cX7_can 175 = .ok (.bipush (-2), 2) := dk_16 254 (dk_at dksX7_can_6 10 rfl rfl)
theorem dX7_can_177 : decode cX7_can 177 = .ok (.ireturn, 1) := dk_172 (dk_at dksX7_can_6 12 rfl rfl)
theorem dX7_can_178 : decode cX7_can 178 = .ok (.iconst 0, 1) := dk_3 (dk_at dksX7_can_6 13 rfl rfl)
theorem dX7_can_179 : decode cX7_can 179 = .ok (.iload_n 2, 1) := dk_28 (dk_at dksX7_can_6 14 rfl rfl)
theorem dX7_can_180 : decode cX7_can 180 = .ok (.invokestatic 140, 3) := dk_184 0 140 (dk_at dksX7_can_6 15 rfl rfl)
theorem dX7_can_183 : decode cX7_can 183 = .ok (.ifCond .eq 7, 3) := dk_153 0 7 (dk_at dksX7_can_6 18 rfl rfl)
theorem dX7_can_186 : decode cX7_can 186 = .ok (.iconst 0, 1) := dk_3 (dk_at dksX7_can_6 21 rfl rfl)
theorem dX7_can_187 : decode cX7_can 187 = .ok (.goto 5, 3) := dk_167 0 5 (dk_at dksX7_can_7 0 rfl rfl)
theorem dX7_can_190 : decode cX7_can 190 = .ok (.bipush (-2), 2) := dk_16 254 (dk_at dksX7_can_7 3 rfl rfl)
theorem dX7_can_192 : decode cX7_can 192 = .ok (.ireturn, 1) := dk_172 (dk_at dksX7_can_7 5 rfl rfl)
theorem dX7_can_193 : decode cX7_can 193 = .ok (.iconst 1, 1) := dk_4 (dk_at dksX7_can_7 6 rfl rfl)
theorem dX7_can_194 : decode cX7_can 194 = .ok (.iload_n 2, 1) := dk_28 (dk_at dksX7_can_7 7 rfl rfl)
theorem dX7_can_195 : decode cX7_can 195 = .ok (.invokestatic 140, 3) := dk_184 0 140 (dk_at dksX7_can_7 8 rfl rfl)
theorem dX7_can_198 : decode cX7_can 198 = .ok (.ifCond .eq 7, 3) := dk_153 0 7 (dk_at dksX7_can_7 11 rfl rfl)
theorem dX7_can_201 : decode cX7_can 201 = .ok (.iconst 0, 1) := dk_3 (dk_at dksX7_can_7 14 rfl rfl)
theorem dX7_can_202 : decode cX7_can 202 = .ok (.goto 5, 3) := dk_167 0 5 (dk_at dksX7_can_7 15 rfl rfl)
theorem dX7_can_205 : decode cX7_can 205 = .ok (.bipush (-2), 2) := dk_16 254 (dk_at dksX7_can_7 18 rfl rfl)
theorem dX7_can_207 : decode cX7_can 207 = .ok (.ireturn, 1) := dk_172 (dk_at dksX7_can_7 20 rfl rfl)
theorem dX7_can_208 : decode cX7_can 208 = .ok (.aload_n 0, 1) := dk_42 (dk_at dksX7_can_7 21 rfl rfl)
theorem dX7_can_209 : decode cX7_can 209 = .ok (.iload_n 2, 1) := dk_28 (dk_at dksX7_can_7 22 rfl rfl)
theorem dX7_can_210 : decode cX7_can 210 = .ok (.invokevirtual 128, 3) := dk_182 0 128 (dk_at dksX7_can_8 0 rfl rfl)
theorem dX7_can_213 : decode cX7_can 213 = .ok (.ifCond .eq 7, 3) := dk_153 0 7 (dk_at dksX7_can_8 3 rfl rfl)
theorem dX7_can_216 : decode cX7_can 216 = .ok (.iconst 0, 1) := dk_3 (dk_at dksX7_can_8 6 rfl rfl)
theorem dX7_can_217 : decode cX7_can 217 = .ok (.goto 5, 3) := dk_167 0 5 (dk_at dksX7_can_8 7 rfl rfl)
theorem dX7_can_220 : decode cX7_can 220 = .ok (.bipush (-2), 2) := dk_16 254 (dk_at dksX7_can_8 10 rfl rfl)
theorem dX7_can_222 : decode cX7_can 222 = .ok (.ireturn, 1) := dk_172 (dk_at dksX7_can_8 12 rfl rfl)
abbrev cX7_does : ByteArray := prog_20_method_83_code
def yX7_does : MethodName := ⟨RX7, "does", "(I)V"⟩
def dkwX7_does_6 : List UInt8 := [16, 97, 160, 0, 20, 42, 180, 0, 7, 27, 16, 116, 160, 0, 7, 4, 167, 0, 4, 5, 28, 79, 177]
abbrev dktX7_does_6 : List UInt8 := dkwX7_does_6 ++ []
def dkwX7_does_5 : List UInt8 := [16, 32, 28, 104, 96, 29, 96, 42, 180, 0, 53, 5, 46, 79, 167, 0, 32, 27, 16, 116, 159, 0, 9, 27]
abbrev dktX7_does_5 : List UInt8 := dkwX7_does_5 ++ dktX7_does_6
def dkwX7_does_4 : List UInt8 := [5, 46, 96, 42, 180, 0, 53, 6, 46, 79, 167, 0, 60, 27, 16, 99, 160, 0, 25, 42, 180, 0, 7, 7]
abbrev dktX7_does_4 : List UInt8 := dkwX7_does_4 ++ dktX7_does_5
def dkwX7_does_3 : List UInt8 := [160, 0, 37, 42, 180, 0, 7, 17, 0, 196, 16, 35, 28, 104, 96, 16, 8, 29, 104, 96, 42, 180, 0, 53]
abbrev dktX7_does_3 : List UInt8 := dkwX7_does_3 ++ dktX7_does_4
def dkwX7_does_2 : List UInt8 := [167, 0, 18, 27, 16, 120, 160, 0, 11, 42, 28, 182, 0, 135, 167, 0, 4, 3, 54, 4, 27, 16, 112]
abbrev dktX7_does_2 : List UInt8 := dkwX7_does_2 ++ dktX7_does_3
def dkwX7_does_1 : List UInt8 := [182, 0, 98, 167, 0, 39, 27, 16, 115, 160, 0, 18, 42, 28, 29, 42, 180, 0, 53, 5, 46, 182, 0, 125]
abbrev dktX7_does_1 : List UInt8 := dkwX7_does_1 ++ dktX7_does_2
def dkwX7_does_0 : List UInt8 := [42, 180, 0, 53, 3, 46, 61, 42, 180, 0, 53, 4, 46, 62, 27, 16, 119, 160, 0, 12, 42, 28, 29]
abbrev dktX7_does_0 : List UInt8 := dkwX7_does_0 ++ dktX7_does_1
theorem dksX7_does_0 : cX7_does.data.toList.drop 0 = dktX7_does_0 := by decide +kernel
theorem dksX7_does_1 : cX7_does.data.toList.drop 23 = dktX7_does_1 := dk_seg dksX7_does_0 23 rfl rfl
theorem dksX7_does_2 : cX7_does.data.toList.drop 47 = dktX7_does_2 := dk_seg dksX7_does_1 24 rfl rfl
theorem dksX7_does_3 : cX7_does.data.toList.drop 70 = dktX7_does_3 := dk_seg dksX7_does_2 23 rfl rfl
theorem dksX7_does_4 : cX7_does.data.toList.drop 94 = dktX7_does_4 := dk_seg dksX7_does_3 24 rfl rfl
theorem dksX7_does_5 : cX7_does.data.toList.drop 118 = dktX7_does_5 := dk_seg dksX7_does_4 24 rfl rfl
theorem dksX7_does_6 : cX7_does.data.toList.drop 142 = dktX7_does_6 := dk_seg dksX7_does_5 24 rfl rfl
theorem dX7_does_0 : decode cX7_does 0 = .ok (.aload_n 0, 1) := dk_42 (dk_at dksX7_does_0 0 rfl rfl)
theorem dX7_does_1 : decode cX7_does 1 = .ok (.getfield 53, 3) := dk_180 0 53 (dk_at dksX7_does_0 1 rfl rfl)
theorem dX7_does_4 : decode cX7_does 4 = .ok (.iconst 0, 1) := dk_3 (dk_at dksX7_does_0 4 rfl rfl)
theorem dX7_does_5 : decode cX7_does 5 = .ok (.iaload, 1) := dk_46 (dk_at dksX7_does_0 5 rfl rfl)
theorem dX7_does_6 : decode cX7_does 6 = .ok (.istore_n 2, 1) := dk_61 (dk_at dksX7_does_0 6 rfl rfl)
theorem dX7_does_7 : decode cX7_does 7 = .ok (.aload_n 0, 1) := dk_42 (dk_at dksX7_does_0 7 rfl rfl)
theorem dX7_does_8 : decode cX7_does 8 = .ok (.getfield 53, 3) := dk_180 0 53 (dk_at dksX7_does_0 8 rfl rfl)
theorem dX7_does_11 : decode cX7_does 11 = .ok (.iconst 1, 1) := dk_4 (dk_at dksX7_does_0 11 rfl rfl)
theorem dX7_does_12 : decode cX7_does 12 = .ok (.iaload, 1) := dk_46 (dk_at dksX7_does_0 12 rfl rfl)
theorem dX7_does_13 : decode cX7_does 13 = .ok (.istore_n 3, 1) := dk_62 (dk_at dksX7_does_0 13 rfl rfl)
theorem dX7_does_14 : decode cX7_does 14 = .ok (.iload_n 1, 1) := dk_27 (dk_at dksX7_does_0 14 rfl rfl)
theorem dX7_does_15 : decode cX7_does 15 = .ok (.bipush 119, 2) := dk_16 119 (dk_at dksX7_does_0 15 rfl rfl)
theorem dX7_does_17 : decode cX7_does 17 = .ok (.if_icmp .ne 12, 3) := dk_160 0 12 (dk_at dksX7_does_0 17 rfl rfl)
theorem dX7_does_20 : decode cX7_does 20 = .ok (.aload_n 0, 1) := dk_42 (dk_at dksX7_does_0 20 rfl rfl)
theorem dX7_does_21 : decode cX7_does 21 = .ok (.iload_n 2, 1) := dk_28 (dk_at dksX7_does_0 21 rfl rfl)
theorem dX7_does_22 : decode cX7_does 22 = .ok (.iload_n 3, 1) := dk_29 (dk_at dksX7_does_0 22 rfl rfl)
theorem dX7_does_23 : decode cX7_does 23 = .ok (.invokevirtual 98, 3) := dk_182 0 98 (dk_at dksX7_does_1 0 rfl rfl)
theorem dX7_does_26 : decode cX7_does 26 = .ok (.goto 39, 3) := dk_167 0 39 (dk_at dksX7_does_1 3 rfl rfl)
theorem dX7_does_29 : decode cX7_does 29 = .ok (.iload_n 1, 1) := dk_27 (dk_at dksX7_does_1 6 rfl rfl)
theorem dX7_does_30 : decode cX7_does 30 = .ok (.bipush 115, 2) := dk_16 115 (dk_at dksX7_does_1 7 rfl rfl)
theorem dX7_does_32 : decode cX7_does 32 = .ok (.if_icmp .ne 18, 3) := dk_160 0 18 (dk_at dksX7_does_1 9 rfl rfl)
theorem dX7_does_35 : decode cX7_does 35 = .ok (.aload_n 0, 1) := dk_42 (dk_at dksX7_does_1 12 rfl rfl)
theorem dX7_does_36 : decode cX7_does 36 = .ok (.iload_n 2, 1) := dk_28 (dk_at dksX7_does_1 13 rfl rfl)
theorem dX7_does_37 : decode cX7_does 37 = .ok (.iload_n 3, 1) := dk_29 (dk_at dksX7_does_1 14 rfl rfl)
theorem dX7_does_38 : decode cX7_does 38 = .ok (.aload_n 0, 1) := dk_42 (dk_at dksX7_does_1 15 rfl rfl)
theorem dX7_does_39 : decode cX7_does 39 = .ok (.getfield 53, 3) := dk_180 0 53 (dk_at dksX7_does_1 16 rfl rfl)
theorem dX7_does_42 : decode cX7_does 42 = .ok (.iconst 2, 1) := dk_5 (dk_at dksX7_does_1 19 rfl rfl)
theorem dX7_does_43 : decode cX7_does 43 = .ok (.iaload, 1) := dk_46 (dk_at dksX7_does_1 20 rfl rfl)
theorem dX7_does_44 : decode cX7_does 44 = .ok (.invokevirtual 125, 3) := dk_182 0 125 (dk_at dksX7_does_1 21 rfl rfl)
theorem dX7_does_47 : decode cX7_does 47 = .ok (.goto 18, 3) := dk_167 0 18 (dk_at dksX7_does_2 0 rfl rfl)
theorem dX7_does_50 : decode cX7_does 50 = .ok (.iload_n 1, 1) := dk_27 (dk_at dksX7_does_2 3 rfl rfl)
theorem dX7_does_51 : decode cX7_does 51 = .ok (.bipush 120, 2) := dk_16 120 (dk_at dksX7_does_2 4 rfl rfl)
theorem dX7_does_53 : decode cX7_does 53 = .ok (.if_icmp .ne 11, 3) := dk_160 0 11 (dk_at dksX7_does_2 6 rfl rfl)
theorem dX7_does_56 : decode cX7_does 56 = .ok (.aload_n 0, 1) := dk_42 (dk_at dksX7_does_2 9 rfl rfl)
theorem dX7_does_57 : decode cX7_does 57 = .ok (.iload_n 2, 1) := dk_28 (dk_at dksX7_does_2 10 rfl rfl)
theorem dX7_does_58 : decode cX7_does 58 = .ok (.invokevirtual 135, 3) := dk_182 0 135 (dk_at dksX7_does_2 11 rfl rfl)
theorem dX7_does_61 : decode cX7_does 61 = .ok (.goto 4, 3) := dk_167 0 4 (dk_at dksX7_does_2 14 rfl rfl)
theorem dX7_does_64 : decode cX7_does 64 = .ok (.iconst 0, 1) := dk_3 (dk_at dksX7_does_2 17 rfl rfl)
theorem dX7_does_65 : decode cX7_does 65 = .ok (.istore 4, 2) := dk_54 4 (dk_at dksX7_does_2 18 rfl rfl)
theorem dX7_does_67 : decode cX7_does 67 = .ok (.iload_n 1, 1) := dk_27 (dk_at dksX7_does_2 20 rfl rfl)
theorem dX7_does_68 : decode cX7_does 68 = .ok (.bipush 112, 2) := dk_16 112 (dk_at dksX7_does_2 21 rfl rfl)
theorem dX7_does_70 : decode cX7_does 70 = .ok (.if_icmp .ne 37, 3) := dk_160 0 37 (dk_at dksX7_does_3 0 rfl rfl)
theorem dX7_does_73 : decode cX7_does 73 = .ok (.aload_n 0, 1) := dk_42 (dk_at dksX7_does_3 3 rfl rfl)
theorem dX7_does_74 : decode cX7_does 74 = .ok (.getfield 7, 3) := dk_180 0 7 (dk_at dksX7_does_3 4 rfl rfl)
theorem dX7_does_77 : decode cX7_does 77 = .ok (.sipush 196, 3) := dk_17 0 196 (dk_at dksX7_does_3 7 rfl rfl)
theorem dX7_does_80 : decode cX7_does 80 = .ok (.bipush 35, 2) := dk_16 35 (dk_at dksX7_does_3 10 rfl rfl)
theorem dX7_does_82 : decode cX7_does 82 = .ok (.iload_n 2, 1) := dk_28 (dk_at dksX7_does_3 12 rfl rfl)
theorem dX7_does_83 : decode cX7_does 83 = .ok (.imul, 1) := dk_104 (dk_at dksX7_does_3 13 rfl rfl)
theorem dX7_does_84 : decode cX7_does 84 = .ok (.iadd, 1) := dk_96 (dk_at dksX7_does_3 14 rfl rfl)
theorem dX7_does_85 : decode cX7_does 85 = .ok (.bipush 8, 2) := dk_16 8 (dk_at dksX7_does_3 15 rfl rfl)
theorem dX7_does_87 : decode cX7_does 87 = .ok (.iload_n 3, 1) := dk_29 (dk_at dksX7_does_3 17 rfl rfl)
theorem dX7_does_88 : decode cX7_does 88 = .ok (.imul, 1) := dk_104 (dk_at dksX7_does_3 18 rfl rfl)
theorem dX7_does_89 : decode cX7_does 89 = .ok (.iadd, 1) := dk_96 (dk_at dksX7_does_3 19 rfl rfl)
theorem dX7_does_90 : decode cX7_does 90 = .ok (.aload_n 0, 1) := dk_42 (dk_at dksX7_does_3 20 rfl rfl)
theorem dX7_does_91 : decode cX7_does 91 = .ok (.getfield 53, 3) := dk_180 0 53 (dk_at dksX7_does_3 21 rfl rfl)
theorem dX7_does_94 : decode cX7_does 94 = .ok (.iconst 2, 1) := dk_5 (dk_at dksX7_does_4 0 rfl rfl)
theorem dX7_does_95 : decode cX7_does 95 = .ok (.iaload, 1) := dk_46 (dk_at dksX7_does_4 1 rfl rfl)
theorem dX7_does_96 : decode cX7_does 96 = .ok (.iadd, 1) := dk_96 (dk_at dksX7_does_4 2 rfl rfl)
theorem dX7_does_97 : decode cX7_does 97 = .ok (.aload_n 0, 1) := dk_42 (dk_at dksX7_does_4 3 rfl rfl)
theorem dX7_does_98 : decode cX7_does 98 = .ok (.getfield 53, 3) := dk_180 0 53 (dk_at dksX7_does_4 4 rfl rfl)
theorem dX7_does_101 : decode cX7_does 101 = .ok (.iconst 3, 1) := dk_6 (dk_at dksX7_does_4 7 rfl rfl)
theorem dX7_does_102 : decode cX7_does 102 = .ok (.iaload, 1) := dk_46 (dk_at dksX7_does_4 8 rfl rfl)
theorem dX7_does_103 : decode cX7_does 103 = .ok (.iastore, 1) := dk_79 (dk_at dksX7_does_4 9 rfl rfl)
theorem dX7_does_104 : decode cX7_does 104 = .ok (.goto 60, 3) := dk_167 0 60 (dk_at dksX7_does_4 10 rfl rfl)
theorem dX7_does_107 : decode cX7_does 107 = .ok (.iload_n 1, 1) := dk_27 (dk_at dksX7_does_4 13 rfl rfl)
theorem dX7_does_108 : decode cX7_does 108 = .ok (.bipush 99, 2) := dk_16 99 (dk_at dksX7_does_4 14 rfl rfl)
theorem dX7_does_110 : decode cX7_does 110 = .ok (.if_icmp .ne 25, 3) := dk_160 0 25 (dk_at dksX7_does_4 16 rfl rfl)
theorem dX7_does_113 : decode cX7_does 113 = .ok (.aload_n 0, 1) := dk_42 (dk_at dksX7_does_4 19 rfl rfl)
theorem dX7_does_114 : decode cX7_does 114 = .ok (.getfield 7, 3) := dk_180 0 7 (dk_at dksX7_does_4 20 rfl rfl)
theorem dX7_does_117 : decode cX7_does 117 = .ok (.iconst 4, 1) := dk_7 (dk_at dksX7_does_4 23 rfl rfl)
theorem dX7_does_118 : decode cX7_does 118 = .ok (.bipush 32, 2) := dk_16 32 (dk_at dksX7_does_5 0 rfl rfl)
theorem dX7_does_120 : decode cX7_does 120 = .ok (.iload_n 2, 1) := dk_28 (dk_at dksX7_does_5 2 rfl rfl)
theorem dX7_does_121 : decode cX7_does 121 = .ok (.imul, 1) := dk_104 (dk_at dksX7_does_5 3 rfl rfl)
theorem dX7_does_122 : decode cX7_does 122 = .ok (.iadd, 1) := dk_96 (dk_at dksX7_does_5 4 rfl rfl)
theorem dX7_does_123 : decode cX7_does 123 = .ok (.iload_n 3, 1) := dk_29 (dk_at dksX7_does_5 5 rfl rfl)
theorem dX7_does_124 : decode cX7_does 124 = .ok (.iadd, 1) := dk_96 (dk_at dksX7_does_5 6 rfl rfl)
theorem dX7_does_125 : decode cX7_does 125 = .ok (.aload_n 0, 1) := dk_42 (dk_at dksX7_does_5 7 rfl rfl)
theorem dX7_does_126 : decode cX7_does 126 = .ok (.getfield 53, 3) := dk_180 0 53 (dk_at dksX7_does_5 8 rfl rfl)
theorem dX7_does_129 : decode cX7_does 129 = .ok (.iconst 2, 1) := dk_5 (dk_at dksX7_does_5 11 rfl rfl)
theorem dX7_does_130 : decode cX7_does 130 = .ok (.iaload, 1) := dk_46 (dk_at dksX7_does_5 12 rfl rfl)
theorem dX7_does_131 : decode cX7_does 131 = .ok (.iastore, 1) := dk_79 (dk_at dksX7_does_5 13 rfl rfl)
theorem dX7_does_132 : decode cX7_does 132 = .ok (.goto 32, 3) := dk_167 0 32 (dk_at dksX7_does_5 14 rfl rfl)
theorem dX7_does_135 : decode cX7_does 135 = .ok (.iload_n 1, 1) := dk_27 (dk_at dksX7_does_5 17 rfl rfl)
theorem dX7_does_136 : decode cX7_does 136 = .ok (.bipush 116, 2) := dk_16 116 (dk_at dksX7_does_5 18 rfl rfl)
theorem dX7_does_138 : decode cX7_does 138 = .ok (.if_icmp .eq 9, 3) := dk_159 0 9 (dk_at dksX7_does_5 20 rfl rfl)
theorem dX7_does_141 : decode cX7_does 141 = .ok (.iload_n 1, 1) := dk_27 (dk_at dksX7_does_5 23 rfl rfl)
theorem dX7_does_142 : decode cX7_does 142 = .ok (.bipush 97, 2) := dk_16 97 (dk_at dksX7_does_6 0 rfl rfl)
theorem dX7_does_144 : decode cX7_does 144 = .ok (.if_icmp .ne 20, 3) := dk_160 0 20 (dk_at dksX7_does_6 2 rfl rfl)
theorem dX7_does_147 : decode cX7_does 147 = .ok (.aload_n 0, 1) := dk_42 (dk_at dksX7_does_6 5 rfl rfl)
theorem dX7_does_148 : decode cX7_does 148 = .ok (.getfield 7, 3) := dk_180 0 7 (dk_at dksX7_does_6 6 rfl rfl)
theorem dX7_does_151 : decode cX7_does 151 = .ok (.iload_n 1, 1) := dk_27 (dk_at dksX7_does_6 9 rfl rfl)
theorem dX7_does_152 : decode cX7_does 152 = .ok (.bipush 116, 2) := dk_16 116 (dk_at dksX7_does_6 10 rfl rfl)
theorem dX7_does_154 : decode cX7_does 154 = .ok (.if_icmp .ne 7, 3) := dk_160 0 7 (dk_at dksX7_does_6 12 rfl rfl)
theorem dX7_does_157 : decode cX7_does 157 = .ok (.iconst 1, 1) := dk_4 (dk_at dksX7_does_6 15 rfl rfl)
theorem dX7_does_158 : decode cX7_does 158 = .ok (.goto 4, 3) := dk_167 0 4 (dk_at dksX7_does_6 16 rfl rfl)
theorem dX7_does_161 : decode cX7_does 161 = .ok (.iconst 2, 1) := dk_5 (dk_at dksX7_does_6 19 rfl rfl)
theorem dX7_does_162 : decode cX7_does 162 = .ok (.iload_n 2, 1) := dk_28 (dk_at dksX7_does_6 20 rfl rfl)
theorem dX7_does_163 : decode cX7_does 163 = .ok (.iastore, 1) := dk_79 (dk_at dksX7_does_6 21 rfl rfl)
theorem dX7_does_164 : decode cX7_does 164 = .ok (.return_, 1) := dk_177 (dk_at dksX7_does_6 22 rfl rfl)
abbrev cX7_keepsAside : ByteArray := prog_20_method_86_code
def yX7_keepsAside : MethodName := ⟨RX7, "keepsAside", "()V"⟩
def dkwX7_keepsAside_3 : List UInt8 := [167, 255, 234, 177]
abbrev dktX7_keepsAside_3 : List UInt8 := dkwX7_keepsAside_3 ++ []
def dkwX7_keepsAside_2 : List UInt8 := [60, 27, 17, 1, 150, 162, 0, 21, 42, 180, 0, 7, 27, 42, 180, 0, 16, 27, 46, 79, 132, 1, 1]
abbrev dktX7_keepsAside_2 : List UInt8 := dkwX7_keepsAside_2 ++ dktX7_keepsAside_3
def dkwX7_keepsAside_1 : List UInt8 := [180, 0, 16, 27, 46, 79, 42, 180, 0, 16, 27, 28, 79, 132, 1, 1, 167, 255, 220, 42, 182, 0, 95, 3]
abbrev dktX7_keepsAside_1 : List UInt8 := dkwX7_keepsAside_1 ++ dktX7_keepsAside_2
def dkwX7_keepsAside_0 : List UInt8 := [3, 60, 27, 17, 1, 150, 162, 0, 35, 42, 180, 0, 7, 27, 46, 61, 42, 180, 0, 7, 27, 42]
abbrev dktX7_keepsAside_0 : List UInt8 := dkwX7_keepsAside_0 ++ dktX7_keepsAside_1
theorem dksX7_keepsAside_0 : cX7_keepsAside.data.toList.drop 0 = dktX7_keepsAside_0 := by decide +kernel
theorem dksX7_keepsAside_1 : cX7_keepsAside.data.toList.drop 22 = dktX7_keepsAside_1 := dk_seg dksX7_keepsAside_0 22 rfl rfl
theorem dksX7_keepsAside_2 : cX7_keepsAside.data.toList.drop 46 = dktX7_keepsAside_2 := dk_seg dksX7_keepsAside_1 24 rfl rfl
theorem dksX7_keepsAside_3 : cX7_keepsAside.data.toList.drop 69 = dktX7_keepsAside_3 := dk_seg dksX7_keepsAside_2 23 rfl rfl
theorem dX7_keepsAside_0 : decode cX7_keepsAside 0 = .ok (.iconst 0, 1) := dk_3 (dk_at dksX7_keepsAside_0 0 rfl rfl)
theorem dX7_keepsAside_1 : decode cX7_keepsAside 1 = .ok (.istore_n 1, 1) := dk_60 (dk_at dksX7_keepsAside_0 1 rfl rfl)
theorem dX7_keepsAside_2 : decode cX7_keepsAside 2 = .ok (.iload_n 1, 1) := dk_27 (dk_at dksX7_keepsAside_0 2 rfl rfl)
theorem dX7_keepsAside_3 : decode cX7_keepsAside 3 = .ok (.sipush 406, 3) := dk_17 1 150 (dk_at dksX7_keepsAside_0 3 rfl rfl)
theorem dX7_keepsAside_6 : decode cX7_keepsAside 6 = .ok (.if_icmp .ge 35, 3) := dk_162 0 35 (dk_at dksX7_keepsAside_0 6 rfl rfl)
theorem dX7_keepsAside_9 : decode cX7_keepsAside 9 = .ok (.aload_n 0, 1) := dk_42 (dk_at dksX7_keepsAside_0 9 rfl rfl)
theorem dX7_keepsAside_10 : decode cX7_keepsAside 10 = .ok (.getfield 7, 3) := dk_180 0 7 (dk_at dksX7_keepsAside_0 10 rfl rfl)
theorem dX7_keepsAside_13 : decode cX7_keepsAside 13 = .ok (.iload_n 1, 1) := dk_27 (dk_at dksX7_keepsAside_0 13 rfl rfl)
theorem dX7_keepsAside_14 : decode cX7_keepsAside 14 = .ok (.iaload, 1) := dk_46 (dk_at dksX7_keepsAside_0 14 rfl rfl)
theorem dX7_keepsAside_15 : decode cX7_keepsAside 15 = .ok (.istore_n 2, 1) := dk_61 (dk_at dksX7_keepsAside_0 15 rfl rfl)
theorem dX7_keepsAside_16 : decode cX7_keepsAside 16 = .ok (.aload_n 0, 1) := dk_42 (dk_at dksX7_keepsAside_0 16 rfl rfl)
theorem dX7_keepsAside_17 : decode cX7_keepsAside 17 = .ok (.getfield 7, 3) := dk_180 0 7 (dk_at dksX7_keepsAside_0 17 rfl rfl)
theorem dX7_keepsAside_20 : decode cX7_keepsAside 20 = .ok (.iload_n 1, 1) := dk_27 (dk_at dksX7_keepsAside_0 20 rfl rfl)
theorem dX7_keepsAside_21 : decode cX7_keepsAside 21 = .ok (.aload_n 0, 1) := dk_42 (dk_at dksX7_keepsAside_0 21 rfl rfl)
theorem dX7_keepsAside_22 : decode cX7_keepsAside 22 = .ok (.getfield 16, 3) := dk_180 0 16 (dk_at dksX7_keepsAside_1 0 rfl rfl)
theorem dX7_keepsAside_25 : decode cX7_keepsAside 25 = .ok (.iload_n 1, 1) := dk_27 (dk_at dksX7_keepsAside_1 3 rfl rfl)
theorem dX7_keepsAside_26 : decode cX7_keepsAside 26 = .ok (.iaload, 1) := dk_46 (dk_at dksX7_keepsAside_1 4 rfl rfl)
theorem dX7_keepsAside_27 : decode cX7_keepsAside 27 = .ok (.iastore, 1) := dk_79 (dk_at dksX7_keepsAside_1 5 rfl rfl)
theorem dX7_keepsAside_28 : decode cX7_keepsAside 28 = .ok (.aload_n 0, 1) := dk_42 (dk_at dksX7_keepsAside_1 6 rfl rfl)
theorem dX7_keepsAside_29 : decode cX7_keepsAside 29 = .ok (.getfield 16, 3) := dk_180 0 16 (dk_at dksX7_keepsAside_1 7 rfl rfl)
theorem dX7_keepsAside_32 : decode cX7_keepsAside 32 = .ok (.iload_n 1, 1) := dk_27 (dk_at dksX7_keepsAside_1 10 rfl rfl)
theorem dX7_keepsAside_33 : decode cX7_keepsAside 33 = .ok (.iload_n 2, 1) := dk_28 (dk_at dksX7_keepsAside_1 11 rfl rfl)
theorem dX7_keepsAside_34 : decode cX7_keepsAside 34 = .ok (.iastore, 1) := dk_79 (dk_at dksX7_keepsAside_1 12 rfl rfl)
theorem dX7_keepsAside_35 : decode cX7_keepsAside 35 = .ok (.iinc 1 1, 3) := dk_132 1 1 (dk_at dksX7_keepsAside_1 13 rfl rfl)
theorem dX7_keepsAside_38 : decode cX7_keepsAside 38 = .ok (.goto (-36), 3) := dk_167 255 220 (dk_at dksX7_keepsAside_1 16 rfl rfl)
theorem dX7_keepsAside_41 : decode cX7_keepsAside 41 = .ok (.aload_n 0, 1) := dk_42 (dk_at dksX7_keepsAside_1 19 rfl rfl)
theorem dX7_keepsAside_42 : decode cX7_keepsAside 42 = .ok (.invokevirtual 95, 3) := dk_182 0 95 (dk_at dksX7_keepsAside_1 20 rfl rfl)
theorem dX7_keepsAside_45 : decode cX7_keepsAside 45 = .ok (.iconst 0, 1) := dk_3 (dk_at dksX7_keepsAside_1 23 rfl rfl)
theorem dX7_keepsAside_46 : decode cX7_keepsAside 46 = .ok (.istore_n 1, 1) := dk_60 (dk_at dksX7_keepsAside_2 0 rfl rfl)
theorem dX7_keepsAside_47 : decode cX7_keepsAside 47 = .ok (.iload_n 1, 1) := dk_27 (dk_at dksX7_keepsAside_2 1 rfl rfl)
theorem dX7_keepsAside_48 : decode cX7_keepsAside 48 = .ok (.sipush 406, 3) := dk_17 1 150 (dk_at dksX7_keepsAside_2 2 rfl rfl)
theorem dX7_keepsAside_51 : decode cX7_keepsAside 51 = .ok (.if_icmp .ge 21, 3) := dk_162 0 21 (dk_at dksX7_keepsAside_2 5 rfl rfl)
theorem dX7_keepsAside_54 : decode cX7_keepsAside 54 = .ok (.aload_n 0, 1) := dk_42 (dk_at dksX7_keepsAside_2 8 rfl rfl)
theorem dX7_keepsAside_55 : decode cX7_keepsAside 55 = .ok (.getfield 7, 3) := dk_180 0 7 (dk_at dksX7_keepsAside_2 9 rfl rfl)
theorem dX7_keepsAside_58 : decode cX7_keepsAside 58 = .ok (.iload_n 1, 1) := dk_27 (dk_at dksX7_keepsAside_2 12 rfl rfl)
theorem dX7_keepsAside_59 : decode cX7_keepsAside 59 = .ok (.aload_n 0, 1) := dk_42 (dk_at dksX7_keepsAside_2 13 rfl rfl)
theorem dX7_keepsAside_60 : decode cX7_keepsAside 60 = .ok (.getfield 16, 3) := dk_180 0 16 (dk_at dksX7_keepsAside_2 14 rfl rfl)
theorem dX7_keepsAside_63 : decode cX7_keepsAside 63 = .ok (.iload_n 1, 1) := dk_27 (dk_at dksX7_keepsAside_2 17 rfl rfl)
theorem dX7_keepsAside_64 : decode cX7_keepsAside 64 = .ok (.iaload, 1) := dk_46 (dk_at dksX7_keepsAside_2 18 rfl rfl)
theorem dX7_keepsAside_65 : decode cX7_keepsAside 65 = .ok (.iastore, 1) := dk_79 (dk_at dksX7_keepsAside_2 19 rfl rfl)
theorem dX7_keepsAside_66 : decode cX7_keepsAside 66 = .ok (.iinc 1 1, 3) := dk_132 1 1 (dk_at dksX7_keepsAside_2 20 rfl rfl)
theorem dX7_keepsAside_69 : decode cX7_keepsAside 69 = .ok (.goto (-22), 3) := dk_167 255 234 (dk_at dksX7_keepsAside_3 0 rfl rfl)
theorem dX7_keepsAside_72 : decode cX7_keepsAside 72 = .ok (.return_, 1) := dk_177 (dk_at dksX7_keepsAside_3 3 rfl rfl)
abbrev cX7_why : ByteArray := prog_20_method_87_code
def yX7_why : MethodName := ⟨RX7, "why", "(I)I"⟩
def dkwX7_why_1 : List UInt8 := [154, 0, 10, 42, 180, 1, 66, 167, 0, 7, 42, 180, 0, 22, 172]
abbrev dktX7_why_1 : List UInt8 := dkwX7_why_1 ++ []
def dkwX7_why_0 : List UInt8 := [27, 133, 9, 10, 184, 0, 63, 154, 0, 16, 42, 180, 0, 19, 3, 92, 46, 4, 96, 79, 16, 246, 172, 27]
abbrev dktX7_why_0 : List UInt8 := dkwX7_why_0 ++ dktX7_why_1
theorem dksX7_why_0 : cX7_why.data.toList.drop 0 = dktX7_why_0 := by decide +kernel
theorem dksX7_why_1 : cX7_why.data.toList.drop 24 = dktX7_why_1 := dk_seg dksX7_why_0 24 rfl rfl
theorem dX7_why_0 : decode cX7_why 0 = .ok (.iload_n 1, 1) := dk_27 (dk_at dksX7_why_0 0 rfl rfl)
theorem dX7_why_1 : decode cX7_why 1 = .ok (.i2l, 1) := dk_133 (dk_at dksX7_why_0 1 rfl rfl)
theorem dX7_why_2 : decode cX7_why 2 = .ok (.lconst 0, 1) := dk_9 (dk_at dksX7_why_0 2 rfl rfl)
theorem dX7_why_3 : decode cX7_why 3 = .ok (.lconst 1, 1) := dk_10 (dk_at dksX7_why_0 3 rfl rfl)
theorem dX7_why_4 : decode cX7_why 4 = .ok (.invokestatic 63, 3) := dk_184 0 63 (dk_at dksX7_why_0 4 rfl rfl)
theorem dX7_why_7 : decode cX7_why 7 = .ok (.ifCond .ne 16, 3) := dk_154 0 16 (dk_at dksX7_why_0 7 rfl rfl)
theorem dX7_why_10 : decode cX7_why 10 = .ok (.aload_n 0, 1) := dk_42 (dk_at dksX7_why_0 10 rfl rfl)
theorem dX7_why_11 : decode cX7_why 11 = .ok (.getfield 19, 3) := dk_180 0 19 (dk_at dksX7_why_0 11 rfl rfl)
theorem dX7_why_14 : decode cX7_why 14 = .ok (.iconst 0, 1) := dk_3 (dk_at dksX7_why_0 14 rfl rfl)
theorem dX7_why_15 : decode cX7_why 15 = .ok (.dup2, 1) := dk_92 (dk_at dksX7_why_0 15 rfl rfl)
theorem dX7_why_16 : decode cX7_why 16 = .ok (.iaload, 1) := dk_46 (dk_at dksX7_why_0 16 rfl rfl)
theorem dX7_why_17 : decode cX7_why 17 = .ok (.iconst 1, 1) := dk_4 (dk_at dksX7_why_0 17 rfl rfl)
theorem dX7_why_18 : decode cX7_why 18 = .ok (.iadd, 1) := dk_96 (dk_at dksX7_why_0 18 rfl rfl)
theorem dX7_why_19 : decode cX7_why 19 = .ok (.iastore, 1) := dk_79 (dk_at dksX7_why_0 19 rfl rfl)
theorem dX7_why_20 : decode cX7_why 20 = .ok (.bipush (-10), 2) := dk_16 246 (dk_at dksX7_why_0 20 rfl rfl)
theorem dX7_why_22 : decode cX7_why 22 = .ok (.ireturn, 1) := dk_172 (dk_at dksX7_why_0 22 rfl rfl)
theorem dX7_why_23 : decode cX7_why 23 = .ok (.iload_n 1, 1) := dk_27 (dk_at dksX7_why_0 23 rfl rfl)
theorem dX7_why_24 : decode cX7_why 24 = .ok (.ifCond .ne 10, 3) := dk_154 0 10 (dk_at dksX7_why_1 0 rfl rfl)
theorem dX7_why_27 : decode cX7_why 27 = .ok (.aload_n 0, 1) := dk_42 (dk_at dksX7_why_1 3 rfl rfl)
theorem dX7_why_28 : decode cX7_why 28 = .ok (.getfield 322, 3) := dk_180 1 66 (dk_at dksX7_why_1 4 rfl rfl)
theorem dX7_why_31 : decode cX7_why 31 = .ok (.goto 7, 3) := dk_167 0 7 (dk_at dksX7_why_1 7 rfl rfl)
theorem dX7_why_34 : decode cX7_why 34 = .ok (.aload_n 0, 1) := dk_42 (dk_at dksX7_why_1 10 rfl rfl)
theorem dX7_why_35 : decode cX7_why 35 = .ok (.getfield 22, 3) := dk_180 0 22 (dk_at dksX7_why_1 11 rfl rfl)
theorem dX7_why_38 : decode cX7_why 38 = .ok (.ireturn, 1) := dk_172 (dk_at dksX7_why_1 14 rfl rfl)
abbrev cX7_back : ByteArray := prog_20_method_88_code
def yX7_back : MethodName := ⟨RX7, "back", "()I"⟩
def dkwX7_back_2 : List UInt8 := [180, 0, 56, 104, 27, 96, 46, 79, 132, 1, 1, 167, 255, 225, 42, 180, 0, 56, 172]
abbrev dktX7_back_2 : List UInt8 := dkwX7_back_2 ++ []
def dkwX7_back_1 : List UInt8 := [3, 60, 27, 17, 1, 150, 162, 0, 30, 42, 180, 0, 7, 27, 42, 180, 0, 13, 17, 1, 150, 42]
abbrev dktX7_back_1 : List UInt8 := dkwX7_back_1 ++ dktX7_back_2
def dkwX7_back_0 : List UInt8 := [42, 180, 0, 56, 154, 0, 10, 42, 16, 253, 182, 0, 91, 172, 42, 89, 180, 0, 56, 4, 100, 181, 0, 56]
abbrev dktX7_back_0 : List UInt8 := dkwX7_back_0 ++ dktX7_back_1
theorem dksX7_back_0 : cX7_back.data.toList.drop 0 = dktX7_back_0 := by decide +kernel
theorem dksX7_back_1 : cX7_back.data.toList.drop 24 = dktX7_back_1 := dk_seg dksX7_back_0 24 rfl rfl
theorem dksX7_back_2 : cX7_back.data.toList.drop 46 = dktX7_back_2 := dk_seg dksX7_back_1 22 rfl rfl
theorem dX7_back_0 : decode cX7_back 0 = .ok (.aload_n 0, 1) := dk_42 (dk_at dksX7_back_0 0 rfl rfl)
theorem dX7_back_1 : decode cX7_back 1 = .ok (.getfield 56, 3) := dk_180 0 56 (dk_at dksX7_back_0 1 rfl rfl)
theorem dX7_back_4 : decode cX7_back 4 = .ok (.ifCond .ne 10, 3) := dk_154 0 10 (dk_at dksX7_back_0 4 rfl rfl)
theorem dX7_back_7 : decode cX7_back 7 = .ok (.aload_n 0, 1) := dk_42 (dk_at dksX7_back_0 7 rfl rfl)
theorem dX7_back_8 : decode cX7_back 8 = .ok (.bipush (-3), 2) := dk_16 253 (dk_at dksX7_back_0 8 rfl rfl)
theorem dX7_back_10 : decode cX7_back 10 = .ok (.invokevirtual 91, 3) := dk_182 0 91 (dk_at dksX7_back_0 10 rfl rfl)
theorem dX7_back_13 : decode cX7_back 13 = .ok (.ireturn, 1) := dk_172 (dk_at dksX7_back_0 13 rfl rfl)
theorem dX7_back_14 : decode cX7_back 14 = .ok (.aload_n 0, 1) := dk_42 (dk_at dksX7_back_0 14 rfl rfl)
theorem dX7_back_15 : decode cX7_back 15 = .ok (.dup, 1) := dk_89 (dk_at dksX7_back_0 15 rfl rfl)
theorem dX7_back_16 : decode cX7_back 16 = .ok (.getfield 56, 3) := dk_180 0 56 (dk_at dksX7_back_0 16 rfl rfl)
theorem dX7_back_19 : decode cX7_back 19 = .ok (.iconst 1, 1) := dk_4 (dk_at dksX7_back_0 19 rfl rfl)
theorem dX7_back_20 : decode cX7_back 20 = .ok (.isub, 1) := dk_100 (dk_at dksX7_back_0 20 rfl rfl)
theorem dX7_back_21 : decode cX7_back 21 = .ok (.putfield 56, 3) := dk_181 0 56 (dk_at dksX7_back_0 21 rfl rfl)
theorem dX7_back_24 : decode cX7_back 24 = .ok (.iconst 0, 1) := dk_3 (dk_at dksX7_back_1 0 rfl rfl)
theorem dX7_back_25 : decode cX7_back 25 = .ok (.istore_n 1, 1) := dk_60 (dk_at dksX7_back_1 1 rfl rfl)
theorem dX7_back_26 : decode cX7_back 26 = .ok (.iload_n 1, 1) := dk_27 (dk_at dksX7_back_1 2 rfl rfl)
theorem dX7_back_27 : decode cX7_back 27 = .ok (.sipush 406, 3) := dk_17 1 150 (dk_at dksX7_back_1 3 rfl rfl)
theorem dX7_back_30 : decode cX7_back 30 = .ok (.if_icmp .ge 30, 3) := dk_162 0 30 (dk_at dksX7_back_1 6 rfl rfl)
theorem dX7_back_33 : decode cX7_back 33 = .ok (.aload_n 0, 1) := dk_42 (dk_at dksX7_back_1 9 rfl rfl)
theorem dX7_back_34 : decode cX7_back 34 = .ok (.getfield 7, 3) := dk_180 0 7 (dk_at dksX7_back_1 10 rfl rfl)
theorem dX7_back_37 : decode cX7_back 37 = .ok (.iload_n 1, 1) := dk_27 (dk_at dksX7_back_1 13 rfl rfl)
theorem dX7_back_38 : decode cX7_back 38 = .ok (.aload_n 0, 1) := dk_42 (dk_at dksX7_back_1 14 rfl rfl)
theorem dX7_back_39 : decode cX7_back 39 = .ok (.getfield 13, 3) := dk_180 0 13 (dk_at dksX7_back_1 15 rfl rfl)
theorem dX7_back_42 : decode cX7_back 42 = .ok (.sipush 406, 3) := dk_17 1 150 (dk_at dksX7_back_1 18 rfl rfl)
theorem dX7_back_45 : decode cX7_back 45 = .ok (.aload_n 0, 1) := dk_42 (dk_at dksX7_back_1 21 rfl rfl)
theorem dX7_back_46 : decode cX7_back 46 = .ok (.getfield 56, 3) := dk_180 0 56 (dk_at dksX7_back_2 0 rfl rfl)
theorem dX7_back_49 : decode cX7_back 49 = .ok (.imul, 1) := dk_104 (dk_at dksX7_back_2 3 rfl rfl)
theorem dX7_back_50 : decode cX7_back 50 = .ok (.iload_n 1, 1) := dk_27 (dk_at dksX7_back_2 4 rfl rfl)
theorem dX7_back_51 : decode cX7_back 51 = .ok (.iadd, 1) := dk_96 (dk_at dksX7_back_2 5 rfl rfl)
theorem dX7_back_52 : decode cX7_back 52 = .ok (.iaload, 1) := dk_46 (dk_at dksX7_back_2 6 rfl rfl)
theorem dX7_back_53 : decode cX7_back 53 = .ok (.iastore, 1) := dk_79 (dk_at dksX7_back_2 7 rfl rfl)
theorem dX7_back_54 : decode cX7_back 54 = .ok (.iinc 1 1, 3) := dk_132 1 1 (dk_at dksX7_back_2 8 rfl rfl)
theorem dX7_back_57 : decode cX7_back 57 = .ok (.goto (-31), 3) := dk_167 255 225 (dk_at dksX7_back_2 11 rfl rfl)
theorem dX7_back_60 : decode cX7_back 60 = .ok (.aload_n 0, 1) := dk_42 (dk_at dksX7_back_2 14 rfl rfl)
theorem dX7_back_61 : decode cX7_back 61 = .ok (.getfield 56, 3) := dk_180 0 56 (dk_at dksX7_back_2 15 rfl rfl)
theorem dX7_back_64 : decode cX7_back 64 = .ok (.ireturn, 1) := dk_172 (dk_at dksX7_back_2 18 rfl rfl)
abbrev cX7_told : ByteArray := prog_20_method_90_code
def yX7_told : MethodName := ⟨RX7, "told", "(I)I"⟩
def dkwX7_told_1 : List UInt8 := [182, 0, 91, 172]
abbrev dktX7_told_1 : List UInt8 := dkwX7_told_1 ++ []
def dkwX7_told_0 : List UInt8 := [27, 133, 9, 20, 1, 72, 184, 0, 63, 153, 0, 11, 42, 27, 182, 1, 74, 167, 0, 9, 42, 16, 254]
abbrev dktX7_told_0 : List UInt8 := dkwX7_told_0 ++ dktX7_told_1
theorem dksX7_told_0 : cX7_told.data.toList.drop 0 = dktX7_told_0 := by decide +kernel
theorem dksX7_told_1 : cX7_told.data.toList.drop 23 = dktX7_told_1 := dk_seg dksX7_told_0 23 rfl rfl
theorem dX7_told_0 : decode cX7_told 0 = .ok (.iload_n 1, 1) := dk_27 (dk_at dksX7_told_0 0 rfl rfl)
theorem dX7_told_1 : decode cX7_told 1 = .ok (.i2l, 1) := dk_133 (dk_at dksX7_told_0 1 rfl rfl)
theorem dX7_told_2 : decode cX7_told 2 = .ok (.lconst 0, 1) := dk_9 (dk_at dksX7_told_0 2 rfl rfl)
theorem dX7_told_3 : decode cX7_told 3 = .ok (.ldc2_w 328, 3) := dk_20 1 72 (dk_at dksX7_told_0 3 rfl rfl)
theorem dX7_told_6 : decode cX7_told 6 = .ok (.invokestatic 63, 3) := dk_184 0 63 (dk_at dksX7_told_0 6 rfl rfl)
theorem dX7_told_9 : decode cX7_told 9 = .ok (.ifCond .eq 11, 3) := dk_153 0 11 (dk_at dksX7_told_0 9 rfl rfl)
theorem dX7_told_12 : decode cX7_told 12 = .ok (.aload_n 0, 1) := dk_42 (dk_at dksX7_told_0 12 rfl rfl)
theorem dX7_told_13 : decode cX7_told 13 = .ok (.iload_n 1, 1) := dk_27 (dk_at dksX7_told_0 13 rfl rfl)
theorem dX7_told_14 : decode cX7_told 14 = .ok (.invokevirtual 330, 3) := dk_182 1 74 (dk_at dksX7_told_0 14 rfl rfl)
theorem dX7_told_17 : decode cX7_told 17 = .ok (.goto 9, 3) := dk_167 0 9 (dk_at dksX7_told_0 17 rfl rfl)
theorem dX7_told_20 : decode cX7_told 20 = .ok (.aload_n 0, 1) := dk_42 (dk_at dksX7_told_0 20 rfl rfl)
theorem dX7_told_21 : decode cX7_told 21 = .ok (.bipush (-2), 2) := dk_16 254 (dk_at dksX7_told_0 21 rfl rfl)
theorem dX7_told_23 : decode cX7_told 23 = .ok (.invokevirtual 91, 3) := dk_182 0 91 (dk_at dksX7_told_1 0 rfl rfl)
theorem dX7_told_26 : decode cX7_told 26 = .ok (.ireturn, 1) := dk_172 (dk_at dksX7_told_1 3 rfl rfl)
abbrev cX7_toldOf : ByteArray := prog_20_method_89_code
def yX7_toldOf : MethodName := ⟨RX7, "toldOf", "(I)I"⟩
def dkwX7_toldOf_3 : List UInt8 := [42, 180, 0, 7, 5, 46, 172, 42, 180, 0, 56, 172, 42, 180, 0, 19, 27, 46, 172]
abbrev dktX7_toldOf_3 : List UInt8 := dkwX7_toldOf_3 ++ []
def dkwX7_toldOf_2 : List UInt8 := [42, 180, 1, 25, 172, 42, 180, 0, 7, 3, 46, 172, 42, 182, 0, 59, 172, 42, 180, 0, 7, 4, 46, 172]
abbrev dktX7_toldOf_2 : List UInt8 := dkwX7_toldOf_2 ++ dktX7_toldOf_3
def dkwX7_toldOf_1 : List UInt8 := [170, 0, 0, 0, 0, 0, 75, 0, 0, 0, 3, 0, 0, 0, 8, 0, 0, 0, 39, 0, 0, 0, 44, 0, 0, 0, 51, 0, 0, 0, 56, 0, 0, 0, 63, 0, 0, 0, 70]
abbrev dktX7_toldOf_1 : List UInt8 := dkwX7_toldOf_1 ++ dktX7_toldOf_2
def dkwX7_toldOf_0 : List UInt8 := [27]
abbrev dktX7_toldOf_0 : List UInt8 := dkwX7_toldOf_0 ++ dktX7_toldOf_1
theorem dksX7_toldOf_0 : cX7_toldOf.data.toList.drop 0 = dktX7_toldOf_0 := by decide +kernel
theorem dksX7_toldOf_1 : cX7_toldOf.data.toList.drop 1 = dktX7_toldOf_1 := dk_seg dksX7_toldOf_0 1 rfl rfl
theorem dksX7_toldOf_2 : cX7_toldOf.data.toList.drop 40 = dktX7_toldOf_2 := dk_seg dksX7_toldOf_1 39 rfl rfl
theorem dksX7_toldOf_3 : cX7_toldOf.data.toList.drop 64 = dktX7_toldOf_3 := dk_seg dksX7_toldOf_2 24 rfl rfl
theorem dX7_toldOf_0 : decode cX7_toldOf 0 = .ok (.iload_n 1, 1) := dk_27 (dk_at dksX7_toldOf_0 0 rfl rfl)
theorem dX7_toldOf_1 : decode cX7_toldOf 1 = .ok (.tableswitch 75 3 8 #[39, 44, 51, 56, 63, 70], 39) := by decide +kernel
theorem dX7_toldOf_40 : decode cX7_toldOf 40 = .ok (.aload_n 0, 1) := dk_42 (dk_at dksX7_toldOf_2 0 rfl rfl)
theorem dX7_toldOf_41 : decode cX7_toldOf 41 = .ok (.getfield 281, 3) := dk_180 1 25 (dk_at dksX7_toldOf_2 1 rfl rfl)
theorem dX7_toldOf_44 : decode cX7_toldOf 44 = .ok (.ireturn, 1) := dk_172 (dk_at dksX7_toldOf_2 4 rfl rfl)
theorem dX7_toldOf_45 : decode cX7_toldOf 45 = .ok (.aload_n 0, 1) := dk_42 (dk_at dksX7_toldOf_2 5 rfl rfl)
theorem dX7_toldOf_46 : decode cX7_toldOf 46 = .ok (.getfield 7, 3) := dk_180 0 7 (dk_at dksX7_toldOf_2 6 rfl rfl)
theorem dX7_toldOf_49 : decode cX7_toldOf 49 = .ok (.iconst 0, 1) := dk_3 (dk_at dksX7_toldOf_2 9 rfl rfl)
theorem dX7_toldOf_50 : decode cX7_toldOf 50 = .ok (.iaload, 1) := dk_46 (dk_at dksX7_toldOf_2 10 rfl rfl)
theorem dX7_toldOf_51 : decode cX7_toldOf 51 = .ok (.ireturn, 1) := dk_172 (dk_at dksX7_toldOf_2 11 rfl rfl)
theorem dX7_toldOf_52 : decode cX7_toldOf 52 = .ok (.aload_n 0, 1) := dk_42 (dk_at dksX7_toldOf_2 12 rfl rfl)
theorem dX7_toldOf_53 : decode cX7_toldOf 53 = .ok (.invokevirtual 59, 3) := dk_182 0 59 (dk_at dksX7_toldOf_2 13 rfl rfl)
theorem dX7_toldOf_56 : decode cX7_toldOf 56 = .ok (.ireturn, 1) := dk_172 (dk_at dksX7_toldOf_2 16 rfl rfl)
theorem dX7_toldOf_57 : decode cX7_toldOf 57 = .ok (.aload_n 0, 1) := dk_42 (dk_at dksX7_toldOf_2 17 rfl rfl)
theorem dX7_toldOf_58 : decode cX7_toldOf 58 = .ok (.getfield 7, 3) := dk_180 0 7 (dk_at dksX7_toldOf_2 18 rfl rfl)
theorem dX7_toldOf_61 : decode cX7_toldOf 61 = .ok (.iconst 1, 1) := dk_4 (dk_at dksX7_toldOf_2 21 rfl rfl)
theorem dX7_toldOf_62 : decode cX7_toldOf 62 = .ok (.iaload, 1) := dk_46 (dk_at dksX7_toldOf_2 22 rfl rfl)
theorem dX7_toldOf_63 : decode cX7_toldOf 63 = .ok (.ireturn, 1) := dk_172 (dk_at dksX7_toldOf_2 23 rfl rfl)
theorem dX7_toldOf_64 : decode cX7_toldOf 64 = .ok (.aload_n 0, 1) := dk_42 (dk_at dksX7_toldOf_3 0 rfl rfl)
theorem dX7_toldOf_65 : decode cX7_toldOf 65 = .ok (.getfield 7, 3) := dk_180 0 7 (dk_at dksX7_toldOf_3 1 rfl rfl)
theorem dX7_toldOf_68 : decode cX7_toldOf 68 = .ok (.iconst 2, 1) := dk_5 (dk_at dksX7_toldOf_3 4 rfl rfl)
theorem dX7_toldOf_69 : decode cX7_toldOf 69 = .ok (.iaload, 1) := dk_46 (dk_at dksX7_toldOf_3 5 rfl rfl)
theorem dX7_toldOf_70 : decode cX7_toldOf 70 = .ok (.ireturn, 1) := dk_172 (dk_at dksX7_toldOf_3 6 rfl rfl)
theorem dX7_toldOf_71 : decode cX7_toldOf 71 = .ok (.aload_n 0, 1) := dk_42 (dk_at dksX7_toldOf_3 7 rfl rfl)
theorem dX7_toldOf_72 : decode cX7_toldOf 72 = .ok (.getfield 56, 3) := dk_180 0 56 (dk_at dksX7_toldOf_3 8 rfl rfl)
theorem dX7_toldOf_75 : decode cX7_toldOf 75 = .ok (.ireturn, 1) := dk_172 (dk_at dksX7_toldOf_3 11 rfl rfl)
theorem dX7_toldOf_76 : decode cX7_toldOf 76 = .ok (.aload_n 0, 1) := dk_42 (dk_at dksX7_toldOf_3 12 rfl rfl)
theorem dX7_toldOf_77 : decode cX7_toldOf 77 = .ok (.getfield 19, 3) := dk_180 0 19 (dk_at dksX7_toldOf_3 13 rfl rfl)
theorem dX7_toldOf_80 : decode cX7_toldOf 80 = .ok (.iload_n 1, 1) := dk_27 (dk_at dksX7_toldOf_3 16 rfl rfl)
theorem dX7_toldOf_81 : decode cX7_toldOf 81 = .ok (.iaload, 1) := dk_46 (dk_at dksX7_toldOf_3 17 rfl rfl)
theorem dX7_toldOf_82 : decode cX7_toldOf 82 = .ok (.ireturn, 1) := dk_172 (dk_at dksX7_toldOf_3 18 rfl rfl)
abbrev cX7_digest : ByteArray := prog_20_method_91_code
def yX7_digest : MethodName := ⟨RX7, "digest", "()J"⟩
def dkwX7_digest_7 : List UInt8 := [31, 173]
abbrev dktX7_digest_7 : List UInt8 := dkwX7_digest_7 ++ []
def dkwX7_digest_6 : List UInt8 := [16, 6, 162, 0, 22, 20, 1, 79, 31, 105, 42, 29, 182, 0, 222, 133, 97, 64, 132, 3, 1, 167, 255, 234]
abbrev dktX7_digest_6 : List UInt8 := dkwX7_digest_6 ++ dktX7_digest_7
def dkwX7_digest_5 : List UInt8 := [29, 46, 133, 97, 105, 42, 180, 0, 38, 29, 46, 133, 97, 64, 132, 3, 1, 167, 255, 180, 3, 62, 29]
abbrev dktX7_digest_5 : List UInt8 := dkwX7_digest_5 ++ dktX7_digest_6
def dkwX7_digest_4 : List UInt8 := [182, 0, 143, 133, 97, 64, 132, 4, 1, 167, 255, 223, 20, 1, 79, 20, 1, 79, 31, 105, 42, 180, 0, 26]
abbrev dktX7_digest_4 : List UInt8 := dkwX7_digest_4 ++ dktX7_digest_5
def dkwX7_digest_3 : List UInt8 := [21, 4, 16, 32, 162, 0, 32, 20, 1, 79, 31, 105, 42, 29, 21, 4, 16, 8, 108, 21, 4, 16, 8, 112]
abbrev dktX7_digest_3 : List UInt8 := dkwX7_digest_3 ++ dktX7_digest_4
def dkwX7_digest_2 : List UInt8 := [180, 0, 22, 133, 97, 64, 42, 182, 0, 196, 3, 62, 29, 42, 182, 0, 59, 162, 0, 74, 3, 54, 4]
abbrev dktX7_digest_2 : List UInt8 := dkwX7_digest_2 ++ dktX7_digest_3
def dkwX7_digest_1 : List UInt8 := [64, 132, 3, 1, 167, 255, 234, 20, 1, 79, 20, 1, 79, 31, 105, 42, 180, 1, 66, 133, 97, 105, 42]
abbrev dktX7_digest_1 : List UInt8 := dkwX7_digest_1 ++ dktX7_digest_2
def dkwX7_digest_0 : List UInt8 := [20, 1, 77, 64, 3, 62, 29, 16, 9, 162, 0, 22, 20, 1, 79, 31, 105, 42, 29, 182, 1, 74, 133, 97]
abbrev dktX7_digest_0 : List UInt8 := dkwX7_digest_0 ++ dktX7_digest_1
theorem dksX7_digest_0 : cX7_digest.data.toList.drop 0 = dktX7_digest_0 := by decide +kernel
theorem dksX7_digest_1 : cX7_digest.data.toList.drop 24 = dktX7_digest_1 := dk_seg dksX7_digest_0 24 rfl rfl
theorem dksX7_digest_2 : cX7_digest.data.toList.drop 47 = dktX7_digest_2 := dk_seg dksX7_digest_1 23 rfl rfl
theorem dksX7_digest_3 : cX7_digest.data.toList.drop 70 = dktX7_digest_3 := dk_seg dksX7_digest_2 23 rfl rfl
theorem dksX7_digest_4 : cX7_digest.data.toList.drop 94 = dktX7_digest_4 := dk_seg dksX7_digest_3 24 rfl rfl
theorem dksX7_digest_5 : cX7_digest.data.toList.drop 118 = dktX7_digest_5 := dk_seg dksX7_digest_4 24 rfl rfl
theorem dksX7_digest_6 : cX7_digest.data.toList.drop 141 = dktX7_digest_6 := dk_seg dksX7_digest_5 23 rfl rfl
theorem dksX7_digest_7 : cX7_digest.data.toList.drop 165 = dktX7_digest_7 := dk_seg dksX7_digest_6 24 rfl rfl
theorem dX7_digest_0 : decode cX7_digest 0 = .ok (.ldc2_w 333, 3) := dk_20 1 77 (dk_at dksX7_digest_0 0 rfl rfl)
theorem dX7_digest_3 : decode cX7_digest 3 = .ok (.lstore_n 1, 1) := dk_64 (dk_at dksX7_digest_0 3 rfl rfl)
theorem dX7_digest_4 : decode cX7_digest 4 = .ok (.iconst 0, 1) := dk_3 (dk_at dksX7_digest_0 4 rfl rfl)
theorem dX7_digest_5 : decode cX7_digest 5 = .ok (.istore_n 3, 1) := dk_62 (dk_at dksX7_digest_0 5 rfl rfl)
theorem dX7_digest_6 : decode cX7_digest 6 = .ok (.iload_n 3, 1) := dk_29 (dk_at dksX7_digest_0 6 rfl rfl)
theorem dX7_digest_7 : decode cX7_digest 7 = .ok (.bipush 9, 2) := dk_16 9 (dk_at dksX7_digest_0 7 rfl rfl)
theorem dX7_digest_9 : decode cX7_digest 9 = .ok (.if_icmp .ge 22, 3) := dk_162 0 22 (dk_at dksX7_digest_0 9 rfl rfl)
theorem dX7_digest_12 : decode cX7_digest 12 = .ok (.ldc2_w 335, 3) := dk_20 1 79 (dk_at dksX7_digest_0 12 rfl rfl)
theorem dX7_digest_15 : decode cX7_digest 15 = .ok (.lload_n 1, 1) := dk_31 (dk_at dksX7_digest_0 15 rfl rfl)
theorem dX7_digest_16 : decode cX7_digest 16 = .ok (.lmul, 1) := dk_105 (dk_at dksX7_digest_0 16 rfl rfl)
theorem dX7_digest_17 : decode cX7_digest 17 = .ok (.aload_n 0, 1) := dk_42 (dk_at dksX7_digest_0 17 rfl rfl)
theorem dX7_digest_18 : decode cX7_digest 18 = .ok (.iload_n 3, 1) := dk_29 (dk_at dksX7_digest_0 18 rfl rfl)
theorem dX7_digest_19 : decode cX7_digest 19 = .ok (.invokevirtual 330, 3) := dk_182 1 74 (dk_at dksX7_digest_0 19 rfl rfl)
theorem dX7_digest_22 : decode cX7_digest 22 = .ok (.i2l, 1) := dk_133 (dk_at dksX7_digest_0 22 rfl rfl)
theorem dX7_digest_23 : decode cX7_digest 23 = .ok (.ladd, 1) := dk_97 (dk_at dksX7_digest_0 23 rfl rfl)
theorem dX7_digest_24 : decode cX7_digest 24 = .ok (.lstore_n 1, 1) := dk_64 (dk_at dksX7_digest_1 0 rfl rfl)
theorem dX7_digest_25 : decode cX7_digest 25 = .ok (.iinc 3 1, 3) := dk_132 3 1 (dk_at dksX7_digest_1 1 rfl rfl)
theorem dX7_digest_28 : decode cX7_digest 28 = .ok (.goto (-22), 3) := dk_167 255 234 (dk_at dksX7_digest_1 4 rfl rfl)
theorem dX7_digest_31 : decode cX7_digest 31 = .ok (.ldc2_w 335, 3) := dk_20 1 79 (dk_at dksX7_digest_1 7 rfl rfl)
theorem dX7_digest_34 : decode cX7_digest 34 = .ok (.ldc2_w 335, 3) := dk_20 1 79 (dk_at dksX7_digest_1 10 rfl rfl)
theorem dX7_digest_37 : decode cX7_digest 37 = .ok (.lload_n 1, 1) := dk_31 (dk_at dksX7_digest_1 13 rfl rfl)
theorem dX7_digest_38 : decode cX7_digest 38 = .ok (.lmul, 1) := dk_105 (dk_at dksX7_digest_1 14 rfl rfl)
theorem dX7_digest_39 : decode cX7_digest 39 = .ok (.aload_n 0, 1) := dk_42 (dk_at dksX7_digest_1 15 rfl rfl)
theorem dX7_digest_40 : decode cX7_digest 40 = .ok (.getfield 322, 3) := dk_180 1 66 (dk_at dksX7_digest_1 16 rfl rfl)
theorem dX7_digest_43 : decode cX7_digest 43 = .ok (.i2l, 1) := dk_133 (dk_at dksX7_digest_1 19 rfl rfl)
theorem dX7_digest_44 : decode cX7_digest 44 = .ok (.ladd, 1) := dk_97 (dk_at dksX7_digest_1 20 rfl rfl)
theorem dX7_digest_45 : decode cX7_digest 45 = .ok (.lmul, 1) := dk_105 (dk_at dksX7_digest_1 21 rfl rfl)
theorem dX7_digest_46 : decode cX7_digest 46 = .ok (.aload_n 0, 1) := dk_42 (dk_at dksX7_digest_1 22 rfl rfl)
theorem dX7_digest_47 : decode cX7_digest 47 = .ok (.getfield 22, 3) := dk_180 0 22 (dk_at dksX7_digest_2 0 rfl rfl)
theorem dX7_digest_50 : decode cX7_digest 50 = .ok (.i2l, 1) := dk_133 (dk_at dksX7_digest_2 3 rfl rfl)
theorem dX7_digest_51 : decode cX7_digest 51 = .ok (.ladd, 1) := dk_97 (dk_at dksX7_digest_2 4 rfl rfl)
theorem dX7_digest_52 : decode cX7_digest 52 = .ok (.lstore_n 1, 1) := dk_64 (dk_at dksX7_digest_2 5 rfl rfl)
theorem dX7_digest_53 : decode cX7_digest 53 = .ok (.aload_n 0, 1) := dk_42 (dk_at dksX7_digest_2 6 rfl rfl)
theorem dX7_digest_54 : decode cX7_digest 54 = .ok (.invokevirtual 196, 3) := dk_182 0 196 (dk_at dksX7_digest_2 7 rfl rfl)
theorem dX7_digest_57 : decode cX7_digest 57 = .ok (.iconst 0, 1) := dk_3 (dk_at dksX7_digest_2 10 rfl rfl)
theorem dX7_digest_58 : decode cX7_digest 58 = .ok (.istore_n 3, 1) := dk_62 (dk_at dksX7_digest_2 11 rfl rfl)
theorem dX7_digest_59 : decode cX7_digest 59 = .ok (.iload_n 3, 1) := dk_29 (dk_at dksX7_digest_2 12 rfl rfl)
theorem dX7_digest_60 : decode cX7_digest 60 = .ok (.aload_n 0, 1) := dk_42 (dk_at dksX7_digest_2 13 rfl rfl)
theorem dX7_digest_61 : decode cX7_digest 61 = .ok (.invokevirtual 59, 3) := dk_182 0 59 (dk_at dksX7_digest_2 14 rfl rfl)
theorem dX7_digest_64 : decode cX7_digest 64 = .ok (.if_icmp .ge 74, 3) := dk_162 0 74 (dk_at dksX7_digest_2 17 rfl rfl)
theorem dX7_digest_67 : decode cX7_digest 67 = .ok (.iconst 0, 1) := dk_3 (dk_at dksX7_digest_2 20 rfl rfl)
theorem dX7_digest_68 : decode cX7_digest 68 = .ok (.istore 4, 2) := dk_54 4 (dk_at dksX7_digest_2 21 rfl rfl)
theorem dX7_digest_70 : decode cX7_digest 70 = .ok (.iload 4, 2) := dk_21 4 (dk_at dksX7_digest_3 0 rfl rfl)
theorem dX7_digest_72 : decode cX7_digest 72 = .ok (.bipush 32, 2) := dk_16 32 (dk_at dksX7_digest_3 2 rfl rfl)
theorem dX7_digest_74 : decode cX7_digest 74 = .ok (.if_icmp .ge 32, 3) := dk_162 0 32 (dk_at dksX7_digest_3 4 rfl rfl)
theorem dX7_digest_77 : decode cX7_digest 77 = .ok (.ldc2_w 335, 3) := dk_20 1 79 (dk_at dksX7_digest_3 7 rfl rfl)
theorem dX7_digest_80 : decode cX7_digest 80 = .ok (.lload_n 1, 1) := dk_31 (dk_at dksX7_digest_3 10 rfl rfl)
theorem dX7_digest_81 : decode cX7_digest 81 = .ok (.lmul, 1) := dk_105 (dk_at dksX7_digest_3 11 rfl rfl)
theorem dX7_digest_82 : decode cX7_digest 82 = .ok (.aload_n 0, 1) := dk_42 (dk_at dksX7_digest_3 12 rfl rfl)
theorem dX7_digest_83 : decode cX7_digest 83 = .ok (.iload_n 3, 1) := dk_29 (dk_at dksX7_digest_3 13 rfl rfl)
theorem dX7_digest_84 : decode cX7_digest 84 = .ok (.iload 4, 2) := dk_21 4 (dk_at dksX7_digest_3 14 rfl rfl)
theorem dX7_digest_86 : decode cX7_digest 86 = .ok (.bipush 8, 2) := dk_16 8 (dk_at dksX7_digest_3 16 rfl rfl)
theorem dX7_digest_88 : decode cX7_digest 88 = .ok (.idiv, 1) := dk_108 (dk_at dksX7_digest_3 18 rfl rfl)
theorem dX7_digest_89 : decode cX7_digest 89 = .ok (.iload 4, 2) := dk_21 4 (dk_at dksX7_digest_3 19 rfl rfl)
theorem dX7_digest_91 : decode cX7_digest 91 = .ok (.bipush 8, 2) := dk_16 8 (dk_at dksX7_digest_3 21 rfl rfl)
theorem dX7_digest_93 : decode cX7_digest 93 = .ok (.irem, 1) := dk_112 (dk_at dksX7_digest_3 23 rfl rfl)
theorem dX7_digest_94 : decode cX7_digest 94 = .ok (.invokevirtual 143, 3) := dk_182 0 143 (dk_at dksX7_digest_4 0 rfl rfl)
theorem dX7_digest_97 : decode cX7_digest 97 = .ok (.i2l, 1) := dk_133 (dk_at dksX7_digest_4 3 rfl rfl)
theorem dX7_digest_98 : decode cX7_digest 98 = .ok (.ladd, 1) := dk_97 (dk_at dksX7_digest_4 4 rfl rfl)
theorem dX7_digest_99 : decode cX7_digest 99 = .ok (.lstore_n 1, 1) := dk_64 (dk_at dksX7_digest_4 5 rfl rfl)
theorem dX7_digest_100 : decode cX7_digest 100 = .ok (.iinc 4 1, 3) := dk_132 4 1 (dk_at dksX7_digest_4 6 rfl rfl)
theorem dX7_digest_103 : decode cX7_digest 103 = .ok (.goto (-33), 3) := dk_167 255 223 (dk_at dksX7_digest_4 9 rfl rfl)
theorem dX7_digest_106 : decode cX7_digest 106 = .ok (.ldc2_w 335, 3) := dk_20 1 79 (dk_at dksX7_digest_4 12 rfl rfl)
theorem dX7_digest_109 : decode cX7_digest 109 = .ok (.ldc2_w 335, 3) := dk_20 1 79 (dk_at dksX7_digest_4 15 rfl rfl)
theorem dX7_digest_112 : decode cX7_digest 112 = .ok (.lload_n 1, 1) := dk_31 (dk_at dksX7_digest_4 18 rfl rfl)
theorem dX7_digest_113 : decode cX7_digest 113 = .ok (.lmul, 1) := dk_105 (dk_at dksX7_digest_4 19 rfl rfl)
theorem dX7_digest_114 : decode cX7_digest 114 = .ok (.aload_n 0, 1) := dk_42 (dk_at dksX7_digest_4 20 rfl rfl)
theorem dX7_digest_115 : decode cX7_digest 115 = .ok (.getfield 26, 3) := dk_180 0 26 (dk_at dksX7_digest_4 21 rfl rfl)
theorem dX7_digest_118 : decode cX7_digest 118 = .ok (.iload_n 3, 1) := dk_29 (dk_at dksX7_digest_5 0 rfl rfl)
theorem dX7_digest_119 : decode cX7_digest 119 = .ok (.iaload, 1) := dk_46 (dk_at dksX7_digest_5 1 rfl rfl)
theorem dX7_digest_120 : decode cX7_digest 120 = .ok (.i2l, 1) := dk_133 (dk_at dksX7_digest_5 2 rfl rfl)
theorem dX7_digest_121 : decode cX7_digest 121 = .ok (.ladd, 1) := dk_97 (dk_at dksX7_digest_5 3 rfl rfl)
theorem dX7_digest_122 : decode cX7_digest 122 = .ok (.lmul, 1) := dk_105 (dk_at dksX7_digest_5 4 rfl rfl)
theorem dX7_digest_123 : decode cX7_digest 123 = .ok (.aload_n 0, 1) := dk_42 (dk_at dksX7_digest_5 5 rfl rfl)
theorem dX7_digest_124 : decode cX7_digest 124 = .ok (.getfield 38, 3) := dk_180 0 38 (dk_at dksX7_digest_5 6 rfl rfl)
theorem dX7_digest_127 : decode cX7_digest 127 = .ok (.iload_n 3, 1) := dk_29 (dk_at dksX7_digest_5 9 rfl rfl)
theorem dX7_digest_128 : decode cX7_digest 128 = .ok (.iaload, 1) := dk_46 (dk_at dksX7_digest_5 10 rfl rfl)
theorem dX7_digest_129 : decode cX7_digest 129 = .ok (.i2l, 1) := dk_133 (dk_at dksX7_digest_5 11 rfl rfl)
theorem dX7_digest_130 : decode cX7_digest 130 = .ok (.ladd, 1) := dk_97 (dk_at dksX7_digest_5 12 rfl rfl)
theorem dX7_digest_131 : decode cX7_digest 131 = .ok (.lstore_n 1, 1) := dk_64 (dk_at dksX7_digest_5 13 rfl rfl)
theorem dX7_digest_132 : decode cX7_digest 132 = .ok (.iinc 3 1, 3) := dk_132 3 1 (dk_at dksX7_digest_5 14 rfl rfl)
theorem dX7_digest_135 : decode cX7_digest 135 = .ok (.goto (-76), 3) := dk_167 255 180 (dk_at dksX7_digest_5 17 rfl rfl)
theorem dX7_digest_138 : decode cX7_digest 138 = .ok (.iconst 0, 1) := dk_3 (dk_at dksX7_digest_5 20 rfl rfl)
theorem dX7_digest_139 : decode cX7_digest 139 = .ok (.istore_n 3, 1) := dk_62 (dk_at dksX7_digest_5 21 rfl rfl)
theorem dX7_digest_140 : decode cX7_digest 140 = .ok (.iload_n 3, 1) := dk_29 (dk_at dksX7_digest_5 22 rfl rfl)
theorem dX7_digest_141 : decode cX7_digest 141 = .ok (.bipush 6, 2) := dk_16 6 (dk_at dksX7_digest_6 0 rfl rfl)
theorem dX7_digest_143 : decode cX7_digest 143 = .ok (.if_icmp .ge 22, 3) := dk_162 0 22 (dk_at dksX7_digest_6 2 rfl rfl)
theorem dX7_digest_146 : decode cX7_digest 146 = .ok (.ldc2_w 335, 3) := dk_20 1 79 (dk_at dksX7_digest_6 5 rfl rfl)
theorem dX7_digest_149 : decode cX7_digest 149 = .ok (.lload_n 1, 1) := dk_31 (dk_at dksX7_digest_6 8 rfl rfl)
theorem dX7_digest_150 : decode cX7_digest 150 = .ok (.lmul, 1) := dk_105 (dk_at dksX7_digest_6 9 rfl rfl)
theorem dX7_digest_151 : decode cX7_digest 151 = .ok (.aload_n 0, 1) := dk_42 (dk_at dksX7_digest_6 10 rfl rfl)
theorem dX7_digest_152 : decode cX7_digest 152 = .ok (.iload_n 3, 1) := dk_29 (dk_at dksX7_digest_6 11 rfl rfl)
theorem dX7_digest_153 : decode cX7_digest 153 = .ok (.invokevirtual 222, 3) := dk_182 0 222 (dk_at dksX7_digest_6 12 rfl rfl)
theorem dX7_digest_156 : decode cX7_digest 156 = .ok (.i2l, 1) := dk_133 (dk_at dksX7_digest_6 15 rfl rfl)
theorem dX7_digest_157 : decode cX7_digest 157 = .ok (.ladd, 1) := dk_97 (dk_at dksX7_digest_6 16 rfl rfl)
theorem dX7_digest_158 : decode cX7_digest 158 = .ok (.lstore_n 1, 1) := dk_64 (dk_at dksX7_digest_6 17 rfl rfl)
theorem dX7_digest_159 : decode cX7_digest 159 = .ok (.iinc 3 1, 3) := dk_132 3 1 (dk_at dksX7_digest_6 18 rfl rfl)
theorem dX7_digest_162 : decode cX7_digest 162 = .ok (.goto (-22), 3) := dk_167 255 234 (dk_at dksX7_digest_6 21 rfl rfl)
theorem dX7_digest_165 : decode cX7_digest 165 = .ok (.lload_n 1, 1) := dk_31 (dk_at dksX7_digest_7 0 rfl rfl)
theorem dX7_digest_166 : decode cX7_digest 166 = .ok (.lreturn, 1) := dk_173 (dk_at dksX7_digest_7 1 rfl rfl)
theorem q124 : (Jvm.Cond.initialized "PictureRingModel") ∈ lw_all := lw_g (lw_at lw_m1 16 rfl) rfl
theorem q1189 : (Jvm.Cond.selects "PictureRingModel" ({ cls := "java/lang/Object", name := "getClass", desc := "()Ljava/lang/Class;" } : Jvm.MethodName) ({ cls := "java/lang/Object", name := "getClass", desc := "()Ljava/lang/Class;" } : Jvm.MethodName)) ∈ lw_all := lw_g (lw_at lw_m5 121 rfl) rfl
theorem q1613 : (Jvm.Cond.instantiable "PictureRingModel" (23 : Nat)) ∈ lw_all := lw_g (lw_at lw_m7 65 rfl) rfl
theorem q1615 : (Jvm.Cond.instanceMethod ({ cls := "PictureRingModel", name := "<init>", desc := "()V" } : Jvm.MethodName)) ∈ lw_all := lw_g (lw_at lw_m7 67 rfl) rfl
theorem q1616 : (Jvm.Cond.code ({ cls := "PictureRingModel", name := "<init>", desc := "()V" } : Jvm.MethodName) prog_20_method_1_code (1 : Nat) (Option.none : Option Jvm.ClassFile.FieldType)) ∈ lw_all := lw_g (lw_at lw_m7 68 rfl) rfl
theorem q1617 : (Jvm.Cond.methodLink "PictureRingModel" (1 : Nat) ({ cls := "java/lang/Object", name := "<init>", desc := "()V" } : Jvm.MethodName)) ∈ lw_all := lw_g (lw_at lw_m7 69 rfl) rfl
theorem q1618 : (Jvm.Cond.fieldLink "PictureRingModel" (7 : Nat) "PictureRingModel" "all" "[I") ∈ lw_all := lw_g (lw_at lw_m7 70 rfl) rfl
theorem q1619 : (Jvm.Cond.fieldLink "PictureRingModel" (13 : Nat) "PictureRingModel" "past" "[I") ∈ lw_all := lw_g (lw_at lw_m7 71 rfl) rfl
theorem q1620 : (Jvm.Cond.fieldLink "PictureRingModel" (16 : Nat) "PictureRingModel" "aside" "[I") ∈ lw_all := lw_g (lw_at lw_m7 72 rfl) rfl
theorem q1621 : (Jvm.Cond.fieldLink "PictureRingModel" (56 : Nat) "PictureRingModel" "states" "I") ∈ lw_all := lw_g (lw_at lw_m7 73 rfl) rfl
theorem q1622 : (Jvm.Cond.fieldLink "PictureRingModel" (19 : Nat) "PictureRingModel" "refused" "[I") ∈ lw_all := lw_g (lw_at lw_m7 74 rfl) rfl
theorem q1623 : (Jvm.Cond.fieldLink "PictureRingModel" (322 : Nat) "PictureRingModel" "causeKind" "I") ∈ lw_all := lw_g (lw_at lw_m7 75 rfl) rfl
theorem q1624 : (Jvm.Cond.fieldLink "PictureRingModel" (22 : Nat) "PictureRingModel" "causeOrde\x72" "I") ∈ lw_all := lw_g (lw_at lw_m7 76 rfl) rfl
theorem q1625 : (Jvm.Cond.fieldLink "PictureRingModel" (26 : Nat) "PictureRingModel" "corne\x72" "[I") ∈ lw_all := lw_g (lw_at lw_m7 77 rfl) rfl
theorem q1626 : (Jvm.Cond.fieldLink "PictureRingModel" (29 : Nat) "PictureRingModel" "linkVotes" "[I") ∈ lw_all := lw_g (lw_at lw_m7 78 rfl) rfl
theorem q1627 : (Jvm.Cond.fieldLink "PictureRingModel" (32 : Nat) "PictureRingModel" "linkE" "[I") ∈ lw_all := lw_g (lw_at lw_m7 79 rfl) rfl
theorem q1628 : (Jvm.Cond.fieldLink "PictureRingModel" (35 : Nat) "PictureRingModel" "linkF" "[I") ∈ lw_all := lw_g (lw_at lw_m7 80 rfl) rfl
theorem q1629 : (Jvm.Cond.fieldLink "PictureRingModel" (38 : Nat) "PictureRingModel" "followe\x72" "[I") ∈ lw_all := lw_g (lw_at lw_m7 81 rfl) rfl
theorem q1630 : (Jvm.Cond.fieldLink "PictureRingModel" (41 : Nat) "PictureRingModel" "ahead" "[I") ∈ lw_all := lw_g (lw_at lw_m7 82 rfl) rfl
theorem q1631 : (Jvm.Cond.fieldLink "PictureRingModel" (44 : Nat) "PictureRingModel" "least" "[I") ∈ lw_all := lw_g (lw_at lw_m7 83 rfl) rfl
theorem q1632 : (Jvm.Cond.fieldLink "PictureRingModel" (47 : Nat) "PictureRingModel" "seam" "[I") ∈ lw_all := lw_g (lw_at lw_m7 84 rfl) rfl
theorem q1633 : (Jvm.Cond.fieldLink "PictureRingModel" (251 : Nat) "PictureRingModel" "above" "J") ∈ lw_all := lw_g (lw_at lw_m7 85 rfl) rfl
theorem q1634 : (Jvm.Cond.fieldLink "PictureRingModel" (255 : Nat) "PictureRingModel" "below" "J") ∈ lw_all := lw_g (lw_at lw_m7 86 rfl) rfl
theorem q1635 : (Jvm.Cond.fieldLink "PictureRingModel" (50 : Nat) "PictureRingModel" "text" "[I") ∈ lw_all := lw_g (lw_at lw_m7 87 rfl) rfl
theorem q1636 : (Jvm.Cond.fieldLink "PictureRingModel" (281 : Nat) "PictureRingModel" "textLong" "I") ∈ lw_all := lw_g (lw_at lw_m7 88 rfl) rfl
theorem q1637 : (Jvm.Cond.fieldLink "PictureRingModel" (284 : Nat) "PictureRingModel" "place" "I") ∈ lw_all := lw_g (lw_at lw_m7 89 rfl) rfl
theorem q1638 : (Jvm.Cond.fieldLink "PictureRingModel" (294 : Nat) "PictureRingModel" "value" "I") ∈ lw_all := lw_g (lw_at lw_m7 90 rfl) rfl
theorem q1639 : (Jvm.Cond.fieldLink "PictureRingModel" (53 : Nat) "PictureRingModel" "numbers" "[I") ∈ lw_all := lw_g (lw_at lw_m7 91 rfl) rfl
theorem q1640 : (Jvm.Cond.fieldLink "PictureRingModel" (313 : Nat) "PictureRingModel" "not" "I") ∈ lw_all := lw_g (lw_at lw_m7 92 rfl) rfl
theorem q1641 : (Jvm.Cond.laysFinal "PictureRingModel" "PictureRingModel" "all" "[I") ∈ lw_all := lw_g (lw_at lw_m7 93 rfl) rfl
theorem q1642 : (Jvm.Cond.soleField "PictureRingModel" "all") ∈ lw_all := lw_g (lw_at lw_m7 94 rfl) rfl
theorem q1643 : (Jvm.Cond.laysFinal "PictureRingModel" "PictureRingModel" "past" "[I") ∈ lw_all := lw_g (lw_at lw_m7 95 rfl) rfl
theorem q1644 : (Jvm.Cond.soleField "PictureRingModel" "past") ∈ lw_all := lw_g (lw_at lw_m7 96 rfl) rfl
theorem q1645 : (Jvm.Cond.laysFinal "PictureRingModel" "PictureRingModel" "aside" "[I") ∈ lw_all := lw_g (lw_at lw_m7 97 rfl) rfl
theorem q1646 : (Jvm.Cond.soleField "PictureRingModel" "aside") ∈ lw_all := lw_g (lw_at lw_m7 98 rfl) rfl
theorem q1647 : (Jvm.Cond.lays "PictureRingModel" "PictureRingModel" "states" "I") ∈ lw_all := lw_g (lw_at lw_m7 99 rfl) rfl
theorem q1648 : (Jvm.Cond.soleField "PictureRingModel" "states") ∈ lw_all := lw_g (lw_at lw_m7 100 rfl) rfl
theorem q1649 : (Jvm.Cond.laysFinal "PictureRingModel" "PictureRingModel" "refused" "[I") ∈ lw_all := lw_g (lw_at lw_m7 101 rfl) rfl
theorem q1650 : (Jvm.Cond.soleField "PictureRingModel" "refused") ∈ lw_all := lw_g (lw_at lw_m7 102 rfl) rfl
theorem q1651 : (Jvm.Cond.lays "PictureRingModel" "PictureRingModel" "causeKind" "I") ∈ lw_all := lw_g (lw_at lw_m7 103 rfl) rfl
theorem q1652 : (Jvm.Cond.soleField "PictureRingModel" "causeKind") ∈ lw_all := lw_g (lw_at lw_m7 104 rfl) rfl
theorem q1653 : (Jvm.Cond.lays "PictureRingModel" "PictureRingModel" "causeOrde\x72" "I") ∈ lw_all := lw_g (lw_at lw_m7 105 rfl) rfl
theorem q1654 : (Jvm.Cond.soleField "PictureRingModel" "causeOrde\x72") ∈ lw_all := lw_g (lw_at lw_m7 106 rfl) rfl
theorem q1655 : (Jvm.Cond.laysFinal "PictureRingModel" "PictureRingModel" "corne\x72" "[I") ∈ lw_all := lw_g (lw_at lw_m7 107 rfl) rfl
theorem q1656 : (Jvm.Cond.soleField "PictureRingModel" "corne\x72") ∈ lw_all := lw_g (lw_at lw_m7 108 rfl) rfl
theorem q1657 : (Jvm.Cond.laysFinal "PictureRingModel" "PictureRingModel" "linkVotes" "[I") ∈ lw_all := lw_g (lw_at lw_m7 109 rfl) rfl
theorem q1658 : (Jvm.Cond.soleField "PictureRingModel" "linkVotes") ∈ lw_all := lw_g (lw_at lw_m7 110 rfl) rfl
theorem q1659 : (Jvm.Cond.laysFinal "PictureRingModel" "PictureRingModel" "linkE" "[I") ∈ lw_all := lw_g (lw_at lw_m7 111 rfl) rfl
theorem q1660 : (Jvm.Cond.soleField "PictureRingModel" "linkE") ∈ lw_all := lw_g (lw_at lw_m7 112 rfl) rfl
theorem q1661 : (Jvm.Cond.laysFinal "PictureRingModel" "PictureRingModel" "linkF" "[I") ∈ lw_all := lw_g (lw_at lw_m7 113 rfl) rfl
theorem q1662 : (Jvm.Cond.soleField "PictureRingModel" "linkF") ∈ lw_all := lw_g (lw_at lw_m7 114 rfl) rfl
theorem q1663 : (Jvm.Cond.laysFinal "PictureRingModel" "PictureRingModel" "followe\x72" "[I") ∈ lw_all := lw_g (lw_at lw_m7 115 rfl) rfl
theorem q1664 : (Jvm.Cond.soleField "PictureRingModel" "followe\x72") ∈ lw_all := lw_g (lw_at lw_m7 116 rfl) rfl
theorem q1665 : (Jvm.Cond.laysFinal "PictureRingModel" "PictureRingModel" "ahead" "[I") ∈ lw_all := lw_g (lw_at lw_m7 117 rfl) rfl
theorem q1666 : (Jvm.Cond.soleField "PictureRingModel" "ahead") ∈ lw_all := lw_g (lw_at lw_m7 118 rfl) rfl
theorem q1667 : (Jvm.Cond.laysFinal "PictureRingModel" "PictureRingModel" "least" "[I") ∈ lw_all := lw_g (lw_at lw_m7 119 rfl) rfl
theorem q1668 : (Jvm.Cond.soleField "PictureRingModel" "least") ∈ lw_all := lw_g (lw_at lw_m7 120 rfl) rfl
theorem q1669 : (Jvm.Cond.laysFinal "PictureRingModel" "PictureRingModel" "seam" "[I") ∈ lw_all := lw_g (lw_at lw_m7 121 rfl) rfl
theorem q1670 : (Jvm.Cond.soleField "PictureRingModel" "seam") ∈ lw_all := lw_g (lw_at lw_m7 122 rfl) rfl
theorem q1671 : (Jvm.Cond.lays "PictureRingModel" "PictureRingModel" "above" "J") ∈ lw_all := lw_g (lw_at lw_m7 123 rfl) rfl
theorem q1672 : (Jvm.Cond.soleField "PictureRingModel" "above") ∈ lw_all := lw_g (lw_at lw_m7 124 rfl) rfl
theorem q1673 : (Jvm.Cond.lays "PictureRingModel" "PictureRingModel" "below" "J") ∈ lw_all := lw_g (lw_at lw_m7 125 rfl) rfl
theorem q1674 : (Jvm.Cond.soleField "PictureRingModel" "below") ∈ lw_all := lw_g (lw_at lw_m7 126 rfl) rfl
theorem q1675 : (Jvm.Cond.laysFinal "PictureRingModel" "PictureRingModel" "text" "[I") ∈ lw_all := lw_g (lw_at lw_m7 127 rfl) rfl
theorem q1676 : (Jvm.Cond.soleField "PictureRingModel" "text") ∈ lw_all := lw_g (lw_at lw_m7 128 rfl) rfl
theorem q1677 : (Jvm.Cond.lays "PictureRingModel" "PictureRingModel" "textLong" "I") ∈ lw_all := lw_g (lw_at lw_m7 129 rfl) rfl
theorem q1678 : (Jvm.Cond.soleField "PictureRingModel" "textLong") ∈ lw_all := lw_g (lw_at lw_m7 130 rfl) rfl
theorem q1679 : (Jvm.Cond.lays "PictureRingModel" "PictureRingModel" "place" "I") ∈ lw_all := lw_g (lw_at lw_m7 131 rfl) rfl
theorem q1680 : (Jvm.Cond.soleField "PictureRingModel" "place") ∈ lw_all := lw_g (lw_at lw_m7 132 rfl) rfl
theorem q1681 : (Jvm.Cond.lays "PictureRingModel" "PictureRingModel" "value" "I") ∈ lw_all := lw_g (lw_at lw_m7 133 rfl) rfl
theorem q1682 : (Jvm.Cond.soleField "PictureRingModel" "value") ∈ lw_all := lw_g (lw_at lw_m7 134 rfl) rfl
theorem q1683 : (Jvm.Cond.laysFinal "PictureRingModel" "PictureRingModel" "numbers" "[I") ∈ lw_all := lw_g (lw_at lw_m7 135 rfl) rfl
theorem q1684 : (Jvm.Cond.soleField "PictureRingModel" "numbers") ∈ lw_all := lw_g (lw_at lw_m7 136 rfl) rfl
theorem q1685 : (Jvm.Cond.lays "PictureRingModel" "PictureRingModel" "not" "I") ∈ lw_all := lw_g (lw_at lw_m7 137 rfl) rfl
theorem q1686 : (Jvm.Cond.soleField "PictureRingModel" "not") ∈ lw_all := lw_g (lw_at lw_m7 138 rfl) rfl
theorem q1687 : (Jvm.Cond.superclass "PictureRingModel" "java/lang/Object") ∈ lw_all := lw_g (lw_at lw_m7 139 rfl) rfl
theorem q1689 : (Jvm.Cond.instanceMethod ({ cls := "PictureRingModel", name := "world", desc := "(II)I" } : Jvm.MethodName)) ∈ lw_all := lw_g (lw_at lw_m7 141 rfl) rfl
theorem q1690 : (Jvm.Cond.selects "PictureRingModel" ({ cls := "PictureRingModel", name := "world", desc := "(II)I" } : Jvm.MethodName) ({ cls := "PictureRingModel", name := "world", desc := "(II)I" } : Jvm.MethodName)) ∈ lw_all := lw_g (lw_at lw_m7 142 rfl) rfl
theorem q1691 : (Jvm.Cond.code ({ cls := "PictureRingModel", name := "world", desc := "(II)I" } : Jvm.MethodName) prog_20_method_15_code (3 : Nat) (Option.some Jvm.ClassFile.FieldType.int)) ∈ lw_all := lw_g (lw_at lw_m7 143 rfl) rfl
theorem q1692 : (Jvm.Cond.methodLink "PictureRingModel" (87 : Nat) ({ cls := "PictureRingModel", name := "isWorld", desc := "(II)Z" } : Jvm.MethodName)) ∈ lw_all := lw_g (lw_at lw_m7 144 rfl) rfl
theorem q1693 : (Jvm.Cond.static ({ cls := "PictureRingModel", name := "isWorld", desc := "(II)Z" } : Jvm.MethodName)) ∈ lw_all := lw_g (lw_at lw_m7 145 rfl) rfl
theorem q1694 : (Jvm.Cond.code ({ cls := "PictureRingModel", name := "isWorld", desc := "(II)Z" } : Jvm.MethodName) prog_20_method_13_code (2 : Nat) (Option.some Jvm.ClassFile.FieldType.boolean)) ∈ lw_all := lw_g (lw_at lw_m7 146 rfl) rfl
theorem q1695 : (Jvm.Cond.constantLong "PictureRingModel" (71 : Nat) (999999 : Int64)) ∈ lw_all := lw_g (lw_at lw_m7 147 rfl) rfl
theorem q1696 : (Jvm.Cond.methodLink "PictureRingModel" (63 : Nat) ({ cls := "PictureRingModel", name := "in", desc := "(JJJ)Z" } : Jvm.MethodName)) ∈ lw_all := lw_g (lw_at lw_m7 148 rfl) rfl
theorem q1697 : (Jvm.Cond.static ({ cls := "PictureRingModel", name := "in", desc := "(JJJ)Z" } : Jvm.MethodName)) ∈ lw_all := lw_g (lw_at lw_m7 149 rfl) rfl
theorem q1698 : (Jvm.Cond.code ({ cls := "PictureRingModel", name := "in", desc := "(JJJ)Z" } : Jvm.MethodName) prog_20_method_3_code (6 : Nat) (Option.some Jvm.ClassFile.FieldType.boolean)) ∈ lw_all := lw_g (lw_at lw_m7 150 rfl) rfl
theorem q1699 : (Jvm.Cond.constantLong "PictureRingModel" (73 : Nat) (12 : Int64)) ∈ lw_all := lw_g (lw_at lw_m7 151 rfl) rfl
theorem q1700 : (Jvm.Cond.constantLong "PictureRingModel" (75 : Nat) (32 : Int64)) ∈ lw_all := lw_g (lw_at lw_m7 152 rfl) rfl
theorem q1701 : (Jvm.Cond.methodLink "PictureRingModel" (91 : Nat) ({ cls := "PictureRingModel", name := "refuses", desc := "(I)I" } : Jvm.MethodName)) ∈ lw_all := lw_g (lw_at lw_m7 153 rfl) rfl
theorem q1702 : (Jvm.Cond.privateMethod ({ cls := "PictureRingModel", name := "refuses", desc := "(I)I" } : Jvm.MethodName)) ∈ lw_tbl := lw_at lw_m7 154 rfl
theorem q1703 : (Jvm.Cond.instanceMethod ({ cls := "PictureRingModel", name := "refuses", desc := "(I)I" } : Jvm.MethodName)) ∈ lw_all := lw_g (lw_at lw_m7 155 rfl) rfl
theorem q1704 : (Jvm.Cond.code ({ cls := "PictureRingModel", name := "refuses", desc := "(I)I" } : Jvm.MethodName) prog_20_method_4_code (2 : Nat) (Option.some Jvm.ClassFile.FieldType.int)) ∈ lw_all := lw_g (lw_at lw_m7 156 rfl) rfl
theorem q1705 : (Jvm.Cond.methodLink "PictureRingModel" (95 : Nat) ({ cls := "PictureRingModel", name := "keep", desc := "()V" } : Jvm.MethodName)) ∈ lw_all := lw_g (lw_at lw_m7 157 rfl) rfl
theorem q1706 : (Jvm.Cond.privateMethod ({ cls := "PictureRingModel", name := "keep", desc := "()V" } : Jvm.MethodName)) ∈ lw_tbl := lw_at lw_m7 158 rfl
theorem q1707 : (Jvm.Cond.instanceMethod ({ cls := "PictureRingModel", name := "keep", desc := "()V" } : Jvm.MethodName)) ∈ lw_all := lw_g (lw_at lw_m7 159 rfl) rfl
theorem q1708 : (Jvm.Cond.code ({ cls := "PictureRingModel", name := "keep", desc := "()V" } : Jvm.MethodName) prog_20_method_5_code (2 : Nat) (Option.none : Option Jvm.ClassFile.FieldType)) ∈ lw_all := lw_g (lw_at lw_m7 160 rfl) rfl
theorem q1709 : (Jvm.Cond.methodLink "PictureRingModel" (98 : Nat) ({ cls := "PictureRingModel", name := "worldNow", desc := "(II)I" } : Jvm.MethodName)) ∈ lw_all := lw_g (lw_at lw_m7 161 rfl) rfl
theorem q1710 : (Jvm.Cond.privateMethod ({ cls := "PictureRingModel", name := "worldNow", desc := "(II)I" } : Jvm.MethodName)) ∈ lw_tbl := lw_at lw_m7 162 rfl
theorem q1711 : (Jvm.Cond.instanceMethod ({ cls := "PictureRingModel", name := "worldNow", desc := "(II)I" } : Jvm.MethodName)) ∈ lw_all := lw_g (lw_at lw_m7 163 rfl) rfl
theorem q1712 : (Jvm.Cond.code ({ cls := "PictureRingModel", name := "worldNow", desc := "(II)I" } : Jvm.MethodName) prog_20_method_14_code (8 : Nat) (Option.some Jvm.ClassFile.FieldType.int)) ∈ lw_all := lw_g (lw_at lw_m7 164 rfl) rfl
theorem q1713 : (Jvm.Cond.constantLong "PictureRingModel" (77 : Nat) (1103515245 : Int64)) ∈ lw_all := lw_g (lw_at lw_m7 165 rfl) rfl
theorem q1714 : (Jvm.Cond.constantLong "PictureRingModel" (79 : Nat) (12345 : Int64)) ∈ lw_all := lw_g (lw_at lw_m7 166 rfl) rfl
theorem q1715 : (Jvm.Cond.constantLong "PictureRingModel" (81 : Nat) (2147483648 : Int64)) ∈ lw_all := lw_g (lw_at lw_m7 167 rfl) rfl
theorem q1716 : (Jvm.Cond.constantLong "PictureRingModel" (83 : Nat) (65536 : Int64)) ∈ lw_all := lw_g (lw_at lw_m7 168 rfl) rfl
theorem q1717 : (Jvm.Cond.constantLong "PictureRingModel" (85 : Nat) (64 : Int64)) ∈ lw_all := lw_g (lw_at lw_m7 169 rfl) rfl
theorem q1719 : (Jvm.Cond.instanceMethod ({ cls := "PictureRingModel", name := "dots", desc := "(III)I" } : Jvm.MethodName)) ∈ lw_all := lw_g (lw_at lw_m7 171 rfl) rfl
theorem q1720 : (Jvm.Cond.selects "PictureRingModel" ({ cls := "PictureRingModel", name := "dots", desc := "(III)I" } : Jvm.MethodName) ({ cls := "PictureRingModel", name := "dots", desc := "(III)I" } : Jvm.MethodName)) ∈ lw_all := lw_g (lw_at lw_m7 172 rfl) rfl
theorem q1721 : (Jvm.Cond.code ({ cls := "PictureRingModel", name := "dots", desc := "(III)I" } : Jvm.MethodName) prog_20_method_18_code (4 : Nat) (Option.some Jvm.ClassFile.FieldType.int)) ∈ lw_all := lw_g (lw_at lw_m7 173 rfl) rfl
theorem q1722 : (Jvm.Cond.methodLink "PictureRingModel" (104 : Nat) ({ cls := "PictureRingModel", name := "isDot", desc := "(II)Z" } : Jvm.MethodName)) ∈ lw_all := lw_g (lw_at lw_m7 174 rfl) rfl
theorem q1723 : (Jvm.Cond.privateMethod ({ cls := "PictureRingModel", name := "isDot", desc := "(II)Z" } : Jvm.MethodName)) ∈ lw_tbl := lw_at lw_m7 175 rfl
theorem q1724 : (Jvm.Cond.instanceMethod ({ cls := "PictureRingModel", name := "isDot", desc := "(II)Z" } : Jvm.MethodName)) ∈ lw_all := lw_g (lw_at lw_m7 176 rfl) rfl
theorem q1725 : (Jvm.Cond.code ({ cls := "PictureRingModel", name := "isDot", desc := "(II)Z" } : Jvm.MethodName) prog_20_method_16_code (3 : Nat) (Option.some Jvm.ClassFile.FieldType.boolean)) ∈ lw_all := lw_g (lw_at lw_m7 177 rfl) rfl
theorem q1726 : (Jvm.Cond.constantLong "PictureRingModel" (102 : Nat) (5 : Int64)) ∈ lw_all := lw_g (lw_at lw_m7 178 rfl) rfl
theorem q1727 : (Jvm.Cond.constantLong "PictureRingModel" (107 : Nat) (63 : Int64)) ∈ lw_all := lw_g (lw_at lw_m7 179 rfl) rfl
theorem q1728 : (Jvm.Cond.methodLink "PictureRingModel" (109 : Nat) ({ cls := "PictureRingModel", name := "cellNow", desc := "(II)I" } : Jvm.MethodName)) ∈ lw_all := lw_g (lw_at lw_m7 180 rfl) rfl
theorem q1729 : (Jvm.Cond.privateMethod ({ cls := "PictureRingModel", name := "cellNow", desc := "(II)I" } : Jvm.MethodName)) ∈ lw_tbl := lw_at lw_m7 181 rfl
theorem q1730 : (Jvm.Cond.instanceMethod ({ cls := "PictureRingModel", name := "cellNow", desc := "(II)I" } : Jvm.MethodName)) ∈ lw_all := lw_g (lw_at lw_m7 182 rfl) rfl
theorem q1731 : (Jvm.Cond.code ({ cls := "PictureRingModel", name := "cellNow", desc := "(II)I" } : Jvm.MethodName) prog_20_method_17_code (4 : Nat) (Option.some Jvm.ClassFile.FieldType.int)) ∈ lw_all := lw_g (lw_at lw_m7 183 rfl) rfl
theorem q1733 : (Jvm.Cond.instanceMethod ({ cls := "PictureRingModel", name := "shot", desc := "(III)I" } : Jvm.MethodName)) ∈ lw_all := lw_g (lw_at lw_m7 185 rfl) rfl
theorem q1734 : (Jvm.Cond.selects "PictureRingModel" ({ cls := "PictureRingModel", name := "shot", desc := "(III)I" } : Jvm.MethodName) ({ cls := "PictureRingModel", name := "shot", desc := "(III)I" } : Jvm.MethodName)) ∈ lw_all := lw_g (lw_at lw_m7 186 rfl) rfl
theorem q1735 : (Jvm.Cond.code ({ cls := "PictureRingModel", name := "shot", desc := "(III)I" } : Jvm.MethodName) prog_20_method_21_code (5 : Nat) (Option.some Jvm.ClassFile.FieldType.int)) ∈ lw_all := lw_g (lw_at lw_m7 187 rfl) rfl
theorem q1736 : (Jvm.Cond.methodLink "PictureRingModel" (121 : Nat) ({ cls := "PictureRingModel", name := "canShoot", desc := "(III)I" } : Jvm.MethodName)) ∈ lw_all := lw_g (lw_at lw_m7 188 rfl) rfl
theorem q1737 : (Jvm.Cond.privateMethod ({ cls := "PictureRingModel", name := "canShoot", desc := "(III)I" } : Jvm.MethodName)) ∈ lw_tbl := lw_at lw_m7 189 rfl
theorem q1738 : (Jvm.Cond.instanceMethod ({ cls := "PictureRingModel", name := "canShoot", desc := "(III)I" } : Jvm.MethodName)) ∈ lw_all := lw_g (lw_at lw_m7 190 rfl) rfl
theorem q1739 : (Jvm.Cond.code ({ cls := "PictureRingModel", name := "canShoot", desc := "(III)I" } : Jvm.MethodName) prog_20_method_19_code (4 : Nat) (Option.some Jvm.ClassFile.FieldType.int)) ∈ lw_all := lw_g (lw_at lw_m7 191 rfl) rfl
theorem q1740 : (Jvm.Cond.constantLong "PictureRingModel" (112 : Nat) (2 : Int64)) ∈ lw_all := lw_g (lw_at lw_m7 192 rfl) rfl
theorem q1741 : (Jvm.Cond.constantLong "PictureRingModel" (114 : Nat) (-20 : Int64)) ∈ lw_all := lw_g (lw_at lw_m7 193 rfl) rfl
theorem q1742 : (Jvm.Cond.constantLong "PictureRingModel" (116 : Nat) (20 : Int64)) ∈ lw_all := lw_g (lw_at lw_m7 194 rfl) rfl
theorem q1743 : (Jvm.Cond.methodLink "PictureRingModel" (59 : Nat) ({ cls := "PictureRingModel", name := "many", desc := "()I" } : Jvm.MethodName)) ∈ lw_all := lw_g (lw_at lw_m7 195 rfl) rfl
theorem q1744 : (Jvm.Cond.privateMethod ({ cls := "PictureRingModel", name := "many", desc := "()I" } : Jvm.MethodName)) ∈ lw_tbl := lw_at lw_m7 196 rfl
theorem q1745 : (Jvm.Cond.instanceMethod ({ cls := "PictureRingModel", name := "many", desc := "()I" } : Jvm.MethodName)) ∈ lw_all := lw_g (lw_at lw_m7 197 rfl) rfl
theorem q1746 : (Jvm.Cond.code ({ cls := "PictureRingModel", name := "many", desc := "()I" } : Jvm.MethodName) prog_20_method_8_code (1 : Nat) (Option.some Jvm.ClassFile.FieldType.int)) ∈ lw_all := lw_g (lw_at lw_m7 198 rfl) rfl
theorem q1747 : (Jvm.Cond.methodLink "PictureRingModel" (125 : Nat) ({ cls := "PictureRingModel", name := "shotNow", desc := "(III)I" } : Jvm.MethodName)) ∈ lw_all := lw_g (lw_at lw_m7 199 rfl) rfl
theorem q1748 : (Jvm.Cond.privateMethod ({ cls := "PictureRingModel", name := "shotNow", desc := "(III)I" } : Jvm.MethodName)) ∈ lw_tbl := lw_at lw_m7 200 rfl
theorem q1749 : (Jvm.Cond.instanceMethod ({ cls := "PictureRingModel", name := "shotNow", desc := "(III)I" } : Jvm.MethodName)) ∈ lw_all := lw_g (lw_at lw_m7 201 rfl) rfl
theorem q1750 : (Jvm.Cond.code ({ cls := "PictureRingModel", name := "shotNow", desc := "(III)I" } : Jvm.MethodName) prog_20_method_20_code (7 : Nat) (Option.some Jvm.ClassFile.FieldType.int)) ∈ lw_all := lw_g (lw_at lw_m7 202 rfl) rfl
theorem q1751 : (Jvm.Cond.methodLink "PictureRingModel" (118 : Nat) ({ cls := "PictureRingModel", name := "held", desc := "(I)I" } : Jvm.MethodName)) ∈ lw_all := lw_g (lw_at lw_m7 203 rfl) rfl
theorem q1752 : (Jvm.Cond.static ({ cls := "PictureRingModel", name := "held", desc := "(I)I" } : Jvm.MethodName)) ∈ lw_all := lw_g (lw_at lw_m7 204 rfl) rfl
theorem q1753 : (Jvm.Cond.code ({ cls := "PictureRingModel", name := "held", desc := "(I)I" } : Jvm.MethodName) prog_20_method_7_code (1 : Nat) (Option.some Jvm.ClassFile.FieldType.int)) ∈ lw_all := lw_g (lw_at lw_m7 205 rfl) rfl
theorem q1755 : (Jvm.Cond.instanceMethod ({ cls := "PictureRingModel", name := "paint", desc := "(IIII)I" } : Jvm.MethodName)) ∈ lw_all := lw_g (lw_at lw_m7 207 rfl) rfl
theorem q1756 : (Jvm.Cond.selects "PictureRingModel" ({ cls := "PictureRingModel", name := "paint", desc := "(IIII)I" } : Jvm.MethodName) ({ cls := "PictureRingModel", name := "paint", desc := "(IIII)I" } : Jvm.MethodName)) ∈ lw_all := lw_g (lw_at lw_m7 208 rfl) rfl
theorem q1757 : (Jvm.Cond.code ({ cls := "PictureRingModel", name := "paint", desc := "(IIII)I" } : Jvm.MethodName) prog_20_method_22_code (5 : Nat) (Option.some Jvm.ClassFile.FieldType.int)) ∈ lw_all := lw_g (lw_at lw_m7 209 rfl) rfl
theorem q1758 : (Jvm.Cond.methodLink "PictureRingModel" (128 : Nat) ({ cls := "PictureRingModel", name := "isPicture", desc := "(I)Z" } : Jvm.MethodName)) ∈ lw_all := lw_g (lw_at lw_m7 210 rfl) rfl
theorem q1759 : (Jvm.Cond.privateMethod ({ cls := "PictureRingModel", name := "isPicture", desc := "(I)Z" } : Jvm.MethodName)) ∈ lw_tbl := lw_at lw_m7 211 rfl
theorem q1760 : (Jvm.Cond.instanceMethod ({ cls := "PictureRingModel", name := "isPicture", desc := "(I)Z" } : Jvm.MethodName)) ∈ lw_all := lw_g (lw_at lw_m7 212 rfl) rfl
theorem q1761 : (Jvm.Cond.code ({ cls := "PictureRingModel", name := "isPicture", desc := "(I)Z" } : Jvm.MethodName) prog_20_method_9_code (2 : Nat) (Option.some Jvm.ClassFile.FieldType.boolean)) ∈ lw_all := lw_g (lw_at lw_m7 213 rfl) rfl
theorem q1762 : (Jvm.Cond.methodLink "PictureRingModel" (132 : Nat) ({ cls := "PictureRingModel", name := "isCell", desc := "(II)Z" } : Jvm.MethodName)) ∈ lw_all := lw_g (lw_at lw_m7 214 rfl) rfl
theorem q1763 : (Jvm.Cond.static ({ cls := "PictureRingModel", name := "isCell", desc := "(II)Z" } : Jvm.MethodName)) ∈ lw_all := lw_g (lw_at lw_m7 215 rfl) rfl
theorem q1764 : (Jvm.Cond.code ({ cls := "PictureRingModel", name := "isCell", desc := "(II)Z" } : Jvm.MethodName) prog_20_method_10_code (2 : Nat) (Option.some Jvm.ClassFile.FieldType.boolean)) ∈ lw_all := lw_g (lw_at lw_m7 216 rfl) rfl
theorem q1765 : (Jvm.Cond.constantLong "PictureRingModel" (67 : Nat) (3 : Int64)) ∈ lw_all := lw_g (lw_at lw_m7 217 rfl) rfl
theorem q1766 : (Jvm.Cond.constantLong "PictureRingModel" (69 : Nat) (7 : Int64)) ∈ lw_all := lw_g (lw_at lw_m7 218 rfl) rfl
theorem q1768 : (Jvm.Cond.instanceMethod ({ cls := "PictureRingModel", name := "drops", desc := "(I)I" } : Jvm.MethodName)) ∈ lw_all := lw_g (lw_at lw_m7 220 rfl) rfl
theorem q1769 : (Jvm.Cond.selects "PictureRingModel" ({ cls := "PictureRingModel", name := "drops", desc := "(I)I" } : Jvm.MethodName) ({ cls := "PictureRingModel", name := "drops", desc := "(I)I" } : Jvm.MethodName)) ∈ lw_all := lw_g (lw_at lw_m7 221 rfl) rfl
theorem q1770 : (Jvm.Cond.code ({ cls := "PictureRingModel", name := "drops", desc := "(I)I" } : Jvm.MethodName) prog_20_method_24_code (2 : Nat) (Option.some Jvm.ClassFile.FieldType.int)) ∈ lw_all := lw_g (lw_at lw_m7 222 rfl) rfl
theorem q1771 : (Jvm.Cond.methodLink "PictureRingModel" (135 : Nat) ({ cls := "PictureRingModel", name := "dropNow", desc := "(I)I" } : Jvm.MethodName)) ∈ lw_all := lw_g (lw_at lw_m7 223 rfl) rfl
theorem q1772 : (Jvm.Cond.privateMethod ({ cls := "PictureRingModel", name := "dropNow", desc := "(I)I" } : Jvm.MethodName)) ∈ lw_tbl := lw_at lw_m7 224 rfl
theorem q1773 : (Jvm.Cond.instanceMethod ({ cls := "PictureRingModel", name := "dropNow", desc := "(I)I" } : Jvm.MethodName)) ∈ lw_all := lw_g (lw_at lw_m7 225 rfl) rfl
theorem q1774 : (Jvm.Cond.code ({ cls := "PictureRingModel", name := "dropNow", desc := "(I)I" } : Jvm.MethodName) prog_20_method_23_code (3 : Nat) (Option.some Jvm.ClassFile.FieldType.int)) ∈ lw_all := lw_g (lw_at lw_m7 226 rfl) rfl
theorem q1776 : (Jvm.Cond.instanceMethod ({ cls := "PictureRingModel", name := "sets", desc := "(II)I" } : Jvm.MethodName)) ∈ lw_all := lw_g (lw_at lw_m7 228 rfl) rfl
theorem q1777 : (Jvm.Cond.selects "PictureRingModel" ({ cls := "PictureRingModel", name := "sets", desc := "(II)I" } : Jvm.MethodName) ({ cls := "PictureRingModel", name := "sets", desc := "(II)I" } : Jvm.MethodName)) ∈ lw_all := lw_g (lw_at lw_m7 229 rfl) rfl
theorem q1778 : (Jvm.Cond.code ({ cls := "PictureRingModel", name := "sets", desc := "(II)I" } : Jvm.MethodName) prog_20_method_26_code (3 : Nat) (Option.some Jvm.ClassFile.FieldType.int)) ∈ lw_all := lw_g (lw_at lw_m7 230 rfl) rfl
theorem q1779 : (Jvm.Cond.methodLink "PictureRingModel" (140 : Nat) ({ cls := "PictureRingModel", name := "isSetting", desc := "(II)Z" } : Jvm.MethodName)) ∈ lw_all := lw_g (lw_at lw_m7 231 rfl) rfl
theorem q1780 : (Jvm.Cond.static ({ cls := "PictureRingModel", name := "isSetting", desc := "(II)Z" } : Jvm.MethodName)) ∈ lw_all := lw_g (lw_at lw_m7 232 rfl) rfl
theorem q1781 : (Jvm.Cond.code ({ cls := "PictureRingModel", name := "isSetting", desc := "(II)Z" } : Jvm.MethodName) prog_20_method_25_code (2 : Nat) (Option.some Jvm.ClassFile.FieldType.boolean)) ∈ lw_all := lw_g (lw_at lw_m7 233 rfl) rfl
theorem q1782 : (Jvm.Cond.constantLong "PictureRingModel" (138 : Nat) (126 : Int64)) ∈ lw_all := lw_g (lw_at lw_m7 234 rfl) rfl
theorem q1784 : (Jvm.Cond.instanceMethod ({ cls := "PictureRingModel", name := "value", desc := "(III)I" } : Jvm.MethodName)) ∈ lw_all := lw_g (lw_at lw_m7 236 rfl) rfl
theorem q1785 : (Jvm.Cond.selects "PictureRingModel" ({ cls := "PictureRingModel", name := "value", desc := "(III)I" } : Jvm.MethodName) ({ cls := "PictureRingModel", name := "value", desc := "(III)I" } : Jvm.MethodName)) ∈ lw_all := lw_g (lw_at lw_m7 237 rfl) rfl
theorem q1786 : (Jvm.Cond.code ({ cls := "PictureRingModel", name := "value", desc := "(III)I" } : Jvm.MethodName) prog_20_method_27_code (4 : Nat) (Option.some Jvm.ClassFile.FieldType.int)) ∈ lw_all := lw_g (lw_at lw_m7 238 rfl) rfl
theorem q1787 : (Jvm.Cond.methodLink "PictureRingModel" (143 : Nat) ({ cls := "PictureRingModel", name := "at", desc := "(III)I" } : Jvm.MethodName)) ∈ lw_all := lw_g (lw_at lw_m7 239 rfl) rfl
theorem q1788 : (Jvm.Cond.privateMethod ({ cls := "PictureRingModel", name := "at", desc := "(III)I" } : Jvm.MethodName)) ∈ lw_tbl := lw_at lw_m8 0 rfl
theorem q1789 : (Jvm.Cond.instanceMethod ({ cls := "PictureRingModel", name := "at", desc := "(III)I" } : Jvm.MethodName)) ∈ lw_all := lw_g (lw_at lw_m8 1 rfl) rfl
theorem q1790 : (Jvm.Cond.code ({ cls := "PictureRingModel", name := "at", desc := "(III)I" } : Jvm.MethodName) prog_20_method_11_code (4 : Nat) (Option.some Jvm.ClassFile.FieldType.int)) ∈ lw_all := lw_g (lw_at lw_m8 2 rfl) rfl
theorem q1792 : (Jvm.Cond.instanceMethod ({ cls := "PictureRingModel", name := "change", desc := "(III)I" } : Jvm.MethodName)) ∈ lw_all := lw_g (lw_at lw_m8 4 rfl) rfl
theorem q1793 : (Jvm.Cond.selects "PictureRingModel" ({ cls := "PictureRingModel", name := "change", desc := "(III)I" } : Jvm.MethodName) ({ cls := "PictureRingModel", name := "change", desc := "(III)I" } : Jvm.MethodName)) ∈ lw_all := lw_g (lw_at lw_m8 5 rfl) rfl
theorem q1794 : (Jvm.Cond.code ({ cls := "PictureRingModel", name := "change", desc := "(III)I" } : Jvm.MethodName) prog_20_method_31_code (4 : Nat) (Option.some Jvm.ClassFile.FieldType.int)) ∈ lw_all := lw_g (lw_at lw_m8 6 rfl) rfl
theorem q1795 : (Jvm.Cond.methodLink "PictureRingModel" (155 : Nat) ({ cls := "PictureRingModel", name := "isInne\x72", desc := "(II)Z" } : Jvm.MethodName)) ∈ lw_all := lw_g (lw_at lw_m8 7 rfl) rfl
theorem q1796 : (Jvm.Cond.static ({ cls := "PictureRingModel", name := "isInne\x72", desc := "(II)Z" } : Jvm.MethodName)) ∈ lw_all := lw_g (lw_at lw_m8 8 rfl) rfl
theorem q1797 : (Jvm.Cond.code ({ cls := "PictureRingModel", name := "isInne\x72", desc := "(II)Z" } : Jvm.MethodName) prog_20_method_30_code (2 : Nat) (Option.some Jvm.ClassFile.FieldType.boolean)) ∈ lw_all := lw_g (lw_at lw_m8 9 rfl) rfl
theorem q1798 : (Jvm.Cond.constantLong "PictureRingModel" (153 : Nat) (6 : Int64)) ∈ lw_all := lw_g (lw_at lw_m8 10 rfl) rfl
theorem q1799 : (Jvm.Cond.methodLink "PictureRingModel" (158 : Nat) ({ cls := "PictureRingModel", name := "changeNow", desc := "(III)I" } : Jvm.MethodName)) ∈ lw_all := lw_g (lw_at lw_m8 11 rfl) rfl
theorem q1800 : (Jvm.Cond.privateMethod ({ cls := "PictureRingModel", name := "changeNow", desc := "(III)I" } : Jvm.MethodName)) ∈ lw_tbl := lw_at lw_m8 12 rfl
theorem q1801 : (Jvm.Cond.instanceMethod ({ cls := "PictureRingModel", name := "changeNow", desc := "(III)I" } : Jvm.MethodName)) ∈ lw_all := lw_g (lw_at lw_m8 13 rfl) rfl
theorem q1802 : (Jvm.Cond.code ({ cls := "PictureRingModel", name := "changeNow", desc := "(III)I" } : Jvm.MethodName) prog_20_method_29_code (6 : Nat) (Option.some Jvm.ClassFile.FieldType.int)) ∈ lw_all := lw_g (lw_at lw_m8 14 rfl) rfl
theorem q1803 : (Jvm.Cond.methodLink "PictureRingModel" (149 : Nat) ({ cls := "PictureRingModel", name := "pai\x72", desc := "(IIIII)I" } : Jvm.MethodName)) ∈ lw_all := lw_g (lw_at lw_m8 15 rfl) rfl
theorem q1804 : (Jvm.Cond.privateMethod ({ cls := "PictureRingModel", name := "pai\x72", desc := "(IIIII)I" } : Jvm.MethodName)) ∈ lw_tbl := lw_at lw_m8 16 rfl
theorem q1805 : (Jvm.Cond.instanceMethod ({ cls := "PictureRingModel", name := "pai\x72", desc := "(IIIII)I" } : Jvm.MethodName)) ∈ lw_all := lw_g (lw_at lw_m8 17 rfl) rfl
theorem q1806 : (Jvm.Cond.code ({ cls := "PictureRingModel", name := "pai\x72", desc := "(IIIII)I" } : Jvm.MethodName) prog_20_method_28_code (6 : Nat) (Option.some Jvm.ClassFile.FieldType.int)) ∈ lw_all := lw_g (lw_at lw_m8 18 rfl) rfl
theorem q1807 : (Jvm.Cond.methodLink "PictureRingModel" (146 : Nat) ({ cls := "PictureRingModel", name := "abs", desc := "(I)I" } : Jvm.MethodName)) ∈ lw_all := lw_g (lw_at lw_m8 19 rfl) rfl
theorem q1808 : (Jvm.Cond.static ({ cls := "PictureRingModel", name := "abs", desc := "(I)I" } : Jvm.MethodName)) ∈ lw_all := lw_g (lw_at lw_m8 20 rfl) rfl
theorem q1809 : (Jvm.Cond.code ({ cls := "PictureRingModel", name := "abs", desc := "(I)I" } : Jvm.MethodName) prog_20_method_6_code (1 : Nat) (Option.some Jvm.ClassFile.FieldType.int)) ∈ lw_all := lw_g (lw_at lw_m8 21 rfl) rfl
theorem q1811 : (Jvm.Cond.instanceMethod ({ cls := "PictureRingModel", name := "corners", desc := "(I)I" } : Jvm.MethodName)) ∈ lw_all := lw_g (lw_at lw_m8 23 rfl) rfl
theorem q1812 : (Jvm.Cond.selects "PictureRingModel" ({ cls := "PictureRingModel", name := "corners", desc := "(I)I" } : Jvm.MethodName) ({ cls := "PictureRingModel", name := "corners", desc := "(I)I" } : Jvm.MethodName)) ∈ lw_all := lw_g (lw_at lw_m8 24 rfl) rfl
theorem q1813 : (Jvm.Cond.code ({ cls := "PictureRingModel", name := "corners", desc := "(I)I" } : Jvm.MethodName) prog_20_method_34_code (2 : Nat) (Option.some Jvm.ClassFile.FieldType.int)) ∈ lw_all := lw_g (lw_at lw_m8 25 rfl) rfl
theorem q1814 : (Jvm.Cond.methodLink "PictureRingModel" (165 : Nat) ({ cls := "PictureRingModel", name := "cornersNow", desc := "(I)I" } : Jvm.MethodName)) ∈ lw_all := lw_g (lw_at lw_m8 26 rfl) rfl
theorem q1815 : (Jvm.Cond.privateMethod ({ cls := "PictureRingModel", name := "cornersNow", desc := "(I)I" } : Jvm.MethodName)) ∈ lw_tbl := lw_at lw_m8 27 rfl
theorem q1816 : (Jvm.Cond.instanceMethod ({ cls := "PictureRingModel", name := "cornersNow", desc := "(I)I" } : Jvm.MethodName)) ∈ lw_all := lw_g (lw_at lw_m8 28 rfl) rfl
theorem q1817 : (Jvm.Cond.code ({ cls := "PictureRingModel", name := "cornersNow", desc := "(I)I" } : Jvm.MethodName) prog_20_method_33_code (5 : Nat) (Option.some Jvm.ClassFile.FieldType.int)) ∈ lw_all := lw_g (lw_at lw_m8 29 rfl) rfl
theorem q1818 : (Jvm.Cond.methodLink "PictureRingModel" (161 : Nat) ({ cls := "PictureRingModel", name := "isCorne\x72", desc := "(III)Z" } : Jvm.MethodName)) ∈ lw_all := lw_g (lw_at lw_m8 30 rfl) rfl
theorem q1819 : (Jvm.Cond.privateMethod ({ cls := "PictureRingModel", name := "isCorne\x72", desc := "(III)Z" } : Jvm.MethodName)) ∈ lw_tbl := lw_at lw_m8 31 rfl
theorem q1820 : (Jvm.Cond.instanceMethod ({ cls := "PictureRingModel", name := "isCorne\x72", desc := "(III)Z" } : Jvm.MethodName)) ∈ lw_all := lw_g (lw_at lw_m8 32 rfl) rfl
theorem q1821 : (Jvm.Cond.code ({ cls := "PictureRingModel", name := "isCorne\x72", desc := "(III)Z" } : Jvm.MethodName) prog_20_method_32_code (4 : Nat) (Option.some Jvm.ClassFile.FieldType.boolean)) ∈ lw_all := lw_g (lw_at lw_m8 33 rfl) rfl
theorem q1823 : (Jvm.Cond.instanceMethod ({ cls := "PictureRingModel", name := "votes", desc := "(IIII)I" } : Jvm.MethodName)) ∈ lw_all := lw_g (lw_at lw_m8 35 rfl) rfl
theorem q1824 : (Jvm.Cond.selects "PictureRingModel" ({ cls := "PictureRingModel", name := "votes", desc := "(IIII)I" } : Jvm.MethodName) ({ cls := "PictureRingModel", name := "votes", desc := "(IIII)I" } : Jvm.MethodName)) ∈ lw_all := lw_g (lw_at lw_m8 36 rfl) rfl
theorem q1825 : (Jvm.Cond.code ({ cls := "PictureRingModel", name := "votes", desc := "(IIII)I" } : Jvm.MethodName) prog_20_method_39_code (5 : Nat) (Option.some Jvm.ClassFile.FieldType.int)) ∈ lw_all := lw_g (lw_at lw_m8 37 rfl) rfl
theorem q1826 : (Jvm.Cond.methodLink "PictureRingModel" (171 : Nat) ({ cls := "PictureRingModel", name := "areTwo", desc := "(II)Z" } : Jvm.MethodName)) ∈ lw_all := lw_g (lw_at lw_m8 38 rfl) rfl
theorem q1827 : (Jvm.Cond.privateMethod ({ cls := "PictureRingModel", name := "areTwo", desc := "(II)Z" } : Jvm.MethodName)) ∈ lw_tbl := lw_at lw_m8 39 rfl
theorem q1828 : (Jvm.Cond.instanceMethod ({ cls := "PictureRingModel", name := "areTwo", desc := "(II)Z" } : Jvm.MethodName)) ∈ lw_all := lw_g (lw_at lw_m8 40 rfl) rfl
theorem q1829 : (Jvm.Cond.code ({ cls := "PictureRingModel", name := "areTwo", desc := "(II)Z" } : Jvm.MethodName) prog_20_method_38_code (3 : Nat) (Option.some Jvm.ClassFile.FieldType.boolean)) ∈ lw_all := lw_g (lw_at lw_m8 41 rfl) rfl
theorem q1830 : (Jvm.Cond.constantLong "PictureRingModel" (174 : Nat) (-1 : Int64)) ∈ lw_all := lw_g (lw_at lw_m8 42 rfl) rfl
theorem q1831 : (Jvm.Cond.methodLink "PictureRingModel" (176 : Nat) ({ cls := "PictureRingModel", name := "laysCorners", desc := "()V" } : Jvm.MethodName)) ∈ lw_all := lw_g (lw_at lw_m8 43 rfl) rfl
theorem q1832 : (Jvm.Cond.privateMethod ({ cls := "PictureRingModel", name := "laysCorners", desc := "()V" } : Jvm.MethodName)) ∈ lw_tbl := lw_at lw_m8 44 rfl
theorem q1833 : (Jvm.Cond.instanceMethod ({ cls := "PictureRingModel", name := "laysCorners", desc := "()V" } : Jvm.MethodName)) ∈ lw_all := lw_g (lw_at lw_m8 45 rfl) rfl
theorem q1834 : (Jvm.Cond.code ({ cls := "PictureRingModel", name := "laysCorners", desc := "()V" } : Jvm.MethodName) prog_20_method_35_code (2 : Nat) (Option.none : Option Jvm.ClassFile.FieldType)) ∈ lw_all := lw_g (lw_at lw_m8 46 rfl) rfl
theorem q1835 : (Jvm.Cond.methodLink "PictureRingModel" (179 : Nat) ({ cls := "PictureRingModel", name := "votesNow", desc := "(IIII)I" } : Jvm.MethodName)) ∈ lw_all := lw_g (lw_at lw_m8 47 rfl) rfl
theorem q1836 : (Jvm.Cond.privateMethod ({ cls := "PictureRingModel", name := "votesNow", desc := "(IIII)I" } : Jvm.MethodName)) ∈ lw_tbl := lw_at lw_m8 48 rfl
theorem q1837 : (Jvm.Cond.instanceMethod ({ cls := "PictureRingModel", name := "votesNow", desc := "(IIII)I" } : Jvm.MethodName)) ∈ lw_all := lw_g (lw_at lw_m8 49 rfl) rfl
theorem q1838 : (Jvm.Cond.code ({ cls := "PictureRingModel", name := "votesNow", desc := "(IIII)I" } : Jvm.MethodName) prog_20_method_37_code (9 : Nat) (Option.some Jvm.ClassFile.FieldType.int)) ∈ lw_all := lw_g (lw_at lw_m8 50 rfl) rfl
theorem q1839 : (Jvm.Cond.methodLink "PictureRingModel" (168 : Nat) ({ cls := "PictureRingModel", name := "hasCorne\x72", desc := "(III)Z" } : Jvm.MethodName)) ∈ lw_all := lw_g (lw_at lw_m8 51 rfl) rfl
theorem q1840 : (Jvm.Cond.privateMethod ({ cls := "PictureRingModel", name := "hasCorne\x72", desc := "(III)Z" } : Jvm.MethodName)) ∈ lw_tbl := lw_at lw_m8 52 rfl
theorem q1841 : (Jvm.Cond.instanceMethod ({ cls := "PictureRingModel", name := "hasCorne\x72", desc := "(III)Z" } : Jvm.MethodName)) ∈ lw_all := lw_g (lw_at lw_m8 53 rfl) rfl
theorem q1842 : (Jvm.Cond.code ({ cls := "PictureRingModel", name := "hasCorne\x72", desc := "(III)Z" } : Jvm.MethodName) prog_20_method_36_code (4 : Nat) (Option.some Jvm.ClassFile.FieldType.boolean)) ∈ lw_all := lw_g (lw_at lw_m8 54 rfl) rfl
theorem q1844 : (Jvm.Cond.instanceMethod ({ cls := "PictureRingModel", name := "link", desc := "(III)I" } : Jvm.MethodName)) ∈ lw_all := lw_g (lw_at lw_m8 56 rfl) rfl
theorem q1845 : (Jvm.Cond.selects "PictureRingModel" ({ cls := "PictureRingModel", name := "link", desc := "(III)I" } : Jvm.MethodName) ({ cls := "PictureRingModel", name := "link", desc := "(III)I" } : Jvm.MethodName)) ∈ lw_all := lw_g (lw_at lw_m8 57 rfl) rfl
theorem q1846 : (Jvm.Cond.code ({ cls := "PictureRingModel", name := "link", desc := "(III)I" } : Jvm.MethodName) prog_20_method_42_code (5 : Nat) (Option.some Jvm.ClassFile.FieldType.int)) ∈ lw_all := lw_g (lw_at lw_m8 58 rfl) rfl
theorem q1847 : (Jvm.Cond.methodLink "PictureRingModel" (183 : Nat) ({ cls := "PictureRingModel", name := "laysLink", desc := "(II)V" } : Jvm.MethodName)) ∈ lw_all := lw_g (lw_at lw_m8 59 rfl) rfl
theorem q1848 : (Jvm.Cond.privateMethod ({ cls := "PictureRingModel", name := "laysLink", desc := "(II)V" } : Jvm.MethodName)) ∈ lw_tbl := lw_at lw_m8 60 rfl
theorem q1849 : (Jvm.Cond.instanceMethod ({ cls := "PictureRingModel", name := "laysLink", desc := "(II)V" } : Jvm.MethodName)) ∈ lw_all := lw_g (lw_at lw_m8 61 rfl) rfl
theorem q1850 : (Jvm.Cond.code ({ cls := "PictureRingModel", name := "laysLink", desc := "(II)V" } : Jvm.MethodName) prog_20_method_40_code (8 : Nat) (Option.none : Option Jvm.ClassFile.FieldType)) ∈ lw_all := lw_g (lw_at lw_m8 62 rfl) rfl
theorem q1852 : (Jvm.Cond.instanceMethod ({ cls := "PictureRingModel", name := "chain", desc := "(II)I" } : Jvm.MethodName)) ∈ lw_all := lw_g (lw_at lw_m8 64 rfl) rfl
theorem q1853 : (Jvm.Cond.selects "PictureRingModel" ({ cls := "PictureRingModel", name := "chain", desc := "(II)I" } : Jvm.MethodName) ({ cls := "PictureRingModel", name := "chain", desc := "(II)I" } : Jvm.MethodName)) ∈ lw_all := lw_g (lw_at lw_m8 65 rfl) rfl
theorem q1854 : (Jvm.Cond.code ({ cls := "PictureRingModel", name := "chain", desc := "(II)I" } : Jvm.MethodName) prog_20_method_48_code (3 : Nat) (Option.some Jvm.ClassFile.FieldType.int)) ∈ lw_all := lw_g (lw_at lw_m8 66 rfl) rfl
theorem q1855 : (Jvm.Cond.methodLink "PictureRingModel" (196 : Nat) ({ cls := "PictureRingModel", name := "laysChain", desc := "()V" } : Jvm.MethodName)) ∈ lw_all := lw_g (lw_at lw_m8 67 rfl) rfl
theorem q1856 : (Jvm.Cond.privateMethod ({ cls := "PictureRingModel", name := "laysChain", desc := "()V" } : Jvm.MethodName)) ∈ lw_tbl := lw_at lw_m8 68 rfl
theorem q1857 : (Jvm.Cond.instanceMethod ({ cls := "PictureRingModel", name := "laysChain", desc := "()V" } : Jvm.MethodName)) ∈ lw_all := lw_g (lw_at lw_m8 69 rfl) rfl
theorem q1858 : (Jvm.Cond.code ({ cls := "PictureRingModel", name := "laysChain", desc := "()V" } : Jvm.MethodName) prog_20_method_45_code (4 : Nat) (Option.none : Option Jvm.ClassFile.FieldType)) ∈ lw_all := lw_g (lw_at lw_m8 70 rfl) rfl
theorem q1859 : (Jvm.Cond.methodLink "PictureRingModel" (190 : Nat) ({ cls := "PictureRingModel", name := "laysLinks", desc := "()V" } : Jvm.MethodName)) ∈ lw_all := lw_g (lw_at lw_m8 71 rfl) rfl
theorem q1860 : (Jvm.Cond.privateMethod ({ cls := "PictureRingModel", name := "laysLinks", desc := "()V" } : Jvm.MethodName)) ∈ lw_tbl := lw_at lw_m8 72 rfl
theorem q1861 : (Jvm.Cond.instanceMethod ({ cls := "PictureRingModel", name := "laysLinks", desc := "()V" } : Jvm.MethodName)) ∈ lw_all := lw_g (lw_at lw_m8 73 rfl) rfl
theorem q1862 : (Jvm.Cond.code ({ cls := "PictureRingModel", name := "laysLinks", desc := "()V" } : Jvm.MethodName) prog_20_method_41_code (3 : Nat) (Option.none : Option Jvm.ClassFile.FieldType)) ∈ lw_all := lw_g (lw_at lw_m8 74 rfl) rfl
theorem q1863 : (Jvm.Cond.methodLink "PictureRingModel" (193 : Nat) ({ cls := "PictureRingModel", name := "mayTake", desc := "(II)Z" } : Jvm.MethodName)) ∈ lw_all := lw_g (lw_at lw_m8 75 rfl) rfl
theorem q1864 : (Jvm.Cond.privateMethod ({ cls := "PictureRingModel", name := "mayTake", desc := "(II)Z" } : Jvm.MethodName)) ∈ lw_tbl := lw_at lw_m8 76 rfl
theorem q1865 : (Jvm.Cond.instanceMethod ({ cls := "PictureRingModel", name := "mayTake", desc := "(II)Z" } : Jvm.MethodName)) ∈ lw_all := lw_g (lw_at lw_m8 77 rfl) rfl
theorem q1866 : (Jvm.Cond.code ({ cls := "PictureRingModel", name := "mayTake", desc := "(II)Z" } : Jvm.MethodName) prog_20_method_44_code (4 : Nat) (Option.some Jvm.ClassFile.FieldType.boolean)) ∈ lw_all := lw_g (lw_at lw_m8 78 rfl) rfl
theorem q1867 : (Jvm.Cond.methodLink "PictureRingModel" (187 : Nat) ({ cls := "PictureRingModel", name := "wayFrom", desc := "(II)I" } : Jvm.MethodName)) ∈ lw_all := lw_g (lw_at lw_m8 79 rfl) rfl
theorem q1868 : (Jvm.Cond.privateMethod ({ cls := "PictureRingModel", name := "wayFrom", desc := "(II)I" } : Jvm.MethodName)) ∈ lw_tbl := lw_at lw_m8 80 rfl
theorem q1869 : (Jvm.Cond.instanceMethod ({ cls := "PictureRingModel", name := "wayFrom", desc := "(II)I" } : Jvm.MethodName)) ∈ lw_all := lw_g (lw_at lw_m8 81 rfl) rfl
theorem q1870 : (Jvm.Cond.code ({ cls := "PictureRingModel", name := "wayFrom", desc := "(II)I" } : Jvm.MethodName) prog_20_method_43_code (5 : Nat) (Option.some Jvm.ClassFile.FieldType.int)) ∈ lw_all := lw_g (lw_at lw_m8 82 rfl) rfl
theorem q1872 : (Jvm.Cond.instanceMethod ({ cls := "PictureRingModel", name := "all", desc := "(I)I" } : Jvm.MethodName)) ∈ lw_all := lw_g (lw_at lw_m8 84 rfl) rfl
theorem q1873 : (Jvm.Cond.selects "PictureRingModel" ({ cls := "PictureRingModel", name := "all", desc := "(I)I" } : Jvm.MethodName) ({ cls := "PictureRingModel", name := "all", desc := "(I)I" } : Jvm.MethodName)) ∈ lw_all := lw_g (lw_at lw_m8 85 rfl) rfl
theorem q1874 : (Jvm.Cond.code ({ cls := "PictureRingModel", name := "all", desc := "(I)I" } : Jvm.MethodName) prog_20_method_54_code (2 : Nat) (Option.some Jvm.ClassFile.FieldType.int)) ∈ lw_all := lw_g (lw_at lw_m8 86 rfl) rfl
theorem q1875 : (Jvm.Cond.methodLink "PictureRingModel" (222 : Nat) ({ cls := "PictureRingModel", name := "allNow", desc := "(I)I" } : Jvm.MethodName)) ∈ lw_all := lw_g (lw_at lw_m8 87 rfl) rfl
theorem q1876 : (Jvm.Cond.privateMethod ({ cls := "PictureRingModel", name := "allNow", desc := "(I)I" } : Jvm.MethodName)) ∈ lw_tbl := lw_at lw_m8 88 rfl
theorem q1877 : (Jvm.Cond.instanceMethod ({ cls := "PictureRingModel", name := "allNow", desc := "(I)I" } : Jvm.MethodName)) ∈ lw_all := lw_g (lw_at lw_m8 89 rfl) rfl
theorem q1878 : (Jvm.Cond.code ({ cls := "PictureRingModel", name := "allNow", desc := "(I)I" } : Jvm.MethodName) prog_20_method_53_code (5 : Nat) (Option.some Jvm.ClassFile.FieldType.int)) ∈ lw_all := lw_g (lw_at lw_m8 90 rfl) rfl
theorem q1879 : (Jvm.Cond.methodLink "PictureRingModel" (211 : Nat) ({ cls := "PictureRingModel", name := "isRight", desc := "(I)Z" } : Jvm.MethodName)) ∈ lw_all := lw_g (lw_at lw_m8 91 rfl) rfl
theorem q1880 : (Jvm.Cond.privateMethod ({ cls := "PictureRingModel", name := "isRight", desc := "(I)Z" } : Jvm.MethodName)) ∈ lw_tbl := lw_at lw_m8 92 rfl
theorem q1881 : (Jvm.Cond.instanceMethod ({ cls := "PictureRingModel", name := "isRight", desc := "(I)Z" } : Jvm.MethodName)) ∈ lw_all := lw_g (lw_at lw_m8 93 rfl) rfl
theorem q1882 : (Jvm.Cond.code ({ cls := "PictureRingModel", name := "isRight", desc := "(I)Z" } : Jvm.MethodName) prog_20_method_52_code (4 : Nat) (Option.some Jvm.ClassFile.FieldType.boolean)) ∈ lw_all := lw_g (lw_at lw_m8 94 rfl) rfl
theorem q1883 : (Jvm.Cond.methodLink "PictureRingModel" (208 : Nat) ({ cls := "PictureRingModel", name := "shotOf", desc := "(II)I" } : Jvm.MethodName)) ∈ lw_all := lw_g (lw_at lw_m8 95 rfl) rfl
theorem q1884 : (Jvm.Cond.privateMethod ({ cls := "PictureRingModel", name := "shotOf", desc := "(II)I" } : Jvm.MethodName)) ∈ lw_tbl := lw_at lw_m8 96 rfl
theorem q1885 : (Jvm.Cond.instanceMethod ({ cls := "PictureRingModel", name := "shotOf", desc := "(II)I" } : Jvm.MethodName)) ∈ lw_all := lw_g (lw_at lw_m8 97 rfl) rfl
theorem q1886 : (Jvm.Cond.code ({ cls := "PictureRingModel", name := "shotOf", desc := "(II)I" } : Jvm.MethodName) prog_20_method_12_code (3 : Nat) (Option.some Jvm.ClassFile.FieldType.int)) ∈ lw_all := lw_g (lw_at lw_m8 98 rfl) rfl
theorem q1887 : (Jvm.Cond.methodLink "PictureRingModel" (205 : Nat) ({ cls := "PictureRingModel", name := "fOf", desc := "(I)I" } : Jvm.MethodName)) ∈ lw_all := lw_g (lw_at lw_m8 99 rfl) rfl
theorem q1888 : (Jvm.Cond.privateMethod ({ cls := "PictureRingModel", name := "fOf", desc := "(I)I" } : Jvm.MethodName)) ∈ lw_tbl := lw_at lw_m8 100 rfl
theorem q1889 : (Jvm.Cond.instanceMethod ({ cls := "PictureRingModel", name := "fOf", desc := "(I)I" } : Jvm.MethodName)) ∈ lw_all := lw_g (lw_at lw_m8 101 rfl) rfl
theorem q1890 : (Jvm.Cond.code ({ cls := "PictureRingModel", name := "fOf", desc := "(I)I" } : Jvm.MethodName) prog_20_method_47_code (2 : Nat) (Option.some Jvm.ClassFile.FieldType.int)) ∈ lw_all := lw_g (lw_at lw_m8 102 rfl) rfl
theorem q1891 : (Jvm.Cond.methodLink "PictureRingModel" (202 : Nat) ({ cls := "PictureRingModel", name := "eOf", desc := "(I)I" } : Jvm.MethodName)) ∈ lw_all := lw_g (lw_at lw_m8 103 rfl) rfl
theorem q1892 : (Jvm.Cond.privateMethod ({ cls := "PictureRingModel", name := "eOf", desc := "(I)I" } : Jvm.MethodName)) ∈ lw_tbl := lw_at lw_m8 104 rfl
theorem q1893 : (Jvm.Cond.instanceMethod ({ cls := "PictureRingModel", name := "eOf", desc := "(I)I" } : Jvm.MethodName)) ∈ lw_all := lw_g (lw_at lw_m8 105 rfl) rfl
theorem q1894 : (Jvm.Cond.code ({ cls := "PictureRingModel", name := "eOf", desc := "(I)I" } : Jvm.MethodName) prog_20_method_46_code (2 : Nat) (Option.some Jvm.ClassFile.FieldType.int)) ∈ lw_all := lw_g (lw_at lw_m8 106 rfl) rfl
theorem q1895 : (Jvm.Cond.methodLink "PictureRingModel" (199 : Nat) ({ cls := "PictureRingModel", name := "taken", desc := "()I" } : Jvm.MethodName)) ∈ lw_all := lw_g (lw_at lw_m8 107 rfl) rfl
theorem q1896 : (Jvm.Cond.privateMethod ({ cls := "PictureRingModel", name := "taken", desc := "()I" } : Jvm.MethodName)) ∈ lw_tbl := lw_at lw_m8 108 rfl
theorem q1897 : (Jvm.Cond.instanceMethod ({ cls := "PictureRingModel", name := "taken", desc := "()I" } : Jvm.MethodName)) ∈ lw_all := lw_g (lw_at lw_m8 109 rfl) rfl
theorem q1898 : (Jvm.Cond.code ({ cls := "PictureRingModel", name := "taken", desc := "()I" } : Jvm.MethodName) prog_20_method_49_code (3 : Nat) (Option.some Jvm.ClassFile.FieldType.int)) ∈ lw_all := lw_g (lw_at lw_m8 110 rfl) rfl
theorem q1899 : (Jvm.Cond.methodLink "PictureRingModel" (214 : Nat) ({ cls := "PictureRingModel", name := "isClosed", desc := "()Z" } : Jvm.MethodName)) ∈ lw_all := lw_g (lw_at lw_m8 111 rfl) rfl
theorem q1900 : (Jvm.Cond.privateMethod ({ cls := "PictureRingModel", name := "isClosed", desc := "()Z" } : Jvm.MethodName)) ∈ lw_tbl := lw_at lw_m8 112 rfl
theorem q1901 : (Jvm.Cond.instanceMethod ({ cls := "PictureRingModel", name := "isClosed", desc := "()Z" } : Jvm.MethodName)) ∈ lw_all := lw_g (lw_at lw_m8 113 rfl) rfl
theorem q1902 : (Jvm.Cond.code ({ cls := "PictureRingModel", name := "isClosed", desc := "()Z" } : Jvm.MethodName) prog_20_method_50_code (1 : Nat) (Option.some Jvm.ClassFile.FieldType.boolean)) ∈ lw_all := lw_g (lw_at lw_m8 114 rfl) rfl
theorem q1903 : (Jvm.Cond.methodLink "PictureRingModel" (218 : Nat) ({ cls := "PictureRingModel", name := "sumOf", desc := "(Z)I" } : Jvm.MethodName)) ∈ lw_all := lw_g (lw_at lw_m8 115 rfl) rfl
theorem q1904 : (Jvm.Cond.privateMethod ({ cls := "PictureRingModel", name := "sumOf", desc := "(Z)I" } : Jvm.MethodName)) ∈ lw_tbl := lw_at lw_m8 116 rfl
theorem q1905 : (Jvm.Cond.instanceMethod ({ cls := "PictureRingModel", name := "sumOf", desc := "(Z)I" } : Jvm.MethodName)) ∈ lw_all := lw_g (lw_at lw_m8 117 rfl) rfl
theorem q1906 : (Jvm.Cond.code ({ cls := "PictureRingModel", name := "sumOf", desc := "(Z)I" } : Jvm.MethodName) prog_20_method_51_code (4 : Nat) (Option.some Jvm.ClassFile.FieldType.int)) ∈ lw_all := lw_g (lw_at lw_m8 118 rfl) rfl
theorem q1908 : (Jvm.Cond.instanceMethod ({ cls := "PictureRingModel", name := "place", desc := "(II)I" } : Jvm.MethodName)) ∈ lw_all := lw_g (lw_at lw_m8 120 rfl) rfl
theorem q1909 : (Jvm.Cond.selects "PictureRingModel" ({ cls := "PictureRingModel", name := "place", desc := "(II)I" } : Jvm.MethodName) ({ cls := "PictureRingModel", name := "place", desc := "(II)I" } : Jvm.MethodName)) ∈ lw_all := lw_g (lw_at lw_m8 121 rfl) rfl
theorem q1910 : (Jvm.Cond.code ({ cls := "PictureRingModel", name := "place", desc := "(II)I" } : Jvm.MethodName) prog_20_method_56_code (7 : Nat) (Option.some Jvm.ClassFile.FieldType.int)) ∈ lw_all := lw_g (lw_at lw_m8 122 rfl) rfl
theorem q1911 : (Jvm.Cond.methodLink "PictureRingModel" (225 : Nat) ({ cls := "PictureRingModel", name := "floorBy", desc := "(II)I" } : Jvm.MethodName)) ∈ lw_all := lw_g (lw_at lw_m8 123 rfl) rfl
theorem q1912 : (Jvm.Cond.static ({ cls := "PictureRingModel", name := "floorBy", desc := "(II)I" } : Jvm.MethodName)) ∈ lw_all := lw_g (lw_at lw_m8 124 rfl) rfl
theorem q1913 : (Jvm.Cond.code ({ cls := "PictureRingModel", name := "floorBy", desc := "(II)I" } : Jvm.MethodName) prog_20_method_55_code (3 : Nat) (Option.some Jvm.ClassFile.FieldType.int)) ∈ lw_all := lw_g (lw_at lw_m8 125 rfl) rfl
theorem q1915 : (Jvm.Cond.instanceMethod ({ cls := "PictureRingModel", name := "overlap", desc := "(II)I" } : Jvm.MethodName)) ∈ lw_all := lw_g (lw_at lw_m8 127 rfl) rfl
theorem q1916 : (Jvm.Cond.selects "PictureRingModel" ({ cls := "PictureRingModel", name := "overlap", desc := "(II)I" } : Jvm.MethodName) ({ cls := "PictureRingModel", name := "overlap", desc := "(II)I" } : Jvm.MethodName)) ∈ lw_all := lw_g (lw_at lw_m8 128 rfl) rfl
theorem q1917 : (Jvm.Cond.code ({ cls := "PictureRingModel", name := "overlap", desc := "(II)I" } : Jvm.MethodName) prog_20_method_64_code (3 : Nat) (Option.some Jvm.ClassFile.FieldType.int)) ∈ lw_all := lw_g (lw_at lw_m8 129 rfl) rfl
theorem q1918 : (Jvm.Cond.methodLink "PictureRingModel" (241 : Nat) ({ cls := "PictureRingModel", name := "cells", desc := "(I)I" } : Jvm.MethodName)) ∈ lw_all := lw_g (lw_at lw_m8 130 rfl) rfl
theorem q1919 : (Jvm.Cond.privateMethod ({ cls := "PictureRingModel", name := "cells", desc := "(I)I" } : Jvm.MethodName)) ∈ lw_tbl := lw_at lw_m8 131 rfl
theorem q1920 : (Jvm.Cond.instanceMethod ({ cls := "PictureRingModel", name := "cells", desc := "(I)I" } : Jvm.MethodName)) ∈ lw_all := lw_g (lw_at lw_m8 132 rfl) rfl
theorem q1921 : (Jvm.Cond.code ({ cls := "PictureRingModel", name := "cells", desc := "(I)I" } : Jvm.MethodName) prog_20_method_62_code (2 : Nat) (Option.some Jvm.ClassFile.FieldType.int)) ∈ lw_all := lw_g (lw_at lw_m8 133 rfl) rfl
theorem q1922 : (Jvm.Cond.methodLink "PictureRingModel" (244 : Nat) ({ cls := "PictureRingModel", name := "differences", desc := "(IZ)I" } : Jvm.MethodName)) ∈ lw_all := lw_g (lw_at lw_m8 134 rfl) rfl
theorem q1923 : (Jvm.Cond.privateMethod ({ cls := "PictureRingModel", name := "differences", desc := "(IZ)I" } : Jvm.MethodName)) ∈ lw_tbl := lw_at lw_m8 135 rfl
theorem q1924 : (Jvm.Cond.instanceMethod ({ cls := "PictureRingModel", name := "differences", desc := "(IZ)I" } : Jvm.MethodName)) ∈ lw_all := lw_g (lw_at lw_m8 136 rfl) rfl
theorem q1925 : (Jvm.Cond.code ({ cls := "PictureRingModel", name := "differences", desc := "(IZ)I" } : Jvm.MethodName) prog_20_method_63_code (6 : Nat) (Option.some Jvm.ClassFile.FieldType.int)) ∈ lw_all := lw_g (lw_at lw_m8 137 rfl) rfl
theorem q1926 : (Jvm.Cond.methodLink "PictureRingModel" (228 : Nat) ({ cls := "PictureRingModel", name := "hasRow", desc := "(II)Z" } : Jvm.MethodName)) ∈ lw_all := lw_g (lw_at lw_m8 138 rfl) rfl
theorem q1927 : (Jvm.Cond.privateMethod ({ cls := "PictureRingModel", name := "hasRow", desc := "(II)Z" } : Jvm.MethodName)) ∈ lw_tbl := lw_at lw_m8 139 rfl
theorem q1928 : (Jvm.Cond.instanceMethod ({ cls := "PictureRingModel", name := "hasRow", desc := "(II)Z" } : Jvm.MethodName)) ∈ lw_all := lw_g (lw_at lw_m8 140 rfl) rfl
theorem q1929 : (Jvm.Cond.code ({ cls := "PictureRingModel", name := "hasRow", desc := "(II)Z" } : Jvm.MethodName) prog_20_method_58_code (3 : Nat) (Option.some Jvm.ClassFile.FieldType.boolean)) ∈ lw_all := lw_g (lw_at lw_m8 141 rfl) rfl
theorem q1930 : (Jvm.Cond.methodLink "PictureRingModel" (234 : Nat) ({ cls := "PictureRingModel", name := "differs", desc := "(III)I" } : Jvm.MethodName)) ∈ lw_all := lw_g (lw_at lw_m8 142 rfl) rfl
theorem q1931 : (Jvm.Cond.privateMethod ({ cls := "PictureRingModel", name := "differs", desc := "(III)I" } : Jvm.MethodName)) ∈ lw_tbl := lw_at lw_m8 143 rfl
theorem q1932 : (Jvm.Cond.instanceMethod ({ cls := "PictureRingModel", name := "differs", desc := "(III)I" } : Jvm.MethodName)) ∈ lw_all := lw_g (lw_at lw_m8 144 rfl) rfl
theorem q1933 : (Jvm.Cond.code ({ cls := "PictureRingModel", name := "differs", desc := "(III)I" } : Jvm.MethodName) prog_20_method_57_code (4 : Nat) (Option.some Jvm.ClassFile.FieldType.int)) ∈ lw_all := lw_g (lw_at lw_m8 145 rfl) rfl
theorem q1934 : (Jvm.Cond.methodLink "PictureRingModel" (248 : Nat) ({ cls := "PictureRingModel", name := "seamSum", desc := "(I)I" } : Jvm.MethodName)) ∈ lw_all := lw_g (lw_at lw_m8 146 rfl) rfl
theorem q1935 : (Jvm.Cond.privateMethod ({ cls := "PictureRingModel", name := "seamSum", desc := "(I)I" } : Jvm.MethodName)) ∈ lw_tbl := lw_at lw_m8 147 rfl
theorem q1936 : (Jvm.Cond.instanceMethod ({ cls := "PictureRingModel", name := "seamSum", desc := "(I)I" } : Jvm.MethodName)) ∈ lw_all := lw_g (lw_at lw_m8 148 rfl) rfl
theorem q1937 : (Jvm.Cond.code ({ cls := "PictureRingModel", name := "seamSum", desc := "(I)I" } : Jvm.MethodName) prog_20_method_61_code (4 : Nat) (Option.some Jvm.ClassFile.FieldType.int)) ∈ lw_all := lw_g (lw_at lw_m8 149 rfl) rfl
theorem q1938 : (Jvm.Cond.methodLink "PictureRingModel" (237 : Nat) ({ cls := "PictureRingModel", name := "laysSeam", desc := "(I)V" } : Jvm.MethodName)) ∈ lw_all := lw_g (lw_at lw_m8 150 rfl) rfl
theorem q1939 : (Jvm.Cond.privateMethod ({ cls := "PictureRingModel", name := "laysSeam", desc := "(I)V" } : Jvm.MethodName)) ∈ lw_tbl := lw_at lw_m8 151 rfl
theorem q1940 : (Jvm.Cond.instanceMethod ({ cls := "PictureRingModel", name := "laysSeam", desc := "(I)V" } : Jvm.MethodName)) ∈ lw_all := lw_g (lw_at lw_m8 152 rfl) rfl
theorem q1941 : (Jvm.Cond.code ({ cls := "PictureRingModel", name := "laysSeam", desc := "(I)V" } : Jvm.MethodName) prog_20_method_60_code (8 : Nat) (Option.none : Option Jvm.ClassFile.FieldType)) ∈ lw_all := lw_g (lw_at lw_m8 153 rfl) rfl
theorem q1942 : (Jvm.Cond.methodLink "PictureRingModel" (231 : Nat) ({ cls := "PictureRingModel", name := "isNea\x72", desc := "(II)Z" } : Jvm.MethodName)) ∈ lw_all := lw_g (lw_at lw_m8 154 rfl) rfl
theorem q1943 : (Jvm.Cond.static ({ cls := "PictureRingModel", name := "isNea\x72", desc := "(II)Z" } : Jvm.MethodName)) ∈ lw_all := lw_g (lw_at lw_m8 155 rfl) rfl
theorem q1944 : (Jvm.Cond.code ({ cls := "PictureRingModel", name := "isNea\x72", desc := "(II)Z" } : Jvm.MethodName) prog_20_method_59_code (2 : Nat) (Option.some Jvm.ClassFile.FieldType.boolean)) ∈ lw_all := lw_g (lw_at lw_m8 156 rfl) rfl
theorem q1946 : (Jvm.Cond.instanceMethod ({ cls := "PictureRingModel", name := "seam", desc := "(II)I" } : Jvm.MethodName)) ∈ lw_all := lw_g (lw_at lw_m8 158 rfl) rfl
theorem q1947 : (Jvm.Cond.selects "PictureRingModel" ({ cls := "PictureRingModel", name := "seam", desc := "(II)I" } : Jvm.MethodName) ({ cls := "PictureRingModel", name := "seam", desc := "(II)I" } : Jvm.MethodName)) ∈ lw_all := lw_g (lw_at lw_m8 159 rfl) rfl
theorem q1948 : (Jvm.Cond.code ({ cls := "PictureRingModel", name := "seam", desc := "(II)I" } : Jvm.MethodName) prog_20_method_65_code (3 : Nat) (Option.some Jvm.ClassFile.FieldType.int)) ∈ lw_all := lw_g (lw_at lw_m8 160 rfl) rfl
theorem q1950 : (Jvm.Cond.instanceMethod ({ cls := "PictureRingModel", name := "level", desc := "(II)J" } : Jvm.MethodName)) ∈ lw_all := lw_g (lw_at lw_m8 162 rfl) rfl
theorem q1951 : (Jvm.Cond.selects "PictureRingModel" ({ cls := "PictureRingModel", name := "level", desc := "(II)J" } : Jvm.MethodName) ({ cls := "PictureRingModel", name := "level", desc := "(II)J" } : Jvm.MethodName)) ∈ lw_all := lw_g (lw_at lw_m8 163 rfl) rfl
theorem q1952 : (Jvm.Cond.code ({ cls := "PictureRingModel", name := "level", desc := "(II)J" } : Jvm.MethodName) prog_20_method_71_code (3 : Nat) (Option.some Jvm.ClassFile.FieldType.long)) ∈ lw_all := lw_g (lw_at lw_m8 164 rfl) rfl
theorem q1953 : (Jvm.Cond.constantLong "PictureRingModel" (274 : Nat) (-999999 : Int64)) ∈ lw_all := lw_g (lw_at lw_m8 165 rfl) rfl
theorem q1954 : (Jvm.Cond.methodLink "PictureRingModel" (276 : Nat) ({ cls := "PictureRingModel", name := "laysLevel", desc := "(I)V" } : Jvm.MethodName)) ∈ lw_all := lw_g (lw_at lw_m8 166 rfl) rfl
theorem q1955 : (Jvm.Cond.privateMethod ({ cls := "PictureRingModel", name := "laysLevel", desc := "(I)V" } : Jvm.MethodName)) ∈ lw_tbl := lw_at lw_m8 167 rfl
theorem q1956 : (Jvm.Cond.instanceMethod ({ cls := "PictureRingModel", name := "laysLevel", desc := "(I)V" } : Jvm.MethodName)) ∈ lw_all := lw_g (lw_at lw_m8 168 rfl) rfl
theorem q1957 : (Jvm.Cond.code ({ cls := "PictureRingModel", name := "laysLevel", desc := "(I)V" } : Jvm.MethodName) prog_20_method_70_code (7 : Nat) (Option.none : Option Jvm.ClassFile.FieldType)) ∈ lw_all := lw_g (lw_at lw_m8 169 rfl) rfl
theorem q1958 : (Jvm.Cond.constantLong "PictureRingModel" (262 : Nat) (5040 : Int64)) ∈ lw_all := lw_g (lw_at lw_m8 170 rfl) rfl
theorem q1959 : (Jvm.Cond.methodLink "PictureRingModel" (264 : Nat) ({ cls := "PictureRingModel", name := "shares", desc := "()J" } : Jvm.MethodName)) ∈ lw_all := lw_g (lw_at lw_m8 171 rfl) rfl
theorem q1960 : (Jvm.Cond.privateMethod ({ cls := "PictureRingModel", name := "shares", desc := "()J" } : Jvm.MethodName)) ∈ lw_tbl := lw_at lw_m8 172 rfl
theorem q1961 : (Jvm.Cond.instanceMethod ({ cls := "PictureRingModel", name := "shares", desc := "()J" } : Jvm.MethodName)) ∈ lw_all := lw_g (lw_at lw_m8 173 rfl) rfl
theorem q1962 : (Jvm.Cond.code ({ cls := "PictureRingModel", name := "shares", desc := "()J" } : Jvm.MethodName) prog_20_method_68_code (4 : Nat) (Option.some Jvm.ClassFile.FieldType.long)) ∈ lw_all := lw_g (lw_at lw_m8 174 rfl) rfl
theorem q1963 : (Jvm.Cond.methodLink "PictureRingModel" (258 : Nat) ({ cls := "PictureRingModel", name := "share", desc := "(I)J" } : Jvm.MethodName)) ∈ lw_all := lw_g (lw_at lw_m8 175 rfl) rfl
theorem q1964 : (Jvm.Cond.privateMethod ({ cls := "PictureRingModel", name := "share", desc := "(I)J" } : Jvm.MethodName)) ∈ lw_tbl := lw_at lw_m8 176 rfl
theorem q1965 : (Jvm.Cond.instanceMethod ({ cls := "PictureRingModel", name := "share", desc := "(I)J" } : Jvm.MethodName)) ∈ lw_all := lw_g (lw_at lw_m8 177 rfl) rfl
theorem q1966 : (Jvm.Cond.code ({ cls := "PictureRingModel", name := "share", desc := "(I)J" } : Jvm.MethodName) prog_20_method_67_code (2 : Nat) (Option.some Jvm.ClassFile.FieldType.long)) ∈ lw_all := lw_g (lw_at lw_m8 178 rfl) rfl
theorem q1967 : (Jvm.Cond.methodLink "PictureRingModel" (268 : Nat) ({ cls := "PictureRingModel", name := "leftOve\x72", desc := "()J" } : Jvm.MethodName)) ∈ lw_all := lw_g (lw_at lw_m8 179 rfl) rfl
theorem q1968 : (Jvm.Cond.privateMethod ({ cls := "PictureRingModel", name := "leftOve\x72", desc := "()J" } : Jvm.MethodName)) ∈ lw_tbl := lw_at lw_m8 180 rfl
theorem q1969 : (Jvm.Cond.instanceMethod ({ cls := "PictureRingModel", name := "leftOve\x72", desc := "()J" } : Jvm.MethodName)) ∈ lw_all := lw_g (lw_at lw_m8 181 rfl) rfl
theorem q1970 : (Jvm.Cond.code ({ cls := "PictureRingModel", name := "leftOve\x72", desc := "()J" } : Jvm.MethodName) prog_20_method_69_code (4 : Nat) (Option.some Jvm.ClassFile.FieldType.long)) ∈ lw_all := lw_g (lw_at lw_m8 182 rfl) rfl
theorem q1971 : (Jvm.Cond.methodLink "PictureRingModel" (271 : Nat) ({ cls := "PictureRingModel", name := "lowest", desc := "()V" } : Jvm.MethodName)) ∈ lw_all := lw_g (lw_at lw_m8 183 rfl) rfl
theorem q1972 : (Jvm.Cond.privateMethod ({ cls := "PictureRingModel", name := "lowest", desc := "()V" } : Jvm.MethodName)) ∈ lw_tbl := lw_at lw_m8 184 rfl
theorem q1973 : (Jvm.Cond.instanceMethod ({ cls := "PictureRingModel", name := "lowest", desc := "()V" } : Jvm.MethodName)) ∈ lw_all := lw_g (lw_at lw_m8 185 rfl) rfl
theorem q1974 : (Jvm.Cond.code ({ cls := "PictureRingModel", name := "lowest", desc := "()V" } : Jvm.MethodName) prog_20_method_66_code (7 : Nat) (Option.none : Option Jvm.ClassFile.FieldType)) ∈ lw_all := lw_g (lw_at lw_m8 186 rfl) rfl
theorem q1976 : (Jvm.Cond.instanceMethod ({ cls := "PictureRingModel", name := "rest", desc := "(I)J" } : Jvm.MethodName)) ∈ lw_all := lw_g (lw_at lw_m8 188 rfl) rfl
theorem q1977 : (Jvm.Cond.selects "PictureRingModel" ({ cls := "PictureRingModel", name := "rest", desc := "(I)J" } : Jvm.MethodName) ({ cls := "PictureRingModel", name := "rest", desc := "(I)J" } : Jvm.MethodName)) ∈ lw_all := lw_g (lw_at lw_m8 189 rfl) rfl
theorem q1978 : (Jvm.Cond.code ({ cls := "PictureRingModel", name := "rest", desc := "(I)J" } : Jvm.MethodName) prog_20_method_72_code (2 : Nat) (Option.some Jvm.ClassFile.FieldType.long)) ∈ lw_all := lw_g (lw_at lw_m8 190 rfl) rfl
theorem q1980 : (Jvm.Cond.instanceMethod ({ cls := "PictureRingModel", name := "shows", desc := "(II)I" } : Jvm.MethodName)) ∈ lw_all := lw_g (lw_at lw_m8 192 rfl) rfl
theorem q1981 : (Jvm.Cond.selects "PictureRingModel" ({ cls := "PictureRingModel", name := "shows", desc := "(II)I" } : Jvm.MethodName) ({ cls := "PictureRingModel", name := "shows", desc := "(II)I" } : Jvm.MethodName)) ∈ lw_all := lw_g (lw_at lw_m8 193 rfl) rfl
theorem q1982 : (Jvm.Cond.code ({ cls := "PictureRingModel", name := "shows", desc := "(II)I" } : Jvm.MethodName) prog_20_method_73_code (8 : Nat) (Option.some Jvm.ClassFile.FieldType.int)) ∈ lw_all := lw_g (lw_at lw_m8 194 rfl) rfl
theorem q1984 : (Jvm.Cond.instanceMethod ({ cls := "PictureRingModel", name := "seen", desc := "(III)I" } : Jvm.MethodName)) ∈ lw_all := lw_g (lw_at lw_m8 196 rfl) rfl
theorem q1985 : (Jvm.Cond.selects "PictureRingModel" ({ cls := "PictureRingModel", name := "seen", desc := "(III)I" } : Jvm.MethodName) ({ cls := "PictureRingModel", name := "seen", desc := "(III)I" } : Jvm.MethodName)) ∈ lw_all := lw_g (lw_at lw_m8 197 rfl) rfl
theorem q1986 : (Jvm.Cond.code ({ cls := "PictureRingModel", name := "seen", desc := "(III)I" } : Jvm.MethodName) prog_20_method_74_code (10 : Nat) (Option.some Jvm.ClassFile.FieldType.int)) ∈ lw_all := lw_g (lw_at lw_m8 198 rfl) rfl
theorem q1988 : (Jvm.Cond.instanceMethod ({ cls := "PictureRingModel", name := "type", desc := "(I)I" } : Jvm.MethodName)) ∈ lw_all := lw_g (lw_at lw_m8 200 rfl) rfl
theorem q1989 : (Jvm.Cond.selects "PictureRingModel" ({ cls := "PictureRingModel", name := "type", desc := "(I)I" } : Jvm.MethodName) ({ cls := "PictureRingModel", name := "type", desc := "(I)I" } : Jvm.MethodName)) ∈ lw_all := lw_g (lw_at lw_m8 201 rfl) rfl
theorem q1990 : (Jvm.Cond.code ({ cls := "PictureRingModel", name := "type", desc := "(I)I" } : Jvm.MethodName) prog_20_method_75_code (2 : Nat) (Option.some Jvm.ClassFile.FieldType.int)) ∈ lw_all := lw_g (lw_at lw_m8 202 rfl) rfl
theorem q1991 : (Jvm.Cond.constantLong "PictureRingModel" (279 : Nat) (127 : Int64)) ∈ lw_all := lw_g (lw_at lw_m8 203 rfl) rfl
theorem q1993 : (Jvm.Cond.instanceMethod ({ cls := "PictureRingModel", name := "clea\x72", desc := "()I" } : Jvm.MethodName)) ∈ lw_all := lw_g (lw_at lw_m8 205 rfl) rfl
theorem q1994 : (Jvm.Cond.selects "PictureRingModel" ({ cls := "PictureRingModel", name := "clea\x72", desc := "()I" } : Jvm.MethodName) ({ cls := "PictureRingModel", name := "clea\x72", desc := "()I" } : Jvm.MethodName)) ∈ lw_all := lw_g (lw_at lw_m8 206 rfl) rfl
theorem q1995 : (Jvm.Cond.code ({ cls := "PictureRingModel", name := "clea\x72", desc := "()I" } : Jvm.MethodName) prog_20_method_76_code (2 : Nat) (Option.some Jvm.ClassFile.FieldType.int)) ∈ lw_all := lw_g (lw_at lw_m8 207 rfl) rfl
theorem q1997 : (Jvm.Cond.instanceMethod ({ cls := "PictureRingModel", name := "reads", desc := "()I" } : Jvm.MethodName)) ∈ lw_all := lw_g (lw_at lw_m8 209 rfl) rfl
theorem q1998 : (Jvm.Cond.selects "PictureRingModel" ({ cls := "PictureRingModel", name := "reads", desc := "()I" } : Jvm.MethodName) ({ cls := "PictureRingModel", name := "reads", desc := "()I" } : Jvm.MethodName)) ∈ lw_all := lw_g (lw_at lw_m8 210 rfl) rfl
theorem q1999 : (Jvm.Cond.code ({ cls := "PictureRingModel", name := "reads", desc := "()I" } : Jvm.MethodName) prog_20_method_85_code (4 : Nat) (Option.some Jvm.ClassFile.FieldType.int)) ∈ lw_all := lw_g (lw_at lw_m8 211 rfl) rfl
theorem q2000 : (Jvm.Cond.methodLink "PictureRingModel" (319 : Nat) ({ cls := "PictureRingModel", name := "readsOrde\x72", desc := "(Z)Z" } : Jvm.MethodName)) ∈ lw_all := lw_g (lw_at lw_m8 212 rfl) rfl
theorem q2001 : (Jvm.Cond.privateMethod ({ cls := "PictureRingModel", name := "readsOrde\x72", desc := "(Z)Z" } : Jvm.MethodName)) ∈ lw_tbl := lw_at lw_m8 213 rfl
theorem q2002 : (Jvm.Cond.instanceMethod ({ cls := "PictureRingModel", name := "readsOrde\x72", desc := "(Z)Z" } : Jvm.MethodName)) ∈ lw_all := lw_g (lw_at lw_m8 214 rfl) rfl
theorem q2003 : (Jvm.Cond.code ({ cls := "PictureRingModel", name := "readsOrde\x72", desc := "(Z)Z" } : Jvm.MethodName) prog_20_method_84_code (3 : Nat) (Option.some Jvm.ClassFile.FieldType.boolean)) ∈ lw_all := lw_g (lw_at lw_m8 215 rfl) rfl
theorem q2004 : (Jvm.Cond.methodLink "PictureRingModel" (291 : Nat) ({ cls := "PictureRingModel", name := "here", desc := "()I" } : Jvm.MethodName)) ∈ lw_all := lw_g (lw_at lw_m8 216 rfl) rfl
theorem q2005 : (Jvm.Cond.privateMethod ({ cls := "PictureRingModel", name := "here", desc := "()I" } : Jvm.MethodName)) ∈ lw_tbl := lw_at lw_m8 217 rfl
theorem q2006 : (Jvm.Cond.instanceMethod ({ cls := "PictureRingModel", name := "here", desc := "()I" } : Jvm.MethodName)) ∈ lw_all := lw_g (lw_at lw_m8 218 rfl) rfl
theorem q2007 : (Jvm.Cond.code ({ cls := "PictureRingModel", name := "here", desc := "()I" } : Jvm.MethodName) prog_20_method_77_code (1 : Nat) (Option.some Jvm.ClassFile.FieldType.int)) ∈ lw_all := lw_g (lw_at lw_m8 219 rfl) rfl
theorem q2008 : (Jvm.Cond.methodLink "PictureRingModel" (304 : Nat) ({ cls := "PictureRingModel", name := "numbersOf", desc := "(I)I" } : Jvm.MethodName)) ∈ lw_all := lw_g (lw_at lw_m8 220 rfl) rfl
theorem q2009 : (Jvm.Cond.static ({ cls := "PictureRingModel", name := "numbersOf", desc := "(I)I" } : Jvm.MethodName)) ∈ lw_all := lw_g (lw_at lw_m8 221 rfl) rfl
theorem q2010 : (Jvm.Cond.code ({ cls := "PictureRingModel", name := "numbersOf", desc := "(I)I" } : Jvm.MethodName) prog_20_method_81_code (1 : Nat) (Option.some Jvm.ClassFile.FieldType.int)) ∈ lw_all := lw_g (lw_at lw_m8 222 rfl) rfl
theorem q2011 : (Jvm.Cond.methodLink "PictureRingModel" (307 : Nat) ({ cls := "PictureRingModel", name := "takesAll", desc := "(II)Z" } : Jvm.MethodName)) ∈ lw_all := lw_g (lw_at lw_m8 223 rfl) rfl
theorem q2012 : (Jvm.Cond.privateMethod ({ cls := "PictureRingModel", name := "takesAll", desc := "(II)Z" } : Jvm.MethodName)) ∈ lw_tbl := lw_at lw_m8 224 rfl
theorem q2013 : (Jvm.Cond.instanceMethod ({ cls := "PictureRingModel", name := "takesAll", desc := "(II)Z" } : Jvm.MethodName)) ∈ lw_all := lw_g (lw_at lw_m8 225 rfl) rfl
theorem q2014 : (Jvm.Cond.code ({ cls := "PictureRingModel", name := "takesAll", desc := "(II)Z" } : Jvm.MethodName) prog_20_method_80_code (4 : Nat) (Option.some Jvm.ClassFile.FieldType.boolean)) ∈ lw_all := lw_g (lw_at lw_m8 226 rfl) rfl
theorem q2015 : (Jvm.Cond.methodLink "PictureRingModel" (300 : Nat) ({ cls := "PictureRingModel", name := "takes", desc := "(Z)Z" } : Jvm.MethodName)) ∈ lw_all := lw_g (lw_at lw_m8 227 rfl) rfl
theorem q2016 : (Jvm.Cond.privateMethod ({ cls := "PictureRingModel", name := "takes", desc := "(Z)Z" } : Jvm.MethodName)) ∈ lw_tbl := lw_at lw_m8 228 rfl
theorem q2017 : (Jvm.Cond.instanceMethod ({ cls := "PictureRingModel", name := "takes", desc := "(Z)Z" } : Jvm.MethodName)) ∈ lw_all := lw_g (lw_at lw_m8 229 rfl) rfl
theorem q2018 : (Jvm.Cond.code ({ cls := "PictureRingModel", name := "takes", desc := "(Z)Z" } : Jvm.MethodName) prog_20_method_79_code (5 : Nat) (Option.some Jvm.ClassFile.FieldType.boolean)) ∈ lw_all := lw_g (lw_at lw_m8 230 rfl) rfl
theorem q2019 : (Jvm.Cond.methodLink "PictureRingModel" (297 : Nat) ({ cls := "PictureRingModel", name := "isFigure", desc := "(I)Z" } : Jvm.MethodName)) ∈ lw_all := lw_g (lw_at lw_m8 231 rfl) rfl
theorem q2020 : (Jvm.Cond.privateMethod ({ cls := "PictureRingModel", name := "isFigure", desc := "(I)Z" } : Jvm.MethodName)) ∈ lw_tbl := lw_at lw_m8 232 rfl
theorem q2021 : (Jvm.Cond.instanceMethod ({ cls := "PictureRingModel", name := "isFigure", desc := "(I)Z" } : Jvm.MethodName)) ∈ lw_all := lw_g (lw_at lw_m8 233 rfl) rfl
theorem q2022 : (Jvm.Cond.code ({ cls := "PictureRingModel", name := "isFigure", desc := "(I)Z" } : Jvm.MethodName) prog_20_method_78_code (2 : Nat) (Option.some Jvm.ClassFile.FieldType.boolean)) ∈ lw_all := lw_g (lw_at lw_m8 234 rfl) rfl
theorem q2023 : (Jvm.Cond.constantLong "PictureRingModel" (287 : Nat) (48 : Int64)) ∈ lw_all := lw_g (lw_at lw_m8 235 rfl) rfl
theorem q2024 : (Jvm.Cond.constantLong "PictureRingModel" (289 : Nat) (57 : Int64)) ∈ lw_all := lw_g (lw_at lw_m8 236 rfl) rfl
theorem q2025 : (Jvm.Cond.methodLink "PictureRingModel" (310 : Nat) ({ cls := "PictureRingModel", name := "can", desc := "(I)I" } : Jvm.MethodName)) ∈ lw_all := lw_g (lw_at lw_m8 237 rfl) rfl
theorem q2026 : (Jvm.Cond.privateMethod ({ cls := "PictureRingModel", name := "can", desc := "(I)I" } : Jvm.MethodName)) ∈ lw_tbl := lw_at lw_m8 238 rfl
theorem q2027 : (Jvm.Cond.instanceMethod ({ cls := "PictureRingModel", name := "can", desc := "(I)I" } : Jvm.MethodName)) ∈ lw_all := lw_g (lw_at lw_m8 239 rfl) rfl
theorem q2028 : (Jvm.Cond.code ({ cls := "PictureRingModel", name := "can", desc := "(I)I" } : Jvm.MethodName) prog_20_method_82_code (4 : Nat) (Option.some Jvm.ClassFile.FieldType.int)) ∈ lw_all := lw_g (lw_at lw_m9 0 rfl) rfl
theorem q2029 : (Jvm.Cond.methodLink "PictureRingModel" (316 : Nat) ({ cls := "PictureRingModel", name := "does", desc := "(I)V" } : Jvm.MethodName)) ∈ lw_all := lw_g (lw_at lw_m9 1 rfl) rfl
theorem q2030 : (Jvm.Cond.privateMethod ({ cls := "PictureRingModel", name := "does", desc := "(I)V" } : Jvm.MethodName)) ∈ lw_tbl := lw_at lw_m9 2 rfl
theorem q2031 : (Jvm.Cond.instanceMethod ({ cls := "PictureRingModel", name := "does", desc := "(I)V" } : Jvm.MethodName)) ∈ lw_all := lw_g (lw_at lw_m9 3 rfl) rfl
theorem q2032 : (Jvm.Cond.code ({ cls := "PictureRingModel", name := "does", desc := "(I)V" } : Jvm.MethodName) prog_20_method_83_code (5 : Nat) (Option.none : Option Jvm.ClassFile.FieldType)) ∈ lw_all := lw_g (lw_at lw_m9 4 rfl) rfl
theorem q2033 : (Jvm.Cond.methodLink "PictureRingModel" (325 : Nat) ({ cls := "PictureRingModel", name := "keepsAside", desc := "()V" } : Jvm.MethodName)) ∈ lw_all := lw_g (lw_at lw_m9 5 rfl) rfl
theorem q2034 : (Jvm.Cond.privateMethod ({ cls := "PictureRingModel", name := "keepsAside", desc := "()V" } : Jvm.MethodName)) ∈ lw_tbl := lw_at lw_m9 6 rfl
theorem q2035 : (Jvm.Cond.instanceMethod ({ cls := "PictureRingModel", name := "keepsAside", desc := "()V" } : Jvm.MethodName)) ∈ lw_all := lw_g (lw_at lw_m9 7 rfl) rfl
theorem q2036 : (Jvm.Cond.code ({ cls := "PictureRingModel", name := "keepsAside", desc := "()V" } : Jvm.MethodName) prog_20_method_86_code (3 : Nat) (Option.none : Option Jvm.ClassFile.FieldType)) ∈ lw_all := lw_g (lw_at lw_m9 8 rfl) rfl
theorem q2038 : (Jvm.Cond.instanceMethod ({ cls := "PictureRingModel", name := "why", desc := "(I)I" } : Jvm.MethodName)) ∈ lw_all := lw_g (lw_at lw_m9 10 rfl) rfl
theorem q2039 : (Jvm.Cond.selects "PictureRingModel" ({ cls := "PictureRingModel", name := "why", desc := "(I)I" } : Jvm.MethodName) ({ cls := "PictureRingModel", name := "why", desc := "(I)I" } : Jvm.MethodName)) ∈ lw_all := lw_g (lw_at lw_m9 11 rfl) rfl
theorem q2040 : (Jvm.Cond.code ({ cls := "PictureRingModel", name := "why", desc := "(I)I" } : Jvm.MethodName) prog_20_method_87_code (2 : Nat) (Option.some Jvm.ClassFile.FieldType.int)) ∈ lw_all := lw_g (lw_at lw_m9 12 rfl) rfl
theorem q2042 : (Jvm.Cond.instanceMethod ({ cls := "PictureRingModel", name := "back", desc := "()I" } : Jvm.MethodName)) ∈ lw_all := lw_g (lw_at lw_m9 14 rfl) rfl
theorem q2043 : (Jvm.Cond.selects "PictureRingModel" ({ cls := "PictureRingModel", name := "back", desc := "()I" } : Jvm.MethodName) ({ cls := "PictureRingModel", name := "back", desc := "()I" } : Jvm.MethodName)) ∈ lw_all := lw_g (lw_at lw_m9 15 rfl) rfl
theorem q2044 : (Jvm.Cond.code ({ cls := "PictureRingModel", name := "back", desc := "()I" } : Jvm.MethodName) prog_20_method_88_code (2 : Nat) (Option.some Jvm.ClassFile.FieldType.int)) ∈ lw_all := lw_g (lw_at lw_m9 16 rfl) rfl
theorem q2046 : (Jvm.Cond.instanceMethod ({ cls := "PictureRingModel", name := "told", desc := "(I)I" } : Jvm.MethodName)) ∈ lw_all := lw_g (lw_at lw_m9 18 rfl) rfl
theorem q2047 : (Jvm.Cond.selects "PictureRingModel" ({ cls := "PictureRingModel", name := "told", desc := "(I)I" } : Jvm.MethodName) ({ cls := "PictureRingModel", name := "told", desc := "(I)I" } : Jvm.MethodName)) ∈ lw_all := lw_g (lw_at lw_m9 19 rfl) rfl
theorem q2048 : (Jvm.Cond.code ({ cls := "PictureRingModel", name := "told", desc := "(I)I" } : Jvm.MethodName) prog_20_method_90_code (2 : Nat) (Option.some Jvm.ClassFile.FieldType.int)) ∈ lw_all := lw_g (lw_at lw_m9 20 rfl) rfl
theorem q2049 : (Jvm.Cond.constantLong "PictureRingModel" (328 : Nat) (8 : Int64)) ∈ lw_all := lw_g (lw_at lw_m9 21 rfl) rfl
theorem q2050 : (Jvm.Cond.methodLink "PictureRingModel" (330 : Nat) ({ cls := "PictureRingModel", name := "toldOf", desc := "(I)I" } : Jvm.MethodName)) ∈ lw_all := lw_g (lw_at lw_m9 22 rfl) rfl
theorem q2051 : (Jvm.Cond.privateMethod ({ cls := "PictureRingModel", name := "toldOf", desc := "(I)I" } : Jvm.MethodName)) ∈ lw_tbl := lw_at lw_m9 23 rfl
theorem q2052 : (Jvm.Cond.instanceMethod ({ cls := "PictureRingModel", name := "toldOf", desc := "(I)I" } : Jvm.MethodName)) ∈ lw_all := lw_g (lw_at lw_m9 24 rfl) rfl
theorem q2053 : (Jvm.Cond.code ({ cls := "PictureRingModel", name := "toldOf", desc := "(I)I" } : Jvm.MethodName) prog_20_method_89_code (2 : Nat) (Option.some Jvm.ClassFile.FieldType.int)) ∈ lw_all := lw_g (lw_at lw_m9 25 rfl) rfl
theorem q2055 : (Jvm.Cond.instanceMethod ({ cls := "PictureRingModel", name := "digest", desc := "()J" } : Jvm.MethodName)) ∈ lw_all := lw_g (lw_at lw_m9 27 rfl) rfl
theorem q2056 : (Jvm.Cond.selects "PictureRingModel" ({ cls := "PictureRingModel", name := "digest", desc := "()J" } : Jvm.MethodName) ({ cls := "PictureRingModel", name := "digest", desc := "()J" } : Jvm.MethodName)) ∈ lw_all := lw_g (lw_at lw_m9 28 rfl) rfl
theorem q2057 : (Jvm.Cond.code ({ cls := "PictureRingModel", name := "digest", desc := "()J" } : Jvm.MethodName) prog_20_method_91_code (5 : Nat) (Option.some Jvm.ClassFile.FieldType.long)) ∈ lw_all := lw_g (lw_at lw_m9 29 rfl) rfl
theorem q2058 : (Jvm.Cond.constantLong "PictureRingModel" (333 : Nat) (2269 : Int64)) ∈ lw_all := lw_g (lw_at lw_m9 30 rfl) rfl
theorem q2059 : (Jvm.Cond.constantLong "PictureRingModel" (335 : Nat) (31 : Int64)) ∈ lw_all := lw_g (lw_at lw_m9 31 rfl) rfl
theorem q2077 : (Jvm.Cond.castable "PictureRingModel" "java/lang/Object") ∈ lw_tbl := lw_at lw_m9 49 rfl
theorem in_X7 : ∀ w ∈ wsX70, w ∈ lw_all := lw_in wsX70 [1641, 1643, 1645, 1647, 1649, 1651, 1653, 1655, 1657, 1659, 1661, 1663, 1665, 1667, 1669, 1671, 1673, 1675, 1677, 1679, 1681, 1683, 1685] (by decide +kernel) (by decide +kernel)

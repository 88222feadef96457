/-! PictureRing$State -/
set_option maxRecDepth 100000
def RX1 : String := "PictureRing$State"
def TX1 : u_T := fun k => match k with
  | 0 => ("PictureRing$State", "world", "[I", false)
  | 1 => ("PictureRing$State", "round", "I", false)
  | 2 => ("PictureRing$State", "pictures", "[LPictureRing$Picture;", true)
  | 3 => ("PictureRing$State", "many", "I", false)
  | _ => ("PictureRing$State", "settings", "[I", true)
def tyX1 : Nat → FieldType := fun k => match k with
  | 0 => .array .int
  | 1 => .int
  | 2 => .array (.object "PictureRing$Picture")
  | 3 => .int
  | _ => .array .int
abbrev wsX10 : List Cond := u_ws RX1 TX1 5
theorem nmX1 : ∀ a, a < 5 → ∀ b, b < 5 → a ≠ b → (TX1 a).2.1 ≠ (TX1 b).2.1 := by decide +kernel
theorem tyX1_ok : ∀ k, k < 5 → parseFieldDescriptor (TX1 k).2.2.1 = some (tyX1 k) := by decide +kernel
abbrev cX1_init : ByteArray := prog_14_method_1_code
def yX1_init : MethodName := ⟨RX1, "<init>", "()V"⟩
def dkwX1_init_1 : List UInt8 := [16, 12, 79, 181, 0, 17, 177]
abbrev dktX1_init_1 : List UInt8 := dkwX1_init_1 ++ []
def dkwX1_init_0 : List UInt8 := [42, 183, 0, 3, 42, 16, 6, 189, 0, 9, 181, 0, 11, 42, 5, 188, 10, 89, 3, 16, 8, 79, 89, 4]
abbrev dktX1_init_0 : List UInt8 := dkwX1_init_0 ++ dktX1_init_1
theorem dksX1_init_0 : cX1_init.data.toList.drop 0 = dktX1_init_0 := by decide +kernel
theorem dksX1_init_1 : cX1_init.data.toList.drop 24 = dktX1_init_1 := dk_seg dksX1_init_0 24 rfl rfl
theorem dX1_init_0 : decode cX1_init 0 = .ok (.aload_n 0, 1) := dk_42 (dk_at dksX1_init_0 0 rfl rfl)
theorem dX1_init_1 : decode cX1_init 1 = .ok (.invokespecial 3, 3) := dk_183 0 3 (dk_at dksX1_init_0 1 rfl rfl)
theorem dX1_init_4 : decode cX1_init 4 = .ok (.aload_n 0, 1) := dk_42 (dk_at dksX1_init_0 4 rfl rfl)
theorem dX1_init_5 : decode cX1_init 5 = .ok (.bipush 6, 2) := dk_16 6 (dk_at dksX1_init_0 5 rfl rfl)
theorem dX1_init_7 : decode cX1_init 7 = .ok (.anewarray 9, 3) := dk_189 0 9 (dk_at dksX1_init_0 7 rfl rfl)
theorem dX1_init_10 : decode cX1_init 10 = .ok (.putfield 11, 3) := dk_181 0 11 (dk_at dksX1_init_0 10 rfl rfl)
theorem dX1_init_13 : decode cX1_init 13 = .ok (.aload_n 0, 1) := dk_42 (dk_at dksX1_init_0 13 rfl rfl)
theorem dX1_init_14 : decode cX1_init 14 = .ok (.iconst 2, 1) := dk_5 (dk_at dksX1_init_0 14 rfl rfl)
theorem dX1_init_15 : decode cX1_init 15 = .ok (.newarray .int, 2) := dk_188_10 (dk_at dksX1_init_0 15 rfl rfl)
theorem dX1_init_17 : decode cX1_init 17 = .ok (.dup, 1) := dk_89 (dk_at dksX1_init_0 17 rfl rfl)
theorem dX1_init_18 : decode cX1_init 18 = .ok (.iconst 0, 1) := dk_3 (dk_at dksX1_init_0 18 rfl rfl)
theorem dX1_init_19 : decode cX1_init 19 = .ok (.bipush 8, 2) := dk_16 8 (dk_at dksX1_init_0 19 rfl rfl)
theorem dX1_init_21 : decode cX1_init 21 = .ok (.iastore, 1) := dk_79 (dk_at dksX1_init_0 21 rfl rfl)
theorem dX1_init_22 : decode cX1_init 22 = .ok (.dup, 1) := dk_89 (dk_at dksX1_init_0 22 rfl rfl)
theorem dX1_init_23 : decode cX1_init 23 = .ok (.iconst 1, 1) := dk_4 (dk_at dksX1_init_0 23 rfl rfl)
theorem dX1_init_24 : decode cX1_init 24 = .ok (.bipush 12, 2) := dk_16 12 (dk_at dksX1_init_1 0 rfl rfl)
theorem dX1_init_26 : decode cX1_init 26 = .ok (.iastore, 1) := dk_79 (dk_at dksX1_init_1 2 rfl rfl)
theorem dX1_init_27 : decode cX1_init 27 = .ok (.putfield 17, 3) := dk_181 0 17 (dk_at dksX1_init_1 3 rfl rfl)
theorem dX1_init_30 : decode cX1_init 30 = .ok (.return_, 1) := dk_177 (dk_at dksX1_init_1 6 rfl rfl)
abbrev cX1_takes : ByteArray := prog_14_method_2_code
def yX1_takes : MethodName := ⟨RX1, "takes", "(LPictureRing$State;)V"⟩
def dkwX1_takes_2 : List UInt8 := [180, 0, 17, 3, 46, 79, 42, 180, 0, 17, 4, 43, 180, 0, 17, 4, 46, 79, 177]
abbrev dktX1_takes_2 : List UInt8 := dkwX1_takes_2 ++ []
def dkwX1_takes_1 : List UInt8 := [180, 0, 11, 3, 16, 6, 184, 0, 28, 42, 43, 180, 0, 34, 181, 0, 34, 42, 180, 0, 17, 3, 43]
abbrev dktX1_takes_1 : List UInt8 := dkwX1_takes_1 ++ dktX1_takes_2
def dkwX1_takes_0 : List UInt8 := [42, 43, 180, 0, 21, 181, 0, 21, 42, 43, 180, 0, 24, 181, 0, 24, 43, 180, 0, 11, 3, 42]
abbrev dktX1_takes_0 : List UInt8 := dkwX1_takes_0 ++ dktX1_takes_1
theorem dksX1_takes_0 : cX1_takes.data.toList.drop 0 = dktX1_takes_0 := by decide +kernel
theorem dksX1_takes_1 : cX1_takes.data.toList.drop 22 = dktX1_takes_1 := dk_seg dksX1_takes_0 22 rfl rfl
theorem dksX1_takes_2 : cX1_takes.data.toList.drop 45 = dktX1_takes_2 := dk_seg dksX1_takes_1 23 rfl rfl
theorem dX1_takes_0 : decode cX1_takes 0 = .ok (.aload_n 0, 1) := dk_42 (dk_at dksX1_takes_0 0 rfl rfl)
theorem dX1_takes_1 : decode cX1_takes 1 = .ok (.aload_n 1, 1) := dk_43 (dk_at dksX1_takes_0 1 rfl rfl)
theorem dX1_takes_2 : decode cX1_takes 2 = .ok (.getfield 21, 3) := dk_180 0 21 (dk_at dksX1_takes_0 2 rfl rfl)
theorem dX1_takes_5 : decode cX1_takes 5 = .ok (.putfield 21, 3) := dk_181 0 21 (dk_at dksX1_takes_0 5 rfl rfl)
theorem dX1_takes_8 : decode cX1_takes 8 = .ok (.aload_n 0, 1) := dk_42 (dk_at dksX1_takes_0 8 rfl rfl)
theorem dX1_takes_9 : decode cX1_takes 9 = .ok (.aload_n 1, 1) := dk_43 (dk_at dksX1_takes_0 9 rfl rfl)
theorem dX1_takes_10 : decode cX1_takes 10 = .ok (.getfield 24, 3) := dk_180 0 24 (dk_at dksX1_takes_0 10 rfl rfl)
theorem dX1_takes_13 : decode cX1_takes 13 = .ok (.putfield 24, 3) := dk_181 0 24 (dk_at dksX1_takes_0 13 rfl rfl)
theorem dX1_takes_16 : decode cX1_takes 16 = .ok (.aload_n 1, 1) := dk_43 (dk_at dksX1_takes_0 16 rfl rfl)
theorem dX1_takes_17 : decode cX1_takes 17 = .ok (.getfield 11, 3) := dk_180 0 11 (dk_at dksX1_takes_0 17 rfl rfl)
theorem dX1_takes_20 : decode cX1_takes 20 = .ok (.iconst 0, 1) := dk_3 (dk_at dksX1_takes_0 20 rfl rfl)
theorem dX1_takes_21 : decode cX1_takes 21 = .ok (.aload_n 0, 1) := dk_42 (dk_at dksX1_takes_0 21 rfl rfl)
theorem dX1_takes_22 : decode cX1_takes 22 = .ok (.getfield 11, 3) := dk_180 0 11 (dk_at dksX1_takes_1 0 rfl rfl)
theorem dX1_takes_25 : decode cX1_takes 25 = .ok (.iconst 0, 1) := dk_3 (dk_at dksX1_takes_1 3 rfl rfl)
theorem dX1_takes_26 : decode cX1_takes 26 = .ok (.bipush 6, 2) := dk_16 6 (dk_at dksX1_takes_1 4 rfl rfl)
theorem dX1_takes_28 : decode cX1_takes 28 = .ok (.invokestatic 28, 3) := dk_184 0 28 (dk_at dksX1_takes_1 6 rfl rfl)
theorem dX1_takes_31 : decode cX1_takes 31 = .ok (.aload_n 0, 1) := dk_42 (dk_at dksX1_takes_1 9 rfl rfl)
theorem dX1_takes_32 : decode cX1_takes 32 = .ok (.aload_n 1, 1) := dk_43 (dk_at dksX1_takes_1 10 rfl rfl)
theorem dX1_takes_33 : decode cX1_takes 33 = .ok (.getfield 34, 3) := dk_180 0 34 (dk_at dksX1_takes_1 11 rfl rfl)
theorem dX1_takes_36 : decode cX1_takes 36 = .ok (.putfield 34, 3) := dk_181 0 34 (dk_at dksX1_takes_1 14 rfl rfl)
theorem dX1_takes_39 : decode cX1_takes 39 = .ok (.aload_n 0, 1) := dk_42 (dk_at dksX1_takes_1 17 rfl rfl)
theorem dX1_takes_40 : decode cX1_takes 40 = .ok (.getfield 17, 3) := dk_180 0 17 (dk_at dksX1_takes_1 18 rfl rfl)
theorem dX1_takes_43 : decode cX1_takes 43 = .ok (.iconst 0, 1) := dk_3 (dk_at dksX1_takes_1 21 rfl rfl)
theorem dX1_takes_44 : decode cX1_takes 44 = .ok (.aload_n 1, 1) := dk_43 (dk_at dksX1_takes_1 22 rfl rfl)
theorem dX1_takes_45 : decode cX1_takes 45 = .ok (.getfield 17, 3) := dk_180 0 17 (dk_at dksX1_takes_2 0 rfl rfl)
theorem dX1_takes_48 : decode cX1_takes 48 = .ok (.iconst 0, 1) := dk_3 (dk_at dksX1_takes_2 3 rfl rfl)
theorem dX1_takes_49 : decode cX1_takes 49 = .ok (.iaload, 1) := dk_46 (dk_at dksX1_takes_2 4 rfl rfl)
theorem dX1_takes_50 : decode cX1_takes 50 = .ok (.iastore, 1) := dk_79 (dk_at dksX1_takes_2 5 rfl rfl)
theorem dX1_takes_51 : decode cX1_takes 51 = .ok (.aload_n 0, 1) := dk_42 (dk_at dksX1_takes_2 6 rfl rfl)
theorem dX1_takes_52 : decode cX1_takes 52 = .ok (.getfield 17, 3) := dk_180 0 17 (dk_at dksX1_takes_2 7 rfl rfl)
theorem dX1_takes_55 : decode cX1_takes 55 = .ok (.iconst 1, 1) := dk_4 (dk_at dksX1_takes_2 10 rfl rfl)
theorem dX1_takes_56 : decode cX1_takes 56 = .ok (.aload_n 1, 1) := dk_43 (dk_at dksX1_takes_2 11 rfl rfl)
theorem dX1_takes_57 : decode cX1_takes 57 = .ok (.getfield 17, 3) := dk_180 0 17 (dk_at dksX1_takes_2 12 rfl rfl)
theorem dX1_takes_60 : decode cX1_takes 60 = .ok (.iconst 1, 1) := dk_4 (dk_at dksX1_takes_2 15 rfl rfl)
theorem dX1_takes_61 : decode cX1_takes 61 = .ok (.iaload, 1) := dk_46 (dk_at dksX1_takes_2 16 rfl rfl)
theorem dX1_takes_62 : decode cX1_takes 62 = .ok (.iastore, 1) := dk_79 (dk_at dksX1_takes_2 17 rfl rfl)
theorem dX1_takes_63 : decode cX1_takes 63 = .ok (.return_, 1) := dk_177 (dk_at dksX1_takes_2 18 rfl rfl)
theorem q110 : (Jvm.Cond.initialized "PictureRing$State") ∈ lw_all := lw_g (lw_at lw_m1 2 rfl) rfl
theorem q156 : (Jvm.Cond.instantiable "PictureRing$State" (5 : Nat)) ∈ lw_all := lw_g (lw_at lw_m1 48 rfl) rfl
theorem q158 : (Jvm.Cond.instanceMethod ({ cls := "PictureRing$State", name := "<init>", desc := "()V" } : Jvm.MethodName)) ∈ lw_all := lw_g (lw_at lw_m1 50 rfl) rfl
theorem q159 : (Jvm.Cond.code ({ cls := "PictureRing$State", name := "<init>", desc := "()V" } : Jvm.MethodName) prog_14_method_1_code (1 : Nat) (Option.none : Option Jvm.ClassFile.FieldType)) ∈ lw_all := lw_g (lw_at lw_m1 51 rfl) rfl
theorem q160 : (Jvm.Cond.methodLink "PictureRing$State" (3 : Nat) ({ cls := "java/lang/Object", name := "<init>", desc := "()V" } : Jvm.MethodName)) ∈ lw_all := lw_g (lw_at lw_m1 52 rfl) rfl
theorem q161 : (Jvm.Cond.classLink "PictureRing$State" (9 : Nat) "PictureRing$Picture") ∈ lw_all := lw_g (lw_at lw_m1 53 rfl) rfl
theorem q163 : (Jvm.Cond.fieldLink "PictureRing$State" (21 : Nat) "PictureRing$State" "world" "[I") ∈ lw_all := lw_g (lw_at lw_m1 55 rfl) rfl
theorem q165 : (Jvm.Cond.fieldLink "PictureRing$State" (24 : Nat) "PictureRing$State" "round" "I") ∈ lw_all := lw_g (lw_at lw_m1 57 rfl) rfl
theorem q167 : (Jvm.Cond.fieldLink "PictureRing$State" (11 : Nat) "PictureRing$State" "pictures" "[LPictureRing$Picture;") ∈ lw_all := lw_g (lw_at lw_m1 59 rfl) rfl
theorem q170 : (Jvm.Cond.fieldLink "PictureRing$State" (34 : Nat) "PictureRing$State" "many" "I") ∈ lw_all := lw_g (lw_at lw_m1 62 rfl) rfl
theorem q173 : (Jvm.Cond.fieldLink "PictureRing$State" (17 : Nat) "PictureRing$State" "settings" "[I") ∈ lw_all := lw_g (lw_at lw_m1 65 rfl) rfl
theorem q176 : (Jvm.Cond.lays "PictureRing$State" "PictureRing$State" "world" "[I") ∈ lw_all := lw_g (lw_at lw_m1 68 rfl) rfl
theorem q177 : (Jvm.Cond.soleField "PictureRing$State" "world") ∈ lw_all := lw_g (lw_at lw_m1 69 rfl) rfl
theorem q178 : (Jvm.Cond.lays "PictureRing$State" "PictureRing$State" "round" "I") ∈ lw_all := lw_g (lw_at lw_m1 70 rfl) rfl
theorem q179 : (Jvm.Cond.soleField "PictureRing$State" "round") ∈ lw_all := lw_g (lw_at lw_m1 71 rfl) rfl
theorem q180 : (Jvm.Cond.laysFinal "PictureRing$State" "PictureRing$State" "pictures" "[LPictureRing$Picture;") ∈ lw_all := lw_g (lw_at lw_m1 72 rfl) rfl
theorem q181 : (Jvm.Cond.soleField "PictureRing$State" "pictures") ∈ lw_all := lw_g (lw_at lw_m1 73 rfl) rfl
theorem q182 : (Jvm.Cond.lays "PictureRing$State" "PictureRing$State" "many" "I") ∈ lw_all := lw_g (lw_at lw_m1 74 rfl) rfl
theorem q183 : (Jvm.Cond.soleField "PictureRing$State" "many") ∈ lw_all := lw_g (lw_at lw_m1 75 rfl) rfl
theorem q184 : (Jvm.Cond.laysFinal "PictureRing$State" "PictureRing$State" "settings" "[I") ∈ lw_all := lw_g (lw_at lw_m1 76 rfl) rfl
theorem q185 : (Jvm.Cond.soleField "PictureRing$State" "settings") ∈ lw_all := lw_g (lw_at lw_m1 77 rfl) rfl
theorem q186 : (Jvm.Cond.superclass "PictureRing$State" "java/lang/Object") ∈ lw_all := lw_g (lw_at lw_m1 78 rfl) rfl
theorem q479 : (Jvm.Cond.instanceMethod ({ cls := "PictureRing$State", name := "takes", desc := "(LPictureRing$State;)V" } : Jvm.MethodName)) ∈ lw_all := lw_g (lw_at lw_m2 131 rfl) rfl
theorem q480 : (Jvm.Cond.selects "PictureRing$State" ({ cls := "PictureRing$State", name := "takes", desc := "(LPictureRing$State;)V" } : Jvm.MethodName) ({ cls := "PictureRing$State", name := "takes", desc := "(LPictureRing$State;)V" } : Jvm.MethodName)) ∈ lw_all := lw_g (lw_at lw_m2 132 rfl) rfl
theorem q481 : (Jvm.Cond.code ({ cls := "PictureRing$State", name := "takes", desc := "(LPictureRing$State;)V" } : Jvm.MethodName) prog_14_method_2_code (2 : Nat) (Option.none : Option Jvm.ClassFile.FieldType)) ∈ lw_all := lw_g (lw_at lw_m2 133 rfl) rfl
theorem q482 : (Jvm.Cond.methodLink "PictureRing$State" (28 : Nat) ({ cls := "java/lang/System", name := "arraycopy", desc := "(Ljava/lang/Object;ILjava/lang/Object;II)V" } : Jvm.MethodName)) ∈ lw_all := lw_g (lw_at lw_m2 134 rfl) rfl
theorem q1187 : (Jvm.Cond.selects "PictureRing$State" ({ cls := "java/lang/Object", name := "getClass", desc := "()Ljava/lang/Class;" } : Jvm.MethodName) ({ cls := "java/lang/Object", name := "getClass", desc := "()Ljava/lang/Class;" } : Jvm.MethodName)) ∈ lw_all := lw_g (lw_at lw_m5 119 rfl) rfl
theorem q2065 : (Jvm.Cond.castable "PictureRing$State" "java/lang/Object") ∈ lw_tbl := lw_at lw_m9 37 rfl
theorem in_X1 : ∀ w ∈ wsX10, w ∈ lw_all := lw_in wsX10 [176, 178, 180, 182, 184] (by decide +kernel) (by decide +kernel)
/-! PictureRing$Joiner -/
set_option maxRecDepth 100000
def RX2 : String := "PictureRing$Joine\x72"
def TX2 : u_T := fun k => match k with
  | 0 => ("PictureRing$Joine\x72", "old", "Z", false)
  | 1 => ("PictureRing$Joine\x72", "corners", "[LPictureRing$Corners;", true)
  | 2 => ("PictureRing$Joine\x72", "queue", "Ljava/util/PriorityQueue;", true)
  | 3 => ("PictureRing$Joine\x72", "links", "[LPictureRing$Link;", true)
  | 4 => ("PictureRing$Joine\x72", "ahead", "[I", true)
  | 5 => ("PictureRing$Joine\x72", "taken", "I", false)
  | 6 => ("PictureRing$Joine\x72", "closed", "Z", false)
  | 7 => ("PictureRing$Joine\x72", "turn", "I", false)
  | 8 => ("PictureRing$Joine\x72", "drift", "I", false)
  | 9 => ("PictureRing$Joine\x72", "seams", "[[I", true)
  | 10 => ("PictureRing$Joine\x72", "levels", "[LPictureRing$Fraction;", true)
  | 11 => ("PictureRing$Joine\x72", "rest", "LPictureRing$Fraction;", false)
  | 12 => ("PictureRing$Joine\x72", "cells", "I", false)
  | 13 => ("PictureRing$Joine\x72", "unlike", "I", false)
  | 14 => ("PictureRing$Joine\x72", "more", "I", false)
  | _ => ("PictureRing$Joine\x72", "this$0", "LPictureRing;", true)
def tyX2 : Nat → FieldType := fun k => match k with
  | 0 => .boolean
  | 1 => .array (.object "PictureRing$Corners")
  | 2 => .object "java/util/PriorityQueue"
  | 3 => .array (.object "PictureRing$Link")
  | 4 => .array .int
  | 5 => .int
  | 6 => .boolean
  | 7 => .int
  | 8 => .int
  | 9 => .array (.array .int)
  | 10 => .array (.object "PictureRing$Fraction")
  | 11 => .object "PictureRing$Fraction"
  | 12 => .int
  | 13 => .int
  | 14 => .int
  | _ => .object "PictureRing"
abbrev wsX20 : List Cond := u_ws RX2 TX2 16
set_option maxRecDepth 100000 in
theorem nmX2 : ∀ a, a < 16 → ∀ b, b < 16 → a ≠ b → (TX2 a).2.1 ≠ (TX2 b).2.1 := by decide +kernel
set_option maxRecDepth 100000 in
theorem tyX2_ok : ∀ k, k < 16 → parseFieldDescriptor (TX2 k).2.2.1 = some (tyX2 k) := by decide +kernel
abbrev cX2_init : ByteArray := prog_8_method_1_code
def yX2_init : MethodName := ⟨RX2, "<init>", "(LPictureRing;)V"⟩
def dkwX2_init_3 : List UInt8 := [16, 6, 189, 0, 54, 181, 0, 56, 42, 187, 0, 54, 89, 183, 0, 60, 181, 0, 61, 177]
abbrev dktX2_init_3 : List UInt8 := dkwX2_init_3 ++ []
def dkwX2_init_2 : List UInt8 := [189, 0, 39, 181, 0, 41, 42, 16, 6, 188, 10, 181, 0, 45, 42, 16, 6, 189, 0, 49, 181, 0, 50, 42]
abbrev dktX2_init_2 : List UInt8 := dkwX2_init_2 ++ dktX2_init_3
def dkwX2_init_1 : List UInt8 := [187, 0, 27, 89, 16, 36, 187, 0, 29, 89, 183, 0, 31, 183, 0, 32, 181, 0, 35, 42, 16, 6]
abbrev dktX2_init_1 : List UInt8 := dkwX2_init_1 ++ dktX2_init_2
def dkwX2_init_0 : List UInt8 := [42, 43, 181, 0, 3, 42, 183, 0, 9, 42, 4, 181, 0, 15, 42, 16, 6, 184, 0, 19, 181, 0, 23, 42]
abbrev dktX2_init_0 : List UInt8 := dkwX2_init_0 ++ dktX2_init_1
theorem dksX2_init_0 : cX2_init.data.toList.drop 0 = dktX2_init_0 := by decide +kernel
theorem dksX2_init_1 : cX2_init.data.toList.drop 24 = dktX2_init_1 := dk_seg dksX2_init_0 24 rfl rfl
theorem dksX2_init_2 : cX2_init.data.toList.drop 46 = dktX2_init_2 := dk_seg dksX2_init_1 22 rfl rfl
theorem dksX2_init_3 : cX2_init.data.toList.drop 70 = dktX2_init_3 := dk_seg dksX2_init_2 24 rfl rfl
theorem dX2_init_0 : decode cX2_init 0 = .ok (.aload_n 0, 1) := dk_42 (dk_at dksX2_init_0 0 rfl rfl)
theorem dX2_init_1 : decode cX2_init 1 = .ok (.aload_n 1, 1) := dk_43 (dk_at dksX2_init_0 1 rfl rfl)
theorem dX2_init_2 : decode cX2_init 2 = .ok (.putfield 3, 3) := dk_181 0 3 (dk_at dksX2_init_0 2 rfl rfl)
theorem dX2_init_5 : decode cX2_init 5 = .ok (.aload_n 0, 1) := dk_42 (dk_at dksX2_init_0 5 rfl rfl)
theorem dX2_init_6 : decode cX2_init 6 = .ok (.invokespecial 9, 3) := dk_183 0 9 (dk_at dksX2_init_0 6 rfl rfl)
theorem dX2_init_9 : decode cX2_init 9 = .ok (.aload_n 0, 1) := dk_42 (dk_at dksX2_init_0 9 rfl rfl)
theorem dX2_init_10 : decode cX2_init 10 = .ok (.iconst 1, 1) := dk_4 (dk_at dksX2_init_0 10 rfl rfl)
theorem dX2_init_11 : decode cX2_init 11 = .ok (.putfield 15, 3) := dk_181 0 15 (dk_at dksX2_init_0 11 rfl rfl)
theorem dX2_init_14 : decode cX2_init 14 = .ok (.aload_n 0, 1) := dk_42 (dk_at dksX2_init_0 14 rfl rfl)
theorem dX2_init_15 : decode cX2_init 15 = .ok (.bipush 6, 2) := dk_16 6 (dk_at dksX2_init_0 15 rfl rfl)
theorem dX2_init_17 : decode cX2_init 17 = .ok (.invokestatic 19, 3) := dk_184 0 19 (dk_at dksX2_init_0 17 rfl rfl)
theorem dX2_init_20 : decode cX2_init 20 = .ok (.putfield 23, 3) := dk_181 0 23 (dk_at dksX2_init_0 20 rfl rfl)
theorem dX2_init_23 : decode cX2_init 23 = .ok (.aload_n 0, 1) := dk_42 (dk_at dksX2_init_0 23 rfl rfl)
theorem dX2_init_24 : decode cX2_init 24 = .ok (.new 27, 3) := dk_187 0 27 (dk_at dksX2_init_1 0 rfl rfl)
theorem dX2_init_27 : decode cX2_init 27 = .ok (.dup, 1) := dk_89 (dk_at dksX2_init_1 3 rfl rfl)
theorem dX2_init_28 : decode cX2_init 28 = .ok (.bipush 36, 2) := dk_16 36 (dk_at dksX2_init_1 4 rfl rfl)
theorem dX2_init_30 : decode cX2_init 30 = .ok (.new 29, 3) := dk_187 0 29 (dk_at dksX2_init_1 6 rfl rfl)
theorem dX2_init_33 : decode cX2_init 33 = .ok (.dup, 1) := dk_89 (dk_at dksX2_init_1 9 rfl rfl)
theorem dX2_init_34 : decode cX2_init 34 = .ok (.invokespecial 31, 3) := dk_183 0 31 (dk_at dksX2_init_1 10 rfl rfl)
theorem dX2_init_37 : decode cX2_init 37 = .ok (.invokespecial 32, 3) := dk_183 0 32 (dk_at dksX2_init_1 13 rfl rfl)
theorem dX2_init_40 : decode cX2_init 40 = .ok (.putfield 35, 3) := dk_181 0 35 (dk_at dksX2_init_1 16 rfl rfl)
theorem dX2_init_43 : decode cX2_init 43 = .ok (.aload_n 0, 1) := dk_42 (dk_at dksX2_init_1 19 rfl rfl)
theorem dX2_init_44 : decode cX2_init 44 = .ok (.bipush 6, 2) := dk_16 6 (dk_at dksX2_init_1 20 rfl rfl)
theorem dX2_init_46 : decode cX2_init 46 = .ok (.anewarray 39, 3) := dk_189 0 39 (dk_at dksX2_init_2 0 rfl rfl)
theorem dX2_init_49 : decode cX2_init 49 = .ok (.putfield 41, 3) := dk_181 0 41 (dk_at dksX2_init_2 3 rfl rfl)
theorem dX2_init_52 : decode cX2_init 52 = .ok (.aload_n 0, 1) := dk_42 (dk_at dksX2_init_2 6 rfl rfl)
theorem dX2_init_53 : decode cX2_init 53 = .ok (.bipush 6, 2) := dk_16 6 (dk_at dksX2_init_2 7 rfl rfl)
theorem dX2_init_55 : decode cX2_init 55 = .ok (.newarray .int, 2) := dk_188_10 (dk_at dksX2_init_2 9 rfl rfl)
theorem dX2_init_57 : decode cX2_init 57 = .ok (.putfield 45, 3) := dk_181 0 45 (dk_at dksX2_init_2 11 rfl rfl)
theorem dX2_init_60 : decode cX2_init 60 = .ok (.aload_n 0, 1) := dk_42 (dk_at dksX2_init_2 14 rfl rfl)
theorem dX2_init_61 : decode cX2_init 61 = .ok (.bipush 6, 2) := dk_16 6 (dk_at dksX2_init_2 15 rfl rfl)
theorem dX2_init_63 : decode cX2_init 63 = .ok (.anewarray 49, 3) := dk_189 0 49 (dk_at dksX2_init_2 17 rfl rfl)
theorem dX2_init_66 : decode cX2_init 66 = .ok (.putfield 50, 3) := dk_181 0 50 (dk_at dksX2_init_2 20 rfl rfl)
theorem dX2_init_69 : decode cX2_init 69 = .ok (.aload_n 0, 1) := dk_42 (dk_at dksX2_init_2 23 rfl rfl)
theorem dX2_init_70 : decode cX2_init 70 = .ok (.bipush 6, 2) := dk_16 6 (dk_at dksX2_init_3 0 rfl rfl)
theorem dX2_init_72 : decode cX2_init 72 = .ok (.anewarray 54, 3) := dk_189 0 54 (dk_at dksX2_init_3 2 rfl rfl)
theorem dX2_init_75 : decode cX2_init 75 = .ok (.putfield 56, 3) := dk_181 0 56 (dk_at dksX2_init_3 5 rfl rfl)
theorem dX2_init_78 : decode cX2_init 78 = .ok (.aload_n 0, 1) := dk_42 (dk_at dksX2_init_3 8 rfl rfl)
theorem dX2_init_79 : decode cX2_init 79 = .ok (.new 54, 3) := dk_187 0 54 (dk_at dksX2_init_3 9 rfl rfl)
theorem dX2_init_82 : decode cX2_init 82 = .ok (.dup, 1) := dk_89 (dk_at dksX2_init_3 12 rfl rfl)
theorem dX2_init_83 : decode cX2_init 83 = .ok (.invokespecial 60, 3) := dk_183 0 60 (dk_at dksX2_init_3 13 rfl rfl)
theorem dX2_init_86 : decode cX2_init 86 = .ok (.putfield 61, 3) := dk_181 0 61 (dk_at dksX2_init_3 16 rfl rfl)
theorem dX2_init_89 : decode cX2_init 89 = .ok (.return_, 1) := dk_177 (dk_at dksX2_init_3 19 rfl rfl)
abbrev cX2_change : ByteArray := prog_8_method_2_code
def yX2_change : MethodName := ⟨RX2, "change", "(LPictureRing$Picture;II)I"⟩
def dkwX2_change_2 : List UInt8 := [184, 0, 76, 54, 4, 132, 7, 1, 167, 255, 222, 21, 4, 172]
abbrev dktX2_change_2 : List UInt8 := dkwX2_change_2 ++ []
def dkwX2_change_1 : List UInt8 := [21, 6, 162, 0, 33, 25, 5, 21, 7, 50, 58, 8, 21, 4, 25, 8, 43, 28, 29, 185, 0, 70, 4, 0]
abbrev dktX2_change_1 : List UInt8 := dkwX2_change_1 ++ dktX2_change_2
def dkwX2_change_0 : List UInt8 := [18, 65, 54, 4, 42, 180, 0, 3, 180, 0, 66, 58, 5, 25, 5, 190, 54, 6, 3, 54, 7, 21, 7]
abbrev dktX2_change_0 : List UInt8 := dkwX2_change_0 ++ dktX2_change_1
theorem dksX2_change_0 : cX2_change.data.toList.drop 0 = dktX2_change_0 := by decide +kernel
theorem dksX2_change_1 : cX2_change.data.toList.drop 23 = dktX2_change_1 := dk_seg dksX2_change_0 23 rfl rfl
theorem dksX2_change_2 : cX2_change.data.toList.drop 47 = dktX2_change_2 := dk_seg dksX2_change_1 24 rfl rfl
theorem dX2_change_0 : decode cX2_change 0 = .ok (.ldc 65, 2) := dk_18 65 (dk_at dksX2_change_0 0 rfl rfl)
theorem dX2_change_2 : decode cX2_change 2 = .ok (.istore 4, 2) := dk_54 4 (dk_at dksX2_change_0 2 rfl rfl)
theorem dX2_change_4 : decode cX2_change 4 = .ok (.aload_n 0, 1) := dk_42 (dk_at dksX2_change_0 4 rfl rfl)
theorem dX2_change_5 : decode cX2_change 5 = .ok (.getfield 3, 3) := dk_180 0 3 (dk_at dksX2_change_0 5 rfl rfl)
theorem dX2_change_8 : decode cX2_change 8 = .ok (.getfield 66, 3) := dk_180 0 66 (dk_at dksX2_change_0 8 rfl rfl)
theorem dX2_change_11 : decode cX2_change 11 = .ok (.astore 5, 2) := dk_58 5 (dk_at dksX2_change_0 11 rfl rfl)
theorem dX2_change_13 : decode cX2_change 13 = .ok (.aload 5, 2) := dk_25 5 (dk_at dksX2_change_0 13 rfl rfl)
theorem dX2_change_15 : decode cX2_change 15 = .ok (.arraylength, 1) := dk_190 (dk_at dksX2_change_0 15 rfl rfl)
theorem dX2_change_16 : decode cX2_change 16 = .ok (.istore 6, 2) := dk_54 6 (dk_at dksX2_change_0 16 rfl rfl)
theorem dX2_change_18 : decode cX2_change 18 = .ok (.iconst 0, 1) := dk_3 (dk_at dksX2_change_0 18 rfl rfl)
theorem dX2_change_19 : decode cX2_change 19 = .ok (.istore 7, 2) := dk_54 7 (dk_at dksX2_change_0 19 rfl rfl)
theorem dX2_change_21 : decode cX2_change 21 = .ok (.iload 7, 2) := dk_21 7 (dk_at dksX2_change_0 21 rfl rfl)
theorem dX2_change_23 : decode cX2_change 23 = .ok (.iload 6, 2) := dk_21 6 (dk_at dksX2_change_1 0 rfl rfl)
theorem dX2_change_25 : decode cX2_change 25 = .ok (.if_icmp .ge 33, 3) := dk_162 0 33 (dk_at dksX2_change_1 2 rfl rfl)
theorem dX2_change_28 : decode cX2_change 28 = .ok (.aload 5, 2) := dk_25 5 (dk_at dksX2_change_1 5 rfl rfl)
theorem dX2_change_30 : decode cX2_change 30 = .ok (.iload 7, 2) := dk_21 7 (dk_at dksX2_change_1 7 rfl rfl)
theorem dX2_change_32 : decode cX2_change 32 = .ok (.aaload, 1) := dk_50 (dk_at dksX2_change_1 9 rfl rfl)
theorem dX2_change_33 : decode cX2_change 33 = .ok (.astore 8, 2) := dk_58 8 (dk_at dksX2_change_1 10 rfl rfl)
theorem dX2_change_35 : decode cX2_change 35 = .ok (.iload 4, 2) := dk_21 4 (dk_at dksX2_change_1 12 rfl rfl)
theorem dX2_change_37 : decode cX2_change 37 = .ok (.aload 8, 2) := dk_25 8 (dk_at dksX2_change_1 14 rfl rfl)
theorem dX2_change_39 : decode cX2_change 39 = .ok (.aload_n 1, 1) := dk_43 (dk_at dksX2_change_1 16 rfl rfl)
theorem dX2_change_40 : decode cX2_change 40 = .ok (.iload_n 2, 1) := dk_28 (dk_at dksX2_change_1 17 rfl rfl)
theorem dX2_change_41 : decode cX2_change 41 = .ok (.iload_n 3, 1) := dk_29 (dk_at dksX2_change_1 18 rfl rfl)
theorem dX2_change_42 : decode cX2_change 42 = .ok (.invokeinterface 70 4, 5) := by decide +kernel
theorem dX2_change_47 : decode cX2_change 47 = .ok (.invokestatic 76, 3) := dk_184 0 76 (dk_at dksX2_change_2 0 rfl rfl)
theorem dX2_change_50 : decode cX2_change 50 = .ok (.istore 4, 2) := dk_54 4 (dk_at dksX2_change_2 3 rfl rfl)
theorem dX2_change_52 : decode cX2_change 52 = .ok (.iinc 7 1, 3) := dk_132 7 1 (dk_at dksX2_change_2 5 rfl rfl)
theorem dX2_change_55 : decode cX2_change 55 = .ok (.goto (-34), 3) := dk_167 255 222 (dk_at dksX2_change_2 8 rfl rfl)
theorem dX2_change_58 : decode cX2_change 58 = .ok (.iload 4, 2) := dk_21 4 (dk_at dksX2_change_2 11 rfl rfl)
theorem dX2_change_60 : decode cX2_change 60 = .ok (.ireturn, 1) := dk_172 (dk_at dksX2_change_2 13 rfl rfl)
abbrev cX2_finds : ByteArray := prog_8_method_16_code
def yX2_finds : MethodName := ⟨RX2, "finds", "()V"⟩
def dkwX2_finds_3 : List UInt8 := [182, 1, 58, 83, 132, 1, 1, 167, 255, 218, 42, 182, 1, 62, 42, 3, 181, 0, 15, 177]
abbrev dktX2_finds_3 : List UInt8 := dkwX2_finds_3 ++ []
def dkwX2_finds_2 : List UInt8 := [180, 0, 50, 27, 42, 180, 0, 41, 27, 50, 199, 0, 7, 1, 167, 0, 13, 42, 42, 180, 0, 41, 27, 50]
abbrev dktX2_finds_2 : List UInt8 := dkwX2_finds_2 ++ dktX2_finds_3
def dkwX2_finds_1 : List UInt8 := [42, 27, 182, 1, 51, 132, 1, 1, 167, 255, 234, 42, 182, 1, 55, 3, 60, 27, 16, 6, 162, 0, 38, 42]
abbrev dktX2_finds_1 : List UInt8 := dkwX2_finds_1 ++ dktX2_finds_2
def dkwX2_finds_0 : List UInt8 := [42, 180, 0, 15, 154, 0, 4, 177, 3, 60, 27, 42, 180, 0, 3, 180, 0, 82, 180, 0, 206, 162, 0, 14]
abbrev dktX2_finds_0 : List UInt8 := dkwX2_finds_0 ++ dktX2_finds_1
theorem dksX2_finds_0 : cX2_finds.data.toList.drop 0 = dktX2_finds_0 := by decide +kernel
theorem dksX2_finds_1 : cX2_finds.data.toList.drop 24 = dktX2_finds_1 := dk_seg dksX2_finds_0 24 rfl rfl
theorem dksX2_finds_2 : cX2_finds.data.toList.drop 48 = dktX2_finds_2 := dk_seg dksX2_finds_1 24 rfl rfl
theorem dksX2_finds_3 : cX2_finds.data.toList.drop 72 = dktX2_finds_3 := dk_seg dksX2_finds_2 24 rfl rfl
theorem dX2_finds_0 : decode cX2_finds 0 = .ok (.aload_n 0, 1) := dk_42 (dk_at dksX2_finds_0 0 rfl rfl)
theorem dX2_finds_1 : decode cX2_finds 1 = .ok (.getfield 15, 3) := dk_180 0 15 (dk_at dksX2_finds_0 1 rfl rfl)
theorem dX2_finds_4 : decode cX2_finds 4 = .ok (.ifCond .ne 4, 3) := dk_154 0 4 (dk_at dksX2_finds_0 4 rfl rfl)
theorem dX2_finds_7 : decode cX2_finds 7 = .ok (.return_, 1) := dk_177 (dk_at dksX2_finds_0 7 rfl rfl)
theorem dX2_finds_8 : decode cX2_finds 8 = .ok (.iconst 0, 1) := dk_3 (dk_at dksX2_finds_0 8 rfl rfl)
theorem dX2_finds_9 : decode cX2_finds 9 = .ok (.istore_n 1, 1) := dk_60 (dk_at dksX2_finds_0 9 rfl rfl)
theorem dX2_finds_10 : decode cX2_finds 10 = .ok (.iload_n 1, 1) := dk_27 (dk_at dksX2_finds_0 10 rfl rfl)
theorem dX2_finds_11 : decode cX2_finds 11 = .ok (.aload_n 0, 1) := dk_42 (dk_at dksX2_finds_0 11 rfl rfl)
theorem dX2_finds_12 : decode cX2_finds 12 = .ok (.getfield 3, 3) := dk_180 0 3 (dk_at dksX2_finds_0 12 rfl rfl)
theorem dX2_finds_15 : decode cX2_finds 15 = .ok (.getfield 82, 3) := dk_180 0 82 (dk_at dksX2_finds_0 15 rfl rfl)
theorem dX2_finds_18 : decode cX2_finds 18 = .ok (.getfield 206, 3) := dk_180 0 206 (dk_at dksX2_finds_0 18 rfl rfl)
theorem dX2_finds_21 : decode cX2_finds 21 = .ok (.if_icmp .ge 14, 3) := dk_162 0 14 (dk_at dksX2_finds_0 21 rfl rfl)
theorem dX2_finds_24 : decode cX2_finds 24 = .ok (.aload_n 0, 1) := dk_42 (dk_at dksX2_finds_1 0 rfl rfl)
theorem dX2_finds_25 : decode cX2_finds 25 = .ok (.iload_n 1, 1) := dk_27 (dk_at dksX2_finds_1 1 rfl rfl)
theorem dX2_finds_26 : decode cX2_finds 26 = .ok (.invokevirtual 307, 3) := dk_182 1 51 (dk_at dksX2_finds_1 2 rfl rfl)
theorem dX2_finds_29 : decode cX2_finds 29 = .ok (.iinc 1 1, 3) := dk_132 1 1 (dk_at dksX2_finds_1 5 rfl rfl)
theorem dX2_finds_32 : decode cX2_finds 32 = .ok (.goto (-22), 3) := dk_167 255 234 (dk_at dksX2_finds_1 8 rfl rfl)
theorem dX2_finds_35 : decode cX2_finds 35 = .ok (.aload_n 0, 1) := dk_42 (dk_at dksX2_finds_1 11 rfl rfl)
theorem dX2_finds_36 : decode cX2_finds 36 = .ok (.invokevirtual 311, 3) := dk_182 1 55 (dk_at dksX2_finds_1 12 rfl rfl)
theorem dX2_finds_39 : decode cX2_finds 39 = .ok (.iconst 0, 1) := dk_3 (dk_at dksX2_finds_1 15 rfl rfl)
theorem dX2_finds_40 : decode cX2_finds 40 = .ok (.istore_n 1, 1) := dk_60 (dk_at dksX2_finds_1 16 rfl rfl)
theorem dX2_finds_41 : decode cX2_finds 41 = .ok (.iload_n 1, 1) := dk_27 (dk_at dksX2_finds_1 17 rfl rfl)
theorem dX2_finds_42 : decode cX2_finds 42 = .ok (.bipush 6, 2) := dk_16 6 (dk_at dksX2_finds_1 18 rfl rfl)
theorem dX2_finds_44 : decode cX2_finds 44 = .ok (.if_icmp .ge 38, 3) := dk_162 0 38 (dk_at dksX2_finds_1 20 rfl rfl)
theorem dX2_finds_47 : decode cX2_finds 47 = .ok (.aload_n 0, 1) := dk_42 (dk_at dksX2_finds_1 23 rfl rfl)
theorem dX2_finds_48 : decode cX2_finds 48 = .ok (.getfield 50, 3) := dk_180 0 50 (dk_at dksX2_finds_2 0 rfl rfl)
theorem dX2_finds_51 : decode cX2_finds 51 = .ok (.iload_n 1, 1) := dk_27 (dk_at dksX2_finds_2 3 rfl rfl)
theorem dX2_finds_52 : decode cX2_finds 52 = .ok (.aload_n 0, 1) := dk_42 (dk_at dksX2_finds_2 4 rfl rfl)
theorem dX2_finds_53 : decode cX2_finds 53 = .ok (.getfield 41, 3) := dk_180 0 41 (dk_at dksX2_finds_2 5 rfl rfl)
theorem dX2_finds_56 : decode cX2_finds 56 = .ok (.iload_n 1, 1) := dk_27 (dk_at dksX2_finds_2 8 rfl rfl)
theorem dX2_finds_57 : decode cX2_finds 57 = .ok (.aaload, 1) := dk_50 (dk_at dksX2_finds_2 9 rfl rfl)
theorem dX2_finds_58 : decode cX2_finds 58 = .ok (.ifnonnull 7, 3) := dk_199 0 7 (dk_at dksX2_finds_2 10 rfl rfl)
theorem dX2_finds_61 : decode cX2_finds 61 = .ok (.aconst_null, 1) := dk_1 (dk_at dksX2_finds_2 13 rfl rfl)
theorem dX2_finds_62 : decode cX2_finds 62 = .ok (.goto 13, 3) := dk_167 0 13 (dk_at dksX2_finds_2 14 rfl rfl)
theorem dX2_finds_65 : decode cX2_finds 65 = .ok (.aload_n 0, 1) := dk_42 (dk_at dksX2_finds_2 17 rfl rfl)
theorem dX2_finds_66 : decode cX2_finds 66 = .ok (.aload_n 0, 1) := dk_42 (dk_at dksX2_finds_2 18 rfl rfl)
theorem dX2_finds_67 : decode cX2_finds 67 = .ok (.getfield 41, 3) := dk_180 0 41 (dk_at dksX2_finds_2 19 rfl rfl)
theorem dX2_finds_70 : decode cX2_finds 70 = .ok (.iload_n 1, 1) := dk_27 (dk_at dksX2_finds_2 22 rfl rfl)
theorem dX2_finds_71 : decode cX2_finds 71 = .ok (.aaload, 1) := dk_50 (dk_at dksX2_finds_2 23 rfl rfl)
theorem dX2_finds_72 : decode cX2_finds 72 = .ok (.invokevirtual 314, 3) := dk_182 1 58 (dk_at dksX2_finds_3 0 rfl rfl)
theorem dX2_finds_75 : decode cX2_finds 75 = .ok (.aastore, 1) := dk_83 (dk_at dksX2_finds_3 3 rfl rfl)
theorem dX2_finds_76 : decode cX2_finds 76 = .ok (.iinc 1 1, 3) := dk_132 1 1 (dk_at dksX2_finds_3 4 rfl rfl)
theorem dX2_finds_79 : decode cX2_finds 79 = .ok (.goto (-38), 3) := dk_167 255 218 (dk_at dksX2_finds_3 7 rfl rfl)
theorem dX2_finds_82 : decode cX2_finds 82 = .ok (.aload_n 0, 1) := dk_42 (dk_at dksX2_finds_3 10 rfl rfl)
theorem dX2_finds_83 : decode cX2_finds 83 = .ok (.invokevirtual 318, 3) := dk_182 1 62 (dk_at dksX2_finds_3 11 rfl rfl)
theorem dX2_finds_86 : decode cX2_finds 86 = .ok (.aload_n 0, 1) := dk_42 (dk_at dksX2_finds_3 14 rfl rfl)
theorem dX2_finds_87 : decode cX2_finds 87 = .ok (.iconst 0, 1) := dk_3 (dk_at dksX2_finds_3 15 rfl rfl)
theorem dX2_finds_88 : decode cX2_finds 88 = .ok (.putfield 15, 3) := dk_181 0 15 (dk_at dksX2_finds_3 16 rfl rfl)
theorem dX2_finds_91 : decode cX2_finds 91 = .ok (.return_, 1) := dk_177 (dk_at dksX2_finds_3 19 rfl rfl)
abbrev cX2_findCorners : ByteArray := prog_8_method_3_code
def yX2_findCorners : MethodName := ⟨RX2, "findCorners", "(I)V"⟩
def dkwX2_findCorners_4 : List UInt8 := [182, 0, 119, 87, 132, 4, 1, 167, 255, 193, 132, 3, 1, 167, 255, 179, 177]
abbrev dktX2_findCorners_4 : List UInt8 := dkwX2_findCorners_4 ++ []
def dkwX2_findCorners_3 : List UInt8 := [27, 50, 180, 0, 92, 187, 0, 109, 89, 29, 21, 4, 44, 29, 21, 4, 182, 0, 111, 183, 0, 116]
abbrev dktX2_findCorners_3 : List UInt8 := dkwX2_findCorners_3 ++ dktX2_findCorners_4
def dkwX2_findCorners_2 : List UInt8 := [21, 4, 182, 0, 103, 42, 180, 0, 3, 180, 0, 82, 180, 0, 106, 3, 46, 161, 0, 33, 42, 180, 0, 23]
abbrev dktX2_findCorners_2 : List UInt8 := dkwX2_findCorners_2 ++ dktX2_findCorners_3
def dkwX2_findCorners_1 : List UInt8 := [182, 0, 98, 4, 62, 29, 6, 162, 0, 78, 4, 54, 4, 21, 4, 16, 7, 162, 0, 62, 42, 44, 29]
abbrev dktX2_findCorners_1 : List UInt8 := dkwX2_findCorners_1 ++ dktX2_findCorners_2
def dkwX2_findCorners_0 : List UInt8 := [42, 180, 0, 3, 180, 0, 82, 180, 0, 86, 27, 50, 77, 42, 180, 0, 23, 27, 50, 180, 0, 92]
abbrev dktX2_findCorners_0 : List UInt8 := dkwX2_findCorners_0 ++ dktX2_findCorners_1
theorem dksX2_findCorners_0 : cX2_findCorners.data.toList.drop 0 = dktX2_findCorners_0 := by decide +kernel
theorem dksX2_findCorners_1 : cX2_findCorners.data.toList.drop 22 = dktX2_findCorners_1 := dk_seg dksX2_findCorners_0 22 rfl rfl
theorem dksX2_findCorners_2 : cX2_findCorners.data.toList.drop 45 = dktX2_findCorners_2 := dk_seg dksX2_findCorners_1 23 rfl rfl
theorem dksX2_findCorners_3 : cX2_findCorners.data.toList.drop 69 = dktX2_findCorners_3 := dk_seg dksX2_findCorners_2 24 rfl rfl
theorem dksX2_findCorners_4 : cX2_findCorners.data.toList.drop 91 = dktX2_findCorners_4 := dk_seg dksX2_findCorners_3 22 rfl rfl
theorem dX2_findCorners_0 : decode cX2_findCorners 0 = .ok (.aload_n 0, 1) := dk_42 (dk_at dksX2_findCorners_0 0 rfl rfl)
theorem dX2_findCorners_1 : decode cX2_findCorners 1 = .ok (.getfield 3, 3) := dk_180 0 3 (dk_at dksX2_findCorners_0 1 rfl rfl)
theorem dX2_findCorners_4 : decode cX2_findCorners 4 = .ok (.getfield 82, 3) := dk_180 0 82 (dk_at dksX2_findCorners_0 4 rfl rfl)
theorem dX2_findCorners_7 : decode cX2_findCorners 7 = .ok (.getfield 86, 3) := dk_180 0 86 (dk_at dksX2_findCorners_0 7 rfl rfl)
theorem dX2_findCorners_10 : decode cX2_findCorners 10 = .ok (.iload_n 1, 1) := dk_27 (dk_at dksX2_findCorners_0 10 rfl rfl)
theorem dX2_findCorners_11 : decode cX2_findCorners 11 = .ok (.aaload, 1) := dk_50 (dk_at dksX2_findCorners_0 11 rfl rfl)
theorem dX2_findCorners_12 : decode cX2_findCorners 12 = .ok (.astore_n 2, 1) := dk_77 (dk_at dksX2_findCorners_0 12 rfl rfl)
theorem dX2_findCorners_13 : decode cX2_findCorners 13 = .ok (.aload_n 0, 1) := dk_42 (dk_at dksX2_findCorners_0 13 rfl rfl)
theorem dX2_findCorners_14 : decode cX2_findCorners 14 = .ok (.getfield 23, 3) := dk_180 0 23 (dk_at dksX2_findCorners_0 14 rfl rfl)
theorem dX2_findCorners_17 : decode cX2_findCorners 17 = .ok (.iload_n 1, 1) := dk_27 (dk_at dksX2_findCorners_0 17 rfl rfl)
theorem dX2_findCorners_18 : decode cX2_findCorners 18 = .ok (.aaload, 1) := dk_50 (dk_at dksX2_findCorners_0 18 rfl rfl)
theorem dX2_findCorners_19 : decode cX2_findCorners 19 = .ok (.getfield 92, 3) := dk_180 0 92 (dk_at dksX2_findCorners_0 19 rfl rfl)
theorem dX2_findCorners_22 : decode cX2_findCorners 22 = .ok (.invokevirtual 98, 3) := dk_182 0 98 (dk_at dksX2_findCorners_1 0 rfl rfl)
theorem dX2_findCorners_25 : decode cX2_findCorners 25 = .ok (.iconst 1, 1) := dk_4 (dk_at dksX2_findCorners_1 3 rfl rfl)
theorem dX2_findCorners_26 : decode cX2_findCorners 26 = .ok (.istore_n 3, 1) := dk_62 (dk_at dksX2_findCorners_1 4 rfl rfl)
theorem dX2_findCorners_27 : decode cX2_findCorners 27 = .ok (.iload_n 3, 1) := dk_29 (dk_at dksX2_findCorners_1 5 rfl rfl)
theorem dX2_findCorners_28 : decode cX2_findCorners 28 = .ok (.iconst 3, 1) := dk_6 (dk_at dksX2_findCorners_1 6 rfl rfl)
theorem dX2_findCorners_29 : decode cX2_findCorners 29 = .ok (.if_icmp .ge 78, 3) := dk_162 0 78 (dk_at dksX2_findCorners_1 7 rfl rfl)
theorem dX2_findCorners_32 : decode cX2_findCorners 32 = .ok (.iconst 1, 1) := dk_4 (dk_at dksX2_findCorners_1 10 rfl rfl)
theorem dX2_findCorners_33 : decode cX2_findCorners 33 = .ok (.istore 4, 2) := dk_54 4 (dk_at dksX2_findCorners_1 11 rfl rfl)
theorem dX2_findCorners_35 : decode cX2_findCorners 35 = .ok (.iload 4, 2) := dk_21 4 (dk_at dksX2_findCorners_1 13 rfl rfl)
theorem dX2_findCorners_37 : decode cX2_findCorners 37 = .ok (.bipush 7, 2) := dk_16 7 (dk_at dksX2_findCorners_1 15 rfl rfl)
theorem dX2_findCorners_39 : decode cX2_findCorners 39 = .ok (.if_icmp .ge 62, 3) := dk_162 0 62 (dk_at dksX2_findCorners_1 17 rfl rfl)
theorem dX2_findCorners_42 : decode cX2_findCorners 42 = .ok (.aload_n 0, 1) := dk_42 (dk_at dksX2_findCorners_1 20 rfl rfl)
theorem dX2_findCorners_43 : decode cX2_findCorners 43 = .ok (.aload_n 2, 1) := dk_44 (dk_at dksX2_findCorners_1 21 rfl rfl)
theorem dX2_findCorners_44 : decode cX2_findCorners 44 = .ok (.iload_n 3, 1) := dk_29 (dk_at dksX2_findCorners_1 22 rfl rfl)
theorem dX2_findCorners_45 : decode cX2_findCorners 45 = .ok (.iload 4, 2) := dk_21 4 (dk_at dksX2_findCorners_2 0 rfl rfl)
theorem dX2_findCorners_47 : decode cX2_findCorners 47 = .ok (.invokevirtual 103, 3) := dk_182 0 103 (dk_at dksX2_findCorners_2 2 rfl rfl)
theorem dX2_findCorners_50 : decode cX2_findCorners 50 = .ok (.aload_n 0, 1) := dk_42 (dk_at dksX2_findCorners_2 5 rfl rfl)
theorem dX2_findCorners_51 : decode cX2_findCorners 51 = .ok (.getfield 3, 3) := dk_180 0 3 (dk_at dksX2_findCorners_2 6 rfl rfl)
theorem dX2_findCorners_54 : decode cX2_findCorners 54 = .ok (.getfield 82, 3) := dk_180 0 82 (dk_at dksX2_findCorners_2 9 rfl rfl)
theorem dX2_findCorners_57 : decode cX2_findCorners 57 = .ok (.getfield 106, 3) := dk_180 0 106 (dk_at dksX2_findCorners_2 12 rfl rfl)
theorem dX2_findCorners_60 : decode cX2_findCorners 60 = .ok (.iconst 0, 1) := dk_3 (dk_at dksX2_findCorners_2 15 rfl rfl)
theorem dX2_findCorners_61 : decode cX2_findCorners 61 = .ok (.iaload, 1) := dk_46 (dk_at dksX2_findCorners_2 16 rfl rfl)
theorem dX2_findCorners_62 : decode cX2_findCorners 62 = .ok (.if_icmp .lt 33, 3) := dk_161 0 33 (dk_at dksX2_findCorners_2 17 rfl rfl)
theorem dX2_findCorners_65 : decode cX2_findCorners 65 = .ok (.aload_n 0, 1) := dk_42 (dk_at dksX2_findCorners_2 20 rfl rfl)
theorem dX2_findCorners_66 : decode cX2_findCorners 66 = .ok (.getfield 23, 3) := dk_180 0 23 (dk_at dksX2_findCorners_2 21 rfl rfl)
theorem dX2_findCorners_69 : decode cX2_findCorners 69 = .ok (.iload_n 1, 1) := dk_27 (dk_at dksX2_findCorners_3 0 rfl rfl)
theorem dX2_findCorners_70 : decode cX2_findCorners 70 = .ok (.aaload, 1) := dk_50 (dk_at dksX2_findCorners_3 1 rfl rfl)
theorem dX2_findCorners_71 : decode cX2_findCorners 71 = .ok (.getfield 92, 3) := dk_180 0 92 (dk_at dksX2_findCorners_3 2 rfl rfl)
theorem dX2_findCorners_74 : decode cX2_findCorners 74 = .ok (.new 109, 3) := dk_187 0 109 (dk_at dksX2_findCorners_3 5 rfl rfl)
theorem dX2_findCorners_77 : decode cX2_findCorners 77 = .ok (.dup, 1) := dk_89 (dk_at dksX2_findCorners_3 8 rfl rfl)
theorem dX2_findCorners_78 : decode cX2_findCorners 78 = .ok (.iload_n 3, 1) := dk_29 (dk_at dksX2_findCorners_3 9 rfl rfl)
theorem dX2_findCorners_79 : decode cX2_findCorners 79 = .ok (.iload 4, 2) := dk_21 4 (dk_at dksX2_findCorners_3 10 rfl rfl)
theorem dX2_findCorners_81 : decode cX2_findCorners 81 = .ok (.aload_n 2, 1) := dk_44 (dk_at dksX2_findCorners_3 12 rfl rfl)
theorem dX2_findCorners_82 : decode cX2_findCorners 82 = .ok (.iload_n 3, 1) := dk_29 (dk_at dksX2_findCorners_3 13 rfl rfl)
theorem dX2_findCorners_83 : decode cX2_findCorners 83 = .ok (.iload 4, 2) := dk_21 4 (dk_at dksX2_findCorners_3 14 rfl rfl)
theorem dX2_findCorners_85 : decode cX2_findCorners 85 = .ok (.invokevirtual 111, 3) := dk_182 0 111 (dk_at dksX2_findCorners_3 16 rfl rfl)
theorem dX2_findCorners_88 : decode cX2_findCorners 88 = .ok (.invokespecial 116, 3) := dk_183 0 116 (dk_at dksX2_findCorners_3 19 rfl rfl)
theorem dX2_findCorners_91 : decode cX2_findCorners 91 = .ok (.invokevirtual 119, 3) := dk_182 0 119 (dk_at dksX2_findCorners_4 0 rfl rfl)
theorem dX2_findCorners_94 : decode cX2_findCorners 94 = .ok (.pop, 1) := dk_87 (dk_at dksX2_findCorners_4 3 rfl rfl)
theorem dX2_findCorners_95 : decode cX2_findCorners 95 = .ok (.iinc 4 1, 3) := dk_132 4 1 (dk_at dksX2_findCorners_4 4 rfl rfl)
theorem dX2_findCorners_98 : decode cX2_findCorners 98 = .ok (.goto (-63), 3) := dk_167 255 193 (dk_at dksX2_findCorners_4 7 rfl rfl)
theorem dX2_findCorners_101 : decode cX2_findCorners 101 = .ok (.iinc 3 1, 3) := dk_132 3 1 (dk_at dksX2_findCorners_4 10 rfl rfl)
theorem dX2_findCorners_104 : decode cX2_findCorners 104 = .ok (.goto (-77), 3) := dk_167 255 179 (dk_at dksX2_findCorners_4 13 rfl rfl)
theorem dX2_findCorners_107 : decode cX2_findCorners 107 = .ok (.return_, 1) := dk_177 (dk_at dksX2_findCorners_4 16 rfl rfl)
abbrev cX2_findChain : ByteArray := prog_8_method_8_code
def yX2_findChain : MethodName := ⟨RX2, "findChain", "()V"⟩
def dkwX2_findChain_9 : List UInt8 := [177]
abbrev dktX2_findChain_9 : List UInt8 := dkwX2_findChain_9 ++ []
def dkwX2_findChain_8 : List UInt8 := [180, 0, 209, 42, 180, 0, 3, 180, 0, 82, 180, 0, 206, 160, 0, 7, 4, 167, 0, 4, 3, 181, 0, 244]
abbrev dktX2_findChain_8 : List UInt8 := dkwX2_findChain_8 ++ dktX2_findChain_9
def dkwX2_findChain_7 : List UInt8 := [182, 0, 240, 167, 255, 232, 42, 42, 180, 0, 3, 180, 0, 82, 180, 0, 206, 4, 164, 0, 24, 42]
abbrev dktX2_findChain_7 : List UInt8 := dkwX2_findChain_7 ++ dktX2_findChain_8
def dkwX2_findChain_6 : List UInt8 := [167, 255, 170, 42, 180, 0, 35, 182, 0, 234, 154, 0, 20, 42, 42, 180, 0, 35, 182, 0, 237, 192, 0, 39]
abbrev dktX2_findChain_6 : List UInt8 := dkwX2_findChain_6 ++ dktX2_findChain_7
def dkwX2_findChain_5 : List UInt8 := [182, 0, 229, 58, 4, 25, 4, 198, 0, 13, 42, 180, 0, 35, 25, 4, 182, 0, 233, 87, 132, 1, 1]
abbrev dktX2_findChain_5 : List UInt8 := dkwX2_findChain_5 ++ dktX2_findChain_6
def dkwX2_findChain_4 : List UInt8 := [180, 0, 3, 180, 0, 82, 180, 0, 206, 112, 62, 28, 29, 160, 0, 7, 1, 167, 0, 9, 42, 28, 29]
abbrev dktX2_findChain_4 : List UInt8 := dkwX2_findChain_4 ++ dktX2_findChain_5
def dkwX2_findChain_3 : List UInt8 := [180, 0, 206, 104, 162, 0, 67, 27, 42, 180, 0, 3, 180, 0, 82, 180, 0, 206, 108, 61, 27, 42]
abbrev dktX2_findChain_3 : List UInt8 := dkwX2_findChain_3 ++ dktX2_findChain_4
def dkwX2_findChain_2 : List UInt8 := [181, 0, 222, 3, 60, 27, 42, 180, 0, 3, 180, 0, 82, 180, 0, 206, 42, 180, 0, 3, 180, 0, 82]
abbrev dktX2_findChain_2 : List UInt8 := dkwX2_findChain_2 ++ dktX2_findChain_3
def dkwX2_findChain_1 : List UInt8 := [180, 0, 45, 27, 2, 79, 132, 1, 1, 167, 255, 233, 42, 3, 181, 0, 209, 42, 3, 181, 0, 212, 42, 3]
abbrev dktX2_findChain_1 : List UInt8 := dkwX2_findChain_1 ++ dktX2_findChain_2
def dkwX2_findChain_0 : List UInt8 := [42, 180, 0, 35, 182, 0, 228, 3, 60, 27, 16, 6, 162, 0, 23, 42, 180, 0, 41, 27, 1, 83, 42]
abbrev dktX2_findChain_0 : List UInt8 := dkwX2_findChain_0 ++ dktX2_findChain_1
theorem dksX2_findChain_0 : cX2_findChain.data.toList.drop 0 = dktX2_findChain_0 := by decide +kernel
theorem dksX2_findChain_1 : cX2_findChain.data.toList.drop 23 = dktX2_findChain_1 := dk_seg dksX2_findChain_0 23 rfl rfl
theorem dksX2_findChain_2 : cX2_findChain.data.toList.drop 47 = dktX2_findChain_2 := dk_seg dksX2_findChain_1 24 rfl rfl
theorem dksX2_findChain_3 : cX2_findChain.data.toList.drop 70 = dktX2_findChain_3 := dk_seg dksX2_findChain_2 23 rfl rfl
theorem dksX2_findChain_4 : cX2_findChain.data.toList.drop 92 = dktX2_findChain_4 := dk_seg dksX2_findChain_3 22 rfl rfl
theorem dksX2_findChain_5 : cX2_findChain.data.toList.drop 115 = dktX2_findChain_5 := dk_seg dksX2_findChain_4 23 rfl rfl
theorem dksX2_findChain_6 : cX2_findChain.data.toList.drop 138 = dktX2_findChain_6 := dk_seg dksX2_findChain_5 23 rfl rfl
theorem dksX2_findChain_7 : cX2_findChain.data.toList.drop 162 = dktX2_findChain_7 := dk_seg dksX2_findChain_6 24 rfl rfl
theorem dksX2_findChain_8 : cX2_findChain.data.toList.drop 184 = dktX2_findChain_8 := dk_seg dksX2_findChain_7 22 rfl rfl
theorem dksX2_findChain_9 : cX2_findChain.data.toList.drop 208 = dktX2_findChain_9 := dk_seg dksX2_findChain_8 24 rfl rfl
theorem dX2_findChain_0 : decode cX2_findChain 0 = .ok (.aload_n 0, 1) := dk_42 (dk_at dksX2_findChain_0 0 rfl rfl)
theorem dX2_findChain_1 : decode cX2_findChain 1 = .ok (.getfield 35, 3) := dk_180 0 35 (dk_at dksX2_findChain_0 1 rfl rfl)
theorem dX2_findChain_4 : decode cX2_findChain 4 = .ok (.invokevirtual 228, 3) := dk_182 0 228 (dk_at dksX2_findChain_0 4 rfl rfl)
theorem dX2_findChain_7 : decode cX2_findChain 7 = .ok (.iconst 0, 1) := dk_3 (dk_at dksX2_findChain_0 7 rfl rfl)
theorem dX2_findChain_8 : decode cX2_findChain 8 = .ok (.istore_n 1, 1) := dk_60 (dk_at dksX2_findChain_0 8 rfl rfl)
theorem dX2_findChain_9 : decode cX2_findChain 9 = .ok (.iload_n 1, 1) := dk_27 (dk_at dksX2_findChain_0 9 rfl rfl)
theorem dX2_findChain_10 : decode cX2_findChain 10 = .ok (.bipush 6, 2) := dk_16 6 (dk_at dksX2_findChain_0 10 rfl rfl)
theorem dX2_findChain_12 : decode cX2_findChain 12 = .ok (.if_icmp .ge 23, 3) := dk_162 0 23 (dk_at dksX2_findChain_0 12 rfl rfl)
theorem dX2_findChain_15 : decode cX2_findChain 15 = .ok (.aload_n 0, 1) := dk_42 (dk_at dksX2_findChain_0 15 rfl rfl)
theorem dX2_findChain_16 : decode cX2_findChain 16 = .ok (.getfield 41, 3) := dk_180 0 41 (dk_at dksX2_findChain_0 16 rfl rfl)
theorem dX2_findChain_19 : decode cX2_findChain 19 = .ok (.iload_n 1, 1) := dk_27 (dk_at dksX2_findChain_0 19 rfl rfl)
theorem dX2_findChain_20 : decode cX2_findChain 20 = .ok (.aconst_null, 1) := dk_1 (dk_at dksX2_findChain_0 20 rfl rfl)
theorem dX2_findChain_21 : decode cX2_findChain 21 = .ok (.aastore, 1) := dk_83 (dk_at dksX2_findChain_0 21 rfl rfl)
theorem dX2_findChain_22 : decode cX2_findChain 22 = .ok (.aload_n 0, 1) := dk_42 (dk_at dksX2_findChain_0 22 rfl rfl)
theorem dX2_findChain_23 : decode cX2_findChain 23 = .ok (.getfield 45, 3) := dk_180 0 45 (dk_at dksX2_findChain_1 0 rfl rfl)
theorem dX2_findChain_26 : decode cX2_findChain 26 = .ok (.iload_n 1, 1) := dk_27 (dk_at dksX2_findChain_1 3 rfl rfl)
theorem dX2_findChain_27 : decode cX2_findChain 27 = .ok (.iconst (-1), 1) := dk_2 (dk_at dksX2_findChain_1 4 rfl rfl)
theorem dX2_findChain_28 : decode cX2_findChain 28 = .ok (.iastore, 1) := dk_79 (dk_at dksX2_findChain_1 5 rfl rfl)
theorem dX2_findChain_29 : decode cX2_findChain 29 = .ok (.iinc 1 1, 3) := dk_132 1 1 (dk_at dksX2_findChain_1 6 rfl rfl)
theorem dX2_findChain_32 : decode cX2_findChain 32 = .ok (.goto (-23), 3) := dk_167 255 233 (dk_at dksX2_findChain_1 9 rfl rfl)
theorem dX2_findChain_35 : decode cX2_findChain 35 = .ok (.aload_n 0, 1) := dk_42 (dk_at dksX2_findChain_1 12 rfl rfl)
theorem dX2_findChain_36 : decode cX2_findChain 36 = .ok (.iconst 0, 1) := dk_3 (dk_at dksX2_findChain_1 13 rfl rfl)
theorem dX2_findChain_37 : decode cX2_findChain 37 = .ok (.putfield 209, 3) := dk_181 0 209 (dk_at dksX2_findChain_1 14 rfl rfl)
theorem dX2_findChain_40 : decode cX2_findChain 40 = .ok (.aload_n 0, 1) := dk_42 (dk_at dksX2_findChain_1 17 rfl rfl)
theorem dX2_findChain_41 : decode cX2_findChain 41 = .ok (.iconst 0, 1) := dk_3 (dk_at dksX2_findChain_1 18 rfl rfl)
theorem dX2_findChain_42 : decode cX2_findChain 42 = .ok (.putfield 212, 3) := dk_181 0 212 (dk_at dksX2_findChain_1 19 rfl rfl)
theorem dX2_findChain_45 : decode cX2_findChain 45 = .ok (.aload_n 0, 1) := dk_42 (dk_at dksX2_findChain_1 22 rfl rfl)
theorem dX2_findChain_46 : decode cX2_findChain 46 = .ok (.iconst 0, 1) := dk_3 (dk_at dksX2_findChain_1 23 rfl rfl)
theorem dX2_findChain_47 : decode cX2_findChain 47 = .ok (.putfield 222, 3) := dk_181 0 222 (dk_at dksX2_findChain_2 0 rfl rfl)
theorem dX2_findChain_50 : decode cX2_findChain 50 = .ok (.iconst 0, 1) := dk_3 (dk_at dksX2_findChain_2 3 rfl rfl)
theorem dX2_findChain_51 : decode cX2_findChain 51 = .ok (.istore_n 1, 1) := dk_60 (dk_at dksX2_findChain_2 4 rfl rfl)
theorem dX2_findChain_52 : decode cX2_findChain 52 = .ok (.iload_n 1, 1) := dk_27 (dk_at dksX2_findChain_2 5 rfl rfl)
theorem dX2_findChain_53 : decode cX2_findChain 53 = .ok (.aload_n 0, 1) := dk_42 (dk_at dksX2_findChain_2 6 rfl rfl)
theorem dX2_findChain_54 : decode cX2_findChain 54 = .ok (.getfield 3, 3) := dk_180 0 3 (dk_at dksX2_findChain_2 7 rfl rfl)
theorem dX2_findChain_57 : decode cX2_findChain 57 = .ok (.getfield 82, 3) := dk_180 0 82 (dk_at dksX2_findChain_2 10 rfl rfl)
theorem dX2_findChain_60 : decode cX2_findChain 60 = .ok (.getfield 206, 3) := dk_180 0 206 (dk_at dksX2_findChain_2 13 rfl rfl)
theorem dX2_findChain_63 : decode cX2_findChain 63 = .ok (.aload_n 0, 1) := dk_42 (dk_at dksX2_findChain_2 16 rfl rfl)
theorem dX2_findChain_64 : decode cX2_findChain 64 = .ok (.getfield 3, 3) := dk_180 0 3 (dk_at dksX2_findChain_2 17 rfl rfl)
theorem dX2_findChain_67 : decode cX2_findChain 67 = .ok (.getfield 82, 3) := dk_180 0 82 (dk_at dksX2_findChain_2 20 rfl rfl)
theorem dX2_findChain_70 : decode cX2_findChain 70 = .ok (.getfield 206, 3) := dk_180 0 206 (dk_at dksX2_findChain_3 0 rfl rfl)
theorem dX2_findChain_73 : decode cX2_findChain 73 = .ok (.imul, 1) := dk_104 (dk_at dksX2_findChain_3 3 rfl rfl)
theorem dX2_findChain_74 : decode cX2_findChain 74 = .ok (.if_icmp .ge 67, 3) := dk_162 0 67 (dk_at dksX2_findChain_3 4 rfl rfl)
theorem dX2_findChain_77 : decode cX2_findChain 77 = .ok (.iload_n 1, 1) := dk_27 (dk_at dksX2_findChain_3 7 rfl rfl)
theorem dX2_findChain_78 : decode cX2_findChain 78 = .ok (.aload_n 0, 1) := dk_42 (dk_at dksX2_findChain_3 8 rfl rfl)
theorem dX2_findChain_79 : decode cX2_findChain 79 = .ok (.getfield 3, 3) := dk_180 0 3 (dk_at dksX2_findChain_3 9 rfl rfl)
theorem dX2_findChain_82 : decode cX2_findChain 82 = .ok (.getfield 82, 3) := dk_180 0 82 (dk_at dksX2_findChain_3 12 rfl rfl)
theorem dX2_findChain_85 : decode cX2_findChain 85 = .ok (.getfield 206, 3) := dk_180 0 206 (dk_at dksX2_findChain_3 15 rfl rfl)
theorem dX2_findChain_88 : decode cX2_findChain 88 = .ok (.idiv, 1) := dk_108 (dk_at dksX2_findChain_3 18 rfl rfl)
theorem dX2_findChain_89 : decode cX2_findChain 89 = .ok (.istore_n 2, 1) := dk_61 (dk_at dksX2_findChain_3 19 rfl rfl)
theorem dX2_findChain_90 : decode cX2_findChain 90 = .ok (.iload_n 1, 1) := dk_27 (dk_at dksX2_findChain_3 20 rfl rfl)
theorem dX2_findChain_91 : decode cX2_findChain 91 = .ok (.aload_n 0, 1) := dk_42 (dk_at dksX2_findChain_3 21 rfl rfl)
theorem dX2_findChain_92 : decode cX2_findChain 92 = .ok (.getfield 3, 3) := dk_180 0 3 (dk_at dksX2_findChain_4 0 rfl rfl)
theorem dX2_findChain_95 : decode cX2_findChain 95 = .ok (.getfield 82, 3) := dk_180 0 82 (dk_at dksX2_findChain_4 3 rfl rfl)
theorem dX2_findChain_98 : decode cX2_findChain 98 = .ok (.getfield 206, 3) := dk_180 0 206 (dk_at dksX2_findChain_4 6 rfl rfl)
theorem dX2_findChain_101 : decode cX2_findChain 101 = .ok (.irem, 1) := dk_112 (dk_at dksX2_findChain_4 9 rfl rfl)
theorem dX2_findChain_102 : decode cX2_findChain 102 = .ok (.istore_n 3, 1) := dk_62 (dk_at dksX2_findChain_4 10 rfl rfl)
theorem dX2_findChain_103 : decode cX2_findChain 103 = .ok (.iload_n 2, 1) := dk_28 (dk_at dksX2_findChain_4 11 rfl rfl)
theorem dX2_findChain_104 : decode cX2_findChain 104 = .ok (.iload_n 3, 1) := dk_29 (dk_at dksX2_findChain_4 12 rfl rfl)
theorem dX2_findChain_105 : decode cX2_findChain 105 = .ok (.if_icmp .ne 7, 3) := dk_160 0 7 (dk_at dksX2_findChain_4 13 rfl rfl)
theorem dX2_findChain_108 : decode cX2_findChain 108 = .ok (.aconst_null, 1) := dk_1 (dk_at dksX2_findChain_4 16 rfl rfl)
theorem dX2_findChain_109 : decode cX2_findChain 109 = .ok (.goto 9, 3) := dk_167 0 9 (dk_at dksX2_findChain_4 17 rfl rfl)
theorem dX2_findChain_112 : decode cX2_findChain 112 = .ok (.aload_n 0, 1) := dk_42 (dk_at dksX2_findChain_4 20 rfl rfl)
theorem dX2_findChain_113 : decode cX2_findChain 113 = .ok (.iload_n 2, 1) := dk_28 (dk_at dksX2_findChain_4 21 rfl rfl)
theorem dX2_findChain_114 : decode cX2_findChain 114 = .ok (.iload_n 3, 1) := dk_29 (dk_at dksX2_findChain_4 22 rfl rfl)
theorem dX2_findChain_115 : decode cX2_findChain 115 = .ok (.invokevirtual 229, 3) := dk_182 0 229 (dk_at dksX2_findChain_5 0 rfl rfl)
theorem dX2_findChain_118 : decode cX2_findChain 118 = .ok (.astore 4, 2) := dk_58 4 (dk_at dksX2_findChain_5 3 rfl rfl)
theorem dX2_findChain_120 : decode cX2_findChain 120 = .ok (.aload 4, 2) := dk_25 4 (dk_at dksX2_findChain_5 5 rfl rfl)
theorem dX2_findChain_122 : decode cX2_findChain 122 = .ok (.ifnull 13, 3) := dk_198 0 13 (dk_at dksX2_findChain_5 7 rfl rfl)
theorem dX2_findChain_125 : decode cX2_findChain 125 = .ok (.aload_n 0, 1) := dk_42 (dk_at dksX2_findChain_5 10 rfl rfl)
theorem dX2_findChain_126 : decode cX2_findChain 126 = .ok (.getfield 35, 3) := dk_180 0 35 (dk_at dksX2_findChain_5 11 rfl rfl)
theorem dX2_findChain_129 : decode cX2_findChain 129 = .ok (.aload 4, 2) := dk_25 4 (dk_at dksX2_findChain_5 14 rfl rfl)
theorem dX2_findChain_131 : decode cX2_findChain 131 = .ok (.invokevirtual 233, 3) := dk_182 0 233 (dk_at dksX2_findChain_5 16 rfl rfl)
theorem dX2_findChain_134 : decode cX2_findChain 134 = .ok (.pop, 1) := dk_87 (dk_at dksX2_findChain_5 19 rfl rfl)
theorem dX2_findChain_135 : decode cX2_findChain 135 = .ok (.iinc 1 1, 3) := dk_132 1 1 (dk_at dksX2_findChain_5 20 rfl rfl)
theorem dX2_findChain_138 : decode cX2_findChain 138 = .ok (.goto (-86), 3) := dk_167 255 170 (dk_at dksX2_findChain_6 0 rfl rfl)
theorem dX2_findChain_141 : decode cX2_findChain 141 = .ok (.aload_n 0, 1) := dk_42 (dk_at dksX2_findChain_6 3 rfl rfl)
theorem dX2_findChain_142 : decode cX2_findChain 142 = .ok (.getfield 35, 3) := dk_180 0 35 (dk_at dksX2_findChain_6 4 rfl rfl)
theorem dX2_findChain_145 : decode cX2_findChain 145 = .ok (.invokevirtual 234, 3) := dk_182 0 234 (dk_at dksX2_findChain_6 7 rfl rfl)
theorem dX2_findChain_148 : decode cX2_findChain 148 = .ok (.ifCond .ne 20, 3) := dk_154 0 20 (dk_at dksX2_findChain_6 10 rfl rfl)
theorem dX2_findChain_151 : decode cX2_findChain 151 = .ok (.aload_n 0, 1) := dk_42 (dk_at dksX2_findChain_6 13 rfl rfl)
theorem dX2_findChain_152 : decode cX2_findChain 152 = .ok (.aload_n 0, 1) := dk_42 (dk_at dksX2_findChain_6 14 rfl rfl)
theorem dX2_findChain_153 : decode cX2_findChain 153 = .ok (.getfield 35, 3) := dk_180 0 35 (dk_at dksX2_findChain_6 15 rfl rfl)
theorem dX2_findChain_156 : decode cX2_findChain 156 = .ok (.invokevirtual 237, 3) := dk_182 0 237 (dk_at dksX2_findChain_6 18 rfl rfl)
theorem dX2_findChain_159 : decode cX2_findChain 159 = .ok (.checkcast 39, 3) := dk_192 0 39 (dk_at dksX2_findChain_6 21 rfl rfl)
theorem dX2_findChain_162 : decode cX2_findChain 162 = .ok (.invokevirtual 240, 3) := dk_182 0 240 (dk_at dksX2_findChain_7 0 rfl rfl)
theorem dX2_findChain_165 : decode cX2_findChain 165 = .ok (.goto (-24), 3) := dk_167 255 232 (dk_at dksX2_findChain_7 3 rfl rfl)
theorem dX2_findChain_168 : decode cX2_findChain 168 = .ok (.aload_n 0, 1) := dk_42 (dk_at dksX2_findChain_7 6 rfl rfl)
theorem dX2_findChain_169 : decode cX2_findChain 169 = .ok (.aload_n 0, 1) := dk_42 (dk_at dksX2_findChain_7 7 rfl rfl)
theorem dX2_findChain_170 : decode cX2_findChain 170 = .ok (.getfield 3, 3) := dk_180 0 3 (dk_at dksX2_findChain_7 8 rfl rfl)
theorem dX2_findChain_173 : decode cX2_findChain 173 = .ok (.getfield 82, 3) := dk_180 0 82 (dk_at dksX2_findChain_7 11 rfl rfl)
theorem dX2_findChain_176 : decode cX2_findChain 176 = .ok (.getfield 206, 3) := dk_180 0 206 (dk_at dksX2_findChain_7 14 rfl rfl)
theorem dX2_findChain_179 : decode cX2_findChain 179 = .ok (.iconst 1, 1) := dk_4 (dk_at dksX2_findChain_7 17 rfl rfl)
theorem dX2_findChain_180 : decode cX2_findChain 180 = .ok (.if_icmp .le 24, 3) := dk_164 0 24 (dk_at dksX2_findChain_7 18 rfl rfl)
theorem dX2_findChain_183 : decode cX2_findChain 183 = .ok (.aload_n 0, 1) := dk_42 (dk_at dksX2_findChain_7 21 rfl rfl)
theorem dX2_findChain_184 : decode cX2_findChain 184 = .ok (.getfield 209, 3) := dk_180 0 209 (dk_at dksX2_findChain_8 0 rfl rfl)
theorem dX2_findChain_187 : decode cX2_findChain 187 = .ok (.aload_n 0, 1) := dk_42 (dk_at dksX2_findChain_8 3 rfl rfl)
theorem dX2_findChain_188 : decode cX2_findChain 188 = .ok (.getfield 3, 3) := dk_180 0 3 (dk_at dksX2_findChain_8 4 rfl rfl)
theorem dX2_findChain_191 : decode cX2_findChain 191 = .ok (.getfield 82, 3) := dk_180 0 82 (dk_at dksX2_findChain_8 7 rfl rfl)
theorem dX2_findChain_194 : decode cX2_findChain 194 = .ok (.getfield 206, 3) := dk_180 0 206 (dk_at dksX2_findChain_8 10 rfl rfl)
theorem dX2_findChain_197 : decode cX2_findChain 197 = .ok (.if_icmp .ne 7, 3) := dk_160 0 7 (dk_at dksX2_findChain_8 13 rfl rfl)
theorem dX2_findChain_200 : decode cX2_findChain 200 = .ok (.iconst 1, 1) := dk_4 (dk_at dksX2_findChain_8 16 rfl rfl)
theorem dX2_findChain_201 : decode cX2_findChain 201 = .ok (.goto 4, 3) := dk_167 0 4 (dk_at dksX2_findChain_8 17 rfl rfl)
theorem dX2_findChain_204 : decode cX2_findChain 204 = .ok (.iconst 0, 1) := dk_3 (dk_at dksX2_findChain_8 20 rfl rfl)
theorem dX2_findChain_205 : decode cX2_findChain 205 = .ok (.putfield 244, 3) := dk_181 0 244 (dk_at dksX2_findChain_8 21 rfl rfl)
theorem dX2_findChain_208 : decode cX2_findChain 208 = .ok (.return_, 1) := dk_177 (dk_at dksX2_findChain_9 0 rfl rfl)
abbrev cX2_link : ByteArray := prog_8_method_5_code
def yX2_link : MethodName := ⟨RX2, "link", "(II)LPictureRing$Link;"⟩
def dkwX2_link_6 : List UInt8 := [164, 0, 18, 187, 0, 39, 89, 27, 28, 25, 6, 21, 7, 183, 0, 194, 58, 4, 167, 255, 190, 25, 4, 176]
abbrev dktX2_link_6 : List UInt8 := dkwX2_link_6 ++ []
def dkwX2_link_5 : List UInt8 := [182, 0, 184, 192, 0, 168, 182, 0, 188, 54, 7, 25, 4, 198, 0, 13, 21, 7, 25, 4, 180, 0, 192]
abbrev dktX2_link_5 : List UInt8 := dkwX2_link_5 ++ dktX2_link_6
def dkwX2_link_4 : List UInt8 := [185, 0, 127, 1, 0, 153, 0, 62, 25, 5, 185, 0, 133, 1, 0, 192, 0, 162, 58, 6, 45, 25, 6]
abbrev dktX2_link_4 : List UInt8 := dkwX2_link_4 ++ dktX2_link_5
def dkwX2_link_3 : List UInt8 := [132, 4, 1, 167, 255, 194, 1, 58, 4, 45, 182, 0, 177, 185, 0, 181, 1, 0, 58, 5, 25, 5]
abbrev dktX2_link_3 : List UInt8 := dkwX2_link_3 ++ dktX2_link_4
def dkwX2_link_2 : List UInt8 := [89, 21, 4, 21, 5, 183, 0, 164, 21, 6, 184, 0, 167, 182, 0, 173, 87, 132, 5, 1, 167, 255, 209]
abbrev dktX2_link_2 : List UInt8 := dkwX2_link_2 ++ dktX2_link_3
def dkwX2_link_1 : List UInt8 := [163, 0, 47, 42, 27, 28, 21, 4, 21, 5, 182, 0, 158, 54, 6, 21, 6, 158, 0, 24, 45, 187, 0, 162]
abbrev dktX2_link_1 : List UInt8 := dkwX2_link_1 ++ dktX2_link_2
def dkwX2_link_0 : List UInt8 := [187, 0, 155, 89, 183, 0, 157, 78, 2, 54, 4, 21, 4, 4, 163, 0, 62, 4, 54, 5, 21, 5, 8]
abbrev dktX2_link_0 : List UInt8 := dkwX2_link_0 ++ dktX2_link_1
theorem dksX2_link_0 : cX2_link.data.toList.drop 0 = dktX2_link_0 := by decide +kernel
theorem dksX2_link_1 : cX2_link.data.toList.drop 23 = dktX2_link_1 := dk_seg dksX2_link_0 23 rfl rfl
theorem dksX2_link_2 : cX2_link.data.toList.drop 47 = dktX2_link_2 := dk_seg dksX2_link_1 24 rfl rfl
theorem dksX2_link_3 : cX2_link.data.toList.drop 70 = dktX2_link_3 := dk_seg dksX2_link_2 23 rfl rfl
theorem dksX2_link_4 : cX2_link.data.toList.drop 92 = dktX2_link_4 := dk_seg dksX2_link_3 22 rfl rfl
theorem dksX2_link_5 : cX2_link.data.toList.drop 115 = dktX2_link_5 := dk_seg dksX2_link_4 23 rfl rfl
theorem dksX2_link_6 : cX2_link.data.toList.drop 138 = dktX2_link_6 := dk_seg dksX2_link_5 23 rfl rfl
theorem dX2_link_0 : decode cX2_link 0 = .ok (.new 155, 3) := dk_187 0 155 (dk_at dksX2_link_0 0 rfl rfl)
theorem dX2_link_3 : decode cX2_link 3 = .ok (.dup, 1) := dk_89 (dk_at dksX2_link_0 3 rfl rfl)
theorem dX2_link_4 : decode cX2_link 4 = .ok (.invokespecial 157, 3) := dk_183 0 157 (dk_at dksX2_link_0 4 rfl rfl)
theorem dX2_link_7 : decode cX2_link 7 = .ok (.astore_n 3, 1) := dk_78 (dk_at dksX2_link_0 7 rfl rfl)
theorem dX2_link_8 : decode cX2_link 8 = .ok (.iconst (-1), 1) := dk_2 (dk_at dksX2_link_0 8 rfl rfl)
theorem dX2_link_9 : decode cX2_link 9 = .ok (.istore 4, 2) := dk_54 4 (dk_at dksX2_link_0 9 rfl rfl)
theorem dX2_link_11 : decode cX2_link 11 = .ok (.iload 4, 2) := dk_21 4 (dk_at dksX2_link_0 11 rfl rfl)
theorem dX2_link_13 : decode cX2_link 13 = .ok (.iconst 1, 1) := dk_4 (dk_at dksX2_link_0 13 rfl rfl)
theorem dX2_link_14 : decode cX2_link 14 = .ok (.if_icmp .gt 62, 3) := dk_163 0 62 (dk_at dksX2_link_0 14 rfl rfl)
theorem dX2_link_17 : decode cX2_link 17 = .ok (.iconst 1, 1) := dk_4 (dk_at dksX2_link_0 17 rfl rfl)
theorem dX2_link_18 : decode cX2_link 18 = .ok (.istore 5, 2) := dk_54 5 (dk_at dksX2_link_0 18 rfl rfl)
theorem dX2_link_20 : decode cX2_link 20 = .ok (.iload 5, 2) := dk_21 5 (dk_at dksX2_link_0 20 rfl rfl)
theorem dX2_link_22 : decode cX2_link 22 = .ok (.iconst 5, 1) := dk_8 (dk_at dksX2_link_0 22 rfl rfl)
theorem dX2_link_23 : decode cX2_link 23 = .ok (.if_icmp .gt 47, 3) := dk_163 0 47 (dk_at dksX2_link_1 0 rfl rfl)
theorem dX2_link_26 : decode cX2_link 26 = .ok (.aload_n 0, 1) := dk_42 (dk_at dksX2_link_1 3 rfl rfl)
theorem dX2_link_27 : decode cX2_link 27 = .ok (.iload_n 1, 1) := dk_27 (dk_at dksX2_link_1 4 rfl rfl)
theorem dX2_link_28 : decode cX2_link 28 = .ok (.iload_n 2, 1) := dk_28 (dk_at dksX2_link_1 5 rfl rfl)
theorem dX2_link_29 : decode cX2_link 29 = .ok (.iload 4, 2) := dk_21 4 (dk_at dksX2_link_1 6 rfl rfl)
theorem dX2_link_31 : decode cX2_link 31 = .ok (.iload 5, 2) := dk_21 5 (dk_at dksX2_link_1 8 rfl rfl)
theorem dX2_link_33 : decode cX2_link 33 = .ok (.invokevirtual 158, 3) := dk_182 0 158 (dk_at dksX2_link_1 10 rfl rfl)
theorem dX2_link_36 : decode cX2_link 36 = .ok (.istore 6, 2) := dk_54 6 (dk_at dksX2_link_1 13 rfl rfl)
theorem dX2_link_38 : decode cX2_link 38 = .ok (.iload 6, 2) := dk_21 6 (dk_at dksX2_link_1 15 rfl rfl)
theorem dX2_link_40 : decode cX2_link 40 = .ok (.ifCond .le 24, 3) := dk_158 0 24 (dk_at dksX2_link_1 17 rfl rfl)
theorem dX2_link_43 : decode cX2_link 43 = .ok (.aload_n 3, 1) := dk_45 (dk_at dksX2_link_1 20 rfl rfl)
theorem dX2_link_44 : decode cX2_link 44 = .ok (.new 162, 3) := dk_187 0 162 (dk_at dksX2_link_1 21 rfl rfl)
theorem dX2_link_47 : decode cX2_link 47 = .ok (.dup, 1) := dk_89 (dk_at dksX2_link_2 0 rfl rfl)
theorem dX2_link_48 : decode cX2_link 48 = .ok (.iload 4, 2) := dk_21 4 (dk_at dksX2_link_2 1 rfl rfl)
theorem dX2_link_50 : decode cX2_link 50 = .ok (.iload 5, 2) := dk_21 5 (dk_at dksX2_link_2 3 rfl rfl)
theorem dX2_link_52 : decode cX2_link 52 = .ok (.invokespecial 164, 3) := dk_183 0 164 (dk_at dksX2_link_2 5 rfl rfl)
theorem dX2_link_55 : decode cX2_link 55 = .ok (.iload 6, 2) := dk_21 6 (dk_at dksX2_link_2 8 rfl rfl)
theorem dX2_link_57 : decode cX2_link 57 = .ok (.invokestatic 167, 3) := dk_184 0 167 (dk_at dksX2_link_2 10 rfl rfl)
theorem dX2_link_60 : decode cX2_link 60 = .ok (.invokevirtual 173, 3) := dk_182 0 173 (dk_at dksX2_link_2 13 rfl rfl)
theorem dX2_link_63 : decode cX2_link 63 = .ok (.pop, 1) := dk_87 (dk_at dksX2_link_2 16 rfl rfl)
theorem dX2_link_64 : decode cX2_link 64 = .ok (.iinc 5 1, 3) := dk_132 5 1 (dk_at dksX2_link_2 17 rfl rfl)
theorem dX2_link_67 : decode cX2_link 67 = .ok (.goto (-47), 3) := dk_167 255 209 (dk_at dksX2_link_2 20 rfl rfl)
theorem dX2_link_70 : decode cX2_link 70 = .ok (.iinc 4 1, 3) := dk_132 4 1 (dk_at dksX2_link_3 0 rfl rfl)
theorem dX2_link_73 : decode cX2_link 73 = .ok (.goto (-62), 3) := dk_167 255 194 (dk_at dksX2_link_3 3 rfl rfl)
theorem dX2_link_76 : decode cX2_link 76 = .ok (.aconst_null, 1) := dk_1 (dk_at dksX2_link_3 6 rfl rfl)
theorem dX2_link_77 : decode cX2_link 77 = .ok (.astore 4, 2) := dk_58 4 (dk_at dksX2_link_3 7 rfl rfl)
theorem dX2_link_79 : decode cX2_link 79 = .ok (.aload_n 3, 1) := dk_45 (dk_at dksX2_link_3 9 rfl rfl)
theorem dX2_link_80 : decode cX2_link 80 = .ok (.invokevirtual 177, 3) := dk_182 0 177 (dk_at dksX2_link_3 10 rfl rfl)
theorem dX2_link_83 : decode cX2_link 83 = .ok (.invokeinterface 181 1, 5) := by decide +kernel
theorem dX2_link_88 : decode cX2_link 88 = .ok (.astore 5, 2) := dk_58 5 (dk_at dksX2_link_3 18 rfl rfl)
theorem dX2_link_90 : decode cX2_link 90 = .ok (.aload 5, 2) := dk_25 5 (dk_at dksX2_link_3 20 rfl rfl)
theorem dX2_link_92 : decode cX2_link 92 = .ok (.invokeinterface 127 1, 5) := by decide +kernel
theorem dX2_link_97 : decode cX2_link 97 = .ok (.ifCond .eq 62, 3) := dk_153 0 62 (dk_at dksX2_link_4 5 rfl rfl)
theorem dX2_link_100 : decode cX2_link 100 = .ok (.aload 5, 2) := dk_25 5 (dk_at dksX2_link_4 8 rfl rfl)
theorem dX2_link_102 : decode cX2_link 102 = .ok (.invokeinterface 133 1, 5) := by decide +kernel
theorem dX2_link_107 : decode cX2_link 107 = .ok (.checkcast 162, 3) := dk_192 0 162 (dk_at dksX2_link_4 15 rfl rfl)
theorem dX2_link_110 : decode cX2_link 110 = .ok (.astore 6, 2) := dk_58 6 (dk_at dksX2_link_4 18 rfl rfl)
theorem dX2_link_112 : decode cX2_link 112 = .ok (.aload_n 3, 1) := dk_45 (dk_at dksX2_link_4 20 rfl rfl)
theorem dX2_link_113 : decode cX2_link 113 = .ok (.aload 6, 2) := dk_25 6 (dk_at dksX2_link_4 21 rfl rfl)
theorem dX2_link_115 : decode cX2_link 115 = .ok (.invokevirtual 184, 3) := dk_182 0 184 (dk_at dksX2_link_5 0 rfl rfl)
theorem dX2_link_118 : decode cX2_link 118 = .ok (.checkcast 168, 3) := dk_192 0 168 (dk_at dksX2_link_5 3 rfl rfl)
theorem dX2_link_121 : decode cX2_link 121 = .ok (.invokevirtual 188, 3) := dk_182 0 188 (dk_at dksX2_link_5 6 rfl rfl)
theorem dX2_link_124 : decode cX2_link 124 = .ok (.istore 7, 2) := dk_54 7 (dk_at dksX2_link_5 9 rfl rfl)
theorem dX2_link_126 : decode cX2_link 126 = .ok (.aload 4, 2) := dk_25 4 (dk_at dksX2_link_5 11 rfl rfl)
theorem dX2_link_128 : decode cX2_link 128 = .ok (.ifnull 13, 3) := dk_198 0 13 (dk_at dksX2_link_5 13 rfl rfl)
theorem dX2_link_131 : decode cX2_link 131 = .ok (.iload 7, 2) := dk_21 7 (dk_at dksX2_link_5 16 rfl rfl)
theorem dX2_link_133 : decode cX2_link 133 = .ok (.aload 4, 2) := dk_25 4 (dk_at dksX2_link_5 18 rfl rfl)
theorem dX2_link_135 : decode cX2_link 135 = .ok (.getfield 192, 3) := dk_180 0 192 (dk_at dksX2_link_5 20 rfl rfl)
theorem dX2_link_138 : decode cX2_link 138 = .ok (.if_icmp .le 18, 3) := dk_164 0 18 (dk_at dksX2_link_6 0 rfl rfl)
theorem dX2_link_141 : decode cX2_link 141 = .ok (.new 39, 3) := dk_187 0 39 (dk_at dksX2_link_6 3 rfl rfl)
theorem dX2_link_144 : decode cX2_link 144 = .ok (.dup, 1) := dk_89 (dk_at dksX2_link_6 6 rfl rfl)
theorem dX2_link_145 : decode cX2_link 145 = .ok (.iload_n 1, 1) := dk_27 (dk_at dksX2_link_6 7 rfl rfl)
theorem dX2_link_146 : decode cX2_link 146 = .ok (.iload_n 2, 1) := dk_28 (dk_at dksX2_link_6 8 rfl rfl)
theorem dX2_link_147 : decode cX2_link 147 = .ok (.aload 6, 2) := dk_25 6 (dk_at dksX2_link_6 9 rfl rfl)
theorem dX2_link_149 : decode cX2_link 149 = .ok (.iload 7, 2) := dk_21 7 (dk_at dksX2_link_6 11 rfl rfl)
theorem dX2_link_151 : decode cX2_link 151 = .ok (.invokespecial 194, 3) := dk_183 0 194 (dk_at dksX2_link_6 13 rfl rfl)
theorem dX2_link_154 : decode cX2_link 154 = .ok (.astore 4, 2) := dk_58 4 (dk_at dksX2_link_6 16 rfl rfl)
theorem dX2_link_156 : decode cX2_link 156 = .ok (.goto (-66), 3) := dk_167 255 190 (dk_at dksX2_link_6 18 rfl rfl)
theorem dX2_link_159 : decode cX2_link 159 = .ok (.aload 4, 2) := dk_25 4 (dk_at dksX2_link_6 21 rfl rfl)
theorem dX2_link_161 : decode cX2_link 161 = .ok (.areturn, 1) := dk_176 (dk_at dksX2_link_6 23 rfl rfl)
abbrev cX2_votes : ByteArray := prog_8_method_4_code
def yX2_votes : MethodName := ⟨RX2, "votes", "(IIII)I"⟩
def dkwX2_votes_7 : List UInt8 := [167, 0, 4, 3, 96, 54, 5, 167, 255, 105, 21, 5, 172]
abbrev dktX2_votes_7 : List UInt8 := dkwX2_votes_7 ++ []
def dkwX2_votes_6 : List UInt8 := [180, 0, 148, 100, 184, 0, 151, 42, 180, 0, 3, 180, 0, 82, 180, 0, 106, 4, 46, 163, 0, 7, 4]
abbrev dktX2_votes_6 : List UInt8 := dkwX2_votes_6 ++ dktX2_votes_7
def dkwX2_votes_5 : List UInt8 := [153, 0, 50, 42, 180, 0, 3, 180, 0, 82, 180, 0, 86, 28, 50, 21, 8, 21, 9, 182, 0, 111, 25, 7]
abbrev dktX2_votes_5 : List UInt8 := dkwX2_votes_5 ++ dktX2_votes_6
def dkwX2_votes_4 : List UInt8 := [180, 0, 82, 180, 0, 106, 3, 46, 161, 0, 7, 4, 167, 0, 4, 3, 54, 10, 21, 5, 21, 10]
abbrev dktX2_votes_4 : List UInt8 := dkwX2_votes_4 ++ dktX2_votes_5
def dkwX2_votes_3 : List UInt8 := [180, 0, 3, 180, 0, 82, 180, 0, 86, 28, 50, 21, 8, 21, 9, 182, 0, 103, 42, 180, 0, 3]
abbrev dktX2_votes_3 : List UInt8 := dkwX2_votes_3 ++ dktX2_votes_4
def dkwX2_votes_2 : List UInt8 := [25, 7, 180, 0, 141, 21, 4, 100, 54, 9, 21, 8, 21, 9, 184, 0, 144, 153, 0, 42, 42, 42]
abbrev dktX2_votes_2 : List UInt8 := dkwX2_votes_2 ++ dktX2_votes_3
def dkwX2_votes_1 : List UInt8 := [153, 0, 147, 25, 6, 185, 0, 133, 1, 0, 192, 0, 109, 58, 7, 25, 7, 180, 0, 137, 29, 100, 54, 8]
abbrev dktX2_votes_1 : List UInt8 := dkwX2_votes_1 ++ dktX2_votes_2
def dkwX2_votes_0 : List UInt8 := [3, 54, 5, 42, 180, 0, 23, 27, 50, 180, 0, 92, 182, 0, 123, 58, 6, 25, 6, 185, 0, 127, 1, 0]
abbrev dktX2_votes_0 : List UInt8 := dkwX2_votes_0 ++ dktX2_votes_1
theorem dksX2_votes_0 : cX2_votes.data.toList.drop 0 = dktX2_votes_0 := by decide +kernel
theorem dksX2_votes_1 : cX2_votes.data.toList.drop 24 = dktX2_votes_1 := dk_seg dksX2_votes_0 24 rfl rfl
theorem dksX2_votes_2 : cX2_votes.data.toList.drop 48 = dktX2_votes_2 := dk_seg dksX2_votes_1 24 rfl rfl
theorem dksX2_votes_3 : cX2_votes.data.toList.drop 70 = dktX2_votes_3 := dk_seg dksX2_votes_2 22 rfl rfl
theorem dksX2_votes_4 : cX2_votes.data.toList.drop 92 = dktX2_votes_4 := dk_seg dksX2_votes_3 22 rfl rfl
theorem dksX2_votes_5 : cX2_votes.data.toList.drop 114 = dktX2_votes_5 := dk_seg dksX2_votes_4 22 rfl rfl
theorem dksX2_votes_6 : cX2_votes.data.toList.drop 138 = dktX2_votes_6 := dk_seg dksX2_votes_5 24 rfl rfl
theorem dksX2_votes_7 : cX2_votes.data.toList.drop 161 = dktX2_votes_7 := dk_seg dksX2_votes_6 23 rfl rfl
theorem dX2_votes_0 : decode cX2_votes 0 = .ok (.iconst 0, 1) := dk_3 (dk_at dksX2_votes_0 0 rfl rfl)
theorem dX2_votes_1 : decode cX2_votes 1 = .ok (.istore 5, 2) := dk_54 5 (dk_at dksX2_votes_0 1 rfl rfl)
theorem dX2_votes_3 : decode cX2_votes 3 = .ok (.aload_n 0, 1) := dk_42 (dk_at dksX2_votes_0 3 rfl rfl)
theorem dX2_votes_4 : decode cX2_votes 4 = .ok (.getfield 23, 3) := dk_180 0 23 (dk_at dksX2_votes_0 4 rfl rfl)
theorem dX2_votes_7 : decode cX2_votes 7 = .ok (.iload_n 1, 1) := dk_27 (dk_at dksX2_votes_0 7 rfl rfl)
theorem dX2_votes_8 : decode cX2_votes 8 = .ok (.aaload, 1) := dk_50 (dk_at dksX2_votes_0 8 rfl rfl)
theorem dX2_votes_9 : decode cX2_votes 9 = .ok (.getfield 92, 3) := dk_180 0 92 (dk_at dksX2_votes_0 9 rfl rfl)
theorem dX2_votes_12 : decode cX2_votes 12 = .ok (.invokevirtual 123, 3) := dk_182 0 123 (dk_at dksX2_votes_0 12 rfl rfl)
theorem dX2_votes_15 : decode cX2_votes 15 = .ok (.astore 6, 2) := dk_58 6 (dk_at dksX2_votes_0 15 rfl rfl)
theorem dX2_votes_17 : decode cX2_votes 17 = .ok (.aload 6, 2) := dk_25 6 (dk_at dksX2_votes_0 17 rfl rfl)
theorem dX2_votes_19 : decode cX2_votes 19 = .ok (.invokeinterface 127 1, 5) := by decide +kernel
theorem dX2_votes_24 : decode cX2_votes 24 = .ok (.ifCond .eq 147, 3) := dk_153 0 147 (dk_at dksX2_votes_1 0 rfl rfl)
theorem dX2_votes_27 : decode cX2_votes 27 = .ok (.aload 6, 2) := dk_25 6 (dk_at dksX2_votes_1 3 rfl rfl)
theorem dX2_votes_29 : decode cX2_votes 29 = .ok (.invokeinterface 133 1, 5) := by decide +kernel
theorem dX2_votes_34 : decode cX2_votes 34 = .ok (.checkcast 109, 3) := dk_192 0 109 (dk_at dksX2_votes_1 10 rfl rfl)
theorem dX2_votes_37 : decode cX2_votes 37 = .ok (.astore 7, 2) := dk_58 7 (dk_at dksX2_votes_1 13 rfl rfl)
theorem dX2_votes_39 : decode cX2_votes 39 = .ok (.aload 7, 2) := dk_25 7 (dk_at dksX2_votes_1 15 rfl rfl)
theorem dX2_votes_41 : decode cX2_votes 41 = .ok (.getfield 137, 3) := dk_180 0 137 (dk_at dksX2_votes_1 17 rfl rfl)
theorem dX2_votes_44 : decode cX2_votes 44 = .ok (.iload_n 3, 1) := dk_29 (dk_at dksX2_votes_1 20 rfl rfl)
theorem dX2_votes_45 : decode cX2_votes 45 = .ok (.isub, 1) := dk_100 (dk_at dksX2_votes_1 21 rfl rfl)
theorem dX2_votes_46 : decode cX2_votes 46 = .ok (.istore 8, 2) := dk_54 8 (dk_at dksX2_votes_1 22 rfl rfl)
theorem dX2_votes_48 : decode cX2_votes 48 = .ok (.aload 7, 2) := dk_25 7 (dk_at dksX2_votes_2 0 rfl rfl)
theorem dX2_votes_50 : decode cX2_votes 50 = .ok (.getfield 141, 3) := dk_180 0 141 (dk_at dksX2_votes_2 2 rfl rfl)
theorem dX2_votes_53 : decode cX2_votes 53 = .ok (.iload 4, 2) := dk_21 4 (dk_at dksX2_votes_2 5 rfl rfl)
theorem dX2_votes_55 : decode cX2_votes 55 = .ok (.isub, 1) := dk_100 (dk_at dksX2_votes_2 7 rfl rfl)
theorem dX2_votes_56 : decode cX2_votes 56 = .ok (.istore 9, 2) := dk_54 9 (dk_at dksX2_votes_2 8 rfl rfl)
theorem dX2_votes_58 : decode cX2_votes 58 = .ok (.iload 8, 2) := dk_21 8 (dk_at dksX2_votes_2 10 rfl rfl)
theorem dX2_votes_60 : decode cX2_votes 60 = .ok (.iload 9, 2) := dk_21 9 (dk_at dksX2_votes_2 12 rfl rfl)
theorem dX2_votes_62 : decode cX2_votes 62 = .ok (.invokestatic 144, 3) := dk_184 0 144 (dk_at dksX2_votes_2 14 rfl rfl)
theorem dX2_votes_65 : decode cX2_votes 65 = .ok (.ifCond .eq 42, 3) := dk_153 0 42 (dk_at dksX2_votes_2 17 rfl rfl)
theorem dX2_votes_68 : decode cX2_votes 68 = .ok (.aload_n 0, 1) := dk_42 (dk_at dksX2_votes_2 20 rfl rfl)
theorem dX2_votes_69 : decode cX2_votes 69 = .ok (.aload_n 0, 1) := dk_42 (dk_at dksX2_votes_2 21 rfl rfl)
theorem dX2_votes_70 : decode cX2_votes 70 = .ok (.getfield 3, 3) := dk_180 0 3 (dk_at dksX2_votes_3 0 rfl rfl)
theorem dX2_votes_73 : decode cX2_votes 73 = .ok (.getfield 82, 3) := dk_180 0 82 (dk_at dksX2_votes_3 3 rfl rfl)
theorem dX2_votes_76 : decode cX2_votes 76 = .ok (.getfield 86, 3) := dk_180 0 86 (dk_at dksX2_votes_3 6 rfl rfl)
theorem dX2_votes_79 : decode cX2_votes 79 = .ok (.iload_n 2, 1) := dk_28 (dk_at dksX2_votes_3 9 rfl rfl)
theorem dX2_votes_80 : decode cX2_votes 80 = .ok (.aaload, 1) := dk_50 (dk_at dksX2_votes_3 10 rfl rfl)
theorem dX2_votes_81 : decode cX2_votes 81 = .ok (.iload 8, 2) := dk_21 8 (dk_at dksX2_votes_3 11 rfl rfl)
theorem dX2_votes_83 : decode cX2_votes 83 = .ok (.iload 9, 2) := dk_21 9 (dk_at dksX2_votes_3 13 rfl rfl)
theorem dX2_votes_85 : decode cX2_votes 85 = .ok (.invokevirtual 103, 3) := dk_182 0 103 (dk_at dksX2_votes_3 15 rfl rfl)
theorem dX2_votes_88 : decode cX2_votes 88 = .ok (.aload_n 0, 1) := dk_42 (dk_at dksX2_votes_3 18 rfl rfl)
theorem dX2_votes_89 : decode cX2_votes 89 = .ok (.getfield 3, 3) := dk_180 0 3 (dk_at dksX2_votes_3 19 rfl rfl)
theorem dX2_votes_92 : decode cX2_votes 92 = .ok (.getfield 82, 3) := dk_180 0 82 (dk_at dksX2_votes_4 0 rfl rfl)
theorem dX2_votes_95 : decode cX2_votes 95 = .ok (.getfield 106, 3) := dk_180 0 106 (dk_at dksX2_votes_4 3 rfl rfl)
theorem dX2_votes_98 : decode cX2_votes 98 = .ok (.iconst 0, 1) := dk_3 (dk_at dksX2_votes_4 6 rfl rfl)
theorem dX2_votes_99 : decode cX2_votes 99 = .ok (.iaload, 1) := dk_46 (dk_at dksX2_votes_4 7 rfl rfl)
theorem dX2_votes_100 : decode cX2_votes 100 = .ok (.if_icmp .lt 7, 3) := dk_161 0 7 (dk_at dksX2_votes_4 8 rfl rfl)
theorem dX2_votes_103 : decode cX2_votes 103 = .ok (.iconst 1, 1) := dk_4 (dk_at dksX2_votes_4 11 rfl rfl)
theorem dX2_votes_104 : decode cX2_votes 104 = .ok (.goto 4, 3) := dk_167 0 4 (dk_at dksX2_votes_4 12 rfl rfl)
theorem dX2_votes_107 : decode cX2_votes 107 = .ok (.iconst 0, 1) := dk_3 (dk_at dksX2_votes_4 15 rfl rfl)
theorem dX2_votes_108 : decode cX2_votes 108 = .ok (.istore 10, 2) := dk_54 10 (dk_at dksX2_votes_4 16 rfl rfl)
theorem dX2_votes_110 : decode cX2_votes 110 = .ok (.iload 5, 2) := dk_21 5 (dk_at dksX2_votes_4 18 rfl rfl)
theorem dX2_votes_112 : decode cX2_votes 112 = .ok (.iload 10, 2) := dk_21 10 (dk_at dksX2_votes_4 20 rfl rfl)
theorem dX2_votes_114 : decode cX2_votes 114 = .ok (.ifCond .eq 50, 3) := dk_153 0 50 (dk_at dksX2_votes_5 0 rfl rfl)
theorem dX2_votes_117 : decode cX2_votes 117 = .ok (.aload_n 0, 1) := dk_42 (dk_at dksX2_votes_5 3 rfl rfl)
theorem dX2_votes_118 : decode cX2_votes 118 = .ok (.getfield 3, 3) := dk_180 0 3 (dk_at dksX2_votes_5 4 rfl rfl)
theorem dX2_votes_121 : decode cX2_votes 121 = .ok (.getfield 82, 3) := dk_180 0 82 (dk_at dksX2_votes_5 7 rfl rfl)
theorem dX2_votes_124 : decode cX2_votes 124 = .ok (.getfield 86, 3) := dk_180 0 86 (dk_at dksX2_votes_5 10 rfl rfl)
theorem dX2_votes_127 : decode cX2_votes 127 = .ok (.iload_n 2, 1) := dk_28 (dk_at dksX2_votes_5 13 rfl rfl)
theorem dX2_votes_128 : decode cX2_votes 128 = .ok (.aaload, 1) := dk_50 (dk_at dksX2_votes_5 14 rfl rfl)
theorem dX2_votes_129 : decode cX2_votes 129 = .ok (.iload 8, 2) := dk_21 8 (dk_at dksX2_votes_5 15 rfl rfl)
theorem dX2_votes_131 : decode cX2_votes 131 = .ok (.iload 9, 2) := dk_21 9 (dk_at dksX2_votes_5 17 rfl rfl)
theorem dX2_votes_133 : decode cX2_votes 133 = .ok (.invokevirtual 111, 3) := dk_182 0 111 (dk_at dksX2_votes_5 19 rfl rfl)
theorem dX2_votes_136 : decode cX2_votes 136 = .ok (.aload 7, 2) := dk_25 7 (dk_at dksX2_votes_5 22 rfl rfl)
theorem dX2_votes_138 : decode cX2_votes 138 = .ok (.getfield 148, 3) := dk_180 0 148 (dk_at dksX2_votes_6 0 rfl rfl)
theorem dX2_votes_141 : decode cX2_votes 141 = .ok (.isub, 1) := dk_100 (dk_at dksX2_votes_6 3 rfl rfl)
theorem dX2_votes_142 : decode cX2_votes 142 = .ok (.invokestatic 151, 3) := dk_184 0 151 (dk_at dksX2_votes_6 4 rfl rfl)
theorem dX2_votes_145 : decode cX2_votes 145 = .ok (.aload_n 0, 1) := dk_42 (dk_at dksX2_votes_6 7 rfl rfl)
theorem dX2_votes_146 : decode cX2_votes 146 = .ok (.getfield 3, 3) := dk_180 0 3 (dk_at dksX2_votes_6 8 rfl rfl)
theorem dX2_votes_149 : decode cX2_votes 149 = .ok (.getfield 82, 3) := dk_180 0 82 (dk_at dksX2_votes_6 11 rfl rfl)
theorem dX2_votes_152 : decode cX2_votes 152 = .ok (.getfield 106, 3) := dk_180 0 106 (dk_at dksX2_votes_6 14 rfl rfl)
theorem dX2_votes_155 : decode cX2_votes 155 = .ok (.iconst 1, 1) := dk_4 (dk_at dksX2_votes_6 17 rfl rfl)
theorem dX2_votes_156 : decode cX2_votes 156 = .ok (.iaload, 1) := dk_46 (dk_at dksX2_votes_6 18 rfl rfl)
theorem dX2_votes_157 : decode cX2_votes 157 = .ok (.if_icmp .gt 7, 3) := dk_163 0 7 (dk_at dksX2_votes_6 19 rfl rfl)
theorem dX2_votes_160 : decode cX2_votes 160 = .ok (.iconst 1, 1) := dk_4 (dk_at dksX2_votes_6 22 rfl rfl)
theorem dX2_votes_161 : decode cX2_votes 161 = .ok (.goto 4, 3) := dk_167 0 4 (dk_at dksX2_votes_7 0 rfl rfl)
theorem dX2_votes_164 : decode cX2_votes 164 = .ok (.iconst 0, 1) := dk_3 (dk_at dksX2_votes_7 3 rfl rfl)
theorem dX2_votes_165 : decode cX2_votes 165 = .ok (.iadd, 1) := dk_96 (dk_at dksX2_votes_7 4 rfl rfl)
theorem dX2_votes_166 : decode cX2_votes 166 = .ok (.istore 5, 2) := dk_54 5 (dk_at dksX2_votes_7 5 rfl rfl)
theorem dX2_votes_168 : decode cX2_votes 168 = .ok (.goto (-151), 3) := dk_167 255 105 (dk_at dksX2_votes_7 7 rfl rfl)
theorem dX2_votes_171 : decode cX2_votes 171 = .ok (.iload 5, 2) := dk_21 5 (dk_at dksX2_votes_7 10 rfl rfl)
theorem dX2_votes_173 : decode cX2_votes 173 = .ok (.ireturn, 1) := dk_172 (dk_at dksX2_votes_7 12 rfl rfl)
abbrev cX2_takes : ByteArray := prog_8_method_7_code
def yX2_takes : MethodName := ⟨RX2, "takes", "(LPictureRing$Link;)V"⟩
def dkwX2_takes_5 : List UInt8 := [180, 0, 225, 96, 181, 0, 222, 177]
abbrev dktX2_takes_5 : List UInt8 := dkwX2_takes_5 ++ []
def dkwX2_takes_4 : List UInt8 := [180, 0, 212, 43, 180, 0, 215, 180, 0, 219, 96, 181, 0, 212, 42, 89, 180, 0, 222, 43, 180, 0, 215]
abbrev dktX2_takes_4 : List UInt8 := dkwX2_takes_4 ++ dktX2_takes_5
def dkwX2_takes_3 : List UInt8 := [180, 0, 45, 43, 180, 0, 197, 43, 180, 0, 200, 79, 42, 89, 180, 0, 209, 4, 96, 181, 0, 209, 42, 89]
abbrev dktX2_takes_3 : List UInt8 := dkwX2_takes_3 ++ dktX2_takes_4
def dkwX2_takes_2 : List UInt8 := [180, 0, 3, 180, 0, 82, 180, 0, 206, 160, 0, 68, 42, 180, 0, 41, 43, 180, 0, 200, 43, 83, 42]
abbrev dktX2_takes_2 : List UInt8 := dkwX2_takes_2 ++ dktX2_takes_3
def dkwX2_takes_1 : List UInt8 := [199, 0, 100, 42, 180, 0, 45, 43, 180, 0, 197, 46, 2, 160, 0, 87, 28, 2, 159, 0, 17, 28, 42]
abbrev dktX2_takes_1 : List UInt8 := dkwX2_takes_1 ++ dktX2_takes_2
def dkwX2_takes_0 : List UInt8 := [42, 43, 180, 0, 197, 43, 180, 0, 200, 182, 0, 203, 61, 42, 180, 0, 41, 43, 180, 0, 200, 50]
abbrev dktX2_takes_0 : List UInt8 := dkwX2_takes_0 ++ dktX2_takes_1
theorem dksX2_takes_0 : cX2_takes.data.toList.drop 0 = dktX2_takes_0 := by decide +kernel
theorem dksX2_takes_1 : cX2_takes.data.toList.drop 22 = dktX2_takes_1 := dk_seg dksX2_takes_0 22 rfl rfl
theorem dksX2_takes_2 : cX2_takes.data.toList.drop 45 = dktX2_takes_2 := dk_seg dksX2_takes_1 23 rfl rfl
theorem dksX2_takes_3 : cX2_takes.data.toList.drop 68 = dktX2_takes_3 := dk_seg dksX2_takes_2 23 rfl rfl
theorem dksX2_takes_4 : cX2_takes.data.toList.drop 92 = dktX2_takes_4 := dk_seg dksX2_takes_3 24 rfl rfl
theorem dksX2_takes_5 : cX2_takes.data.toList.drop 115 = dktX2_takes_5 := dk_seg dksX2_takes_4 23 rfl rfl
theorem dX2_takes_0 : decode cX2_takes 0 = .ok (.aload_n 0, 1) := dk_42 (dk_at dksX2_takes_0 0 rfl rfl)
theorem dX2_takes_1 : decode cX2_takes 1 = .ok (.aload_n 1, 1) := dk_43 (dk_at dksX2_takes_0 1 rfl rfl)
theorem dX2_takes_2 : decode cX2_takes 2 = .ok (.getfield 197, 3) := dk_180 0 197 (dk_at dksX2_takes_0 2 rfl rfl)
theorem dX2_takes_5 : decode cX2_takes 5 = .ok (.aload_n 1, 1) := dk_43 (dk_at dksX2_takes_0 5 rfl rfl)
theorem dX2_takes_6 : decode cX2_takes 6 = .ok (.getfield 200, 3) := dk_180 0 200 (dk_at dksX2_takes_0 6 rfl rfl)
theorem dX2_takes_9 : decode cX2_takes 9 = .ok (.invokevirtual 203, 3) := dk_182 0 203 (dk_at dksX2_takes_0 9 rfl rfl)
theorem dX2_takes_12 : decode cX2_takes 12 = .ok (.istore_n 2, 1) := dk_61 (dk_at dksX2_takes_0 12 rfl rfl)
theorem dX2_takes_13 : decode cX2_takes 13 = .ok (.aload_n 0, 1) := dk_42 (dk_at dksX2_takes_0 13 rfl rfl)
theorem dX2_takes_14 : decode cX2_takes 14 = .ok (.getfield 41, 3) := dk_180 0 41 (dk_at dksX2_takes_0 14 rfl rfl)
theorem dX2_takes_17 : decode cX2_takes 17 = .ok (.aload_n 1, 1) := dk_43 (dk_at dksX2_takes_0 17 rfl rfl)
theorem dX2_takes_18 : decode cX2_takes 18 = .ok (.getfield 200, 3) := dk_180 0 200 (dk_at dksX2_takes_0 18 rfl rfl)
theorem dX2_takes_21 : decode cX2_takes 21 = .ok (.aaload, 1) := dk_50 (dk_at dksX2_takes_0 21 rfl rfl)
theorem dX2_takes_22 : decode cX2_takes 22 = .ok (.ifnonnull 100, 3) := dk_199 0 100 (dk_at dksX2_takes_1 0 rfl rfl)
theorem dX2_takes_25 : decode cX2_takes 25 = .ok (.aload_n 0, 1) := dk_42 (dk_at dksX2_takes_1 3 rfl rfl)
theorem dX2_takes_26 : decode cX2_takes 26 = .ok (.getfield 45, 3) := dk_180 0 45 (dk_at dksX2_takes_1 4 rfl rfl)
theorem dX2_takes_29 : decode cX2_takes 29 = .ok (.aload_n 1, 1) := dk_43 (dk_at dksX2_takes_1 7 rfl rfl)
theorem dX2_takes_30 : decode cX2_takes 30 = .ok (.getfield 197, 3) := dk_180 0 197 (dk_at dksX2_takes_1 8 rfl rfl)
theorem dX2_takes_33 : decode cX2_takes 33 = .ok (.iaload, 1) := dk_46 (dk_at dksX2_takes_1 11 rfl rfl)
theorem dX2_takes_34 : decode cX2_takes 34 = .ok (.iconst (-1), 1) := dk_2 (dk_at dksX2_takes_1 12 rfl rfl)
theorem dX2_takes_35 : decode cX2_takes 35 = .ok (.if_icmp .ne 87, 3) := dk_160 0 87 (dk_at dksX2_takes_1 13 rfl rfl)
theorem dX2_takes_38 : decode cX2_takes 38 = .ok (.iload_n 2, 1) := dk_28 (dk_at dksX2_takes_1 16 rfl rfl)
theorem dX2_takes_39 : decode cX2_takes 39 = .ok (.iconst (-1), 1) := dk_2 (dk_at dksX2_takes_1 17 rfl rfl)
theorem dX2_takes_40 : decode cX2_takes 40 = .ok (.if_icmp .eq 17, 3) := dk_159 0 17 (dk_at dksX2_takes_1 18 rfl rfl)
theorem dX2_takes_43 : decode cX2_takes 43 = .ok (.iload_n 2, 1) := dk_28 (dk_at dksX2_takes_1 21 rfl rfl)
theorem dX2_takes_44 : decode cX2_takes 44 = .ok (.aload_n 0, 1) := dk_42 (dk_at dksX2_takes_1 22 rfl rfl)
theorem dX2_takes_45 : decode cX2_takes 45 = .ok (.getfield 3, 3) := dk_180 0 3 (dk_at dksX2_takes_2 0 rfl rfl)
theorem dX2_takes_48 : decode cX2_takes 48 = .ok (.getfield 82, 3) := dk_180 0 82 (dk_at dksX2_takes_2 3 rfl rfl)
theorem dX2_takes_51 : decode cX2_takes 51 = .ok (.getfield 206, 3) := dk_180 0 206 (dk_at dksX2_takes_2 6 rfl rfl)
theorem dX2_takes_54 : decode cX2_takes 54 = .ok (.if_icmp .ne 68, 3) := dk_160 0 68 (dk_at dksX2_takes_2 9 rfl rfl)
theorem dX2_takes_57 : decode cX2_takes 57 = .ok (.aload_n 0, 1) := dk_42 (dk_at dksX2_takes_2 12 rfl rfl)
theorem dX2_takes_58 : decode cX2_takes 58 = .ok (.getfield 41, 3) := dk_180 0 41 (dk_at dksX2_takes_2 13 rfl rfl)
theorem dX2_takes_61 : decode cX2_takes 61 = .ok (.aload_n 1, 1) := dk_43 (dk_at dksX2_takes_2 16 rfl rfl)
theorem dX2_takes_62 : decode cX2_takes 62 = .ok (.getfield 200, 3) := dk_180 0 200 (dk_at dksX2_takes_2 17 rfl rfl)
theorem dX2_takes_65 : decode cX2_takes 65 = .ok (.aload_n 1, 1) := dk_43 (dk_at dksX2_takes_2 20 rfl rfl)
theorem dX2_takes_66 : decode cX2_takes 66 = .ok (.aastore, 1) := dk_83 (dk_at dksX2_takes_2 21 rfl rfl)
theorem dX2_takes_67 : decode cX2_takes 67 = .ok (.aload_n 0, 1) := dk_42 (dk_at dksX2_takes_2 22 rfl rfl)
theorem dX2_takes_68 : decode cX2_takes 68 = .ok (.getfield 45, 3) := dk_180 0 45 (dk_at dksX2_takes_3 0 rfl rfl)
theorem dX2_takes_71 : decode cX2_takes 71 = .ok (.aload_n 1, 1) := dk_43 (dk_at dksX2_takes_3 3 rfl rfl)
theorem dX2_takes_72 : decode cX2_takes 72 = .ok (.getfield 197, 3) := dk_180 0 197 (dk_at dksX2_takes_3 4 rfl rfl)
theorem dX2_takes_75 : decode cX2_takes 75 = .ok (.aload_n 1, 1) := dk_43 (dk_at dksX2_takes_3 7 rfl rfl)
theorem dX2_takes_76 : decode cX2_takes 76 = .ok (.getfield 200, 3) := dk_180 0 200 (dk_at dksX2_takes_3 8 rfl rfl)
theorem dX2_takes_79 : decode cX2_takes 79 = .ok (.iastore, 1) := dk_79 (dk_at dksX2_takes_3 11 rfl rfl)
theorem dX2_takes_80 : decode cX2_takes 80 = .ok (.aload_n 0, 1) := dk_42 (dk_at dksX2_takes_3 12 rfl rfl)
theorem dX2_takes_81 : decode cX2_takes 81 = .ok (.dup, 1) := dk_89 (dk_at dksX2_takes_3 13 rfl rfl)
theorem dX2_takes_82 : decode cX2_takes 82 = .ok (.getfield 209, 3) := dk_180 0 209 (dk_at dksX2_takes_3 14 rfl rfl)
theorem dX2_takes_85 : decode cX2_takes 85 = .ok (.iconst 1, 1) := dk_4 (dk_at dksX2_takes_3 17 rfl rfl)
theorem dX2_takes_86 : decode cX2_takes 86 = .ok (.iadd, 1) := dk_96 (dk_at dksX2_takes_3 18 rfl rfl)
theorem dX2_takes_87 : decode cX2_takes 87 = .ok (.putfield 209, 3) := dk_181 0 209 (dk_at dksX2_takes_3 19 rfl rfl)
theorem dX2_takes_90 : decode cX2_takes 90 = .ok (.aload_n 0, 1) := dk_42 (dk_at dksX2_takes_3 22 rfl rfl)
theorem dX2_takes_91 : decode cX2_takes 91 = .ok (.dup, 1) := dk_89 (dk_at dksX2_takes_3 23 rfl rfl)
theorem dX2_takes_92 : decode cX2_takes 92 = .ok (.getfield 212, 3) := dk_180 0 212 (dk_at dksX2_takes_4 0 rfl rfl)
theorem dX2_takes_95 : decode cX2_takes 95 = .ok (.aload_n 1, 1) := dk_43 (dk_at dksX2_takes_4 3 rfl rfl)
theorem dX2_takes_96 : decode cX2_takes 96 = .ok (.getfield 215, 3) := dk_180 0 215 (dk_at dksX2_takes_4 4 rfl rfl)
theorem dX2_takes_99 : decode cX2_takes 99 = .ok (.getfield 219, 3) := dk_180 0 219 (dk_at dksX2_takes_4 7 rfl rfl)
theorem dX2_takes_102 : decode cX2_takes 102 = .ok (.iadd, 1) := dk_96 (dk_at dksX2_takes_4 10 rfl rfl)
theorem dX2_takes_103 : decode cX2_takes 103 = .ok (.putfield 212, 3) := dk_181 0 212 (dk_at dksX2_takes_4 11 rfl rfl)
theorem dX2_takes_106 : decode cX2_takes 106 = .ok (.aload_n 0, 1) := dk_42 (dk_at dksX2_takes_4 14 rfl rfl)
theorem dX2_takes_107 : decode cX2_takes 107 = .ok (.dup, 1) := dk_89 (dk_at dksX2_takes_4 15 rfl rfl)
theorem dX2_takes_108 : decode cX2_takes 108 = .ok (.getfield 222, 3) := dk_180 0 222 (dk_at dksX2_takes_4 16 rfl rfl)
theorem dX2_takes_111 : decode cX2_takes 111 = .ok (.aload_n 1, 1) := dk_43 (dk_at dksX2_takes_4 19 rfl rfl)
theorem dX2_takes_112 : decode cX2_takes 112 = .ok (.getfield 215, 3) := dk_180 0 215 (dk_at dksX2_takes_4 20 rfl rfl)
theorem dX2_takes_115 : decode cX2_takes 115 = .ok (.getfield 225, 3) := dk_180 0 225 (dk_at dksX2_takes_5 0 rfl rfl)
theorem dX2_takes_118 : decode cX2_takes 118 = .ok (.iadd, 1) := dk_96 (dk_at dksX2_takes_5 3 rfl rfl)
theorem dX2_takes_119 : decode cX2_takes 119 = .ok (.putfield 222, 3) := dk_181 0 222 (dk_at dksX2_takes_5 4 rfl rfl)
theorem dX2_takes_122 : decode cX2_takes 122 = .ok (.return_, 1) := dk_177 (dk_at dksX2_takes_5 7 rfl rfl)
abbrev cX2_leads : ByteArray := prog_8_method_6_code
def yX2_leads : MethodName := ⟨RX2, "leads", "(II)I"⟩
def dkwX2_leads_2 : List UInt8 := [167, 0, 4, 2, 172]
abbrev dktX2_leads_2 : List UInt8 := dkwX2_leads_2 ++ []
def dkwX2_leads_1 : List UInt8 := [180, 0, 41, 21, 4, 50, 180, 0, 197, 54, 4, 132, 3, 1, 167, 255, 225, 21, 4, 28, 160, 0, 7, 29]
abbrev dktX2_leads_1 : List UInt8 := dkwX2_leads_1 ++ dktX2_leads_2
def dkwX2_leads_0 : List UInt8 := [4, 62, 27, 54, 4, 21, 4, 28, 159, 0, 31, 42, 180, 0, 41, 21, 4, 50, 198, 0, 21, 42]
abbrev dktX2_leads_0 : List UInt8 := dkwX2_leads_0 ++ dktX2_leads_1
theorem dksX2_leads_0 : cX2_leads.data.toList.drop 0 = dktX2_leads_0 := by decide +kernel
theorem dksX2_leads_1 : cX2_leads.data.toList.drop 22 = dktX2_leads_1 := dk_seg dksX2_leads_0 22 rfl rfl
theorem dksX2_leads_2 : cX2_leads.data.toList.drop 46 = dktX2_leads_2 := dk_seg dksX2_leads_1 24 rfl rfl
theorem dX2_leads_0 : decode cX2_leads 0 = .ok (.iconst 1, 1) := dk_4 (dk_at dksX2_leads_0 0 rfl rfl)
theorem dX2_leads_1 : decode cX2_leads 1 = .ok (.istore_n 3, 1) := dk_62 (dk_at dksX2_leads_0 1 rfl rfl)
theorem dX2_leads_2 : decode cX2_leads 2 = .ok (.iload_n 1, 1) := dk_27 (dk_at dksX2_leads_0 2 rfl rfl)
theorem dX2_leads_3 : decode cX2_leads 3 = .ok (.istore 4, 2) := dk_54 4 (dk_at dksX2_leads_0 3 rfl rfl)
theorem dX2_leads_5 : decode cX2_leads 5 = .ok (.iload 4, 2) := dk_21 4 (dk_at dksX2_leads_0 5 rfl rfl)
theorem dX2_leads_7 : decode cX2_leads 7 = .ok (.iload_n 2, 1) := dk_28 (dk_at dksX2_leads_0 7 rfl rfl)
theorem dX2_leads_8 : decode cX2_leads 8 = .ok (.if_icmp .eq 31, 3) := dk_159 0 31 (dk_at dksX2_leads_0 8 rfl rfl)
theorem dX2_leads_11 : decode cX2_leads 11 = .ok (.aload_n 0, 1) := dk_42 (dk_at dksX2_leads_0 11 rfl rfl)
theorem dX2_leads_12 : decode cX2_leads 12 = .ok (.getfield 41, 3) := dk_180 0 41 (dk_at dksX2_leads_0 12 rfl rfl)
theorem dX2_leads_15 : decode cX2_leads 15 = .ok (.iload 4, 2) := dk_21 4 (dk_at dksX2_leads_0 15 rfl rfl)
theorem dX2_leads_17 : decode cX2_leads 17 = .ok (.aaload, 1) := dk_50 (dk_at dksX2_leads_0 17 rfl rfl)
theorem dX2_leads_18 : decode cX2_leads 18 = .ok (.ifnull 21, 3) := dk_198 0 21 (dk_at dksX2_leads_0 18 rfl rfl)
theorem dX2_leads_21 : decode cX2_leads 21 = .ok (.aload_n 0, 1) := dk_42 (dk_at dksX2_leads_0 21 rfl rfl)
theorem dX2_leads_22 : decode cX2_leads 22 = .ok (.getfield 41, 3) := dk_180 0 41 (dk_at dksX2_leads_1 0 rfl rfl)
theorem dX2_leads_25 : decode cX2_leads 25 = .ok (.iload 4, 2) := dk_21 4 (dk_at dksX2_leads_1 3 rfl rfl)
theorem dX2_leads_27 : decode cX2_leads 27 = .ok (.aaload, 1) := dk_50 (dk_at dksX2_leads_1 5 rfl rfl)
theorem dX2_leads_28 : decode cX2_leads 28 = .ok (.getfield 197, 3) := dk_180 0 197 (dk_at dksX2_leads_1 6 rfl rfl)
theorem dX2_leads_31 : decode cX2_leads 31 = .ok (.istore 4, 2) := dk_54 4 (dk_at dksX2_leads_1 9 rfl rfl)
theorem dX2_leads_33 : decode cX2_leads 33 = .ok (.iinc 3 1, 3) := dk_132 3 1 (dk_at dksX2_leads_1 11 rfl rfl)
theorem dX2_leads_36 : decode cX2_leads 36 = .ok (.goto (-31), 3) := dk_167 255 225 (dk_at dksX2_leads_1 14 rfl rfl)
theorem dX2_leads_39 : decode cX2_leads 39 = .ok (.iload 4, 2) := dk_21 4 (dk_at dksX2_leads_1 17 rfl rfl)
theorem dX2_leads_41 : decode cX2_leads 41 = .ok (.iload_n 2, 1) := dk_28 (dk_at dksX2_leads_1 19 rfl rfl)
theorem dX2_leads_42 : decode cX2_leads 42 = .ok (.if_icmp .ne 7, 3) := dk_160 0 7 (dk_at dksX2_leads_1 20 rfl rfl)
theorem dX2_leads_45 : decode cX2_leads 45 = .ok (.iload_n 3, 1) := dk_29 (dk_at dksX2_leads_1 23 rfl rfl)
theorem dX2_leads_46 : decode cX2_leads 46 = .ok (.goto 4, 3) := dk_167 0 4 (dk_at dksX2_leads_2 0 rfl rfl)
theorem dX2_leads_49 : decode cX2_leads 49 = .ok (.iconst (-1), 1) := dk_2 (dk_at dksX2_leads_2 3 rfl rfl)
theorem dX2_leads_50 : decode cX2_leads 50 = .ok (.ireturn, 1) := dk_172 (dk_at dksX2_leads_2 4 rfl rfl)
abbrev cX2_seam : ByteArray := prog_8_method_12_code
def yX2_seam : MethodName := ⟨RX2, "seam", "(LPictureRing$Link;)[I"⟩
def dkwX2_seam_10 : List UInt8 := [21, 5, 21, 4, 79, 132, 5, 1, 167, 255, 152, 45, 176]
abbrev dktX2_seam_10 : List UInt8 := dkwX2_seam_10 ++ []
def dkwX2_seam_9 : List UInt8 := [54, 4, 132, 6, 1, 167, 255, 220, 167, 0, 14, 42, 44, 21, 5, 21, 4, 182, 1, 16, 54, 4, 45]
abbrev dktX2_seam_9 : List UInt8 := dkwX2_seam_9 ++ dktX2_seam_10
def dkwX2_seam_8 : List UInt8 := [21, 5, 50, 21, 6, 46, 44, 21, 5, 50, 21, 4, 46, 162, 0, 8, 21, 6, 167, 0, 5, 21, 4]
abbrev dktX2_seam_8 : List UInt8 := dkwX2_seam_8 ++ dktX2_seam_9
def dkwX2_seam_7 : List UInt8 := [160, 0, 58, 43, 180, 0, 215, 180, 0, 219, 54, 4, 21, 4, 54, 6, 21, 6, 16, 8, 162, 0, 35, 44]
abbrev dktX2_seam_7 : List UInt8 := dkwX2_seam_7 ++ dktX2_seam_8
def dkwX2_seam_6 : List UInt8 := [162, 0, 104, 43, 21, 5, 182, 1, 12, 154, 0, 11, 45, 21, 5, 2, 79, 167, 0, 81, 21, 4, 2]
abbrev dktX2_seam_6 : List UInt8 := dkwX2_seam_6 ++ dktX2_seam_7
def dkwX2_seam_5 : List UInt8 := [167, 255, 155, 132, 3, 255, 167, 255, 142, 7, 188, 10, 78, 2, 54, 4, 3, 54, 5, 21, 5, 7]
abbrev dktX2_seam_5 : List UInt8 := dkwX2_seam_5 ++ dktX2_seam_6
def dkwX2_seam_4 : List UInt8 := [153, 0, 17, 42, 43, 29, 21, 4, 182, 1, 20, 21, 6, 96, 167, 0, 5, 18, 65, 79, 132, 4, 1]
abbrev dktX2_seam_4 : List UInt8 := dkwX2_seam_4 ++ dktX2_seam_5
def dkwX2_seam_3 : List UInt8 := [4, 96, 50, 42, 44, 29, 4, 96, 21, 4, 182, 1, 16, 46, 54, 6, 44, 29, 50, 21, 4, 21, 5]
abbrev dktX2_seam_3 : List UInt8 := dkwX2_seam_3 ++ dktX2_seam_4
def dkwX2_seam_2 : List UInt8 := [3, 54, 5, 29, 6, 159, 0, 13, 43, 29, 4, 96, 182, 1, 12, 154, 0, 7, 3, 167, 0, 19, 44, 29]
abbrev dktX2_seam_2 : List UInt8 := dkwX2_seam_2 ++ dktX2_seam_3
def dkwX2_seam_1 : List UInt8 := [43, 29, 182, 1, 12, 153, 0, 19, 21, 4, 43, 180, 0, 215, 180, 0, 219, 161, 0, 7, 4, 167, 0, 4]
abbrev dktX2_seam_1 : List UInt8 := dkwX2_seam_1 ++ dktX2_seam_2
def dkwX2_seam_0 : List UInt8 := [8, 16, 8, 197, 1, 11, 2, 77, 6, 62, 29, 155, 0, 116, 3, 54, 4, 21, 4, 16, 8, 162, 0, 100]
abbrev dktX2_seam_0 : List UInt8 := dkwX2_seam_0 ++ dktX2_seam_1
theorem dksX2_seam_0 : cX2_seam.data.toList.drop 0 = dktX2_seam_0 := by decide +kernel
theorem dksX2_seam_1 : cX2_seam.data.toList.drop 24 = dktX2_seam_1 := dk_seg dksX2_seam_0 24 rfl rfl
theorem dksX2_seam_2 : cX2_seam.data.toList.drop 48 = dktX2_seam_2 := dk_seg dksX2_seam_1 24 rfl rfl
theorem dksX2_seam_3 : cX2_seam.data.toList.drop 72 = dktX2_seam_3 := dk_seg dksX2_seam_2 24 rfl rfl
theorem dksX2_seam_4 : cX2_seam.data.toList.drop 95 = dktX2_seam_4 := dk_seg dksX2_seam_3 23 rfl rfl
theorem dksX2_seam_5 : cX2_seam.data.toList.drop 118 = dktX2_seam_5 := dk_seg dksX2_seam_4 23 rfl rfl
theorem dksX2_seam_6 : cX2_seam.data.toList.drop 140 = dktX2_seam_6 := dk_seg dksX2_seam_5 22 rfl rfl
theorem dksX2_seam_7 : cX2_seam.data.toList.drop 163 = dktX2_seam_7 := dk_seg dksX2_seam_6 23 rfl rfl
theorem dksX2_seam_8 : cX2_seam.data.toList.drop 187 = dktX2_seam_8 := dk_seg dksX2_seam_7 24 rfl rfl
theorem dksX2_seam_9 : cX2_seam.data.toList.drop 210 = dktX2_seam_9 := dk_seg dksX2_seam_8 23 rfl rfl
theorem dksX2_seam_10 : cX2_seam.data.toList.drop 233 = dktX2_seam_10 := dk_seg dksX2_seam_9 23 rfl rfl
theorem dX2_seam_0 : decode cX2_seam 0 = .ok (.iconst 5, 1) := dk_8 (dk_at dksX2_seam_0 0 rfl rfl)
theorem dX2_seam_1 : decode cX2_seam 1 = .ok (.bipush 8, 2) := dk_16 8 (dk_at dksX2_seam_0 1 rfl rfl)
theorem dX2_seam_3 : decode cX2_seam 3 = .ok (.multianewarray 267 2, 4) := by decide +kernel
theorem dX2_seam_7 : decode cX2_seam 7 = .ok (.astore_n 2, 1) := dk_77 (dk_at dksX2_seam_0 7 rfl rfl)
theorem dX2_seam_8 : decode cX2_seam 8 = .ok (.iconst 3, 1) := dk_6 (dk_at dksX2_seam_0 8 rfl rfl)
theorem dX2_seam_9 : decode cX2_seam 9 = .ok (.istore_n 3, 1) := dk_62 (dk_at dksX2_seam_0 9 rfl rfl)
theorem dX2_seam_10 : decode cX2_seam 10 = .ok (.iload_n 3, 1) := dk_29 (dk_at dksX2_seam_0 10 rfl rfl)
theorem dX2_seam_11 : decode cX2_seam 11 = .ok (.ifCond .lt 116, 3) := dk_155 0 116 (dk_at dksX2_seam_0 11 rfl rfl)
theorem dX2_seam_14 : decode cX2_seam 14 = .ok (.iconst 0, 1) := dk_3 (dk_at dksX2_seam_0 14 rfl rfl)
theorem dX2_seam_15 : decode cX2_seam 15 = .ok (.istore 4, 2) := dk_54 4 (dk_at dksX2_seam_0 15 rfl rfl)
theorem dX2_seam_17 : decode cX2_seam 17 = .ok (.iload 4, 2) := dk_21 4 (dk_at dksX2_seam_0 17 rfl rfl)
theorem dX2_seam_19 : decode cX2_seam 19 = .ok (.bipush 8, 2) := dk_16 8 (dk_at dksX2_seam_0 19 rfl rfl)
theorem dX2_seam_21 : decode cX2_seam 21 = .ok (.if_icmp .ge 100, 3) := dk_162 0 100 (dk_at dksX2_seam_0 21 rfl rfl)
theorem dX2_seam_24 : decode cX2_seam 24 = .ok (.aload_n 1, 1) := dk_43 (dk_at dksX2_seam_1 0 rfl rfl)
theorem dX2_seam_25 : decode cX2_seam 25 = .ok (.iload_n 3, 1) := dk_29 (dk_at dksX2_seam_1 1 rfl rfl)
theorem dX2_seam_26 : decode cX2_seam 26 = .ok (.invokevirtual 268, 3) := dk_182 1 12 (dk_at dksX2_seam_1 2 rfl rfl)
theorem dX2_seam_29 : decode cX2_seam 29 = .ok (.ifCond .eq 19, 3) := dk_153 0 19 (dk_at dksX2_seam_1 5 rfl rfl)
theorem dX2_seam_32 : decode cX2_seam 32 = .ok (.iload 4, 2) := dk_21 4 (dk_at dksX2_seam_1 8 rfl rfl)
theorem dX2_seam_34 : decode cX2_seam 34 = .ok (.aload_n 1, 1) := dk_43 (dk_at dksX2_seam_1 10 rfl rfl)
theorem dX2_seam_35 : decode cX2_seam 35 = .ok (.getfield 215, 3) := dk_180 0 215 (dk_at dksX2_seam_1 11 rfl rfl)
theorem dX2_seam_38 : decode cX2_seam 38 = .ok (.getfield 219, 3) := dk_180 0 219 (dk_at dksX2_seam_1 14 rfl rfl)
theorem dX2_seam_41 : decode cX2_seam 41 = .ok (.if_icmp .lt 7, 3) := dk_161 0 7 (dk_at dksX2_seam_1 17 rfl rfl)
theorem dX2_seam_44 : decode cX2_seam 44 = .ok (.iconst 1, 1) := dk_4 (dk_at dksX2_seam_1 20 rfl rfl)
theorem dX2_seam_45 : decode cX2_seam 45 = .ok (.goto 4, 3) := dk_167 0 4 (dk_at dksX2_seam_1 21 rfl rfl)
theorem dX2_seam_48 : decode cX2_seam 48 = .ok (.iconst 0, 1) := dk_3 (dk_at dksX2_seam_2 0 rfl rfl)
theorem dX2_seam_49 : decode cX2_seam 49 = .ok (.istore 5, 2) := dk_54 5 (dk_at dksX2_seam_2 1 rfl rfl)
theorem dX2_seam_51 : decode cX2_seam 51 = .ok (.iload_n 3, 1) := dk_29 (dk_at dksX2_seam_2 3 rfl rfl)
theorem dX2_seam_52 : decode cX2_seam 52 = .ok (.iconst 3, 1) := dk_6 (dk_at dksX2_seam_2 4 rfl rfl)
theorem dX2_seam_53 : decode cX2_seam 53 = .ok (.if_icmp .eq 13, 3) := dk_159 0 13 (dk_at dksX2_seam_2 5 rfl rfl)
theorem dX2_seam_56 : decode cX2_seam 56 = .ok (.aload_n 1, 1) := dk_43 (dk_at dksX2_seam_2 8 rfl rfl)
theorem dX2_seam_57 : decode cX2_seam 57 = .ok (.iload_n 3, 1) := dk_29 (dk_at dksX2_seam_2 9 rfl rfl)
theorem dX2_seam_58 : decode cX2_seam 58 = .ok (.iconst 1, 1) := dk_4 (dk_at dksX2_seam_2 10 rfl rfl)
theorem dX2_seam_59 : decode cX2_seam 59 = .ok (.iadd, 1) := dk_96 (dk_at dksX2_seam_2 11 rfl rfl)
theorem dX2_seam_60 : decode cX2_seam 60 = .ok (.invokevirtual 268, 3) := dk_182 1 12 (dk_at dksX2_seam_2 12 rfl rfl)
theorem dX2_seam_63 : decode cX2_seam 63 = .ok (.ifCond .ne 7, 3) := dk_154 0 7 (dk_at dksX2_seam_2 15 rfl rfl)
theorem dX2_seam_66 : decode cX2_seam 66 = .ok (.iconst 0, 1) := dk_3 (dk_at dksX2_seam_2 18 rfl rfl)
theorem dX2_seam_67 : decode cX2_seam 67 = .ok (.goto 19, 3) := dk_167 0 19 (dk_at dksX2_seam_2 19 rfl rfl)
theorem dX2_seam_70 : decode cX2_seam 70 = .ok (.aload_n 2, 1) := dk_44 (dk_at dksX2_seam_2 22 rfl rfl)
theorem dX2_seam_71 : decode cX2_seam 71 = .ok (.iload_n 3, 1) := dk_29 (dk_at dksX2_seam_2 23 rfl rfl)
theorem dX2_seam_72 : decode cX2_seam 72 = .ok (.iconst 1, 1) := dk_4 (dk_at dksX2_seam_3 0 rfl rfl)
theorem dX2_seam_73 : decode cX2_seam 73 = .ok (.iadd, 1) := dk_96 (dk_at dksX2_seam_3 1 rfl rfl)
theorem dX2_seam_74 : decode cX2_seam 74 = .ok (.aaload, 1) := dk_50 (dk_at dksX2_seam_3 2 rfl rfl)
theorem dX2_seam_75 : decode cX2_seam 75 = .ok (.aload_n 0, 1) := dk_42 (dk_at dksX2_seam_3 3 rfl rfl)
theorem dX2_seam_76 : decode cX2_seam 76 = .ok (.aload_n 2, 1) := dk_44 (dk_at dksX2_seam_3 4 rfl rfl)
theorem dX2_seam_77 : decode cX2_seam 77 = .ok (.iload_n 3, 1) := dk_29 (dk_at dksX2_seam_3 5 rfl rfl)
theorem dX2_seam_78 : decode cX2_seam 78 = .ok (.iconst 1, 1) := dk_4 (dk_at dksX2_seam_3 6 rfl rfl)
theorem dX2_seam_79 : decode cX2_seam 79 = .ok (.iadd, 1) := dk_96 (dk_at dksX2_seam_3 7 rfl rfl)
theorem dX2_seam_80 : decode cX2_seam 80 = .ok (.iload 4, 2) := dk_21 4 (dk_at dksX2_seam_3 8 rfl rfl)
theorem dX2_seam_82 : decode cX2_seam 82 = .ok (.invokevirtual 272, 3) := dk_182 1 16 (dk_at dksX2_seam_3 10 rfl rfl)
theorem dX2_seam_85 : decode cX2_seam 85 = .ok (.iaload, 1) := dk_46 (dk_at dksX2_seam_3 13 rfl rfl)
theorem dX2_seam_86 : decode cX2_seam 86 = .ok (.istore 6, 2) := dk_54 6 (dk_at dksX2_seam_3 14 rfl rfl)
theorem dX2_seam_88 : decode cX2_seam 88 = .ok (.aload_n 2, 1) := dk_44 (dk_at dksX2_seam_3 16 rfl rfl)
theorem dX2_seam_89 : decode cX2_seam 89 = .ok (.iload_n 3, 1) := dk_29 (dk_at dksX2_seam_3 17 rfl rfl)
theorem dX2_seam_90 : decode cX2_seam 90 = .ok (.aaload, 1) := dk_50 (dk_at dksX2_seam_3 18 rfl rfl)
theorem dX2_seam_91 : decode cX2_seam 91 = .ok (.iload 4, 2) := dk_21 4 (dk_at dksX2_seam_3 19 rfl rfl)
theorem dX2_seam_93 : decode cX2_seam 93 = .ok (.iload 5, 2) := dk_21 5 (dk_at dksX2_seam_3 21 rfl rfl)
theorem dX2_seam_95 : decode cX2_seam 95 = .ok (.ifCond .eq 17, 3) := dk_153 0 17 (dk_at dksX2_seam_4 0 rfl rfl)
theorem dX2_seam_98 : decode cX2_seam 98 = .ok (.aload_n 0, 1) := dk_42 (dk_at dksX2_seam_4 3 rfl rfl)
theorem dX2_seam_99 : decode cX2_seam 99 = .ok (.aload_n 1, 1) := dk_43 (dk_at dksX2_seam_4 4 rfl rfl)
theorem dX2_seam_100 : decode cX2_seam 100 = .ok (.iload_n 3, 1) := dk_29 (dk_at dksX2_seam_4 5 rfl rfl)
theorem dX2_seam_101 : decode cX2_seam 101 = .ok (.iload 4, 2) := dk_21 4 (dk_at dksX2_seam_4 6 rfl rfl)
theorem dX2_seam_103 : decode cX2_seam 103 = .ok (.invokevirtual 276, 3) := dk_182 1 20 (dk_at dksX2_seam_4 8 rfl rfl)
theorem dX2_seam_106 : decode cX2_seam 106 = .ok (.iload 6, 2) := dk_21 6 (dk_at dksX2_seam_4 11 rfl rfl)
theorem dX2_seam_108 : decode cX2_seam 108 = .ok (.iadd, 1) := dk_96 (dk_at dksX2_seam_4 13 rfl rfl)
theorem dX2_seam_109 : decode cX2_seam 109 = .ok (.goto 5, 3) := dk_167 0 5 (dk_at dksX2_seam_4 14 rfl rfl)
theorem dX2_seam_112 : decode cX2_seam 112 = .ok (.ldc 65, 2) := dk_18 65 (dk_at dksX2_seam_4 17 rfl rfl)
theorem dX2_seam_114 : decode cX2_seam 114 = .ok (.iastore, 1) := dk_79 (dk_at dksX2_seam_4 19 rfl rfl)
theorem dX2_seam_115 : decode cX2_seam 115 = .ok (.iinc 4 1, 3) := dk_132 4 1 (dk_at dksX2_seam_4 20 rfl rfl)
theorem dX2_seam_118 : decode cX2_seam 118 = .ok (.goto (-101), 3) := dk_167 255 155 (dk_at dksX2_seam_5 0 rfl rfl)
theorem dX2_seam_121 : decode cX2_seam 121 = .ok (.iinc 3 (-1), 3) := dk_132 3 255 (dk_at dksX2_seam_5 3 rfl rfl)
theorem dX2_seam_124 : decode cX2_seam 124 = .ok (.goto (-114), 3) := dk_167 255 142 (dk_at dksX2_seam_5 6 rfl rfl)
theorem dX2_seam_127 : decode cX2_seam 127 = .ok (.iconst 4, 1) := dk_7 (dk_at dksX2_seam_5 9 rfl rfl)
theorem dX2_seam_128 : decode cX2_seam 128 = .ok (.newarray .int, 2) := dk_188_10 (dk_at dksX2_seam_5 10 rfl rfl)
theorem dX2_seam_130 : decode cX2_seam 130 = .ok (.astore_n 3, 1) := dk_78 (dk_at dksX2_seam_5 12 rfl rfl)
theorem dX2_seam_131 : decode cX2_seam 131 = .ok (.iconst (-1), 1) := dk_2 (dk_at dksX2_seam_5 13 rfl rfl)
theorem dX2_seam_132 : decode cX2_seam 132 = .ok (.istore 4, 2) := dk_54 4 (dk_at dksX2_seam_5 14 rfl rfl)
theorem dX2_seam_134 : decode cX2_seam 134 = .ok (.iconst 0, 1) := dk_3 (dk_at dksX2_seam_5 16 rfl rfl)
theorem dX2_seam_135 : decode cX2_seam 135 = .ok (.istore 5, 2) := dk_54 5 (dk_at dksX2_seam_5 17 rfl rfl)
theorem dX2_seam_137 : decode cX2_seam 137 = .ok (.iload 5, 2) := dk_21 5 (dk_at dksX2_seam_5 19 rfl rfl)
theorem dX2_seam_139 : decode cX2_seam 139 = .ok (.iconst 4, 1) := dk_7 (dk_at dksX2_seam_5 21 rfl rfl)
theorem dX2_seam_140 : decode cX2_seam 140 = .ok (.if_icmp .ge 104, 3) := dk_162 0 104 (dk_at dksX2_seam_6 0 rfl rfl)
theorem dX2_seam_143 : decode cX2_seam 143 = .ok (.aload_n 1, 1) := dk_43 (dk_at dksX2_seam_6 3 rfl rfl)
theorem dX2_seam_144 : decode cX2_seam 144 = .ok (.iload 5, 2) := dk_21 5 (dk_at dksX2_seam_6 4 rfl rfl)
theorem dX2_seam_146 : decode cX2_seam 146 = .ok (.invokevirtual 268, 3) := dk_182 1 12 (dk_at dksX2_seam_6 6 rfl rfl)
theorem dX2_seam_149 : decode cX2_seam 149 = .ok (.ifCond .ne 11, 3) := dk_154 0 11 (dk_at dksX2_seam_6 9 rfl rfl)
theorem dX2_seam_152 : decode cX2_seam 152 = .ok (.aload_n 3, 1) := dk_45 (dk_at dksX2_seam_6 12 rfl rfl)
theorem dX2_seam_153 : decode cX2_seam 153 = .ok (.iload 5, 2) := dk_21 5 (dk_at dksX2_seam_6 13 rfl rfl)
theorem dX2_seam_155 : decode cX2_seam 155 = .ok (.iconst (-1), 1) := dk_2 (dk_at dksX2_seam_6 15 rfl rfl)
theorem dX2_seam_156 : decode cX2_seam 156 = .ok (.iastore, 1) := dk_79 (dk_at dksX2_seam_6 16 rfl rfl)
theorem dX2_seam_157 : decode cX2_seam 157 = .ok (.goto 81, 3) := dk_167 0 81 (dk_at dksX2_seam_6 17 rfl rfl)
theorem dX2_seam_160 : decode cX2_seam 160 = .ok (.iload 4, 2) := dk_21 4 (dk_at dksX2_seam_6 20 rfl rfl)
theorem dX2_seam_162 : decode cX2_seam 162 = .ok (.iconst (-1), 1) := dk_2 (dk_at dksX2_seam_6 22 rfl rfl)
theorem dX2_seam_163 : decode cX2_seam 163 = .ok (.if_icmp .ne 58, 3) := dk_160 0 58 (dk_at dksX2_seam_7 0 rfl rfl)
theorem dX2_seam_166 : decode cX2_seam 166 = .ok (.aload_n 1, 1) := dk_43 (dk_at dksX2_seam_7 3 rfl rfl)
theorem dX2_seam_167 : decode cX2_seam 167 = .ok (.getfield 215, 3) := dk_180 0 215 (dk_at dksX2_seam_7 4 rfl rfl)
theorem dX2_seam_170 : decode cX2_seam 170 = .ok (.getfield 219, 3) := dk_180 0 219 (dk_at dksX2_seam_7 7 rfl rfl)
theorem dX2_seam_173 : decode cX2_seam 173 = .ok (.istore 4, 2) := dk_54 4 (dk_at dksX2_seam_7 10 rfl rfl)
theorem dX2_seam_175 : decode cX2_seam 175 = .ok (.iload 4, 2) := dk_21 4 (dk_at dksX2_seam_7 12 rfl rfl)
theorem dX2_seam_177 : decode cX2_seam 177 = .ok (.istore 6, 2) := dk_54 6 (dk_at dksX2_seam_7 14 rfl rfl)
theorem dX2_seam_179 : decode cX2_seam 179 = .ok (.iload 6, 2) := dk_21 6 (dk_at dksX2_seam_7 16 rfl rfl)
theorem dX2_seam_181 : decode cX2_seam 181 = .ok (.bipush 8, 2) := dk_16 8 (dk_at dksX2_seam_7 18 rfl rfl)
theorem dX2_seam_183 : decode cX2_seam 183 = .ok (.if_icmp .ge 35, 3) := dk_162 0 35 (dk_at dksX2_seam_7 20 rfl rfl)
theorem dX2_seam_186 : decode cX2_seam 186 = .ok (.aload_n 2, 1) := dk_44 (dk_at dksX2_seam_7 23 rfl rfl)
theorem dX2_seam_187 : decode cX2_seam 187 = .ok (.iload 5, 2) := dk_21 5 (dk_at dksX2_seam_8 0 rfl rfl)
theorem dX2_seam_189 : decode cX2_seam 189 = .ok (.aaload, 1) := dk_50 (dk_at dksX2_seam_8 2 rfl rfl)
theorem dX2_seam_190 : decode cX2_seam 190 = .ok (.iload 6, 2) := dk_21 6 (dk_at dksX2_seam_8 3 rfl rfl)
theorem dX2_seam_192 : decode cX2_seam 192 = .ok (.iaload, 1) := dk_46 (dk_at dksX2_seam_8 5 rfl rfl)
theorem dX2_seam_193 : decode cX2_seam 193 = .ok (.aload_n 2, 1) := dk_44 (dk_at dksX2_seam_8 6 rfl rfl)
theorem dX2_seam_194 : decode cX2_seam 194 = .ok (.iload 5, 2) := dk_21 5 (dk_at dksX2_seam_8 7 rfl rfl)
theorem dX2_seam_196 : decode cX2_seam 196 = .ok (.aaload, 1) := dk_50 (dk_at dksX2_seam_8 9 rfl rfl)
theorem dX2_seam_197 : decode cX2_seam 197 = .ok (.iload 4, 2) := dk_21 4 (dk_at dksX2_seam_8 10 rfl rfl)
theorem dX2_seam_199 : decode cX2_seam 199 = .ok (.iaload, 1) := dk_46 (dk_at dksX2_seam_8 12 rfl rfl)
theorem dX2_seam_200 : decode cX2_seam 200 = .ok (.if_icmp .ge 8, 3) := dk_162 0 8 (dk_at dksX2_seam_8 13 rfl rfl)
theorem dX2_seam_203 : decode cX2_seam 203 = .ok (.iload 6, 2) := dk_21 6 (dk_at dksX2_seam_8 16 rfl rfl)
theorem dX2_seam_205 : decode cX2_seam 205 = .ok (.goto 5, 3) := dk_167 0 5 (dk_at dksX2_seam_8 18 rfl rfl)
theorem dX2_seam_208 : decode cX2_seam 208 = .ok (.iload 4, 2) := dk_21 4 (dk_at dksX2_seam_8 21 rfl rfl)
theorem dX2_seam_210 : decode cX2_seam 210 = .ok (.istore 4, 2) := dk_54 4 (dk_at dksX2_seam_9 0 rfl rfl)
theorem dX2_seam_212 : decode cX2_seam 212 = .ok (.iinc 6 1, 3) := dk_132 6 1 (dk_at dksX2_seam_9 2 rfl rfl)
theorem dX2_seam_215 : decode cX2_seam 215 = .ok (.goto (-36), 3) := dk_167 255 220 (dk_at dksX2_seam_9 5 rfl rfl)
theorem dX2_seam_218 : decode cX2_seam 218 = .ok (.goto 14, 3) := dk_167 0 14 (dk_at dksX2_seam_9 8 rfl rfl)
theorem dX2_seam_221 : decode cX2_seam 221 = .ok (.aload_n 0, 1) := dk_42 (dk_at dksX2_seam_9 11 rfl rfl)
theorem dX2_seam_222 : decode cX2_seam 222 = .ok (.aload_n 2, 1) := dk_44 (dk_at dksX2_seam_9 12 rfl rfl)
theorem dX2_seam_223 : decode cX2_seam 223 = .ok (.iload 5, 2) := dk_21 5 (dk_at dksX2_seam_9 13 rfl rfl)
theorem dX2_seam_225 : decode cX2_seam 225 = .ok (.iload 4, 2) := dk_21 4 (dk_at dksX2_seam_9 15 rfl rfl)
theorem dX2_seam_227 : decode cX2_seam 227 = .ok (.invokevirtual 272, 3) := dk_182 1 16 (dk_at dksX2_seam_9 17 rfl rfl)
theorem dX2_seam_230 : decode cX2_seam 230 = .ok (.istore 4, 2) := dk_54 4 (dk_at dksX2_seam_9 20 rfl rfl)
theorem dX2_seam_232 : decode cX2_seam 232 = .ok (.aload_n 3, 1) := dk_45 (dk_at dksX2_seam_9 22 rfl rfl)
theorem dX2_seam_233 : decode cX2_seam 233 = .ok (.iload 5, 2) := dk_21 5 (dk_at dksX2_seam_10 0 rfl rfl)
theorem dX2_seam_235 : decode cX2_seam 235 = .ok (.iload 4, 2) := dk_21 4 (dk_at dksX2_seam_10 2 rfl rfl)
theorem dX2_seam_237 : decode cX2_seam 237 = .ok (.iastore, 1) := dk_79 (dk_at dksX2_seam_10 4 rfl rfl)
theorem dX2_seam_238 : decode cX2_seam 238 = .ok (.iinc 5 1, 3) := dk_132 5 1 (dk_at dksX2_seam_10 5 rfl rfl)
theorem dX2_seam_241 : decode cX2_seam 241 = .ok (.goto (-104), 3) := dk_167 255 152 (dk_at dksX2_seam_10 8 rfl rfl)
theorem dX2_seam_244 : decode cX2_seam 244 = .ok (.aload_n 3, 1) := dk_45 (dk_at dksX2_seam_10 11 rfl rfl)
theorem dX2_seam_245 : decode cX2_seam 245 = .ok (.areturn, 1) := dk_176 (dk_at dksX2_seam_10 12 rfl rfl)
abbrev cX2_below : ByteArray := prog_8_method_11_code
def yX2_below : MethodName := ⟨RX2, "below", "([[III)I"⟩
def dkwX2_below_3 : List UInt8 := [21, 6, 153, 0, 8, 21, 5, 167, 0, 5, 21, 4, 54, 4, 132, 5, 1, 167, 255, 182, 21, 4, 172]
abbrev dktX2_below_3 : List UInt8 := dkwX2_below_3 ++ []
def dkwX2_below_2 : List UInt8 := [43, 28, 50, 21, 4, 46, 160, 0, 14, 21, 5, 21, 4, 162, 0, 7, 4, 167, 0, 4, 3, 54, 6]
abbrev dktX2_below_2 : List UInt8 := dkwX2_below_2 ++ dktX2_below_3
def dkwX2_below_1 : List UInt8 := [163, 0, 67, 43, 28, 50, 21, 5, 46, 43, 28, 50, 21, 4, 46, 161, 0, 25, 43, 28, 50, 21, 5, 46]
abbrev dktX2_below_1 : List UInt8 := dkwX2_below_1 ++ dktX2_below_2
def dkwX2_below_0 : List UInt8 := [29, 54, 4, 3, 29, 4, 100, 184, 1, 8, 54, 5, 21, 5, 16, 7, 29, 4, 96, 184, 0, 76]
abbrev dktX2_below_0 : List UInt8 := dkwX2_below_0 ++ dktX2_below_1
theorem dksX2_below_0 : cX2_below.data.toList.drop 0 = dktX2_below_0 := by decide +kernel
theorem dksX2_below_1 : cX2_below.data.toList.drop 22 = dktX2_below_1 := dk_seg dksX2_below_0 22 rfl rfl
theorem dksX2_below_2 : cX2_below.data.toList.drop 46 = dktX2_below_2 := dk_seg dksX2_below_1 24 rfl rfl
theorem dksX2_below_3 : cX2_below.data.toList.drop 69 = dktX2_below_3 := dk_seg dksX2_below_2 23 rfl rfl
theorem dX2_below_0 : decode cX2_below 0 = .ok (.iload_n 3, 1) := dk_29 (dk_at dksX2_below_0 0 rfl rfl)
theorem dX2_below_1 : decode cX2_below 1 = .ok (.istore 4, 2) := dk_54 4 (dk_at dksX2_below_0 1 rfl rfl)
theorem dX2_below_3 : decode cX2_below 3 = .ok (.iconst 0, 1) := dk_3 (dk_at dksX2_below_0 3 rfl rfl)
theorem dX2_below_4 : decode cX2_below 4 = .ok (.iload_n 3, 1) := dk_29 (dk_at dksX2_below_0 4 rfl rfl)
theorem dX2_below_5 : decode cX2_below 5 = .ok (.iconst 1, 1) := dk_4 (dk_at dksX2_below_0 5 rfl rfl)
theorem dX2_below_6 : decode cX2_below 6 = .ok (.isub, 1) := dk_100 (dk_at dksX2_below_0 6 rfl rfl)
theorem dX2_below_7 : decode cX2_below 7 = .ok (.invokestatic 264, 3) := dk_184 1 8 (dk_at dksX2_below_0 7 rfl rfl)
theorem dX2_below_10 : decode cX2_below 10 = .ok (.istore 5, 2) := dk_54 5 (dk_at dksX2_below_0 10 rfl rfl)
theorem dX2_below_12 : decode cX2_below 12 = .ok (.iload 5, 2) := dk_21 5 (dk_at dksX2_below_0 12 rfl rfl)
theorem dX2_below_14 : decode cX2_below 14 = .ok (.bipush 7, 2) := dk_16 7 (dk_at dksX2_below_0 14 rfl rfl)
theorem dX2_below_16 : decode cX2_below 16 = .ok (.iload_n 3, 1) := dk_29 (dk_at dksX2_below_0 16 rfl rfl)
theorem dX2_below_17 : decode cX2_below 17 = .ok (.iconst 1, 1) := dk_4 (dk_at dksX2_below_0 17 rfl rfl)
theorem dX2_below_18 : decode cX2_below 18 = .ok (.iadd, 1) := dk_96 (dk_at dksX2_below_0 18 rfl rfl)
theorem dX2_below_19 : decode cX2_below 19 = .ok (.invokestatic 76, 3) := dk_184 0 76 (dk_at dksX2_below_0 19 rfl rfl)
theorem dX2_below_22 : decode cX2_below 22 = .ok (.if_icmp .gt 67, 3) := dk_163 0 67 (dk_at dksX2_below_1 0 rfl rfl)
theorem dX2_below_25 : decode cX2_below 25 = .ok (.aload_n 1, 1) := dk_43 (dk_at dksX2_below_1 3 rfl rfl)
theorem dX2_below_26 : decode cX2_below 26 = .ok (.iload_n 2, 1) := dk_28 (dk_at dksX2_below_1 4 rfl rfl)
theorem dX2_below_27 : decode cX2_below 27 = .ok (.aaload, 1) := dk_50 (dk_at dksX2_below_1 5 rfl rfl)
theorem dX2_below_28 : decode cX2_below 28 = .ok (.iload 5, 2) := dk_21 5 (dk_at dksX2_below_1 6 rfl rfl)
theorem dX2_below_30 : decode cX2_below 30 = .ok (.iaload, 1) := dk_46 (dk_at dksX2_below_1 8 rfl rfl)
theorem dX2_below_31 : decode cX2_below 31 = .ok (.aload_n 1, 1) := dk_43 (dk_at dksX2_below_1 9 rfl rfl)
theorem dX2_below_32 : decode cX2_below 32 = .ok (.iload_n 2, 1) := dk_28 (dk_at dksX2_below_1 10 rfl rfl)
theorem dX2_below_33 : decode cX2_below 33 = .ok (.aaload, 1) := dk_50 (dk_at dksX2_below_1 11 rfl rfl)
theorem dX2_below_34 : decode cX2_below 34 = .ok (.iload 4, 2) := dk_21 4 (dk_at dksX2_below_1 12 rfl rfl)
theorem dX2_below_36 : decode cX2_below 36 = .ok (.iaload, 1) := dk_46 (dk_at dksX2_below_1 14 rfl rfl)
theorem dX2_below_37 : decode cX2_below 37 = .ok (.if_icmp .lt 25, 3) := dk_161 0 25 (dk_at dksX2_below_1 15 rfl rfl)
theorem dX2_below_40 : decode cX2_below 40 = .ok (.aload_n 1, 1) := dk_43 (dk_at dksX2_below_1 18 rfl rfl)
theorem dX2_below_41 : decode cX2_below 41 = .ok (.iload_n 2, 1) := dk_28 (dk_at dksX2_below_1 19 rfl rfl)
theorem dX2_below_42 : decode cX2_below 42 = .ok (.aaload, 1) := dk_50 (dk_at dksX2_below_1 20 rfl rfl)
theorem dX2_below_43 : decode cX2_below 43 = .ok (.iload 5, 2) := dk_21 5 (dk_at dksX2_below_1 21 rfl rfl)
theorem dX2_below_45 : decode cX2_below 45 = .ok (.iaload, 1) := dk_46 (dk_at dksX2_below_1 23 rfl rfl)
theorem dX2_below_46 : decode cX2_below 46 = .ok (.aload_n 1, 1) := dk_43 (dk_at dksX2_below_2 0 rfl rfl)
theorem dX2_below_47 : decode cX2_below 47 = .ok (.iload_n 2, 1) := dk_28 (dk_at dksX2_below_2 1 rfl rfl)
theorem dX2_below_48 : decode cX2_below 48 = .ok (.aaload, 1) := dk_50 (dk_at dksX2_below_2 2 rfl rfl)
theorem dX2_below_49 : decode cX2_below 49 = .ok (.iload 4, 2) := dk_21 4 (dk_at dksX2_below_2 3 rfl rfl)
theorem dX2_below_51 : decode cX2_below 51 = .ok (.iaload, 1) := dk_46 (dk_at dksX2_below_2 5 rfl rfl)
theorem dX2_below_52 : decode cX2_below 52 = .ok (.if_icmp .ne 14, 3) := dk_160 0 14 (dk_at dksX2_below_2 6 rfl rfl)
theorem dX2_below_55 : decode cX2_below 55 = .ok (.iload 5, 2) := dk_21 5 (dk_at dksX2_below_2 9 rfl rfl)
theorem dX2_below_57 : decode cX2_below 57 = .ok (.iload 4, 2) := dk_21 4 (dk_at dksX2_below_2 11 rfl rfl)
theorem dX2_below_59 : decode cX2_below 59 = .ok (.if_icmp .ge 7, 3) := dk_162 0 7 (dk_at dksX2_below_2 13 rfl rfl)
theorem dX2_below_62 : decode cX2_below 62 = .ok (.iconst 1, 1) := dk_4 (dk_at dksX2_below_2 16 rfl rfl)
theorem dX2_below_63 : decode cX2_below 63 = .ok (.goto 4, 3) := dk_167 0 4 (dk_at dksX2_below_2 17 rfl rfl)
theorem dX2_below_66 : decode cX2_below 66 = .ok (.iconst 0, 1) := dk_3 (dk_at dksX2_below_2 20 rfl rfl)
theorem dX2_below_67 : decode cX2_below 67 = .ok (.istore 6, 2) := dk_54 6 (dk_at dksX2_below_2 21 rfl rfl)
theorem dX2_below_69 : decode cX2_below 69 = .ok (.iload 6, 2) := dk_21 6 (dk_at dksX2_below_3 0 rfl rfl)
theorem dX2_below_71 : decode cX2_below 71 = .ok (.ifCond .eq 8, 3) := dk_153 0 8 (dk_at dksX2_below_3 2 rfl rfl)
theorem dX2_below_74 : decode cX2_below 74 = .ok (.iload 5, 2) := dk_21 5 (dk_at dksX2_below_3 5 rfl rfl)
theorem dX2_below_76 : decode cX2_below 76 = .ok (.goto 5, 3) := dk_167 0 5 (dk_at dksX2_below_3 7 rfl rfl)
theorem dX2_below_79 : decode cX2_below 79 = .ok (.iload 4, 2) := dk_21 4 (dk_at dksX2_below_3 10 rfl rfl)
theorem dX2_below_81 : decode cX2_below 81 = .ok (.istore 4, 2) := dk_54 4 (dk_at dksX2_below_3 12 rfl rfl)
theorem dX2_below_83 : decode cX2_below 83 = .ok (.iinc 5 1, 3) := dk_132 5 1 (dk_at dksX2_below_3 14 rfl rfl)
theorem dX2_below_86 : decode cX2_below 86 = .ok (.goto (-74), 3) := dk_167 255 182 (dk_at dksX2_below_3 17 rfl rfl)
theorem dX2_below_89 : decode cX2_below 89 = .ok (.iload 4, 2) := dk_21 4 (dk_at dksX2_below_3 20 rfl rfl)
theorem dX2_below_91 : decode cX2_below 91 = .ok (.ireturn, 1) := dk_172 (dk_at dksX2_below_3 22 rfl rfl)
abbrev cX2_difference : ByteArray := prog_8_method_9_code
def yX2_difference : MethodName := ⟨RX2, "difference", "(LPictureRing$Link;II)I"⟩
def dkwX2_difference_2 : List UInt8 := [180, 0, 215, 180, 0, 219, 100, 182, 0, 111, 100, 184, 0, 151, 172]
abbrev dktX2_difference_2 : List UInt8 := dkwX2_difference_2 ++ []
def dkwX2_difference_1 : List UInt8 := [180, 0, 82, 180, 0, 86, 43, 180, 0, 197, 50, 28, 43, 180, 0, 215, 180, 0, 225, 100, 29, 43]
abbrev dktX2_difference_1 : List UInt8 := dkwX2_difference_1 ++ dktX2_difference_2
def dkwX2_difference_0 : List UInt8 := [42, 180, 0, 3, 180, 0, 82, 180, 0, 86, 43, 180, 0, 200, 50, 28, 29, 182, 0, 111, 42, 180, 0, 3]
abbrev dktX2_difference_0 : List UInt8 := dkwX2_difference_0 ++ dktX2_difference_1
theorem dksX2_difference_0 : cX2_difference.data.toList.drop 0 = dktX2_difference_0 := by decide +kernel
theorem dksX2_difference_1 : cX2_difference.data.toList.drop 24 = dktX2_difference_1 := dk_seg dksX2_difference_0 24 rfl rfl
theorem dksX2_difference_2 : cX2_difference.data.toList.drop 46 = dktX2_difference_2 := dk_seg dksX2_difference_1 22 rfl rfl
theorem dX2_difference_0 : decode cX2_difference 0 = .ok (.aload_n 0, 1) := dk_42 (dk_at dksX2_difference_0 0 rfl rfl)
theorem dX2_difference_1 : decode cX2_difference 1 = .ok (.getfield 3, 3) := dk_180 0 3 (dk_at dksX2_difference_0 1 rfl rfl)
theorem dX2_difference_4 : decode cX2_difference 4 = .ok (.getfield 82, 3) := dk_180 0 82 (dk_at dksX2_difference_0 4 rfl rfl)
theorem dX2_difference_7 : decode cX2_difference 7 = .ok (.getfield 86, 3) := dk_180 0 86 (dk_at dksX2_difference_0 7 rfl rfl)
theorem dX2_difference_10 : decode cX2_difference 10 = .ok (.aload_n 1, 1) := dk_43 (dk_at dksX2_difference_0 10 rfl rfl)
theorem dX2_difference_11 : decode cX2_difference 11 = .ok (.getfield 200, 3) := dk_180 0 200 (dk_at dksX2_difference_0 11 rfl rfl)
theorem dX2_difference_14 : decode cX2_difference 14 = .ok (.aaload, 1) := dk_50 (dk_at dksX2_difference_0 14 rfl rfl)
theorem dX2_difference_15 : decode cX2_difference 15 = .ok (.iload_n 2, 1) := dk_28 (dk_at dksX2_difference_0 15 rfl rfl)
theorem dX2_difference_16 : decode cX2_difference 16 = .ok (.iload_n 3, 1) := dk_29 (dk_at dksX2_difference_0 16 rfl rfl)
theorem dX2_difference_17 : decode cX2_difference 17 = .ok (.invokevirtual 111, 3) := dk_182 0 111 (dk_at dksX2_difference_0 17 rfl rfl)
theorem dX2_difference_20 : decode cX2_difference 20 = .ok (.aload_n 0, 1) := dk_42 (dk_at dksX2_difference_0 20 rfl rfl)
theorem dX2_difference_21 : decode cX2_difference 21 = .ok (.getfield 3, 3) := dk_180 0 3 (dk_at dksX2_difference_0 21 rfl rfl)
theorem dX2_difference_24 : decode cX2_difference 24 = .ok (.getfield 82, 3) := dk_180 0 82 (dk_at dksX2_difference_1 0 rfl rfl)
theorem dX2_difference_27 : decode cX2_difference 27 = .ok (.getfield 86, 3) := dk_180 0 86 (dk_at dksX2_difference_1 3 rfl rfl)
theorem dX2_difference_30 : decode cX2_difference 30 = .ok (.aload_n 1, 1) := dk_43 (dk_at dksX2_difference_1 6 rfl rfl)
theorem dX2_difference_31 : decode cX2_difference 31 = .ok (.getfield 197, 3) := dk_180 0 197 (dk_at dksX2_difference_1 7 rfl rfl)
theorem dX2_difference_34 : decode cX2_difference 34 = .ok (.aaload, 1) := dk_50 (dk_at dksX2_difference_1 10 rfl rfl)
theorem dX2_difference_35 : decode cX2_difference 35 = .ok (.iload_n 2, 1) := dk_28 (dk_at dksX2_difference_1 11 rfl rfl)
theorem dX2_difference_36 : decode cX2_difference 36 = .ok (.aload_n 1, 1) := dk_43 (dk_at dksX2_difference_1 12 rfl rfl)
theorem dX2_difference_37 : decode cX2_difference 37 = .ok (.getfield 215, 3) := dk_180 0 215 (dk_at dksX2_difference_1 13 rfl rfl)
theorem dX2_difference_40 : decode cX2_difference 40 = .ok (.getfield 225, 3) := dk_180 0 225 (dk_at dksX2_difference_1 16 rfl rfl)
theorem dX2_difference_43 : decode cX2_difference 43 = .ok (.isub, 1) := dk_100 (dk_at dksX2_difference_1 19 rfl rfl)
theorem dX2_difference_44 : decode cX2_difference 44 = .ok (.iload_n 3, 1) := dk_29 (dk_at dksX2_difference_1 20 rfl rfl)
theorem dX2_difference_45 : decode cX2_difference 45 = .ok (.aload_n 1, 1) := dk_43 (dk_at dksX2_difference_1 21 rfl rfl)
theorem dX2_difference_46 : decode cX2_difference 46 = .ok (.getfield 215, 3) := dk_180 0 215 (dk_at dksX2_difference_2 0 rfl rfl)
theorem dX2_difference_49 : decode cX2_difference 49 = .ok (.getfield 219, 3) := dk_180 0 219 (dk_at dksX2_difference_2 3 rfl rfl)
theorem dX2_difference_52 : decode cX2_difference 52 = .ok (.isub, 1) := dk_100 (dk_at dksX2_difference_2 6 rfl rfl)
theorem dX2_difference_53 : decode cX2_difference 53 = .ok (.invokevirtual 111, 3) := dk_182 0 111 (dk_at dksX2_difference_2 7 rfl rfl)
theorem dX2_difference_56 : decode cX2_difference 56 = .ok (.isub, 1) := dk_100 (dk_at dksX2_difference_2 10 rfl rfl)
theorem dX2_difference_57 : decode cX2_difference 57 = .ok (.invokestatic 151, 3) := dk_184 0 151 (dk_at dksX2_difference_2 11 rfl rfl)
theorem dX2_difference_60 : decode cX2_difference 60 = .ok (.ireturn, 1) := dk_172 (dk_at dksX2_difference_2 14 rfl rfl)
abbrev cX2_findLevels : ByteArray := prog_8_method_14_code
def yX2_findLevels : MethodName := ⟨RX2, "findLevels", "()V"⟩
def dkwX2_findLevels_8 : List UInt8 := [160, 0, 9, 42, 28, 43, 182, 1, 44, 132, 2, 1, 167, 255, 209, 177]
abbrev dktX2_findLevels_8 : List UInt8 := dkwX2_findLevels_8 ++ []
def dkwX2_findLevels_7 : List UInt8 := [162, 0, 39, 42, 180, 0, 244, 153, 0, 10, 28, 154, 0, 22, 167, 0, 13, 42, 180, 0, 45, 28, 46, 2]
abbrev dktX2_findLevels_7 : List UInt8 := dkwX2_findLevels_7 ++ dktX2_findLevels_8
def dkwX2_findLevels_6 : List UInt8 := [76, 42, 44, 43, 182, 1, 41, 181, 0, 61, 3, 61, 28, 42, 180, 0, 3, 180, 0, 82, 180, 0, 206]
abbrev dktX2_findLevels_6 : List UInt8 := dkwX2_findLevels_6 ++ dktX2_findLevels_7
def dkwX2_findLevels_5 : List UInt8 := [10, 42, 180, 0, 247, 133, 183, 1, 27, 182, 1, 34, 78, 132, 4, 1, 167, 255, 204, 44, 45, 182, 1, 38]
abbrev dktX2_findLevels_5 : List UInt8 := dkwX2_findLevels_5 ++ dktX2_findLevels_6
def dkwX2_findLevels_4 : List UInt8 := [162, 0, 43, 44, 42, 42, 180, 0, 41, 21, 4, 50, 182, 1, 30, 182, 1, 34, 77, 45, 187, 0, 54, 89]
abbrev dktX2_findLevels_4 : List UInt8 := dkwX2_findLevels_4 ++ dktX2_findLevels_5
def dkwX2_findLevels_3 : List UInt8 := [187, 0, 54, 89, 183, 0, 60, 78, 3, 54, 4, 21, 4, 42, 180, 0, 3, 180, 0, 82, 180, 0, 206]
abbrev dktX2_findLevels_3 : List UInt8 := dkwX2_findLevels_3 ++ dktX2_findLevels_4
def dkwX2_findLevels_2 : List UInt8 := [187, 0, 54, 89, 183, 0, 60, 76, 42, 180, 0, 244, 153, 0, 92, 187, 0, 54, 89, 183, 0, 60, 77]
abbrev dktX2_findLevels_2 : List UInt8 := dkwX2_findLevels_2 ++ dktX2_findLevels_3
def dkwX2_findLevels_1 : List UInt8 := [162, 0, 22, 42, 180, 0, 56, 27, 187, 0, 54, 89, 183, 0, 60, 83, 132, 1, 1, 167, 255, 226]
abbrev dktX2_findLevels_1 : List UInt8 := dkwX2_findLevels_1 ++ dktX2_findLevels_2
def dkwX2_findLevels_0 : List UInt8 := [42, 187, 0, 54, 89, 183, 0, 60, 181, 0, 61, 3, 60, 27, 42, 180, 0, 3, 180, 0, 82, 180, 0, 206]
abbrev dktX2_findLevels_0 : List UInt8 := dkwX2_findLevels_0 ++ dktX2_findLevels_1
theorem dksX2_findLevels_0 : cX2_findLevels.data.toList.drop 0 = dktX2_findLevels_0 := by decide +kernel
theorem dksX2_findLevels_1 : cX2_findLevels.data.toList.drop 24 = dktX2_findLevels_1 := dk_seg dksX2_findLevels_0 24 rfl rfl
theorem dksX2_findLevels_2 : cX2_findLevels.data.toList.drop 46 = dktX2_findLevels_2 := dk_seg dksX2_findLevels_1 22 rfl rfl
theorem dksX2_findLevels_3 : cX2_findLevels.data.toList.drop 69 = dktX2_findLevels_3 := dk_seg dksX2_findLevels_2 23 rfl rfl
theorem dksX2_findLevels_4 : cX2_findLevels.data.toList.drop 92 = dktX2_findLevels_4 := dk_seg dksX2_findLevels_3 23 rfl rfl
theorem dksX2_findLevels_5 : cX2_findLevels.data.toList.drop 116 = dktX2_findLevels_5 := dk_seg dksX2_findLevels_4 24 rfl rfl
theorem dksX2_findLevels_6 : cX2_findLevels.data.toList.drop 140 = dktX2_findLevels_6 := dk_seg dksX2_findLevels_5 24 rfl rfl
theorem dksX2_findLevels_7 : cX2_findLevels.data.toList.drop 163 = dktX2_findLevels_7 := dk_seg dksX2_findLevels_6 23 rfl rfl
theorem dksX2_findLevels_8 : cX2_findLevels.data.toList.drop 187 = dktX2_findLevels_8 := dk_seg dksX2_findLevels_7 24 rfl rfl
theorem dX2_findLevels_0 : decode cX2_findLevels 0 = .ok (.aload_n 0, 1) := dk_42 (dk_at dksX2_findLevels_0 0 rfl rfl)
theorem dX2_findLevels_1 : decode cX2_findLevels 1 = .ok (.new 54, 3) := dk_187 0 54 (dk_at dksX2_findLevels_0 1 rfl rfl)
theorem dX2_findLevels_4 : decode cX2_findLevels 4 = .ok (.dup, 1) := dk_89 (dk_at dksX2_findLevels_0 4 rfl rfl)
theorem dX2_findLevels_5 : decode cX2_findLevels 5 = .ok (.invokespecial 60, 3) := dk_183 0 60 (dk_at dksX2_findLevels_0 5 rfl rfl)
theorem dX2_findLevels_8 : decode cX2_findLevels 8 = .ok (.putfield 61, 3) := dk_181 0 61 (dk_at dksX2_findLevels_0 8 rfl rfl)
theorem dX2_findLevels_11 : decode cX2_findLevels 11 = .ok (.iconst 0, 1) := dk_3 (dk_at dksX2_findLevels_0 11 rfl rfl)
theorem dX2_findLevels_12 : decode cX2_findLevels 12 = .ok (.istore_n 1, 1) := dk_60 (dk_at dksX2_findLevels_0 12 rfl rfl)
theorem dX2_findLevels_13 : decode cX2_findLevels 13 = .ok (.iload_n 1, 1) := dk_27 (dk_at dksX2_findLevels_0 13 rfl rfl)
theorem dX2_findLevels_14 : decode cX2_findLevels 14 = .ok (.aload_n 0, 1) := dk_42 (dk_at dksX2_findLevels_0 14 rfl rfl)
theorem dX2_findLevels_15 : decode cX2_findLevels 15 = .ok (.getfield 3, 3) := dk_180 0 3 (dk_at dksX2_findLevels_0 15 rfl rfl)
theorem dX2_findLevels_18 : decode cX2_findLevels 18 = .ok (.getfield 82, 3) := dk_180 0 82 (dk_at dksX2_findLevels_0 18 rfl rfl)
theorem dX2_findLevels_21 : decode cX2_findLevels 21 = .ok (.getfield 206, 3) := dk_180 0 206 (dk_at dksX2_findLevels_0 21 rfl rfl)
theorem dX2_findLevels_24 : decode cX2_findLevels 24 = .ok (.if_icmp .ge 22, 3) := dk_162 0 22 (dk_at dksX2_findLevels_1 0 rfl rfl)
theorem dX2_findLevels_27 : decode cX2_findLevels 27 = .ok (.aload_n 0, 1) := dk_42 (dk_at dksX2_findLevels_1 3 rfl rfl)
theorem dX2_findLevels_28 : decode cX2_findLevels 28 = .ok (.getfield 56, 3) := dk_180 0 56 (dk_at dksX2_findLevels_1 4 rfl rfl)
theorem dX2_findLevels_31 : decode cX2_findLevels 31 = .ok (.iload_n 1, 1) := dk_27 (dk_at dksX2_findLevels_1 7 rfl rfl)
theorem dX2_findLevels_32 : decode cX2_findLevels 32 = .ok (.new 54, 3) := dk_187 0 54 (dk_at dksX2_findLevels_1 8 rfl rfl)
theorem dX2_findLevels_35 : decode cX2_findLevels 35 = .ok (.dup, 1) := dk_89 (dk_at dksX2_findLevels_1 11 rfl rfl)
theorem dX2_findLevels_36 : decode cX2_findLevels 36 = .ok (.invokespecial 60, 3) := dk_183 0 60 (dk_at dksX2_findLevels_1 12 rfl rfl)
theorem dX2_findLevels_39 : decode cX2_findLevels 39 = .ok (.aastore, 1) := dk_83 (dk_at dksX2_findLevels_1 15 rfl rfl)
theorem dX2_findLevels_40 : decode cX2_findLevels 40 = .ok (.iinc 1 1, 3) := dk_132 1 1 (dk_at dksX2_findLevels_1 16 rfl rfl)
theorem dX2_findLevels_43 : decode cX2_findLevels 43 = .ok (.goto (-30), 3) := dk_167 255 226 (dk_at dksX2_findLevels_1 19 rfl rfl)
theorem dX2_findLevels_46 : decode cX2_findLevels 46 = .ok (.new 54, 3) := dk_187 0 54 (dk_at dksX2_findLevels_2 0 rfl rfl)
theorem dX2_findLevels_49 : decode cX2_findLevels 49 = .ok (.dup, 1) := dk_89 (dk_at dksX2_findLevels_2 3 rfl rfl)
theorem dX2_findLevels_50 : decode cX2_findLevels 50 = .ok (.invokespecial 60, 3) := dk_183 0 60 (dk_at dksX2_findLevels_2 4 rfl rfl)
theorem dX2_findLevels_53 : decode cX2_findLevels 53 = .ok (.astore_n 1, 1) := dk_76 (dk_at dksX2_findLevels_2 7 rfl rfl)
theorem dX2_findLevels_54 : decode cX2_findLevels 54 = .ok (.aload_n 0, 1) := dk_42 (dk_at dksX2_findLevels_2 8 rfl rfl)
theorem dX2_findLevels_55 : decode cX2_findLevels 55 = .ok (.getfield 244, 3) := dk_180 0 244 (dk_at dksX2_findLevels_2 9 rfl rfl)
theorem dX2_findLevels_58 : decode cX2_findLevels 58 = .ok (.ifCond .eq 92, 3) := dk_153 0 92 (dk_at dksX2_findLevels_2 12 rfl rfl)
theorem dX2_findLevels_61 : decode cX2_findLevels 61 = .ok (.new 54, 3) := dk_187 0 54 (dk_at dksX2_findLevels_2 15 rfl rfl)
theorem dX2_findLevels_64 : decode cX2_findLevels 64 = .ok (.dup, 1) := dk_89 (dk_at dksX2_findLevels_2 18 rfl rfl)
theorem dX2_findLevels_65 : decode cX2_findLevels 65 = .ok (.invokespecial 60, 3) := dk_183 0 60 (dk_at dksX2_findLevels_2 19 rfl rfl)
theorem dX2_findLevels_68 : decode cX2_findLevels 68 = .ok (.astore_n 2, 1) := dk_77 (dk_at dksX2_findLevels_2 22 rfl rfl)
theorem dX2_findLevels_69 : decode cX2_findLevels 69 = .ok (.new 54, 3) := dk_187 0 54 (dk_at dksX2_findLevels_3 0 rfl rfl)
theorem dX2_findLevels_72 : decode cX2_findLevels 72 = .ok (.dup, 1) := dk_89 (dk_at dksX2_findLevels_3 3 rfl rfl)
theorem dX2_findLevels_73 : decode cX2_findLevels 73 = .ok (.invokespecial 60, 3) := dk_183 0 60 (dk_at dksX2_findLevels_3 4 rfl rfl)
theorem dX2_findLevels_76 : decode cX2_findLevels 76 = .ok (.astore_n 3, 1) := dk_78 (dk_at dksX2_findLevels_3 7 rfl rfl)
theorem dX2_findLevels_77 : decode cX2_findLevels 77 = .ok (.iconst 0, 1) := dk_3 (dk_at dksX2_findLevels_3 8 rfl rfl)
theorem dX2_findLevels_78 : decode cX2_findLevels 78 = .ok (.istore 4, 2) := dk_54 4 (dk_at dksX2_findLevels_3 9 rfl rfl)
theorem dX2_findLevels_80 : decode cX2_findLevels 80 = .ok (.iload 4, 2) := dk_21 4 (dk_at dksX2_findLevels_3 11 rfl rfl)
theorem dX2_findLevels_82 : decode cX2_findLevels 82 = .ok (.aload_n 0, 1) := dk_42 (dk_at dksX2_findLevels_3 13 rfl rfl)
theorem dX2_findLevels_83 : decode cX2_findLevels 83 = .ok (.getfield 3, 3) := dk_180 0 3 (dk_at dksX2_findLevels_3 14 rfl rfl)
theorem dX2_findLevels_86 : decode cX2_findLevels 86 = .ok (.getfield 82, 3) := dk_180 0 82 (dk_at dksX2_findLevels_3 17 rfl rfl)
theorem dX2_findLevels_89 : decode cX2_findLevels 89 = .ok (.getfield 206, 3) := dk_180 0 206 (dk_at dksX2_findLevels_3 20 rfl rfl)
theorem dX2_findLevels_92 : decode cX2_findLevels 92 = .ok (.if_icmp .ge 43, 3) := dk_162 0 43 (dk_at dksX2_findLevels_4 0 rfl rfl)
theorem dX2_findLevels_95 : decode cX2_findLevels 95 = .ok (.aload_n 2, 1) := dk_44 (dk_at dksX2_findLevels_4 3 rfl rfl)
theorem dX2_findLevels_96 : decode cX2_findLevels 96 = .ok (.aload_n 0, 1) := dk_42 (dk_at dksX2_findLevels_4 4 rfl rfl)
theorem dX2_findLevels_97 : decode cX2_findLevels 97 = .ok (.aload_n 0, 1) := dk_42 (dk_at dksX2_findLevels_4 5 rfl rfl)
theorem dX2_findLevels_98 : decode cX2_findLevels 98 = .ok (.getfield 41, 3) := dk_180 0 41 (dk_at dksX2_findLevels_4 6 rfl rfl)
theorem dX2_findLevels_101 : decode cX2_findLevels 101 = .ok (.iload 4, 2) := dk_21 4 (dk_at dksX2_findLevels_4 9 rfl rfl)
theorem dX2_findLevels_103 : decode cX2_findLevels 103 = .ok (.aaload, 1) := dk_50 (dk_at dksX2_findLevels_4 11 rfl rfl)
theorem dX2_findLevels_104 : decode cX2_findLevels 104 = .ok (.invokevirtual 286, 3) := dk_182 1 30 (dk_at dksX2_findLevels_4 12 rfl rfl)
theorem dX2_findLevels_107 : decode cX2_findLevels 107 = .ok (.invokevirtual 290, 3) := dk_182 1 34 (dk_at dksX2_findLevels_4 15 rfl rfl)
theorem dX2_findLevels_110 : decode cX2_findLevels 110 = .ok (.astore_n 2, 1) := dk_77 (dk_at dksX2_findLevels_4 18 rfl rfl)
theorem dX2_findLevels_111 : decode cX2_findLevels 111 = .ok (.aload_n 3, 1) := dk_45 (dk_at dksX2_findLevels_4 19 rfl rfl)
theorem dX2_findLevels_112 : decode cX2_findLevels 112 = .ok (.new 54, 3) := dk_187 0 54 (dk_at dksX2_findLevels_4 20 rfl rfl)
theorem dX2_findLevels_115 : decode cX2_findLevels 115 = .ok (.dup, 1) := dk_89 (dk_at dksX2_findLevels_4 23 rfl rfl)
theorem dX2_findLevels_116 : decode cX2_findLevels 116 = .ok (.lconst 1, 1) := dk_10 (dk_at dksX2_findLevels_5 0 rfl rfl)
theorem dX2_findLevels_117 : decode cX2_findLevels 117 = .ok (.aload_n 0, 1) := dk_42 (dk_at dksX2_findLevels_5 1 rfl rfl)
theorem dX2_findLevels_118 : decode cX2_findLevels 118 = .ok (.getfield 247, 3) := dk_180 0 247 (dk_at dksX2_findLevels_5 2 rfl rfl)
theorem dX2_findLevels_121 : decode cX2_findLevels 121 = .ok (.i2l, 1) := dk_133 (dk_at dksX2_findLevels_5 5 rfl rfl)
theorem dX2_findLevels_122 : decode cX2_findLevels 122 = .ok (.invokespecial 283, 3) := dk_183 1 27 (dk_at dksX2_findLevels_5 6 rfl rfl)
theorem dX2_findLevels_125 : decode cX2_findLevels 125 = .ok (.invokevirtual 290, 3) := dk_182 1 34 (dk_at dksX2_findLevels_5 9 rfl rfl)
theorem dX2_findLevels_128 : decode cX2_findLevels 128 = .ok (.astore_n 3, 1) := dk_78 (dk_at dksX2_findLevels_5 12 rfl rfl)
theorem dX2_findLevels_129 : decode cX2_findLevels 129 = .ok (.iinc 4 1, 3) := dk_132 4 1 (dk_at dksX2_findLevels_5 13 rfl rfl)
theorem dX2_findLevels_132 : decode cX2_findLevels 132 = .ok (.goto (-52), 3) := dk_167 255 204 (dk_at dksX2_findLevels_5 16 rfl rfl)
theorem dX2_findLevels_135 : decode cX2_findLevels 135 = .ok (.aload_n 2, 1) := dk_44 (dk_at dksX2_findLevels_5 19 rfl rfl)
theorem dX2_findLevels_136 : decode cX2_findLevels 136 = .ok (.aload_n 3, 1) := dk_45 (dk_at dksX2_findLevels_5 20 rfl rfl)
theorem dX2_findLevels_137 : decode cX2_findLevels 137 = .ok (.invokevirtual 294, 3) := dk_182 1 38 (dk_at dksX2_findLevels_5 21 rfl rfl)
theorem dX2_findLevels_140 : decode cX2_findLevels 140 = .ok (.astore_n 1, 1) := dk_76 (dk_at dksX2_findLevels_6 0 rfl rfl)
theorem dX2_findLevels_141 : decode cX2_findLevels 141 = .ok (.aload_n 0, 1) := dk_42 (dk_at dksX2_findLevels_6 1 rfl rfl)
theorem dX2_findLevels_142 : decode cX2_findLevels 142 = .ok (.aload_n 2, 1) := dk_44 (dk_at dksX2_findLevels_6 2 rfl rfl)
theorem dX2_findLevels_143 : decode cX2_findLevels 143 = .ok (.aload_n 1, 1) := dk_43 (dk_at dksX2_findLevels_6 3 rfl rfl)
theorem dX2_findLevels_144 : decode cX2_findLevels 144 = .ok (.invokevirtual 297, 3) := dk_182 1 41 (dk_at dksX2_findLevels_6 4 rfl rfl)
theorem dX2_findLevels_147 : decode cX2_findLevels 147 = .ok (.putfield 61, 3) := dk_181 0 61 (dk_at dksX2_findLevels_6 7 rfl rfl)
theorem dX2_findLevels_150 : decode cX2_findLevels 150 = .ok (.iconst 0, 1) := dk_3 (dk_at dksX2_findLevels_6 10 rfl rfl)
theorem dX2_findLevels_151 : decode cX2_findLevels 151 = .ok (.istore_n 2, 1) := dk_61 (dk_at dksX2_findLevels_6 11 rfl rfl)
theorem dX2_findLevels_152 : decode cX2_findLevels 152 = .ok (.iload_n 2, 1) := dk_28 (dk_at dksX2_findLevels_6 12 rfl rfl)
theorem dX2_findLevels_153 : decode cX2_findLevels 153 = .ok (.aload_n 0, 1) := dk_42 (dk_at dksX2_findLevels_6 13 rfl rfl)
theorem dX2_findLevels_154 : decode cX2_findLevels 154 = .ok (.getfield 3, 3) := dk_180 0 3 (dk_at dksX2_findLevels_6 14 rfl rfl)
theorem dX2_findLevels_157 : decode cX2_findLevels 157 = .ok (.getfield 82, 3) := dk_180 0 82 (dk_at dksX2_findLevels_6 17 rfl rfl)
theorem dX2_findLevels_160 : decode cX2_findLevels 160 = .ok (.getfield 206, 3) := dk_180 0 206 (dk_at dksX2_findLevels_6 20 rfl rfl)
theorem dX2_findLevels_163 : decode cX2_findLevels 163 = .ok (.if_icmp .ge 39, 3) := dk_162 0 39 (dk_at dksX2_findLevels_7 0 rfl rfl)
theorem dX2_findLevels_166 : decode cX2_findLevels 166 = .ok (.aload_n 0, 1) := dk_42 (dk_at dksX2_findLevels_7 3 rfl rfl)
theorem dX2_findLevels_167 : decode cX2_findLevels 167 = .ok (.getfield 244, 3) := dk_180 0 244 (dk_at dksX2_findLevels_7 4 rfl rfl)
theorem dX2_findLevels_170 : decode cX2_findLevels 170 = .ok (.ifCond .eq 10, 3) := dk_153 0 10 (dk_at dksX2_findLevels_7 7 rfl rfl)
theorem dX2_findLevels_173 : decode cX2_findLevels 173 = .ok (.iload_n 2, 1) := dk_28 (dk_at dksX2_findLevels_7 10 rfl rfl)
theorem dX2_findLevels_174 : decode cX2_findLevels 174 = .ok (.ifCond .ne 22, 3) := dk_154 0 22 (dk_at dksX2_findLevels_7 11 rfl rfl)
theorem dX2_findLevels_177 : decode cX2_findLevels 177 = .ok (.goto 13, 3) := dk_167 0 13 (dk_at dksX2_findLevels_7 14 rfl rfl)
theorem dX2_findLevels_180 : decode cX2_findLevels 180 = .ok (.aload_n 0, 1) := dk_42 (dk_at dksX2_findLevels_7 17 rfl rfl)
theorem dX2_findLevels_181 : decode cX2_findLevels 181 = .ok (.getfield 45, 3) := dk_180 0 45 (dk_at dksX2_findLevels_7 18 rfl rfl)
theorem dX2_findLevels_184 : decode cX2_findLevels 184 = .ok (.iload_n 2, 1) := dk_28 (dk_at dksX2_findLevels_7 21 rfl rfl)
theorem dX2_findLevels_185 : decode cX2_findLevels 185 = .ok (.iaload, 1) := dk_46 (dk_at dksX2_findLevels_7 22 rfl rfl)
theorem dX2_findLevels_186 : decode cX2_findLevels 186 = .ok (.iconst (-1), 1) := dk_2 (dk_at dksX2_findLevels_7 23 rfl rfl)
theorem dX2_findLevels_187 : decode cX2_findLevels 187 = .ok (.if_icmp .ne 9, 3) := dk_160 0 9 (dk_at dksX2_findLevels_8 0 rfl rfl)
theorem dX2_findLevels_190 : decode cX2_findLevels 190 = .ok (.aload_n 0, 1) := dk_42 (dk_at dksX2_findLevels_8 3 rfl rfl)
theorem dX2_findLevels_191 : decode cX2_findLevels 191 = .ok (.iload_n 2, 1) := dk_28 (dk_at dksX2_findLevels_8 4 rfl rfl)
theorem dX2_findLevels_192 : decode cX2_findLevels 192 = .ok (.aload_n 1, 1) := dk_43 (dk_at dksX2_findLevels_8 5 rfl rfl)
theorem dX2_findLevels_193 : decode cX2_findLevels 193 = .ok (.invokevirtual 300, 3) := dk_182 1 44 (dk_at dksX2_findLevels_8 6 rfl rfl)
theorem dX2_findLevels_196 : decode cX2_findLevels 196 = .ok (.iinc 2 1, 3) := dk_132 2 1 (dk_at dksX2_findLevels_8 9 rfl rfl)
theorem dX2_findLevels_199 : decode cX2_findLevels 199 = .ok (.goto (-47), 3) := dk_167 255 209 (dk_at dksX2_findLevels_8 12 rfl rfl)
theorem dX2_findLevels_202 : decode cX2_findLevels 202 = .ok (.return_, 1) := dk_177 (dk_at dksX2_findLevels_8 15 rfl rfl)
abbrev cX2_step : ByteArray := prog_8_method_13_code
def yX2_step : MethodName := ⟨RX2, "step", "(LPictureRing$Link;)LPictureRing$Fraction;"⟩
def dkwX2_step_0 : List UInt8 := [42, 43, 182, 1, 24, 187, 0, 54, 89, 42, 180, 0, 253, 133, 42, 180, 0, 247, 133, 183, 1, 27, 176]
abbrev dktX2_step_0 : List UInt8 := dkwX2_step_0 ++ []
theorem dksX2_step_0 : cX2_step.data.toList.drop 0 = dktX2_step_0 := by decide +kernel
theorem dX2_step_0 : decode cX2_step 0 = .ok (.aload_n 0, 1) := dk_42 (dk_at dksX2_step_0 0 rfl rfl)
theorem dX2_step_1 : decode cX2_step 1 = .ok (.aload_n 1, 1) := dk_43 (dk_at dksX2_step_0 1 rfl rfl)
theorem dX2_step_2 : decode cX2_step 2 = .ok (.invokevirtual 280, 3) := dk_182 1 24 (dk_at dksX2_step_0 2 rfl rfl)
theorem dX2_step_5 : decode cX2_step 5 = .ok (.new 54, 3) := dk_187 0 54 (dk_at dksX2_step_0 5 rfl rfl)
theorem dX2_step_8 : decode cX2_step 8 = .ok (.dup, 1) := dk_89 (dk_at dksX2_step_0 8 rfl rfl)
theorem dX2_step_9 : decode cX2_step 9 = .ok (.aload_n 0, 1) := dk_42 (dk_at dksX2_step_0 9 rfl rfl)
theorem dX2_step_10 : decode cX2_step 10 = .ok (.getfield 253, 3) := dk_180 0 253 (dk_at dksX2_step_0 10 rfl rfl)
theorem dX2_step_13 : decode cX2_step 13 = .ok (.i2l, 1) := dk_133 (dk_at dksX2_step_0 13 rfl rfl)
theorem dX2_step_14 : decode cX2_step 14 = .ok (.aload_n 0, 1) := dk_42 (dk_at dksX2_step_0 14 rfl rfl)
theorem dX2_step_15 : decode cX2_step 15 = .ok (.getfield 247, 3) := dk_180 0 247 (dk_at dksX2_step_0 15 rfl rfl)
theorem dX2_step_18 : decode cX2_step 18 = .ok (.i2l, 1) := dk_133 (dk_at dksX2_step_0 18 rfl rfl)
theorem dX2_step_19 : decode cX2_step 19 = .ok (.invokespecial 283, 3) := dk_183 1 27 (dk_at dksX2_step_0 19 rfl rfl)
theorem dX2_step_22 : decode cX2_step 22 = .ok (.areturn, 1) := dk_176 (dk_at dksX2_step_0 22 rfl rfl)
abbrev cX2_measures : ByteArray := prog_8_method_10_code
def yX2_measures : MethodName := ⟨RX2, "measures", "(LPictureRing$Link;)V"⟩
def dkwX2_measures_1 : List UInt8 := [182, 1, 4, 177]
abbrev dktX2_measures_1 : List UInt8 := dkwX2_measures_1 ++ []
def dkwX2_measures_0 : List UInt8 := [42, 3, 181, 0, 247, 42, 3, 181, 0, 250, 42, 3, 181, 0, 253, 43, 42, 43, 186, 1, 0, 0, 0]
abbrev dktX2_measures_0 : List UInt8 := dkwX2_measures_0 ++ dktX2_measures_1
theorem dksX2_measures_0 : cX2_measures.data.toList.drop 0 = dktX2_measures_0 := by decide +kernel
theorem dksX2_measures_1 : cX2_measures.data.toList.drop 23 = dktX2_measures_1 := dk_seg dksX2_measures_0 23 rfl rfl
theorem dX2_measures_0 : decode cX2_measures 0 = .ok (.aload_n 0, 1) := dk_42 (dk_at dksX2_measures_0 0 rfl rfl)
theorem dX2_measures_1 : decode cX2_measures 1 = .ok (.iconst 0, 1) := dk_3 (dk_at dksX2_measures_0 1 rfl rfl)
theorem dX2_measures_2 : decode cX2_measures 2 = .ok (.putfield 247, 3) := dk_181 0 247 (dk_at dksX2_measures_0 2 rfl rfl)
theorem dX2_measures_5 : decode cX2_measures 5 = .ok (.aload_n 0, 1) := dk_42 (dk_at dksX2_measures_0 5 rfl rfl)
theorem dX2_measures_6 : decode cX2_measures 6 = .ok (.iconst 0, 1) := dk_3 (dk_at dksX2_measures_0 6 rfl rfl)
theorem dX2_measures_7 : decode cX2_measures 7 = .ok (.putfield 250, 3) := dk_181 0 250 (dk_at dksX2_measures_0 7 rfl rfl)
theorem dX2_measures_10 : decode cX2_measures 10 = .ok (.aload_n 0, 1) := dk_42 (dk_at dksX2_measures_0 10 rfl rfl)
theorem dX2_measures_11 : decode cX2_measures 11 = .ok (.iconst 0, 1) := dk_3 (dk_at dksX2_measures_0 11 rfl rfl)
theorem dX2_measures_12 : decode cX2_measures 12 = .ok (.putfield 253, 3) := dk_181 0 253 (dk_at dksX2_measures_0 12 rfl rfl)
theorem dX2_measures_15 : decode cX2_measures 15 = .ok (.aload_n 1, 1) := dk_43 (dk_at dksX2_measures_0 15 rfl rfl)
theorem dX2_measures_16 : decode cX2_measures 16 = .ok (.aload_n 0, 1) := dk_42 (dk_at dksX2_measures_0 16 rfl rfl)
theorem dX2_measures_17 : decode cX2_measures 17 = .ok (.aload_n 1, 1) := dk_43 (dk_at dksX2_measures_0 17 rfl rfl)
theorem dX2_measures_18 : decode cX2_measures 18 = .ok (.invokedynamic 256, 5) := by decide +kernel
theorem dX2_measures_23 : decode cX2_measures 23 = .ok (.invokevirtual 260, 3) := dk_182 1 4 (dk_at dksX2_measures_1 0 rfl rfl)
theorem dX2_measures_26 : decode cX2_measures 26 = .ok (.return_, 1) := dk_177 (dk_at dksX2_measures_1 3 rfl rfl)
abbrev cX2_lambda_measures_0 : ByteArray := prog_8_method_22_code
def yX2_lambda_measures_0 : MethodName := ⟨RX2, "lambda$measures$0", "(LPictureRing$Link;II)V"⟩
def dkwX2_lambda_measures_0_3 : List UInt8 := [180, 0, 225, 100, 29, 43, 180, 0, 215, 180, 0, 219, 100, 182, 0, 111, 100, 96, 181, 0, 253, 177]
abbrev dktX2_lambda_measures_0_3 : List UInt8 := dkwX2_lambda_measures_0_3 ++ []
def dkwX2_lambda_measures_0_2 : List UInt8 := [29, 182, 0, 111, 42, 180, 0, 3, 180, 0, 82, 180, 0, 86, 43, 180, 0, 197, 50, 28, 43, 180, 0, 215]
abbrev dktX2_lambda_measures_0_2 : List UInt8 := dkwX2_lambda_measures_0_2 ++ dktX2_lambda_measures_0_3
def dkwX2_lambda_measures_0_1 : List UInt8 := [181, 0, 250, 42, 89, 180, 0, 253, 42, 180, 0, 3, 180, 0, 82, 180, 0, 86, 43, 180, 0, 200, 50, 28]
abbrev dktX2_lambda_measures_0_1 : List UInt8 := dkwX2_lambda_measures_0_1 ++ dktX2_lambda_measures_0_2
def dkwX2_lambda_measures_0_0 : List UInt8 := [42, 89, 180, 0, 247, 4, 96, 181, 0, 247, 42, 89, 180, 0, 250, 42, 43, 28, 29, 182, 1, 20, 96]
abbrev dktX2_lambda_measures_0_0 : List UInt8 := dkwX2_lambda_measures_0_0 ++ dktX2_lambda_measures_0_1
theorem dksX2_lambda_measures_0_0 : cX2_lambda_measures_0.data.toList.drop 0 = dktX2_lambda_measures_0_0 := by decide +kernel
theorem dksX2_lambda_measures_0_1 : cX2_lambda_measures_0.data.toList.drop 23 = dktX2_lambda_measures_0_1 := dk_seg dksX2_lambda_measures_0_0 23 rfl rfl
theorem dksX2_lambda_measures_0_2 : cX2_lambda_measures_0.data.toList.drop 47 = dktX2_lambda_measures_0_2 := dk_seg dksX2_lambda_measures_0_1 24 rfl rfl
theorem dksX2_lambda_measures_0_3 : cX2_lambda_measures_0.data.toList.drop 71 = dktX2_lambda_measures_0_3 := dk_seg dksX2_lambda_measures_0_2 24 rfl rfl
theorem dX2_lambda_measures_0_0 : decode cX2_lambda_measures_0 0 = .ok (.aload_n 0, 1) := dk_42 (dk_at dksX2_lambda_measures_0_0 0 rfl rfl)
theorem dX2_lambda_measures_0_1 : decode cX2_lambda_measures_0 1 = .ok (.dup, 1) := dk_89 (dk_at dksX2_lambda_measures_0_0 1 rfl rfl)
theorem dX2_lambda_measures_0_2 : decode cX2_lambda_measures_0 2 = .ok (.getfield 247, 3) := dk_180 0 247 (dk_at dksX2_lambda_measures_0_0 2 rfl rfl)
theorem dX2_lambda_measures_0_5 : decode cX2_lambda_measures_0 5 = .ok (.iconst 1, 1) := dk_4 (dk_at dksX2_lambda_measures_0_0 5 rfl rfl)
theorem dX2_lambda_measures_0_6 : decode cX2_lambda_measures_0 6 = .ok (.iadd, 1) := dk_96 (dk_at dksX2_lambda_measures_0_0 6 rfl rfl)
theorem dX2_lambda_measures_0_7 : decode cX2_lambda_measures_0 7 = .ok (.putfield 247, 3) := dk_181 0 247 (dk_at dksX2_lambda_measures_0_0 7 rfl rfl)
theorem dX2_lambda_measures_0_10 : decode cX2_lambda_measures_0 10 = .ok (.aload_n 0, 1) := dk_42 (dk_at dksX2_lambda_measures_0_0 10 rfl rfl)
theorem dX2_lambda_measures_0_11 : decode cX2_lambda_measures_0 11 = .ok (.dup, 1) := dk_89 (dk_at dksX2_lambda_measures_0_0 11 rfl rfl)
theorem dX2_lambda_measures_0_12 : decode cX2_lambda_measures_0 12 = .ok (.getfield 250, 3) := dk_180 0 250 (dk_at dksX2_lambda_measures_0_0 12 rfl rfl)
theorem dX2_lambda_measures_0_15 : decode cX2_lambda_measures_0 15 = .ok (.aload_n 0, 1) := dk_42 (dk_at dksX2_lambda_measures_0_0 15 rfl rfl)
theorem dX2_lambda_measures_0_16 : decode cX2_lambda_measures_0 16 = .ok (.aload_n 1, 1) := dk_43 (dk_at dksX2_lambda_measures_0_0 16 rfl rfl)
theorem dX2_lambda_measures_0_17 : decode cX2_lambda_measures_0 17 = .ok (.iload_n 2, 1) := dk_28 (dk_at dksX2_lambda_measures_0_0 17 rfl rfl)
theorem dX2_lambda_measures_0_18 : decode cX2_lambda_measures_0 18 = .ok (.iload_n 3, 1) := dk_29 (dk_at dksX2_lambda_measures_0_0 18 rfl rfl)
theorem dX2_lambda_measures_0_19 : decode cX2_lambda_measures_0 19 = .ok (.invokevirtual 276, 3) := dk_182 1 20 (dk_at dksX2_lambda_measures_0_0 19 rfl rfl)
theorem dX2_lambda_measures_0_22 : decode cX2_lambda_measures_0 22 = .ok (.iadd, 1) := dk_96 (dk_at dksX2_lambda_measures_0_0 22 rfl rfl)
theorem dX2_lambda_measures_0_23 : decode cX2_lambda_measures_0 23 = .ok (.putfield 250, 3) := dk_181 0 250 (dk_at dksX2_lambda_measures_0_1 0 rfl rfl)
theorem dX2_lambda_measures_0_26 : decode cX2_lambda_measures_0 26 = .ok (.aload_n 0, 1) := dk_42 (dk_at dksX2_lambda_measures_0_1 3 rfl rfl)
theorem dX2_lambda_measures_0_27 : decode cX2_lambda_measures_0 27 = .ok (.dup, 1) := dk_89 (dk_at dksX2_lambda_measures_0_1 4 rfl rfl)
theorem dX2_lambda_measures_0_28 : decode cX2_lambda_measures_0 28 = .ok (.getfield 253, 3) := dk_180 0 253 (dk_at dksX2_lambda_measures_0_1 5 rfl rfl)
theorem dX2_lambda_measures_0_31 : decode cX2_lambda_measures_0 31 = .ok (.aload_n 0, 1) := dk_42 (dk_at dksX2_lambda_measures_0_1 8 rfl rfl)
theorem dX2_lambda_measures_0_32 : decode cX2_lambda_measures_0 32 = .ok (.getfield 3, 3) := dk_180 0 3 (dk_at dksX2_lambda_measures_0_1 9 rfl rfl)
theorem dX2_lambda_measures_0_35 : decode cX2_lambda_measures_0 35 = .ok (.getfield 82, 3) := dk_180 0 82 (dk_at dksX2_lambda_measures_0_1 12 rfl rfl)
theorem dX2_lambda_measures_0_38 : decode cX2_lambda_measures_0 38 = .ok (.getfield 86, 3) := dk_180 0 86 (dk_at dksX2_lambda_measures_0_1 15 rfl rfl)
theorem dX2_lambda_measures_0_41 : decode cX2_lambda_measures_0 41 = .ok (.aload_n 1, 1) := dk_43 (dk_at dksX2_lambda_measures_0_1 18 rfl rfl)
theorem dX2_lambda_measures_0_42 : decode cX2_lambda_measures_0 42 = .ok (.getfield 200, 3) := dk_180 0 200 (dk_at dksX2_lambda_measures_0_1 19 rfl rfl)
theorem dX2_lambda_measures_0_45 : decode cX2_lambda_measures_0 45 = .ok (.aaload, 1) := dk_50 (dk_at dksX2_lambda_measures_0_1 22 rfl rfl)
theorem dX2_lambda_measures_0_46 : decode cX2_lambda_measures_0 46 = .ok (.iload_n 2, 1) := dk_28 (dk_at dksX2_lambda_measures_0_1 23 rfl rfl)
theorem dX2_lambda_measures_0_47 : decode cX2_lambda_measures_0 47 = .ok (.iload_n 3, 1) := dk_29 (dk_at dksX2_lambda_measures_0_2 0 rfl rfl)
theorem dX2_lambda_measures_0_48 : decode cX2_lambda_measures_0 48 = .ok (.invokevirtual 111, 3) := dk_182 0 111 (dk_at dksX2_lambda_measures_0_2 1 rfl rfl)
theorem dX2_lambda_measures_0_51 : decode cX2_lambda_measures_0 51 = .ok (.aload_n 0, 1) := dk_42 (dk_at dksX2_lambda_measures_0_2 4 rfl rfl)
theorem dX2_lambda_measures_0_52 : decode cX2_lambda_measures_0 52 = .ok (.getfield 3, 3) := dk_180 0 3 (dk_at dksX2_lambda_measures_0_2 5 rfl rfl)
theorem dX2_lambda_measures_0_55 : decode cX2_lambda_measures_0 55 = .ok (.getfield 82, 3) := dk_180 0 82 (dk_at dksX2_lambda_measures_0_2 8 rfl rfl)
theorem dX2_lambda_measures_0_58 : decode cX2_lambda_measures_0 58 = .ok (.getfield 86, 3) := dk_180 0 86 (dk_at dksX2_lambda_measures_0_2 11 rfl rfl)
theorem dX2_lambda_measures_0_61 : decode cX2_lambda_measures_0 61 = .ok (.aload_n 1, 1) := dk_43 (dk_at dksX2_lambda_measures_0_2 14 rfl rfl)
theorem dX2_lambda_measures_0_62 : decode cX2_lambda_measures_0 62 = .ok (.getfield 197, 3) := dk_180 0 197 (dk_at dksX2_lambda_measures_0_2 15 rfl rfl)
theorem dX2_lambda_measures_0_65 : decode cX2_lambda_measures_0 65 = .ok (.aaload, 1) := dk_50 (dk_at dksX2_lambda_measures_0_2 18 rfl rfl)
theorem dX2_lambda_measures_0_66 : decode cX2_lambda_measures_0 66 = .ok (.iload_n 2, 1) := dk_28 (dk_at dksX2_lambda_measures_0_2 19 rfl rfl)
theorem dX2_lambda_measures_0_67 : decode cX2_lambda_measures_0 67 = .ok (.aload_n 1, 1) := dk_43 (dk_at dksX2_lambda_measures_0_2 20 rfl rfl)
theorem dX2_lambda_measures_0_68 : decode cX2_lambda_measures_0 68 = .ok (.getfield 215, 3) := dk_180 0 215 (dk_at dksX2_lambda_measures_0_2 21 rfl rfl)
theorem dX2_lambda_measures_0_71 : decode cX2_lambda_measures_0 71 = .ok (.getfield 225, 3) := dk_180 0 225 (dk_at dksX2_lambda_measures_0_3 0 rfl rfl)
theorem dX2_lambda_measures_0_74 : decode cX2_lambda_measures_0 74 = .ok (.isub, 1) := dk_100 (dk_at dksX2_lambda_measures_0_3 3 rfl rfl)
theorem dX2_lambda_measures_0_75 : decode cX2_lambda_measures_0 75 = .ok (.iload_n 3, 1) := dk_29 (dk_at dksX2_lambda_measures_0_3 4 rfl rfl)
theorem dX2_lambda_measures_0_76 : decode cX2_lambda_measures_0 76 = .ok (.aload_n 1, 1) := dk_43 (dk_at dksX2_lambda_measures_0_3 5 rfl rfl)
theorem dX2_lambda_measures_0_77 : decode cX2_lambda_measures_0 77 = .ok (.getfield 215, 3) := dk_180 0 215 (dk_at dksX2_lambda_measures_0_3 6 rfl rfl)
theorem dX2_lambda_measures_0_80 : decode cX2_lambda_measures_0 80 = .ok (.getfield 219, 3) := dk_180 0 219 (dk_at dksX2_lambda_measures_0_3 9 rfl rfl)
theorem dX2_lambda_measures_0_83 : decode cX2_lambda_measures_0 83 = .ok (.isub, 1) := dk_100 (dk_at dksX2_lambda_measures_0_3 12 rfl rfl)
theorem dX2_lambda_measures_0_84 : decode cX2_lambda_measures_0 84 = .ok (.invokevirtual 111, 3) := dk_182 0 111 (dk_at dksX2_lambda_measures_0_3 13 rfl rfl)
theorem dX2_lambda_measures_0_87 : decode cX2_lambda_measures_0 87 = .ok (.isub, 1) := dk_100 (dk_at dksX2_lambda_measures_0_3 16 rfl rfl)
theorem dX2_lambda_measures_0_88 : decode cX2_lambda_measures_0 88 = .ok (.iadd, 1) := dk_96 (dk_at dksX2_lambda_measures_0_3 17 rfl rfl)
theorem dX2_lambda_measures_0_89 : decode cX2_lambda_measures_0 89 = .ok (.putfield 253, 3) := dk_181 0 253 (dk_at dksX2_lambda_measures_0_3 18 rfl rfl)
theorem dX2_lambda_measures_0_92 : decode cX2_lambda_measures_0 92 = .ok (.return_, 1) := dk_177 (dk_at dksX2_lambda_measures_0_3 21 rfl rfl)
abbrev cX2_levelsFrom : ByteArray := prog_8_method_15_code
def yX2_levelsFrom : MethodName := ⟨RX2, "levelsFrom", "(ILPictureRing$Fraction;)V"⟩
def dkwX2_levelsFrom_3 : List UInt8 := [180, 0, 41, 45, 180, 0, 197, 50, 78, 167, 255, 184, 177]
abbrev dktX2_levelsFrom_3 : List UInt8 := dkwX2_levelsFrom_3 ++ []
def dkwX2_levelsFrom_2 : List UInt8 := [44, 187, 0, 54, 89, 10, 42, 180, 0, 247, 133, 183, 1, 27, 182, 1, 41, 182, 1, 48, 83, 42]
abbrev dktX2_levelsFrom_2 : List UInt8 := dkwX2_levelsFrom_2 ++ dktX2_levelsFrom_3
def dkwX2_levelsFrom_1 : List UInt8 := [58, 4, 42, 180, 0, 56, 45, 180, 0, 197, 42, 180, 0, 56, 45, 180, 0, 200, 50, 25, 4, 182, 1, 34]
abbrev dktX2_levelsFrom_1 : List UInt8 := dkwX2_levelsFrom_1 ++ dktX2_levelsFrom_2
def dkwX2_levelsFrom_0 : List UInt8 := [42, 180, 0, 41, 27, 50, 78, 45, 198, 0, 74, 45, 180, 0, 197, 27, 159, 0, 66, 42, 45, 182, 1, 30]
abbrev dktX2_levelsFrom_0 : List UInt8 := dkwX2_levelsFrom_0 ++ dktX2_levelsFrom_1
theorem dksX2_levelsFrom_0 : cX2_levelsFrom.data.toList.drop 0 = dktX2_levelsFrom_0 := by decide +kernel
theorem dksX2_levelsFrom_1 : cX2_levelsFrom.data.toList.drop 24 = dktX2_levelsFrom_1 := dk_seg dksX2_levelsFrom_0 24 rfl rfl
theorem dksX2_levelsFrom_2 : cX2_levelsFrom.data.toList.drop 48 = dktX2_levelsFrom_2 := dk_seg dksX2_levelsFrom_1 24 rfl rfl
theorem dksX2_levelsFrom_3 : cX2_levelsFrom.data.toList.drop 70 = dktX2_levelsFrom_3 := dk_seg dksX2_levelsFrom_2 22 rfl rfl
theorem dX2_levelsFrom_0 : decode cX2_levelsFrom 0 = .ok (.aload_n 0, 1) := dk_42 (dk_at dksX2_levelsFrom_0 0 rfl rfl)
theorem dX2_levelsFrom_1 : decode cX2_levelsFrom 1 = .ok (.getfield 41, 3) := dk_180 0 41 (dk_at dksX2_levelsFrom_0 1 rfl rfl)
theorem dX2_levelsFrom_4 : decode cX2_levelsFrom 4 = .ok (.iload_n 1, 1) := dk_27 (dk_at dksX2_levelsFrom_0 4 rfl rfl)
theorem dX2_levelsFrom_5 : decode cX2_levelsFrom 5 = .ok (.aaload, 1) := dk_50 (dk_at dksX2_levelsFrom_0 5 rfl rfl)
theorem dX2_levelsFrom_6 : decode cX2_levelsFrom 6 = .ok (.astore_n 3, 1) := dk_78 (dk_at dksX2_levelsFrom_0 6 rfl rfl)
theorem dX2_levelsFrom_7 : decode cX2_levelsFrom 7 = .ok (.aload_n 3, 1) := dk_45 (dk_at dksX2_levelsFrom_0 7 rfl rfl)
theorem dX2_levelsFrom_8 : decode cX2_levelsFrom 8 = .ok (.ifnull 74, 3) := dk_198 0 74 (dk_at dksX2_levelsFrom_0 8 rfl rfl)
theorem dX2_levelsFrom_11 : decode cX2_levelsFrom 11 = .ok (.aload_n 3, 1) := dk_45 (dk_at dksX2_levelsFrom_0 11 rfl rfl)
theorem dX2_levelsFrom_12 : decode cX2_levelsFrom 12 = .ok (.getfield 197, 3) := dk_180 0 197 (dk_at dksX2_levelsFrom_0 12 rfl rfl)
theorem dX2_levelsFrom_15 : decode cX2_levelsFrom 15 = .ok (.iload_n 1, 1) := dk_27 (dk_at dksX2_levelsFrom_0 15 rfl rfl)
theorem dX2_levelsFrom_16 : decode cX2_levelsFrom 16 = .ok (.if_icmp .eq 66, 3) := dk_159 0 66 (dk_at dksX2_levelsFrom_0 16 rfl rfl)
theorem dX2_levelsFrom_19 : decode cX2_levelsFrom 19 = .ok (.aload_n 0, 1) := dk_42 (dk_at dksX2_levelsFrom_0 19 rfl rfl)
theorem dX2_levelsFrom_20 : decode cX2_levelsFrom 20 = .ok (.aload_n 3, 1) := dk_45 (dk_at dksX2_levelsFrom_0 20 rfl rfl)
theorem dX2_levelsFrom_21 : decode cX2_levelsFrom 21 = .ok (.invokevirtual 286, 3) := dk_182 1 30 (dk_at dksX2_levelsFrom_0 21 rfl rfl)
theorem dX2_levelsFrom_24 : decode cX2_levelsFrom 24 = .ok (.astore 4, 2) := dk_58 4 (dk_at dksX2_levelsFrom_1 0 rfl rfl)
theorem dX2_levelsFrom_26 : decode cX2_levelsFrom 26 = .ok (.aload_n 0, 1) := dk_42 (dk_at dksX2_levelsFrom_1 2 rfl rfl)
theorem dX2_levelsFrom_27 : decode cX2_levelsFrom 27 = .ok (.getfield 56, 3) := dk_180 0 56 (dk_at dksX2_levelsFrom_1 3 rfl rfl)
theorem dX2_levelsFrom_30 : decode cX2_levelsFrom 30 = .ok (.aload_n 3, 1) := dk_45 (dk_at dksX2_levelsFrom_1 6 rfl rfl)
theorem dX2_levelsFrom_31 : decode cX2_levelsFrom 31 = .ok (.getfield 197, 3) := dk_180 0 197 (dk_at dksX2_levelsFrom_1 7 rfl rfl)
theorem dX2_levelsFrom_34 : decode cX2_levelsFrom 34 = .ok (.aload_n 0, 1) := dk_42 (dk_at dksX2_levelsFrom_1 10 rfl rfl)
theorem dX2_levelsFrom_35 : decode cX2_levelsFrom 35 = .ok (.getfield 56, 3) := dk_180 0 56 (dk_at dksX2_levelsFrom_1 11 rfl rfl)
theorem dX2_levelsFrom_38 : decode cX2_levelsFrom 38 = .ok (.aload_n 3, 1) := dk_45 (dk_at dksX2_levelsFrom_1 14 rfl rfl)
theorem dX2_levelsFrom_39 : decode cX2_levelsFrom 39 = .ok (.getfield 200, 3) := dk_180 0 200 (dk_at dksX2_levelsFrom_1 15 rfl rfl)
theorem dX2_levelsFrom_42 : decode cX2_levelsFrom 42 = .ok (.aaload, 1) := dk_50 (dk_at dksX2_levelsFrom_1 18 rfl rfl)
theorem dX2_levelsFrom_43 : decode cX2_levelsFrom 43 = .ok (.aload 4, 2) := dk_25 4 (dk_at dksX2_levelsFrom_1 19 rfl rfl)
theorem dX2_levelsFrom_45 : decode cX2_levelsFrom 45 = .ok (.invokevirtual 290, 3) := dk_182 1 34 (dk_at dksX2_levelsFrom_1 21 rfl rfl)
theorem dX2_levelsFrom_48 : decode cX2_levelsFrom 48 = .ok (.aload_n 2, 1) := dk_44 (dk_at dksX2_levelsFrom_2 0 rfl rfl)
theorem dX2_levelsFrom_49 : decode cX2_levelsFrom 49 = .ok (.new 54, 3) := dk_187 0 54 (dk_at dksX2_levelsFrom_2 1 rfl rfl)
theorem dX2_levelsFrom_52 : decode cX2_levelsFrom 52 = .ok (.dup, 1) := dk_89 (dk_at dksX2_levelsFrom_2 4 rfl rfl)
theorem dX2_levelsFrom_53 : decode cX2_levelsFrom 53 = .ok (.lconst 1, 1) := dk_10 (dk_at dksX2_levelsFrom_2 5 rfl rfl)
theorem dX2_levelsFrom_54 : decode cX2_levelsFrom 54 = .ok (.aload_n 0, 1) := dk_42 (dk_at dksX2_levelsFrom_2 6 rfl rfl)
theorem dX2_levelsFrom_55 : decode cX2_levelsFrom 55 = .ok (.getfield 247, 3) := dk_180 0 247 (dk_at dksX2_levelsFrom_2 7 rfl rfl)
theorem dX2_levelsFrom_58 : decode cX2_levelsFrom 58 = .ok (.i2l, 1) := dk_133 (dk_at dksX2_levelsFrom_2 10 rfl rfl)
theorem dX2_levelsFrom_59 : decode cX2_levelsFrom 59 = .ok (.invokespecial 283, 3) := dk_183 1 27 (dk_at dksX2_levelsFrom_2 11 rfl rfl)
theorem dX2_levelsFrom_62 : decode cX2_levelsFrom 62 = .ok (.invokevirtual 297, 3) := dk_182 1 41 (dk_at dksX2_levelsFrom_2 14 rfl rfl)
theorem dX2_levelsFrom_65 : decode cX2_levelsFrom 65 = .ok (.invokevirtual 304, 3) := dk_182 1 48 (dk_at dksX2_levelsFrom_2 17 rfl rfl)
theorem dX2_levelsFrom_68 : decode cX2_levelsFrom 68 = .ok (.aastore, 1) := dk_83 (dk_at dksX2_levelsFrom_2 20 rfl rfl)
theorem dX2_levelsFrom_69 : decode cX2_levelsFrom 69 = .ok (.aload_n 0, 1) := dk_42 (dk_at dksX2_levelsFrom_2 21 rfl rfl)
theorem dX2_levelsFrom_70 : decode cX2_levelsFrom 70 = .ok (.getfield 41, 3) := dk_180 0 41 (dk_at dksX2_levelsFrom_3 0 rfl rfl)
theorem dX2_levelsFrom_73 : decode cX2_levelsFrom 73 = .ok (.aload_n 3, 1) := dk_45 (dk_at dksX2_levelsFrom_3 3 rfl rfl)
theorem dX2_levelsFrom_74 : decode cX2_levelsFrom 74 = .ok (.getfield 197, 3) := dk_180 0 197 (dk_at dksX2_levelsFrom_3 4 rfl rfl)
theorem dX2_levelsFrom_77 : decode cX2_levelsFrom 77 = .ok (.aaload, 1) := dk_50 (dk_at dksX2_levelsFrom_3 7 rfl rfl)
theorem dX2_levelsFrom_78 : decode cX2_levelsFrom 78 = .ok (.astore_n 3, 1) := dk_78 (dk_at dksX2_levelsFrom_3 8 rfl rfl)
theorem dX2_levelsFrom_79 : decode cX2_levelsFrom 79 = .ok (.goto (-72), 3) := dk_167 255 184 (dk_at dksX2_levelsFrom_3 9 rfl rfl)
theorem dX2_levelsFrom_82 : decode cX2_levelsFrom 82 = .ok (.return_, 1) := dk_177 (dk_at dksX2_levelsFrom_3 12 rfl rfl)
abbrev cX2_follower : ByteArray := prog_8_method_17_code
def yX2_follower : MethodName := ⟨RX2, "followe\x72", "(I)I"⟩
def dkwX2_follower_0 : List UInt8 := [42, 180, 0, 41, 27, 50, 199, 0, 7, 2, 167, 0, 12, 42, 180, 0, 41, 27, 50, 180, 0, 197, 172]
abbrev dktX2_follower_0 : List UInt8 := dkwX2_follower_0 ++ []
theorem dksX2_follower_0 : cX2_follower.data.toList.drop 0 = dktX2_follower_0 := by decide +kernel
theorem dX2_follower_0 : decode cX2_follower 0 = .ok (.aload_n 0, 1) := dk_42 (dk_at dksX2_follower_0 0 rfl rfl)
theorem dX2_follower_1 : decode cX2_follower 1 = .ok (.getfield 41, 3) := dk_180 0 41 (dk_at dksX2_follower_0 1 rfl rfl)
theorem dX2_follower_4 : decode cX2_follower 4 = .ok (.iload_n 1, 1) := dk_27 (dk_at dksX2_follower_0 4 rfl rfl)
theorem dX2_follower_5 : decode cX2_follower 5 = .ok (.aaload, 1) := dk_50 (dk_at dksX2_follower_0 5 rfl rfl)
theorem dX2_follower_6 : decode cX2_follower 6 = .ok (.ifnonnull 7, 3) := dk_199 0 7 (dk_at dksX2_follower_0 6 rfl rfl)
theorem dX2_follower_9 : decode cX2_follower 9 = .ok (.iconst (-1), 1) := dk_2 (dk_at dksX2_follower_0 9 rfl rfl)
theorem dX2_follower_10 : decode cX2_follower 10 = .ok (.goto 12, 3) := dk_167 0 12 (dk_at dksX2_follower_0 10 rfl rfl)
theorem dX2_follower_13 : decode cX2_follower 13 = .ok (.aload_n 0, 1) := dk_42 (dk_at dksX2_follower_0 13 rfl rfl)
theorem dX2_follower_14 : decode cX2_follower 14 = .ok (.getfield 41, 3) := dk_180 0 41 (dk_at dksX2_follower_0 14 rfl rfl)
theorem dX2_follower_17 : decode cX2_follower 17 = .ok (.iload_n 1, 1) := dk_27 (dk_at dksX2_follower_0 17 rfl rfl)
theorem dX2_follower_18 : decode cX2_follower 18 = .ok (.aaload, 1) := dk_50 (dk_at dksX2_follower_0 18 rfl rfl)
theorem dX2_follower_19 : decode cX2_follower 19 = .ok (.getfield 197, 3) := dk_180 0 197 (dk_at dksX2_follower_0 19 rfl rfl)
theorem dX2_follower_22 : decode cX2_follower 22 = .ok (.ireturn, 1) := dk_172 (dk_at dksX2_follower_0 22 rfl rfl)
abbrev cX2_isRight : ByteArray := prog_8_method_18_code
def yX2_isRight : MethodName := ⟨RX2, "isRight", "(I)Z"⟩
def dkwX2_isRight_4 : List UInt8 := [25, 4, 180, 1, 71, 160, 0, 7, 4, 167, 0, 4, 3, 172]
abbrev dktX2_isRight_4 : List UInt8 := dkwX2_isRight_4 ++ []
def dkwX2_isRight_3 : List UInt8 := [180, 1, 65, 112, 25, 4, 180, 1, 68, 160, 0, 27, 45, 180, 1, 71, 44, 180, 0, 215, 180, 0, 225, 96]
abbrev dktX2_isRight_3 : List UInt8 := dkwX2_isRight_3 ++ dktX2_isRight_4
def dkwX2_isRight_2 : List UInt8 := [180, 1, 65, 25, 4, 180, 1, 65, 160, 0, 52, 45, 180, 1, 68, 44, 180, 0, 215, 180, 0, 219, 96, 45]
abbrev dktX2_isRight_2 : List UInt8 := dkwX2_isRight_2 ++ dktX2_isRight_3
def dkwX2_isRight_1 : List UInt8 := [180, 0, 200, 50, 78, 42, 180, 0, 3, 180, 0, 82, 180, 0, 86, 44, 180, 0, 197, 50, 58, 4, 45]
abbrev dktX2_isRight_1 : List UInt8 := dkwX2_isRight_1 ++ dktX2_isRight_2
def dkwX2_isRight_0 : List UInt8 := [42, 180, 0, 41, 27, 50, 77, 44, 199, 0, 5, 3, 172, 42, 180, 0, 3, 180, 0, 82, 180, 0, 86, 44]
abbrev dktX2_isRight_0 : List UInt8 := dkwX2_isRight_0 ++ dktX2_isRight_1
theorem dksX2_isRight_0 : cX2_isRight.data.toList.drop 0 = dktX2_isRight_0 := by decide +kernel
theorem dksX2_isRight_1 : cX2_isRight.data.toList.drop 24 = dktX2_isRight_1 := dk_seg dksX2_isRight_0 24 rfl rfl
theorem dksX2_isRight_2 : cX2_isRight.data.toList.drop 47 = dktX2_isRight_2 := dk_seg dksX2_isRight_1 23 rfl rfl
theorem dksX2_isRight_3 : cX2_isRight.data.toList.drop 71 = dktX2_isRight_3 := dk_seg dksX2_isRight_2 24 rfl rfl
theorem dksX2_isRight_4 : cX2_isRight.data.toList.drop 95 = dktX2_isRight_4 := dk_seg dksX2_isRight_3 24 rfl rfl
theorem dX2_isRight_0 : decode cX2_isRight 0 = .ok (.aload_n 0, 1) := dk_42 (dk_at dksX2_isRight_0 0 rfl rfl)
theorem dX2_isRight_1 : decode cX2_isRight 1 = .ok (.getfield 41, 3) := dk_180 0 41 (dk_at dksX2_isRight_0 1 rfl rfl)
theorem dX2_isRight_4 : decode cX2_isRight 4 = .ok (.iload_n 1, 1) := dk_27 (dk_at dksX2_isRight_0 4 rfl rfl)
theorem dX2_isRight_5 : decode cX2_isRight 5 = .ok (.aaload, 1) := dk_50 (dk_at dksX2_isRight_0 5 rfl rfl)
theorem dX2_isRight_6 : decode cX2_isRight 6 = .ok (.astore_n 2, 1) := dk_77 (dk_at dksX2_isRight_0 6 rfl rfl)
theorem dX2_isRight_7 : decode cX2_isRight 7 = .ok (.aload_n 2, 1) := dk_44 (dk_at dksX2_isRight_0 7 rfl rfl)
theorem dX2_isRight_8 : decode cX2_isRight 8 = .ok (.ifnonnull 5, 3) := dk_199 0 5 (dk_at dksX2_isRight_0 8 rfl rfl)
theorem dX2_isRight_11 : decode cX2_isRight 11 = .ok (.iconst 0, 1) := dk_3 (dk_at dksX2_isRight_0 11 rfl rfl)
theorem dX2_isRight_12 : decode cX2_isRight 12 = .ok (.ireturn, 1) := dk_172 (dk_at dksX2_isRight_0 12 rfl rfl)
theorem dX2_isRight_13 : decode cX2_isRight 13 = .ok (.aload_n 0, 1) := dk_42 (dk_at dksX2_isRight_0 13 rfl rfl)
theorem dX2_isRight_14 : decode cX2_isRight 14 = .ok (.getfield 3, 3) := dk_180 0 3 (dk_at dksX2_isRight_0 14 rfl rfl)
theorem dX2_isRight_17 : decode cX2_isRight 17 = .ok (.getfield 82, 3) := dk_180 0 82 (dk_at dksX2_isRight_0 17 rfl rfl)
theorem dX2_isRight_20 : decode cX2_isRight 20 = .ok (.getfield 86, 3) := dk_180 0 86 (dk_at dksX2_isRight_0 20 rfl rfl)
theorem dX2_isRight_23 : decode cX2_isRight 23 = .ok (.aload_n 2, 1) := dk_44 (dk_at dksX2_isRight_0 23 rfl rfl)
theorem dX2_isRight_24 : decode cX2_isRight 24 = .ok (.getfield 200, 3) := dk_180 0 200 (dk_at dksX2_isRight_1 0 rfl rfl)
theorem dX2_isRight_27 : decode cX2_isRight 27 = .ok (.aaload, 1) := dk_50 (dk_at dksX2_isRight_1 3 rfl rfl)
theorem dX2_isRight_28 : decode cX2_isRight 28 = .ok (.astore_n 3, 1) := dk_78 (dk_at dksX2_isRight_1 4 rfl rfl)
theorem dX2_isRight_29 : decode cX2_isRight 29 = .ok (.aload_n 0, 1) := dk_42 (dk_at dksX2_isRight_1 5 rfl rfl)
theorem dX2_isRight_30 : decode cX2_isRight 30 = .ok (.getfield 3, 3) := dk_180 0 3 (dk_at dksX2_isRight_1 6 rfl rfl)
theorem dX2_isRight_33 : decode cX2_isRight 33 = .ok (.getfield 82, 3) := dk_180 0 82 (dk_at dksX2_isRight_1 9 rfl rfl)
theorem dX2_isRight_36 : decode cX2_isRight 36 = .ok (.getfield 86, 3) := dk_180 0 86 (dk_at dksX2_isRight_1 12 rfl rfl)
theorem dX2_isRight_39 : decode cX2_isRight 39 = .ok (.aload_n 2, 1) := dk_44 (dk_at dksX2_isRight_1 15 rfl rfl)
theorem dX2_isRight_40 : decode cX2_isRight 40 = .ok (.getfield 197, 3) := dk_180 0 197 (dk_at dksX2_isRight_1 16 rfl rfl)
theorem dX2_isRight_43 : decode cX2_isRight 43 = .ok (.aaload, 1) := dk_50 (dk_at dksX2_isRight_1 19 rfl rfl)
theorem dX2_isRight_44 : decode cX2_isRight 44 = .ok (.astore 4, 2) := dk_58 4 (dk_at dksX2_isRight_1 20 rfl rfl)
theorem dX2_isRight_46 : decode cX2_isRight 46 = .ok (.aload_n 3, 1) := dk_45 (dk_at dksX2_isRight_1 22 rfl rfl)
theorem dX2_isRight_47 : decode cX2_isRight 47 = .ok (.getfield 321, 3) := dk_180 1 65 (dk_at dksX2_isRight_2 0 rfl rfl)
theorem dX2_isRight_50 : decode cX2_isRight 50 = .ok (.aload 4, 2) := dk_25 4 (dk_at dksX2_isRight_2 3 rfl rfl)
theorem dX2_isRight_52 : decode cX2_isRight 52 = .ok (.getfield 321, 3) := dk_180 1 65 (dk_at dksX2_isRight_2 5 rfl rfl)
theorem dX2_isRight_55 : decode cX2_isRight 55 = .ok (.if_icmp .ne 52, 3) := dk_160 0 52 (dk_at dksX2_isRight_2 8 rfl rfl)
theorem dX2_isRight_58 : decode cX2_isRight 58 = .ok (.aload_n 3, 1) := dk_45 (dk_at dksX2_isRight_2 11 rfl rfl)
theorem dX2_isRight_59 : decode cX2_isRight 59 = .ok (.getfield 324, 3) := dk_180 1 68 (dk_at dksX2_isRight_2 12 rfl rfl)
theorem dX2_isRight_62 : decode cX2_isRight 62 = .ok (.aload_n 2, 1) := dk_44 (dk_at dksX2_isRight_2 15 rfl rfl)
theorem dX2_isRight_63 : decode cX2_isRight 63 = .ok (.getfield 215, 3) := dk_180 0 215 (dk_at dksX2_isRight_2 16 rfl rfl)
theorem dX2_isRight_66 : decode cX2_isRight 66 = .ok (.getfield 219, 3) := dk_180 0 219 (dk_at dksX2_isRight_2 19 rfl rfl)
theorem dX2_isRight_69 : decode cX2_isRight 69 = .ok (.iadd, 1) := dk_96 (dk_at dksX2_isRight_2 22 rfl rfl)
theorem dX2_isRight_70 : decode cX2_isRight 70 = .ok (.aload_n 3, 1) := dk_45 (dk_at dksX2_isRight_2 23 rfl rfl)
theorem dX2_isRight_71 : decode cX2_isRight 71 = .ok (.getfield 321, 3) := dk_180 1 65 (dk_at dksX2_isRight_3 0 rfl rfl)
theorem dX2_isRight_74 : decode cX2_isRight 74 = .ok (.irem, 1) := dk_112 (dk_at dksX2_isRight_3 3 rfl rfl)
theorem dX2_isRight_75 : decode cX2_isRight 75 = .ok (.aload 4, 2) := dk_25 4 (dk_at dksX2_isRight_3 4 rfl rfl)
theorem dX2_isRight_77 : decode cX2_isRight 77 = .ok (.getfield 324, 3) := dk_180 1 68 (dk_at dksX2_isRight_3 6 rfl rfl)
theorem dX2_isRight_80 : decode cX2_isRight 80 = .ok (.if_icmp .ne 27, 3) := dk_160 0 27 (dk_at dksX2_isRight_3 9 rfl rfl)
theorem dX2_isRight_83 : decode cX2_isRight 83 = .ok (.aload_n 3, 1) := dk_45 (dk_at dksX2_isRight_3 12 rfl rfl)
theorem dX2_isRight_84 : decode cX2_isRight 84 = .ok (.getfield 327, 3) := dk_180 1 71 (dk_at dksX2_isRight_3 13 rfl rfl)
theorem dX2_isRight_87 : decode cX2_isRight 87 = .ok (.aload_n 2, 1) := dk_44 (dk_at dksX2_isRight_3 16 rfl rfl)
theorem dX2_isRight_88 : decode cX2_isRight 88 = .ok (.getfield 215, 3) := dk_180 0 215 (dk_at dksX2_isRight_3 17 rfl rfl)
theorem dX2_isRight_91 : decode cX2_isRight 91 = .ok (.getfield 225, 3) := dk_180 0 225 (dk_at dksX2_isRight_3 20 rfl rfl)
theorem dX2_isRight_94 : decode cX2_isRight 94 = .ok (.iadd, 1) := dk_96 (dk_at dksX2_isRight_3 23 rfl rfl)
theorem dX2_isRight_95 : decode cX2_isRight 95 = .ok (.aload 4, 2) := dk_25 4 (dk_at dksX2_isRight_4 0 rfl rfl)
theorem dX2_isRight_97 : decode cX2_isRight 97 = .ok (.getfield 327, 3) := dk_180 1 71 (dk_at dksX2_isRight_4 2 rfl rfl)
theorem dX2_isRight_100 : decode cX2_isRight 100 = .ok (.if_icmp .ne 7, 3) := dk_160 0 7 (dk_at dksX2_isRight_4 5 rfl rfl)
theorem dX2_isRight_103 : decode cX2_isRight 103 = .ok (.iconst 1, 1) := dk_4 (dk_at dksX2_isRight_4 8 rfl rfl)
theorem dX2_isRight_104 : decode cX2_isRight 104 = .ok (.goto 4, 3) := dk_167 0 4 (dk_at dksX2_isRight_4 9 rfl rfl)
theorem dX2_isRight_107 : decode cX2_isRight 107 = .ok (.iconst 0, 1) := dk_3 (dk_at dksX2_isRight_4 12 rfl rfl)
theorem dX2_isRight_108 : decode cX2_isRight 108 = .ok (.ireturn, 1) := dk_172 (dk_at dksX2_isRight_4 13 rfl rfl)
abbrev cX2_place : ByteArray := prog_8_method_19_code
def yX2_place : MethodName := ⟨RX2, "place", "(II)I"⟩
def dkwX2_place_4 : List UInt8 := [180, 0, 82, 180, 0, 206, 96, 5, 42, 180, 0, 3, 180, 0, 82, 180, 0, 206, 104, 184, 1, 74, 100, 172]
abbrev dktX2_place_4 : List UInt8 := dkwX2_place_4 ++ []
def dkwX2_place_3 : List UInt8 := [154, 0, 7, 29, 167, 0, 41, 21, 4, 5, 21, 5, 104, 42, 180, 0, 222, 104, 42, 180, 0, 3]
abbrev dktX2_place_3 : List UInt8 := dkwX2_place_3 ++ dktX2_place_4
def dkwX2_place_2 : List UInt8 := [96, 54, 4, 132, 5, 1, 42, 180, 0, 41, 21, 6, 50, 180, 0, 197, 54, 6, 167, 255, 201, 28]
abbrev dktX2_place_2 : List UInt8 := dkwX2_place_2 ++ dktX2_place_3
def dkwX2_place_1 : List UInt8 := [50, 180, 0, 215, 180, 0, 219, 96, 62, 21, 4, 42, 180, 0, 41, 21, 6, 50, 180, 0, 215, 180, 0, 225]
abbrev dktX2_place_1 : List UInt8 := dkwX2_place_1 ++ dktX2_place_2
def dkwX2_place_0 : List UInt8 := [3, 62, 3, 54, 4, 3, 54, 5, 3, 54, 6, 21, 6, 27, 159, 0, 55, 29, 42, 180, 0, 41, 21, 6]
abbrev dktX2_place_0 : List UInt8 := dkwX2_place_0 ++ dktX2_place_1
theorem dksX2_place_0 : cX2_place.data.toList.drop 0 = dktX2_place_0 := by decide +kernel
theorem dksX2_place_1 : cX2_place.data.toList.drop 24 = dktX2_place_1 := dk_seg dksX2_place_0 24 rfl rfl
theorem dksX2_place_2 : cX2_place.data.toList.drop 48 = dktX2_place_2 := dk_seg dksX2_place_1 24 rfl rfl
theorem dksX2_place_3 : cX2_place.data.toList.drop 70 = dktX2_place_3 := dk_seg dksX2_place_2 22 rfl rfl
theorem dksX2_place_4 : cX2_place.data.toList.drop 92 = dktX2_place_4 := dk_seg dksX2_place_3 22 rfl rfl
theorem dX2_place_0 : decode cX2_place 0 = .ok (.iconst 0, 1) := dk_3 (dk_at dksX2_place_0 0 rfl rfl)
theorem dX2_place_1 : decode cX2_place 1 = .ok (.istore_n 3, 1) := dk_62 (dk_at dksX2_place_0 1 rfl rfl)
theorem dX2_place_2 : decode cX2_place 2 = .ok (.iconst 0, 1) := dk_3 (dk_at dksX2_place_0 2 rfl rfl)
theorem dX2_place_3 : decode cX2_place 3 = .ok (.istore 4, 2) := dk_54 4 (dk_at dksX2_place_0 3 rfl rfl)
theorem dX2_place_5 : decode cX2_place 5 = .ok (.iconst 0, 1) := dk_3 (dk_at dksX2_place_0 5 rfl rfl)
theorem dX2_place_6 : decode cX2_place 6 = .ok (.istore 5, 2) := dk_54 5 (dk_at dksX2_place_0 6 rfl rfl)
theorem dX2_place_8 : decode cX2_place 8 = .ok (.iconst 0, 1) := dk_3 (dk_at dksX2_place_0 8 rfl rfl)
theorem dX2_place_9 : decode cX2_place 9 = .ok (.istore 6, 2) := dk_54 6 (dk_at dksX2_place_0 9 rfl rfl)
theorem dX2_place_11 : decode cX2_place 11 = .ok (.iload 6, 2) := dk_21 6 (dk_at dksX2_place_0 11 rfl rfl)
theorem dX2_place_13 : decode cX2_place 13 = .ok (.iload_n 1, 1) := dk_27 (dk_at dksX2_place_0 13 rfl rfl)
theorem dX2_place_14 : decode cX2_place 14 = .ok (.if_icmp .eq 55, 3) := dk_159 0 55 (dk_at dksX2_place_0 14 rfl rfl)
theorem dX2_place_17 : decode cX2_place 17 = .ok (.iload_n 3, 1) := dk_29 (dk_at dksX2_place_0 17 rfl rfl)
theorem dX2_place_18 : decode cX2_place 18 = .ok (.aload_n 0, 1) := dk_42 (dk_at dksX2_place_0 18 rfl rfl)
theorem dX2_place_19 : decode cX2_place 19 = .ok (.getfield 41, 3) := dk_180 0 41 (dk_at dksX2_place_0 19 rfl rfl)
theorem dX2_place_22 : decode cX2_place 22 = .ok (.iload 6, 2) := dk_21 6 (dk_at dksX2_place_0 22 rfl rfl)
theorem dX2_place_24 : decode cX2_place 24 = .ok (.aaload, 1) := dk_50 (dk_at dksX2_place_1 0 rfl rfl)
theorem dX2_place_25 : decode cX2_place 25 = .ok (.getfield 215, 3) := dk_180 0 215 (dk_at dksX2_place_1 1 rfl rfl)
theorem dX2_place_28 : decode cX2_place 28 = .ok (.getfield 219, 3) := dk_180 0 219 (dk_at dksX2_place_1 4 rfl rfl)
theorem dX2_place_31 : decode cX2_place 31 = .ok (.iadd, 1) := dk_96 (dk_at dksX2_place_1 7 rfl rfl)
theorem dX2_place_32 : decode cX2_place 32 = .ok (.istore_n 3, 1) := dk_62 (dk_at dksX2_place_1 8 rfl rfl)
theorem dX2_place_33 : decode cX2_place 33 = .ok (.iload 4, 2) := dk_21 4 (dk_at dksX2_place_1 9 rfl rfl)
theorem dX2_place_35 : decode cX2_place 35 = .ok (.aload_n 0, 1) := dk_42 (dk_at dksX2_place_1 11 rfl rfl)
theorem dX2_place_36 : decode cX2_place 36 = .ok (.getfield 41, 3) := dk_180 0 41 (dk_at dksX2_place_1 12 rfl rfl)
theorem dX2_place_39 : decode cX2_place 39 = .ok (.iload 6, 2) := dk_21 6 (dk_at dksX2_place_1 15 rfl rfl)
theorem dX2_place_41 : decode cX2_place 41 = .ok (.aaload, 1) := dk_50 (dk_at dksX2_place_1 17 rfl rfl)
theorem dX2_place_42 : decode cX2_place 42 = .ok (.getfield 215, 3) := dk_180 0 215 (dk_at dksX2_place_1 18 rfl rfl)
theorem dX2_place_45 : decode cX2_place 45 = .ok (.getfield 225, 3) := dk_180 0 225 (dk_at dksX2_place_1 21 rfl rfl)
theorem dX2_place_48 : decode cX2_place 48 = .ok (.iadd, 1) := dk_96 (dk_at dksX2_place_2 0 rfl rfl)
theorem dX2_place_49 : decode cX2_place 49 = .ok (.istore 4, 2) := dk_54 4 (dk_at dksX2_place_2 1 rfl rfl)
theorem dX2_place_51 : decode cX2_place 51 = .ok (.iinc 5 1, 3) := dk_132 5 1 (dk_at dksX2_place_2 3 rfl rfl)
theorem dX2_place_54 : decode cX2_place 54 = .ok (.aload_n 0, 1) := dk_42 (dk_at dksX2_place_2 6 rfl rfl)
theorem dX2_place_55 : decode cX2_place 55 = .ok (.getfield 41, 3) := dk_180 0 41 (dk_at dksX2_place_2 7 rfl rfl)
theorem dX2_place_58 : decode cX2_place 58 = .ok (.iload 6, 2) := dk_21 6 (dk_at dksX2_place_2 10 rfl rfl)
theorem dX2_place_60 : decode cX2_place 60 = .ok (.aaload, 1) := dk_50 (dk_at dksX2_place_2 12 rfl rfl)
theorem dX2_place_61 : decode cX2_place 61 = .ok (.getfield 197, 3) := dk_180 0 197 (dk_at dksX2_place_2 13 rfl rfl)
theorem dX2_place_64 : decode cX2_place 64 = .ok (.istore 6, 2) := dk_54 6 (dk_at dksX2_place_2 16 rfl rfl)
theorem dX2_place_66 : decode cX2_place 66 = .ok (.goto (-55), 3) := dk_167 255 201 (dk_at dksX2_place_2 18 rfl rfl)
theorem dX2_place_69 : decode cX2_place 69 = .ok (.iload_n 2, 1) := dk_28 (dk_at dksX2_place_2 21 rfl rfl)
theorem dX2_place_70 : decode cX2_place 70 = .ok (.ifCond .ne 7, 3) := dk_154 0 7 (dk_at dksX2_place_3 0 rfl rfl)
theorem dX2_place_73 : decode cX2_place 73 = .ok (.iload_n 3, 1) := dk_29 (dk_at dksX2_place_3 3 rfl rfl)
theorem dX2_place_74 : decode cX2_place 74 = .ok (.goto 41, 3) := dk_167 0 41 (dk_at dksX2_place_3 4 rfl rfl)
theorem dX2_place_77 : decode cX2_place 77 = .ok (.iload 4, 2) := dk_21 4 (dk_at dksX2_place_3 7 rfl rfl)
theorem dX2_place_79 : decode cX2_place 79 = .ok (.iconst 2, 1) := dk_5 (dk_at dksX2_place_3 9 rfl rfl)
theorem dX2_place_80 : decode cX2_place 80 = .ok (.iload 5, 2) := dk_21 5 (dk_at dksX2_place_3 10 rfl rfl)
theorem dX2_place_82 : decode cX2_place 82 = .ok (.imul, 1) := dk_104 (dk_at dksX2_place_3 12 rfl rfl)
theorem dX2_place_83 : decode cX2_place 83 = .ok (.aload_n 0, 1) := dk_42 (dk_at dksX2_place_3 13 rfl rfl)
theorem dX2_place_84 : decode cX2_place 84 = .ok (.getfield 222, 3) := dk_180 0 222 (dk_at dksX2_place_3 14 rfl rfl)
theorem dX2_place_87 : decode cX2_place 87 = .ok (.imul, 1) := dk_104 (dk_at dksX2_place_3 17 rfl rfl)
theorem dX2_place_88 : decode cX2_place 88 = .ok (.aload_n 0, 1) := dk_42 (dk_at dksX2_place_3 18 rfl rfl)
theorem dX2_place_89 : decode cX2_place 89 = .ok (.getfield 3, 3) := dk_180 0 3 (dk_at dksX2_place_3 19 rfl rfl)
theorem dX2_place_92 : decode cX2_place 92 = .ok (.getfield 82, 3) := dk_180 0 82 (dk_at dksX2_place_4 0 rfl rfl)
theorem dX2_place_95 : decode cX2_place 95 = .ok (.getfield 206, 3) := dk_180 0 206 (dk_at dksX2_place_4 3 rfl rfl)
theorem dX2_place_98 : decode cX2_place 98 = .ok (.iadd, 1) := dk_96 (dk_at dksX2_place_4 6 rfl rfl)
theorem dX2_place_99 : decode cX2_place 99 = .ok (.iconst 2, 1) := dk_5 (dk_at dksX2_place_4 7 rfl rfl)
theorem dX2_place_100 : decode cX2_place 100 = .ok (.aload_n 0, 1) := dk_42 (dk_at dksX2_place_4 8 rfl rfl)
theorem dX2_place_101 : decode cX2_place 101 = .ok (.getfield 3, 3) := dk_180 0 3 (dk_at dksX2_place_4 9 rfl rfl)
theorem dX2_place_104 : decode cX2_place 104 = .ok (.getfield 82, 3) := dk_180 0 82 (dk_at dksX2_place_4 12 rfl rfl)
theorem dX2_place_107 : decode cX2_place 107 = .ok (.getfield 206, 3) := dk_180 0 206 (dk_at dksX2_place_4 15 rfl rfl)
theorem dX2_place_110 : decode cX2_place 110 = .ok (.imul, 1) := dk_104 (dk_at dksX2_place_4 18 rfl rfl)
theorem dX2_place_111 : decode cX2_place 111 = .ok (.invokestatic 330, 3) := dk_184 1 74 (dk_at dksX2_place_4 19 rfl rfl)
theorem dX2_place_114 : decode cX2_place 114 = .ok (.isub, 1) := dk_100 (dk_at dksX2_place_4 22 rfl rfl)
theorem dX2_place_115 : decode cX2_place 115 = .ok (.ireturn, 1) := dk_172 (dk_at dksX2_place_4 23 rfl rfl)
abbrev cX2_shown : ByteArray := prog_8_method_20_code
def yX2_shown : MethodName := ⟨RX2, "shown", "(II)I"⟩
def dkwX2_shown_5 : List UInt8 := [21, 4, 21, 5, 186, 1, 77, 0, 0, 184, 1, 81, 172]
abbrev dktX2_shown_5 : List UInt8 := dkwX2_shown_5 ++ []
def dkwX2_shown_4 : List UInt8 := [180, 0, 200, 50, 21, 6, 46, 25, 5, 180, 0, 215, 180, 0, 219, 100, 167, 0, 4, 3, 62, 29, 54, 5]
abbrev dktX2_shown_4 : List UInt8 := dkwX2_shown_4 ++ dktX2_shown_5
def dkwX2_shown_3 : List UInt8 := [180, 0, 225, 96, 54, 6, 25, 5, 21, 6, 182, 1, 12, 153, 0, 28, 42, 180, 0, 50, 25, 5]
abbrev dktX2_shown_3 : List UInt8 := dkwX2_shown_3 ++ dktX2_shown_4
def dkwX2_shown_2 : List UInt8 := [159, 0, 65, 42, 180, 0, 41, 42, 180, 0, 45, 27, 46, 50, 58, 5, 28, 25, 5, 180, 0, 215]
abbrev dktX2_shown_2 : List UInt8 := dkwX2_shown_2 ++ dktX2_shown_3
def dkwX2_shown_1 : List UInt8 := [16, 8, 167, 0, 11, 42, 180, 0, 50, 27, 50, 28, 46, 54, 4, 42, 180, 0, 45, 27, 46, 2]
abbrev dktX2_shown_1 : List UInt8 := dkwX2_shown_1 ++ dktX2_shown_2
def dkwX2_shown_0 : List UInt8 := [3, 62, 42, 180, 0, 41, 27, 50, 198, 0, 15, 42, 180, 0, 50, 27, 50, 28, 46, 2, 160, 0, 8]
abbrev dktX2_shown_0 : List UInt8 := dkwX2_shown_0 ++ dktX2_shown_1
theorem dksX2_shown_0 : cX2_shown.data.toList.drop 0 = dktX2_shown_0 := by decide +kernel
theorem dksX2_shown_1 : cX2_shown.data.toList.drop 23 = dktX2_shown_1 := dk_seg dksX2_shown_0 23 rfl rfl
theorem dksX2_shown_2 : cX2_shown.data.toList.drop 45 = dktX2_shown_2 := dk_seg dksX2_shown_1 22 rfl rfl
theorem dksX2_shown_3 : cX2_shown.data.toList.drop 67 = dktX2_shown_3 := dk_seg dksX2_shown_2 22 rfl rfl
theorem dksX2_shown_4 : cX2_shown.data.toList.drop 89 = dktX2_shown_4 := dk_seg dksX2_shown_3 22 rfl rfl
theorem dksX2_shown_5 : cX2_shown.data.toList.drop 113 = dktX2_shown_5 := dk_seg dksX2_shown_4 24 rfl rfl
theorem dX2_shown_0 : decode cX2_shown 0 = .ok (.iconst 0, 1) := dk_3 (dk_at dksX2_shown_0 0 rfl rfl)
theorem dX2_shown_1 : decode cX2_shown 1 = .ok (.istore_n 3, 1) := dk_62 (dk_at dksX2_shown_0 1 rfl rfl)
theorem dX2_shown_2 : decode cX2_shown 2 = .ok (.aload_n 0, 1) := dk_42 (dk_at dksX2_shown_0 2 rfl rfl)
theorem dX2_shown_3 : decode cX2_shown 3 = .ok (.getfield 41, 3) := dk_180 0 41 (dk_at dksX2_shown_0 3 rfl rfl)
theorem dX2_shown_6 : decode cX2_shown 6 = .ok (.iload_n 1, 1) := dk_27 (dk_at dksX2_shown_0 6 rfl rfl)
theorem dX2_shown_7 : decode cX2_shown 7 = .ok (.aaload, 1) := dk_50 (dk_at dksX2_shown_0 7 rfl rfl)
theorem dX2_shown_8 : decode cX2_shown 8 = .ok (.ifnull 15, 3) := dk_198 0 15 (dk_at dksX2_shown_0 8 rfl rfl)
theorem dX2_shown_11 : decode cX2_shown 11 = .ok (.aload_n 0, 1) := dk_42 (dk_at dksX2_shown_0 11 rfl rfl)
theorem dX2_shown_12 : decode cX2_shown 12 = .ok (.getfield 50, 3) := dk_180 0 50 (dk_at dksX2_shown_0 12 rfl rfl)
theorem dX2_shown_15 : decode cX2_shown 15 = .ok (.iload_n 1, 1) := dk_27 (dk_at dksX2_shown_0 15 rfl rfl)
theorem dX2_shown_16 : decode cX2_shown 16 = .ok (.aaload, 1) := dk_50 (dk_at dksX2_shown_0 16 rfl rfl)
theorem dX2_shown_17 : decode cX2_shown 17 = .ok (.iload_n 2, 1) := dk_28 (dk_at dksX2_shown_0 17 rfl rfl)
theorem dX2_shown_18 : decode cX2_shown 18 = .ok (.iaload, 1) := dk_46 (dk_at dksX2_shown_0 18 rfl rfl)
theorem dX2_shown_19 : decode cX2_shown 19 = .ok (.iconst (-1), 1) := dk_2 (dk_at dksX2_shown_0 19 rfl rfl)
theorem dX2_shown_20 : decode cX2_shown 20 = .ok (.if_icmp .ne 8, 3) := dk_160 0 8 (dk_at dksX2_shown_0 20 rfl rfl)
theorem dX2_shown_23 : decode cX2_shown 23 = .ok (.bipush 8, 2) := dk_16 8 (dk_at dksX2_shown_1 0 rfl rfl)
theorem dX2_shown_25 : decode cX2_shown 25 = .ok (.goto 11, 3) := dk_167 0 11 (dk_at dksX2_shown_1 2 rfl rfl)
theorem dX2_shown_28 : decode cX2_shown 28 = .ok (.aload_n 0, 1) := dk_42 (dk_at dksX2_shown_1 5 rfl rfl)
theorem dX2_shown_29 : decode cX2_shown 29 = .ok (.getfield 50, 3) := dk_180 0 50 (dk_at dksX2_shown_1 6 rfl rfl)
theorem dX2_shown_32 : decode cX2_shown 32 = .ok (.iload_n 1, 1) := dk_27 (dk_at dksX2_shown_1 9 rfl rfl)
theorem dX2_shown_33 : decode cX2_shown 33 = .ok (.aaload, 1) := dk_50 (dk_at dksX2_shown_1 10 rfl rfl)
theorem dX2_shown_34 : decode cX2_shown 34 = .ok (.iload_n 2, 1) := dk_28 (dk_at dksX2_shown_1 11 rfl rfl)
theorem dX2_shown_35 : decode cX2_shown 35 = .ok (.iaload, 1) := dk_46 (dk_at dksX2_shown_1 12 rfl rfl)
theorem dX2_shown_36 : decode cX2_shown 36 = .ok (.istore 4, 2) := dk_54 4 (dk_at dksX2_shown_1 13 rfl rfl)
theorem dX2_shown_38 : decode cX2_shown 38 = .ok (.aload_n 0, 1) := dk_42 (dk_at dksX2_shown_1 15 rfl rfl)
theorem dX2_shown_39 : decode cX2_shown 39 = .ok (.getfield 45, 3) := dk_180 0 45 (dk_at dksX2_shown_1 16 rfl rfl)
theorem dX2_shown_42 : decode cX2_shown 42 = .ok (.iload_n 1, 1) := dk_27 (dk_at dksX2_shown_1 19 rfl rfl)
theorem dX2_shown_43 : decode cX2_shown 43 = .ok (.iaload, 1) := dk_46 (dk_at dksX2_shown_1 20 rfl rfl)
theorem dX2_shown_44 : decode cX2_shown 44 = .ok (.iconst (-1), 1) := dk_2 (dk_at dksX2_shown_1 21 rfl rfl)
theorem dX2_shown_45 : decode cX2_shown 45 = .ok (.if_icmp .eq 65, 3) := dk_159 0 65 (dk_at dksX2_shown_2 0 rfl rfl)
theorem dX2_shown_48 : decode cX2_shown 48 = .ok (.aload_n 0, 1) := dk_42 (dk_at dksX2_shown_2 3 rfl rfl)
theorem dX2_shown_49 : decode cX2_shown 49 = .ok (.getfield 41, 3) := dk_180 0 41 (dk_at dksX2_shown_2 4 rfl rfl)
theorem dX2_shown_52 : decode cX2_shown 52 = .ok (.aload_n 0, 1) := dk_42 (dk_at dksX2_shown_2 7 rfl rfl)
theorem dX2_shown_53 : decode cX2_shown 53 = .ok (.getfield 45, 3) := dk_180 0 45 (dk_at dksX2_shown_2 8 rfl rfl)
theorem dX2_shown_56 : decode cX2_shown 56 = .ok (.iload_n 1, 1) := dk_27 (dk_at dksX2_shown_2 11 rfl rfl)
theorem dX2_shown_57 : decode cX2_shown 57 = .ok (.iaload, 1) := dk_46 (dk_at dksX2_shown_2 12 rfl rfl)
theorem dX2_shown_58 : decode cX2_shown 58 = .ok (.aaload, 1) := dk_50 (dk_at dksX2_shown_2 13 rfl rfl)
theorem dX2_shown_59 : decode cX2_shown 59 = .ok (.astore 5, 2) := dk_58 5 (dk_at dksX2_shown_2 14 rfl rfl)
theorem dX2_shown_61 : decode cX2_shown 61 = .ok (.iload_n 2, 1) := dk_28 (dk_at dksX2_shown_2 16 rfl rfl)
theorem dX2_shown_62 : decode cX2_shown 62 = .ok (.aload 5, 2) := dk_25 5 (dk_at dksX2_shown_2 17 rfl rfl)
theorem dX2_shown_64 : decode cX2_shown 64 = .ok (.getfield 215, 3) := dk_180 0 215 (dk_at dksX2_shown_2 19 rfl rfl)
theorem dX2_shown_67 : decode cX2_shown 67 = .ok (.getfield 225, 3) := dk_180 0 225 (dk_at dksX2_shown_3 0 rfl rfl)
theorem dX2_shown_70 : decode cX2_shown 70 = .ok (.iadd, 1) := dk_96 (dk_at dksX2_shown_3 3 rfl rfl)
theorem dX2_shown_71 : decode cX2_shown 71 = .ok (.istore 6, 2) := dk_54 6 (dk_at dksX2_shown_3 4 rfl rfl)
theorem dX2_shown_73 : decode cX2_shown 73 = .ok (.aload 5, 2) := dk_25 5 (dk_at dksX2_shown_3 6 rfl rfl)
theorem dX2_shown_75 : decode cX2_shown 75 = .ok (.iload 6, 2) := dk_21 6 (dk_at dksX2_shown_3 8 rfl rfl)
theorem dX2_shown_77 : decode cX2_shown 77 = .ok (.invokevirtual 268, 3) := dk_182 1 12 (dk_at dksX2_shown_3 10 rfl rfl)
theorem dX2_shown_80 : decode cX2_shown 80 = .ok (.ifCond .eq 28, 3) := dk_153 0 28 (dk_at dksX2_shown_3 13 rfl rfl)
theorem dX2_shown_83 : decode cX2_shown 83 = .ok (.aload_n 0, 1) := dk_42 (dk_at dksX2_shown_3 16 rfl rfl)
theorem dX2_shown_84 : decode cX2_shown 84 = .ok (.getfield 50, 3) := dk_180 0 50 (dk_at dksX2_shown_3 17 rfl rfl)
theorem dX2_shown_87 : decode cX2_shown 87 = .ok (.aload 5, 2) := dk_25 5 (dk_at dksX2_shown_3 20 rfl rfl)
theorem dX2_shown_89 : decode cX2_shown 89 = .ok (.getfield 200, 3) := dk_180 0 200 (dk_at dksX2_shown_4 0 rfl rfl)
theorem dX2_shown_92 : decode cX2_shown 92 = .ok (.aaload, 1) := dk_50 (dk_at dksX2_shown_4 3 rfl rfl)
theorem dX2_shown_93 : decode cX2_shown 93 = .ok (.iload 6, 2) := dk_21 6 (dk_at dksX2_shown_4 4 rfl rfl)
theorem dX2_shown_95 : decode cX2_shown 95 = .ok (.iaload, 1) := dk_46 (dk_at dksX2_shown_4 6 rfl rfl)
theorem dX2_shown_96 : decode cX2_shown 96 = .ok (.aload 5, 2) := dk_25 5 (dk_at dksX2_shown_4 7 rfl rfl)
theorem dX2_shown_98 : decode cX2_shown 98 = .ok (.getfield 215, 3) := dk_180 0 215 (dk_at dksX2_shown_4 9 rfl rfl)
theorem dX2_shown_101 : decode cX2_shown 101 = .ok (.getfield 219, 3) := dk_180 0 219 (dk_at dksX2_shown_4 12 rfl rfl)
theorem dX2_shown_104 : decode cX2_shown 104 = .ok (.isub, 1) := dk_100 (dk_at dksX2_shown_4 15 rfl rfl)
theorem dX2_shown_105 : decode cX2_shown 105 = .ok (.goto 4, 3) := dk_167 0 4 (dk_at dksX2_shown_4 16 rfl rfl)
theorem dX2_shown_108 : decode cX2_shown 108 = .ok (.iconst 0, 1) := dk_3 (dk_at dksX2_shown_4 19 rfl rfl)
theorem dX2_shown_109 : decode cX2_shown 109 = .ok (.istore_n 3, 1) := dk_62 (dk_at dksX2_shown_4 20 rfl rfl)
theorem dX2_shown_110 : decode cX2_shown 110 = .ok (.iload_n 3, 1) := dk_29 (dk_at dksX2_shown_4 21 rfl rfl)
theorem dX2_shown_111 : decode cX2_shown 111 = .ok (.istore 5, 2) := dk_54 5 (dk_at dksX2_shown_4 22 rfl rfl)
theorem dX2_shown_113 : decode cX2_shown 113 = .ok (.iload 4, 2) := dk_21 4 (dk_at dksX2_shown_5 0 rfl rfl)
theorem dX2_shown_115 : decode cX2_shown 115 = .ok (.iload 5, 2) := dk_21 5 (dk_at dksX2_shown_5 2 rfl rfl)
theorem dX2_shown_117 : decode cX2_shown 117 = .ok (.invokedynamic 333, 5) := by decide +kernel
theorem dX2_shown_122 : decode cX2_shown 122 = .ok (.invokestatic 337, 3) := dk_184 1 81 (dk_at dksX2_shown_5 9 rfl rfl)
theorem dX2_shown_125 : decode cX2_shown 125 = .ok (.ireturn, 1) := dk_172 (dk_at dksX2_shown_5 12 rfl rfl)
abbrev cX2_lambda_shown_1 : ByteArray := prog_8_method_21_code
def yX2_lambda_shown_1 : MethodName := ⟨RX2, "lambda$shown$1", "(II)Z"⟩
def dkwX2_lambda_shown_1_0 : List UInt8 := [27, 26, 161, 0, 7, 4, 167, 0, 4, 3, 172]
abbrev dktX2_lambda_shown_1_0 : List UInt8 := dkwX2_lambda_shown_1_0 ++ []
theorem dksX2_lambda_shown_1_0 : cX2_lambda_shown_1.data.toList.drop 0 = dktX2_lambda_shown_1_0 := by decide +kernel
theorem dX2_lambda_shown_1_0 : decode cX2_lambda_shown_1 0 = .ok (.iload_n 1, 1) := dk_27 (dk_at dksX2_lambda_shown_1_0 0 rfl rfl)
theorem dX2_lambda_shown_1_1 : decode cX2_lambda_shown_1 1 = .ok (.iload_n 0, 1) := dk_26 (dk_at dksX2_lambda_shown_1_0 1 rfl rfl)
theorem dX2_lambda_shown_1_2 : decode cX2_lambda_shown_1 2 = .ok (.if_icmp .lt 7, 3) := dk_161 0 7 (dk_at dksX2_lambda_shown_1_0 2 rfl rfl)
theorem dX2_lambda_shown_1_5 : decode cX2_lambda_shown_1 5 = .ok (.iconst 1, 1) := dk_4 (dk_at dksX2_lambda_shown_1_0 5 rfl rfl)
theorem dX2_lambda_shown_1_6 : decode cX2_lambda_shown_1 6 = .ok (.goto 4, 3) := dk_167 0 4 (dk_at dksX2_lambda_shown_1_0 6 rfl rfl)
theorem dX2_lambda_shown_1_9 : decode cX2_lambda_shown_1 9 = .ok (.iconst 0, 1) := dk_3 (dk_at dksX2_lambda_shown_1_0 9 rfl rfl)
theorem dX2_lambda_shown_1_10 : decode cX2_lambda_shown_1 10 = .ok (.ireturn, 1) := dk_172 (dk_at dksX2_lambda_shown_1_0 10 rfl rfl)
theorem q112 : (Jvm.Cond.initialized "PictureRing$Joine\x72") ∈ lw_all := lw_g (lw_at lw_m1 4 rfl) rfl
theorem q168 : (Jvm.Cond.fieldLinkNest "PictureRing$Joine\x72" (86 : Nat) "PictureRing$State" "pictures" "[LPictureRing$Picture;" "PictureRing") ∈ lw_tbl := lw_at lw_m1 60 rfl
theorem q171 : (Jvm.Cond.fieldLinkNest "PictureRing$Joine\x72" (206 : Nat) "PictureRing$State" "many" "I" "PictureRing") ∈ lw_tbl := lw_at lw_m1 63 rfl
theorem q174 : (Jvm.Cond.fieldLinkNest "PictureRing$Joine\x72" (106 : Nat) "PictureRing$State" "settings" "[I" "PictureRing") ∈ lw_tbl := lw_at lw_m1 66 rfl
theorem q207 : (Jvm.Cond.instantiable "PictureRing$Joine\x72" (16 : Nat)) ∈ lw_all := lw_g (lw_at lw_m1 99 rfl) rfl
theorem q209 : (Jvm.Cond.instanceMethod ({ cls := "PictureRing$Joine\x72", name := "<init>", desc := "(LPictureRing;)V" } : Jvm.MethodName)) ∈ lw_all := lw_g (lw_at lw_m1 101 rfl) rfl
theorem q210 : (Jvm.Cond.code ({ cls := "PictureRing$Joine\x72", name := "<init>", desc := "(LPictureRing;)V" } : Jvm.MethodName) prog_8_method_1_code (2 : Nat) (Option.none : Option Jvm.ClassFile.FieldType)) ∈ lw_all := lw_g (lw_at lw_m1 102 rfl) rfl
theorem q211 : (Jvm.Cond.methodLink "PictureRing$Joine\x72" (9 : Nat) ({ cls := "java/lang/Object", name := "<init>", desc := "()V" } : Jvm.MethodName)) ∈ lw_all := lw_g (lw_at lw_m1 103 rfl) rfl
theorem q212 : (Jvm.Cond.methodLinkNest "PictureRing$Joine\x72" (19 : Nat) ({ cls := "PictureRing", name := "rowOf", desc := "(I)[LPictureRing$Corners;" } : Jvm.MethodName) "PictureRing") ∈ lw_tbl := lw_at lw_m1 104 rfl
theorem q276 : (Jvm.Cond.fieldLinkNest "PictureRing$Joine\x72" (92 : Nat) "PictureRing$Corners" "all" "Ljava/util/TreeSet;" "PictureRing") ∈ lw_tbl := lw_at lw_m1 168 rfl
theorem q280 : (Jvm.Cond.classLink "PictureRing$Joine\x72" (27 : Nat) "java/util/PriorityQueue") ∈ lw_all := lw_g (lw_at lw_m1 172 rfl) rfl
theorem q282 : (Jvm.Cond.classLink "PictureRing$Joine\x72" (29 : Nat) "PictureRing$ByVotes") ∈ lw_all := lw_g (lw_at lw_m1 174 rfl) rfl
theorem q284 : (Jvm.Cond.methodLinkNest "PictureRing$Joine\x72" (31 : Nat) ({ cls := "PictureRing$ByVotes", name := "<init>", desc := "()V" } : Jvm.MethodName) "PictureRing") ∈ lw_tbl := lw_at lw_m1 176 rfl
theorem q289 : (Jvm.Cond.methodLink "PictureRing$Joine\x72" (32 : Nat) ({ cls := "java/util/PriorityQueue", name := "<init>", desc := "(ILjava/util/Comparator;)V" } : Jvm.MethodName)) ∈ lw_all := lw_g (lw_at lw_m1 181 rfl) rfl
theorem q311 : (Jvm.Cond.classLink "PictureRing$Joine\x72" (39 : Nat) "PictureRing$Link") ∈ lw_all := lw_g (lw_at lw_m1 203 rfl) rfl
theorem q313 : (Jvm.Cond.classLink "PictureRing$Joine\x72" (49 : Nat) "[I") ∈ lw_all := lw_g (lw_at lw_m1 205 rfl) rfl
theorem q315 : (Jvm.Cond.classLink "PictureRing$Joine\x72" (54 : Nat) "PictureRing$Fraction") ∈ lw_all := lw_g (lw_at lw_m1 207 rfl) rfl
theorem q318 : (Jvm.Cond.methodLink "PictureRing$Joine\x72" (60 : Nat) ({ cls := "PictureRing$Fraction", name := "<init>", desc := "()V" } : Jvm.MethodName)) ∈ lw_all := lw_g (lw_at lw_m1 210 rfl) rfl
theorem q340 : (Jvm.Cond.fieldLink "PictureRing$Joine\x72" (15 : Nat) "PictureRing$Joine\x72" "old" "Z") ∈ lw_all := lw_g (lw_at lw_m1 232 rfl) rfl
theorem q342 : (Jvm.Cond.fieldLink "PictureRing$Joine\x72" (23 : Nat) "PictureRing$Joine\x72" "corners" "[LPictureRing$Corners;") ∈ lw_all := lw_g (lw_at lw_m1 234 rfl) rfl
theorem q343 : (Jvm.Cond.fieldLink "PictureRing$Joine\x72" (35 : Nat) "PictureRing$Joine\x72" "queue" "Ljava/util/PriorityQueue;") ∈ lw_all := lw_g (lw_at lw_m1 235 rfl) rfl
theorem q344 : (Jvm.Cond.fieldLink "PictureRing$Joine\x72" (41 : Nat) "PictureRing$Joine\x72" "links" "[LPictureRing$Link;") ∈ lw_all := lw_g (lw_at lw_m1 236 rfl) rfl
theorem q346 : (Jvm.Cond.fieldLink "PictureRing$Joine\x72" (45 : Nat) "PictureRing$Joine\x72" "ahead" "[I") ∈ lw_all := lw_g (lw_at lw_m1 238 rfl) rfl
theorem q348 : (Jvm.Cond.fieldLink "PictureRing$Joine\x72" (209 : Nat) "PictureRing$Joine\x72" "taken" "I") ∈ lw_all := lw_g (lw_at lw_m2 0 rfl) rfl
theorem q350 : (Jvm.Cond.fieldLink "PictureRing$Joine\x72" (244 : Nat) "PictureRing$Joine\x72" "closed" "Z") ∈ lw_all := lw_g (lw_at lw_m2 2 rfl) rfl
theorem q352 : (Jvm.Cond.fieldLink "PictureRing$Joine\x72" (212 : Nat) "PictureRing$Joine\x72" "turn" "I") ∈ lw_all := lw_g (lw_at lw_m2 4 rfl) rfl
theorem q354 : (Jvm.Cond.fieldLink "PictureRing$Joine\x72" (222 : Nat) "PictureRing$Joine\x72" "drift" "I") ∈ lw_all := lw_g (lw_at lw_m2 6 rfl) rfl
theorem q356 : (Jvm.Cond.fieldLink "PictureRing$Joine\x72" (50 : Nat) "PictureRing$Joine\x72" "seams" "[[I") ∈ lw_all := lw_g (lw_at lw_m2 8 rfl) rfl
theorem q358 : (Jvm.Cond.fieldLink "PictureRing$Joine\x72" (56 : Nat) "PictureRing$Joine\x72" "levels" "[LPictureRing$Fraction;") ∈ lw_all := lw_g (lw_at lw_m2 10 rfl) rfl
theorem q360 : (Jvm.Cond.fieldLink "PictureRing$Joine\x72" (61 : Nat) "PictureRing$Joine\x72" "rest" "LPictureRing$Fraction;") ∈ lw_all := lw_g (lw_at lw_m2 12 rfl) rfl
theorem q362 : (Jvm.Cond.fieldLink "PictureRing$Joine\x72" (247 : Nat) "PictureRing$Joine\x72" "cells" "I") ∈ lw_all := lw_g (lw_at lw_m2 14 rfl) rfl
theorem q364 : (Jvm.Cond.fieldLink "PictureRing$Joine\x72" (250 : Nat) "PictureRing$Joine\x72" "unlike" "I") ∈ lw_all := lw_g (lw_at lw_m2 16 rfl) rfl
theorem q366 : (Jvm.Cond.fieldLink "PictureRing$Joine\x72" (253 : Nat) "PictureRing$Joine\x72" "more" "I") ∈ lw_all := lw_g (lw_at lw_m2 18 rfl) rfl
theorem q368 : (Jvm.Cond.fieldLink "PictureRing$Joine\x72" (3 : Nat) "PictureRing$Joine\x72" "this$0" "LPictureRing;") ∈ lw_all := lw_g (lw_at lw_m2 20 rfl) rfl
theorem q369 : (Jvm.Cond.lays "PictureRing$Joine\x72" "PictureRing$Joine\x72" "old" "Z") ∈ lw_all := lw_g (lw_at lw_m2 21 rfl) rfl
theorem q370 : (Jvm.Cond.soleField "PictureRing$Joine\x72" "old") ∈ lw_all := lw_g (lw_at lw_m2 22 rfl) rfl
theorem q371 : (Jvm.Cond.laysFinal "PictureRing$Joine\x72" "PictureRing$Joine\x72" "corners" "[LPictureRing$Corners;") ∈ lw_all := lw_g (lw_at lw_m2 23 rfl) rfl
theorem q372 : (Jvm.Cond.soleField "PictureRing$Joine\x72" "corners") ∈ lw_all := lw_g (lw_at lw_m2 24 rfl) rfl
theorem q373 : (Jvm.Cond.laysFinal "PictureRing$Joine\x72" "PictureRing$Joine\x72" "queue" "Ljava/util/PriorityQueue;") ∈ lw_all := lw_g (lw_at lw_m2 25 rfl) rfl
theorem q374 : (Jvm.Cond.soleField "PictureRing$Joine\x72" "queue") ∈ lw_all := lw_g (lw_at lw_m2 26 rfl) rfl
theorem q375 : (Jvm.Cond.laysFinal "PictureRing$Joine\x72" "PictureRing$Joine\x72" "links" "[LPictureRing$Link;") ∈ lw_all := lw_g (lw_at lw_m2 27 rfl) rfl
theorem q376 : (Jvm.Cond.soleField "PictureRing$Joine\x72" "links") ∈ lw_all := lw_g (lw_at lw_m2 28 rfl) rfl
theorem q377 : (Jvm.Cond.laysFinal "PictureRing$Joine\x72" "PictureRing$Joine\x72" "ahead" "[I") ∈ lw_all := lw_g (lw_at lw_m2 29 rfl) rfl
theorem q378 : (Jvm.Cond.soleField "PictureRing$Joine\x72" "ahead") ∈ lw_all := lw_g (lw_at lw_m2 30 rfl) rfl
theorem q379 : (Jvm.Cond.lays "PictureRing$Joine\x72" "PictureRing$Joine\x72" "taken" "I") ∈ lw_all := lw_g (lw_at lw_m2 31 rfl) rfl
theorem q380 : (Jvm.Cond.soleField "PictureRing$Joine\x72" "taken") ∈ lw_all := lw_g (lw_at lw_m2 32 rfl) rfl
theorem q381 : (Jvm.Cond.lays "PictureRing$Joine\x72" "PictureRing$Joine\x72" "closed" "Z") ∈ lw_all := lw_g (lw_at lw_m2 33 rfl) rfl
theorem q382 : (Jvm.Cond.soleField "PictureRing$Joine\x72" "closed") ∈ lw_all := lw_g (lw_at lw_m2 34 rfl) rfl
theorem q383 : (Jvm.Cond.lays "PictureRing$Joine\x72" "PictureRing$Joine\x72" "turn" "I") ∈ lw_all := lw_g (lw_at lw_m2 35 rfl) rfl
theorem q384 : (Jvm.Cond.soleField "PictureRing$Joine\x72" "turn") ∈ lw_all := lw_g (lw_at lw_m2 36 rfl) rfl
theorem q385 : (Jvm.Cond.lays "PictureRing$Joine\x72" "PictureRing$Joine\x72" "drift" "I") ∈ lw_all := lw_g (lw_at lw_m2 37 rfl) rfl
theorem q386 : (Jvm.Cond.soleField "PictureRing$Joine\x72" "drift") ∈ lw_all := lw_g (lw_at lw_m2 38 rfl) rfl
theorem q387 : (Jvm.Cond.laysFinal "PictureRing$Joine\x72" "PictureRing$Joine\x72" "seams" "[[I") ∈ lw_all := lw_g (lw_at lw_m2 39 rfl) rfl
theorem q388 : (Jvm.Cond.soleField "PictureRing$Joine\x72" "seams") ∈ lw_all := lw_g (lw_at lw_m2 40 rfl) rfl
theorem q389 : (Jvm.Cond.laysFinal "PictureRing$Joine\x72" "PictureRing$Joine\x72" "levels" "[LPictureRing$Fraction;") ∈ lw_all := lw_g (lw_at lw_m2 41 rfl) rfl
theorem q390 : (Jvm.Cond.soleField "PictureRing$Joine\x72" "levels") ∈ lw_all := lw_g (lw_at lw_m2 42 rfl) rfl
theorem q391 : (Jvm.Cond.lays "PictureRing$Joine\x72" "PictureRing$Joine\x72" "rest" "LPictureRing$Fraction;") ∈ lw_all := lw_g (lw_at lw_m2 43 rfl) rfl
theorem q392 : (Jvm.Cond.soleField "PictureRing$Joine\x72" "rest") ∈ lw_all := lw_g (lw_at lw_m2 44 rfl) rfl
theorem q393 : (Jvm.Cond.lays "PictureRing$Joine\x72" "PictureRing$Joine\x72" "cells" "I") ∈ lw_all := lw_g (lw_at lw_m2 45 rfl) rfl
theorem q394 : (Jvm.Cond.soleField "PictureRing$Joine\x72" "cells") ∈ lw_all := lw_g (lw_at lw_m2 46 rfl) rfl
theorem q395 : (Jvm.Cond.lays "PictureRing$Joine\x72" "PictureRing$Joine\x72" "unlike" "I") ∈ lw_all := lw_g (lw_at lw_m2 47 rfl) rfl
theorem q396 : (Jvm.Cond.soleField "PictureRing$Joine\x72" "unlike") ∈ lw_all := lw_g (lw_at lw_m2 48 rfl) rfl
theorem q397 : (Jvm.Cond.lays "PictureRing$Joine\x72" "PictureRing$Joine\x72" "more" "I") ∈ lw_all := lw_g (lw_at lw_m2 49 rfl) rfl
theorem q398 : (Jvm.Cond.soleField "PictureRing$Joine\x72" "more") ∈ lw_all := lw_g (lw_at lw_m2 50 rfl) rfl
theorem q399 : (Jvm.Cond.laysFinal "PictureRing$Joine\x72" "PictureRing$Joine\x72" "this$0" "LPictureRing;") ∈ lw_all := lw_g (lw_at lw_m2 51 rfl) rfl
theorem q400 : (Jvm.Cond.soleField "PictureRing$Joine\x72" "this$0") ∈ lw_all := lw_g (lw_at lw_m2 52 rfl) rfl
theorem q401 : (Jvm.Cond.superclass "PictureRing$Joine\x72" "java/lang/Object") ∈ lw_all := lw_g (lw_at lw_m2 53 rfl) rfl
theorem q416 : (Jvm.Cond.fieldLinkNest "PictureRing$Joine\x72" (82 : Nat) "PictureRing" "now" "LPictureRing$State;" "PictureRing") ∈ lw_tbl := lw_at lw_m2 68 rfl
theorem q422 : (Jvm.Cond.fieldLinkNest "PictureRing$Joine\x72" (66 : Nat) "PictureRing" "ways" "[LPictureRing$Way;" "PictureRing") ∈ lw_tbl := lw_at lw_m2 74 rfl
theorem q550 : (Jvm.Cond.fieldLinkNest "PictureRing$Joine\x72" (324 : Nat) "PictureRing$Picture" "x" "I" "PictureRing") ∈ lw_tbl := lw_at lw_m2 202 rfl
theorem q552 : (Jvm.Cond.fieldLinkNest "PictureRing$Joine\x72" (327 : Nat) "PictureRing$Picture" "y" "I" "PictureRing") ∈ lw_tbl := lw_at lw_m2 204 rfl
theorem q554 : (Jvm.Cond.fieldLinkNest "PictureRing$Joine\x72" (321 : Nat) "PictureRing$Picture" "round" "I" "PictureRing") ∈ lw_tbl := lw_at lw_m2 206 rfl
theorem q619 : (Jvm.Cond.instanceMethod ({ cls := "PictureRing$Joine\x72", name := "change", desc := "(LPictureRing$Picture;II)I" } : Jvm.MethodName)) ∈ lw_all := lw_g (lw_at lw_m3 31 rfl) rfl
theorem q620 : (Jvm.Cond.selects "PictureRing$Joine\x72" ({ cls := "PictureRing$Joine\x72", name := "change", desc := "(LPictureRing$Picture;II)I" } : Jvm.MethodName) ({ cls := "PictureRing$Joine\x72", name := "change", desc := "(LPictureRing$Picture;II)I" } : Jvm.MethodName)) ∈ lw_all := lw_g (lw_at lw_m3 32 rfl) rfl
theorem q621 : (Jvm.Cond.code ({ cls := "PictureRing$Joine\x72", name := "change", desc := "(LPictureRing$Picture;II)I" } : Jvm.MethodName) prog_8_method_2_code (9 : Nat) (Option.some Jvm.ClassFile.FieldType.int)) ∈ lw_all := lw_g (lw_at lw_m3 33 rfl) rfl
theorem q622 : (Jvm.Cond.constant "PictureRing$Joine\x72" (65 : Nat) (1000000 : Int32)) ∈ lw_all := lw_g (lw_at lw_m3 34 rfl) rfl
theorem q623 : (Jvm.Cond.interfaceEntry "PictureRing$Joine\x72" (70 : Nat)) ∈ lw_tbl := lw_at lw_m3 35 rfl
theorem q624 : (Jvm.Cond.methodLink "PictureRing$Joine\x72" (70 : Nat) ({ cls := "PictureRing$Way", name := "across", desc := "(LPictureRing$Picture;II)I" } : Jvm.MethodName)) ∈ lw_all := lw_g (lw_at lw_m3 36 rfl) rfl
theorem q627 : (Jvm.Cond.methodLink "PictureRing$Joine\x72" (76 : Nat) ({ cls := "java/lang/Math", name := "min", desc := "(II)I" } : Jvm.MethodName)) ∈ lw_all := lw_g (lw_at lw_m3 39 rfl) rfl
theorem q658 : (Jvm.Cond.instanceMethod ({ cls := "PictureRing$Joine\x72", name := "finds", desc := "()V" } : Jvm.MethodName)) ∈ lw_all := lw_g (lw_at lw_m3 70 rfl) rfl
theorem q659 : (Jvm.Cond.selects "PictureRing$Joine\x72" ({ cls := "PictureRing$Joine\x72", name := "finds", desc := "()V" } : Jvm.MethodName) ({ cls := "PictureRing$Joine\x72", name := "finds", desc := "()V" } : Jvm.MethodName)) ∈ lw_all := lw_g (lw_at lw_m3 71 rfl) rfl
theorem q660 : (Jvm.Cond.code ({ cls := "PictureRing$Joine\x72", name := "finds", desc := "()V" } : Jvm.MethodName) prog_8_method_16_code (2 : Nat) (Option.none : Option Jvm.ClassFile.FieldType)) ∈ lw_all := lw_g (lw_at lw_m3 72 rfl) rfl
theorem q661 : (Jvm.Cond.methodLink "PictureRing$Joine\x72" (307 : Nat) ({ cls := "PictureRing$Joine\x72", name := "findCorners", desc := "(I)V" } : Jvm.MethodName)) ∈ lw_all := lw_g (lw_at lw_m3 73 rfl) rfl
theorem q662 : (Jvm.Cond.privateMethod ({ cls := "PictureRing$Joine\x72", name := "findCorners", desc := "(I)V" } : Jvm.MethodName)) ∈ lw_tbl := lw_at lw_m3 74 rfl
theorem q663 : (Jvm.Cond.instanceMethod ({ cls := "PictureRing$Joine\x72", name := "findCorners", desc := "(I)V" } : Jvm.MethodName)) ∈ lw_all := lw_g (lw_at lw_m3 75 rfl) rfl
theorem q664 : (Jvm.Cond.code ({ cls := "PictureRing$Joine\x72", name := "findCorners", desc := "(I)V" } : Jvm.MethodName) prog_8_method_3_code (5 : Nat) (Option.none : Option Jvm.ClassFile.FieldType)) ∈ lw_all := lw_g (lw_at lw_m3 76 rfl) rfl
theorem q665 : (Jvm.Cond.methodLink "PictureRing$Joine\x72" (98 : Nat) ({ cls := "java/util/TreeSet", name := "clea\x72", desc := "()V" } : Jvm.MethodName)) ∈ lw_all := lw_g (lw_at lw_m3 77 rfl) rfl
theorem q678 : (Jvm.Cond.methodLink "PictureRing$Joine\x72" (103 : Nat) ({ cls := "PictureRing$Joine\x72", name := "change", desc := "(LPictureRing$Picture;II)I" } : Jvm.MethodName)) ∈ lw_all := lw_g (lw_at lw_m3 90 rfl) rfl
theorem q679 : (Jvm.Cond.classLink "PictureRing$Joine\x72" (109 : Nat) "PictureRing$Corne\x72") ∈ lw_all := lw_g (lw_at lw_m3 91 rfl) rfl
theorem q681 : (Jvm.Cond.methodLink "PictureRing$Joine\x72" (111 : Nat) ({ cls := "PictureRing$Picture", name := "at", desc := "(II)I" } : Jvm.MethodName)) ∈ lw_all := lw_g (lw_at lw_m3 93 rfl) rfl
theorem q682 : (Jvm.Cond.methodLink "PictureRing$Joine\x72" (116 : Nat) ({ cls := "PictureRing$Corne\x72", name := "<init>", desc := "(III)V" } : Jvm.MethodName)) ∈ lw_all := lw_g (lw_at lw_m3 94 rfl) rfl
theorem q687 : (Jvm.Cond.fieldLinkNest "PictureRing$Joine\x72" (137 : Nat) "PictureRing$Corne\x72" "\x72" "I" "PictureRing") ∈ lw_tbl := lw_at lw_m3 99 rfl
theorem q689 : (Jvm.Cond.fieldLinkNest "PictureRing$Joine\x72" (141 : Nat) "PictureRing$Corne\x72" "c" "I" "PictureRing") ∈ lw_tbl := lw_at lw_m3 101 rfl
theorem q691 : (Jvm.Cond.fieldLinkNest "PictureRing$Joine\x72" (148 : Nat) "PictureRing$Corne\x72" "value" "I" "PictureRing") ∈ lw_tbl := lw_at lw_m3 103 rfl
theorem q699 : (Jvm.Cond.methodLink "PictureRing$Joine\x72" (119 : Nat) ({ cls := "java/util/TreeSet", name := "add", desc := "(Ljava/lang/Object;)Z" } : Jvm.MethodName)) ∈ lw_all := lw_g (lw_at lw_m3 111 rfl) rfl
theorem q928 : (Jvm.Cond.methodLink "PictureRing$Joine\x72" (311 : Nat) ({ cls := "PictureRing$Joine\x72", name := "findChain", desc := "()V" } : Jvm.MethodName)) ∈ lw_all := lw_g (lw_at lw_m4 100 rfl) rfl
theorem q929 : (Jvm.Cond.privateMethod ({ cls := "PictureRing$Joine\x72", name := "findChain", desc := "()V" } : Jvm.MethodName)) ∈ lw_tbl := lw_at lw_m4 101 rfl
theorem q930 : (Jvm.Cond.instanceMethod ({ cls := "PictureRing$Joine\x72", name := "findChain", desc := "()V" } : Jvm.MethodName)) ∈ lw_all := lw_g (lw_at lw_m4 102 rfl) rfl
theorem q931 : (Jvm.Cond.code ({ cls := "PictureRing$Joine\x72", name := "findChain", desc := "()V" } : Jvm.MethodName) prog_8_method_8_code (5 : Nat) (Option.none : Option Jvm.ClassFile.FieldType)) ∈ lw_all := lw_g (lw_at lw_m4 103 rfl) rfl
theorem q932 : (Jvm.Cond.methodLink "PictureRing$Joine\x72" (228 : Nat) ({ cls := "java/util/PriorityQueue", name := "clea\x72", desc := "()V" } : Jvm.MethodName)) ∈ lw_all := lw_g (lw_at lw_m4 104 rfl) rfl
theorem q936 : (Jvm.Cond.methodLink "PictureRing$Joine\x72" (229 : Nat) ({ cls := "PictureRing$Joine\x72", name := "link", desc := "(II)LPictureRing$Link;" } : Jvm.MethodName)) ∈ lw_all := lw_g (lw_at lw_m4 108 rfl) rfl
theorem q937 : (Jvm.Cond.instanceMethod ({ cls := "PictureRing$Joine\x72", name := "link", desc := "(II)LPictureRing$Link;" } : Jvm.MethodName)) ∈ lw_all := lw_g (lw_at lw_m4 109 rfl) rfl
theorem q938 : (Jvm.Cond.selects "PictureRing$Joine\x72" ({ cls := "PictureRing$Joine\x72", name := "link", desc := "(II)LPictureRing$Link;" } : Jvm.MethodName) ({ cls := "PictureRing$Joine\x72", name := "link", desc := "(II)LPictureRing$Link;" } : Jvm.MethodName)) ∈ lw_all := lw_g (lw_at lw_m4 110 rfl) rfl
theorem q939 : (Jvm.Cond.code ({ cls := "PictureRing$Joine\x72", name := "link", desc := "(II)LPictureRing$Link;" } : Jvm.MethodName) prog_8_method_5_code (8 : Nat) (Option.some (Jvm.ClassFile.FieldType.object "PictureRing$Link"))) ∈ lw_all := lw_g (lw_at lw_m4 111 rfl) rfl
theorem q940 : (Jvm.Cond.classLink "PictureRing$Joine\x72" (155 : Nat) "java/util/TreeMap") ∈ lw_all := lw_g (lw_at lw_m4 112 rfl) rfl
theorem q941 : (Jvm.Cond.methodLink "PictureRing$Joine\x72" (157 : Nat) ({ cls := "java/util/TreeMap", name := "<init>", desc := "()V" } : Jvm.MethodName)) ∈ lw_all := lw_g (lw_at lw_m4 113 rfl) rfl
theorem q942 : (Jvm.Cond.methodLink "PictureRing$Joine\x72" (158 : Nat) ({ cls := "PictureRing$Joine\x72", name := "votes", desc := "(IIII)I" } : Jvm.MethodName)) ∈ lw_all := lw_g (lw_at lw_m4 114 rfl) rfl
theorem q943 : (Jvm.Cond.instanceMethod ({ cls := "PictureRing$Joine\x72", name := "votes", desc := "(IIII)I" } : Jvm.MethodName)) ∈ lw_all := lw_g (lw_at lw_m4 115 rfl) rfl
theorem q944 : (Jvm.Cond.selects "PictureRing$Joine\x72" ({ cls := "PictureRing$Joine\x72", name := "votes", desc := "(IIII)I" } : Jvm.MethodName) ({ cls := "PictureRing$Joine\x72", name := "votes", desc := "(IIII)I" } : Jvm.MethodName)) ∈ lw_all := lw_g (lw_at lw_m4 116 rfl) rfl
theorem q945 : (Jvm.Cond.code ({ cls := "PictureRing$Joine\x72", name := "votes", desc := "(IIII)I" } : Jvm.MethodName) prog_8_method_4_code (11 : Nat) (Option.some Jvm.ClassFile.FieldType.int)) ∈ lw_all := lw_g (lw_at lw_m4 117 rfl) rfl
theorem q946 : (Jvm.Cond.methodLink "PictureRing$Joine\x72" (123 : Nat) ({ cls := "java/util/TreeSet", name := "iterato\x72", desc := "()Ljava/util/Iterator;" } : Jvm.MethodName)) ∈ lw_all := lw_g (lw_at lw_m4 118 rfl) rfl
theorem q1018 : (Jvm.Cond.interfaceEntry "PictureRing$Joine\x72" (127 : Nat)) ∈ lw_tbl := lw_at lw_m4 190 rfl
theorem q1019 : (Jvm.Cond.methodLink "PictureRing$Joine\x72" (127 : Nat) ({ cls := "java/util/Iterato\x72", name := "hasNext", desc := "()Z" } : Jvm.MethodName)) ∈ lw_all := lw_g (lw_at lw_m4 191 rfl) rfl
theorem q1028 : (Jvm.Cond.interfaceEntry "PictureRing$Joine\x72" (133 : Nat)) ∈ lw_tbl := lw_at lw_m4 200 rfl
theorem q1029 : (Jvm.Cond.methodLink "PictureRing$Joine\x72" (133 : Nat) ({ cls := "java/util/Iterato\x72", name := "next", desc := "()Ljava/lang/Object;" } : Jvm.MethodName)) ∈ lw_all := lw_g (lw_at lw_m4 201 rfl) rfl
theorem q1046 : (Jvm.Cond.methodLinkNest "PictureRing$Joine\x72" (144 : Nat) ({ cls := "PictureRing", name := "isInne\x72", desc := "(II)Z" } : Jvm.MethodName) "PictureRing") ∈ lw_tbl := lw_at lw_m4 218 rfl
theorem q1047 : (Jvm.Cond.methodLink "PictureRing$Joine\x72" (151 : Nat) ({ cls := "java/lang/Math", name := "abs", desc := "(I)I" } : Jvm.MethodName)) ∈ lw_all := lw_g (lw_at lw_m4 219 rfl) rfl
theorem q1048 : (Jvm.Cond.classLink "PictureRing$Joine\x72" (162 : Nat) "PictureRing$Shift") ∈ lw_all := lw_g (lw_at lw_m4 220 rfl) rfl
theorem q1050 : (Jvm.Cond.methodLink "PictureRing$Joine\x72" (164 : Nat) ({ cls := "PictureRing$Shift", name := "<init>", desc := "(II)V" } : Jvm.MethodName)) ∈ lw_all := lw_g (lw_at lw_m4 222 rfl) rfl
theorem q1056 : (Jvm.Cond.fieldLinkNest "PictureRing$Joine\x72" (225 : Nat) "PictureRing$Shift" "lowe\x72" "I" "PictureRing") ∈ lw_tbl := lw_at lw_m4 228 rfl
theorem q1060 : (Jvm.Cond.fieldLinkNest "PictureRing$Joine\x72" (219 : Nat) "PictureRing$Shift" "right" "I" "PictureRing") ∈ lw_tbl := lw_at lw_m4 232 rfl
theorem q1067 : (Jvm.Cond.methodLink "PictureRing$Joine\x72" (167 : Nat) ({ cls := "java/lang/Intege\x72", name := "valueOf", desc := "(I)Ljava/lang/Integer;" } : Jvm.MethodName)) ∈ lw_all := lw_g (lw_at lw_m4 239 rfl) rfl
theorem q1086 : (Jvm.Cond.methodLink "PictureRing$Joine\x72" (173 : Nat) ({ cls := "java/util/TreeMap", name := "put", desc := "(Ljava/lang/Object;Ljava/lang/Object;)Ljava/lang/Object;" } : Jvm.MethodName)) ∈ lw_all := lw_g (lw_at lw_m5 18 rfl) rfl
theorem q1087 : (Jvm.Cond.methodLink "PictureRing$Joine\x72" (177 : Nat) ({ cls := "java/util/TreeMap", name := "keySet", desc := "()Ljava/util/Set;" } : Jvm.MethodName)) ∈ lw_all := lw_g (lw_at lw_m5 19 rfl) rfl
theorem q1092 : (Jvm.Cond.interfaceEntry "PictureRing$Joine\x72" (181 : Nat)) ∈ lw_tbl := lw_at lw_m5 24 rfl
theorem q1093 : (Jvm.Cond.methodLink "PictureRing$Joine\x72" (181 : Nat) ({ cls := "java/util/Set", name := "iterato\x72", desc := "()Ljava/util/Iterator;" } : Jvm.MethodName)) ∈ lw_all := lw_g (lw_at lw_m5 25 rfl) rfl
theorem q1100 : (Jvm.Cond.methodLink "PictureRing$Joine\x72" (184 : Nat) ({ cls := "java/util/TreeMap", name := "get", desc := "(Ljava/lang/Object;)Ljava/lang/Object;" } : Jvm.MethodName)) ∈ lw_all := lw_g (lw_at lw_m5 32 rfl) rfl
theorem q1112 : (Jvm.Cond.classLink "PictureRing$Joine\x72" (168 : Nat) "java/lang/Intege\x72") ∈ lw_all := lw_g (lw_at lw_m5 44 rfl) rfl
theorem q1113 : (Jvm.Cond.methodLink "PictureRing$Joine\x72" (188 : Nat) ({ cls := "java/lang/Intege\x72", name := "intValue", desc := "()I" } : Jvm.MethodName)) ∈ lw_all := lw_g (lw_at lw_m5 45 rfl) rfl
theorem q1118 : (Jvm.Cond.methodLink "PictureRing$Joine\x72" (194 : Nat) ({ cls := "PictureRing$Link", name := "<init>", desc := "(IILPictureRing$Shift;I)V" } : Jvm.MethodName)) ∈ lw_all := lw_g (lw_at lw_m5 50 rfl) rfl
theorem q1124 : (Jvm.Cond.fieldLinkNest "PictureRing$Joine\x72" (200 : Nat) "PictureRing$Link" "from" "I" "PictureRing") ∈ lw_tbl := lw_at lw_m5 56 rfl
theorem q1128 : (Jvm.Cond.fieldLinkNest "PictureRing$Joine\x72" (197 : Nat) "PictureRing$Link" "to" "I" "PictureRing") ∈ lw_tbl := lw_at lw_m5 60 rfl
theorem q1130 : (Jvm.Cond.fieldLinkNest "PictureRing$Joine\x72" (215 : Nat) "PictureRing$Link" "shift" "LPictureRing$Shift;" "PictureRing") ∈ lw_tbl := lw_at lw_m5 62 rfl
theorem q1134 : (Jvm.Cond.fieldLinkNest "PictureRing$Joine\x72" (192 : Nat) "PictureRing$Link" "votes" "I" "PictureRing") ∈ lw_tbl := lw_at lw_m5 66 rfl
theorem q1145 : (Jvm.Cond.methodLink "PictureRing$Joine\x72" (233 : Nat) ({ cls := "java/util/PriorityQueue", name := "add", desc := "(Ljava/lang/Object;)Z" } : Jvm.MethodName)) ∈ lw_all := lw_g (lw_at lw_m5 77 rfl) rfl
theorem q1181 : (Jvm.Cond.selects "PictureRing$Joine\x72" ({ cls := "java/lang/Object", name := "getClass", desc := "()Ljava/lang/Class;" } : Jvm.MethodName) ({ cls := "java/lang/Object", name := "getClass", desc := "()Ljava/lang/Class;" } : Jvm.MethodName)) ∈ lw_all := lw_g (lw_at lw_m5 113 rfl) rfl
theorem q1221 : (Jvm.Cond.methodLink "PictureRing$Joine\x72" (234 : Nat) ({ cls := "java/util/PriorityQueue", name := "isEmpty", desc := "()Z" } : Jvm.MethodName)) ∈ lw_all := lw_g (lw_at lw_m5 153 rfl) rfl
theorem q1248 : (Jvm.Cond.methodLink "PictureRing$Joine\x72" (237 : Nat) ({ cls := "java/util/PriorityQueue", name := "poll", desc := "()Ljava/lang/Object;" } : Jvm.MethodName)) ∈ lw_all := lw_g (lw_at lw_m5 180 rfl) rfl
theorem q1258 : (Jvm.Cond.methodLink "PictureRing$Joine\x72" (240 : Nat) ({ cls := "PictureRing$Joine\x72", name := "takes", desc := "(LPictureRing$Link;)V" } : Jvm.MethodName)) ∈ lw_all := lw_g (lw_at lw_m5 190 rfl) rfl
theorem q1259 : (Jvm.Cond.privateMethod ({ cls := "PictureRing$Joine\x72", name := "takes", desc := "(LPictureRing$Link;)V" } : Jvm.MethodName)) ∈ lw_tbl := lw_at lw_m5 191 rfl
theorem q1260 : (Jvm.Cond.instanceMethod ({ cls := "PictureRing$Joine\x72", name := "takes", desc := "(LPictureRing$Link;)V" } : Jvm.MethodName)) ∈ lw_all := lw_g (lw_at lw_m5 192 rfl) rfl
theorem q1261 : (Jvm.Cond.code ({ cls := "PictureRing$Joine\x72", name := "takes", desc := "(LPictureRing$Link;)V" } : Jvm.MethodName) prog_8_method_7_code (3 : Nat) (Option.none : Option Jvm.ClassFile.FieldType)) ∈ lw_all := lw_g (lw_at lw_m5 193 rfl) rfl
theorem q1262 : (Jvm.Cond.methodLink "PictureRing$Joine\x72" (203 : Nat) ({ cls := "PictureRing$Joine\x72", name := "leads", desc := "(II)I" } : Jvm.MethodName)) ∈ lw_all := lw_g (lw_at lw_m5 194 rfl) rfl
theorem q1263 : (Jvm.Cond.privateMethod ({ cls := "PictureRing$Joine\x72", name := "leads", desc := "(II)I" } : Jvm.MethodName)) ∈ lw_tbl := lw_at lw_m5 195 rfl
theorem q1264 : (Jvm.Cond.instanceMethod ({ cls := "PictureRing$Joine\x72", name := "leads", desc := "(II)I" } : Jvm.MethodName)) ∈ lw_all := lw_g (lw_at lw_m5 196 rfl) rfl
theorem q1265 : (Jvm.Cond.code ({ cls := "PictureRing$Joine\x72", name := "leads", desc := "(II)I" } : Jvm.MethodName) prog_8_method_6_code (5 : Nat) (Option.some Jvm.ClassFile.FieldType.int)) ∈ lw_all := lw_g (lw_at lw_m5 197 rfl) rfl
theorem q1266 : (Jvm.Cond.methodLink "PictureRing$Joine\x72" (314 : Nat) ({ cls := "PictureRing$Joine\x72", name := "seam", desc := "(LPictureRing$Link;)[I" } : Jvm.MethodName)) ∈ lw_all := lw_g (lw_at lw_m5 198 rfl) rfl
theorem q1267 : (Jvm.Cond.privateMethod ({ cls := "PictureRing$Joine\x72", name := "seam", desc := "(LPictureRing$Link;)[I" } : Jvm.MethodName)) ∈ lw_tbl := lw_at lw_m5 199 rfl
theorem q1268 : (Jvm.Cond.instanceMethod ({ cls := "PictureRing$Joine\x72", name := "seam", desc := "(LPictureRing$Link;)[I" } : Jvm.MethodName)) ∈ lw_all := lw_g (lw_at lw_m5 200 rfl) rfl
theorem q1269 : (Jvm.Cond.code ({ cls := "PictureRing$Joine\x72", name := "seam", desc := "(LPictureRing$Link;)[I" } : Jvm.MethodName) prog_8_method_12_code (7 : Nat) (Option.some (Jvm.ClassFile.FieldType.array Jvm.ClassFile.FieldType.int))) ∈ lw_all := lw_g (lw_at lw_m5 201 rfl) rfl
theorem q1270 : (Jvm.Cond.classLink "PictureRing$Joine\x72" (267 : Nat) "[[I") ∈ lw_all := lw_g (lw_at lw_m5 202 rfl) rfl
theorem q1271 : (Jvm.Cond.methodLink "PictureRing$Joine\x72" (268 : Nat) ({ cls := "PictureRing$Link", name := "isRow", desc := "(I)Z" } : Jvm.MethodName)) ∈ lw_all := lw_g (lw_at lw_m5 203 rfl) rfl
theorem q1277 : (Jvm.Cond.methodLink "PictureRing$Joine\x72" (272 : Nat) ({ cls := "PictureRing$Joine\x72", name := "below", desc := "([[III)I" } : Jvm.MethodName)) ∈ lw_all := lw_g (lw_at lw_m5 209 rfl) rfl
theorem q1278 : (Jvm.Cond.privateMethod ({ cls := "PictureRing$Joine\x72", name := "below", desc := "([[III)I" } : Jvm.MethodName)) ∈ lw_tbl := lw_at lw_m5 210 rfl
theorem q1279 : (Jvm.Cond.instanceMethod ({ cls := "PictureRing$Joine\x72", name := "below", desc := "([[III)I" } : Jvm.MethodName)) ∈ lw_all := lw_g (lw_at lw_m5 211 rfl) rfl
theorem q1280 : (Jvm.Cond.code ({ cls := "PictureRing$Joine\x72", name := "below", desc := "([[III)I" } : Jvm.MethodName) prog_8_method_11_code (7 : Nat) (Option.some Jvm.ClassFile.FieldType.int)) ∈ lw_all := lw_g (lw_at lw_m5 212 rfl) rfl
theorem q1281 : (Jvm.Cond.methodLink "PictureRing$Joine\x72" (264 : Nat) ({ cls := "java/lang/Math", name := "max", desc := "(II)I" } : Jvm.MethodName)) ∈ lw_all := lw_g (lw_at lw_m5 213 rfl) rfl
theorem q1282 : (Jvm.Cond.methodLink "PictureRing$Joine\x72" (276 : Nat) ({ cls := "PictureRing$Joine\x72", name := "difference", desc := "(LPictureRing$Link;II)I" } : Jvm.MethodName)) ∈ lw_all := lw_g (lw_at lw_m5 214 rfl) rfl
theorem q1283 : (Jvm.Cond.privateMethod ({ cls := "PictureRing$Joine\x72", name := "difference", desc := "(LPictureRing$Link;II)I" } : Jvm.MethodName)) ∈ lw_tbl := lw_at lw_m5 215 rfl
theorem q1284 : (Jvm.Cond.instanceMethod ({ cls := "PictureRing$Joine\x72", name := "difference", desc := "(LPictureRing$Link;II)I" } : Jvm.MethodName)) ∈ lw_all := lw_g (lw_at lw_m5 216 rfl) rfl
theorem q1285 : (Jvm.Cond.code ({ cls := "PictureRing$Joine\x72", name := "difference", desc := "(LPictureRing$Link;II)I" } : Jvm.MethodName) prog_8_method_9_code (4 : Nat) (Option.some Jvm.ClassFile.FieldType.int)) ∈ lw_all := lw_g (lw_at lw_m5 217 rfl) rfl
theorem q1286 : (Jvm.Cond.methodLink "PictureRing$Joine\x72" (318 : Nat) ({ cls := "PictureRing$Joine\x72", name := "findLevels", desc := "()V" } : Jvm.MethodName)) ∈ lw_all := lw_g (lw_at lw_m5 218 rfl) rfl
theorem q1287 : (Jvm.Cond.privateMethod ({ cls := "PictureRing$Joine\x72", name := "findLevels", desc := "()V" } : Jvm.MethodName)) ∈ lw_tbl := lw_at lw_m5 219 rfl
theorem q1288 : (Jvm.Cond.instanceMethod ({ cls := "PictureRing$Joine\x72", name := "findLevels", desc := "()V" } : Jvm.MethodName)) ∈ lw_all := lw_g (lw_at lw_m5 220 rfl) rfl
theorem q1289 : (Jvm.Cond.code ({ cls := "PictureRing$Joine\x72", name := "findLevels", desc := "()V" } : Jvm.MethodName) prog_8_method_14_code (5 : Nat) (Option.none : Option Jvm.ClassFile.FieldType)) ∈ lw_all := lw_g (lw_at lw_m5 221 rfl) rfl
theorem q1290 : (Jvm.Cond.methodLink "PictureRing$Joine\x72" (286 : Nat) ({ cls := "PictureRing$Joine\x72", name := "step", desc := "(LPictureRing$Link;)LPictureRing$Fraction;" } : Jvm.MethodName)) ∈ lw_all := lw_g (lw_at lw_m5 222 rfl) rfl
theorem q1291 : (Jvm.Cond.privateMethod ({ cls := "PictureRing$Joine\x72", name := "step", desc := "(LPictureRing$Link;)LPictureRing$Fraction;" } : Jvm.MethodName)) ∈ lw_tbl := lw_at lw_m5 223 rfl
theorem q1292 : (Jvm.Cond.instanceMethod ({ cls := "PictureRing$Joine\x72", name := "step", desc := "(LPictureRing$Link;)LPictureRing$Fraction;" } : Jvm.MethodName)) ∈ lw_all := lw_g (lw_at lw_m5 224 rfl) rfl
theorem q1293 : (Jvm.Cond.code ({ cls := "PictureRing$Joine\x72", name := "step", desc := "(LPictureRing$Link;)LPictureRing$Fraction;" } : Jvm.MethodName) prog_8_method_13_code (2 : Nat) (Option.some (Jvm.ClassFile.FieldType.object "PictureRing$Fraction"))) ∈ lw_all := lw_g (lw_at lw_m5 225 rfl) rfl
theorem q1294 : (Jvm.Cond.methodLink "PictureRing$Joine\x72" (280 : Nat) ({ cls := "PictureRing$Joine\x72", name := "measures", desc := "(LPictureRing$Link;)V" } : Jvm.MethodName)) ∈ lw_all := lw_g (lw_at lw_m5 226 rfl) rfl
theorem q1295 : (Jvm.Cond.instanceMethod ({ cls := "PictureRing$Joine\x72", name := "measures", desc := "(LPictureRing$Link;)V" } : Jvm.MethodName)) ∈ lw_all := lw_g (lw_at lw_m5 227 rfl) rfl
theorem q1296 : (Jvm.Cond.selects "PictureRing$Joine\x72" ({ cls := "PictureRing$Joine\x72", name := "measures", desc := "(LPictureRing$Link;)V" } : Jvm.MethodName) ({ cls := "PictureRing$Joine\x72", name := "measures", desc := "(LPictureRing$Link;)V" } : Jvm.MethodName)) ∈ lw_all := lw_g (lw_at lw_m5 228 rfl) rfl
theorem q1297 : (Jvm.Cond.code ({ cls := "PictureRing$Joine\x72", name := "measures", desc := "(LPictureRing$Link;)V" } : Jvm.MethodName) prog_8_method_10_code (2 : Nat) (Option.none : Option Jvm.ClassFile.FieldType)) ∈ lw_all := lw_g (lw_at lw_m5 229 rfl) rfl
theorem q1298 : (Jvm.Cond.privateMethod ({ cls := "PictureRing$Joine\x72", name := "lambda$measures$0", desc := "(LPictureRing$Link;II)V" } : Jvm.MethodName)) ∈ lw_tbl := lw_at lw_m5 230 rfl
theorem q1299 : (Jvm.Cond.instanceMethod ({ cls := "PictureRing$Joine\x72", name := "lambda$measures$0", desc := "(LPictureRing$Link;II)V" } : Jvm.MethodName)) ∈ lw_all := lw_g (lw_at lw_m5 231 rfl) rfl
theorem q1300 : (Jvm.Cond.code ({ cls := "PictureRing$Joine\x72", name := "lambda$measures$0", desc := "(LPictureRing$Link;II)V" } : Jvm.MethodName) prog_8_method_22_code (4 : Nat) (Option.none : Option Jvm.ClassFile.FieldType)) ∈ lw_all := lw_g (lw_at lw_m5 232 rfl) rfl
theorem q1301 : (Jvm.Cond.methodLink "PictureRing$Joine\x72" (260 : Nat) ({ cls := "PictureRing$Link", name := "each", desc := "(LPictureRing$Visit;)V" } : Jvm.MethodName)) ∈ lw_all := lw_g (lw_at lw_m5 233 rfl) rfl
theorem q1310 : (Jvm.Cond.methodLink "PictureRing$Joine\x72" (283 : Nat) ({ cls := "PictureRing$Fraction", name := "<init>", desc := "(JJ)V" } : Jvm.MethodName)) ∈ lw_all := lw_g (lw_at lw_m6 2 rfl) rfl
theorem q1311 : (Jvm.Cond.methodLink "PictureRing$Joine\x72" (290 : Nat) ({ cls := "PictureRing$Fraction", name := "and", desc := "(LPictureRing$Fraction;)LPictureRing$Fraction;" } : Jvm.MethodName)) ∈ lw_all := lw_g (lw_at lw_m6 3 rfl) rfl
theorem q1316 : (Jvm.Cond.methodLink "PictureRing$Joine\x72" (294 : Nat) ({ cls := "PictureRing$Fraction", name := "by", desc := "(LPictureRing$Fraction;)LPictureRing$Fraction;" } : Jvm.MethodName)) ∈ lw_all := lw_g (lw_at lw_m6 8 rfl) rfl
theorem q1320 : (Jvm.Cond.methodLink "PictureRing$Joine\x72" (297 : Nat) ({ cls := "PictureRing$Fraction", name := "times", desc := "(LPictureRing$Fraction;)LPictureRing$Fraction;" } : Jvm.MethodName)) ∈ lw_all := lw_g (lw_at lw_m6 12 rfl) rfl
theorem q1324 : (Jvm.Cond.methodLink "PictureRing$Joine\x72" (300 : Nat) ({ cls := "PictureRing$Joine\x72", name := "levelsFrom", desc := "(ILPictureRing$Fraction;)V" } : Jvm.MethodName)) ∈ lw_all := lw_g (lw_at lw_m6 16 rfl) rfl
theorem q1325 : (Jvm.Cond.privateMethod ({ cls := "PictureRing$Joine\x72", name := "levelsFrom", desc := "(ILPictureRing$Fraction;)V" } : Jvm.MethodName)) ∈ lw_tbl := lw_at lw_m6 17 rfl
theorem q1326 : (Jvm.Cond.instanceMethod ({ cls := "PictureRing$Joine\x72", name := "levelsFrom", desc := "(ILPictureRing$Fraction;)V" } : Jvm.MethodName)) ∈ lw_all := lw_g (lw_at lw_m6 18 rfl) rfl
theorem q1327 : (Jvm.Cond.code ({ cls := "PictureRing$Joine\x72", name := "levelsFrom", desc := "(ILPictureRing$Fraction;)V" } : Jvm.MethodName) prog_8_method_15_code (5 : Nat) (Option.none : Option Jvm.ClassFile.FieldType)) ∈ lw_all := lw_g (lw_at lw_m6 19 rfl) rfl
theorem q1328 : (Jvm.Cond.methodLink "PictureRing$Joine\x72" (304 : Nat) ({ cls := "PictureRing$Fraction", name := "less", desc := "(LPictureRing$Fraction;)LPictureRing$Fraction;" } : Jvm.MethodName)) ∈ lw_all := lw_g (lw_at lw_m6 20 rfl) rfl
theorem q1344 : (Jvm.Cond.instanceMethod ({ cls := "PictureRing$Joine\x72", name := "followe\x72", desc := "(I)I" } : Jvm.MethodName)) ∈ lw_all := lw_g (lw_at lw_m6 36 rfl) rfl
theorem q1345 : (Jvm.Cond.selects "PictureRing$Joine\x72" ({ cls := "PictureRing$Joine\x72", name := "followe\x72", desc := "(I)I" } : Jvm.MethodName) ({ cls := "PictureRing$Joine\x72", name := "followe\x72", desc := "(I)I" } : Jvm.MethodName)) ∈ lw_all := lw_g (lw_at lw_m6 37 rfl) rfl
theorem q1346 : (Jvm.Cond.code ({ cls := "PictureRing$Joine\x72", name := "followe\x72", desc := "(I)I" } : Jvm.MethodName) prog_8_method_17_code (2 : Nat) (Option.some Jvm.ClassFile.FieldType.int)) ∈ lw_all := lw_g (lw_at lw_m6 38 rfl) rfl
theorem q1358 : (Jvm.Cond.instanceMethod ({ cls := "PictureRing$Joine\x72", name := "isRight", desc := "(I)Z" } : Jvm.MethodName)) ∈ lw_all := lw_g (lw_at lw_m6 50 rfl) rfl
theorem q1359 : (Jvm.Cond.selects "PictureRing$Joine\x72" ({ cls := "PictureRing$Joine\x72", name := "isRight", desc := "(I)Z" } : Jvm.MethodName) ({ cls := "PictureRing$Joine\x72", name := "isRight", desc := "(I)Z" } : Jvm.MethodName)) ∈ lw_all := lw_g (lw_at lw_m6 51 rfl) rfl
theorem q1360 : (Jvm.Cond.code ({ cls := "PictureRing$Joine\x72", name := "isRight", desc := "(I)Z" } : Jvm.MethodName) prog_8_method_18_code (5 : Nat) (Option.some Jvm.ClassFile.FieldType.boolean)) ∈ lw_all := lw_g (lw_at lw_m6 52 rfl) rfl
theorem q1374 : (Jvm.Cond.instanceMethod ({ cls := "PictureRing$Joine\x72", name := "place", desc := "(II)I" } : Jvm.MethodName)) ∈ lw_all := lw_g (lw_at lw_m6 66 rfl) rfl
theorem q1375 : (Jvm.Cond.selects "PictureRing$Joine\x72" ({ cls := "PictureRing$Joine\x72", name := "place", desc := "(II)I" } : Jvm.MethodName) ({ cls := "PictureRing$Joine\x72", name := "place", desc := "(II)I" } : Jvm.MethodName)) ∈ lw_all := lw_g (lw_at lw_m6 67 rfl) rfl
theorem q1376 : (Jvm.Cond.code ({ cls := "PictureRing$Joine\x72", name := "place", desc := "(II)I" } : Jvm.MethodName) prog_8_method_19_code (7 : Nat) (Option.some Jvm.ClassFile.FieldType.int)) ∈ lw_all := lw_g (lw_at lw_m6 68 rfl) rfl
theorem q1377 : (Jvm.Cond.methodLink "PictureRing$Joine\x72" (330 : Nat) ({ cls := "java/lang/Math", name := "floorDiv", desc := "(II)I" } : Jvm.MethodName)) ∈ lw_all := lw_g (lw_at lw_m6 69 rfl) rfl
theorem q1418 : (Jvm.Cond.instanceMethod ({ cls := "PictureRing$Joine\x72", name := "shown", desc := "(II)I" } : Jvm.MethodName)) ∈ lw_all := lw_g (lw_at lw_m6 110 rfl) rfl
theorem q1419 : (Jvm.Cond.selects "PictureRing$Joine\x72" ({ cls := "PictureRing$Joine\x72", name := "shown", desc := "(II)I" } : Jvm.MethodName) ({ cls := "PictureRing$Joine\x72", name := "shown", desc := "(II)I" } : Jvm.MethodName)) ∈ lw_all := lw_g (lw_at lw_m6 111 rfl) rfl
theorem q1420 : (Jvm.Cond.code ({ cls := "PictureRing$Joine\x72", name := "shown", desc := "(II)I" } : Jvm.MethodName) prog_8_method_20_code (7 : Nat) (Option.some Jvm.ClassFile.FieldType.int)) ∈ lw_all := lw_g (lw_at lw_m6 112 rfl) rfl
theorem q1421 : (Jvm.Cond.static ({ cls := "PictureRing$Joine\x72", name := "lambda$shown$1", desc := "(II)Z" } : Jvm.MethodName)) ∈ lw_all := lw_g (lw_at lw_m6 113 rfl) rfl
theorem q1422 : (Jvm.Cond.code ({ cls := "PictureRing$Joine\x72", name := "lambda$shown$1", desc := "(II)Z" } : Jvm.MethodName) prog_8_method_21_code (2 : Nat) (Option.some Jvm.ClassFile.FieldType.boolean)) ∈ lw_all := lw_g (lw_at lw_m6 114 rfl) rfl
theorem q1423 : (Jvm.Cond.methodLinkNest "PictureRing$Joine\x72" (337 : Nat) ({ cls := "PictureRing", name := "bits", desc := "(ILPictureRing$Test;)I" } : Jvm.MethodName) "PictureRing") ∈ lw_tbl := lw_at lw_m6 115 rfl
theorem q2071 : (Jvm.Cond.castable "PictureRing$Joine\x72" "java/lang/Object") ∈ lw_tbl := lw_at lw_m9 43 rfl
theorem in_X2 : ∀ w ∈ wsX20, w ∈ lw_all := lw_in wsX20 [369, 371, 373, 375, 377, 379, 381, 383, 385, 387, 389, 391, 393, 395, 397, 399] (by decide +kernel) (by decide +kernel)
/-! PictureRing$Corners -/
set_option maxRecDepth 100000
def RX3 : String := "PictureRing$Corners"
def TX3 : u_T := fun k => match k with
  | _ => ("PictureRing$Corners", "all", "Ljava/util/TreeSet;", true)
def tyX3 : Nat → FieldType := fun k => match k with
  | _ => .object "java/util/TreeSet"
abbrev wsX30 : List Cond := u_ws RX3 TX3 1
theorem nmX3 : ∀ a, a < 1 → ∀ b, b < 1 → a ≠ b → (TX3 a).2.1 ≠ (TX3 b).2.1 := by decide +kernel
theorem tyX3_ok : ∀ k, k < 1 → parseFieldDescriptor (TX3 k).2.2.1 = some (tyX3 k) := by decide +kernel
abbrev cX3_init : ByteArray := prog_4_method_1_code
def yX3_init : MethodName := ⟨RX3, "<init>", "()V"⟩
def dkwX3_init_0 : List UInt8 := [42, 183, 0, 1, 42, 187, 0, 7, 89, 183, 0, 9, 181, 0, 10, 177]
abbrev dktX3_init_0 : List UInt8 := dkwX3_init_0 ++ []
theorem dksX3_init_0 : cX3_init.data.toList.drop 0 = dktX3_init_0 := by decide +kernel
theorem dX3_init_0 : decode cX3_init 0 = .ok (.aload_n 0, 1) := dk_42 (dk_at dksX3_init_0 0 rfl rfl)
theorem dX3_init_1 : decode cX3_init 1 = .ok (.invokespecial 1, 3) := dk_183 0 1 (dk_at dksX3_init_0 1 rfl rfl)
theorem dX3_init_4 : decode cX3_init 4 = .ok (.aload_n 0, 1) := dk_42 (dk_at dksX3_init_0 4 rfl rfl)
theorem dX3_init_5 : decode cX3_init 5 = .ok (.new 7, 3) := dk_187 0 7 (dk_at dksX3_init_0 5 rfl rfl)
theorem dX3_init_8 : decode cX3_init 8 = .ok (.dup, 1) := dk_89 (dk_at dksX3_init_0 8 rfl rfl)
theorem dX3_init_9 : decode cX3_init 9 = .ok (.invokespecial 9, 3) := dk_183 0 9 (dk_at dksX3_init_0 9 rfl rfl)
theorem dX3_init_12 : decode cX3_init 12 = .ok (.putfield 10, 3) := dk_181 0 10 (dk_at dksX3_init_0 12 rfl rfl)
theorem dX3_init_15 : decode cX3_init 15 = .ok (.return_, 1) := dk_177 (dk_at dksX3_init_0 15 rfl rfl)
theorem q113 : (Jvm.Cond.initialized "PictureRing$Corners") ∈ lw_all := lw_g (lw_at lw_m1 5 rfl) rfl
theorem q217 : (Jvm.Cond.instantiable "PictureRing$Corners" (1 : Nat)) ∈ lw_all := lw_g (lw_at lw_m1 109 rfl) rfl
theorem q219 : (Jvm.Cond.instanceMethod ({ cls := "PictureRing$Corners", name := "<init>", desc := "()V" } : Jvm.MethodName)) ∈ lw_all := lw_g (lw_at lw_m1 111 rfl) rfl
theorem q220 : (Jvm.Cond.code ({ cls := "PictureRing$Corners", name := "<init>", desc := "()V" } : Jvm.MethodName) prog_4_method_1_code (1 : Nat) (Option.none : Option Jvm.ClassFile.FieldType)) ∈ lw_all := lw_g (lw_at lw_m1 112 rfl) rfl
theorem q221 : (Jvm.Cond.methodLink "PictureRing$Corners" (1 : Nat) ({ cls := "java/lang/Object", name := "<init>", desc := "()V" } : Jvm.MethodName)) ∈ lw_all := lw_g (lw_at lw_m1 113 rfl) rfl
theorem q222 : (Jvm.Cond.classLink "PictureRing$Corners" (7 : Nat) "java/util/TreeSet") ∈ lw_all := lw_g (lw_at lw_m1 114 rfl) rfl
theorem q224 : (Jvm.Cond.methodLink "PictureRing$Corners" (9 : Nat) ({ cls := "java/util/TreeSet", name := "<init>", desc := "()V" } : Jvm.MethodName)) ∈ lw_all := lw_g (lw_at lw_m1 116 rfl) rfl
theorem q275 : (Jvm.Cond.fieldLink "PictureRing$Corners" (10 : Nat) "PictureRing$Corners" "all" "Ljava/util/TreeSet;") ∈ lw_all := lw_g (lw_at lw_m1 167 rfl) rfl
theorem q277 : (Jvm.Cond.laysFinal "PictureRing$Corners" "PictureRing$Corners" "all" "Ljava/util/TreeSet;") ∈ lw_all := lw_g (lw_at lw_m1 169 rfl) rfl
theorem q278 : (Jvm.Cond.soleField "PictureRing$Corners" "all") ∈ lw_all := lw_g (lw_at lw_m1 170 rfl) rfl
theorem q279 : (Jvm.Cond.superclass "PictureRing$Corners" "java/lang/Object") ∈ lw_all := lw_g (lw_at lw_m1 171 rfl) rfl
theorem q1178 : (Jvm.Cond.selects "PictureRing$Corners" ({ cls := "java/lang/Object", name := "getClass", desc := "()Ljava/lang/Class;" } : Jvm.MethodName) ({ cls := "java/lang/Object", name := "getClass", desc := "()Ljava/lang/Class;" } : Jvm.MethodName)) ∈ lw_all := lw_g (lw_at lw_m5 110 rfl) rfl
theorem q2067 : (Jvm.Cond.castable "PictureRing$Corners" "java/lang/Object") ∈ lw_tbl := lw_at lw_m9 39 rfl
theorem in_X3 : ∀ w ∈ wsX30, w ∈ lw_all := lw_in wsX30 [277] (by decide +kernel) (by decide +kernel)
/-! PictureRing$ByVotes -/
set_option maxRecDepth 100000
def RX4 : String := "PictureRing$ByVotes"
abbrev cX4_init : ByteArray := prog_2_method_1_code
def yX4_init : MethodName := ⟨RX4, "<init>", "()V"⟩
theorem dX4_init_0 : decode cX4_init 0 = .ok (.aload_n 0, 1) := by decide +kernel
theorem dX4_init_1 : decode cX4_init 1 = .ok (.invokespecial 1, 3) := by decide +kernel
theorem dX4_init_4 : decode cX4_init 4 = .ok (.return_, 1) := by decide +kernel
abbrev cX4_compare : ByteArray := prog_2_method_3_code
def yX4_compare : MethodName := ⟨RX4, "compare", "(Ljava/lang/Object;Ljava/lang/Object;)I"⟩
def dkwX4_compare_0 : List UInt8 := [42, 43, 192, 0, 8, 44, 192, 0, 8, 182, 0, 19, 172]
abbrev dktX4_compare_0 : List UInt8 := dkwX4_compare_0 ++ []
theorem dksX4_compare_0 : cX4_compare.data.toList.drop 0 = dktX4_compare_0 := by decide +kernel
theorem dX4_compare_0 : decode cX4_compare 0 = .ok (.aload_n 0, 1) := dk_42 (dk_at dksX4_compare_0 0 rfl rfl)
theorem dX4_compare_1 : decode cX4_compare 1 = .ok (.aload_n 1, 1) := dk_43 (dk_at dksX4_compare_0 1 rfl rfl)
theorem dX4_compare_2 : decode cX4_compare 2 = .ok (.checkcast 8, 3) := dk_192 0 8 (dk_at dksX4_compare_0 2 rfl rfl)
theorem dX4_compare_5 : decode cX4_compare 5 = .ok (.aload_n 2, 1) := dk_44 (dk_at dksX4_compare_0 5 rfl rfl)
theorem dX4_compare_6 : decode cX4_compare 6 = .ok (.checkcast 8, 3) := dk_192 0 8 (dk_at dksX4_compare_0 6 rfl rfl)
theorem dX4_compare_9 : decode cX4_compare 9 = .ok (.invokevirtual 19, 3) := dk_182 0 19 (dk_at dksX4_compare_0 9 rfl rfl)
theorem dX4_compare_12 : decode cX4_compare 12 = .ok (.ireturn, 1) := dk_172 (dk_at dksX4_compare_0 12 rfl rfl)
abbrev cX4_compare_2 : ByteArray := prog_2_method_2_code
def yX4_compare_2 : MethodName := ⟨RX4, "compare", "(LPictureRing$Link;LPictureRing$Link;)I"⟩
def dkwX4_compare_2_1 : List UInt8 := [180, 0, 13, 100, 62, 29, 153, 0, 7, 29, 167, 0, 12, 43, 180, 0, 16, 44, 180, 0, 16, 100, 172]
abbrev dktX4_compare_2_1 : List UInt8 := dkwX4_compare_2_1 ++ []
def dkwX4_compare_2_0 : List UInt8 := [44, 180, 0, 7, 43, 180, 0, 7, 100, 62, 29, 153, 0, 7, 29, 167, 0, 12, 43, 180, 0, 13, 44]
abbrev dktX4_compare_2_0 : List UInt8 := dkwX4_compare_2_0 ++ dktX4_compare_2_1
theorem dksX4_compare_2_0 : cX4_compare_2.data.toList.drop 0 = dktX4_compare_2_0 := by decide +kernel
theorem dksX4_compare_2_1 : cX4_compare_2.data.toList.drop 23 = dktX4_compare_2_1 := dk_seg dksX4_compare_2_0 23 rfl rfl
theorem dX4_compare_2_0 : decode cX4_compare_2 0 = .ok (.aload_n 2, 1) := dk_44 (dk_at dksX4_compare_2_0 0 rfl rfl)
theorem dX4_compare_2_1 : decode cX4_compare_2 1 = .ok (.getfield 7, 3) := dk_180 0 7 (dk_at dksX4_compare_2_0 1 rfl rfl)
theorem dX4_compare_2_4 : decode cX4_compare_2 4 = .ok (.aload_n 1, 1) := dk_43 (dk_at dksX4_compare_2_0 4 rfl rfl)
theorem dX4_compare_2_5 : decode cX4_compare_2 5 = .ok (.getfield 7, 3) := dk_180 0 7 (dk_at dksX4_compare_2_0 5 rfl rfl)
theorem dX4_compare_2_8 : decode cX4_compare_2 8 = .ok (.isub, 1) := dk_100 (dk_at dksX4_compare_2_0 8 rfl rfl)
theorem dX4_compare_2_9 : decode cX4_compare_2 9 = .ok (.istore_n 3, 1) := dk_62 (dk_at dksX4_compare_2_0 9 rfl rfl)
theorem dX4_compare_2_10 : decode cX4_compare_2 10 = .ok (.iload_n 3, 1) := dk_29 (dk_at dksX4_compare_2_0 10 rfl rfl)
theorem dX4_compare_2_11 : decode cX4_compare_2 11 = .ok (.ifCond .eq 7, 3) := dk_153 0 7 (dk_at dksX4_compare_2_0 11 rfl rfl)
theorem dX4_compare_2_14 : decode cX4_compare_2 14 = .ok (.iload_n 3, 1) := dk_29 (dk_at dksX4_compare_2_0 14 rfl rfl)
theorem dX4_compare_2_15 : decode cX4_compare_2 15 = .ok (.goto 12, 3) := dk_167 0 12 (dk_at dksX4_compare_2_0 15 rfl rfl)
theorem dX4_compare_2_18 : decode cX4_compare_2 18 = .ok (.aload_n 1, 1) := dk_43 (dk_at dksX4_compare_2_0 18 rfl rfl)
theorem dX4_compare_2_19 : decode cX4_compare_2 19 = .ok (.getfield 13, 3) := dk_180 0 13 (dk_at dksX4_compare_2_0 19 rfl rfl)
theorem dX4_compare_2_22 : decode cX4_compare_2 22 = .ok (.aload_n 2, 1) := dk_44 (dk_at dksX4_compare_2_0 22 rfl rfl)
theorem dX4_compare_2_23 : decode cX4_compare_2 23 = .ok (.getfield 13, 3) := dk_180 0 13 (dk_at dksX4_compare_2_1 0 rfl rfl)
theorem dX4_compare_2_26 : decode cX4_compare_2 26 = .ok (.isub, 1) := dk_100 (dk_at dksX4_compare_2_1 3 rfl rfl)
theorem dX4_compare_2_27 : decode cX4_compare_2 27 = .ok (.istore_n 3, 1) := dk_62 (dk_at dksX4_compare_2_1 4 rfl rfl)
theorem dX4_compare_2_28 : decode cX4_compare_2 28 = .ok (.iload_n 3, 1) := dk_29 (dk_at dksX4_compare_2_1 5 rfl rfl)
theorem dX4_compare_2_29 : decode cX4_compare_2 29 = .ok (.ifCond .eq 7, 3) := dk_153 0 7 (dk_at dksX4_compare_2_1 6 rfl rfl)
theorem dX4_compare_2_32 : decode cX4_compare_2 32 = .ok (.iload_n 3, 1) := dk_29 (dk_at dksX4_compare_2_1 9 rfl rfl)
theorem dX4_compare_2_33 : decode cX4_compare_2 33 = .ok (.goto 12, 3) := dk_167 0 12 (dk_at dksX4_compare_2_1 10 rfl rfl)
theorem dX4_compare_2_36 : decode cX4_compare_2 36 = .ok (.aload_n 1, 1) := dk_43 (dk_at dksX4_compare_2_1 13 rfl rfl)
theorem dX4_compare_2_37 : decode cX4_compare_2 37 = .ok (.getfield 16, 3) := dk_180 0 16 (dk_at dksX4_compare_2_1 14 rfl rfl)
theorem dX4_compare_2_40 : decode cX4_compare_2 40 = .ok (.aload_n 2, 1) := dk_44 (dk_at dksX4_compare_2_1 17 rfl rfl)
theorem dX4_compare_2_41 : decode cX4_compare_2 41 = .ok (.getfield 16, 3) := dk_180 0 16 (dk_at dksX4_compare_2_1 18 rfl rfl)
theorem dX4_compare_2_44 : decode cX4_compare_2 44 = .ok (.isub, 1) := dk_100 (dk_at dksX4_compare_2_1 21 rfl rfl)
theorem dX4_compare_2_45 : decode cX4_compare_2 45 = .ok (.ireturn, 1) := dk_172 (dk_at dksX4_compare_2_1 22 rfl rfl)
theorem q121 : (Jvm.Cond.initialized "PictureRing$ByVotes") ∈ lw_all := lw_g (lw_at lw_m1 13 rfl) rfl
theorem q283 : (Jvm.Cond.instantiable "PictureRing$ByVotes" (0 : Nat)) ∈ lw_all := lw_g (lw_at lw_m1 175 rfl) rfl
theorem q285 : (Jvm.Cond.instanceMethod ({ cls := "PictureRing$ByVotes", name := "<init>", desc := "()V" } : Jvm.MethodName)) ∈ lw_all := lw_g (lw_at lw_m1 177 rfl) rfl
theorem q286 : (Jvm.Cond.code ({ cls := "PictureRing$ByVotes", name := "<init>", desc := "()V" } : Jvm.MethodName) prog_2_method_1_code (1 : Nat) (Option.none : Option Jvm.ClassFile.FieldType)) ∈ lw_all := lw_g (lw_at lw_m1 178 rfl) rfl
theorem q287 : (Jvm.Cond.methodLink "PictureRing$ByVotes" (1 : Nat) ({ cls := "java/lang/Object", name := "<init>", desc := "()V" } : Jvm.MethodName)) ∈ lw_all := lw_g (lw_at lw_m1 179 rfl) rfl
theorem q288 : (Jvm.Cond.superclass "PictureRing$ByVotes" "java/lang/Object") ∈ lw_all := lw_g (lw_at lw_m1 180 rfl) rfl
theorem q771 : (Jvm.Cond.castable "PictureRing$ByVotes" "java/util/Comparato\x72") ∈ lw_tbl := lw_at lw_m3 183 rfl
theorem q772 : (Jvm.Cond.selects "PictureRing$ByVotes" ({ cls := "java/util/Comparato\x72", name := "compare", desc := "(Ljava/lang/Object;Ljava/lang/Object;)I" } : Jvm.MethodName) ({ cls := "PictureRing$ByVotes", name := "compare", desc := "(Ljava/lang/Object;Ljava/lang/Object;)I" } : Jvm.MethodName)) ∈ lw_all := lw_g (lw_at lw_m3 184 rfl) rfl
theorem q773 : (Jvm.Cond.unhidden "PictureRing$ByVotes" "compare" "(Ljava/lang/Object;Ljava/lang/Object;)I") ∈ lw_tbl := lw_at lw_m3 185 rfl
theorem q774 : (Jvm.Cond.instanceMethod ({ cls := "PictureRing$ByVotes", name := "compare", desc := "(Ljava/lang/Object;Ljava/lang/Object;)I" } : Jvm.MethodName)) ∈ lw_all := lw_g (lw_at lw_m3 186 rfl) rfl
theorem q775 : (Jvm.Cond.publicMethod ({ cls := "PictureRing$ByVotes", name := "compare", desc := "(Ljava/lang/Object;Ljava/lang/Object;)I" } : Jvm.MethodName)) ∈ lw_tbl := lw_at lw_m3 187 rfl
theorem q776 : (Jvm.Cond.code ({ cls := "PictureRing$ByVotes", name := "compare", desc := "(Ljava/lang/Object;Ljava/lang/Object;)I" } : Jvm.MethodName) prog_2_method_3_code (3 : Nat) (Option.some Jvm.ClassFile.FieldType.int)) ∈ lw_all := lw_g (lw_at lw_m3 188 rfl) rfl
theorem q777 : (Jvm.Cond.classLink "PictureRing$ByVotes" (8 : Nat) "PictureRing$Link") ∈ lw_all := lw_g (lw_at lw_m3 189 rfl) rfl
theorem q778 : (Jvm.Cond.methodLink "PictureRing$ByVotes" (19 : Nat) ({ cls := "PictureRing$ByVotes", name := "compare", desc := "(LPictureRing$Link;LPictureRing$Link;)I" } : Jvm.MethodName)) ∈ lw_all := lw_g (lw_at lw_m3 190 rfl) rfl
theorem q779 : (Jvm.Cond.instanceMethod ({ cls := "PictureRing$ByVotes", name := "compare", desc := "(LPictureRing$Link;LPictureRing$Link;)I" } : Jvm.MethodName)) ∈ lw_all := lw_g (lw_at lw_m3 191 rfl) rfl
theorem q780 : (Jvm.Cond.selects "PictureRing$ByVotes" ({ cls := "PictureRing$ByVotes", name := "compare", desc := "(LPictureRing$Link;LPictureRing$Link;)I" } : Jvm.MethodName) ({ cls := "PictureRing$ByVotes", name := "compare", desc := "(LPictureRing$Link;LPictureRing$Link;)I" } : Jvm.MethodName)) ∈ lw_all := lw_g (lw_at lw_m3 192 rfl) rfl
theorem q781 : (Jvm.Cond.code ({ cls := "PictureRing$ByVotes", name := "compare", desc := "(LPictureRing$Link;LPictureRing$Link;)I" } : Jvm.MethodName) prog_2_method_2_code (4 : Nat) (Option.some Jvm.ClassFile.FieldType.int)) ∈ lw_all := lw_g (lw_at lw_m3 193 rfl) rfl
theorem q1123 : (Jvm.Cond.fieldLinkNest "PictureRing$ByVotes" (13 : Nat) "PictureRing$Link" "from" "I" "PictureRing") ∈ lw_tbl := lw_at lw_m5 55 rfl
theorem q1127 : (Jvm.Cond.fieldLinkNest "PictureRing$ByVotes" (16 : Nat) "PictureRing$Link" "to" "I" "PictureRing") ∈ lw_tbl := lw_at lw_m5 59 rfl
theorem q1133 : (Jvm.Cond.fieldLinkNest "PictureRing$ByVotes" (7 : Nat) "PictureRing$Link" "votes" "I" "PictureRing") ∈ lw_tbl := lw_at lw_m5 65 rfl
theorem q1176 : (Jvm.Cond.selects "PictureRing$ByVotes" ({ cls := "java/lang/Object", name := "getClass", desc := "()Ljava/lang/Class;" } : Jvm.MethodName) ({ cls := "java/lang/Object", name := "getClass", desc := "()Ljava/lang/Class;" } : Jvm.MethodName)) ∈ lw_all := lw_g (lw_at lw_m5 108 rfl) rfl
theorem q2075 : (Jvm.Cond.castable "PictureRing$ByVotes" "java/lang/Object") ∈ lw_tbl := lw_at lw_m9 47 rfl
/-! PictureRing$Fraction -/
set_option maxRecDepth 100000
def RX5 : String := "PictureRing$Fraction"
def TX5 : u_T := fun k => match k with
  | 0 => ("PictureRing$Fraction", "above", "J", true)
  | _ => ("PictureRing$Fraction", "below", "J", true)
def tyX5 : Nat → FieldType := fun k => match k with
  | 0 => .long
  | _ => .long
abbrev wsX50 : List Cond := u_ws RX5 TX5 2
theorem nmX5 : ∀ a, a < 2 → ∀ b, b < 2 → a ≠ b → (TX5 a).2.1 ≠ (TX5 b).2.1 := by decide +kernel
theorem tyX5_ok : ∀ k, k < 2 → parseFieldDescriptor (TX5 k).2.2.1 = some (tyX5 k) := by decide +kernel
abbrev cX5_init : ByteArray := prog_7_method_2_code
def yX5_init : MethodName := ⟨RX5, "<init>", "()V"⟩
def dkwX5_init_0 : List UInt8 := [42, 9, 10, 183, 0, 22, 177]
abbrev dktX5_init_0 : List UInt8 := dkwX5_init_0 ++ []
theorem dksX5_init_0 : cX5_init.data.toList.drop 0 = dktX5_init_0 := by decide +kernel
theorem dX5_init_0 : decode cX5_init 0 = .ok (.aload_n 0, 1) := dk_42 (dk_at dksX5_init_0 0 rfl rfl)
theorem dX5_init_1 : decode cX5_init 1 = .ok (.lconst 0, 1) := dk_9 (dk_at dksX5_init_0 1 rfl rfl)
theorem dX5_init_2 : decode cX5_init 2 = .ok (.lconst 1, 1) := dk_10 (dk_at dksX5_init_0 2 rfl rfl)
theorem dX5_init_3 : decode cX5_init 3 = .ok (.invokespecial 22, 3) := dk_183 0 22 (dk_at dksX5_init_0 3 rfl rfl)
theorem dX5_init_6 : decode cX5_init 6 = .ok (.return_, 1) := dk_177 (dk_at dksX5_init_0 6 rfl rfl)
abbrev cX5_init_2 : ByteArray := prog_7_method_1_code
def yX5_init_2 : MethodName := ⟨RX5, "<init>", "(JJ)V"⟩
def dkwX5_init_2_1 : List UInt8 := [181, 0, 19, 177]
abbrev dktX5_init_2_1 : List UInt8 := dkwX5_init_2_1 ++ []
def dkwX5_init_2_0 : List UInt8 := [42, 183, 0, 1, 31, 33, 184, 0, 7, 55, 5, 42, 31, 22, 5, 109, 181, 0, 13, 42, 33, 22, 5, 109]
abbrev dktX5_init_2_0 : List UInt8 := dkwX5_init_2_0 ++ dktX5_init_2_1
theorem dksX5_init_2_0 : cX5_init_2.data.toList.drop 0 = dktX5_init_2_0 := by decide +kernel
theorem dksX5_init_2_1 : cX5_init_2.data.toList.drop 24 = dktX5_init_2_1 := dk_seg dksX5_init_2_0 24 rfl rfl
theorem dX5_init_2_0 : decode cX5_init_2 0 = .ok (.aload_n 0, 1) := dk_42 (dk_at dksX5_init_2_0 0 rfl rfl)
theorem dX5_init_2_1 : decode cX5_init_2 1 = .ok (.invokespecial 1, 3) := dk_183 0 1 (dk_at dksX5_init_2_0 1 rfl rfl)
theorem dX5_init_2_4 : decode cX5_init_2 4 = .ok (.lload_n 1, 1) := dk_31 (dk_at dksX5_init_2_0 4 rfl rfl)
theorem dX5_init_2_5 : decode cX5_init_2 5 = .ok (.lload_n 3, 1) := dk_33 (dk_at dksX5_init_2_0 5 rfl rfl)
theorem dX5_init_2_6 : decode cX5_init_2 6 = .ok (.invokestatic 7, 3) := dk_184 0 7 (dk_at dksX5_init_2_0 6 rfl rfl)
theorem dX5_init_2_9 : decode cX5_init_2 9 = .ok (.lstore 5, 2) := dk_55 5 (dk_at dksX5_init_2_0 9 rfl rfl)
theorem dX5_init_2_11 : decode cX5_init_2 11 = .ok (.aload_n 0, 1) := dk_42 (dk_at dksX5_init_2_0 11 rfl rfl)
theorem dX5_init_2_12 : decode cX5_init_2 12 = .ok (.lload_n 1, 1) := dk_31 (dk_at dksX5_init_2_0 12 rfl rfl)
theorem dX5_init_2_13 : decode cX5_init_2 13 = .ok (.lload 5, 2) := dk_22 5 (dk_at dksX5_init_2_0 13 rfl rfl)
theorem dX5_init_2_15 : decode cX5_init_2 15 = .ok (.ldiv, 1) := dk_109 (dk_at dksX5_init_2_0 15 rfl rfl)
theorem dX5_init_2_16 : decode cX5_init_2 16 = .ok (.putfield 13, 3) := dk_181 0 13 (dk_at dksX5_init_2_0 16 rfl rfl)
theorem dX5_init_2_19 : decode cX5_init_2 19 = .ok (.aload_n 0, 1) := dk_42 (dk_at dksX5_init_2_0 19 rfl rfl)
theorem dX5_init_2_20 : decode cX5_init_2 20 = .ok (.lload_n 3, 1) := dk_33 (dk_at dksX5_init_2_0 20 rfl rfl)
theorem dX5_init_2_21 : decode cX5_init_2 21 = .ok (.lload 5, 2) := dk_22 5 (dk_at dksX5_init_2_0 21 rfl rfl)
theorem dX5_init_2_23 : decode cX5_init_2 23 = .ok (.ldiv, 1) := dk_109 (dk_at dksX5_init_2_0 23 rfl rfl)
theorem dX5_init_2_24 : decode cX5_init_2 24 = .ok (.putfield 19, 3) := dk_181 0 19 (dk_at dksX5_init_2_1 0 rfl rfl)
theorem dX5_init_2_27 : decode cX5_init_2 27 = .ok (.return_, 1) := dk_177 (dk_at dksX5_init_2_1 3 rfl rfl)
abbrev cX5_and : ByteArray := prog_7_method_3_code
def yX5_and : MethodName := ⟨RX5, "and", "(LPictureRing$Fraction;)LPictureRing$Fraction;"⟩
def dkwX5_and_1 : List UInt8 := [180, 0, 19, 43, 180, 0, 19, 105, 183, 0, 22, 176]
abbrev dktX5_and_1 : List UInt8 := dkwX5_and_1 ++ []
def dkwX5_and_0 : List UInt8 := [187, 0, 14, 89, 42, 180, 0, 13, 43, 180, 0, 19, 105, 43, 180, 0, 13, 42, 180, 0, 19, 105, 97, 42]
abbrev dktX5_and_0 : List UInt8 := dkwX5_and_0 ++ dktX5_and_1
theorem dksX5_and_0 : cX5_and.data.toList.drop 0 = dktX5_and_0 := by decide +kernel
theorem dksX5_and_1 : cX5_and.data.toList.drop 24 = dktX5_and_1 := dk_seg dksX5_and_0 24 rfl rfl
theorem dX5_and_0 : decode cX5_and 0 = .ok (.new 14, 3) := dk_187 0 14 (dk_at dksX5_and_0 0 rfl rfl)
theorem dX5_and_3 : decode cX5_and 3 = .ok (.dup, 1) := dk_89 (dk_at dksX5_and_0 3 rfl rfl)
theorem dX5_and_4 : decode cX5_and 4 = .ok (.aload_n 0, 1) := dk_42 (dk_at dksX5_and_0 4 rfl rfl)
theorem dX5_and_5 : decode cX5_and 5 = .ok (.getfield 13, 3) := dk_180 0 13 (dk_at dksX5_and_0 5 rfl rfl)
theorem dX5_and_8 : decode cX5_and 8 = .ok (.aload_n 1, 1) := dk_43 (dk_at dksX5_and_0 8 rfl rfl)
theorem dX5_and_9 : decode cX5_and 9 = .ok (.getfield 19, 3) := dk_180 0 19 (dk_at dksX5_and_0 9 rfl rfl)
theorem dX5_and_12 : decode cX5_and 12 = .ok (.lmul, 1) := dk_105 (dk_at dksX5_and_0 12 rfl rfl)
theorem dX5_and_13 : decode cX5_and 13 = .ok (.aload_n 1, 1) := dk_43 (dk_at dksX5_and_0 13 rfl rfl)
theorem dX5_and_14 : decode cX5_and 14 = .ok (.getfield 13, 3) := dk_180 0 13 (dk_at dksX5_and_0 14 rfl rfl)
theorem dX5_and_17 : decode cX5_and 17 = .ok (.aload_n 0, 1) := dk_42 (dk_at dksX5_and_0 17 rfl rfl)
theorem dX5_and_18 : decode cX5_and 18 = .ok (.getfield 19, 3) := dk_180 0 19 (dk_at dksX5_and_0 18 rfl rfl)
theorem dX5_and_21 : decode cX5_and 21 = .ok (.lmul, 1) := dk_105 (dk_at dksX5_and_0 21 rfl rfl)
theorem dX5_and_22 : decode cX5_and 22 = .ok (.ladd, 1) := dk_97 (dk_at dksX5_and_0 22 rfl rfl)
theorem dX5_and_23 : decode cX5_and 23 = .ok (.aload_n 0, 1) := dk_42 (dk_at dksX5_and_0 23 rfl rfl)
theorem dX5_and_24 : decode cX5_and 24 = .ok (.getfield 19, 3) := dk_180 0 19 (dk_at dksX5_and_1 0 rfl rfl)
theorem dX5_and_27 : decode cX5_and 27 = .ok (.aload_n 1, 1) := dk_43 (dk_at dksX5_and_1 3 rfl rfl)
theorem dX5_and_28 : decode cX5_and 28 = .ok (.getfield 19, 3) := dk_180 0 19 (dk_at dksX5_and_1 4 rfl rfl)
theorem dX5_and_31 : decode cX5_and 31 = .ok (.lmul, 1) := dk_105 (dk_at dksX5_and_1 7 rfl rfl)
theorem dX5_and_32 : decode cX5_and 32 = .ok (.invokespecial 22, 3) := dk_183 0 22 (dk_at dksX5_and_1 8 rfl rfl)
theorem dX5_and_35 : decode cX5_and 35 = .ok (.areturn, 1) := dk_176 (dk_at dksX5_and_1 11 rfl rfl)
abbrev cX5_by : ByteArray := prog_7_method_5_code
def yX5_by : MethodName := ⟨RX5, "by", "(LPictureRing$Fraction;)LPictureRing$Fraction;"⟩
def dkwX5_by_1 : List UInt8 := [183, 0, 22, 176]
abbrev dktX5_by_1 : List UInt8 := dkwX5_by_1 ++ []
def dkwX5_by_0 : List UInt8 := [187, 0, 14, 89, 42, 180, 0, 13, 43, 180, 0, 19, 105, 42, 180, 0, 19, 43, 180, 0, 13, 105]
abbrev dktX5_by_0 : List UInt8 := dkwX5_by_0 ++ dktX5_by_1
theorem dksX5_by_0 : cX5_by.data.toList.drop 0 = dktX5_by_0 := by decide +kernel
theorem dksX5_by_1 : cX5_by.data.toList.drop 22 = dktX5_by_1 := dk_seg dksX5_by_0 22 rfl rfl
theorem dX5_by_0 : decode cX5_by 0 = .ok (.new 14, 3) := dk_187 0 14 (dk_at dksX5_by_0 0 rfl rfl)
theorem dX5_by_3 : decode cX5_by 3 = .ok (.dup, 1) := dk_89 (dk_at dksX5_by_0 3 rfl rfl)
theorem dX5_by_4 : decode cX5_by 4 = .ok (.aload_n 0, 1) := dk_42 (dk_at dksX5_by_0 4 rfl rfl)
theorem dX5_by_5 : decode cX5_by 5 = .ok (.getfield 13, 3) := dk_180 0 13 (dk_at dksX5_by_0 5 rfl rfl)
theorem dX5_by_8 : decode cX5_by 8 = .ok (.aload_n 1, 1) := dk_43 (dk_at dksX5_by_0 8 rfl rfl)
theorem dX5_by_9 : decode cX5_by 9 = .ok (.getfield 19, 3) := dk_180 0 19 (dk_at dksX5_by_0 9 rfl rfl)
theorem dX5_by_12 : decode cX5_by 12 = .ok (.lmul, 1) := dk_105 (dk_at dksX5_by_0 12 rfl rfl)
theorem dX5_by_13 : decode cX5_by 13 = .ok (.aload_n 0, 1) := dk_42 (dk_at dksX5_by_0 13 rfl rfl)
theorem dX5_by_14 : decode cX5_by 14 = .ok (.getfield 19, 3) := dk_180 0 19 (dk_at dksX5_by_0 14 rfl rfl)
theorem dX5_by_17 : decode cX5_by 17 = .ok (.aload_n 1, 1) := dk_43 (dk_at dksX5_by_0 17 rfl rfl)
theorem dX5_by_18 : decode cX5_by 18 = .ok (.getfield 13, 3) := dk_180 0 13 (dk_at dksX5_by_0 18 rfl rfl)
theorem dX5_by_21 : decode cX5_by 21 = .ok (.lmul, 1) := dk_105 (dk_at dksX5_by_0 21 rfl rfl)
theorem dX5_by_22 : decode cX5_by 22 = .ok (.invokespecial 22, 3) := dk_183 0 22 (dk_at dksX5_by_1 0 rfl rfl)
theorem dX5_by_25 : decode cX5_by 25 = .ok (.areturn, 1) := dk_176 (dk_at dksX5_by_1 3 rfl rfl)
abbrev cX5_times : ByteArray := prog_7_method_4_code
def yX5_times : MethodName := ⟨RX5, "times", "(LPictureRing$Fraction;)LPictureRing$Fraction;"⟩
def dkwX5_times_1 : List UInt8 := [183, 0, 22, 176]
abbrev dktX5_times_1 : List UInt8 := dkwX5_times_1 ++ []
def dkwX5_times_0 : List UInt8 := [187, 0, 14, 89, 42, 180, 0, 13, 43, 180, 0, 13, 105, 42, 180, 0, 19, 43, 180, 0, 19, 105]
abbrev dktX5_times_0 : List UInt8 := dkwX5_times_0 ++ dktX5_times_1
theorem dksX5_times_0 : cX5_times.data.toList.drop 0 = dktX5_times_0 := by decide +kernel
theorem dksX5_times_1 : cX5_times.data.toList.drop 22 = dktX5_times_1 := dk_seg dksX5_times_0 22 rfl rfl
theorem dX5_times_0 : decode cX5_times 0 = .ok (.new 14, 3) := dk_187 0 14 (dk_at dksX5_times_0 0 rfl rfl)
theorem dX5_times_3 : decode cX5_times 3 = .ok (.dup, 1) := dk_89 (dk_at dksX5_times_0 3 rfl rfl)
theorem dX5_times_4 : decode cX5_times 4 = .ok (.aload_n 0, 1) := dk_42 (dk_at dksX5_times_0 4 rfl rfl)
theorem dX5_times_5 : decode cX5_times 5 = .ok (.getfield 13, 3) := dk_180 0 13 (dk_at dksX5_times_0 5 rfl rfl)
theorem dX5_times_8 : decode cX5_times 8 = .ok (.aload_n 1, 1) := dk_43 (dk_at dksX5_times_0 8 rfl rfl)
theorem dX5_times_9 : decode cX5_times 9 = .ok (.getfield 13, 3) := dk_180 0 13 (dk_at dksX5_times_0 9 rfl rfl)
theorem dX5_times_12 : decode cX5_times 12 = .ok (.lmul, 1) := dk_105 (dk_at dksX5_times_0 12 rfl rfl)
theorem dX5_times_13 : decode cX5_times 13 = .ok (.aload_n 0, 1) := dk_42 (dk_at dksX5_times_0 13 rfl rfl)
theorem dX5_times_14 : decode cX5_times 14 = .ok (.getfield 19, 3) := dk_180 0 19 (dk_at dksX5_times_0 14 rfl rfl)
theorem dX5_times_17 : decode cX5_times 17 = .ok (.aload_n 1, 1) := dk_43 (dk_at dksX5_times_0 17 rfl rfl)
theorem dX5_times_18 : decode cX5_times 18 = .ok (.getfield 19, 3) := dk_180 0 19 (dk_at dksX5_times_0 18 rfl rfl)
theorem dX5_times_21 : decode cX5_times 21 = .ok (.lmul, 1) := dk_105 (dk_at dksX5_times_0 21 rfl rfl)
theorem dX5_times_22 : decode cX5_times 22 = .ok (.invokespecial 22, 3) := dk_183 0 22 (dk_at dksX5_times_1 0 rfl rfl)
theorem dX5_times_25 : decode cX5_times 25 = .ok (.areturn, 1) := dk_176 (dk_at dksX5_times_1 3 rfl rfl)
abbrev cX5_less : ByteArray := prog_7_method_6_code
def yX5_less : MethodName := ⟨RX5, "less", "(LPictureRing$Fraction;)LPictureRing$Fraction;"⟩
def dkwX5_less_0 : List UInt8 := [42, 187, 0, 14, 89, 43, 180, 0, 13, 117, 43, 180, 0, 19, 183, 0, 22, 182, 0, 25, 176]
abbrev dktX5_less_0 : List UInt8 := dkwX5_less_0 ++ []
theorem dksX5_less_0 : cX5_less.data.toList.drop 0 = dktX5_less_0 := by decide +kernel
theorem dX5_less_0 : decode cX5_less 0 = .ok (.aload_n 0, 1) := dk_42 (dk_at dksX5_less_0 0 rfl rfl)
theorem dX5_less_1 : decode cX5_less 1 = .ok (.new 14, 3) := dk_187 0 14 (dk_at dksX5_less_0 1 rfl rfl)
theorem dX5_less_4 : decode cX5_less 4 = .ok (.dup, 1) := dk_89 (dk_at dksX5_less_0 4 rfl rfl)
theorem dX5_less_5 : decode cX5_less 5 = .ok (.aload_n 1, 1) := dk_43 (dk_at dksX5_less_0 5 rfl rfl)
theorem dX5_less_6 : decode cX5_less 6 = .ok (.getfield 13, 3) := dk_180 0 13 (dk_at dksX5_less_0 6 rfl rfl)
theorem dX5_less_9 : decode cX5_less 9 = .ok (.lneg, 1) := dk_117 (dk_at dksX5_less_0 9 rfl rfl)
theorem dX5_less_10 : decode cX5_less 10 = .ok (.aload_n 1, 1) := dk_43 (dk_at dksX5_less_0 10 rfl rfl)
theorem dX5_less_11 : decode cX5_less 11 = .ok (.getfield 19, 3) := dk_180 0 19 (dk_at dksX5_less_0 11 rfl rfl)
theorem dX5_less_14 : decode cX5_less 14 = .ok (.invokespecial 22, 3) := dk_183 0 22 (dk_at dksX5_less_0 14 rfl rfl)
theorem dX5_less_17 : decode cX5_less 17 = .ok (.invokevirtual 25, 3) := dk_182 0 25 (dk_at dksX5_less_0 17 rfl rfl)
theorem dX5_less_20 : decode cX5_less 20 = .ok (.areturn, 1) := dk_176 (dk_at dksX5_less_0 20 rfl rfl)
theorem q122 : (Jvm.Cond.initialized "PictureRing$Fraction") ∈ lw_all := lw_g (lw_at lw_m1 14 rfl) rfl
theorem q317 : (Jvm.Cond.instantiable "PictureRing$Fraction" (2 : Nat)) ∈ lw_all := lw_g (lw_at lw_m1 209 rfl) rfl
theorem q319 : (Jvm.Cond.instanceMethod ({ cls := "PictureRing$Fraction", name := "<init>", desc := "()V" } : Jvm.MethodName)) ∈ lw_all := lw_g (lw_at lw_m1 211 rfl) rfl
theorem q320 : (Jvm.Cond.code ({ cls := "PictureRing$Fraction", name := "<init>", desc := "()V" } : Jvm.MethodName) prog_7_method_2_code (1 : Nat) (Option.none : Option Jvm.ClassFile.FieldType)) ∈ lw_all := lw_g (lw_at lw_m1 212 rfl) rfl
theorem q321 : (Jvm.Cond.methodLink "PictureRing$Fraction" (22 : Nat) ({ cls := "PictureRing$Fraction", name := "<init>", desc := "(JJ)V" } : Jvm.MethodName)) ∈ lw_all := lw_g (lw_at lw_m1 213 rfl) rfl
theorem q322 : (Jvm.Cond.instanceMethod ({ cls := "PictureRing$Fraction", name := "<init>", desc := "(JJ)V" } : Jvm.MethodName)) ∈ lw_all := lw_g (lw_at lw_m1 214 rfl) rfl
theorem q323 : (Jvm.Cond.code ({ cls := "PictureRing$Fraction", name := "<init>", desc := "(JJ)V" } : Jvm.MethodName) prog_7_method_1_code (7 : Nat) (Option.none : Option Jvm.ClassFile.FieldType)) ∈ lw_all := lw_g (lw_at lw_m1 215 rfl) rfl
theorem q324 : (Jvm.Cond.methodLink "PictureRing$Fraction" (1 : Nat) ({ cls := "java/lang/Object", name := "<init>", desc := "()V" } : Jvm.MethodName)) ∈ lw_all := lw_g (lw_at lw_m1 216 rfl) rfl
theorem q325 : (Jvm.Cond.methodLinkNest "PictureRing$Fraction" (7 : Nat) ({ cls := "PictureRing", name := "gcd", desc := "(JJ)J" } : Jvm.MethodName) "PictureRing") ∈ lw_tbl := lw_at lw_m1 217 rfl
theorem q331 : (Jvm.Cond.fieldLink "PictureRing$Fraction" (13 : Nat) "PictureRing$Fraction" "above" "J") ∈ lw_all := lw_g (lw_at lw_m1 223 rfl) rfl
theorem q333 : (Jvm.Cond.fieldLink "PictureRing$Fraction" (19 : Nat) "PictureRing$Fraction" "below" "J") ∈ lw_all := lw_g (lw_at lw_m1 225 rfl) rfl
theorem q335 : (Jvm.Cond.laysFinal "PictureRing$Fraction" "PictureRing$Fraction" "above" "J") ∈ lw_all := lw_g (lw_at lw_m1 227 rfl) rfl
theorem q336 : (Jvm.Cond.soleField "PictureRing$Fraction" "above") ∈ lw_all := lw_g (lw_at lw_m1 228 rfl) rfl
theorem q337 : (Jvm.Cond.laysFinal "PictureRing$Fraction" "PictureRing$Fraction" "below" "J") ∈ lw_all := lw_g (lw_at lw_m1 229 rfl) rfl
theorem q338 : (Jvm.Cond.soleField "PictureRing$Fraction" "below") ∈ lw_all := lw_g (lw_at lw_m1 230 rfl) rfl
theorem q339 : (Jvm.Cond.superclass "PictureRing$Fraction" "java/lang/Object") ∈ lw_all := lw_g (lw_at lw_m1 231 rfl) rfl
theorem q1180 : (Jvm.Cond.selects "PictureRing$Fraction" ({ cls := "java/lang/Object", name := "getClass", desc := "()Ljava/lang/Class;" } : Jvm.MethodName) ({ cls := "java/lang/Object", name := "getClass", desc := "()Ljava/lang/Class;" } : Jvm.MethodName)) ∈ lw_all := lw_g (lw_at lw_m5 112 rfl) rfl
theorem q1312 : (Jvm.Cond.instanceMethod ({ cls := "PictureRing$Fraction", name := "and", desc := "(LPictureRing$Fraction;)LPictureRing$Fraction;" } : Jvm.MethodName)) ∈ lw_all := lw_g (lw_at lw_m6 4 rfl) rfl
theorem q1313 : (Jvm.Cond.selects "PictureRing$Fraction" ({ cls := "PictureRing$Fraction", name := "and", desc := "(LPictureRing$Fraction;)LPictureRing$Fraction;" } : Jvm.MethodName) ({ cls := "PictureRing$Fraction", name := "and", desc := "(LPictureRing$Fraction;)LPictureRing$Fraction;" } : Jvm.MethodName)) ∈ lw_all := lw_g (lw_at lw_m6 5 rfl) rfl
theorem q1314 : (Jvm.Cond.code ({ cls := "PictureRing$Fraction", name := "and", desc := "(LPictureRing$Fraction;)LPictureRing$Fraction;" } : Jvm.MethodName) prog_7_method_3_code (2 : Nat) (Option.some (Jvm.ClassFile.FieldType.object "PictureRing$Fraction"))) ∈ lw_all := lw_g (lw_at lw_m6 6 rfl) rfl
theorem q1315 : (Jvm.Cond.classLink "PictureRing$Fraction" (14 : Nat) "PictureRing$Fraction") ∈ lw_all := lw_g (lw_at lw_m6 7 rfl) rfl
theorem q1317 : (Jvm.Cond.instanceMethod ({ cls := "PictureRing$Fraction", name := "by", desc := "(LPictureRing$Fraction;)LPictureRing$Fraction;" } : Jvm.MethodName)) ∈ lw_all := lw_g (lw_at lw_m6 9 rfl) rfl
theorem q1318 : (Jvm.Cond.selects "PictureRing$Fraction" ({ cls := "PictureRing$Fraction", name := "by", desc := "(LPictureRing$Fraction;)LPictureRing$Fraction;" } : Jvm.MethodName) ({ cls := "PictureRing$Fraction", name := "by", desc := "(LPictureRing$Fraction;)LPictureRing$Fraction;" } : Jvm.MethodName)) ∈ lw_all := lw_g (lw_at lw_m6 10 rfl) rfl
theorem q1319 : (Jvm.Cond.code ({ cls := "PictureRing$Fraction", name := "by", desc := "(LPictureRing$Fraction;)LPictureRing$Fraction;" } : Jvm.MethodName) prog_7_method_5_code (2 : Nat) (Option.some (Jvm.ClassFile.FieldType.object "PictureRing$Fraction"))) ∈ lw_all := lw_g (lw_at lw_m6 11 rfl) rfl
theorem q1321 : (Jvm.Cond.instanceMethod ({ cls := "PictureRing$Fraction", name := "times", desc := "(LPictureRing$Fraction;)LPictureRing$Fraction;" } : Jvm.MethodName)) ∈ lw_all := lw_g (lw_at lw_m6 13 rfl) rfl
theorem q1322 : (Jvm.Cond.selects "PictureRing$Fraction" ({ cls := "PictureRing$Fraction", name := "times", desc := "(LPictureRing$Fraction;)LPictureRing$Fraction;" } : Jvm.MethodName) ({ cls := "PictureRing$Fraction", name := "times", desc := "(LPictureRing$Fraction;)LPictureRing$Fraction;" } : Jvm.MethodName)) ∈ lw_all := lw_g (lw_at lw_m6 14 rfl) rfl
theorem q1323 : (Jvm.Cond.code ({ cls := "PictureRing$Fraction", name := "times", desc := "(LPictureRing$Fraction;)LPictureRing$Fraction;" } : Jvm.MethodName) prog_7_method_4_code (2 : Nat) (Option.some (Jvm.ClassFile.FieldType.object "PictureRing$Fraction"))) ∈ lw_all := lw_g (lw_at lw_m6 15 rfl) rfl
theorem q1329 : (Jvm.Cond.instanceMethod ({ cls := "PictureRing$Fraction", name := "less", desc := "(LPictureRing$Fraction;)LPictureRing$Fraction;" } : Jvm.MethodName)) ∈ lw_all := lw_g (lw_at lw_m6 21 rfl) rfl
theorem q1330 : (Jvm.Cond.selects "PictureRing$Fraction" ({ cls := "PictureRing$Fraction", name := "less", desc := "(LPictureRing$Fraction;)LPictureRing$Fraction;" } : Jvm.MethodName) ({ cls := "PictureRing$Fraction", name := "less", desc := "(LPictureRing$Fraction;)LPictureRing$Fraction;" } : Jvm.MethodName)) ∈ lw_all := lw_g (lw_at lw_m6 22 rfl) rfl
theorem q1331 : (Jvm.Cond.code ({ cls := "PictureRing$Fraction", name := "less", desc := "(LPictureRing$Fraction;)LPictureRing$Fraction;" } : Jvm.MethodName) prog_7_method_6_code (2 : Nat) (Option.some (Jvm.ClassFile.FieldType.object "PictureRing$Fraction"))) ∈ lw_all := lw_g (lw_at lw_m6 23 rfl) rfl
theorem q1332 : (Jvm.Cond.methodLink "PictureRing$Fraction" (25 : Nat) ({ cls := "PictureRing$Fraction", name := "and", desc := "(LPictureRing$Fraction;)LPictureRing$Fraction;" } : Jvm.MethodName)) ∈ lw_all := lw_g (lw_at lw_m6 24 rfl) rfl
theorem q2069 : (Jvm.Cond.castable "PictureRing$Fraction" "java/lang/Object") ∈ lw_tbl := lw_at lw_m9 41 rfl
theorem in_X5 : ∀ w ∈ wsX50, w ∈ lw_all := lw_in wsX50 [335, 337] (by decide +kernel) (by decide +kernel)
/-! PictureRing$Reader -/
set_option maxRecDepth 100000
def RX6 : String := "PictureRing$Reade\x72"
def TX6 : u_T := fun k => match k with
  | 0 => ("PictureRing$Reade\x72", "at", "I", false)
  | _ => ("PictureRing$Reade\x72", "this$0", "LPictureRing;", true)
def tyX6 : Nat → FieldType := fun k => match k with
  | 0 => .int
  | _ => .object "PictureRing"
abbrev wsX60 : List Cond := u_ws RX6 TX6 2
theorem nmX6 : ∀ a, a < 2 → ∀ b, b < 2 → a ≠ b → (TX6 a).2.1 ≠ (TX6 b).2.1 := by decide +kernel
theorem tyX6_ok : ∀ k, k < 2 → parseFieldDescriptor (TX6 k).2.2.1 = some (tyX6 k) := by decide +kernel
abbrev cX6_init : ByteArray := prog_11_method_1_code
def yX6_init : MethodName := ⟨RX6, "<init>", "(LPictureRing;)V"⟩
def dkwX6_init_0 : List UInt8 := [42, 43, 181, 0, 3, 42, 183, 0, 9, 177]
abbrev dktX6_init_0 : List UInt8 := dkwX6_init_0 ++ []
theorem dksX6_init_0 : cX6_init.data.toList.drop 0 = dktX6_init_0 := by decide +kernel
theorem dX6_init_0 : decode cX6_init 0 = .ok (.aload_n 0, 1) := dk_42 (dk_at dksX6_init_0 0 rfl rfl)
theorem dX6_init_1 : decode cX6_init 1 = .ok (.aload_n 1, 1) := dk_43 (dk_at dksX6_init_0 1 rfl rfl)
theorem dX6_init_2 : decode cX6_init 2 = .ok (.putfield 3, 3) := dk_181 0 3 (dk_at dksX6_init_0 2 rfl rfl)
theorem dX6_init_5 : decode cX6_init 5 = .ok (.aload_n 0, 1) := dk_42 (dk_at dksX6_init_0 5 rfl rfl)
theorem dX6_init_6 : decode cX6_init 6 = .ok (.invokespecial 9, 3) := dk_183 0 9 (dk_at dksX6_init_0 6 rfl rfl)
theorem dX6_init_9 : decode cX6_init 9 = .ok (.return_, 1) := dk_177 (dk_at dksX6_init_0 9 rfl rfl)
abbrev cX6_reads : ByteArray := prog_11_method_10_code
def yX6_reads : MethodName := ⟨RX6, "reads", "(Z)I"⟩
def dkwX6_reads_4 : List UInt8 := [89, 28, 25, 4, 183, 0, 87, 191, 132, 2, 1, 167, 255, 185, 28, 172]
abbrev dktX6_reads_4 : List UInt8 := dkwX6_reads_4 ++ []
def dkwX6_reads_3 : List UInt8 := [153, 0, 12, 45, 185, 0, 76, 1, 0, 167, 0, 4, 3, 184, 0, 80, 167, 0, 16, 58, 4, 187, 0, 85]
abbrev dktX6_reads_3 : List UInt8 := dkwX6_reads_3 ++ dktX6_reads_4
def dkwX6_reads_2 : List UInt8 := [42, 182, 0, 72, 78, 42, 42, 16, 59, 16, 59, 182, 0, 26, 182, 0, 35, 42, 182, 0, 39, 27]
abbrev dktX6_reads_2 : List UInt8 := dkwX6_reads_2 ++ dktX6_reads_3
def dkwX6_reads_1 : List UInt8 := [4, 167, 0, 4, 3, 182, 0, 35, 3, 61, 42, 180, 0, 15, 42, 180, 0, 3, 180, 0, 19, 162, 0, 63]
abbrev dktX6_reads_1 : List UInt8 := dkwX6_reads_1 ++ dktX6_reads_2
def dkwX6_reads_0 : List UInt8 := [42, 2, 181, 0, 15, 42, 182, 0, 39, 42, 42, 180, 0, 15, 42, 180, 0, 3, 180, 0, 19, 162, 0, 7]
abbrev dktX6_reads_0 : List UInt8 := dkwX6_reads_0 ++ dktX6_reads_1
theorem dksX6_reads_0 : cX6_reads.data.toList.drop 0 = dktX6_reads_0 := by decide +kernel
theorem dksX6_reads_1 : cX6_reads.data.toList.drop 24 = dktX6_reads_1 := dk_seg dksX6_reads_0 24 rfl rfl
theorem dksX6_reads_2 : cX6_reads.data.toList.drop 48 = dktX6_reads_2 := dk_seg dksX6_reads_1 24 rfl rfl
theorem dksX6_reads_3 : cX6_reads.data.toList.drop 70 = dktX6_reads_3 := dk_seg dksX6_reads_2 22 rfl rfl
theorem dksX6_reads_4 : cX6_reads.data.toList.drop 94 = dktX6_reads_4 := dk_seg dksX6_reads_3 24 rfl rfl
theorem dX6_reads_0 : decode cX6_reads 0 = .ok (.aload_n 0, 1) := dk_42 (dk_at dksX6_reads_0 0 rfl rfl)
theorem dX6_reads_1 : decode cX6_reads 1 = .ok (.iconst (-1), 1) := dk_2 (dk_at dksX6_reads_0 1 rfl rfl)
theorem dX6_reads_2 : decode cX6_reads 2 = .ok (.putfield 15, 3) := dk_181 0 15 (dk_at dksX6_reads_0 2 rfl rfl)
theorem dX6_reads_5 : decode cX6_reads 5 = .ok (.aload_n 0, 1) := dk_42 (dk_at dksX6_reads_0 5 rfl rfl)
theorem dX6_reads_6 : decode cX6_reads 6 = .ok (.invokevirtual 39, 3) := dk_182 0 39 (dk_at dksX6_reads_0 6 rfl rfl)
theorem dX6_reads_9 : decode cX6_reads 9 = .ok (.aload_n 0, 1) := dk_42 (dk_at dksX6_reads_0 9 rfl rfl)
theorem dX6_reads_10 : decode cX6_reads 10 = .ok (.aload_n 0, 1) := dk_42 (dk_at dksX6_reads_0 10 rfl rfl)
theorem dX6_reads_11 : decode cX6_reads 11 = .ok (.getfield 15, 3) := dk_180 0 15 (dk_at dksX6_reads_0 11 rfl rfl)
theorem dX6_reads_14 : decode cX6_reads 14 = .ok (.aload_n 0, 1) := dk_42 (dk_at dksX6_reads_0 14 rfl rfl)
theorem dX6_reads_15 : decode cX6_reads 15 = .ok (.getfield 3, 3) := dk_180 0 3 (dk_at dksX6_reads_0 15 rfl rfl)
theorem dX6_reads_18 : decode cX6_reads 18 = .ok (.getfield 19, 3) := dk_180 0 19 (dk_at dksX6_reads_0 18 rfl rfl)
theorem dX6_reads_21 : decode cX6_reads 21 = .ok (.if_icmp .ge 7, 3) := dk_162 0 7 (dk_at dksX6_reads_0 21 rfl rfl)
theorem dX6_reads_24 : decode cX6_reads 24 = .ok (.iconst 1, 1) := dk_4 (dk_at dksX6_reads_1 0 rfl rfl)
theorem dX6_reads_25 : decode cX6_reads 25 = .ok (.goto 4, 3) := dk_167 0 4 (dk_at dksX6_reads_1 1 rfl rfl)
theorem dX6_reads_28 : decode cX6_reads 28 = .ok (.iconst 0, 1) := dk_3 (dk_at dksX6_reads_1 4 rfl rfl)
theorem dX6_reads_29 : decode cX6_reads 29 = .ok (.invokevirtual 35, 3) := dk_182 0 35 (dk_at dksX6_reads_1 5 rfl rfl)
theorem dX6_reads_32 : decode cX6_reads 32 = .ok (.iconst 0, 1) := dk_3 (dk_at dksX6_reads_1 8 rfl rfl)
theorem dX6_reads_33 : decode cX6_reads 33 = .ok (.istore_n 2, 1) := dk_61 (dk_at dksX6_reads_1 9 rfl rfl)
theorem dX6_reads_34 : decode cX6_reads 34 = .ok (.aload_n 0, 1) := dk_42 (dk_at dksX6_reads_1 10 rfl rfl)
theorem dX6_reads_35 : decode cX6_reads 35 = .ok (.getfield 15, 3) := dk_180 0 15 (dk_at dksX6_reads_1 11 rfl rfl)
theorem dX6_reads_38 : decode cX6_reads 38 = .ok (.aload_n 0, 1) := dk_42 (dk_at dksX6_reads_1 14 rfl rfl)
theorem dX6_reads_39 : decode cX6_reads 39 = .ok (.getfield 3, 3) := dk_180 0 3 (dk_at dksX6_reads_1 15 rfl rfl)
theorem dX6_reads_42 : decode cX6_reads 42 = .ok (.getfield 19, 3) := dk_180 0 19 (dk_at dksX6_reads_1 18 rfl rfl)
theorem dX6_reads_45 : decode cX6_reads 45 = .ok (.if_icmp .ge 63, 3) := dk_162 0 63 (dk_at dksX6_reads_1 21 rfl rfl)
theorem dX6_reads_48 : decode cX6_reads 48 = .ok (.aload_n 0, 1) := dk_42 (dk_at dksX6_reads_2 0 rfl rfl)
theorem dX6_reads_49 : decode cX6_reads 49 = .ok (.invokevirtual 72, 3) := dk_182 0 72 (dk_at dksX6_reads_2 1 rfl rfl)
theorem dX6_reads_52 : decode cX6_reads 52 = .ok (.astore_n 3, 1) := dk_78 (dk_at dksX6_reads_2 4 rfl rfl)
theorem dX6_reads_53 : decode cX6_reads 53 = .ok (.aload_n 0, 1) := dk_42 (dk_at dksX6_reads_2 5 rfl rfl)
theorem dX6_reads_54 : decode cX6_reads 54 = .ok (.aload_n 0, 1) := dk_42 (dk_at dksX6_reads_2 6 rfl rfl)
theorem dX6_reads_55 : decode cX6_reads 55 = .ok (.bipush 59, 2) := dk_16 59 (dk_at dksX6_reads_2 7 rfl rfl)
theorem dX6_reads_57 : decode cX6_reads 57 = .ok (.bipush 59, 2) := dk_16 59 (dk_at dksX6_reads_2 9 rfl rfl)
theorem dX6_reads_59 : decode cX6_reads 59 = .ok (.invokevirtual 26, 3) := dk_182 0 26 (dk_at dksX6_reads_2 11 rfl rfl)
theorem dX6_reads_62 : decode cX6_reads 62 = .ok (.invokevirtual 35, 3) := dk_182 0 35 (dk_at dksX6_reads_2 14 rfl rfl)
theorem dX6_reads_65 : decode cX6_reads 65 = .ok (.aload_n 0, 1) := dk_42 (dk_at dksX6_reads_2 17 rfl rfl)
theorem dX6_reads_66 : decode cX6_reads 66 = .ok (.invokevirtual 39, 3) := dk_182 0 39 (dk_at dksX6_reads_2 18 rfl rfl)
theorem dX6_reads_69 : decode cX6_reads 69 = .ok (.iload_n 1, 1) := dk_27 (dk_at dksX6_reads_2 21 rfl rfl)
theorem dX6_reads_70 : decode cX6_reads 70 = .ok (.ifCond .eq 12, 3) := dk_153 0 12 (dk_at dksX6_reads_3 0 rfl rfl)
theorem dX6_reads_73 : decode cX6_reads 73 = .ok (.aload_n 3, 1) := dk_45 (dk_at dksX6_reads_3 3 rfl rfl)
theorem dX6_reads_74 : decode cX6_reads 74 = .ok (.invokeinterface 76 1, 5) := by decide +kernel
theorem dX6_reads_79 : decode cX6_reads 79 = .ok (.goto 4, 3) := dk_167 0 4 (dk_at dksX6_reads_3 9 rfl rfl)
theorem dX6_reads_82 : decode cX6_reads 82 = .ok (.iconst 0, 1) := dk_3 (dk_at dksX6_reads_3 12 rfl rfl)
theorem dX6_reads_83 : decode cX6_reads 83 = .ok (.invokestatic 80, 3) := dk_184 0 80 (dk_at dksX6_reads_3 13 rfl rfl)
theorem dX6_reads_86 : decode cX6_reads 86 = .ok (.goto 16, 3) := dk_167 0 16 (dk_at dksX6_reads_3 16 rfl rfl)
theorem dX6_reads_89 : decode cX6_reads 89 = .ok (.astore 4, 2) := dk_58 4 (dk_at dksX6_reads_3 19 rfl rfl)
theorem dX6_reads_91 : decode cX6_reads 91 = .ok (.new 85, 3) := dk_187 0 85 (dk_at dksX6_reads_3 21 rfl rfl)
theorem dX6_reads_94 : decode cX6_reads 94 = .ok (.dup, 1) := dk_89 (dk_at dksX6_reads_4 0 rfl rfl)
theorem dX6_reads_95 : decode cX6_reads 95 = .ok (.iload_n 2, 1) := dk_28 (dk_at dksX6_reads_4 1 rfl rfl)
theorem dX6_reads_96 : decode cX6_reads 96 = .ok (.aload 4, 2) := dk_25 4 (dk_at dksX6_reads_4 2 rfl rfl)
theorem dX6_reads_98 : decode cX6_reads 98 = .ok (.invokespecial 87, 3) := dk_183 0 87 (dk_at dksX6_reads_4 4 rfl rfl)
theorem dX6_reads_101 : decode cX6_reads 101 = .ok (.athrow, 1) := dk_191 (dk_at dksX6_reads_4 7 rfl rfl)
theorem dX6_reads_102 : decode cX6_reads 102 = .ok (.iinc 2 1, 3) := dk_132 2 1 (dk_at dksX6_reads_4 8 rfl rfl)
theorem dX6_reads_105 : decode cX6_reads 105 = .ok (.goto (-71), 3) := dk_167 255 185 (dk_at dksX6_reads_4 11 rfl rfl)
theorem dX6_reads_108 : decode cX6_reads 108 = .ok (.iload_n 2, 1) := dk_28 (dk_at dksX6_reads_4 14 rfl rfl)
theorem dX6_reads_109 : decode cX6_reads 109 = .ok (.ireturn, 1) := dk_172 (dk_at dksX6_reads_4 15 rfl rfl)
abbrev cX6_next : ByteArray := prog_11_method_3_code
def yX6_next : MethodName := ⟨RX6, "next", "()V"⟩
def dkwX6_next_1 : List UInt8 := [180, 0, 15, 4, 96, 181, 0, 15, 167, 255, 235, 177]
abbrev dktX6_next_1 : List UInt8 := dkwX6_next_1 ++ []
def dkwX6_next_0 : List UInt8 := [42, 89, 180, 0, 15, 4, 96, 181, 0, 15, 42, 16, 32, 16, 32, 182, 0, 26, 153, 0, 16, 42, 89]
abbrev dktX6_next_0 : List UInt8 := dkwX6_next_0 ++ dktX6_next_1
theorem dksX6_next_0 : cX6_next.data.toList.drop 0 = dktX6_next_0 := by decide +kernel
theorem dksX6_next_1 : cX6_next.data.toList.drop 23 = dktX6_next_1 := dk_seg dksX6_next_0 23 rfl rfl
theorem dX6_next_0 : decode cX6_next 0 = .ok (.aload_n 0, 1) := dk_42 (dk_at dksX6_next_0 0 rfl rfl)
theorem dX6_next_1 : decode cX6_next 1 = .ok (.dup, 1) := dk_89 (dk_at dksX6_next_0 1 rfl rfl)
theorem dX6_next_2 : decode cX6_next 2 = .ok (.getfield 15, 3) := dk_180 0 15 (dk_at dksX6_next_0 2 rfl rfl)
theorem dX6_next_5 : decode cX6_next 5 = .ok (.iconst 1, 1) := dk_4 (dk_at dksX6_next_0 5 rfl rfl)
theorem dX6_next_6 : decode cX6_next 6 = .ok (.iadd, 1) := dk_96 (dk_at dksX6_next_0 6 rfl rfl)
theorem dX6_next_7 : decode cX6_next 7 = .ok (.putfield 15, 3) := dk_181 0 15 (dk_at dksX6_next_0 7 rfl rfl)
theorem dX6_next_10 : decode cX6_next 10 = .ok (.aload_n 0, 1) := dk_42 (dk_at dksX6_next_0 10 rfl rfl)
theorem dX6_next_11 : decode cX6_next 11 = .ok (.bipush 32, 2) := dk_16 32 (dk_at dksX6_next_0 11 rfl rfl)
theorem dX6_next_13 : decode cX6_next 13 = .ok (.bipush 32, 2) := dk_16 32 (dk_at dksX6_next_0 13 rfl rfl)
theorem dX6_next_15 : decode cX6_next 15 = .ok (.invokevirtual 26, 3) := dk_182 0 26 (dk_at dksX6_next_0 15 rfl rfl)
theorem dX6_next_18 : decode cX6_next 18 = .ok (.ifCond .eq 16, 3) := dk_153 0 16 (dk_at dksX6_next_0 18 rfl rfl)
theorem dX6_next_21 : decode cX6_next 21 = .ok (.aload_n 0, 1) := dk_42 (dk_at dksX6_next_0 21 rfl rfl)
theorem dX6_next_22 : decode cX6_next 22 = .ok (.dup, 1) := dk_89 (dk_at dksX6_next_0 22 rfl rfl)
theorem dX6_next_23 : decode cX6_next 23 = .ok (.getfield 15, 3) := dk_180 0 15 (dk_at dksX6_next_1 0 rfl rfl)
theorem dX6_next_26 : decode cX6_next 26 = .ok (.iconst 1, 1) := dk_4 (dk_at dksX6_next_1 3 rfl rfl)
theorem dX6_next_27 : decode cX6_next 27 = .ok (.iadd, 1) := dk_96 (dk_at dksX6_next_1 4 rfl rfl)
theorem dX6_next_28 : decode cX6_next 28 = .ok (.putfield 15, 3) := dk_181 0 15 (dk_at dksX6_next_1 5 rfl rfl)
theorem dX6_next_31 : decode cX6_next 31 = .ok (.goto (-21), 3) := dk_167 255 235 (dk_at dksX6_next_1 8 rfl rfl)
theorem dX6_next_34 : decode cX6_next 34 = .ok (.return_, 1) := dk_177 (dk_at dksX6_next_1 11 rfl rfl)
abbrev cX6_isAt : ByteArray := prog_11_method_2_code
def yX6_isAt : MethodName := ⟨RX6, "isAt", "(CC)Z"⟩
def dkwX6_isAt_2 : List UInt8 := [4, 167, 0, 4, 3, 172]
abbrev dktX6_isAt_2 : List UInt8 := dkwX6_isAt_2 ++ []
def dkwX6_isAt_1 : List UInt8 := [180, 0, 15, 51, 27, 161, 0, 23, 42, 180, 0, 3, 180, 0, 22, 42, 180, 0, 15, 51, 28, 163, 0, 7]
abbrev dktX6_isAt_1 : List UInt8 := dkwX6_isAt_1 ++ dktX6_isAt_2
def dkwX6_isAt_0 : List UInt8 := [42, 180, 0, 15, 42, 180, 0, 3, 180, 0, 19, 162, 0, 39, 42, 180, 0, 3, 180, 0, 22, 42]
abbrev dktX6_isAt_0 : List UInt8 := dkwX6_isAt_0 ++ dktX6_isAt_1
theorem dksX6_isAt_0 : cX6_isAt.data.toList.drop 0 = dktX6_isAt_0 := by decide +kernel
theorem dksX6_isAt_1 : cX6_isAt.data.toList.drop 22 = dktX6_isAt_1 := dk_seg dksX6_isAt_0 22 rfl rfl
theorem dksX6_isAt_2 : cX6_isAt.data.toList.drop 46 = dktX6_isAt_2 := dk_seg dksX6_isAt_1 24 rfl rfl
theorem dX6_isAt_0 : decode cX6_isAt 0 = .ok (.aload_n 0, 1) := dk_42 (dk_at dksX6_isAt_0 0 rfl rfl)
theorem dX6_isAt_1 : decode cX6_isAt 1 = .ok (.getfield 15, 3) := dk_180 0 15 (dk_at dksX6_isAt_0 1 rfl rfl)
theorem dX6_isAt_4 : decode cX6_isAt 4 = .ok (.aload_n 0, 1) := dk_42 (dk_at dksX6_isAt_0 4 rfl rfl)
theorem dX6_isAt_5 : decode cX6_isAt 5 = .ok (.getfield 3, 3) := dk_180 0 3 (dk_at dksX6_isAt_0 5 rfl rfl)
theorem dX6_isAt_8 : decode cX6_isAt 8 = .ok (.getfield 19, 3) := dk_180 0 19 (dk_at dksX6_isAt_0 8 rfl rfl)
theorem dX6_isAt_11 : decode cX6_isAt 11 = .ok (.if_icmp .ge 39, 3) := dk_162 0 39 (dk_at dksX6_isAt_0 11 rfl rfl)
theorem dX6_isAt_14 : decode cX6_isAt 14 = .ok (.aload_n 0, 1) := dk_42 (dk_at dksX6_isAt_0 14 rfl rfl)
theorem dX6_isAt_15 : decode cX6_isAt 15 = .ok (.getfield 3, 3) := dk_180 0 3 (dk_at dksX6_isAt_0 15 rfl rfl)
theorem dX6_isAt_18 : decode cX6_isAt 18 = .ok (.getfield 22, 3) := dk_180 0 22 (dk_at dksX6_isAt_0 18 rfl rfl)
theorem dX6_isAt_21 : decode cX6_isAt 21 = .ok (.aload_n 0, 1) := dk_42 (dk_at dksX6_isAt_0 21 rfl rfl)
theorem dX6_isAt_22 : decode cX6_isAt 22 = .ok (.getfield 15, 3) := dk_180 0 15 (dk_at dksX6_isAt_1 0 rfl rfl)
theorem dX6_isAt_25 : decode cX6_isAt 25 = .ok (.baload, 1) := dk_51 (dk_at dksX6_isAt_1 3 rfl rfl)
theorem dX6_isAt_26 : decode cX6_isAt 26 = .ok (.iload_n 1, 1) := dk_27 (dk_at dksX6_isAt_1 4 rfl rfl)
theorem dX6_isAt_27 : decode cX6_isAt 27 = .ok (.if_icmp .lt 23, 3) := dk_161 0 23 (dk_at dksX6_isAt_1 5 rfl rfl)
theorem dX6_isAt_30 : decode cX6_isAt 30 = .ok (.aload_n 0, 1) := dk_42 (dk_at dksX6_isAt_1 8 rfl rfl)
theorem dX6_isAt_31 : decode cX6_isAt 31 = .ok (.getfield 3, 3) := dk_180 0 3 (dk_at dksX6_isAt_1 9 rfl rfl)
theorem dX6_isAt_34 : decode cX6_isAt 34 = .ok (.getfield 22, 3) := dk_180 0 22 (dk_at dksX6_isAt_1 12 rfl rfl)
theorem dX6_isAt_37 : decode cX6_isAt 37 = .ok (.aload_n 0, 1) := dk_42 (dk_at dksX6_isAt_1 15 rfl rfl)
theorem dX6_isAt_38 : decode cX6_isAt 38 = .ok (.getfield 15, 3) := dk_180 0 15 (dk_at dksX6_isAt_1 16 rfl rfl)
theorem dX6_isAt_41 : decode cX6_isAt 41 = .ok (.baload, 1) := dk_51 (dk_at dksX6_isAt_1 19 rfl rfl)
theorem dX6_isAt_42 : decode cX6_isAt 42 = .ok (.iload_n 2, 1) := dk_28 (dk_at dksX6_isAt_1 20 rfl rfl)
theorem dX6_isAt_43 : decode cX6_isAt 43 = .ok (.if_icmp .gt 7, 3) := dk_163 0 7 (dk_at dksX6_isAt_1 21 rfl rfl)
theorem dX6_isAt_46 : decode cX6_isAt 46 = .ok (.iconst 1, 1) := dk_4 (dk_at dksX6_isAt_2 0 rfl rfl)
theorem dX6_isAt_47 : decode cX6_isAt 47 = .ok (.goto 4, 3) := dk_167 0 4 (dk_at dksX6_isAt_2 1 rfl rfl)
theorem dX6_isAt_50 : decode cX6_isAt 50 = .ok (.iconst 0, 1) := dk_3 (dk_at dksX6_isAt_2 4 rfl rfl)
theorem dX6_isAt_51 : decode cX6_isAt 51 = .ok (.ireturn, 1) := dk_172 (dk_at dksX6_isAt_2 5 rfl rfl)
abbrev cX6_needs : ByteArray := prog_11_method_4_code
def yX6_needs : MethodName := ⟨RX6, "needs", "(Z)V"⟩
def dkwX6_needs_0 : List UInt8 := [27, 154, 0, 15, 187, 0, 30, 89, 42, 180, 0, 15, 183, 0, 32, 191, 177]
abbrev dktX6_needs_0 : List UInt8 := dkwX6_needs_0 ++ []
theorem dksX6_needs_0 : cX6_needs.data.toList.drop 0 = dktX6_needs_0 := by decide +kernel
theorem dX6_needs_0 : decode cX6_needs 0 = .ok (.iload_n 1, 1) := dk_27 (dk_at dksX6_needs_0 0 rfl rfl)
theorem dX6_needs_1 : decode cX6_needs 1 = .ok (.ifCond .ne 15, 3) := dk_154 0 15 (dk_at dksX6_needs_0 1 rfl rfl)
theorem dX6_needs_4 : decode cX6_needs 4 = .ok (.new 30, 3) := dk_187 0 30 (dk_at dksX6_needs_0 4 rfl rfl)
theorem dX6_needs_7 : decode cX6_needs 7 = .ok (.dup, 1) := dk_89 (dk_at dksX6_needs_0 7 rfl rfl)
theorem dX6_needs_8 : decode cX6_needs 8 = .ok (.aload_n 0, 1) := dk_42 (dk_at dksX6_needs_0 8 rfl rfl)
theorem dX6_needs_9 : decode cX6_needs 9 = .ok (.getfield 15, 3) := dk_180 0 15 (dk_at dksX6_needs_0 9 rfl rfl)
theorem dX6_needs_12 : decode cX6_needs 12 = .ok (.invokespecial 32, 3) := dk_183 0 32 (dk_at dksX6_needs_0 12 rfl rfl)
theorem dX6_needs_15 : decode cX6_needs 15 = .ok (.athrow, 1) := dk_191 (dk_at dksX6_needs_0 15 rfl rfl)
theorem dX6_needs_16 : decode cX6_needs 16 = .ok (.return_, 1) := dk_177 (dk_at dksX6_needs_0 16 rfl rfl)
abbrev cX6_order : ByteArray := prog_11_method_9_code
def yX6_order : MethodName := ⟨RX6, "orde\x72", "()LPictureRing$Deed;"⟩
def dkwX6_order_4 : List UInt8 := [182, 0, 39, 28, 153, 0, 11, 42, 27, 182, 0, 65, 167, 0, 8, 42, 27, 182, 0, 69, 176]
abbrev dktX6_order_4 : List UInt8 := dkwX6_order_4 ++ []
def dkwX6_order_3 : List UInt8 := [159, 0, 15, 27, 16, 99, 159, 0, 9, 27, 16, 112, 160, 0, 7, 4, 167, 0, 4, 3, 182, 0, 35, 42]
abbrev dktX6_order_3 : List UInt8 := dkwX6_order_3 ++ dktX6_order_4
def dkwX6_order_2 : List UInt8 := [160, 0, 7, 4, 167, 0, 4, 3, 61, 42, 28, 154, 0, 27, 27, 16, 119, 159, 0, 21, 27, 16, 115]
abbrev dktX6_order_2 : List UInt8 := dkwX6_order_2 ++ dktX6_order_3
def dkwX6_order_1 : List UInt8 := [180, 0, 15, 51, 167, 0, 4, 3, 60, 27, 16, 116, 159, 0, 15, 27, 16, 97, 159, 0, 9, 27, 16, 120]
abbrev dktX6_order_1 : List UInt8 := dkwX6_order_1 ++ dktX6_order_2
def dkwX6_order_0 : List UInt8 := [42, 180, 0, 15, 42, 180, 0, 3, 180, 0, 19, 162, 0, 18, 42, 180, 0, 3, 180, 0, 22, 42]
abbrev dktX6_order_0 : List UInt8 := dkwX6_order_0 ++ dktX6_order_1
theorem dksX6_order_0 : cX6_order.data.toList.drop 0 = dktX6_order_0 := by decide +kernel
theorem dksX6_order_1 : cX6_order.data.toList.drop 22 = dktX6_order_1 := dk_seg dksX6_order_0 22 rfl rfl
theorem dksX6_order_2 : cX6_order.data.toList.drop 46 = dktX6_order_2 := dk_seg dksX6_order_1 24 rfl rfl
theorem dksX6_order_3 : cX6_order.data.toList.drop 69 = dktX6_order_3 := dk_seg dksX6_order_2 23 rfl rfl
theorem dksX6_order_4 : cX6_order.data.toList.drop 93 = dktX6_order_4 := dk_seg dksX6_order_3 24 rfl rfl
theorem dX6_order_0 : decode cX6_order 0 = .ok (.aload_n 0, 1) := dk_42 (dk_at dksX6_order_0 0 rfl rfl)
theorem dX6_order_1 : decode cX6_order 1 = .ok (.getfield 15, 3) := dk_180 0 15 (dk_at dksX6_order_0 1 rfl rfl)
theorem dX6_order_4 : decode cX6_order 4 = .ok (.aload_n 0, 1) := dk_42 (dk_at dksX6_order_0 4 rfl rfl)
theorem dX6_order_5 : decode cX6_order 5 = .ok (.getfield 3, 3) := dk_180 0 3 (dk_at dksX6_order_0 5 rfl rfl)
theorem dX6_order_8 : decode cX6_order 8 = .ok (.getfield 19, 3) := dk_180 0 19 (dk_at dksX6_order_0 8 rfl rfl)
theorem dX6_order_11 : decode cX6_order 11 = .ok (.if_icmp .ge 18, 3) := dk_162 0 18 (dk_at dksX6_order_0 11 rfl rfl)
theorem dX6_order_14 : decode cX6_order 14 = .ok (.aload_n 0, 1) := dk_42 (dk_at dksX6_order_0 14 rfl rfl)
theorem dX6_order_15 : decode cX6_order 15 = .ok (.getfield 3, 3) := dk_180 0 3 (dk_at dksX6_order_0 15 rfl rfl)
theorem dX6_order_18 : decode cX6_order 18 = .ok (.getfield 22, 3) := dk_180 0 22 (dk_at dksX6_order_0 18 rfl rfl)
theorem dX6_order_21 : decode cX6_order 21 = .ok (.aload_n 0, 1) := dk_42 (dk_at dksX6_order_0 21 rfl rfl)
theorem dX6_order_22 : decode cX6_order 22 = .ok (.getfield 15, 3) := dk_180 0 15 (dk_at dksX6_order_1 0 rfl rfl)
theorem dX6_order_25 : decode cX6_order 25 = .ok (.baload, 1) := dk_51 (dk_at dksX6_order_1 3 rfl rfl)
theorem dX6_order_26 : decode cX6_order 26 = .ok (.goto 4, 3) := dk_167 0 4 (dk_at dksX6_order_1 4 rfl rfl)
theorem dX6_order_29 : decode cX6_order 29 = .ok (.iconst 0, 1) := dk_3 (dk_at dksX6_order_1 7 rfl rfl)
theorem dX6_order_30 : decode cX6_order 30 = .ok (.istore_n 1, 1) := dk_60 (dk_at dksX6_order_1 8 rfl rfl)
theorem dX6_order_31 : decode cX6_order 31 = .ok (.iload_n 1, 1) := dk_27 (dk_at dksX6_order_1 9 rfl rfl)
theorem dX6_order_32 : decode cX6_order 32 = .ok (.bipush 116, 2) := dk_16 116 (dk_at dksX6_order_1 10 rfl rfl)
theorem dX6_order_34 : decode cX6_order 34 = .ok (.if_icmp .eq 15, 3) := dk_159 0 15 (dk_at dksX6_order_1 12 rfl rfl)
theorem dX6_order_37 : decode cX6_order 37 = .ok (.iload_n 1, 1) := dk_27 (dk_at dksX6_order_1 15 rfl rfl)
theorem dX6_order_38 : decode cX6_order 38 = .ok (.bipush 97, 2) := dk_16 97 (dk_at dksX6_order_1 16 rfl rfl)
theorem dX6_order_40 : decode cX6_order 40 = .ok (.if_icmp .eq 9, 3) := dk_159 0 9 (dk_at dksX6_order_1 18 rfl rfl)
theorem dX6_order_43 : decode cX6_order 43 = .ok (.iload_n 1, 1) := dk_27 (dk_at dksX6_order_1 21 rfl rfl)
theorem dX6_order_44 : decode cX6_order 44 = .ok (.bipush 120, 2) := dk_16 120 (dk_at dksX6_order_1 22 rfl rfl)
theorem dX6_order_46 : decode cX6_order 46 = .ok (.if_icmp .ne 7, 3) := dk_160 0 7 (dk_at dksX6_order_2 0 rfl rfl)
theorem dX6_order_49 : decode cX6_order 49 = .ok (.iconst 1, 1) := dk_4 (dk_at dksX6_order_2 3 rfl rfl)
theorem dX6_order_50 : decode cX6_order 50 = .ok (.goto 4, 3) := dk_167 0 4 (dk_at dksX6_order_2 4 rfl rfl)
theorem dX6_order_53 : decode cX6_order 53 = .ok (.iconst 0, 1) := dk_3 (dk_at dksX6_order_2 7 rfl rfl)
theorem dX6_order_54 : decode cX6_order 54 = .ok (.istore_n 2, 1) := dk_61 (dk_at dksX6_order_2 8 rfl rfl)
theorem dX6_order_55 : decode cX6_order 55 = .ok (.aload_n 0, 1) := dk_42 (dk_at dksX6_order_2 9 rfl rfl)
theorem dX6_order_56 : decode cX6_order 56 = .ok (.iload_n 2, 1) := dk_28 (dk_at dksX6_order_2 10 rfl rfl)
theorem dX6_order_57 : decode cX6_order 57 = .ok (.ifCond .ne 27, 3) := dk_154 0 27 (dk_at dksX6_order_2 11 rfl rfl)
theorem dX6_order_60 : decode cX6_order 60 = .ok (.iload_n 1, 1) := dk_27 (dk_at dksX6_order_2 14 rfl rfl)
theorem dX6_order_61 : decode cX6_order 61 = .ok (.bipush 119, 2) := dk_16 119 (dk_at dksX6_order_2 15 rfl rfl)
theorem dX6_order_63 : decode cX6_order 63 = .ok (.if_icmp .eq 21, 3) := dk_159 0 21 (dk_at dksX6_order_2 17 rfl rfl)
theorem dX6_order_66 : decode cX6_order 66 = .ok (.iload_n 1, 1) := dk_27 (dk_at dksX6_order_2 20 rfl rfl)
theorem dX6_order_67 : decode cX6_order 67 = .ok (.bipush 115, 2) := dk_16 115 (dk_at dksX6_order_2 21 rfl rfl)
theorem dX6_order_69 : decode cX6_order 69 = .ok (.if_icmp .eq 15, 3) := dk_159 0 15 (dk_at dksX6_order_3 0 rfl rfl)
theorem dX6_order_72 : decode cX6_order 72 = .ok (.iload_n 1, 1) := dk_27 (dk_at dksX6_order_3 3 rfl rfl)
theorem dX6_order_73 : decode cX6_order 73 = .ok (.bipush 99, 2) := dk_16 99 (dk_at dksX6_order_3 4 rfl rfl)
theorem dX6_order_75 : decode cX6_order 75 = .ok (.if_icmp .eq 9, 3) := dk_159 0 9 (dk_at dksX6_order_3 6 rfl rfl)
theorem dX6_order_78 : decode cX6_order 78 = .ok (.iload_n 1, 1) := dk_27 (dk_at dksX6_order_3 9 rfl rfl)
theorem dX6_order_79 : decode cX6_order 79 = .ok (.bipush 112, 2) := dk_16 112 (dk_at dksX6_order_3 10 rfl rfl)
theorem dX6_order_81 : decode cX6_order 81 = .ok (.if_icmp .ne 7, 3) := dk_160 0 7 (dk_at dksX6_order_3 12 rfl rfl)
theorem dX6_order_84 : decode cX6_order 84 = .ok (.iconst 1, 1) := dk_4 (dk_at dksX6_order_3 15 rfl rfl)
theorem dX6_order_85 : decode cX6_order 85 = .ok (.goto 4, 3) := dk_167 0 4 (dk_at dksX6_order_3 16 rfl rfl)
theorem dX6_order_88 : decode cX6_order 88 = .ok (.iconst 0, 1) := dk_3 (dk_at dksX6_order_3 19 rfl rfl)
theorem dX6_order_89 : decode cX6_order 89 = .ok (.invokevirtual 35, 3) := dk_182 0 35 (dk_at dksX6_order_3 20 rfl rfl)
theorem dX6_order_92 : decode cX6_order 92 = .ok (.aload_n 0, 1) := dk_42 (dk_at dksX6_order_3 23 rfl rfl)
theorem dX6_order_93 : decode cX6_order 93 = .ok (.invokevirtual 39, 3) := dk_182 0 39 (dk_at dksX6_order_4 0 rfl rfl)
theorem dX6_order_96 : decode cX6_order 96 = .ok (.iload_n 2, 1) := dk_28 (dk_at dksX6_order_4 3 rfl rfl)
theorem dX6_order_97 : decode cX6_order 97 = .ok (.ifCond .eq 11, 3) := dk_153 0 11 (dk_at dksX6_order_4 4 rfl rfl)
theorem dX6_order_100 : decode cX6_order 100 = .ok (.aload_n 0, 1) := dk_42 (dk_at dksX6_order_4 7 rfl rfl)
theorem dX6_order_101 : decode cX6_order 101 = .ok (.iload_n 1, 1) := dk_27 (dk_at dksX6_order_4 8 rfl rfl)
theorem dX6_order_102 : decode cX6_order 102 = .ok (.invokevirtual 65, 3) := dk_182 0 65 (dk_at dksX6_order_4 9 rfl rfl)
theorem dX6_order_105 : decode cX6_order 105 = .ok (.goto 8, 3) := dk_167 0 8 (dk_at dksX6_order_4 12 rfl rfl)
theorem dX6_order_108 : decode cX6_order 108 = .ok (.aload_n 0, 1) := dk_42 (dk_at dksX6_order_4 15 rfl rfl)
theorem dX6_order_109 : decode cX6_order 109 = .ok (.iload_n 1, 1) := dk_27 (dk_at dksX6_order_4 16 rfl rfl)
theorem dX6_order_110 : decode cX6_order 110 = .ok (.invokevirtual 69, 3) := dk_182 0 69 (dk_at dksX6_order_4 17 rfl rfl)
theorem dX6_order_113 : decode cX6_order 113 = .ok (.areturn, 1) := dk_176 (dk_at dksX6_order_4 20 rfl rfl)
abbrev cX6_one : ByteArray := prog_11_method_7_code
def yX6_one : MethodName := ⟨RX6, "one", "(I)LPictureRing$Deed;"⟩
def dkwX6_one_1 : List UInt8 := [160, 0, 13, 42, 28, 186, 0, 50, 0, 0, 167, 0, 10, 42, 28, 186, 0, 51, 0, 0, 176]
abbrev dktX6_one_1 : List UInt8 := dkwX6_one_1 ++ []
def dkwX6_one_0 : List UInt8 := [42, 182, 0, 42, 61, 27, 16, 116, 160, 0, 13, 42, 28, 186, 0, 46, 0, 0, 167, 0, 26, 27, 16, 97]
abbrev dktX6_one_0 : List UInt8 := dkwX6_one_0 ++ dktX6_one_1
theorem dksX6_one_0 : cX6_one.data.toList.drop 0 = dktX6_one_0 := by decide +kernel
theorem dksX6_one_1 : cX6_one.data.toList.drop 24 = dktX6_one_1 := dk_seg dksX6_one_0 24 rfl rfl
theorem dX6_one_0 : decode cX6_one 0 = .ok (.aload_n 0, 1) := dk_42 (dk_at dksX6_one_0 0 rfl rfl)
theorem dX6_one_1 : decode cX6_one 1 = .ok (.invokevirtual 42, 3) := dk_182 0 42 (dk_at dksX6_one_0 1 rfl rfl)
theorem dX6_one_4 : decode cX6_one 4 = .ok (.istore_n 2, 1) := dk_61 (dk_at dksX6_one_0 4 rfl rfl)
theorem dX6_one_5 : decode cX6_one 5 = .ok (.iload_n 1, 1) := dk_27 (dk_at dksX6_one_0 5 rfl rfl)
theorem dX6_one_6 : decode cX6_one 6 = .ok (.bipush 116, 2) := dk_16 116 (dk_at dksX6_one_0 6 rfl rfl)
theorem dX6_one_8 : decode cX6_one 8 = .ok (.if_icmp .ne 13, 3) := dk_160 0 13 (dk_at dksX6_one_0 8 rfl rfl)
theorem dX6_one_11 : decode cX6_one 11 = .ok (.aload_n 0, 1) := dk_42 (dk_at dksX6_one_0 11 rfl rfl)
theorem dX6_one_12 : decode cX6_one 12 = .ok (.iload_n 2, 1) := dk_28 (dk_at dksX6_one_0 12 rfl rfl)
theorem dX6_one_13 : decode cX6_one 13 = .ok (.invokedynamic 46, 5) := by decide +kernel
theorem dX6_one_18 : decode cX6_one 18 = .ok (.goto 26, 3) := dk_167 0 26 (dk_at dksX6_one_0 18 rfl rfl)
theorem dX6_one_21 : decode cX6_one 21 = .ok (.iload_n 1, 1) := dk_27 (dk_at dksX6_one_0 21 rfl rfl)
theorem dX6_one_22 : decode cX6_one 22 = .ok (.bipush 97, 2) := dk_16 97 (dk_at dksX6_one_0 22 rfl rfl)
theorem dX6_one_24 : decode cX6_one 24 = .ok (.if_icmp .ne 13, 3) := dk_160 0 13 (dk_at dksX6_one_1 0 rfl rfl)
theorem dX6_one_27 : decode cX6_one 27 = .ok (.aload_n 0, 1) := dk_42 (dk_at dksX6_one_1 3 rfl rfl)
theorem dX6_one_28 : decode cX6_one 28 = .ok (.iload_n 2, 1) := dk_28 (dk_at dksX6_one_1 4 rfl rfl)
theorem dX6_one_29 : decode cX6_one 29 = .ok (.invokedynamic 50, 5) := by decide +kernel
theorem dX6_one_34 : decode cX6_one 34 = .ok (.goto 10, 3) := dk_167 0 10 (dk_at dksX6_one_1 10 rfl rfl)
theorem dX6_one_37 : decode cX6_one 37 = .ok (.aload_n 0, 1) := dk_42 (dk_at dksX6_one_1 13 rfl rfl)
theorem dX6_one_38 : decode cX6_one 38 = .ok (.iload_n 2, 1) := dk_28 (dk_at dksX6_one_1 14 rfl rfl)
theorem dX6_one_39 : decode cX6_one 39 = .ok (.invokedynamic 51, 5) := by decide +kernel
theorem dX6_one_44 : decode cX6_one 44 = .ok (.areturn, 1) := dk_176 (dk_at dksX6_one_1 20 rfl rfl)
abbrev cX6_number : ByteArray := prog_11_method_5_code
def yX6_number : MethodName := ⟨RX6, "numbe\x72", "()I"⟩
def dkwX6_number_4 : List UInt8 := [89, 180, 0, 15, 4, 100, 181, 0, 15, 42, 182, 0, 39, 27, 172]
abbrev dktX6_number_4 : List UInt8 := dkwX6_number_4 ++ []
def dkwX6_number_3 : List UInt8 := [167, 255, 205, 42, 42, 16, 48, 16, 57, 182, 0, 26, 154, 0, 7, 4, 167, 0, 4, 3, 182, 0, 35, 42]
abbrev dktX6_number_3 : List UInt8 := dkwX6_number_3 ++ dktX6_number_4
def dkwX6_number_2 : List UInt8 := [180, 0, 15, 51, 96, 16, 48, 100, 60, 132, 2, 1, 42, 89, 180, 0, 15, 4, 96, 181, 0, 15]
abbrev dktX6_number_2 : List UInt8 := dkwX6_number_2 ++ dktX6_number_3
def dkwX6_number_1 : List UInt8 := [16, 48, 16, 57, 182, 0, 26, 153, 0, 40, 16, 10, 27, 104, 42, 180, 0, 3, 180, 0, 22, 42]
abbrev dktX6_number_1 : List UInt8 := dkwX6_number_1 ++ dktX6_number_2
def dkwX6_number_0 : List UInt8 := [3, 60, 3, 61, 42, 42, 16, 48, 16, 57, 182, 0, 26, 182, 0, 35, 28, 16, 6, 162, 0, 51, 42]
abbrev dktX6_number_0 : List UInt8 := dkwX6_number_0 ++ dktX6_number_1
theorem dksX6_number_0 : cX6_number.data.toList.drop 0 = dktX6_number_0 := by decide +kernel
theorem dksX6_number_1 : cX6_number.data.toList.drop 23 = dktX6_number_1 := dk_seg dksX6_number_0 23 rfl rfl
theorem dksX6_number_2 : cX6_number.data.toList.drop 45 = dktX6_number_2 := dk_seg dksX6_number_1 22 rfl rfl
theorem dksX6_number_3 : cX6_number.data.toList.drop 67 = dktX6_number_3 := dk_seg dksX6_number_2 22 rfl rfl
theorem dksX6_number_4 : cX6_number.data.toList.drop 91 = dktX6_number_4 := dk_seg dksX6_number_3 24 rfl rfl
theorem dX6_number_0 : decode cX6_number 0 = .ok (.iconst 0, 1) := dk_3 (dk_at dksX6_number_0 0 rfl rfl)
theorem dX6_number_1 : decode cX6_number 1 = .ok (.istore_n 1, 1) := dk_60 (dk_at dksX6_number_0 1 rfl rfl)
theorem dX6_number_2 : decode cX6_number 2 = .ok (.iconst 0, 1) := dk_3 (dk_at dksX6_number_0 2 rfl rfl)
theorem dX6_number_3 : decode cX6_number 3 = .ok (.istore_n 2, 1) := dk_61 (dk_at dksX6_number_0 3 rfl rfl)
theorem dX6_number_4 : decode cX6_number 4 = .ok (.aload_n 0, 1) := dk_42 (dk_at dksX6_number_0 4 rfl rfl)
theorem dX6_number_5 : decode cX6_number 5 = .ok (.aload_n 0, 1) := dk_42 (dk_at dksX6_number_0 5 rfl rfl)
theorem dX6_number_6 : decode cX6_number 6 = .ok (.bipush 48, 2) := dk_16 48 (dk_at dksX6_number_0 6 rfl rfl)
theorem dX6_number_8 : decode cX6_number 8 = .ok (.bipush 57, 2) := dk_16 57 (dk_at dksX6_number_0 8 rfl rfl)
theorem dX6_number_10 : decode cX6_number 10 = .ok (.invokevirtual 26, 3) := dk_182 0 26 (dk_at dksX6_number_0 10 rfl rfl)
theorem dX6_number_13 : decode cX6_number 13 = .ok (.invokevirtual 35, 3) := dk_182 0 35 (dk_at dksX6_number_0 13 rfl rfl)
theorem dX6_number_16 : decode cX6_number 16 = .ok (.iload_n 2, 1) := dk_28 (dk_at dksX6_number_0 16 rfl rfl)
theorem dX6_number_17 : decode cX6_number 17 = .ok (.bipush 6, 2) := dk_16 6 (dk_at dksX6_number_0 17 rfl rfl)
theorem dX6_number_19 : decode cX6_number 19 = .ok (.if_icmp .ge 51, 3) := dk_162 0 51 (dk_at dksX6_number_0 19 rfl rfl)
theorem dX6_number_22 : decode cX6_number 22 = .ok (.aload_n 0, 1) := dk_42 (dk_at dksX6_number_0 22 rfl rfl)
theorem dX6_number_23 : decode cX6_number 23 = .ok (.bipush 48, 2) := dk_16 48 (dk_at dksX6_number_1 0 rfl rfl)
theorem dX6_number_25 : decode cX6_number 25 = .ok (.bipush 57, 2) := dk_16 57 (dk_at dksX6_number_1 2 rfl rfl)
theorem dX6_number_27 : decode cX6_number 27 = .ok (.invokevirtual 26, 3) := dk_182 0 26 (dk_at dksX6_number_1 4 rfl rfl)
theorem dX6_number_30 : decode cX6_number 30 = .ok (.ifCond .eq 40, 3) := dk_153 0 40 (dk_at dksX6_number_1 7 rfl rfl)
theorem dX6_number_33 : decode cX6_number 33 = .ok (.bipush 10, 2) := dk_16 10 (dk_at dksX6_number_1 10 rfl rfl)
theorem dX6_number_35 : decode cX6_number 35 = .ok (.iload_n 1, 1) := dk_27 (dk_at dksX6_number_1 12 rfl rfl)
theorem dX6_number_36 : decode cX6_number 36 = .ok (.imul, 1) := dk_104 (dk_at dksX6_number_1 13 rfl rfl)
theorem dX6_number_37 : decode cX6_number 37 = .ok (.aload_n 0, 1) := dk_42 (dk_at dksX6_number_1 14 rfl rfl)
theorem dX6_number_38 : decode cX6_number 38 = .ok (.getfield 3, 3) := dk_180 0 3 (dk_at dksX6_number_1 15 rfl rfl)
theorem dX6_number_41 : decode cX6_number 41 = .ok (.getfield 22, 3) := dk_180 0 22 (dk_at dksX6_number_1 18 rfl rfl)
theorem dX6_number_44 : decode cX6_number 44 = .ok (.aload_n 0, 1) := dk_42 (dk_at dksX6_number_1 21 rfl rfl)
theorem dX6_number_45 : decode cX6_number 45 = .ok (.getfield 15, 3) := dk_180 0 15 (dk_at dksX6_number_2 0 rfl rfl)
theorem dX6_number_48 : decode cX6_number 48 = .ok (.baload, 1) := dk_51 (dk_at dksX6_number_2 3 rfl rfl)
theorem dX6_number_49 : decode cX6_number 49 = .ok (.iadd, 1) := dk_96 (dk_at dksX6_number_2 4 rfl rfl)
theorem dX6_number_50 : decode cX6_number 50 = .ok (.bipush 48, 2) := dk_16 48 (dk_at dksX6_number_2 5 rfl rfl)
theorem dX6_number_52 : decode cX6_number 52 = .ok (.isub, 1) := dk_100 (dk_at dksX6_number_2 7 rfl rfl)
theorem dX6_number_53 : decode cX6_number 53 = .ok (.istore_n 1, 1) := dk_60 (dk_at dksX6_number_2 8 rfl rfl)
theorem dX6_number_54 : decode cX6_number 54 = .ok (.iinc 2 1, 3) := dk_132 2 1 (dk_at dksX6_number_2 9 rfl rfl)
theorem dX6_number_57 : decode cX6_number 57 = .ok (.aload_n 0, 1) := dk_42 (dk_at dksX6_number_2 12 rfl rfl)
theorem dX6_number_58 : decode cX6_number 58 = .ok (.dup, 1) := dk_89 (dk_at dksX6_number_2 13 rfl rfl)
theorem dX6_number_59 : decode cX6_number 59 = .ok (.getfield 15, 3) := dk_180 0 15 (dk_at dksX6_number_2 14 rfl rfl)
theorem dX6_number_62 : decode cX6_number 62 = .ok (.iconst 1, 1) := dk_4 (dk_at dksX6_number_2 17 rfl rfl)
theorem dX6_number_63 : decode cX6_number 63 = .ok (.iadd, 1) := dk_96 (dk_at dksX6_number_2 18 rfl rfl)
theorem dX6_number_64 : decode cX6_number 64 = .ok (.putfield 15, 3) := dk_181 0 15 (dk_at dksX6_number_2 19 rfl rfl)
theorem dX6_number_67 : decode cX6_number 67 = .ok (.goto (-51), 3) := dk_167 255 205 (dk_at dksX6_number_3 0 rfl rfl)
theorem dX6_number_70 : decode cX6_number 70 = .ok (.aload_n 0, 1) := dk_42 (dk_at dksX6_number_3 3 rfl rfl)
theorem dX6_number_71 : decode cX6_number 71 = .ok (.aload_n 0, 1) := dk_42 (dk_at dksX6_number_3 4 rfl rfl)
theorem dX6_number_72 : decode cX6_number 72 = .ok (.bipush 48, 2) := dk_16 48 (dk_at dksX6_number_3 5 rfl rfl)
theorem dX6_number_74 : decode cX6_number 74 = .ok (.bipush 57, 2) := dk_16 57 (dk_at dksX6_number_3 7 rfl rfl)
theorem dX6_number_76 : decode cX6_number 76 = .ok (.invokevirtual 26, 3) := dk_182 0 26 (dk_at dksX6_number_3 9 rfl rfl)
theorem dX6_number_79 : decode cX6_number 79 = .ok (.ifCond .ne 7, 3) := dk_154 0 7 (dk_at dksX6_number_3 12 rfl rfl)
theorem dX6_number_82 : decode cX6_number 82 = .ok (.iconst 1, 1) := dk_4 (dk_at dksX6_number_3 15 rfl rfl)
theorem dX6_number_83 : decode cX6_number 83 = .ok (.goto 4, 3) := dk_167 0 4 (dk_at dksX6_number_3 16 rfl rfl)
theorem dX6_number_86 : decode cX6_number 86 = .ok (.iconst 0, 1) := dk_3 (dk_at dksX6_number_3 19 rfl rfl)
theorem dX6_number_87 : decode cX6_number 87 = .ok (.invokevirtual 35, 3) := dk_182 0 35 (dk_at dksX6_number_3 20 rfl rfl)
theorem dX6_number_90 : decode cX6_number 90 = .ok (.aload_n 0, 1) := dk_42 (dk_at dksX6_number_3 23 rfl rfl)
theorem dX6_number_91 : decode cX6_number 91 = .ok (.dup, 1) := dk_89 (dk_at dksX6_number_4 0 rfl rfl)
theorem dX6_number_92 : decode cX6_number 92 = .ok (.getfield 15, 3) := dk_180 0 15 (dk_at dksX6_number_4 1 rfl rfl)
theorem dX6_number_95 : decode cX6_number 95 = .ok (.iconst 1, 1) := dk_4 (dk_at dksX6_number_4 4 rfl rfl)
theorem dX6_number_96 : decode cX6_number 96 = .ok (.isub, 1) := dk_100 (dk_at dksX6_number_4 5 rfl rfl)
theorem dX6_number_97 : decode cX6_number 97 = .ok (.putfield 15, 3) := dk_181 0 15 (dk_at dksX6_number_4 6 rfl rfl)
theorem dX6_number_100 : decode cX6_number 100 = .ok (.aload_n 0, 1) := dk_42 (dk_at dksX6_number_4 9 rfl rfl)
theorem dX6_number_101 : decode cX6_number 101 = .ok (.invokevirtual 39, 3) := dk_182 0 39 (dk_at dksX6_number_4 10 rfl rfl)
theorem dX6_number_104 : decode cX6_number 104 = .ok (.iload_n 1, 1) := dk_27 (dk_at dksX6_number_4 13 rfl rfl)
theorem dX6_number_105 : decode cX6_number 105 = .ok (.ireturn, 1) := dk_172 (dk_at dksX6_number_4 14 rfl rfl)
abbrev cX6_lambda_one_0 : ByteArray := prog_11_method_17_code
def yX6_lambda_one_0 : MethodName := ⟨RX6, "lambda$one$0", "(I)I"⟩
def dkwX6_lambda_one_0_0 : List UInt8 := [42, 180, 0, 3, 3, 27, 182, 0, 109, 172]
abbrev dktX6_lambda_one_0_0 : List UInt8 := dkwX6_lambda_one_0_0 ++ []
theorem dksX6_lambda_one_0_0 : cX6_lambda_one_0.data.toList.drop 0 = dktX6_lambda_one_0_0 := by decide +kernel
theorem dX6_lambda_one_0_0 : decode cX6_lambda_one_0 0 = .ok (.aload_n 0, 1) := dk_42 (dk_at dksX6_lambda_one_0_0 0 rfl rfl)
theorem dX6_lambda_one_0_1 : decode cX6_lambda_one_0 1 = .ok (.getfield 3, 3) := dk_180 0 3 (dk_at dksX6_lambda_one_0_0 1 rfl rfl)
theorem dX6_lambda_one_0_4 : decode cX6_lambda_one_0 4 = .ok (.iconst 0, 1) := dk_3 (dk_at dksX6_lambda_one_0_0 4 rfl rfl)
theorem dX6_lambda_one_0_5 : decode cX6_lambda_one_0 5 = .ok (.iload_n 1, 1) := dk_27 (dk_at dksX6_lambda_one_0_0 5 rfl rfl)
theorem dX6_lambda_one_0_6 : decode cX6_lambda_one_0 6 = .ok (.invokevirtual 109, 3) := dk_182 0 109 (dk_at dksX6_lambda_one_0_0 6 rfl rfl)
theorem dX6_lambda_one_0_9 : decode cX6_lambda_one_0 9 = .ok (.ireturn, 1) := dk_172 (dk_at dksX6_lambda_one_0_0 9 rfl rfl)
abbrev cX6_lambda_one_1 : ByteArray := prog_11_method_16_code
def yX6_lambda_one_1 : MethodName := ⟨RX6, "lambda$one$1", "(I)I"⟩
def dkwX6_lambda_one_1_0 : List UInt8 := [42, 180, 0, 3, 4, 27, 182, 0, 109, 172]
abbrev dktX6_lambda_one_1_0 : List UInt8 := dkwX6_lambda_one_1_0 ++ []
theorem dksX6_lambda_one_1_0 : cX6_lambda_one_1.data.toList.drop 0 = dktX6_lambda_one_1_0 := by decide +kernel
theorem dX6_lambda_one_1_0 : decode cX6_lambda_one_1 0 = .ok (.aload_n 0, 1) := dk_42 (dk_at dksX6_lambda_one_1_0 0 rfl rfl)
theorem dX6_lambda_one_1_1 : decode cX6_lambda_one_1 1 = .ok (.getfield 3, 3) := dk_180 0 3 (dk_at dksX6_lambda_one_1_0 1 rfl rfl)
theorem dX6_lambda_one_1_4 : decode cX6_lambda_one_1 4 = .ok (.iconst 1, 1) := dk_4 (dk_at dksX6_lambda_one_1_0 4 rfl rfl)
theorem dX6_lambda_one_1_5 : decode cX6_lambda_one_1 5 = .ok (.iload_n 1, 1) := dk_27 (dk_at dksX6_lambda_one_1_0 5 rfl rfl)
theorem dX6_lambda_one_1_6 : decode cX6_lambda_one_1 6 = .ok (.invokevirtual 109, 3) := dk_182 0 109 (dk_at dksX6_lambda_one_1_0 6 rfl rfl)
theorem dX6_lambda_one_1_9 : decode cX6_lambda_one_1 9 = .ok (.ireturn, 1) := dk_172 (dk_at dksX6_lambda_one_1_0 9 rfl rfl)
abbrev cX6_lambda_one_2 : ByteArray := prog_11_method_15_code
def yX6_lambda_one_2 : MethodName := ⟨RX6, "lambda$one$2", "(I)I"⟩
def dkwX6_lambda_one_2_0 : List UInt8 := [42, 180, 0, 3, 27, 182, 0, 105, 172]
abbrev dktX6_lambda_one_2_0 : List UInt8 := dkwX6_lambda_one_2_0 ++ []
theorem dksX6_lambda_one_2_0 : cX6_lambda_one_2.data.toList.drop 0 = dktX6_lambda_one_2_0 := by decide +kernel
theorem dX6_lambda_one_2_0 : decode cX6_lambda_one_2 0 = .ok (.aload_n 0, 1) := dk_42 (dk_at dksX6_lambda_one_2_0 0 rfl rfl)
theorem dX6_lambda_one_2_1 : decode cX6_lambda_one_2 1 = .ok (.getfield 3, 3) := dk_180 0 3 (dk_at dksX6_lambda_one_2_0 1 rfl rfl)
theorem dX6_lambda_one_2_4 : decode cX6_lambda_one_2 4 = .ok (.iload_n 1, 1) := dk_27 (dk_at dksX6_lambda_one_2_0 4 rfl rfl)
theorem dX6_lambda_one_2_5 : decode cX6_lambda_one_2 5 = .ok (.invokevirtual 105, 3) := dk_182 0 105 (dk_at dksX6_lambda_one_2_0 5 rfl rfl)
theorem dX6_lambda_one_2_8 : decode cX6_lambda_one_2 8 = .ok (.ireturn, 1) := dk_172 (dk_at dksX6_lambda_one_2_0 8 rfl rfl)
abbrev cX6_more : ByteArray := prog_11_method_8_code
def yX6_more : MethodName := ⟨RX6, "more", "(I)LPictureRing$Deed;"⟩
def dkwX6_more_3 : List UInt8 := [182, 0, 42, 54, 5, 42, 28, 29, 21, 4, 21, 5, 186, 0, 62, 0, 0, 176]
abbrev dktX6_more_3 : List UInt8 := dkwX6_more_3 ++ []
def dkwX6_more_2 : List UInt8 := [42, 182, 0, 42, 54, 4, 27, 16, 99, 160, 0, 14, 42, 28, 29, 21, 4, 186, 0, 61, 0, 0, 176, 42]
abbrev dktX6_more_2 : List UInt8 := dkwX6_more_2 ++ dktX6_more_3
def dkwX6_more_1 : List UInt8 := [176, 27, 16, 115, 160, 0, 20, 42, 182, 0, 55, 54, 4, 42, 28, 29, 21, 4, 186, 0, 58, 0, 0, 176]
abbrev dktX6_more_1 : List UInt8 := dkwX6_more_1 ++ dktX6_more_2
def dkwX6_more_0 : List UInt8 := [42, 182, 0, 42, 61, 42, 182, 0, 42, 62, 27, 16, 119, 160, 0, 12, 42, 28, 29, 186, 0, 52, 0, 0]
abbrev dktX6_more_0 : List UInt8 := dkwX6_more_0 ++ dktX6_more_1
theorem dksX6_more_0 : cX6_more.data.toList.drop 0 = dktX6_more_0 := by decide +kernel
theorem dksX6_more_1 : cX6_more.data.toList.drop 24 = dktX6_more_1 := dk_seg dksX6_more_0 24 rfl rfl
theorem dksX6_more_2 : cX6_more.data.toList.drop 48 = dktX6_more_2 := dk_seg dksX6_more_1 24 rfl rfl
theorem dksX6_more_3 : cX6_more.data.toList.drop 72 = dktX6_more_3 := dk_seg dksX6_more_2 24 rfl rfl
theorem dX6_more_0 : decode cX6_more 0 = .ok (.aload_n 0, 1) := dk_42 (dk_at dksX6_more_0 0 rfl rfl)
theorem dX6_more_1 : decode cX6_more 1 = .ok (.invokevirtual 42, 3) := dk_182 0 42 (dk_at dksX6_more_0 1 rfl rfl)
theorem dX6_more_4 : decode cX6_more 4 = .ok (.istore_n 2, 1) := dk_61 (dk_at dksX6_more_0 4 rfl rfl)
theorem dX6_more_5 : decode cX6_more 5 = .ok (.aload_n 0, 1) := dk_42 (dk_at dksX6_more_0 5 rfl rfl)
theorem dX6_more_6 : decode cX6_more 6 = .ok (.invokevirtual 42, 3) := dk_182 0 42 (dk_at dksX6_more_0 6 rfl rfl)
theorem dX6_more_9 : decode cX6_more 9 = .ok (.istore_n 3, 1) := dk_62 (dk_at dksX6_more_0 9 rfl rfl)
theorem dX6_more_10 : decode cX6_more 10 = .ok (.iload_n 1, 1) := dk_27 (dk_at dksX6_more_0 10 rfl rfl)
theorem dX6_more_11 : decode cX6_more 11 = .ok (.bipush 119, 2) := dk_16 119 (dk_at dksX6_more_0 11 rfl rfl)
theorem dX6_more_13 : decode cX6_more 13 = .ok (.if_icmp .ne 12, 3) := dk_160 0 12 (dk_at dksX6_more_0 13 rfl rfl)
theorem dX6_more_16 : decode cX6_more 16 = .ok (.aload_n 0, 1) := dk_42 (dk_at dksX6_more_0 16 rfl rfl)
theorem dX6_more_17 : decode cX6_more 17 = .ok (.iload_n 2, 1) := dk_28 (dk_at dksX6_more_0 17 rfl rfl)
theorem dX6_more_18 : decode cX6_more 18 = .ok (.iload_n 3, 1) := dk_29 (dk_at dksX6_more_0 18 rfl rfl)
theorem dX6_more_19 : decode cX6_more 19 = .ok (.invokedynamic 52, 5) := by decide +kernel
theorem dX6_more_24 : decode cX6_more 24 = .ok (.areturn, 1) := dk_176 (dk_at dksX6_more_1 0 rfl rfl)
theorem dX6_more_25 : decode cX6_more 25 = .ok (.iload_n 1, 1) := dk_27 (dk_at dksX6_more_1 1 rfl rfl)
theorem dX6_more_26 : decode cX6_more 26 = .ok (.bipush 115, 2) := dk_16 115 (dk_at dksX6_more_1 2 rfl rfl)
theorem dX6_more_28 : decode cX6_more 28 = .ok (.if_icmp .ne 20, 3) := dk_160 0 20 (dk_at dksX6_more_1 4 rfl rfl)
theorem dX6_more_31 : decode cX6_more 31 = .ok (.aload_n 0, 1) := dk_42 (dk_at dksX6_more_1 7 rfl rfl)
theorem dX6_more_32 : decode cX6_more 32 = .ok (.invokevirtual 55, 3) := dk_182 0 55 (dk_at dksX6_more_1 8 rfl rfl)
theorem dX6_more_35 : decode cX6_more 35 = .ok (.istore 4, 2) := dk_54 4 (dk_at dksX6_more_1 11 rfl rfl)
theorem dX6_more_37 : decode cX6_more 37 = .ok (.aload_n 0, 1) := dk_42 (dk_at dksX6_more_1 13 rfl rfl)
theorem dX6_more_38 : decode cX6_more 38 = .ok (.iload_n 2, 1) := dk_28 (dk_at dksX6_more_1 14 rfl rfl)
theorem dX6_more_39 : decode cX6_more 39 = .ok (.iload_n 3, 1) := dk_29 (dk_at dksX6_more_1 15 rfl rfl)
theorem dX6_more_40 : decode cX6_more 40 = .ok (.iload 4, 2) := dk_21 4 (dk_at dksX6_more_1 16 rfl rfl)
theorem dX6_more_42 : decode cX6_more 42 = .ok (.invokedynamic 58, 5) := by decide +kernel
theorem dX6_more_47 : decode cX6_more 47 = .ok (.areturn, 1) := dk_176 (dk_at dksX6_more_1 23 rfl rfl)
theorem dX6_more_48 : decode cX6_more 48 = .ok (.aload_n 0, 1) := dk_42 (dk_at dksX6_more_2 0 rfl rfl)
theorem dX6_more_49 : decode cX6_more 49 = .ok (.invokevirtual 42, 3) := dk_182 0 42 (dk_at dksX6_more_2 1 rfl rfl)
theorem dX6_more_52 : decode cX6_more 52 = .ok (.istore 4, 2) := dk_54 4 (dk_at dksX6_more_2 4 rfl rfl)
theorem dX6_more_54 : decode cX6_more 54 = .ok (.iload_n 1, 1) := dk_27 (dk_at dksX6_more_2 6 rfl rfl)
theorem dX6_more_55 : decode cX6_more 55 = .ok (.bipush 99, 2) := dk_16 99 (dk_at dksX6_more_2 7 rfl rfl)
theorem dX6_more_57 : decode cX6_more 57 = .ok (.if_icmp .ne 14, 3) := dk_160 0 14 (dk_at dksX6_more_2 9 rfl rfl)
theorem dX6_more_60 : decode cX6_more 60 = .ok (.aload_n 0, 1) := dk_42 (dk_at dksX6_more_2 12 rfl rfl)
theorem dX6_more_61 : decode cX6_more 61 = .ok (.iload_n 2, 1) := dk_28 (dk_at dksX6_more_2 13 rfl rfl)
theorem dX6_more_62 : decode cX6_more 62 = .ok (.iload_n 3, 1) := dk_29 (dk_at dksX6_more_2 14 rfl rfl)
theorem dX6_more_63 : decode cX6_more 63 = .ok (.iload 4, 2) := dk_21 4 (dk_at dksX6_more_2 15 rfl rfl)
theorem dX6_more_65 : decode cX6_more 65 = .ok (.invokedynamic 61, 5) := by decide +kernel
theorem dX6_more_70 : decode cX6_more 70 = .ok (.areturn, 1) := dk_176 (dk_at dksX6_more_2 22 rfl rfl)
theorem dX6_more_71 : decode cX6_more 71 = .ok (.aload_n 0, 1) := dk_42 (dk_at dksX6_more_2 23 rfl rfl)
theorem dX6_more_72 : decode cX6_more 72 = .ok (.invokevirtual 42, 3) := dk_182 0 42 (dk_at dksX6_more_3 0 rfl rfl)
theorem dX6_more_75 : decode cX6_more 75 = .ok (.istore 5, 2) := dk_54 5 (dk_at dksX6_more_3 3 rfl rfl)
theorem dX6_more_77 : decode cX6_more 77 = .ok (.aload_n 0, 1) := dk_42 (dk_at dksX6_more_3 5 rfl rfl)
theorem dX6_more_78 : decode cX6_more 78 = .ok (.iload_n 2, 1) := dk_28 (dk_at dksX6_more_3 6 rfl rfl)
theorem dX6_more_79 : decode cX6_more 79 = .ok (.iload_n 3, 1) := dk_29 (dk_at dksX6_more_3 7 rfl rfl)
theorem dX6_more_80 : decode cX6_more 80 = .ok (.iload 4, 2) := dk_21 4 (dk_at dksX6_more_3 8 rfl rfl)
theorem dX6_more_82 : decode cX6_more 82 = .ok (.iload 5, 2) := dk_21 5 (dk_at dksX6_more_3 10 rfl rfl)
theorem dX6_more_84 : decode cX6_more 84 = .ok (.invokedynamic 62, 5) := by decide +kernel
theorem dX6_more_89 : decode cX6_more 89 = .ok (.areturn, 1) := dk_176 (dk_at dksX6_more_3 17 rfl rfl)
abbrev cX6_lambda_more_3 : ByteArray := prog_11_method_14_code
def yX6_lambda_more_3 : MethodName := ⟨RX6, "lambda$more$3", "(II)I"⟩
def dkwX6_lambda_more_3_0 : List UInt8 := [42, 180, 0, 3, 27, 28, 182, 0, 101, 172]
abbrev dktX6_lambda_more_3_0 : List UInt8 := dkwX6_lambda_more_3_0 ++ []
theorem dksX6_lambda_more_3_0 : cX6_lambda_more_3.data.toList.drop 0 = dktX6_lambda_more_3_0 := by decide +kernel
theorem dX6_lambda_more_3_0 : decode cX6_lambda_more_3 0 = .ok (.aload_n 0, 1) := dk_42 (dk_at dksX6_lambda_more_3_0 0 rfl rfl)
theorem dX6_lambda_more_3_1 : decode cX6_lambda_more_3 1 = .ok (.getfield 3, 3) := dk_180 0 3 (dk_at dksX6_lambda_more_3_0 1 rfl rfl)
theorem dX6_lambda_more_3_4 : decode cX6_lambda_more_3 4 = .ok (.iload_n 1, 1) := dk_27 (dk_at dksX6_lambda_more_3_0 4 rfl rfl)
theorem dX6_lambda_more_3_5 : decode cX6_lambda_more_3 5 = .ok (.iload_n 2, 1) := dk_28 (dk_at dksX6_lambda_more_3_0 5 rfl rfl)
theorem dX6_lambda_more_3_6 : decode cX6_lambda_more_3 6 = .ok (.invokevirtual 101, 3) := dk_182 0 101 (dk_at dksX6_lambda_more_3_0 6 rfl rfl)
theorem dX6_lambda_more_3_9 : decode cX6_lambda_more_3 9 = .ok (.ireturn, 1) := dk_172 (dk_at dksX6_lambda_more_3_0 9 rfl rfl)
abbrev cX6_signed : ByteArray := prog_11_method_6_code
def yX6_signed : MethodName := ⟨RX6, "signed", "()I"⟩
def dkwX6_signed_1 : List UInt8 := [181, 0, 15, 42, 182, 0, 42, 61, 27, 153, 0, 8, 28, 116, 167, 0, 4, 28, 172]
abbrev dktX6_signed_1 : List UInt8 := dkwX6_signed_1 ++ []
def dkwX6_signed_0 : List UInt8 := [42, 16, 45, 16, 45, 182, 0, 26, 60, 42, 89, 180, 0, 15, 27, 153, 0, 7, 4, 167, 0, 4, 3, 96]
abbrev dktX6_signed_0 : List UInt8 := dkwX6_signed_0 ++ dktX6_signed_1
theorem dksX6_signed_0 : cX6_signed.data.toList.drop 0 = dktX6_signed_0 := by decide +kernel
theorem dksX6_signed_1 : cX6_signed.data.toList.drop 24 = dktX6_signed_1 := dk_seg dksX6_signed_0 24 rfl rfl
theorem dX6_signed_0 : decode cX6_signed 0 = .ok (.aload_n 0, 1) := dk_42 (dk_at dksX6_signed_0 0 rfl rfl)
theorem dX6_signed_1 : decode cX6_signed 1 = .ok (.bipush 45, 2) := dk_16 45 (dk_at dksX6_signed_0 1 rfl rfl)
theorem dX6_signed_3 : decode cX6_signed 3 = .ok (.bipush 45, 2) := dk_16 45 (dk_at dksX6_signed_0 3 rfl rfl)
theorem dX6_signed_5 : decode cX6_signed 5 = .ok (.invokevirtual 26, 3) := dk_182 0 26 (dk_at dksX6_signed_0 5 rfl rfl)
theorem dX6_signed_8 : decode cX6_signed 8 = .ok (.istore_n 1, 1) := dk_60 (dk_at dksX6_signed_0 8 rfl rfl)
theorem dX6_signed_9 : decode cX6_signed 9 = .ok (.aload_n 0, 1) := dk_42 (dk_at dksX6_signed_0 9 rfl rfl)
theorem dX6_signed_10 : decode cX6_signed 10 = .ok (.dup, 1) := dk_89 (dk_at dksX6_signed_0 10 rfl rfl)
theorem dX6_signed_11 : decode cX6_signed 11 = .ok (.getfield 15, 3) := dk_180 0 15 (dk_at dksX6_signed_0 11 rfl rfl)
theorem dX6_signed_14 : decode cX6_signed 14 = .ok (.iload_n 1, 1) := dk_27 (dk_at dksX6_signed_0 14 rfl rfl)
theorem dX6_signed_15 : decode cX6_signed 15 = .ok (.ifCond .eq 7, 3) := dk_153 0 7 (dk_at dksX6_signed_0 15 rfl rfl)
theorem dX6_signed_18 : decode cX6_signed 18 = .ok (.iconst 1, 1) := dk_4 (dk_at dksX6_signed_0 18 rfl rfl)
theorem dX6_signed_19 : decode cX6_signed 19 = .ok (.goto 4, 3) := dk_167 0 4 (dk_at dksX6_signed_0 19 rfl rfl)
theorem dX6_signed_22 : decode cX6_signed 22 = .ok (.iconst 0, 1) := dk_3 (dk_at dksX6_signed_0 22 rfl rfl)
theorem dX6_signed_23 : decode cX6_signed 23 = .ok (.iadd, 1) := dk_96 (dk_at dksX6_signed_0 23 rfl rfl)
theorem dX6_signed_24 : decode cX6_signed 24 = .ok (.putfield 15, 3) := dk_181 0 15 (dk_at dksX6_signed_1 0 rfl rfl)
theorem dX6_signed_27 : decode cX6_signed 27 = .ok (.aload_n 0, 1) := dk_42 (dk_at dksX6_signed_1 3 rfl rfl)
theorem dX6_signed_28 : decode cX6_signed 28 = .ok (.invokevirtual 42, 3) := dk_182 0 42 (dk_at dksX6_signed_1 4 rfl rfl)
theorem dX6_signed_31 : decode cX6_signed 31 = .ok (.istore_n 2, 1) := dk_61 (dk_at dksX6_signed_1 7 rfl rfl)
theorem dX6_signed_32 : decode cX6_signed 32 = .ok (.iload_n 1, 1) := dk_27 (dk_at dksX6_signed_1 8 rfl rfl)
theorem dX6_signed_33 : decode cX6_signed 33 = .ok (.ifCond .eq 8, 3) := dk_153 0 8 (dk_at dksX6_signed_1 9 rfl rfl)
theorem dX6_signed_36 : decode cX6_signed 36 = .ok (.iload_n 2, 1) := dk_28 (dk_at dksX6_signed_1 12 rfl rfl)
theorem dX6_signed_37 : decode cX6_signed 37 = .ok (.ineg, 1) := dk_116 (dk_at dksX6_signed_1 13 rfl rfl)
theorem dX6_signed_38 : decode cX6_signed 38 = .ok (.goto 4, 3) := dk_167 0 4 (dk_at dksX6_signed_1 14 rfl rfl)
theorem dX6_signed_41 : decode cX6_signed 41 = .ok (.iload_n 2, 1) := dk_28 (dk_at dksX6_signed_1 17 rfl rfl)
theorem dX6_signed_42 : decode cX6_signed 42 = .ok (.ireturn, 1) := dk_172 (dk_at dksX6_signed_1 18 rfl rfl)
abbrev cX6_lambda_more_4 : ByteArray := prog_11_method_13_code
def yX6_lambda_more_4 : MethodName := ⟨RX6, "lambda$more$4", "(III)I"⟩
def dkwX6_lambda_more_4_0 : List UInt8 := [42, 180, 0, 3, 27, 28, 29, 182, 0, 98, 172]
abbrev dktX6_lambda_more_4_0 : List UInt8 := dkwX6_lambda_more_4_0 ++ []
theorem dksX6_lambda_more_4_0 : cX6_lambda_more_4.data.toList.drop 0 = dktX6_lambda_more_4_0 := by decide +kernel
theorem dX6_lambda_more_4_0 : decode cX6_lambda_more_4 0 = .ok (.aload_n 0, 1) := dk_42 (dk_at dksX6_lambda_more_4_0 0 rfl rfl)
theorem dX6_lambda_more_4_1 : decode cX6_lambda_more_4 1 = .ok (.getfield 3, 3) := dk_180 0 3 (dk_at dksX6_lambda_more_4_0 1 rfl rfl)
theorem dX6_lambda_more_4_4 : decode cX6_lambda_more_4 4 = .ok (.iload_n 1, 1) := dk_27 (dk_at dksX6_lambda_more_4_0 4 rfl rfl)
theorem dX6_lambda_more_4_5 : decode cX6_lambda_more_4 5 = .ok (.iload_n 2, 1) := dk_28 (dk_at dksX6_lambda_more_4_0 5 rfl rfl)
theorem dX6_lambda_more_4_6 : decode cX6_lambda_more_4 6 = .ok (.iload_n 3, 1) := dk_29 (dk_at dksX6_lambda_more_4_0 6 rfl rfl)
theorem dX6_lambda_more_4_7 : decode cX6_lambda_more_4 7 = .ok (.invokevirtual 98, 3) := dk_182 0 98 (dk_at dksX6_lambda_more_4_0 7 rfl rfl)
theorem dX6_lambda_more_4_10 : decode cX6_lambda_more_4 10 = .ok (.ireturn, 1) := dk_172 (dk_at dksX6_lambda_more_4_0 10 rfl rfl)
abbrev cX6_lambda_more_5 : ByteArray := prog_11_method_12_code
def yX6_lambda_more_5 : MethodName := ⟨RX6, "lambda$more$5", "(III)I"⟩
def dkwX6_lambda_more_5_0 : List UInt8 := [42, 180, 0, 3, 27, 28, 29, 182, 0, 94, 172]
abbrev dktX6_lambda_more_5_0 : List UInt8 := dkwX6_lambda_more_5_0 ++ []
theorem dksX6_lambda_more_5_0 : cX6_lambda_more_5.data.toList.drop 0 = dktX6_lambda_more_5_0 := by decide +kernel
theorem dX6_lambda_more_5_0 : decode cX6_lambda_more_5 0 = .ok (.aload_n 0, 1) := dk_42 (dk_at dksX6_lambda_more_5_0 0 rfl rfl)
theorem dX6_lambda_more_5_1 : decode cX6_lambda_more_5 1 = .ok (.getfield 3, 3) := dk_180 0 3 (dk_at dksX6_lambda_more_5_0 1 rfl rfl)
theorem dX6_lambda_more_5_4 : decode cX6_lambda_more_5 4 = .ok (.iload_n 1, 1) := dk_27 (dk_at dksX6_lambda_more_5_0 4 rfl rfl)
theorem dX6_lambda_more_5_5 : decode cX6_lambda_more_5 5 = .ok (.iload_n 2, 1) := dk_28 (dk_at dksX6_lambda_more_5_0 5 rfl rfl)
theorem dX6_lambda_more_5_6 : decode cX6_lambda_more_5 6 = .ok (.iload_n 3, 1) := dk_29 (dk_at dksX6_lambda_more_5_0 6 rfl rfl)
theorem dX6_lambda_more_5_7 : decode cX6_lambda_more_5 7 = .ok (.invokevirtual 94, 3) := dk_182 0 94 (dk_at dksX6_lambda_more_5_0 7 rfl rfl)
theorem dX6_lambda_more_5_10 : decode cX6_lambda_more_5 10 = .ok (.ireturn, 1) := dk_172 (dk_at dksX6_lambda_more_5_0 10 rfl rfl)
abbrev cX6_lambda_more_6 : ByteArray := prog_11_method_11_code
def yX6_lambda_more_6 : MethodName := ⟨RX6, "lambda$more$6", "(IIII)I"⟩
def dkwX6_lambda_more_6_0 : List UInt8 := [42, 180, 0, 3, 27, 28, 29, 21, 4, 182, 0, 90, 172]
abbrev dktX6_lambda_more_6_0 : List UInt8 := dkwX6_lambda_more_6_0 ++ []
theorem dksX6_lambda_more_6_0 : cX6_lambda_more_6.data.toList.drop 0 = dktX6_lambda_more_6_0 := by decide +kernel
theorem dX6_lambda_more_6_0 : decode cX6_lambda_more_6 0 = .ok (.aload_n 0, 1) := dk_42 (dk_at dksX6_lambda_more_6_0 0 rfl rfl)
theorem dX6_lambda_more_6_1 : decode cX6_lambda_more_6 1 = .ok (.getfield 3, 3) := dk_180 0 3 (dk_at dksX6_lambda_more_6_0 1 rfl rfl)
theorem dX6_lambda_more_6_4 : decode cX6_lambda_more_6 4 = .ok (.iload_n 1, 1) := dk_27 (dk_at dksX6_lambda_more_6_0 4 rfl rfl)
theorem dX6_lambda_more_6_5 : decode cX6_lambda_more_6 5 = .ok (.iload_n 2, 1) := dk_28 (dk_at dksX6_lambda_more_6_0 5 rfl rfl)
theorem dX6_lambda_more_6_6 : decode cX6_lambda_more_6 6 = .ok (.iload_n 3, 1) := dk_29 (dk_at dksX6_lambda_more_6_0 6 rfl rfl)
theorem dX6_lambda_more_6_7 : decode cX6_lambda_more_6 7 = .ok (.iload 4, 2) := dk_21 4 (dk_at dksX6_lambda_more_6_0 7 rfl rfl)
theorem dX6_lambda_more_6_9 : decode cX6_lambda_more_6 9 = .ok (.invokevirtual 90, 3) := dk_182 0 90 (dk_at dksX6_lambda_more_6_0 9 rfl rfl)
theorem dX6_lambda_more_6_12 : decode cX6_lambda_more_6 12 = .ok (.ireturn, 1) := dk_172 (dk_at dksX6_lambda_more_6_0 12 rfl rfl)
theorem q123 : (Jvm.Cond.initialized "PictureRing$Reade\x72") ∈ lw_all := lw_g (lw_at lw_m1 15 rfl) rfl
theorem q403 : (Jvm.Cond.instantiable "PictureRing$Reade\x72" (2 : Nat)) ∈ lw_all := lw_g (lw_at lw_m2 55 rfl) rfl
theorem q405 : (Jvm.Cond.instanceMethod ({ cls := "PictureRing$Reade\x72", name := "<init>", desc := "(LPictureRing;)V" } : Jvm.MethodName)) ∈ lw_all := lw_g (lw_at lw_m2 57 rfl) rfl
theorem q406 : (Jvm.Cond.code ({ cls := "PictureRing$Reade\x72", name := "<init>", desc := "(LPictureRing;)V" } : Jvm.MethodName) prog_11_method_1_code (2 : Nat) (Option.none : Option Jvm.ClassFile.FieldType)) ∈ lw_all := lw_g (lw_at lw_m2 58 rfl) rfl
theorem q407 : (Jvm.Cond.methodLink "PictureRing$Reade\x72" (9 : Nat) ({ cls := "java/lang/Object", name := "<init>", desc := "()V" } : Jvm.MethodName)) ∈ lw_all := lw_g (lw_at lw_m2 59 rfl) rfl
theorem q408 : (Jvm.Cond.fieldLink "PictureRing$Reade\x72" (15 : Nat) "PictureRing$Reade\x72" "at" "I") ∈ lw_all := lw_g (lw_at lw_m2 60 rfl) rfl
theorem q409 : (Jvm.Cond.fieldLink "PictureRing$Reade\x72" (3 : Nat) "PictureRing$Reade\x72" "this$0" "LPictureRing;") ∈ lw_all := lw_g (lw_at lw_m2 61 rfl) rfl
theorem q410 : (Jvm.Cond.lays "PictureRing$Reade\x72" "PictureRing$Reade\x72" "at" "I") ∈ lw_all := lw_g (lw_at lw_m2 62 rfl) rfl
theorem q411 : (Jvm.Cond.soleField "PictureRing$Reade\x72" "at") ∈ lw_all := lw_g (lw_at lw_m2 63 rfl) rfl
theorem q412 : (Jvm.Cond.laysFinal "PictureRing$Reade\x72" "PictureRing$Reade\x72" "this$0" "LPictureRing;") ∈ lw_all := lw_g (lw_at lw_m2 64 rfl) rfl
theorem q413 : (Jvm.Cond.soleField "PictureRing$Reade\x72" "this$0") ∈ lw_all := lw_g (lw_at lw_m2 65 rfl) rfl
theorem q414 : (Jvm.Cond.superclass "PictureRing$Reade\x72" "java/lang/Object") ∈ lw_all := lw_g (lw_at lw_m2 66 rfl) rfl
theorem q426 : (Jvm.Cond.fieldLinkNest "PictureRing$Reade\x72" (22 : Nat) "PictureRing" "text" "[B" "PictureRing") ∈ lw_tbl := lw_at lw_m2 78 rfl
theorem q428 : (Jvm.Cond.fieldLinkNest "PictureRing$Reade\x72" (19 : Nat) "PictureRing" "typed" "I" "PictureRing") ∈ lw_tbl := lw_at lw_m2 80 rfl
theorem q1184 : (Jvm.Cond.selects "PictureRing$Reade\x72" ({ cls := "java/lang/Object", name := "getClass", desc := "()Ljava/lang/Class;" } : Jvm.MethodName) ({ cls := "java/lang/Object", name := "getClass", desc := "()Ljava/lang/Class;" } : Jvm.MethodName)) ∈ lw_all := lw_g (lw_at lw_m5 116 rfl) rfl
theorem q1451 : (Jvm.Cond.instanceMethod ({ cls := "PictureRing$Reade\x72", name := "reads", desc := "(Z)I" } : Jvm.MethodName)) ∈ lw_all := lw_g (lw_at lw_m6 143 rfl) rfl
theorem q1452 : (Jvm.Cond.selects "PictureRing$Reade\x72" ({ cls := "PictureRing$Reade\x72", name := "reads", desc := "(Z)I" } : Jvm.MethodName) ({ cls := "PictureRing$Reade\x72", name := "reads", desc := "(Z)I" } : Jvm.MethodName)) ∈ lw_all := lw_g (lw_at lw_m6 144 rfl) rfl
theorem q1453 : (Jvm.Cond.codeWith ({ cls := "PictureRing$Reade\x72", name := "reads", desc := "(Z)I" } : Jvm.MethodName) prog_11_method_10_code (5 : Nat) (Option.some Jvm.ClassFile.FieldType.int) [((69 : Nat), (86 : Nat), (89 : Nat), (83 : Nat))]) ∈ lw_all := lw_g (lw_at lw_m6 145 rfl) rfl
theorem q1454 : (Jvm.Cond.classLink "PictureRing$Reade\x72" (83 : Nat) "PictureRing$Refused") ∈ lw_all := lw_g (lw_at lw_m6 146 rfl) rfl
theorem q1455 : (Jvm.Cond.methodLink "PictureRing$Reade\x72" (39 : Nat) ({ cls := "PictureRing$Reade\x72", name := "next", desc := "()V" } : Jvm.MethodName)) ∈ lw_all := lw_g (lw_at lw_m6 147 rfl) rfl
theorem q1456 : (Jvm.Cond.privateMethod ({ cls := "PictureRing$Reade\x72", name := "next", desc := "()V" } : Jvm.MethodName)) ∈ lw_tbl := lw_at lw_m6 148 rfl
theorem q1457 : (Jvm.Cond.instanceMethod ({ cls := "PictureRing$Reade\x72", name := "next", desc := "()V" } : Jvm.MethodName)) ∈ lw_all := lw_g (lw_at lw_m6 149 rfl) rfl
theorem q1458 : (Jvm.Cond.code ({ cls := "PictureRing$Reade\x72", name := "next", desc := "()V" } : Jvm.MethodName) prog_11_method_3_code (1 : Nat) (Option.none : Option Jvm.ClassFile.FieldType)) ∈ lw_all := lw_g (lw_at lw_m6 150 rfl) rfl
theorem q1459 : (Jvm.Cond.methodLink "PictureRing$Reade\x72" (26 : Nat) ({ cls := "PictureRing$Reade\x72", name := "isAt", desc := "(CC)Z" } : Jvm.MethodName)) ∈ lw_all := lw_g (lw_at lw_m6 151 rfl) rfl
theorem q1460 : (Jvm.Cond.privateMethod ({ cls := "PictureRing$Reade\x72", name := "isAt", desc := "(CC)Z" } : Jvm.MethodName)) ∈ lw_tbl := lw_at lw_m6 152 rfl
theorem q1461 : (Jvm.Cond.instanceMethod ({ cls := "PictureRing$Reade\x72", name := "isAt", desc := "(CC)Z" } : Jvm.MethodName)) ∈ lw_all := lw_g (lw_at lw_m6 153 rfl) rfl
theorem q1462 : (Jvm.Cond.code ({ cls := "PictureRing$Reade\x72", name := "isAt", desc := "(CC)Z" } : Jvm.MethodName) prog_11_method_2_code (3 : Nat) (Option.some Jvm.ClassFile.FieldType.boolean)) ∈ lw_all := lw_g (lw_at lw_m6 154 rfl) rfl
theorem q1463 : (Jvm.Cond.methodLink "PictureRing$Reade\x72" (35 : Nat) ({ cls := "PictureRing$Reade\x72", name := "needs", desc := "(Z)V" } : Jvm.MethodName)) ∈ lw_all := lw_g (lw_at lw_m6 155 rfl) rfl
theorem q1464 : (Jvm.Cond.privateMethod ({ cls := "PictureRing$Reade\x72", name := "needs", desc := "(Z)V" } : Jvm.MethodName)) ∈ lw_tbl := lw_at lw_m6 156 rfl
theorem q1465 : (Jvm.Cond.instanceMethod ({ cls := "PictureRing$Reade\x72", name := "needs", desc := "(Z)V" } : Jvm.MethodName)) ∈ lw_all := lw_g (lw_at lw_m6 157 rfl) rfl
theorem q1466 : (Jvm.Cond.code ({ cls := "PictureRing$Reade\x72", name := "needs", desc := "(Z)V" } : Jvm.MethodName) prog_11_method_4_code (2 : Nat) (Option.none : Option Jvm.ClassFile.FieldType)) ∈ lw_all := lw_g (lw_at lw_m6 158 rfl) rfl
theorem q1467 : (Jvm.Cond.classLink "PictureRing$Reade\x72" (30 : Nat) "PictureRing$Fault") ∈ lw_all := lw_g (lw_at lw_m6 159 rfl) rfl
theorem q1476 : (Jvm.Cond.methodLink "PictureRing$Reade\x72" (32 : Nat) ({ cls := "PictureRing$Fault", name := "<init>", desc := "(I)V" } : Jvm.MethodName)) ∈ lw_all := lw_g (lw_at lw_m6 168 rfl) rfl
theorem q1491 : (Jvm.Cond.methodLink "PictureRing$Reade\x72" (72 : Nat) ({ cls := "PictureRing$Reade\x72", name := "orde\x72", desc := "()LPictureRing$Deed;" } : Jvm.MethodName)) ∈ lw_all := lw_g (lw_at lw_m6 183 rfl) rfl
theorem q1492 : (Jvm.Cond.privateMethod ({ cls := "PictureRing$Reade\x72", name := "orde\x72", desc := "()LPictureRing$Deed;" } : Jvm.MethodName)) ∈ lw_tbl := lw_at lw_m6 184 rfl
theorem q1493 : (Jvm.Cond.instanceMethod ({ cls := "PictureRing$Reade\x72", name := "orde\x72", desc := "()LPictureRing$Deed;" } : Jvm.MethodName)) ∈ lw_all := lw_g (lw_at lw_m6 185 rfl) rfl
theorem q1494 : (Jvm.Cond.code ({ cls := "PictureRing$Reade\x72", name := "orde\x72", desc := "()LPictureRing$Deed;" } : Jvm.MethodName) prog_11_method_9_code (3 : Nat) (Option.some (Jvm.ClassFile.FieldType.object "PictureRing$Deed"))) ∈ lw_all := lw_g (lw_at lw_m6 186 rfl) rfl
theorem q1495 : (Jvm.Cond.methodLink "PictureRing$Reade\x72" (65 : Nat) ({ cls := "PictureRing$Reade\x72", name := "one", desc := "(I)LPictureRing$Deed;" } : Jvm.MethodName)) ∈ lw_all := lw_g (lw_at lw_m6 187 rfl) rfl
theorem q1496 : (Jvm.Cond.privateMethod ({ cls := "PictureRing$Reade\x72", name := "one", desc := "(I)LPictureRing$Deed;" } : Jvm.MethodName)) ∈ lw_tbl := lw_at lw_m6 188 rfl
theorem q1497 : (Jvm.Cond.instanceMethod ({ cls := "PictureRing$Reade\x72", name := "one", desc := "(I)LPictureRing$Deed;" } : Jvm.MethodName)) ∈ lw_all := lw_g (lw_at lw_m6 189 rfl) rfl
theorem q1498 : (Jvm.Cond.code ({ cls := "PictureRing$Reade\x72", name := "one", desc := "(I)LPictureRing$Deed;" } : Jvm.MethodName) prog_11_method_7_code (3 : Nat) (Option.some (Jvm.ClassFile.FieldType.object "PictureRing$Deed"))) ∈ lw_all := lw_g (lw_at lw_m6 190 rfl) rfl
theorem q1499 : (Jvm.Cond.methodLink "PictureRing$Reade\x72" (42 : Nat) ({ cls := "PictureRing$Reade\x72", name := "numbe\x72", desc := "()I" } : Jvm.MethodName)) ∈ lw_all := lw_g (lw_at lw_m6 191 rfl) rfl
theorem q1500 : (Jvm.Cond.privateMethod ({ cls := "PictureRing$Reade\x72", name := "numbe\x72", desc := "()I" } : Jvm.MethodName)) ∈ lw_tbl := lw_at lw_m6 192 rfl
theorem q1501 : (Jvm.Cond.instanceMethod ({ cls := "PictureRing$Reade\x72", name := "numbe\x72", desc := "()I" } : Jvm.MethodName)) ∈ lw_all := lw_g (lw_at lw_m6 193 rfl) rfl
theorem q1502 : (Jvm.Cond.code ({ cls := "PictureRing$Reade\x72", name := "numbe\x72", desc := "()I" } : Jvm.MethodName) prog_11_method_5_code (3 : Nat) (Option.some Jvm.ClassFile.FieldType.int)) ∈ lw_all := lw_g (lw_at lw_m6 194 rfl) rfl
theorem q1503 : (Jvm.Cond.privateMethod ({ cls := "PictureRing$Reade\x72", name := "lambda$one$0", desc := "(I)I" } : Jvm.MethodName)) ∈ lw_tbl := lw_at lw_m6 195 rfl
theorem q1504 : (Jvm.Cond.instanceMethod ({ cls := "PictureRing$Reade\x72", name := "lambda$one$0", desc := "(I)I" } : Jvm.MethodName)) ∈ lw_all := lw_g (lw_at lw_m6 196 rfl) rfl
theorem q1505 : (Jvm.Cond.code ({ cls := "PictureRing$Reade\x72", name := "lambda$one$0", desc := "(I)I" } : Jvm.MethodName) prog_11_method_17_code (2 : Nat) (Option.some Jvm.ClassFile.FieldType.int)) ∈ lw_all := lw_g (lw_at lw_m6 197 rfl) rfl
theorem q1506 : (Jvm.Cond.methodLinkNest "PictureRing$Reade\x72" (109 : Nat) ({ cls := "PictureRing", name := "setsTo", desc := "(II)I" } : Jvm.MethodName) "PictureRing") ∈ lw_tbl := lw_at lw_m6 198 rfl
theorem q1507 : (Jvm.Cond.privateMethod ({ cls := "PictureRing$Reade\x72", name := "lambda$one$1", desc := "(I)I" } : Jvm.MethodName)) ∈ lw_tbl := lw_at lw_m6 199 rfl
theorem q1508 : (Jvm.Cond.instanceMethod ({ cls := "PictureRing$Reade\x72", name := "lambda$one$1", desc := "(I)I" } : Jvm.MethodName)) ∈ lw_all := lw_g (lw_at lw_m6 200 rfl) rfl
theorem q1509 : (Jvm.Cond.code ({ cls := "PictureRing$Reade\x72", name := "lambda$one$1", desc := "(I)I" } : Jvm.MethodName) prog_11_method_16_code (2 : Nat) (Option.some Jvm.ClassFile.FieldType.int)) ∈ lw_all := lw_g (lw_at lw_m6 201 rfl) rfl
theorem q1510 : (Jvm.Cond.privateMethod ({ cls := "PictureRing$Reade\x72", name := "lambda$one$2", desc := "(I)I" } : Jvm.MethodName)) ∈ lw_tbl := lw_at lw_m6 202 rfl
theorem q1511 : (Jvm.Cond.instanceMethod ({ cls := "PictureRing$Reade\x72", name := "lambda$one$2", desc := "(I)I" } : Jvm.MethodName)) ∈ lw_all := lw_g (lw_at lw_m6 203 rfl) rfl
theorem q1512 : (Jvm.Cond.code ({ cls := "PictureRing$Reade\x72", name := "lambda$one$2", desc := "(I)I" } : Jvm.MethodName) prog_11_method_15_code (2 : Nat) (Option.some Jvm.ClassFile.FieldType.int)) ∈ lw_all := lw_g (lw_at lw_m6 204 rfl) rfl
theorem q1513 : (Jvm.Cond.methodLinkNest "PictureRing$Reade\x72" (105 : Nat) ({ cls := "PictureRing", name := "dropsTo", desc := "(I)I" } : Jvm.MethodName) "PictureRing") ∈ lw_tbl := lw_at lw_m6 205 rfl
theorem q1514 : (Jvm.Cond.methodLink "PictureRing$Reade\x72" (69 : Nat) ({ cls := "PictureRing$Reade\x72", name := "more", desc := "(I)LPictureRing$Deed;" } : Jvm.MethodName)) ∈ lw_all := lw_g (lw_at lw_m6 206 rfl) rfl
theorem q1515 : (Jvm.Cond.privateMethod ({ cls := "PictureRing$Reade\x72", name := "more", desc := "(I)LPictureRing$Deed;" } : Jvm.MethodName)) ∈ lw_tbl := lw_at lw_m6 207 rfl
theorem q1516 : (Jvm.Cond.instanceMethod ({ cls := "PictureRing$Reade\x72", name := "more", desc := "(I)LPictureRing$Deed;" } : Jvm.MethodName)) ∈ lw_all := lw_g (lw_at lw_m6 208 rfl) rfl
theorem q1517 : (Jvm.Cond.code ({ cls := "PictureRing$Reade\x72", name := "more", desc := "(I)LPictureRing$Deed;" } : Jvm.MethodName) prog_11_method_8_code (6 : Nat) (Option.some (Jvm.ClassFile.FieldType.object "PictureRing$Deed"))) ∈ lw_all := lw_g (lw_at lw_m6 209 rfl) rfl
theorem q1518 : (Jvm.Cond.privateMethod ({ cls := "PictureRing$Reade\x72", name := "lambda$more$3", desc := "(II)I" } : Jvm.MethodName)) ∈ lw_tbl := lw_at lw_m6 210 rfl
theorem q1519 : (Jvm.Cond.instanceMethod ({ cls := "PictureRing$Reade\x72", name := "lambda$more$3", desc := "(II)I" } : Jvm.MethodName)) ∈ lw_all := lw_g (lw_at lw_m6 211 rfl) rfl
theorem q1520 : (Jvm.Cond.code ({ cls := "PictureRing$Reade\x72", name := "lambda$more$3", desc := "(II)I" } : Jvm.MethodName) prog_11_method_14_code (3 : Nat) (Option.some Jvm.ClassFile.FieldType.int)) ∈ lw_all := lw_g (lw_at lw_m6 212 rfl) rfl
theorem q1521 : (Jvm.Cond.methodLinkNest "PictureRing$Reade\x72" (101 : Nat) ({ cls := "PictureRing", name := "worldTo", desc := "(II)I" } : Jvm.MethodName) "PictureRing") ∈ lw_tbl := lw_at lw_m6 213 rfl
theorem q1522 : (Jvm.Cond.methodLink "PictureRing$Reade\x72" (55 : Nat) ({ cls := "PictureRing$Reade\x72", name := "signed", desc := "()I" } : Jvm.MethodName)) ∈ lw_all := lw_g (lw_at lw_m6 214 rfl) rfl
theorem q1523 : (Jvm.Cond.privateMethod ({ cls := "PictureRing$Reade\x72", name := "signed", desc := "()I" } : Jvm.MethodName)) ∈ lw_tbl := lw_at lw_m6 215 rfl
theorem q1524 : (Jvm.Cond.instanceMethod ({ cls := "PictureRing$Reade\x72", name := "signed", desc := "()I" } : Jvm.MethodName)) ∈ lw_all := lw_g (lw_at lw_m6 216 rfl) rfl
theorem q1525 : (Jvm.Cond.code ({ cls := "PictureRing$Reade\x72", name := "signed", desc := "()I" } : Jvm.MethodName) prog_11_method_6_code (3 : Nat) (Option.some Jvm.ClassFile.FieldType.int)) ∈ lw_all := lw_g (lw_at lw_m6 217 rfl) rfl
theorem q1526 : (Jvm.Cond.privateMethod ({ cls := "PictureRing$Reade\x72", name := "lambda$more$4", desc := "(III)I" } : Jvm.MethodName)) ∈ lw_tbl := lw_at lw_m6 218 rfl
theorem q1527 : (Jvm.Cond.instanceMethod ({ cls := "PictureRing$Reade\x72", name := "lambda$more$4", desc := "(III)I" } : Jvm.MethodName)) ∈ lw_all := lw_g (lw_at lw_m6 219 rfl) rfl
theorem q1528 : (Jvm.Cond.code ({ cls := "PictureRing$Reade\x72", name := "lambda$more$4", desc := "(III)I" } : Jvm.MethodName) prog_11_method_13_code (4 : Nat) (Option.some Jvm.ClassFile.FieldType.int)) ∈ lw_all := lw_g (lw_at lw_m6 220 rfl) rfl
theorem q1529 : (Jvm.Cond.methodLinkNest "PictureRing$Reade\x72" (98 : Nat) ({ cls := "PictureRing", name := "shotTo", desc := "(III)I" } : Jvm.MethodName) "PictureRing") ∈ lw_tbl := lw_at lw_m6 221 rfl
theorem q1530 : (Jvm.Cond.privateMethod ({ cls := "PictureRing$Reade\x72", name := "lambda$more$5", desc := "(III)I" } : Jvm.MethodName)) ∈ lw_tbl := lw_at lw_m6 222 rfl
theorem q1531 : (Jvm.Cond.instanceMethod ({ cls := "PictureRing$Reade\x72", name := "lambda$more$5", desc := "(III)I" } : Jvm.MethodName)) ∈ lw_all := lw_g (lw_at lw_m6 223 rfl) rfl
theorem q1532 : (Jvm.Cond.code ({ cls := "PictureRing$Reade\x72", name := "lambda$more$5", desc := "(III)I" } : Jvm.MethodName) prog_11_method_12_code (4 : Nat) (Option.some Jvm.ClassFile.FieldType.int)) ∈ lw_all := lw_g (lw_at lw_m6 224 rfl) rfl
theorem q1533 : (Jvm.Cond.methodLinkNest "PictureRing$Reade\x72" (94 : Nat) ({ cls := "PictureRing", name := "dotsTo", desc := "(III)I" } : Jvm.MethodName) "PictureRing") ∈ lw_tbl := lw_at lw_m6 225 rfl
theorem q1534 : (Jvm.Cond.privateMethod ({ cls := "PictureRing$Reade\x72", name := "lambda$more$6", desc := "(IIII)I" } : Jvm.MethodName)) ∈ lw_tbl := lw_at lw_m6 226 rfl
theorem q1535 : (Jvm.Cond.instanceMethod ({ cls := "PictureRing$Reade\x72", name := "lambda$more$6", desc := "(IIII)I" } : Jvm.MethodName)) ∈ lw_all := lw_g (lw_at lw_m6 227 rfl) rfl
theorem q1536 : (Jvm.Cond.code ({ cls := "PictureRing$Reade\x72", name := "lambda$more$6", desc := "(IIII)I" } : Jvm.MethodName) prog_11_method_11_code (5 : Nat) (Option.some Jvm.ClassFile.FieldType.int)) ∈ lw_all := lw_g (lw_at lw_m6 228 rfl) rfl
theorem q1537 : (Jvm.Cond.methodLinkNest "PictureRing$Reade\x72" (90 : Nat) ({ cls := "PictureRing", name := "paintTo", desc := "(IIII)I" } : Jvm.MethodName) "PictureRing") ∈ lw_tbl := lw_at lw_m6 229 rfl
theorem q1538 : (Jvm.Cond.interfaceEntry "PictureRing$Reade\x72" (76 : Nat)) ∈ lw_tbl := lw_at lw_m6 230 rfl
theorem q1539 : (Jvm.Cond.methodLink "PictureRing$Reade\x72" (76 : Nat) ({ cls := "PictureRing$Deed", name := "does", desc := "()I" } : Jvm.MethodName)) ∈ lw_all := lw_g (lw_at lw_m6 231 rfl) rfl
theorem q1542 : (Jvm.Cond.methodLinkNest "PictureRing$Reade\x72" (80 : Nat) ({ cls := "PictureRing", name := "wants", desc := "(I)V" } : Jvm.MethodName) "PictureRing") ∈ lw_tbl := lw_at lw_m6 234 rfl
theorem q1564 : (Jvm.Cond.classLink "PictureRing$Reade\x72" (85 : Nat) "PictureRing$Stopped") ∈ lw_all := lw_g (lw_at lw_m7 16 rfl) rfl
theorem q1573 : (Jvm.Cond.methodLink "PictureRing$Reade\x72" (87 : Nat) ({ cls := "PictureRing$Stopped", name := "<init>", desc := "(ILPictureRing$Refused;)V" } : Jvm.MethodName)) ∈ lw_all := lw_g (lw_at lw_m7 25 rfl) rfl
theorem q2076 : (Jvm.Cond.castable "PictureRing$Reade\x72" "java/lang/Object") ∈ lw_tbl := lw_at lw_m9 48 rfl
theorem in_X6 : ∀ w ∈ wsX60, w ∈ lw_all := lw_in wsX60 [410, 412] (by decide +kernel) (by decide +kernel)
/-! PictureRing$Picture -/
set_option maxRecDepth 100000
def RX8 : String := "PictureRing$Picture"
def TX8 : u_T := fun k => match k with
  | 0 => ("PictureRing$Picture", "cells", "[I", true)
  | 1 => ("PictureRing$Picture", "x", "I", true)
  | 2 => ("PictureRing$Picture", "y", "I", true)
  | _ => ("PictureRing$Picture", "round", "I", true)
def tyX8 : Nat → FieldType := fun k => match k with
  | 0 => .array .int
  | 1 => .int
  | 2 => .int
  | _ => .int
abbrev wsX80 : List Cond := u_ws RX8 TX8 4
theorem nmX8 : ∀ a, a < 4 → ∀ b, b < 4 → a ≠ b → (TX8 a).2.1 ≠ (TX8 b).2.1 := by decide +kernel
theorem tyX8_ok : ∀ k, k < 4 → parseFieldDescriptor (TX8 k).2.2.1 = some (tyX8 k) := by decide +kernel
abbrev cX8_at : ByteArray := prog_10_method_2_code
def yX8_at : MethodName := ⟨RX8, "at", "(II)I"⟩
def dkwX8_at_0 : List UInt8 := [42, 180, 0, 9, 16, 8, 27, 104, 28, 96, 46, 172]
abbrev dktX8_at_0 : List UInt8 := dkwX8_at_0 ++ []
theorem dksX8_at_0 : cX8_at.data.toList.drop 0 = dktX8_at_0 := by decide +kernel
theorem dX8_at_0 : decode cX8_at 0 = .ok (.aload_n 0, 1) := dk_42 (dk_at dksX8_at_0 0 rfl rfl)
theorem dX8_at_1 : decode cX8_at 1 = .ok (.getfield 9, 3) := dk_180 0 9 (dk_at dksX8_at_0 1 rfl rfl)
theorem dX8_at_4 : decode cX8_at 4 = .ok (.bipush 8, 2) := dk_16 8 (dk_at dksX8_at_0 4 rfl rfl)
theorem dX8_at_6 : decode cX8_at 6 = .ok (.iload_n 1, 1) := dk_27 (dk_at dksX8_at_0 6 rfl rfl)
theorem dX8_at_7 : decode cX8_at 7 = .ok (.imul, 1) := dk_104 (dk_at dksX8_at_0 7 rfl rfl)
theorem dX8_at_8 : decode cX8_at 8 = .ok (.iload_n 2, 1) := dk_28 (dk_at dksX8_at_0 8 rfl rfl)
theorem dX8_at_9 : decode cX8_at 9 = .ok (.iadd, 1) := dk_96 (dk_at dksX8_at_0 9 rfl rfl)
theorem dX8_at_10 : decode cX8_at 10 = .ok (.iaload, 1) := dk_46 (dk_at dksX8_at_0 10 rfl rfl)
theorem dX8_at_11 : decode cX8_at 11 = .ok (.ireturn, 1) := dk_172 (dk_at dksX8_at_0 11 rfl rfl)
abbrev cX8_init : ByteArray := prog_10_method_1_code
def yX8_init : MethodName := ⟨RX8, "<init>", "([IIII)V"⟩
def dkwX8_init_1 : List UInt8 := [181, 0, 22, 177]
abbrev dktX8_init_1 : List UInt8 := dkwX8_init_1 ++ []
def dkwX8_init_0 : List UInt8 := [42, 183, 0, 3, 42, 43, 181, 0, 9, 42, 28, 181, 0, 15, 42, 29, 181, 0, 19, 42, 21, 4]
abbrev dktX8_init_0 : List UInt8 := dkwX8_init_0 ++ dktX8_init_1
theorem dksX8_init_0 : cX8_init.data.toList.drop 0 = dktX8_init_0 := by decide +kernel
theorem dksX8_init_1 : cX8_init.data.toList.drop 22 = dktX8_init_1 := dk_seg dksX8_init_0 22 rfl rfl
theorem dX8_init_0 : decode cX8_init 0 = .ok (.aload_n 0, 1) := dk_42 (dk_at dksX8_init_0 0 rfl rfl)
theorem dX8_init_1 : decode cX8_init 1 = .ok (.invokespecial 3, 3) := dk_183 0 3 (dk_at dksX8_init_0 1 rfl rfl)
theorem dX8_init_4 : decode cX8_init 4 = .ok (.aload_n 0, 1) := dk_42 (dk_at dksX8_init_0 4 rfl rfl)
theorem dX8_init_5 : decode cX8_init 5 = .ok (.aload_n 1, 1) := dk_43 (dk_at dksX8_init_0 5 rfl rfl)
theorem dX8_init_6 : decode cX8_init 6 = .ok (.putfield 9, 3) := dk_181 0 9 (dk_at dksX8_init_0 6 rfl rfl)
theorem dX8_init_9 : decode cX8_init 9 = .ok (.aload_n 0, 1) := dk_42 (dk_at dksX8_init_0 9 rfl rfl)
theorem dX8_init_10 : decode cX8_init 10 = .ok (.iload_n 2, 1) := dk_28 (dk_at dksX8_init_0 10 rfl rfl)
theorem dX8_init_11 : decode cX8_init 11 = .ok (.putfield 15, 3) := dk_181 0 15 (dk_at dksX8_init_0 11 rfl rfl)
theorem dX8_init_14 : decode cX8_init 14 = .ok (.aload_n 0, 1) := dk_42 (dk_at dksX8_init_0 14 rfl rfl)
theorem dX8_init_15 : decode cX8_init 15 = .ok (.iload_n 3, 1) := dk_29 (dk_at dksX8_init_0 15 rfl rfl)
theorem dX8_init_16 : decode cX8_init 16 = .ok (.putfield 19, 3) := dk_181 0 19 (dk_at dksX8_init_0 16 rfl rfl)
theorem dX8_init_19 : decode cX8_init 19 = .ok (.aload_n 0, 1) := dk_42 (dk_at dksX8_init_0 19 rfl rfl)
theorem dX8_init_20 : decode cX8_init 20 = .ok (.iload 4, 2) := dk_21 4 (dk_at dksX8_init_0 20 rfl rfl)
theorem dX8_init_22 : decode cX8_init 22 = .ok (.putfield 22, 3) := dk_181 0 22 (dk_at dksX8_init_1 0 rfl rfl)
theorem dX8_init_25 : decode cX8_init 25 = .ok (.return_, 1) := dk_177 (dk_at dksX8_init_1 3 rfl rfl)
abbrev cX8_with : ByteArray := prog_10_method_3_code
def yX8_with : MethodName := ⟨RX8, "with", "(III)LPictureRing$Picture;"⟩
def dkwX8_with_1 : List UInt8 := [187, 0, 10, 89, 25, 4, 42, 180, 0, 15, 42, 180, 0, 19, 42, 180, 0, 22, 183, 0, 30, 176]
abbrev dktX8_with_1 : List UInt8 := dkwX8_with_1 ++ []
def dkwX8_with_0 : List UInt8 := [42, 180, 0, 9, 182, 0, 25, 192, 0, 26, 58, 4, 25, 4, 16, 8, 27, 104, 28, 96, 29, 79]
abbrev dktX8_with_0 : List UInt8 := dkwX8_with_0 ++ dktX8_with_1
theorem dksX8_with_0 : cX8_with.data.toList.drop 0 = dktX8_with_0 := by decide +kernel
theorem dksX8_with_1 : cX8_with.data.toList.drop 22 = dktX8_with_1 := dk_seg dksX8_with_0 22 rfl rfl
theorem dX8_with_0 : decode cX8_with 0 = .ok (.aload_n 0, 1) := dk_42 (dk_at dksX8_with_0 0 rfl rfl)
theorem dX8_with_1 : decode cX8_with 1 = .ok (.getfield 9, 3) := dk_180 0 9 (dk_at dksX8_with_0 1 rfl rfl)
theorem dX8_with_4 : decode cX8_with 4 = .ok (.invokevirtual 25, 3) := dk_182 0 25 (dk_at dksX8_with_0 4 rfl rfl)
theorem dX8_with_7 : decode cX8_with 7 = .ok (.checkcast 26, 3) := dk_192 0 26 (dk_at dksX8_with_0 7 rfl rfl)
theorem dX8_with_10 : decode cX8_with 10 = .ok (.astore 4, 2) := dk_58 4 (dk_at dksX8_with_0 10 rfl rfl)
theorem dX8_with_12 : decode cX8_with 12 = .ok (.aload 4, 2) := dk_25 4 (dk_at dksX8_with_0 12 rfl rfl)
theorem dX8_with_14 : decode cX8_with 14 = .ok (.bipush 8, 2) := dk_16 8 (dk_at dksX8_with_0 14 rfl rfl)
theorem dX8_with_16 : decode cX8_with 16 = .ok (.iload_n 1, 1) := dk_27 (dk_at dksX8_with_0 16 rfl rfl)
theorem dX8_with_17 : decode cX8_with 17 = .ok (.imul, 1) := dk_104 (dk_at dksX8_with_0 17 rfl rfl)
theorem dX8_with_18 : decode cX8_with 18 = .ok (.iload_n 2, 1) := dk_28 (dk_at dksX8_with_0 18 rfl rfl)
theorem dX8_with_19 : decode cX8_with 19 = .ok (.iadd, 1) := dk_96 (dk_at dksX8_with_0 19 rfl rfl)
theorem dX8_with_20 : decode cX8_with 20 = .ok (.iload_n 3, 1) := dk_29 (dk_at dksX8_with_0 20 rfl rfl)
theorem dX8_with_21 : decode cX8_with 21 = .ok (.iastore, 1) := dk_79 (dk_at dksX8_with_0 21 rfl rfl)
theorem dX8_with_22 : decode cX8_with 22 = .ok (.new 10, 3) := dk_187 0 10 (dk_at dksX8_with_1 0 rfl rfl)
theorem dX8_with_25 : decode cX8_with 25 = .ok (.dup, 1) := dk_89 (dk_at dksX8_with_1 3 rfl rfl)
theorem dX8_with_26 : decode cX8_with 26 = .ok (.aload 4, 2) := dk_25 4 (dk_at dksX8_with_1 4 rfl rfl)
theorem dX8_with_28 : decode cX8_with 28 = .ok (.aload_n 0, 1) := dk_42 (dk_at dksX8_with_1 6 rfl rfl)
theorem dX8_with_29 : decode cX8_with 29 = .ok (.getfield 15, 3) := dk_180 0 15 (dk_at dksX8_with_1 7 rfl rfl)
theorem dX8_with_32 : decode cX8_with 32 = .ok (.aload_n 0, 1) := dk_42 (dk_at dksX8_with_1 10 rfl rfl)
theorem dX8_with_33 : decode cX8_with 33 = .ok (.getfield 19, 3) := dk_180 0 19 (dk_at dksX8_with_1 11 rfl rfl)
theorem dX8_with_36 : decode cX8_with 36 = .ok (.aload_n 0, 1) := dk_42 (dk_at dksX8_with_1 14 rfl rfl)
theorem dX8_with_37 : decode cX8_with 37 = .ok (.getfield 22, 3) := dk_180 0 22 (dk_at dksX8_with_1 15 rfl rfl)
theorem dX8_with_40 : decode cX8_with 40 = .ok (.invokespecial 30, 3) := dk_183 0 30 (dk_at dksX8_with_1 18 rfl rfl)
theorem dX8_with_43 : decode cX8_with 43 = .ok (.areturn, 1) := dk_176 (dk_at dksX8_with_1 21 rfl rfl)
theorem q126 : (Jvm.Cond.initialized "PictureRing$Picture") ∈ lw_all := lw_g (lw_at lw_m1 18 rfl) rfl
theorem q200 : (Jvm.Cond.instanceMethod ({ cls := "PictureRing$Picture", name := "at", desc := "(II)I" } : Jvm.MethodName)) ∈ lw_all := lw_g (lw_at lw_m1 92 rfl) rfl
theorem q201 : (Jvm.Cond.selects "PictureRing$Picture" ({ cls := "PictureRing$Picture", name := "at", desc := "(II)I" } : Jvm.MethodName) ({ cls := "PictureRing$Picture", name := "at", desc := "(II)I" } : Jvm.MethodName)) ∈ lw_all := lw_g (lw_at lw_m1 93 rfl) rfl
theorem q202 : (Jvm.Cond.code ({ cls := "PictureRing$Picture", name := "at", desc := "(II)I" } : Jvm.MethodName) prog_10_method_2_code (3 : Nat) (Option.some Jvm.ClassFile.FieldType.int)) ∈ lw_all := lw_g (lw_at lw_m1 94 rfl) rfl
theorem q542 : (Jvm.Cond.instantiable "PictureRing$Picture" (4 : Nat)) ∈ lw_all := lw_g (lw_at lw_m2 194 rfl) rfl
theorem q544 : (Jvm.Cond.instanceMethod ({ cls := "PictureRing$Picture", name := "<init>", desc := "([IIII)V" } : Jvm.MethodName)) ∈ lw_all := lw_g (lw_at lw_m2 196 rfl) rfl
theorem q545 : (Jvm.Cond.code ({ cls := "PictureRing$Picture", name := "<init>", desc := "([IIII)V" } : Jvm.MethodName) prog_10_method_1_code (5 : Nat) (Option.none : Option Jvm.ClassFile.FieldType)) ∈ lw_all := lw_g (lw_at lw_m2 197 rfl) rfl
theorem q546 : (Jvm.Cond.methodLink "PictureRing$Picture" (3 : Nat) ({ cls := "java/lang/Object", name := "<init>", desc := "()V" } : Jvm.MethodName)) ∈ lw_all := lw_g (lw_at lw_m2 198 rfl) rfl
theorem q547 : (Jvm.Cond.fieldLink "PictureRing$Picture" (9 : Nat) "PictureRing$Picture" "cells" "[I") ∈ lw_all := lw_g (lw_at lw_m2 199 rfl) rfl
theorem q549 : (Jvm.Cond.fieldLink "PictureRing$Picture" (15 : Nat) "PictureRing$Picture" "x" "I") ∈ lw_all := lw_g (lw_at lw_m2 201 rfl) rfl
theorem q551 : (Jvm.Cond.fieldLink "PictureRing$Picture" (19 : Nat) "PictureRing$Picture" "y" "I") ∈ lw_all := lw_g (lw_at lw_m2 203 rfl) rfl
theorem q553 : (Jvm.Cond.fieldLink "PictureRing$Picture" (22 : Nat) "PictureRing$Picture" "round" "I") ∈ lw_all := lw_g (lw_at lw_m2 205 rfl) rfl
theorem q555 : (Jvm.Cond.laysFinal "PictureRing$Picture" "PictureRing$Picture" "cells" "[I") ∈ lw_all := lw_g (lw_at lw_m2 207 rfl) rfl
theorem q556 : (Jvm.Cond.soleField "PictureRing$Picture" "cells") ∈ lw_all := lw_g (lw_at lw_m2 208 rfl) rfl
theorem q557 : (Jvm.Cond.laysFinal "PictureRing$Picture" "PictureRing$Picture" "x" "I") ∈ lw_all := lw_g (lw_at lw_m2 209 rfl) rfl
theorem q558 : (Jvm.Cond.soleField "PictureRing$Picture" "x") ∈ lw_all := lw_g (lw_at lw_m2 210 rfl) rfl
theorem q559 : (Jvm.Cond.laysFinal "PictureRing$Picture" "PictureRing$Picture" "y" "I") ∈ lw_all := lw_g (lw_at lw_m2 211 rfl) rfl
theorem q560 : (Jvm.Cond.soleField "PictureRing$Picture" "y") ∈ lw_all := lw_g (lw_at lw_m2 212 rfl) rfl
theorem q561 : (Jvm.Cond.laysFinal "PictureRing$Picture" "PictureRing$Picture" "round" "I") ∈ lw_all := lw_g (lw_at lw_m2 213 rfl) rfl
theorem q562 : (Jvm.Cond.soleField "PictureRing$Picture" "round") ∈ lw_all := lw_g (lw_at lw_m2 214 rfl) rfl
theorem q563 : (Jvm.Cond.superclass "PictureRing$Picture" "java/lang/Object") ∈ lw_all := lw_g (lw_at lw_m2 215 rfl) rfl
theorem q582 : (Jvm.Cond.instanceMethod ({ cls := "PictureRing$Picture", name := "with", desc := "(III)LPictureRing$Picture;" } : Jvm.MethodName)) ∈ lw_all := lw_g (lw_at lw_m2 234 rfl) rfl
theorem q583 : (Jvm.Cond.selects "PictureRing$Picture" ({ cls := "PictureRing$Picture", name := "with", desc := "(III)LPictureRing$Picture;" } : Jvm.MethodName) ({ cls := "PictureRing$Picture", name := "with", desc := "(III)LPictureRing$Picture;" } : Jvm.MethodName)) ∈ lw_all := lw_g (lw_at lw_m2 235 rfl) rfl
theorem q584 : (Jvm.Cond.code ({ cls := "PictureRing$Picture", name := "with", desc := "(III)LPictureRing$Picture;" } : Jvm.MethodName) prog_10_method_3_code (5 : Nat) (Option.some (Jvm.ClassFile.FieldType.object "PictureRing$Picture"))) ∈ lw_all := lw_g (lw_at lw_m2 236 rfl) rfl
theorem q585 : (Jvm.Cond.methodLink "PictureRing$Picture" (25 : Nat) ({ cls := "[I", name := "clone", desc := "()Ljava/lang/Object;" } : Jvm.MethodName)) ∈ lw_all := lw_g (lw_at lw_m2 237 rfl) rfl
theorem q586 : (Jvm.Cond.classLink "PictureRing$Picture" (26 : Nat) "[I") ∈ lw_all := lw_g (lw_at lw_m2 238 rfl) rfl
theorem q587 : (Jvm.Cond.classLink "PictureRing$Picture" (10 : Nat) "PictureRing$Picture") ∈ lw_all := lw_g (lw_at lw_m2 239 rfl) rfl
theorem q588 : (Jvm.Cond.methodLink "PictureRing$Picture" (30 : Nat) ({ cls := "PictureRing$Picture", name := "<init>", desc := "([IIII)V" } : Jvm.MethodName)) ∈ lw_all := lw_g (lw_at lw_m3 0 rfl) rfl
theorem q1183 : (Jvm.Cond.selects "PictureRing$Picture" ({ cls := "java/lang/Object", name := "getClass", desc := "()Ljava/lang/Class;" } : Jvm.MethodName) ({ cls := "java/lang/Object", name := "getClass", desc := "()Ljava/lang/Class;" } : Jvm.MethodName)) ∈ lw_all := lw_g (lw_at lw_m5 115 rfl) rfl
theorem q2064 : (Jvm.Cond.castable "PictureRing$Picture" "java/lang/Object") ∈ lw_tbl := lw_at lw_m9 36 rfl
theorem in_X8 : ∀ w ∈ wsX80, w ∈ lw_all := lw_in wsX80 [555, 557, 559, 561] (by decide +kernel) (by decide +kernel)
/-! PictureRing$Corner -/
set_option maxRecDepth 100000
def RX9 : String := "PictureRing$Corne\x72"
def TX9 : u_T := fun k => match k with
  | 0 => ("PictureRing$Corne\x72", "\x72", "I", true)
  | 1 => ("PictureRing$Corne\x72", "c", "I", true)
  | _ => ("PictureRing$Corne\x72", "value", "I", true)
def tyX9 : Nat → FieldType := fun k => match k with
  | 0 => .int
  | 1 => .int
  | _ => .int
abbrev wsX90 : List Cond := u_ws RX9 TX9 3
theorem nmX9 : ∀ a, a < 3 → ∀ b, b < 3 → a ≠ b → (TX9 a).2.1 ≠ (TX9 b).2.1 := by decide +kernel
theorem tyX9_ok : ∀ k, k < 3 → parseFieldDescriptor (TX9 k).2.2.1 = some (tyX9 k) := by decide +kernel
abbrev cX9_init : ByteArray := prog_3_method_1_code
def yX9_init : MethodName := ⟨RX9, "<init>", "(III)V"⟩
def dkwX9_init_0 : List UInt8 := [42, 183, 0, 3, 42, 27, 181, 0, 9, 42, 28, 181, 0, 15, 42, 29, 181, 0, 18, 177]
abbrev dktX9_init_0 : List UInt8 := dkwX9_init_0 ++ []
theorem dksX9_init_0 : cX9_init.data.toList.drop 0 = dktX9_init_0 := by decide +kernel
theorem dX9_init_0 : decode cX9_init 0 = .ok (.aload_n 0, 1) := dk_42 (dk_at dksX9_init_0 0 rfl rfl)
theorem dX9_init_1 : decode cX9_init 1 = .ok (.invokespecial 3, 3) := dk_183 0 3 (dk_at dksX9_init_0 1 rfl rfl)
theorem dX9_init_4 : decode cX9_init 4 = .ok (.aload_n 0, 1) := dk_42 (dk_at dksX9_init_0 4 rfl rfl)
theorem dX9_init_5 : decode cX9_init 5 = .ok (.iload_n 1, 1) := dk_27 (dk_at dksX9_init_0 5 rfl rfl)
theorem dX9_init_6 : decode cX9_init 6 = .ok (.putfield 9, 3) := dk_181 0 9 (dk_at dksX9_init_0 6 rfl rfl)
theorem dX9_init_9 : decode cX9_init 9 = .ok (.aload_n 0, 1) := dk_42 (dk_at dksX9_init_0 9 rfl rfl)
theorem dX9_init_10 : decode cX9_init 10 = .ok (.iload_n 2, 1) := dk_28 (dk_at dksX9_init_0 10 rfl rfl)
theorem dX9_init_11 : decode cX9_init 11 = .ok (.putfield 15, 3) := dk_181 0 15 (dk_at dksX9_init_0 11 rfl rfl)
theorem dX9_init_14 : decode cX9_init 14 = .ok (.aload_n 0, 1) := dk_42 (dk_at dksX9_init_0 14 rfl rfl)
theorem dX9_init_15 : decode cX9_init 15 = .ok (.iload_n 3, 1) := dk_29 (dk_at dksX9_init_0 15 rfl rfl)
theorem dX9_init_16 : decode cX9_init 16 = .ok (.putfield 18, 3) := dk_181 0 18 (dk_at dksX9_init_0 16 rfl rfl)
theorem dX9_init_19 : decode cX9_init 19 = .ok (.return_, 1) := dk_177 (dk_at dksX9_init_0 19 rfl rfl)
abbrev cX9_compareTo : ByteArray := prog_3_method_3_code
def yX9_compareTo : MethodName := ⟨RX9, "compareTo", "(Ljava/lang/Object;)I"⟩
def dkwX9_compareTo_0 : List UInt8 := [42, 43, 192, 0, 10, 182, 0, 21, 172]
abbrev dktX9_compareTo_0 : List UInt8 := dkwX9_compareTo_0 ++ []
theorem dksX9_compareTo_0 : cX9_compareTo.data.toList.drop 0 = dktX9_compareTo_0 := by decide +kernel
theorem dX9_compareTo_0 : decode cX9_compareTo 0 = .ok (.aload_n 0, 1) := dk_42 (dk_at dksX9_compareTo_0 0 rfl rfl)
theorem dX9_compareTo_1 : decode cX9_compareTo 1 = .ok (.aload_n 1, 1) := dk_43 (dk_at dksX9_compareTo_0 1 rfl rfl)
theorem dX9_compareTo_2 : decode cX9_compareTo 2 = .ok (.checkcast 10, 3) := dk_192 0 10 (dk_at dksX9_compareTo_0 2 rfl rfl)
theorem dX9_compareTo_5 : decode cX9_compareTo 5 = .ok (.invokevirtual 21, 3) := dk_182 0 21 (dk_at dksX9_compareTo_0 5 rfl rfl)
theorem dX9_compareTo_8 : decode cX9_compareTo 8 = .ok (.ireturn, 1) := dk_172 (dk_at dksX9_compareTo_0 8 rfl rfl)
abbrev cX9_compareTo_2 : ByteArray := prog_3_method_2_code
def yX9_compareTo_2 : MethodName := ⟨RX9, "compareTo", "(LPictureRing$Corner;)I"⟩
def dkwX9_compareTo_2_1 : List UInt8 := [100, 172]
abbrev dktX9_compareTo_2_1 : List UInt8 := dkwX9_compareTo_2_1 ++ []
def dkwX9_compareTo_2_0 : List UInt8 := [16, 8, 42, 180, 0, 9, 104, 42, 180, 0, 15, 96, 16, 8, 43, 180, 0, 9, 104, 100, 43, 180, 0, 15]
abbrev dktX9_compareTo_2_0 : List UInt8 := dkwX9_compareTo_2_0 ++ dktX9_compareTo_2_1
theorem dksX9_compareTo_2_0 : cX9_compareTo_2.data.toList.drop 0 = dktX9_compareTo_2_0 := by decide +kernel
theorem dksX9_compareTo_2_1 : cX9_compareTo_2.data.toList.drop 24 = dktX9_compareTo_2_1 := dk_seg dksX9_compareTo_2_0 24 rfl rfl
theorem dX9_compareTo_2_0 : decode cX9_compareTo_2 0 = .ok (.bipush 8, 2) := dk_16 8 (dk_at dksX9_compareTo_2_0 0 rfl rfl)
theorem dX9_compareTo_2_2 : decode cX9_compareTo_2 2 = .ok (.aload_n 0, 1) := dk_42 (dk_at dksX9_compareTo_2_0 2 rfl rfl)
theorem dX9_compareTo_2_3 : decode cX9_compareTo_2 3 = .ok (.getfield 9, 3) := dk_180 0 9 (dk_at dksX9_compareTo_2_0 3 rfl rfl)
theorem dX9_compareTo_2_6 : decode cX9_compareTo_2 6 = .ok (.imul, 1) := dk_104 (dk_at dksX9_compareTo_2_0 6 rfl rfl)
theorem dX9_compareTo_2_7 : decode cX9_compareTo_2 7 = .ok (.aload_n 0, 1) := dk_42 (dk_at dksX9_compareTo_2_0 7 rfl rfl)
theorem dX9_compareTo_2_8 : decode cX9_compareTo_2 8 = .ok (.getfield 15, 3) := dk_180 0 15 (dk_at dksX9_compareTo_2_0 8 rfl rfl)
theorem dX9_compareTo_2_11 : decode cX9_compareTo_2 11 = .ok (.iadd, 1) := dk_96 (dk_at dksX9_compareTo_2_0 11 rfl rfl)
theorem dX9_compareTo_2_12 : decode cX9_compareTo_2 12 = .ok (.bipush 8, 2) := dk_16 8 (dk_at dksX9_compareTo_2_0 12 rfl rfl)
theorem dX9_compareTo_2_14 : decode cX9_compareTo_2 14 = .ok (.aload_n 1, 1) := dk_43 (dk_at dksX9_compareTo_2_0 14 rfl rfl)
theorem dX9_compareTo_2_15 : decode cX9_compareTo_2 15 = .ok (.getfield 9, 3) := dk_180 0 9 (dk_at dksX9_compareTo_2_0 15 rfl rfl)
theorem dX9_compareTo_2_18 : decode cX9_compareTo_2 18 = .ok (.imul, 1) := dk_104 (dk_at dksX9_compareTo_2_0 18 rfl rfl)
theorem dX9_compareTo_2_19 : decode cX9_compareTo_2 19 = .ok (.isub, 1) := dk_100 (dk_at dksX9_compareTo_2_0 19 rfl rfl)
theorem dX9_compareTo_2_20 : decode cX9_compareTo_2 20 = .ok (.aload_n 1, 1) := dk_43 (dk_at dksX9_compareTo_2_0 20 rfl rfl)
theorem dX9_compareTo_2_21 : decode cX9_compareTo_2 21 = .ok (.getfield 15, 3) := dk_180 0 15 (dk_at dksX9_compareTo_2_0 21 rfl rfl)
theorem dX9_compareTo_2_24 : decode cX9_compareTo_2 24 = .ok (.isub, 1) := dk_100 (dk_at dksX9_compareTo_2_1 0 rfl rfl)
theorem dX9_compareTo_2_25 : decode cX9_compareTo_2 25 = .ok (.ireturn, 1) := dk_172 (dk_at dksX9_compareTo_2_1 1 rfl rfl)
theorem q127 : (Jvm.Cond.initialized "PictureRing$Corne\x72") ∈ lw_all := lw_g (lw_at lw_m1 19 rfl) rfl
theorem q680 : (Jvm.Cond.instantiable "PictureRing$Corne\x72" (3 : Nat)) ∈ lw_all := lw_g (lw_at lw_m3 92 rfl) rfl
theorem q683 : (Jvm.Cond.instanceMethod ({ cls := "PictureRing$Corne\x72", name := "<init>", desc := "(III)V" } : Jvm.MethodName)) ∈ lw_all := lw_g (lw_at lw_m3 95 rfl) rfl
theorem q684 : (Jvm.Cond.code ({ cls := "PictureRing$Corne\x72", name := "<init>", desc := "(III)V" } : Jvm.MethodName) prog_3_method_1_code (4 : Nat) (Option.none : Option Jvm.ClassFile.FieldType)) ∈ lw_all := lw_g (lw_at lw_m3 96 rfl) rfl
theorem q685 : (Jvm.Cond.methodLink "PictureRing$Corne\x72" (3 : Nat) ({ cls := "java/lang/Object", name := "<init>", desc := "()V" } : Jvm.MethodName)) ∈ lw_all := lw_g (lw_at lw_m3 97 rfl) rfl
theorem q686 : (Jvm.Cond.fieldLink "PictureRing$Corne\x72" (9 : Nat) "PictureRing$Corne\x72" "\x72" "I") ∈ lw_all := lw_g (lw_at lw_m3 98 rfl) rfl
theorem q688 : (Jvm.Cond.fieldLink "PictureRing$Corne\x72" (15 : Nat) "PictureRing$Corne\x72" "c" "I") ∈ lw_all := lw_g (lw_at lw_m3 100 rfl) rfl
theorem q690 : (Jvm.Cond.fieldLink "PictureRing$Corne\x72" (18 : Nat) "PictureRing$Corne\x72" "value" "I") ∈ lw_all := lw_g (lw_at lw_m3 102 rfl) rfl
theorem q692 : (Jvm.Cond.laysFinal "PictureRing$Corne\x72" "PictureRing$Corne\x72" "\x72" "I") ∈ lw_all := lw_g (lw_at lw_m3 104 rfl) rfl
theorem q693 : (Jvm.Cond.soleField "PictureRing$Corne\x72" "\x72") ∈ lw_all := lw_g (lw_at lw_m3 105 rfl) rfl
theorem q694 : (Jvm.Cond.laysFinal "PictureRing$Corne\x72" "PictureRing$Corne\x72" "c" "I") ∈ lw_all := lw_g (lw_at lw_m3 106 rfl) rfl
theorem q695 : (Jvm.Cond.soleField "PictureRing$Corne\x72" "c") ∈ lw_all := lw_g (lw_at lw_m3 107 rfl) rfl
theorem q696 : (Jvm.Cond.laysFinal "PictureRing$Corne\x72" "PictureRing$Corne\x72" "value" "I") ∈ lw_all := lw_g (lw_at lw_m3 108 rfl) rfl
theorem q697 : (Jvm.Cond.soleField "PictureRing$Corne\x72" "value") ∈ lw_all := lw_g (lw_at lw_m3 109 rfl) rfl
theorem q698 : (Jvm.Cond.superclass "PictureRing$Corne\x72" "java/lang/Object") ∈ lw_all := lw_g (lw_at lw_m3 110 rfl) rfl
theorem q730 : (Jvm.Cond.castable "PictureRing$Corne\x72" "java/lang/Comparable") ∈ lw_tbl := lw_at lw_m3 142 rfl
theorem q731 : (Jvm.Cond.selects "PictureRing$Corne\x72" ({ cls := "java/lang/Comparable", name := "compareTo", desc := "(Ljava/lang/Object;)I" } : Jvm.MethodName) ({ cls := "PictureRing$Corne\x72", name := "compareTo", desc := "(Ljava/lang/Object;)I" } : Jvm.MethodName)) ∈ lw_all := lw_g (lw_at lw_m3 143 rfl) rfl
theorem q732 : (Jvm.Cond.unhidden "PictureRing$Corne\x72" "compareTo" "(Ljava/lang/Object;)I") ∈ lw_tbl := lw_at lw_m3 144 rfl
theorem q733 : (Jvm.Cond.instanceMethod ({ cls := "PictureRing$Corne\x72", name := "compareTo", desc := "(Ljava/lang/Object;)I" } : Jvm.MethodName)) ∈ lw_all := lw_g (lw_at lw_m3 145 rfl) rfl
theorem q734 : (Jvm.Cond.publicMethod ({ cls := "PictureRing$Corne\x72", name := "compareTo", desc := "(Ljava/lang/Object;)I" } : Jvm.MethodName)) ∈ lw_tbl := lw_at lw_m3 146 rfl
theorem q735 : (Jvm.Cond.code ({ cls := "PictureRing$Corne\x72", name := "compareTo", desc := "(Ljava/lang/Object;)I" } : Jvm.MethodName) prog_3_method_3_code (2 : Nat) (Option.some Jvm.ClassFile.FieldType.int)) ∈ lw_all := lw_g (lw_at lw_m3 147 rfl) rfl
theorem q736 : (Jvm.Cond.classLink "PictureRing$Corne\x72" (10 : Nat) "PictureRing$Corne\x72") ∈ lw_all := lw_g (lw_at lw_m3 148 rfl) rfl
theorem q737 : (Jvm.Cond.methodLink "PictureRing$Corne\x72" (21 : Nat) ({ cls := "PictureRing$Corne\x72", name := "compareTo", desc := "(LPictureRing$Corner;)I" } : Jvm.MethodName)) ∈ lw_all := lw_g (lw_at lw_m3 149 rfl) rfl
theorem q738 : (Jvm.Cond.instanceMethod ({ cls := "PictureRing$Corne\x72", name := "compareTo", desc := "(LPictureRing$Corner;)I" } : Jvm.MethodName)) ∈ lw_all := lw_g (lw_at lw_m3 150 rfl) rfl
theorem q739 : (Jvm.Cond.selects "PictureRing$Corne\x72" ({ cls := "PictureRing$Corne\x72", name := "compareTo", desc := "(LPictureRing$Corner;)I" } : Jvm.MethodName) ({ cls := "PictureRing$Corne\x72", name := "compareTo", desc := "(LPictureRing$Corner;)I" } : Jvm.MethodName)) ∈ lw_all := lw_g (lw_at lw_m3 151 rfl) rfl
theorem q740 : (Jvm.Cond.code ({ cls := "PictureRing$Corne\x72", name := "compareTo", desc := "(LPictureRing$Corner;)I" } : Jvm.MethodName) prog_3_method_2_code (2 : Nat) (Option.some Jvm.ClassFile.FieldType.int)) ∈ lw_all := lw_g (lw_at lw_m3 152 rfl) rfl
theorem q1177 : (Jvm.Cond.selects "PictureRing$Corne\x72" ({ cls := "java/lang/Object", name := "getClass", desc := "()Ljava/lang/Class;" } : Jvm.MethodName) ({ cls := "java/lang/Object", name := "getClass", desc := "()Ljava/lang/Class;" } : Jvm.MethodName)) ∈ lw_all := lw_g (lw_at lw_m5 109 rfl) rfl
theorem q2078 : (Jvm.Cond.castable "PictureRing$Corne\x72" "java/lang/Object") ∈ lw_tbl := lw_at lw_m9 50 rfl
theorem in_X9 : ∀ w ∈ wsX90, w ∈ lw_all := lw_in wsX90 [692, 694, 696] (by decide +kernel) (by decide +kernel)
/-! PictureRing$Shift -/
set_option maxRecDepth 100000
def RX10 : String := "PictureRing$Shift"
def TX10 : u_T := fun k => match k with
  | 0 => ("PictureRing$Shift", "lowe\x72", "I", true)
  | _ => ("PictureRing$Shift", "right", "I", true)
def tyX10 : Nat → FieldType := fun k => match k with
  | 0 => .int
  | _ => .int
abbrev wsX100 : List Cond := u_ws RX10 TX10 2
theorem nmX10 : ∀ a, a < 2 → ∀ b, b < 2 → a ≠ b → (TX10 a).2.1 ≠ (TX10 b).2.1 := by decide +kernel
theorem tyX10_ok : ∀ k, k < 2 → parseFieldDescriptor (TX10 k).2.2.1 = some (tyX10 k) := by decide +kernel
abbrev cX10_compareTo : ByteArray := prog_13_method_3_code
def yX10_compareTo : MethodName := ⟨RX10, "compareTo", "(Ljava/lang/Object;)I"⟩
def dkwX10_compareTo_0 : List UInt8 := [42, 43, 192, 0, 8, 182, 0, 22, 172]
abbrev dktX10_compareTo_0 : List UInt8 := dkwX10_compareTo_0 ++ []
theorem dksX10_compareTo_0 : cX10_compareTo.data.toList.drop 0 = dktX10_compareTo_0 := by decide +kernel
theorem dX10_compareTo_0 : decode cX10_compareTo 0 = .ok (.aload_n 0, 1) := dk_42 (dk_at dksX10_compareTo_0 0 rfl rfl)
theorem dX10_compareTo_1 : decode cX10_compareTo 1 = .ok (.aload_n 1, 1) := dk_43 (dk_at dksX10_compareTo_0 1 rfl rfl)
theorem dX10_compareTo_2 : decode cX10_compareTo 2 = .ok (.checkcast 8, 3) := dk_192 0 8 (dk_at dksX10_compareTo_0 2 rfl rfl)
theorem dX10_compareTo_5 : decode cX10_compareTo 5 = .ok (.invokevirtual 22, 3) := dk_182 0 22 (dk_at dksX10_compareTo_0 5 rfl rfl)
theorem dX10_compareTo_8 : decode cX10_compareTo 8 = .ok (.ireturn, 1) := dk_172 (dk_at dksX10_compareTo_0 8 rfl rfl)
abbrev cX10_compareTo_2 : ByteArray := prog_13_method_2_code
def yX10_compareTo_2 : MethodName := ⟨RX10, "compareTo", "(LPictureRing$Shift;)I"⟩
def dkwX10_compareTo_2_2 : List UInt8 := [180, 0, 7, 100, 172]
abbrev dktX10_compareTo_2_2 : List UInt8 := dkwX10_compareTo_2_2 ++ []
def dkwX10_compareTo_2_1 : List UInt8 := [42, 180, 0, 13, 43, 180, 0, 13, 100, 61, 28, 153, 0, 7, 28, 167, 0, 12, 42, 180, 0, 7, 43]
abbrev dktX10_compareTo_2_1 : List UInt8 := dkwX10_compareTo_2_1 ++ dktX10_compareTo_2_2
def dkwX10_compareTo_2_0 : List UInt8 := [42, 180, 0, 7, 184, 0, 16, 43, 180, 0, 7, 184, 0, 16, 100, 61, 28, 153, 0, 7, 28, 167, 0, 12]
abbrev dktX10_compareTo_2_0 : List UInt8 := dkwX10_compareTo_2_0 ++ dktX10_compareTo_2_1
theorem dksX10_compareTo_2_0 : cX10_compareTo_2.data.toList.drop 0 = dktX10_compareTo_2_0 := by decide +kernel
theorem dksX10_compareTo_2_1 : cX10_compareTo_2.data.toList.drop 24 = dktX10_compareTo_2_1 := dk_seg dksX10_compareTo_2_0 24 rfl rfl
theorem dksX10_compareTo_2_2 : cX10_compareTo_2.data.toList.drop 47 = dktX10_compareTo_2_2 := dk_seg dksX10_compareTo_2_1 23 rfl rfl
theorem dX10_compareTo_2_0 : decode cX10_compareTo_2 0 = .ok (.aload_n 0, 1) := dk_42 (dk_at dksX10_compareTo_2_0 0 rfl rfl)
theorem dX10_compareTo_2_1 : decode cX10_compareTo_2 1 = .ok (.getfield 7, 3) := dk_180 0 7 (dk_at dksX10_compareTo_2_0 1 rfl rfl)
theorem dX10_compareTo_2_4 : decode cX10_compareTo_2 4 = .ok (.invokestatic 16, 3) := dk_184 0 16 (dk_at dksX10_compareTo_2_0 4 rfl rfl)
theorem dX10_compareTo_2_7 : decode cX10_compareTo_2 7 = .ok (.aload_n 1, 1) := dk_43 (dk_at dksX10_compareTo_2_0 7 rfl rfl)
theorem dX10_compareTo_2_8 : decode cX10_compareTo_2 8 = .ok (.getfield 7, 3) := dk_180 0 7 (dk_at dksX10_compareTo_2_0 8 rfl rfl)
theorem dX10_compareTo_2_11 : decode cX10_compareTo_2 11 = .ok (.invokestatic 16, 3) := dk_184 0 16 (dk_at dksX10_compareTo_2_0 11 rfl rfl)
theorem dX10_compareTo_2_14 : decode cX10_compareTo_2 14 = .ok (.isub, 1) := dk_100 (dk_at dksX10_compareTo_2_0 14 rfl rfl)
theorem dX10_compareTo_2_15 : decode cX10_compareTo_2 15 = .ok (.istore_n 2, 1) := dk_61 (dk_at dksX10_compareTo_2_0 15 rfl rfl)
theorem dX10_compareTo_2_16 : decode cX10_compareTo_2 16 = .ok (.iload_n 2, 1) := dk_28 (dk_at dksX10_compareTo_2_0 16 rfl rfl)
theorem dX10_compareTo_2_17 : decode cX10_compareTo_2 17 = .ok (.ifCond .eq 7, 3) := dk_153 0 7 (dk_at dksX10_compareTo_2_0 17 rfl rfl)
theorem dX10_compareTo_2_20 : decode cX10_compareTo_2 20 = .ok (.iload_n 2, 1) := dk_28 (dk_at dksX10_compareTo_2_0 20 rfl rfl)
theorem dX10_compareTo_2_21 : decode cX10_compareTo_2 21 = .ok (.goto 12, 3) := dk_167 0 12 (dk_at dksX10_compareTo_2_0 21 rfl rfl)
theorem dX10_compareTo_2_24 : decode cX10_compareTo_2 24 = .ok (.aload_n 0, 1) := dk_42 (dk_at dksX10_compareTo_2_1 0 rfl rfl)
theorem dX10_compareTo_2_25 : decode cX10_compareTo_2 25 = .ok (.getfield 13, 3) := dk_180 0 13 (dk_at dksX10_compareTo_2_1 1 rfl rfl)
theorem dX10_compareTo_2_28 : decode cX10_compareTo_2 28 = .ok (.aload_n 1, 1) := dk_43 (dk_at dksX10_compareTo_2_1 4 rfl rfl)
theorem dX10_compareTo_2_29 : decode cX10_compareTo_2 29 = .ok (.getfield 13, 3) := dk_180 0 13 (dk_at dksX10_compareTo_2_1 5 rfl rfl)
theorem dX10_compareTo_2_32 : decode cX10_compareTo_2 32 = .ok (.isub, 1) := dk_100 (dk_at dksX10_compareTo_2_1 8 rfl rfl)
theorem dX10_compareTo_2_33 : decode cX10_compareTo_2 33 = .ok (.istore_n 2, 1) := dk_61 (dk_at dksX10_compareTo_2_1 9 rfl rfl)
theorem dX10_compareTo_2_34 : decode cX10_compareTo_2 34 = .ok (.iload_n 2, 1) := dk_28 (dk_at dksX10_compareTo_2_1 10 rfl rfl)
theorem dX10_compareTo_2_35 : decode cX10_compareTo_2 35 = .ok (.ifCond .eq 7, 3) := dk_153 0 7 (dk_at dksX10_compareTo_2_1 11 rfl rfl)
theorem dX10_compareTo_2_38 : decode cX10_compareTo_2 38 = .ok (.iload_n 2, 1) := dk_28 (dk_at dksX10_compareTo_2_1 14 rfl rfl)
theorem dX10_compareTo_2_39 : decode cX10_compareTo_2 39 = .ok (.goto 12, 3) := dk_167 0 12 (dk_at dksX10_compareTo_2_1 15 rfl rfl)
theorem dX10_compareTo_2_42 : decode cX10_compareTo_2 42 = .ok (.aload_n 0, 1) := dk_42 (dk_at dksX10_compareTo_2_1 18 rfl rfl)
theorem dX10_compareTo_2_43 : decode cX10_compareTo_2 43 = .ok (.getfield 7, 3) := dk_180 0 7 (dk_at dksX10_compareTo_2_1 19 rfl rfl)
theorem dX10_compareTo_2_46 : decode cX10_compareTo_2 46 = .ok (.aload_n 1, 1) := dk_43 (dk_at dksX10_compareTo_2_1 22 rfl rfl)
theorem dX10_compareTo_2_47 : decode cX10_compareTo_2 47 = .ok (.getfield 7, 3) := dk_180 0 7 (dk_at dksX10_compareTo_2_2 0 rfl rfl)
theorem dX10_compareTo_2_50 : decode cX10_compareTo_2 50 = .ok (.isub, 1) := dk_100 (dk_at dksX10_compareTo_2_2 3 rfl rfl)
theorem dX10_compareTo_2_51 : decode cX10_compareTo_2 51 = .ok (.ireturn, 1) := dk_172 (dk_at dksX10_compareTo_2_2 4 rfl rfl)
abbrev cX10_init : ByteArray := prog_13_method_1_code
def yX10_init : MethodName := ⟨RX10, "<init>", "(II)V"⟩
def dkwX10_init_0 : List UInt8 := [42, 183, 0, 1, 42, 27, 181, 0, 7, 42, 28, 181, 0, 13, 177]
abbrev dktX10_init_0 : List UInt8 := dkwX10_init_0 ++ []
theorem dksX10_init_0 : cX10_init.data.toList.drop 0 = dktX10_init_0 := by decide +kernel
theorem dX10_init_0 : decode cX10_init 0 = .ok (.aload_n 0, 1) := dk_42 (dk_at dksX10_init_0 0 rfl rfl)
theorem dX10_init_1 : decode cX10_init 1 = .ok (.invokespecial 1, 3) := dk_183 0 1 (dk_at dksX10_init_0 1 rfl rfl)
theorem dX10_init_4 : decode cX10_init 4 = .ok (.aload_n 0, 1) := dk_42 (dk_at dksX10_init_0 4 rfl rfl)
theorem dX10_init_5 : decode cX10_init 5 = .ok (.iload_n 1, 1) := dk_27 (dk_at dksX10_init_0 5 rfl rfl)
theorem dX10_init_6 : decode cX10_init 6 = .ok (.putfield 7, 3) := dk_181 0 7 (dk_at dksX10_init_0 6 rfl rfl)
theorem dX10_init_9 : decode cX10_init 9 = .ok (.aload_n 0, 1) := dk_42 (dk_at dksX10_init_0 9 rfl rfl)
theorem dX10_init_10 : decode cX10_init 10 = .ok (.iload_n 2, 1) := dk_28 (dk_at dksX10_init_0 10 rfl rfl)
theorem dX10_init_11 : decode cX10_init 11 = .ok (.putfield 13, 3) := dk_181 0 13 (dk_at dksX10_init_0 11 rfl rfl)
theorem dX10_init_14 : decode cX10_init 14 = .ok (.return_, 1) := dk_177 (dk_at dksX10_init_0 14 rfl rfl)
theorem q139 : (Jvm.Cond.initialized "PictureRing$Shift") ∈ lw_all := lw_g (lw_at lw_m1 31 rfl) rfl
theorem q741 : (Jvm.Cond.castable "PictureRing$Shift" "java/lang/Comparable") ∈ lw_tbl := lw_at lw_m3 153 rfl
theorem q742 : (Jvm.Cond.selects "PictureRing$Shift" ({ cls := "java/lang/Comparable", name := "compareTo", desc := "(Ljava/lang/Object;)I" } : Jvm.MethodName) ({ cls := "PictureRing$Shift", name := "compareTo", desc := "(Ljava/lang/Object;)I" } : Jvm.MethodName)) ∈ lw_all := lw_g (lw_at lw_m3 154 rfl) rfl
theorem q743 : (Jvm.Cond.unhidden "PictureRing$Shift" "compareTo" "(Ljava/lang/Object;)I") ∈ lw_tbl := lw_at lw_m3 155 rfl
theorem q744 : (Jvm.Cond.instanceMethod ({ cls := "PictureRing$Shift", name := "compareTo", desc := "(Ljava/lang/Object;)I" } : Jvm.MethodName)) ∈ lw_all := lw_g (lw_at lw_m3 156 rfl) rfl
theorem q745 : (Jvm.Cond.publicMethod ({ cls := "PictureRing$Shift", name := "compareTo", desc := "(Ljava/lang/Object;)I" } : Jvm.MethodName)) ∈ lw_tbl := lw_at lw_m3 157 rfl
theorem q746 : (Jvm.Cond.code ({ cls := "PictureRing$Shift", name := "compareTo", desc := "(Ljava/lang/Object;)I" } : Jvm.MethodName) prog_13_method_3_code (2 : Nat) (Option.some Jvm.ClassFile.FieldType.int)) ∈ lw_all := lw_g (lw_at lw_m3 158 rfl) rfl
theorem q747 : (Jvm.Cond.classLink "PictureRing$Shift" (8 : Nat) "PictureRing$Shift") ∈ lw_all := lw_g (lw_at lw_m3 159 rfl) rfl
theorem q748 : (Jvm.Cond.methodLink "PictureRing$Shift" (22 : Nat) ({ cls := "PictureRing$Shift", name := "compareTo", desc := "(LPictureRing$Shift;)I" } : Jvm.MethodName)) ∈ lw_all := lw_g (lw_at lw_m3 160 rfl) rfl
theorem q749 : (Jvm.Cond.instanceMethod ({ cls := "PictureRing$Shift", name := "compareTo", desc := "(LPictureRing$Shift;)I" } : Jvm.MethodName)) ∈ lw_all := lw_g (lw_at lw_m3 161 rfl) rfl
theorem q750 : (Jvm.Cond.selects "PictureRing$Shift" ({ cls := "PictureRing$Shift", name := "compareTo", desc := "(LPictureRing$Shift;)I" } : Jvm.MethodName) ({ cls := "PictureRing$Shift", name := "compareTo", desc := "(LPictureRing$Shift;)I" } : Jvm.MethodName)) ∈ lw_all := lw_g (lw_at lw_m3 162 rfl) rfl
theorem q751 : (Jvm.Cond.code ({ cls := "PictureRing$Shift", name := "compareTo", desc := "(LPictureRing$Shift;)I" } : Jvm.MethodName) prog_13_method_2_code (3 : Nat) (Option.some Jvm.ClassFile.FieldType.int)) ∈ lw_all := lw_g (lw_at lw_m3 163 rfl) rfl
theorem q752 : (Jvm.Cond.methodLink "PictureRing$Shift" (16 : Nat) ({ cls := "java/lang/Math", name := "abs", desc := "(I)I" } : Jvm.MethodName)) ∈ lw_all := lw_g (lw_at lw_m3 164 rfl) rfl
theorem q1049 : (Jvm.Cond.instantiable "PictureRing$Shift" (2 : Nat)) ∈ lw_all := lw_g (lw_at lw_m4 221 rfl) rfl
theorem q1051 : (Jvm.Cond.instanceMethod ({ cls := "PictureRing$Shift", name := "<init>", desc := "(II)V" } : Jvm.MethodName)) ∈ lw_all := lw_g (lw_at lw_m4 223 rfl) rfl
theorem q1052 : (Jvm.Cond.code ({ cls := "PictureRing$Shift", name := "<init>", desc := "(II)V" } : Jvm.MethodName) prog_13_method_1_code (3 : Nat) (Option.none : Option Jvm.ClassFile.FieldType)) ∈ lw_all := lw_g (lw_at lw_m4 224 rfl) rfl
theorem q1053 : (Jvm.Cond.methodLink "PictureRing$Shift" (1 : Nat) ({ cls := "java/lang/Object", name := "<init>", desc := "()V" } : Jvm.MethodName)) ∈ lw_all := lw_g (lw_at lw_m4 225 rfl) rfl
theorem q1054 : (Jvm.Cond.fieldLink "PictureRing$Shift" (7 : Nat) "PictureRing$Shift" "lowe\x72" "I") ∈ lw_all := lw_g (lw_at lw_m4 226 rfl) rfl
theorem q1058 : (Jvm.Cond.fieldLink "PictureRing$Shift" (13 : Nat) "PictureRing$Shift" "right" "I") ∈ lw_all := lw_g (lw_at lw_m4 230 rfl) rfl
theorem q1062 : (Jvm.Cond.laysFinal "PictureRing$Shift" "PictureRing$Shift" "lowe\x72" "I") ∈ lw_all := lw_g (lw_at lw_m4 234 rfl) rfl
theorem q1063 : (Jvm.Cond.soleField "PictureRing$Shift" "lowe\x72") ∈ lw_all := lw_g (lw_at lw_m4 235 rfl) rfl
theorem q1064 : (Jvm.Cond.laysFinal "PictureRing$Shift" "PictureRing$Shift" "right" "I") ∈ lw_all := lw_g (lw_at lw_m4 236 rfl) rfl
theorem q1065 : (Jvm.Cond.soleField "PictureRing$Shift" "right") ∈ lw_all := lw_g (lw_at lw_m4 237 rfl) rfl
theorem q1066 : (Jvm.Cond.superclass "PictureRing$Shift" "java/lang/Object") ∈ lw_all := lw_g (lw_at lw_m4 238 rfl) rfl
theorem q1186 : (Jvm.Cond.selects "PictureRing$Shift" ({ cls := "java/lang/Object", name := "getClass", desc := "()Ljava/lang/Class;" } : Jvm.MethodName) ({ cls := "java/lang/Object", name := "getClass", desc := "()Ljava/lang/Class;" } : Jvm.MethodName)) ∈ lw_all := lw_g (lw_at lw_m5 118 rfl) rfl
theorem q2083 : (Jvm.Cond.castable "PictureRing$Shift" "java/lang/Object") ∈ lw_tbl := lw_at lw_m9 55 rfl
theorem in_X10 : ∀ w ∈ wsX100, w ∈ lw_all := lw_in wsX100 [1062, 1064] (by decide +kernel) (by decide +kernel)
/-! PictureRing$Link -/
set_option maxRecDepth 100000
def RX11 : String := "PictureRing$Link"
def TX11 : u_T := fun k => match k with
  | 0 => ("PictureRing$Link", "from", "I", true)
  | 1 => ("PictureRing$Link", "to", "I", true)
  | 2 => ("PictureRing$Link", "shift", "LPictureRing$Shift;", true)
  | _ => ("PictureRing$Link", "votes", "I", true)
def tyX11 : Nat → FieldType := fun k => match k with
  | 0 => .int
  | 1 => .int
  | 2 => .object "PictureRing$Shift"
  | _ => .int
abbrev wsX110 : List Cond := u_ws RX11 TX11 4
theorem nmX11 : ∀ a, a < 4 → ∀ b, b < 4 → a ≠ b → (TX11 a).2.1 ≠ (TX11 b).2.1 := by decide +kernel
theorem tyX11_ok : ∀ k, k < 4 → parseFieldDescriptor (TX11 k).2.2.1 = some (tyX11 k) := by decide +kernel
abbrev cX11_init : ByteArray := prog_9_method_1_code
def yX11_init : MethodName := ⟨RX11, "<init>", "(IILPictureRing$Shift;I)V"⟩
def dkwX11_init_1 : List UInt8 := [181, 0, 22, 177]
abbrev dktX11_init_1 : List UInt8 := dkwX11_init_1 ++ []
def dkwX11_init_0 : List UInt8 := [42, 183, 0, 3, 42, 27, 181, 0, 9, 42, 28, 181, 0, 15, 42, 45, 181, 0, 18, 42, 21, 4]
abbrev dktX11_init_0 : List UInt8 := dkwX11_init_0 ++ dktX11_init_1
theorem dksX11_init_0 : cX11_init.data.toList.drop 0 = dktX11_init_0 := by decide +kernel
theorem dksX11_init_1 : cX11_init.data.toList.drop 22 = dktX11_init_1 := dk_seg dksX11_init_0 22 rfl rfl
theorem dX11_init_0 : decode cX11_init 0 = .ok (.aload_n 0, 1) := dk_42 (dk_at dksX11_init_0 0 rfl rfl)
theorem dX11_init_1 : decode cX11_init 1 = .ok (.invokespecial 3, 3) := dk_183 0 3 (dk_at dksX11_init_0 1 rfl rfl)
theorem dX11_init_4 : decode cX11_init 4 = .ok (.aload_n 0, 1) := dk_42 (dk_at dksX11_init_0 4 rfl rfl)
theorem dX11_init_5 : decode cX11_init 5 = .ok (.iload_n 1, 1) := dk_27 (dk_at dksX11_init_0 5 rfl rfl)
theorem dX11_init_6 : decode cX11_init 6 = .ok (.putfield 9, 3) := dk_181 0 9 (dk_at dksX11_init_0 6 rfl rfl)
theorem dX11_init_9 : decode cX11_init 9 = .ok (.aload_n 0, 1) := dk_42 (dk_at dksX11_init_0 9 rfl rfl)
theorem dX11_init_10 : decode cX11_init 10 = .ok (.iload_n 2, 1) := dk_28 (dk_at dksX11_init_0 10 rfl rfl)
theorem dX11_init_11 : decode cX11_init 11 = .ok (.putfield 15, 3) := dk_181 0 15 (dk_at dksX11_init_0 11 rfl rfl)
theorem dX11_init_14 : decode cX11_init 14 = .ok (.aload_n 0, 1) := dk_42 (dk_at dksX11_init_0 14 rfl rfl)
theorem dX11_init_15 : decode cX11_init 15 = .ok (.aload_n 3, 1) := dk_45 (dk_at dksX11_init_0 15 rfl rfl)
theorem dX11_init_16 : decode cX11_init 16 = .ok (.putfield 18, 3) := dk_181 0 18 (dk_at dksX11_init_0 16 rfl rfl)
theorem dX11_init_19 : decode cX11_init 19 = .ok (.aload_n 0, 1) := dk_42 (dk_at dksX11_init_0 19 rfl rfl)
theorem dX11_init_20 : decode cX11_init 20 = .ok (.iload 4, 2) := dk_21 4 (dk_at dksX11_init_0 20 rfl rfl)
theorem dX11_init_22 : decode cX11_init 22 = .ok (.putfield 22, 3) := dk_181 0 22 (dk_at dksX11_init_1 0 rfl rfl)
theorem dX11_init_25 : decode cX11_init 25 = .ok (.return_, 1) := dk_177 (dk_at dksX11_init_1 3 rfl rfl)
abbrev cX11_isRow : ByteArray := prog_9_method_2_code
def yX11_isRow : MethodName := ⟨RX11, "isRow", "(I)Z"⟩
def dkwX11_isRow_1 : List UInt8 := [20, 0, 30, 184, 0, 32, 153, 0, 7, 4, 167, 0, 4, 3, 172]
abbrev dktX11_isRow_1 : List UInt8 := dkwX11_isRow_1 ++ []
def dkwX11_isRow_0 : List UInt8 := [27, 42, 180, 0, 18, 180, 0, 25, 100, 133, 9, 20, 0, 30, 184, 0, 32, 153, 0, 19, 27, 133, 9]
abbrev dktX11_isRow_0 : List UInt8 := dkwX11_isRow_0 ++ dktX11_isRow_1
theorem dksX11_isRow_0 : cX11_isRow.data.toList.drop 0 = dktX11_isRow_0 := by decide +kernel
theorem dksX11_isRow_1 : cX11_isRow.data.toList.drop 23 = dktX11_isRow_1 := dk_seg dksX11_isRow_0 23 rfl rfl
theorem dX11_isRow_0 : decode cX11_isRow 0 = .ok (.iload_n 1, 1) := dk_27 (dk_at dksX11_isRow_0 0 rfl rfl)
theorem dX11_isRow_1 : decode cX11_isRow 1 = .ok (.aload_n 0, 1) := dk_42 (dk_at dksX11_isRow_0 1 rfl rfl)
theorem dX11_isRow_2 : decode cX11_isRow 2 = .ok (.getfield 18, 3) := dk_180 0 18 (dk_at dksX11_isRow_0 2 rfl rfl)
theorem dX11_isRow_5 : decode cX11_isRow 5 = .ok (.getfield 25, 3) := dk_180 0 25 (dk_at dksX11_isRow_0 5 rfl rfl)
theorem dX11_isRow_8 : decode cX11_isRow 8 = .ok (.isub, 1) := dk_100 (dk_at dksX11_isRow_0 8 rfl rfl)
theorem dX11_isRow_9 : decode cX11_isRow 9 = .ok (.i2l, 1) := dk_133 (dk_at dksX11_isRow_0 9 rfl rfl)
theorem dX11_isRow_10 : decode cX11_isRow 10 = .ok (.lconst 0, 1) := dk_9 (dk_at dksX11_isRow_0 10 rfl rfl)
theorem dX11_isRow_11 : decode cX11_isRow 11 = .ok (.ldc2_w 30, 3) := dk_20 0 30 (dk_at dksX11_isRow_0 11 rfl rfl)
theorem dX11_isRow_14 : decode cX11_isRow 14 = .ok (.invokestatic 32, 3) := dk_184 0 32 (dk_at dksX11_isRow_0 14 rfl rfl)
theorem dX11_isRow_17 : decode cX11_isRow 17 = .ok (.ifCond .eq 19, 3) := dk_153 0 19 (dk_at dksX11_isRow_0 17 rfl rfl)
theorem dX11_isRow_20 : decode cX11_isRow 20 = .ok (.iload_n 1, 1) := dk_27 (dk_at dksX11_isRow_0 20 rfl rfl)
theorem dX11_isRow_21 : decode cX11_isRow 21 = .ok (.i2l, 1) := dk_133 (dk_at dksX11_isRow_0 21 rfl rfl)
theorem dX11_isRow_22 : decode cX11_isRow 22 = .ok (.lconst 0, 1) := dk_9 (dk_at dksX11_isRow_0 22 rfl rfl)
theorem dX11_isRow_23 : decode cX11_isRow 23 = .ok (.ldc2_w 30, 3) := dk_20 0 30 (dk_at dksX11_isRow_1 0 rfl rfl)
theorem dX11_isRow_26 : decode cX11_isRow 26 = .ok (.invokestatic 32, 3) := dk_184 0 32 (dk_at dksX11_isRow_1 3 rfl rfl)
theorem dX11_isRow_29 : decode cX11_isRow 29 = .ok (.ifCond .eq 7, 3) := dk_153 0 7 (dk_at dksX11_isRow_1 6 rfl rfl)
theorem dX11_isRow_32 : decode cX11_isRow 32 = .ok (.iconst 1, 1) := dk_4 (dk_at dksX11_isRow_1 9 rfl rfl)
theorem dX11_isRow_33 : decode cX11_isRow 33 = .ok (.goto 4, 3) := dk_167 0 4 (dk_at dksX11_isRow_1 10 rfl rfl)
theorem dX11_isRow_36 : decode cX11_isRow 36 = .ok (.iconst 0, 1) := dk_3 (dk_at dksX11_isRow_1 13 rfl rfl)
theorem dX11_isRow_37 : decode cX11_isRow 37 = .ok (.ireturn, 1) := dk_172 (dk_at dksX11_isRow_1 14 rfl rfl)
abbrev cX11_each : ByteArray := prog_9_method_3_code
def yX11_each : MethodName := ⟨RX11, "each", "(LPictureRing$Visit;)V"⟩
def dkwX11_each_2 : List UInt8 := [167, 255, 212, 177]
abbrev dktX11_each_2 : List UInt8 := dkwX11_each_2 ++ []
def dkwX11_each_1 : List UInt8 := [182, 0, 39, 153, 0, 17, 43, 28, 29, 185, 0, 43, 3, 0, 132, 3, 1, 167, 255, 231, 132, 2, 1]
abbrev dktX11_each_1 : List UInt8 := dkwX11_each_1 ++ dktX11_each_2
def dkwX11_each_0 : List UInt8 := [3, 61, 28, 7, 162, 0, 45, 42, 180, 0, 18, 180, 0, 36, 62, 29, 16, 8, 162, 0, 25, 42, 28]
abbrev dktX11_each_0 : List UInt8 := dkwX11_each_0 ++ dktX11_each_1
theorem dksX11_each_0 : cX11_each.data.toList.drop 0 = dktX11_each_0 := by decide +kernel
theorem dksX11_each_1 : cX11_each.data.toList.drop 23 = dktX11_each_1 := dk_seg dksX11_each_0 23 rfl rfl
theorem dksX11_each_2 : cX11_each.data.toList.drop 46 = dktX11_each_2 := dk_seg dksX11_each_1 23 rfl rfl
theorem dX11_each_0 : decode cX11_each 0 = .ok (.iconst 0, 1) := dk_3 (dk_at dksX11_each_0 0 rfl rfl)
theorem dX11_each_1 : decode cX11_each 1 = .ok (.istore_n 2, 1) := dk_61 (dk_at dksX11_each_0 1 rfl rfl)
theorem dX11_each_2 : decode cX11_each 2 = .ok (.iload_n 2, 1) := dk_28 (dk_at dksX11_each_0 2 rfl rfl)
theorem dX11_each_3 : decode cX11_each 3 = .ok (.iconst 4, 1) := dk_7 (dk_at dksX11_each_0 3 rfl rfl)
theorem dX11_each_4 : decode cX11_each 4 = .ok (.if_icmp .ge 45, 3) := dk_162 0 45 (dk_at dksX11_each_0 4 rfl rfl)
theorem dX11_each_7 : decode cX11_each 7 = .ok (.aload_n 0, 1) := dk_42 (dk_at dksX11_each_0 7 rfl rfl)
theorem dX11_each_8 : decode cX11_each 8 = .ok (.getfield 18, 3) := dk_180 0 18 (dk_at dksX11_each_0 8 rfl rfl)
theorem dX11_each_11 : decode cX11_each 11 = .ok (.getfield 36, 3) := dk_180 0 36 (dk_at dksX11_each_0 11 rfl rfl)
theorem dX11_each_14 : decode cX11_each 14 = .ok (.istore_n 3, 1) := dk_62 (dk_at dksX11_each_0 14 rfl rfl)
theorem dX11_each_15 : decode cX11_each 15 = .ok (.iload_n 3, 1) := dk_29 (dk_at dksX11_each_0 15 rfl rfl)
theorem dX11_each_16 : decode cX11_each 16 = .ok (.bipush 8, 2) := dk_16 8 (dk_at dksX11_each_0 16 rfl rfl)
theorem dX11_each_18 : decode cX11_each 18 = .ok (.if_icmp .ge 25, 3) := dk_162 0 25 (dk_at dksX11_each_0 18 rfl rfl)
theorem dX11_each_21 : decode cX11_each 21 = .ok (.aload_n 0, 1) := dk_42 (dk_at dksX11_each_0 21 rfl rfl)
theorem dX11_each_22 : decode cX11_each 22 = .ok (.iload_n 2, 1) := dk_28 (dk_at dksX11_each_0 22 rfl rfl)
theorem dX11_each_23 : decode cX11_each 23 = .ok (.invokevirtual 39, 3) := dk_182 0 39 (dk_at dksX11_each_1 0 rfl rfl)
theorem dX11_each_26 : decode cX11_each 26 = .ok (.ifCond .eq 17, 3) := dk_153 0 17 (dk_at dksX11_each_1 3 rfl rfl)
theorem dX11_each_29 : decode cX11_each 29 = .ok (.aload_n 1, 1) := dk_43 (dk_at dksX11_each_1 6 rfl rfl)
theorem dX11_each_30 : decode cX11_each 30 = .ok (.iload_n 2, 1) := dk_28 (dk_at dksX11_each_1 7 rfl rfl)
theorem dX11_each_31 : decode cX11_each 31 = .ok (.iload_n 3, 1) := dk_29 (dk_at dksX11_each_1 8 rfl rfl)
theorem dX11_each_32 : decode cX11_each 32 = .ok (.invokeinterface 43 3, 5) := by decide +kernel
theorem dX11_each_37 : decode cX11_each 37 = .ok (.iinc 3 1, 3) := dk_132 3 1 (dk_at dksX11_each_1 14 rfl rfl)
theorem dX11_each_40 : decode cX11_each 40 = .ok (.goto (-25), 3) := dk_167 255 231 (dk_at dksX11_each_1 17 rfl rfl)
theorem dX11_each_43 : decode cX11_each 43 = .ok (.iinc 2 1, 3) := dk_132 2 1 (dk_at dksX11_each_1 20 rfl rfl)
theorem dX11_each_46 : decode cX11_each 46 = .ok (.goto (-44), 3) := dk_167 255 212 (dk_at dksX11_each_2 0 rfl rfl)
theorem dX11_each_49 : decode cX11_each 49 = .ok (.return_, 1) := dk_177 (dk_at dksX11_each_2 3 rfl rfl)
theorem q141 : (Jvm.Cond.initialized "PictureRing$Link") ∈ lw_all := lw_g (lw_at lw_m1 33 rfl) rfl
theorem q1055 : (Jvm.Cond.fieldLinkNest "PictureRing$Link" (25 : Nat) "PictureRing$Shift" "lowe\x72" "I" "PictureRing") ∈ lw_tbl := lw_at lw_m4 227 rfl
theorem q1059 : (Jvm.Cond.fieldLinkNest "PictureRing$Link" (36 : Nat) "PictureRing$Shift" "right" "I" "PictureRing") ∈ lw_tbl := lw_at lw_m4 231 rfl
theorem q1117 : (Jvm.Cond.instantiable "PictureRing$Link" (4 : Nat)) ∈ lw_all := lw_g (lw_at lw_m5 49 rfl) rfl
theorem q1119 : (Jvm.Cond.instanceMethod ({ cls := "PictureRing$Link", name := "<init>", desc := "(IILPictureRing$Shift;I)V" } : Jvm.MethodName)) ∈ lw_all := lw_g (lw_at lw_m5 51 rfl) rfl
theorem q1120 : (Jvm.Cond.code ({ cls := "PictureRing$Link", name := "<init>", desc := "(IILPictureRing$Shift;I)V" } : Jvm.MethodName) prog_9_method_1_code (5 : Nat) (Option.none : Option Jvm.ClassFile.FieldType)) ∈ lw_all := lw_g (lw_at lw_m5 52 rfl) rfl
theorem q1121 : (Jvm.Cond.methodLink "PictureRing$Link" (3 : Nat) ({ cls := "java/lang/Object", name := "<init>", desc := "()V" } : Jvm.MethodName)) ∈ lw_all := lw_g (lw_at lw_m5 53 rfl) rfl
theorem q1122 : (Jvm.Cond.fieldLink "PictureRing$Link" (9 : Nat) "PictureRing$Link" "from" "I") ∈ lw_all := lw_g (lw_at lw_m5 54 rfl) rfl
theorem q1126 : (Jvm.Cond.fieldLink "PictureRing$Link" (15 : Nat) "PictureRing$Link" "to" "I") ∈ lw_all := lw_g (lw_at lw_m5 58 rfl) rfl
theorem q1129 : (Jvm.Cond.fieldLink "PictureRing$Link" (18 : Nat) "PictureRing$Link" "shift" "LPictureRing$Shift;") ∈ lw_all := lw_g (lw_at lw_m5 61 rfl) rfl
theorem q1132 : (Jvm.Cond.fieldLink "PictureRing$Link" (22 : Nat) "PictureRing$Link" "votes" "I") ∈ lw_all := lw_g (lw_at lw_m5 64 rfl) rfl
theorem q1136 : (Jvm.Cond.laysFinal "PictureRing$Link" "PictureRing$Link" "from" "I") ∈ lw_all := lw_g (lw_at lw_m5 68 rfl) rfl
theorem q1137 : (Jvm.Cond.soleField "PictureRing$Link" "from") ∈ lw_all := lw_g (lw_at lw_m5 69 rfl) rfl
theorem q1138 : (Jvm.Cond.laysFinal "PictureRing$Link" "PictureRing$Link" "to" "I") ∈ lw_all := lw_g (lw_at lw_m5 70 rfl) rfl
theorem q1139 : (Jvm.Cond.soleField "PictureRing$Link" "to") ∈ lw_all := lw_g (lw_at lw_m5 71 rfl) rfl
theorem q1140 : (Jvm.Cond.laysFinal "PictureRing$Link" "PictureRing$Link" "shift" "LPictureRing$Shift;") ∈ lw_all := lw_g (lw_at lw_m5 72 rfl) rfl
theorem q1141 : (Jvm.Cond.soleField "PictureRing$Link" "shift") ∈ lw_all := lw_g (lw_at lw_m5 73 rfl) rfl
theorem q1142 : (Jvm.Cond.laysFinal "PictureRing$Link" "PictureRing$Link" "votes" "I") ∈ lw_all := lw_g (lw_at lw_m5 74 rfl) rfl
theorem q1143 : (Jvm.Cond.soleField "PictureRing$Link" "votes") ∈ lw_all := lw_g (lw_at lw_m5 75 rfl) rfl
theorem q1144 : (Jvm.Cond.superclass "PictureRing$Link" "java/lang/Object") ∈ lw_all := lw_g (lw_at lw_m5 76 rfl) rfl
theorem q1182 : (Jvm.Cond.selects "PictureRing$Link" ({ cls := "java/lang/Object", name := "getClass", desc := "()Ljava/lang/Class;" } : Jvm.MethodName) ({ cls := "java/lang/Object", name := "getClass", desc := "()Ljava/lang/Class;" } : Jvm.MethodName)) ∈ lw_all := lw_g (lw_at lw_m5 114 rfl) rfl
theorem q1272 : (Jvm.Cond.instanceMethod ({ cls := "PictureRing$Link", name := "isRow", desc := "(I)Z" } : Jvm.MethodName)) ∈ lw_all := lw_g (lw_at lw_m5 204 rfl) rfl
theorem q1273 : (Jvm.Cond.selects "PictureRing$Link" ({ cls := "PictureRing$Link", name := "isRow", desc := "(I)Z" } : Jvm.MethodName) ({ cls := "PictureRing$Link", name := "isRow", desc := "(I)Z" } : Jvm.MethodName)) ∈ lw_all := lw_g (lw_at lw_m5 205 rfl) rfl
theorem q1274 : (Jvm.Cond.code ({ cls := "PictureRing$Link", name := "isRow", desc := "(I)Z" } : Jvm.MethodName) prog_9_method_2_code (2 : Nat) (Option.some Jvm.ClassFile.FieldType.boolean)) ∈ lw_all := lw_g (lw_at lw_m5 206 rfl) rfl
theorem q1275 : (Jvm.Cond.constantLong "PictureRing$Link" (30 : Nat) (3 : Int64)) ∈ lw_all := lw_g (lw_at lw_m5 207 rfl) rfl
theorem q1276 : (Jvm.Cond.methodLinkNest "PictureRing$Link" (32 : Nat) ({ cls := "PictureRing", name := "in", desc := "(JJJ)Z" } : Jvm.MethodName) "PictureRing") ∈ lw_tbl := lw_at lw_m5 208 rfl
theorem q1302 : (Jvm.Cond.instanceMethod ({ cls := "PictureRing$Link", name := "each", desc := "(LPictureRing$Visit;)V" } : Jvm.MethodName)) ∈ lw_all := lw_g (lw_at lw_m5 234 rfl) rfl
theorem q1303 : (Jvm.Cond.selects "PictureRing$Link" ({ cls := "PictureRing$Link", name := "each", desc := "(LPictureRing$Visit;)V" } : Jvm.MethodName) ({ cls := "PictureRing$Link", name := "each", desc := "(LPictureRing$Visit;)V" } : Jvm.MethodName)) ∈ lw_all := lw_g (lw_at lw_m5 235 rfl) rfl
theorem q1304 : (Jvm.Cond.code ({ cls := "PictureRing$Link", name := "each", desc := "(LPictureRing$Visit;)V" } : Jvm.MethodName) prog_9_method_3_code (4 : Nat) (Option.none : Option Jvm.ClassFile.FieldType)) ∈ lw_all := lw_g (lw_at lw_m5 236 rfl) rfl
theorem q1305 : (Jvm.Cond.methodLink "PictureRing$Link" (39 : Nat) ({ cls := "PictureRing$Link", name := "isRow", desc := "(I)Z" } : Jvm.MethodName)) ∈ lw_all := lw_g (lw_at lw_m5 237 rfl) rfl
theorem q1306 : (Jvm.Cond.interfaceEntry "PictureRing$Link" (43 : Nat)) ∈ lw_tbl := lw_at lw_m5 238 rfl
theorem q1307 : (Jvm.Cond.methodLink "PictureRing$Link" (43 : Nat) ({ cls := "PictureRing$Visit", name := "meets", desc := "(II)V" } : Jvm.MethodName)) ∈ lw_all := lw_g (lw_at lw_m5 239 rfl) rfl
theorem q2068 : (Jvm.Cond.castable "PictureRing$Link" "java/lang/Object") ∈ lw_tbl := lw_at lw_m9 40 rfl
theorem in_X11 : ∀ w ∈ wsX110, w ∈ lw_all := lw_in wsX110 [1136, 1138, 1140, 1142] (by decide +kernel) (by decide +kernel)
/-! PictureRing$Fault -/
set_option maxRecDepth 100000
def RX12 : String := "PictureRing$Fault"
def TX12 : u_T := fun k => match k with
  | 0 => ("java/lang/Throwable", "cause", "Ljava/lang/Throwable;", false)
  | 1 => ("java/lang/Throwable", "stackTrace", "[Ljava/lang/StackTraceElement;", false)
  | 2 => ("java/lang/Throwable", "suppressedExceptions", "Ljava/util/List;", false)
  | 3 => ("java/lang/Throwable", "detailMessage", "Ljava/lang/String;", false)
  | 4 => ("java/lang/Throwable", "backtrace", "Ljava/lang/Object;", false)
  | 5 => ("java/lang/Throwable", "depth", "I", false)
  | _ => ("PictureRing$Fault", "place", "I", true)
def tyX12 : Nat → FieldType := fun k => match k with
  | 0 => .object "java/lang/Throwable"
  | 1 => .array (.object "java/lang/StackTraceElement")
  | 2 => .object "java/util/List"
  | 3 => .object "java/lang/String"
  | 4 => .object "java/lang/Object"
  | 5 => .int
  | _ => .int
abbrev wsX120 : List Cond := u_ws RX12 TX12 7
theorem nmX12 : ∀ a, a < 7 → ∀ b, b < 7 → a ≠ b → (TX12 a).2.1 ≠ (TX12 b).2.1 := by decide +kernel
theorem tyX12_ok : ∀ k, k < 7 → parseFieldDescriptor (TX12 k).2.2.1 = some (tyX12 k) := by decide +kernel
abbrev cX12_init : ByteArray := prog_6_method_1_code
def yX12_init : MethodName := ⟨RX12, "<init>", "(I)V"⟩
def dkwX12_init_0 : List UInt8 := [42, 1, 1, 3, 3, 183, 0, 1, 42, 27, 181, 0, 7, 177]
abbrev dktX12_init_0 : List UInt8 := dkwX12_init_0 ++ []
theorem dksX12_init_0 : cX12_init.data.toList.drop 0 = dktX12_init_0 := by decide +kernel
theorem dX12_init_0 : decode cX12_init 0 = .ok (.aload_n 0, 1) := dk_42 (dk_at dksX12_init_0 0 rfl rfl)
theorem dX12_init_1 : decode cX12_init 1 = .ok (.aconst_null, 1) := dk_1 (dk_at dksX12_init_0 1 rfl rfl)
theorem dX12_init_2 : decode cX12_init 2 = .ok (.aconst_null, 1) := dk_1 (dk_at dksX12_init_0 2 rfl rfl)
theorem dX12_init_3 : decode cX12_init 3 = .ok (.iconst 0, 1) := dk_3 (dk_at dksX12_init_0 3 rfl rfl)
theorem dX12_init_4 : decode cX12_init 4 = .ok (.iconst 0, 1) := dk_3 (dk_at dksX12_init_0 4 rfl rfl)
theorem dX12_init_5 : decode cX12_init 5 = .ok (.invokespecial 1, 3) := dk_183 0 1 (dk_at dksX12_init_0 5 rfl rfl)
theorem dX12_init_8 : decode cX12_init 8 = .ok (.aload_n 0, 1) := dk_42 (dk_at dksX12_init_0 8 rfl rfl)
theorem dX12_init_9 : decode cX12_init 9 = .ok (.iload_n 1, 1) := dk_27 (dk_at dksX12_init_0 9 rfl rfl)
theorem dX12_init_10 : decode cX12_init 10 = .ok (.putfield 7, 3) := dk_181 0 7 (dk_at dksX12_init_0 10 rfl rfl)
theorem dX12_init_13 : decode cX12_init 13 = .ok (.return_, 1) := dk_177 (dk_at dksX12_init_0 13 rfl rfl)
theorem q144 : (Jvm.Cond.initialized "PictureRing$Fault") ∈ lw_all := lw_g (lw_at lw_m1 36 rfl) rfl
theorem q847 : (Jvm.Cond.selects "PictureRing$Fault" ({ cls := "java/lang/Throwable", name := "fillInStackTrace", desc := "()Ljava/lang/Throwable;" } : Jvm.MethodName) ({ cls := "java/lang/Throwable", name := "fillInStackTrace", desc := "()Ljava/lang/Throwable;" } : Jvm.MethodName)) ∈ lw_all := lw_g (lw_at lw_m4 19 rfl) rfl
theorem q1179 : (Jvm.Cond.selects "PictureRing$Fault" ({ cls := "java/lang/Object", name := "getClass", desc := "()Ljava/lang/Class;" } : Jvm.MethodName) ({ cls := "java/lang/Object", name := "getClass", desc := "()Ljava/lang/Class;" } : Jvm.MethodName)) ∈ lw_all := lw_g (lw_at lw_m5 111 rfl) rfl
theorem q1468 : (Jvm.Cond.instantiable "PictureRing$Fault" (7 : Nat)) ∈ lw_all := lw_g (lw_at lw_m6 160 rfl) rfl
theorem q1469 : (Jvm.Cond.castable "PictureRing$Fault" "PictureRing$Fault") ∈ lw_tbl := lw_at lw_m6 161 rfl
theorem q1470 : (Jvm.Cond.selects "PictureRing$Fault" ({ cls := "java/lang/Throwable", name := "fillInStackTrace", desc := "(I)Ljava/lang/Throwable;" } : Jvm.MethodName) ({ cls := "java/lang/Throwable", name := "fillInStackTrace", desc := "(I)Ljava/lang/Throwable;" } : Jvm.MethodName)) ∈ lw_all := lw_g (lw_at lw_m6 162 rfl) rfl
theorem q1471 : (Jvm.Cond.lays "PictureRing$Fault" "java/lang/Throwable" "cause" "Ljava/lang/Throwable;") ∈ lw_all := lw_g (lw_at lw_m6 163 rfl) rfl
theorem q1472 : (Jvm.Cond.lays "PictureRing$Fault" "java/lang/Throwable" "stackTrace" "[Ljava/lang/StackTraceElement;") ∈ lw_all := lw_g (lw_at lw_m6 164 rfl) rfl
theorem q1473 : (Jvm.Cond.lays "PictureRing$Fault" "java/lang/Throwable" "suppressedExceptions" "Ljava/util/List;") ∈ lw_all := lw_g (lw_at lw_m6 165 rfl) rfl
theorem q1474 : (Jvm.Cond.lays "PictureRing$Fault" "java/lang/Throwable" "detailMessage" "Ljava/lang/String;") ∈ lw_all := lw_g (lw_at lw_m6 166 rfl) rfl
theorem q1475 : (Jvm.Cond.lays "PictureRing$Fault" "java/lang/Throwable" "backtrace" "Ljava/lang/Object;") ∈ lw_all := lw_g (lw_at lw_m6 167 rfl) rfl
theorem q1477 : (Jvm.Cond.instanceMethod ({ cls := "PictureRing$Fault", name := "<init>", desc := "(I)V" } : Jvm.MethodName)) ∈ lw_all := lw_g (lw_at lw_m6 169 rfl) rfl
theorem q1478 : (Jvm.Cond.code ({ cls := "PictureRing$Fault", name := "<init>", desc := "(I)V" } : Jvm.MethodName) prog_6_method_1_code (2 : Nat) (Option.none : Option Jvm.ClassFile.FieldType)) ∈ lw_all := lw_g (lw_at lw_m6 170 rfl) rfl
theorem q1479 : (Jvm.Cond.methodLink "PictureRing$Fault" (1 : Nat) ({ cls := "java/lang/Exception", name := "<init>", desc := "(Ljava/lang/String;Ljava/lang/Throwable;ZZ)V" } : Jvm.MethodName)) ∈ lw_all := lw_g (lw_at lw_m6 171 rfl) rfl
theorem q1485 : (Jvm.Cond.fieldLink "PictureRing$Fault" (7 : Nat) "PictureRing$Fault" "place" "I") ∈ lw_all := lw_g (lw_at lw_m6 177 rfl) rfl
theorem q1487 : (Jvm.Cond.laysFinal "PictureRing$Fault" "PictureRing$Fault" "place" "I") ∈ lw_all := lw_g (lw_at lw_m6 179 rfl) rfl
theorem q1488 : (Jvm.Cond.soleField "PictureRing$Fault" "place") ∈ lw_all := lw_g (lw_at lw_m6 180 rfl) rfl
theorem q1489 : (Jvm.Cond.lays "PictureRing$Fault" "java/lang/Throwable" "depth" "I") ∈ lw_all := lw_g (lw_at lw_m6 181 rfl) rfl
theorem q1490 : (Jvm.Cond.superclass "PictureRing$Fault" "java/lang/Exception") ∈ lw_all := lw_g (lw_at lw_m6 182 rfl) rfl
theorem q2085 : (Jvm.Cond.castable "PictureRing$Fault" "java/lang/Object") ∈ lw_tbl := lw_at lw_m9 57 rfl
theorem in_X12 : ∀ w ∈ wsX120, w ∈ lw_all := lw_in wsX120 [1471, 1472, 1473, 1474, 1475, 1489, 1487] (by decide +kernel) (by decide +kernel)
/-! PictureRing$Refused -/
set_option maxRecDepth 100000
def RX13 : String := "PictureRing$Refused"
def TX13 : u_T := fun k => match k with
  | 0 => ("java/lang/Throwable", "cause", "Ljava/lang/Throwable;", false)
  | 1 => ("java/lang/Throwable", "stackTrace", "[Ljava/lang/StackTraceElement;", false)
  | 2 => ("java/lang/Throwable", "suppressedExceptions", "Ljava/util/List;", false)
  | 3 => ("java/lang/Throwable", "detailMessage", "Ljava/lang/String;", false)
  | 4 => ("java/lang/Throwable", "backtrace", "Ljava/lang/Object;", false)
  | 5 => ("java/lang/Throwable", "depth", "I", false)
  | _ => ("PictureRing$Refused", "answe\x72", "I", true)
def tyX13 : Nat → FieldType := fun k => match k with
  | 0 => .object "java/lang/Throwable"
  | 1 => .array (.object "java/lang/StackTraceElement")
  | 2 => .object "java/util/List"
  | 3 => .object "java/lang/String"
  | 4 => .object "java/lang/Object"
  | 5 => .int
  | _ => .int
abbrev wsX130 : List Cond := u_ws RX13 TX13 7
theorem nmX13 : ∀ a, a < 7 → ∀ b, b < 7 → a ≠ b → (TX13 a).2.1 ≠ (TX13 b).2.1 := by decide +kernel
theorem tyX13_ok : ∀ k, k < 7 → parseFieldDescriptor (TX13 k).2.2.1 = some (tyX13 k) := by decide +kernel
abbrev cX13_init : ByteArray := prog_12_method_1_code
def yX13_init : MethodName := ⟨RX13, "<init>", "(I)V"⟩
def dkwX13_init_0 : List UInt8 := [42, 1, 1, 3, 3, 183, 0, 1, 42, 27, 181, 0, 7, 177]
abbrev dktX13_init_0 : List UInt8 := dkwX13_init_0 ++ []
theorem dksX13_init_0 : cX13_init.data.toList.drop 0 = dktX13_init_0 := by decide +kernel
theorem dX13_init_0 : decode cX13_init 0 = .ok (.aload_n 0, 1) := dk_42 (dk_at dksX13_init_0 0 rfl rfl)
theorem dX13_init_1 : decode cX13_init 1 = .ok (.aconst_null, 1) := dk_1 (dk_at dksX13_init_0 1 rfl rfl)
theorem dX13_init_2 : decode cX13_init 2 = .ok (.aconst_null, 1) := dk_1 (dk_at dksX13_init_0 2 rfl rfl)
theorem dX13_init_3 : decode cX13_init 3 = .ok (.iconst 0, 1) := dk_3 (dk_at dksX13_init_0 3 rfl rfl)
theorem dX13_init_4 : decode cX13_init 4 = .ok (.iconst 0, 1) := dk_3 (dk_at dksX13_init_0 4 rfl rfl)
theorem dX13_init_5 : decode cX13_init 5 = .ok (.invokespecial 1, 3) := dk_183 0 1 (dk_at dksX13_init_0 5 rfl rfl)
theorem dX13_init_8 : decode cX13_init 8 = .ok (.aload_n 0, 1) := dk_42 (dk_at dksX13_init_0 8 rfl rfl)
theorem dX13_init_9 : decode cX13_init 9 = .ok (.iload_n 1, 1) := dk_27 (dk_at dksX13_init_0 9 rfl rfl)
theorem dX13_init_10 : decode cX13_init 10 = .ok (.putfield 7, 3) := dk_181 0 7 (dk_at dksX13_init_0 10 rfl rfl)
theorem dX13_init_13 : decode cX13_init 13 = .ok (.return_, 1) := dk_177 (dk_at dksX13_init_0 13 rfl rfl)
theorem q145 : (Jvm.Cond.initialized "PictureRing$Refused") ∈ lw_all := lw_g (lw_at lw_m1 37 rfl) rfl
theorem q848 : (Jvm.Cond.selects "PictureRing$Refused" ({ cls := "java/lang/Throwable", name := "fillInStackTrace", desc := "()Ljava/lang/Throwable;" } : Jvm.MethodName) ({ cls := "java/lang/Throwable", name := "fillInStackTrace", desc := "()Ljava/lang/Throwable;" } : Jvm.MethodName)) ∈ lw_all := lw_g (lw_at lw_m4 20 rfl) rfl
theorem q1185 : (Jvm.Cond.selects "PictureRing$Refused" ({ cls := "java/lang/Object", name := "getClass", desc := "()Ljava/lang/Class;" } : Jvm.MethodName) ({ cls := "java/lang/Object", name := "getClass", desc := "()Ljava/lang/Class;" } : Jvm.MethodName)) ∈ lw_all := lw_g (lw_at lw_m5 117 rfl) rfl
theorem q1546 : (Jvm.Cond.instantiable "PictureRing$Refused" (7 : Nat)) ∈ lw_all := lw_g (lw_at lw_m6 238 rfl) rfl
theorem q1547 : (Jvm.Cond.castable "PictureRing$Refused" "PictureRing$Refused") ∈ lw_tbl := lw_at lw_m6 239 rfl
theorem q1548 : (Jvm.Cond.selects "PictureRing$Refused" ({ cls := "java/lang/Throwable", name := "fillInStackTrace", desc := "(I)Ljava/lang/Throwable;" } : Jvm.MethodName) ({ cls := "java/lang/Throwable", name := "fillInStackTrace", desc := "(I)Ljava/lang/Throwable;" } : Jvm.MethodName)) ∈ lw_all := lw_g (lw_at lw_m7 0 rfl) rfl
theorem q1549 : (Jvm.Cond.lays "PictureRing$Refused" "java/lang/Throwable" "cause" "Ljava/lang/Throwable;") ∈ lw_all := lw_g (lw_at lw_m7 1 rfl) rfl
theorem q1550 : (Jvm.Cond.lays "PictureRing$Refused" "java/lang/Throwable" "stackTrace" "[Ljava/lang/StackTraceElement;") ∈ lw_all := lw_g (lw_at lw_m7 2 rfl) rfl
theorem q1551 : (Jvm.Cond.lays "PictureRing$Refused" "java/lang/Throwable" "suppressedExceptions" "Ljava/util/List;") ∈ lw_all := lw_g (lw_at lw_m7 3 rfl) rfl
theorem q1552 : (Jvm.Cond.lays "PictureRing$Refused" "java/lang/Throwable" "detailMessage" "Ljava/lang/String;") ∈ lw_all := lw_g (lw_at lw_m7 4 rfl) rfl
theorem q1553 : (Jvm.Cond.lays "PictureRing$Refused" "java/lang/Throwable" "backtrace" "Ljava/lang/Object;") ∈ lw_all := lw_g (lw_at lw_m7 5 rfl) rfl
theorem q1555 : (Jvm.Cond.instanceMethod ({ cls := "PictureRing$Refused", name := "<init>", desc := "(I)V" } : Jvm.MethodName)) ∈ lw_all := lw_g (lw_at lw_m7 7 rfl) rfl
theorem q1556 : (Jvm.Cond.code ({ cls := "PictureRing$Refused", name := "<init>", desc := "(I)V" } : Jvm.MethodName) prog_12_method_1_code (2 : Nat) (Option.none : Option Jvm.ClassFile.FieldType)) ∈ lw_all := lw_g (lw_at lw_m7 8 rfl) rfl
theorem q1557 : (Jvm.Cond.methodLink "PictureRing$Refused" (1 : Nat) ({ cls := "java/lang/Exception", name := "<init>", desc := "(Ljava/lang/String;Ljava/lang/Throwable;ZZ)V" } : Jvm.MethodName)) ∈ lw_all := lw_g (lw_at lw_m7 9 rfl) rfl
theorem q1558 : (Jvm.Cond.fieldLink "PictureRing$Refused" (7 : Nat) "PictureRing$Refused" "answe\x72" "I") ∈ lw_all := lw_g (lw_at lw_m7 10 rfl) rfl
theorem q1560 : (Jvm.Cond.laysFinal "PictureRing$Refused" "PictureRing$Refused" "answe\x72" "I") ∈ lw_all := lw_g (lw_at lw_m7 12 rfl) rfl
theorem q1561 : (Jvm.Cond.soleField "PictureRing$Refused" "answe\x72") ∈ lw_all := lw_g (lw_at lw_m7 13 rfl) rfl
theorem q1562 : (Jvm.Cond.lays "PictureRing$Refused" "java/lang/Throwable" "depth" "I") ∈ lw_all := lw_g (lw_at lw_m7 14 rfl) rfl
theorem q1563 : (Jvm.Cond.superclass "PictureRing$Refused" "java/lang/Exception") ∈ lw_all := lw_g (lw_at lw_m7 15 rfl) rfl
theorem q2086 : (Jvm.Cond.castable "PictureRing$Refused" "java/lang/Object") ∈ lw_tbl := lw_at lw_m9 58 rfl
theorem in_X13 : ∀ w ∈ wsX130, w ∈ lw_all := lw_in wsX130 [1549, 1550, 1551, 1552, 1553, 1562, 1560] (by decide +kernel) (by decide +kernel)
/-! PictureRing$Stopped -/
set_option maxRecDepth 100000
def RX14 : String := "PictureRing$Stopped"
def TX14 : u_T := fun k => match k with
  | 0 => ("java/lang/Throwable", "cause", "Ljava/lang/Throwable;", false)
  | 1 => ("java/lang/Throwable", "stackTrace", "[Ljava/lang/StackTraceElement;", false)
  | 2 => ("java/lang/Throwable", "suppressedExceptions", "Ljava/util/List;", false)
  | 3 => ("java/lang/Throwable", "detailMessage", "Ljava/lang/String;", false)
  | 4 => ("java/lang/Throwable", "backtrace", "Ljava/lang/Object;", false)
  | 5 => ("java/lang/Throwable", "depth", "I", false)
  | _ => ("PictureRing$Stopped", "orde\x72", "I", true)
def tyX14 : Nat → FieldType := fun k => match k with
  | 0 => .object "java/lang/Throwable"
  | 1 => .array (.object "java/lang/StackTraceElement")
  | 2 => .object "java/util/List"
  | 3 => .object "java/lang/String"
  | 4 => .object "java/lang/Object"
  | 5 => .int
  | _ => .int
abbrev wsX140 : List Cond := u_ws RX14 TX14 7
theorem nmX14 : ∀ a, a < 7 → ∀ b, b < 7 → a ≠ b → (TX14 a).2.1 ≠ (TX14 b).2.1 := by decide +kernel
theorem tyX14_ok : ∀ k, k < 7 → parseFieldDescriptor (TX14 k).2.2.1 = some (tyX14 k) := by decide +kernel
abbrev cX14_init : ByteArray := prog_15_method_1_code
def yX14_init : MethodName := ⟨RX14, "<init>", "(ILPictureRing$Refused;)V"⟩
def dkwX14_init_0 : List UInt8 := [42, 1, 44, 3, 3, 183, 0, 1, 42, 27, 181, 0, 7, 177]
abbrev dktX14_init_0 : List UInt8 := dkwX14_init_0 ++ []
theorem dksX14_init_0 : cX14_init.data.toList.drop 0 = dktX14_init_0 := by decide +kernel
theorem dX14_init_0 : decode cX14_init 0 = .ok (.aload_n 0, 1) := dk_42 (dk_at dksX14_init_0 0 rfl rfl)
theorem dX14_init_1 : decode cX14_init 1 = .ok (.aconst_null, 1) := dk_1 (dk_at dksX14_init_0 1 rfl rfl)
theorem dX14_init_2 : decode cX14_init 2 = .ok (.aload_n 2, 1) := dk_44 (dk_at dksX14_init_0 2 rfl rfl)
theorem dX14_init_3 : decode cX14_init 3 = .ok (.iconst 0, 1) := dk_3 (dk_at dksX14_init_0 3 rfl rfl)
theorem dX14_init_4 : decode cX14_init 4 = .ok (.iconst 0, 1) := dk_3 (dk_at dksX14_init_0 4 rfl rfl)
theorem dX14_init_5 : decode cX14_init 5 = .ok (.invokespecial 1, 3) := dk_183 0 1 (dk_at dksX14_init_0 5 rfl rfl)
theorem dX14_init_8 : decode cX14_init 8 = .ok (.aload_n 0, 1) := dk_42 (dk_at dksX14_init_0 8 rfl rfl)
theorem dX14_init_9 : decode cX14_init 9 = .ok (.iload_n 1, 1) := dk_27 (dk_at dksX14_init_0 9 rfl rfl)
theorem dX14_init_10 : decode cX14_init 10 = .ok (.putfield 7, 3) := dk_181 0 7 (dk_at dksX14_init_0 10 rfl rfl)
theorem dX14_init_13 : decode cX14_init 13 = .ok (.return_, 1) := dk_177 (dk_at dksX14_init_0 13 rfl rfl)
theorem q146 : (Jvm.Cond.initialized "PictureRing$Stopped") ∈ lw_all := lw_g (lw_at lw_m1 38 rfl) rfl
theorem q849 : (Jvm.Cond.selects "PictureRing$Stopped" ({ cls := "java/lang/Throwable", name := "fillInStackTrace", desc := "()Ljava/lang/Throwable;" } : Jvm.MethodName) ({ cls := "java/lang/Throwable", name := "fillInStackTrace", desc := "()Ljava/lang/Throwable;" } : Jvm.MethodName)) ∈ lw_all := lw_g (lw_at lw_m4 21 rfl) rfl
theorem q1188 : (Jvm.Cond.selects "PictureRing$Stopped" ({ cls := "java/lang/Object", name := "getClass", desc := "()Ljava/lang/Class;" } : Jvm.MethodName) ({ cls := "java/lang/Object", name := "getClass", desc := "()Ljava/lang/Class;" } : Jvm.MethodName)) ∈ lw_all := lw_g (lw_at lw_m5 120 rfl) rfl
theorem q1565 : (Jvm.Cond.instantiable "PictureRing$Stopped" (7 : Nat)) ∈ lw_all := lw_g (lw_at lw_m7 17 rfl) rfl
theorem q1566 : (Jvm.Cond.castable "PictureRing$Stopped" "PictureRing$Stopped") ∈ lw_tbl := lw_at lw_m7 18 rfl
theorem q1567 : (Jvm.Cond.selects "PictureRing$Stopped" ({ cls := "java/lang/Throwable", name := "fillInStackTrace", desc := "(I)Ljava/lang/Throwable;" } : Jvm.MethodName) ({ cls := "java/lang/Throwable", name := "fillInStackTrace", desc := "(I)Ljava/lang/Throwable;" } : Jvm.MethodName)) ∈ lw_all := lw_g (lw_at lw_m7 19 rfl) rfl
theorem q1568 : (Jvm.Cond.lays "PictureRing$Stopped" "java/lang/Throwable" "cause" "Ljava/lang/Throwable;") ∈ lw_all := lw_g (lw_at lw_m7 20 rfl) rfl
theorem q1569 : (Jvm.Cond.lays "PictureRing$Stopped" "java/lang/Throwable" "stackTrace" "[Ljava/lang/StackTraceElement;") ∈ lw_all := lw_g (lw_at lw_m7 21 rfl) rfl
theorem q1570 : (Jvm.Cond.lays "PictureRing$Stopped" "java/lang/Throwable" "suppressedExceptions" "Ljava/util/List;") ∈ lw_all := lw_g (lw_at lw_m7 22 rfl) rfl
theorem q1571 : (Jvm.Cond.lays "PictureRing$Stopped" "java/lang/Throwable" "detailMessage" "Ljava/lang/String;") ∈ lw_all := lw_g (lw_at lw_m7 23 rfl) rfl
theorem q1572 : (Jvm.Cond.lays "PictureRing$Stopped" "java/lang/Throwable" "backtrace" "Ljava/lang/Object;") ∈ lw_all := lw_g (lw_at lw_m7 24 rfl) rfl
theorem q1574 : (Jvm.Cond.instanceMethod ({ cls := "PictureRing$Stopped", name := "<init>", desc := "(ILPictureRing$Refused;)V" } : Jvm.MethodName)) ∈ lw_all := lw_g (lw_at lw_m7 26 rfl) rfl
theorem q1575 : (Jvm.Cond.code ({ cls := "PictureRing$Stopped", name := "<init>", desc := "(ILPictureRing$Refused;)V" } : Jvm.MethodName) prog_15_method_1_code (3 : Nat) (Option.none : Option Jvm.ClassFile.FieldType)) ∈ lw_all := lw_g (lw_at lw_m7 27 rfl) rfl
theorem q1576 : (Jvm.Cond.methodLink "PictureRing$Stopped" (1 : Nat) ({ cls := "java/lang/Exception", name := "<init>", desc := "(Ljava/lang/String;Ljava/lang/Throwable;ZZ)V" } : Jvm.MethodName)) ∈ lw_all := lw_g (lw_at lw_m7 28 rfl) rfl
theorem q1577 : (Jvm.Cond.fieldLink "PictureRing$Stopped" (7 : Nat) "PictureRing$Stopped" "orde\x72" "I") ∈ lw_all := lw_g (lw_at lw_m7 29 rfl) rfl
theorem q1579 : (Jvm.Cond.laysFinal "PictureRing$Stopped" "PictureRing$Stopped" "orde\x72" "I") ∈ lw_all := lw_g (lw_at lw_m7 31 rfl) rfl
theorem q1580 : (Jvm.Cond.soleField "PictureRing$Stopped" "orde\x72") ∈ lw_all := lw_g (lw_at lw_m7 32 rfl) rfl
theorem q1581 : (Jvm.Cond.lays "PictureRing$Stopped" "java/lang/Throwable" "depth" "I") ∈ lw_all := lw_g (lw_at lw_m7 33 rfl) rfl
theorem q1582 : (Jvm.Cond.superclass "PictureRing$Stopped" "java/lang/Exception") ∈ lw_all := lw_g (lw_at lw_m7 34 rfl) rfl
theorem q1584 : (Jvm.Cond.sameMethod "PictureRing$Stopped" "java/lang/Throwable" "getCause" "()Ljava/lang/Throwable;") ∈ lw_all := lw_g (lw_at lw_m7 36 rfl) rfl
theorem q1586 : (Jvm.Cond.selects "PictureRing$Stopped" ({ cls := "PictureRing$Stopped", name := "getCause", desc := "()Ljava/lang/Throwable;" } : Jvm.MethodName) ({ cls := "java/lang/Throwable", name := "getCause", desc := "()Ljava/lang/Throwable;" } : Jvm.MethodName)) ∈ lw_all := lw_g (lw_at lw_m7 38 rfl) rfl
theorem q2087 : (Jvm.Cond.castable "PictureRing$Stopped" "java/lang/Object") ∈ lw_tbl := lw_at lw_m9 59 rfl
theorem in_X14 : ∀ w ∈ wsX140, w ∈ lw_all := lw_in wsX140 [1568, 1569, 1570, 1571, 1572, 1581, 1579] (by decide +kernel) (by decide +kernel)

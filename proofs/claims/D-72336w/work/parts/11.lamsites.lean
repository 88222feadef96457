/-! THE LAMBDA SITES: what the made classes hold (reckoned by lam.py, checked by the kernel) -/
def wbS0 : Lambda.Shape := { iface := "", name := "", sam := ⟨[], none⟩, captured := [], kind := 0, implClass := "", implName := "", implDesc := ⟨[], none⟩, implItf := false, inst := ⟨[], none⟩ }
def wb_sh (w : Cond) : Lambda.Shape := match w with | .lambdaSite _ _ _ sh => sh | _ => wbS0
def wbD0 : ClassFile := { minorVersion := 0, majorVersion := 0, constantPool := #[], accessFlags := 0, thisClass := 0, superClass := 0, interfaces := #[], fields := #[], methods := #[], attributes := #[] }
/-- lambda$way$0 -/
def wbS1 : Lambda.Shape := wb_sh siteWord_1_1
def wbD1 : ClassFile := (wbS1.file "PictureRing").getD wbD0
def wbW1 : Method := ((layoutMethods wbD1).bind (·[1]?)).getD default
def wbL1 : Array Field × Array FieldType × Array FieldType := (layoutFields wbD1 0).getD (#[], #[], #[])
def wbB1 : ByteArray := ⟨#[42, 180, 0, 16, 42, 180, 0, 18, 43, 28, 29, 184, 0, 26, 172]⟩
theorem wbD1_is : wbS1.file "PictureRing" = some wbD1 := by
  have h : (wbS1.file "PictureRing").isSome = true := by decide +kernel
  obtain ⟨x, hx⟩ := Option.isSome_iff_exists.mp h
  simp [wbD1, hx]
theorem wbW1_is : ((layoutMethods wbD1).bind (·[1]?)) = some wbW1 := by
  have h : ((layoutMethods wbD1).bind (·[1]?)).isSome = true := by decide +kernel
  obtain ⟨x, hx⟩ := Option.isSome_iff_exists.mp h
  simp [wbW1, hx]
theorem wbL1_is : layoutFields wbD1 0 = some wbL1 := by
  have h : (layoutFields wbD1 0).isSome = true := by decide +kernel
  obtain ⟨x, hx⟩ := Option.isSome_iff_exists.mp h
  simp [wbL1, hx]
theorem wbL1_t : wbL1.2.1 = wbS1.captured.toArray := by decide +kernel
theorem wbM1 {U : State} {c : ClassId} (h : wb_LF wbS1 "PictureRing" c U) : wb_M c wbB1 4 (some FieldType.int) U := wb_genM wbD1_is wbW1_is (by decide +kernel) (by decide +kernel) (by decide +kernel) h
theorem wbF1_0 {U : State} {c : ClassId} (hO : ∀ o ok, U.vm.findClass "java/lang/Object" = some o → U.vm.classes[o]? = some ok → ok.instanceTypes.size = 0) (h : wb_LF wbS1 "PictureRing" c U) : ∃ f : Field, U.vm.fieldReady c 16 c f ∧ f.isStatic = false ∧ f.slot = 0 := wb_genF (ci := 2) (nt := 15) (nm := "arg$1") (dsc := "I") wbD1_is wbL1_is hO (by decide +kernel) (by decide +kernel) (by decide +kernel) (by decide +kernel) h
theorem wbF1_1 {U : State} {c : ClassId} (hO : ∀ o ok, U.vm.findClass "java/lang/Object" = some o → U.vm.classes[o]? = some ok → ok.instanceTypes.size = 0) (h : wb_LF wbS1 "PictureRing" c U) : ∃ f : Field, U.vm.fieldReady c 18 c f ∧ f.isStatic = false ∧ f.slot = 1 := wb_genF (ci := 2) (nt := 17) (nm := "arg$2") (dsc := "I") wbD1_is wbL1_is hO (by decide +kernel) (by decide +kernel) (by decide +kernel) (by decide +kernel) h
theorem wbd1_0 : decode wbB1 0 = .ok (.aload_n 0, 1) := by decide +kernel
theorem wbd1_1 : decode wbB1 1 = .ok (.getfield 16, 3) := by decide +kernel
theorem wbd1_4 : decode wbB1 4 = .ok (.aload_n 0, 1) := by decide +kernel
theorem wbd1_5 : decode wbB1 5 = .ok (.getfield 18, 3) := by decide +kernel
theorem wbd1_8 : decode wbB1 8 = .ok (.aload_n 1, 1) := by decide +kernel
theorem wbd1_9 : decode wbB1 9 = .ok (.iload_n 2, 1) := by decide +kernel
theorem wbd1_10 : decode wbB1 10 = .ok (.iload_n 3, 1) := by decide +kernel
theorem wbd1_11 : decode wbB1 11 = .ok (.invokestatic 26, 3) := by decide +kernel
theorem wbd1_14 : decode wbB1 14 = .ok (.ireturn, 1) := by decide +kernel
/-- lambda$cornersOf$1 -/
def wbS2 : Lambda.Shape := wb_sh siteWord_1_2
def wbD2 : ClassFile := (wbS2.file "PictureRing").getD wbD0
def wbW2 : Method := ((layoutMethods wbD2).bind (·[1]?)).getD default
def wbL2 : Array Field × Array FieldType × Array FieldType := (layoutFields wbD2 0).getD (#[], #[], #[])
def wbB2 : ByteArray := ⟨#[42, 180, 0, 17, 42, 180, 0, 19, 27, 182, 0, 27, 172]⟩
theorem wbD2_is : wbS2.file "PictureRing" = some wbD2 := by
  have h : (wbS2.file "PictureRing").isSome = true := by decide +kernel
  obtain ⟨x, hx⟩ := Option.isSome_iff_exists.mp h
  simp [wbD2, hx]
theorem wbW2_is : ((layoutMethods wbD2).bind (·[1]?)) = some wbW2 := by
  have h : ((layoutMethods wbD2).bind (·[1]?)).isSome = true := by decide +kernel
  obtain ⟨x, hx⟩ := Option.isSome_iff_exists.mp h
  simp [wbW2, hx]
theorem wbL2_is : layoutFields wbD2 0 = some wbL2 := by
  have h : (layoutFields wbD2 0).isSome = true := by decide +kernel
  obtain ⟨x, hx⟩ := Option.isSome_iff_exists.mp h
  simp [wbL2, hx]
theorem wbL2_t : wbL2.2.1 = wbS2.captured.toArray := by decide +kernel
theorem wbM2 {U : State} {c : ClassId} (h : wb_LF wbS2 "PictureRing" c U) : wb_M c wbB2 2 (some FieldType.boolean) U := wb_genM wbD2_is wbW2_is (by decide +kernel) (by decide +kernel) (by decide +kernel) h
theorem wbF2_0 {U : State} {c : ClassId} (hO : ∀ o ok, U.vm.findClass "java/lang/Object" = some o → U.vm.classes[o]? = some ok → ok.instanceTypes.size = 0) (h : wb_LF wbS2 "PictureRing" c U) : ∃ f : Field, U.vm.fieldReady c 17 c f ∧ f.isStatic = false ∧ f.slot = 0 := wb_genF (ci := 2) (nt := 16) (nm := "arg$1") (dsc := "LPictureRing;") wbD2_is wbL2_is hO (by decide +kernel) (by decide +kernel) (by decide +kernel) (by decide +kernel) h
theorem wbF2_1 {U : State} {c : ClassId} (hO : ∀ o ok, U.vm.findClass "java/lang/Object" = some o → U.vm.classes[o]? = some ok → ok.instanceTypes.size = 0) (h : wb_LF wbS2 "PictureRing" c U) : ∃ f : Field, U.vm.fieldReady c 19 c f ∧ f.isStatic = false ∧ f.slot = 1 := wb_genF (ci := 2) (nt := 18) (nm := "arg$2") (dsc := "LPictureRing$Picture;") wbD2_is wbL2_is hO (by decide +kernel) (by decide +kernel) (by decide +kernel) (by decide +kernel) h
theorem wbd2_0 : decode wbB2 0 = .ok (.aload_n 0, 1) := by decide +kernel
theorem wbd2_1 : decode wbB2 1 = .ok (.getfield 17, 3) := by decide +kernel
theorem wbd2_4 : decode wbB2 4 = .ok (.aload_n 0, 1) := by decide +kernel
theorem wbd2_5 : decode wbB2 5 = .ok (.getfield 19, 3) := by decide +kernel
theorem wbd2_8 : decode wbB2 8 = .ok (.iload_n 1, 1) := by decide +kernel
theorem wbd2_9 : decode wbB2 9 = .ok (.invokevirtual 27, 3) := by decide +kernel
theorem wbd2_12 : decode wbB2 12 = .ok (.ireturn, 1) := by decide +kernel
/-- lambda$measures$0 -/
def wbS3 : Lambda.Shape := wb_sh siteWord_1_3
def wbD3 : ClassFile := (wbS3.file "PictureRing$Joine\x72").getD wbD0
def wbW3 : Method := ((layoutMethods wbD3).bind (·[1]?)).getD default
def wbL3 : Array Field × Array FieldType × Array FieldType := (layoutFields wbD3 0).getD (#[], #[], #[])
def wbB3 : ByteArray := ⟨#[42, 180, 0, 17, 42, 180, 0, 19, 27, 28, 182, 0, 27, 177]⟩
theorem wbD3_is : wbS3.file "PictureRing$Joine\x72" = some wbD3 := by
  have h : (wbS3.file "PictureRing$Joine\x72").isSome = true := by decide +kernel
  obtain ⟨x, hx⟩ := Option.isSome_iff_exists.mp h
  simp [wbD3, hx]
theorem wbW3_is : ((layoutMethods wbD3).bind (·[1]?)) = some wbW3 := by
  have h : ((layoutMethods wbD3).bind (·[1]?)).isSome = true := by decide +kernel
  obtain ⟨x, hx⟩ := Option.isSome_iff_exists.mp h
  simp [wbW3, hx]
theorem wbL3_is : layoutFields wbD3 0 = some wbL3 := by
  have h : (layoutFields wbD3 0).isSome = true := by decide +kernel
  obtain ⟨x, hx⟩ := Option.isSome_iff_exists.mp h
  simp [wbL3, hx]
theorem wbL3_t : wbL3.2.1 = wbS3.captured.toArray := by decide +kernel
theorem wbM3 {U : State} {c : ClassId} (h : wb_LF wbS3 "PictureRing$Joine\x72" c U) : wb_M c wbB3 3 (none : Option FieldType) U := wb_genM wbD3_is wbW3_is (by decide +kernel) (by decide +kernel) (by decide +kernel) h
theorem wbF3_0 {U : State} {c : ClassId} (hO : ∀ o ok, U.vm.findClass "java/lang/Object" = some o → U.vm.classes[o]? = some ok → ok.instanceTypes.size = 0) (h : wb_LF wbS3 "PictureRing$Joine\x72" c U) : ∃ f : Field, U.vm.fieldReady c 17 c f ∧ f.isStatic = false ∧ f.slot = 0 := wb_genF (ci := 2) (nt := 16) (nm := "arg$1") (dsc := "LPictureRing$Joiner;") wbD3_is wbL3_is hO (by decide +kernel) (by decide +kernel) (by decide +kernel) (by decide +kernel) h
theorem wbF3_1 {U : State} {c : ClassId} (hO : ∀ o ok, U.vm.findClass "java/lang/Object" = some o → U.vm.classes[o]? = some ok → ok.instanceTypes.size = 0) (h : wb_LF wbS3 "PictureRing$Joine\x72" c U) : ∃ f : Field, U.vm.fieldReady c 19 c f ∧ f.isStatic = false ∧ f.slot = 1 := wb_genF (ci := 2) (nt := 18) (nm := "arg$2") (dsc := "LPictureRing$Link;") wbD3_is wbL3_is hO (by decide +kernel) (by decide +kernel) (by decide +kernel) (by decide +kernel) h
theorem wbd3_0 : decode wbB3 0 = .ok (.aload_n 0, 1) := by decide +kernel
theorem wbd3_1 : decode wbB3 1 = .ok (.getfield 17, 3) := by decide +kernel
theorem wbd3_4 : decode wbB3 4 = .ok (.aload_n 0, 1) := by decide +kernel
theorem wbd3_5 : decode wbB3 5 = .ok (.getfield 19, 3) := by decide +kernel
theorem wbd3_8 : decode wbB3 8 = .ok (.iload_n 1, 1) := by decide +kernel
theorem wbd3_9 : decode wbB3 9 = .ok (.iload_n 2, 1) := by decide +kernel
theorem wbd3_10 : decode wbB3 10 = .ok (.invokevirtual 27, 3) := by decide +kernel
theorem wbd3_13 : decode wbB3 13 = .ok (.return_, 1) := by decide +kernel
/-- lambda$allOf$2 -/
def wbS4 : Lambda.Shape := wb_sh siteWord_1_4
def wbD4 : ClassFile := (wbS4.file "PictureRing").getD wbD0
def wbW4 : Method := ((layoutMethods wbD4).bind (·[1]?)).getD default
def wbL4 : Array Field × Array FieldType × Array FieldType := (layoutFields wbD4 0).getD (#[], #[], #[])
def wbB4 : ByteArray := ⟨#[42, 180, 0, 15, 27, 184, 0, 23, 172]⟩
theorem wbD4_is : wbS4.file "PictureRing" = some wbD4 := by
  have h : (wbS4.file "PictureRing").isSome = true := by decide +kernel
  obtain ⟨x, hx⟩ := Option.isSome_iff_exists.mp h
  simp [wbD4, hx]
theorem wbW4_is : ((layoutMethods wbD4).bind (·[1]?)) = some wbW4 := by
  have h : ((layoutMethods wbD4).bind (·[1]?)).isSome = true := by decide +kernel
  obtain ⟨x, hx⟩ := Option.isSome_iff_exists.mp h
  simp [wbW4, hx]
theorem wbL4_is : layoutFields wbD4 0 = some wbL4 := by
  have h : (layoutFields wbD4 0).isSome = true := by decide +kernel
  obtain ⟨x, hx⟩ := Option.isSome_iff_exists.mp h
  simp [wbL4, hx]
theorem wbL4_t : wbL4.2.1 = wbS4.captured.toArray := by decide +kernel
theorem wbM4 {U : State} {c : ClassId} (h : wb_LF wbS4 "PictureRing" c U) : wb_M c wbB4 2 (some FieldType.boolean) U := wb_genM wbD4_is wbW4_is (by decide +kernel) (by decide +kernel) (by decide +kernel) h
theorem wbF4_0 {U : State} {c : ClassId} (hO : ∀ o ok, U.vm.findClass "java/lang/Object" = some o → U.vm.classes[o]? = some ok → ok.instanceTypes.size = 0) (h : wb_LF wbS4 "PictureRing" c U) : ∃ f : Field, U.vm.fieldReady c 15 c f ∧ f.isStatic = false ∧ f.slot = 0 := wb_genF (ci := 2) (nt := 14) (nm := "arg$1") (dsc := "LPictureRing$Joiner;") wbD4_is wbL4_is hO (by decide +kernel) (by decide +kernel) (by decide +kernel) (by decide +kernel) h
theorem wbd4_0 : decode wbB4 0 = .ok (.aload_n 0, 1) := by decide +kernel
theorem wbd4_1 : decode wbB4 1 = .ok (.getfield 15, 3) := by decide +kernel
theorem wbd4_4 : decode wbB4 4 = .ok (.iload_n 1, 1) := by decide +kernel
theorem wbd4_5 : decode wbB4 5 = .ok (.invokestatic 23, 3) := by decide +kernel
theorem wbd4_8 : decode wbB4 8 = .ok (.ireturn, 1) := by decide +kernel
/-- lambda$allOf$3 -/
def wbS5 : Lambda.Shape := wb_sh siteWord_1_5
def wbD5 : ClassFile := (wbS5.file "PictureRing").getD wbD0
def wbW5 : Method := ((layoutMethods wbD5).bind (·[1]?)).getD default
def wbL5 : Array Field × Array FieldType × Array FieldType := (layoutFields wbD5 0).getD (#[], #[], #[])
def wbB5 : ByteArray := ⟨#[42, 180, 0, 15, 27, 184, 0, 23, 172]⟩
theorem wbD5_is : wbS5.file "PictureRing" = some wbD5 := by
  have h : (wbS5.file "PictureRing").isSome = true := by decide +kernel
  obtain ⟨x, hx⟩ := Option.isSome_iff_exists.mp h
  simp [wbD5, hx]
theorem wbW5_is : ((layoutMethods wbD5).bind (·[1]?)) = some wbW5 := by
  have h : ((layoutMethods wbD5).bind (·[1]?)).isSome = true := by decide +kernel
  obtain ⟨x, hx⟩ := Option.isSome_iff_exists.mp h
  simp [wbW5, hx]
theorem wbL5_is : layoutFields wbD5 0 = some wbL5 := by
  have h : (layoutFields wbD5 0).isSome = true := by decide +kernel
  obtain ⟨x, hx⟩ := Option.isSome_iff_exists.mp h
  simp [wbL5, hx]
theorem wbL5_t : wbL5.2.1 = wbS5.captured.toArray := by decide +kernel
theorem wbM5 {U : State} {c : ClassId} (h : wb_LF wbS5 "PictureRing" c U) : wb_M c wbB5 2 (some FieldType.boolean) U := wb_genM wbD5_is wbW5_is (by decide +kernel) (by decide +kernel) (by decide +kernel) h
theorem wbF5_0 {U : State} {c : ClassId} (hO : ∀ o ok, U.vm.findClass "java/lang/Object" = some o → U.vm.classes[o]? = some ok → ok.instanceTypes.size = 0) (h : wb_LF wbS5 "PictureRing" c U) : ∃ f : Field, U.vm.fieldReady c 15 c f ∧ f.isStatic = false ∧ f.slot = 0 := wb_genF (ci := 2) (nt := 14) (nm := "arg$1") (dsc := "LPictureRing$Joiner;") wbD5_is wbL5_is hO (by decide +kernel) (by decide +kernel) (by decide +kernel) (by decide +kernel) h
theorem wbd5_0 : decode wbB5 0 = .ok (.aload_n 0, 1) := by decide +kernel
theorem wbd5_1 : decode wbB5 1 = .ok (.getfield 15, 3) := by decide +kernel
theorem wbd5_4 : decode wbB5 4 = .ok (.iload_n 1, 1) := by decide +kernel
theorem wbd5_5 : decode wbB5 5 = .ok (.invokestatic 23, 3) := by decide +kernel
theorem wbd5_8 : decode wbB5 8 = .ok (.ireturn, 1) := by decide +kernel
/-- lambda$shown$1 -/
def wbS6 : Lambda.Shape := wb_sh siteWord_1_6
def wbD6 : ClassFile := (wbS6.file "PictureRing$Joine\x72").getD wbD0
def wbW6 : Method := ((layoutMethods wbD6).bind (·[1]?)).getD default
def wbL6 : Array Field × Array FieldType × Array FieldType := (layoutFields wbD6 0).getD (#[], #[], #[])
def wbB6 : ByteArray := ⟨#[42, 180, 0, 15, 27, 184, 0, 23, 172]⟩
theorem wbD6_is : wbS6.file "PictureRing$Joine\x72" = some wbD6 := by
  have h : (wbS6.file "PictureRing$Joine\x72").isSome = true := by decide +kernel
  obtain ⟨x, hx⟩ := Option.isSome_iff_exists.mp h
  simp [wbD6, hx]
theorem wbW6_is : ((layoutMethods wbD6).bind (·[1]?)) = some wbW6 := by
  have h : ((layoutMethods wbD6).bind (·[1]?)).isSome = true := by decide +kernel
  obtain ⟨x, hx⟩ := Option.isSome_iff_exists.mp h
  simp [wbW6, hx]
theorem wbL6_is : layoutFields wbD6 0 = some wbL6 := by
  have h : (layoutFields wbD6 0).isSome = true := by decide +kernel
  obtain ⟨x, hx⟩ := Option.isSome_iff_exists.mp h
  simp [wbL6, hx]
theorem wbL6_t : wbL6.2.1 = wbS6.captured.toArray := by decide +kernel
theorem wbM6 {U : State} {c : ClassId} (h : wb_LF wbS6 "PictureRing$Joine\x72" c U) : wb_M c wbB6 2 (some FieldType.boolean) U := wb_genM wbD6_is wbW6_is (by decide +kernel) (by decide +kernel) (by decide +kernel) h
theorem wbF6_0 {U : State} {c : ClassId} (hO : ∀ o ok, U.vm.findClass "java/lang/Object" = some o → U.vm.classes[o]? = some ok → ok.instanceTypes.size = 0) (h : wb_LF wbS6 "PictureRing$Joine\x72" c U) : ∃ f : Field, U.vm.fieldReady c 15 c f ∧ f.isStatic = false ∧ f.slot = 0 := wb_genF (ci := 2) (nt := 14) (nm := "arg$1") (dsc := "I") wbD6_is wbL6_is hO (by decide +kernel) (by decide +kernel) (by decide +kernel) (by decide +kernel) h
theorem wbd6_0 : decode wbB6 0 = .ok (.aload_n 0, 1) := by decide +kernel
theorem wbd6_1 : decode wbB6 1 = .ok (.getfield 15, 3) := by decide +kernel
theorem wbd6_4 : decode wbB6 4 = .ok (.iload_n 1, 1) := by decide +kernel
theorem wbd6_5 : decode wbB6 5 = .ok (.invokestatic 23, 3) := by decide +kernel
theorem wbd6_8 : decode wbB6 8 = .ok (.ireturn, 1) := by decide +kernel
/-- lambda$one$0 -/
def wbS7 : Lambda.Shape := wb_sh siteWord_1_7
def wbD7 : ClassFile := (wbS7.file "PictureRing$Reade\x72").getD wbD0
def wbW7 : Method := ((layoutMethods wbD7).bind (·[1]?)).getD default
def wbL7 : Array Field × Array FieldType × Array FieldType := (layoutFields wbD7 0).getD (#[], #[], #[])
def wbB7 : ByteArray := ⟨#[42, 180, 0, 17, 42, 180, 0, 19, 182, 0, 27, 172]⟩
theorem wbD7_is : wbS7.file "PictureRing$Reade\x72" = some wbD7 := by
  have h : (wbS7.file "PictureRing$Reade\x72").isSome = true := by decide +kernel
  obtain ⟨x, hx⟩ := Option.isSome_iff_exists.mp h
  simp [wbD7, hx]
theorem wbW7_is : ((layoutMethods wbD7).bind (·[1]?)) = some wbW7 := by
  have h : ((layoutMethods wbD7).bind (·[1]?)).isSome = true := by decide +kernel
  obtain ⟨x, hx⟩ := Option.isSome_iff_exists.mp h
  simp [wbW7, hx]
theorem wbL7_is : layoutFields wbD7 0 = some wbL7 := by
  have h : (layoutFields wbD7 0).isSome = true := by decide +kernel
  obtain ⟨x, hx⟩ := Option.isSome_iff_exists.mp h
  simp [wbL7, hx]
theorem wbL7_t : wbL7.2.1 = wbS7.captured.toArray := by decide +kernel
theorem wbM7 {U : State} {c : ClassId} (h : wb_LF wbS7 "PictureRing$Reade\x72" c U) : wb_M c wbB7 1 (some FieldType.int) U := wb_genM wbD7_is wbW7_is (by decide +kernel) (by decide +kernel) (by decide +kernel) h
theorem wbF7_0 {U : State} {c : ClassId} (hO : ∀ o ok, U.vm.findClass "java/lang/Object" = some o → U.vm.classes[o]? = some ok → ok.instanceTypes.size = 0) (h : wb_LF wbS7 "PictureRing$Reade\x72" c U) : ∃ f : Field, U.vm.fieldReady c 17 c f ∧ f.isStatic = false ∧ f.slot = 0 := wb_genF (ci := 2) (nt := 16) (nm := "arg$1") (dsc := "LPictureRing$Reader;") wbD7_is wbL7_is hO (by decide +kernel) (by decide +kernel) (by decide +kernel) (by decide +kernel) h
theorem wbF7_1 {U : State} {c : ClassId} (hO : ∀ o ok, U.vm.findClass "java/lang/Object" = some o → U.vm.classes[o]? = some ok → ok.instanceTypes.size = 0) (h : wb_LF wbS7 "PictureRing$Reade\x72" c U) : ∃ f : Field, U.vm.fieldReady c 19 c f ∧ f.isStatic = false ∧ f.slot = 1 := wb_genF (ci := 2) (nt := 18) (nm := "arg$2") (dsc := "I") wbD7_is wbL7_is hO (by decide +kernel) (by decide +kernel) (by decide +kernel) (by decide +kernel) h
theorem wbd7_0 : decode wbB7 0 = .ok (.aload_n 0, 1) := by decide +kernel
theorem wbd7_1 : decode wbB7 1 = .ok (.getfield 17, 3) := by decide +kernel
theorem wbd7_4 : decode wbB7 4 = .ok (.aload_n 0, 1) := by decide +kernel
theorem wbd7_5 : decode wbB7 5 = .ok (.getfield 19, 3) := by decide +kernel
theorem wbd7_8 : decode wbB7 8 = .ok (.invokevirtual 27, 3) := by decide +kernel
theorem wbd7_11 : decode wbB7 11 = .ok (.ireturn, 1) := by decide +kernel
/-- lambda$one$1 -/
def wbS8 : Lambda.Shape := wb_sh siteWord_1_8
def wbD8 : ClassFile := (wbS8.file "PictureRing$Reade\x72").getD wbD0
def wbW8 : Method := ((layoutMethods wbD8).bind (·[1]?)).getD default
def wbL8 : Array Field × Array FieldType × Array FieldType := (layoutFields wbD8 0).getD (#[], #[], #[])
def wbB8 : ByteArray := ⟨#[42, 180, 0, 17, 42, 180, 0, 19, 182, 0, 27, 172]⟩
theorem wbD8_is : wbS8.file "PictureRing$Reade\x72" = some wbD8 := by
  have h : (wbS8.file "PictureRing$Reade\x72").isSome = true := by decide +kernel
  obtain ⟨x, hx⟩ := Option.isSome_iff_exists.mp h
  simp [wbD8, hx]
theorem wbW8_is : ((layoutMethods wbD8).bind (·[1]?)) = some wbW8 := by
  have h : ((layoutMethods wbD8).bind (·[1]?)).isSome = true := by decide +kernel
  obtain ⟨x, hx⟩ := Option.isSome_iff_exists.mp h
  simp [wbW8, hx]
theorem wbL8_is : layoutFields wbD8 0 = some wbL8 := by
  have h : (layoutFields wbD8 0).isSome = true := by decide +kernel
  obtain ⟨x, hx⟩ := Option.isSome_iff_exists.mp h
  simp [wbL8, hx]
theorem wbL8_t : wbL8.2.1 = wbS8.captured.toArray := by decide +kernel
theorem wbM8 {U : State} {c : ClassId} (h : wb_LF wbS8 "PictureRing$Reade\x72" c U) : wb_M c wbB8 1 (some FieldType.int) U := wb_genM wbD8_is wbW8_is (by decide +kernel) (by decide +kernel) (by decide +kernel) h
theorem wbF8_0 {U : State} {c : ClassId} (hO : ∀ o ok, U.vm.findClass "java/lang/Object" = some o → U.vm.classes[o]? = some ok → ok.instanceTypes.size = 0) (h : wb_LF wbS8 "PictureRing$Reade\x72" c U) : ∃ f : Field, U.vm.fieldReady c 17 c f ∧ f.isStatic = false ∧ f.slot = 0 := wb_genF (ci := 2) (nt := 16) (nm := "arg$1") (dsc := "LPictureRing$Reader;") wbD8_is wbL8_is hO (by decide +kernel) (by decide +kernel) (by decide +kernel) (by decide +kernel) h
theorem wbF8_1 {U : State} {c : ClassId} (hO : ∀ o ok, U.vm.findClass "java/lang/Object" = some o → U.vm.classes[o]? = some ok → ok.instanceTypes.size = 0) (h : wb_LF wbS8 "PictureRing$Reade\x72" c U) : ∃ f : Field, U.vm.fieldReady c 19 c f ∧ f.isStatic = false ∧ f.slot = 1 := wb_genF (ci := 2) (nt := 18) (nm := "arg$2") (dsc := "I") wbD8_is wbL8_is hO (by decide +kernel) (by decide +kernel) (by decide +kernel) (by decide +kernel) h
theorem wbd8_0 : decode wbB8 0 = .ok (.aload_n 0, 1) := by decide +kernel
theorem wbd8_1 : decode wbB8 1 = .ok (.getfield 17, 3) := by decide +kernel
theorem wbd8_4 : decode wbB8 4 = .ok (.aload_n 0, 1) := by decide +kernel
theorem wbd8_5 : decode wbB8 5 = .ok (.getfield 19, 3) := by decide +kernel
theorem wbd8_8 : decode wbB8 8 = .ok (.invokevirtual 27, 3) := by decide +kernel
theorem wbd8_11 : decode wbB8 11 = .ok (.ireturn, 1) := by decide +kernel
/-- lambda$one$2 -/
def wbS9 : Lambda.Shape := wb_sh siteWord_1_9
def wbD9 : ClassFile := (wbS9.file "PictureRing$Reade\x72").getD wbD0
def wbW9 : Method := ((layoutMethods wbD9).bind (·[1]?)).getD default
def wbL9 : Array Field × Array FieldType × Array FieldType := (layoutFields wbD9 0).getD (#[], #[], #[])
def wbB9 : ByteArray := ⟨#[42, 180, 0, 17, 42, 180, 0, 19, 182, 0, 27, 172]⟩
theorem wbD9_is : wbS9.file "PictureRing$Reade\x72" = some wbD9 := by
  have h : (wbS9.file "PictureRing$Reade\x72").isSome = true := by decide +kernel
  obtain ⟨x, hx⟩ := Option.isSome_iff_exists.mp h
  simp [wbD9, hx]
theorem wbW9_is : ((layoutMethods wbD9).bind (·[1]?)) = some wbW9 := by
  have h : ((layoutMethods wbD9).bind (·[1]?)).isSome = true := by decide +kernel
  obtain ⟨x, hx⟩ := Option.isSome_iff_exists.mp h
  simp [wbW9, hx]
theorem wbL9_is : layoutFields wbD9 0 = some wbL9 := by
  have h : (layoutFields wbD9 0).isSome = true := by decide +kernel
  obtain ⟨x, hx⟩ := Option.isSome_iff_exists.mp h
  simp [wbL9, hx]
theorem wbL9_t : wbL9.2.1 = wbS9.captured.toArray := by decide +kernel
theorem wbM9 {U : State} {c : ClassId} (h : wb_LF wbS9 "PictureRing$Reade\x72" c U) : wb_M c wbB9 1 (some FieldType.int) U := wb_genM wbD9_is wbW9_is (by decide +kernel) (by decide +kernel) (by decide +kernel) h
theorem wbF9_0 {U : State} {c : ClassId} (hO : ∀ o ok, U.vm.findClass "java/lang/Object" = some o → U.vm.classes[o]? = some ok → ok.instanceTypes.size = 0) (h : wb_LF wbS9 "PictureRing$Reade\x72" c U) : ∃ f : Field, U.vm.fieldReady c 17 c f ∧ f.isStatic = false ∧ f.slot = 0 := wb_genF (ci := 2) (nt := 16) (nm := "arg$1") (dsc := "LPictureRing$Reader;") wbD9_is wbL9_is hO (by decide +kernel) (by decide +kernel) (by decide +kernel) (by decide +kernel) h
theorem wbF9_1 {U : State} {c : ClassId} (hO : ∀ o ok, U.vm.findClass "java/lang/Object" = some o → U.vm.classes[o]? = some ok → ok.instanceTypes.size = 0) (h : wb_LF wbS9 "PictureRing$Reade\x72" c U) : ∃ f : Field, U.vm.fieldReady c 19 c f ∧ f.isStatic = false ∧ f.slot = 1 := wb_genF (ci := 2) (nt := 18) (nm := "arg$2") (dsc := "I") wbD9_is wbL9_is hO (by decide +kernel) (by decide +kernel) (by decide +kernel) (by decide +kernel) h
theorem wbd9_0 : decode wbB9 0 = .ok (.aload_n 0, 1) := by decide +kernel
theorem wbd9_1 : decode wbB9 1 = .ok (.getfield 17, 3) := by decide +kernel
theorem wbd9_4 : decode wbB9 4 = .ok (.aload_n 0, 1) := by decide +kernel
theorem wbd9_5 : decode wbB9 5 = .ok (.getfield 19, 3) := by decide +kernel
theorem wbd9_8 : decode wbB9 8 = .ok (.invokevirtual 27, 3) := by decide +kernel
theorem wbd9_11 : decode wbB9 11 = .ok (.ireturn, 1) := by decide +kernel
/-- lambda$more$3 -/
def wbS10 : Lambda.Shape := wb_sh siteWord_1_10
def wbD10 : ClassFile := (wbS10.file "PictureRing$Reade\x72").getD wbD0
def wbW10 : Method := ((layoutMethods wbD10).bind (·[1]?)).getD default
def wbL10 : Array Field × Array FieldType × Array FieldType := (layoutFields wbD10 0).getD (#[], #[], #[])
def wbB10 : ByteArray := ⟨#[42, 180, 0, 18, 42, 180, 0, 20, 42, 180, 0, 22, 182, 0, 30, 172]⟩
theorem wbD10_is : wbS10.file "PictureRing$Reade\x72" = some wbD10 := by
  have h : (wbS10.file "PictureRing$Reade\x72").isSome = true := by decide +kernel
  obtain ⟨x, hx⟩ := Option.isSome_iff_exists.mp h
  simp [wbD10, hx]
theorem wbW10_is : ((layoutMethods wbD10).bind (·[1]?)) = some wbW10 := by
  have h : ((layoutMethods wbD10).bind (·[1]?)).isSome = true := by decide +kernel
  obtain ⟨x, hx⟩ := Option.isSome_iff_exists.mp h
  simp [wbW10, hx]
theorem wbL10_is : layoutFields wbD10 0 = some wbL10 := by
  have h : (layoutFields wbD10 0).isSome = true := by decide +kernel
  obtain ⟨x, hx⟩ := Option.isSome_iff_exists.mp h
  simp [wbL10, hx]
theorem wbL10_t : wbL10.2.1 = wbS10.captured.toArray := by decide +kernel
theorem wbM10 {U : State} {c : ClassId} (h : wb_LF wbS10 "PictureRing$Reade\x72" c U) : wb_M c wbB10 1 (some FieldType.int) U := wb_genM wbD10_is wbW10_is (by decide +kernel) (by decide +kernel) (by decide +kernel) h
theorem wbF10_0 {U : State} {c : ClassId} (hO : ∀ o ok, U.vm.findClass "java/lang/Object" = some o → U.vm.classes[o]? = some ok → ok.instanceTypes.size = 0) (h : wb_LF wbS10 "PictureRing$Reade\x72" c U) : ∃ f : Field, U.vm.fieldReady c 18 c f ∧ f.isStatic = false ∧ f.slot = 0 := wb_genF (ci := 2) (nt := 17) (nm := "arg$1") (dsc := "LPictureRing$Reader;") wbD10_is wbL10_is hO (by decide +kernel) (by decide +kernel) (by decide +kernel) (by decide +kernel) h
theorem wbF10_1 {U : State} {c : ClassId} (hO : ∀ o ok, U.vm.findClass "java/lang/Object" = some o → U.vm.classes[o]? = some ok → ok.instanceTypes.size = 0) (h : wb_LF wbS10 "PictureRing$Reade\x72" c U) : ∃ f : Field, U.vm.fieldReady c 20 c f ∧ f.isStatic = false ∧ f.slot = 1 := wb_genF (ci := 2) (nt := 19) (nm := "arg$2") (dsc := "I") wbD10_is wbL10_is hO (by decide +kernel) (by decide +kernel) (by decide +kernel) (by decide +kernel) h
theorem wbF10_2 {U : State} {c : ClassId} (hO : ∀ o ok, U.vm.findClass "java/lang/Object" = some o → U.vm.classes[o]? = some ok → ok.instanceTypes.size = 0) (h : wb_LF wbS10 "PictureRing$Reade\x72" c U) : ∃ f : Field, U.vm.fieldReady c 22 c f ∧ f.isStatic = false ∧ f.slot = 2 := wb_genF (ci := 2) (nt := 21) (nm := "arg$3") (dsc := "I") wbD10_is wbL10_is hO (by decide +kernel) (by decide +kernel) (by decide +kernel) (by decide +kernel) h
theorem wbd10_0 : decode wbB10 0 = .ok (.aload_n 0, 1) := by decide +kernel
theorem wbd10_1 : decode wbB10 1 = .ok (.getfield 18, 3) := by decide +kernel
theorem wbd10_4 : decode wbB10 4 = .ok (.aload_n 0, 1) := by decide +kernel
theorem wbd10_5 : decode wbB10 5 = .ok (.getfield 20, 3) := by decide +kernel
theorem wbd10_8 : decode wbB10 8 = .ok (.aload_n 0, 1) := by decide +kernel
theorem wbd10_9 : decode wbB10 9 = .ok (.getfield 22, 3) := by decide +kernel
theorem wbd10_12 : decode wbB10 12 = .ok (.invokevirtual 30, 3) := by decide +kernel
theorem wbd10_15 : decode wbB10 15 = .ok (.ireturn, 1) := by decide +kernel
/-- lambda$more$4 -/
def wbS11 : Lambda.Shape := wb_sh siteWord_1_11
def wbD11 : ClassFile := (wbS11.file "PictureRing$Reade\x72").getD wbD0
def wbW11 : Method := ((layoutMethods wbD11).bind (·[1]?)).getD default
def wbL11 : Array Field × Array FieldType × Array FieldType := (layoutFields wbD11 0).getD (#[], #[], #[])
def wbB11 : ByteArray := ⟨#[42, 180, 0, 19, 42, 180, 0, 21, 42, 180, 0, 23, 42, 180, 0, 25, 182, 0, 33, 172]⟩
theorem wbD11_is : wbS11.file "PictureRing$Reade\x72" = some wbD11 := by
  have h : (wbS11.file "PictureRing$Reade\x72").isSome = true := by decide +kernel
  obtain ⟨x, hx⟩ := Option.isSome_iff_exists.mp h
  simp [wbD11, hx]
theorem wbW11_is : ((layoutMethods wbD11).bind (·[1]?)) = some wbW11 := by
  have h : ((layoutMethods wbD11).bind (·[1]?)).isSome = true := by decide +kernel
  obtain ⟨x, hx⟩ := Option.isSome_iff_exists.mp h
  simp [wbW11, hx]
theorem wbL11_is : layoutFields wbD11 0 = some wbL11 := by
  have h : (layoutFields wbD11 0).isSome = true := by decide +kernel
  obtain ⟨x, hx⟩ := Option.isSome_iff_exists.mp h
  simp [wbL11, hx]
theorem wbL11_t : wbL11.2.1 = wbS11.captured.toArray := by decide +kernel
theorem wbM11 {U : State} {c : ClassId} (h : wb_LF wbS11 "PictureRing$Reade\x72" c U) : wb_M c wbB11 1 (some FieldType.int) U := wb_genM wbD11_is wbW11_is (by decide +kernel) (by decide +kernel) (by decide +kernel) h
theorem wbF11_0 {U : State} {c : ClassId} (hO : ∀ o ok, U.vm.findClass "java/lang/Object" = some o → U.vm.classes[o]? = some ok → ok.instanceTypes.size = 0) (h : wb_LF wbS11 "PictureRing$Reade\x72" c U) : ∃ f : Field, U.vm.fieldReady c 19 c f ∧ f.isStatic = false ∧ f.slot = 0 := wb_genF (ci := 2) (nt := 18) (nm := "arg$1") (dsc := "LPictureRing$Reader;") wbD11_is wbL11_is hO (by decide +kernel) (by decide +kernel) (by decide +kernel) (by decide +kernel) h
theorem wbF11_1 {U : State} {c : ClassId} (hO : ∀ o ok, U.vm.findClass "java/lang/Object" = some o → U.vm.classes[o]? = some ok → ok.instanceTypes.size = 0) (h : wb_LF wbS11 "PictureRing$Reade\x72" c U) : ∃ f : Field, U.vm.fieldReady c 21 c f ∧ f.isStatic = false ∧ f.slot = 1 := wb_genF (ci := 2) (nt := 20) (nm := "arg$2") (dsc := "I") wbD11_is wbL11_is hO (by decide +kernel) (by decide +kernel) (by decide +kernel) (by decide +kernel) h
theorem wbF11_2 {U : State} {c : ClassId} (hO : ∀ o ok, U.vm.findClass "java/lang/Object" = some o → U.vm.classes[o]? = some ok → ok.instanceTypes.size = 0) (h : wb_LF wbS11 "PictureRing$Reade\x72" c U) : ∃ f : Field, U.vm.fieldReady c 23 c f ∧ f.isStatic = false ∧ f.slot = 2 := wb_genF (ci := 2) (nt := 22) (nm := "arg$3") (dsc := "I") wbD11_is wbL11_is hO (by decide +kernel) (by decide +kernel) (by decide +kernel) (by decide +kernel) h
theorem wbF11_3 {U : State} {c : ClassId} (hO : ∀ o ok, U.vm.findClass "java/lang/Object" = some o → U.vm.classes[o]? = some ok → ok.instanceTypes.size = 0) (h : wb_LF wbS11 "PictureRing$Reade\x72" c U) : ∃ f : Field, U.vm.fieldReady c 25 c f ∧ f.isStatic = false ∧ f.slot = 3 := wb_genF (ci := 2) (nt := 24) (nm := "arg$4") (dsc := "I") wbD11_is wbL11_is hO (by decide +kernel) (by decide +kernel) (by decide +kernel) (by decide +kernel) h
theorem wbd11_0 : decode wbB11 0 = .ok (.aload_n 0, 1) := by decide +kernel
theorem wbd11_1 : decode wbB11 1 = .ok (.getfield 19, 3) := by decide +kernel
theorem wbd11_4 : decode wbB11 4 = .ok (.aload_n 0, 1) := by decide +kernel
theorem wbd11_5 : decode wbB11 5 = .ok (.getfield 21, 3) := by decide +kernel
theorem wbd11_8 : decode wbB11 8 = .ok (.aload_n 0, 1) := by decide +kernel
theorem wbd11_9 : decode wbB11 9 = .ok (.getfield 23, 3) := by decide +kernel
theorem wbd11_12 : decode wbB11 12 = .ok (.aload_n 0, 1) := by decide +kernel
theorem wbd11_13 : decode wbB11 13 = .ok (.getfield 25, 3) := by decide +kernel
theorem wbd11_16 : decode wbB11 16 = .ok (.invokevirtual 33, 3) := by decide +kernel
theorem wbd11_19 : decode wbB11 19 = .ok (.ireturn, 1) := by decide +kernel
/-- lambda$more$5 -/
def wbS12 : Lambda.Shape := wb_sh siteWord_1_12
def wbD12 : ClassFile := (wbS12.file "PictureRing$Reade\x72").getD wbD0
def wbW12 : Method := ((layoutMethods wbD12).bind (·[1]?)).getD default
def wbL12 : Array Field × Array FieldType × Array FieldType := (layoutFields wbD12 0).getD (#[], #[], #[])
def wbB12 : ByteArray := ⟨#[42, 180, 0, 19, 42, 180, 0, 21, 42, 180, 0, 23, 42, 180, 0, 25, 182, 0, 33, 172]⟩
theorem wbD12_is : wbS12.file "PictureRing$Reade\x72" = some wbD12 := by
  have h : (wbS12.file "PictureRing$Reade\x72").isSome = true := by decide +kernel
  obtain ⟨x, hx⟩ := Option.isSome_iff_exists.mp h
  simp [wbD12, hx]
theorem wbW12_is : ((layoutMethods wbD12).bind (·[1]?)) = some wbW12 := by
  have h : ((layoutMethods wbD12).bind (·[1]?)).isSome = true := by decide +kernel
  obtain ⟨x, hx⟩ := Option.isSome_iff_exists.mp h
  simp [wbW12, hx]
theorem wbL12_is : layoutFields wbD12 0 = some wbL12 := by
  have h : (layoutFields wbD12 0).isSome = true := by decide +kernel
  obtain ⟨x, hx⟩ := Option.isSome_iff_exists.mp h
  simp [wbL12, hx]
theorem wbL12_t : wbL12.2.1 = wbS12.captured.toArray := by decide +kernel
theorem wbM12 {U : State} {c : ClassId} (h : wb_LF wbS12 "PictureRing$Reade\x72" c U) : wb_M c wbB12 1 (some FieldType.int) U := wb_genM wbD12_is wbW12_is (by decide +kernel) (by decide +kernel) (by decide +kernel) h
theorem wbF12_0 {U : State} {c : ClassId} (hO : ∀ o ok, U.vm.findClass "java/lang/Object" = some o → U.vm.classes[o]? = some ok → ok.instanceTypes.size = 0) (h : wb_LF wbS12 "PictureRing$Reade\x72" c U) : ∃ f : Field, U.vm.fieldReady c 19 c f ∧ f.isStatic = false ∧ f.slot = 0 := wb_genF (ci := 2) (nt := 18) (nm := "arg$1") (dsc := "LPictureRing$Reader;") wbD12_is wbL12_is hO (by decide +kernel) (by decide +kernel) (by decide +kernel) (by decide +kernel) h
theorem wbF12_1 {U : State} {c : ClassId} (hO : ∀ o ok, U.vm.findClass "java/lang/Object" = some o → U.vm.classes[o]? = some ok → ok.instanceTypes.size = 0) (h : wb_LF wbS12 "PictureRing$Reade\x72" c U) : ∃ f : Field, U.vm.fieldReady c 21 c f ∧ f.isStatic = false ∧ f.slot = 1 := wb_genF (ci := 2) (nt := 20) (nm := "arg$2") (dsc := "I") wbD12_is wbL12_is hO (by decide +kernel) (by decide +kernel) (by decide +kernel) (by decide +kernel) h
theorem wbF12_2 {U : State} {c : ClassId} (hO : ∀ o ok, U.vm.findClass "java/lang/Object" = some o → U.vm.classes[o]? = some ok → ok.instanceTypes.size = 0) (h : wb_LF wbS12 "PictureRing$Reade\x72" c U) : ∃ f : Field, U.vm.fieldReady c 23 c f ∧ f.isStatic = false ∧ f.slot = 2 := wb_genF (ci := 2) (nt := 22) (nm := "arg$3") (dsc := "I") wbD12_is wbL12_is hO (by decide +kernel) (by decide +kernel) (by decide +kernel) (by decide +kernel) h
theorem wbF12_3 {U : State} {c : ClassId} (hO : ∀ o ok, U.vm.findClass "java/lang/Object" = some o → U.vm.classes[o]? = some ok → ok.instanceTypes.size = 0) (h : wb_LF wbS12 "PictureRing$Reade\x72" c U) : ∃ f : Field, U.vm.fieldReady c 25 c f ∧ f.isStatic = false ∧ f.slot = 3 := wb_genF (ci := 2) (nt := 24) (nm := "arg$4") (dsc := "I") wbD12_is wbL12_is hO (by decide +kernel) (by decide +kernel) (by decide +kernel) (by decide +kernel) h
theorem wbd12_0 : decode wbB12 0 = .ok (.aload_n 0, 1) := by decide +kernel
theorem wbd12_1 : decode wbB12 1 = .ok (.getfield 19, 3) := by decide +kernel
theorem wbd12_4 : decode wbB12 4 = .ok (.aload_n 0, 1) := by decide +kernel
theorem wbd12_5 : decode wbB12 5 = .ok (.getfield 21, 3) := by decide +kernel
theorem wbd12_8 : decode wbB12 8 = .ok (.aload_n 0, 1) := by decide +kernel
theorem wbd12_9 : decode wbB12 9 = .ok (.getfield 23, 3) := by decide +kernel
theorem wbd12_12 : decode wbB12 12 = .ok (.aload_n 0, 1) := by decide +kernel
theorem wbd12_13 : decode wbB12 13 = .ok (.getfield 25, 3) := by decide +kernel
theorem wbd12_16 : decode wbB12 16 = .ok (.invokevirtual 33, 3) := by decide +kernel
theorem wbd12_19 : decode wbB12 19 = .ok (.ireturn, 1) := by decide +kernel
/-- lambda$more$6 -/
def wbS13 : Lambda.Shape := wb_sh siteWord_1_13
def wbD13 : ClassFile := (wbS13.file "PictureRing$Reade\x72").getD wbD0
def wbW13 : Method := ((layoutMethods wbD13).bind (·[1]?)).getD default
def wbL13 : Array Field × Array FieldType × Array FieldType := (layoutFields wbD13 0).getD (#[], #[], #[])
def wbB13 : ByteArray := ⟨#[42, 180, 0, 20, 42, 180, 0, 22, 42, 180, 0, 24, 42, 180, 0, 26, 42, 180, 0, 28, 182, 0, 36, 172]⟩
theorem wbD13_is : wbS13.file "PictureRing$Reade\x72" = some wbD13 := by
  have h : (wbS13.file "PictureRing$Reade\x72").isSome = true := by decide +kernel
  obtain ⟨x, hx⟩ := Option.isSome_iff_exists.mp h
  simp [wbD13, hx]
theorem wbW13_is : ((layoutMethods wbD13).bind (·[1]?)) = some wbW13 := by
  have h : ((layoutMethods wbD13).bind (·[1]?)).isSome = true := by decide +kernel
  obtain ⟨x, hx⟩ := Option.isSome_iff_exists.mp h
  simp [wbW13, hx]
theorem wbL13_is : layoutFields wbD13 0 = some wbL13 := by
  have h : (layoutFields wbD13 0).isSome = true := by decide +kernel
  obtain ⟨x, hx⟩ := Option.isSome_iff_exists.mp h
  simp [wbL13, hx]
theorem wbL13_t : wbL13.2.1 = wbS13.captured.toArray := by decide +kernel
theorem wbM13 {U : State} {c : ClassId} (h : wb_LF wbS13 "PictureRing$Reade\x72" c U) : wb_M c wbB13 1 (some FieldType.int) U := wb_genM wbD13_is wbW13_is (by decide +kernel) (by decide +kernel) (by decide +kernel) h
theorem wbF13_0 {U : State} {c : ClassId} (hO : ∀ o ok, U.vm.findClass "java/lang/Object" = some o → U.vm.classes[o]? = some ok → ok.instanceTypes.size = 0) (h : wb_LF wbS13 "PictureRing$Reade\x72" c U) : ∃ f : Field, U.vm.fieldReady c 20 c f ∧ f.isStatic = false ∧ f.slot = 0 := wb_genF (ci := 2) (nt := 19) (nm := "arg$1") (dsc := "LPictureRing$Reader;") wbD13_is wbL13_is hO (by decide +kernel) (by decide +kernel) (by decide +kernel) (by decide +kernel) h
theorem wbF13_1 {U : State} {c : ClassId} (hO : ∀ o ok, U.vm.findClass "java/lang/Object" = some o → U.vm.classes[o]? = some ok → ok.instanceTypes.size = 0) (h : wb_LF wbS13 "PictureRing$Reade\x72" c U) : ∃ f : Field, U.vm.fieldReady c 22 c f ∧ f.isStatic = false ∧ f.slot = 1 := wb_genF (ci := 2) (nt := 21) (nm := "arg$2") (dsc := "I") wbD13_is wbL13_is hO (by decide +kernel) (by decide +kernel) (by decide +kernel) (by decide +kernel) h
theorem wbF13_2 {U : State} {c : ClassId} (hO : ∀ o ok, U.vm.findClass "java/lang/Object" = some o → U.vm.classes[o]? = some ok → ok.instanceTypes.size = 0) (h : wb_LF wbS13 "PictureRing$Reade\x72" c U) : ∃ f : Field, U.vm.fieldReady c 24 c f ∧ f.isStatic = false ∧ f.slot = 2 := wb_genF (ci := 2) (nt := 23) (nm := "arg$3") (dsc := "I") wbD13_is wbL13_is hO (by decide +kernel) (by decide +kernel) (by decide +kernel) (by decide +kernel) h
theorem wbF13_3 {U : State} {c : ClassId} (hO : ∀ o ok, U.vm.findClass "java/lang/Object" = some o → U.vm.classes[o]? = some ok → ok.instanceTypes.size = 0) (h : wb_LF wbS13 "PictureRing$Reade\x72" c U) : ∃ f : Field, U.vm.fieldReady c 26 c f ∧ f.isStatic = false ∧ f.slot = 3 := wb_genF (ci := 2) (nt := 25) (nm := "arg$4") (dsc := "I") wbD13_is wbL13_is hO (by decide +kernel) (by decide +kernel) (by decide +kernel) (by decide +kernel) h
theorem wbF13_4 {U : State} {c : ClassId} (hO : ∀ o ok, U.vm.findClass "java/lang/Object" = some o → U.vm.classes[o]? = some ok → ok.instanceTypes.size = 0) (h : wb_LF wbS13 "PictureRing$Reade\x72" c U) : ∃ f : Field, U.vm.fieldReady c 28 c f ∧ f.isStatic = false ∧ f.slot = 4 := wb_genF (ci := 2) (nt := 27) (nm := "arg$5") (dsc := "I") wbD13_is wbL13_is hO (by decide +kernel) (by decide +kernel) (by decide +kernel) (by decide +kernel) h
theorem wbd13_0 : decode wbB13 0 = .ok (.aload_n 0, 1) := by decide +kernel
theorem wbd13_1 : decode wbB13 1 = .ok (.getfield 20, 3) := by decide +kernel
theorem wbd13_4 : decode wbB13 4 = .ok (.aload_n 0, 1) := by decide +kernel
theorem wbd13_5 : decode wbB13 5 = .ok (.getfield 22, 3) := by decide +kernel
theorem wbd13_8 : decode wbB13 8 = .ok (.aload_n 0, 1) := by decide +kernel
theorem wbd13_9 : decode wbB13 9 = .ok (.getfield 24, 3) := by decide +kernel
theorem wbd13_12 : decode wbB13 12 = .ok (.aload_n 0, 1) := by decide +kernel
theorem wbd13_13 : decode wbB13 13 = .ok (.getfield 26, 3) := by decide +kernel
theorem wbd13_16 : decode wbB13 16 = .ok (.aload_n 0, 1) := by decide +kernel
theorem wbd13_17 : decode wbB13 17 = .ok (.getfield 28, 3) := by decide +kernel
theorem wbd13_20 : decode wbB13 20 = .ok (.invokevirtual 36, 3) := by decide +kernel
theorem wbd13_23 : decode wbB13 23 = .ok (.ireturn, 1) := by decide +kernel

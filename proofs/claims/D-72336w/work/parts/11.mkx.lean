/-! WHAT MOVES WITH THE TABLES beside the lists: lambda sites, faces, arrays over a class, statics -/
/-- the sites: where each stands, its shape, its number -/
def wb_sites : List (MethodName × Nat × Nat × Lambda.Shape × Nat) := [(⟨"PictureRing", "way", "(II)LPictureRing$Way;"⟩, 2, 16, wbS1, 17),
  (⟨"PictureRing", "cornersOf", "(I)I"⟩, 14, 238, wbS2, 18),
  (⟨"PictureRing$Joine\x72", "measures", "(LPictureRing$Link;)V"⟩, 18, 256, wbS3, 19),
  (⟨"PictureRing", "allOf", "(I)I"⟩, 79, 295, wbS4, 20),
  (⟨"PictureRing", "allOf", "(I)I"⟩, 99, 303, wbS5, 21),
  (⟨"PictureRing$Joine\x72", "shown", "(II)I"⟩, 117, 333, wbS6, 22),
  (⟨"PictureRing$Reade\x72", "one", "(I)LPictureRing$Deed;"⟩, 13, 46, wbS7, 23),
  (⟨"PictureRing$Reade\x72", "one", "(I)LPictureRing$Deed;"⟩, 29, 50, wbS8, 24),
  (⟨"PictureRing$Reade\x72", "one", "(I)LPictureRing$Deed;"⟩, 39, 51, wbS9, 25),
  (⟨"PictureRing$Reade\x72", "more", "(I)LPictureRing$Deed;"⟩, 19, 52, wbS10, 26),
  (⟨"PictureRing$Reade\x72", "more", "(I)LPictureRing$Deed;"⟩, 42, 58, wbS11, 27),
  (⟨"PictureRing$Reade\x72", "more", "(I)LPictureRing$Deed;"⟩, 65, 61, wbS12, 28),
  (⟨"PictureRing$Reade\x72", "more", "(I)LPictureRing$Deed;"⟩, 84, 62, wbS13, 29)]
/-- calls through an interface: the object's class, the interface's method, the one that is called -/
def wb_faces : List (String × MethodName × MethodName) := [("PictureRing$Corne\x72", ⟨"java/lang/Comparable", "compareTo", "(Ljava/lang/Object;)I"⟩, ⟨"PictureRing$Corne\x72", "compareTo", "(Ljava/lang/Object;)I"⟩),
  ("PictureRing$Shift", ⟨"java/lang/Comparable", "compareTo", "(Ljava/lang/Object;)I"⟩, ⟨"PictureRing$Shift", "compareTo", "(Ljava/lang/Object;)I"⟩),
  ("java/lang/Intege\x72", ⟨"java/lang/Comparable", "compareTo", "(Ljava/lang/Object;)I"⟩, ⟨"java/lang/Intege\x72", "compareTo", "(Ljava/lang/Object;)I"⟩),
  ("PictureRing$ByVotes", ⟨"java/util/Comparato\x72", "compare", "(Ljava/lang/Object;Ljava/lang/Object;)I"⟩, ⟨"PictureRing$ByVotes", "compare", "(Ljava/lang/Object;Ljava/lang/Object;)I"⟩),
  ("java/util/TreeMap", ⟨"java/util/NavigableMap", "navigableKeySet", "()Ljava/util/NavigableSet;"⟩, ⟨"java/util/TreeMap", "navigableKeySet", "()Ljava/util/NavigableSet;"⟩),
  ("java/util/TreeMap$KeySet", ⟨"java/util/NavigableSet", "iterato\x72", "()Ljava/util/Iterator;"⟩, ⟨"java/util/TreeMap$KeySet", "iterato\x72", "()Ljava/util/Iterator;"⟩),
  ("java/util/TreeSet", ⟨"java/util/NavigableSet", "iterato\x72", "()Ljava/util/Iterator;"⟩, ⟨"java/util/TreeSet", "iterato\x72", "()Ljava/util/Iterator;"⟩),
  ("java/util/TreeMap$KeyIterato\x72", ⟨"java/util/Iterato\x72", "hasNext", "()Z"⟩, ⟨"java/util/TreeMap$PrivateEntryIterato\x72", "hasNext", "()Z"⟩),
  ("java/util/TreeMap$KeyIterato\x72", ⟨"java/util/Iterato\x72", "next", "()Ljava/lang/Object;"⟩, ⟨"java/util/TreeMap$KeyIterato\x72", "next", "()Ljava/lang/Object;"⟩),
  ("java/util/TreeMap$KeySet", ⟨"java/util/Set", "iterato\x72", "()Ljava/util/Iterator;"⟩, ⟨"java/util/TreeMap$KeySet", "iterato\x72", "()Ljava/util/Iterator;"⟩),
  ("java/util/TreeSet", ⟨"java/util/Set", "iterato\x72", "()Ljava/util/Iterator;"⟩, ⟨"java/util/TreeSet", "iterato\x72", "()Ljava/util/Iterator;"⟩)]
/-- the lambdas' interfaces' methods -/
def wb_ims : List MethodName := [⟨"PictureRing$Deed", "does", "()I"⟩, ⟨"PictureRing$Test", "is", "(I)Z"⟩, ⟨"PictureRing$Visit", "meets", "(II)V"⟩, ⟨"PictureRing$Way", "across", "(LPictureRing$Picture;II)I"⟩]
def wb_aos : List String := ["PictureRing$Picture", "PictureRing$State", "PictureRing$Way", "PictureRing$Corners", "java/lang/Object", "PictureRing$Link", "PictureRing$Fraction"]
def wb_IM (x : MethodName) (U : State) : Prop := (Cond.declares x).before #[] U = true ∧ (Cond.interfaceMethod x.cls x.cls x.name x.desc).before #[] U = true
theorem wb_IM.moved {x : MethodName} (hx : x.cls ≠ "java/lang/invoke/MethodHandle" ∧ x.cls ≠ "java/lang/invoke/VarHandle") {u U : State} (hvm : u.vm.Alike U.vm) (h : wb_IM x u) : wb_IM x U := by
  obtain ⟨h1, h2⟩ := h
  obtain ⟨r, meth, hn, -⟩ := Cond.declares_spec h1
  have tr : ∀ {c : Cond}, c.onTables = true → c.before #[] (u.setVm U.vm) = true → c.before #[] U = true := by
    intro c hc h
    have e := Cond.onTables_vm (A := #[]) (A' := #[]) (U := u) (U' := U) U.vm c hc
    have hU : U.setVm U.vm = U := rfl
    rw [hU] at e
    rw [← e]
    exact h
  exact ⟨tr rfl (by rw [Cond.declares_setVm hvm]; exact h1), tr rfl (by rw [Cond.interfaceMethod_setVm hvm (r := r) hn hx]; exact h2)⟩
abbrev wb_G : Type := va_G × (Nat → ClassId) × Heap
abbrev wb_lo (G : wb_G) : Nat → Prop := fun q => G.2.2.size ≤ q
/-- the object at b was there ahead of the run, an Integer that holds n -/
def wb_In (G : wb_G) (b : Nat) (n : Int) : Prop := va_at G.1 wcl (b, .inr (18, [.int (zI n)])) G.2.2
/-- the statics that the run reads, all of them below the law's entry -/
def wb_St (G : wb_G) (U : State) : Prop := (∃ t : Nat, va_Z "java/util/TreeSet" "PRESENT" "Ljava/lang/Object;" (.ref t) (wb_lo G) U G.2.2) ∧ (∃ t : Nat, va_Z "java/lang/Throwable" "UNASSIGNED_STACK" "[Ljava/lang/StackTraceElement;" (.ref t) (wb_lo G) U G.2.2) ∧ (∃ t : Nat, va_Z "java/lang/Throwable" "SUPPRESSED_SENTINEL" "Ljava/util/List;" (.ref t) (wb_lo G) U G.2.2) ∧ va_Z "java/lang/Integer$IntegerCache" "high" "I" (.int 127) (wb_lo G) U G.2.2 ∧
  ∃ (t : Nat) (cell : Cell), va_Z "java/lang/Integer$IntegerCache" "cache" "[Ljava/lang/Integer;" (.ref t) (wb_lo G) U G.2.2 ∧ G.2.2[t]? = some cell ∧ U.isArrayOf cell (.object "java/lang/Intege\x72") ∧ cell.vm ≠ .unknown ∧ cell.slots.size = 256 ∧ ∀ j : Nat, j < 256 → ∃ b : Nat, cell.slots[j]? = some (.ref b) ∧ wb_In G b ((j : Int) - 128)
theorem wb_St.moved {G : wb_G} {u U : State} (hvm : u.vm.Alike U.vm) (h : wb_St G u) : wb_St G U := by
  obtain ⟨⟨t1, h1⟩, ⟨t2, h2⟩, ⟨t3, h3⟩, h4, t5, cell, h5, h6, h7, h8⟩ := h
  exact ⟨⟨t1, va_Z.moved hvm h1⟩, ⟨t2, va_Z.moved hvm h2⟩, ⟨t3, va_Z.moved hvm h3⟩, va_Z.moved hvm h4, t5, cell, va_Z.moved hvm h5, h6, State.isArrayOf_alike hvm h7, h8⟩
/-- calls through an interface on a method that its superinterface declares: own, entry, the reference, the declarer, the receiver's class, what runs -/
def wb_ups : List (String × Nat × MethodName × String × String × MethodName) := [("java/util/TreeSet", 77, ⟨"java/util/NavigableMap", "clea\x72", "()V"⟩, "java/util/Map", "java/util/TreeMap", ⟨"java/util/TreeMap", "clea\x72", "()V"⟩),
  ("java/util/TreeSet", 69, ⟨"java/util/NavigableMap", "put", "(Ljava/lang/Object;Ljava/lang/Object;)Ljava/lang/Object;"⟩, "java/util/Map", "java/util/TreeMap", ⟨"java/util/TreeMap", "put", "(Ljava/lang/Object;Ljava/lang/Object;)Ljava/lang/Object;"⟩)]
def wb_UW (own : String) (index : Nat) (x : MethodName) (J C : String) (y : MethodName) (U : State) : Prop := (Cond.methodLink own index x).before #[] U = true ∧ (Cond.interfaceMethod x.cls J x.name x.desc).before #[] U = true ∧ (Cond.declares ⟨J, x.name, x.desc⟩).before #[] U = true ∧ (Cond.publicMethod ⟨J, x.name, x.desc⟩).before #[] U = true ∧ (Cond.publicMethod y).before #[] U = true ∧ (Cond.unhidden C x.name x.desc).before #[] U = true ∧ (Cond.castable C x.cls).before #[] U = true
theorem wb_UW.warm {own : String} {index : Nat} {x : MethodName} {J C : String} {y : MethodName} (hne : x.cls ≠ J) (hx : x.cls ≠ "java/lang/invoke/MethodHandle" ∧ x.cls ≠ "java/lang/invoke/VarHandle") {s U : State} (hW : s.WarmedH U.vm) (h : wb_UW own index x J C y s) : wb_UW own index x J C y U := by
  obtain ⟨h1, h2, h3, h4, h5, h6, h7⟩ := h
  have hvm := hW.alike
  have tr : ∀ {c : Cond}, c.onTables = true → c.before #[] (s.setVm U.vm) = true → c.before #[] U = true := by
    intro c hc h
    have e := Cond.onTables_vm (A := #[]) (A' := #[]) (U := s) (U' := U) U.vm c hc
    have hU : U.setVm U.vm = U := rfl
    rw [hU] at e
    rw [← e]
    exact h
  have e2 : (Cond.interfaceMethod x.cls J x.name x.desc).before #[] (s.setVm U.vm) = (Cond.interfaceMethod x.cls J x.name x.desc).before #[] s := by
    simp only [Cond.before, Cond.holds, Cond.value, State.vm_setVm, hvm.findClass, State.methodFound?_setVm hvm, State.methodNamed?_setVm hvm, arm_isInterface_setVm hvm]
  exact ⟨Jvm.LawKit.word_at hW (Or.inl rfl) h1, tr rfl (by rw [e2]; exact h2), tr rfl (by rw [Cond.declares_setVm hvm]; exact h3), tr rfl (by rw [Cond.publicMethod_setVm hvm]; exact h4), tr rfl (by rw [Cond.publicMethod_setVm hvm]; exact h5), tr rfl (by rw [Cond.unhidden_setVm hvm]; exact h6), tr rfl (by rw [Cond.castable_setVm hvm]; exact h7)⟩
/-- pairs that are not castable -/
def wb_ncs : List (String × String) := [("PictureRing$Stopped", "PictureRing$Fault")]
def wb_NC (a b : String) (U : State) : Prop := (Cond.not (.castable a b)).before #[] U = true
theorem wb_NC.moved {a b : String} {s U : State} (hvm : s.vm.Alike U.vm) (h : wb_NC a b s) : wb_NC a b U := by
  have e : (Cond.not (.castable a b)).before #[] (s.setVm U.vm) = (Cond.not (.castable a b)).before #[] s := by
    simp only [Cond.before, Cond.holds, Cond.value, State.vm_setVm, hvm.findClass, hvm.assignable]
  have e2 : (Cond.not (.castable a b)).before #[] U = (Cond.not (.castable a b)).before #[] (s.setVm U.vm) := rfl
  unfold wb_NC; rw [e2, e]; exact h
theorem wb_AIs {args : Array Value} {s : State} {t : FieldType} (h : (Cond.arrayOver (.array t)).before args s = true) :
    ∃ comp c k, s.vm.findClass (FieldType.array t).toString = some comp ∧ (s.vm.classes.findIdx? fun x => match x.kind with | .array component _ => component == comp | _ => false) = some c ∧ s.vm.classes[c]? = some k ∧ k.kind = .array comp (.array t) ∧ s.vm.findClass ("[" ++ (FieldType.array t).toString) = some c := by
  simp only [Cond.before, Cond.holds, Cond.value, beq_iff_eq] at h
  cases hc : s.vm.findClass (FieldType.array t).toString with
  | none => simp [hc] at h
  | some comp =>
    simp only [hc, Option.bind_some, Option.bind_eq_some_iff, Option.map_eq_some_iff] at h
    obtain ⟨c, hi, k, hk, hb⟩ := h
    obtain ⟨hlt, hp, -⟩ := Array.findIdx?_eq_some_iff_getElem.mp hi
    have hkk : s.vm.classes[c] = k := (Array.getElem?_eq_some_iff.mp hk).2
    rw [hkk] at hp
    cases hkind : k.kind with
    | array component ty =>
      rw [hkind] at hb hp
      simp at hb hp
      exact ⟨comp, c, k, rfl, hi, hk, by rw [hkind, hp, hb.1], hb.2⟩
    | _ => rw [hkind] at hb; simp at hb
theorem wb_idx_bare (vm : Vm) (comp : ClassId) : (vm.bare.classes.findIdx? fun (x : Class) => match x.kind with | .array component _ => component == comp | _ => false) = (vm.classes.findIdx? fun (x : Class) => match x.kind with | .array component _ => component == comp | _ => false) := by
  simp only [Vm.bare, Array.findIdx?_map]
  rfl
def wb_AI (U : State) : Prop := (Cond.arrayOver (.array .int)).before #[] U = true
theorem wb_AI.moved {u U : State} (hvm : u.vm.Alike U.vm) (h : wb_AI u) : wb_AI U := by
  obtain ⟨comp, c, k, h1, h2, h3, h4, h5⟩ := wb_AIs h
  obtain ⟨k', hk', he⟩ := hvm.2.2 _ _ h3
  have hi : (U.vm.classes.findIdx? fun (x : Class) => match x.kind with | .array component _ => component == comp | _ => false) = some c := by
    rw [← wb_idx_bare]
    first | rw [hvm.bare_eq] | rw [← hvm.bare_eq]
    rw [wb_idx_bare]
    exact h2
  have hkind : k'.kind = .array comp (.array .int) := by rw [he]; exact h4
  have f1 : U.vm.findClass (FieldType.array .int).toString = some comp := by rw [hvm.findClass]; exact h1
  have f2 : U.vm.findClass ("[" ++ (FieldType.array .int).toString) = some c := by rw [hvm.findClass]; exact h5
  unfold wb_AI Cond.before Cond.holds
  simp only [Cond.value]
  rw [f1, Option.bind_some]
  refine (congrArg (fun o : Option Nat => (o.bind (fun c => (U.vm.classes[c]?).map fun (k : Class) => match k.kind with | .array _ ty => decide (ty = FieldType.array .int) && decide (U.vm.findClass ("[" ++ (FieldType.array .int).toString) = some c) | _ => false) == some true)) hi).trans ?_
  simp [hk', hkind, f2]
def wb_Kx (G : wb_G) (U : State) : Prop := (∀ q ∈ wb_sites, wb_LS q.1 q.2.1 q.2.2.1 q.2.2.2.1 (G.2.1 q.2.2.2.2) U ∧ wb_LF q.2.2.2.1 q.1.cls (G.2.1 q.2.2.2.2) U) ∧ (∀ q ∈ wb_faces, va_Fw q.1 q.2.1 q.2.2 U) ∧ (∀ x ∈ wb_ims, wb_IM x U) ∧ (∀ C ∈ wb_aos, va_AO C U) ∧ wb_St G U ∧ (∀ q ∈ wb_ups, wb_UW q.1 q.2.1 q.2.2.1 q.2.2.2.1 q.2.2.2.2.1 q.2.2.2.2.2 U) ∧ (∀ q ∈ wb_ncs, wb_NC q.1 q.2 U) ∧ wb_AI U
theorem wb_faces_mh : ∀ q ∈ wb_faces, q.2.1.cls ≠ "java/lang/invoke/MethodHandle" ∧ q.2.1.cls ≠ "java/lang/invoke/VarHandle" := by decide
theorem wb_ims_mh : ∀ x ∈ wb_ims, x.cls ≠ "java/lang/invoke/MethodHandle" ∧ x.cls ≠ "java/lang/invoke/VarHandle" := by decide
theorem wb_ups_ne : ∀ q ∈ wb_ups, q.2.2.1.cls ≠ q.2.2.2.1 ∧ q.2.2.1.cls ≠ "java/lang/invoke/MethodHandle" ∧ q.2.2.1.cls ≠ "java/lang/invoke/VarHandle" := by decide
theorem wb_Kx.warm {G : wb_G} {s U : State} (hW : s.WarmedH U.vm) (h : wb_Kx G s) : wb_Kx G U :=
  ⟨fun q hq => ⟨(h.1 q hq).1.warm hW, (h.1 q hq).2.warm hW⟩, fun q hq => va_Fw.moved (wb_faces_mh q hq) hW.alike (h.2.1 q hq), fun x hx => wb_IM.moved (wb_ims_mh x hx) hW.alike (h.2.2.1 x hx), fun C hC => va_AO.moved hW.alike (h.2.2.2.1 C hC), wb_St.moved hW.alike h.2.2.2.2.1, fun q hq => wb_UW.warm (wb_ups_ne q hq).1 (wb_ups_ne q hq).2 hW (h.2.2.2.2.2.1 q hq), fun q hq => wb_NC.moved hW.alike (h.2.2.2.2.2.2.1 q hq), wb_AI.moved hW.alike h.2.2.2.2.2.2.2⟩
theorem wb_Kx.calling {G : wb_G} {U : State} {g : JFrame} {mk : MethodId} {a : Array Value} (h : wb_Kx G U) : wb_Kx G (U.calling g mk a) := h.warm (s := U) (State.WarmedH.refl U)

/-! ROWS for the other side: references, arrays of references, calls through interfaces, nest mates -/
theorem wb_ups_mh : ∀ q ∈ wb_ups, q.2.2.2.1 ≠ "java/lang/invoke/MethodHandle" ∧ q.2.2.2.1 ≠ "java/lang/invoke/VarHandle" := by decide
/-! contracts of Math's methods: the class has native rows, but only for floats -/
def wb_fd : List String := ["(D)D", "(DD)D", "(DDD)D", "(F)F", "(FF)F", "(FFF)F"]
theorem wb_mrows : (Jvm.natives.all fun r => r.cls != "java/lang/Math" || wb_fd.contains r.desc) = true := by decide +kernel
theorem wb_mplain {x : MethodName} (hc : x.cls = "java/lang/Math") (hd : wb_fd.contains x.desc = false) : plainFor x = true := by
  unfold plainFor
  rw [Bool.or_eq_true]; right
  rw [Option.isNone_iff_eq_none, NativeRow.find?, List.find?_eq_none]
  intro r hr h
  have := List.all_eq_true.mp wb_mrows r hr
  simp only [Bool.and_eq_true, beq_iff_eq] at h
  rw [h.1.2, h.2, hc, hd] at this
  simp at this
theorem wb_ofWF {l : Launch} {y : MethodName} {ws ws' : List Cond} {rm : Room} {Pc : Array Value → State → Prop} {Qc : Array Value → State → Outcome → State → Prop} {mc ms : Nat} {free : Addr → Prop} {cc : ByteArray} {maxL : Nat} {ret : Option FieldType}
    (hy : plainFor y = true) (hw : ws = Cond.code y cc maxL ret :: ws')
    (body : ∀ p e s m args below meth c s₁, BodyLoose p l y (headSpec ws rm) cc maxL ret e s m args below meth c s₁ → c.maxLocals = maxL → Pc args s →
      W p l e (headSpec ws rm).room s m args below meth c s.heap [] 0 0 (MQ below Qc args s mc ms free) (entryFrame m args maxL)) : Met l y ws rm Pc Qc mc ms free := by
  refine MetFree.of_bodySF (code := cc) (maxLocals := maxL) (ret := ret) hy ?_ ?_
  · intro args s m h hn
    obtain ⟨meth, c, h1, h2, h3, h4, h5, h6, -, -⟩ := Cond.code_spec hn (atoms_spec (ws := ws) h _ (by rw [hw]; exact List.mem_cons_self))
    exact ⟨meth, c, h1, h2, h3, h4, h5, h6⟩
  · intro p e s m args below meth c s₁ B hml hP _
    have hh0 : s₁.heap = s.heap := by rw [B.state]; rfl
    obtain ⟨t, a1, o, b1, b2, b3⟩ := body p e s m args below meth c s₁ B hml hP s₁ hh0 (Stand.of_body B)
    exact ⟨t, o, a1, b1, b2, ⟨b3.1, b3.2⟩⟩
theorem wa_metF {l : Launch} {G : wa_G} {y : MethodName} {cc : ByteArray} {maxL : Nat} {ret : Option FieldType} {rm : Room} {w : wa_W} {av : List Value} {Qc : Array Value → State → Outcome → State → Prop} {mc ms : Nat} (hy : plainFor y = true) (hlen : (lg_sl av).length ≤ maxL)
    (body : ∀ (p : Program) (e : Env) (s : State) (m : MethodId) (args : Array Value) (below : List Frame) (meth : Method) (c : Code) (ls : Array Slot), wa_X G y cc maxL ret p s m args meth c → lv_has ls maxL (lv_args 0 av) → wa_H G w s.heap →
      W p l e rm s m args below meth c s.heap [] 0 0 (MQ below Qc args s mc ms (wa_A G)) (F0 m 0 ls [])) : Met l y (ws_ y cc maxL ret) rm (wa_P G w av) Qc mc ms (wa_A G) := by
  refine wb_ofWF (cc := cc) (maxL := maxL) (ret := ret) hy rfl ?_
  intro p e s m args below meth c s₁ B hml hv
  obtain ⟨rfl, hK, hH⟩ := hv
  have hts := atoms_spec (ws := ws_ y cc maxL ret) B.pre
  rw [lg_entry_eq]
  exact body p e s m _ below meth c _ ⟨B.exec, B.bytes, hml, findClass_of_methodNamed B.named, fun w h => hts w (List.mem_cons_of_mem _ h), hK, B.returns, B.notSynchronized, (name_of_methodNamed B.named B.method).1, B.named⟩ (lv_entry av hlen) hH
section WX2
variable {p : Program} {l : Launch} {e : Env} {R : Room} {s : State} {m : MethodId} {args : Array Value} {below : List Frame} {meth : Method} {c : Code} {H H0 : Heap} {locs : List Loc} {cells slots : Nat} {Q : State → Prop}
variable {cc : ByteArray} {pc : Nat} {ls : Array Slot} {rest st0 : List Value} {a : Nat} {G : wa_G} {y : MethodName} {nL : Nat} {ret : Option FieldType} {w : wa_W}
theorem wa_aret {rt : FieldType} (X : wa_X G y cc nL (some rt) p s m args meth c) (hrt : (∃ n, rt = .object n) ∨ ∃ t, rt = .array t) (hH : wa_H G w H) (hS : va_S (wa_A G) s.heap H locs) {post : Option Nat → wa_W → Prop} (r : Option Nat) (d : decode cc pc = .ok (.areturn, 1)) (hp : post r w) : W p l e R s m args below meth c H locs cells slots (MQ below (wa_Qr G post) args s cells slots (wa_A G)) (F0 m pc ls [va_rf r]) :=
  W.aret X.x X.b X.r hrt (by cases r; exact Or.inl rfl; exact Or.inr ⟨_, rfl⟩) (fun t ht hW => ⟨⟨r, w, rfl, hp, by show wa_H G w t.heap; rw [ht]; exact hH⟩, hS.F ht⟩) hS.2.2 d X.lk
theorem wa_aald (X : wa_X G y cc nL ret p s m args meth c) (hH : wa_H G w H) {k n : Nat} {ty : FieldType} {f : Int → Option Nat} (he : w a = some (eR G k n f)) (ht : (wtys G.2.1)[k]? = some (G.2.1 k, ty)) (href : ty.isReference = true) {i : Int} (h0 : 0 ≤ i) (h1 : i < n) (h2 : i < 2147483648) (d : decode cc pc = .ok (.aaload, 1))
    (kk : W p l e R s m args below meth c H locs cells slots Q (F0 m (pc + 1) ls (va_rf (f i) :: rest))) : W p l e R s m args below meth c H locs cells slots Q (F0 m pc ls (.int (zI i) :: .ref a :: rest)) := by
  have hc : (zI i).toNatClampNeg = i.toNat := zI_cl ⟨by omega, h2⟩
  refine W.aald (v := va_rf (f i)) (ty := ty) X.x X.b (hH.2.2 a _ he).2 ((X.k.1.2 k _ ht).1 n (fun j => va_rf (f j))) href (fun q => by cases q) (by show ¬ (zI i < 0 ∨ (arrV _ _ _).slots.size ≤ _); rw [arrV_size]; exact zI_in h0 h1 h2) ?_ rfl rfl d kk
  show (arrV _ _ (fun j : Nat => va_rf (f j))).slots[_]? = _
  rw [hc, arrV_read _ _ (show i.toNat < n by omega)]
  congr 3
  rw [Int.toNat_of_nonneg h0]
theorem wa_alenR (X : wa_X G y cc nL ret p s m args meth c) (hH : wa_H G w H) {k n : Nat} {ty : FieldType} {f : Int → Option Nat} (he : w a = some (eR G k n f)) (ht : (wtys G.2.1)[k]? = some (G.2.1 k, ty)) (d : decode cc pc = .ok (.arraylength, 1))
    (kk : W p l e R s m args below meth c H locs cells slots Q (F0 m (pc + 1) ls (.int (zI n) :: rest))) : W p l e R s m args below meth c H locs cells slots Q (F0 m pc ls (.ref a :: rest)) :=
  W.alen (n := zI n) X.x X.b (hH.2.2 a _ he).2 ((X.k.1.2 k _ ht).1 n (fun j => va_rf (f j))) (by show (arrV _ _ _).slots.size.toInt32 = _; rw [arrV_size]; exact zI_nat n) rfl rfl d kk
theorem wa_alenB (X : wa_X G y cc nL ret p s m args meth c) (hH : wa_H G w H) {n : Nat} {f : Int → Int} (he : w a = some (eB G n f)) (d : decode cc pc = .ok (.arraylength, 1))
    (kk : W p l e R s m args below meth c H locs cells slots Q (F0 m (pc + 1) ls (.int (zI n) :: rest))) : W p l e R s m args below meth c H locs cells slots Q (F0 m pc ls (.ref a :: rest)) :=
  W.alen (n := zI n) X.x X.b (hH.2.2 a _ he).2 (wa_btyp X n _) (by show (arrV _ _ _).slots.size.toInt32 = _; rw [arrV_size]; exact zI_nat n) rfl rfl d kk
/-- some object of a class that may stand in an array over C -/
theorem wa_any (X : wa_X G y cc nL ret p s m args meth c) (hH : wa_H G w H) {ci N v : Nat} {C : String} {T : u_T} {fs : List Value} (he : w v = some (eO ci fs)) (hc : wcl[ci]? = some (C, T, N)) : va_Any C s H v := by
  obtain ⟨r', hr', cellV, g1, g2, g3, -⟩ := (hH.2.2 v _ he).2
  have hcls := (X.k.1.1 ci _ hc).2
  obtain ⟨kC, hkC, -⟩ := hcls.2
  exact ⟨cellV, g1, by rw [g3]; rfl, ⟨kC, by rw [g2]; exact hkC⟩, fun comp h => by
    have e : comp = G.1.1 ci := Option.some.inj (h.symm.trans hcls.1)
    subst e; rw [g2]; exact va_assign hcls⟩
theorem wa_anyO (X : wa_X G y cc nL ret p s m args meth c) (hH : wa_H G w H) {ci N v : Nat} {C E : String} {T : u_T} {fs : List Value} (he : w v = some (eO ci fs)) (hc : wcl[ci]? = some (C, T, N)) (hca : Cond.castable C E ∈ lw_tbl) : va_Any E s H v := by
  obtain ⟨r', hr', cellV, g1, g2, g3, -⟩ := (hH.2.2 v _ he).2
  have hcls := (X.k.1.1 ci _ hc).2
  obtain ⟨kC, hkC, -⟩ := hcls.2
  obtain ⟨c0, t1, f1, f2, f3⟩ := Cond.castable_spec (va_Nw.use (A := args) rfl (X.nw hca rfl))
  cases hcls.1.symm.trans f1
  exact ⟨cellV, g1, by rw [g3]; rfl, ⟨kC, by rw [g2]; exact hkC⟩, fun comp h => by
    cases h.symm.trans f2
    rw [g2]; exact f3⟩
theorem wa_anySup (X : wa_X G y cc nL ret p s m args meth c) (hH : wa_H G w H) {ci N v : Nat} {C E : String} {T : u_T} {fs : List Value} {n : Nat} (he : w v = some (eO ci fs)) (hc : wcl[ci]? = some (C, T, N)) (hq : Cond.superclass C E ∈ lw_all) (hi : Cond.instantiable E n ∈ lw_all) : va_Any E s H v := by
  obtain ⟨r', hr', cellV, g1, g2, g3, -⟩ := (hH.2.2 v _ he).2
  have hcls := (X.k.1.1 ci _ hc).2
  obtain ⟨kC, hkC, -⟩ := hcls.2
  obtain ⟨p0, k, kp, f1, f2, f3, f4, f5, f6, f7⟩ := Cond.superclass_spec hcls.1 (X.t _ hq)
  obtain ⟨c0, k0, i1, i2, i3, i4, -, -⟩ := Cond.instantiable_spec (X.t _ hi)
  cases f1.symm.trans i1
  cases f3.symm.trans i2
  refine ⟨cellV, g1, by rw [g3]; rfl, ⟨kC, by rw [g2]; exact hkC⟩, fun comp h => ?_⟩
  cases h.symm.trans f1
  rw [g2]
  have hp : s.vm.isSubclass (G.1.1 ci) p0 = true := by
    unfold Vm.isSubclass
    have hsz : ∃ q, s.vm.classes.size + 1 = q + 1 + 1 := ⟨s.vm.classes.size - 1, by have := (Array.getElem?_eq_some_iff.mp f2).1; omega⟩
    obtain ⟨q, e⟩ := hsz
    rw [e]
    unfold Vm.isSubclassAux
    simp only [f2, f4]
    unfold Vm.isSubclassAux
    simp
  have hni : kp.isInterface = false := by
    cases q : kp.isInterface with
    | false => rfl
    | true => rw [q] at i4; simp at i4
  unfold Vm.assignable Vm.assignableAux
  simp [f2, f3, f5, f6, hni, hp]
theorem wb_up (f : Int → Option Nat) {i : Int} (h0 : 0 ≤ i) (v : Option Nat) : updV (fun j : Nat => va_rf (f j)) i.toNat (va_rf v) = fun j : Nat => va_rf (fupR f i v j) := by
  funext q
  unfold updV fupR
  by_cases hq : q = i.toNat
  · rw [if_pos hq, if_pos (by omega)]
  · rw [if_neg hq, if_neg (by omega)]
theorem wa_aast (X : wa_X G y cc nL ret p s m args meth c) (hH : wa_H G w H) (hS : va_S (wa_A G) H0 H locs) {k n v : Nat} {E : String} {f : Int → Option Nat} (he : w a = some (eR G k n f)) (ht : (wtys G.2.1)[k]? = some (G.2.1 k, .object E)) (hr : va_Any E s H v) {i : Int} (h0 : 0 ≤ i) (h1 : i < n) (h2 : i < 2147483648) (d : decode cc pc = .ok (.aastore, 1))
    (kk : ∀ (w1 : wa_W) (H1 : Heap) (locs1 : List Loc), w1 = wup w a (eR G k n (fupR f i (some v))) → wa_H G w1 H1 → va_S (wa_A G) H0 H1 locs1 → W p l e R s m args below meth c H1 locs1 cells slots Q (F0 m (pc + 1) ls rest)) : W p l e R s m args below meth c H locs cells slots Q (F0 m pc ls (.ref v :: .int (zI i) :: .ref a :: rest)) := by
  have hc : (zI i).toNatClampNeg = i.toNat := zI_cl ⟨by omega, h2⟩
  obtain ⟨hlo, hat⟩ := hH.2.2 a _ he
  obtain ⟨cellV, g1, g3, ⟨kC, hkC⟩, hasg⟩ := hr
  obtain ⟨kA, comp, k1, k2, k3, -⟩ := (X.k.1.2 k _ ht).2
  obtain ⟨kE, hkE, -⟩ := Vm.findClass_spec k3
  refine W.aast X.x X.b hat (fun q h => by cases h) (fun h => by cases h) k1 k2 rfl hkE ⟨fun q => absurd ((zI_lt0 (show rI i from ⟨by omega, h2⟩)).mp q) (show ¬ i < 0 by omega), by show _ < (arrV _ _ _).slots.size; rw [arrV_size, hc]; exact (show i.toNat < n by omega)⟩ g1 (fun q h => by rw [h] at g3; cases g3) hkC (hasg _ k3) rfl rfl d fun H1 e1 z oq => ?_
  refine kk _ H1 _ rfl (hH.upd he ?_ z oq) (hS.put z oq hlo)
  show H1[a]? = some (vp_cell _ _)
  rw [e1, hc, vp_cell_q, vp_cell_q, arrV_store]
  congr 2
  exact wb_up f h0 (some v)
theorem wa_aastN (X : wa_X G y cc nL ret p s m args meth c) (hH : wa_H G w H) (hS : va_S (wa_A G) H0 H locs) {k n : Nat} {E : String} {f : Int → Option Nat} (he : w a = some (eR G k n f)) (ht : (wtys G.2.1)[k]? = some (G.2.1 k, .object E)) {i : Int} (h0 : 0 ≤ i) (h1 : i < n) (h2 : i < 2147483648) (d : decode cc pc = .ok (.aastore, 1))
    (kk : ∀ (w1 : wa_W) (H1 : Heap) (locs1 : List Loc), w1 = wup w a (eR G k n (fupR f i none)) → wa_H G w1 H1 → va_S (wa_A G) H0 H1 locs1 → W p l e R s m args below meth c H1 locs1 cells slots Q (F0 m (pc + 1) ls rest)) : W p l e R s m args below meth c H locs cells slots Q (F0 m pc ls (.null :: .int (zI i) :: .ref a :: rest)) := by
  have hc : (zI i).toNatClampNeg = i.toNat := zI_cl ⟨by omega, h2⟩
  obtain ⟨hlo, hat⟩ := hH.2.2 a _ he
  refine va_WaastN (C := E) X.x X.b hat ((X.k.1.2 k _ ht).1 n (fun j => va_rf (f j))) (fun h => by cases h) (by show ¬ (zI i < 0 ∨ (arrV _ _ _).slots.size ≤ _); rw [arrV_size]; exact zI_in h0 h1 h2) rfl rfl d fun H1 e1 z oq => ?_
  refine kk _ H1 _ rfl (hH.upd he ?_ z oq) (hS.put z oq hlo)
  show H1[a]? = some (vp_cell _ _)
  rw [e1, hc, vp_cell_q, vp_cell_q, arrV_store]
  congr 2
  exact wb_up f h0 none
theorem wa_anew (X : wa_X G y cc nL ret p s m args meth c) (hH : wa_H G w H) (hS : va_S (wa_A G) H0 H locs) {k : Nat} {own C : String} {index : Nat} (ht : (wtys G.2.1)[k]? = some (G.2.1 k, .object C)) (hao : C ∈ wb_aos) (hq : Cond.classLink own index C ∈ lw_all) (ho : y.cls = own) {n : Int} {N : Nat} (hN : n = N) (hN2 : N < 1000000) (hcells : cells + 1 ≤ R.cells) (hslots : slots + N ≤ R.slots) (d : decode cc pc = .ok (.anewarray index, 3))
    (kk : ∀ (q : Nat) (w1 : wa_W) (H1 : Heap), w q = none → w1 = wup w q (eR G k N (fun _ => none)) → wa_H G w1 H1 → va_S (wa_A G) H0 H1 locs → W p l e R s m args below meth c H1 locs (cells + 1) (slots + N) Q (F0 m (pc + 3) ls (.ref q :: rest))) : W p l e R s m args below meth c H locs cells slots Q (F0 m pc ls (.int (zI n) :: rest)) := by
  have r1 : rI n := ⟨by omega, by omega⟩
  have hcl : (zI n).toNatClampNeg = N := by rw [zI_cl r1]; omega
  refine W.anew X.x X.b (by rw [← ho]; exact X.own) (X.t _ hq) (va_AO.use (X.k.2.2.2.2.2.1 C hao)) rfl d rfl (fun h => absurd ((zI_lt0 r1).mp h) (show ¬ n < 0 by omega)) (by rw [hcl]; omega) hcells (by rw [hcl]; exact hslots) fun cA kA comp f1 f2 f3 f4 => ?_
  have hcA : cA = G.2.1 k := by
    obtain ⟨kA', comp', -, -, -, h4⟩ := (X.k.1.2 k _ ht).2
    exact Option.some.inj (f1.symm.trans h4)
  subst hcA
  rw [hcl]
  generalize hH1 : H.push ({ cls := G.2.1 k, slots := Array.replicate N .null, vm := .none } : Cell) = H1
  have z1 : H1.size = H.size + 1 := by rw [← hH1, Array.size_push]
  have e1 : H1[H.size]? = some (arrV (G.2.1 k) N (fun _ => .null)) := by rw [← hH1, Array.getElem?_push_size, ← arrV_new]
  have o1 : ∀ q : Nat, q < H.size → H1[q]? = H[q]? := fun q hq => by rw [← hH1, Array.getElem?_push, if_neg (Nat.ne_of_lt hq)]
  refine kk H.size _ H1 (hH.none (Nat.le_refl _)) rfl (hH.push ?_ z1 o1) ⟨Nat.le_trans hS.1 (by omega), fun x h1 h2 => (o1 x (Nat.lt_of_lt_of_le h1 hS.1)).trans (hS.2.1 x h1 h2), hS.2.2⟩
  show H1[H.size]? = some (vp_cell _ _)
  rw [vp_cell_q]
  exact e1
/-- getstatic of one of the statics below the law's entry -/
theorem wa_gets (X : wa_X G y cc nL ret p s m args meth c) (hH : wa_H G w H) {C n dd ref : String} {v : Value} {index : Nat} (hZ : va_Z C n dd v (wb_lo G) s G.2.2) {own : String} (ho : y.cls = own) (hq : Cond.fieldLink own index ref n dd ∈ lw_all) (hsame : ∀ x, s.fieldFound? C n dd = some x → s.fieldFound? ref n dd = some x) (d : decode cc pc = .ok (.getstatic index, 3))
    (kk : W p l e R s m args below meth c H locs cells slots Q (F0 m (pc + 3) ls (v :: rest))) : W p l e R s m args below meth c H locs cells slots Q (F0 m pc ls rest) := by
  obtain ⟨cf, kf, fi, f, a, cell, h1, h2, h3, h4, h5, h6, h7, h8⟩ := hZ
  exact W.gets X.x X.b (by rw [← ho]; exact X.own) (X.t _ hq) (hsame _ h1) h2 h3 h4 (by rw [hH.2.1 a (Array.getElem?_eq_some_iff.mp h5).1]; exact h5) (fun e => by rw [e] at h6; cases h6) h7 rfl d kk
theorem wa_putN (X : wa_X G y cc nL ret p s m args meth c) (hH : wa_H G w H) (hS : va_S (wa_A G) H0 H locs) {own ref C host : String} {T : u_T} {N ci index : Nat} {ty : Nat → FieldType} {fs : List Value} (he : w a = some (eO ci fs)) (hC : wa_C ci C T N ty) (k : Nat) (hk : k < N) (hq : Cond.fieldLinkNest own index ref (T k).2.1 (T k).2.2.1 host ∈ lw_tbl) (ho : y.cls = own) (hsame : ∀ x, s.fieldFound? (T k).1 (T k).2.1 (T k).2.2.1 = some x → s.fieldFound? ref (T k).2.1 (T k).2.2.1 = some x) (hfin : (T k).2.2.2 = false) {v : Value} (hn : narrow (ty k) v = v) (hfit : fits (ty k) v = true) (hl : k < fs.length) (d : decode cc pc = .ok (.putfield index, 3))
    (kk : ∀ (w1 : wa_W) (H1 : Heap) (locs1 : List Loc), w1 = wup w a (eO ci (fs.set k v)) → wa_H G w1 H1 → va_S (wa_A G) H0 H1 locs1 → W p l e R s m args below meth c H1 locs1 cells slots Q (F0 m (pc + 3) ls rest)) : W p l e R s m args below meth c H locs cells slots Q (F0 m pc ls (v :: .ref a :: rest)) := by
  have hap := va_apart (own := own) X.t hC.2.1 ty hC.2.2.1 hC.2.2.2 X.k.1 hC.1
  obtain ⟨hlo, hat⟩ := hH.2.2 a _ he
  obtain ⟨r, h1, cell, q1, q2, q3, q4⟩ := hat
  have hr : r = (C, T, N) := Option.some.inj (h1.symm.trans hC.1)
  subst hr
  obtain ⟨hSl, hfc, kC, hkC, hkind⟩ := X.k.1.1 ci _ hC.1
  obtain ⟨cf, kf, fi, f, hi, hsl⟩ := hSl k hk
  have hlay := X.t _ (hC.2.1 _ (u_in_lay hk))
  unfold u_lay at hlay
  rw [if_neg (by rw [hfin]; decide)] at hlay
  have hst := (u_facts hfc hkC (u_lays X.t hC.2.1 hk) hi).1
  have h6 := u_store hfc hkC hkind hlay hi (hC.2.2.1 k hk) hn hfit
  refine va_WputK X.x X.b (f := f) (by rw [← ho]; exact X.own) (va_Nw.use rfl (X.nw hq rfl)) (hsame _ hi) hst (by rw [q2]; exact h6) q1 q3 (by rw [hsl]; exact k2_hasslot (q4 k hk)) rfl rfl d fun H' e1 e2 e3 => ?_
  rw [hsl] at e1 ⊢
  exact kk _ H' _ rfl (hH.upd he (show va_at G.1 wcl (a, .inr (ci, fs.set k v)) H' from ⟨_, hC.1, t_OB.to (V := updV (vp_V fs) k v) ⟨_, e1, q2, q3, t_set q4 hap hk v⟩ (fun j _ => vp_updV_set hl v j)⟩) e2 e3) (hS.put e2 e3 hlo)
theorem rf_nar {n : String} {r : Option Nat} : narrow (.object n) (va_rf r) = va_rf r := by cases r <;> rfl
theorem rf_fit {n : String} {r : Option Nat} : fits (.object n) (va_rf r) = true := by cases r <;> rfl
theorem rf_narA {t : FieldType} {r : Option Nat} : narrow (.array t) (va_rf r) = va_rf r := by cases r <;> rfl
theorem rf_fitA {t : FieldType} {r : Option Nat} : fits (.array t) (va_rf r) = true := by cases r <;> rfl
theorem va_cat {r : Option Nat} : (va_rf r).category = 1 := by cases r <;> rfl
theorem lv_aload_nO {r : Option Nat} (hexec : p.tables.exec = Jvm.exec) (hb : c.code = cc) {k : Fin 4} {i : Nat} (hdg : decode cc pc = .ok (.aload_n k, 1)) (hi : (k : Nat) = i) (hl : ls[i]? = some (.val (va_rf r))) (kk : W p l e R s m args below meth c H locs cells slots Q (F0 m (pc + 1) ls (va_rf r :: rest))) : W p l e R s m args below meth c H locs cells slots Q (F0 m pc ls rest) := by
  cases r with
  | none => exact lv_aload_nN hexec hb hdg hi hl kk
  | some x => exact lv_aload_n hexec hb hdg hi hl kk
theorem lv_aloadO {r : Option Nat} (hexec : p.tables.exec = Jvm.exec) (hb : c.code = cc) {i : Nat} (hdg : decode cc pc = .ok (.aload i, 2)) (hl : ls[i]? = some (.val (va_rf r))) (kk : W p l e R s m args below meth c H locs cells slots Q (F0 m (pc + 2) ls (va_rf r :: rest))) : W p l e R s m args below meth c H locs cells slots Q (F0 m pc ls rest) := by
  cases r with
  | none => exact lv_aloadN hexec hb hdg hl kk
  | some x => exact lv_aload hexec hb hdg hl kk
theorem lv_astore_nO {r : Option Nat} (hexec : p.tables.exec = Jvm.exec) (hb : c.code = cc) {k : Fin 4} {i nL : Nat} {lv lv' : List (Nat × Value)} (hdg : decode cc pc = .ok (.astore_n k, 1)) (hi : (k : Nat) = i) (h : lv_has ls nL lv) (hn : i < nL) (hl : (i, va_rf r) :: lv.filter (fun q => !(q.1 == i) && !(q.1 + 1 == i && q.2.category == 2)) = lv')
    (kk : ∀ ls' : Array Slot, lv_has ls' nL lv' → W p l e R s m args below meth c H locs cells slots Q (F0 m (pc + 1) ls' rest)) : W p l e R s m args below meth c H locs cells slots Q (F0 m pc ls (va_rf r :: rest)) := by
  cases r with
  | none => exact lv_astore_nN hexec hb hdg hi h hn hl kk
  | some x => exact lv_astore_n hexec hb hdg hi h hn hl kk
theorem lv_astoreO {r : Option Nat} (hexec : p.tables.exec = Jvm.exec) (hb : c.code = cc) {i nL : Nat} {lv lv' : List (Nat × Value)} (hdg : decode cc pc = .ok (.astore i, 2)) (h : lv_has ls nL lv) (hn : i < nL) (hl : (i, va_rf r) :: lv.filter (fun q => !(q.1 == i) && !(q.1 + 1 == i && q.2.category == 2)) = lv')
    (kk : ∀ ls' : Array Slot, lv_has ls' nL lv' → W p l e R s m args below meth c H locs cells slots Q (F0 m (pc + 2) ls' rest)) : W p l e R s m args below meth c H locs cells slots Q (F0 m pc ls (va_rf r :: rest)) := by
  cases r with
  | none => exact lv_astoreN hexec hb hdg h hn hl kk
  | some x => exact lv_astore hexec hb hdg h hn hl kk
theorem wz_i64 {x : Int64} {z : Int} (h : x = lI z) (k : W p l e R s m args below meth c H locs cells slots Q (F0 m pc ls (.long (lI z) :: rest))) : W p l e R s m args below meth c H locs cells slots Q (F0 m pc ls (.long x :: rest)) := h ▸ k
theorem wz_opt {r q : Option Nat} (h : r = q) (k : W p l e R s m args below meth c H locs cells slots Q (F0 m pc ls (va_rf q :: rest))) : W p l e R s m args below meth c H locs cells slots Q (F0 m pc ls (va_rf r :: rest)) := h ▸ k
theorem xo_cases (r : Option Nat) : r = none ∨ ∃ a, r = some a := by cases r; exact Or.inl rfl; exact Or.inr ⟨_, rfl⟩
/-- checkcast of an object of our own -/
theorem wa_cast (X : wa_X G y cc nL ret p s m args meth c) (hH : wa_H G w H) {own C nm : String} {T : u_T} {N ci index : Nat} {fs : List Value} (he : w a = some (eO ci fs)) (hc : wcl[ci]? = some (C, T, N)) (ho : y.cls = own) (hq : Cond.classLink own index nm ∈ lw_all) (hca : Cond.castable C nm ∈ lw_tbl) (d : decode cc pc = .ok (.checkcast index, 3))
    (kk : W p l e R s m args below meth c H locs cells slots Q (F0 m (pc + 3) ls (.ref a :: rest))) : W p l e R s m args below meth c H locs cells slots Q (F0 m pc ls (.ref a :: rest)) := by
  obtain ⟨r', hr', cellV, g1, g2, g3, -⟩ := (hH.2.2 a _ he).2
  have hcls := (X.k.1.1 ci _ hc).2
  exact va_castY X.x X.b (by rw [← ho]; exact X.own) (X.t _ hq) (X.nw hca rfl) ⟨cellV, g1, by rw [g3]; rfl, by rw [g2]; exact hcls.1⟩ d kk
theorem wa_castS (X : wa_X G y cc nL ret p s m args meth c) (hH : wa_H G w H) {own C : String} {T : u_T} {N ci index : Nat} {fs : List Value} (he : w a = some (eO ci fs)) (hc : wcl[ci]? = some (C, T, N)) (ho : y.cls = own) (hq : Cond.classLink own index C ∈ lw_all) (d : decode cc pc = .ok (.checkcast index, 3))
    (kk : W p l e R s m args below meth c H locs cells slots Q (F0 m (pc + 3) ls (.ref a :: rest))) : W p l e R s m args below meth c H locs cells slots Q (F0 m pc ls (.ref a :: rest)) := by
  obtain ⟨r', hr', cellV, g1, g2, g3, -⟩ := (hH.2.2 a _ he).2
  have hcls := (X.k.1.1 ci _ hc).2
  exact va_castS X.x X.b (by rw [← ho]; exact X.own) (X.t _ hq) hcls ⟨cellV, g1, by rw [g3]; rfl, by rw [g2]; exact hcls.1⟩ d kk
theorem wa_instS (X : wa_X G y cc nL ret p s m args meth c) (hH : wa_H G w H) {own C : String} {T : u_T} {N ci index : Nat} {fs : List Value} (he : w a = some (eO ci fs)) (hc : wcl[ci]? = some (C, T, N)) (ho : y.cls = own) (hq : Cond.classLink own index C ∈ lw_all) (d : decode cc pc = .ok (.instanceof index, 3))
    (kk : W p l e R s m args below meth c H locs cells slots Q (F0 m (pc + 3) ls (.int (zI 1) :: rest))) : W p l e R s m args below meth c H locs cells slots Q (F0 m pc ls (.ref a :: rest)) := by
  obtain ⟨r', hr', cellV, g1, g2, g3, -⟩ := (hH.2.2 a _ he).2
  have hcls := (X.k.1.1 ci _ hc).2
  exact va_instS X.x X.b (by rw [← ho]; exact X.own) (X.t _ hq) hcls ⟨cellV, g1, by rw [g3]; rfl, by rw [g2]; exact hcls.1⟩ d kk
-- calls: from a contract to its run
variable {y2 x : MethodName} {b2 : ByteArray} {maxL mc ms n index count : Nat} {r2 : Option FieldType} {rm : Room} {As : List Value} {Qc : Array Value → State → Outcome → State → Prop} {own C2 : String}
theorem lw_F (h1 : Cond.methodLink own index x ∈ lw_all) (h2 : Cond.selects C2 x y2 ∈ lw_all) (h3 : Cond.instanceMethod y2 ∈ lw_all) (h4 : Cond.initialized y2.cls ∈ lw_all) (h5 : Cond.code y2 b2 maxL r2 ∈ lw_all) : GoodIn lw_all (va_wsF own index C2 x y2 (ws_ y2 b2 maxL r2)) := by
  refine lw_app ?_ (lw_meth h5)
  intro w hw
  simp only [List.mem_cons, List.not_mem_nil, or_false] at hw
  rcases hw with e | e | e | e
  · rw [e]; exact h1
  · rw [e]; exact h2
  · rw [e]; exact h3
  · rw [e]; exact h4
theorem lw_U {owner : String} (h1 : Cond.methodLink own index x ∈ lw_all) (h0 : Cond.sameMethod x.cls owner x.name x.desc ∈ lw_all) (h2 : Cond.selects C2 x y2 ∈ lw_all) (h3 : Cond.instanceMethod y2 ∈ lw_all) (h4 : Cond.initialized y2.cls ∈ lw_all) (h5 : Cond.code y2 b2 maxL r2 ∈ lw_all) : GoodIn lw_all (va_wsU own index C2 owner x y2 (ws_ y2 b2 maxL r2)) := by
  refine lw_app ?_ (lw_meth h5)
  intro w hw
  simp only [List.mem_cons, List.not_mem_nil, or_false] at hw
  rcases hw with e | e | e | e | e
  · rw [e]; exact h1
  · rw [e]; exact h0
  · rw [e]; exact h2
  · rw [e]; exact h3
  · rw [e]; exact h4
/-- a call through an interface on an object of our own -/
theorem wa_rF (X : wa_X G y cc nL ret p s m args meth c) (hH : wa_H G w H) (hM : Met l y2 (ws_ y2 b2 maxL r2) rm (wa_P G w (.ref a :: As)) Qc mc ms (wa_A G)) (cw : va_CI R s args own C2 index x y2 b2 maxL r2 (ws_ y2 b2 maxL r2) rm mc ms n) (ho : y.cls = own) {ci N : Nat} {T : u_T} {fs : List Value} (he : w a = some (eO ci fs)) (hc : wcl[ci]? = some (C2, T, N)) (hn : As.length = n) (hsz : ls.size = nL) (hst : st0 = As.reverse ++ .ref a :: rest) (hW : (rest.map fun v => v.category).sum ≤ 8) (d : decode cc pc = .ok (.invokeinterface index count, 5)) (hf : cells + mc ≤ R.cells ∧ slots + ms ≤ R.slots) :
    va_Run5 p l e R s m args below meth c H locs cells slots mc ms (F0 m pc ls st0) rest (Qc (Value.ref a :: As).toArray) (wa_A G) := by
  subst ho
  obtain ⟨q', h1, cell, g1, g2, g3, -⟩ := (hH.2.2 a _ he).2
  have hq : q' = (C2, T, N) := Option.some.inj (h1.symm.trans hc)
  subst hq
  exact va_runF (X.k.1.1 ci _ hc).2 X.fix hM cw ⟨wa_P.blind, ⟨cell, g1, by rw [g3]; rfl, by rw [g2]; exact (X.k.1.1 ci _ hc).2.1⟩, fun U hU hW => ⟨rfl, X.k.warm hW, by rw [hU]; exact hH⟩⟩ rfl hn hsz hst (lv_room hW) d hf
/-- .. on a method that the superinterface J declares -/
theorem wb_callIG {T : State} (X : Stand p l e R s m args below meth c T locs cells slots) (hexec : p.tables.exec = Jvm.exec) {own J C : String} {index count : Nat} {x y : MethodName} {bytes : ByteArray} {maxL : Nat} {ret : Option FieldType}
    (hown : s.vm.findClass own = some m.cls) (hlink : (Cond.methodLink own index x).before args s = true) (hdecl : (Cond.declares ⟨J, x.name, x.desc⟩).before args s = true) (hface : (Cond.interfaceMethod x.cls J x.name x.desc).before args s = true) (hpubO : (Cond.publicMethod ⟨J, x.name, x.desc⟩).before args s = true) (hxo : x.cls ≠ J)
    (hsel : (Cond.selects C ⟨J, x.name, x.desc⟩ y).before args s = true) (hinst : (Cond.instanceMethod y).before args s = true) (hpub : (Cond.publicMethod y).before args s = true) (hunh : (Cond.unhidden C x.name x.desc).before args s = true)
    (hcast : (Cond.castable C x.cls).before args s = true) (hcode : (Cond.code y bytes maxL ret).before args s = true) (hx : x.cls ≠ "java/lang/invoke/MethodHandle" ∧ x.cls ≠ "java/lang/invoke/VarHandle") (hxJ : J ≠ "java/lang/invoke/MethodHandle" ∧ J ≠ "java/lang/invoke/VarHandle")
    {W : Nat} {Pre : Pt → Array Value → Prop} {Post : Pt → Array Value → Option Value → Pt → Prop} (hK : Back l R p e below s args y 5 W Pre Post)
    {b : Addr} {cellB : Cell} {kB : Class} (hcell : T.heap[b]? = some cellB) (hobj : cellB.vm.isStatics = false) (hcls : s.vm.findClass C = some cellB.cls) (hkB : s.vm.classes[cellB.cls]? = some kB)
    {g : JFrame} (hg : g.method = m) (hsize : g.locals.size = c.maxLocals) {argsL rest : List Value} (hlen : ∀ sig, parseMethodDescriptor x.desc = some sig → argsL.length = sig.parameters.length)
    (hstack : g.stack = argsL.reverse ++ .ref b :: rest) (hW : 2 * g.monitorRoom + (rest.map fun v => v.category).sum ≤ W) (hdg : decode c.code g.pc = .ok (.invokeinterface index count, 5))
    (hpre : ∀ vm₁, s.WarmedH vm₁ → Pre ⟨T.setVm vm₁, locs, cells, slots⟩ (Value.ref b :: argsL).toArray) :
    ∃ (v : Option Value) (vm₁ : Vm) (B : Pt), s.WarmedH vm₁ ∧ Stand p l e R s m args below meth c B.U B.locs B.cells B.slots ∧ Post ⟨T.setVm vm₁, locs, cells, slots⟩ (Value.ref b :: argsL).toArray v B ∧
      ∀ target, Steps p.tables e below (B.U.setTop { g with pc := g.pc + 5, stack := v.toList ++ rest }) target → Steps p.tables e below (T.setTop g) target := by
  obtain ⟨r0, r, hn, hrm, hstR, hsigR⟩ := Cond.declares_spec hdecl
  obtain ⟨cL, kL, r1, hcL, hkL, hiL, hfoundL, hn1⟩ := Cond.interfaceMethod_spec hface
  obtain ⟨hnameR, hdescR⟩ := name_of_methodNamed hn hrm
  obtain ⟨mk, methM, hnamed, hmethM, -, habM⟩ := Cond.instanceMethod_spec hinst
  obtain ⟨c2, r2, m2, q1, q2, q3, q4, -⟩ := Cond.selects_spec hsel
  cases hcls.symm.trans q1
  cases hnamed.symm.trans q3
  have hr2 : r2 = r0 := by
    have h2 := State.methodFound?_of_named hn hxJ
    exact Option.some.inj (q2.symm.trans h2)
  subst hr2
  have hselP : selectMethod e.platform s.vm cellB.cls r2 = .method mk := by rw [Launch.admits_selectMethod X.admits]; exact q4
  have hpubM : hasFlag methM.accessFlags Acc.public_ = true := Cond.publicMethod_spec hnamed hmethM hpub
  have hway : ((cellB.cls :: s.vm.superclasses cellB.cls).any fun k => (declaredIn s.vm r.name r.desc k).any fun (_, z) => z.isPrivate || z.isStatic) = false := by
    rw [hnameR, hdescR]; exact Cond.unhidden_spec hcls hunh
  obtain ⟨c3, t3, w1, w2, w3⟩ := Cond.castable_spec hcast
  cases hcls.symm.trans w1
  cases hcL.symm.trans w2
  obtain ⟨vm₁, X₁, hstep₁⟩ := X.invokeinterfaceUp hexec hown hlink hface hdecl hpubO hxo hx hcL (a := b) (cell := cellB) (kcell := kB) hcell
    (fun z h => by rw [h] at hobj; cases hobj) hkB w3 hn hrm hselP hmethM hway hpubM habM (g := g) hg (argsL := argsL) (rest := rest) (hlen _ hsigR) hstack hdg
  obtain ⟨v, B, X', hpost, hsteps⟩ := hK m meth c ⟨T.setVm vm₁, locs, cells, slots⟩ { g with stack := rest } (.invokeinterface index count) mk (Value.ref b :: argsL).toArray X₁ hg hsize hdg hW (X₁.named hnamed) (hpre vm₁ X₁.warmed)
  exact ⟨v, vm₁, B, X₁.warmed, X', hpost, fun target h => hstep₁ _ fun acts => by rw [doInvoke_state]; exact hsteps.trans h⟩
theorem wa_rG (X : wa_X G y cc nL ret p s m args meth c) (hH : wa_H G w H) (hM : Met l y2 (ws_ y2 b2 maxL r2) rm (wa_P G w (.ref a :: As)) Qc mc ms (wa_A G)) {J : String} (hq : (own, index, x, J, C2, y2) ∈ wb_ups) (h2 : Cond.selects C2 ⟨J, x.name, x.desc⟩ y2 ∈ lw_all) (h3 : Cond.instanceMethod y2 ∈ lw_all) (h4 : Cond.initialized y2.cls ∈ lw_all) (h5 : Cond.code y2 b2 maxL r2 ∈ lw_all) (hrc : rm.cells = mc) (hrs : rm.slots = ms) (hR : rm.frames + 1 ≤ R.frames ∧ 8 + (maxL + 11) + rm.locals ≤ R.locals) (hlen : (parseMethodDescriptor x.desc).map (fun d => d.parameters.length) = some n) (ho : y.cls = own) {ci N : Nat} {T : u_T} {fs : List Value} (he : w a = some (eO ci fs)) (hc : wcl[ci]? = some (C2, T, N)) (hn : As.length = n) (hsz : ls.size = nL) (hst : st0 = As.reverse ++ .ref a :: rest) (hW : (rest.map fun v => v.category).sum ≤ 8) (d : decode cc pc = .ok (.invokeinterface index count, 5)) (hf : cells + mc ≤ R.cells ∧ slots + ms ≤ R.slots) :
    va_Run5 p l e R s m args below meth c H locs cells slots mc ms (F0 m pc ls st0) rest (Qc (Value.ref a :: As).toArray) (wa_A G) := by
  subst ho
  obtain ⟨q', h1, cell, g1, g2, g3, -⟩ := (hH.2.2 a _ he).2
  have hq' : q' = (C2, T, N) := Option.some.inj (h1.symm.trans hc)
  subst hq'
  obtain ⟨hne, hmh⟩ := wb_ups_ne _ hq
  obtain ⟨u1, u2, u3, u4, u5, u6, u7⟩ := X.k.2.2.2.2.2.2.2.1 _ hq
  have hG := lw_meth h5
  have hK : Back l R p e below s args y2 5 8 (PreOf R mc ms (wa_P G w (.ref a :: As))) (PostOf Qc mc ms (wa_A G)) := back_of (bytes := b2) (maxL := maxL) (ret := r2) hM wa_P.blind hrc hrs hR.1 hR.2 (pay_in X.t hG) (List.mem_cons_self) (fun a' U hW => Jvm.LawKit.word_at hW (Or.inl (by first | rfl | simp [Cond.onTables, Cond.keeps, Cond.steady])) (X.t _ h4))
  obtain ⟨hfc, kB, hkB, -⟩ := (X.k.1.1 ci _ hc).2
  have hclB : s.vm.findClass C2 = some cell.cls := by rw [g2]; exact hfc
  intro T hT XS
  obtain ⟨v, vm₁, ⟨U', l2, c2, s2⟩, hW₁, X', ⟨g', mk, t, L, e1, e2, hq, h1, hL, h2, h3⟩, st⟩ := wb_callIG XS X.x (C := C2) (bytes := b2) (maxL := maxL) (ret := r2) X.own (va_any rfl u1) (va_any rfl u3) (va_any rfl u2) (va_any rfl u4) hne (X.t _ h2) (X.t _ h3) (va_any rfl u5) (va_any rfl u6) (va_any rfl u7) (X.t _ h5) hmh (wb_ups_mh _ hq) hK (by rw [hT]; exact g1) (by rw [g3]; rfl) hclB (by rw [g2]; exact hkB) (g := F0 m pc ls st0) rfl (hsz.trans X.ml.symm) (argsL := As) (rest := rest) (fun sig h => by
      rw [h] at hlen; exact hn.trans (Option.some.inj hlen).symm) hst (lv_room hW) (by rw [X.b]; exact d)
    (fun vm₁ hW₁ => ⟨hf.1, hf.2, rfl, X.k.warm hW₁, by show wa_H G w T.heap; rw [hT]; exact hH⟩)
  dsimp only [Pt.U, Pt.locs, Pt.cells, Pt.slots] at X' e1 e2 h1 h2 h3 st
  subst h1; subst h2; subst h3
  exact ⟨v, (T.setVm vm₁).calling g' mk (Value.ref a :: As).toArray, t, U', L, hT, X', hL, e1, e2, hq, st⟩
/-- a virtual call of an inherited method -/
theorem wa_rU (X : wa_X G y cc nL ret p s m args meth c) (hH : wa_H G w H) {owner : String} (hM : Met l y2 (ws_ y2 b2 maxL r2) rm (wa_P G w (.ref a :: As)) Qc mc ms (wa_A G)) (cw : va_CU R s args own C2 owner index x y2 b2 maxL r2 (ws_ y2 b2 maxL r2) rm mc ms n) (ho : y.cls = own) {ci N : Nat} {T : u_T} {fs : List Value} (he : w a = some (eO ci fs)) (hc : wcl[ci]? = some (C2, T, N)) (hn : As.length = n) (hsz : ls.size = nL) (hst : st0 = As.reverse ++ .ref a :: rest) (hW : (rest.map fun v => v.category).sum ≤ 8) (d : decode cc pc = .ok (.invokevirtual index, 3)) (hf : cells + mc ≤ R.cells ∧ slots + ms ≤ R.slots) :
    va_Run p l e R s m args below meth c H locs cells slots mc ms (F0 m pc ls st0) rest (Qc (Value.ref a :: As).toArray) (wa_A G) := by
  subst ho
  obtain ⟨q', h1, cell, g1, g2, g3, -⟩ := (hH.2.2 a _ he).2
  have hq : q' = (C2, T, N) := Option.some.inj (h1.symm.trans hc)
  subst hq
  exact va_runU X.fix hM cw ⟨wa_P.blind, ⟨cell, g1, by rw [g3]; rfl, by rw [g2]; exact (X.k.1.1 ci _ hc).2.1⟩, fun U hU hW => ⟨rfl, X.k.warm hW, by rw [hU]; exact hH⟩⟩ rfl hn hsz hst (lv_room hW) d hf
/-- calls of a nest mate's private methods -/
theorem wa_cN (X : wa_X G y cc nL ret p s m args meth c) {host : String} (n : Nat) (h5 : Cond.code y2 b2 maxL r2 ∈ lw_all) (hl : Cond.methodLinkNest own index y2 host ∈ lw_tbl) (h4 : Cond.initialized y2.cls ∈ lw_all)
    (hd : y2.cls ≠ "java/lang/invoke/MethodHandle" ∧ y2.cls ≠ "java/lang/invoke/VarHandle" ∧ (parseMethodDescriptor y2.desc).map (fun d => d.parameters.length) = some n) (hR : rm.frames + 1 ≤ R.frames ∧ 8 + (maxL + 11) + rm.locals ≤ R.locals) : va_CN R s args own index y2 host b2 maxL r2 (ws_ y2 b2 maxL r2) rm rm.cells rm.slots n :=
  va_cnB n X.t (lw_meth h5) rfl rfl rfl (X.nw hl rfl) (X.t _ h4) hd hR
theorem wa_rVN (X : wa_X G y cc nL ret p s m args meth c) (hH : wa_H G w H) {host : String} (hM : Met l y2 (ws_ y2 b2 maxL r2) rm (wa_P G w (.ref a :: As)) Qc mc ms (wa_A G)) (cw : va_CN R s args own index y2 host b2 maxL r2 (ws_ y2 b2 maxL r2) rm mc ms n) (hq2 : Cond.instanceMethod y2 ∈ lw_all) (hq3 : Cond.selects C2 y2 y2 ∈ lw_all) (ho : y.cls = own) {ci N : Nat} {T : u_T} {fs : List Value} (he : w a = some (eO ci fs)) (hc : wcl[ci]? = some (C2, T, N)) (hn : As.length = n) (hsz : ls.size = nL) (hst : st0 = As.reverse ++ .ref a :: rest) (hW : (rest.map fun v => v.category).sum ≤ 8) (d : decode cc pc = .ok (.invokevirtual index, 3)) (hf : cells + mc ≤ R.cells ∧ slots + ms ≤ R.slots) :
    va_Run p l e R s m args below meth c H locs cells slots mc ms (F0 m pc ls st0) rest (Qc (Value.ref a :: As).toArray) (wa_A G) := by
  subst ho
  obtain ⟨q', h1, cell, g1, g2, g3, -⟩ := (hH.2.2 a _ he).2
  have hq : q' = (C2, T, N) := Option.some.inj (h1.symm.trans hc)
  subst hq
  exact va_runVN X.fix hM ⟨cw, X.t _ hq2, X.t _ hq3⟩ ⟨wa_P.blind, ⟨cell, g1, by rw [g3]; rfl, by rw [g2]; exact (X.k.1.1 ci _ hc).2.1⟩, fun U hU hW => ⟨rfl, X.k.warm hW, by rw [hU]; exact hH⟩⟩ rfl hn hsz hst (lv_room hW) d hf
theorem wa_rSN (X : wa_X G y cc nL ret p s m args meth c) (hH : wa_H G w H) {host : String} (hM : Met l y2 (ws_ y2 b2 maxL r2) rm (wa_P G w As) Qc mc ms (wa_A G)) (cw : va_CN R s args own index y2 host b2 maxL r2 (ws_ y2 b2 maxL r2) rm mc ms n) (hq2 : Cond.static y2 ∈ lw_all) (ho : y.cls = own) (hn : As.length = n) (hsz : ls.size = nL) (hst : st0 = As.reverse ++ rest) (hW : (rest.map fun v => v.category).sum ≤ 8) (d : decode cc pc = .ok (.invokestatic index, 3)) (hf : cells + mc ≤ R.cells ∧ slots + ms ≤ R.slots) :
    va_Run p l e R s m args below meth c H locs cells slots mc ms (F0 m pc ls st0) rest (Qc As.toArray) (wa_A G) := by
  subst ho
  exact va_runSN X.fix hM ⟨cw, X.t _ hq2, trivial⟩ ⟨wa_P.blind, fun U hU hW => ⟨rfl, X.k.warm hW, by rw [hU]; exact hH⟩⟩ rfl hn hsz hst (lv_room hW) d hf
theorem wa_rIN (X : wa_X G y cc nL ret p s m args meth c) (hH : wa_H G w H) {host : String} (hM : Met l y2 (ws_ y2 b2 maxL none) rm (wa_P G w (.ref a :: As)) Qc mc ms (wa_A G)) (cw : va_CN R s args own index y2 host b2 maxL none (ws_ y2 b2 maxL none) rm mc ms n) (hnm : y2.name = "<init>") (hq2 : Cond.instanceMethod y2 ∈ lw_all) (ho : y.cls = own) (hn : As.length = n) (hsz : ls.size = nL) (hst : st0 = As.reverse ++ .ref a :: rest) (hW : (rest.map fun v => v.category).sum ≤ 8) (d : decode cc pc = .ok (.invokespecial index, 3)) (hf : cells + mc ≤ R.cells ∧ slots + ms ≤ R.slots) :
    va_Run p l e R s m args below meth c H locs cells slots mc ms (F0 m pc ls st0) rest (Qc (Value.ref a :: As).toArray) (wa_A G) := by
  subst ho
  exact va_runIN X.fix hM ⟨cw, hnm, X.t _ hq2⟩ ⟨wa_P.blind, fun U hU hW => ⟨rfl, X.k.warm hW, by rw [hU]; exact hH⟩⟩ rfl hn hsz hst (lv_room hW) d hf
variable {av : Array Value}
theorem wa_c5i {post : Int → wa_W → Prop} (hS : va_S (wa_A G) H0 H locs) (hr : va_Run5 p l e R s m args below meth c H locs cells slots mc ms (F0 m pc ls st0) rest (wa_Qz G post av) (wa_A G)) (kk : ∀ (z : Int) (u : wa_W) (H1 : Heap) (locs1 : List Loc), post z u → wa_H G u H1 → va_S (wa_A G) H0 H1 locs1 → W p l e R s m args below meth c H1 locs1 (cells + mc) (slots + ms) Q (F0 m (pc + 5) ls (.int (zI z) :: rest))) : W p l e R s m args below meth c H locs cells slots Q (F0 m pc ls st0) :=
  va_callFi hr hS (fun _ _ h => h) (fun _ h => h) fun r u t H1 locs1 ht _ hp hB _ _ hS1 => by
    obtain ⟨z, rfl, hp⟩ := hp
    exact kk z u H1 locs1 hp (by rw [← ht]; exact hB) hS1
theorem wa_c5v {post : wa_W → Prop} (hS : va_S (wa_A G) H0 H locs) (hr : va_Run5 p l e R s m args below meth c H locs cells slots mc ms (F0 m pc ls st0) rest (wa_Qv G post av) (wa_A G)) (kk : ∀ (u : wa_W) (H1 : Heap) (locs1 : List Loc), post u → wa_H G u H1 → va_S (wa_A G) H0 H1 locs1 → W p l e R s m args below meth c H1 locs1 (cells + mc) (slots + ms) Q (F0 m (pc + 5) ls rest)) : W p l e R s m args below meth c H locs cells slots Q (F0 m pc ls st0) :=
  va_callFv hr hS (fun _ _ h => h) (fun _ h => h) fun u t H1 locs1 ht _ hp hB _ _ hS1 => kk u H1 locs1 hp (by rw [← ht]; exact hB) hS1
theorem wa_c5r {post : Option Nat → wa_W → Prop} (hS : va_S (wa_A G) H0 H locs) (hr : va_Run5 p l e R s m args below meth c H locs cells slots mc ms (F0 m pc ls st0) rest (wa_Qr G post av) (wa_A G)) (kk : ∀ (r : Option Nat) (u : wa_W) (H1 : Heap) (locs1 : List Loc), post r u → wa_H G u H1 → va_S (wa_A G) H0 H1 locs1 → W p l e R s m args below meth c H1 locs1 (cells + mc) (slots + ms) Q (F0 m (pc + 5) ls (va_rf r :: rest))) : W p l e R s m args below meth c H locs cells slots Q (F0 m pc ls st0) :=
  va_callFq hr hS (fun _ _ h => h) (fun _ h => h) fun r u t H1 locs1 ht _ hp hB _ _ hS1 => kk r u H1 locs1 hp (by rw [← ht]; exact hB) hS1
end WX2

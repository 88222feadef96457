/-! ROWS: lambda objects: made at their site, called through their interface -/
/-- c is the class of the lambda of the shape sh whose site stands in the class called dn -/
def wb_LF (sh : Lambda.Shape) (dn : String) (c : ClassId) (U : State) : Prop := ∃ (d : ClassId) (dk : Class), U.vm.classes[d]? = some dk ∧ dk.name = dn ∧ Lambda.isMade { classPath := fun _ => none } U.vm d sh c = true ∧ U.lambdaCallable sh c = true
theorem wb_LF.warm {sh : Lambda.Shape} {dn : String} {c : ClassId} {s U : State} (h : wb_LF sh dn c s) (hW : s.WarmedH U.vm) : wb_LF sh dn c U := by
  obtain ⟨d, dk, h1, h2, h3, h4⟩ := h
  have hA := hW.alike
  obtain ⟨k', hk', he⟩ := hA.2.2 _ _ h1
  refine ⟨d, k', hk', by rw [he]; exact h2, Lambda.isMade_warmer hW h3, ?_⟩
  simp only [State.lambdaCallable, hA.findClass, hA.assignable, hA.superclasses, hA.declaredIn] at h4 ⊢
  exact h4
/-- the one method of such a class, as it lies in the tables -/
def wb_M (c : ClassId) (bytes : ByteArray) (nK : Nat) (ret : Option FieldType) (U : State) : Prop := ∃ (methk : Method) (ck : Code), U.plainMethod ⟨c, 1⟩ ∧ U.vm.method? ⟨c, 1⟩ = some methk ∧ methk.code = some ck ∧ ck.code = bytes ∧ ck.maxLocals = nK ∧ methk.locks = false ∧ methk.accessFlags = 0x0001 ∧ methk.sig.returnType = ret
section WBR
variable {p : Program} {l : Launch} {e : Env} {R : Room} {s : State} {m : MethodId} {args : Array Value} {below : List Frame} {meth : Method} {c : Code} {H : Heap} {locs : List Loc} {cells slots : Nat}
theorem wb_run5 {cc : ByteArray} {nL : Nat} (hexec : p.tables.exec = Jvm.exec) (hb : c.code = cc) (hml : c.maxLocals = nL) {own : String} (hown : s.vm.findClass own = some m.cls) {index count : Nat} {x : MethodName}
    (hlink : (Cond.methodLink own index x).before args s = true) (hdecl : (Cond.declares x).before args s = true) (hface : (Cond.interfaceMethod x.cls x.cls x.name x.desc).before args s = true)
    (hx : x.cls ≠ "java/lang/invoke/MethodHandle" ∧ x.cls ≠ "java/lang/invoke/VarHandle") {sh : Lambda.Shape} {dn : String} {cell : Cell} (hLF : wb_LF sh dn cell.cls s) (hs1 : sh.iface = x.cls) (hs2 : sh.name = x.name) (hs3 : sh.sam.toString = x.desc)
    {b : Nat} (hcell : H[b]? = some cell) (hobj : cell.vm = .none) {bytes : ByteArray} {nK : Nat} {ret : Option FieldType} (hM : ∀ U : State, wb_LF sh dn cell.cls U → wb_M cell.cls bytes nK ret U)
    {As rest : List Value} {g : JFrame} (hg : g.method = m) (hsize : g.locals.size = nL) (hlen : ∀ sig, parseMethodDescriptor x.desc = some sig → As.length = sig.parameters.length) (hstack : g.stack = As.reverse ++ .ref b :: rest)
    (hW : 2 * g.monitorRoom + (rest.map fun v => v.category).sum ≤ 8) (hdg : decode cc g.pc = .ok (.invokeinterface index count, 5))
    {R' : Room} {mc ms : Nat} (hr1 : R'.cells = mc) (hr2 : R'.slots = ms) (hframes : R'.frames + 1 ≤ R.frames) (hlocals : 8 + (nK + 11) + R'.locals ≤ R.locals) (hf : cells + mc ≤ R.cells ∧ slots + ms ≤ R.slots)
    {Qa : State → Outcome → State → Prop} {free : Addr → Prop}
    (body : ∀ (U : State) (below' : List Frame) (methK : Method) (ckK : Code), U.heap = H → s.WarmedH U.vm → wb_LF sh dn cell.cls U → ckK.code = bytes → ckK.maxLocals = nK → methK.sig.returnType = ret → methK.locks = false →
      W p l e R' U ⟨cell.cls, 1⟩ (Value.ref b :: As).toArray below' methK ckK H [] 0 0 (MQ below' (fun _ => Qa) (Value.ref b :: As).toArray U mc ms free) (entryFrame ⟨cell.cls, 1⟩ (Value.ref b :: As).toArray nK)) :
    va_Run5 p l e R s m args below meth c H locs cells slots mc ms g rest Qa free := by
  intro T hT X
  obtain ⟨r0, r, hn, hrm, hstR, hsigR⟩ := Cond.declares_spec hdecl
  obtain ⟨cL, kL, r1, hcL, hkL, hiL, hfoundL, hn1⟩ := Cond.interfaceMethod_spec hface
  cases hn.symm.trans hn1
  have hr0cls : r0.cls = cL := Option.some.inj ((findClass_of_methodNamed hn).symm.trans hcL)
  obtain ⟨hnameR, hdescR⟩ := name_of_methodNamed hn hrm
  obtain ⟨d, dk0, hdk0, hdn0, hmade, hcall⟩ := id hLF
  obtain ⟨i, hi, hasg, hway⟩ := State.lambdaCallable_spec hcall
  rw [hs1] at hi
  cases hcL.symm.trans hi
  obtain ⟨dk, k, ok, tk, file, cf, object, iface, t, lay, methods, target, found, hd', hk, hfile, hcf, hobj', hif, hok, hlay, hms, ht, htk, hgm, hfnd, hrec, -, -, -, hitf, hpool, hmeth, hfields, -, hres, hsel⟩ := Lambda.isMade_spec hmade
  obtain ⟨methk, ck, hpl, hmk, hck, hbytes, hnk, hlk, hfl, hret⟩ := hM s hLF
  have hf1 : r0 = found := by
    simp only [State.methodFound?, Option.bind_eq_bind, Option.pure_def, Option.bind_eq_some_iff] at hfoundL
    obtain ⟨c9, h9, k9, h10, h11⟩ := hfoundL
    cases hcL.symm.trans h9
    cases hkL.symm.trans h10
    rw [hs1] at hif
    cases hcL.symm.trans hif
    rw [hs2, hs3] at hfnd
    rw [hiL, hfnd] at h11
    exact (Option.some.inj h11).symm
  subst hf1
  have hselP : selectMethod e.platform s.vm cell.cls r0 = .method ⟨cell.cls, 1⟩ := by rw [Launch.admits_selectMethod X.admits]; exact hsel
  obtain ⟨vm₁, X₁, hstep₁⟩ := X.invokeinterface hexec hown hlink hn hrm hstR (by rw [hr0cls]; exact hkL) hiL hx (a := b) (cell := cell) (kcell := k) (by rw [hT]; exact hcell)
    (fun z h => by rw [hobj] at h; cases h) hk (by rw [hr0cls]; exact hasg) hselP hmk (by rw [hnameR, hdescR, ← hs2, ← hs3]; exact hway) (by rw [hfl]; decide) (by simp [Method.isAbstract, hfl, hasFlag, Acc.abstract]) (g := g) hg (argsL := As) (rest := rest) (hlen _ hsigR) hstack (by rw [hb]; exact hdg)
  have hLF₁ : wb_LF sh dn cell.cls (T.setVm vm₁) := hLF.warm X₁.warmed
  obtain ⟨methk1, ck1, hpl1, hmk1, hck1, hbytes1, hnk1, hlk1, hfl1, hret1⟩ := hM _ hLF₁
  subst hr1; subst hr2; subst hnk1
  obtain ⟨Y, hin⟩ := X₁.into (g := { g with stack := rest }) hg (hsize.trans hml.symm) (by rw [hb]; exact hdg) (Value.ref b :: As).toArray (R' := R') hmk1 hck1 hlk1 hpl1 hframes (by show 2 * g.monitorRoom + (rest.map fun v => v.category).sum + _ + _ ≤ _; omega) hf.1 hf.2
  obtain ⟨tt, hst, o, hrun, hend, hQ, L, hFE, hL⟩ := body ((T.setVm vm₁).calling { g with stack := rest } ⟨cell.cls, 1⟩ (Value.ref b :: As).toArray) (.java { g with stack := rest } :: below) methk1 ck1 hT X₁.warmed hLF₁ hbytes1 rfl hret1 hlk1 _ (by exact hT) Y
  obtain ⟨⟨v, rfl⟩, hWt, hsame⟩ := hFE
  obtain ⟨T', X', hW', -, ht'⟩ := X₁.outOf (g := { g with stack := rest }) hg (by rw [hb]; exact hdg) hend hWt hsame
  refine ⟨v, (T.setVm vm₁).calling { g with stack := rest } ⟨cell.cls, 1⟩ (Value.ref b :: As).toArray, tt, T', L, hT, X', hL, by rw [ht']; rfl, by rw [ht']; rfl, hQ, fun tg htg => ?_⟩
  refine hstep₁ tg fun acts => ?_
  rw [hin acts]
  refine Steps.trans (Steps.weaken (mid := [.java { g with stack := rest }]) hst) ?_
  rw [ht']
  exact htg
variable {Q : State → Prop} {cc : ByteArray} {pc : Nat} {ls : Array Slot} {rest : List Value}
/-- a captured value is read: the field's entry is resolved -/
theorem wb_getR (hexec : p.tables.exec = Jvm.exec) (hb : c.code = cc) {index j : Nat} (hF : ∀ T : State, s.WarmedH T.vm → ∃ f : Field, T.vm.fieldReady m.cls index m.cls f ∧ f.isStatic = false ∧ f.slot = j) {a : Nat} {cell : Cell} {v : Value} (hcell : H[a]? = some cell) (hknown : cell.vm ≠ .unknown) (hslot : cell.slots[j]? = some v) (d : decode cc pc = .ok (.getfield index, 3))
    (kk : W p l e R s m args below meth c H locs cells slots Q (F0 m (pc + 3) ls (v :: rest))) : W p l e R s m args below meth c H locs cells slots Q (F0 m pc ls (.ref a :: rest)) := by
  intro T hT X
  obtain ⟨f, h1, h2, h3⟩ := hF T X.warmed
  obtain ⟨t, a1, b1⟩ := kk T hT X
  refine ⟨t, ?_, b1⟩
  jvm_step X.here [hexec, hb, d, getfield.wp_ready (e := e) (s := T) (f := F0 m pc ls (.ref a :: rest)) X.here.top h1 h2 rfl (by rw [hT]; exact hcell) hknown (by rw [h3]; exact hslot)]
  exact a1
/-- the method that the made class's method calls, as its entry names it: an object's -/
def wb_ImpV (y : MethodName) (own cb : ClassId) (index n : Nat) (T : State) : Prop := namesAClass T own index ∧ ∃ (r : MethodId) (kr : Class) (methr : Method), T.vm.methodReady own index r ∧ T.vm.classes[r.cls]? = some kr ∧ kr.isInterface = false ∧ T.vm.method? r = some methr ∧ signaturePolymorphic kr methr = false ∧ methr.isStatic = false ∧ methr.sig.parameters.length = n ∧ methr.isAbstract = false ∧ T.methodNamed? y = some r ∧ selectMethod {} T.vm cb r = .method r
/-- .. or a class's -/
def wb_ImpS (y : MethodName) (own : ClassId) (index n : Nat) (T : State) : Prop := (∀ e : Env, plainRef T e own index) ∧ ∃ (r : MethodId) (kr : Class) (methr : Method), T.vm.methodReady own index r ∧ T.vm.classes[r.cls]? = some kr ∧ kr.init = .initialized ∧ T.vm.method? r = some methr ∧ signaturePolymorphic kr methr = false ∧ methr.isStatic = true ∧ methr.sig.parameters.length = n ∧ T.methodNamed? y = some r
variable {y : MethodName} {bytes : ByteArray} {maxL mc ms n index : Nat} {ret : Option FieldType} {ws : List Cond} {rm : Room} {Pc : Array Value → State → Prop} {Qc : Array Value → State → Outcome → State → Prop} {free : Addr → Prop} {As st0 : List Value}
theorem wb_runRV (hexec : p.tables.exec = Jvm.exec) (hb : c.code = cc) (hM : Met l y ws rm Pc Qc mc ms free) (hrc : rm.cells = mc) (hrs : rm.slots = ms) (hfr : rm.frames + 1 ≤ R.frames) (hlo : 8 + (maxL + 11) + rm.locals ≤ R.locals) (hws : ∀ w ∈ ws, ∀ (a' : Array Value) (U : State), s.WarmedH U.vm → w.before a' U = true) (hcode : Cond.code y bytes maxL ret ∈ ws) (hini : ∀ (a' : Array Value) (U : State), s.WarmedH U.vm → (Cond.initialized y.cls).before a' U = true) (hbl : FrameBlind Pc)
    {b : Nat} {cellB : Cell} (hcB : H[b]? = some cellB) (hoB : cellB.vm.isStatics = false) (hI : ∀ T : State, s.WarmedH T.vm → wb_ImpV y m.cls cellB.cls index n T) (hPc : ∀ U : State, U.heap = H → s.WarmedH U.vm → Pc (Value.ref b :: As).toArray U)
    (hn : As.length = n) (hsize : ls.size = c.maxLocals) (hst : st0 = As.reverse ++ .ref b :: rest) (hW : (rest.map fun v => v.category).sum ≤ 8) (d : decode cc pc = .ok (.invokevirtual index, 3)) (hf : cells + mc ≤ R.cells ∧ slots + ms ≤ R.slots) :
    va_Run p l e R s m args below meth c H locs cells slots mc ms (F0 m pc ls st0) rest (Qc (Value.ref b :: As).toArray) free := by
  have hK : Back l R p e below s args y 3 8 (PreOf R mc ms Pc) (PostOf Qc mc ms free) := back_of (bytes := bytes) (maxL := maxL) (ret := ret) hM hbl hrc hrs hfr hlo hws hcode hini
  intro T hT X
  obtain ⟨hnm, r, kr, methr, hr, hkr, hri, hmr, hpo, hsr, hpar, hab, hnd, hsel⟩ := hI T X.warmed
  have hsel' : selectMethod e.platform T.vm cellB.cls r = .method r := by rw [Launch.admits_selectMethod X.admits]; exact hsel
  subst hst
  obtain ⟨v, ⟨U', l2, c2, s2⟩, X', ⟨g', mk, t, L, e1, e2, hq, h1, hL, h2, h3⟩, st⟩ := hK m meth c ⟨T, locs, cells, slots⟩ (F0 m pc ls rest) (.invokevirtual index) r (Value.ref b :: As).toArray X rfl hsize (by rw [hb]; exact d) (by show 2 * 0 + (rest.map fun v => v.category).sum ≤ 8; omega) hnd ⟨hf.1, hf.2, hPc T hT X.warmed⟩
  dsimp only [Pt.U, Pt.locs, Pt.cells, Pt.slots] at X' e1 e2 h1 h2 h3 st
  subst h1; subst h2; subst h3
  refine ⟨v, T.calling g' mk (Value.ref b :: As).toArray, t, U', L, hT, X', hL, e1, e2, hq, fun tg htg => ?_⟩
  jvm_step X.here [hexec, hb, d, invokevirtual.wp_ready (e := e) (s := T) (f := F0 m pc ls (As.reverse ++ .ref b :: rest)) (args := As) (rest := rest) X.here.top hnm hr hkr hmr hpo hsr (hn.trans hpar.symm) rfl (by rw [hT]; exact hcB) (fun z h => by rw [h] at hoB; cases hoB) hsel' hmr hab hkr hri]
  intro acts'
  rw [doInvoke_state]
  exact st.trans htg
theorem wb_runRS (hexec : p.tables.exec = Jvm.exec) (hb : c.code = cc) (hM : Met l y ws rm Pc Qc mc ms free) (hrc : rm.cells = mc) (hrs : rm.slots = ms) (hfr : rm.frames + 1 ≤ R.frames) (hlo : 8 + (maxL + 11) + rm.locals ≤ R.locals) (hws : ∀ w ∈ ws, ∀ (a' : Array Value) (U : State), s.WarmedH U.vm → w.before a' U = true) (hcode : Cond.code y bytes maxL ret ∈ ws) (hini : ∀ (a' : Array Value) (U : State), s.WarmedH U.vm → (Cond.initialized y.cls).before a' U = true) (hbl : FrameBlind Pc)
    (hI : ∀ T : State, s.WarmedH T.vm → wb_ImpS y m.cls index n T) (hPc : ∀ U : State, U.heap = H → s.WarmedH U.vm → Pc As.toArray U)
    (hn : As.length = n) (hsize : ls.size = c.maxLocals) (hst : st0 = As.reverse ++ rest) (hW : (rest.map fun v => v.category).sum ≤ 8) (d : decode cc pc = .ok (.invokestatic index, 3)) (hf : cells + mc ≤ R.cells ∧ slots + ms ≤ R.slots) :
    va_Run p l e R s m args below meth c H locs cells slots mc ms (F0 m pc ls st0) rest (Qc As.toArray) free := by
  have hK : Back l R p e below s args y 3 8 (PreOf R mc ms Pc) (PostOf Qc mc ms free) := back_of (bytes := bytes) (maxL := maxL) (ret := ret) hM hbl hrc hrs hfr hlo hws hcode hini
  intro T hT X
  obtain ⟨hnm, r, kr, methr, hr, hkr, hri, hmr, hpo, hsr, hpar, hnd⟩ := hI T X.warmed
  subst hst
  obtain ⟨v, ⟨U', l2, c2, s2⟩, X', ⟨g', mk, t, L, e1, e2, hq, h1, hL, h2, h3⟩, st⟩ := hK m meth c ⟨T, locs, cells, slots⟩ (F0 m pc ls rest) (.invokestatic index) r As.toArray X rfl hsize (by rw [hb]; exact d) (by show 2 * 0 + (rest.map fun v => v.category).sum ≤ 8; omega) hnd ⟨hf.1, hf.2, hPc T hT X.warmed⟩
  dsimp only [Pt.U, Pt.locs, Pt.cells, Pt.slots] at X' e1 e2 h1 h2 h3 st
  subst h1; subst h2; subst h3
  refine ⟨v, T.calling g' mk As.toArray, t, U', L, hT, X', hL, e1, e2, hq, fun tg htg => ?_⟩
  jvm_step X.here [hexec, hb, d, invokestatic.wp_ready (e := e) (s := T) (f := F0 m pc ls (As.reverse ++ rest)) (args := As) (rest := rest) X.here.top (hnm e) hr hkr hmr hpo hsr hri (hn.trans hpar.symm) rfl]
  intro acts'
  rw [doInvoke_state]
  exact st.trans htg
end WBR
/-! what a made class is, of its file -/
section WBG
variable {sh : Lambda.Shape} {dn : String} {D : ClassFile} {fw : Method} {laid : Array Field × Array FieldType × Array FieldType} {bytes : ByteArray} {nK : Nat} {ret : Option FieldType} {U : State} {c : ClassId}
theorem wb_genM (hD : sh.file dn = some D) (h2 : ((layoutMethods D).bind (·[1]?)) = some fw) (fc : (fw.code.map fun c => (c.code.data, c.maxLocals)) = some (bytes.data, nK)) (ff : (fw.accessFlags, fw.sig.returnType) = (0x0001, ret)) (hp : plainName (dn ++ "$$Lambda") = true) (h : wb_LF sh dn c U) : wb_M c bytes nK ret U := by
  obtain ⟨d, dk, hd, hname, hmade, hcall⟩ := h
  obtain ⟨dk', k, ok, tk, file, cf, object, iface, toy, lay, methods, target, found, hd', hk, hfile, hcf, -, -, -, -, hms, ht, htk, hg, -, hrec, -, -, -, -, hpool, hmeth, -, -, hres, -⟩ := Lambda.isMade_spec hmade
  cases hd.symm.trans hd'
  rw [hname, hD] at hcf
  cases hcf
  rw [hms] at h2
  obtain ⟨b, hb, hsame⟩ := hmeth 1 fw h2
  simp only [Lambda.sameMethod, Bool.and_eq_true, decide_eq_true_eq] at hsame
  obtain ⟨⟨hn, -, hsig, hfl⟩, hcode⟩ := hsame
  simp only [Prod.mk.injEq] at ff
  cases hfc : fw.code with
  | none => rw [hfc] at fc; cases fc
  | some x =>
    cases hbc : b.code with
    | none => simp [hfc, hbc] at hcode
    | some y =>
      simp only [hfc, hbc, Bool.and_eq_true, decide_eq_true_eq] at hcode
      simp only [hfc, Option.map_some, Option.some.injEq, Prod.mk.injEq] at fc
      refine ⟨b, y, State.plainMethod.of_name (fun k' hk' => by cases hk.symm.trans hk'; rw [hrec.1, hname]; exact hp), by simp [Vm.method?, hk, hb], hbc, ?_, by rw [← hcode.1.1.1.1.2.1]; exact fc.2, ?_, by rw [← hfl]; exact ff.1, by rw [← hsig]; exact ff.2⟩
      · rw [← hcode.1.1.1.1.2.2]
        exact ByteArray.ext fc.1
      · simp [Method.locks, Method.isSynchronized, ← hfl, ff.1, hasFlag, Acc.synchronized]
theorem wb_genF (hD : sh.file dn = some D) (hl : layoutFields D 0 = some laid) (hO : ∀ o ok, U.vm.findClass "java/lang/Object" = some o → U.vm.classes[o]? = some ok → ok.instanceTypes.size = 0) {idx ci nt j : Nat} {nm dsc : String} (e1 : D.constantPool[idx]? = some (.fieldref ci nt)) (e2 : D.constantPool.nameAndType? nt = some (nm, dsc)) (e3 : laid.1.findIdx? (·.name == nm) = some j) (e4 : (laid.1[j]?).map (fun f => (f.isStatic, f.slot)) = some (false, j)) (h : wb_LF sh dn c U) :
    ∃ f : Field, U.vm.fieldReady c idx c f ∧ f.isStatic = false ∧ f.slot = j := by
  obtain ⟨d, dk, hd, hname, hmade, hcall⟩ := h
  obtain ⟨dk', k, ok, tk, file, cf, object, iface, toy, lay, methods, target, found, hd', hk, hfile, hcf, hobj, -, hok, hlay, hms, ht, htk, hg, -, hrec, -, -, -, -, hpool, hmeth, hfields, -, hres, -⟩ := Lambda.isMade_spec hmade
  cases hd.symm.trans hd'
  rw [hname, hD] at hcf
  cases hcf
  rw [hO object ok hobj hok, hl] at hlay
  cases hlay
  obtain ⟨g0, hg0, hp0⟩ := Option.map_eq_some_iff.mp e4
  simp only [Prod.mk.injEq] at hp0
  exact ⟨g0, ⟨k, j, k, hk, hres idx _ (Lambda.resolvedOf_field e1 e2 e3), hk, hfields j _ hg0⟩, hp0.1, hp0.2⟩
theorem wb_genR (hD : sh.file dn = some D) {y : MethodName} (hy1 : sh.implClass = y.cls) (hy2 : sh.implName = y.name) (hy3 : sh.implDesc.toString = y.desc) {midx ci nt k0 : Nat} (e1 : D.constantPool[midx]? = some (.methodref ci nt)) (e2 : D.constantPool.className? ci = some y.cls) (e3 : D.constantPool.nameAndType? nt = some (y.name, y.desc)) (e4 : D.constantPool[ci]? = some (.class_ k0)) (e5 : D.constantPool.string? k0 = some y.cls) (e6 : ci ≠ D.thisClass) (h : wb_LF sh dn c U)
    (hyp : y.cls ≠ "java/lang/invoke/MethodHandle" ∧ y.cls ≠ "java/lang/invoke/VarHandle") {r : MethodId} (hn : U.methodNamed? y = some r) :
    ∃ (k kr : Class) (file : ClassFile), U.vm.classes[c]? = some k ∧ k.cf = some file ∧ file.constantPool = D.constantPool ∧ U.vm.methodReady c midx r ∧ U.vm.classReady c ci r.cls ∧ U.vm.classes[r.cls]? = some kr ∧ kr.name = y.cls ∧ kr.isInterface = sh.implItf := by
  obtain ⟨d, dk, hd, hname, hmade, hcall⟩ := h
  obtain ⟨dk', k, ok, tk, file, cf, object, iface, toy, lay, methods, target, found, hd', hk, hfile, hcf, hobj, -, hok, hlay, hms, ht, htk, hg, -, hrec, -, -, -, hitf, hpool, hmeth, hfields, -, hres, -⟩ := Lambda.isMade_spec hmade
  cases hd.symm.trans hd'
  rw [hname, hD] at hcf
  cases hcf
  rw [hy1] at ht
  have hrc : r.cls = toy := Option.some.inj ((findClass_of_methodNamed hn).symm.trans ht)
  have hfound := State.methodFound?_of_named hn hyp
  simp only [State.methodFound?, Option.bind_eq_bind, Option.pure_def, Option.bind_eq_some_iff] at hfound
  obtain ⟨c9, h9, k9, h10, h11⟩ := hfound
  cases ht.symm.trans h9
  cases htk.symm.trans h10
  rw [hy2, hy3] at hg
  rw [hg] at h11
  have hrt : target = r := Option.some.inj h11
  subst hrt
  obtain ⟨k2, hk2, hn2⟩ := className_of_methodNamed hn
  rw [hrc] at hk2
  cases htk.symm.trans hk2
  exact ⟨k, tk, file, hk, hfile, hpool.2.1, ⟨k, hk, hres midx _ (Lambda.resolvedOf_method e1 e2 ht htk e3 hg)⟩, by rw [hrc]; exact ⟨k, hk, hres ci _ (Lambda.resolvedOf_class e4 e6 e5 ht)⟩, by rw [hrc]; exact htk, hn2, hitf⟩
theorem wb_genV (hD : sh.file dn = some D) {y : MethodName} (hy1 : sh.implClass = y.cls) (hy2 : sh.implName = y.name) (hy3 : sh.implDesc.toString = y.desc) (hy4 : sh.implItf = false) {midx ci nt k0 n : Nat} (e1 : D.constantPool[midx]? = some (.methodref ci nt)) (e2 : D.constantPool.className? ci = some y.cls) (e3 : D.constantPool.nameAndType? nt = some (y.name, y.desc)) (e4 : D.constantPool[ci]? = some (.class_ k0)) (e5 : D.constantPool.string? k0 = some y.cls) (e6 : ci ≠ D.thisClass) (h : wb_LF sh dn c U)
    (hyp : y.cls ≠ "java/lang/invoke/MethodHandle" ∧ y.cls ≠ "java/lang/invoke/VarHandle") {A : Array Value} {bY : ByteArray} {mL : Nat} {rY : Option FieldType} (hcode : (Cond.code y bY mL rY).before A U = true) (hinst : (Cond.instanceMethod y).before A U = true) (hsel : (Cond.selects y.cls y y).before A U = true) {cb : ClassId} (hcb : U.vm.findClass y.cls = some cb) (hn : (parseMethodDescriptor y.desc).map (fun d => d.parameters.length) = some n) : wb_ImpV y c cb midx n U := by
  obtain ⟨mk, methM, hnamed, hmethM, hstM, habM⟩ := Cond.instanceMethod_spec hinst
  obtain ⟨methM', cM, hmethM', -, -, -, -, -, -, hsigM⟩ := Cond.code_spec hnamed hcode
  cases hmethM.symm.trans hmethM'
  obtain ⟨c2, r2, m2, q1, q2, q3, q4, -⟩ := Cond.selects_spec hsel
  cases hcb.symm.trans q1
  cases (State.methodFound?_of_named hnamed hyp).symm.trans q2
  cases hnamed.symm.trans q3
  obtain ⟨k, kr, file, a1, a2, a3, a4, a5, a6, a7, a8⟩ := wb_genR hD hy1 hy2 hy3 e1 e2 e3 e4 e5 e6 h hyp hnamed
  rw [hsigM] at hn
  exact ⟨⟨k, file, ci, nt, mk.cls, kr, a1, a2, by rw [a3]; exact e1, a5, a6, a8.trans hy4⟩, mk, kr, methM, a4, a6, a8.trans hy4, hmethM, signaturePolymorphic_of_name (by rw [a7]; exact hyp) _, hstM, Option.some.inj hn, habM, hnamed, q4⟩
theorem wb_genS (hD : sh.file dn = some D) {y : MethodName} (hy1 : sh.implClass = y.cls) (hy2 : sh.implName = y.name) (hy3 : sh.implDesc.toString = y.desc) {midx ci nt k0 n : Nat} (e1 : D.constantPool[midx]? = some (.methodref ci nt)) (e2 : D.constantPool.className? ci = some y.cls) (e3 : D.constantPool.nameAndType? nt = some (y.name, y.desc)) (e4 : D.constantPool[ci]? = some (.class_ k0)) (e5 : D.constantPool.string? k0 = some y.cls) (e6 : ci ≠ D.thisClass) (h : wb_LF sh dn c U)
    (hyp : y.cls ≠ "java/lang/invoke/MethodHandle" ∧ y.cls ≠ "java/lang/invoke/VarHandle") {A : Array Value} {bY : ByteArray} {mL : Nat} {rY : Option FieldType} (hcode : (Cond.code y bY mL rY).before A U = true) (hst : (Cond.static y).before A U = true) (hini : (Cond.initialized y.cls).before A U = true) (hn : (parseMethodDescriptor y.desc).map (fun d => d.parameters.length) = some n) : wb_ImpS y c midx n U := by
  obtain ⟨mk, hnamed⟩ := Cond.code_named hcode
  obtain ⟨methM, cM, hmethM, -, -, -, -, -, -, hsigM⟩ := Cond.code_spec hnamed hcode
  have hstatic : methM.isStatic = true := Cond.static_spec hnamed hmethM hst
  obtain ⟨k, kr, file, a1, a2, a3, a4, a5, a6, a7, a8⟩ := wb_genR hD hy1 hy2 hy3 e1 e2 e3 e4 e5 e6 h hyp hnamed
  have hinitP : kr.init = .initialized := Cond.initialized_spec (findClass_of_methodNamed hnamed) a6 hini
  rw [hsigM] at hn
  refine ⟨fun e => ?_, mk, kr, methM, a4, a6, hinitP, hmethM, signaturePolymorphic_of_name (by rw [a7]; exact hyp) _, hstatic, Option.some.inj hn, hnamed⟩
  obtain ⟨b, hb⟩ := memberRef_ask' (e := e) (vm := U.vm) (d := c) (index := midx) a1 a2 (Or.inl (by rw [a3]; exact e1)) (by rw [a3]; exact e3)
  refine ⟨ci, y.name, y.desc, b, mk.cls, kr, hb, a5, a6, ?_⟩
  rw [Array.any_eq_false]
  intro i hi
  rw [signaturePolymorphic_of_name (by rw [a7]; exact hyp)]
  simp
/-- the site is linked: it makes objects of the class c -/
def wb_LS (y : MethodName) (pc index : Nat) (sh : Lambda.Shape) (c : ClassId) (U : State) : Prop := ∃ (m : MethodId) (k : Class) (cf : ClassFile) (i0 p0 bsm nt : Nat) (name desc : String) (sig : MethodDescriptor), U.methodNamed? y = some m ∧ U.vm.classes[m.cls]? = some k ∧ k.cf = some cf ∧ cf.constantPool[index]? = some (.invokeDynamic bsm nt) ∧ cf.constantPool.nameAndType? nt = some (name, desc) ∧ parseLongMethodDescriptor desc = some sig ∧ sig.parameters.length = sh.captured.length ∧ (k.callSites.find? fun y => y.1 == m.idx && y.2.1 == pc) = some (i0, p0, .makes c)
theorem wb_LS.warm {y : MethodName} {pc index : Nat} {sh : Lambda.Shape} {c : ClassId} {s U : State} (h : wb_LS y pc index sh c s) (hW : s.WarmedH U.vm) : wb_LS y pc index sh c U := by
  obtain ⟨m, k, cf, i0, p0, bsm, nt, name, desc, sig, h1, h2, h3, h4, h5, h6, h7, h8⟩ := h
  obtain ⟨k', hk', he⟩ := hW.alike.2.2 _ _ h2
  have hm := State.methodNamed?_setVm (s := s) hW.alike y
  rw [h1] at hm
  exact ⟨m, k', cf, i0, p0, bsm, nt, name, desc, sig, hm, hk', by rw [he]; exact h3, h4, h5, h6, h7, by rw [he]; exact h8⟩
theorem wb_LS.of {y : MethodName} {pc index : Nat} {sh : Lambda.Shape} {A : Array Value} (hc : sh.captured ≠ []) (hw : (Cond.lambdaSite y pc index sh).before A U = true) : ∃ c, wb_LS y pc index sh c U ∧ wb_LF sh y.cls c U := by
  obtain ⟨c, one, h⟩ := Cond.lambdaSite_spec hw
  obtain ⟨m, k, cf, i0, p0, l, hm, hk, hcf, hsh, hin, hfind, hmade, hcall, hl⟩ := State.lambdaAt?_spec h
  have hl2 : l = .makes c := by
    rcases hl with ⟨a, cell, -, -, h0, -⟩ | ⟨h0, -⟩
    · exact absurd h0 hc
    · exact h0
  subst hl2
  obtain ⟨k2, hk2, hn2⟩ := className_of_methodNamed hm
  cases hk.symm.trans hk2
  refine ⟨c, ?_, m.cls, k, hk, hn2, hmade, hcall⟩
  unfold Lambda.shapeOf? at hsh
  split at hsh
  · rename_i b nt hx
    obtain ⟨_, -, hsh⟩ := Option.bind_eq_some_iff.mp hsh
    obtain ⟨bm, -, hsh⟩ := Option.bind_eq_some_iff.mp hsh
    split at hsh
    · obtain ⟨_, -, hsh⟩ := Option.bind_eq_some_iff.mp hsh
      generalize bm.bootstrapArguments = aa at hsh
      obtain ⟨ll⟩ := aa
      rcases ll with _ | ⟨a0, _ | ⟨a1, _ | ⟨a2, _ | ⟨a3, ll⟩⟩⟩⟩
      · exact absurd hsh (by intro q; cases q)
      · exact absurd hsh (by intro q; cases q)
      · exact absurd hsh (by intro q; cases q)
      · delta Lambda.shapeOf?.match_15 at hsh
        simp only [List.size_toArray, List.length_cons, List.length_nil] at hsh
        rw [dif_pos trivial] at hsh
        split at hsh
        · split at hsh
          · split at hsh
            · obtain ⟨⟨name, desc⟩, hnt, hsh⟩ := Option.bind_eq_some_iff.mp hsh
              obtain ⟨site, hsite, hsh⟩ := Option.bind_eq_some_iff.mp hsh
              split at hsh
              · obtain ⟨_, -, hsh⟩ := Option.bind_eq_some_iff.mp hsh
                obtain ⟨_, -, hsh⟩ := Option.bind_eq_some_iff.mp hsh
                obtain ⟨_, -, hsh⟩ := Option.bind_eq_some_iff.mp hsh
                obtain ⟨_, -, hsh⟩ := Option.bind_eq_some_iff.mp hsh
                obtain ⟨_, -, hsh⟩ := Option.bind_eq_some_iff.mp hsh
                obtain ⟨_, -, hsh⟩ := Option.bind_eq_some_iff.mp hsh
                refine ⟨m, k, cf, i0, p0, b, nt, name, desc, site, hm, hk, hcf, hx, hnt, parseLong_of_parse hsite, ?_, hfind⟩
                cases hsh
                rfl
              · cases hsh
            · cases hsh
          · cases hsh
        · cases hsh
      · exact absurd hsh (by intro q; cases q)
    · cases hsh
  · cases hsh
end WBG

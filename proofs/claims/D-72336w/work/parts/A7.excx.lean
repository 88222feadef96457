/-! METHODS THAT THROW, over worlds -/
/-- what is thrown: its class, where it lies, the world behind it -/
def wx_X (G : wa_G) (post : String → Nat → wa_W → Prop) : String → Addr → State → State → Prop := vx_X (S := String × Nat × wa_W) (fun q => post q.1 q.2.1 q.2.2) (fun E q u t => u.1 = E ∧ u.2.1 = q ∧ wa_H G u.2.2 t.heap) (wa_A G)
def wx_No : Array Value → State → Outcome → State → Prop := fun _ _ _ _ => False
/-- it throws -/
abbrev wx_Thr (l : Launch) (y : MethodName) (ws : List Cond) (rm : Room) (G : wa_G) (w : wa_W) (av : List Value) (post : String → Nat → wa_W → Prop) (mc ms : Nat) : Prop := vx_Met l y ws rm (wa_P G w av) wx_No (wx_X G post) mc ms (wa_A G)
theorem wx_met {l : Launch} {G : wa_G} {y : MethodName} {cc : ByteArray} {maxL : Nat} {ret : Option FieldType} {rm : Room} {w : wa_W} {av : List Value} {post : String → Nat → wa_W → Prop} {mc ms : Nat} (hy : plainName y.cls = true) (hlen : (lg_sl av).length ≤ maxL)
    (body : ∀ (p : Program) (e : Env) (s : State) (m : MethodId) (args : Array Value) (below : List Frame) (meth : Method) (c : Code) (ls : Array Slot), wa_X G y cc maxL ret p s m args meth c → (∀ x ∈ c.exceptionTable.toList, False) → lv_has ls maxL (lv_args 0 av) → wa_H G w s.heap →
      W p l e rm s m args below meth c s.heap [] 0 0 (vx_MQ below wx_No (wx_X G post) args s mc ms (wa_A G)) (F0 m 0 ls [])) : wx_Thr l y (ws_ y cc maxL ret) rm G w av post mc ms := by
  refine vx_ofW (cc := cc) (maxL := maxL) (ret := ret) hy rfl ?_
  intro p e s m args below meth c s₁ B hml hT hv
  obtain ⟨rfl, hK, hH⟩ := hv
  have hts := atoms_spec (ws := ws_ y cc maxL ret) B.pre
  rw [lg_entry_eq]
  exact body p e s m _ below meth c _ ⟨B.exec, B.bytes, hml, findClass_of_methodNamed B.named, fun w h => hts w (List.mem_cons_of_mem _ h), hK, B.returns, B.notSynchronized, (name_of_methodNamed B.named B.method).1, B.named⟩ hT (lv_entry av hlen) hH
theorem wx_metX {l : Launch} {G : wa_G} {y : MethodName} {cc : ByteArray} {maxL : Nat} {ret : Option FieldType} {hh : List (Nat × Nat × Nat × Nat)} {rm : Room} {w : wa_W} {av : List Value} {post : String → Nat → wa_W → Prop} {mc ms : Nat} (hy : plainName y.cls = true) (hlen : (lg_sl av).length ≤ maxL)
    (body : ∀ (p : Program) (e : Env) (s : State) (m : MethodId) (args : Array Value) (below : List Frame) (meth : Method) (c : Code) (ls : Array Slot), wa_X G y cc maxL ret p s m args meth c → c.exceptionTable.toList = tableOf hh → lv_has ls maxL (lv_args 0 av) → wa_H G w s.heap →
      W p l e rm s m args below meth c s.heap [] 0 0 (vx_MQ below wx_No (wx_X G post) args s mc ms (wa_A G)) (F0 m 0 ls [])) : wx_Thr l y (wsW_ y cc maxL ret hh) rm G w av post mc ms := by
  refine vx_ofWH (cc := cc) (maxL := maxL) (ret := ret) (hh := hh) hy rfl ?_
  intro p e s m args below meth c s₁ B hml hv
  obtain ⟨rfl, hK, hH⟩ := hv
  have hts := atoms_spec (ws := wsW_ y cc maxL ret hh) B.pre
  rw [lg_entry_eq]
  exact body p e s m _ below meth c _ ⟨B.exec, B.bytes, hml, findClass_of_methodNamed B.named, fun w h => hts w (List.mem_cons_of_mem _ h), hK, B.returns, B.notSynchronized, (name_of_methodNamed B.named B.method).1, B.named⟩ (vx_table (x := y) B (hts _ List.mem_cons_self)) (lv_entry av hlen) hH
theorem wx_metH {l : Launch} {G : wa_G} {y : MethodName} {cc : ByteArray} {maxL : Nat} {ret : Option FieldType} {hh : List (Nat × Nat × Nat × Nat)} {rm : Room} {w : wa_W} {av : List Value} {Qc : Array Value → State → Outcome → State → Prop} {mc ms : Nat} (hy : plainName y.cls = true) (hlen : (lg_sl av).length ≤ maxL)
    (body : ∀ (p : Program) (e : Env) (s : State) (m : MethodId) (args : Array Value) (below : List Frame) (meth : Method) (c : Code) (ls : Array Slot), wa_X G y cc maxL ret p s m args meth c → c.exceptionTable.toList = tableOf hh → lv_has ls maxL (lv_args 0 av) → wa_H G w s.heap →
      W p l e rm s m args below meth c s.heap [] 0 0 (MQ below Qc args s mc ms (wa_A G)) (F0 m 0 ls [])) : Met l y (wsW_ y cc maxL ret hh) rm (wa_P G w av) Qc mc ms (wa_A G) := by
  refine MetFree.of_bodyS (code := cc) (maxLocals := maxL) (ret := ret) hy ?_ ?_
  · intro args s m h hn
    obtain ⟨m9, meth, c, hn9, h1, h2, h3, h4, -, h5, h6, -⟩ := Cond.codeWith_spec (atoms_spec (ws := wsW_ y cc maxL ret hh) h _ List.mem_cons_self)
    cases hn.symm.trans hn9
    exact ⟨meth, c, h1, h2, h3, h4, h5, h6⟩
  · intro p e s m args below meth c s₁ B hml hv _
    obtain ⟨rfl, hK, hH⟩ := hv
    have hh0 : s₁.heap = s.heap := by rw [B.state]; rfl
    have hts := atoms_spec (ws := wsW_ y cc maxL ret hh) B.pre
    have hb := body p e s m _ below meth c _ ⟨B.exec, B.bytes, hml, findClass_of_methodNamed B.named, fun w h => hts w (List.mem_cons_of_mem _ h), hK, B.returns, B.notSynchronized, (name_of_methodNamed B.named B.method).1, B.named⟩ (vx_table (x := y) B (hts _ List.mem_cons_self)) (lv_entry av hlen) hH
    rw [← lg_entry_eq] at hb
    obtain ⟨t, a1, o, b1, b2, b3⟩ := hb s₁ hh0 (Stand.of_body B)
    exact ⟨t, o, a1, b1, b2, ⟨b3.1, b3.2⟩⟩
section WRX
variable {p : Program} {l : Launch} {e : Env} {R : Room} {s : State} {m : MethodId} {args : Array Value} {below : List Frame} {meth : Method} {c : Code} {H H0 : Heap} {locs : List Loc} {cells slots : Nat} {Q : State → Prop}
variable {cc : ByteArray} {pc : Nat} {ls : Array Slot} {rest st0 : List Value} {G : wa_G} {y : MethodName} {nL : Nat} {ret : Option FieldType} {w : wa_W} {a : Nat}
variable {y2 : MethodName} {b2 : ByteArray} {maxL mc ms n index : Nat} {r2 : Option FieldType} {rm : Room} {As : List Value} {own C2 : String} {post : String → Nat → wa_W → Prop} {av : Array Value}
/-- behind a call that throws -/
theorem wx_cx (hS : va_S (wa_A G) H0 H locs) (hr : vx_Run p l e R s m args below meth c H locs cells slots mc ms (F0 m pc ls st0) rest (fun _ _ _ => False) (wx_X G post) (wa_A G))
    (kx : ∀ (E : String) (q : Nat) (u : wa_W) (ce : Cell) (H1 : Heap) (locs1 : List Loc), post E q u → wa_H G u H1 → va_S (wa_A G) H0 H1 locs1 → H1[q]? = some ce → ce.vm = .none → s.vm.findClass E = some ce.cls → vx_W p l e R s m args below meth c H1 locs1 (cells + mc) (slots + ms) Q (F0 m pc ls rest) q) : W p l e R s m args below meth c H locs cells slots Q (F0 m pc ls st0) := by
  intro T hT X
  rcases hr T hT X with ⟨v, st₀, t, T', L, h0, X', hL, e1, e2, hf, st⟩ | ⟨q, st₀, t, T', L, E, ce, h0, X', hL, e1, e2, ⟨⟨E1, q1, u⟩, hp, ⟨rfl, rfl, hB⟩, hF⟩, hce, hcv, hcl, st⟩
  · exact hf.elim
  · obtain ⟨k1, k2, k3⟩ := vx_keep h0 e1 hS (fun _ _ h => h) (fun _ h => h) hL hF
    obtain ⟨t2, a1, b1⟩ := kx E1 q1 u ce T'.heap (locs ++ L) hp (by rw [e1]; exact hB) k3 (by rw [e1]; exact hce) hcv hcl T' rfl X'
    exact ⟨t2, st.trans a1, b1⟩
theorem wx_rV (X : wa_X G y cc nL ret p s m args meth c) (hH : wa_H G w H) (hM : wx_Thr l y2 (ws_ y2 b2 maxL r2) rm G w (.ref a :: As) post mc ms) (cw : CallW R s args own C2 index y2 b2 maxL r2 (ws_ y2 b2 maxL r2) rm mc ms n) (ho : y.cls = own) {ci N : Nat} {T : u_T} {fs : List Value} (he : w a = some (eO ci fs)) (hc : wcl[ci]? = some (C2, T, N)) (hn : As.length = n) (hsz : ls.size = nL) (hst : st0 = As.reverse ++ .ref a :: rest) (hW : (rest.map fun v => v.category).sum ≤ 8) (d : decode cc pc = .ok (.invokevirtual index, 3)) (hf : cells + mc ≤ R.cells ∧ slots + ms ≤ R.slots) :
    vx_Run p l e R s m args below meth c H locs cells slots mc ms (F0 m pc ls st0) rest (fun _ _ _ => False) (wx_X G post) (wa_A G) := by
  subst ho
  obtain ⟨q', h1, cell, g1, g2, g3, -⟩ := (hH.2.2 a _ he).2
  have hq : q' = (C2, T, N) := Option.some.inj (h1.symm.trans hc)
  subst hq
  exact vx_runV X.fix hM cw ⟨wa_P.blind, ⟨cell, g1, by rw [g3]; rfl, by rw [g2]; exact (X.k.1.1 ci _ hc).2.1⟩, fun U hU hW => ⟨rfl, X.k.warm hW, by rw [hU]; exact hH⟩⟩ rfl hn hsz hst (lv_room hW) d hf
theorem wx_rVX (X : wa_X G y cc nL ret p s m args meth c) (hH : wa_H G w H) {hh : List (Nat × Nat × Nat × Nat)} (hM : wx_Thr l y2 (wsW_ y2 b2 maxL r2 hh) rm G w (.ref a :: As) post mc ms) (cw : vx_CVW R s args own C2 index y2 b2 maxL r2 hh (wsW_ y2 b2 maxL r2 hh) rm mc ms n) (ho : y.cls = own) {ci N : Nat} {T : u_T} {fs : List Value} (he : w a = some (eO ci fs)) (hc : wcl[ci]? = some (C2, T, N)) (hn : As.length = n) (hsz : ls.size = nL) (hst : st0 = As.reverse ++ .ref a :: rest) (hW : (rest.map fun v => v.category).sum ≤ 8) (d : decode cc pc = .ok (.invokevirtual index, 3)) (hf : cells + mc ≤ R.cells ∧ slots + ms ≤ R.slots) :
    vx_Run p l e R s m args below meth c H locs cells slots mc ms (F0 m pc ls st0) rest (fun _ _ _ => False) (wx_X G post) (wa_A G) := by
  subst ho
  obtain ⟨q', h1, cell, g1, g2, g3, -⟩ := (hH.2.2 a _ he).2
  have hq : q' = (C2, T, N) := Option.some.inj (h1.symm.trans hc)
  subst hq
  exact vx_runVX X.fix hM cw ⟨wa_P.blind, ⟨cell, g1, by rw [g3]; rfl, by rw [g2]; exact (X.k.1.1 ci _ hc).2.1⟩, fun U hU hW => ⟨rfl, X.k.warm hW, by rw [hU]; exact hH⟩⟩ rfl hn hsz hst (lv_room hW) d hf
/-- .. of a method with handlers that returns -/
theorem wx_rVW (X : wa_X G y cc nL ret p s m args meth c) (hH : wa_H G w H) {Qc : Array Value → State → Outcome → State → Prop} {hh : List (Nat × Nat × Nat × Nat)} (hM : Met l y2 (wsW_ y2 b2 maxL r2 hh) rm (wa_P G w (.ref a :: As)) Qc mc ms (wa_A G)) (cw : vx_CVW R s args own C2 index y2 b2 maxL r2 hh (wsW_ y2 b2 maxL r2 hh) rm mc ms n) (ho : y.cls = own) {ci N : Nat} {T : u_T} {fs : List Value} (he : w a = some (eO ci fs)) (hc : wcl[ci]? = some (C2, T, N)) (hn : As.length = n) (hsz : ls.size = nL) (hst : st0 = As.reverse ++ .ref a :: rest) (hW : (rest.map fun v => v.category).sum ≤ 8) (d : decode cc pc = .ok (.invokevirtual index, 3)) (hf : cells + mc ≤ R.cells ∧ slots + ms ≤ R.slots) :
    va_Run p l e R s m args below meth c H locs cells slots mc ms (F0 m pc ls st0) rest (Qc (Value.ref a :: As).toArray) (wa_A G) := by
  subst ho
  obtain ⟨q', h1, cell, g1, g2, g3, -⟩ := (hH.2.2 a _ he).2
  have hq : q' = (C2, T, N) := Option.some.inj (h1.symm.trans hc)
  subst hq
  exact vx_runVW X.fix hM cw ⟨wa_P.blind, ⟨cell, g1, by rw [g3]; rfl, by rw [g2]; exact (X.k.1.1 ci _ hc).2.1⟩, fun U hU hW => ⟨rfl, X.k.warm hW, by rw [hU]; exact hH⟩⟩ rfl hn hsz hst (lv_room hW) d hf
theorem wx_rSN (X : wa_X G y cc nL ret p s m args meth c) (hH : wa_H G w H) {host : String} (hM : wx_Thr l y2 (ws_ y2 b2 maxL r2) rm G w As post mc ms) (cw : va_CN R s args own index y2 host b2 maxL r2 (ws_ y2 b2 maxL r2) rm mc ms n) (hq2 : Cond.static y2 ∈ lw_all) (ho : y.cls = own) (hn : As.length = n) (hsz : ls.size = nL) (hst : st0 = As.reverse ++ rest) (hW : (rest.map fun v => v.category).sum ≤ 8) (d : decode cc pc = .ok (.invokestatic index, 3)) (hf : cells + mc ≤ R.cells ∧ slots + ms ≤ R.slots) :
    vx_Run p l e R s m args below meth c H locs cells slots mc ms (F0 m pc ls st0) rest (fun _ _ _ => False) (wx_X G post) (wa_A G) := by
  subst ho
  exact vx_runSN X.fix hM ⟨cw, X.t _ hq2, trivial⟩ ⟨wa_P.blind, fun U hU hW => ⟨rfl, X.k.warm hW, by rw [hU]; exact hH⟩⟩ rfl hn hsz hst (lv_room hW) d hf
/-- it leaves the method -/
theorem wx_out (X : wa_X G y cc nL ret p s m args meth c) (hH : wa_H G w H) (hS : va_S (wa_A G) s.heap H locs) {E : String} {ce : Cell} {q : Nat} {Qc : Array Value → State → Outcome → State → Prop} (hout : ∀ x ∈ c.exceptionTable.toList, covers x pc = false) (hcell : H[q]? = some ce) (hv : ce.vm = .none) (hcl : s.vm.findClass E = some ce.cls) (hc : cells ≤ mc) (hs : slots ≤ ms) (hp : post E q w) :
    vx_W p l e R s m args below meth c H locs cells slots (vx_MQ below Qc (wx_X G post) args s mc ms (wa_A G)) (F0 m pc ls rest) q :=
  vx_out hout X.lk hcell hv hcl (fun t ht hal => ⟨⟨E, q, w⟩, hp, ⟨rfl, rfl, by show wa_H G w t.heap; rw [ht]; exact hH⟩, hS.F ht⟩) hS.2.2 hc hs
/-- an object of the world is thrown -/
theorem wx_obj (X : wa_X G y cc nL ret p s m args meth c) (hH : wa_H G w H) {q ci N : Nat} {C : String} {T : u_T} {fs : List Value} (he : w q = some (eO ci fs)) (hc : wcl[ci]? = some (C, T, N)) : ∃ ce : Cell, H[q]? = some ce ∧ ce.vm = .none ∧ s.vm.findClass C = some ce.cls := by
  obtain ⟨q', h1, cell, g1, g2, g3, -⟩ := (hH.2.2 q _ he).2
  have hq : q' = (C, T, N) := Option.some.inj (h1.symm.trans hc)
  subst hq
  exact ⟨cell, g1, g3, by rw [g2]; exact (X.k.1.1 ci _ hc).2.1⟩
end WRX

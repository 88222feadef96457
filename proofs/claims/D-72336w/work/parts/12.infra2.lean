/-! INFRA 2: the world as a function; what holds all through the run; rows over it -/
abbrev wa_Kx := wb_Kx
theorem wa_Kx.warm {G : va_G × (Nat → ClassId) × Heap} {s U : State} (hW : s.WarmedH U.vm) (h : wa_Kx G s) : wa_Kx G U := wb_Kx.warm hW h
theorem wa_Kx.calling {G : va_G × (Nat → ClassId) × Heap} {U : State} {g : JFrame} {mk : MethodId} {a : Array Value} (h : wa_Kx G U) : wa_Kx G (U.calling g mk a) := wb_Kx.calling h
abbrev wa_E : Type := va_E ⊕ Cell
abbrev wa_W : Type := Nat → Option wa_E
/-- the run's numbers: the classes' numbers and fields' places; the array classes (0..) and the lambdas' classes (16..); the heap at the law's entry -/
abbrev wa_G : Type := va_G × (Nat → ClassId) × Heap
def wup (w : wa_W) (a : Nat) (x : wa_E) : wa_W := fun q => if q = a then some x else w q
theorem wup_s {w : wa_W} {a : Nat} {x : wa_E} : wup w a x a = some x := if_pos rfl
theorem wup_n {w : wa_W} {a b : Nat} {x : wa_E} (h : b ≠ a) : wup w a x b = w b := if_neg h
def eI (G : wa_G) (n : Nat) (f : Int → Int) : wa_E := .inl (.inl (G.2.1 0, n, .inl fun j => zI (f j)))
def eB (G : wa_G) (n : Nat) (f : Int → Int) : wa_E := .inl (.inl (G.2.1 1, n, .inl fun j => zI (f j)))
def eR (G : wa_G) (k : Nat) (n : Nat) (f : Int → Option Nat) : wa_E := .inl (.inl (G.2.1 k, n, .inr (.inr (.inr (.inr fun j => f j)))))
def eO (ci : Nat) (fs : List Value) : wa_E := .inl (.inr (ci, fs))
def wa_at (D : va_G) (cl : List vw_C) (a : Nat) (x : wa_E) (H : Heap) : Prop := match x with
  | .inl e => va_at D cl (a, e) H
  | .inr kc => H[a]? = some kc
theorem wa_at.kept {D : va_G} {cl : List vw_C} {a : Nat} {x : wa_E} {H H1 : Heap} (h : wa_at D cl a x H) (hq : H1[a]? = H[a]?) : wa_at D cl a x H1 := by
  cases x with
  | inl e => exact va_at.kept (q := (a, e)) h hq
  | inr kc => exact hq.trans h
theorem wa_at.lt {D : va_G} {cl : List vw_C} {a : Nat} {x : wa_E} {H : Heap} (h : wa_at D cl a x H) : a < H.size := by
  cases x with
  | inl e => exact va_at.lt (q := (a, e)) h
  | inr kc => exact (Array.getElem?_eq_some_iff.mp h).1
/-- the heap holds the world; what lay there at the law's entry lies there still -/
def wa_H (G : wa_G) (w : wa_W) (H : Heap) : Prop := G.2.2.size ≤ H.size ∧ (∀ q, q < G.2.2.size → H[q]? = G.2.2[q]?) ∧ ∀ (a : Nat) (x : wa_E), w a = some x → G.2.2.size ≤ a ∧ wa_at G.1 wcl a x H
abbrev wa_A (G : wa_G) : Nat → Prop := fun q => G.2.2.size ≤ q
theorem wa_H.upd {G : wa_G} {w : wa_W} {H H1 : Heap} {a : Nat} {x0 x : wa_E} (h : wa_H G w H) (he : w a = some x0) (hx : wa_at G.1 wcl a x H1) (hz : H1.size = H.size) (hq : ∀ q, q ≠ a → H1[q]? = H[q]?) : wa_H G (wup w a x) H1 := by
  have hlo := (h.2.2 a x0 he).1
  refine ⟨by rw [hz]; exact h.1, fun q hl => (hq q (by omega)).trans (h.2.1 q hl), fun b y hy => ?_⟩
  by_cases hb : b = a
  · subst hb
    rw [wup_s] at hy
    cases hy
    exact ⟨hlo, hx⟩
  · rw [wup_n hb] at hy
    exact ⟨(h.2.2 b y hy).1, (h.2.2 b y hy).2.kept (hq b hb)⟩
theorem wa_H.none {G : wa_G} {w : wa_W} {H : Heap} {q : Nat} (h : wa_H G w H) (hq : H.size ≤ q) : w q = none := by
  cases hw : w q with
  | none => rfl
  | some x => exact absurd (h.2.2 q x hw).2.lt (by omega)
theorem wa_H.push {G : wa_G} {w : wa_W} {H H1 : Heap} {x : wa_E} (h : wa_H G w H) (hx : wa_at G.1 wcl H.size x H1) (hz : H1.size = H.size + 1) (hq : ∀ q, q < H.size → H1[q]? = H[q]?) : wa_H G (wup w H.size x) H1 := by
  refine ⟨by have := h.1; omega, fun q hl => (hq q (by have := h.1; omega)).trans (h.2.1 q hl), fun b y hy => ?_⟩
  by_cases hb : b = H.size
  · subst hb
    rw [wup_s] at hy
    cases hy
    exact ⟨h.1, hx⟩
  · rw [wup_n hb] at hy
    have h2 := h.2.2 b y hy
    exact ⟨h2.1, h2.2.kept (hq b h2.2.lt)⟩
theorem wa_H.mono {G : wa_G} {w w1 : wa_W} {H : Heap} (h : wa_H G w H) (hw : ∀ a x, w1 a = some x → w a = some x) : wa_H G w1 H := ⟨h.1, h.2.1, fun a x hx => h.2.2 a x (hw a x hx)⟩
/-- words that do not ride in the lists, but move with the tables -/
def wa_mv : Cond → Bool
  | .fieldLinkNest .. => true
  | .methodLinkNest .. => true
  | .castable .. => true
  | .declares .. => true
  | _ => false
theorem wa_mv_warm {w : Cond} (hw : wa_mv w = true) {s U : State} (hW : s.WarmedH U.vm) (h : va_Nw w s) : va_Nw w U := by
  cases w <;> first | (cases hw; done) | exact va_Nw.warmF hW h | exact va_Nw.warmM hW h | exact va_Nw.warmC hW h | exact va_Nw.warmD hW h
theorem wa_mv_tab {w : Cond} (hw : wa_mv w = true) : w.onTables = true := by
  cases w <;> first | (cases hw; done) | rfl
def wa_K (G : wa_G) (U : State) : Prop := va_K G.1 wcl (wtys G.2.1) U ∧ (∀ w ∈ lw_tbl, wa_mv w = true → va_Nw w U) ∧ wa_Kx G U
theorem wa_K.warm {G : wa_G} {s U : State} (hW : s.WarmedH U.vm) (h : wa_K G s) : wa_K G U := ⟨h.1.moved hW.alike, fun w hw hm => wa_mv_warm hm hW (h.2.1 w hw hm), wa_Kx.warm hW h.2.2⟩
theorem wa_K.calling {G : wa_G} {U : State} {g : JFrame} {mk : MethodId} {a : Array Value} (h : wa_K G U) : wa_K G (U.calling g mk a) := ⟨va_K.moved (u := U) (U := U.calling g mk a) (Vm.Alike.refl U.vm) h.1, fun w hw hm => va_Nw.same (wa_mv_tab hm) (rfl : U.vm = (U.calling g mk a).vm) (h.2.1 w hw hm), wa_Kx.calling h.2.2⟩
/-- what is known in a method's body -/
def wa_X (G : wa_G) (y : MethodName) (cc : ByteArray) (nL : Nat) (ret : Option FieldType) (p : Program) (s : State) (m : MethodId) (args : Array Value) (meth : Method) (c : Code) : Prop :=
  p.tables.exec = Jvm.exec ∧ c.code = cc ∧ c.maxLocals = nL ∧ s.vm.findClass y.cls = some m.cls ∧ (∀ w ∈ lw_all, w.before args s = true) ∧ wa_K G s ∧ meth.sig.returnType = ret ∧ meth.locks = false ∧ meth.name = y.name ∧ s.methodNamed? y = some m
section WX
variable {G : wa_G} {y : MethodName} {cc : ByteArray} {nL : Nat} {ret : Option FieldType} {p : Program} {s : State} {m : MethodId} {args : Array Value} {meth : Method} {c : Code}
theorem wa_X.x (X : wa_X G y cc nL ret p s m args meth c) : p.tables.exec = Jvm.exec := X.1
theorem wa_X.b (X : wa_X G y cc nL ret p s m args meth c) : c.code = cc := X.2.1
theorem wa_X.ml (X : wa_X G y cc nL ret p s m args meth c) : c.maxLocals = nL := X.2.2.1
theorem wa_X.own (X : wa_X G y cc nL ret p s m args meth c) : s.vm.findClass y.cls = some m.cls := X.2.2.2.1
theorem wa_X.t (X : wa_X G y cc nL ret p s m args meth c) : ∀ w ∈ lw_all, w.before args s = true := X.2.2.2.2.1
theorem wa_X.k (X : wa_X G y cc nL ret p s m args meth c) : wa_K G s := X.2.2.2.2.2.1
theorem wa_X.r (X : wa_X G y cc nL ret p s m args meth c) : meth.sig.returnType = ret := X.2.2.2.2.2.2.1
theorem wa_X.lk (X : wa_X G y cc nL ret p s m args meth c) : meth.locks = false := X.2.2.2.2.2.2.2.1
theorem wa_X.nm (X : wa_X G y cc nL ret p s m args meth c) : meth.name = y.name := X.2.2.2.2.2.2.2.2.1
theorem wa_X.mn (X : wa_X G y cc nL ret p s m args meth c) : s.methodNamed? y = some m := X.2.2.2.2.2.2.2.2.2
theorem wa_X.fix (X : wa_X G y cc nL ret p s m args meth c) : CallFix p m c cc nL s args lw_all y.cls := ⟨X.x, X.b, X.ml, X.own, X.t⟩
theorem wa_X.nw (X : wa_X G y cc nL ret p s m args meth c) {w : Cond} (h : w ∈ lw_tbl) (hm : wa_mv w = true) : va_Nw w s := X.k.2.1 w h hm
end WX
/-- a contract's start: these values; the heap holds the world w -/
def wa_P (G : wa_G) (w : wa_W) (av : List Value) : Array Value → State → Prop := va_Pc av (fun U => wa_K G U ∧ wa_H G w U.heap)
/-- its ends: an int, a long, nothing, a reference or null; and the world behind it -/
def wa_Qz (G : wa_G) (post : Int → wa_W → Prop) : Array Value → State → Outcome → State → Prop := va_Qi (fun r u => ∃ z : Int, r = zI z ∧ post z u) (fun (u : wa_W) t => wa_H G u t.heap) (wa_A G)
def wa_Ql (G : wa_G) (post : Int → wa_W → Prop) : Array Value → State → Outcome → State → Prop := va_Ql (fun r u => ∃ z : Int, r = lI z ∧ post z u) (fun (u : wa_W) t => wa_H G u t.heap) (wa_A G)
def wa_Qv (G : wa_G) (post : wa_W → Prop) : Array Value → State → Outcome → State → Prop := va_Qv post (fun (u : wa_W) t => wa_H G u t.heap) (wa_A G)
def wa_Qr (G : wa_G) (post : Option Nat → wa_W → Prop) : Array Value → State → Outcome → State → Prop := va_Qq post (fun (u : wa_W) t => wa_H G u t.heap) (wa_A G)
theorem wa_P.blind {G : wa_G} {w : wa_W} {av : List Value} : FrameBlind (wa_P G w av) := fun _ _ _ _ q => ⟨q.1, q.2.1.calling, q.2.2⟩
theorem wa_met {l : Launch} {G : wa_G} {y : MethodName} {cc : ByteArray} {maxL : Nat} {ret : Option FieldType} {rm : Room} {w : wa_W} {av : List Value} {Qc : Array Value → State → Outcome → State → Prop} {mc ms : Nat} (hy : plainName y.cls = true) (hlen : (lg_sl av).length ≤ maxL)
    (body : ∀ (p : Program) (e : Env) (s : State) (m : MethodId) (args : Array Value) (below : List Frame) (meth : Method) (c : Code) (ls : Array Slot), wa_X G y cc maxL ret p s m args meth c → lv_has ls maxL (lv_args 0 av) → wa_H G w s.heap →
      W p l e rm s m args below meth c s.heap [] 0 0 (MQ below Qc args s mc ms (wa_A G)) (F0 m 0 ls [])) : Met l y (ws_ y cc maxL ret) rm (wa_P G w av) Qc mc ms (wa_A G) := by
  refine Met.ofW (cc := cc) (maxL := maxL) (ret := ret) hy rfl ?_
  intro p e s m args below meth c s₁ B hml hv
  obtain ⟨rfl, hK, hH⟩ := hv
  have hts := atoms_spec (ws := ws_ y cc maxL ret) B.pre
  rw [lg_entry_eq]
  exact body p e s m _ below meth c _ ⟨B.exec, B.bytes, hml, findClass_of_methodNamed B.named, fun w h => hts w (List.mem_cons_of_mem _ h), hK, B.returns, B.notSynchronized, (name_of_methodNamed B.named B.method).1, B.named⟩ (lv_entry av hlen) hH
/-- a class of the list -/
def wa_C (ci : Nat) (C : String) (T : u_T) (N : Nat) (ty : Nat → FieldType) : Prop := wcl[ci]? = some (C, T, N) ∧ (∀ w ∈ u_ws C T N, w ∈ lw_all) ∧ (∀ k, k < N → parseFieldDescriptor (T k).2.2.1 = some (ty k)) ∧ ∀ a, a < N → ∀ b, b < N → a ≠ b → (T a).2.1 ≠ (T b).2.1
section WR
variable {p : Program} {l : Launch} {e : Env} {R : Room} {s : State} {m : MethodId} {args : Array Value} {below : List Frame} {meth : Method} {c : Code} {H H0 : Heap} {locs : List Loc} {cells slots : Nat} {Q : State → Prop}
variable {cc : ByteArray} {pc : Nat} {ls : Array Slot} {rest : List Value} {G : wa_G} {y : MethodName} {nL : Nat} {ret : Option FieldType} {w : wa_W} {a : Nat}
theorem wa_get (X : wa_X G y cc nL ret p s m args meth c) (hH : wa_H G w H) {own ref C : String} {T : u_T} {N ci index : Nat} {ty : Nat → FieldType} {fs : List Value} (he : w a = some (eO ci fs)) (hC : wa_C ci C T N ty) (k : Nat) (hk : k < N) (hq : Cond.fieldLink own index ref (T k).2.1 (T k).2.2.1 ∈ lw_all) (ho : y.cls = own) (hsame : ∀ x, s.fieldFound? (T k).1 (T k).2.1 (T k).2.2.1 = some x → s.fieldFound? ref (T k).2.1 (T k).2.2.1 = some x) {v : Value} (hv : fs[k]? = some v) (d : decode cc pc = .ok (.getfield index, 3))
    (kk : W p l e R s m args below meth c H locs cells slots Q (F0 m (pc + 3) ls (v :: rest))) : W p l e R s m args below meth c H locs cells slots Q (F0 m pc ls (.ref a :: rest)) :=
  va_get X.x X.b X.t hC.2.1 (by rw [← ho]; exact X.own) X.k.1 (ws := [(a, .inr (ci, fs))]) (fun j q hj => by
    match j, hj with
    | 0, hj => cases hj; exact (hH.2.2 a _ he).2
    | j + 1, hj => simp at hj) 0 rfl hC.1 k hk (X.t _ hq) hsame hv d kk
theorem wa_getN (X : wa_X G y cc nL ret p s m args meth c) (hH : wa_H G w H) {own ref C host : String} {T : u_T} {N ci index : Nat} {ty : Nat → FieldType} {fs : List Value} (he : w a = some (eO ci fs)) (hC : wa_C ci C T N ty) (k : Nat) (hk : k < N) (hq : Cond.fieldLinkNest own index ref (T k).2.1 (T k).2.2.1 host ∈ lw_tbl) (ho : y.cls = own) (hsame : ∀ x, s.fieldFound? (T k).1 (T k).2.1 (T k).2.2.1 = some x → s.fieldFound? ref (T k).2.1 (T k).2.2.1 = some x) {v : Value} (hv : fs[k]? = some v) (d : decode cc pc = .ok (.getfield index, 3))
    (kk : W p l e R s m args below meth c H locs cells slots Q (F0 m (pc + 3) ls (v :: rest))) : W p l e R s m args below meth c H locs cells slots Q (F0 m pc ls (.ref a :: rest)) :=
  va_getN X.x X.b X.t hC.2.1 (by rw [← ho]; exact X.own) X.k.1 (ws := [(a, .inr (ci, fs))]) (fun j q hj => by
    match j, hj with
    | 0, hj => cases hj; exact (hH.2.2 a _ he).2
    | j + 1, hj => simp at hj) 0 rfl hC.1 k hk (va_Nw.use rfl (X.nw hq rfl)) hsame hv d kk
theorem wa_put (X : wa_X G y cc nL ret p s m args meth c) (hH : wa_H G w H) (hS : va_S (wa_A G) H0 H locs) {own ref C : String} {T : u_T} {N ci index : Nat} {ty : Nat → FieldType} {fs : List Value} (he : w a = some (eO ci fs)) (hC : wa_C ci C T N ty) (k : Nat) (hk : k < N) (hq : Cond.fieldLink own index ref (T k).2.1 (T k).2.2.1 ∈ lw_all) (ho : y.cls = own) (hsame : ∀ x, s.fieldFound? (T k).1 (T k).2.1 (T k).2.2.1 = some x → s.fieldFound? ref (T k).2.1 (T k).2.2.1 = some x) (hfin : (T k).2.2.2 = false) {v : Value} (hn : narrow (ty k) v = v) (hfit : fits (ty k) v = true) (hl : k < fs.length) (d : decode cc pc = .ok (.putfield index, 3))
    (kk : ∀ (w1 : wa_W) (H1 : Heap) (locs1 : List Loc), w1 = wup w a (eO ci (fs.set k v)) → wa_H G w1 H1 → va_S (wa_A G) H0 H1 locs1 → W p l e R s m args below meth c H1 locs1 cells slots Q (F0 m (pc + 3) ls rest)) : W p l e R s m args below meth c H locs cells slots Q (F0 m pc ls (v :: .ref a :: rest)) := by
  have hap := va_apart (own := own) X.t hC.2.1 ty hC.2.2.1 hC.2.2.2 X.k.1 hC.1
  obtain ⟨hlo, hat⟩ := hH.2.2 a _ he
  obtain ⟨r, h1, cell, q1, q2, q3, q4⟩ := hat
  have hr : r = (C, T, N) := Option.some.inj (h1.symm.trans hC.1)
  subst hr
  obtain ⟨hSl, hfc, kC, hkC, hkind⟩ := X.k.1.1 ci _ hC.1
  obtain ⟨cf, kf, fi, f, hi, hsl⟩ := hSl k hk
  have hlay := X.t _ (hC.2.1 _ (u_in_lay hk))
  unfold u_lay at hlay
  rw [if_neg (by rw [hfin]; decide)] at hlay
  have hst := (u_facts hfc hkC (u_lays X.t hC.2.1 hk) hi).1
  have h6 := u_store hfc hkC hkind hlay hi (hC.2.2.1 k hk) hn hfit
  refine W.putK X.x X.b (f := f) ⟨by rw [← ho]; exact X.own, X.t _ hq, ⟨_, _, _, hsame _ hi⟩, hst⟩ (by rw [q2]; exact h6) q1 q3 (by rw [hsl]; exact k2_hasslot (q4 k hk)) rfl rfl d fun H' e1 e2 e3 => ?_
  rw [hsl] at e1 ⊢
  exact kk _ H' _ rfl (hH.upd he (show va_at G.1 wcl (a, .inr (ci, fs.set k v)) H' from ⟨_, hC.1, t_OB.to (V := updV (vp_V fs) k v) ⟨_, e1, q2, q3, t_set q4 hap hk v⟩ (fun j _ => vp_updV_set hl v j)⟩) e2 e3) (hS.put e2 e3 hlo)
theorem wa_putF (X : wa_X G y cc nL ret p s m args meth c) (hH : wa_H G w H) (hS : va_S (wa_A G) H0 H locs) {own ref C : String} {T : u_T} {N ci index : Nat} {ty : Nat → FieldType} {fs : List Value} (he : w a = some (eO ci fs)) (hC : wa_C ci C T N ty) (k : Nat) (hk : k < N) (hq : Cond.fieldLink own index ref (T k).2.1 (T k).2.2.1 ∈ lw_all) (ho : y.cls = own) (hsame : ∀ x, s.fieldFound? (T k).1 (T k).2.1 (T k).2.2.1 = some x → s.fieldFound? ref (T k).2.1 (T k).2.2.1 = some x) (hfin : (T k).2.2.2 = true) (hin2 : y.name = "<init>") (hdecl : (T k).1 = own) {v : Value} (hn : narrow (ty k) v = v) (hfit : fits (ty k) v = true) (hl : k < fs.length) (d : decode cc pc = .ok (.putfield index, 3))
    (kk : ∀ (w1 : wa_W) (H1 : Heap) (locs1 : List Loc), w1 = wup w a (eO ci (fs.set k v)) → wa_H G w1 H1 → va_S (wa_A G) H0 H1 locs1 → W p l e R s m args below meth c H1 locs1 cells slots Q (F0 m (pc + 3) ls rest)) : W p l e R s m args below meth c H locs cells slots Q (F0 m pc ls (v :: .ref a :: rest)) := by
  have hap := va_apart (own := own) X.t hC.2.1 ty hC.2.2.1 hC.2.2.2 X.k.1 hC.1
  obtain ⟨hlo, hat⟩ := hH.2.2 a _ he
  obtain ⟨r, h1, cell, q1, q2, q3, q4⟩ := hat
  have hr : r = (C, T, N) := Option.some.inj (h1.symm.trans hC.1)
  subst hr
  obtain ⟨hSl, hfc, kC, hkC, hkind⟩ := X.k.1.1 ci _ hC.1
  obtain ⟨cf, kf, fi, f, hi, hsl⟩ := hSl k hk
  have hlay := X.t _ (hC.2.1 _ (u_in_lay hk))
  unfold u_lay at hlay
  rw [if_pos hfin] at hlay
  have hst := (u_facts hfc hkC (u_lays X.t hC.2.1 hk) hi).1
  have hown : s.vm.findClass own = some m.cls := by rw [← ho]; exact X.own
  have hcf : m.cls = cf := by
    obtain ⟨_, _, c', _, _, _, -, -, hf', -, -, -, hown2, -⟩ := Cond.laysFinal_spec hlay
    have e1 : c' = cf := by have := hi.symm.trans hf'; simp at this; exact this.1.symm
    rw [hdecl] at hown2
    rw [← e1]; exact Option.some.inj (hown.symm.trans hown2)
  have h6 := u_fits hfc hkC hkind (Or.inr hlay) hi (hC.2.2.1 k hk) hn hfit
  refine W.putFinK X.x X.b hown (X.t _ hq) (hsame _ hi) hst hcf (X.nm.trans hin2) (by rw [q2]; exact h6) q1 q3 (by rw [hsl]; exact k2_hasslot (q4 k hk)) rfl rfl d fun H' e1 e2 e3 => ?_
  rw [hsl] at e1 ⊢
  exact kk _ H' _ rfl (hH.upd he (show va_at G.1 wcl (a, .inr (ci, fs.set k v)) H' from ⟨_, hC.1, t_OB.to (V := updV (vp_V fs) k v) ⟨_, e1, q2, q3, t_set q4 hap hk v⟩ (fun j _ => vp_updV_set hl v j)⟩) e2 e3) (hS.put e2 e3 hlo)
theorem wa_ityp (X : wa_X G y cc nL ret p s m args meth c) : ArrOfT s (G.2.1 0) .int := (X.k.1.2 0 _ rfl).1
theorem wa_btyp (X : wa_X G y cc nL ret p s m args meth c) : ArrOfT s (G.2.1 1) .byte := (X.k.1.2 1 _ rfl).1
theorem wa_iald (X : wa_X G y cc nL ret p s m args meth c) (hH : wa_H G w H) {n : Nat} {f : Int → Int} (he : w a = some (eI G n f)) {i : Int} (h0 : 0 ≤ i) (h1 : i < n) (h2 : i < 2147483648) (d : decode cc pc = .ok (.iaload, 1))
    (kk : W p l e R s m args below meth c H locs cells slots Q (F0 m (pc + 1) ls (.int (zI (f i)) :: rest))) : W p l e R s m args below meth c H locs cells slots Q (F0 m pc ls (.int (zI i) :: .ref a :: rest)) := by
  have hc : (zI i).toNatClampNeg = i.toNat := zI_cl ⟨by omega, h2⟩
  have hv : (arrV (G.2.1 0) n (fun j => Value.int (zI (f j)))).slots[(zI i).toNatClampNeg]? = some (.int (zI (f i))) := by
    rw [hc, arrV_read _ _ (by omega)]
    congr 3
    rw [Int.toNat_of_nonneg h0]
  exact W.iald X.x X.b (hH.2.2 a _ he).2 (wa_ityp X n _) (fun q => by cases q) (by show ¬ (zI i < 0 ∨ (arrV _ _ _).slots.size ≤ _); rw [arrV_size]; exact zI_in h0 h1 h2) hv rfl rfl d kk
theorem wa_bald (X : wa_X G y cc nL ret p s m args meth c) (hH : wa_H G w H) {n : Nat} {f : Int → Int} (he : w a = some (eB G n f)) {i : Int} (h0 : 0 ≤ i) (h1 : i < n) (h2 : i < 2147483648) (d : decode cc pc = .ok (.baload, 1))
    (kk : W p l e R s m args below meth c H locs cells slots Q (F0 m (pc + 1) ls (.int (zI (f i)) :: rest))) : W p l e R s m args below meth c H locs cells slots Q (F0 m pc ls (.int (zI i) :: .ref a :: rest)) := by
  have hc : (zI i).toNatClampNeg = i.toNat := zI_cl ⟨by omega, h2⟩
  have hv : (arrV (G.2.1 1) n (fun j => Value.int (zI (f j)))).slots[(zI i).toNatClampNeg]? = some (.int (zI (f i))) := by
    rw [hc, arrV_read _ _ (by omega)]
    congr 3
    rw [Int.toNat_of_nonneg h0]
  exact W.bald X.x X.b (hH.2.2 a _ he).2 (wa_btyp X n _) (fun q => by cases q) (by show ¬ (zI i < 0 ∨ (arrV _ _ _).slots.size ≤ _); rw [arrV_size]; exact zI_in h0 h1 h2) hv rfl rfl d kk
theorem wa_iast (X : wa_X G y cc nL ret p s m args meth c) (hH : wa_H G w H) (hS : va_S (wa_A G) H0 H locs) {n : Nat} {f : Int → Int} (he : w a = some (eI G n f)) {i v : Int} (h0 : 0 ≤ i) (h1 : i < n) (h2 : i < 2147483648) (d : decode cc pc = .ok (.iastore, 1))
    (kk : ∀ (w1 : wa_W) (H1 : Heap) (locs1 : List Loc), w1 = wup w a (eI G n (fup f i v)) → wa_H G w1 H1 → va_S (wa_A G) H0 H1 locs1 → W p l e R s m args below meth c H1 locs1 cells slots Q (F0 m (pc + 1) ls rest)) : W p l e R s m args below meth c H locs cells slots Q (F0 m pc ls (.int (zI v) :: .int (zI i) :: .ref a :: rest)) := by
  have hc : (zI i).toNatClampNeg = i.toNat := zI_cl ⟨by omega, h2⟩
  obtain ⟨hlo, hat⟩ := hH.2.2 a _ he
  refine W.iast X.x X.b hat (wa_ityp X n (fun j => .int (zI (f j)))) (fun q => by cases q) (by show ¬ (zI i < 0 ∨ (arrV _ _ _).slots.size ≤ _); rw [arrV_size]; exact zI_in h0 h1 h2) rfl rfl d fun H1 e1 z oq => ?_
  refine kk _ H1 _ rfl (hH.upd he ?_ z oq) (hS.put z oq hlo)
  show H1[a]? = some (vp_cell _ _)
  rw [e1, vp_cell_i, vp_cell_i, arrV_store, hc]
  congr 2
  funext q
  have := congrFun (upd_fup f h0 v) q
  unfold updV
  unfold upd at this
  split <;> rename_i hq
  · rw [if_pos hq] at this; exact congrArg Value.int this
  · rw [if_neg hq] at this; exact congrArg Value.int this
theorem wa_alen (X : wa_X G y cc nL ret p s m args meth c) (hH : wa_H G w H) {n : Nat} {f : Int → Int} (he : w a = some (eI G n f)) (d : decode cc pc = .ok (.arraylength, 1))
    (kk : W p l e R s m args below meth c H locs cells slots Q (F0 m (pc + 1) ls (.int (zI n) :: rest))) : W p l e R s m args below meth c H locs cells slots Q (F0 m pc ls (.ref a :: rest)) :=
  W.alen (n := zI n) X.x X.b (hH.2.2 a _ he).2 (wa_ityp X n _) (by show (arrV _ _ _).slots.size.toInt32 = _; rw [arrV_size]; exact zI_nat n) rfl rfl d kk
theorem wa_new (X : wa_X G y cc nL ret p s m args meth c) (hH : wa_H G w H) (hS : va_S (wa_A G) H0 H locs) {own C : String} {T : u_T} {N ci index : Nat} {ty : Nat → FieldType} (hC : wa_C ci C T N ty) (ho : y.cls = own) (hq1 : Cond.classLink own index C ∈ lw_all) (hq2 : Cond.instantiable C N ∈ lw_all) (hq3 : Cond.initialized C ∈ lw_all) (fs : List Value) (hfs : ∀ j, j < N → defaultValue (ty j) = vp_V fs j) (hcells : cells + 1 ≤ R.cells) (hslots : slots + N ≤ R.slots) (d : decode cc pc = .ok (.new index, 3))
    (kk : ∀ (q : Nat) (w1 : wa_W) (H1 : Heap), w q = none → w1 = wup w q (eO ci fs) → wa_H G w1 H1 → va_S (wa_A G) H0 H1 locs → W p l e R s m args below meth c H1 locs (cells + 1) (slots + N) Q (F0 m (pc + 3) ls (.ref q :: rest))) : W p l e R s m args below meth c H locs cells slots Q (F0 m pc ls rest) := by
  have hKn := X.k.1.1 ci _ hC.1
  refine W.newcK X.x X.b (by rw [← ho]; exact X.own) (X.t _ hq1) (X.t _ hq2) (X.t _ hq3) rfl d hcells hslots hKn.2.1 rfl fun H1 kC hkC e1 z1 o1 => ?_
  refine kk H.size _ H1 (hH.none (Nat.le_refl _)) rfl (hH.push ?_ z1 o1) ⟨Nat.le_trans hS.1 (by omega), fun x h1 h2 => (o1 x (Nat.lt_of_lt_of_le h1 hS.1)).trans (hS.2.1 x h1 h2), hS.2.2⟩
  exact ⟨_, hC.1, (u_born ty X.t hC.2.1 hKn hkC e1 hC.2.2.1).to hfs⟩
theorem wa_newi (X : wa_X G y cc nL ret p s m args meth c) (hH : wa_H G w H) (hS : va_S (wa_A G) H0 H locs) (hq : Cond.arrayClass .int ∈ lw_all) {n : Int} {N : Nat} (hN : n = N) (hN2 : N < 1000000) (hcells : cells + 1 ≤ R.cells) (hslots : slots + N ≤ R.slots) (d : decode cc pc = .ok (.newarray .int, 2))
    (kk : ∀ (q : Nat) (w1 : wa_W) (H1 : Heap), w q = none → w1 = wup w q (eI G N (fun _ => 0)) → wa_H G w1 H1 → va_S (wa_A G) H0 H1 locs → W p l e R s m args below meth c H1 locs (cells + 1) (slots + N) Q (F0 m (pc + 2) ls (.ref q :: rest))) : W p l e R s m args below meth c H locs cells slots Q (F0 m pc ls (.int (zI n) :: rest)) := by
  have r1 : rI n := ⟨by omega, by omega⟩
  refine va_newaK X.x X.b (atype := .int) (X.t _ hq) rfl d rfl (fun h => absurd ((zI_lt0 r1).mp h) (by omega)) (N := N) (by rw [zI_cl r1]; omega) (by show N * componentBytes .int ≤ _; have : componentBytes .int = 4 := rfl; rw [this]; omega) hcells hslots rfl fun H1 cA e1 z1 o1 hAr hNm => ?_
  have hcA : cA = G.2.1 0 := by
    have h2 := (X.k.1.2 0 _ rfl).2
    exact Option.some.inj (hNm.symm.trans h2)
  subst hcA
  refine kk H.size _ H1 (hH.none (Nat.le_refl _)) rfl (hH.push ?_ z1 o1) ⟨Nat.le_trans hS.1 (by omega), fun x h1 h2 => (o1 x (Nat.lt_of_lt_of_le h1 hS.1)).trans (hS.2.1 x h1 h2), hS.2.2⟩
  exact e1
theorem wa_iret (X : wa_X G y cc nL (some .int) p s m args meth c) (hH : wa_H G w H) (hS : va_S (wa_A G) s.heap H locs) {post : Int → wa_W → Prop} {z : Int} (d : decode cc pc = .ok (.ireturn, 1)) (hp : post z w) : W p l e R s m args below meth c H locs cells slots (MQ below (wa_Qz G post) args s cells slots (wa_A G)) (F0 m pc ls [.int (zI z)]) :=
  W.iret X.x X.b X.r (fun t ht hW => ⟨⟨_, w, rfl, ⟨z, rfl, hp⟩, by show wa_H G w t.heap; rw [ht]; exact hH⟩, hS.F ht⟩) hS.2.2 d X.lk
theorem wa_zret (X : wa_X G y cc nL (some .boolean) p s m args meth c) (hH : wa_H G w H) (hS : va_S (wa_A G) s.heap H locs) {post : Int → wa_W → Prop} {z : Int} (d : decode cc pc = .ok (.ireturn, 1)) (hz : narrow .boolean (.int (zI z)) = .int (zI z)) (hp : post z w) : W p l e R s m args below meth c H locs cells slots (MQ below (wa_Qz G post) args s cells slots (wa_A G)) (F0 m pc ls [.int (zI z)]) :=
  W.zret X.x X.b X.r hz (fun t ht hW => ⟨⟨_, w, rfl, ⟨z, rfl, hp⟩, by show wa_H G w t.heap; rw [ht]; exact hH⟩, hS.F ht⟩) hS.2.2 d X.lk
theorem wa_lret (X : wa_X G y cc nL (some .long) p s m args meth c) (hH : wa_H G w H) (hS : va_S (wa_A G) s.heap H locs) {post : Int → wa_W → Prop} {z : Int} (d : decode cc pc = .ok (.lreturn, 1)) (hp : post z w) : W p l e R s m args below meth c H locs cells slots (MQ below (wa_Ql G post) args s cells slots (wa_A G)) (F0 m pc ls [.long (lI z)]) :=
  W.lret X.x X.b X.r (fun t ht hW => ⟨⟨_, w, rfl, ⟨z, rfl, hp⟩, by show wa_H G w t.heap; rw [ht]; exact hH⟩, hS.F ht⟩) hS.2.2 d X.lk
theorem wa_vret (X : wa_X G y cc nL none p s m args meth c) (hH : wa_H G w H) (hS : va_S (wa_A G) s.heap H locs) {post : wa_W → Prop} (d : decode cc pc = .ok (.return_, 1)) (hp : post w) : W p l e R s m args below meth c H locs cells slots (MQ below (wa_Qv G post) args s cells slots (wa_A G)) (F0 m pc ls []) :=
  W.vret X.x X.b X.r (fun t ht hW => ⟨⟨w, rfl, hp, by show wa_H G w t.heap; rw [ht]; exact hH⟩, hS.F ht⟩) hS.2.2 d X.lk
-- calls: from a contract to its run
variable {y2 : MethodName} {b2 : ByteArray} {maxL mc ms n index : Nat} {r2 : Option FieldType} {rm : Room} {As st0 : List Value} {Qc : Array Value → State → Outcome → State → Prop} {own C2 : String}
theorem wa_rV (X : wa_X G y cc nL ret p s m args meth c) (hH : wa_H G w H) (hM : Met l y2 (ws_ y2 b2 maxL r2) rm (wa_P G w (.ref a :: As)) Qc mc ms (wa_A G)) (cw : CallW R s args own C2 index y2 b2 maxL r2 (ws_ y2 b2 maxL r2) rm mc ms n) (ho : y.cls = own) {ci N : Nat} {T : u_T} {fs : List Value} (he : w a = some (eO ci fs)) (hc : wcl[ci]? = some (C2, T, N)) (hn : As.length = n) (hsz : ls.size = nL) (hst : st0 = As.reverse ++ .ref a :: rest) (hW : (rest.map fun v => v.category).sum ≤ 8) (d : decode cc pc = .ok (.invokevirtual index, 3)) (hf : cells + mc ≤ R.cells ∧ slots + ms ≤ R.slots) :
    va_Run p l e R s m args below meth c H locs cells slots mc ms (F0 m pc ls st0) rest (Qc (Value.ref a :: As).toArray) (wa_A G) := by
  subst ho
  obtain ⟨q', h1, cell, g1, g2, g3, -⟩ := (hH.2.2 a _ he).2
  have hq : q' = (C2, T, N) := Option.some.inj (h1.symm.trans hc)
  subst hq
  exact va_runV X.fix hM cw ⟨wa_P.blind, ⟨cell, g1, by rw [g3]; rfl, by rw [g2]; exact (X.k.1.1 ci _ hc).2.1⟩, fun U hU hW => ⟨rfl, X.k.warm hW, by rw [hU]; exact hH⟩⟩ rfl hn hsz hst (lv_room hW) d hf
theorem wa_rS (X : wa_X G y cc nL ret p s m args meth c) (hH : wa_H G w H) (hM : Met l y2 (ws_ y2 b2 maxL r2) rm (wa_P G w As) Qc mc ms (wa_A G)) (cw : CallB R s args own index y2 b2 maxL r2 (ws_ y2 b2 maxL r2) rm mc ms n ∧ (Cond.static y2).before args s = true) (ho : y.cls = own) (hn : As.length = n) (hsz : ls.size = nL) (hst : st0 = As.reverse ++ rest) (hW : (rest.map fun v => v.category).sum ≤ 8) (d : decode cc pc = .ok (.invokestatic index, 3)) (hf : cells + mc ≤ R.cells ∧ slots + ms ≤ R.slots) :
    va_Run p l e R s m args below meth c H locs cells slots mc ms (F0 m pc ls st0) rest (Qc As.toArray) (wa_A G) := by
  subst ho
  exact va_runS X.fix hM cw ⟨wa_P.blind, fun U hU hW => ⟨rfl, X.k.warm hW, by rw [hU]; exact hH⟩⟩ rfl hn hsz hst (lv_room hW) d hf
theorem wa_rI (X : wa_X G y cc nL ret p s m args meth c) (hH : wa_H G w H) (hM : Met l y2 (ws_ y2 b2 maxL none) rm (wa_P G w (.ref a :: As)) Qc mc ms (wa_A G)) (cw : CallB R s args own index y2 b2 maxL none (ws_ y2 b2 maxL none) rm mc ms n ∧ y2.name = "<init>" ∧ (Cond.instanceMethod y2).before args s = true) (ho : y.cls = own) (hn : As.length = n) (hsz : ls.size = nL) (hst : st0 = As.reverse ++ .ref a :: rest) (hW : (rest.map fun v => v.category).sum ≤ 8) (d : decode cc pc = .ok (.invokespecial index, 3)) (hf : cells + mc ≤ R.cells ∧ slots + ms ≤ R.slots) :
    va_Run p l e R s m args below meth c H locs cells slots mc ms (F0 m pc ls st0) rest (Qc (Value.ref a :: As).toArray) (wa_A G) := by
  subst ho
  exact va_runI X.fix hM cw ⟨wa_P.blind, fun U hU hW => ⟨rfl, X.k.warm hW, by rw [hU]; exact hH⟩⟩ rfl hn hsz hst (lv_room hW) d hf
variable {av : Array Value}
theorem wa_ci {post : Int → wa_W → Prop} (hS : va_S (wa_A G) H0 H locs) (hr : va_Run p l e R s m args below meth c H locs cells slots mc ms (F0 m pc ls st0) rest (wa_Qz G post av) (wa_A G)) (kk : ∀ (z : Int) (u : wa_W) (H1 : Heap) (locs1 : List Loc), post z u → wa_H G u H1 → va_S (wa_A G) H0 H1 locs1 → W p l e R s m args below meth c H1 locs1 (cells + mc) (slots + ms) Q (F0 m (pc + 3) ls (.int (zI z) :: rest))) : W p l e R s m args below meth c H locs cells slots Q (F0 m pc ls st0) :=
  va_calli hr hS (fun _ _ h => h) (fun _ h => h) fun r u t H1 locs1 ht _ hp hB _ _ hS1 => by
    obtain ⟨z, rfl, hp⟩ := hp
    exact kk z u H1 locs1 hp (by rw [← ht]; exact hB) hS1
theorem wa_cl {post : Int → wa_W → Prop} (hS : va_S (wa_A G) H0 H locs) (hr : va_Run p l e R s m args below meth c H locs cells slots mc ms (F0 m pc ls st0) rest (wa_Ql G post av) (wa_A G)) (kk : ∀ (z : Int) (u : wa_W) (H1 : Heap) (locs1 : List Loc), post z u → wa_H G u H1 → va_S (wa_A G) H0 H1 locs1 → W p l e R s m args below meth c H1 locs1 (cells + mc) (slots + ms) Q (F0 m (pc + 3) ls (.long (lI z) :: rest))) : W p l e R s m args below meth c H locs cells slots Q (F0 m pc ls st0) :=
  va_calll hr hS (fun _ _ h => h) (fun _ h => h) fun r u t H1 locs1 ht _ hp hB _ _ hS1 => by
    obtain ⟨z, rfl, hp⟩ := hp
    exact kk z u H1 locs1 hp (by rw [← ht]; exact hB) hS1
theorem wa_cv {post : wa_W → Prop} (hS : va_S (wa_A G) H0 H locs) (hr : va_Run p l e R s m args below meth c H locs cells slots mc ms (F0 m pc ls st0) rest (wa_Qv G post av) (wa_A G)) (kk : ∀ (u : wa_W) (H1 : Heap) (locs1 : List Loc), post u → wa_H G u H1 → va_S (wa_A G) H0 H1 locs1 → W p l e R s m args below meth c H1 locs1 (cells + mc) (slots + ms) Q (F0 m (pc + 3) ls rest)) : W p l e R s m args below meth c H locs cells slots Q (F0 m pc ls st0) :=
  va_callv hr hS (fun _ _ h => h) (fun _ h => h) fun u t H1 locs1 ht _ hp hB _ _ hS1 => kk u H1 locs1 hp (by rw [← ht]; exact hB) hS1
theorem wa_cr {post : Option Nat → wa_W → Prop} (hS : va_S (wa_A G) H0 H locs) (hr : va_Run p l e R s m args below meth c H locs cells slots mc ms (F0 m pc ls st0) rest (wa_Qr G post av) (wa_A G)) (kk : ∀ (r : Option Nat) (u : wa_W) (H1 : Heap) (locs1 : List Loc), post r u → wa_H G u H1 → va_S (wa_A G) H0 H1 locs1 → W p l e R s m args below meth c H1 locs1 (cells + mc) (slots + ms) Q (F0 m (pc + 3) ls (va_rf r :: rest))) : W p l e R s m args below meth c H locs cells slots Q (F0 m pc ls st0) :=
  va_callq hr hS (fun _ _ h => h) (fun _ h => h) fun r u t H1 locs1 ht _ hp hB _ _ hS1 => kk r u H1 locs1 hp (by rw [← ht]; exact hB) hS1
end WR

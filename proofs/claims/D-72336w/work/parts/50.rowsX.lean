/-! ROWS for the other side: lambdas at their site -/
theorem wb_zip : ∀ (ts : List FieldType) (vs : List Value), vs.length = ts.length → (∀ (i : Nat) (v : Value) (t : FieldType), vs[i]? = some v → ts[i]? = some t → narrow t v = v) → ((ts.zip vs).map fun (t, v) => narrow t v) = vs
  | [], [], _, _ => rfl
  | [], _ :: _, h, _ => by cases h
  | _ :: _, [], h, _ => by cases h
  | t :: ts, v :: vs, h, hf => by
    show narrow t v :: ((ts.zip vs).map fun (t, v) => narrow t v) = v :: vs
    rw [hf 0 v t rfl rfl, wb_zip ts vs (Nat.succ.inj h) (fun i v t a b => hf (i + 1) v t a b)]
theorem wb_hO {A : Array Value} {U : State} (h : (Cond.instantiable "java/lang/Object" 0).before A U = true) : ∀ o ok, U.vm.findClass "java/lang/Object" = some o → U.vm.classes[o]? = some ok → ok.instanceTypes.size = 0 := by
  intro o ok ho hok
  obtain ⟨c, k, h1, h2, -, -, -, h6⟩ := Cond.instantiable_spec h
  cases ho.symm.trans h1
  cases hok.symm.trans h2
  exact h6
section WBL
variable {p : Program} {l : Launch} {e : Env} {R : Room} {s : State} {m : MethodId} {args : Array Value} {below : List Frame} {meth : Method} {c : Code} {H H0 : Heap} {locs : List Loc} {cells slots : Nat} {Q : State → Prop}
variable {cc : ByteArray} {pc : Nat} {ls : Array Slot} {rest st0 : List Value} {G : wa_G} {y : MethodName} {nL : Nat} {ret : Option FieldType} {w : wa_W}
theorem wb_lam (X : wa_X G y cc nL ret p s m args meth c) (hH : wa_H G w H) (hS : va_S (wa_A G) H0 H locs) (hO : ∀ o ok, s.vm.findClass "java/lang/Object" = some o → s.vm.classes[o]? = some ok → ok.instanceTypes.size = 0) {sh : Lambda.Shape} {index num : Nat} {D : ClassFile} {laid : Array Field × Array FieldType × Array FieldType} (hq : (y, pc, index, sh, num) ∈ wb_sites) (hD : sh.file y.cls = some D) (hl : layoutFields D 0 = some laid) (hlt : laid.2.1 = sh.captured.toArray) {vals : List Value} (hlen : vals.length = sh.captured.length)
    (hfit : ∀ (i : Nat) (v : Value) (t : FieldType), vals[i]? = some v → sh.captured[i]? = some t → narrow t v = v ∧ fits t v = true) (hst : st0 = vals.reverse ++ rest) (hsz : ls.size = nL) (hwords : (st0.map fun v => v.category).sum + 3072 ≤ R.locals) (hcells : cells + 1 ≤ R.cells) (hslots : slots + vals.length ≤ R.slots) (d : decode cc pc = .ok (.invokedynamic index, 5))
    (kk : ∀ (q : Nat) (w1 : wa_W) (H1 : Heap), w q = none → w1 = wup w q (.inr { cls := G.2.1 num, slots := vals.toArray, vm := .none }) → wa_H G w1 H1 → va_S (wa_A G) H0 H1 locs → W p l e R s m args below meth c H1 locs (cells + 1) (slots + vals.length) Q (F0 m (pc + 5) ls (.ref q :: rest))) : W p l e R s m args below meth c H locs cells slots Q (F0 m pc ls st0) := by
  intro T hT Xs
  obtain ⟨hLS, hLF⟩ := X.k.2.2.1 _ hq
  dsimp only at hLS hLF
  obtain ⟨m', k, cf, i0, p0, bsm, nt, name, desc, sig, h1, h2, h3, h4, h5, h6, h7, h8⟩ := hLS
  cases X.2.2.2.2.2.2.2.2.2.symm.trans h1
  obtain ⟨d0, dk, hd, hname, hmade, hcall⟩ := hLF
  obtain ⟨dk', kc, ok, tk, file, cfK, object, iface, toy, lay, methods, target, found, hd', hkc, hfile, hcf, hobj, -, hok, hlay, hms, ht, htk, hg, -, hrec, -, -, -, -, hpool, hmeth, hfields, htys, hres, -⟩ := Lambda.isMade_spec hmade
  cases hd.symm.trans hd'
  rw [hname, hD] at hcf
  cases hcf
  have hz := hO object ok hobj hok
  rw [hz, hl] at hlay
  cases hlay
  have hty : kc.instanceTypes = sh.captured.toArray := by
    rw [htys.1, hlt, Array.eq_empty_of_size_eq_zero hz, Array.empty_append]
  have hzip : ((kc.instanceTypes.toList.zip vals).map fun (t, v) => narrow t v) = vals := by
    rw [hty]
    exact wb_zip _ _ hlen fun i v t a b => (hfit i v t a b).1
  subst hst
  obtain ⟨X', go⟩ := Xs.lambdaMakes X.x (g := F0 m pc ls (vals.reverse ++ rest)) rfl (by rw [X.ml]; exact hsz) (by rw [X.b]; exact d) h2 h8 h3 h4 h5 h6 (hlen.trans h7.symm) rfl hkc (by rw [Xs.admits.platform]; show 2 * 0 + ((vals.reverse ++ rest).map fun v => v.category).sum + 3072 ≤ _; omega) hcells (by rw [hzip]; exact hslots)
    (fun i v hv => by
      rw [hzip] at hv
      have hv' : vals[i]? = some v := by simpa using hv
      have hi : i < sh.captured.length := by rw [← hlen]; exact (List.getElem?_eq_some_iff.mp hv').1
      have ht : sh.captured[i]? = some sh.captured[i] := List.getElem?_eq_getElem hi
      exact fresh_fits (U := s) (Vm.Alike.refl s.vm) hkc hrec.2.1 (slot := i) (ty := sh.captured[i]) (by rw [hty]; simpa using ht) (hfit i v _ hv' ht).2)
  simp only [hzip] at X' go
  subst hT
  obtain ⟨t, a1, b1⟩ := kk T.heap.size _ (T.heap.push { cls := G.2.1 num, slots := vals.toArray, vm := .none }) (hH.none (Nat.le_refl _)) rfl (hH.push (by show _ = _; simp) (by simp) (fun q hq => by simp [Array.getElem?_push, Nat.ne_of_lt hq])) ⟨Nat.le_trans hS.1 (by simp), fun x h1 h2 => by rw [← hS.2.1 x h1 h2]; simp [Array.getElem?_push, Nat.ne_of_lt (Nat.lt_of_lt_of_le h1 hS.1)], hS.2.2⟩ _ rfl (by simpa using X')
  exact ⟨t, go t a1, b1⟩
end WBL

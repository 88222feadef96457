/-! INTEGERS of the cache: they lie below the law's entry -/
theorem wb_In.kp {G : wa_G} {b : Nat} {n : Int} {ad : Nat → Nat} {w u : wa_W} (h : wb_In G b n) (_ : Kp ad w u) : wb_In G b n := h
theorem wb_In.ex {G : wa_G} {b : Nat} {n : Int} {w u : wa_W} (h : wb_In G b n) (_ : Ext w u) : wb_In G b n := h
theorem wb_In.fr {G : wa_G} {b : Nat} {n : Int} {m : Nat} {l : List Nat} {w u : wa_W} (h : wb_In G b n) (_ : Fr m l w u) : wb_In G b n := h
section WZ
variable {p : Program} {l : Launch} {e : Env} {R : Room} {s : State} {m : MethodId} {args : Array Value} {below : List Frame} {meth : Method} {c : Code} {H H0 : Heap} {locs : List Loc} {cells slots : Nat} {Q : State → Prop}
variable {cc : ByteArray} {pc : Nat} {ls : Array Slot} {rest st0 As : List Value} {G : wa_G} {y y2 : MethodName} {nL maxL n mc ms : Nat} {ret r2 : Option FieldType} {w : wa_W} {a : Nat} {b2 : ByteArray} {rm : Room} {Qc : Array Value → State → Outcome → State → Prop}
theorem wb_In.inH {n : Int} (h : wb_In G a n) (hH : wa_H G w H) : va_at G.1 wcl (a, .inr (18, [.int (zI n)])) H := va_at.kept (q := (a, .inr (18, [.int (zI n)]))) h (hH.2.1 a (va_at.lt (q := (a, .inr (18, [.int (zI n)]))) h))
theorem wa_getZ {n : Int} (X : wa_X G y cc nL ret p s m args meth c) (hH : wa_H G w H) {own ref C : String} {T : u_T} {N index : Nat} {ty : Nat → FieldType} (he : wb_In G a n) (hC : wa_C 18 C T N ty) (k : Nat) (hk : k < N) (hq : Cond.fieldLink own index ref (T k).2.1 (T k).2.2.1 ∈ lw_all) (ho : y.cls = own) (hsame : ∀ x, s.fieldFound? (T k).1 (T k).2.1 (T k).2.2.1 = some x → s.fieldFound? ref (T k).2.1 (T k).2.2.1 = some x) {v : Value} (hv : [Value.int (zI n)][k]? = some v) (d : decode cc pc = .ok (.getfield index, 3))
    (kk : W p l e R s m args below meth c H locs cells slots Q (F0 m (pc + 3) ls (v :: rest))) : W p l e R s m args below meth c H locs cells slots Q (F0 m pc ls (.ref a :: rest)) :=
  va_get X.x X.b X.t hC.2.1 (by rw [← ho]; exact X.own) X.k.1 (ws := [(a, .inr (18, [.int (zI n)]))]) (fun j q hj => by
    match j, hj with
    | 0, hj => cases hj; exact he.inH hH
    | j + 1, hj => simp at hj) 0 rfl hC.1 k hk (X.t _ hq) hsame hv d kk
theorem wa_castSZ {n : Int} (X : wa_X G y cc nL ret p s m args meth c) (hH : wa_H G w H) {own C : String} {T : u_T} {N index : Nat} (he : wb_In G a n) (hc : wcl[18]? = some (C, T, N)) (ho : y.cls = own) (hq : Cond.classLink own index C ∈ lw_all) (d : decode cc pc = .ok (.checkcast index, 3))
    (kk : W p l e R s m args below meth c H locs cells slots Q (F0 m (pc + 3) ls (.ref a :: rest))) : W p l e R s m args below meth c H locs cells slots Q (F0 m pc ls (.ref a :: rest)) := by
  obtain ⟨r', hr', cellV, g1, g2, g3, -⟩ := he.inH hH
  have hcls := (X.k.1.1 18 _ hc).2
  exact va_castS X.x X.b (by rw [← ho]; exact X.own) (X.t _ hq) hcls ⟨cellV, g1, by rw [g3]; rfl, by rw [g2]; exact hcls.1⟩ d kk
theorem wa_rVZ {own C2 : String} {index : Nat} {z : Int} (X : wa_X G y cc nL ret p s m args meth c) (hH : wa_H G w H) (hM : Met l y2 (ws_ y2 b2 maxL r2) rm (wa_P G w (.ref a :: As)) Qc mc ms (wa_A G)) (cw : CallW R s args own C2 index y2 b2 maxL r2 (ws_ y2 b2 maxL r2) rm mc ms n) (ho : y.cls = own) {N : Nat} {T : u_T} (he : wb_In G a z) (hc : wcl[18]? = some (C2, T, N)) (hn : As.length = n) (hsz : ls.size = nL) (hst : st0 = As.reverse ++ .ref a :: rest) (hW : (rest.map fun v => v.category).sum ≤ 8) (d : decode cc pc = .ok (.invokevirtual index, 3)) (hf : cells + mc ≤ R.cells ∧ slots + ms ≤ R.slots) :
    va_Run p l e R s m args below meth c H locs cells slots mc ms (F0 m pc ls st0) rest (Qc (Value.ref a :: As).toArray) (wa_A G) := by
  subst ho
  obtain ⟨q', h1, cell, g1, g2, g3, -⟩ := he.inH hH
  have hq : q' = (C2, T, N) := Option.some.inj (h1.symm.trans hc)
  subst hq
  exact va_runV X.fix hM cw ⟨wa_P.blind, ⟨cell, g1, by rw [g3]; rfl, by rw [g2]; exact (X.k.1.1 18 _ hc).2.1⟩, fun U hU hW => ⟨rfl, X.k.warm hW, by rw [hU]; exact hH⟩⟩ rfl hn hsz hst (lv_room hW) d hf
/-- the cache's place of a small number -/
theorem wa_cache (X : wa_X G y cc nL ret p s m args meth c) (hH : wa_H G w H) {t : Nat} {cell : Cell} (h6 : G.2.2[t]? = some cell) (h7 : s.isArrayOf cell (.object "java/lang/Intege\x72")) (h8 : cell.vm ≠ .unknown) (h9 : cell.slots.size = 256) (h10 : ∀ j : Nat, j < 256 → ∃ b : Nat, cell.slots[j]? = some (.ref b) ∧ wb_In G b ((j : Int) - 128)) {i : Int} (h0 : 0 ≤ i) (h1 : i < 256) (d : decode cc pc = .ok (.aaload, 1))
    (kk : ∀ b : Nat, wb_In G b (i - 128) → W p l e R s m args below meth c H locs cells slots Q (F0 m (pc + 1) ls (.ref b :: rest))) : W p l e R s m args below meth c H locs cells slots Q (F0 m pc ls (.int (zI i) :: .ref t :: rest)) := by
  have hc : (zI i).toNatClampNeg = i.toNat := zI_cl ⟨by omega, by omega⟩
  obtain ⟨b, hb, hI⟩ := h10 i.toNat (by omega)
  rw [Int.toNat_of_nonneg h0] at hI
  have ht : H[t]? = some cell := (hH.2.1 t (Array.getElem?_eq_some_iff.mp h6).1).trans h6
  exact W.aald (v := .ref b) (ty := .object "java/lang/Intege\x72") X.x X.b ht h7 rfl h8 (by rw [h9]; exact zI_in h0 (by omega) (by omega)) (by rw [hc]; exact hb) rfl rfl d (kk b hI)
end WZ

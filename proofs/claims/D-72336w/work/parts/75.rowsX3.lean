/-! ROWS for the other side: clone, arraycopy, arrays of arrays -/
section WX3
variable {p : Program} {l : Launch} {e : Env} {R : Room} {s : State} {m : MethodId} {args : Array Value} {below : List Frame} {meth : Method} {c : Code} {H H0 : Heap} {locs : List Loc} {cells slots : Nat} {Q : State → Prop}
variable {cc : ByteArray} {pc : Nat} {ls : Array Slot} {rest st0 : List Value} {a : Nat} {G : wa_G} {y : MethodName} {nL : Nat} {ret : Option FieldType} {w : wa_W}
theorem wa_nmI (X : wa_X G y cc nL ret p s m args meth c) : s.vm.findClass "[I" = some (G.2.1 0) := (X.k.1.2 0 _ rfl).2
/-- the clone of an array of ints -/
theorem wa_clone (X : wa_X G y cc nL ret p s m args meth c) (hH : wa_H G w H) (hS : va_S (wa_A G) H0 H locs) {own : String} {index : Nat} {n : Nat} {f : Int → Int} (he : w a = some (eI G n f)) (ho : y.cls = own) (hq : Cond.methodLink own index ⟨"[I", "clone", "()Ljava/lang/Object;"⟩ ∈ lw_all) (hsz : ls.size = nL) (hframes : 1 ≤ R.frames) (hlocals : (rest.map fun v => v.category).sum + 14 ≤ R.locals) (hcells : cells + 1 ≤ R.cells) (hslots : slots + n ≤ R.slots) (d : decode cc pc = .ok (.invokevirtual index, 3))
    (kk : ∀ (q : Nat) (w1 : wa_W) (H1 : Heap), w q = none → w1 = wup w q (eI G n f) → wa_H G w1 H1 → va_S (wa_A G) H0 H1 locs → W p l e R s m args below meth c H1 locs (cells + 1) (slots + n) Q (F0 m (pc + 3) ls (.ref q :: rest))) : W p l e R s m args below meth c H locs cells slots Q (F0 m pc ls (.ref a :: rest)) := by
  have hown : s.vm.findClass own = some m.cls := by rw [← ho]; exact X.own
  obtain ⟨hlo, hat⟩ := hH.2.2 a _ he
  generalize hx : (n, (Sum.inl fun j : Nat => zI (f j) : _)) = x at *
  have hat' : H[a]? = some (vp_cell (G.2.1 0) x) := by rw [← hx]; exact hat
  have hsz0 : (vp_cell (G.2.1 0) x).slots.size = n := by rw [← hx]; exact arrV_size _ _ _
  have hvm0 : (vp_cell (G.2.1 0) x).vm = .none := by rw [← hx]; rfl
  have hcl0 : (vp_cell (G.2.1 0) x).cls = G.2.1 0 := by rw [← hx]; rfl
  have hcellE : ({ cls := (vp_cell (G.2.1 0) x).cls, slots := (vp_cell (G.2.1 0) x).slots } : Cell) = vp_cell (G.2.1 0) x := by rw [← hx]; rfl
  have hfit : ∀ (i : Nat) (v : Value), (vp_cell (G.2.1 0) x).slots[i]? = some v → fits .int v = true := by
    intro i v hv
    rw [← hx] at hv
    by_cases hi : i < n
    · have h2 : (arrV (G.2.1 0) n (fun j => Value.int (zI (f j)))).slots[i]? = some v := hv
      rw [arrV_read _ _ hi] at h2
      cases h2; rfl
    · have h2 : (arrV (G.2.1 0) n (fun j => Value.int (zI (f j)))).slots[i]? = some v := hv
      have h3 := (Array.getElem?_eq_some_iff.mp h2).1
      rw [arrV_size] at h3
      exact absurd h3 hi
  have hK : ArrOfT s (G.2.1 0) .int := (X.k.1.2 0 _ rfl).1
  obtain ⟨c0, t0', f1, f2, f3⟩ := Cond.castable_spec (va_Nw.use (A := args) rfl (X.nw q519 rfl))
  cases (wa_nmI X).symm.trans f1
  intro T hT XS
  have hcellT : T.heap[a]? = some (vp_cell (G.2.1 0) x) := by rw [hT]; exact hat'
  obtain ⟨-, kA, hkA, comp, hkind⟩ := State.isArrayOf_alike XS.warmed.alike (hK 0 (fun _ => .null))
  obtain ⟨-, kS, hkS, compS, hkindS⟩ := hK 0 (fun _ => .null)
  obtain ⟨vm', X', st⟩ := XS.cloneArray X.x hown (X.t _ hq) (X.t _ q515) (X.t _ q516) (X.t _ q517) (X.t _ q518) (a := a) (cell := vp_cell (G.2.1 0) x) hcellT (fun k h => by rw [hvm0] at h; cases h) (by rw [hvm0]; exact fun h => by cases h) (by rw [hcl0]; exact wa_nmI X) f2 (by rw [hcl0]; exact f3)
    (fun i v hv => by
      rw [hcl0]
      have hk' : T.vm.classes[G.2.1 0]? = some kA := hkA
      simpa [State.fitsSlot, State.slotType?, hk', hkind] using hfit i v hv)
    (g := F0 m pc ls (.ref a :: rest)) rfl (hsz.trans X.ml.symm) rfl (by rw [X.b]; exact d) hframes (by show 2 * 0 + _ + 14 ≤ _; omega) hcells (by rw [hsz0]; exact hslots) (hloader := by rw [hcl0]; exact Vm.clonesLoader_of_array hkS hkindS)
  rw [hcellE, hsz0] at X'
  generalize hH1 : H.push (vp_cell (G.2.1 0) x) = H1
  have z1 : H1.size = H.size + 1 := by rw [← hH1, Array.size_push]
  have e1 : H1[H.size]? = some (vp_cell (G.2.1 0) x) := by rw [← hH1, Array.getElem?_push_size]
  have o1 : ∀ q : Nat, q < H.size → H1[q]? = H[q]? := fun q hq => by rw [← hH1, Array.getElem?_push, if_neg (Nat.ne_of_lt hq)]
  obtain ⟨t, b1, b2⟩ := kk H.size _ H1 (hH.none (Nat.le_refl _)) rfl (hH.push (by show H1[H.size]? = some (vp_cell _ _); rw [e1, ← hx]) z1 o1) ⟨Nat.le_trans hS.1 (by omega), fun x h1 h2 => (o1 x (Nat.lt_of_lt_of_le h1 hS.1)).trans (hS.2.1 x h1 h2), hS.2.2⟩
    ((T.setVm vm').pushCell (vp_cell (G.2.1 0) x)) (by rw [← hH1, ← hT]; rfl) X'
  refine ⟨t, st t ?_, b2⟩
  rw [hcellE, hT]
  exact b1
theorem wa_castI (X : wa_X G y cc nL ret p s m args meth c) (hH : wa_H G w H) {own : String} {index : Nat} {n : Nat} {f : Int → Int} (he : w a = some (eI G n f)) (ho : y.cls = own) (hq : Cond.classLink own index "[I" ∈ lw_all) (d : decode cc pc = .ok (.checkcast index, 3))
    (kk : W p l e R s m args below meth c H locs cells slots Q (F0 m (pc + 3) ls (.ref a :: rest))) : W p l e R s m args below meth c H locs cells slots Q (F0 m pc ls (.ref a :: rest)) :=
  va_castA X.x X.b (by rw [← ho]; exact X.own) (X.t _ hq) (D := G.1) (cl := wcl) (ws := [(a, .inl (G.2.1 0, n, .inl fun j => zI (f j)))]) (fun j q hj => by
    match j, hj with
    | 0, hj => cases hj; exact (hH.2.2 a _ he).2
    | j + 1, hj => simp at hj) 0 rfl (wa_nmI X) d kk
/-- n places of f from sp on, laid into g from dp on -/
def cpR (f g : Int → Option Nat) (sp dp n : Int) : Int → Option Nat := fun k => if dp ≤ k ∧ k < dp + n then f (sp + (k - dp)) else g k
theorem wa_copyq (X : wa_X G y cc nL ret p s m args meth c) (hH : wa_H G w H) (hS : va_S (wa_A G) H0 H locs) {own : String} {index k a0 n0 n1 : Nat} {f g : Int → Option Nat} {E : String} (ha0 : w a0 = some (eR G k n0 f)) (ha1 : w a = some (eR G k n1 g)) (ht : (wtys G.2.1)[k]? = some (G.2.1 k, .object E)) (ho : y.cls = own) (hq : Cond.methodLink own index arraycopyName ∈ lw_all)
    {sp dp n : Int} (h1 : 0 ≤ sp) (h2 : 0 ≤ dp) (h3 : 0 ≤ n) (h4 : sp + n ≤ n0) (h5 : dp + n ≤ n1) (hb : sp < 1000 ∧ dp < 1000 ∧ n < 1000) (hel : ∀ i, sp ≤ i → i < sp + n → ∀ z : Nat, f i = some z → va_Any E s H z) (hsz : ls.size = nL)
    (hframes : 1 ≤ R.frames) (hlocals : (rest.map fun v => v.category).sum + (nativeFrameWords "java/lang/System" "arraycopy" 5 + 11) ≤ R.locals) (d : decode cc pc = .ok (.invokestatic index, 3))
    (kk : ∀ (w1 : wa_W) (H1 : Heap) (locs1 : List Loc), w1 = wup w a (eR G k n1 (cpR f g sp dp n)) → wa_H G w1 H1 → va_S (wa_A G) H0 H1 locs1 → W p l e R s m args below meth c H1 locs1 cells slots Q (F0 m (pc + 3) ls rest)) : W p l e R s m args below meth c H locs cells slots Q (F0 m pc ls (.int (zI n) :: .int (zI dp) :: .ref a :: .int (zI sp) :: .ref a0 :: rest)) := by
  obtain ⟨hlo, hat⟩ := hH.2.2 a _ ha1
  obtain ⟨-, hat0⟩ := hH.2.2 a0 _ ha0
  have rs : rI sp := ⟨by omega, by omega⟩
  have rd : rI dp := ⟨by omega, by omega⟩
  have rn : rI n := ⟨by omega, by omega⟩
  have cs : (zI sp).toNatClampNeg = sp.toNat := zI_cl rs
  have cd : (zI dp).toNatClampNeg = dp.toNat := zI_cl rd
  have cn : (zI n).toNatClampNeg = n.toNat := zI_cl rn
  have ts : (zI sp).toInt = sp := zI_toInt rs.1 rs.2
  have td : (zI dp).toInt = dp := zI_toInt rd.1 rd.2
  have tn : (zI n).toInt = n := zI_toInt rn.1 rn.2
  intro T hT XS
  have hc0 : H[a0]? = some (vp_cell (G.2.1 k) (n0, .inr (.inr (.inr (.inr fun j : Nat => f j))))) := hat0
  have hc1 : H[a]? = some (vp_cell (G.2.1 k) (n1, .inr (.inr (.inr (.inr fun j : Nat => g j))))) := hat
  obtain ⟨-, k0, hk0, cm0, hkk0⟩ := (X.k.1.2 k _ ht).1 n0 (fun j => va_rf (f j))
  obtain ⟨-, k1, hk1, cm1, hkk1⟩ := (X.k.1.2 k _ ht).1 n1 (fun j => va_rf (g j))
  obtain ⟨vm', X', step⟩ := XS.arraycopy X.x (by rw [← ho]; exact X.own) (X.t _ hq) (X.t _ q477) (X.t _ q476) (X.t _ q125) (src := a0) (dst := a) (cs := vp_cell (G.2.1 k) (n0, .inr (.inr (.inr (.inr fun j : Nat => f j))))) (cd := vp_cell (G.2.1 k) (n1, .inr (.inr (.inr (.inr fun j : Nat => g j))))) (srcPos := zI sp) (destPos := zI dp) (n := zI n) (by rw [hT]; exact hc0) (by rw [hT]; exact hc1)
    (fun _ h => by cases h) (fun _ h => by cases h) (fun h => by cases h) (fun h => by cases h) hk0 hk1 hkk0 hkk1 rfl (fun q => absurd ((zI_lt0 rs).mp q) (show ¬ sp < 0 by omega)) (fun q => absurd ((zI_lt0 rd).mp q) (show ¬ dp < 0 by omega)) (fun q => absurd ((zI_lt0 rn).mp q) (show ¬ n < 0 by omega))
    (by rw [ts, tn]; show ¬ _ > ((arrV (G.2.1 k) n0 (fun j : Nat => va_rf (f j))).slots.size : Int); rw [arrV_size]; omega)
    (by rw [td, tn]; show ¬ _ > ((arrV (G.2.1 k) n1 (fun j : Nat => va_rf (g j))).slots.size : Int); rw [arrV_size]; omega)
    (fun vm₁ hal i hi => by
      rw [cn] at hi
      rw [cs]
      have e : (vp_cell (G.2.1 k) (n0, .inr (.inr (.inr (.inr fun j : Nat => f j))))).slots.getD (sp.toNat + i) .null = va_rf (f ((sp.toNat + i : Nat) : Int)) := by
        show (arrV (G.2.1 k) n0 (fun j : Nat => va_rf (f j))).slots.getD _ _ = _
        rw [Array.getD_eq_getD_getElem?, arrV_read _ _ (show sp.toNat + i < n0 by omega)]
        rfl
      rw [e]
      cases hy : f ((sp.toNat + i : Nat) : Int) with
      | none => exact ⟨rfl, trivial⟩
      | some z =>
        obtain ⟨cellV, g1, g2, ⟨kC, hkC⟩, g3⟩ := hel _ (by omega) (by omega) z hy
        obtain ⟨kA, comp, r1, r2, r3, -⟩ := (X.k.1.2 k _ ht).2
        cases hk1.symm.trans r1
        cases hkk1.symm.trans r2
        obtain ⟨kE, hkE, -⟩ := Vm.findClass_spec r3
        obtain ⟨kC', hkC', -⟩ := hal.2.2 _ _ hkC
        obtain ⟨kE', hkE', -⟩ := hal.2.2 _ _ hkE
        refine ⟨rfl, cellV, (show T.heap[z]? = some cellV by rw [hT]; exact g1), (fun q h => by rw [h] at g2; cases g2), ⟨kC', hkC'⟩, ?_, ?_⟩
        · exact ⟨kE', hkE'⟩
        · show vm₁.assignable _ _ = true
          rw [hal.assignable]
          exact g3 _ r3)
    (g := F0 m pc ls (.int (zI n) :: .int (zI dp) :: .ref a :: .int (zI sp) :: .ref a0 :: rest)) rfl (hsz.trans X.ml.symm) (rest := rest) rfl (by rw [X.b]; exact d) hframes (by show 2 * 0 + _ + _ ≤ _; omega)
  have e1 : copied (vp_cell (G.2.1 k) (n0, .inr (.inr (.inr (.inr fun j : Nat => f j))))) (vp_cell (G.2.1 k) (n1, .inr (.inr (.inr (.inr fun j : Nat => g j))))) (zI sp) (zI dp) (zI n) = vp_cell (G.2.1 k) (n1, .inr (.inr (.inr (.inr fun j : Nat => cpR f g sp dp n j)))) := by
    have h9 : copied (vp_cell (G.2.1 k) (n0, .inr (.inr (.inr (.inr fun j : Nat => f j))))) (vp_cell (G.2.1 k) (n1, .inr (.inr (.inr (.inr fun j : Nat => g j))))) (zI sp) (zI dp) (zI n) = vp_cell (G.2.1 k) (n1, .inr (.inr (.inr (.inr (va_cpy (fun j : Nat => f j) (fun j : Nat => g j) (zI sp).toNatClampNeg (zI dp).toNatClampNeg (zI n).toNatClampNeg))))) := by
      rw [vp_cell_q, vp_cell_q, vp_cell_q]
      exact va_copied (fun z => va_rf z) (G.2.1 k) (G.2.1 k) (fun j : Nat => f j) (fun j : Nat => g j) (by rw [cs, cn]; omega)
    rw [h9, cs, cd, cn]
    congr 6
    funext j
    unfold va_cpy cpR
    by_cases hj : dp.toNat ≤ j ∧ j < dp.toNat + n.toNat
    · rw [if_pos hj, if_pos (by omega)]
      have e9 : ((sp.toNat + (j - dp.toNat) : Nat) : Int) = sp + ((j : Int) - dp) := by omega
      show f ((sp.toNat + (j - dp.toNat) : Nat) : Int) = _
      rw [e9]
    · rw [if_neg hj, if_neg (by omega)]
  rw [e1] at X' step
  have hl : a < H.size := (Array.getElem?_eq_some_iff.mp hc1).1
  generalize hcell : vp_cell (G.2.1 k) (n1, .inr (.inr (.inr (.inr fun j : Nat => cpR f g sp dp n j)))) = cellN at *
  have hheap : ((T.setVm vm').setCell a cellN).heap = H.setIfInBounds a cellN := by rw [← hT]; rfl
  have oq : ∀ q : Nat, q ≠ a → (H.setIfInBounds a cellN)[q]? = H[q]? := fun q hq => by simp [Array.getElem?_setIfInBounds, Ne.symm hq]
  obtain ⟨t, a1, b1⟩ := kk _ _ _ rfl (hH.upd ha1 (by show (H.setIfInBounds a cellN)[a]? = some (vp_cell _ _); rw [hcell]; simp [Array.getElem?_setIfInBounds, hl]) (by simp) oq) ⟨by simp; exact hS.1, fun q g1 g2 => by
      rw [oq q (fun e => g2 (by rw [e]; exact hlo))]
      exact hS.2.1 q g1 g2, fun q hq => by
      rcases List.mem_append.mp hq with h | h
      · exact hS.2.2 q h
      · obtain ⟨z, -, hz⟩ := List.mem_map.mp h
        rw [← hz]
        exact hlo⟩ _ hheap X'
  exact ⟨t, step t a1, b1⟩
end WX3

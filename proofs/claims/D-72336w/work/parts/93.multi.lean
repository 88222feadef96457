/-! AN ARRAY OF ROWS made at once; rows of whole numbers in a world -/
section MULTI
variable {p : Program} {l : Launch} {e : Env} {R : Room} {s : State} {m : MethodId} {args : Array Value} {below : List Frame} {meth : Method} {c : Code} {H H0 : Heap} {locs : List Loc} {cells slots : Nat} {Q : State → Prop}
variable {cc : ByteArray} {pc : Nat} {ls : Array Slot} {rest : List Value} {G : wa_G} {y : MethodName} {nL : Nat} {ret : Option FieldType} {w : wa_W}
theorem wb_outer (cA : ClassId) (N h0 : Nat) : Jvm.Free.Multi.outerC cA N h0 N = arrV cA N (fun j => .ref (h0 + 1 + j)) := by
  obtain ⟨o1, o2, o3⟩ := Jvm.Free.Multi.outerC_facts cA N h0 N
  have hs : (Jvm.Free.Multi.outerC cA N h0 N).slots = (arrV cA N (fun j => .ref (h0 + 1 + j))).slots := by
    apply Array.ext_getElem?
    intro i
    by_cases hi : i < N
    · rw [Jvm.Free.Multi.outerC_slot _ _ _ _ _ hi, if_pos hi, arrV_read _ _ hi]
    · rw [Array.getElem?_eq_none (by omega), Array.getElem?_eq_none (by rw [arrV_size]; omega)]
  have key : ∀ i, ∃ sl, Jvm.Free.Multi.outerC cA N h0 i = ({ cls := cA, slots := sl, vm := .none } : Cell) := by
    intro i
    induction i with
    | zero => exact ⟨_, rfl⟩
    | succ i ih =>
      obtain ⟨sl, e⟩ := ih
      refine ⟨(({ cls := cA, slots := sl, vm := .none } : Cell).setSlot i (.ref (h0 + 1 + i))).slots, ?_⟩
      show (Jvm.Free.Multi.outerC cA N h0 i).setSlot i _ = _
      rw [e]; rfl
  obtain ⟨sl, e⟩ := key N
  rw [e] at hs ⊢
  have hs2 : sl = (arrV cA N (fun j => .ref (h0 + 1 + j))).slots := hs
  rw [hs2]; rfl
theorem wb_manew (hexec : p.tables.exec = Jvm.exec) (hb : c.code = cc) {own : String} {index : Nat} (hown : s.vm.findClass own = some m.cls) (hclink : (Cond.classLink own index ("[" ++ (FieldType.array .int).toString)).before args s = true) (hover : (Cond.arrayOver (.array .int)).before args s = true) (harr : (Cond.arrayClass .int).before args s = true)
    {g : JFrame} (hg : g.method = m) (hdg : decode cc g.pc = .ok (.multianewarray index 2, 4)) {n k : Int32} {rest : List Value} (hstack : g.stack = .int k :: .int n :: rest) (hn : ¬ n < 0) (hk : ¬ k < 0) {N M : Nat} (eN : n.toNatClampNeg = N) (eM : k.toNatClampNeg = M) (hlt : N < 100 ∧ M < 100) (hcells : cells + (1 + N) ≤ R.cells) (hslots : slots + (N + N * M) ≤ R.slots)
    (kk : ∀ (H1 : Heap) (cA comp : ClassId), s.vm.findClass ("[" ++ (FieldType.array .int).toString) = some cA → s.vm.findClass (FieldType.array .int).toString = some comp → H1.size = H.size + 1 + N → H1[H.size]? = some (arrV cA N fun j => .ref (H.size + 1 + j)) → (∀ j, j < N → H1[H.size + 1 + j]? = some (arrV comp M fun _ => .int 0)) → (∀ a : Nat, a < H.size → H1[a]? = H[a]?) →
      W p l e R s m args below meth c H1 locs (cells + 1 + N) (slots + N + N * M) Q { g with pc := g.pc + 4, stack := .ref H.size :: rest }) : W p l e R s m args below meth c H locs cells slots Q g := by
  intro T hT X
  subst hT; subst hb
  subst eN; subst eM
  obtain ⟨vm₁, cA, comp, hW, hfA, hfC, -, -, X1, step⟩ := X.multianewarray2F hexec hown hclink hover harr hg hdg hstack hn hk (by omega) (by show _ * 4 ≤ _; omega) (by omega) rfl rfl hcells hslots
  obtain ⟨f1, f2, f3, f4⟩ := Jvm.Free.Multi.fill_facts (T.setVm vm₁) cA comp n.toNatClampNeg k.toNatClampNeg (defaultValue .int) n.toNatClampNeg
  obtain ⟨t, a1, b1⟩ := kk _ cA comp hfA hfC f1 (by rw [← wb_outer]; exact f2) (fun j hj => by rw [← arrV_new]; exact Jvm.Free.Multi.fill_inner (T.setVm vm₁) cA comp _ _ _ _ j hj) (fun a ha => Jvm.Free.Multi.fill_old (T.setVm vm₁) cA comp _ _ _ ha _) _ rfl X1
  exact ⟨t, step t a1, b1⟩
theorem wa_multi (X : wa_X G y cc nL ret p s m args meth c) (hH : wa_H G w H) (hS : va_S (wa_A G) H0 H locs) {own : String} {index : Nat} (ho : y.cls = own) (hq : Cond.classLink own index "[[I" ∈ lw_all) (hqa : Cond.arrayClass .int ∈ lw_all) {n k : Int} {N M : Nat} (hN : n = N) (hM : k = M) (hlt : N < 100 ∧ M < 100) (hcells : cells + (1 + N) ≤ R.cells) (hslots : slots + (N + N * M) ≤ R.slots) (d : decode cc pc = .ok (.multianewarray index 2, 4))
    (kk : ∀ (q : Nat) (w1 : wa_W) (H1 : Heap), w q = none → (∀ j, j < N → w (q + 1 + j) = none) → Ext w w1 → w1 q = some (eR G 7 N (fun i => some (q + 1 + i.toNat))) → (∀ j, j < N → w1 (q + 1 + j) = some (eI G M (fun _ => 0))) → wa_H G w1 H1 → va_S (wa_A G) H0 H1 locs → W p l e R s m args below meth c H1 locs (cells + 1 + N) (slots + N + N * M) Q (F0 m (pc + 4) ls (.ref q :: rest))) :
    W p l e R s m args below meth c H locs cells slots Q (F0 m pc ls (.int (zI k) :: .int (zI n) :: rest)) := by
  have r1 : rI n := ⟨by omega, by omega⟩
  have r2 : rI k := ⟨by omega, by omega⟩
  refine wb_manew X.x X.b (by rw [← ho]; exact X.own) (X.t _ hq) (X.k.2.2.2.2.2.2.2.2.2) (X.t _ hqa) rfl d rfl (fun h => absurd ((zI_lt0 r1).mp h) (by omega)) (fun h => absurd ((zI_lt0 r2).mp h) (by omega)) (N := N) (M := M) (by rw [zI_cl r1]; omega) (by rw [zI_cl r2]; omega) hlt hcells hslots fun H1 cA comp f1 f2 z1 e1 e2 o1 => ?_
  have hcA : cA = G.2.1 7 := Option.some.inj (f1.symm.trans (X.k.1.2 7 _ rfl).2)
  have hcC : comp = G.2.1 0 := Option.some.inj (f2.symm.trans (X.k.1.2 0 _ rfl).2)
  subst hcA hcC
  have hn0 : w H.size = none := hH.none (Nat.le_refl _)
  have hnj : ∀ j, j < N → w (H.size + 1 + j) = none := fun j hj => hH.none (by omega)
  have hlo := hH.1
  have w0 : (fun a => if a = H.size then some (eR G 7 N (fun i => some (H.size + 1 + i.toNat))) else if H.size < a ∧ a < H.size + 1 + N then some (eI G M (fun _ => 0)) else w a : wa_W) H.size = some (eR G 7 N (fun i => some (H.size + 1 + i.toNat))) := if_pos rfl
  have wj : ∀ j, j < N → (fun a => if a = H.size then some (eR G 7 N (fun i => some (H.size + 1 + i.toNat))) else if H.size < a ∧ a < H.size + 1 + N then some (eI G M (fun _ => 0)) else w a : wa_W) (H.size + 1 + j) = some (eI G M (fun _ => 0)) := fun j hj => by
    show (if H.size + 1 + j = H.size then _ else _) = _
    rw [if_neg (by omega), if_pos (by omega)]
  have wo : ∀ a, a ≠ H.size → ¬ (H.size < a ∧ a < H.size + 1 + N) → (fun a => if a = H.size then some (eR G 7 N (fun i => some (H.size + 1 + i.toNat))) else if H.size < a ∧ a < H.size + 1 + N then some (eI G M (fun _ => 0)) else w a : wa_W) a = w a := fun a h1 h2 => by
    show (if a = H.size then _ else _) = _
    rw [if_neg h1, if_neg h2]
  generalize (fun a => if a = H.size then some (eR G 7 N (fun i => some (H.size + 1 + i.toNat))) else if H.size < a ∧ a < H.size + 1 + N then some (eI G M (fun _ => 0)) else w a : wa_W) = w1 at w0 wj wo
  refine kk H.size w1 H1 hn0 hnj (fun a x h => ?_) w0 wj ⟨by omega, fun q hl => (o1 q (by omega)).trans (hH.2.1 q hl), fun a x hx => ?_⟩ ⟨Nat.le_trans hS.1 (by omega), fun x h1 h2 => (o1 x (Nat.lt_of_lt_of_le h1 hS.1)).trans (hS.2.1 x h1 h2), hS.2.2⟩
  · have hlt := (hH.2.2 a x h).2.lt
    rw [wo a (by omega) (by omega)]; exact h
  · by_cases h1 : a = H.size
    · subst h1
      rw [w0] at hx
      cases hx
      refine ⟨hlo, ?_⟩
      show H1[H.size]? = some (vp_cell _ _)
      rw [vp_cell_q]
      exact e1
    · by_cases h2 : H.size < a ∧ a < H.size + 1 + N
      · obtain ⟨j, rfl⟩ : ∃ j, a = H.size + 1 + j := ⟨a - (H.size + 1), by omega⟩
        rw [wj j (by omega)] at hx
        cases hx
        exact ⟨by omega, e2 j (by omega)⟩
      · rw [wo a h1 h2] at hx
        have h3 := hH.2.2 a x hx
        exact ⟨h3.1, h3.2.kept (o1 a h3.2.lt)⟩
theorem wb_aastN0 {T : State} (X : Stand p l e R s m args below meth c T locs cells slots) (hexec : p.tables.exec = Jvm.exec) {a : Addr} {cell : Cell} {j : Int32} (hcell : T.heap[a]? = some cell) (harr : s.isArrayOf cell (.array .int)) (hknown : cell.vm ≠ .unknown)
    (hin : ¬ (j < 0 ∨ cell.slots.size ≤ j.toNatClampNeg))
    {g : JFrame} (hg : g.method = m) {rest : List Value} (hstack : g.stack = .null :: .int j :: .ref a :: rest) (hdg : decode c.code g.pc = .ok (.aastore, 1)) :
    Stand p l e R s m args below meth c (T.setCell a (cell.setSlot j.toNatClampNeg .null)) (locs ++ [⟨a, j.toNatClampNeg⟩]) cells slots ∧
      ∀ target, Steps p.tables e below ((T.setCell a (cell.setSlot j.toNatClampNeg .null)).setTop { g with pc := g.pc + 1, stack := rest }) target → Steps p.tables e below (T.setTop g) target := by
  have hT := State.isArrayOf_alike X.warmed.alike harr
  have hfit : T.fitsSlot cell.cls cell.vm j.toNatClampNeg .null = true := by
    obtain ⟨hobj, k, hk, comp, hkind⟩ := hT
    cases hvm : cell.vm <;> first | exact absurd hvm (hobj _) | simp [State.fitsSlot, State.slotType?, hk, hkind, fits]
  refine ⟨X.stored hcell _ _, fun target hrest => ?_⟩
  subst hg
  jvm_step X.here [hexec, hdg]
  refine aastore.wp_of_null (c := cell) (t := .array .int) X.here.top hstack hcell hT hin hknown (Nat.not_le.mp fun q => hin (Or.inr q)) hfit ?_
  intro acts
  rw [afterInstr_ok]
  exact hrest
theorem wb_WaastN (hexec : p.tables.exec = Jvm.exec) (hb : c.code = cc) {a : Addr} {cell : Cell} {j : Int32} (hcell : H[a]? = some cell) (harr : s.isArrayOf cell (.array .int)) (hknown : cell.vm ≠ .unknown) (hin : ¬ (j < 0 ∨ cell.slots.size ≤ j.toNatClampNeg))
    {g : JFrame} (hg : g.method = m) {rest : List Value} (hstack : g.stack = .null :: .int j :: .ref a :: rest) (hdg : decode cc g.pc = .ok (.aastore, 1))
    (kk : ∀ H' : Heap, H'[a]? = some (cell.setSlot j.toNatClampNeg .null) → H'.size = H.size → (∀ q, q ≠ a → H'[q]? = H[q]?) → W p l e R s m args below meth c H' (locs ++ [⟨a, j.toNatClampNeg⟩]) cells slots Q { g with pc := g.pc + 1, stack := rest }) :
    W p l e R s m args below meth c H locs cells slots Q g := by
  intro T hT X
  have hT' : T.heap[a]? = some cell := by rw [hT]; exact hcell
  obtain ⟨X', st⟩ := wb_aastN0 X hexec hT' harr hknown hin hg hstack (by rw [hb]; exact hdg)
  have hlt : a < T.heap.size := (Array.getElem?_eq_some_iff.mp hT').1
  obtain ⟨t', a1, b1⟩ := kk _ (heapAt_setCell_self _ hlt) (by rw [size_setCell, hT]) (fun q hq => by rw [heapAt_setCell_ne _ (Ne.symm hq), hT]) (T.setCell a (cell.setSlot j.toNatClampNeg .null)) rfl X'
  exact ⟨t', st t' a1, b1⟩
theorem wa_aastNI (X : wa_X G y cc nL ret p s m args meth c) (hH : wa_H G w H) (hS : va_S (wa_A G) H0 H locs) {n a : Nat} {f : Int → Option Nat} (he : w a = some (eR G 7 n f)) {i : Int} (h0 : 0 ≤ i) (h1 : i < n) (h2 : i < 2147483648) (d : decode cc pc = .ok (.aastore, 1))
    (kk : ∀ (w1 : wa_W) (H1 : Heap) (locs1 : List Loc), w1 = wup w a (eR G 7 n (fupR f i none)) → wa_H G w1 H1 → va_S (wa_A G) H0 H1 locs1 → W p l e R s m args below meth c H1 locs1 cells slots Q (F0 m (pc + 1) ls rest)) : W p l e R s m args below meth c H locs cells slots Q (F0 m pc ls (.null :: .int (zI i) :: .ref a :: rest)) := by
  have hc : (zI i).toNatClampNeg = i.toNat := zI_cl ⟨by omega, h2⟩
  obtain ⟨hlo, hat⟩ := hH.2.2 a _ he
  refine wb_WaastN X.x X.b hat ((X.k.1.2 7 _ rfl).1 n (fun j => va_rf (f j))) (fun h => by cases h) (by show ¬ (zI i < 0 ∨ (arrV _ _ _).slots.size ≤ _); rw [arrV_size]; exact zI_in h0 h1 h2) rfl rfl d fun H1 e1 z oq => ?_
  refine kk _ H1 _ rfl (hH.upd he ?_ z oq) (hS.put z oq hlo)
  show H1[a]? = some (vp_cell _ _)
  rw [e1, hc, vp_cell_q, vp_cell_q, arrV_store]
  congr 2
  exact wb_up f h0 none
theorem wa_aastI (X : wa_X G y cc nL ret p s m args meth c) (hH : wa_H G w H) (hS : va_S (wa_A G) H0 H locs) {n v N a : Nat} {f : Int → Option Nat} {h : Int → Int} (he : w a = some (eR G 7 n f)) (hv : w v = some (eI G N h)) {i : Int} (h0 : 0 ≤ i) (h1 : i < n) (h2 : i < 2147483648) (d : decode cc pc = .ok (.aastore, 1))
    (kk : ∀ (w1 : wa_W) (H1 : Heap) (locs1 : List Loc), w1 = wup w a (eR G 7 n (fupR f i (some v))) → wa_H G w1 H1 → va_S (wa_A G) H0 H1 locs1 → W p l e R s m args below meth c H1 locs1 cells slots Q (F0 m (pc + 1) ls rest)) : W p l e R s m args below meth c H locs cells slots Q (F0 m pc ls (.ref v :: .int (zI i) :: .ref a :: rest)) := by
  have hc : (zI i).toNatClampNeg = i.toNat := zI_cl ⟨by omega, h2⟩
  obtain ⟨hlo, hat⟩ := hH.2.2 a _ he
  obtain ⟨-, hatv⟩ := hH.2.2 v _ hv
  obtain ⟨comp, cA, kA, f1, f2, f3, f4, f5⟩ := wb_AIs (args := args) (X.k.2.2.2.2.2.2.2.2.2)
  have hcA : cA = G.2.1 7 := Option.some.inj (f5.symm.trans (X.k.1.2 7 _ rfl).2)
  have hcC : comp = G.2.1 0 := Option.some.inj (f1.symm.trans (X.k.1.2 0 _ rfl).2)
  subst hcA hcC
  obtain ⟨kE, hkE, -⟩ := Vm.findClass_spec f1
  refine W.aast X.x X.b hat (fun q h => by cases h) (fun h => by cases h) f3 f4 rfl hkE ⟨fun q => absurd ((zI_lt0 (show rI i from ⟨by omega, h2⟩)).mp q) (show ¬ i < 0 by omega), by show _ < (arrV _ _ _).slots.size; rw [arrV_size, hc]; exact (show i.toNat < n by omega)⟩ hatv (fun q h => by cases h) hkE (by show Vm.assignable s.vm (G.2.1 0) (G.2.1 0) = true; unfold Vm.assignable Vm.assignableAux; rw [beq_self_eq_true, Bool.true_or]) rfl rfl d fun H1 e1 z oq => ?_
  refine kk _ H1 _ rfl (hH.upd he ?_ z oq) (hS.put z oq hlo)
  show H1[a]? = some (vp_cell _ _)
  rw [e1, hc, vp_cell_q, vp_cell_q, arrV_store]
  congr 2
  exact wb_up f h0 (some v)
end MULTI
/-- an array of five rows, born behind the world wb: its rows are F -/
def SQ (G : wa_G) (ad : Nat → Nat) (wb w : wa_W) (q : Nat) (F : Int → Int → Int) : Prop := (∀ i, i < 55 → q ≠ ad i) ∧ (∀ j, j < 5 → ∀ i, i < 55 → q + 1 + j ≠ ad i) ∧ (wb q = none ∧ ∀ j, j < 5 → wb (q + 1 + j) = none) ∧ w q = some (eR G 7 5 (fun i => some (q + 1 + i.toNat))) ∧ ∀ j : Nat, j < 5 → w (q + 1 + j) = some (eI G 8 (F j))
theorem SQ.kp {G : wa_G} {ad : Nat → Nat} {wb w u : wa_W} {q : Nat} {F : Int → Int → Int} (h : SQ G ad wb w q F) (k : Kp ad w u) : SQ G ad wb u q F := by
  obtain ⟨h1, h2, h3, h4, h5⟩ := h
  exact ⟨h1, h2, h3, k _ _ h1 h4, fun j hj => k _ _ (h2 j hj) (h5 j hj)⟩
theorem SQ.new {G : wa_G} {ad : Nat → Nat} {wb w : wa_W} {S : Nat → Int} {A : Nat → Int → Int} {B : Nat → Int → Option Nat} {P : Nat → Option Nat} {q : Nat} (hX : XW G ad wb S A B P) (h1 : wb q = none) (h2 : ∀ j, j < 5 → wb (q + 1 + j) = none) (h3 : w q = some (eR G 7 5 (fun i => some (q + 1 + i.toNat)))) (h4 : ∀ j, j < 5 → w (q + 1 + j) = some (eI G 8 (fun _ => 0))) : SQ G ad wb w q (fun _ _ => 0) :=
  ⟨hX.fresh h1, fun j hj => hX.fresh (h2 j hj), ⟨h1, h2⟩, h3, h4⟩
theorem SQ.out {G : wa_G} {ad : Nat → Nat} {wb w : wa_W} {q : Nat} {F : Int → Int → Int} (h : SQ G ad wb w q F) : Lc ad w q (eR G 7 5 (fun i => some (q + 1 + i.toNat))) := ⟨h.1, h.2.2.2.1⟩
theorem SQ.row {G : wa_G} {ad : Nat → Nat} {wb w : wa_W} {q : Nat} {F : Int → Int → Int} (h : SQ G ad wb w q F) {r : Int} (h0 : 0 ≤ r) (h1 : r < 5) : Lc ad w (q + 1 + r.toNat) (eI G 8 (F r)) := by
  have h5 := h.2.2.2.2 r.toNat (by omega)
  rw [show ((r.toNat : Nat) : Int) = r by omega] at h5
  exact ⟨h.2.1 r.toNat (by omega), h5⟩
theorem SQ.no {G : wa_G} {ad : Nat → Nat} {wb w : wa_W} {q : Nat} {F : Int → Int → Int} (h : SQ G ad wb w q F) {r : Int} (h0 : 0 ≤ r) (h1 : r < 5) : wb (q + 1 + r.toNat) = none := h.2.2.1.2 r.toNat (by omega)
/-- a row set anew -/
def rup (F : Int → Int → Int) (r c v : Int) : Int → Int → Int := fun i => if i = r then fup (F r) c v else F i
theorem SQ.put {G : wa_G} {ad : Nat → Nat} {wb w u : wa_W} {q : Nat} {F : Int → Int → Int} (h : SQ G ad wb w q F) {r c v : Int} (h0 : 0 ≤ r) (h1 : r < 5) (e : u = wup w (q + 1 + r.toNat) (eI G 8 (fup (F r) c v))) : SQ G ad wb u q (rup F r c v) := by
  obtain ⟨a1, a2, a3, a4, a5⟩ := h
  subst e
  refine ⟨a1, a2, a3, by rw [wup_n (by omega)]; exact a4, fun j hj => ?_⟩
  unfold rup
  by_cases z : (j : Int) = r
  · rw [if_pos z, show r.toNat = j by omega]; exact wup_s
  · rw [if_neg z, wup_n (by omega)]; exact a5 j hj
/-! BELOW: the least of three, the first of them -/
def bw1 (s : Int → Int) (le q : Int) : Int := if s q < s le ∨ s q = s le ∧ q < le then q else le
def bwN (s : Int → Int) (lo : Int) : Nat → Int → Int
  | 0, le => le
  | n + 1, le => bw1 s (bwN s lo n le) (lo + n)
def bwS (s : Int → Int) (c : Int) : Int := bwN s (max 0 (c - 1)) (min 7 (c + 1) + 1 - max 0 (c - 1)).toNat c
theorem bwN_in {s : Int → Int} {lo c : Int} (n : Nat) (h0 : 0 ≤ c ∧ c ≤ 7) (h1 : 0 ≤ lo ∧ lo + n ≤ 8) : 0 ≤ bwN s lo n c ∧ bwN s lo n c ≤ 7 := by
  induction n with
  | zero => exact h0
  | succ n ih =>
    have ih := ih (by omega)
    unfold bwN bw1
    split <;> omega
theorem bwS_in {s : Int → Int} {c : Int} (h0 : 0 ≤ c ∧ c ≤ 7) : 0 ≤ bwS s c ∧ bwS s c ≤ 7 := bwN_in _ h0 (by omega)
theorem bwN_s {s : Int → Int} {lo c q : Int} (h : lo ≤ q) : bwN s lo (q + 1 - lo).toNat c = bw1 s (bwN s lo (q - lo).toNat c) q := by
  rw [show (q + 1 - lo).toNat = (q - lo).toNat + 1 by omega, bwN, show lo + ((q - lo).toNat : Int) = q by omega]
theorem am0 (h : Int → Int) (lo : Int) : am h lo 0 = lo := rfl
theorem am1 (h : Int → Int) (lo : Int) : am h lo 1 = if h (lo + 1) < h lo then lo + 1 else lo := by
  show (if h (lo + (0 : Nat) + 1) < h lo then lo + (0 : Nat) + 1 else lo) = _
  rw [show lo + ((0 : Nat) : Int) + 1 = lo + 1 by omega]
theorem am2 (h : Int → Int) (lo : Int) : am h lo 2 = if h (lo + 2) < h (am h lo 1) then lo + 2 else am h lo 1 := by
  show (if h (lo + (1 : Nat) + 1) < h (am h lo 1) then lo + (1 : Nat) + 1 else am h lo 1) = _
  rw [show lo + ((1 : Nat) : Int) + 1 = lo + 2 by omega]
theorem am_mn (h : Int → Int) (lo : Int) (n : Nat) : h (am h lo n) = mnI h lo n := by
  induction n with
  | zero => rfl
  | succ n ih =>
    unfold am mnI
    rw [← ih]
    split <;> omega
/-- a row of sums as it stands: far ahead of the first column -/
def rwS (f : Int) (h : Int → Int) : Int → Int := fun d => if d < f then 1000000 else h d
theorem bw3 {h : Int → Int} {f c : Int} (hf : 1 ≤ f ∧ f ≤ 7) (hc : f ≤ c ∧ c ≤ 7) (hb : ∀ d, f ≤ d → d ≤ 7 → 0 ≤ h d ∧ h d < 1000000) : bwS (rwS f h) c = am h (max f (c - 1)) (min 7 (c + 1) - max f (c - 1)).toNat := by
  have e0 : rwS f h c = h c := if_neg (by omega)
  have h0 := hb c hc.1 hc.2
  have hm : max 0 (c - 1) = c - 1 := by omega
  unfold bwS
  rw [hm]
  by_cases c7 : c = 7
  · have e3 : (min 7 (c + 1) + 1 - (c - 1)).toNat = 2 := by omega
    rw [e3]
    show bw1 _ (bw1 _ c (c - 1 + (0 : Nat))) (c - 1 + (1 : Nat)) = _
    rw [show c - 1 + ((0 : Nat) : Int) = c - 1 by omega, show c - 1 + ((1 : Nat) : Int) = c by omega]
    by_cases cf : c = f
    · have e1 : rwS f h (c - 1) = 1000000 := if_pos (by omega)
      rw [show (min 7 (c + 1) - max f (c - 1)).toNat = 0 by omega, am0]
      have q1 : bw1 (rwS f h) c (c - 1) = c := by unfold bw1; rw [if_neg (by rw [e1, e0]; omega)]
      rw [q1]; unfold bw1
      rw [if_neg (by omega)]; omega
    · have e1 : rwS f h (c - 1) = h (c - 1) := if_neg (by omega)
      rw [show (min 7 (c + 1) - max f (c - 1)).toNat = 1 by omega, show max f (c - 1) = c - 1 by omega, am1, show c - 1 + 1 = c by omega]
      by_cases z : h c < h (c - 1)
      · have q1 : bw1 (rwS f h) c (c - 1) = c := by unfold bw1; rw [if_neg (by rw [e1, e0]; omega)]
        rw [q1, if_pos z]; unfold bw1
        rw [if_neg (by omega)]
      · have q1 : bw1 (rwS f h) c (c - 1) = c - 1 := by unfold bw1; rw [if_pos (by rw [e1, e0]; omega)]
        rw [q1, if_neg z]; unfold bw1
        rw [if_neg (by rw [e1, e0]; omega)]
  · have e3 : (min 7 (c + 1) + 1 - (c - 1)).toNat = 3 := by omega
    have e2 : rwS f h (c + 1) = h (c + 1) := if_neg (by omega)
    rw [e3]
    show bw1 _ (bw1 _ (bw1 _ c (c - 1 + (0 : Nat))) (c - 1 + (1 : Nat))) (c - 1 + (2 : Nat)) = _
    rw [show c - 1 + ((0 : Nat) : Int) = c - 1 by omega, show c - 1 + ((1 : Nat) : Int) = c by omega, show c - 1 + ((2 : Nat) : Int) = c + 1 by omega]
    by_cases cf : c = f
    · have e1 : rwS f h (c - 1) = 1000000 := if_pos (by omega)
      have q1 : bw1 (rwS f h) c (c - 1) = c := by unfold bw1; rw [if_neg (by rw [e1, e0]; omega)]
      have q2 : bw1 (rwS f h) c c = c := by unfold bw1; rw [if_neg (by omega)]
      rw [q1, q2, show (min 7 (c + 1) - max f (c - 1)).toNat = 1 by omega, show max f (c - 1) = c by omega, am1]
      unfold bw1
      rw [e2, e0]
      by_cases z : h (c + 1) < h c
      · rw [if_pos z, if_pos (Or.inl z)]
      · rw [if_neg z, if_neg (by omega)]
    · have e1 : rwS f h (c - 1) = h (c - 1) := if_neg (by omega)
      rw [show (min 7 (c + 1) - max f (c - 1)).toNat = 2 by omega, show max f (c - 1) = c - 1 by omega, am2, am1, show c - 1 + 1 = c by omega, show c - 1 + 2 = c + 1 by omega]
      by_cases z : h c < h (c - 1)
      · have q1 : bw1 (rwS f h) c (c - 1) = c := by unfold bw1; rw [if_neg (by rw [e1, e0]; omega)]
        have q2 : bw1 (rwS f h) c c = c := by unfold bw1; rw [if_neg (by omega)]
        rw [q1, q2, if_pos z]; unfold bw1
        rw [e2, e0]
        by_cases z2 : h (c + 1) < h c
        · rw [if_pos z2, if_pos (Or.inl z2)]
        · rw [if_neg z2, if_neg (by omega)]
      · have q1 : bw1 (rwS f h) c (c - 1) = c - 1 := by unfold bw1; rw [if_pos (by rw [e1, e0]; omega)]
        have q2 : bw1 (rwS f h) (c - 1) c = c - 1 := by unfold bw1; rw [if_neg (by rw [e1, e0]; omega)]
        rw [q1, q2, if_neg z]; unfold bw1
        rw [e2, e1]
        by_cases z2 : h (c + 1) < h (c - 1)
        · rw [if_pos z2, if_pos (Or.inl z2)]
        · rw [if_neg z2, if_neg (by omega)]
/-- the sums below row r are laid -/
def SUM (g : Int → Int) (a r : Int) (F : Int → Int → Int) : Prop := ∀ i, r < i → i ≤ 3 → hrS g a i → ∀ d, 0 ≤ d → d ≤ 7 → F i d = rwS (fS g a) (lS g a i) d
theorem bwN_cg {s t : Int → Int} {lo c : Int} (n : Nat) (h : ∀ d, 0 ≤ d → d ≤ 7 → s d = t d) (h0 : 0 ≤ c ∧ c ≤ 7) (h1 : 0 ≤ lo ∧ lo + n ≤ 8) : bwN s lo n c = bwN t lo n c := by
  induction n with
  | zero => rfl
  | succ n ih =>
    have ih := ih (by omega)
    have h2 := bwN_in (s := t) (lo := lo) n h0 (by omega)
    unfold bwN bw1
    rw [ih, h _ h2.1 h2.2, h (lo + n) (by omega) (by omega)]
theorem bwS_cg {s t : Int → Int} {c : Int} (h : ∀ d, 0 ≤ d → d ≤ 7 → s d = t d) (h0 : 0 ≤ c ∧ c ≤ 7) : bwS s c = bwS t c := bwN_cg _ h h0 (by omega)
theorem SUM.below {g : Int → Int} {a r : Int} {F : Int → Int → Int} (h : SUM g a r F) (ho : okS g) (ha : 0 ≤ a ∧ a < g 3) (hfo : ¬ foS g a = -1) (hf : 1 ≤ fS g a ∧ fS g a ≤ 5) {i c : Int} (h0 : r < i ∧ i ≤ 3) (hr : hrS g a i) (hc : fS g a ≤ c ∧ c ≤ 7) : bwS (F i) c = am (lS g a i) (max (fS g a) (c - 1)) (min 7 (c + 1) - max (fS g a) (c - 1)).toNat := by
  rw [bwS_cg (h i h0.1 h0.2 hr) (by omega)]
  exact bw3 (by omega) hc fun d d0 d1 => by have := lS_in ho ha.1 ha.2 hfo hr d0 d1; omega
theorem SUM.val {g : Int → Int} {a r : Int} {F : Int → Int → Int} (h : SUM g a r F) (ho : okS g) (ha : 0 ≤ a ∧ a < g 3) (hfo : ¬ foS g a = -1) (hf : 1 ≤ fS g a ∧ fS g a ≤ 5) {i c : Int} (h0 : r < i ∧ i ≤ 3) (hr : hrS g a i) (hc : fS g a ≤ c ∧ c ≤ 7) : F i (bwS (F i) c) = mn3 (fS g a) (lS g a i) c := by
  have h1 := h.below ho ha hfo hf h0 hr hc
  have h2 := am_in (lS g a i) (max (fS g a) (c - 1)) (min 7 (c + 1) - max (fS g a) (c - 1)).toNat
  rw [h i h0.1 h0.2 hr _ (by omega) (by omega)]
  rw [h1]
  unfold mn3
  rw [← am_mn]
  exact if_neg (by omega)
/-- row r is laid up to column c -/
def SUC (g : Int → Int) (a r c : Int) (F : Int → Int → Int) : Prop := SUM g a r F ∧ (hrS g a r → ∀ d, 0 ≤ d → d < c → F r d = rwS (fS g a) (lS g a r) d)
theorem SUC.nil {g : Int → Int} {a r : Int} {F : Int → Int → Int} (h : SUM g a r F) : SUC g a r 0 F := ⟨h, fun _ d d0 d1 => by omega⟩
theorem SUC.all {g : Int → Int} {a r : Int} {F : Int → Int → Int} (h : SUC g a r 8 F) : SUM g a (r - 1) F := fun i h0 h1 hr d d0 d1 => by
  by_cases e : i = r
  · subst e; exact h.2 hr d d0 (by omega)
  · exact h.1 i (by omega) h1 hr d d0 d1
theorem SUC.put {g : Int → Int} {a r c v : Int} {F : Int → Int → Int} (h : SUC g a r c F) (hv : hrS g a r → v = rwS (fS g a) (lS g a r) c) : SUC g a r (c + 1) (rup F r c v) := by
  refine ⟨fun i h0 h1 hr d d0 d1 => ?_, fun hr d d0 d1 => ?_⟩
  · unfold rup; rw [if_neg (by omega)]; exact h.1 i h0 h1 hr d d0 d1
  · unfold rup; rw [if_pos rfl]
    by_cases e : d = c
    · subst e; rw [fup_s]; exact hv hr
    · rw [fup_n e]; exact h.2 hr d d0 (by omega)
/-- down the rows: the column at which the last row was left -/
def dwS (g : Int → Int) (a r t : Int) : Prop := (hrS g a r → t = pvS g a r) ∧ (t = -1 ∨ ∃ i, 0 ≤ i ∧ i < r ∧ hrS g a i) ∧ (t = -1 ∨ fS g a ≤ t ∧ t ≤ 7)
theorem dwS.nil {g : Int → Int} {a : Int} : dwS g a 0 (-1) := ⟨fun _ => rfl, Or.inl rfl, Or.inl rfl⟩
theorem dwS.skip {g : Int → Int} {a r t : Int} (h : dwS g a r t) (h0 : 0 ≤ r) (hr : ¬ hrS g a r) : dwS g a (r + 1) t := by
  refine ⟨fun q => ?_, h.2.1.elim Or.inl (fun ⟨i, i0, i1, i2⟩ => Or.inr ⟨i, i0, by omega, i2⟩), h.2.2⟩
  have hp : pvS g a (r + 1) = -1 := by
    unfold pvS
    rw [if_neg (by omega), show r + 1 - 1 = r by omega]
    exact (smS_hr h0).mpr hr
  rw [hp]
  rcases h.2.1 with z | ⟨i, i0, i1, i2⟩
  · exact z
  · exfalso; apply hr; omega
theorem dwS.step {g : Int → Int} {a r t : Int} (h0 : 0 ≤ r) (hr : hrS g a r) (ht : t = smS g a r) : dwS g a (r + 1) t := by
  subst ht
  refine ⟨fun _ => ?_, Or.inr ⟨r, h0, by omega, hr⟩, smS_in g a r⟩
  unfold pvS
  rw [if_neg (by omega), show r + 1 - 1 = r by omega]

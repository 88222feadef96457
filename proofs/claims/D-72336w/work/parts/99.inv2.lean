/-! THE OTHER SIDE's STATE: what calls need -/
section INV2
variable {G : wa_G} {ad : Nat → Nat} {w u : wa_W} {S S2 : Nat → Int} {A A2 : Nat → Int → Int} {B B2 : Nat → Int → Option Nat} {P P2 : Nat → Option Nat} {g g2 past past2 re re2 tx tx2 : Int → Int} {st st2 ck co tl tl2 qt : Int}
theorem XI.rv (h : XI G ad w S A B P g past re tx st ck co tl qt) (e : re2 = re) : XI G ad w S A B P g past re2 tx st ck co tl qt := e ▸ h
theorem XI.eq (h : XI G ad w S A B P g past re tx st ck co tl qt) (e0 : g2 = g) (e1 : past2 = past) (e2 : re2 = re) (e3 : st2 = st) : XI G ad w S A B P g2 past2 re2 tx st2 ck co tl qt := e0 ▸ e1 ▸ e2 ▸ e3 ▸ h
theorem XI.jn (h : XI G ad w S A B P g past re tx st ck co tl qt) (hF : (∀ j, ¬ ((4 ≤ j ∧ j ≤ 13) ∨ (40 ≤ j ∧ j < 56)) → S2 j = S j) ∧ (∀ j, j ≠ 3 → A2 j = A j) ∧ (∀ j, ¬ (1 ≤ j ∧ j ≤ 4) → B2 j = B j) ∧ ∀ j, 1 ≤ j → j < 20 → P2 j = P j) (hJ : JR G ad w S2 A2 B2 P2 g) (hN : NVX ad w P2) (e : S2 12 = 0 ∧ S2 4 = 0) : XI G ad w S2 A2 B2 P2 g past re tx st ck co tl qt := by
  obtain ⟨fS, fA, fB, fP⟩ := hF
  refine ⟨h.1, h.2.1.cg0 (fS _ (by omega)) (fS _ (by omega)) (fA _ (by omega)) (fB _ (by omega)) (fP _ (by omega) (by omega)), ⟨Or.inl e.2, fun _ => hJ⟩, h.2.2.2.cg (fun j q => ?_) (fun j q => fA j (by omega)) (fun j q => fB j (by omega)) (fun j q0 q1 => fP j (by omega) (by omega)) hN⟩
  by_cases z : j = 12
  · subst z; rw [e.1]; exact h.2.2.2.2.2.2.1.2.2.2.symm
  · exact fS j (by omega)
/-- the world's cell -/
theorem ST.wo {s : Nat} (h : ST G ad w S A B P s g) (hp : ¬ g 0 = 0) : ∃ (a : Nat) (f : Int → Int), P (10 + s) = some a ∧ Lc ad w a (eI G (6 * g 0).toNat f) ∧ ∀ r c, 0 ≤ r → r ≤ 5 → 0 ≤ c → c < g 0 → f (6 * c + r) = g (4 + 32 * r + c) := h.2.2.2.2.resolve_left hp
/-- votes, link: only the trees' key sets are new -/
theorem XI.nv (h : XI G ad w S A B P g past re tx st ck co tl qt) (e : ∀ j, j < 30 ∨ 36 ≤ j → P2 j = P j) (hN : NVX ad w P2) : XI G ad w S A B P2 g past re tx st ck co tl qt := h.cg (fun _ _ => rfl) (fun _ _ => rfl) (fun _ _ => rfl) (fun j q => e j (by omega)) hN
theorem XI.ms (h : XI G ad w S A B P g past re tx st ck co tl qt) {x y z : Int} : XI G ad w (sup (sup (sup S 9 x) 10 y) 11 z) A B P g past re tx st ck co tl qt := h.cg (fun j q => by rw [sup_n (by omega), sup_n (by omega), sup_n (by omega)]) (fun _ _ => rfl) (fun _ _ => rfl) (fun _ _ => rfl) h.2.2.2.2.1
theorem JR.ms (h : JR G ad w S A B P g) (hg : 0 ≤ g 3 ∧ g 3 ≤ 6) {x y z : Int} : JR G ad w (sup (sup (sup S 9 x) 10 y) 11 z) A B P g := h.cg hg (fun j q => by rw [sup_n (by omega), sup_n (by omega), sup_n (by omega)]) rfl (fun _ _ => rfl) (fun _ _ => rfl)
end INV2
theorem zI_by {v : Int} (h : 0 ≤ v ∧ v ≤ 127) : (zI v).toInt8.toInt32 = zI v := by
  obtain ⟨n, rfl⟩ : ∃ n : Nat, v = n := ⟨v.toNat, by omega⟩
  have key : ∀ n : Fin 128, (zI (n.val : Int)).toInt8.toInt32 = zI (n.val : Int) := by decide +kernel
  exact key ⟨n, by omega⟩
section BAST
variable {p : Program} {l : Launch} {e : Env} {R : Room} {s : State} {m : MethodId} {args : Array Value} {below : List Frame} {meth : Method} {c : Code} {H H0 : Heap} {locs : List Loc} {cells slots : Nat} {Q : State → Prop}
variable {cc : ByteArray} {pc : Nat} {ls : Array Slot} {rest : List Value} {G : wa_G} {y : MethodName} {nL : Nat} {ret : Option FieldType} {w : wa_W} {a : Nat}
theorem wa_bast (X : wa_X G y cc nL ret p s m args meth c) (hH : wa_H G w H) (hS : va_S (wa_A G) H0 H locs) {n : Nat} {f : Int → Int} (he : w a = some (eB G n f)) {i v : Int} (hv : 0 ≤ v ∧ v ≤ 127) (h0 : 0 ≤ i) (h1 : i < n) (h2 : i < 2147483648) (d : decode cc pc = .ok (.bastore, 1))
    (kk : ∀ (w1 : wa_W) (H1 : Heap) (locs1 : List Loc), w1 = wup w a (eB G n (fup f i v)) → wa_H G w1 H1 → va_S (wa_A G) H0 H1 locs1 → W p l e R s m args below meth c H1 locs1 cells slots Q (F0 m (pc + 1) ls rest)) : W p l e R s m args below meth c H locs cells slots Q (F0 m pc ls (.int (zI v) :: .int (zI i) :: .ref a :: rest)) := by
  have hc : (zI i).toNatClampNeg = i.toNat := zI_cl ⟨by omega, h2⟩
  obtain ⟨hlo, hat⟩ := hH.2.2 a _ he
  refine W.bast X.x X.b hat (wa_btyp X n (fun j => .int (zI (f j)))) (fun q => by cases q) (by show ¬ (zI i < 0 ∨ (arrV _ _ _).slots.size ≤ _); rw [arrV_size]; exact zI_in h0 h1 h2) rfl rfl d fun H1 e1 z oq => ?_
  refine kk _ H1 _ rfl (hH.upd he ?_ z oq) (hS.put z oq hlo)
  show H1[a]? = some (vp_cell _ _)
  rw [e1, narrow_byte, zI_by hv, vp_cell_i, vp_cell_i, arrV_store, hc]
  congr 2
  funext q
  have := congrFun (upd_fup f h0 v) q
  unfold updV
  unfold upd at this
  split <;> rename_i hq
  · rw [if_pos hq] at this; exact congrArg Value.int this
  · rw [if_neg hq] at this; exact congrArg Value.int this
end BAST

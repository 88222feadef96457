/-! TREEMAP: a new entry -/
set_option maxRecDepth 100000 in
theorem mJ5_addEntry_L {lL : Launch} {G : wa_G} {w : wa_W} {m : Nat} {l : List Nat} {K : Nat → Nat} {V : Nat → Nat} {L : Nat → Option Nat} {R : Nat → Option Nat} {P : Nat → Option Nat} {C : Nat → Int} {ro : Option Nat} {si : Int} {mo : Int} {nv : Option Nat} (hX : TN w m l K V L R P C ro si mo nv) {p : Nat} {k : Nat} {v : Nat} {a : List Nat} {b : List Nat}  (hp : p ∈ l) (hfree : L p = none) (ha : l = a ++ p :: b) (ht : Tr L R P ro none l) (hn : l.Nodup) (hC : ∀ n, n ∈ l → C n = 0 ∨ C n = 1) (hroot : ∀ r, ro = some r → C r = 1) : Met lL yJ5_addEntry (ws_ yJ5_addEntry cJ5_addEntry 6 (none : Option FieldType)) ({ frames := 2, cells := 1, slots := 6, locals := 44 } : Room) (wa_P G w [.ref m, .ref k, .ref v, .ref p, .int (zI 1)]) (wa_Qv G fun u => ∃ (e : Nat) (L2 : Nat → Option Nat) (R2 : Nat → Option Nat) (P2 : Nat → Option Nat) (C2 : Nat → Int) (ro2 : Option Nat), TN u m (a ++ e :: p :: b) (nup K e k) (nup V e v) L2 R2 P2 C2 ro2 (si + 1) (mo + 1) nv ∧ Fr m l w u ∧ (Tr L2 R2 P2 ro2 none (a ++ e :: p :: b)) ∧ (∀ r, ro2 = some r → C2 r = 1) ∧ (∀ n, n ∈ (a ++ e :: p :: b) → C2 n = 0 ∨ C2 n = 1) ∧ (w e = none)) 1 6 (wa_A G) := by
  refine wa_met (by decide) (by exact Nat.le_of_ble_eq_true rfl) ?_
  intro pP eE sS mM aA bB mT cC ls X hl hH
  have hS : va_S (wa_A G) sS.heap sS.heap [] := va_S.rf
  have hl : lv_has ls 6 [(0, .ref m), (1, .ref k), (2, .ref v), (3, .ref p), (4, .int (zI 1))] := hl
  have hK : Fr m l w w := Fr.rf
  have hX_0 := hX
  have hK_0 := hK
  refine wa_new X hH hS wcJ10 rfl q782 q783 q130 [.null, .null, .null, .null, .null, .int (zI 0)] (by decide) (Nat.le_of_ble_eq_true rfl) (Nat.le_of_ble_eq_true rfl) dJ5_addEntry_0 (fun q0 w0 H hn0 ew hH hS => ?_)
  have hk0 := Ext.new hn0 ew
  have hX := hX.ext hk0
  have hk := hk0.f (m := m) (l := l)
  have hK := hK.trans hk
  have hN0 := hk
  have n0 : Lt m l w0 q0 (eO 19 [.null, .null, .null, .null, .null, .int (zI 0)]) := Lt.new hX_0 hn0 (by rw [ew]; exact wup_s)
  clear ew hk0
  refine lv_dup X.x X.b dJ5_addEntry_3 rfl ?_
  refine lv_aload_n X.x X.b dJ5_addEntry_4 rfl (lv_at hl 1 rfl) ?_
  refine lv_aload_n X.x X.b dJ5_addEntry_5 rfl (lv_at hl 2 rfl) ?_
  refine lv_aload_n X.x X.b dJ5_addEntry_6 rfl (lv_at hl 3 rfl) ?_
  refine wa_cv hS (wa_rI (rest := [.ref q0]) X hH (mJ10_init  (show At w0 q0 (eO 19 [.null, .null, .null, .null, .null, .int (zI 0)]) from n0.2.2)  (p := some p) ) (cwI 3 X.t (lw_meth q786) rfl rfl rfl (X.t _ q130) (X.t _ q784) (X.t _ q785) rfl hdJ10_init.2 ⟨Nat.le_of_ble_eq_true rfl, Nat.le_of_ble_eq_true rfl⟩) rfl rfl hl.1 rfl (Nat.le_of_ble_eq_true rfl) dJ5_addEntry_7 ⟨Nat.le_of_ble_eq_true rfl, Nat.le_of_ble_eq_true rfl⟩) (fun w7 H locs hp hH hS => ?_)
  obtain ⟨hi, hO2⟩ := hp
  have hOq := hO2
  have hk := Fr.init hn0 hN0 hOq
  have hX := hX_0.init hn0 hX hOq
  have hK := hK_0.trans hk
  have hN0 := hk
  have n0 : Lt m l w7 q0 (eO 19 [.ref k, .ref v, va_rf none, va_rf none, va_rf (some p), .int (zI 1)]) := Lt.new hX_0 hn0 hi
  refine lv_astore (lv' := [(5, .ref q0), (0, .ref m), (1, .ref k), (2, .ref v), (3, .ref p), (4, .int (zI 1))]) X.x X.b dJ5_addEntry_10 hl (by decide) rfl (fun ls hl => ?_)
  refine lv_iload X.x X.b dJ5_addEntry_12 (lv_at hl 5 rfl) ?_
  refine wz_ifeq (tgt := 26) X.x X.b dJ5_addEntry_14 (by decide) (by decide) (fun h => absurd h (by decide)) (fun _ => ?_)
  refine lv_aload_n X.x X.b dJ5_addEntry_17 rfl (lv_at hl 4 rfl) ?_
  refine lv_aload X.x X.b dJ5_addEntry_18 (lv_at hl 0 rfl) ?_
  refine wa_put X hH hS (have h9 := (hX.nd hp); h9) wcJ10 2 (by decide) q793 rfl (fun _ h9 => h9) rfl rfl rfl (Nat.le_of_ble_eq_true rfl) dJ5_addEntry_20 (fun w20 H locs ew hH hS => ?_)
  have hk : Fr m l w7 w20 := Fr.nd hp ew
  have hX := hX.sL (x := some q0) hp ew
  have hN0 := hN0.trans hk
  have n0 := n0.fr hk
  have hK := hK.trans hk
  clear ew
  refine lv_goto (tgt := 32) X.x X.b dJ5_addEntry_23 (by decide) ?_
  have hf0 : q0 ≠ m ∧ q0 ∉ l := ⟨n0.1, n0.2.1⟩
  have hX := hX.add hf0 n0.2.2
  have hX := hX.mem (l2 := a ++ q0 :: p :: b) (by intro n hq; rw [ha]; simp at hq ⊢; rcases hq with h | h | h | h <;> simp [h])
  have hn2 : (a ++ q0 :: p :: b).Nodup := nd_ins (ha ▸ hn) (ha ▸ hf0.2)
  have hK0 := hK
  have hK : Fr m (a ++ q0 :: p :: b) w20 w20 := Fr.rf
  have ht2 : Tr (nup (nup L p (some q0)) q0 none) (nup R q0 none) (nup P q0 (some p)) ro none (a ++ q0 :: p :: b) := Tr.insL' hfree ⟨nup_s, nup_s, nup_s⟩ (ha ▸ ht) (ha ▸ hn) (fun j hj => by
    have jq : j ≠ q0 := fun z => hf0.2 (by rw [← z, ha]; exact hj)
    exact ⟨by rw [nup_n jq]; unfold nup; rfl, by rw [nup_n jq], by rw [nup_n jq]⟩)
  have hC2 : ∀ n, n ∈ a ++ q0 :: p :: b → nup C q0 1 n = 0 ∨ nup C q0 1 n = 1 := fun n hq => by
    by_cases z : n = q0
    · rw [z, nup_s]; exact Or.inr rfl
    · rw [nup_n z]; exact hC n (by rw [ha]; simp at hq ⊢; rcases hq with h | h | h | h <;> first | exact absurd h z | simp [h])
  have hr2 : ∀ r, ro = some r → nup C q0 1 r = 1 ∨ r = q0 := fun r z => Or.inl (b1 (hroot r z))
  refine lv_aload_n X.x X.b dJ5_addEntry_32 rfl (lv_at hl 1 rfl) ?_
  refine lv_aload X.x X.b dJ5_addEntry_33 (lv_at hl 0 rfl) ?_
  refine wa_cv hS (wa_rV (rest := []) X hH (mJ5_fixAfterInsertion hX   (by simp) ht2 hn2 hC2 hr2) (cwV 1 X.t (lw_V q901 q903 qs21 q118 q904) rfl rfl rfl hdJ5_fixAfterInsertion ⟨Nat.le_of_ble_eq_true rfl, Nat.le_of_ble_eq_true rfl⟩) rfl (have h9 := (hX.1); h9) rfl rfl hl.1 rfl (Nat.le_of_ble_eq_true rfl) dJ5_addEntry_35 ⟨Nat.le_of_ble_eq_true rfl, Nat.le_of_ble_eq_true rfl⟩) (fun w35 H locs hp hH hS => ?_)
  obtain ⟨L2_35, R2_35, P2_35, C2_35, ro2_35, hX, hk, hx35_0, hx35_1, hx35_2⟩ := hp
  have hK := hK.trans hk
  refine lv_aload_n X.x X.b dJ5_addEntry_38 rfl (lv_at hl 1 rfl) ?_
  refine lv_dup X.x X.b dJ5_addEntry_39 rfl ?_
  refine wa_get (v := .int (zI si)) X hH (have h9 := (hX.1); h9) wcJ5 4 (by decide) q238 rfl (fun _ h9 => h9) rfl dJ5_addEntry_40 ?_
  refine wz_iconst X.x X.b dJ5_addEntry_43 ?_
  refine wz_iadd X.x X.b dJ5_addEntry_44 ?_
  refine wa_put X hH hS (have h9 := (hX.1); h9) wcJ5 4 (by decide) q238 rfl (fun _ h9 => h9) rfl rfl rfl (Nat.le_of_ble_eq_true rfl) dJ5_addEntry_45 (fun w45 H locs ew hH hS => ?_)
  have hk : Fr m (a ++ q0 :: p :: b) w35 w45 := Fr.map ew
  have hX := hX.smap (ro2 := ro2_35) (si2 := si + 1) (mo2 := mo) (nv2 := nv) ew
  have hK := hK.trans hk
  clear ew
  refine lv_aload_n X.x X.b dJ5_addEntry_48 rfl (lv_at hl 1 rfl) ?_
  refine lv_dup X.x X.b dJ5_addEntry_49 rfl ?_
  refine wa_get (v := .int (zI mo)) X hH (have h9 := (hX.1); h9) wcJ5 5 (by decide) q239 rfl (fun _ h9 => h9) rfl dJ5_addEntry_50 ?_
  refine wz_iconst X.x X.b dJ5_addEntry_53 ?_
  refine wz_iadd X.x X.b dJ5_addEntry_54 ?_
  refine wa_put X hH hS (have h9 := (hX.1); h9) wcJ5 5 (by decide) q239 rfl (fun _ h9 => h9) rfl rfl rfl (Nat.le_of_ble_eq_true rfl) dJ5_addEntry_55 (fun w55 H locs ew hH hS => ?_)
  have hk : Fr m (a ++ q0 :: p :: b) w45 w55 := Fr.map ew
  have hX := hX.smap (ro2 := ro2_35) (si2 := si + 1) (mo2 := mo + 1) (nv2 := nv) ew
  have hK := hK.trans hk
  clear ew
  refine W.widen (k := 1) (n := 6) (by first | exact Nat.le_of_ble_eq_true rfl | omega) (by first | exact Nat.le_of_ble_eq_true rfl | omega) ?_
  exact wa_vret X hH hS dJ5_addEntry_58 ⟨_, _, _, _, _, _, hX, Fr.add (e := q0) hn0 hK0 (hK.sub (by intro n hq; rw [ha]; simp at hq ⊢; rcases hq with h | h | h | h <;> simp [h])), hx35_0, hx35_1, hx35_2, hn0⟩
set_option maxRecDepth 100000 in
theorem mJ5_addEntry_R {lL : Launch} {G : wa_G} {w : wa_W} {m : Nat} {l : List Nat} {K : Nat → Nat} {V : Nat → Nat} {L : Nat → Option Nat} {R : Nat → Option Nat} {P : Nat → Option Nat} {C : Nat → Int} {ro : Option Nat} {si : Int} {mo : Int} {nv : Option Nat} (hX : TN w m l K V L R P C ro si mo nv) {p : Nat} {k : Nat} {v : Nat} {a : List Nat} {b : List Nat}  (hp : p ∈ l) (hfree : R p = none) (ha : l = a ++ p :: b) (ht : Tr L R P ro none l) (hn : l.Nodup) (hC : ∀ n, n ∈ l → C n = 0 ∨ C n = 1) (hroot : ∀ r, ro = some r → C r = 1) : Met lL yJ5_addEntry (ws_ yJ5_addEntry cJ5_addEntry 6 (none : Option FieldType)) ({ frames := 2, cells := 1, slots := 6, locals := 44 } : Room) (wa_P G w [.ref m, .ref k, .ref v, .ref p, .int (zI 0)]) (wa_Qv G fun u => ∃ (e : Nat) (L2 : Nat → Option Nat) (R2 : Nat → Option Nat) (P2 : Nat → Option Nat) (C2 : Nat → Int) (ro2 : Option Nat), TN u m (a ++ p :: e :: b) (nup K e k) (nup V e v) L2 R2 P2 C2 ro2 (si + 1) (mo + 1) nv ∧ Fr m l w u ∧ (Tr L2 R2 P2 ro2 none (a ++ p :: e :: b)) ∧ (∀ r, ro2 = some r → C2 r = 1) ∧ (∀ n, n ∈ (a ++ p :: e :: b) → C2 n = 0 ∨ C2 n = 1) ∧ (w e = none)) 1 6 (wa_A G) := by
  refine wa_met (by decide) (by exact Nat.le_of_ble_eq_true rfl) ?_
  intro pP eE sS mM aA bB mT cC ls X hl hH
  have hS : va_S (wa_A G) sS.heap sS.heap [] := va_S.rf
  have hl : lv_has ls 6 [(0, .ref m), (1, .ref k), (2, .ref v), (3, .ref p), (4, .int (zI 0))] := hl
  have hK : Fr m l w w := Fr.rf
  have hX_0 := hX
  have hK_0 := hK
  refine wa_new X hH hS wcJ10 rfl q782 q783 q130 [.null, .null, .null, .null, .null, .int (zI 0)] (by decide) (Nat.le_of_ble_eq_true rfl) (Nat.le_of_ble_eq_true rfl) dJ5_addEntry_0 (fun q0 w0 H hn0 ew hH hS => ?_)
  have hk0 := Ext.new hn0 ew
  have hX := hX.ext hk0
  have hk := hk0.f (m := m) (l := l)
  have hK := hK.trans hk
  have hN0 := hk
  have n0 : Lt m l w0 q0 (eO 19 [.null, .null, .null, .null, .null, .int (zI 0)]) := Lt.new hX_0 hn0 (by rw [ew]; exact wup_s)
  clear ew hk0
  refine lv_dup X.x X.b dJ5_addEntry_3 rfl ?_
  refine lv_aload_n X.x X.b dJ5_addEntry_4 rfl (lv_at hl 1 rfl) ?_
  refine lv_aload_n X.x X.b dJ5_addEntry_5 rfl (lv_at hl 2 rfl) ?_
  refine lv_aload_n X.x X.b dJ5_addEntry_6 rfl (lv_at hl 3 rfl) ?_
  refine wa_cv hS (wa_rI (rest := [.ref q0]) X hH (mJ10_init  (show At w0 q0 (eO 19 [.null, .null, .null, .null, .null, .int (zI 0)]) from n0.2.2)  (p := some p) ) (cwI 3 X.t (lw_meth q786) rfl rfl rfl (X.t _ q130) (X.t _ q784) (X.t _ q785) rfl hdJ10_init.2 ⟨Nat.le_of_ble_eq_true rfl, Nat.le_of_ble_eq_true rfl⟩) rfl rfl hl.1 rfl (Nat.le_of_ble_eq_true rfl) dJ5_addEntry_7 ⟨Nat.le_of_ble_eq_true rfl, Nat.le_of_ble_eq_true rfl⟩) (fun w7 H locs hp hH hS => ?_)
  obtain ⟨hi, hO2⟩ := hp
  have hOq := hO2
  have hk := Fr.init hn0 hN0 hOq
  have hX := hX_0.init hn0 hX hOq
  have hK := hK_0.trans hk
  have hN0 := hk
  have n0 : Lt m l w7 q0 (eO 19 [.ref k, .ref v, va_rf none, va_rf none, va_rf (some p), .int (zI 1)]) := Lt.new hX_0 hn0 hi
  refine lv_astore (lv' := [(5, .ref q0), (0, .ref m), (1, .ref k), (2, .ref v), (3, .ref p), (4, .int (zI 0))]) X.x X.b dJ5_addEntry_10 hl (by decide) rfl (fun ls hl => ?_)
  refine lv_iload X.x X.b dJ5_addEntry_12 (lv_at hl 5 rfl) ?_
  refine wz_ifeq (tgt := 26) X.x X.b dJ5_addEntry_14 (by decide) (by decide) (fun _ => ?_) (fun h => absurd h (by decide))
  refine lv_aload_n X.x X.b dJ5_addEntry_26 rfl (lv_at hl 4 rfl) ?_
  refine lv_aload X.x X.b dJ5_addEntry_27 (lv_at hl 0 rfl) ?_
  refine wa_put X hH hS (have h9 := (hX.nd hp); h9) wcJ10 3 (by decide) q794 rfl (fun _ h9 => h9) rfl rfl rfl (Nat.le_of_ble_eq_true rfl) dJ5_addEntry_29 (fun w29 H locs ew hH hS => ?_)
  have hk : Fr m l w7 w29 := Fr.nd hp ew
  have hX := hX.sR (x := some q0) hp ew
  have hN0 := hN0.trans hk
  have n0 := n0.fr hk
  have hK := hK.trans hk
  clear ew
  have hf0 : q0 ≠ m ∧ q0 ∉ l := ⟨n0.1, n0.2.1⟩
  have hX := hX.add hf0 n0.2.2
  have hX := hX.mem (l2 := a ++ p :: q0 :: b) (by intro n hq; rw [ha]; simp at hq ⊢; rcases hq with h | h | h | h <;> simp [h])
  have hn2 : (a ++ p :: q0 :: b).Nodup := by have h9 := nd_ins (a := a ++ [p]) (b := b) (x := q0) (by rw [List.append_assoc]; exact ha ▸ hn) (by rw [List.append_assoc]; exact ha ▸ hf0.2); rw [List.append_assoc] at h9; exact h9
  have hK0 := hK
  have hK : Fr m (a ++ p :: q0 :: b) w29 w29 := Fr.rf
  have ht2 : Tr (nup L q0 none) (nup (nup R p (some q0)) q0 none) (nup P q0 (some p)) ro none (a ++ p :: q0 :: b) := Tr.insR' hfree ⟨nup_s, nup_s, nup_s⟩ (ha ▸ ht) (ha ▸ hn) (fun j hj => by
    have jq : j ≠ q0 := fun z => hf0.2 (by rw [← z, ha]; exact hj)
    exact ⟨by rw [nup_n jq]; unfold nup; rfl, by rw [nup_n jq], by rw [nup_n jq]⟩)
  have hC2 : ∀ n, n ∈ a ++ p :: q0 :: b → nup C q0 1 n = 0 ∨ nup C q0 1 n = 1 := fun n hq => by
    by_cases z : n = q0
    · rw [z, nup_s]; exact Or.inr rfl
    · rw [nup_n z]; exact hC n (by rw [ha]; simp at hq ⊢; rcases hq with h | h | h | h <;> first | exact absurd h z | simp [h])
  have hr2 : ∀ r, ro = some r → nup C q0 1 r = 1 ∨ r = q0 := fun r z => Or.inl (b1 (hroot r z))
  refine lv_aload_n X.x X.b dJ5_addEntry_32 rfl (lv_at hl 1 rfl) ?_
  refine lv_aload X.x X.b dJ5_addEntry_33 (lv_at hl 0 rfl) ?_
  refine wa_cv hS (wa_rV (rest := []) X hH (mJ5_fixAfterInsertion hX   (by simp) ht2 hn2 hC2 hr2) (cwV 1 X.t (lw_V q901 q903 qs21 q118 q904) rfl rfl rfl hdJ5_fixAfterInsertion ⟨Nat.le_of_ble_eq_true rfl, Nat.le_of_ble_eq_true rfl⟩) rfl (have h9 := (hX.1); h9) rfl rfl hl.1 rfl (Nat.le_of_ble_eq_true rfl) dJ5_addEntry_35 ⟨Nat.le_of_ble_eq_true rfl, Nat.le_of_ble_eq_true rfl⟩) (fun w35 H locs hp hH hS => ?_)
  obtain ⟨L2_35, R2_35, P2_35, C2_35, ro2_35, hX, hk, hx35_0, hx35_1, hx35_2⟩ := hp
  have hK := hK.trans hk
  refine lv_aload_n X.x X.b dJ5_addEntry_38 rfl (lv_at hl 1 rfl) ?_
  refine lv_dup X.x X.b dJ5_addEntry_39 rfl ?_
  refine wa_get (v := .int (zI si)) X hH (have h9 := (hX.1); h9) wcJ5 4 (by decide) q238 rfl (fun _ h9 => h9) rfl dJ5_addEntry_40 ?_
  refine wz_iconst X.x X.b dJ5_addEntry_43 ?_
  refine wz_iadd X.x X.b dJ5_addEntry_44 ?_
  refine wa_put X hH hS (have h9 := (hX.1); h9) wcJ5 4 (by decide) q238 rfl (fun _ h9 => h9) rfl rfl rfl (Nat.le_of_ble_eq_true rfl) dJ5_addEntry_45 (fun w45 H locs ew hH hS => ?_)
  have hk : Fr m (a ++ p :: q0 :: b) w35 w45 := Fr.map ew
  have hX := hX.smap (ro2 := ro2_35) (si2 := si + 1) (mo2 := mo) (nv2 := nv) ew
  have hK := hK.trans hk
  clear ew
  refine lv_aload_n X.x X.b dJ5_addEntry_48 rfl (lv_at hl 1 rfl) ?_
  refine lv_dup X.x X.b dJ5_addEntry_49 rfl ?_
  refine wa_get (v := .int (zI mo)) X hH (have h9 := (hX.1); h9) wcJ5 5 (by decide) q239 rfl (fun _ h9 => h9) rfl dJ5_addEntry_50 ?_
  refine wz_iconst X.x X.b dJ5_addEntry_53 ?_
  refine wz_iadd X.x X.b dJ5_addEntry_54 ?_
  refine wa_put X hH hS (have h9 := (hX.1); h9) wcJ5 5 (by decide) q239 rfl (fun _ h9 => h9) rfl rfl rfl (Nat.le_of_ble_eq_true rfl) dJ5_addEntry_55 (fun w55 H locs ew hH hS => ?_)
  have hk : Fr m (a ++ p :: q0 :: b) w45 w55 := Fr.map ew
  have hX := hX.smap (ro2 := ro2_35) (si2 := si + 1) (mo2 := mo + 1) (nv2 := nv) ew
  have hK := hK.trans hk
  clear ew
  refine W.widen (k := 1) (n := 6) (by first | exact Nat.le_of_ble_eq_true rfl | omega) (by first | exact Nat.le_of_ble_eq_true rfl | omega) ?_
  exact wa_vret X hH hS dJ5_addEntry_58 ⟨_, _, _, _, _, _, hX, Fr.add (e := q0) hn0 hK0 (hK.sub (by intro n hq; rw [ha]; simp at hq ⊢; rcases hq with h | h | h | h <;> simp [h])), hx35_0, hx35_1, hx35_2, hn0⟩

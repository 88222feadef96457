/-! TREEMAP: iterators -/
set_option maxRecDepth 100000 in
theorem mJ4_init {lL : Launch} {G : wa_G} (w : wa_W)   (q0 : Nat)  : Met lL yJ4_init (ws_ yJ4_init cJ4_init 1 (none : Option FieldType)) ({ frames := 1, cells := 0, slots := 0, locals := 20 } : Room) (wa_P G w [.ref q0]) (wa_Qv G fun u => w = u) 0 0 (wa_A G) := by
  refine wa_met (by decide) (by exact Nat.le_of_ble_eq_true rfl) ?_
  intro pP eE sS mM aA bB mT cC ls X hl hH
  have hS : va_S (wa_A G) sS.heap sS.heap [] := va_S.rf
  have hl : lv_has ls 1 [(0, .ref q0)] := hl
  have hK : Ext w w := Ext.rf
  refine lv_aload_n X.x X.b dJ4_init_0 rfl (lv_at hl 0 rfl) ?_
  refine W.objInit X.x X.b X.own (X.t _ q235) (X.t _ q153) (X.t _ q154) rfl (by rw [X.ml]; exact hl.1) rfl dJ4_init_1 (Nat.le_of_ble_eq_true rfl) (Nat.le_of_ble_eq_true rfl) ?_
  refine W.eq (g2 := F0 mM 4 ls []) rfl ?_
  exact wa_vret X hH hS dJ4_init_4 rfl
set_option maxRecDepth 100000 in
theorem mJ1_init {lL : Launch} {G : wa_G} (w : wa_W)   (q0 : Nat)  : Met lL yJ1_init (ws_ yJ1_init cJ1_init 1 (none : Option FieldType)) ({ frames := 1, cells := 0, slots := 0, locals := 20 } : Room) (wa_P G w [.ref q0]) (wa_Qv G fun u => w = u) 0 0 (wa_A G) := by
  refine wa_met (by decide) (by exact Nat.le_of_ble_eq_true rfl) ?_
  intro pP eE sS mM aA bB mT cC ls X hl hH
  have hS : va_S (wa_A G) sS.heap sS.heap [] := va_S.rf
  have hl : lv_has ls 1 [(0, .ref q0)] := hl
  have hK : Ext w w := Ext.rf
  refine lv_aload_n X.x X.b dJ1_init_0 rfl (lv_at hl 0 rfl) ?_
  refine W.objInit X.x X.b X.own (X.t _ q270) (X.t _ q153) (X.t _ q154) rfl (by rw [X.ml]; exact hl.1) rfl dJ1_init_1 (Nat.le_of_ble_eq_true rfl) (Nat.le_of_ble_eq_true rfl) ?_
  refine W.eq (g2 := F0 mM 4 ls []) rfl ?_
  exact wa_vret X hH hS dJ1_init_4 rfl
set_option maxRecDepth 100000 in
theorem mJ2_init {lL : Launch} {G : wa_G} (w : wa_W)   (q0 : Nat)  : Met lL yJ2_init (ws_ yJ2_init cJ2_init 1 (none : Option FieldType)) ({ frames := 2, cells := 0, slots := 0, locals := 40 } : Room) (wa_P G w [.ref q0]) (wa_Qv G fun u => w = u) 0 0 (wa_A G) := by
  refine wa_met (by decide) (by exact Nat.le_of_ble_eq_true rfl) ?_
  intro pP eE sS mM aA bB mT cC ls X hl hH
  have hS : va_S (wa_A G) sS.heap sS.heap [] := va_S.rf
  have hl : lv_has ls 1 [(0, .ref q0)] := hl
  have hK : Ext w w := Ext.rf
  refine lv_aload_n X.x X.b dJ2_init_0 rfl (lv_at hl 0 rfl) ?_
  refine wa_cv hS (wa_rI (rest := []) X hH (mJ1_init _  q0 ) (cwI 0 X.t (lw_meth q269) rfl rfl rfl (X.t _ q114) (X.t _ q267) (X.t _ q268) rfl hdJ1_init.2 ⟨Nat.le_of_ble_eq_true rfl, Nat.le_of_ble_eq_true rfl⟩) rfl rfl hl.1 rfl (Nat.le_of_ble_eq_true rfl) dJ2_init_1 ⟨Nat.le_of_ble_eq_true rfl, Nat.le_of_ble_eq_true rfl⟩) (fun w1 H locs hp hH hS => ?_)
  have hw := hp
  rw [← hw] at hH; clear hw
  exact wa_vret X hH hS dJ2_init_4 rfl
set_option maxRecDepth 100000 in
theorem mJ6_init {lL : Launch} {G : wa_G} (w : wa_W)   (q0 : Nat)  : Met lL yJ6_init (ws_ yJ6_init cJ6_init 1 (none : Option FieldType)) ({ frames := 2, cells := 0, slots := 0, locals := 40 } : Room) (wa_P G w [.ref q0]) (wa_Qv G fun u => w = u) 0 0 (wa_A G) := by
  refine wa_met (by decide) (by exact Nat.le_of_ble_eq_true rfl) ?_
  intro pP eE sS mM aA bB mT cC ls X hl hH
  have hS : va_S (wa_A G) sS.heap sS.heap [] := va_S.rf
  have hl : lv_has ls 1 [(0, .ref q0)] := hl
  have hK : Ext w w := Ext.rf
  refine lv_aload_n X.x X.b dJ6_init_0 rfl (lv_at hl 0 rfl) ?_
  refine wa_cv hS (wa_rI (rest := []) X hH (mJ1_init _  q0 ) (cwI 0 X.t (lw_meth q269) rfl rfl rfl (X.t _ q114) (X.t _ q295) (X.t _ q268) rfl hdJ1_init.2 ⟨Nat.le_of_ble_eq_true rfl, Nat.le_of_ble_eq_true rfl⟩) rfl rfl hl.1 rfl (Nat.le_of_ble_eq_true rfl) dJ6_init_1 ⟨Nat.le_of_ble_eq_true rfl, Nat.le_of_ble_eq_true rfl⟩) (fun w1 H locs hp hH hS => ?_)
  have hw := hp
  rw [← hw] at hH; clear hw
  exact wa_vret X hH hS dJ6_init_4 rfl
set_option maxRecDepth 100000 in
theorem mJ5_init {lL : Launch} {G : wa_G} {w : wa_W} {q0 : Nat} (eo : At w q0 (eO 16 [.null, .null, .null, .null, .int (zI 0), .int (zI 0), .null, .null, .null]))  : Met lL yJ5_init (ws_ yJ5_init cJ5_init 1 (none : Option FieldType)) ({ frames := 2, cells := 0, slots := 0, locals := 40 } : Room) (wa_P G w [.ref q0]) (wa_Qv G fun u => u q0 = some (eO 16 [.null, .null, .null, va_rf none, .int (zI 0), .int (zI 0), .null, va_rf none, .null]) ∧ Off q0 w u) 0 0 (wa_A G) := by
  refine wa_met (by decide) (by exact Nat.le_of_ble_eq_true rfl) ?_
  intro pP eE sS mM aA bB mT cC ls X hl hH
  have hS : va_S (wa_A G) sS.heap sS.heap [] := va_S.rf
  have hl : lv_has ls 1 [(0, .ref q0)] := hl
  have hK : Ext w w := Ext.rf
  have hO : Off q0 w w := Off.rf
  refine lv_aload_n X.x X.b dJ5_init_0 rfl (lv_at hl 0 rfl) ?_
  refine wa_cv hS (wa_rI (rest := []) X hH (mJ4_init _  q0 ) (cwI 0 X.t (lw_meth q234) rfl rfl rfl (X.t _ q117) (X.t _ q232) (X.t _ q233) rfl hdJ4_init.2 ⟨Nat.le_of_ble_eq_true rfl, Nat.le_of_ble_eq_true rfl⟩) rfl rfl hl.1 rfl (Nat.le_of_ble_eq_true rfl) dJ5_init_1 ⟨Nat.le_of_ble_eq_true rfl, Nat.le_of_ble_eq_true rfl⟩) (fun w1 H locs hp hH hS => ?_)
  have hw := hp
  rw [← hw] at hH; clear hw
  refine lv_aload_n X.x X.b dJ5_init_4 rfl (lv_at hl 0 rfl) ?_
  refine wz_iconst X.x X.b dJ5_init_5 ?_
  refine wa_put X hH hS eo wcJ5 4 (by decide) q238 rfl (fun _ h9 => h9) rfl rfl rfl (Nat.le_of_ble_eq_true rfl) dJ5_init_6 (fun w6 H locs ew hH hS => ?_)
  have hO : Off q0 w w6 := hO.put ew
  have eo : At w6 q0 (eO 16 [.null, .null, .null, .null, .int (zI 0), .int (zI 0), .null, .null, .null]) := by rw [ew]; exact wup_s
  clear ew
  refine lv_aload_n X.x X.b dJ5_init_9 rfl (lv_at hl 0 rfl) ?_
  refine wz_iconst X.x X.b dJ5_init_10 ?_
  refine wa_put X hH hS eo wcJ5 5 (by decide) q239 rfl (fun _ h9 => h9) rfl rfl rfl (Nat.le_of_ble_eq_true rfl) dJ5_init_11 (fun w11 H locs ew hH hS => ?_)
  have hO : Off q0 w w11 := hO.put ew
  have eo : At w11 q0 (eO 16 [.null, .null, .null, .null, .int (zI 0), .int (zI 0), .null, .null, .null]) := by rw [ew]; exact wup_s
  clear ew
  refine lv_aload_n X.x X.b dJ5_init_14 rfl (lv_at hl 0 rfl) ?_
  refine lv_null X.x X.b dJ5_init_15 ?_
  refine wa_putF X hH hS eo wcJ5 2 (by decide) q236 rfl (fun _ h9 => h9) rfl rfl rfl rfl rfl (Nat.le_of_ble_eq_true rfl) dJ5_init_16 (fun w16 H locs ew hH hS => ?_)
  have hO : Off q0 w w16 := hO.put ew
  have eo : At w16 q0 (eO 16 [.null, .null, .null, .null, .int (zI 0), .int (zI 0), .null, .null, .null]) := by rw [ew]; exact wup_s
  clear ew
  exact wa_vret X hH hS dJ5_init_19 ⟨eo, hO⟩
set_option maxRecDepth 100000 in
theorem mJ3_init_2 {lL : Launch} {G : wa_G} {w : wa_W} {q0 : Nat} {m : Nat} (eo : At w q0 (eO 15 [.null])) (m : Nat)  : Met lL yJ3_init_2 (ws_ yJ3_init_2 cJ3_init_2 2 (none : Option FieldType)) ({ frames := 3, cells := 0, slots := 0, locals := 60 } : Room) (wa_P G w [.ref q0, .ref m]) (wa_Qv G fun u => u q0 = some (eO 15 [.ref m]) ∧ Off q0 w u) 0 0 (wa_A G) := by
  refine wa_met (by decide) (by exact Nat.le_of_ble_eq_true rfl) ?_
  intro pP eE sS mM aA bB mT cC ls X hl hH
  have hS : va_S (wa_A G) sS.heap sS.heap [] := va_S.rf
  have hl : lv_has ls 2 [(0, .ref q0), (1, .ref m)] := hl
  have hK : Ext w w := Ext.rf
  have hO : Off q0 w w := Off.rf
  refine lv_aload_n X.x X.b dJ3_init_2_0 rfl (lv_at hl 0 rfl) ?_
  refine wa_cv hS (wa_rI (rest := []) X hH (mJ2_init _  q0 ) (cwI 0 X.t (lw_meth q266) rfl rfl rfl (X.t _ q115) (X.t _ q264) (X.t _ q265) rfl hdJ2_init.2 ⟨Nat.le_of_ble_eq_true rfl, Nat.le_of_ble_eq_true rfl⟩) rfl rfl hl.1 rfl (Nat.le_of_ble_eq_true rfl) dJ3_init_2_1 ⟨Nat.le_of_ble_eq_true rfl, Nat.le_of_ble_eq_true rfl⟩) (fun w1 H locs hp hH hS => ?_)
  have hw := hp
  rw [← hw] at hH; clear hw
  refine lv_aload_n X.x X.b dJ3_init_2_4 rfl (lv_at hl 0 rfl) ?_
  refine lv_aload_n X.x X.b dJ3_init_2_5 rfl (lv_at hl 1 rfl) ?_
  refine wa_put X hH hS eo wcJ3 0 (by decide) q271 rfl (fun _ h9 => h9) rfl rfl rfl (Nat.le_of_ble_eq_true rfl) dJ3_init_2_6 (fun w6 H locs ew hH hS => ?_)
  have hO : Off q0 w w6 := hO.put ew
  have eo : At w6 q0 (eO 15 [.ref m]) := by rw [ew]; exact wup_s
  clear ew
  exact wa_vret X hH hS dJ3_init_2_9 ⟨eo, hO⟩
set_option maxRecDepth 100000 in
theorem mJ16_init {lL : Launch} {G : wa_G} {w : wa_W} {q0 : Nat} (eo : At w q0 (eO 20 [.null])) (m : Nat)  : Met lL yJ16_init (ws_ yJ16_init cJ16_init 2 (none : Option FieldType)) ({ frames := 3, cells := 0, slots := 0, locals := 60 } : Room) (wa_P G w [.ref q0, .ref m]) (wa_Qv G fun u => u q0 = some (eO 20 [.ref m]) ∧ Off q0 w u) 0 0 (wa_A G) := by
  refine wa_met (by decide) (by exact Nat.le_of_ble_eq_true rfl) ?_
  intro pP eE sS mM aA bB mT cC ls X hl hH
  have hS : va_S (wa_A G) sS.heap sS.heap [] := va_S.rf
  have hl : lv_has ls 2 [(0, .ref q0), (1, .ref m)] := hl
  have hK : Ext w w := Ext.rf
  have hO : Off q0 w w := Off.rf
  refine lv_aload_n X.x X.b dJ16_init_0 rfl (lv_at hl 0 rfl) ?_
  refine wa_cv hS (wa_rI (rest := []) X hH (mJ2_init _  q0 ) (cwI 0 X.t (lw_meth q266) rfl rfl rfl (X.t _ q115) (X.t _ q964) (X.t _ q265) rfl hdJ2_init.2 ⟨Nat.le_of_ble_eq_true rfl, Nat.le_of_ble_eq_true rfl⟩) rfl rfl hl.1 rfl (Nat.le_of_ble_eq_true rfl) dJ16_init_1 ⟨Nat.le_of_ble_eq_true rfl, Nat.le_of_ble_eq_true rfl⟩) (fun w1 H locs hp hH hS => ?_)
  have hw := hp
  rw [← hw] at hH; clear hw
  refine lv_aload_n X.x X.b dJ16_init_4 rfl (lv_at hl 0 rfl) ?_
  refine lv_aload_n X.x X.b dJ16_init_5 rfl (lv_at hl 1 rfl) ?_
  refine wa_putF X hH hS eo wcJ16 0 (by decide) q965 rfl (fun _ h9 => h9) rfl rfl rfl rfl rfl (Nat.le_of_ble_eq_true rfl) dJ16_init_6 (fun w6 H locs ew hH hS => ?_)
  have hO : Off q0 w w6 := hO.put ew
  have eo : At w6 q0 (eO 20 [.ref m]) := by rw [ew]; exact wup_s
  clear ew
  exact wa_vret X hH hS dJ16_init_9 ⟨eo, hO⟩
set_option maxRecDepth 100000 in
theorem mJ17_init {lL : Launch} {G : wa_G} {w : wa_W} {q0 : Nat} {m : Nat} {e : Option Nat} {ro : Option Nat} {si : Int} {mo : Int} {nv : Option Nat} (eo : At w q0 (eO 21 [.null, .null, .int (zI 0), .null])) (fm : At w m (eO 16 [.null, .null, .null, va_rf ro, .int (zI si), .int (zI mo), .null, va_rf nv, .null])) (hne : m ≠ q0) : Met lL yJ17_init (ws_ yJ17_init cJ17_init 3 (none : Option FieldType)) ({ frames := 1, cells := 0, slots := 0, locals := 20 } : Room) (wa_P G w [.ref q0, .ref m, va_rf e]) (wa_Qv G fun u => u q0 = some (eO 21 [va_rf e, .null, .int (zI mo), .ref m]) ∧ Off q0 w u) 0 0 (wa_A G) := by
  refine wa_met (by decide) (by cases e <;> exact Nat.le_of_ble_eq_true rfl) ?_
  intro pP eE sS mM aA bB mT cC ls X hl hH
  have hS : va_S (wa_A G) sS.heap sS.heap [] := va_S.rf
  have hl : lv_has ls 3 [(0, .ref q0), (1, .ref m), (2, va_rf e)] := hl
  have hK : Ext w w := Ext.rf
  have hO : Off q0 w w := Off.rf
  refine lv_aload_n X.x X.b dJ17_init_0 rfl (lv_at hl 0 rfl) ?_
  refine lv_aload_n X.x X.b dJ17_init_1 rfl (lv_at hl 1 rfl) ?_
  refine wa_putF X hH hS eo wcJ18 3 (by decide) q1000 rfl (fun _ h9 => h9) rfl rfl rfl rfl rfl (Nat.le_of_ble_eq_true rfl) dJ17_init_2 (fun w2 H locs ew hH hS => ?_)
  have hO : Off q0 w w2 := hO.put ew
  have eo : At w2 q0 (eO 21 [.null, .null, .int (zI 0), .ref m]) := by rw [ew]; exact wup_s
  have fm := fm.off (Off.rf.put ew) hne
  clear ew
  refine lv_aload_n X.x X.b dJ17_init_5 rfl (lv_at hl 0 rfl) ?_
  refine W.objInit X.x X.b X.own (X.t _ q996) (X.t _ q153) (X.t _ q154) rfl (by rw [X.ml]; exact hl.1) rfl dJ17_init_6 (Nat.le_of_ble_eq_true rfl) (Nat.le_of_ble_eq_true rfl) ?_
  refine W.eq (g2 := F0 mM 9 ls []) rfl ?_
  refine lv_aload_n X.x X.b dJ17_init_9 rfl (lv_at hl 0 rfl) ?_
  refine lv_aload_n X.x X.b dJ17_init_10 rfl (lv_at hl 1 rfl) ?_
  refine wa_getN (v := .int (zI mo)) X hH fm wcJ5 5 (by decide) q240 rfl (fun _ h9 => h9) rfl dJ17_init_11 ?_
  refine wa_put X hH hS eo wcJ18 2 (by decide) q999 rfl (fun _ h9 => h9) rfl rfl rfl (Nat.le_of_ble_eq_true rfl) dJ17_init_14 (fun w14 H locs ew hH hS => ?_)
  have hO : Off q0 w w14 := hO.put ew
  have eo : At w14 q0 (eO 21 [.null, .null, .int (zI mo), .ref m]) := by rw [ew]; exact wup_s
  have fm := fm.off (Off.rf.put ew) hne
  clear ew
  refine lv_aload_n X.x X.b dJ17_init_17 rfl (lv_at hl 0 rfl) ?_
  refine lv_null X.x X.b dJ17_init_18 ?_
  refine wa_put X hH hS eo wcJ18 1 (by decide) q998 rfl (fun _ h9 => h9) rfl rfl rfl (Nat.le_of_ble_eq_true rfl) dJ17_init_19 (fun w19 H locs ew hH hS => ?_)
  have hO : Off q0 w w19 := hO.put ew
  have eo : At w19 q0 (eO 21 [.null, .null, .int (zI mo), .ref m]) := by rw [ew]; exact wup_s
  have fm := fm.off (Off.rf.put ew) hne
  clear ew
  refine lv_aload_n X.x X.b dJ17_init_22 rfl (lv_at hl 0 rfl) ?_
  refine lv_aload_nO X.x X.b dJ17_init_23 rfl (lv_at hl 2 rfl) ?_
  refine wa_put X hH hS eo wcJ18 0 (by decide) q997 rfl (fun _ h9 => h9) rfl rf_nar rf_fit (Nat.le_of_ble_eq_true rfl) dJ17_init_24 (fun w24 H locs ew hH hS => ?_)
  have hO : Off q0 w w24 := hO.put ew
  have eo : At w24 q0 (eO 21 [va_rf e, .null, .int (zI mo), .ref m]) := by rw [ew]; exact wup_s
  have fm := fm.off (Off.rf.put ew) hne
  clear ew
  exact wa_vret X hH hS dJ17_init_27 ⟨eo, hO⟩
set_option maxRecDepth 100000 in
theorem mJ18_init {lL : Launch} {G : wa_G} {w : wa_W} {q0 : Nat} {m : Nat} {e : Option Nat} {ro : Option Nat} {si : Int} {mo : Int} {nv : Option Nat} (eo : At w q0 (eO 21 [.null, .null, .int (zI 0), .null])) (fm : At w m (eO 16 [.null, .null, .null, va_rf ro, .int (zI si), .int (zI mo), .null, va_rf nv, .null])) (hne : m ≠ q0) : Met lL yJ18_init (ws_ yJ18_init cJ18_init 3 (none : Option FieldType)) ({ frames := 2, cells := 0, slots := 0, locals := 42 } : Room) (wa_P G w [.ref q0, .ref m, va_rf e]) (wa_Qv G fun u => u q0 = some (eO 21 [va_rf e, .null, .int (zI mo), .ref m]) ∧ Off q0 w u) 0 0 (wa_A G) := by
  refine wa_met (by decide) (by cases e <;> exact Nat.le_of_ble_eq_true rfl) ?_
  intro pP eE sS mM aA bB mT cC ls X hl hH
  have hS : va_S (wa_A G) sS.heap sS.heap [] := va_S.rf
  have hl : lv_has ls 3 [(0, .ref q0), (1, .ref m), (2, va_rf e)] := hl
  have hK : Ext w w := Ext.rf
  have hO : Off q0 w w := Off.rf
  refine lv_aload_n X.x X.b dJ18_init_0 rfl (lv_at hl 0 rfl) ?_
  refine lv_aload_n X.x X.b dJ18_init_1 rfl (lv_at hl 1 rfl) ?_
  refine lv_aload_nO X.x X.b dJ18_init_2 rfl (lv_at hl 2 rfl) ?_
  refine wa_cv hS (wa_rI (rest := []) X hH (mJ17_init  (show At w q0 (eO 21 [.null, .null, .int (zI 0), .null]) from eo) (show At w m (eO 16 [.null, .null, .null, va_rf ro, .int (zI si), .int (zI mo), .null, va_rf nv, .null]) from fm)  (e := e) (show m ≠ q0 by first | assumption | omega)) (cwI 2 X.t (lw_meth q995) rfl rfl rfl (X.t _ q137) (X.t _ q993) (X.t _ q994) rfl hdJ17_init.2 ⟨Nat.le_of_ble_eq_true rfl, Nat.le_of_ble_eq_true rfl⟩) rfl rfl hl.1 rfl (Nat.le_of_ble_eq_true rfl) dJ18_init_3 ⟨Nat.le_of_ble_eq_true rfl, Nat.le_of_ble_eq_true rfl⟩) (fun w3 H locs hp hH hS => ?_)
  obtain ⟨hi, hO2⟩ := hp
  have hO : Off q0 w w3 := hO.trans hO2
  have fm := fm.off hO2 hne
  have eo : At w3 q0 (eO 21 [va_rf e, .null, .int (zI mo), .ref m]) := hi
  exact wa_vret X hH hS dJ18_init_6 ⟨eo, hO⟩
set_option maxRecDepth 100000 in
theorem mJ17_hasNext {lL : Launch} {G : wa_G} {w : wa_W} {q0 : Nat} {m : Nat} {x : Option Nat} {y : Option Nat} {ex : Int} (fi : At w q0 (eO 21 [va_rf x, va_rf y, .int (zI ex), .ref m]))  : Met lL yJ17_hasNext (ws_ yJ17_hasNext cJ17_hasNext 1 (some FieldType.boolean)) ({ frames := 0, cells := 0, slots := 0, locals := 0 } : Room) (wa_P G w [.ref q0]) (wa_Qz G fun z u => ((¬ x = none) ∧ z = 1 ∨ ¬ (¬ x = none) ∧ z = 0) ∧ w = u) 0 0 (wa_A G) := by
  refine wa_met (by decide) (by exact Nat.le_of_ble_eq_true rfl) ?_
  intro pP eE sS mM aA bB mT cC ls X hl hH
  have hS : va_S (wa_A G) sS.heap sS.heap [] := va_S.rf
  have hl : lv_has ls 1 [(0, .ref q0)] := hl
  have hK : Ext w w := Ext.rf
  refine lv_aload_n X.x X.b dJ17_hasNext_0 rfl (lv_at hl 0 rfl) ?_
  refine wa_get (v := va_rf x) X hH fi wcJ18 0 (by decide) q997 rfl (fun _ h9 => h9) rfl dJ17_hasNext_1 ?_
  rcases xo_cases (x) with ho4 | ⟨a4, ho4⟩
  · refine wz_opt (q := none) ho4 ?_
    refine lv_ifnullN (tgt := 11) X.x X.b dJ17_hasNext_4 (by decide) ?_
    refine wz_iconst X.x X.b dJ17_hasNext_11 ?_
    exact wa_zret X hH hS dJ17_hasNext_12 nb0 ⟨Or.inr ⟨by first | (rw [ho4]; simp) | (rw [ho4]; intro h; cases h) | (intro h; exact h ho4), rfl⟩, rfl⟩
  · refine wz_opt (q := (some a4)) ho4 ?_
    refine lv_ifnull X.x X.b dJ17_hasNext_4 ?_
    refine wz_iconst X.x X.b dJ17_hasNext_7 ?_
    refine lv_goto (tgt := 12) X.x X.b dJ17_hasNext_8 (by decide) ?_
    exact wa_zret X hH hS dJ17_hasNext_12 nb1 ⟨Or.inl ⟨by first | (rw [ho4]; simp) | (rw [ho4]; intro h; cases h) | (intro h; exact h ho4), rfl⟩, rfl⟩
set_option maxRecDepth 100000 in
theorem mJ17_nextEntry {lL : Launch} {G : wa_G} {w : wa_W} {m : Nat} {l : List Nat} {K : Nat → Nat} {V : Nat → Nat} {L : Nat → Option Nat} {R : Nat → Option Nat} {P : Nat → Option Nat} {C : Nat → Int} {ro : Option Nat} {si : Int} {mo : Int} {nv : Option Nat} (hX : TN w m l K V L R P C ro si mo nv) {q0 : Nat} {n : Nat} {y : Option Nat} {a : List Nat} {b : List Nat} (eo : Lt m l w q0 (eO 21 [.ref n, va_rf y, .int (zI mo), .ref m])) (ha : l = a ++ n :: b) (ht : Tr L R P ro none l) (hn : l.Nodup) : Met lL yJ17_nextEntry (ws_ yJ17_nextEntry cJ17_nextEntry 2 (some (FieldType.object "java/util/TreeMap$Entry"))) ({ frames := 1, cells := 0, slots := 0, locals := 22 } : Room) (wa_P G w [.ref q0]) (wa_Qr G fun r u => r = some n ∧ u q0 = some (eO 21 [va_rf (b.head?), .ref n, .int (zI mo), .ref m]) ∧ Off q0 w u) 0 0 (wa_A G) := by
  refine wa_met (by decide) (by exact Nat.le_of_ble_eq_true rfl) ?_
  intro pP eE sS mM aA bB mT cC ls X hl hH
  have hS : va_S (wa_A G) sS.heap sS.heap [] := va_S.rf
  have hl : lv_has ls 2 [(0, .ref q0)] := hl
  have hK : Fr m l w w := Fr.rf
  have hO : Off q0 w w := Off.rf
  have hnl : n ∈ l := by rw [ha]; simp
  refine lv_aload_n X.x X.b dJ17_nextEntry_0 rfl (lv_at hl 0 rfl) ?_
  refine wa_get (v := .ref n) X hH eo.2.2 wcJ18 0 (by decide) q997 rfl (fun _ h9 => h9) rfl dJ17_nextEntry_1 ?_
  refine lv_astore_n (lv' := [(1, .ref n), (0, .ref q0)]) X.x X.b dJ17_nextEntry_4 rfl hl (by decide) rfl (fun ls hl => ?_)
  refine lv_aload_n X.x X.b dJ17_nextEntry_5 rfl (lv_at hl 0 rfl) ?_
  refine lv_ifnonnull (tgt := 17) X.x X.b dJ17_nextEntry_6 (by decide) ?_
  refine lv_aload_n X.x X.b dJ17_nextEntry_17 rfl (lv_at hl 1 rfl) ?_
  refine wa_get (v := .ref m) X hH eo.2.2 wcJ18 3 (by decide) q1000 rfl (fun _ h9 => h9) rfl dJ17_nextEntry_18 ?_
  refine wa_getN (v := .int (zI mo)) X hH (have h9 := (hX.1); h9) wcJ5 5 (by decide) q240 rfl (fun _ h9 => h9) rfl dJ17_nextEntry_21 ?_
  refine lv_aload_n X.x X.b dJ17_nextEntry_24 rfl (lv_at hl 1 rfl) ?_
  refine wa_get (v := .int (zI mo)) X hH eo.2.2 wcJ18 2 (by decide) q999 rfl (fun _ h9 => h9) rfl dJ17_nextEntry_25 ?_
  refine lv_icmp_eq (tgt := 39) X.x X.b dJ17_nextEntry_28 (by decide) (fun c28 => ?_) (fun c28 => by exfalso; exact c28 rfl)
  refine lv_aload_n X.x X.b dJ17_nextEntry_39 rfl (lv_at hl 1 rfl) ?_
  refine lv_aload_n X.x X.b dJ17_nextEntry_40 rfl (lv_at hl 0 rfl) ?_
  refine wa_cr hS (wa_rS (rest := [.ref q0]) X hH (mJ5_successor hX   (show l = a ++ n :: b by first | assumption | omega) (show Tr L R P ro none l by first | assumption | omega) (show l.Nodup by first | assumption | omega)) (va_cwS 1 X.t (lw_S q1043 q1044 q118 q1045) rfl rfl rfl hdJ5_successor.2 ⟨Nat.le_of_ble_eq_true rfl, Nat.le_of_ble_eq_true rfl⟩) rfl rfl hl.1 rfl (Nat.le_of_ble_eq_true rfl) dJ17_nextEntry_41 ⟨Nat.le_of_ble_eq_true rfl, Nat.le_of_ble_eq_true rfl⟩) (fun r41 w41 H locs hp hH hS => ?_)
  obtain ⟨rfl, hw⟩ := hp
  rw [← hw] at hH; clear hw
  refine wa_put X hH hS eo.2.2 wcJ18 0 (by decide) q997 rfl (fun _ h9 => h9) rfl rf_nar rf_fit (Nat.le_of_ble_eq_true rfl) dJ17_nextEntry_44 (fun w44 H locs ew hH hS => ?_)
  have hO : Off q0 w w44 := hO.put ew
  have hX := hX.off (Off.rf.put ew) eo.1 eo.2.1
  have eo : Lt m l w44 q0 (eO 21 [va_rf (b.head?), va_rf y, .int (zI mo), .ref m]) := ⟨eo.1, eo.2.1, by rw [ew]; exact wup_s⟩
  clear ew
  refine lv_aload_n X.x X.b dJ17_nextEntry_47 rfl (lv_at hl 1 rfl) ?_
  refine lv_aload_n X.x X.b dJ17_nextEntry_48 rfl (lv_at hl 0 rfl) ?_
  refine wa_put X hH hS eo.2.2 wcJ18 1 (by decide) q998 rfl (fun _ h9 => h9) rfl rfl rfl (Nat.le_of_ble_eq_true rfl) dJ17_nextEntry_49 (fun w49 H locs ew hH hS => ?_)
  have hO : Off q0 w w49 := hO.put ew
  have hX := hX.off (Off.rf.put ew) eo.1 eo.2.1
  have eo : Lt m l w49 q0 (eO 21 [va_rf (b.head?), .ref n, .int (zI mo), .ref m]) := ⟨eo.1, eo.2.1, by rw [ew]; exact wup_s⟩
  clear ew
  refine lv_aload_n X.x X.b dJ17_nextEntry_52 rfl (lv_at hl 0 rfl) ?_
  exact wa_aret X (Or.inl ⟨_, rfl⟩) hH hS (some n) dJ17_nextEntry_53 ⟨by first | rfl | omega | assumption, ⟨eo.2.2, hO⟩⟩
set_option maxRecDepth 100000 in
theorem mJ18_next {lL : Launch} {G : wa_G} {w : wa_W} {m : Nat} {l : List Nat} {K : Nat → Nat} {V : Nat → Nat} {L : Nat → Option Nat} {R : Nat → Option Nat} {P : Nat → Option Nat} {C : Nat → Int} {ro : Option Nat} {si : Int} {mo : Int} {nv : Option Nat} (hX : TN w m l K V L R P C ro si mo nv) {q0 : Nat} {n : Nat} {y : Option Nat} {a : List Nat} {b : List Nat} (eo : Lt m l w q0 (eO 21 [.ref n, va_rf y, .int (zI mo), .ref m])) (ha : l = a ++ n :: b) (ht : Tr L R P ro none l) (hn : l.Nodup) : Met lL yJ18_next (ws_ yJ18_next cJ18_next 1 (some (FieldType.object "java/lang/Object"))) ({ frames := 2, cells := 0, slots := 0, locals := 43 } : Room) (wa_P G w [.ref q0]) (wa_Qr G fun r u => r = some (K n) ∧ u q0 = some (eO 21 [va_rf (b.head?), .ref n, .int (zI mo), .ref m]) ∧ Off q0 w u) 0 0 (wa_A G) := by
  refine wa_met (by decide) (by exact Nat.le_of_ble_eq_true rfl) ?_
  intro pP eE sS mM aA bB mT cC ls X hl hH
  have hS : va_S (wa_A G) sS.heap sS.heap [] := va_S.rf
  have hl : lv_has ls 1 [(0, .ref q0)] := hl
  have hK : Fr m l w w := Fr.rf
  have hO : Off q0 w w := Off.rf
  have hnl : n ∈ l := by rw [ha]; simp
  refine lv_aload_n X.x X.b dJ18_next_0 rfl (lv_at hl 0 rfl) ?_
  refine wa_cr hS (wa_rU (rest := []) X hH (mJ17_nextEntry hX eo  (show l = a ++ n :: b by first | assumption | omega) (show Tr L R P ro none l by first | assumption | omega) (show l.Nodup by first | assumption | omega)) (va_cwU 0 X.t (lw_U q1037 q1038 q1040 q1041 q137 q1042) rfl rfl rfl rfl ⟨by decide, by decide, by decide +kernel⟩ ⟨Nat.le_of_ble_eq_true rfl, Nat.le_of_ble_eq_true rfl⟩) rfl eo.2.2 rfl rfl hl.1 rfl (Nat.le_of_ble_eq_true rfl) dJ18_next_1 ⟨Nat.le_of_ble_eq_true rfl, Nat.le_of_ble_eq_true rfl⟩) (fun r1 w1 H locs hp hH hS => ?_)
  obtain ⟨rfl, ⟨hi, hO2⟩⟩ := hp
  have hO : Off q0 w w1 := hO.trans hO2
  have hX := hX.off hO2 eo.1 eo.2.1
  have eo : Lt m l w1 q0 (eO 21 [va_rf (b.head?), .ref n, .int (zI mo), .ref m]) := ⟨eo.1, eo.2.1, hi⟩
  refine wz_opt (q := some n) (by rfl) ?_
  refine wa_get (v := .ref (K n)) X hH (have h9 := (hX.nd hnl); h9) wcJ10 0 (by decide) q789 rfl (fun _ h9 => h9) rfl dJ18_next_4 ?_
  exact wa_aret X (Or.inl ⟨_, rfl⟩) hH hS (some (K n)) dJ18_next_7 ⟨by first | rfl | omega | assumption, ⟨eo.2.2, hO⟩⟩
set_option maxRecDepth 100000 in
theorem mJ5_keyIterator {lL : Launch} {G : wa_G} {w : wa_W} {m : Nat} {l : List Nat} {K : Nat → Nat} {V : Nat → Nat} {L : Nat → Option Nat} {R : Nat → Option Nat} {P : Nat → Option Nat} {C : Nat → Int} {ro : Option Nat} {si : Int} {mo : Int} {nv : Option Nat} (hX : TN w m l K V L R P C ro si mo nv)   (ht : Tr L R P ro none l) : Met lL yJ5_keyIterator (ws_ yJ5_keyIterator cJ5_keyIterator 1 (some (FieldType.object "java/util/Iterato\x72"))) ({ frames := 3, cells := 1, slots := 4, locals := 64 } : Room) (wa_P G w [.ref m]) (wa_Qr G fun r u => ∃ (it : Nat), TN u m l K V L R P C ro si mo nv ∧ Fr m l w u ∧ (r = some it) ∧ (w it = none) ∧ (u it = some (eO 21 [va_rf (l.head?), .null, .int (zI mo), .ref m]))) 1 4 (wa_A G) := by
  refine wa_met (by decide) (by exact Nat.le_of_ble_eq_true rfl) ?_
  intro pP eE sS mM aA bB mT cC ls X hl hH
  have hS : va_S (wa_A G) sS.heap sS.heap [] := va_S.rf
  have hl : lv_has ls 1 [(0, .ref m)] := hl
  have hK : Fr m l w w := Fr.rf
  have hX_0 := hX
  have hK_0 := hK
  refine wa_new X hH hS wcJ18 rfl q984 q985 q138 [.null, .null, .int (zI 0), .null] (by decide) (Nat.le_of_ble_eq_true rfl) (Nat.le_of_ble_eq_true rfl) dJ5_keyIterator_0 (fun q0 w0 H hn0 ew hH hS => ?_)
  have hk0 := Ext.new hn0 ew
  have hX := hX.ext hk0
  have hk := hk0.f (m := m) (l := l)
  have hK := hK.trans hk
  have hN0 := hk
  have n0 : Lt m l w0 q0 (eO 21 [.null, .null, .int (zI 0), .null]) := Lt.new hX_0 hn0 (by rw [ew]; exact wup_s)
  clear ew hk0
  refine lv_dup X.x X.b dJ5_keyIterator_3 rfl ?_
  refine lv_aload_n X.x X.b dJ5_keyIterator_4 rfl (lv_at hl 0 rfl) ?_
  refine lv_aload_n X.x X.b dJ5_keyIterator_5 rfl (lv_at hl 0 rfl) ?_
  refine wa_cr hS (wa_rV (rest := [.ref m, .ref q0, .ref q0]) X hH (mJ5_getFirstEntry hX   (show Tr L R P ro none l by first | assumption | omega)) (cwV 0 X.t (lw_V q986 q987 q988 q118 q989) rfl rfl rfl hdJ5_getFirstEntry ⟨Nat.le_of_ble_eq_true rfl, Nat.le_of_ble_eq_true rfl⟩) rfl (have h9 := (hX.1); h9) rfl rfl hl.1 rfl (Nat.le_of_ble_eq_true rfl) dJ5_keyIterator_6 ⟨Nat.le_of_ble_eq_true rfl, Nat.le_of_ble_eq_true rfl⟩) (fun r6 w6 H locs hp hH hS => ?_)
  obtain ⟨rfl, hw⟩ := hp
  rw [← hw] at hH; clear hw
  refine wa_cv hS (wa_rI (rest := [.ref q0]) X hH (mJ18_init  (show At w0 q0 (eO 21 [.null, .null, .int (zI 0), .null]) from n0.2.2) (show At w0 m (eO 16 [.null, .null, .null, va_rf ro, .int (zI si), .int (zI mo), .null, va_rf nv, .null]) from (hX.1))  (e := l.head?) (Ne.symm n0.1)) (cwI 2 X.t (lw_meth q992) rfl rfl rfl (X.t _ q138) (X.t _ q990) (X.t _ q991) rfl hdJ18_init.2 ⟨Nat.le_of_ble_eq_true rfl, Nat.le_of_ble_eq_true rfl⟩) rfl rfl hl.1 rfl (Nat.le_of_ble_eq_true rfl) dJ5_keyIterator_9 ⟨Nat.le_of_ble_eq_true rfl, Nat.le_of_ble_eq_true rfl⟩) (fun w9 H locs hp hH hS => ?_)
  obtain ⟨hi, hO2⟩ := hp
  have hOq := hO2
  have hk := Fr.init hn0 hN0 hOq
  have hX := hX_0.init hn0 hX hOq
  have hK := hK_0.trans hk
  have hN0 := hk
  have n0 : Lt m l w9 q0 (eO 21 [va_rf (l.head?), .null, .int (zI mo), .ref m]) := Lt.new hX_0 hn0 hi
  refine W.widen (k := 1) (n := 4) (by first | exact Nat.le_of_ble_eq_true rfl | omega) (by first | exact Nat.le_of_ble_eq_true rfl | omega) ?_
  exact wa_aret X (Or.inl ⟨_, rfl⟩) hH hS (some q0) dJ5_keyIterator_12 ⟨_, hX, hK, rfl, hn0, n0.2.2⟩
set_option maxRecDepth 100000 in
theorem mJ16_iterator {lL : Launch} {G : wa_G} {w : wa_W} {m : Nat} {l : List Nat} {K : Nat → Nat} {V : Nat → Nat} {L : Nat → Option Nat} {R : Nat → Option Nat} {P : Nat → Option Nat} {C : Nat → Int} {ro : Option Nat} {si : Int} {mo : Int} {nv : Option Nat} (hX : TN w m l K V L R P C ro si mo nv) {ks : Nat} (fks : Lt m l w ks (eO 20 [.ref m])) (ht : Tr L R P ro none l) : Met lL yJ16_iterator (ws_ yJ16_iterator cJ16_iterator 1 (some (FieldType.object "java/util/Iterato\x72"))) ({ frames := 4, cells := 1, slots := 4, locals := 84 } : Room) (wa_P G w [.ref ks]) (wa_Qr G fun r u => ∃ (it : Nat), TN u m l K V L R P C ro si mo nv ∧ Fr m l w u ∧ (r = some it) ∧ (w it = none) ∧ (u it = some (eO 21 [va_rf (l.head?), .null, .int (zI mo), .ref m]))) 1 4 (wa_A G) := by
  refine wa_met (by decide) (by exact Nat.le_of_ble_eq_true rfl) ?_
  intro pP eE sS mM aA bB mT cC ls X hl hH
  have hS : va_S (wa_A G) sS.heap sS.heap [] := va_S.rf
  have hl : lv_has ls 1 [(0, .ref ks)] := hl
  have hK : Fr m l w w := Fr.rf
  refine lv_aload_n X.x X.b dJ16_iterator_0 rfl (lv_at hl 0 rfl) ?_
  refine wa_get (v := .ref m) X hH fks.2.2 wcJ16 0 (by decide) q965 rfl (fun _ h9 => h9) rfl dJ16_iterator_1 ?_
  refine wa_instS X hH (have h9 := (hX.1); h9) rfl rfl q979 dJ16_iterator_4 ?_
  refine wz_ifeq (tgt := 21) X.x X.b dJ16_iterator_7 (by decide) (by decide) (fun h => absurd h (by decide)) (fun _ => ?_)
  refine lv_aload_n X.x X.b dJ16_iterator_10 rfl (lv_at hl 0 rfl) ?_
  refine wa_get (v := .ref m) X hH fks.2.2 wcJ16 0 (by decide) q965 rfl (fun _ h9 => h9) rfl dJ16_iterator_11 ?_
  refine wa_castS X hH (have h9 := (hX.1); h9) rfl rfl q979 dJ16_iterator_14 ?_
  refine wa_cr hS (wa_rV (rest := []) X hH (mJ5_keyIterator hX   (show Tr L R P ro none l by first | assumption | omega)) (cwV 0 X.t (lw_V q980 q981 q982 q118 q983) rfl rfl rfl hdJ5_keyIterator ⟨Nat.le_of_ble_eq_true rfl, Nat.le_of_ble_eq_true rfl⟩) rfl (have h9 := (hX.1); h9) rfl rfl hl.1 rfl (Nat.le_of_ble_eq_true rfl) dJ16_iterator_17 ⟨Nat.le_of_ble_eq_true rfl, Nat.le_of_ble_eq_true rfl⟩) (fun r17 w17 H locs hp hH hS => ?_)
  obtain ⟨it_17, hX, hk, hx17_0, hx17_1, hx17_2⟩ := hp
  have fks := fks.fr hk
  have hK := hK.trans hk
  refine W.widen (k := 1) (n := 4) (by first | exact Nat.le_of_ble_eq_true rfl | omega) (by first | exact Nat.le_of_ble_eq_true rfl | omega) ?_
  exact wa_aret X (Or.inl ⟨_, rfl⟩) hH hS r17 dJ16_iterator_20 ⟨_, hX, hK, hx17_0, hx17_1, hx17_2⟩
set_option maxRecDepth 100000 in
theorem mJ5_navigableKeySet {lL : Launch} {G : wa_G} {w : wa_W} {m : Nat} {l : List Nat} {K : Nat → Nat} {V : Nat → Nat} {L : Nat → Option Nat} {R : Nat → Option Nat} {P : Nat → Option Nat} {C : Nat → Int} {ro : Option Nat} {si : Int} {mo : Int} {nv : Option Nat} (hX : TN w m l K V L R P C ro si mo nv)  (hNV : NV m l w nv)  : Met lL yJ5_navigableKeySet (ws_ yJ5_navigableKeySet cJ5_navigableKeySet 2 (some (FieldType.object "java/util/NavigableSet"))) ({ frames := 4, cells := 1, slots := 1, locals := 81 } : Room) (wa_P G w [.ref m]) (wa_Qr G fun r u => ∃ (ks : Nat), TN u m l K V L R P C ro si mo (some ks) ∧ Fr m l w u ∧ (r = some ks) ∧ (Lt m l u ks (eO 20 [.ref m]))) 1 1 (wa_A G) := by
  refine wa_met (by decide) (by exact Nat.le_of_ble_eq_true rfl) ?_
  intro pP eE sS mM aA bB mT cC ls X hl hH
  have hS : va_S (wa_A G) sS.heap sS.heap [] := va_S.rf
  have hl : lv_has ls 2 [(0, .ref m)] := hl
  have hK : Fr m l w w := Fr.rf
  refine lv_aload_n X.x X.b dJ5_navigableKeySet_0 rfl (lv_at hl 0 rfl) ?_
  refine wa_get (v := va_rf nv) X hH (have h9 := (hX.1); h9) wcJ5 7 (by decide) q241 rfl (fun _ h9 => h9) rfl dJ5_navigableKeySet_1 ?_
  refine lv_astore_nO (lv' := [(1, va_rf nv), (0, .ref m)]) X.x X.b dJ5_navigableKeySet_4 rfl hl (by decide) rfl (fun ls hl => ?_)
  refine lv_aload_nO X.x X.b dJ5_navigableKeySet_5 rfl (lv_at hl 0 rfl) ?_
  rcases xo_cases (nv) with ho6 | ⟨a6, ho6⟩
  · refine wz_opt (q := none) ho6 ?_
    have hl : lv_has ls 2 [(1, .null), (0, .ref m)] := by rw [ho6] at hl; exact hl
    refine lv_ifnullN (tgt := 13) X.x X.b dJ5_navigableKeySet_6 (by decide) ?_
    refine lv_aload_n X.x X.b dJ5_navigableKeySet_13 rfl (lv_at hl 1 rfl) ?_
    have hX_14 := hX
    have hK_14 := hK
    have hNV_14 := hNV
    refine wa_new X hH hS wcJ16 rfl q959 q960 q136 [.null] (by decide) (Nat.le_of_ble_eq_true rfl) (Nat.le_of_ble_eq_true rfl) dJ5_navigableKeySet_14 (fun q14 w14 H hn14 ew hH hS => ?_)
    have hk0 := Ext.new hn14 ew
    have hX := hX.ext hk0
    have hk := hk0.f (m := m) (l := l)
    have hNV := hNV.fr hk
    have hK := hK.trans hk
    have hN14 := hk
    have n14 : Lt m l w14 q14 (eO 20 [.null]) := Lt.new hX_14 hn14 (by rw [ew]; exact wup_s)
    clear ew hk0
    refine lv_dup X.x X.b dJ5_navigableKeySet_17 rfl ?_
    refine lv_aload_n X.x X.b dJ5_navigableKeySet_18 rfl (lv_at hl 1 rfl) ?_
    refine wa_cv hS (wa_rI (rest := [.ref q14, .ref m]) X hH (mJ16_init  (show At w14 q14 (eO 20 [.null]) from n14.2.2) m ) (cwI 1 X.t (lw_meth q963) rfl rfl rfl (X.t _ q136) (X.t _ q961) (X.t _ q962) rfl hdJ16_init.2 ⟨Nat.le_of_ble_eq_true rfl, Nat.le_of_ble_eq_true rfl⟩) rfl rfl hl.1 rfl (Nat.le_of_ble_eq_true rfl) dJ5_navigableKeySet_19 ⟨Nat.le_of_ble_eq_true rfl, Nat.le_of_ble_eq_true rfl⟩) (fun w19 H locs hp hH hS => ?_)
    obtain ⟨hi, hO2⟩ := hp
    have hOq := hO2
    have hk := Fr.init hn14 hN14 hOq
    have hX := hX_14.init hn14 hX hOq
    have hNV := hNV_14.fr hk
    have hK := hK_14.trans hk
    have hN14 := hk
    have n14 : Lt m l w19 q14 (eO 20 [.ref m]) := Lt.new hX_14 hn14 hi
    refine lv_dup_x1 X.x X.b dJ5_navigableKeySet_22 rfl rfl ?_
    refine wa_put X hH hS (have h9 := (hX.1); h9) wcJ5 7 (by decide) q241 rfl (fun _ h9 => h9) rfl rfl rfl (Nat.le_of_ble_eq_true rfl) dJ5_navigableKeySet_23 (fun w23 H locs ew hH hS => ?_)
    have hk : Fr m l w19 w23 := Fr.map ew
    have hX := hX.smap (ro2 := ro) (si2 := si) (mo2 := mo) (nv2 := some q14) ew
    have hNV := hNV.fr hk
    have hN14 := hN14.trans hk
    have n14 := n14.fr hk
    have hK := hK.trans hk
    clear ew
    refine W.widen (k := 1) (n := 1) (by first | exact Nat.le_of_ble_eq_true rfl | omega) (by first | exact Nat.le_of_ble_eq_true rfl | omega) ?_
    exact wa_aret X (Or.inl ⟨_, rfl⟩) hH hS (some q14) dJ5_navigableKeySet_26 ⟨_, hX, hK, rfl, n14⟩
  · refine wz_opt (q := (some a6)) ho6 ?_
    have hl : lv_has ls 2 [(1, .ref a6), (0, .ref m)] := by rw [ho6] at hl; exact hl
    refine lv_ifnull X.x X.b dJ5_navigableKeySet_6 ?_
    refine lv_aload_n X.x X.b dJ5_navigableKeySet_9 rfl (lv_at hl 0 rfl) ?_
    refine lv_goto (tgt := 26) X.x X.b dJ5_navigableKeySet_10 (by decide) ?_
    refine W.widen (k := 1) (n := 1) (by first | exact Nat.le_of_ble_eq_true rfl | omega) (by first | exact Nat.le_of_ble_eq_true rfl | omega) ?_
    exact wa_aret X (Or.inl ⟨_, rfl⟩) hH hS (some a6) dJ5_navigableKeySet_26 ⟨a6, by rw [← ho6]; exact hX, hK, rfl, hNV a6 ho6⟩
set_option maxRecDepth 100000 in
theorem mJ5_keySet {lL : Launch} {G : wa_G} {w : wa_W} {m : Nat} {l : List Nat} {K : Nat → Nat} {V : Nat → Nat} {L : Nat → Option Nat} {R : Nat → Option Nat} {P : Nat → Option Nat} {C : Nat → Int} {ro : Option Nat} {si : Int} {mo : Int} {nv : Option Nat} (hX : TN w m l K V L R P C ro si mo nv)  (hNV : NV m l w nv)  : Met lL yJ5_keySet (ws_ yJ5_keySet cJ5_keySet 1 (some (FieldType.object "java/util/Set"))) ({ frames := 5, cells := 1, slots := 1, locals := 102 } : Room) (wa_P G w [.ref m]) (wa_Qr G fun r u => ∃ (ks : Nat), TN u m l K V L R P C ro si mo (some ks) ∧ Fr m l w u ∧ (r = some ks) ∧ (Lt m l u ks (eO 20 [.ref m]))) 1 1 (wa_A G) := by
  refine wa_met (by decide) (by exact Nat.le_of_ble_eq_true rfl) ?_
  intro pP eE sS mM aA bB mT cC ls X hl hH
  have hS : va_S (wa_A G) sS.heap sS.heap [] := va_S.rf
  have hl : lv_has ls 1 [(0, .ref m)] := hl
  have hK : Fr m l w w := Fr.rf
  refine lv_aload_n X.x X.b dJ5_keySet_0 rfl (lv_at hl 0 rfl) ?_
  refine wa_cr hS (wa_rV (rest := []) X hH (mJ5_navigableKeySet hX hNV  ) (cwV 0 X.t (lw_V q1091 q956 q2062 q118 q958) rfl rfl rfl hdJ5_navigableKeySet ⟨Nat.le_of_ble_eq_true rfl, Nat.le_of_ble_eq_true rfl⟩) rfl (have h9 := (hX.1); h9) rfl rfl hl.1 rfl (Nat.le_of_ble_eq_true rfl) dJ5_keySet_1 ⟨Nat.le_of_ble_eq_true rfl, Nat.le_of_ble_eq_true rfl⟩) (fun r1 w1 H locs hp hH hS => ?_)
  obtain ⟨ks_1, hX, hk, hx1_0, hx1_1⟩ := hp
  have hNV := hNV.fr hk
  have hK := hK.trans hk
  refine W.widen (k := 1) (n := 1) (by first | exact Nat.le_of_ble_eq_true rfl | omega) (by first | exact Nat.le_of_ble_eq_true rfl | omega) ?_
  exact wa_aret X (Or.inl ⟨_, rfl⟩) hH hS r1 dJ5_keySet_4 ⟨_, hX, hK, hx1_0, hx1_1⟩
set_option maxRecDepth 100000 in
theorem mJ3_iterator {lL : Launch} {G : wa_G} {w : wa_W} {m : Nat} {l : List Nat} {K : Nat → Nat} {V : Nat → Nat} {L : Nat → Option Nat} {R : Nat → Option Nat} {P : Nat → Option Nat} {C : Nat → Int} {ro : Option Nat} {si : Int} {mo : Int} {nv : Option Nat} (hX : TN w m l K V L R P C ro si mo nv) {ts : Nat} (fts : Lt m l w ts (eO 15 [.ref m])) (hNV : NV m l w nv) (ht : Tr L R P ro none l) : Met lL yJ3_iterator (ws_ yJ3_iterator cJ3_iterator 1 (some (FieldType.object "java/util/Iterato\x72"))) ({ frames := 5, cells := 2, slots := 5, locals := 104 } : Room) (wa_P G w [.ref ts]) (wa_Qr G fun r u => ∃ (ks : Nat) (it : Nat), TN u m l K V L R P C ro si mo (some ks) ∧ Fr m l w u ∧ (r = some it) ∧ (w it = none) ∧ (u it = some (eO 21 [va_rf (l.head?), .null, .int (zI mo), .ref m])) ∧ (Lt m l u ks (eO 20 [.ref m]))) 2 5 (wa_A G) := by
  refine wa_met (by decide) (by exact Nat.le_of_ble_eq_true rfl) ?_
  intro pP eE sS mM aA bB mT cC ls X hl hH
  have hS : va_S (wa_A G) sS.heap sS.heap [] := va_S.rf
  have hl : lv_has ls 1 [(0, .ref ts)] := hl
  have hK : Fr m l w w := Fr.rf
  refine lv_aload_n X.x X.b dJ3_iterator_0 rfl (lv_at hl 0 rfl) ?_
  refine wa_get (v := .ref m) X hH fts.2.2 wcJ3 0 (by decide) q271 rfl (fun _ h9 => h9) rfl dJ3_iterator_1 ?_
  refine wa_c5r hS (wa_rF (rest := []) X hH (mJ5_navigableKeySet hX hNV  ) (va_cwF 0 X.t (lw_F q951 q954 q956 q118 q958) rfl rfl rfl (X.k.2.2.2.1 ("java/util/TreeMap", ⟨"java/util/NavigableMap", "navigableKeySet", "()Ljava/util/NavigableSet;"⟩, ⟨"java/util/TreeMap", "navigableKeySet", "()Ljava/util/NavigableSet;"⟩) (by decide)) ⟨by decide, by decide, by decide +kernel⟩ ⟨Nat.le_of_ble_eq_true rfl, Nat.le_of_ble_eq_true rfl⟩) rfl (have h9 := (hX.1); h9) rfl rfl hl.1 rfl (Nat.le_of_ble_eq_true rfl) dJ3_iterator_4 ⟨Nat.le_of_ble_eq_true rfl, Nat.le_of_ble_eq_true rfl⟩) (fun r4 w4 H locs hp hH hS => ?_)
  obtain ⟨ks_4, hX, hk, hx4_0, hx4_1⟩ := hp
  have fts := fts.fr hk
  have hNV := hNV.fr hk
  have hK := hK.trans hk
  refine wz_opt (q := some ks_4) (by exact hx4_0) ?_
  have hK0 := hK
  have hX0 := hX
  refine wa_c5r hS (wa_rF (rest := []) X hH (mJ16_iterator hX hx4_1  (show Tr L R P ro none l by first | assumption | omega)) (va_cwF 0 X.t (lw_F q970 q974 q976 q136 q978) rfl rfl rfl (X.k.2.2.2.1 ("java/util/TreeMap$KeySet", ⟨"java/util/NavigableSet", "iterato\x72", "()Ljava/util/Iterator;"⟩, ⟨"java/util/TreeMap$KeySet", "iterato\x72", "()Ljava/util/Iterator;"⟩) (by decide)) ⟨by decide, by decide, by decide +kernel⟩ ⟨Nat.le_of_ble_eq_true rfl, Nat.le_of_ble_eq_true rfl⟩) rfl hx4_1.2.2 rfl rfl hl.1 rfl (Nat.le_of_ble_eq_true rfl) dJ3_iterator_9 ⟨Nat.le_of_ble_eq_true rfl, Nat.le_of_ble_eq_true rfl⟩) (fun r9 w9 H locs hp hH hS => ?_)
  obtain ⟨it_9, hX, hk, hx9_0, hx9_1, hx9_2⟩ := hp
  have fts := fts.fr hk
  have hNV := hNV.fr hk
  have hx4_1 := hx4_1.fr hk
  have hK := hK.trans hk
  refine W.widen (k := 2) (n := 5) (by first | exact Nat.le_of_ble_eq_true rfl | omega) (by first | exact Nat.le_of_ble_eq_true rfl | omega) ?_
  exact wa_aret X (Or.inl ⟨_, rfl⟩) hH hS r9 dJ3_iterator_14 ⟨_, _, hX, hK, hx9_0, hK0.no hX0 hx9_1, hx9_2, hx4_1⟩
set_option maxRecDepth 100000 in
theorem mJ5_getEntry {lL : Launch} {G : wa_G} {w : wa_W} {m : Nat} {l : List Nat} {K : Nat → Nat} {V : Nat → Nat} {L : Nat → Option Nat} {R : Nat → Option Nat} {P : Nat → Option Nat} {C : Nat → Int} {ro : Option Nat} {si : Int} {mo : Int} {nv : Option Nat} (hX : TN w m l K V L R P C ro si mo nv) {q : Nat} {k0 : KT} {b0 : Bool} {κ : Nat → KT} {n : Nat} (hKS : KS m l w K κ b0) (fq : Lt m l w q (kE k0)) (ht : Tr L R P ro none l) (hn : l.Nodup) (hb : k0.1 = b0) (hk0 : kOK k0) (hso : l.Pairwise (fun x y => kv (κ x) < kv (κ y))) (hnn : n ∈ l) (hkn : kv (κ n) = kv k0) : Met lL yJ5_getEntry (ws_ yJ5_getEntry cJ5_getEntry 5 (some (FieldType.object "java/util/TreeMap$Entry"))) ({ frames := 4, cells := 0, slots := 0, locals := 120 } : Room) (wa_P G w [.ref m, .ref q]) (wa_Qr G fun r u => r = some n ∧ w = u) 0 0 (wa_A G) := by
  refine wa_met (by decide) (by exact Nat.le_of_ble_eq_true rfl) ?_
  intro pP eE sS mM aA bB mT cC ls X hl hH
  have hS : va_S (wa_A G) sS.heap sS.heap [] := va_S.rf
  have hl : lv_has ls 5 [(0, .ref m), (1, .ref q)] := hl
  have hK : Fr m l w w := Fr.rf
  refine lv_aload_n X.x X.b dJ5_getEntry_0 rfl (lv_at hl 0 rfl) ?_
  refine wa_get (v := .null) X hH (have h9 := (hX.1); h9) wcJ5 2 (by decide) q236 rfl (fun _ h9 => h9) rfl dJ5_getEntry_1 ?_
  refine lv_ifnullN (tgt := 13) X.x X.b dJ5_getEntry_4 (by decide) ?_
  refine lv_aload_n X.x X.b dJ5_getEntry_13 rfl (lv_at hl 1 rfl) ?_
  refine wa_cr hS (wa_rS (rest := []) X hH (mJ11_requireNonNull _  q ) (va_cwS 1 X.t (lw_S q812 q813 q131 q814) rfl rfl rfl hdJ11_requireNonNull.2 ⟨Nat.le_of_ble_eq_true rfl, Nat.le_of_ble_eq_true rfl⟩) rfl rfl hl.1 rfl (Nat.le_of_ble_eq_true rfl) dJ5_getEntry_14 ⟨Nat.le_of_ble_eq_true rfl, Nat.le_of_ble_eq_true rfl⟩) (fun r14 w14 H locs hp hH hS => ?_)
  obtain ⟨rfl, hw⟩ := hp
  rw [← hw] at hH; clear hw
  refine lv_pop X.x X.b dJ5_getEntry_17 rfl ?_
  refine lv_aload_n X.x X.b dJ5_getEntry_18 rfl (lv_at hl 1 rfl) ?_
  refine wb_castK X hH fq.2.2 rfl q725 dJ5_getEntry_19 ?_
  refine lv_astore_n (lv' := [(2, .ref q), (0, .ref m), (1, .ref q)]) X.x X.b dJ5_getEntry_22 rfl hl (by decide) rfl (fun ls hl => ?_)
  refine lv_aload_n X.x X.b dJ5_getEntry_23 rfl (lv_at hl 1 rfl) ?_
  refine wa_get (v := va_rf ro) X hH (have h9 := (hX.1); h9) wcJ5 3 (by decide) q237 rfl (fun _ h9 => h9) rfl dJ5_getEntry_24 ?_
  refine lv_astore_nO (lv' := [(3, va_rf ro), (2, .ref q), (0, .ref m), (1, .ref q)]) X.x X.b dJ5_getEntry_27 rfl hl (by decide) rfl (fun ls hl => ?_)
  have L28 : ∀ (nn : Nat) (ot : Option Nat) (pt : Option Nat) (lt : List Nat) (a1 : List Nat) (b1 : List Nat), (lt.length) = nn → (l = a1 ++ (lt ++ b1)) → (Tr L R P ot pt lt) → (∀ n, n ∈ a1 → kv (κ n) < kv k0) → (∀ n, n ∈ b1 → kv k0 < kv (κ n)) → (n ∈ lt) → ∀ (H : Heap) (locs : List Loc) (ls : Array Slot), wa_H G w H → va_S (wa_A G) sS.heap H locs → lv_has ls 5 [(3, va_rf ot), (2, .ref q), (0, .ref m), (1, .ref q)] → W pP lL eE ({ frames := 4, cells := 0, slots := 0, locals := 120 } : Room) sS mM aA bB mT cC H locs 0 0 (MQ bB (wa_Qr G fun r u => r = some n ∧ w = u) aA sS 0 0 (wa_A G)) (F0 mM 28 ls []) := by
    intro nn
    induction nn using Nat.strongRecOn with
    | ind nn ih28 =>
      intro ot pt lt a1 b1 hmu28 i28_0 i28_1 i28_2 i28_3 i28_4 H locs ls hH hS hl
      refine lv_aload_nO X.x X.b dJ5_getEntry_28 rfl (lv_at hl 0 rfl) ?_
      rcases xo_cases (ot) with ho29 | ⟨a29, ho29⟩
      · refine wz_opt (q := none) ho29 ?_
        have hl : lv_has ls 5 [(3, .null), (2, .ref q), (0, .ref m), (1, .ref q)] := by rw [ho29] at hl; exact hl
        rw [ho29] at i28_1
        have e1 := i28_1.nil'
        rw [e1] at i28_4
        exact absurd i28_4 (by simp)
      · refine wz_opt (q := (some a29)) ho29 ?_
        have hl : lv_has ls 5 [(3, .ref a29), (2, .ref q), (0, .ref m), (1, .ref q)] := by rw [ho29] at hl; exact hl
        rw [ho29] at i28_1
        obtain ⟨l1, l2, elt, hpt, hl1, hl2⟩ := i28_1.inv
        have htl : a29 ∈ l := by rw [i28_0, elt]; simp
        obtain ⟨hk1, hk2, hk3, hk4, hk5⟩ := hKS a29 htl
        have hkt : Lt m l w (K a29) (kE (κ a29)) := ⟨hk1, hk2, hk3⟩
        have hcs := kcmp_s (a := k0) (b := κ a29) (by rw [hb, hk4]) hk0 hk5
        have hl3 : l = a1 ++ (l1 ++ a29 :: l2) ++ b1 := by rw [i28_0, elt]; simp
        refine lv_ifnull X.x X.b dJ5_getEntry_29 ?_
        refine lv_aload_n X.x X.b dJ5_getEntry_32 rfl (lv_at hl 1 rfl) ?_
        refine lv_aload_n X.x X.b dJ5_getEntry_33 rfl (lv_at hl 0 rfl) ?_
        refine wa_get (v := .ref (K a29)) X hH (have h9 := (hX.nd htl); h9) wcJ10 0 (by decide) q790 rfl (fun _ h9 => h9) rfl dJ5_getEntry_34 ?_
        refine wb_cmp (x := k0) (z := (κ a29)) X hH hS fq.2.2 hkt.2.2 (by rw [hb, hk4]) hk0 hk5 q727 rfl hl.1 (Nat.le_of_ble_eq_true rfl) (Nat.le_of_ble_eq_true rfl) (Nat.le_of_ble_eq_true rfl) ⟨Nat.le_of_ble_eq_true rfl, Nat.le_of_ble_eq_true rfl⟩ dJ5_getEntry_37 (fun H locs hH hS => ?_)
        refine lv_istore (lv' := [(4, .int (zI (kcmp k0 (κ a29)))), (3, .ref a29), (2, .ref q), (0, .ref m), (1, .ref q)]) X.x X.b dJ5_getEntry_42 hl (by decide) rfl (fun ls hl => ?_)
        refine lv_iload X.x X.b dJ5_getEntry_44 (lv_at hl 0 rfl) ?_
        refine wz_ifge (tgt := 57) X.x X.b dJ5_getEntry_46 (by decide) ⟨by omega, by omega⟩ (fun c46 => ?_) (fun c46 => ?_)
        · refine lv_iload X.x X.b dJ5_getEntry_57 (lv_at hl 0 rfl) ?_
          refine wz_ifle (tgt := 70) X.x X.b dJ5_getEntry_59 (by decide) ⟨by omega, by omega⟩ (fun c59 => ?_) (fun c59 => ?_)
          · refine lv_aload_n X.x X.b dJ5_getEntry_70 rfl (lv_at hl 1 rfl) ?_
            exact wa_aret X (Or.inl ⟨_, rfl⟩) hH hS (some a29) dJ5_getEntry_71 ⟨by exact congrArg some (get_e hso hl3 hkn hcs (by omega) (by omega) (elt ▸ i28_4)), rfl⟩
          · refine lv_aload_n X.x X.b dJ5_getEntry_62 rfl (lv_at hl 1 rfl) ?_
            refine wa_get (v := va_rf (R a29)) X hH (have h9 := (hX.nd htl); h9) wcJ10 3 (by decide) q794 rfl (fun _ h9 => h9) rfl dJ5_getEntry_63 ?_
            refine lv_astore_nO (lv' := [(3, va_rf (R a29)), (4, .int (zI (kcmp k0 (κ a29)))), (2, .ref q), (0, .ref m), (1, .ref q)]) X.x X.b dJ5_getEntry_66 rfl hl (by decide) rfl (fun ls hl => ?_)
            refine lv_goto (tgt := 72) X.x X.b dJ5_getEntry_67 (by decide) ?_
            refine lv_goto (tgt := 28) X.x X.b dJ5_getEntry_72 (by decide) ?_
            exact ih28 _ (by have h9 := hmu28; rw [elt] at h9; simp at h9; omega) (R a29) (some a29) l2 (a1 ++ l1 ++ [a29]) b1 rfl (by rw [i28_0, elt]; simp) (by exact hl2) (by intro n h; exact put_lo hso hl3 (hcs.2.1.mp (by omega)) i28_2 n h) (by exact i28_3) (by exact get_r hso hl3 hkn (hcs.2.1.mp (by omega)) (elt ▸ i28_4)) _ _ _ hH hS (lv_sub hl [0, 2, 3, 4] rfl)
        · refine lv_aload_n X.x X.b dJ5_getEntry_49 rfl (lv_at hl 1 rfl) ?_
          refine wa_get (v := va_rf (L a29)) X hH (have h9 := (hX.nd htl); h9) wcJ10 2 (by decide) q793 rfl (fun _ h9 => h9) rfl dJ5_getEntry_50 ?_
          refine lv_astore_nO (lv' := [(3, va_rf (L a29)), (4, .int (zI (kcmp k0 (κ a29)))), (2, .ref q), (0, .ref m), (1, .ref q)]) X.x X.b dJ5_getEntry_53 rfl hl (by decide) rfl (fun ls hl => ?_)
          refine lv_goto (tgt := 72) X.x X.b dJ5_getEntry_54 (by decide) ?_
          refine lv_goto (tgt := 28) X.x X.b dJ5_getEntry_72 (by decide) ?_
          exact ih28 _ (by have h9 := hmu28; rw [elt] at h9; simp at h9; omega) (L a29) (some a29) l1 a1 (a29 :: l2 ++ b1) rfl (by rw [i28_0, elt]; simp) (by exact hl1) (by exact i28_2) (by intro n h; exact put_hi hso hl3 (hcs.1.mp (by omega)) i28_3 n h) (by exact get_l hso hl3 hkn (hcs.1.mp (by omega)) (elt ▸ i28_4)) _ _ _ hH hS (lv_sub hl [0, 2, 3, 4] rfl)
  exact L28 _ ro none l ([]) ([]) rfl (by simp) (by exact ht) (by intro n h; cases h) (by intro n h; cases h) (by exact hnn) _ _ _ hH hS (lv_sub hl [0, 1, 2, 3] rfl)
set_option maxRecDepth 100000 in
theorem mJ5_get {lL : Launch} {G : wa_G} {w : wa_W} {m : Nat} {l : List Nat} {K : Nat → Nat} {V : Nat → Nat} {L : Nat → Option Nat} {R : Nat → Option Nat} {P : Nat → Option Nat} {C : Nat → Int} {ro : Option Nat} {si : Int} {mo : Int} {nv : Option Nat} (hX : TN w m l K V L R P C ro si mo nv) {q : Nat} {k0 : KT} {b0 : Bool} {κ : Nat → KT} {n : Nat} (hKS : KS m l w K κ b0) (fq : Lt m l w q (kE k0)) (ht : Tr L R P ro none l) (hn : l.Nodup) (hb : k0.1 = b0) (hk0 : kOK k0) (hso : l.Pairwise (fun x y => kv (κ x) < kv (κ y))) (hnn : n ∈ l) (hkn : kv (κ n) = kv k0) : Met lL yJ5_get (ws_ yJ5_get cJ5_get 3 (some (FieldType.object "java/lang/Object"))) ({ frames := 5, cells := 0, slots := 0, locals := 144 } : Room) (wa_P G w [.ref m, .ref q]) (wa_Qr G fun r u => r = some (V n) ∧ w = u) 0 0 (wa_A G) := by
  refine wa_met (by decide) (by exact Nat.le_of_ble_eq_true rfl) ?_
  intro pP eE sS mM aA bB mT cC ls X hl hH
  have hS : va_S (wa_A G) sS.heap sS.heap [] := va_S.rf
  have hl : lv_has ls 3 [(0, .ref m), (1, .ref q)] := hl
  have hK : Fr m l w w := Fr.rf
  refine lv_aload_n X.x X.b dJ5_get_0 rfl (lv_at hl 0 rfl) ?_
  refine lv_aload_n X.x X.b dJ5_get_1 rfl (lv_at hl 1 rfl) ?_
  refine wa_cr hS (wa_rV (rest := []) X hH (mJ5_getEntry hX hKS fq  (show Tr L R P ro none l by first | assumption | omega) (show l.Nodup by first | assumption | omega) (show k0.1 = b0 by first | assumption | omega) (show kOK k0 by first | assumption | omega) (show l.Pairwise (fun x y => kv (κ x) < kv (κ y)) by first | assumption | omega) (show n ∈ l by first | assumption | omega) (show kv (κ n) = kv k0 by first | assumption | omega)) (cwV 1 X.t (lw_V q1104 q1105 q1106 q118 q1107) rfl rfl rfl hdJ5_getEntry ⟨Nat.le_of_ble_eq_true rfl, Nat.le_of_ble_eq_true rfl⟩) rfl (have h9 := (hX.1); h9) rfl rfl hl.1 rfl (Nat.le_of_ble_eq_true rfl) dJ5_get_2 ⟨Nat.le_of_ble_eq_true rfl, Nat.le_of_ble_eq_true rfl⟩) (fun r2 w2 H locs hp hH hS => ?_)
  obtain ⟨rfl, hw⟩ := hp
  rw [← hw] at hH; clear hw
  refine wz_opt (q := some n) (by rfl) ?_
  refine lv_astore_n (lv' := [(2, .ref n), (0, .ref m), (1, .ref q)]) X.x X.b dJ5_get_5 rfl hl (by decide) rfl (fun ls hl => ?_)
  refine lv_aload_n X.x X.b dJ5_get_6 rfl (lv_at hl 0 rfl) ?_
  refine lv_ifnonnull (tgt := 14) X.x X.b dJ5_get_7 (by decide) ?_
  refine lv_aload_n X.x X.b dJ5_get_14 rfl (lv_at hl 0 rfl) ?_
  refine wa_get (v := .ref (V n)) X hH (have h9 := (hX.nd hnn); h9) wcJ10 1 (by decide) q792 rfl (fun _ h9 => h9) rfl dJ5_get_15 ?_
  exact wa_aret X (Or.inl ⟨_, rfl⟩) hH hS (some (V n)) dJ5_get_18 ⟨by first | rfl | omega | assumption, rfl⟩

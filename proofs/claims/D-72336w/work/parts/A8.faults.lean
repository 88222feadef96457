/-! FAULTS: constructors -/
set_option maxRecDepth 100000 in
theorem mJ12_init_2_12 {lL : Launch} {G : wa_G} {w : wa_W} {q0 : Nat} {mz : Option Nat} {cz : Option Nat} (eo : At w q0 (eO 12 [.null, .null, .null, .null, .null, .int (zI 0), .int (zI 0)]))  : Met lL yJ12_init_2 (ws_ yJ12_init_2 cJ12_init_2 5 (none : Option FieldType)) ({ frames := 1, cells := 0, slots := 0, locals := 20 } : Room) (wa_P G w [.ref q0, va_rf mz, va_rf cz, .int (zI 0), .int (zI 0)]) (wa_Qv G fun u => u q0 = some (eO 12 [va_rf cz, .null, .null, va_rf mz, .null, .int (zI 0), .int (zI 0)]) ∧ Off q0 w u) 0 0 (wa_A G) := by
  refine wa_met (by decide) (by cases mz <;> cases cz <;> exact Nat.le_of_ble_eq_true rfl) ?_
  intro pP eE sS mM aA bB mT cC ls X hl hH
  have hS : va_S (wa_A G) sS.heap sS.heap [] := va_S.rf
  have hl : lv_has ls 5 [(0, .ref q0), (1, va_rf mz), (2, va_rf cz), (3, .int (zI 0)), (4, .int (zI 0))] := by cases mz <;> cases cz <;> exact hl
  have hK : Ext w w := Ext.rf
  have hO : Off q0 w w := Off.rf
  refine lv_aload_n X.x X.b dJ12_init_2_0 rfl (lv_at hl 0 rfl) ?_
  refine W.objInit X.x X.b X.own (X.t _ q839) (X.t _ q153) (X.t _ q154) rfl (by rw [X.ml]; exact hl.1) rfl dJ12_init_2_1 (Nat.le_of_ble_eq_true rfl) (Nat.le_of_ble_eq_true rfl) ?_
  refine W.eq (g2 := F0 mM 4 ls []) rfl ?_
  refine lv_aload_n X.x X.b dJ12_init_2_4 rfl (lv_at hl 0 rfl) ?_
  refine lv_aload_n X.x X.b dJ12_init_2_5 rfl (lv_at hl 0 rfl) ?_
  refine wa_put X hH hS eo wcX12 0 (by decide) q883 rfl (fun _ h9 => h9) rfl rfl rfl (Nat.le_of_ble_eq_true rfl) dJ12_init_2_6 (fun w6 H locs ew hH hS => ?_)
  have hO : Off q0 w w6 := hO.put ew
  have eo : At w6 q0 (eO 12 [.ref q0, .null, .null, .null, .null, .int (zI 0), .int (zI 0)]) := by rw [ew]; exact wup_s
  clear ew
  refine lv_aload_n X.x X.b dJ12_init_2_9 rfl (lv_at hl 0 rfl) ?_
  obtain ⟨t10, hZ10⟩ := X.k.2.2.2.2.2.2.1.2.1
  refine wa_gets X hH hZ10 rfl q840 (fun _ h9 => h9) dJ12_init_2_10 ?_
  refine wa_put X hH hS eo wcX12 1 (by decide) q884 rfl (fun _ h9 => h9) rfl rfl rfl (Nat.le_of_ble_eq_true rfl) dJ12_init_2_13 (fun w13 H locs ew hH hS => ?_)
  have hO : Off q0 w w13 := hO.put ew
  have eo : At w13 q0 (eO 12 [.ref q0, .ref t10, .null, .null, .null, .int (zI 0), .int (zI 0)]) := by rw [ew]; exact wup_s
  clear ew
  refine lv_aload_n X.x X.b dJ12_init_2_16 rfl (lv_at hl 0 rfl) ?_
  obtain ⟨t17, hZ17⟩ := X.k.2.2.2.2.2.2.1.2.2.1
  refine wa_gets X hH hZ17 rfl q842 (fun _ h9 => h9) dJ12_init_2_17 ?_
  refine wa_put X hH hS eo wcX12 2 (by decide) q885 rfl (fun _ h9 => h9) rfl rfl rfl (Nat.le_of_ble_eq_true rfl) dJ12_init_2_20 (fun w20 H locs ew hH hS => ?_)
  have hO : Off q0 w w20 := hO.put ew
  have eo : At w20 q0 (eO 12 [.ref q0, .ref t10, .ref t17, .null, .null, .int (zI 0), .int (zI 0)]) := by rw [ew]; exact wup_s
  clear ew
  refine lv_iload X.x X.b dJ12_init_2_23 (lv_at hl 4 rfl) ?_
  refine wz_ifeq (tgt := 36) X.x X.b dJ12_init_2_25 (by decide) (by decide) (fun _ => ?_) (fun h => absurd h (by decide))
  refine lv_aload_n X.x X.b dJ12_init_2_36 rfl (lv_at hl 0 rfl) ?_
  refine lv_null X.x X.b dJ12_init_2_37 ?_
  refine wa_put X hH hS eo wcX12 1 (by decide) q884 rfl (fun _ h9 => h9) rfl rfl rfl (Nat.le_of_ble_eq_true rfl) dJ12_init_2_38 (fun w38 H locs ew hH hS => ?_)
  have hO : Off q0 w w38 := hO.put ew
  have eo : At w38 q0 (eO 12 [.ref q0, .null, .ref t17, .null, .null, .int (zI 0), .int (zI 0)]) := by rw [ew]; exact wup_s
  clear ew
  refine lv_aload_n X.x X.b dJ12_init_2_41 rfl (lv_at hl 0 rfl) ?_
  refine lv_aload_nO X.x X.b dJ12_init_2_42 rfl (lv_at hl 1 rfl) ?_
  refine wa_put X hH hS eo wcX12 3 (by decide) q882 rfl (fun _ h9 => h9) rfl rf_nar rf_fit (Nat.le_of_ble_eq_true rfl) dJ12_init_2_43 (fun w43 H locs ew hH hS => ?_)
  have hO : Off q0 w w43 := hO.put ew
  have eo : At w43 q0 (eO 12 [.ref q0, .null, .ref t17, va_rf mz, .null, .int (zI 0), .int (zI 0)]) := by rw [ew]; exact wup_s
  clear ew
  refine lv_aload_n X.x X.b dJ12_init_2_46 rfl (lv_at hl 0 rfl) ?_
  refine lv_aload_nO X.x X.b dJ12_init_2_47 rfl (lv_at hl 2 rfl) ?_
  refine wa_put X hH hS eo wcX12 0 (by decide) q883 rfl (fun _ h9 => h9) rfl rf_nar rf_fit (Nat.le_of_ble_eq_true rfl) dJ12_init_2_48 (fun w48 H locs ew hH hS => ?_)
  have hO : Off q0 w w48 := hO.put ew
  have eo : At w48 q0 (eO 12 [va_rf cz, .null, .ref t17, va_rf mz, .null, .int (zI 0), .int (zI 0)]) := by rw [ew]; exact wup_s
  clear ew
  refine lv_iload_n X.x X.b dJ12_init_2_51 rfl (lv_at hl 3 rfl) ?_
  refine wz_ifne (tgt := 60) X.x X.b dJ12_init_2_52 (by decide) (by decide) (fun h => absurd h (by decide)) (fun _ => ?_)
  refine lv_aload_n X.x X.b dJ12_init_2_55 rfl (lv_at hl 0 rfl) ?_
  refine lv_null X.x X.b dJ12_init_2_56 ?_
  refine wa_put X hH hS eo wcX12 2 (by decide) q885 rfl (fun _ h9 => h9) rfl rfl rfl (Nat.le_of_ble_eq_true rfl) dJ12_init_2_57 (fun w57 H locs ew hH hS => ?_)
  have hO : Off q0 w w57 := hO.put ew
  have eo : At w57 q0 (eO 12 [va_rf cz, .null, .null, va_rf mz, .null, .int (zI 0), .int (zI 0)]) := by rw [ew]; exact wup_s
  clear ew
  exact wa_vret X hH hS dJ12_init_2_60 ⟨eo, hO⟩
set_option maxRecDepth 100000 in
theorem mJ13_init_2_12 {lL : Launch} {G : wa_G} {w : wa_W} {q0 : Nat} {mz : Option Nat} {cz : Option Nat} (eo : At w q0 (eO 12 [.null, .null, .null, .null, .null, .int (zI 0), .int (zI 0)]))  : Met lL yJ13_init_2 (ws_ yJ13_init_2 cJ13_init_2 5 (none : Option FieldType)) ({ frames := 2, cells := 0, slots := 0, locals := 44 } : Room) (wa_P G w [.ref q0, va_rf mz, va_rf cz, .int (zI 0), .int (zI 0)]) (wa_Qv G fun u => u q0 = some (eO 12 [va_rf cz, .null, .null, va_rf mz, .null, .int (zI 0), .int (zI 0)]) ∧ Off q0 w u) 0 0 (wa_A G) := by
  refine wa_met (by decide) (by cases mz <;> cases cz <;> exact Nat.le_of_ble_eq_true rfl) ?_
  intro pP eE sS mM aA bB mT cC ls X hl hH
  have hS : va_S (wa_A G) sS.heap sS.heap [] := va_S.rf
  have hl : lv_has ls 5 [(0, .ref q0), (1, va_rf mz), (2, va_rf cz), (3, .int (zI 0)), (4, .int (zI 0))] := by cases mz <;> cases cz <;> exact hl
  have hK : Ext w w := Ext.rf
  have hO : Off q0 w w := Off.rf
  refine lv_aload_n X.x X.b dJ13_init_2_0 rfl (lv_at hl 0 rfl) ?_
  refine lv_aload_nO X.x X.b dJ13_init_2_1 rfl (lv_at hl 1 rfl) ?_
  refine lv_aload_nO X.x X.b dJ13_init_2_2 rfl (lv_at hl 2 rfl) ?_
  refine lv_iload_n X.x X.b dJ13_init_2_3 rfl (lv_at hl 3 rfl) ?_
  refine lv_iload X.x X.b dJ13_init_2_4 (lv_at hl 4 rfl) ?_
  refine wa_cv hS (wa_rI (rest := []) X hH (mJ12_init_2_12  (show At w q0 (eO 12 [.null, .null, .null, .null, .null, .int (zI 0), .int (zI 0)]) from eo)  (mz := mz) (cz := cz) ) (cwI 4 X.t (lw_meth q1484) rfl rfl rfl (X.t _ q132) (X.t _ q1482) (X.t _ q1483) rfl hdJ12_init_2.2 ⟨Nat.le_of_ble_eq_true rfl, Nat.le_of_ble_eq_true rfl⟩) rfl rfl hl.1 rfl (Nat.le_of_ble_eq_true rfl) dJ13_init_2_6 ⟨Nat.le_of_ble_eq_true rfl, Nat.le_of_ble_eq_true rfl⟩) (fun w6 H locs hp hH hS => ?_)
  obtain ⟨hi, hO2⟩ := hp
  have hO : Off q0 w w6 := hO.trans hO2
  have eo : At w6 q0 (eO 12 [va_rf cz, .null, .null, va_rf mz, .null, .int (zI 0), .int (zI 0)]) := hi
  exact wa_vret X hH hS dJ13_init_2_9 ⟨eo, hO⟩
set_option maxRecDepth 100000 in
theorem mJ12_init_2_13 {lL : Launch} {G : wa_G} {w : wa_W} {q0 : Nat} {mz : Option Nat} {cz : Option Nat} (eo : At w q0 (eO 13 [.null, .null, .null, .null, .null, .int (zI 0), .int (zI 0)]))  : Met lL yJ12_init_2 (ws_ yJ12_init_2 cJ12_init_2 5 (none : Option FieldType)) ({ frames := 1, cells := 0, slots := 0, locals := 20 } : Room) (wa_P G w [.ref q0, va_rf mz, va_rf cz, .int (zI 0), .int (zI 0)]) (wa_Qv G fun u => u q0 = some (eO 13 [va_rf cz, .null, .null, va_rf mz, .null, .int (zI 0), .int (zI 0)]) ∧ Off q0 w u) 0 0 (wa_A G) := by
  refine wa_met (by decide) (by cases mz <;> cases cz <;> exact Nat.le_of_ble_eq_true rfl) ?_
  intro pP eE sS mM aA bB mT cC ls X hl hH
  have hS : va_S (wa_A G) sS.heap sS.heap [] := va_S.rf
  have hl : lv_has ls 5 [(0, .ref q0), (1, va_rf mz), (2, va_rf cz), (3, .int (zI 0)), (4, .int (zI 0))] := by cases mz <;> cases cz <;> exact hl
  have hK : Ext w w := Ext.rf
  have hO : Off q0 w w := Off.rf
  refine lv_aload_n X.x X.b dJ12_init_2_0 rfl (lv_at hl 0 rfl) ?_
  refine W.objInit X.x X.b X.own (X.t _ q839) (X.t _ q153) (X.t _ q154) rfl (by rw [X.ml]; exact hl.1) rfl dJ12_init_2_1 (Nat.le_of_ble_eq_true rfl) (Nat.le_of_ble_eq_true rfl) ?_
  refine W.eq (g2 := F0 mM 4 ls []) rfl ?_
  refine lv_aload_n X.x X.b dJ12_init_2_4 rfl (lv_at hl 0 rfl) ?_
  refine lv_aload_n X.x X.b dJ12_init_2_5 rfl (lv_at hl 0 rfl) ?_
  refine wa_put X hH hS eo wcX13 0 (by decide) q883 rfl (fun _ h9 => h9) rfl rfl rfl (Nat.le_of_ble_eq_true rfl) dJ12_init_2_6 (fun w6 H locs ew hH hS => ?_)
  have hO : Off q0 w w6 := hO.put ew
  have eo : At w6 q0 (eO 13 [.ref q0, .null, .null, .null, .null, .int (zI 0), .int (zI 0)]) := by rw [ew]; exact wup_s
  clear ew
  refine lv_aload_n X.x X.b dJ12_init_2_9 rfl (lv_at hl 0 rfl) ?_
  obtain ⟨t10, hZ10⟩ := X.k.2.2.2.2.2.2.1.2.1
  refine wa_gets X hH hZ10 rfl q840 (fun _ h9 => h9) dJ12_init_2_10 ?_
  refine wa_put X hH hS eo wcX13 1 (by decide) q884 rfl (fun _ h9 => h9) rfl rfl rfl (Nat.le_of_ble_eq_true rfl) dJ12_init_2_13 (fun w13 H locs ew hH hS => ?_)
  have hO : Off q0 w w13 := hO.put ew
  have eo : At w13 q0 (eO 13 [.ref q0, .ref t10, .null, .null, .null, .int (zI 0), .int (zI 0)]) := by rw [ew]; exact wup_s
  clear ew
  refine lv_aload_n X.x X.b dJ12_init_2_16 rfl (lv_at hl 0 rfl) ?_
  obtain ⟨t17, hZ17⟩ := X.k.2.2.2.2.2.2.1.2.2.1
  refine wa_gets X hH hZ17 rfl q842 (fun _ h9 => h9) dJ12_init_2_17 ?_
  refine wa_put X hH hS eo wcX13 2 (by decide) q885 rfl (fun _ h9 => h9) rfl rfl rfl (Nat.le_of_ble_eq_true rfl) dJ12_init_2_20 (fun w20 H locs ew hH hS => ?_)
  have hO : Off q0 w w20 := hO.put ew
  have eo : At w20 q0 (eO 13 [.ref q0, .ref t10, .ref t17, .null, .null, .int (zI 0), .int (zI 0)]) := by rw [ew]; exact wup_s
  clear ew
  refine lv_iload X.x X.b dJ12_init_2_23 (lv_at hl 4 rfl) ?_
  refine wz_ifeq (tgt := 36) X.x X.b dJ12_init_2_25 (by decide) (by decide) (fun _ => ?_) (fun h => absurd h (by decide))
  refine lv_aload_n X.x X.b dJ12_init_2_36 rfl (lv_at hl 0 rfl) ?_
  refine lv_null X.x X.b dJ12_init_2_37 ?_
  refine wa_put X hH hS eo wcX13 1 (by decide) q884 rfl (fun _ h9 => h9) rfl rfl rfl (Nat.le_of_ble_eq_true rfl) dJ12_init_2_38 (fun w38 H locs ew hH hS => ?_)
  have hO : Off q0 w w38 := hO.put ew
  have eo : At w38 q0 (eO 13 [.ref q0, .null, .ref t17, .null, .null, .int (zI 0), .int (zI 0)]) := by rw [ew]; exact wup_s
  clear ew
  refine lv_aload_n X.x X.b dJ12_init_2_41 rfl (lv_at hl 0 rfl) ?_
  refine lv_aload_nO X.x X.b dJ12_init_2_42 rfl (lv_at hl 1 rfl) ?_
  refine wa_put X hH hS eo wcX13 3 (by decide) q882 rfl (fun _ h9 => h9) rfl rf_nar rf_fit (Nat.le_of_ble_eq_true rfl) dJ12_init_2_43 (fun w43 H locs ew hH hS => ?_)
  have hO : Off q0 w w43 := hO.put ew
  have eo : At w43 q0 (eO 13 [.ref q0, .null, .ref t17, va_rf mz, .null, .int (zI 0), .int (zI 0)]) := by rw [ew]; exact wup_s
  clear ew
  refine lv_aload_n X.x X.b dJ12_init_2_46 rfl (lv_at hl 0 rfl) ?_
  refine lv_aload_nO X.x X.b dJ12_init_2_47 rfl (lv_at hl 2 rfl) ?_
  refine wa_put X hH hS eo wcX13 0 (by decide) q883 rfl (fun _ h9 => h9) rfl rf_nar rf_fit (Nat.le_of_ble_eq_true rfl) dJ12_init_2_48 (fun w48 H locs ew hH hS => ?_)
  have hO : Off q0 w w48 := hO.put ew
  have eo : At w48 q0 (eO 13 [va_rf cz, .null, .ref t17, va_rf mz, .null, .int (zI 0), .int (zI 0)]) := by rw [ew]; exact wup_s
  clear ew
  refine lv_iload_n X.x X.b dJ12_init_2_51 rfl (lv_at hl 3 rfl) ?_
  refine wz_ifne (tgt := 60) X.x X.b dJ12_init_2_52 (by decide) (by decide) (fun h => absurd h (by decide)) (fun _ => ?_)
  refine lv_aload_n X.x X.b dJ12_init_2_55 rfl (lv_at hl 0 rfl) ?_
  refine lv_null X.x X.b dJ12_init_2_56 ?_
  refine wa_put X hH hS eo wcX13 2 (by decide) q885 rfl (fun _ h9 => h9) rfl rfl rfl (Nat.le_of_ble_eq_true rfl) dJ12_init_2_57 (fun w57 H locs ew hH hS => ?_)
  have hO : Off q0 w w57 := hO.put ew
  have eo : At w57 q0 (eO 13 [va_rf cz, .null, .null, va_rf mz, .null, .int (zI 0), .int (zI 0)]) := by rw [ew]; exact wup_s
  clear ew
  exact wa_vret X hH hS dJ12_init_2_60 ⟨eo, hO⟩
set_option maxRecDepth 100000 in
theorem mJ13_init_2_13 {lL : Launch} {G : wa_G} {w : wa_W} {q0 : Nat} {mz : Option Nat} {cz : Option Nat} (eo : At w q0 (eO 13 [.null, .null, .null, .null, .null, .int (zI 0), .int (zI 0)]))  : Met lL yJ13_init_2 (ws_ yJ13_init_2 cJ13_init_2 5 (none : Option FieldType)) ({ frames := 2, cells := 0, slots := 0, locals := 44 } : Room) (wa_P G w [.ref q0, va_rf mz, va_rf cz, .int (zI 0), .int (zI 0)]) (wa_Qv G fun u => u q0 = some (eO 13 [va_rf cz, .null, .null, va_rf mz, .null, .int (zI 0), .int (zI 0)]) ∧ Off q0 w u) 0 0 (wa_A G) := by
  refine wa_met (by decide) (by cases mz <;> cases cz <;> exact Nat.le_of_ble_eq_true rfl) ?_
  intro pP eE sS mM aA bB mT cC ls X hl hH
  have hS : va_S (wa_A G) sS.heap sS.heap [] := va_S.rf
  have hl : lv_has ls 5 [(0, .ref q0), (1, va_rf mz), (2, va_rf cz), (3, .int (zI 0)), (4, .int (zI 0))] := by cases mz <;> cases cz <;> exact hl
  have hK : Ext w w := Ext.rf
  have hO : Off q0 w w := Off.rf
  refine lv_aload_n X.x X.b dJ13_init_2_0 rfl (lv_at hl 0 rfl) ?_
  refine lv_aload_nO X.x X.b dJ13_init_2_1 rfl (lv_at hl 1 rfl) ?_
  refine lv_aload_nO X.x X.b dJ13_init_2_2 rfl (lv_at hl 2 rfl) ?_
  refine lv_iload_n X.x X.b dJ13_init_2_3 rfl (lv_at hl 3 rfl) ?_
  refine lv_iload X.x X.b dJ13_init_2_4 (lv_at hl 4 rfl) ?_
  refine wa_cv hS (wa_rI (rest := []) X hH (mJ12_init_2_13  (show At w q0 (eO 13 [.null, .null, .null, .null, .null, .int (zI 0), .int (zI 0)]) from eo)  (mz := mz) (cz := cz) ) (cwI 4 X.t (lw_meth q1484) rfl rfl rfl (X.t _ q132) (X.t _ q1482) (X.t _ q1483) rfl hdJ12_init_2.2 ⟨Nat.le_of_ble_eq_true rfl, Nat.le_of_ble_eq_true rfl⟩) rfl rfl hl.1 rfl (Nat.le_of_ble_eq_true rfl) dJ13_init_2_6 ⟨Nat.le_of_ble_eq_true rfl, Nat.le_of_ble_eq_true rfl⟩) (fun w6 H locs hp hH hS => ?_)
  obtain ⟨hi, hO2⟩ := hp
  have hO : Off q0 w w6 := hO.trans hO2
  have eo : At w6 q0 (eO 13 [va_rf cz, .null, .null, va_rf mz, .null, .int (zI 0), .int (zI 0)]) := hi
  exact wa_vret X hH hS dJ13_init_2_9 ⟨eo, hO⟩
set_option maxRecDepth 100000 in
theorem mJ12_init_2_14 {lL : Launch} {G : wa_G} {w : wa_W} {q0 : Nat} {mz : Option Nat} {cz : Option Nat} (eo : At w q0 (eO 14 [.null, .null, .null, .null, .null, .int (zI 0), .int (zI 0)]))  : Met lL yJ12_init_2 (ws_ yJ12_init_2 cJ12_init_2 5 (none : Option FieldType)) ({ frames := 1, cells := 0, slots := 0, locals := 20 } : Room) (wa_P G w [.ref q0, va_rf mz, va_rf cz, .int (zI 0), .int (zI 0)]) (wa_Qv G fun u => u q0 = some (eO 14 [va_rf cz, .null, .null, va_rf mz, .null, .int (zI 0), .int (zI 0)]) ∧ Off q0 w u) 0 0 (wa_A G) := by
  refine wa_met (by decide) (by cases mz <;> cases cz <;> exact Nat.le_of_ble_eq_true rfl) ?_
  intro pP eE sS mM aA bB mT cC ls X hl hH
  have hS : va_S (wa_A G) sS.heap sS.heap [] := va_S.rf
  have hl : lv_has ls 5 [(0, .ref q0), (1, va_rf mz), (2, va_rf cz), (3, .int (zI 0)), (4, .int (zI 0))] := by cases mz <;> cases cz <;> exact hl
  have hK : Ext w w := Ext.rf
  have hO : Off q0 w w := Off.rf
  refine lv_aload_n X.x X.b dJ12_init_2_0 rfl (lv_at hl 0 rfl) ?_
  refine W.objInit X.x X.b X.own (X.t _ q839) (X.t _ q153) (X.t _ q154) rfl (by rw [X.ml]; exact hl.1) rfl dJ12_init_2_1 (Nat.le_of_ble_eq_true rfl) (Nat.le_of_ble_eq_true rfl) ?_
  refine W.eq (g2 := F0 mM 4 ls []) rfl ?_
  refine lv_aload_n X.x X.b dJ12_init_2_4 rfl (lv_at hl 0 rfl) ?_
  refine lv_aload_n X.x X.b dJ12_init_2_5 rfl (lv_at hl 0 rfl) ?_
  refine wa_put X hH hS eo wcX14 0 (by decide) q883 rfl (fun _ h9 => h9) rfl rfl rfl (Nat.le_of_ble_eq_true rfl) dJ12_init_2_6 (fun w6 H locs ew hH hS => ?_)
  have hO : Off q0 w w6 := hO.put ew
  have eo : At w6 q0 (eO 14 [.ref q0, .null, .null, .null, .null, .int (zI 0), .int (zI 0)]) := by rw [ew]; exact wup_s
  clear ew
  refine lv_aload_n X.x X.b dJ12_init_2_9 rfl (lv_at hl 0 rfl) ?_
  obtain ⟨t10, hZ10⟩ := X.k.2.2.2.2.2.2.1.2.1
  refine wa_gets X hH hZ10 rfl q840 (fun _ h9 => h9) dJ12_init_2_10 ?_
  refine wa_put X hH hS eo wcX14 1 (by decide) q884 rfl (fun _ h9 => h9) rfl rfl rfl (Nat.le_of_ble_eq_true rfl) dJ12_init_2_13 (fun w13 H locs ew hH hS => ?_)
  have hO : Off q0 w w13 := hO.put ew
  have eo : At w13 q0 (eO 14 [.ref q0, .ref t10, .null, .null, .null, .int (zI 0), .int (zI 0)]) := by rw [ew]; exact wup_s
  clear ew
  refine lv_aload_n X.x X.b dJ12_init_2_16 rfl (lv_at hl 0 rfl) ?_
  obtain ⟨t17, hZ17⟩ := X.k.2.2.2.2.2.2.1.2.2.1
  refine wa_gets X hH hZ17 rfl q842 (fun _ h9 => h9) dJ12_init_2_17 ?_
  refine wa_put X hH hS eo wcX14 2 (by decide) q885 rfl (fun _ h9 => h9) rfl rfl rfl (Nat.le_of_ble_eq_true rfl) dJ12_init_2_20 (fun w20 H locs ew hH hS => ?_)
  have hO : Off q0 w w20 := hO.put ew
  have eo : At w20 q0 (eO 14 [.ref q0, .ref t10, .ref t17, .null, .null, .int (zI 0), .int (zI 0)]) := by rw [ew]; exact wup_s
  clear ew
  refine lv_iload X.x X.b dJ12_init_2_23 (lv_at hl 4 rfl) ?_
  refine wz_ifeq (tgt := 36) X.x X.b dJ12_init_2_25 (by decide) (by decide) (fun _ => ?_) (fun h => absurd h (by decide))
  refine lv_aload_n X.x X.b dJ12_init_2_36 rfl (lv_at hl 0 rfl) ?_
  refine lv_null X.x X.b dJ12_init_2_37 ?_
  refine wa_put X hH hS eo wcX14 1 (by decide) q884 rfl (fun _ h9 => h9) rfl rfl rfl (Nat.le_of_ble_eq_true rfl) dJ12_init_2_38 (fun w38 H locs ew hH hS => ?_)
  have hO : Off q0 w w38 := hO.put ew
  have eo : At w38 q0 (eO 14 [.ref q0, .null, .ref t17, .null, .null, .int (zI 0), .int (zI 0)]) := by rw [ew]; exact wup_s
  clear ew
  refine lv_aload_n X.x X.b dJ12_init_2_41 rfl (lv_at hl 0 rfl) ?_
  refine lv_aload_nO X.x X.b dJ12_init_2_42 rfl (lv_at hl 1 rfl) ?_
  refine wa_put X hH hS eo wcX14 3 (by decide) q882 rfl (fun _ h9 => h9) rfl rf_nar rf_fit (Nat.le_of_ble_eq_true rfl) dJ12_init_2_43 (fun w43 H locs ew hH hS => ?_)
  have hO : Off q0 w w43 := hO.put ew
  have eo : At w43 q0 (eO 14 [.ref q0, .null, .ref t17, va_rf mz, .null, .int (zI 0), .int (zI 0)]) := by rw [ew]; exact wup_s
  clear ew
  refine lv_aload_n X.x X.b dJ12_init_2_46 rfl (lv_at hl 0 rfl) ?_
  refine lv_aload_nO X.x X.b dJ12_init_2_47 rfl (lv_at hl 2 rfl) ?_
  refine wa_put X hH hS eo wcX14 0 (by decide) q883 rfl (fun _ h9 => h9) rfl rf_nar rf_fit (Nat.le_of_ble_eq_true rfl) dJ12_init_2_48 (fun w48 H locs ew hH hS => ?_)
  have hO : Off q0 w w48 := hO.put ew
  have eo : At w48 q0 (eO 14 [va_rf cz, .null, .ref t17, va_rf mz, .null, .int (zI 0), .int (zI 0)]) := by rw [ew]; exact wup_s
  clear ew
  refine lv_iload_n X.x X.b dJ12_init_2_51 rfl (lv_at hl 3 rfl) ?_
  refine wz_ifne (tgt := 60) X.x X.b dJ12_init_2_52 (by decide) (by decide) (fun h => absurd h (by decide)) (fun _ => ?_)
  refine lv_aload_n X.x X.b dJ12_init_2_55 rfl (lv_at hl 0 rfl) ?_
  refine lv_null X.x X.b dJ12_init_2_56 ?_
  refine wa_put X hH hS eo wcX14 2 (by decide) q885 rfl (fun _ h9 => h9) rfl rfl rfl (Nat.le_of_ble_eq_true rfl) dJ12_init_2_57 (fun w57 H locs ew hH hS => ?_)
  have hO : Off q0 w w57 := hO.put ew
  have eo : At w57 q0 (eO 14 [va_rf cz, .null, .null, va_rf mz, .null, .int (zI 0), .int (zI 0)]) := by rw [ew]; exact wup_s
  clear ew
  exact wa_vret X hH hS dJ12_init_2_60 ⟨eo, hO⟩
set_option maxRecDepth 100000 in
theorem mJ13_init_2_14 {lL : Launch} {G : wa_G} {w : wa_W} {q0 : Nat} {mz : Option Nat} {cz : Option Nat} (eo : At w q0 (eO 14 [.null, .null, .null, .null, .null, .int (zI 0), .int (zI 0)]))  : Met lL yJ13_init_2 (ws_ yJ13_init_2 cJ13_init_2 5 (none : Option FieldType)) ({ frames := 2, cells := 0, slots := 0, locals := 44 } : Room) (wa_P G w [.ref q0, va_rf mz, va_rf cz, .int (zI 0), .int (zI 0)]) (wa_Qv G fun u => u q0 = some (eO 14 [va_rf cz, .null, .null, va_rf mz, .null, .int (zI 0), .int (zI 0)]) ∧ Off q0 w u) 0 0 (wa_A G) := by
  refine wa_met (by decide) (by cases mz <;> cases cz <;> exact Nat.le_of_ble_eq_true rfl) ?_
  intro pP eE sS mM aA bB mT cC ls X hl hH
  have hS : va_S (wa_A G) sS.heap sS.heap [] := va_S.rf
  have hl : lv_has ls 5 [(0, .ref q0), (1, va_rf mz), (2, va_rf cz), (3, .int (zI 0)), (4, .int (zI 0))] := by cases mz <;> cases cz <;> exact hl
  have hK : Ext w w := Ext.rf
  have hO : Off q0 w w := Off.rf
  refine lv_aload_n X.x X.b dJ13_init_2_0 rfl (lv_at hl 0 rfl) ?_
  refine lv_aload_nO X.x X.b dJ13_init_2_1 rfl (lv_at hl 1 rfl) ?_
  refine lv_aload_nO X.x X.b dJ13_init_2_2 rfl (lv_at hl 2 rfl) ?_
  refine lv_iload_n X.x X.b dJ13_init_2_3 rfl (lv_at hl 3 rfl) ?_
  refine lv_iload X.x X.b dJ13_init_2_4 (lv_at hl 4 rfl) ?_
  refine wa_cv hS (wa_rI (rest := []) X hH (mJ12_init_2_14  (show At w q0 (eO 14 [.null, .null, .null, .null, .null, .int (zI 0), .int (zI 0)]) from eo)  (mz := mz) (cz := cz) ) (cwI 4 X.t (lw_meth q1484) rfl rfl rfl (X.t _ q132) (X.t _ q1482) (X.t _ q1483) rfl hdJ12_init_2.2 ⟨Nat.le_of_ble_eq_true rfl, Nat.le_of_ble_eq_true rfl⟩) rfl rfl hl.1 rfl (Nat.le_of_ble_eq_true rfl) dJ13_init_2_6 ⟨Nat.le_of_ble_eq_true rfl, Nat.le_of_ble_eq_true rfl⟩) (fun w6 H locs hp hH hS => ?_)
  obtain ⟨hi, hO2⟩ := hp
  have hO : Off q0 w w6 := hO.trans hO2
  have eo : At w6 q0 (eO 14 [va_rf cz, .null, .null, va_rf mz, .null, .int (zI 0), .int (zI 0)]) := hi
  exact wa_vret X hH hS dJ13_init_2_9 ⟨eo, hO⟩
set_option maxRecDepth 100000 in
theorem mX12_init {lL : Launch} {G : wa_G} {w : wa_W} {q0 : Nat} (eo : At w q0 (eO 12 [.null, .null, .null, .null, .null, .int (zI 0), .int (zI 0)])) (v : Int)  : Met lL yX12_init (ws_ yX12_init cX12_init 2 (none : Option FieldType)) ({ frames := 3, cells := 0, slots := 0, locals := 68 } : Room) (wa_P G w [.ref q0, .int (zI v)]) (wa_Qv G fun u => u q0 = some (eO 12 [va_rf none, .null, .null, va_rf none, .null, .int (zI 0), .int (zI v)]) ∧ Off q0 w u) 0 0 (wa_A G) := by
  refine wa_met (by decide) (by exact Nat.le_of_ble_eq_true rfl) ?_
  intro pP eE sS mM aA bB mT cC ls X hl hH
  have hS : va_S (wa_A G) sS.heap sS.heap [] := va_S.rf
  have hl : lv_has ls 2 [(0, .ref q0), (1, .int (zI v))] := hl
  have hK : Ext w w := Ext.rf
  have hO : Off q0 w w := Off.rf
  refine lv_aload_n X.x X.b dX12_init_0 rfl (lv_at hl 0 rfl) ?_
  refine lv_null X.x X.b dX12_init_1 ?_
  refine lv_null X.x X.b dX12_init_2 ?_
  refine wz_iconst X.x X.b dX12_init_3 ?_
  refine wz_iconst X.x X.b dX12_init_4 ?_
  refine wa_cv hS (wa_rI (rest := []) X hH (mJ13_init_2_12  (show At w q0 (eO 12 [.null, .null, .null, .null, .null, .int (zI 0), .int (zI 0)]) from eo)  (mz := none) (cz := none) ) (cwI 4 X.t (lw_meth q1481) rfl rfl rfl (X.t _ q133) (X.t _ q1479) (X.t _ q1480) rfl hdJ13_init_2.2 ⟨Nat.le_of_ble_eq_true rfl, Nat.le_of_ble_eq_true rfl⟩) rfl rfl hl.1 rfl (Nat.le_of_ble_eq_true rfl) dX12_init_5 ⟨Nat.le_of_ble_eq_true rfl, Nat.le_of_ble_eq_true rfl⟩) (fun w5 H locs hp hH hS => ?_)
  obtain ⟨hi, hO2⟩ := hp
  have hO : Off q0 w w5 := hO.trans hO2
  have eo : At w5 q0 (eO 12 [va_rf none, .null, .null, va_rf none, .null, .int (zI 0), .int (zI 0)]) := hi
  refine lv_aload_n X.x X.b dX12_init_8 rfl (lv_at hl 0 rfl) ?_
  refine lv_iload_n X.x X.b dX12_init_9 rfl (lv_at hl 1 rfl) ?_
  refine wa_putF X hH hS eo wcX12 6 (by decide) q1485 rfl (fun _ h9 => h9) rfl rfl rfl rfl rfl (Nat.le_of_ble_eq_true rfl) dX12_init_10 (fun w10 H locs ew hH hS => ?_)
  have hO : Off q0 w w10 := hO.put ew
  have eo : At w10 q0 (eO 12 [va_rf none, .null, .null, va_rf none, .null, .int (zI 0), .int (zI v)]) := by rw [ew]; exact wup_s
  clear ew
  exact wa_vret X hH hS dX12_init_13 ⟨eo, hO⟩
set_option maxRecDepth 100000 in
theorem mX13_init {lL : Launch} {G : wa_G} {w : wa_W} {q0 : Nat} (eo : At w q0 (eO 13 [.null, .null, .null, .null, .null, .int (zI 0), .int (zI 0)])) (v : Int)  : Met lL yX13_init (ws_ yX13_init cX13_init 2 (none : Option FieldType)) ({ frames := 3, cells := 0, slots := 0, locals := 68 } : Room) (wa_P G w [.ref q0, .int (zI v)]) (wa_Qv G fun u => u q0 = some (eO 13 [va_rf none, .null, .null, va_rf none, .null, .int (zI 0), .int (zI v)]) ∧ Off q0 w u) 0 0 (wa_A G) := by
  refine wa_met (by decide) (by exact Nat.le_of_ble_eq_true rfl) ?_
  intro pP eE sS mM aA bB mT cC ls X hl hH
  have hS : va_S (wa_A G) sS.heap sS.heap [] := va_S.rf
  have hl : lv_has ls 2 [(0, .ref q0), (1, .int (zI v))] := hl
  have hK : Ext w w := Ext.rf
  have hO : Off q0 w w := Off.rf
  refine lv_aload_n X.x X.b dX13_init_0 rfl (lv_at hl 0 rfl) ?_
  refine lv_null X.x X.b dX13_init_1 ?_
  refine lv_null X.x X.b dX13_init_2 ?_
  refine wz_iconst X.x X.b dX13_init_3 ?_
  refine wz_iconst X.x X.b dX13_init_4 ?_
  refine wa_cv hS (wa_rI (rest := []) X hH (mJ13_init_2_13  (show At w q0 (eO 13 [.null, .null, .null, .null, .null, .int (zI 0), .int (zI 0)]) from eo)  (mz := none) (cz := none) ) (cwI 4 X.t (lw_meth q1481) rfl rfl rfl (X.t _ q133) (X.t _ q1557) (X.t _ q1480) rfl hdJ13_init_2.2 ⟨Nat.le_of_ble_eq_true rfl, Nat.le_of_ble_eq_true rfl⟩) rfl rfl hl.1 rfl (Nat.le_of_ble_eq_true rfl) dX13_init_5 ⟨Nat.le_of_ble_eq_true rfl, Nat.le_of_ble_eq_true rfl⟩) (fun w5 H locs hp hH hS => ?_)
  obtain ⟨hi, hO2⟩ := hp
  have hO : Off q0 w w5 := hO.trans hO2
  have eo : At w5 q0 (eO 13 [va_rf none, .null, .null, va_rf none, .null, .int (zI 0), .int (zI 0)]) := hi
  refine lv_aload_n X.x X.b dX13_init_8 rfl (lv_at hl 0 rfl) ?_
  refine lv_iload_n X.x X.b dX13_init_9 rfl (lv_at hl 1 rfl) ?_
  refine wa_putF X hH hS eo wcX13 6 (by decide) q1558 rfl (fun _ h9 => h9) rfl rfl rfl rfl rfl (Nat.le_of_ble_eq_true rfl) dX13_init_10 (fun w10 H locs ew hH hS => ?_)
  have hO : Off q0 w w10 := hO.put ew
  have eo : At w10 q0 (eO 13 [va_rf none, .null, .null, va_rf none, .null, .int (zI 0), .int (zI v)]) := by rw [ew]; exact wup_s
  clear ew
  exact wa_vret X hH hS dX13_init_13 ⟨eo, hO⟩
set_option maxRecDepth 100000 in
theorem mX14_init {lL : Launch} {G : wa_G} {w : wa_W} {q0 : Nat} {c9 : Nat} (eo : At w q0 (eO 14 [.null, .null, .null, .null, .null, .int (zI 0), .int (zI 0)])) (v : Int)  : Met lL yX14_init (ws_ yX14_init cX14_init 3 (none : Option FieldType)) ({ frames := 3, cells := 0, slots := 0, locals := 68 } : Room) (wa_P G w [.ref q0, .int (zI v), .ref c9]) (wa_Qv G fun u => u q0 = some (eO 14 [va_rf (some c9), .null, .null, va_rf none, .null, .int (zI 0), .int (zI v)]) ∧ Off q0 w u) 0 0 (wa_A G) := by
  refine wa_met (by decide) (by exact Nat.le_of_ble_eq_true rfl) ?_
  intro pP eE sS mM aA bB mT cC ls X hl hH
  have hS : va_S (wa_A G) sS.heap sS.heap [] := va_S.rf
  have hl : lv_has ls 3 [(0, .ref q0), (1, .int (zI v)), (2, .ref c9)] := hl
  have hK : Ext w w := Ext.rf
  have hO : Off q0 w w := Off.rf
  refine lv_aload_n X.x X.b dX14_init_0 rfl (lv_at hl 0 rfl) ?_
  refine lv_null X.x X.b dX14_init_1 ?_
  refine lv_aload_n X.x X.b dX14_init_2 rfl (lv_at hl 2 rfl) ?_
  refine wz_iconst X.x X.b dX14_init_3 ?_
  refine wz_iconst X.x X.b dX14_init_4 ?_
  refine wa_cv hS (wa_rI (rest := []) X hH (mJ13_init_2_14  (show At w q0 (eO 14 [.null, .null, .null, .null, .null, .int (zI 0), .int (zI 0)]) from eo)  (mz := none) (cz := some c9) ) (cwI 4 X.t (lw_meth q1481) rfl rfl rfl (X.t _ q133) (X.t _ q1576) (X.t _ q1480) rfl hdJ13_init_2.2 ⟨Nat.le_of_ble_eq_true rfl, Nat.le_of_ble_eq_true rfl⟩) rfl rfl hl.1 rfl (Nat.le_of_ble_eq_true rfl) dX14_init_5 ⟨Nat.le_of_ble_eq_true rfl, Nat.le_of_ble_eq_true rfl⟩) (fun w5 H locs hp hH hS => ?_)
  obtain ⟨hi, hO2⟩ := hp
  have hO : Off q0 w w5 := hO.trans hO2
  have eo : At w5 q0 (eO 14 [va_rf (some c9), .null, .null, va_rf none, .null, .int (zI 0), .int (zI 0)]) := hi
  refine lv_aload_n X.x X.b dX14_init_8 rfl (lv_at hl 0 rfl) ?_
  refine lv_iload_n X.x X.b dX14_init_9 rfl (lv_at hl 1 rfl) ?_
  refine wa_putF X hH hS eo wcX14 6 (by decide) q1577 rfl (fun _ h9 => h9) rfl rfl rfl rfl rfl (Nat.le_of_ble_eq_true rfl) dX14_init_10 (fun w10 H locs ew hH hS => ?_)
  have hO : Off q0 w w10 := hO.put ew
  have eo : At w10 q0 (eO 14 [va_rf (some c9), .null, .null, va_rf none, .null, .int (zI 0), .int (zI v)]) := by rw [ew]; exact wup_s
  clear ew
  exact wa_vret X hH hS dX14_init_13 ⟨eo, hO⟩

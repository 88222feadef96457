/-! INTEGERS -/
set_option maxRecDepth 100000 in
theorem mJ9_valueOf {lL : Launch} {G : wa_G} (w : wa_W)   (n : Int) (hn : -128 ≤ n ∧ n ≤ 127) : Met lL yJ9_valueOf (ws_ yJ9_valueOf cJ9_valueOf 1 (some (FieldType.object "java/lang/Intege\x72"))) ({ frames := 0, cells := 0, slots := 0, locals := 0 } : Room) (wa_P G w [.int (zI n)]) (wa_Qr G fun r u => (∃ b, r = some b ∧ wb_In G b n) ∧ w = u) 0 0 (wa_A G) := by
  refine wa_met (by decide) (by exact Nat.le_of_ble_eq_true rfl) ?_
  intro pP eE sS mM aA bB mT cC ls X hl hH
  have hS : va_S (wa_A G) sS.heap sS.heap [] := va_S.rf
  have hl : lv_has ls 1 [(0, .int (zI n))] := hl
  have hK : Ext w w := Ext.rf
  refine lv_iload_n X.x X.b dJ9_valueOf_0 rfl (lv_at hl 0 rfl) ?_
  refine wz_bipush X.x X.b dJ9_valueOf_1 rfl ?_
  refine wz_icmp_lt (tgt := 23) X.x X.b dJ9_valueOf_3 (by decide) ⟨by omega, by omega⟩ ⟨by omega, by omega⟩ (fun c3 => by exfalso; omega) (fun c3 => ?_)
  refine lv_iload_n X.x X.b dJ9_valueOf_6 rfl (lv_at hl 0 rfl) ?_
  obtain ⟨-, -, -, hhi, t5, cell, hZ, hc1, hc2, hc3, hc4, hc5⟩ := X.k.2.2.2.2.2.2.1
  refine wa_gets (v := .int (zI 127)) X hH hhi rfl q1070 (fun _ h9 => h9) dJ9_valueOf_7 ?_
  refine wz_icmp_gt (tgt := 23) X.x X.b dJ9_valueOf_10 (by decide) ⟨by omega, by omega⟩ ⟨by omega, by omega⟩ (fun c10 => by exfalso; omega) (fun c10 => ?_)
  refine wa_gets X hH hZ rfl q1072 (fun _ h9 => h9) dJ9_valueOf_13 ?_
  refine lv_iload_n X.x X.b dJ9_valueOf_16 rfl (lv_at hl 0 rfl) ?_
  refine wz_sipush X.x X.b dJ9_valueOf_17 rfl ?_
  refine wz_iadd X.x X.b dJ9_valueOf_20 ?_
  refine wa_cache X hH hc1 hc2 hc3 hc4 hc5 (by omega) (by omega) dJ9_valueOf_21 (fun vb hI => ?_)
  rw [show n + 128 - 128 = n by omega] at hI
  exact wa_aret X (Or.inl ⟨_, rfl⟩) hH hS (some vb) dJ9_valueOf_22 ⟨⟨vb, rfl, hI⟩, rfl⟩
set_option maxRecDepth 100000 in
theorem mJ9_intValue {lL : Launch} {G : wa_G} {w : wa_W} {b : Nat} {n : Int} (fb : wb_In G b n)  : Met lL yJ9_intValue (ws_ yJ9_intValue cJ9_intValue 1 (some FieldType.int)) ({ frames := 0, cells := 0, slots := 0, locals := 0 } : Room) (wa_P G w [.ref b]) (wa_Qz G fun z u => z = n ∧ w = u) 0 0 (wa_A G) := by
  refine wa_met (by decide) (by exact Nat.le_of_ble_eq_true rfl) ?_
  intro pP eE sS mM aA bB mT cC ls X hl hH
  have hS : va_S (wa_A G) sS.heap sS.heap [] := va_S.rf
  have hl : lv_has ls 1 [(0, .ref b)] := hl
  have hK : Ext w w := Ext.rf
  refine lv_aload_n X.x X.b dJ9_intValue_0 rfl (lv_at hl 0 rfl) ?_
  refine wa_getZ (v := .int (zI n)) X hH fb wcJ9 0 (by decide) q1082 rfl (fun _ h9 => h9) rfl dJ9_intValue_1 ?_
  exact wa_iret X hH hS dJ9_intValue_4 ⟨by first | rfl | omega | assumption, rfl⟩

/-! SMALL CLASSES of the other side -/
set_option maxRecDepth 100000 in
theorem mJ0_abs {lL : Launch} {G : wa_G} (w : wa_W)   (v : Int) (hv : rI v) : Met lL yJ0_abs (ws_ yJ0_abs cJ0_abs 1 (some FieldType.int)) ({ frames := 0, cells := 0, slots := 0, locals := 0 } : Room) (wa_P G w [.int (zI v)]) (wa_Qz G fun z u => z = (Int.natAbs v : Int) ∧ w = u) 0 0 (wa_A G) := by
  refine wa_metF (wb_mplain rfl (by decide +kernel)) (by exact Nat.le_of_ble_eq_true rfl) ?_
  intro pP eE sS mM aA bB mT cC ls X hl hH
  have hS : va_S (wa_A G) sS.heap sS.heap [] := va_S.rf
  have hl : lv_has ls 1 [(0, .int (zI v))] := hl
  have hK : Ext w w := Ext.rf
  refine lv_iload_n X.x X.b dJ0_abs_0 rfl (lv_at hl 0 rfl) ?_
  refine wz_ifge (tgt := 9) X.x X.b dJ0_abs_1 (by decide) ⟨by omega, by omega⟩ (fun c1 => ?_) (fun c1 => ?_)
  · refine lv_iload_n X.x X.b dJ0_abs_9 rfl (lv_at hl 0 rfl) ?_
    exact wa_iret X hH hS dJ0_abs_10 ⟨by first | rfl | omega | assumption, rfl⟩
  · refine lv_iload_n X.x X.b dJ0_abs_4 rfl (lv_at hl 0 rfl) ?_
    refine wz_ineg X.x X.b dJ0_abs_5 ?_
    refine lv_goto (tgt := 10) X.x X.b dJ0_abs_6 (by decide) ?_
    exact wa_iret X hH hS dJ0_abs_10 ⟨by first | rfl | omega | assumption, rfl⟩
set_option maxRecDepth 100000 in
theorem mJ0_abs_2 {lL : Launch} {G : wa_G} (w : wa_W)   (v : Int) (hv : rL v) : Met lL yJ0_abs_2 (ws_ yJ0_abs_2 cJ0_abs_2 2 (some FieldType.long)) ({ frames := 0, cells := 0, slots := 0, locals := 0 } : Room) (wa_P G w [.long (lI v)]) (wa_Ql G fun z u => z = (Int.natAbs v : Int) ∧ w = u) 0 0 (wa_A G) := by
  refine wa_metF (wb_mplain rfl (by decide +kernel)) (by exact Nat.le_of_ble_eq_true rfl) ?_
  intro pP eE sS mM aA bB mT cC ls X hl hH
  have hS : va_S (wa_A G) sS.heap sS.heap [] := va_S.rf
  have hl : lv_has ls 2 [(0, .long (lI v))] := hl
  have hK : Ext w w := Ext.rf
  refine lv_lload_n X.x X.b dJ0_abs_2_0 rfl (lv_at hl 0 rfl) ?_
  refine lv_lconst (v := lI 0) X.x X.b dJ0_abs_2_1 rfl ?_
  refine wz_lcmp_ge (tgt := 11) X.x X.b dJ0_abs_2_2 dJ0_abs_2_3 (by decide) ⟨by omega, by omega⟩ ⟨by omega, by omega⟩ (fun c2 => ?_) (fun c2 => ?_)
  · refine lv_lload_n X.x X.b dJ0_abs_2_11 rfl (lv_at hl 0 rfl) ?_
    exact wa_lret X hH hS dJ0_abs_2_12 ⟨by first | rfl | omega | assumption, rfl⟩
  · refine lv_lload_n X.x X.b dJ0_abs_2_6 rfl (lv_at hl 0 rfl) ?_
    refine wz_lneg X.x X.b dJ0_abs_2_7 ?_
    refine lv_goto (tgt := 12) X.x X.b dJ0_abs_2_8 (by decide) ?_
    exact wa_lret X hH hS dJ0_abs_2_12 ⟨by first | rfl | omega | assumption, rfl⟩
set_option maxRecDepth 100000 in
theorem mJ0_max {lL : Launch} {G : wa_G} (w : wa_W)   (a : Int) (b : Int) (ha : rL a) (hb : rL b) : Met lL yJ0_max (ws_ yJ0_max cJ0_max 4 (some FieldType.long)) ({ frames := 0, cells := 0, slots := 0, locals := 0 } : Room) (wa_P G w [.long (lI a), .long (lI b)]) (wa_Ql G fun z u => z = max a b ∧ w = u) 0 0 (wa_A G) := by
  refine wa_metF (wb_mplain rfl (by decide +kernel)) (by exact Nat.le_of_ble_eq_true rfl) ?_
  intro pP eE sS mM aA bB mT cC ls X hl hH
  have hS : va_S (wa_A G) sS.heap sS.heap [] := va_S.rf
  have hl : lv_has ls 4 [(0, .long (lI a)), (2, .long (lI b))] := hl
  have hK : Ext w w := Ext.rf
  refine lv_lload_n X.x X.b dJ0_max_0 rfl (lv_at hl 0 rfl) ?_
  refine lv_lload_n X.x X.b dJ0_max_1 rfl (lv_at hl 1 rfl) ?_
  refine wz_lcmp_lt (tgt := 10) X.x X.b dJ0_max_2 dJ0_max_3 (by decide) ⟨by omega, by omega⟩ ⟨by omega, by omega⟩ (fun c2 => ?_) (fun c2 => ?_)
  · refine lv_lload_n X.x X.b dJ0_max_10 rfl (lv_at hl 1 rfl) ?_
    exact wa_lret X hH hS dJ0_max_11 ⟨by first | rfl | omega | assumption, rfl⟩
  · refine lv_lload_n X.x X.b dJ0_max_6 rfl (lv_at hl 0 rfl) ?_
    refine lv_goto (tgt := 11) X.x X.b dJ0_max_7 (by decide) ?_
    exact wa_lret X hH hS dJ0_max_11 ⟨by first | rfl | omega | assumption, rfl⟩
set_option maxRecDepth 100000 in
theorem mJ0_min {lL : Launch} {G : wa_G} (w : wa_W)   (a : Int) (b : Int) (ha : rL a) (hb : rL b) : Met lL yJ0_min (ws_ yJ0_min cJ0_min 4 (some FieldType.long)) ({ frames := 0, cells := 0, slots := 0, locals := 0 } : Room) (wa_P G w [.long (lI a), .long (lI b)]) (wa_Ql G fun z u => z = min a b ∧ w = u) 0 0 (wa_A G) := by
  refine wa_metF (wb_mplain rfl (by decide +kernel)) (by exact Nat.le_of_ble_eq_true rfl) ?_
  intro pP eE sS mM aA bB mT cC ls X hl hH
  have hS : va_S (wa_A G) sS.heap sS.heap [] := va_S.rf
  have hl : lv_has ls 4 [(0, .long (lI a)), (2, .long (lI b))] := hl
  have hK : Ext w w := Ext.rf
  refine lv_lload_n X.x X.b dJ0_min_0 rfl (lv_at hl 0 rfl) ?_
  refine lv_lload_n X.x X.b dJ0_min_1 rfl (lv_at hl 1 rfl) ?_
  refine wz_lcmp_gt (tgt := 10) X.x X.b dJ0_min_2 dJ0_min_3 (by decide) ⟨by omega, by omega⟩ ⟨by omega, by omega⟩ (fun c2 => ?_) (fun c2 => ?_)
  · refine lv_lload_n X.x X.b dJ0_min_10 rfl (lv_at hl 1 rfl) ?_
    exact wa_lret X hH hS dJ0_min_11 ⟨by first | rfl | omega | assumption, rfl⟩
  · refine lv_lload_n X.x X.b dJ0_min_6 rfl (lv_at hl 0 rfl) ?_
    refine lv_goto (tgt := 11) X.x X.b dJ0_min_7 (by decide) ?_
    exact wa_lret X hH hS dJ0_min_11 ⟨by first | rfl | omega | assumption, rfl⟩
set_option maxRecDepth 100000 in
theorem mJ0_max_2 {lL : Launch} {G : wa_G} (w : wa_W)   (a : Int) (b : Int) (ha : rI a) (hb : rI b) : Met lL yJ0_max_2 (ws_ yJ0_max_2 cJ0_max_2 2 (some FieldType.int)) ({ frames := 0, cells := 0, slots := 0, locals := 0 } : Room) (wa_P G w [.int (zI a), .int (zI b)]) (wa_Qz G fun z u => z = max a b ∧ w = u) 0 0 (wa_A G) := by
  refine wa_metF (wb_mplain rfl (by decide +kernel)) (by exact Nat.le_of_ble_eq_true rfl) ?_
  intro pP eE sS mM aA bB mT cC ls X hl hH
  have hS : va_S (wa_A G) sS.heap sS.heap [] := va_S.rf
  have hl : lv_has ls 2 [(0, .int (zI a)), (1, .int (zI b))] := hl
  have hK : Ext w w := Ext.rf
  refine lv_iload_n X.x X.b dJ0_max_2_0 rfl (lv_at hl 0 rfl) ?_
  refine lv_iload_n X.x X.b dJ0_max_2_1 rfl (lv_at hl 1 rfl) ?_
  refine wz_icmp_lt (tgt := 9) X.x X.b dJ0_max_2_2 (by decide) ⟨by omega, by omega⟩ ⟨by omega, by omega⟩ (fun c2 => ?_) (fun c2 => ?_)
  · refine lv_iload_n X.x X.b dJ0_max_2_9 rfl (lv_at hl 1 rfl) ?_
    exact wa_iret X hH hS dJ0_max_2_10 ⟨by first | rfl | omega | assumption, rfl⟩
  · refine lv_iload_n X.x X.b dJ0_max_2_5 rfl (lv_at hl 0 rfl) ?_
    refine lv_goto (tgt := 10) X.x X.b dJ0_max_2_6 (by decide) ?_
    exact wa_iret X hH hS dJ0_max_2_10 ⟨by first | rfl | omega | assumption, rfl⟩
set_option maxRecDepth 100000 in
theorem mJ0_min_2 {lL : Launch} {G : wa_G} (w : wa_W)   (a : Int) (b : Int) (ha : rI a) (hb : rI b) : Met lL yJ0_min_2 (ws_ yJ0_min_2 cJ0_min_2 2 (some FieldType.int)) ({ frames := 0, cells := 0, slots := 0, locals := 0 } : Room) (wa_P G w [.int (zI a), .int (zI b)]) (wa_Qz G fun z u => z = min a b ∧ w = u) 0 0 (wa_A G) := by
  refine wa_metF (wb_mplain rfl (by decide +kernel)) (by exact Nat.le_of_ble_eq_true rfl) ?_
  intro pP eE sS mM aA bB mT cC ls X hl hH
  have hS : va_S (wa_A G) sS.heap sS.heap [] := va_S.rf
  have hl : lv_has ls 2 [(0, .int (zI a)), (1, .int (zI b))] := hl
  have hK : Ext w w := Ext.rf
  refine lv_iload_n X.x X.b dJ0_min_2_0 rfl (lv_at hl 0 rfl) ?_
  refine lv_iload_n X.x X.b dJ0_min_2_1 rfl (lv_at hl 1 rfl) ?_
  refine wz_icmp_gt (tgt := 9) X.x X.b dJ0_min_2_2 (by decide) ⟨by omega, by omega⟩ ⟨by omega, by omega⟩ (fun c2 => ?_) (fun c2 => ?_)
  · refine lv_iload_n X.x X.b dJ0_min_2_9 rfl (lv_at hl 1 rfl) ?_
    exact wa_iret X hH hS dJ0_min_2_10 ⟨by first | rfl | omega | assumption, rfl⟩
  · refine lv_iload_n X.x X.b dJ0_min_2_5 rfl (lv_at hl 0 rfl) ?_
    refine lv_goto (tgt := 10) X.x X.b dJ0_min_2_6 (by decide) ?_
    exact wa_iret X hH hS dJ0_min_2_10 ⟨by first | rfl | omega | assumption, rfl⟩
set_option maxRecDepth 100000 in
theorem mJ0_floorDiv {lL : Launch} {G : wa_G} (w : wa_W)   (a : Int) (b : Int) (ha : rI a) (hb : 0 < b ∧ b < 2147483648) : Met lL yJ0_floorDiv (ws_ yJ0_floorDiv cJ0_floorDiv 3 (some FieldType.int)) ({ frames := 0, cells := 0, slots := 0, locals := 0 } : Room) (wa_P G w [.int (zI a), .int (zI b)]) (wa_Qz G fun z u => z = a / b ∧ w = u) 0 0 (wa_A G) := by
  refine wa_metF (wb_mplain rfl (by decide +kernel)) (by exact Nat.le_of_ble_eq_true rfl) ?_
  intro pP eE sS mM aA bB mT cC ls X hl hH
  have hS : va_S (wa_A G) sS.heap sS.heap [] := va_S.rf
  have hl : lv_has ls 3 [(0, .int (zI a)), (1, .int (zI b))] := hl
  have hK : Ext w w := Ext.rf
  have hfd := fdiv_t (x := a) (y := b) hb.1
  obtain ⟨ex, ex1, ex2, ex3⟩ := zxor_z (x := a) (y := b) ha hb
  refine lv_iload_n X.x X.b dJ0_floorDiv_0 rfl (lv_at hl 0 rfl) ?_
  refine lv_iload_n X.x X.b dJ0_floorDiv_1 rfl (lv_at hl 1 rfl) ?_
  refine wz_idiv X.x X.b dJ0_floorDiv_2 ⟨by omega, by omega⟩ (by omega) ⟨by omega, by omega⟩ ?_
  refine lv_istore_n (lv' := [(2, .int (zI (a.tdiv b))), (0, .int (zI a)), (1, .int (zI b))]) X.x X.b dJ0_floorDiv_3 rfl hl (by decide) rfl (fun ls hl => ?_)
  refine lv_iload_n X.x X.b dJ0_floorDiv_4 rfl (lv_at hl 1 rfl) ?_
  refine lv_iload_n X.x X.b dJ0_floorDiv_5 rfl (lv_at hl 2 rfl) ?_
  refine lv_ixor X.x X.b dJ0_floorDiv_6 ?_
  refine wz_i32 (z := ex) (by exact ex1) ?_
  refine wz_ifge (tgt := 21) X.x X.b dJ0_floorDiv_7 (by decide) ⟨by omega, by omega⟩ (fun c7 => ?_) (fun c7 => ?_)
  · refine lv_iload_n X.x X.b dJ0_floorDiv_21 rfl (lv_at hl 0 rfl) ?_
    exact wa_iret X hH hS dJ0_floorDiv_22 ⟨by first | exact hfd.1 (by omega) | exact hfd.2.1 (by omega) (by assumption), rfl⟩
  · refine lv_iload_n X.x X.b dJ0_floorDiv_10 rfl (lv_at hl 0 rfl) ?_
    refine lv_iload_n X.x X.b dJ0_floorDiv_11 rfl (lv_at hl 2 rfl) ?_
    refine wz_imul X.x X.b dJ0_floorDiv_12 ?_
    refine lv_iload_n X.x X.b dJ0_floorDiv_13 rfl (lv_at hl 1 rfl) ?_
    refine wz_icmp_eq (tgt := 21) X.x X.b dJ0_floorDiv_14 (by decide) (tdm_r ha hb.1) ha (fun c14 => ?_) (fun c14 => ?_)
    · refine lv_iload_n X.x X.b dJ0_floorDiv_21 rfl (lv_at hl 0 rfl) ?_
      exact wa_iret X hH hS dJ0_floorDiv_22 ⟨by first | exact hfd.1 (by omega) | exact hfd.2.1 (by omega) (by assumption), rfl⟩
    · refine lv_iload_n X.x X.b dJ0_floorDiv_17 rfl (lv_at hl 0 rfl) ?_
      refine wz_iconst X.x X.b dJ0_floorDiv_18 ?_
      refine wz_isub X.x X.b dJ0_floorDiv_19 ?_
      exact wa_iret X hH hS dJ0_floorDiv_20 ⟨by exact (hfd.2.2 (by omega) (by assumption)), rfl⟩
set_option maxRecDepth 100000 in
theorem mJ0_floorDiv_2 {lL : Launch} {G : wa_G} (w : wa_W)   (a : Int) (b : Int) (ha : rL a) (hb : 0 < b ∧ b < 9223372036854775808) : Met lL yJ0_floorDiv_2 (ws_ yJ0_floorDiv_2 cJ0_floorDiv_2 6 (some FieldType.long)) ({ frames := 0, cells := 0, slots := 0, locals := 0 } : Room) (wa_P G w [.long (lI a), .long (lI b)]) (wa_Ql G fun z u => z = a / b ∧ w = u) 0 0 (wa_A G) := by
  refine wa_metF (wb_mplain rfl (by decide +kernel)) (by exact Nat.le_of_ble_eq_true rfl) ?_
  intro pP eE sS mM aA bB mT cC ls X hl hH
  have hS : va_S (wa_A G) sS.heap sS.heap [] := va_S.rf
  have hl : lv_has ls 6 [(0, .long (lI a)), (2, .long (lI b))] := hl
  have hK : Ext w w := Ext.rf
  have hfd := fdiv_t (x := a) (y := b) hb.1
  obtain ⟨ex, ex1, ex2, ex3⟩ := lxor_z (x := a) (y := b) ha hb
  refine lv_lload_n X.x X.b dJ0_floorDiv_2_0 rfl (lv_at hl 0 rfl) ?_
  refine lv_lload_n X.x X.b dJ0_floorDiv_2_1 rfl (lv_at hl 1 rfl) ?_
  refine wz_ldiv X.x X.b dJ0_floorDiv_2_2 ⟨by omega, by omega⟩ (by omega) ⟨by omega, by omega⟩ ?_
  refine lv_lstore (lv' := [(4, .long (lI (a.tdiv b))), (0, .long (lI a)), (2, .long (lI b))]) X.x X.b dJ0_floorDiv_2_3 hl (by decide) rfl (fun ls hl => ?_)
  refine lv_lload_n X.x X.b dJ0_floorDiv_2_5 rfl (lv_at hl 1 rfl) ?_
  refine lv_lload_n X.x X.b dJ0_floorDiv_2_6 rfl (lv_at hl 2 rfl) ?_
  refine lv_lxor X.x X.b dJ0_floorDiv_2_7 ?_
  refine wz_i64 (z := ex) (by exact ex1) ?_
  refine lv_lconst (v := lI 0) X.x X.b dJ0_floorDiv_2_8 rfl ?_
  refine wz_lcmp_ge (tgt := 27) X.x X.b dJ0_floorDiv_2_9 dJ0_floorDiv_2_10 (by decide) ⟨by omega, by omega⟩ ⟨by omega, by omega⟩ (fun c9 => ?_) (fun c9 => ?_)
  · refine lv_lload X.x X.b dJ0_floorDiv_2_27 (lv_at hl 0 rfl) ?_
    exact wa_lret X hH hS dJ0_floorDiv_2_29 ⟨by first | exact hfd.1 (by omega) | exact hfd.2.1 (by omega) (by assumption), rfl⟩
  · refine lv_lload X.x X.b dJ0_floorDiv_2_13 (lv_at hl 0 rfl) ?_
    refine lv_lload_n X.x X.b dJ0_floorDiv_2_15 rfl (lv_at hl 2 rfl) ?_
    refine wz_lmul X.x X.b dJ0_floorDiv_2_16 ?_
    refine lv_lload_n X.x X.b dJ0_floorDiv_2_17 rfl (lv_at hl 1 rfl) ?_
    refine wz_lcmp_eq (tgt := 27) X.x X.b dJ0_floorDiv_2_18 dJ0_floorDiv_2_19 (by decide) (tdm_l ha hb.1) ha (fun c18 => ?_) (fun c18 => ?_)
    · refine lv_lload X.x X.b dJ0_floorDiv_2_27 (lv_at hl 0 rfl) ?_
      exact wa_lret X hH hS dJ0_floorDiv_2_29 ⟨by first | exact hfd.1 (by omega) | exact hfd.2.1 (by omega) (by assumption), rfl⟩
    · refine lv_lload X.x X.b dJ0_floorDiv_2_22 (lv_at hl 0 rfl) ?_
      refine lv_lconst (v := lI 1) X.x X.b dJ0_floorDiv_2_24 rfl ?_
      refine wz_lsub X.x X.b dJ0_floorDiv_2_25 ?_
      exact wa_lret X hH hS dJ0_floorDiv_2_26 ⟨by exact (hfd.2.2 (by omega) (by assumption)), rfl⟩
set_option maxRecDepth 100000 in
theorem mX0_gcd {lL : Launch} {G : wa_G} (w : wa_W)   (a : Int) (b : Int) (ha : -9223372036854775807 ≤ a ∧ a < 9223372036854775808) (hb : -9223372036854775807 ≤ b ∧ b < 9223372036854775808) : Met lL yX0_gcd (ws_ yX0_gcd cX0_gcd 10 (some FieldType.long)) ({ frames := 1, cells := 0, slots := 0, locals := 21 } : Room) (wa_P G w [.long (lI a), .long (lI b)]) (wa_Ql G fun z u => z = gcI a b ∧ w = u) 0 0 (wa_A G) := by
  refine wa_met (by decide) (by exact Nat.le_of_ble_eq_true rfl) ?_
  intro pP eE sS mM aA bB mT cC ls X hl hH
  have hS : va_S (wa_A G) sS.heap sS.heap [] := va_S.rf
  have hl : lv_has ls 10 [(0, .long (lI a)), (2, .long (lI b))] := hl
  have hK : Ext w w := Ext.rf
  refine lv_lload_n X.x X.b dX0_gcd_0 rfl (lv_at hl 0 rfl) ?_
  refine wa_cl hS (wa_rS (rest := []) X hH (mJ0_abs_2 _  a (show rL a by first | assumption | omega)) (va_cwS 1 X.t (lw_S q328 q329 q111 q330) rfl rfl rfl hdJ0_abs_2.2 ⟨Nat.le_of_ble_eq_true rfl, Nat.le_of_ble_eq_true rfl⟩) rfl rfl hl.1 rfl (Nat.le_of_ble_eq_true rfl) dX0_gcd_1 ⟨Nat.le_of_ble_eq_true rfl, Nat.le_of_ble_eq_true rfl⟩) (fun z w1 H locs hp hH hS => ?_)
  obtain ⟨rfl, hw⟩ := hp
  rw [← hw] at hH; clear hw
  refine lv_lstore (lv' := [(4, .long (lI (Int.natAbs a : Int))), (0, .long (lI a)), (2, .long (lI b))]) X.x X.b dX0_gcd_4 hl (by decide) rfl (fun ls hl => ?_)
  refine lv_lload_n X.x X.b dX0_gcd_6 rfl (lv_at hl 2 rfl) ?_
  refine wa_cl hS (wa_rS (rest := []) X hH (mJ0_abs_2 _  b (show rL b by first | assumption | omega)) (va_cwS 1 X.t (lw_S q328 q329 q111 q330) rfl rfl rfl hdJ0_abs_2.2 ⟨Nat.le_of_ble_eq_true rfl, Nat.le_of_ble_eq_true rfl⟩) rfl rfl hl.1 rfl (Nat.le_of_ble_eq_true rfl) dX0_gcd_7 ⟨Nat.le_of_ble_eq_true rfl, Nat.le_of_ble_eq_true rfl⟩) (fun z w7 H locs hp hH hS => ?_)
  obtain ⟨rfl, hw⟩ := hp
  rw [← hw] at hH; clear hw
  refine lv_lstore (lv' := [(6, .long (lI (Int.natAbs b : Int))), (4, .long (lI (Int.natAbs a : Int))), (0, .long (lI a)), (2, .long (lI b))]) X.x X.b dX0_gcd_10 hl (by decide) rfl (fun ls hl => ?_)
  have L12 : ∀ (nn : Nat) (x : Int) (y : Int), (y.toNat) = nn → (0 ≤ x ∧ x < 9223372036854775808) → (0 ≤ y ∧ y < 9223372036854775808) → (Int.gcd x y = Int.gcd a b) → ∀ (H : Heap) (locs : List Loc) (ls : Array Slot), wa_H G w H → va_S (wa_A G) sS.heap H locs → lv_has ls 10 [(4, .long (lI x)), (6, .long (lI y)), (0, .long (lI a)), (2, .long (lI b))] → W pP lL eE ({ frames := 1, cells := 0, slots := 0, locals := 21 } : Room) sS mM aA bB mT cC H locs 0 0 (MQ bB (wa_Ql G fun z u => z = gcI a b ∧ w = u) aA sS 0 0 (wa_A G)) (F0 mM 12 ls []) := by
    intro nn
    induction nn using Nat.strongRecOn with
    | ind nn ih12 =>
      intro x y hmu12 i12_0 i12_1 i12_2 H locs ls hH hS hl
      refine lv_lload X.x X.b dX0_gcd_12 (lv_at hl 1 rfl) ?_
      refine lv_lconst (v := lI 0) X.x X.b dX0_gcd_14 rfl ?_
      refine wz_lcmp_eq (tgt := 37) X.x X.b dX0_gcd_15 dX0_gcd_16 (by decide) ⟨by omega, by omega⟩ ⟨by omega, by omega⟩ (fun c15 => ?_) (fun c15 => ?_)
      · refine lv_lload X.x X.b dX0_gcd_37 (lv_at hl 0 rfl) ?_
        exact wa_lret X hH hS dX0_gcd_39 ⟨by (have e := i12_2; have e0 : y = 0 := (by omega); rw [e0, Int.gcd_zero_right] at e; unfold gcI; omega), rfl⟩
      · refine lv_lload X.x X.b dX0_gcd_19 (lv_at hl 0 rfl) ?_
        refine lv_lload X.x X.b dX0_gcd_21 (lv_at hl 1 rfl) ?_
        refine wz_lremp X.x X.b dX0_gcd_23 (by omega) (by omega) (by omega) (by omega) ?_
        refine lv_lstore (lv' := [(8, .long (lI (x % y))), (4, .long (lI x)), (6, .long (lI y)), (0, .long (lI a)), (2, .long (lI b))]) X.x X.b dX0_gcd_24 hl (by decide) rfl (fun ls hl => ?_)
        refine lv_lload X.x X.b dX0_gcd_26 (lv_at hl 2 rfl) ?_
        refine lv_lstore (lv' := [(4, .long (lI y)), (8, .long (lI (x % y))), (6, .long (lI y)), (0, .long (lI a)), (2, .long (lI b))]) X.x X.b dX0_gcd_28 hl (by decide) rfl (fun ls hl => ?_)
        refine lv_lload X.x X.b dX0_gcd_30 (lv_at hl 1 rfl) ?_
        refine lv_lstore (lv' := [(6, .long (lI (x % y))), (4, .long (lI y)), (8, .long (lI (x % y))), (0, .long (lI a)), (2, .long (lI b))]) X.x X.b dX0_gcd_32 hl (by decide) rfl (fun ls hl => ?_)
        refine lv_goto (tgt := 12) X.x X.b dX0_gcd_34 (by decide) ?_
        exact ih12 _ (by have := Int.emod_lt_of_pos x (show 0 < y by omega); have := Int.emod_nonneg x (show y ≠ 0 by omega); omega) y (x % y) rfl (by omega) (by have := Int.emod_lt_of_pos x (show 0 < y by omega); have := Int.emod_nonneg x (show y ≠ 0 by omega); omega) (by rw [gcI_step (by omega) (by omega)]; assumption) _ _ _ hH hS (lv_sub hl [1, 0, 3, 4] rfl)
  exact L12 _ (Int.natAbs a : Int) (Int.natAbs b : Int) rfl (by omega) (by omega) (by simp [Int.gcd]) _ _ _ hH hS (lv_sub hl [1, 0, 2, 3] rfl)
set_option maxRecDepth 100000 in
theorem mX0_in {lL : Launch} {G : wa_G} (w : wa_W)   (v : Int) (lo : Int) (hi : Int) (r1 : rL v) (r2 : rL lo) (r3 : rL hi) : Met lL yX0_in (ws_ yX0_in cX0_in 6 (some FieldType.boolean)) ({ frames := 0, cells := 0, slots := 0, locals := 0 } : Room) (wa_P G w [.long (lI v), .long (lI lo), .long (lI hi)]) (wa_Qz G fun z u => ((lo ≤ v ∧ v ≤ hi) ∧ z = 1 ∨ ¬ (lo ≤ v ∧ v ≤ hi) ∧ z = 0) ∧ w = u) 0 0 (wa_A G) := by
  refine wa_met (by decide) (by exact Nat.le_of_ble_eq_true rfl) ?_
  intro pP eE sS mM aA bB mT cC ls X hl hH
  have hS : va_S (wa_A G) sS.heap sS.heap [] := va_S.rf
  have hl : lv_has ls 6 [(0, .long (lI v)), (2, .long (lI lo)), (4, .long (lI hi))] := hl
  have hK : Ext w w := Ext.rf
  refine lv_lload_n X.x X.b dX0_in_0 rfl (lv_at hl 0 rfl) ?_
  refine lv_lload_n X.x X.b dX0_in_1 rfl (lv_at hl 1 rfl) ?_
  refine wz_lcmp_lt (tgt := 17) X.x X.b dX0_in_2 dX0_in_3 (by decide) ⟨by omega, by omega⟩ ⟨by omega, by omega⟩ (fun c2 => ?_) (fun c2 => ?_)
  · refine wz_iconst X.x X.b dX0_in_17 ?_
    exact wa_zret X hH hS dX0_in_18 nb0 ⟨Or.inr ⟨by first | rfl | omega | assumption, rfl⟩, rfl⟩
  · refine lv_lload_n X.x X.b dX0_in_6 rfl (lv_at hl 0 rfl) ?_
    refine lv_lload X.x X.b dX0_in_7 (lv_at hl 2 rfl) ?_
    refine wz_lcmp_gt (tgt := 17) X.x X.b dX0_in_9 dX0_in_10 (by decide) ⟨by omega, by omega⟩ ⟨by omega, by omega⟩ (fun c9 => ?_) (fun c9 => ?_)
    · refine wz_iconst X.x X.b dX0_in_17 ?_
      exact wa_zret X hH hS dX0_in_18 nb0 ⟨Or.inr ⟨by first | rfl | omega | assumption, rfl⟩, rfl⟩
    · refine wz_iconst X.x X.b dX0_in_13 ?_
      refine lv_goto (tgt := 18) X.x X.b dX0_in_14 (by decide) ?_
      exact wa_zret X hH hS dX0_in_18 nb1 ⟨Or.inl ⟨by first | rfl | omega | assumption, rfl⟩, rfl⟩
set_option maxRecDepth 100000 in
theorem mX0_into {lL : Launch} {G : wa_G} (w : wa_W)   (v : Int) (most : Int) (hv : rL v) (hm : rI most) : Met lL yX0_into (ws_ yX0_into cX0_into 3 (some FieldType.int)) ({ frames := 1, cells := 0, slots := 0, locals := 23 } : Room) (wa_P G w [.long (lI v), .int (zI most)]) (wa_Qz G fun z u => z = max 0 (min most v) ∧ w = u) 0 0 (wa_A G) := by
  refine wa_met (by decide) (by exact Nat.le_of_ble_eq_true rfl) ?_
  intro pP eE sS mM aA bB mT cC ls X hl hH
  have hS : va_S (wa_A G) sS.heap sS.heap [] := va_S.rf
  have hl : lv_has ls 3 [(0, .long (lI v)), (2, .int (zI most))] := hl
  have hK : Ext w w := Ext.rf
  refine lv_lconst (v := lI 0) X.x X.b dX0_into_0 rfl ?_
  refine lv_iload_n X.x X.b dX0_into_1 rfl (lv_at hl 1 rfl) ?_
  refine wz_i2l X.x X.b dX0_into_2 ⟨by omega, by omega⟩ ?_
  refine lv_lload_n X.x X.b dX0_into_3 rfl (lv_at hl 0 rfl) ?_
  refine wa_cl hS (wa_rS (rest := [.long (lI 0)]) X hH (mJ0_min _  most v (show rL most by first | assumption | omega) (show rL v by first | assumption | omega)) (va_cwS 2 X.t (lw_S q535 q536 q111 q537) rfl rfl rfl hdJ0_min.2 ⟨Nat.le_of_ble_eq_true rfl, Nat.le_of_ble_eq_true rfl⟩) rfl rfl hl.1 rfl (Nat.le_of_ble_eq_true rfl) dX0_into_4 ⟨Nat.le_of_ble_eq_true rfl, Nat.le_of_ble_eq_true rfl⟩) (fun z w4 H locs hp hH hS => ?_)
  obtain ⟨rfl, hw⟩ := hp
  rw [← hw] at hH; clear hw
  refine wa_cl hS (wa_rS (rest := []) X hH (mJ0_max _  0 (min most v) (show rL 0 by first | assumption | omega) (show rL (min most v) by first | assumption | omega)) (va_cwS 2 X.t (lw_S q538 q539 q111 q540) rfl rfl rfl hdJ0_max.2 ⟨Nat.le_of_ble_eq_true rfl, Nat.le_of_ble_eq_true rfl⟩) rfl rfl hl.1 rfl (Nat.le_of_ble_eq_true rfl) dX0_into_7 ⟨Nat.le_of_ble_eq_true rfl, Nat.le_of_ble_eq_true rfl⟩) (fun z w7 H locs hp hH hS => ?_)
  obtain ⟨rfl, hw⟩ := hp
  rw [← hw] at hH; clear hw
  refine wz_l2i X.x X.b dX0_into_10 ?_
  exact wa_iret X hH hS dX0_into_11 ⟨by first | rfl | omega | assumption, rfl⟩
set_option maxRecDepth 100000 in
theorem mX0_isCell {lL : Launch} {G : wa_G} (w : wa_W)   (r : Int) (c : Int) (h1 : rI r) (h2 : rI c) : Met lL yX0_isCell (ws_ yX0_isCell cX0_isCell 2 (some FieldType.boolean)) ({ frames := 1, cells := 0, slots := 0, locals := 25 } : Room) (wa_P G w [.int (zI r), .int (zI c)]) (wa_Qz G fun z u => (((0 ≤ r ∧ r ≤ 3) ∧ 0 ≤ c ∧ c ≤ 7) ∧ z = 1 ∨ ¬ ((0 ≤ r ∧ r ≤ 3) ∧ 0 ≤ c ∧ c ≤ 7) ∧ z = 0) ∧ w = u) 0 0 (wa_A G) := by
  refine wa_met (by decide) (by exact Nat.le_of_ble_eq_true rfl) ?_
  intro pP eE sS mM aA bB mT cC ls X hl hH
  have hS : va_S (wa_A G) sS.heap sS.heap [] := va_S.rf
  have hl : lv_has ls 2 [(0, .int (zI r)), (1, .int (zI c))] := hl
  have hK : Ext w w := Ext.rf
  refine lv_iload_n X.x X.b dX0_isCell_0 rfl (lv_at hl 0 rfl) ?_
  refine wz_i2l X.x X.b dX0_isCell_1 ⟨by omega, by omega⟩ ?_
  refine lv_lconst (v := lI 0) X.x X.b dX0_isCell_2 rfl ?_
  refine wz_ldc2 (n := 3) X.x X.b X.own (X.t _ q579) rfl dX0_isCell_3 ?_
  refine wa_ci hS (wa_rS (rest := []) X hH (mX0_in _  r 0 3 (show rL r by first | assumption | omega) (show rL 0 by first | assumption | omega) (show rL 3 by first | assumption | omega)) (va_cwS 3 X.t (lw_S q466 q467 q109 q468) rfl rfl rfl hdX0_in.2 ⟨Nat.le_of_ble_eq_true rfl, Nat.le_of_ble_eq_true rfl⟩) rfl rfl hl.1 rfl (Nat.le_of_ble_eq_true rfl) dX0_isCell_6 ⟨Nat.le_of_ble_eq_true rfl, Nat.le_of_ble_eq_true rfl⟩) (fun z w6 H locs hp hH hS => ?_)
  obtain ⟨hb, hw⟩ := hp
  rw [← hw] at hH; clear hw
  rcases hb with ⟨b6, rfl⟩ | ⟨b6, rfl⟩
  · have b6 : (0 ≤ r ∧ r ≤ 3) := b6
    refine wz_ifeq (tgt := 28) X.x X.b dX0_isCell_9 (by decide) (by decide) (fun h => absurd h (by decide)) (fun _ => ?_)
    refine lv_iload_n X.x X.b dX0_isCell_12 rfl (lv_at hl 1 rfl) ?_
    refine wz_i2l X.x X.b dX0_isCell_13 ⟨by omega, by omega⟩ ?_
    refine lv_lconst (v := lI 0) X.x X.b dX0_isCell_14 rfl ?_
    refine wz_ldc2 (n := 7) X.x X.b X.own (X.t _ q580) rfl dX0_isCell_15 ?_
    refine wa_ci hS (wa_rS (rest := []) X hH (mX0_in _  c 0 7 (show rL c by first | assumption | omega) (show rL 0 by first | assumption | omega) (show rL 7 by first | assumption | omega)) (va_cwS 3 X.t (lw_S q466 q467 q109 q468) rfl rfl rfl hdX0_in.2 ⟨Nat.le_of_ble_eq_true rfl, Nat.le_of_ble_eq_true rfl⟩) rfl rfl hl.1 rfl (Nat.le_of_ble_eq_true rfl) dX0_isCell_18 ⟨Nat.le_of_ble_eq_true rfl, Nat.le_of_ble_eq_true rfl⟩) (fun z w18 H locs hp hH hS => ?_)
    obtain ⟨hb, hw⟩ := hp
    rw [← hw] at hH; clear hw
    rcases hb with ⟨b18, rfl⟩ | ⟨b18, rfl⟩
    · have b18 : (0 ≤ c ∧ c ≤ 7) := b18
      refine wz_ifeq (tgt := 28) X.x X.b dX0_isCell_21 (by decide) (by decide) (fun h => absurd h (by decide)) (fun _ => ?_)
      refine wz_iconst X.x X.b dX0_isCell_24 ?_
      refine lv_goto (tgt := 29) X.x X.b dX0_isCell_25 (by decide) ?_
      exact wa_zret X hH hS dX0_isCell_29 nb1 ⟨Or.inl ⟨by first | rfl | omega | assumption, rfl⟩, rfl⟩
    · have b18 : ¬ (0 ≤ c ∧ c ≤ 7) := b18
      refine wz_ifeq (tgt := 28) X.x X.b dX0_isCell_21 (by decide) (by decide) (fun _ => ?_) (fun h => absurd h (by decide))
      refine wz_iconst X.x X.b dX0_isCell_28 ?_
      exact wa_zret X hH hS dX0_isCell_29 nb0 ⟨Or.inr ⟨by first | rfl | omega | assumption, rfl⟩, rfl⟩
  · have b6 : ¬ (0 ≤ r ∧ r ≤ 3) := b6
    refine wz_ifeq (tgt := 28) X.x X.b dX0_isCell_9 (by decide) (by decide) (fun _ => ?_) (fun h => absurd h (by decide))
    refine wz_iconst X.x X.b dX0_isCell_28 ?_
    exact wa_zret X hH hS dX0_isCell_29 nb0 ⟨Or.inr ⟨by first | rfl | omega | assumption, rfl⟩, rfl⟩
set_option maxRecDepth 100000 in
theorem mX0_isInner {lL : Launch} {G : wa_G} (w : wa_W)   (r : Int) (c : Int) (h1 : rI r) (h2 : rI c) : Met lL yX0_isInner (ws_ yX0_isInner cX0_isInner 2 (some FieldType.boolean)) ({ frames := 1, cells := 0, slots := 0, locals := 25 } : Room) (wa_P G w [.int (zI r), .int (zI c)]) (wa_Qz G fun z u => (((1 ≤ r ∧ r ≤ 2) ∧ 1 ≤ c ∧ c ≤ 6) ∧ z = 1 ∨ ¬ ((1 ≤ r ∧ r ≤ 2) ∧ 1 ≤ c ∧ c ≤ 6) ∧ z = 0) ∧ w = u) 0 0 (wa_A G) := by
  refine wa_met (by decide) (by exact Nat.le_of_ble_eq_true rfl) ?_
  intro pP eE sS mM aA bB mT cC ls X hl hH
  have hS : va_S (wa_A G) sS.heap sS.heap [] := va_S.rf
  have hl : lv_has ls 2 [(0, .int (zI r)), (1, .int (zI c))] := hl
  have hK : Ext w w := Ext.rf
  refine lv_iload_n X.x X.b dX0_isInner_0 rfl (lv_at hl 0 rfl) ?_
  refine wz_i2l X.x X.b dX0_isInner_1 ⟨by omega, by omega⟩ ?_
  refine lv_lconst (v := lI 1) X.x X.b dX0_isInner_2 rfl ?_
  refine wz_ldc2 (n := 2) X.x X.b X.own (X.t _ q529) rfl dX0_isInner_3 ?_
  refine wa_ci hS (wa_rS (rest := []) X hH (mX0_in _  r 1 2 (show rL r by first | assumption | omega) (show rL 1 by first | assumption | omega) (show rL 2 by first | assumption | omega)) (va_cwS 3 X.t (lw_S q466 q467 q109 q468) rfl rfl rfl hdX0_in.2 ⟨Nat.le_of_ble_eq_true rfl, Nat.le_of_ble_eq_true rfl⟩) rfl rfl hl.1 rfl (Nat.le_of_ble_eq_true rfl) dX0_isInner_6 ⟨Nat.le_of_ble_eq_true rfl, Nat.le_of_ble_eq_true rfl⟩) (fun z w6 H locs hp hH hS => ?_)
  obtain ⟨hb, hw⟩ := hp
  rw [← hw] at hH; clear hw
  rcases hb with ⟨b6, rfl⟩ | ⟨b6, rfl⟩
  · have b6 : (1 ≤ r ∧ r ≤ 2) := b6
    refine wz_ifeq (tgt := 28) X.x X.b dX0_isInner_9 (by decide) (by decide) (fun h => absurd h (by decide)) (fun _ => ?_)
    refine lv_iload_n X.x X.b dX0_isInner_12 rfl (lv_at hl 1 rfl) ?_
    refine wz_i2l X.x X.b dX0_isInner_13 ⟨by omega, by omega⟩ ?_
    refine lv_lconst (v := lI 1) X.x X.b dX0_isInner_14 rfl ?_
    refine wz_ldc2 (n := 6) X.x X.b X.own (X.t _ q617) rfl dX0_isInner_15 ?_
    refine wa_ci hS (wa_rS (rest := []) X hH (mX0_in _  c 1 6 (show rL c by first | assumption | omega) (show rL 1 by first | assumption | omega) (show rL 6 by first | assumption | omega)) (va_cwS 3 X.t (lw_S q466 q467 q109 q468) rfl rfl rfl hdX0_in.2 ⟨Nat.le_of_ble_eq_true rfl, Nat.le_of_ble_eq_true rfl⟩) rfl rfl hl.1 rfl (Nat.le_of_ble_eq_true rfl) dX0_isInner_18 ⟨Nat.le_of_ble_eq_true rfl, Nat.le_of_ble_eq_true rfl⟩) (fun z w18 H locs hp hH hS => ?_)
    obtain ⟨hb, hw⟩ := hp
    rw [← hw] at hH; clear hw
    rcases hb with ⟨b18, rfl⟩ | ⟨b18, rfl⟩
    · have b18 : (1 ≤ c ∧ c ≤ 6) := b18
      refine wz_ifeq (tgt := 28) X.x X.b dX0_isInner_21 (by decide) (by decide) (fun h => absurd h (by decide)) (fun _ => ?_)
      refine wz_iconst X.x X.b dX0_isInner_24 ?_
      refine lv_goto (tgt := 29) X.x X.b dX0_isInner_25 (by decide) ?_
      exact wa_zret X hH hS dX0_isInner_29 nb1 ⟨Or.inl ⟨by first | rfl | omega | assumption, rfl⟩, rfl⟩
    · have b18 : ¬ (1 ≤ c ∧ c ≤ 6) := b18
      refine wz_ifeq (tgt := 28) X.x X.b dX0_isInner_21 (by decide) (by decide) (fun _ => ?_) (fun h => absurd h (by decide))
      refine wz_iconst X.x X.b dX0_isInner_28 ?_
      exact wa_zret X hH hS dX0_isInner_29 nb0 ⟨Or.inr ⟨by first | rfl | omega | assumption, rfl⟩, rfl⟩
  · have b6 : ¬ (1 ≤ r ∧ r ≤ 2) := b6
    refine wz_ifeq (tgt := 28) X.x X.b dX0_isInner_9 (by decide) (by decide) (fun _ => ?_) (fun h => absurd h (by decide))
    refine wz_iconst X.x X.b dX0_isInner_28 ?_
    exact wa_zret X hH hS dX0_isInner_29 nb0 ⟨Or.inr ⟨by first | rfl | omega | assumption, rfl⟩, rfl⟩
set_option maxRecDepth 100000 in
theorem mX8_at {lL : Launch} {G : wa_G} {w : wa_W} {p : Nat} {b : Nat} {f : Int → Int} {x : Int} {y : Int} {n : Int} (e1 : At w p (eO 8 [.ref b, .int (zI x), .int (zI y), .int (zI n)])) (e2 : At w b (eI G 32 f)) (r : Int) (c : Int) (h : 0 ≤ 8 * r + c ∧ 8 * r + c < 32) : Met lL yX8_at (ws_ yX8_at cX8_at 3 (some FieldType.int)) ({ frames := 0, cells := 0, slots := 0, locals := 0 } : Room) (wa_P G w [.ref p, .int (zI r), .int (zI c)]) (wa_Qz G fun z u => z = f (8 * r + c) ∧ w = u) 0 0 (wa_A G) := by
  refine wa_met (by decide) (by exact Nat.le_of_ble_eq_true rfl) ?_
  intro pP eE sS mM aA bB mT cC ls X hl hH
  have hS : va_S (wa_A G) sS.heap sS.heap [] := va_S.rf
  have hl : lv_has ls 3 [(0, .ref p), (1, .int (zI r)), (2, .int (zI c))] := hl
  have hK : Ext w w := Ext.rf
  refine lv_aload_n X.x X.b dX8_at_0 rfl (lv_at hl 0 rfl) ?_
  refine wa_get (v := .ref b) X hH e1 wcX8 0 (by decide) q547 rfl (fun _ h9 => h9) rfl dX8_at_1 ?_
  refine wz_bipush X.x X.b dX8_at_4 rfl ?_
  refine lv_iload_n X.x X.b dX8_at_6 rfl (lv_at hl 1 rfl) ?_
  refine wz_imul X.x X.b dX8_at_7 ?_
  refine lv_iload_n X.x X.b dX8_at_8 rfl (lv_at hl 2 rfl) ?_
  refine wz_iadd X.x X.b dX8_at_9 ?_
  refine wa_iald (f := f) X hH e2 (by omega) (by omega) (by omega) dX8_at_10 ?_
  exact wa_iret X hH hS dX8_at_11 ⟨by first | rfl | omega | assumption, rfl⟩
set_option maxRecDepth 100000 in
theorem mX8_init {lL : Launch} {G : wa_G} {w : wa_W} {q0 : Nat} {b : Nat} (eo : At w q0 (eO 8 [.null, .int (zI 0), .int (zI 0), .int (zI 0)])) (x : Int) (y : Int) (n : Int)  : Met lL yX8_init (ws_ yX8_init cX8_init 5 (none : Option FieldType)) ({ frames := 1, cells := 0, slots := 0, locals := 20 } : Room) (wa_P G w [.ref q0, .ref b, .int (zI x), .int (zI y), .int (zI n)]) (wa_Qv G fun u => u q0 = some (eO 8 [.ref b, .int (zI x), .int (zI y), .int (zI n)]) ∧ Off q0 w u) 0 0 (wa_A G) := by
  refine wa_met (by decide) (by exact Nat.le_of_ble_eq_true rfl) ?_
  intro pP eE sS mM aA bB mT cC ls X hl hH
  have hS : va_S (wa_A G) sS.heap sS.heap [] := va_S.rf
  have hl : lv_has ls 5 [(0, .ref q0), (1, .ref b), (2, .int (zI x)), (3, .int (zI y)), (4, .int (zI n))] := hl
  have hK : Ext w w := Ext.rf
  have hO : Off q0 w w := Off.rf
  refine lv_aload_n X.x X.b dX8_init_0 rfl (lv_at hl 0 rfl) ?_
  refine W.objInit X.x X.b X.own (X.t _ q546) (X.t _ q153) (X.t _ q154) rfl (by rw [X.ml]; exact hl.1) rfl dX8_init_1 (Nat.le_of_ble_eq_true rfl) (Nat.le_of_ble_eq_true rfl) ?_
  refine W.eq (g2 := F0 mM 4 ls []) rfl ?_
  refine lv_aload_n X.x X.b dX8_init_4 rfl (lv_at hl 0 rfl) ?_
  refine lv_aload_n X.x X.b dX8_init_5 rfl (lv_at hl 1 rfl) ?_
  refine wa_putF X hH hS eo wcX8 0 (by decide) q547 rfl (fun _ h9 => h9) rfl rfl rfl rfl rfl (Nat.le_of_ble_eq_true rfl) dX8_init_6 (fun w6 H locs ew hH hS => ?_)
  have hO : Off q0 w w6 := hO.put ew
  have eo : At w6 q0 (eO 8 [.ref b, .int (zI 0), .int (zI 0), .int (zI 0)]) := by rw [ew]; exact wup_s
  clear ew
  refine lv_aload_n X.x X.b dX8_init_9 rfl (lv_at hl 0 rfl) ?_
  refine lv_iload_n X.x X.b dX8_init_10 rfl (lv_at hl 2 rfl) ?_
  refine wa_putF X hH hS eo wcX8 1 (by decide) q549 rfl (fun _ h9 => h9) rfl rfl rfl rfl rfl (Nat.le_of_ble_eq_true rfl) dX8_init_11 (fun w11 H locs ew hH hS => ?_)
  have hO : Off q0 w w11 := hO.put ew
  have eo : At w11 q0 (eO 8 [.ref b, .int (zI x), .int (zI 0), .int (zI 0)]) := by rw [ew]; exact wup_s
  clear ew
  refine lv_aload_n X.x X.b dX8_init_14 rfl (lv_at hl 0 rfl) ?_
  refine lv_iload_n X.x X.b dX8_init_15 rfl (lv_at hl 3 rfl) ?_
  refine wa_putF X hH hS eo wcX8 2 (by decide) q551 rfl (fun _ h9 => h9) rfl rfl rfl rfl rfl (Nat.le_of_ble_eq_true rfl) dX8_init_16 (fun w16 H locs ew hH hS => ?_)
  have hO : Off q0 w w16 := hO.put ew
  have eo : At w16 q0 (eO 8 [.ref b, .int (zI x), .int (zI y), .int (zI 0)]) := by rw [ew]; exact wup_s
  clear ew
  refine lv_aload_n X.x X.b dX8_init_19 rfl (lv_at hl 0 rfl) ?_
  refine lv_iload X.x X.b dX8_init_20 (lv_at hl 4 rfl) ?_
  refine wa_putF X hH hS eo wcX8 3 (by decide) q553 rfl (fun _ h9 => h9) rfl rfl rfl rfl rfl (Nat.le_of_ble_eq_true rfl) dX8_init_22 (fun w22 H locs ew hH hS => ?_)
  have hO : Off q0 w w22 := hO.put ew
  have eo : At w22 q0 (eO 8 [.ref b, .int (zI x), .int (zI y), .int (zI n)]) := by rw [ew]; exact wup_s
  clear ew
  exact wa_vret X hH hS dX8_init_25 ⟨eo, hO⟩
set_option maxRecDepth 100000 in
theorem mX9_init {lL : Launch} {G : wa_G} {w : wa_W} {q0 : Nat} (eo : At w q0 (eO 9 [.int (zI 0), .int (zI 0), .int (zI 0)])) (r : Int) (c : Int) (v : Int)  : Met lL yX9_init (ws_ yX9_init cX9_init 4 (none : Option FieldType)) ({ frames := 1, cells := 0, slots := 0, locals := 20 } : Room) (wa_P G w [.ref q0, .int (zI r), .int (zI c), .int (zI v)]) (wa_Qv G fun u => u q0 = some (eO 9 [.int (zI r), .int (zI c), .int (zI v)]) ∧ Off q0 w u) 0 0 (wa_A G) := by
  refine wa_met (by decide) (by exact Nat.le_of_ble_eq_true rfl) ?_
  intro pP eE sS mM aA bB mT cC ls X hl hH
  have hS : va_S (wa_A G) sS.heap sS.heap [] := va_S.rf
  have hl : lv_has ls 4 [(0, .ref q0), (1, .int (zI r)), (2, .int (zI c)), (3, .int (zI v))] := hl
  have hK : Ext w w := Ext.rf
  have hO : Off q0 w w := Off.rf
  refine lv_aload_n X.x X.b dX9_init_0 rfl (lv_at hl 0 rfl) ?_
  refine W.objInit X.x X.b X.own (X.t _ q685) (X.t _ q153) (X.t _ q154) rfl (by rw [X.ml]; exact hl.1) rfl dX9_init_1 (Nat.le_of_ble_eq_true rfl) (Nat.le_of_ble_eq_true rfl) ?_
  refine W.eq (g2 := F0 mM 4 ls []) rfl ?_
  refine lv_aload_n X.x X.b dX9_init_4 rfl (lv_at hl 0 rfl) ?_
  refine lv_iload_n X.x X.b dX9_init_5 rfl (lv_at hl 1 rfl) ?_
  refine wa_putF X hH hS eo wcX9 0 (by decide) q686 rfl (fun _ h9 => h9) rfl rfl rfl rfl rfl (Nat.le_of_ble_eq_true rfl) dX9_init_6 (fun w6 H locs ew hH hS => ?_)
  have hO : Off q0 w w6 := hO.put ew
  have eo : At w6 q0 (eO 9 [.int (zI r), .int (zI 0), .int (zI 0)]) := by rw [ew]; exact wup_s
  clear ew
  refine lv_aload_n X.x X.b dX9_init_9 rfl (lv_at hl 0 rfl) ?_
  refine lv_iload_n X.x X.b dX9_init_10 rfl (lv_at hl 2 rfl) ?_
  refine wa_putF X hH hS eo wcX9 1 (by decide) q688 rfl (fun _ h9 => h9) rfl rfl rfl rfl rfl (Nat.le_of_ble_eq_true rfl) dX9_init_11 (fun w11 H locs ew hH hS => ?_)
  have hO : Off q0 w w11 := hO.put ew
  have eo : At w11 q0 (eO 9 [.int (zI r), .int (zI c), .int (zI 0)]) := by rw [ew]; exact wup_s
  clear ew
  refine lv_aload_n X.x X.b dX9_init_14 rfl (lv_at hl 0 rfl) ?_
  refine lv_iload_n X.x X.b dX9_init_15 rfl (lv_at hl 3 rfl) ?_
  refine wa_putF X hH hS eo wcX9 2 (by decide) q690 rfl (fun _ h9 => h9) rfl rfl rfl rfl rfl (Nat.le_of_ble_eq_true rfl) dX9_init_16 (fun w16 H locs ew hH hS => ?_)
  have hO : Off q0 w w16 := hO.put ew
  have eo : At w16 q0 (eO 9 [.int (zI r), .int (zI c), .int (zI v)]) := by rw [ew]; exact wup_s
  clear ew
  exact wa_vret X hH hS dX9_init_19 ⟨eo, hO⟩
set_option maxRecDepth 100000 in
theorem mX9_compareTo_2 {lL : Launch} {G : wa_G} {w : wa_W} {q1 : Nat} {q2 : Nat} {r1 : Int} {c1 : Int} {v1 : Int} {r2 : Int} {c2 : Int} {v2 : Int} (e1 : At w q1 (eO 9 [.int (zI r1), .int (zI c1), .int (zI v1)])) (e2 : At w q2 (eO 9 [.int (zI r2), .int (zI c2), .int (zI v2)]))  : Met lL yX9_compareTo_2 (ws_ yX9_compareTo_2 cX9_compareTo_2 2 (some FieldType.int)) ({ frames := 0, cells := 0, slots := 0, locals := 0 } : Room) (wa_P G w [.ref q1, .ref q2]) (wa_Qz G fun z u => z = 8 * r1 + c1 - 8 * r2 - c2 ∧ w = u) 0 0 (wa_A G) := by
  refine wa_met (by decide) (by exact Nat.le_of_ble_eq_true rfl) ?_
  intro pP eE sS mM aA bB mT cC ls X hl hH
  have hS : va_S (wa_A G) sS.heap sS.heap [] := va_S.rf
  have hl : lv_has ls 2 [(0, .ref q1), (1, .ref q2)] := hl
  have hK : Ext w w := Ext.rf
  refine wz_bipush X.x X.b dX9_compareTo_2_0 rfl ?_
  refine lv_aload_n X.x X.b dX9_compareTo_2_2 rfl (lv_at hl 0 rfl) ?_
  refine wa_get (v := .int (zI r1)) X hH e1 wcX9 0 (by decide) q686 rfl (fun _ h9 => h9) rfl dX9_compareTo_2_3 ?_
  refine wz_imul X.x X.b dX9_compareTo_2_6 ?_
  refine lv_aload_n X.x X.b dX9_compareTo_2_7 rfl (lv_at hl 0 rfl) ?_
  refine wa_get (v := .int (zI c1)) X hH e1 wcX9 1 (by decide) q688 rfl (fun _ h9 => h9) rfl dX9_compareTo_2_8 ?_
  refine wz_iadd X.x X.b dX9_compareTo_2_11 ?_
  refine wz_bipush X.x X.b dX9_compareTo_2_12 rfl ?_
  refine lv_aload_n X.x X.b dX9_compareTo_2_14 rfl (lv_at hl 1 rfl) ?_
  refine wa_get (v := .int (zI r2)) X hH e2 wcX9 0 (by decide) q686 rfl (fun _ h9 => h9) rfl dX9_compareTo_2_15 ?_
  refine wz_imul X.x X.b dX9_compareTo_2_18 ?_
  refine wz_isub X.x X.b dX9_compareTo_2_19 ?_
  refine lv_aload_n X.x X.b dX9_compareTo_2_20 rfl (lv_at hl 1 rfl) ?_
  refine wa_get (v := .int (zI c2)) X hH e2 wcX9 1 (by decide) q688 rfl (fun _ h9 => h9) rfl dX9_compareTo_2_21 ?_
  refine wz_isub X.x X.b dX9_compareTo_2_24 ?_
  exact wa_iret X hH hS dX9_compareTo_2_25 ⟨by first | rfl | omega | assumption, rfl⟩
set_option maxRecDepth 100000 in
theorem mX9_compareTo {lL : Launch} {G : wa_G} {w : wa_W} {q1 : Nat} {q2 : Nat} {r1 : Int} {c1 : Int} {v1 : Int} {r2 : Int} {c2 : Int} {v2 : Int} (e1 : At w q1 (eO 9 [.int (zI r1), .int (zI c1), .int (zI v1)])) (e2 : At w q2 (eO 9 [.int (zI r2), .int (zI c2), .int (zI v2)]))  : Met lL yX9_compareTo (ws_ yX9_compareTo cX9_compareTo 2 (some FieldType.int)) ({ frames := 1, cells := 0, slots := 0, locals := 21 } : Room) (wa_P G w [.ref q1, .ref q2]) (wa_Qz G fun z u => z = 8 * r1 + c1 - 8 * r2 - c2 ∧ w = u) 0 0 (wa_A G) := by
  refine wa_met (by decide) (by exact Nat.le_of_ble_eq_true rfl) ?_
  intro pP eE sS mM aA bB mT cC ls X hl hH
  have hS : va_S (wa_A G) sS.heap sS.heap [] := va_S.rf
  have hl : lv_has ls 2 [(0, .ref q1), (1, .ref q2)] := hl
  have hK : Ext w w := Ext.rf
  refine lv_aload_n X.x X.b dX9_compareTo_0 rfl (lv_at hl 0 rfl) ?_
  refine lv_aload_n X.x X.b dX9_compareTo_1 rfl (lv_at hl 1 rfl) ?_
  refine wa_castS X hH e2 rfl rfl q736 dX9_compareTo_2 ?_
  refine wa_ci hS (wa_rV (rest := []) X hH (mX9_compareTo_2  (show At w q1 (eO 9 [.int (zI r1), .int (zI c1), .int (zI v1)]) from e1) (show At w q2 (eO 9 [.int (zI r2), .int (zI c2), .int (zI v2)]) from e2)  ) (cwV 1 X.t (lw_V q737 q738 q739 q127 q740) rfl rfl rfl hdX9_compareTo_2 ⟨Nat.le_of_ble_eq_true rfl, Nat.le_of_ble_eq_true rfl⟩) rfl e1 rfl rfl hl.1 rfl (Nat.le_of_ble_eq_true rfl) dX9_compareTo_5 ⟨Nat.le_of_ble_eq_true rfl, Nat.le_of_ble_eq_true rfl⟩) (fun z w5 H locs hp hH hS => ?_)
  obtain ⟨rfl, hw⟩ := hp
  rw [← hw] at hH; clear hw
  exact wa_iret X hH hS dX9_compareTo_8 ⟨by first | rfl | omega | assumption, rfl⟩
set_option maxRecDepth 100000 in
theorem mX10_init {lL : Launch} {G : wa_G} {w : wa_W} {q0 : Nat} (eo : At w q0 (eO 10 [.int (zI 0), .int (zI 0)])) (l : Int) (r : Int)  : Met lL yX10_init (ws_ yX10_init cX10_init 3 (none : Option FieldType)) ({ frames := 1, cells := 0, slots := 0, locals := 20 } : Room) (wa_P G w [.ref q0, .int (zI l), .int (zI r)]) (wa_Qv G fun u => u q0 = some (eO 10 [.int (zI l), .int (zI r)]) ∧ Off q0 w u) 0 0 (wa_A G) := by
  refine wa_met (by decide) (by exact Nat.le_of_ble_eq_true rfl) ?_
  intro pP eE sS mM aA bB mT cC ls X hl hH
  have hS : va_S (wa_A G) sS.heap sS.heap [] := va_S.rf
  have hl : lv_has ls 3 [(0, .ref q0), (1, .int (zI l)), (2, .int (zI r))] := hl
  have hK : Ext w w := Ext.rf
  have hO : Off q0 w w := Off.rf
  refine lv_aload_n X.x X.b dX10_init_0 rfl (lv_at hl 0 rfl) ?_
  refine W.objInit X.x X.b X.own (X.t _ q1053) (X.t _ q153) (X.t _ q154) rfl (by rw [X.ml]; exact hl.1) rfl dX10_init_1 (Nat.le_of_ble_eq_true rfl) (Nat.le_of_ble_eq_true rfl) ?_
  refine W.eq (g2 := F0 mM 4 ls []) rfl ?_
  refine lv_aload_n X.x X.b dX10_init_4 rfl (lv_at hl 0 rfl) ?_
  refine lv_iload_n X.x X.b dX10_init_5 rfl (lv_at hl 1 rfl) ?_
  refine wa_putF X hH hS eo wcX10 0 (by decide) q1054 rfl (fun _ h9 => h9) rfl rfl rfl rfl rfl (Nat.le_of_ble_eq_true rfl) dX10_init_6 (fun w6 H locs ew hH hS => ?_)
  have hO : Off q0 w w6 := hO.put ew
  have eo : At w6 q0 (eO 10 [.int (zI l), .int (zI 0)]) := by rw [ew]; exact wup_s
  clear ew
  refine lv_aload_n X.x X.b dX10_init_9 rfl (lv_at hl 0 rfl) ?_
  refine lv_iload_n X.x X.b dX10_init_10 rfl (lv_at hl 2 rfl) ?_
  refine wa_putF X hH hS eo wcX10 1 (by decide) q1058 rfl (fun _ h9 => h9) rfl rfl rfl rfl rfl (Nat.le_of_ble_eq_true rfl) dX10_init_11 (fun w11 H locs ew hH hS => ?_)
  have hO : Off q0 w w11 := hO.put ew
  have eo : At w11 q0 (eO 10 [.int (zI l), .int (zI r)]) := by rw [ew]; exact wup_s
  clear ew
  exact wa_vret X hH hS dX10_init_14 ⟨eo, hO⟩
set_option maxRecDepth 100000 in
theorem mX10_compareTo_2 {lL : Launch} {G : wa_G} {w : wa_W} {q1 : Nat} {q2 : Nat} {l1 : Int} {r1 : Int} {l2 : Int} {r2 : Int} (e1 : At w q1 (eO 10 [.int (zI l1), .int (zI r1)])) (e2 : At w q2 (eO 10 [.int (zI l2), .int (zI r2)])) (hl1 : -100 ≤ l1 ∧ l1 ≤ 100) (hr1 : -100 ≤ r1 ∧ r1 ≤ 100) (hl2 : -100 ≤ l2 ∧ l2 ≤ 100) (hr2 : -100 ≤ r2 ∧ r2 ≤ 100) : Met lL yX10_compareTo_2 (ws_ yX10_compareTo_2 cX10_compareTo_2 3 (some FieldType.int)) ({ frames := 1, cells := 0, slots := 0, locals := 20 } : Room) (wa_P G w [.ref q1, .ref q2]) (wa_Qz G fun z u => z = shC l1 r1 l2 r2 ∧ w = u) 0 0 (wa_A G) := by
  refine wa_met (by decide) (by exact Nat.le_of_ble_eq_true rfl) ?_
  intro pP eE sS mM aA bB mT cC ls X hl hH
  have hS : va_S (wa_A G) sS.heap sS.heap [] := va_S.rf
  have hl : lv_has ls 3 [(0, .ref q1), (1, .ref q2)] := hl
  have hK : Ext w w := Ext.rf
  refine lv_aload_n X.x X.b dX10_compareTo_2_0 rfl (lv_at hl 0 rfl) ?_
  refine wa_get (v := .int (zI l1)) X hH e1 wcX10 0 (by decide) q1054 rfl (fun _ h9 => h9) rfl dX10_compareTo_2_1 ?_
  refine wa_ci hS (wa_rS (rest := []) X hH (mJ0_abs _  l1 (show rI l1 by first | assumption | omega)) (va_cwS 1 X.t (lw_S q752 q204 q111 q205) rfl rfl rfl hdJ0_abs.2 ⟨Nat.le_of_ble_eq_true rfl, Nat.le_of_ble_eq_true rfl⟩) rfl rfl hl.1 rfl (Nat.le_of_ble_eq_true rfl) dX10_compareTo_2_4 ⟨Nat.le_of_ble_eq_true rfl, Nat.le_of_ble_eq_true rfl⟩) (fun z w4 H locs hp hH hS => ?_)
  obtain ⟨rfl, hw⟩ := hp
  rw [← hw] at hH; clear hw
  refine lv_aload_n X.x X.b dX10_compareTo_2_7 rfl (lv_at hl 1 rfl) ?_
  refine wa_get (v := .int (zI l2)) X hH e2 wcX10 0 (by decide) q1054 rfl (fun _ h9 => h9) rfl dX10_compareTo_2_8 ?_
  refine wa_ci hS (wa_rS (rest := [.int (zI (Int.natAbs l1 : Int))]) X hH (mJ0_abs _  l2 (show rI l2 by first | assumption | omega)) (va_cwS 1 X.t (lw_S q752 q204 q111 q205) rfl rfl rfl hdJ0_abs.2 ⟨Nat.le_of_ble_eq_true rfl, Nat.le_of_ble_eq_true rfl⟩) rfl rfl hl.1 rfl (Nat.le_of_ble_eq_true rfl) dX10_compareTo_2_11 ⟨Nat.le_of_ble_eq_true rfl, Nat.le_of_ble_eq_true rfl⟩) (fun z w11 H locs hp hH hS => ?_)
  obtain ⟨rfl, hw⟩ := hp
  rw [← hw] at hH; clear hw
  refine wz_isub X.x X.b dX10_compareTo_2_14 ?_
  refine lv_istore_n (lv' := [(2, .int (zI ((Int.natAbs l1 : Int) - (Int.natAbs l2 : Int)))), (0, .ref q1), (1, .ref q2)]) X.x X.b dX10_compareTo_2_15 rfl hl (by decide) rfl (fun ls hl => ?_)
  refine lv_iload_n X.x X.b dX10_compareTo_2_16 rfl (lv_at hl 0 rfl) ?_
  refine wz_ifeq (tgt := 24) X.x X.b dX10_compareTo_2_17 (by decide) ⟨by omega, by omega⟩ (fun c17 => ?_) (fun c17 => ?_)
  · refine lv_aload_n X.x X.b dX10_compareTo_2_24 rfl (lv_at hl 1 rfl) ?_
    refine wa_get (v := .int (zI r1)) X hH e1 wcX10 1 (by decide) q1058 rfl (fun _ h9 => h9) rfl dX10_compareTo_2_25 ?_
    refine lv_aload_n X.x X.b dX10_compareTo_2_28 rfl (lv_at hl 2 rfl) ?_
    refine wa_get (v := .int (zI r2)) X hH e2 wcX10 1 (by decide) q1058 rfl (fun _ h9 => h9) rfl dX10_compareTo_2_29 ?_
    refine wz_isub X.x X.b dX10_compareTo_2_32 ?_
    refine lv_istore_n (lv' := [(2, .int (zI (r1 - r2))), (0, .ref q1), (1, .ref q2)]) X.x X.b dX10_compareTo_2_33 rfl hl (by decide) rfl (fun ls hl => ?_)
    refine lv_iload_n X.x X.b dX10_compareTo_2_34 rfl (lv_at hl 0 rfl) ?_
    refine wz_ifeq (tgt := 42) X.x X.b dX10_compareTo_2_35 (by decide) ⟨by omega, by omega⟩ (fun c35 => ?_) (fun c35 => ?_)
    · refine lv_aload_n X.x X.b dX10_compareTo_2_42 rfl (lv_at hl 1 rfl) ?_
      refine wa_get (v := .int (zI l1)) X hH e1 wcX10 0 (by decide) q1054 rfl (fun _ h9 => h9) rfl dX10_compareTo_2_43 ?_
      refine lv_aload_n X.x X.b dX10_compareTo_2_46 rfl (lv_at hl 2 rfl) ?_
      refine wa_get (v := .int (zI l2)) X hH e2 wcX10 0 (by decide) q1054 rfl (fun _ h9 => h9) rfl dX10_compareTo_2_47 ?_
      refine wz_isub X.x X.b dX10_compareTo_2_50 ?_
      exact wa_iret X hH hS dX10_compareTo_2_51 ⟨by unfold shC; (repeat' split) <;> omega, rfl⟩
    · refine lv_iload_n X.x X.b dX10_compareTo_2_38 rfl (lv_at hl 0 rfl) ?_
      refine lv_goto (tgt := 51) X.x X.b dX10_compareTo_2_39 (by decide) ?_
      exact wa_iret X hH hS dX10_compareTo_2_51 ⟨by unfold shC; (repeat' split) <;> omega, rfl⟩
  · refine lv_iload_n X.x X.b dX10_compareTo_2_20 rfl (lv_at hl 0 rfl) ?_
    refine lv_goto (tgt := 33) X.x X.b dX10_compareTo_2_21 (by decide) ?_
    refine lv_istore_n (lv' := [(2, .int (zI ((Int.natAbs l1 : Int) - (Int.natAbs l2 : Int)))), (0, .ref q1), (1, .ref q2)]) X.x X.b dX10_compareTo_2_33 rfl hl (by decide) rfl (fun ls hl => ?_)
    refine lv_iload_n X.x X.b dX10_compareTo_2_34 rfl (lv_at hl 0 rfl) ?_
    refine wz_ifeq (tgt := 42) X.x X.b dX10_compareTo_2_35 (by decide) ⟨by omega, by omega⟩ (fun c35 => ?_) (fun c35 => ?_)
    · refine lv_aload_n X.x X.b dX10_compareTo_2_42 rfl (lv_at hl 1 rfl) ?_
      refine wa_get (v := .int (zI l1)) X hH e1 wcX10 0 (by decide) q1054 rfl (fun _ h9 => h9) rfl dX10_compareTo_2_43 ?_
      refine lv_aload_n X.x X.b dX10_compareTo_2_46 rfl (lv_at hl 2 rfl) ?_
      refine wa_get (v := .int (zI l2)) X hH e2 wcX10 0 (by decide) q1054 rfl (fun _ h9 => h9) rfl dX10_compareTo_2_47 ?_
      refine wz_isub X.x X.b dX10_compareTo_2_50 ?_
      exact wa_iret X hH hS dX10_compareTo_2_51 ⟨by unfold shC; (repeat' split) <;> omega, rfl⟩
    · refine lv_iload_n X.x X.b dX10_compareTo_2_38 rfl (lv_at hl 0 rfl) ?_
      refine lv_goto (tgt := 51) X.x X.b dX10_compareTo_2_39 (by decide) ?_
      exact wa_iret X hH hS dX10_compareTo_2_51 ⟨by unfold shC; (repeat' split) <;> omega, rfl⟩
set_option maxRecDepth 100000 in
theorem mX10_compareTo {lL : Launch} {G : wa_G} {w : wa_W} {q1 : Nat} {q2 : Nat} {l1 : Int} {r1 : Int} {l2 : Int} {r2 : Int} (e1 : At w q1 (eO 10 [.int (zI l1), .int (zI r1)])) (e2 : At w q2 (eO 10 [.int (zI l2), .int (zI r2)])) (hl1 : -100 ≤ l1 ∧ l1 ≤ 100) (hr1 : -100 ≤ r1 ∧ r1 ≤ 100) (hl2 : -100 ≤ l2 ∧ l2 ≤ 100) (hr2 : -100 ≤ r2 ∧ r2 ≤ 100) : Met lL yX10_compareTo (ws_ yX10_compareTo cX10_compareTo 2 (some FieldType.int)) ({ frames := 2, cells := 0, slots := 0, locals := 42 } : Room) (wa_P G w [.ref q1, .ref q2]) (wa_Qz G fun z u => z = shC l1 r1 l2 r2 ∧ w = u) 0 0 (wa_A G) := by
  refine wa_met (by decide) (by exact Nat.le_of_ble_eq_true rfl) ?_
  intro pP eE sS mM aA bB mT cC ls X hl hH
  have hS : va_S (wa_A G) sS.heap sS.heap [] := va_S.rf
  have hl : lv_has ls 2 [(0, .ref q1), (1, .ref q2)] := hl
  have hK : Ext w w := Ext.rf
  refine lv_aload_n X.x X.b dX10_compareTo_0 rfl (lv_at hl 0 rfl) ?_
  refine lv_aload_n X.x X.b dX10_compareTo_1 rfl (lv_at hl 1 rfl) ?_
  refine wa_castS X hH e2 rfl rfl q747 dX10_compareTo_2 ?_
  refine wa_ci hS (wa_rV (rest := []) X hH (mX10_compareTo_2  (show At w q1 (eO 10 [.int (zI l1), .int (zI r1)]) from e1) (show At w q2 (eO 10 [.int (zI l2), .int (zI r2)]) from e2)  (show -100 ≤ l1 ∧ l1 ≤ 100 by first | assumption | omega) (show -100 ≤ r1 ∧ r1 ≤ 100 by first | assumption | omega) (show -100 ≤ l2 ∧ l2 ≤ 100 by first | assumption | omega) (show -100 ≤ r2 ∧ r2 ≤ 100 by first | assumption | omega)) (cwV 1 X.t (lw_V q748 q749 q750 q139 q751) rfl rfl rfl hdX10_compareTo_2 ⟨Nat.le_of_ble_eq_true rfl, Nat.le_of_ble_eq_true rfl⟩) rfl e1 rfl rfl hl.1 rfl (Nat.le_of_ble_eq_true rfl) dX10_compareTo_5 ⟨Nat.le_of_ble_eq_true rfl, Nat.le_of_ble_eq_true rfl⟩) (fun z w5 H locs hp hH hS => ?_)
  obtain ⟨rfl, hw⟩ := hp
  rw [← hw] at hH; clear hw
  exact wa_iret X hH hS dX10_compareTo_8 ⟨by first | rfl | omega | assumption, rfl⟩
set_option maxRecDepth 100000 in
theorem mX11_init {lL : Launch} {G : wa_G} {w : wa_W} {q0 : Nat} {s : Nat} (eo : At w q0 (eO 11 [.int (zI 0), .int (zI 0), .null, .int (zI 0)])) (f : Int) (t : Int) (v : Int)  : Met lL yX11_init (ws_ yX11_init cX11_init 5 (none : Option FieldType)) ({ frames := 1, cells := 0, slots := 0, locals := 20 } : Room) (wa_P G w [.ref q0, .int (zI f), .int (zI t), .ref s, .int (zI v)]) (wa_Qv G fun u => u q0 = some (eO 11 [.int (zI f), .int (zI t), .ref s, .int (zI v)]) ∧ Off q0 w u) 0 0 (wa_A G) := by
  refine wa_met (by decide) (by exact Nat.le_of_ble_eq_true rfl) ?_
  intro pP eE sS mM aA bB mT cC ls X hl hH
  have hS : va_S (wa_A G) sS.heap sS.heap [] := va_S.rf
  have hl : lv_has ls 5 [(0, .ref q0), (1, .int (zI f)), (2, .int (zI t)), (3, .ref s), (4, .int (zI v))] := hl
  have hK : Ext w w := Ext.rf
  have hO : Off q0 w w := Off.rf
  refine lv_aload_n X.x X.b dX11_init_0 rfl (lv_at hl 0 rfl) ?_
  refine W.objInit X.x X.b X.own (X.t _ q1121) (X.t _ q153) (X.t _ q154) rfl (by rw [X.ml]; exact hl.1) rfl dX11_init_1 (Nat.le_of_ble_eq_true rfl) (Nat.le_of_ble_eq_true rfl) ?_
  refine W.eq (g2 := F0 mM 4 ls []) rfl ?_
  refine lv_aload_n X.x X.b dX11_init_4 rfl (lv_at hl 0 rfl) ?_
  refine lv_iload_n X.x X.b dX11_init_5 rfl (lv_at hl 1 rfl) ?_
  refine wa_putF X hH hS eo wcX11 0 (by decide) q1122 rfl (fun _ h9 => h9) rfl rfl rfl rfl rfl (Nat.le_of_ble_eq_true rfl) dX11_init_6 (fun w6 H locs ew hH hS => ?_)
  have hO : Off q0 w w6 := hO.put ew
  have eo : At w6 q0 (eO 11 [.int (zI f), .int (zI 0), .null, .int (zI 0)]) := by rw [ew]; exact wup_s
  clear ew
  refine lv_aload_n X.x X.b dX11_init_9 rfl (lv_at hl 0 rfl) ?_
  refine lv_iload_n X.x X.b dX11_init_10 rfl (lv_at hl 2 rfl) ?_
  refine wa_putF X hH hS eo wcX11 1 (by decide) q1126 rfl (fun _ h9 => h9) rfl rfl rfl rfl rfl (Nat.le_of_ble_eq_true rfl) dX11_init_11 (fun w11 H locs ew hH hS => ?_)
  have hO : Off q0 w w11 := hO.put ew
  have eo : At w11 q0 (eO 11 [.int (zI f), .int (zI t), .null, .int (zI 0)]) := by rw [ew]; exact wup_s
  clear ew
  refine lv_aload_n X.x X.b dX11_init_14 rfl (lv_at hl 0 rfl) ?_
  refine lv_aload_n X.x X.b dX11_init_15 rfl (lv_at hl 3 rfl) ?_
  refine wa_putF X hH hS eo wcX11 2 (by decide) q1129 rfl (fun _ h9 => h9) rfl rfl rfl rfl rfl (Nat.le_of_ble_eq_true rfl) dX11_init_16 (fun w16 H locs ew hH hS => ?_)
  have hO : Off q0 w w16 := hO.put ew
  have eo : At w16 q0 (eO 11 [.int (zI f), .int (zI t), .ref s, .int (zI 0)]) := by rw [ew]; exact wup_s
  clear ew
  refine lv_aload_n X.x X.b dX11_init_19 rfl (lv_at hl 0 rfl) ?_
  refine lv_iload X.x X.b dX11_init_20 (lv_at hl 4 rfl) ?_
  refine wa_putF X hH hS eo wcX11 3 (by decide) q1132 rfl (fun _ h9 => h9) rfl rfl rfl rfl rfl (Nat.le_of_ble_eq_true rfl) dX11_init_22 (fun w22 H locs ew hH hS => ?_)
  have hO : Off q0 w w22 := hO.put ew
  have eo : At w22 q0 (eO 11 [.int (zI f), .int (zI t), .ref s, .int (zI v)]) := by rw [ew]; exact wup_s
  clear ew
  exact wa_vret X hH hS dX11_init_25 ⟨eo, hO⟩
set_option maxRecDepth 100000 in
theorem mX11_isRow {lL : Launch} {G : wa_G} {w : wa_W} {l : Nat} {s : Nat} {f : Int} {t : Int} {v : Int} {lo : Int} {ri : Int} (e1 : At w l (eO 11 [.int (zI f), .int (zI t), .ref s, .int (zI v)])) (e2 : At w s (eO 10 [.int (zI lo), .int (zI ri)])) (r : Int) (h1 : -100 ≤ r ∧ r ≤ 100) (h2 : -100 ≤ lo ∧ lo ≤ 100) : Met lL yX11_isRow (ws_ yX11_isRow cX11_isRow 2 (some FieldType.boolean)) ({ frames := 1, cells := 0, slots := 0, locals := 25 } : Room) (wa_P G w [.ref l, .int (zI r)]) (wa_Qz G fun z u => (((0 ≤ r - lo ∧ r - lo ≤ 3) ∧ 0 ≤ r ∧ r ≤ 3) ∧ z = 1 ∨ ¬ ((0 ≤ r - lo ∧ r - lo ≤ 3) ∧ 0 ≤ r ∧ r ≤ 3) ∧ z = 0) ∧ w = u) 0 0 (wa_A G) := by
  refine wa_met (by decide) (by exact Nat.le_of_ble_eq_true rfl) ?_
  intro pP eE sS mM aA bB mT cC ls X hl hH
  have hS : va_S (wa_A G) sS.heap sS.heap [] := va_S.rf
  have hl : lv_has ls 2 [(0, .ref l), (1, .int (zI r))] := hl
  have hK : Ext w w := Ext.rf
  refine lv_iload_n X.x X.b dX11_isRow_0 rfl (lv_at hl 1 rfl) ?_
  refine lv_aload_n X.x X.b dX11_isRow_1 rfl (lv_at hl 0 rfl) ?_
  refine wa_get (v := .ref s) X hH e1 wcX11 2 (by decide) q1129 rfl (fun _ h9 => h9) rfl dX11_isRow_2 ?_
  refine wa_getN (v := .int (zI lo)) X hH e2 wcX10 0 (by decide) q1055 rfl (fun _ h9 => h9) rfl dX11_isRow_5 ?_
  refine wz_isub X.x X.b dX11_isRow_8 ?_
  refine wz_i2l X.x X.b dX11_isRow_9 ⟨by omega, by omega⟩ ?_
  refine lv_lconst (v := lI 0) X.x X.b dX11_isRow_10 rfl ?_
  refine wz_ldc2 (n := 3) X.x X.b X.own (X.t _ q1275) rfl dX11_isRow_11 ?_
  refine wa_ci hS (wa_rSN (rest := []) X hH (mX0_in _  (r - lo) 0 3 (show rL (r - lo) by first | assumption | omega) (show rL 0 by first | assumption | omega) (show rL 3 by first | assumption | omega)) (wa_cN X 3 q468 q1276 q109 hdX0_in.2 ⟨Nat.le_of_ble_eq_true rfl, Nat.le_of_ble_eq_true rfl⟩) q467 rfl rfl hl.1 rfl (Nat.le_of_ble_eq_true rfl) dX11_isRow_14 ⟨Nat.le_of_ble_eq_true rfl, Nat.le_of_ble_eq_true rfl⟩) (fun z w14 H locs hp hH hS => ?_)
  obtain ⟨hb, hw⟩ := hp
  rw [← hw] at hH; clear hw
  rcases hb with ⟨b14, rfl⟩ | ⟨b14, rfl⟩
  · have b14 : (0 ≤ (r - lo) ∧ (r - lo) ≤ 3) := b14
    refine wz_ifeq (tgt := 36) X.x X.b dX11_isRow_17 (by decide) (by decide) (fun h => absurd h (by decide)) (fun _ => ?_)
    refine lv_iload_n X.x X.b dX11_isRow_20 rfl (lv_at hl 1 rfl) ?_
    refine wz_i2l X.x X.b dX11_isRow_21 ⟨by omega, by omega⟩ ?_
    refine lv_lconst (v := lI 0) X.x X.b dX11_isRow_22 rfl ?_
    refine wz_ldc2 (n := 3) X.x X.b X.own (X.t _ q1275) rfl dX11_isRow_23 ?_
    refine wa_ci hS (wa_rSN (rest := []) X hH (mX0_in _  r 0 3 (show rL r by first | assumption | omega) (show rL 0 by first | assumption | omega) (show rL 3 by first | assumption | omega)) (wa_cN X 3 q468 q1276 q109 hdX0_in.2 ⟨Nat.le_of_ble_eq_true rfl, Nat.le_of_ble_eq_true rfl⟩) q467 rfl rfl hl.1 rfl (Nat.le_of_ble_eq_true rfl) dX11_isRow_26 ⟨Nat.le_of_ble_eq_true rfl, Nat.le_of_ble_eq_true rfl⟩) (fun z w26 H locs hp hH hS => ?_)
    obtain ⟨hb, hw⟩ := hp
    rw [← hw] at hH; clear hw
    rcases hb with ⟨b26, rfl⟩ | ⟨b26, rfl⟩
    · have b26 : (0 ≤ r ∧ r ≤ 3) := b26
      refine wz_ifeq (tgt := 36) X.x X.b dX11_isRow_29 (by decide) (by decide) (fun h => absurd h (by decide)) (fun _ => ?_)
      refine wz_iconst X.x X.b dX11_isRow_32 ?_
      refine lv_goto (tgt := 37) X.x X.b dX11_isRow_33 (by decide) ?_
      exact wa_zret X hH hS dX11_isRow_37 nb1 ⟨Or.inl ⟨by first | rfl | omega | assumption, rfl⟩, rfl⟩
    · have b26 : ¬ (0 ≤ r ∧ r ≤ 3) := b26
      refine wz_ifeq (tgt := 36) X.x X.b dX11_isRow_29 (by decide) (by decide) (fun _ => ?_) (fun h => absurd h (by decide))
      refine wz_iconst X.x X.b dX11_isRow_36 ?_
      exact wa_zret X hH hS dX11_isRow_37 nb0 ⟨Or.inr ⟨by first | rfl | omega | assumption, rfl⟩, rfl⟩
  · have b14 : ¬ (0 ≤ (r - lo) ∧ (r - lo) ≤ 3) := b14
    refine wz_ifeq (tgt := 36) X.x X.b dX11_isRow_17 (by decide) (by decide) (fun _ => ?_) (fun h => absurd h (by decide))
    refine wz_iconst X.x X.b dX11_isRow_36 ?_
    exact wa_zret X hH hS dX11_isRow_37 nb0 ⟨Or.inr ⟨by first | rfl | omega | assumption, rfl⟩, rfl⟩
set_option maxRecDepth 100000 in
theorem mX4_init {lL : Launch} {G : wa_G} {w : wa_W} {q0 : Nat} (eo : At w q0 (eO 4 []))  : Met lL yX4_init (ws_ yX4_init cX4_init 1 (none : Option FieldType)) ({ frames := 1, cells := 0, slots := 0, locals := 20 } : Room) (wa_P G w [.ref q0]) (wa_Qv G fun u => u q0 = some (eO 4 []) ∧ Off q0 w u) 0 0 (wa_A G) := by
  refine wa_met (by decide) (by exact Nat.le_of_ble_eq_true rfl) ?_
  intro pP eE sS mM aA bB mT cC ls X hl hH
  have hS : va_S (wa_A G) sS.heap sS.heap [] := va_S.rf
  have hl : lv_has ls 1 [(0, .ref q0)] := hl
  have hK : Ext w w := Ext.rf
  have hO : Off q0 w w := Off.rf
  refine lv_aload_n X.x X.b dX4_init_0 rfl (lv_at hl 0 rfl) ?_
  refine W.objInit X.x X.b X.own (X.t _ q287) (X.t _ q153) (X.t _ q154) rfl (by rw [X.ml]; exact hl.1) rfl dX4_init_1 (Nat.le_of_ble_eq_true rfl) (Nat.le_of_ble_eq_true rfl) ?_
  refine W.eq (g2 := F0 mM 4 ls []) rfl ?_
  exact wa_vret X hH hS dX4_init_4 ⟨eo, hO⟩
set_option maxRecDepth 100000 in
theorem mX4_compare_2 {lL : Launch} {G : wa_G} {w : wa_W} {q0 : Nat} {q1 : Nat} {q2 : Nat} {f1 : Int} {t1 : Int} {v1 : Int} {s1 : Nat} {f2 : Int} {t2 : Int} {v2 : Int} {s2 : Nat} (e0 : At w q0 (eO 4 [])) (e1 : At w q1 (eO 11 [.int (zI f1), .int (zI t1), .ref s1, .int (zI v1)])) (e2 : At w q2 (eO 11 [.int (zI f2), .int (zI t2), .ref s2, .int (zI v2)])) (hf1 : -100 ≤ f1 ∧ f1 ≤ 100) (ht1 : -100 ≤ t1 ∧ t1 ≤ 100) (hv1 : -100 ≤ v1 ∧ v1 ≤ 100) (hf2 : -100 ≤ f2 ∧ f2 ≤ 100) (ht2 : -100 ≤ t2 ∧ t2 ≤ 100) (hv2 : -100 ≤ v2 ∧ v2 ≤ 100) : Met lL yX4_compare_2 (ws_ yX4_compare_2 cX4_compare_2 4 (some FieldType.int)) ({ frames := 0, cells := 0, slots := 0, locals := 0 } : Room) (wa_P G w [.ref q0, .ref q1, .ref q2]) (wa_Qz G fun z u => z = liC f1 t1 v1 f2 t2 v2 ∧ w = u) 0 0 (wa_A G) := by
  refine wa_met (by decide) (by exact Nat.le_of_ble_eq_true rfl) ?_
  intro pP eE sS mM aA bB mT cC ls X hl hH
  have hS : va_S (wa_A G) sS.heap sS.heap [] := va_S.rf
  have hl : lv_has ls 4 [(0, .ref q0), (1, .ref q1), (2, .ref q2)] := hl
  have hK : Ext w w := Ext.rf
  refine lv_aload_n X.x X.b dX4_compare_2_0 rfl (lv_at hl 2 rfl) ?_
  refine wa_getN (v := .int (zI v2)) X hH e2 wcX11 3 (by decide) q1133 rfl (fun _ h9 => h9) rfl dX4_compare_2_1 ?_
  refine lv_aload_n X.x X.b dX4_compare_2_4 rfl (lv_at hl 1 rfl) ?_
  refine wa_getN (v := .int (zI v1)) X hH e1 wcX11 3 (by decide) q1133 rfl (fun _ h9 => h9) rfl dX4_compare_2_5 ?_
  refine wz_isub X.x X.b dX4_compare_2_8 ?_
  refine lv_istore_n (lv' := [(3, .int (zI (v2 - v1))), (0, .ref q0), (1, .ref q1), (2, .ref q2)]) X.x X.b dX4_compare_2_9 rfl hl (by decide) rfl (fun ls hl => ?_)
  refine lv_iload_n X.x X.b dX4_compare_2_10 rfl (lv_at hl 0 rfl) ?_
  refine wz_ifeq (tgt := 18) X.x X.b dX4_compare_2_11 (by decide) ⟨by omega, by omega⟩ (fun c11 => ?_) (fun c11 => ?_)
  · refine lv_aload_n X.x X.b dX4_compare_2_18 rfl (lv_at hl 2 rfl) ?_
    refine wa_getN (v := .int (zI f1)) X hH e1 wcX11 0 (by decide) q1123 rfl (fun _ h9 => h9) rfl dX4_compare_2_19 ?_
    refine lv_aload_n X.x X.b dX4_compare_2_22 rfl (lv_at hl 3 rfl) ?_
    refine wa_getN (v := .int (zI f2)) X hH e2 wcX11 0 (by decide) q1123 rfl (fun _ h9 => h9) rfl dX4_compare_2_23 ?_
    refine wz_isub X.x X.b dX4_compare_2_26 ?_
    refine lv_istore_n (lv' := [(3, .int (zI (f1 - f2))), (0, .ref q0), (1, .ref q1), (2, .ref q2)]) X.x X.b dX4_compare_2_27 rfl hl (by decide) rfl (fun ls hl => ?_)
    refine lv_iload_n X.x X.b dX4_compare_2_28 rfl (lv_at hl 0 rfl) ?_
    refine wz_ifeq (tgt := 36) X.x X.b dX4_compare_2_29 (by decide) ⟨by omega, by omega⟩ (fun c29 => ?_) (fun c29 => ?_)
    · refine lv_aload_n X.x X.b dX4_compare_2_36 rfl (lv_at hl 2 rfl) ?_
      refine wa_getN (v := .int (zI t1)) X hH e1 wcX11 1 (by decide) q1127 rfl (fun _ h9 => h9) rfl dX4_compare_2_37 ?_
      refine lv_aload_n X.x X.b dX4_compare_2_40 rfl (lv_at hl 3 rfl) ?_
      refine wa_getN (v := .int (zI t2)) X hH e2 wcX11 1 (by decide) q1127 rfl (fun _ h9 => h9) rfl dX4_compare_2_41 ?_
      refine wz_isub X.x X.b dX4_compare_2_44 ?_
      exact wa_iret X hH hS dX4_compare_2_45 ⟨by unfold liC; (repeat' split) <;> omega, rfl⟩
    · refine lv_iload_n X.x X.b dX4_compare_2_32 rfl (lv_at hl 0 rfl) ?_
      refine lv_goto (tgt := 45) X.x X.b dX4_compare_2_33 (by decide) ?_
      exact wa_iret X hH hS dX4_compare_2_45 ⟨by unfold liC; (repeat' split) <;> omega, rfl⟩
  · refine lv_iload_n X.x X.b dX4_compare_2_14 rfl (lv_at hl 0 rfl) ?_
    refine lv_goto (tgt := 27) X.x X.b dX4_compare_2_15 (by decide) ?_
    refine lv_istore_n (lv' := [(3, .int (zI (v2 - v1))), (0, .ref q0), (1, .ref q1), (2, .ref q2)]) X.x X.b dX4_compare_2_27 rfl hl (by decide) rfl (fun ls hl => ?_)
    refine lv_iload_n X.x X.b dX4_compare_2_28 rfl (lv_at hl 0 rfl) ?_
    refine wz_ifeq (tgt := 36) X.x X.b dX4_compare_2_29 (by decide) ⟨by omega, by omega⟩ (fun c29 => ?_) (fun c29 => ?_)
    · refine lv_aload_n X.x X.b dX4_compare_2_36 rfl (lv_at hl 2 rfl) ?_
      refine wa_getN (v := .int (zI t1)) X hH e1 wcX11 1 (by decide) q1127 rfl (fun _ h9 => h9) rfl dX4_compare_2_37 ?_
      refine lv_aload_n X.x X.b dX4_compare_2_40 rfl (lv_at hl 3 rfl) ?_
      refine wa_getN (v := .int (zI t2)) X hH e2 wcX11 1 (by decide) q1127 rfl (fun _ h9 => h9) rfl dX4_compare_2_41 ?_
      refine wz_isub X.x X.b dX4_compare_2_44 ?_
      exact wa_iret X hH hS dX4_compare_2_45 ⟨by unfold liC; (repeat' split) <;> omega, rfl⟩
    · refine lv_iload_n X.x X.b dX4_compare_2_32 rfl (lv_at hl 0 rfl) ?_
      refine lv_goto (tgt := 45) X.x X.b dX4_compare_2_33 (by decide) ?_
      exact wa_iret X hH hS dX4_compare_2_45 ⟨by unfold liC; (repeat' split) <;> omega, rfl⟩
set_option maxRecDepth 100000 in
theorem mX4_compare {lL : Launch} {G : wa_G} {w : wa_W} {q0 : Nat} {q1 : Nat} {q2 : Nat} {f1 : Int} {t1 : Int} {v1 : Int} {s1 : Nat} {f2 : Int} {t2 : Int} {v2 : Int} {s2 : Nat} (e0 : At w q0 (eO 4 [])) (e1 : At w q1 (eO 11 [.int (zI f1), .int (zI t1), .ref s1, .int (zI v1)])) (e2 : At w q2 (eO 11 [.int (zI f2), .int (zI t2), .ref s2, .int (zI v2)])) (hf1 : -100 ≤ f1 ∧ f1 ≤ 100) (ht1 : -100 ≤ t1 ∧ t1 ≤ 100) (hv1 : -100 ≤ v1 ∧ v1 ≤ 100) (hf2 : -100 ≤ f2 ∧ f2 ≤ 100) (ht2 : -100 ≤ t2 ∧ t2 ≤ 100) (hv2 : -100 ≤ v2 ∧ v2 ≤ 100) : Met lL yX4_compare (ws_ yX4_compare cX4_compare 3 (some FieldType.int)) ({ frames := 1, cells := 0, slots := 0, locals := 23 } : Room) (wa_P G w [.ref q0, .ref q1, .ref q2]) (wa_Qz G fun z u => z = liC f1 t1 v1 f2 t2 v2 ∧ w = u) 0 0 (wa_A G) := by
  refine wa_met (by decide) (by exact Nat.le_of_ble_eq_true rfl) ?_
  intro pP eE sS mM aA bB mT cC ls X hl hH
  have hS : va_S (wa_A G) sS.heap sS.heap [] := va_S.rf
  have hl : lv_has ls 3 [(0, .ref q0), (1, .ref q1), (2, .ref q2)] := hl
  have hK : Ext w w := Ext.rf
  refine lv_aload_n X.x X.b dX4_compare_0 rfl (lv_at hl 0 rfl) ?_
  refine lv_aload_n X.x X.b dX4_compare_1 rfl (lv_at hl 1 rfl) ?_
  refine wa_castS X hH e1 rfl rfl q777 dX4_compare_2 ?_
  refine lv_aload_n X.x X.b dX4_compare_5 rfl (lv_at hl 2 rfl) ?_
  refine wa_castS X hH e2 rfl rfl q777 dX4_compare_6 ?_
  refine wa_ci hS (wa_rV (rest := []) X hH (mX4_compare_2  (show At w q0 (eO 4 []) from e0) (show At w q1 (eO 11 [.int (zI f1), .int (zI t1), .ref s1, .int (zI v1)]) from e1) (show At w q2 (eO 11 [.int (zI f2), .int (zI t2), .ref s2, .int (zI v2)]) from e2)  (show -100 ≤ f1 ∧ f1 ≤ 100 by first | assumption | omega) (show -100 ≤ t1 ∧ t1 ≤ 100 by first | assumption | omega) (show -100 ≤ v1 ∧ v1 ≤ 100 by first | assumption | omega) (show -100 ≤ f2 ∧ f2 ≤ 100 by first | assumption | omega) (show -100 ≤ t2 ∧ t2 ≤ 100 by first | assumption | omega) (show -100 ≤ v2 ∧ v2 ≤ 100 by first | assumption | omega)) (cwV 2 X.t (lw_V q778 q779 q780 q121 q781) rfl rfl rfl hdX4_compare_2 ⟨Nat.le_of_ble_eq_true rfl, Nat.le_of_ble_eq_true rfl⟩) rfl e0 rfl rfl hl.1 rfl (Nat.le_of_ble_eq_true rfl) dX4_compare_9 ⟨Nat.le_of_ble_eq_true rfl, Nat.le_of_ble_eq_true rfl⟩) (fun z w9 H locs hp hH hS => ?_)
  obtain ⟨rfl, hw⟩ := hp
  rw [← hw] at hH; clear hw
  exact wa_iret X hH hS dX4_compare_12 ⟨by first | rfl | omega | assumption, rfl⟩
set_option maxRecDepth 100000 in
theorem mX5_init_2 {lL : Launch} {G : wa_G} {w : wa_W} {q0 : Nat} (eo : At w q0 (eO 5 [.long (lI 0), .long (lI 0)])) (n : Int) (d : Int) (hn : -9223372036854775807 ≤ n ∧ n < 9223372036854775808) (hd : 0 < d ∧ d < 9223372036854775808) : Met lL yX5_init_2 (ws_ yX5_init_2 cX5_init_2 7 (none : Option FieldType)) ({ frames := 2, cells := 0, slots := 0, locals := 50 } : Room) (wa_P G w [.ref q0, .long (lI n), .long (lI d)]) (wa_Qv G fun u => u q0 = some (eO 5 [.long (lI (lowA n d)), .long (lI (lowB n d))]) ∧ Off q0 w u) 0 0 (wa_A G) := by
  refine wa_met (by decide) (by exact Nat.le_of_ble_eq_true rfl) ?_
  intro pP eE sS mM aA bB mT cC ls X hl hH
  have hS : va_S (wa_A G) sS.heap sS.heap [] := va_S.rf
  have hl : lv_has ls 7 [(0, .ref q0), (1, .long (lI n)), (3, .long (lI d))] := hl
  have hK : Ext w w := Ext.rf
  have hO : Off q0 w w := Off.rf
  have hg := gcI_pos (n := n) hd.1
  have hg2 := gcI_le (n := n) hd.1
  refine lv_aload_n X.x X.b dX5_init_2_0 rfl (lv_at hl 0 rfl) ?_
  refine W.objInit X.x X.b X.own (X.t _ q324) (X.t _ q153) (X.t _ q154) rfl (by rw [X.ml]; exact hl.1) rfl dX5_init_2_1 (Nat.le_of_ble_eq_true rfl) (Nat.le_of_ble_eq_true rfl) ?_
  refine W.eq (g2 := F0 mM 4 ls []) rfl ?_
  refine lv_lload_n X.x X.b dX5_init_2_4 rfl (lv_at hl 1 rfl) ?_
  refine lv_lload_n X.x X.b dX5_init_2_5 rfl (lv_at hl 2 rfl) ?_
  refine wa_cl hS (wa_rSN (rest := []) X hH (mX0_gcd _  n d (show -9223372036854775807 ≤ n ∧ n < 9223372036854775808 by first | assumption | omega) (show -9223372036854775807 ≤ d ∧ d < 9223372036854775808 by first | assumption | omega)) (wa_cN X 2 q327 q325 q109 hdX0_gcd.2 ⟨Nat.le_of_ble_eq_true rfl, Nat.le_of_ble_eq_true rfl⟩) q326 rfl rfl hl.1 rfl (Nat.le_of_ble_eq_true rfl) dX5_init_2_6 ⟨Nat.le_of_ble_eq_true rfl, Nat.le_of_ble_eq_true rfl⟩) (fun z w6 H locs hp hH hS => ?_)
  obtain ⟨rfl, hw⟩ := hp
  rw [← hw] at hH; clear hw
  refine lv_lstore (lv' := [(5, .long (lI (gcI n d))), (0, .ref q0), (1, .long (lI n)), (3, .long (lI d))]) X.x X.b dX5_init_2_9 hl (by decide) rfl (fun ls hl => ?_)
  refine lv_aload_n X.x X.b dX5_init_2_11 rfl (lv_at hl 1 rfl) ?_
  refine lv_lload_n X.x X.b dX5_init_2_12 rfl (lv_at hl 2 rfl) ?_
  refine lv_lload X.x X.b dX5_init_2_13 (lv_at hl 0 rfl) ?_
  refine wz_ldiv X.x X.b dX5_init_2_15 ⟨by omega, by omega⟩ (by omega) ⟨by omega, by omega⟩ ?_
  refine wz_isl (z := lowA n d) (by exact lowA_t) ?_
  refine wa_putF X hH hS eo wcX5 0 (by decide) q331 rfl (fun _ h9 => h9) rfl rfl rfl rfl rfl (Nat.le_of_ble_eq_true rfl) dX5_init_2_16 (fun w16 H locs ew hH hS => ?_)
  have hO : Off q0 w w16 := hO.put ew
  have eo : At w16 q0 (eO 5 [.long (lI (lowA n d)), .long (lI 0)]) := by rw [ew]; exact wup_s
  clear ew
  refine lv_aload_n X.x X.b dX5_init_2_19 rfl (lv_at hl 1 rfl) ?_
  refine lv_lload_n X.x X.b dX5_init_2_20 rfl (lv_at hl 3 rfl) ?_
  refine lv_lload X.x X.b dX5_init_2_21 (lv_at hl 0 rfl) ?_
  refine wz_ldivp X.x X.b dX5_init_2_23 (by omega) (by omega) (by omega) (by omega) ?_
  refine wz_isl (z := lowB n d) (by unfold lowB; rfl) ?_
  refine wa_putF X hH hS eo wcX5 1 (by decide) q333 rfl (fun _ h9 => h9) rfl rfl rfl rfl rfl (Nat.le_of_ble_eq_true rfl) dX5_init_2_24 (fun w24 H locs ew hH hS => ?_)
  have hO : Off q0 w w24 := hO.put ew
  have eo : At w24 q0 (eO 5 [.long (lI (lowA n d)), .long (lI (lowB n d))]) := by rw [ew]; exact wup_s
  clear ew
  exact wa_vret X hH hS dX5_init_2_27 ⟨eo, hO⟩
set_option maxRecDepth 100000 in
theorem mX5_init {lL : Launch} {G : wa_G} {w : wa_W} {q0 : Nat} (eo : At w q0 (eO 5 [.long (lI 0), .long (lI 0)]))  : Met lL yX5_init (ws_ yX5_init cX5_init 1 (none : Option FieldType)) ({ frames := 3, cells := 0, slots := 0, locals := 76 } : Room) (wa_P G w [.ref q0]) (wa_Qv G fun u => u q0 = some (eO 5 [.long (lI 0), .long (lI 1)]) ∧ Off q0 w u) 0 0 (wa_A G) := by
  refine wa_met (by decide) (by exact Nat.le_of_ble_eq_true rfl) ?_
  intro pP eE sS mM aA bB mT cC ls X hl hH
  have hS : va_S (wa_A G) sS.heap sS.heap [] := va_S.rf
  have hl : lv_has ls 1 [(0, .ref q0)] := hl
  have hK : Ext w w := Ext.rf
  have hO : Off q0 w w := Off.rf
  refine lv_aload_n X.x X.b dX5_init_0 rfl (lv_at hl 0 rfl) ?_
  refine lv_lconst (v := lI 0) X.x X.b dX5_init_1 rfl ?_
  refine lv_lconst (v := lI 1) X.x X.b dX5_init_2 rfl ?_
  refine wa_cv hS (wa_rI (rest := []) X hH (mX5_init_2  (show At w q0 (eO 5 [.long (lI 0), .long (lI 0)]) from eo) 0 1 (show -9223372036854775807 ≤ 0 ∧ 0 < 9223372036854775808 by first | assumption | omega) (show 0 < 1 ∧ 1 < 9223372036854775808 by first | assumption | omega)) (cwI 2 X.t (lw_meth q323) rfl rfl rfl (X.t _ q122) (X.t _ q321) (X.t _ q322) rfl hdX5_init_2.2 ⟨Nat.le_of_ble_eq_true rfl, Nat.le_of_ble_eq_true rfl⟩) rfl rfl hl.1 rfl (Nat.le_of_ble_eq_true rfl) dX5_init_3 ⟨Nat.le_of_ble_eq_true rfl, Nat.le_of_ble_eq_true rfl⟩) (fun w3 H locs hp hH hS => ?_)
  obtain ⟨hi, hO2⟩ := hp
  have hO : Off q0 w w3 := hO.trans hO2
  have eo : At w3 q0 (eO 5 [.long (lI (lowA 0 1)), .long (lI (lowB 0 1))]) := hi
  exact wa_vret X hH hS dX5_init_6 ⟨eo, hO⟩
set_option maxRecDepth 100000 in
theorem mX5_and {lL : Launch} {G : wa_G} {w : wa_W} {q1 : Nat} {q2 : Nat} {a1 : Int} {b1 : Int} {a2 : Int} {b2 : Int} (e1 : At w q1 (eO 5 [.long (lI a1), .long (lI b1)])) (e2 : At w q2 (eO 5 [.long (lI a2), .long (lI b2)])) (hn : -9223372036854775807 ≤ a1 * b2 + a2 * b1 ∧ a1 * b2 + a2 * b1 < 9223372036854775808) (hd : 0 < b1 * b2 ∧ b1 * b2 < 9223372036854775808) : Met lL yX5_and (ws_ yX5_and cX5_and 2 (some (FieldType.object "PictureRing$Fraction"))) ({ frames := 3, cells := 1, slots := 2, locals := 76 } : Room) (wa_P G w [.ref q1, .ref q2]) (wa_Qr G fun r u => ∃ q, r = some q ∧ w q = none ∧ u q = some (eO 5 [.long (lI (lowA (a1 * b2 + a2 * b1) (b1 * b2))), .long (lI (lowB (a1 * b2 + a2 * b1) (b1 * b2)))]) ∧ Ext w u) 1 2 (wa_A G) := by
  refine wa_met (by decide) (by exact Nat.le_of_ble_eq_true rfl) ?_
  intro pP eE sS mM aA bB mT cC ls X hl hH
  have hS : va_S (wa_A G) sS.heap sS.heap [] := va_S.rf
  have hl : lv_has ls 2 [(0, .ref q1), (1, .ref q2)] := hl
  have hK : Ext w w := Ext.rf
  have hK_0 := hK
  have e1_0 := e1
  have e2_0 := e2
  refine wa_new X hH hS wcX5 rfl q1315 q317 q122 [.long (lI 0), .long (lI 0)] (by decide) (Nat.le_of_ble_eq_true rfl) (Nat.le_of_ble_eq_true rfl) dX5_and_0 (fun q0 w0 H hn0 ew hH hS => ?_)
  have hk0 := Ext.new hn0 ew
  have hk := hk0
  have e1 := e1.ex hk
  have e2 := e2.ex hk
  have hK := hK.trans hk
  have hN0 := hk
  have n0 : At w0 q0 (eO 5 [.long (lI 0), .long (lI 0)]) := by show _ = _; rw [ew]; exact wup_s
  clear ew hk0
  refine lv_dup X.x X.b dX5_and_3 rfl ?_
  refine lv_aload_n X.x X.b dX5_and_4 rfl (lv_at hl 0 rfl) ?_
  refine wa_get (v := .long (lI a1)) X hH e1 wcX5 0 (by decide) q331 rfl (fun _ h9 => h9) rfl dX5_and_5 ?_
  refine lv_aload_n X.x X.b dX5_and_8 rfl (lv_at hl 1 rfl) ?_
  refine wa_get (v := .long (lI b2)) X hH e2 wcX5 1 (by decide) q333 rfl (fun _ h9 => h9) rfl dX5_and_9 ?_
  refine wz_lmul X.x X.b dX5_and_12 ?_
  refine lv_aload_n X.x X.b dX5_and_13 rfl (lv_at hl 1 rfl) ?_
  refine wa_get (v := .long (lI a2)) X hH e2 wcX5 0 (by decide) q331 rfl (fun _ h9 => h9) rfl dX5_and_14 ?_
  refine lv_aload_n X.x X.b dX5_and_17 rfl (lv_at hl 0 rfl) ?_
  refine wa_get (v := .long (lI b1)) X hH e1 wcX5 1 (by decide) q333 rfl (fun _ h9 => h9) rfl dX5_and_18 ?_
  refine wz_lmul X.x X.b dX5_and_21 ?_
  refine wz_ladd X.x X.b dX5_and_22 ?_
  refine lv_aload_n X.x X.b dX5_and_23 rfl (lv_at hl 0 rfl) ?_
  refine wa_get (v := .long (lI b1)) X hH e1 wcX5 1 (by decide) q333 rfl (fun _ h9 => h9) rfl dX5_and_24 ?_
  refine lv_aload_n X.x X.b dX5_and_27 rfl (lv_at hl 1 rfl) ?_
  refine wa_get (v := .long (lI b2)) X hH e2 wcX5 1 (by decide) q333 rfl (fun _ h9 => h9) rfl dX5_and_28 ?_
  refine wz_lmul X.x X.b dX5_and_31 ?_
  refine wa_cv hS (wa_rI (rest := [.ref q0]) X hH (mX5_init_2  (show At w0 q0 (eO 5 [.long (lI 0), .long (lI 0)]) from n0) ((a1 * b2) + (a2 * b1)) (b1 * b2) (show -9223372036854775807 ≤ ((a1 * b2) + (a2 * b1)) ∧ ((a1 * b2) + (a2 * b1)) < 9223372036854775808 by first | assumption | omega) (show 0 < (b1 * b2) ∧ (b1 * b2) < 9223372036854775808 by first | assumption | omega)) (cwI 2 X.t (lw_meth q323) rfl rfl rfl (X.t _ q122) (X.t _ q321) (X.t _ q322) rfl hdX5_init_2.2 ⟨Nat.le_of_ble_eq_true rfl, Nat.le_of_ble_eq_true rfl⟩) rfl rfl hl.1 rfl (Nat.le_of_ble_eq_true rfl) dX5_and_32 ⟨Nat.le_of_ble_eq_true rfl, Nat.le_of_ble_eq_true rfl⟩) (fun w32 H locs hp hH hS => ?_)
  obtain ⟨hi, hO2⟩ := hp
  have hOq := hO2
  have hk := Ext.init hn0 hN0 hOq
  have e1 := e1_0.ex hk
  have e2 := e2_0.ex hk
  have hK := hK_0.trans hk
  have hN0 := hk
  have n0 : At w32 q0 (eO 5 [.long (lI (lowA ((a1 * b2) + (a2 * b1)) (b1 * b2))), .long (lI (lowB ((a1 * b2) + (a2 * b1)) (b1 * b2)))]) := hi
  refine W.widen (k := 1) (n := 2) (by first | exact Nat.le_of_ble_eq_true rfl | omega) (by first | exact Nat.le_of_ble_eq_true rfl | omega) ?_
  exact wa_aret X (Or.inl ⟨_, rfl⟩) hH hS (some q0) dX5_and_35 ⟨_, rfl, Ext.no hK_0 hn0, n0, hK⟩
set_option maxRecDepth 100000 in
theorem mX5_times {lL : Launch} {G : wa_G} {w : wa_W} {q1 : Nat} {q2 : Nat} {a1 : Int} {b1 : Int} {a2 : Int} {b2 : Int} (e1 : At w q1 (eO 5 [.long (lI a1), .long (lI b1)])) (e2 : At w q2 (eO 5 [.long (lI a2), .long (lI b2)])) (hn : -9223372036854775807 ≤ a1 * a2 ∧ a1 * a2 < 9223372036854775808) (hd : 0 < b1 * b2 ∧ b1 * b2 < 9223372036854775808) : Met lL yX5_times (ws_ yX5_times cX5_times 2 (some (FieldType.object "PictureRing$Fraction"))) ({ frames := 3, cells := 1, slots := 2, locals := 76 } : Room) (wa_P G w [.ref q1, .ref q2]) (wa_Qr G fun r u => ∃ q, r = some q ∧ w q = none ∧ u q = some (eO 5 [.long (lI (lowA (a1 * a2) (b1 * b2))), .long (lI (lowB (a1 * a2) (b1 * b2)))]) ∧ Ext w u) 1 2 (wa_A G) := by
  refine wa_met (by decide) (by exact Nat.le_of_ble_eq_true rfl) ?_
  intro pP eE sS mM aA bB mT cC ls X hl hH
  have hS : va_S (wa_A G) sS.heap sS.heap [] := va_S.rf
  have hl : lv_has ls 2 [(0, .ref q1), (1, .ref q2)] := hl
  have hK : Ext w w := Ext.rf
  have hK_0 := hK
  have e1_0 := e1
  have e2_0 := e2
  refine wa_new X hH hS wcX5 rfl q1315 q317 q122 [.long (lI 0), .long (lI 0)] (by decide) (Nat.le_of_ble_eq_true rfl) (Nat.le_of_ble_eq_true rfl) dX5_times_0 (fun q0 w0 H hn0 ew hH hS => ?_)
  have hk0 := Ext.new hn0 ew
  have hk := hk0
  have e1 := e1.ex hk
  have e2 := e2.ex hk
  have hK := hK.trans hk
  have hN0 := hk
  have n0 : At w0 q0 (eO 5 [.long (lI 0), .long (lI 0)]) := by show _ = _; rw [ew]; exact wup_s
  clear ew hk0
  refine lv_dup X.x X.b dX5_times_3 rfl ?_
  refine lv_aload_n X.x X.b dX5_times_4 rfl (lv_at hl 0 rfl) ?_
  refine wa_get (v := .long (lI a1)) X hH e1 wcX5 0 (by decide) q331 rfl (fun _ h9 => h9) rfl dX5_times_5 ?_
  refine lv_aload_n X.x X.b dX5_times_8 rfl (lv_at hl 1 rfl) ?_
  refine wa_get (v := .long (lI a2)) X hH e2 wcX5 0 (by decide) q331 rfl (fun _ h9 => h9) rfl dX5_times_9 ?_
  refine wz_lmul X.x X.b dX5_times_12 ?_
  refine lv_aload_n X.x X.b dX5_times_13 rfl (lv_at hl 0 rfl) ?_
  refine wa_get (v := .long (lI b1)) X hH e1 wcX5 1 (by decide) q333 rfl (fun _ h9 => h9) rfl dX5_times_14 ?_
  refine lv_aload_n X.x X.b dX5_times_17 rfl (lv_at hl 1 rfl) ?_
  refine wa_get (v := .long (lI b2)) X hH e2 wcX5 1 (by decide) q333 rfl (fun _ h9 => h9) rfl dX5_times_18 ?_
  refine wz_lmul X.x X.b dX5_times_21 ?_
  refine wa_cv hS (wa_rI (rest := [.ref q0]) X hH (mX5_init_2  (show At w0 q0 (eO 5 [.long (lI 0), .long (lI 0)]) from n0) (a1 * a2) (b1 * b2) (show -9223372036854775807 ≤ (a1 * a2) ∧ (a1 * a2) < 9223372036854775808 by first | assumption | omega) (show 0 < (b1 * b2) ∧ (b1 * b2) < 9223372036854775808 by first | assumption | omega)) (cwI 2 X.t (lw_meth q323) rfl rfl rfl (X.t _ q122) (X.t _ q321) (X.t _ q322) rfl hdX5_init_2.2 ⟨Nat.le_of_ble_eq_true rfl, Nat.le_of_ble_eq_true rfl⟩) rfl rfl hl.1 rfl (Nat.le_of_ble_eq_true rfl) dX5_times_22 ⟨Nat.le_of_ble_eq_true rfl, Nat.le_of_ble_eq_true rfl⟩) (fun w22 H locs hp hH hS => ?_)
  obtain ⟨hi, hO2⟩ := hp
  have hOq := hO2
  have hk := Ext.init hn0 hN0 hOq
  have e1 := e1_0.ex hk
  have e2 := e2_0.ex hk
  have hK := hK_0.trans hk
  have hN0 := hk
  have n0 : At w22 q0 (eO 5 [.long (lI (lowA (a1 * a2) (b1 * b2))), .long (lI (lowB (a1 * a2) (b1 * b2)))]) := hi
  refine W.widen (k := 1) (n := 2) (by first | exact Nat.le_of_ble_eq_true rfl | omega) (by first | exact Nat.le_of_ble_eq_true rfl | omega) ?_
  exact wa_aret X (Or.inl ⟨_, rfl⟩) hH hS (some q0) dX5_times_25 ⟨_, rfl, Ext.no hK_0 hn0, n0, hK⟩
set_option maxRecDepth 100000 in
theorem mX5_by {lL : Launch} {G : wa_G} {w : wa_W} {q1 : Nat} {q2 : Nat} {a1 : Int} {b1 : Int} {a2 : Int} {b2 : Int} (e1 : At w q1 (eO 5 [.long (lI a1), .long (lI b1)])) (e2 : At w q2 (eO 5 [.long (lI a2), .long (lI b2)])) (hn : -9223372036854775807 ≤ a1 * b2 ∧ a1 * b2 < 9223372036854775808) (hd : 0 < b1 * a2 ∧ b1 * a2 < 9223372036854775808) : Met lL yX5_by (ws_ yX5_by cX5_by 2 (some (FieldType.object "PictureRing$Fraction"))) ({ frames := 3, cells := 1, slots := 2, locals := 76 } : Room) (wa_P G w [.ref q1, .ref q2]) (wa_Qr G fun r u => ∃ q, r = some q ∧ w q = none ∧ u q = some (eO 5 [.long (lI (lowA (a1 * b2) (b1 * a2))), .long (lI (lowB (a1 * b2) (b1 * a2)))]) ∧ Ext w u) 1 2 (wa_A G) := by
  refine wa_met (by decide) (by exact Nat.le_of_ble_eq_true rfl) ?_
  intro pP eE sS mM aA bB mT cC ls X hl hH
  have hS : va_S (wa_A G) sS.heap sS.heap [] := va_S.rf
  have hl : lv_has ls 2 [(0, .ref q1), (1, .ref q2)] := hl
  have hK : Ext w w := Ext.rf
  have hK_0 := hK
  have e1_0 := e1
  have e2_0 := e2
  refine wa_new X hH hS wcX5 rfl q1315 q317 q122 [.long (lI 0), .long (lI 0)] (by decide) (Nat.le_of_ble_eq_true rfl) (Nat.le_of_ble_eq_true rfl) dX5_by_0 (fun q0 w0 H hn0 ew hH hS => ?_)
  have hk0 := Ext.new hn0 ew
  have hk := hk0
  have e1 := e1.ex hk
  have e2 := e2.ex hk
  have hK := hK.trans hk
  have hN0 := hk
  have n0 : At w0 q0 (eO 5 [.long (lI 0), .long (lI 0)]) := by show _ = _; rw [ew]; exact wup_s
  clear ew hk0
  refine lv_dup X.x X.b dX5_by_3 rfl ?_
  refine lv_aload_n X.x X.b dX5_by_4 rfl (lv_at hl 0 rfl) ?_
  refine wa_get (v := .long (lI a1)) X hH e1 wcX5 0 (by decide) q331 rfl (fun _ h9 => h9) rfl dX5_by_5 ?_
  refine lv_aload_n X.x X.b dX5_by_8 rfl (lv_at hl 1 rfl) ?_
  refine wa_get (v := .long (lI b2)) X hH e2 wcX5 1 (by decide) q333 rfl (fun _ h9 => h9) rfl dX5_by_9 ?_
  refine wz_lmul X.x X.b dX5_by_12 ?_
  refine lv_aload_n X.x X.b dX5_by_13 rfl (lv_at hl 0 rfl) ?_
  refine wa_get (v := .long (lI b1)) X hH e1 wcX5 1 (by decide) q333 rfl (fun _ h9 => h9) rfl dX5_by_14 ?_
  refine lv_aload_n X.x X.b dX5_by_17 rfl (lv_at hl 1 rfl) ?_
  refine wa_get (v := .long (lI a2)) X hH e2 wcX5 0 (by decide) q331 rfl (fun _ h9 => h9) rfl dX5_by_18 ?_
  refine wz_lmul X.x X.b dX5_by_21 ?_
  refine wa_cv hS (wa_rI (rest := [.ref q0]) X hH (mX5_init_2  (show At w0 q0 (eO 5 [.long (lI 0), .long (lI 0)]) from n0) (a1 * b2) (b1 * a2) (show -9223372036854775807 ≤ (a1 * b2) ∧ (a1 * b2) < 9223372036854775808 by first | assumption | omega) (show 0 < (b1 * a2) ∧ (b1 * a2) < 9223372036854775808 by first | assumption | omega)) (cwI 2 X.t (lw_meth q323) rfl rfl rfl (X.t _ q122) (X.t _ q321) (X.t _ q322) rfl hdX5_init_2.2 ⟨Nat.le_of_ble_eq_true rfl, Nat.le_of_ble_eq_true rfl⟩) rfl rfl hl.1 rfl (Nat.le_of_ble_eq_true rfl) dX5_by_22 ⟨Nat.le_of_ble_eq_true rfl, Nat.le_of_ble_eq_true rfl⟩) (fun w22 H locs hp hH hS => ?_)
  obtain ⟨hi, hO2⟩ := hp
  have hOq := hO2
  have hk := Ext.init hn0 hN0 hOq
  have e1 := e1_0.ex hk
  have e2 := e2_0.ex hk
  have hK := hK_0.trans hk
  have hN0 := hk
  have n0 : At w22 q0 (eO 5 [.long (lI (lowA (a1 * b2) (b1 * a2))), .long (lI (lowB (a1 * b2) (b1 * a2)))]) := hi
  refine W.widen (k := 1) (n := 2) (by first | exact Nat.le_of_ble_eq_true rfl | omega) (by first | exact Nat.le_of_ble_eq_true rfl | omega) ?_
  exact wa_aret X (Or.inl ⟨_, rfl⟩) hH hS (some q0) dX5_by_25 ⟨_, rfl, Ext.no hK_0 hn0, n0, hK⟩

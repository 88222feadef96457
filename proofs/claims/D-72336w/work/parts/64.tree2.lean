/-! TREEMAP: small methods -/
set_option maxRecDepth 100000 in
theorem mJ5_parentOf {lL : Launch} {G : wa_G} {w : wa_W} {n : Nat} {k : Nat} {v : Nat} {a : Option Nat} {b : Option Nat} {p : Option Nat} {c : Int} (en : At w n (eO 19 [.ref k, .ref v, va_rf a, va_rf b, va_rf p, .int (zI c)]))  : Met lL yJ5_parentOf (ws_ yJ5_parentOf cJ5_parentOf 1 (some (FieldType.object "java/util/TreeMap$Entry"))) ({ frames := 0, cells := 0, slots := 0, locals := 0 } : Room) (wa_P G w [.ref n]) (wa_Qr G fun r u => r = p ∧ w = u) 0 0 (wa_A G) := by
  refine wa_met (by decide) (by exact Nat.le_of_ble_eq_true rfl) ?_
  intro pP eE sS mM aA bB mT cC ls X hl hH
  have hS : va_S (wa_A G) sS.heap sS.heap [] := va_S.rf
  have hl : lv_has ls 1 [(0, .ref n)] := hl
  have hK : Ext w w := Ext.rf
  refine lv_aload_n X.x X.b dJ5_parentOf_0 rfl (lv_at hl 0 rfl) ?_
  refine lv_ifnonnull (tgt := 8) X.x X.b dJ5_parentOf_1 (by decide) ?_
  refine lv_aload_n X.x X.b dJ5_parentOf_8 rfl (lv_at hl 0 rfl) ?_
  refine wa_get (v := va_rf p) X hH en wcJ10 4 (by decide) q796 rfl (fun _ h9 => h9) rfl dJ5_parentOf_9 ?_
  exact wa_aret X (Or.inl ⟨_, rfl⟩) hH hS p dJ5_parentOf_12 ⟨by first | rfl | omega | assumption, rfl⟩
set_option maxRecDepth 100000 in
theorem mJ5_leftOf {lL : Launch} {G : wa_G} {w : wa_W} {n : Nat} {k : Nat} {v : Nat} {a : Option Nat} {b : Option Nat} {p : Option Nat} {c : Int} (en : At w n (eO 19 [.ref k, .ref v, va_rf a, va_rf b, va_rf p, .int (zI c)]))  : Met lL yJ5_leftOf (ws_ yJ5_leftOf cJ5_leftOf 1 (some (FieldType.object "java/util/TreeMap$Entry"))) ({ frames := 0, cells := 0, slots := 0, locals := 0 } : Room) (wa_P G w [.ref n]) (wa_Qr G fun r u => r = a ∧ w = u) 0 0 (wa_A G) := by
  refine wa_met (by decide) (by exact Nat.le_of_ble_eq_true rfl) ?_
  intro pP eE sS mM aA bB mT cC ls X hl hH
  have hS : va_S (wa_A G) sS.heap sS.heap [] := va_S.rf
  have hl : lv_has ls 1 [(0, .ref n)] := hl
  have hK : Ext w w := Ext.rf
  refine lv_aload_n X.x X.b dJ5_leftOf_0 rfl (lv_at hl 0 rfl) ?_
  refine lv_ifnonnull (tgt := 8) X.x X.b dJ5_leftOf_1 (by decide) ?_
  refine lv_aload_n X.x X.b dJ5_leftOf_8 rfl (lv_at hl 0 rfl) ?_
  refine wa_get (v := va_rf a) X hH en wcJ10 2 (by decide) q793 rfl (fun _ h9 => h9) rfl dJ5_leftOf_9 ?_
  exact wa_aret X (Or.inl ⟨_, rfl⟩) hH hS a dJ5_leftOf_12 ⟨by first | rfl | omega | assumption, rfl⟩
set_option maxRecDepth 100000 in
theorem mJ5_rightOf {lL : Launch} {G : wa_G} {w : wa_W} {n : Nat} {k : Nat} {v : Nat} {a : Option Nat} {b : Option Nat} {p : Option Nat} {c : Int} (en : At w n (eO 19 [.ref k, .ref v, va_rf a, va_rf b, va_rf p, .int (zI c)]))  : Met lL yJ5_rightOf (ws_ yJ5_rightOf cJ5_rightOf 1 (some (FieldType.object "java/util/TreeMap$Entry"))) ({ frames := 0, cells := 0, slots := 0, locals := 0 } : Room) (wa_P G w [.ref n]) (wa_Qr G fun r u => r = b ∧ w = u) 0 0 (wa_A G) := by
  refine wa_met (by decide) (by exact Nat.le_of_ble_eq_true rfl) ?_
  intro pP eE sS mM aA bB mT cC ls X hl hH
  have hS : va_S (wa_A G) sS.heap sS.heap [] := va_S.rf
  have hl : lv_has ls 1 [(0, .ref n)] := hl
  have hK : Ext w w := Ext.rf
  refine lv_aload_n X.x X.b dJ5_rightOf_0 rfl (lv_at hl 0 rfl) ?_
  refine lv_ifnonnull (tgt := 8) X.x X.b dJ5_rightOf_1 (by decide) ?_
  refine lv_aload_n X.x X.b dJ5_rightOf_8 rfl (lv_at hl 0 rfl) ?_
  refine wa_get (v := va_rf b) X hH en wcJ10 3 (by decide) q794 rfl (fun _ h9 => h9) rfl dJ5_rightOf_9 ?_
  exact wa_aret X (Or.inl ⟨_, rfl⟩) hH hS b dJ5_rightOf_12 ⟨by first | rfl | omega | assumption, rfl⟩
set_option maxRecDepth 100000 in
theorem mJ5_colorOf {lL : Launch} {G : wa_G} {w : wa_W} {n : Nat} {k : Nat} {v : Nat} {a : Option Nat} {b : Option Nat} {p : Option Nat} {c : Int} (en : At w n (eO 19 [.ref k, .ref v, va_rf a, va_rf b, va_rf p, .int (zI c)])) (hc : narrow .boolean (.int (zI c)) = .int (zI c)) : Met lL yJ5_colorOf (ws_ yJ5_colorOf cJ5_colorOf 1 (some FieldType.boolean)) ({ frames := 0, cells := 0, slots := 0, locals := 0 } : Room) (wa_P G w [.ref n]) (wa_Qz G fun z u => z = c ∧ w = u) 0 0 (wa_A G) := by
  refine wa_met (by decide) (by exact Nat.le_of_ble_eq_true rfl) ?_
  intro pP eE sS mM aA bB mT cC ls X hl hH
  have hS : va_S (wa_A G) sS.heap sS.heap [] := va_S.rf
  have hl : lv_has ls 1 [(0, .ref n)] := hl
  have hK : Ext w w := Ext.rf
  refine lv_aload_n X.x X.b dJ5_colorOf_0 rfl (lv_at hl 0 rfl) ?_
  refine lv_ifnonnull (tgt := 8) X.x X.b dJ5_colorOf_1 (by decide) ?_
  refine lv_aload_n X.x X.b dJ5_colorOf_8 rfl (lv_at hl 0 rfl) ?_
  refine wa_get (v := .int (zI c)) X hH en wcJ10 5 (by decide) q798 rfl (fun _ h9 => h9) rfl dJ5_colorOf_9 ?_
  exact wa_zret X hH hS dJ5_colorOf_12 hc ⟨by first | rfl | omega | assumption, rfl⟩
set_option maxRecDepth 100000 in
theorem mJ5_colorOf_N {lL : Launch} {G : wa_G} (w : wa_W) {n : Option Nat}  (hn : n = none) : Met lL yJ5_colorOf (ws_ yJ5_colorOf cJ5_colorOf 1 (some FieldType.boolean)) ({ frames := 0, cells := 0, slots := 0, locals := 0 } : Room) (wa_P G w [va_rf n]) (wa_Qz G fun z u => z = 1 ∧ w = u) 0 0 (wa_A G) := by
  refine wa_met (by decide) (by cases n <;> exact Nat.le_of_ble_eq_true rfl) ?_
  intro pP eE sS mM aA bB mT cC ls X hl hH
  have hS : va_S (wa_A G) sS.heap sS.heap [] := va_S.rf
  have hl : lv_has ls 1 [(0, va_rf n)] := hl
  have hK : Ext w w := Ext.rf
  refine lv_aload_nO X.x X.b dJ5_colorOf_0 rfl (lv_at hl 0 rfl) ?_
  refine wz_opt (q := none) (by exact hn) ?_
  refine lv_ifnonnullN X.x X.b dJ5_colorOf_1 ?_
  refine wz_iconst X.x X.b dJ5_colorOf_4 ?_
  refine lv_goto (tgt := 12) X.x X.b dJ5_colorOf_5 (by decide) ?_
  exact wa_zret X hH hS dJ5_colorOf_12 nb1 ⟨by first | rfl | omega | assumption, rfl⟩
set_option maxRecDepth 100000 in
theorem mJ10_init {lL : Launch} {G : wa_G} {w : wa_W} {q0 : Nat} {k : Nat} {v : Nat} {p : Option Nat} (eo : At w q0 (eO 19 [.null, .null, .null, .null, .null, .int (zI 0)]))  : Met lL yJ10_init (ws_ yJ10_init cJ10_init 4 (none : Option FieldType)) ({ frames := 1, cells := 0, slots := 0, locals := 20 } : Room) (wa_P G w [.ref q0, .ref k, .ref v, va_rf p]) (wa_Qv G fun u => u q0 = some (eO 19 [.ref k, .ref v, va_rf none, va_rf none, va_rf p, .int (zI 1)]) ∧ Off q0 w u) 0 0 (wa_A G) := by
  refine wa_met (by decide) (by cases p <;> exact Nat.le_of_ble_eq_true rfl) ?_
  intro pP eE sS mM aA bB mT cC ls X hl hH
  have hS : va_S (wa_A G) sS.heap sS.heap [] := va_S.rf
  have hl : lv_has ls 4 [(0, .ref q0), (1, .ref k), (2, .ref v), (3, va_rf p)] := hl
  have hK : Ext w w := Ext.rf
  have hO : Off q0 w w := Off.rf
  refine lv_aload_n X.x X.b dJ10_init_0 rfl (lv_at hl 0 rfl) ?_
  refine W.objInit X.x X.b X.own (X.t _ q787) (X.t _ q153) (X.t _ q154) rfl (by rw [X.ml]; exact hl.1) rfl dJ10_init_1 (Nat.le_of_ble_eq_true rfl) (Nat.le_of_ble_eq_true rfl) ?_
  refine W.eq (g2 := F0 mM 4 ls []) rfl ?_
  refine lv_aload_n X.x X.b dJ10_init_4 rfl (lv_at hl 0 rfl) ?_
  refine wz_iconst X.x X.b dJ10_init_5 ?_
  refine wa_put X hH hS eo wcJ10 5 (by decide) q797 rfl (fun _ h9 => h9) rfl nb1 rfl (Nat.le_of_ble_eq_true rfl) dJ10_init_6 (fun w6 H locs ew hH hS => ?_)
  have hO : Off q0 w w6 := hO.put ew
  have eo : At w6 q0 (eO 19 [.null, .null, .null, .null, .null, .int (zI 1)]) := by rw [ew]; exact wup_s
  clear ew
  refine lv_aload_n X.x X.b dJ10_init_9 rfl (lv_at hl 0 rfl) ?_
  refine lv_aload_n X.x X.b dJ10_init_10 rfl (lv_at hl 1 rfl) ?_
  refine wa_put X hH hS eo wcJ10 0 (by decide) q788 rfl (fun _ h9 => h9) rfl rfl rfl (Nat.le_of_ble_eq_true rfl) dJ10_init_11 (fun w11 H locs ew hH hS => ?_)
  have hO : Off q0 w w11 := hO.put ew
  have eo : At w11 q0 (eO 19 [.ref k, .null, .null, .null, .null, .int (zI 1)]) := by rw [ew]; exact wup_s
  clear ew
  refine lv_aload_n X.x X.b dJ10_init_14 rfl (lv_at hl 0 rfl) ?_
  refine lv_aload_n X.x X.b dJ10_init_15 rfl (lv_at hl 2 rfl) ?_
  refine wa_put X hH hS eo wcJ10 1 (by decide) q791 rfl (fun _ h9 => h9) rfl rfl rfl (Nat.le_of_ble_eq_true rfl) dJ10_init_16 (fun w16 H locs ew hH hS => ?_)
  have hO : Off q0 w w16 := hO.put ew
  have eo : At w16 q0 (eO 19 [.ref k, .ref v, .null, .null, .null, .int (zI 1)]) := by rw [ew]; exact wup_s
  clear ew
  refine lv_aload_n X.x X.b dJ10_init_19 rfl (lv_at hl 0 rfl) ?_
  refine lv_aload_nO X.x X.b dJ10_init_20 rfl (lv_at hl 3 rfl) ?_
  refine wa_put X hH hS eo wcJ10 4 (by decide) q795 rfl (fun _ h9 => h9) rfl rf_nar rf_fit (Nat.le_of_ble_eq_true rfl) dJ10_init_21 (fun w21 H locs ew hH hS => ?_)
  have hO : Off q0 w w21 := hO.put ew
  have eo : At w21 q0 (eO 19 [.ref k, .ref v, .null, .null, va_rf p, .int (zI 1)]) := by rw [ew]; exact wup_s
  clear ew
  exact wa_vret X hH hS dJ10_init_24 ⟨eo, hO⟩
set_option maxRecDepth 100000 in
theorem mJ5_setColor {lL : Launch} {G : wa_G} {w : wa_W} {m : Nat} {l : List Nat} {K : Nat → Nat} {V : Nat → Nat} {L : Nat → Option Nat} {R : Nat → Option Nat} {P : Nat → Option Nat} {C : Nat → Int} {ro : Option Nat} {si : Int} {mo : Int} {nv : Option Nat} (hX : TN w m l K V L R P C ro si mo nv) {n : Nat}  (c : Int) (hn : n ∈ l) (hc : narrow .boolean (.int (zI c)) = .int (zI c)) (hc2 : fits .boolean (.int (zI c)) = true) : Met lL yJ5_setColor (ws_ yJ5_setColor cJ5_setColor 2 (none : Option FieldType)) ({ frames := 0, cells := 0, slots := 0, locals := 0 } : Room) (wa_P G w [.ref n, .int (zI c)]) (wa_Qv G fun u => TN u m l K V L R P (nup C n c) ro si mo nv ∧ Fr m l w u) 0 0 (wa_A G) := by
  refine wa_met (by decide) (by exact Nat.le_of_ble_eq_true rfl) ?_
  intro pP eE sS mM aA bB mT cC ls X hl hH
  have hS : va_S (wa_A G) sS.heap sS.heap [] := va_S.rf
  have hl : lv_has ls 2 [(0, .ref n), (1, .int (zI c))] := hl
  have hK : Fr m l w w := Fr.rf
  refine lv_aload_n X.x X.b dJ5_setColor_0 rfl (lv_at hl 0 rfl) ?_
  refine lv_ifnull X.x X.b dJ5_setColor_1 ?_
  refine lv_aload_n X.x X.b dJ5_setColor_4 rfl (lv_at hl 0 rfl) ?_
  refine lv_iload_n X.x X.b dJ5_setColor_5 rfl (lv_at hl 1 rfl) ?_
  refine wa_put X hH hS (have h9 := (hX.nd hn); h9) wcJ10 5 (by decide) q798 rfl (fun _ h9 => h9) rfl hc hc2 (Nat.le_of_ble_eq_true rfl) dJ5_setColor_6 (fun w6 H locs ew hH hS => ?_)
  have hk : Fr m l w w6 := Fr.nd hn ew
  have hX := hX.sC (x := c) hn ew
  have hK := hK.trans hk
  clear ew
  exact wa_vret X hH hS dJ5_setColor_9 ⟨hX, hK⟩
set_option maxRecDepth 100000 in
theorem mJ5_rotateLeft {lL : Launch} {G : wa_G} {w : wa_W} {m : Nat} {l : List Nat} {K : Nat → Nat} {V : Nat → Nat} {L : Nat → Option Nat} {R : Nat → Option Nat} {P : Nat → Option Nat} {C : Nat → Int} {ro : Option Nat} {si : Int} {mo : Int} {nv : Option Nat} (hX : TN w m l K V L R P C ro si mo nv) {p : Nat} {r : Nat}  (hp : p ∈ l) (hr : R p = some r) (ht : Tr L R P ro none l) (hn : l.Nodup) : Met lL yJ5_rotateLeft (ws_ yJ5_rotateLeft cJ5_rotateLeft 3 (none : Option FieldType)) ({ frames := 0, cells := 0, slots := 0, locals := 0 } : Room) (wa_P G w [.ref m, .ref p]) (wa_Qv G fun u => TN u m l K V (rtL L P p r) (rtR L R P p r) (rtP L P p r) C (if ro = some p then some r else ro) si mo nv ∧ Fr m l w u) 0 0 (wa_A G) := by
  refine wa_met (by decide) (by exact Nat.le_of_ble_eq_true rfl) ?_
  intro pP eE sS mM aA bB mT cC ls X hl hH
  have hS : va_S (wa_A G) sS.heap sS.heap [] := va_S.rf
  have hl : lv_has ls 3 [(0, .ref m), (1, .ref p)] := hl
  have hK : Fr m l w w := Fr.rf
  have hk1 := (ht.kid p hp).1 r hr
  have hrl := hk1.1
  have htop := ht.top hp
  have hpr : p ≠ r := fun e => by rw [← e] at hk1; exact ht.irr hn hp hk1.2
  refine lv_aload_n X.x X.b dJ5_rotateLeft_0 rfl (lv_at hl 1 rfl) ?_
  refine lv_ifnull X.x X.b dJ5_rotateLeft_1 ?_
  refine lv_aload_n X.x X.b dJ5_rotateLeft_4 rfl (lv_at hl 1 rfl) ?_
  refine wa_get (v := va_rf (R p)) X hH (have h9 := (hX.nd hp); h9) wcJ10 3 (by decide) q794 rfl (fun _ h9 => h9) rfl dJ5_rotateLeft_5 ?_
  refine wz_opt (q := some r) (by exact hr) ?_
  refine lv_astore_n (lv' := [(2, .ref r), (0, .ref m), (1, .ref p)]) X.x X.b dJ5_rotateLeft_8 rfl hl (by decide) rfl (fun ls hl => ?_)
  refine lv_aload_n X.x X.b dJ5_rotateLeft_9 rfl (lv_at hl 2 rfl) ?_
  refine lv_aload_n X.x X.b dJ5_rotateLeft_10 rfl (lv_at hl 0 rfl) ?_
  refine wa_get (v := va_rf (L r)) X hH (have h9 := (hX.nd hrl); h9) wcJ10 2 (by decide) q793 rfl (fun _ h9 => h9) rfl dJ5_rotateLeft_11 ?_
  refine wa_put X hH hS (have h9 := (hX.nd hp); h9) wcJ10 3 (by decide) q794 rfl (fun _ h9 => h9) rfl rf_nar rf_fit (Nat.le_of_ble_eq_true rfl) dJ5_rotateLeft_14 (fun w14 H locs ew hH hS => ?_)
  have hk : Fr m l w w14 := Fr.nd hp ew
  have hX := hX.sR (x := L r) hp ew
  have hK := hK.trans hk
  clear ew
  refine lv_aload_n X.x X.b dJ5_rotateLeft_17 rfl (lv_at hl 0 rfl) ?_
  refine wa_get (v := va_rf (L r)) X hH (have h9 := (hX.nd hrl); h9) wcJ10 2 (by decide) q793 rfl (fun _ h9 => h9) rfl dJ5_rotateLeft_18 ?_
  rcases xo_cases (L r) with ho21 | ⟨a21, ho21⟩
  · refine wz_opt (q := none) ho21 ?_
    refine lv_ifnullN (tgt := 32) X.x X.b dJ5_rotateLeft_21 (by decide) ?_
    refine lv_aload_n X.x X.b dJ5_rotateLeft_32 rfl (lv_at hl 0 rfl) ?_
    refine lv_aload_n X.x X.b dJ5_rotateLeft_33 rfl (lv_at hl 2 rfl) ?_
    refine wa_get (v := va_rf (P p)) X hH (have h9 := (hX.nd hp); h9) wcJ10 4 (by decide) q796 rfl (fun _ h9 => h9) rfl dJ5_rotateLeft_34 ?_
    refine wa_put X hH hS (have h9 := (hX.nd hrl); h9) wcJ10 4 (by decide) q796 rfl (fun _ h9 => h9) rfl rf_nar rf_fit (Nat.le_of_ble_eq_true rfl) dJ5_rotateLeft_37 (fun w37 H locs ew hH hS => ?_)
    have hk : Fr m l w14 w37 := Fr.nd hrl ew
    have hX := hX.sP (x := P p) hrl ew
    have hK := hK.trans hk
    clear ew
    refine lv_aload_n X.x X.b dJ5_rotateLeft_40 rfl (lv_at hl 2 rfl) ?_
    refine wa_get (v := va_rf ((nup P r (P p)) p)) X hH (have h9 := (hX.nd hp); h9) wcJ10 4 (by decide) q796 rfl (fun _ h9 => h9) rfl dJ5_rotateLeft_41 ?_
    refine wz_opt (q := P p) (by first | (rw [nup_n hpr]; done) | (rw [nup_n hpr]; exact nup_n hxp)) ?_
    rcases xo_cases (P p) with ho44 | ⟨a44, ho44⟩
    · refine wz_opt (q := none) ho44 ?_
      refine lv_ifnonnullN X.x X.b dJ5_rotateLeft_44 ?_
      refine lv_aload_n X.x X.b dJ5_rotateLeft_47 rfl (lv_at hl 1 rfl) ?_
      refine lv_aload_n X.x X.b dJ5_rotateLeft_48 rfl (lv_at hl 0 rfl) ?_
      refine wa_put X hH hS (have h9 := (hX.1); h9) wcJ5 3 (by decide) q237 rfl (fun _ h9 => h9) rfl rfl rfl (Nat.le_of_ble_eq_true rfl) dJ5_rotateLeft_49 (fun w49 H locs ew hH hS => ?_)
      have hk : Fr m l w37 w49 := Fr.map ew
      have hX := hX.smap (ro2 := some r) (si2 := si) (mo2 := mo) (nv2 := nv) ew
      have hK := hK.trans hk
      clear ew
      refine lv_goto (tgt := 85) X.x X.b dJ5_rotateLeft_52 (by decide) ?_
      refine lv_aload_n X.x X.b dJ5_rotateLeft_85 rfl (lv_at hl 0 rfl) ?_
      refine lv_aload_n X.x X.b dJ5_rotateLeft_86 rfl (lv_at hl 2 rfl) ?_
      refine wa_put X hH hS (have h9 := (hX.nd hrl); h9) wcJ10 2 (by decide) q793 rfl (fun _ h9 => h9) rfl rfl rfl (Nat.le_of_ble_eq_true rfl) dJ5_rotateLeft_87 (fun w87 H locs ew hH hS => ?_)
      have hk : Fr m l w49 w87 := Fr.nd hrl ew
      have hX := hX.sL (x := some p) hrl ew
      have hK := hK.trans hk
      clear ew
      refine lv_aload_n X.x X.b dJ5_rotateLeft_90 rfl (lv_at hl 2 rfl) ?_
      refine lv_aload_n X.x X.b dJ5_rotateLeft_91 rfl (lv_at hl 0 rfl) ?_
      refine wa_put X hH hS (have h9 := (hX.nd hp); h9) wcJ10 4 (by decide) q796 rfl (fun _ h9 => h9) rfl rfl rfl (Nat.le_of_ble_eq_true rfl) dJ5_rotateLeft_92 (fun w92 H locs ew hH hS => ?_)
      have hk : Fr m l w87 w92 := Fr.nd hp ew
      have hX := hX.sP (x := some r) hp ew
      have hK := hK.trans hk
      clear ew
      exact wa_vret X hH hS dJ5_rotateLeft_95 ⟨(hX.congr fun n _ => ⟨(rt_root (R := R) ho44).1, (rt_root (R := R) ho44).2, (rt_P0 ho21), rfl⟩).cR (by rw [if_pos (htop.1 ho44)]), hK⟩
    · refine wz_opt (q := (some a44)) ho44 ?_
      obtain ⟨hq1, hq2, hq3⟩ := htop.2 a44 ho44
      have hqp : a44 ≠ p := fun e => by rw [e] at ho44; exact ht.irr hn hp ho44
      have hqr : a44 ≠ r := fun e => by rw [e] at ho44; exact ht.irr2 hn hp hrl ho44 hk1.2
      refine lv_ifnonnull (tgt := 55) X.x X.b dJ5_rotateLeft_44 (by decide) ?_
      refine lv_aload_n X.x X.b dJ5_rotateLeft_55 rfl (lv_at hl 2 rfl) ?_
      refine wa_get (v := va_rf ((nup P r (P p)) p)) X hH (have h9 := (hX.nd hp); h9) wcJ10 4 (by decide) q796 rfl (fun _ h9 => h9) rfl dJ5_rotateLeft_56 ?_
      refine wz_opt (q := some a44) (by rw [nup_n hpr]; first | exact ho44 | (rw [nup_n hxp]; exact ho44)) ?_
      refine wa_get (v := va_rf (L a44)) X hH (have h9 := (hX.nd hq1); h9) wcJ10 2 (by decide) q793 rfl (fun _ h9 => h9) rfl dJ5_rotateLeft_59 ?_
      refine lv_aload_n X.x X.b dJ5_rotateLeft_62 rfl (lv_at hl 2 rfl) ?_
      refine lv_acmp_ne (rx := L a44) (ry := some p) (tgt := 77) X.x X.b dJ5_rotateLeft_63 (by decide) (fun c63 => ?_) (fun c63 => ?_)
      · refine lv_aload_n X.x X.b dJ5_rotateLeft_77 rfl (lv_at hl 2 rfl) ?_
        refine wa_get (v := va_rf ((nup P r (P p)) p)) X hH (have h9 := (hX.nd hp); h9) wcJ10 4 (by decide) q796 rfl (fun _ h9 => h9) rfl dJ5_rotateLeft_78 ?_
        refine wz_opt (q := some a44) (by rw [nup_n hpr]; first | exact ho44 | (rw [nup_n hxp]; exact ho44)) ?_
        refine lv_aload_n X.x X.b dJ5_rotateLeft_81 rfl (lv_at hl 0 rfl) ?_
        refine wa_put X hH hS (have h9 := (hX.nd hq1); h9) wcJ10 3 (by decide) q794 rfl (fun _ h9 => h9) rfl rfl rfl (Nat.le_of_ble_eq_true rfl) dJ5_rotateLeft_82 (fun w82 H locs ew hH hS => ?_)
        have hk : Fr m l w37 w82 := Fr.nd hq1 ew
        have hX := hX.sR (x := some r) hq1 ew
        have hK := hK.trans hk
        clear ew
        refine lv_aload_n X.x X.b dJ5_rotateLeft_85 rfl (lv_at hl 0 rfl) ?_
        refine lv_aload_n X.x X.b dJ5_rotateLeft_86 rfl (lv_at hl 2 rfl) ?_
        refine wa_put X hH hS (have h9 := (hX.nd hrl); h9) wcJ10 2 (by decide) q793 rfl (fun _ h9 => h9) rfl rfl rfl (Nat.le_of_ble_eq_true rfl) dJ5_rotateLeft_87 (fun w87 H locs ew hH hS => ?_)
        have hk : Fr m l w82 w87 := Fr.nd hrl ew
        have hX := hX.sL (x := some p) hrl ew
        have hK := hK.trans hk
        clear ew
        refine lv_aload_n X.x X.b dJ5_rotateLeft_90 rfl (lv_at hl 2 rfl) ?_
        refine lv_aload_n X.x X.b dJ5_rotateLeft_91 rfl (lv_at hl 0 rfl) ?_
        refine wa_put X hH hS (have h9 := (hX.nd hp); h9) wcJ10 4 (by decide) q796 rfl (fun _ h9 => h9) rfl rfl rfl (Nat.le_of_ble_eq_true rfl) dJ5_rotateLeft_92 (fun w92 H locs ew hH hS => ?_)
        have hk : Fr m l w87 w92 := Fr.nd hp ew
        have hX := hX.sP (x := some r) hp ew
        have hK := hK.trans hk
        clear ew
        exact wa_vret X hH hS dJ5_rotateLeft_95 ⟨(hX.congr fun n _ => ⟨(rt_right (R := R) ho44 c63 hqp).1, (rt_right (R := R) ho44 c63 hqp).2, (rt_P0 ho21), rfl⟩).cR (by rw [if_neg hq3]), hK⟩
      · refine lv_aload_n X.x X.b dJ5_rotateLeft_66 rfl (lv_at hl 2 rfl) ?_
        refine wa_get (v := va_rf ((nup P r (P p)) p)) X hH (have h9 := (hX.nd hp); h9) wcJ10 4 (by decide) q796 rfl (fun _ h9 => h9) rfl dJ5_rotateLeft_67 ?_
        refine wz_opt (q := some a44) (by rw [nup_n hpr]; first | exact ho44 | (rw [nup_n hxp]; exact ho44)) ?_
        refine lv_aload_n X.x X.b dJ5_rotateLeft_70 rfl (lv_at hl 0 rfl) ?_
        refine wa_put X hH hS (have h9 := (hX.nd hq1); h9) wcJ10 2 (by decide) q793 rfl (fun _ h9 => h9) rfl rfl rfl (Nat.le_of_ble_eq_true rfl) dJ5_rotateLeft_71 (fun w71 H locs ew hH hS => ?_)
        have hk : Fr m l w37 w71 := Fr.nd hq1 ew
        have hX := hX.sL (x := some r) hq1 ew
        have hK := hK.trans hk
        clear ew
        refine lv_goto (tgt := 85) X.x X.b dJ5_rotateLeft_74 (by decide) ?_
        refine lv_aload_n X.x X.b dJ5_rotateLeft_85 rfl (lv_at hl 0 rfl) ?_
        refine lv_aload_n X.x X.b dJ5_rotateLeft_86 rfl (lv_at hl 2 rfl) ?_
        refine wa_put X hH hS (have h9 := (hX.nd hrl); h9) wcJ10 2 (by decide) q793 rfl (fun _ h9 => h9) rfl rfl rfl (Nat.le_of_ble_eq_true rfl) dJ5_rotateLeft_87 (fun w87 H locs ew hH hS => ?_)
        have hk : Fr m l w71 w87 := Fr.nd hrl ew
        have hX := hX.sL (x := some p) hrl ew
        have hK := hK.trans hk
        clear ew
        refine lv_aload_n X.x X.b dJ5_rotateLeft_90 rfl (lv_at hl 2 rfl) ?_
        refine lv_aload_n X.x X.b dJ5_rotateLeft_91 rfl (lv_at hl 0 rfl) ?_
        refine wa_put X hH hS (have h9 := (hX.nd hp); h9) wcJ10 4 (by decide) q796 rfl (fun _ h9 => h9) rfl rfl rfl (Nat.le_of_ble_eq_true rfl) dJ5_rotateLeft_92 (fun w92 H locs ew hH hS => ?_)
        have hk : Fr m l w87 w92 := Fr.nd hp ew
        have hX := hX.sP (x := some r) hp ew
        have hK := hK.trans hk
        clear ew
        exact wa_vret X hH hS dJ5_rotateLeft_95 ⟨(hX.congr fun n _ => ⟨(rt_left (R := R) ho44 c63).1, (rt_left (R := R) ho44 c63).2, (rt_P0 ho21), rfl⟩).cR (by rw [if_neg hq3]), hK⟩
  · refine wz_opt (q := (some a21)) ho21 ?_
    have hx0 := (ht.kid r hrl).2 a21 ho21
    have hx1 := hx0.1
    have hxp : p ≠ a21 := fun e => by rw [← e] at hx0; exact ht.irr2 hn hp hrl hx0.2 hk1.2
    refine lv_ifnull X.x X.b dJ5_rotateLeft_21 ?_
    refine lv_aload_n X.x X.b dJ5_rotateLeft_24 rfl (lv_at hl 0 rfl) ?_
    refine wa_get (v := va_rf (L r)) X hH (have h9 := (hX.nd hrl); h9) wcJ10 2 (by decide) q793 rfl (fun _ h9 => h9) rfl dJ5_rotateLeft_25 ?_
    refine wz_opt (q := some a21) (by exact ho21) ?_
    refine lv_aload_n X.x X.b dJ5_rotateLeft_28 rfl (lv_at hl 2 rfl) ?_
    refine wa_put X hH hS (have h9 := (hX.nd hx1); h9) wcJ10 4 (by decide) q796 rfl (fun _ h9 => h9) rfl rfl rfl (Nat.le_of_ble_eq_true rfl) dJ5_rotateLeft_29 (fun w29 H locs ew hH hS => ?_)
    have hk : Fr m l w14 w29 := Fr.nd hx1 ew
    have hX := hX.sP (x := some p) hx1 ew
    have hK := hK.trans hk
    clear ew
    refine lv_aload_n X.x X.b dJ5_rotateLeft_32 rfl (lv_at hl 0 rfl) ?_
    refine lv_aload_n X.x X.b dJ5_rotateLeft_33 rfl (lv_at hl 2 rfl) ?_
    refine wa_get (v := va_rf ((nup P a21 (some p)) p)) X hH (have h9 := (hX.nd hp); h9) wcJ10 4 (by decide) q796 rfl (fun _ h9 => h9) rfl dJ5_rotateLeft_34 ?_
    refine wz_opt (q := P p) (by exact nup_n hxp) ?_
    refine wa_put X hH hS (have h9 := (hX.nd hrl); h9) wcJ10 4 (by decide) q796 rfl (fun _ h9 => h9) rfl rf_nar rf_fit (Nat.le_of_ble_eq_true rfl) dJ5_rotateLeft_37 (fun w37 H locs ew hH hS => ?_)
    have hk : Fr m l w29 w37 := Fr.nd hrl ew
    have hX := hX.sP (x := P p) hrl ew
    have hK := hK.trans hk
    clear ew
    refine lv_aload_n X.x X.b dJ5_rotateLeft_40 rfl (lv_at hl 2 rfl) ?_
    refine wa_get (v := va_rf ((nup (nup P a21 (some p)) r (P p)) p)) X hH (have h9 := (hX.nd hp); h9) wcJ10 4 (by decide) q796 rfl (fun _ h9 => h9) rfl dJ5_rotateLeft_41 ?_
    refine wz_opt (q := P p) (by first | (rw [nup_n hpr]; done) | (rw [nup_n hpr]; exact nup_n hxp)) ?_
    rcases xo_cases (P p) with ho44 | ⟨a44, ho44⟩
    · refine wz_opt (q := none) ho44 ?_
      refine lv_ifnonnullN X.x X.b dJ5_rotateLeft_44 ?_
      refine lv_aload_n X.x X.b dJ5_rotateLeft_47 rfl (lv_at hl 1 rfl) ?_
      refine lv_aload_n X.x X.b dJ5_rotateLeft_48 rfl (lv_at hl 0 rfl) ?_
      refine wa_put X hH hS (have h9 := (hX.1); h9) wcJ5 3 (by decide) q237 rfl (fun _ h9 => h9) rfl rfl rfl (Nat.le_of_ble_eq_true rfl) dJ5_rotateLeft_49 (fun w49 H locs ew hH hS => ?_)
      have hk : Fr m l w37 w49 := Fr.map ew
      have hX := hX.smap (ro2 := some r) (si2 := si) (mo2 := mo) (nv2 := nv) ew
      have hK := hK.trans hk
      clear ew
      refine lv_goto (tgt := 85) X.x X.b dJ5_rotateLeft_52 (by decide) ?_
      refine lv_aload_n X.x X.b dJ5_rotateLeft_85 rfl (lv_at hl 0 rfl) ?_
      refine lv_aload_n X.x X.b dJ5_rotateLeft_86 rfl (lv_at hl 2 rfl) ?_
      refine wa_put X hH hS (have h9 := (hX.nd hrl); h9) wcJ10 2 (by decide) q793 rfl (fun _ h9 => h9) rfl rfl rfl (Nat.le_of_ble_eq_true rfl) dJ5_rotateLeft_87 (fun w87 H locs ew hH hS => ?_)
      have hk : Fr m l w49 w87 := Fr.nd hrl ew
      have hX := hX.sL (x := some p) hrl ew
      have hK := hK.trans hk
      clear ew
      refine lv_aload_n X.x X.b dJ5_rotateLeft_90 rfl (lv_at hl 2 rfl) ?_
      refine lv_aload_n X.x X.b dJ5_rotateLeft_91 rfl (lv_at hl 0 rfl) ?_
      refine wa_put X hH hS (have h9 := (hX.nd hp); h9) wcJ10 4 (by decide) q796 rfl (fun _ h9 => h9) rfl rfl rfl (Nat.le_of_ble_eq_true rfl) dJ5_rotateLeft_92 (fun w92 H locs ew hH hS => ?_)
      have hk : Fr m l w87 w92 := Fr.nd hp ew
      have hX := hX.sP (x := some r) hp ew
      have hK := hK.trans hk
      clear ew
      exact wa_vret X hH hS dJ5_rotateLeft_95 ⟨(hX.congr fun n _ => ⟨(rt_root (R := R) ho44).1, (rt_root (R := R) ho44).2, (rt_P1 ho21), rfl⟩).cR (by rw [if_pos (htop.1 ho44)]), hK⟩
    · refine wz_opt (q := (some a44)) ho44 ?_
      obtain ⟨hq1, hq2, hq3⟩ := htop.2 a44 ho44
      have hqp : a44 ≠ p := fun e => by rw [e] at ho44; exact ht.irr hn hp ho44
      have hqr : a44 ≠ r := fun e => by rw [e] at ho44; exact ht.irr2 hn hp hrl ho44 hk1.2
      refine lv_ifnonnull (tgt := 55) X.x X.b dJ5_rotateLeft_44 (by decide) ?_
      refine lv_aload_n X.x X.b dJ5_rotateLeft_55 rfl (lv_at hl 2 rfl) ?_
      refine wa_get (v := va_rf ((nup (nup P a21 (some p)) r (P p)) p)) X hH (have h9 := (hX.nd hp); h9) wcJ10 4 (by decide) q796 rfl (fun _ h9 => h9) rfl dJ5_rotateLeft_56 ?_
      refine wz_opt (q := some a44) (by rw [nup_n hpr]; first | exact ho44 | (rw [nup_n hxp]; exact ho44)) ?_
      refine wa_get (v := va_rf (L a44)) X hH (have h9 := (hX.nd hq1); h9) wcJ10 2 (by decide) q793 rfl (fun _ h9 => h9) rfl dJ5_rotateLeft_59 ?_
      refine lv_aload_n X.x X.b dJ5_rotateLeft_62 rfl (lv_at hl 2 rfl) ?_
      refine lv_acmp_ne (rx := L a44) (ry := some p) (tgt := 77) X.x X.b dJ5_rotateLeft_63 (by decide) (fun c63 => ?_) (fun c63 => ?_)
      · refine lv_aload_n X.x X.b dJ5_rotateLeft_77 rfl (lv_at hl 2 rfl) ?_
        refine wa_get (v := va_rf ((nup (nup P a21 (some p)) r (P p)) p)) X hH (have h9 := (hX.nd hp); h9) wcJ10 4 (by decide) q796 rfl (fun _ h9 => h9) rfl dJ5_rotateLeft_78 ?_
        refine wz_opt (q := some a44) (by rw [nup_n hpr]; first | exact ho44 | (rw [nup_n hxp]; exact ho44)) ?_
        refine lv_aload_n X.x X.b dJ5_rotateLeft_81 rfl (lv_at hl 0 rfl) ?_
        refine wa_put X hH hS (have h9 := (hX.nd hq1); h9) wcJ10 3 (by decide) q794 rfl (fun _ h9 => h9) rfl rfl rfl (Nat.le_of_ble_eq_true rfl) dJ5_rotateLeft_82 (fun w82 H locs ew hH hS => ?_)
        have hk : Fr m l w37 w82 := Fr.nd hq1 ew
        have hX := hX.sR (x := some r) hq1 ew
        have hK := hK.trans hk
        clear ew
        refine lv_aload_n X.x X.b dJ5_rotateLeft_85 rfl (lv_at hl 0 rfl) ?_
        refine lv_aload_n X.x X.b dJ5_rotateLeft_86 rfl (lv_at hl 2 rfl) ?_
        refine wa_put X hH hS (have h9 := (hX.nd hrl); h9) wcJ10 2 (by decide) q793 rfl (fun _ h9 => h9) rfl rfl rfl (Nat.le_of_ble_eq_true rfl) dJ5_rotateLeft_87 (fun w87 H locs ew hH hS => ?_)
        have hk : Fr m l w82 w87 := Fr.nd hrl ew
        have hX := hX.sL (x := some p) hrl ew
        have hK := hK.trans hk
        clear ew
        refine lv_aload_n X.x X.b dJ5_rotateLeft_90 rfl (lv_at hl 2 rfl) ?_
        refine lv_aload_n X.x X.b dJ5_rotateLeft_91 rfl (lv_at hl 0 rfl) ?_
        refine wa_put X hH hS (have h9 := (hX.nd hp); h9) wcJ10 4 (by decide) q796 rfl (fun _ h9 => h9) rfl rfl rfl (Nat.le_of_ble_eq_true rfl) dJ5_rotateLeft_92 (fun w92 H locs ew hH hS => ?_)
        have hk : Fr m l w87 w92 := Fr.nd hp ew
        have hX := hX.sP (x := some r) hp ew
        have hK := hK.trans hk
        clear ew
        exact wa_vret X hH hS dJ5_rotateLeft_95 ⟨(hX.congr fun n _ => ⟨(rt_right (R := R) ho44 c63 hqp).1, (rt_right (R := R) ho44 c63 hqp).2, (rt_P1 ho21), rfl⟩).cR (by rw [if_neg hq3]), hK⟩
      · refine lv_aload_n X.x X.b dJ5_rotateLeft_66 rfl (lv_at hl 2 rfl) ?_
        refine wa_get (v := va_rf ((nup (nup P a21 (some p)) r (P p)) p)) X hH (have h9 := (hX.nd hp); h9) wcJ10 4 (by decide) q796 rfl (fun _ h9 => h9) rfl dJ5_rotateLeft_67 ?_
        refine wz_opt (q := some a44) (by rw [nup_n hpr]; first | exact ho44 | (rw [nup_n hxp]; exact ho44)) ?_
        refine lv_aload_n X.x X.b dJ5_rotateLeft_70 rfl (lv_at hl 0 rfl) ?_
        refine wa_put X hH hS (have h9 := (hX.nd hq1); h9) wcJ10 2 (by decide) q793 rfl (fun _ h9 => h9) rfl rfl rfl (Nat.le_of_ble_eq_true rfl) dJ5_rotateLeft_71 (fun w71 H locs ew hH hS => ?_)
        have hk : Fr m l w37 w71 := Fr.nd hq1 ew
        have hX := hX.sL (x := some r) hq1 ew
        have hK := hK.trans hk
        clear ew
        refine lv_goto (tgt := 85) X.x X.b dJ5_rotateLeft_74 (by decide) ?_
        refine lv_aload_n X.x X.b dJ5_rotateLeft_85 rfl (lv_at hl 0 rfl) ?_
        refine lv_aload_n X.x X.b dJ5_rotateLeft_86 rfl (lv_at hl 2 rfl) ?_
        refine wa_put X hH hS (have h9 := (hX.nd hrl); h9) wcJ10 2 (by decide) q793 rfl (fun _ h9 => h9) rfl rfl rfl (Nat.le_of_ble_eq_true rfl) dJ5_rotateLeft_87 (fun w87 H locs ew hH hS => ?_)
        have hk : Fr m l w71 w87 := Fr.nd hrl ew
        have hX := hX.sL (x := some p) hrl ew
        have hK := hK.trans hk
        clear ew
        refine lv_aload_n X.x X.b dJ5_rotateLeft_90 rfl (lv_at hl 2 rfl) ?_
        refine lv_aload_n X.x X.b dJ5_rotateLeft_91 rfl (lv_at hl 0 rfl) ?_
        refine wa_put X hH hS (have h9 := (hX.nd hp); h9) wcJ10 4 (by decide) q796 rfl (fun _ h9 => h9) rfl rfl rfl (Nat.le_of_ble_eq_true rfl) dJ5_rotateLeft_92 (fun w92 H locs ew hH hS => ?_)
        have hk : Fr m l w87 w92 := Fr.nd hp ew
        have hX := hX.sP (x := some r) hp ew
        have hK := hK.trans hk
        clear ew
        exact wa_vret X hH hS dJ5_rotateLeft_95 ⟨(hX.congr fun n _ => ⟨(rt_left (R := R) ho44 c63).1, (rt_left (R := R) ho44 c63).2, (rt_P1 ho21), rfl⟩).cR (by rw [if_neg hq3]), hK⟩
set_option maxRecDepth 100000 in
theorem mJ5_rotateRight {lL : Launch} {G : wa_G} {w : wa_W} {m : Nat} {l : List Nat} {K : Nat → Nat} {V : Nat → Nat} {L : Nat → Option Nat} {R : Nat → Option Nat} {P : Nat → Option Nat} {C : Nat → Int} {ro : Option Nat} {si : Int} {mo : Int} {nv : Option Nat} (hX : TN w m l K V L R P C ro si mo nv) {p : Nat} {r : Nat}  (hp : p ∈ l) (hr : L p = some r) (ht : Tr L R P ro none l) (hn : l.Nodup) : Met lL yJ5_rotateRight (ws_ yJ5_rotateRight cJ5_rotateRight 3 (none : Option FieldType)) ({ frames := 0, cells := 0, slots := 0, locals := 0 } : Room) (wa_P G w [.ref m, .ref p]) (wa_Qv G fun u => TN u m l K V (rtR R L P p r) (rtL R P p r) (rtP R P p r) C (if ro = some p then some r else ro) si mo nv ∧ Fr m l w u) 0 0 (wa_A G) := by
  refine wa_met (by decide) (by exact Nat.le_of_ble_eq_true rfl) ?_
  intro pP eE sS mM aA bB mT cC ls X hl hH
  have hS : va_S (wa_A G) sS.heap sS.heap [] := va_S.rf
  have hl : lv_has ls 3 [(0, .ref m), (1, .ref p)] := hl
  have hK : Fr m l w w := Fr.rf
  have hk1 := (ht.kid p hp).2 r hr
  have hrl := hk1.1
  have htop := ht.top hp
  have hpr : p ≠ r := fun e => by rw [← e] at hk1; exact ht.irr hn hp hk1.2
  refine lv_aload_n X.x X.b dJ5_rotateRight_0 rfl (lv_at hl 1 rfl) ?_
  refine lv_ifnull X.x X.b dJ5_rotateRight_1 ?_
  refine lv_aload_n X.x X.b dJ5_rotateRight_4 rfl (lv_at hl 1 rfl) ?_
  refine wa_get (v := va_rf (L p)) X hH (have h9 := (hX.nd hp); h9) wcJ10 2 (by decide) q793 rfl (fun _ h9 => h9) rfl dJ5_rotateRight_5 ?_
  refine wz_opt (q := some r) (by exact hr) ?_
  refine lv_astore_n (lv' := [(2, .ref r), (0, .ref m), (1, .ref p)]) X.x X.b dJ5_rotateRight_8 rfl hl (by decide) rfl (fun ls hl => ?_)
  refine lv_aload_n X.x X.b dJ5_rotateRight_9 rfl (lv_at hl 2 rfl) ?_
  refine lv_aload_n X.x X.b dJ5_rotateRight_10 rfl (lv_at hl 0 rfl) ?_
  refine wa_get (v := va_rf (R r)) X hH (have h9 := (hX.nd hrl); h9) wcJ10 3 (by decide) q794 rfl (fun _ h9 => h9) rfl dJ5_rotateRight_11 ?_
  refine wa_put X hH hS (have h9 := (hX.nd hp); h9) wcJ10 2 (by decide) q793 rfl (fun _ h9 => h9) rfl rf_nar rf_fit (Nat.le_of_ble_eq_true rfl) dJ5_rotateRight_14 (fun w14 H locs ew hH hS => ?_)
  have hk : Fr m l w w14 := Fr.nd hp ew
  have hX := hX.sL (x := R r) hp ew
  have hK := hK.trans hk
  clear ew
  refine lv_aload_n X.x X.b dJ5_rotateRight_17 rfl (lv_at hl 0 rfl) ?_
  refine wa_get (v := va_rf (R r)) X hH (have h9 := (hX.nd hrl); h9) wcJ10 3 (by decide) q794 rfl (fun _ h9 => h9) rfl dJ5_rotateRight_18 ?_
  rcases xo_cases (R r) with ho21 | ⟨a21, ho21⟩
  · refine wz_opt (q := none) ho21 ?_
    refine lv_ifnullN (tgt := 32) X.x X.b dJ5_rotateRight_21 (by decide) ?_
    refine lv_aload_n X.x X.b dJ5_rotateRight_32 rfl (lv_at hl 0 rfl) ?_
    refine lv_aload_n X.x X.b dJ5_rotateRight_33 rfl (lv_at hl 2 rfl) ?_
    refine wa_get (v := va_rf (P p)) X hH (have h9 := (hX.nd hp); h9) wcJ10 4 (by decide) q796 rfl (fun _ h9 => h9) rfl dJ5_rotateRight_34 ?_
    refine wa_put X hH hS (have h9 := (hX.nd hrl); h9) wcJ10 4 (by decide) q796 rfl (fun _ h9 => h9) rfl rf_nar rf_fit (Nat.le_of_ble_eq_true rfl) dJ5_rotateRight_37 (fun w37 H locs ew hH hS => ?_)
    have hk : Fr m l w14 w37 := Fr.nd hrl ew
    have hX := hX.sP (x := P p) hrl ew
    have hK := hK.trans hk
    clear ew
    refine lv_aload_n X.x X.b dJ5_rotateRight_40 rfl (lv_at hl 2 rfl) ?_
    refine wa_get (v := va_rf ((nup P r (P p)) p)) X hH (have h9 := (hX.nd hp); h9) wcJ10 4 (by decide) q796 rfl (fun _ h9 => h9) rfl dJ5_rotateRight_41 ?_
    refine wz_opt (q := P p) (by first | (rw [nup_n hpr]; done) | (rw [nup_n hpr]; exact nup_n hxp)) ?_
    rcases xo_cases (P p) with ho44 | ⟨a44, ho44⟩
    · refine wz_opt (q := none) ho44 ?_
      refine lv_ifnonnullN X.x X.b dJ5_rotateRight_44 ?_
      refine lv_aload_n X.x X.b dJ5_rotateRight_47 rfl (lv_at hl 1 rfl) ?_
      refine lv_aload_n X.x X.b dJ5_rotateRight_48 rfl (lv_at hl 0 rfl) ?_
      refine wa_put X hH hS (have h9 := (hX.1); h9) wcJ5 3 (by decide) q237 rfl (fun _ h9 => h9) rfl rfl rfl (Nat.le_of_ble_eq_true rfl) dJ5_rotateRight_49 (fun w49 H locs ew hH hS => ?_)
      have hk : Fr m l w37 w49 := Fr.map ew
      have hX := hX.smap (ro2 := some r) (si2 := si) (mo2 := mo) (nv2 := nv) ew
      have hK := hK.trans hk
      clear ew
      refine lv_goto (tgt := 85) X.x X.b dJ5_rotateRight_52 (by decide) ?_
      refine lv_aload_n X.x X.b dJ5_rotateRight_85 rfl (lv_at hl 0 rfl) ?_
      refine lv_aload_n X.x X.b dJ5_rotateRight_86 rfl (lv_at hl 2 rfl) ?_
      refine wa_put X hH hS (have h9 := (hX.nd hrl); h9) wcJ10 3 (by decide) q794 rfl (fun _ h9 => h9) rfl rfl rfl (Nat.le_of_ble_eq_true rfl) dJ5_rotateRight_87 (fun w87 H locs ew hH hS => ?_)
      have hk : Fr m l w49 w87 := Fr.nd hrl ew
      have hX := hX.sR (x := some p) hrl ew
      have hK := hK.trans hk
      clear ew
      refine lv_aload_n X.x X.b dJ5_rotateRight_90 rfl (lv_at hl 2 rfl) ?_
      refine lv_aload_n X.x X.b dJ5_rotateRight_91 rfl (lv_at hl 0 rfl) ?_
      refine wa_put X hH hS (have h9 := (hX.nd hp); h9) wcJ10 4 (by decide) q796 rfl (fun _ h9 => h9) rfl rfl rfl (Nat.le_of_ble_eq_true rfl) dJ5_rotateRight_92 (fun w92 H locs ew hH hS => ?_)
      have hk : Fr m l w87 w92 := Fr.nd hp ew
      have hX := hX.sP (x := some r) hp ew
      have hK := hK.trans hk
      clear ew
      exact wa_vret X hH hS dJ5_rotateRight_95 ⟨(hX.congr fun n _ => ⟨(rt_root (R := L) ho44).2, (rt_root (R := L) ho44).1, (rt_P0 ho21), rfl⟩).cR (by rw [if_pos (htop.1 ho44)]), hK⟩
    · refine wz_opt (q := (some a44)) ho44 ?_
      obtain ⟨hq1, hq2, hq3⟩ := htop.2 a44 ho44
      have hqp : a44 ≠ p := fun e => by rw [e] at ho44; exact ht.irr hn hp ho44
      have hqr : a44 ≠ r := fun e => by rw [e] at ho44; exact ht.irr2 hn hp hrl ho44 hk1.2
      refine lv_ifnonnull (tgt := 55) X.x X.b dJ5_rotateRight_44 (by decide) ?_
      refine lv_aload_n X.x X.b dJ5_rotateRight_55 rfl (lv_at hl 2 rfl) ?_
      refine wa_get (v := va_rf ((nup P r (P p)) p)) X hH (have h9 := (hX.nd hp); h9) wcJ10 4 (by decide) q796 rfl (fun _ h9 => h9) rfl dJ5_rotateRight_56 ?_
      refine wz_opt (q := some a44) (by rw [nup_n hpr]; first | exact ho44 | (rw [nup_n hxp]; exact ho44)) ?_
      refine wa_get (v := va_rf (R a44)) X hH (have h9 := (hX.nd hq1); h9) wcJ10 3 (by decide) q794 rfl (fun _ h9 => h9) rfl dJ5_rotateRight_59 ?_
      refine lv_aload_n X.x X.b dJ5_rotateRight_62 rfl (lv_at hl 2 rfl) ?_
      refine lv_acmp_ne (rx := R a44) (ry := some p) (tgt := 77) X.x X.b dJ5_rotateRight_63 (by decide) (fun c63 => ?_) (fun c63 => ?_)
      · refine lv_aload_n X.x X.b dJ5_rotateRight_77 rfl (lv_at hl 2 rfl) ?_
        refine wa_get (v := va_rf ((nup P r (P p)) p)) X hH (have h9 := (hX.nd hp); h9) wcJ10 4 (by decide) q796 rfl (fun _ h9 => h9) rfl dJ5_rotateRight_78 ?_
        refine wz_opt (q := some a44) (by rw [nup_n hpr]; first | exact ho44 | (rw [nup_n hxp]; exact ho44)) ?_
        refine lv_aload_n X.x X.b dJ5_rotateRight_81 rfl (lv_at hl 0 rfl) ?_
        refine wa_put X hH hS (have h9 := (hX.nd hq1); h9) wcJ10 2 (by decide) q793 rfl (fun _ h9 => h9) rfl rfl rfl (Nat.le_of_ble_eq_true rfl) dJ5_rotateRight_82 (fun w82 H locs ew hH hS => ?_)
        have hk : Fr m l w37 w82 := Fr.nd hq1 ew
        have hX := hX.sL (x := some r) hq1 ew
        have hK := hK.trans hk
        clear ew
        refine lv_aload_n X.x X.b dJ5_rotateRight_85 rfl (lv_at hl 0 rfl) ?_
        refine lv_aload_n X.x X.b dJ5_rotateRight_86 rfl (lv_at hl 2 rfl) ?_
        refine wa_put X hH hS (have h9 := (hX.nd hrl); h9) wcJ10 3 (by decide) q794 rfl (fun _ h9 => h9) rfl rfl rfl (Nat.le_of_ble_eq_true rfl) dJ5_rotateRight_87 (fun w87 H locs ew hH hS => ?_)
        have hk : Fr m l w82 w87 := Fr.nd hrl ew
        have hX := hX.sR (x := some p) hrl ew
        have hK := hK.trans hk
        clear ew
        refine lv_aload_n X.x X.b dJ5_rotateRight_90 rfl (lv_at hl 2 rfl) ?_
        refine lv_aload_n X.x X.b dJ5_rotateRight_91 rfl (lv_at hl 0 rfl) ?_
        refine wa_put X hH hS (have h9 := (hX.nd hp); h9) wcJ10 4 (by decide) q796 rfl (fun _ h9 => h9) rfl rfl rfl (Nat.le_of_ble_eq_true rfl) dJ5_rotateRight_92 (fun w92 H locs ew hH hS => ?_)
        have hk : Fr m l w87 w92 := Fr.nd hp ew
        have hX := hX.sP (x := some r) hp ew
        have hK := hK.trans hk
        clear ew
        exact wa_vret X hH hS dJ5_rotateRight_95 ⟨(hX.congr fun n _ => ⟨(rt_right (R := L) ho44 c63 hqp).2, (rt_right (R := L) ho44 c63 hqp).1, (rt_P0 ho21), rfl⟩).cR (by rw [if_neg hq3]), hK⟩
      · refine lv_aload_n X.x X.b dJ5_rotateRight_66 rfl (lv_at hl 2 rfl) ?_
        refine wa_get (v := va_rf ((nup P r (P p)) p)) X hH (have h9 := (hX.nd hp); h9) wcJ10 4 (by decide) q796 rfl (fun _ h9 => h9) rfl dJ5_rotateRight_67 ?_
        refine wz_opt (q := some a44) (by rw [nup_n hpr]; first | exact ho44 | (rw [nup_n hxp]; exact ho44)) ?_
        refine lv_aload_n X.x X.b dJ5_rotateRight_70 rfl (lv_at hl 0 rfl) ?_
        refine wa_put X hH hS (have h9 := (hX.nd hq1); h9) wcJ10 3 (by decide) q794 rfl (fun _ h9 => h9) rfl rfl rfl (Nat.le_of_ble_eq_true rfl) dJ5_rotateRight_71 (fun w71 H locs ew hH hS => ?_)
        have hk : Fr m l w37 w71 := Fr.nd hq1 ew
        have hX := hX.sR (x := some r) hq1 ew
        have hK := hK.trans hk
        clear ew
        refine lv_goto (tgt := 85) X.x X.b dJ5_rotateRight_74 (by decide) ?_
        refine lv_aload_n X.x X.b dJ5_rotateRight_85 rfl (lv_at hl 0 rfl) ?_
        refine lv_aload_n X.x X.b dJ5_rotateRight_86 rfl (lv_at hl 2 rfl) ?_
        refine wa_put X hH hS (have h9 := (hX.nd hrl); h9) wcJ10 3 (by decide) q794 rfl (fun _ h9 => h9) rfl rfl rfl (Nat.le_of_ble_eq_true rfl) dJ5_rotateRight_87 (fun w87 H locs ew hH hS => ?_)
        have hk : Fr m l w71 w87 := Fr.nd hrl ew
        have hX := hX.sR (x := some p) hrl ew
        have hK := hK.trans hk
        clear ew
        refine lv_aload_n X.x X.b dJ5_rotateRight_90 rfl (lv_at hl 2 rfl) ?_
        refine lv_aload_n X.x X.b dJ5_rotateRight_91 rfl (lv_at hl 0 rfl) ?_
        refine wa_put X hH hS (have h9 := (hX.nd hp); h9) wcJ10 4 (by decide) q796 rfl (fun _ h9 => h9) rfl rfl rfl (Nat.le_of_ble_eq_true rfl) dJ5_rotateRight_92 (fun w92 H locs ew hH hS => ?_)
        have hk : Fr m l w87 w92 := Fr.nd hp ew
        have hX := hX.sP (x := some r) hp ew
        have hK := hK.trans hk
        clear ew
        exact wa_vret X hH hS dJ5_rotateRight_95 ⟨(hX.congr fun n _ => ⟨(rt_left (R := L) ho44 c63).2, (rt_left (R := L) ho44 c63).1, (rt_P0 ho21), rfl⟩).cR (by rw [if_neg hq3]), hK⟩
  · refine wz_opt (q := (some a21)) ho21 ?_
    have hx0 := (ht.kid r hrl).1 a21 ho21
    have hx1 := hx0.1
    have hxp : p ≠ a21 := fun e => by rw [← e] at hx0; exact ht.irr2 hn hp hrl hx0.2 hk1.2
    refine lv_ifnull X.x X.b dJ5_rotateRight_21 ?_
    refine lv_aload_n X.x X.b dJ5_rotateRight_24 rfl (lv_at hl 0 rfl) ?_
    refine wa_get (v := va_rf (R r)) X hH (have h9 := (hX.nd hrl); h9) wcJ10 3 (by decide) q794 rfl (fun _ h9 => h9) rfl dJ5_rotateRight_25 ?_
    refine wz_opt (q := some a21) (by exact ho21) ?_
    refine lv_aload_n X.x X.b dJ5_rotateRight_28 rfl (lv_at hl 2 rfl) ?_
    refine wa_put X hH hS (have h9 := (hX.nd hx1); h9) wcJ10 4 (by decide) q796 rfl (fun _ h9 => h9) rfl rfl rfl (Nat.le_of_ble_eq_true rfl) dJ5_rotateRight_29 (fun w29 H locs ew hH hS => ?_)
    have hk : Fr m l w14 w29 := Fr.nd hx1 ew
    have hX := hX.sP (x := some p) hx1 ew
    have hK := hK.trans hk
    clear ew
    refine lv_aload_n X.x X.b dJ5_rotateRight_32 rfl (lv_at hl 0 rfl) ?_
    refine lv_aload_n X.x X.b dJ5_rotateRight_33 rfl (lv_at hl 2 rfl) ?_
    refine wa_get (v := va_rf ((nup P a21 (some p)) p)) X hH (have h9 := (hX.nd hp); h9) wcJ10 4 (by decide) q796 rfl (fun _ h9 => h9) rfl dJ5_rotateRight_34 ?_
    refine wz_opt (q := P p) (by exact nup_n hxp) ?_
    refine wa_put X hH hS (have h9 := (hX.nd hrl); h9) wcJ10 4 (by decide) q796 rfl (fun _ h9 => h9) rfl rf_nar rf_fit (Nat.le_of_ble_eq_true rfl) dJ5_rotateRight_37 (fun w37 H locs ew hH hS => ?_)
    have hk : Fr m l w29 w37 := Fr.nd hrl ew
    have hX := hX.sP (x := P p) hrl ew
    have hK := hK.trans hk
    clear ew
    refine lv_aload_n X.x X.b dJ5_rotateRight_40 rfl (lv_at hl 2 rfl) ?_
    refine wa_get (v := va_rf ((nup (nup P a21 (some p)) r (P p)) p)) X hH (have h9 := (hX.nd hp); h9) wcJ10 4 (by decide) q796 rfl (fun _ h9 => h9) rfl dJ5_rotateRight_41 ?_
    refine wz_opt (q := P p) (by first | (rw [nup_n hpr]; done) | (rw [nup_n hpr]; exact nup_n hxp)) ?_
    rcases xo_cases (P p) with ho44 | ⟨a44, ho44⟩
    · refine wz_opt (q := none) ho44 ?_
      refine lv_ifnonnullN X.x X.b dJ5_rotateRight_44 ?_
      refine lv_aload_n X.x X.b dJ5_rotateRight_47 rfl (lv_at hl 1 rfl) ?_
      refine lv_aload_n X.x X.b dJ5_rotateRight_48 rfl (lv_at hl 0 rfl) ?_
      refine wa_put X hH hS (have h9 := (hX.1); h9) wcJ5 3 (by decide) q237 rfl (fun _ h9 => h9) rfl rfl rfl (Nat.le_of_ble_eq_true rfl) dJ5_rotateRight_49 (fun w49 H locs ew hH hS => ?_)
      have hk : Fr m l w37 w49 := Fr.map ew
      have hX := hX.smap (ro2 := some r) (si2 := si) (mo2 := mo) (nv2 := nv) ew
      have hK := hK.trans hk
      clear ew
      refine lv_goto (tgt := 85) X.x X.b dJ5_rotateRight_52 (by decide) ?_
      refine lv_aload_n X.x X.b dJ5_rotateRight_85 rfl (lv_at hl 0 rfl) ?_
      refine lv_aload_n X.x X.b dJ5_rotateRight_86 rfl (lv_at hl 2 rfl) ?_
      refine wa_put X hH hS (have h9 := (hX.nd hrl); h9) wcJ10 3 (by decide) q794 rfl (fun _ h9 => h9) rfl rfl rfl (Nat.le_of_ble_eq_true rfl) dJ5_rotateRight_87 (fun w87 H locs ew hH hS => ?_)
      have hk : Fr m l w49 w87 := Fr.nd hrl ew
      have hX := hX.sR (x := some p) hrl ew
      have hK := hK.trans hk
      clear ew
      refine lv_aload_n X.x X.b dJ5_rotateRight_90 rfl (lv_at hl 2 rfl) ?_
      refine lv_aload_n X.x X.b dJ5_rotateRight_91 rfl (lv_at hl 0 rfl) ?_
      refine wa_put X hH hS (have h9 := (hX.nd hp); h9) wcJ10 4 (by decide) q796 rfl (fun _ h9 => h9) rfl rfl rfl (Nat.le_of_ble_eq_true rfl) dJ5_rotateRight_92 (fun w92 H locs ew hH hS => ?_)
      have hk : Fr m l w87 w92 := Fr.nd hp ew
      have hX := hX.sP (x := some r) hp ew
      have hK := hK.trans hk
      clear ew
      exact wa_vret X hH hS dJ5_rotateRight_95 ⟨(hX.congr fun n _ => ⟨(rt_root (R := L) ho44).2, (rt_root (R := L) ho44).1, (rt_P1 ho21), rfl⟩).cR (by rw [if_pos (htop.1 ho44)]), hK⟩
    · refine wz_opt (q := (some a44)) ho44 ?_
      obtain ⟨hq1, hq2, hq3⟩ := htop.2 a44 ho44
      have hqp : a44 ≠ p := fun e => by rw [e] at ho44; exact ht.irr hn hp ho44
      have hqr : a44 ≠ r := fun e => by rw [e] at ho44; exact ht.irr2 hn hp hrl ho44 hk1.2
      refine lv_ifnonnull (tgt := 55) X.x X.b dJ5_rotateRight_44 (by decide) ?_
      refine lv_aload_n X.x X.b dJ5_rotateRight_55 rfl (lv_at hl 2 rfl) ?_
      refine wa_get (v := va_rf ((nup (nup P a21 (some p)) r (P p)) p)) X hH (have h9 := (hX.nd hp); h9) wcJ10 4 (by decide) q796 rfl (fun _ h9 => h9) rfl dJ5_rotateRight_56 ?_
      refine wz_opt (q := some a44) (by rw [nup_n hpr]; first | exact ho44 | (rw [nup_n hxp]; exact ho44)) ?_
      refine wa_get (v := va_rf (R a44)) X hH (have h9 := (hX.nd hq1); h9) wcJ10 3 (by decide) q794 rfl (fun _ h9 => h9) rfl dJ5_rotateRight_59 ?_
      refine lv_aload_n X.x X.b dJ5_rotateRight_62 rfl (lv_at hl 2 rfl) ?_
      refine lv_acmp_ne (rx := R a44) (ry := some p) (tgt := 77) X.x X.b dJ5_rotateRight_63 (by decide) (fun c63 => ?_) (fun c63 => ?_)
      · refine lv_aload_n X.x X.b dJ5_rotateRight_77 rfl (lv_at hl 2 rfl) ?_
        refine wa_get (v := va_rf ((nup (nup P a21 (some p)) r (P p)) p)) X hH (have h9 := (hX.nd hp); h9) wcJ10 4 (by decide) q796 rfl (fun _ h9 => h9) rfl dJ5_rotateRight_78 ?_
        refine wz_opt (q := some a44) (by rw [nup_n hpr]; first | exact ho44 | (rw [nup_n hxp]; exact ho44)) ?_
        refine lv_aload_n X.x X.b dJ5_rotateRight_81 rfl (lv_at hl 0 rfl) ?_
        refine wa_put X hH hS (have h9 := (hX.nd hq1); h9) wcJ10 2 (by decide) q793 rfl (fun _ h9 => h9) rfl rfl rfl (Nat.le_of_ble_eq_true rfl) dJ5_rotateRight_82 (fun w82 H locs ew hH hS => ?_)
        have hk : Fr m l w37 w82 := Fr.nd hq1 ew
        have hX := hX.sL (x := some r) hq1 ew
        have hK := hK.trans hk
        clear ew
        refine lv_aload_n X.x X.b dJ5_rotateRight_85 rfl (lv_at hl 0 rfl) ?_
        refine lv_aload_n X.x X.b dJ5_rotateRight_86 rfl (lv_at hl 2 rfl) ?_
        refine wa_put X hH hS (have h9 := (hX.nd hrl); h9) wcJ10 3 (by decide) q794 rfl (fun _ h9 => h9) rfl rfl rfl (Nat.le_of_ble_eq_true rfl) dJ5_rotateRight_87 (fun w87 H locs ew hH hS => ?_)
        have hk : Fr m l w82 w87 := Fr.nd hrl ew
        have hX := hX.sR (x := some p) hrl ew
        have hK := hK.trans hk
        clear ew
        refine lv_aload_n X.x X.b dJ5_rotateRight_90 rfl (lv_at hl 2 rfl) ?_
        refine lv_aload_n X.x X.b dJ5_rotateRight_91 rfl (lv_at hl 0 rfl) ?_
        refine wa_put X hH hS (have h9 := (hX.nd hp); h9) wcJ10 4 (by decide) q796 rfl (fun _ h9 => h9) rfl rfl rfl (Nat.le_of_ble_eq_true rfl) dJ5_rotateRight_92 (fun w92 H locs ew hH hS => ?_)
        have hk : Fr m l w87 w92 := Fr.nd hp ew
        have hX := hX.sP (x := some r) hp ew
        have hK := hK.trans hk
        clear ew
        exact wa_vret X hH hS dJ5_rotateRight_95 ⟨(hX.congr fun n _ => ⟨(rt_right (R := L) ho44 c63 hqp).2, (rt_right (R := L) ho44 c63 hqp).1, (rt_P1 ho21), rfl⟩).cR (by rw [if_neg hq3]), hK⟩
      · refine lv_aload_n X.x X.b dJ5_rotateRight_66 rfl (lv_at hl 2 rfl) ?_
        refine wa_get (v := va_rf ((nup (nup P a21 (some p)) r (P p)) p)) X hH (have h9 := (hX.nd hp); h9) wcJ10 4 (by decide) q796 rfl (fun _ h9 => h9) rfl dJ5_rotateRight_67 ?_
        refine wz_opt (q := some a44) (by rw [nup_n hpr]; first | exact ho44 | (rw [nup_n hxp]; exact ho44)) ?_
        refine lv_aload_n X.x X.b dJ5_rotateRight_70 rfl (lv_at hl 0 rfl) ?_
        refine wa_put X hH hS (have h9 := (hX.nd hq1); h9) wcJ10 3 (by decide) q794 rfl (fun _ h9 => h9) rfl rfl rfl (Nat.le_of_ble_eq_true rfl) dJ5_rotateRight_71 (fun w71 H locs ew hH hS => ?_)
        have hk : Fr m l w37 w71 := Fr.nd hq1 ew
        have hX := hX.sR (x := some r) hq1 ew
        have hK := hK.trans hk
        clear ew
        refine lv_goto (tgt := 85) X.x X.b dJ5_rotateRight_74 (by decide) ?_
        refine lv_aload_n X.x X.b dJ5_rotateRight_85 rfl (lv_at hl 0 rfl) ?_
        refine lv_aload_n X.x X.b dJ5_rotateRight_86 rfl (lv_at hl 2 rfl) ?_
        refine wa_put X hH hS (have h9 := (hX.nd hrl); h9) wcJ10 3 (by decide) q794 rfl (fun _ h9 => h9) rfl rfl rfl (Nat.le_of_ble_eq_true rfl) dJ5_rotateRight_87 (fun w87 H locs ew hH hS => ?_)
        have hk : Fr m l w71 w87 := Fr.nd hrl ew
        have hX := hX.sR (x := some p) hrl ew
        have hK := hK.trans hk
        clear ew
        refine lv_aload_n X.x X.b dJ5_rotateRight_90 rfl (lv_at hl 2 rfl) ?_
        refine lv_aload_n X.x X.b dJ5_rotateRight_91 rfl (lv_at hl 0 rfl) ?_
        refine wa_put X hH hS (have h9 := (hX.nd hp); h9) wcJ10 4 (by decide) q796 rfl (fun _ h9 => h9) rfl rfl rfl (Nat.le_of_ble_eq_true rfl) dJ5_rotateRight_92 (fun w92 H locs ew hH hS => ?_)
        have hk : Fr m l w87 w92 := Fr.nd hp ew
        have hX := hX.sP (x := some r) hp ew
        have hK := hK.trans hk
        clear ew
        exact wa_vret X hH hS dJ5_rotateRight_95 ⟨(hX.congr fun n _ => ⟨(rt_left (R := L) ho44 c63).2, (rt_left (R := L) ho44 c63).1, (rt_P1 ho21), rfl⟩).cR (by rw [if_neg hq3]), hK⟩

/-! PICTURES, STATES -/
set_option maxRecDepth 100000 in
theorem mX5_less {lL : Launch} {G : wa_G} {w : wa_W} {qa : Nat} {qb : Nat} {a1 : Int} {b1 : Int} {a2 : Int} {b2 : Int} (e1 : At w qa (eO 5 [.long (lI a1), .long (lI b1)])) (e2 : At w qb (eO 5 [.long (lI a2), .long (lI b2)])) (h0 : -9223372036854775807 ≤ -a2 ∧ -a2 < 9223372036854775808) (h1 : 0 < b2 ∧ b2 < 9223372036854775808) (hn : -9223372036854775807 ≤ a1 * lowB (-a2) b2 + lowA (-a2) b2 * b1 ∧ a1 * lowB (-a2) b2 + lowA (-a2) b2 * b1 < 9223372036854775808) (hd : 0 < b1 * lowB (-a2) b2 ∧ b1 * lowB (-a2) b2 < 9223372036854775808) : Met lL yX5_less (ws_ yX5_less cX5_less 2 (some (FieldType.object "PictureRing$Fraction"))) ({ frames := 4, cells := 2, slots := 4, locals := 97 } : Room) (wa_P G w [.ref qa, .ref qb]) (wa_Qr G fun r u => ∃ q, r = some q ∧ w q = none ∧ u q = some (eO 5 [.long (lI (lowA (a1 * lowB (-a2) b2 + lowA (-a2) b2 * b1) (b1 * lowB (-a2) b2))), .long (lI (lowB (a1 * lowB (-a2) b2 + lowA (-a2) b2 * b1) (b1 * lowB (-a2) b2)))]) ∧ Ext w u) 2 4 (wa_A G) := by
  refine wa_met (by decide) (by exact Nat.le_of_ble_eq_true rfl) ?_
  intro pP eE sS mM aA bB mT cC ls X hl hH
  have hS : va_S (wa_A G) sS.heap sS.heap [] := va_S.rf
  have hl : lv_has ls 2 [(0, .ref qa), (1, .ref qb)] := hl
  have hK : Ext w w := Ext.rf
  refine lv_aload_n X.x X.b dX5_less_0 rfl (lv_at hl 0 rfl) ?_
  have hK_1 := hK
  have e1_1 := e1
  have e2_1 := e2
  refine wa_new X hH hS wcX5 rfl q1315 q317 q122 [.long (lI 0), .long (lI 0)] (by decide) (Nat.le_of_ble_eq_true rfl) (Nat.le_of_ble_eq_true rfl) dX5_less_1 (fun q1 w1 H hn1 ew hH hS => ?_)
  have hk0 := Ext.new hn1 ew
  have hk := hk0
  have e1 := e1.ex hk
  have e2 := e2.ex hk
  have hK := hK.trans hk
  have hN1 := hk
  have n1 : At w1 q1 (eO 5 [.long (lI 0), .long (lI 0)]) := by show _ = _; rw [ew]; exact wup_s
  clear ew hk0
  refine lv_dup X.x X.b dX5_less_4 rfl ?_
  refine lv_aload_n X.x X.b dX5_less_5 rfl (lv_at hl 1 rfl) ?_
  refine wa_get (v := .long (lI a2)) X hH e2 wcX5 0 (by decide) q331 rfl (fun _ h9 => h9) rfl dX5_less_6 ?_
  refine wz_lneg X.x X.b dX5_less_9 ?_
  refine lv_aload_n X.x X.b dX5_less_10 rfl (lv_at hl 1 rfl) ?_
  refine wa_get (v := .long (lI b2)) X hH e2 wcX5 1 (by decide) q333 rfl (fun _ h9 => h9) rfl dX5_less_11 ?_
  refine wa_cv hS (wa_rI (rest := [.ref q1, .ref qa]) X hH (mX5_init_2  (show At w1 q1 (eO 5 [.long (lI 0), .long (lI 0)]) from n1) (-a2) b2 (show -9223372036854775807 ≤ (-a2) ∧ (-a2) < 9223372036854775808 by first | assumption | omega) (show 0 < b2 ∧ b2 < 9223372036854775808 by first | assumption | omega)) (cwI 2 X.t (lw_meth q323) rfl rfl rfl (X.t _ q122) (X.t _ q321) (X.t _ q322) rfl hdX5_init_2.2 ⟨Nat.le_of_ble_eq_true rfl, Nat.le_of_ble_eq_true rfl⟩) rfl rfl hl.1 rfl (Nat.le_of_ble_eq_true rfl) dX5_less_14 ⟨Nat.le_of_ble_eq_true rfl, Nat.le_of_ble_eq_true rfl⟩) (fun w14 H locs hp hH hS => ?_)
  obtain ⟨hi, hO2⟩ := hp
  have hOq := hO2
  have hk := Ext.init hn1 hN1 hOq
  have e1 := e1_1.ex hk
  have e2 := e2_1.ex hk
  have hK := hK_1.trans hk
  have hN1 := hk
  have n1 : At w14 q1 (eO 5 [.long (lI (lowA (-a2) b2)), .long (lI (lowB (-a2) b2))]) := hi
  have hK_17 := hK
  have e1_17 := e1
  have e2_17 := e2
  have hN1_17 := hN1
  have n1_17 := n1
  refine wa_cr hS (wa_rV (rest := []) X hH (mX5_and  (show At w14 qa (eO 5 [.long (lI a1), .long (lI b1)]) from e1) (show At w14 q1 (eO 5 [.long (lI (lowA (-a2) b2)), .long (lI (lowB (-a2) b2))]) from n1)  (show -9223372036854775807 ≤ a1 * (lowB (-a2) b2) + (lowA (-a2) b2) * b1 ∧ a1 * (lowB (-a2) b2) + (lowA (-a2) b2) * b1 < 9223372036854775808 by first | assumption | omega) (show 0 < b1 * (lowB (-a2) b2) ∧ b1 * (lowB (-a2) b2) < 9223372036854775808 by first | assumption | omega)) (cwV 1 X.t (lw_V q1332 q1312 q1313 q122 q1314) rfl rfl rfl hdX5_and ⟨Nat.le_of_ble_eq_true rfl, Nat.le_of_ble_eq_true rfl⟩) rfl e1 rfl rfl hl.1 rfl (Nat.le_of_ble_eq_true rfl) dX5_less_17 ⟨Nat.le_of_ble_eq_true rfl, Nat.le_of_ble_eq_true rfl⟩) (fun r17 w17 H locs hp hH hS => ?_)
  obtain ⟨q17, rfl, hn17, hi17, hE⟩ := hp
  have hk := hE
  have e1 := e1.ex hk
  have e2 := e2.ex hk
  have hN1 := hN1.trans hk
  have n1 := n1.ex hk
  have hK := hK.trans hk
  have n17 : At w17 q17 (eO 5 [.long (lI (lowA (a1 * (lowB (-a2) b2) + (lowA (-a2) b2) * b1) (b1 * (lowB (-a2) b2)))), .long (lI (lowB (a1 * (lowB (-a2) b2) + (lowA (-a2) b2) * b1) (b1 * (lowB (-a2) b2))))]) := hi17
  refine W.widen (k := 2) (n := 4) (by first | exact Nat.le_of_ble_eq_true rfl | omega) (by first | exact Nat.le_of_ble_eq_true rfl | omega) ?_
  exact wa_aret X (Or.inl ⟨_, rfl⟩) hH hS (some q17) dX5_less_20 ⟨_, rfl, Ext.no hK_17 hn17, n17, hK⟩
set_option maxRecDepth 100000 in
theorem mX8_with {lL : Launch} {G : wa_G} {ad : Nat → Nat} {w : wa_W} {S : Nat → Int} {A : Nat → Int → Int} {B : Nat → Int → Option Nat} {P : Nat → Option Nat} (hX : XW G ad w S A B P) {p : Nat} {b : Nat} {f : Int → Int} {x : Int} {y : Int} {n : Int} (hp : Pic G ad w p b f x y n) (r0 : Int) (c : Int) (v : Int) (h : 0 ≤ 8 * r0 + c ∧ 8 * r0 + c < 32) : Met lL yX8_with (ws_ yX8_with cX8_with 5 (some (FieldType.object "PictureRing$Picture"))) ({ frames := 2, cells := 2, slots := 36, locals := 44 } : Room) (wa_P G w [.ref p, .int (zI r0), .int (zI c), .int (zI v)]) (wa_Qr G fun r u => ∃ (p2 : Nat) (b2 : Nat), XW G ad u S A B P ∧ Kp ad w u ∧ (r = some p2) ∧ (Pic G ad u p2 b2 (fup f (8 * r0 + c) v) x y n)) 2 36 (wa_A G) := by
  refine wa_met (by decide) (by exact Nat.le_of_ble_eq_true rfl) ?_
  intro pP eE sS mM aA bB mT cC ls X hl hH
  have hS : va_S (wa_A G) sS.heap sS.heap [] := va_S.rf
  have hl : lv_has ls 5 [(0, .ref p), (1, .int (zI r0)), (2, .int (zI c)), (3, .int (zI v))] := hl
  have hK : Kp ad w w := Kp.rf
  refine lv_aload_n X.x X.b dX8_with_0 rfl (lv_at hl 0 rfl) ?_
  refine wa_get (v := .ref b) X hH hp.1.2 wcX8 0 (by decide) q547 rfl (fun _ h9 => h9) rfl dX8_with_1 ?_
  have hX_4 := hX
  have hK_4 := hK
  have hp_4 := hp
  refine wa_clone (rest := []) (n := 32) (f := f) X hH hS hp.2.2 rfl q585 hl.1 (Nat.le_of_ble_eq_true rfl) (Nat.le_of_ble_eq_true rfl) (Nat.le_of_ble_eq_true rfl) (Nat.le_of_ble_eq_true rfl) dX8_with_4 (fun q4 w4 H hn4 ew hH hS => ?_)
  have hk0 := Ext.new hn4 ew
  have hX := hX.ext hk0
  have hk := hk0.k (ad := ad)
  have hp := hp.kp hk
  have hK := hK.kp hk
  have hN4 := hk
  have n4 : Lc ad w4 q4 (eI G 32 f) := Lc.new hX_4 hn4 (by rw [ew]; exact wup_s)
  clear ew hk0
  refine wa_castI X hH n4.2 rfl q586 dX8_with_7 ?_
  refine lv_astore (lv' := [(4, .ref q4), (0, .ref p), (1, .int (zI r0)), (2, .int (zI c)), (3, .int (zI v))]) X.x X.b dX8_with_10 hl (by decide) rfl (fun ls hl => ?_)
  refine lv_aload X.x X.b dX8_with_12 (lv_at hl 0 rfl) ?_
  refine wz_bipush X.x X.b dX8_with_14 rfl ?_
  refine lv_iload_n X.x X.b dX8_with_16 rfl (lv_at hl 2 rfl) ?_
  refine wz_imul X.x X.b dX8_with_17 ?_
  refine lv_iload_n X.x X.b dX8_with_18 rfl (lv_at hl 3 rfl) ?_
  refine wz_iadd X.x X.b dX8_with_19 ?_
  refine lv_iload_n X.x X.b dX8_with_20 rfl (lv_at hl 4 rfl) ?_
  refine wa_iast (f := f) X hH hS n4.2 (by omega) (by omega) (by omega) dX8_with_21 (fun w21 H locs ew hH hS => ?_)
  have hOq : Off q4 w4 w21 := Off.rf.put ew
  have hk := Kp.init hn4 hN4 hOq
  have hX := hX_4.init hn4 hX hOq
  have hp := hp_4.kp hk
  have hK := hK_4.kp hk
  have hN4 := hk
  have n4 : Lc ad w21 q4 (eI G 32 (fup f ((8 * r0) + c) v)) := Lc.new hX_4 hn4 (by rw [ew]; exact wup_s)
  clear ew
  have hX_22 := hX
  have hK_22 := hK
  have hp_22 := hp
  have hN4_22 := hN4
  have n4_22 := n4
  refine wa_new X hH hS wcX8 rfl q587 q542 q126 [.null, .int (zI 0), .int (zI 0), .int (zI 0)] (by decide) (Nat.le_of_ble_eq_true rfl) (Nat.le_of_ble_eq_true rfl) dX8_with_22 (fun q22 w22 H hn22 ew hH hS => ?_)
  have hk0 := Ext.new hn22 ew
  have hX := hX.ext hk0
  have hk := hk0.k (ad := ad)
  have hp := hp.kp hk
  have hN4 := hN4.kp hk
  have n4 := n4.kp hk
  have hK := hK.kp hk
  have hN22 := hk
  have n22 : Lc ad w22 q22 (eO 8 [.null, .int (zI 0), .int (zI 0), .int (zI 0)]) := Lc.new hX_22 hn22 (by rw [ew]; exact wup_s)
  clear ew hk0
  refine lv_dup X.x X.b dX8_with_25 rfl ?_
  refine lv_aload X.x X.b dX8_with_26 (lv_at hl 0 rfl) ?_
  refine lv_aload_n X.x X.b dX8_with_28 rfl (lv_at hl 1 rfl) ?_
  refine wa_get (v := .int (zI x)) X hH hp.1.2 wcX8 1 (by decide) q549 rfl (fun _ h9 => h9) rfl dX8_with_29 ?_
  refine lv_aload_n X.x X.b dX8_with_32 rfl (lv_at hl 1 rfl) ?_
  refine wa_get (v := .int (zI y)) X hH hp.1.2 wcX8 2 (by decide) q551 rfl (fun _ h9 => h9) rfl dX8_with_33 ?_
  refine lv_aload_n X.x X.b dX8_with_36 rfl (lv_at hl 1 rfl) ?_
  refine wa_get (v := .int (zI n)) X hH hp.1.2 wcX8 3 (by decide) q553 rfl (fun _ h9 => h9) rfl dX8_with_37 ?_
  refine wa_cv hS (wa_rI (rest := [.ref q22]) X hH (mX8_init  (show At w22 q22 (eO 8 [.null, .int (zI 0), .int (zI 0), .int (zI 0)]) from n22.2) x y n ) (cwI 4 X.t (lw_meth q545) rfl rfl rfl (X.t _ q126) (X.t _ q588) (X.t _ q544) rfl hdX8_init.2 ⟨Nat.le_of_ble_eq_true rfl, Nat.le_of_ble_eq_true rfl⟩) rfl rfl hl.1 rfl (Nat.le_of_ble_eq_true rfl) dX8_with_40 ⟨Nat.le_of_ble_eq_true rfl, Nat.le_of_ble_eq_true rfl⟩) (fun w40 H locs hp hH hS => ?_)
  obtain ⟨hi, hO2⟩ := hp
  have hOq := hO2
  have hk := Kp.init hn22 hN22 hOq
  have hX := hX_22.init hn22 hX hOq
  have hp := hp_22.kp hk
  have hN4 := hN4_22.kp hk
  have n4 := n4_22.kp hk
  have hK := hK_22.kp hk
  have hN22 := hk
  have n22 : Lc ad w40 q22 (eO 8 [.ref q4, .int (zI x), .int (zI y), .int (zI n)]) := Lc.new hX_22 hn22 hi
  refine W.widen (k := 2) (n := 36) (by first | exact Nat.le_of_ble_eq_true rfl | omega) (by first | exact Nat.le_of_ble_eq_true rfl | omega) ?_
  exact wa_aret X (Or.inl ⟨_, rfl⟩) hH hS (some q22) dX8_with_43 ⟨_, _, hX, hK, rfl, n22, n4⟩
set_option maxRecDepth 100000 in
theorem mX0_lambda_way_0 {lL : Launch} {G : wa_G} {w : wa_W} {p : Nat} {b : Nat} {f : Int → Int} {x : Int} {y : Int} {n : Int} (e1 : At w p (eO 8 [.ref b, .int (zI x), .int (zI y), .int (zI n)])) (e2 : At w b (eI G 32 f)) (dr : Int) (dc : Int) (r : Int) (c : Int) (hr : 1 ≤ r ∧ r ≤ 2) (hc : 1 ≤ c ∧ c ≤ 6) (hdr : -1 ≤ dr ∧ dr ≤ 1) (hdc : -1 ≤ dc ∧ dc ≤ 1) (hf : cB f) : Met lL yX0_lambda_way_0 (ws_ yX0_lambda_way_0 cX0_lambda_way_0 5 (some FieldType.int)) ({ frames := 1, cells := 0, slots := 0, locals := 22 } : Room) (wa_P G w [.int (zI dr), .int (zI dc), .ref p, .int (zI r), .int (zI c)]) (wa_Qz G fun z u => z = prF f r c dr dc ∧ w = u) 0 0 (wa_A G) := by
  refine wa_met (by decide) (by exact Nat.le_of_ble_eq_true rfl) ?_
  intro pP eE sS mM aA bB mT cC ls X hl hH
  have hS : va_S (wa_A G) sS.heap sS.heap [] := va_S.rf
  have hl : lv_has ls 5 [(0, .int (zI dr)), (1, .int (zI dc)), (2, .ref p), (3, .int (zI r)), (4, .int (zI c))] := hl
  have hK : Ext w w := Ext.rf
  have h1 := hf (8 * r + c) (by omega) (by omega)
  have h2 := hf (8 * (r - dr) + (c - dc)) (by omega) (by omega)
  have h3 := hf (8 * (r + dr) + (c + dc)) (by omega) (by omega)
  refine lv_aload_n X.x X.b dX0_lambda_way_0_0 rfl (lv_at hl 2 rfl) ?_
  refine lv_iload_n X.x X.b dX0_lambda_way_0_1 rfl (lv_at hl 3 rfl) ?_
  refine lv_iload X.x X.b dX0_lambda_way_0_2 (lv_at hl 4 rfl) ?_
  refine wa_ci hS (wa_rV (rest := []) X hH (mX8_at  (show At w p (eO 8 [.ref b, .int (zI x), .int (zI y), .int (zI n)]) from e1) (show At w b (eI G 32 f) from e2) r c (show 0 ≤ 8 * r + c ∧ 8 * r + c < 32 by first | assumption | omega)) (cwV 2 X.t (lw_V q199 q200 q201 q126 q202) rfl rfl rfl hdX8_at ⟨Nat.le_of_ble_eq_true rfl, Nat.le_of_ble_eq_true rfl⟩) rfl e1 rfl rfl hl.1 rfl (Nat.le_of_ble_eq_true rfl) dX0_lambda_way_0_4 ⟨Nat.le_of_ble_eq_true rfl, Nat.le_of_ble_eq_true rfl⟩) (fun z w4 H locs hp hH hS => ?_)
  obtain ⟨rfl, hw⟩ := hp
  rw [← hw] at hH; clear hw
  refine lv_aload_n X.x X.b dX0_lambda_way_0_7 rfl (lv_at hl 2 rfl) ?_
  refine lv_iload_n X.x X.b dX0_lambda_way_0_8 rfl (lv_at hl 3 rfl) ?_
  refine lv_iload_n X.x X.b dX0_lambda_way_0_9 rfl (lv_at hl 0 rfl) ?_
  refine wz_isub X.x X.b dX0_lambda_way_0_10 ?_
  refine lv_iload X.x X.b dX0_lambda_way_0_11 (lv_at hl 4 rfl) ?_
  refine lv_iload_n X.x X.b dX0_lambda_way_0_13 rfl (lv_at hl 1 rfl) ?_
  refine wz_isub X.x X.b dX0_lambda_way_0_14 ?_
  refine wa_ci hS (wa_rV (rest := [.int (zI (f (8 * r + c)))]) X hH (mX8_at  (show At w p (eO 8 [.ref b, .int (zI x), .int (zI y), .int (zI n)]) from e1) (show At w b (eI G 32 f) from e2) (r - dr) (c - dc) (show 0 ≤ 8 * (r - dr) + (c - dc) ∧ 8 * (r - dr) + (c - dc) < 32 by first | assumption | omega)) (cwV 2 X.t (lw_V q199 q200 q201 q126 q202) rfl rfl rfl hdX8_at ⟨Nat.le_of_ble_eq_true rfl, Nat.le_of_ble_eq_true rfl⟩) rfl e1 rfl rfl hl.1 rfl (Nat.le_of_ble_eq_true rfl) dX0_lambda_way_0_15 ⟨Nat.le_of_ble_eq_true rfl, Nat.le_of_ble_eq_true rfl⟩) (fun z w15 H locs hp hH hS => ?_)
  obtain ⟨rfl, hw⟩ := hp
  rw [← hw] at hH; clear hw
  refine wz_isub X.x X.b dX0_lambda_way_0_18 ?_
  refine wa_ci hS (wa_rS (rest := []) X hH (mJ0_abs _  ((f (8 * r + c)) - (f (8 * (r - dr) + (c - dc)))) (show rI ((f (8 * r + c)) - (f (8 * (r - dr) + (c - dc)))) by first | assumption | omega)) (va_cwS 1 X.t (lw_S q203 q204 q111 q205) rfl rfl rfl hdJ0_abs.2 ⟨Nat.le_of_ble_eq_true rfl, Nat.le_of_ble_eq_true rfl⟩) rfl rfl hl.1 rfl (Nat.le_of_ble_eq_true rfl) dX0_lambda_way_0_19 ⟨Nat.le_of_ble_eq_true rfl, Nat.le_of_ble_eq_true rfl⟩) (fun z w19 H locs hp hH hS => ?_)
  obtain ⟨rfl, hw⟩ := hp
  rw [← hw] at hH; clear hw
  refine lv_aload_n X.x X.b dX0_lambda_way_0_22 rfl (lv_at hl 2 rfl) ?_
  refine lv_iload_n X.x X.b dX0_lambda_way_0_23 rfl (lv_at hl 3 rfl) ?_
  refine lv_iload X.x X.b dX0_lambda_way_0_24 (lv_at hl 4 rfl) ?_
  refine wa_ci hS (wa_rV (rest := [.int (zI (Int.natAbs ((f (8 * r + c)) - (f (8 * (r - dr) + (c - dc)))) : Int))]) X hH (mX8_at  (show At w p (eO 8 [.ref b, .int (zI x), .int (zI y), .int (zI n)]) from e1) (show At w b (eI G 32 f) from e2) r c (show 0 ≤ 8 * r + c ∧ 8 * r + c < 32 by first | assumption | omega)) (cwV 2 X.t (lw_V q199 q200 q201 q126 q202) rfl rfl rfl hdX8_at ⟨Nat.le_of_ble_eq_true rfl, Nat.le_of_ble_eq_true rfl⟩) rfl e1 rfl rfl hl.1 rfl (Nat.le_of_ble_eq_true rfl) dX0_lambda_way_0_26 ⟨Nat.le_of_ble_eq_true rfl, Nat.le_of_ble_eq_true rfl⟩) (fun z w26 H locs hp hH hS => ?_)
  obtain ⟨rfl, hw⟩ := hp
  rw [← hw] at hH; clear hw
  refine lv_aload_n X.x X.b dX0_lambda_way_0_29 rfl (lv_at hl 2 rfl) ?_
  refine lv_iload_n X.x X.b dX0_lambda_way_0_30 rfl (lv_at hl 3 rfl) ?_
  refine lv_iload_n X.x X.b dX0_lambda_way_0_31 rfl (lv_at hl 0 rfl) ?_
  refine wz_iadd X.x X.b dX0_lambda_way_0_32 ?_
  refine lv_iload X.x X.b dX0_lambda_way_0_33 (lv_at hl 4 rfl) ?_
  refine lv_iload_n X.x X.b dX0_lambda_way_0_35 rfl (lv_at hl 1 rfl) ?_
  refine wz_iadd X.x X.b dX0_lambda_way_0_36 ?_
  refine wa_ci hS (wa_rV (rest := [.int (zI (f (8 * r + c))), .int (zI (Int.natAbs ((f (8 * r + c)) - (f (8 * (r - dr) + (c - dc)))) : Int))]) X hH (mX8_at  (show At w p (eO 8 [.ref b, .int (zI x), .int (zI y), .int (zI n)]) from e1) (show At w b (eI G 32 f) from e2) (r + dr) (c + dc) (show 0 ≤ 8 * (r + dr) + (c + dc) ∧ 8 * (r + dr) + (c + dc) < 32 by first | assumption | omega)) (cwV 2 X.t (lw_V q199 q200 q201 q126 q202) rfl rfl rfl hdX8_at ⟨Nat.le_of_ble_eq_true rfl, Nat.le_of_ble_eq_true rfl⟩) rfl e1 rfl rfl hl.1 rfl (Nat.le_of_ble_eq_true rfl) dX0_lambda_way_0_37 ⟨Nat.le_of_ble_eq_true rfl, Nat.le_of_ble_eq_true rfl⟩) (fun z w37 H locs hp hH hS => ?_)
  obtain ⟨rfl, hw⟩ := hp
  rw [← hw] at hH; clear hw
  refine wz_isub X.x X.b dX0_lambda_way_0_40 ?_
  refine wa_ci hS (wa_rS (rest := [.int (zI (Int.natAbs ((f (8 * r + c)) - (f (8 * (r - dr) + (c - dc)))) : Int))]) X hH (mJ0_abs _  ((f (8 * r + c)) - (f (8 * (r + dr) + (c + dc)))) (show rI ((f (8 * r + c)) - (f (8 * (r + dr) + (c + dc)))) by first | assumption | omega)) (va_cwS 1 X.t (lw_S q203 q204 q111 q205) rfl rfl rfl hdJ0_abs.2 ⟨Nat.le_of_ble_eq_true rfl, Nat.le_of_ble_eq_true rfl⟩) rfl rfl hl.1 rfl (Nat.le_of_ble_eq_true rfl) dX0_lambda_way_0_41 ⟨Nat.le_of_ble_eq_true rfl, Nat.le_of_ble_eq_true rfl⟩) (fun z w41 H locs hp hH hS => ?_)
  obtain ⟨rfl, hw⟩ := hp
  rw [← hw] at hH; clear hw
  refine wz_iadd X.x X.b dX0_lambda_way_0_44 ?_
  exact wa_iret X hH hS dX0_lambda_way_0_45 ⟨by first | rfl | omega | assumption, rfl⟩
set_option maxRecDepth 100000 in
theorem mX2_change {lL : Launch} {G : wa_G} {ad : Nat → Nat} {w : wa_W} {S : Nat → Int} {A : Nat → Int → Int} {B : Nat → Int → Option Nat} {P : Nat → Option Nat} (hX : XW G ad w S A B P) {p : Nat} {b : Nat} {f : Int → Int} {x : Int} {y : Int} {n : Int} (hp : Pic G ad w p b f x y n) (hWY : WAYS G ad w (B 5)) (r : Int) (c : Int) (hr : 1 ≤ r ∧ r ≤ 2) (hc : 1 ≤ c ∧ c ≤ 6) (hf : cB f) : Met lL yX2_change (ws_ yX2_change cX2_change 9 (some FieldType.int)) ({ frames := 3, cells := 0, slots := 0, locals := 69 } : Room) (wa_P G w [.ref (ad 24), .ref p, .int (zI r), .int (zI c)]) (wa_Qz G fun z u => z = chF f r c ∧ w = u) 0 0 (wa_A G) := by
  refine wa_met (by decide) (by exact Nat.le_of_ble_eq_true rfl) ?_
  intro pP eE sS mM aA bB mT cC ls X hl hH
  have hS : va_S (wa_A G) sS.heap sS.heap [] := va_S.rf
  have hl : lv_has ls 9 [(0, .ref (ad 24)), (1, .ref p), (2, .int (zI r)), (3, .int (zI c))] := hl
  have hK : Kp ad w w := Kp.rf
  refine wz_ldc (n := 1000000) X.x X.b X.own (X.t _ q622) rfl dX2_change_0 ?_
  refine lv_istore (lv' := [(4, .int (zI 1000000)), (0, .ref (ad 24)), (1, .ref p), (2, .int (zI r)), (3, .int (zI c))]) X.x X.b dX2_change_2 hl (by decide) rfl (fun ls hl => ?_)
  refine lv_aload_n X.x X.b dX2_change_4 rfl (lv_at hl 1 rfl) ?_
  refine wa_get (v := .ref (ad 0)) X hH (have h9 := (XW.c24 hX); h9) wcX2 15 (by decide) q368 rfl (fun _ h9 => h9) rfl dX2_change_5 ?_
  refine wa_getN (v := .ref (ad 23)) X hH (have h9 := (XW.c0 hX); h9) wcX0 5 (by decide) q422 rfl (fun _ h9 => h9) rfl dX2_change_8 ?_
  refine lv_astore (lv' := [(5, .ref (ad 23)), (4, .int (zI 1000000)), (0, .ref (ad 24)), (1, .ref p), (2, .int (zI r)), (3, .int (zI c))]) X.x X.b dX2_change_11 hl (by decide) rfl (fun ls hl => ?_)
  refine lv_aload X.x X.b dX2_change_13 (lv_at hl 0 rfl) ?_
  refine wa_alenR (k := 4) X hH (have h9 := (XW.c23 hX); h9) rfl dX2_change_15 ?_
  refine lv_istore (lv' := [(6, .int (zI 4)), (5, .ref (ad 23)), (4, .int (zI 1000000)), (0, .ref (ad 24)), (1, .ref p), (2, .int (zI r)), (3, .int (zI c))]) X.x X.b dX2_change_16 hl (by decide) rfl (fun ls hl => ?_)
  refine wz_iconst X.x X.b dX2_change_18 ?_
  refine lv_istore (lv' := [(7, .int (zI 0)), (6, .int (zI 4)), (5, .ref (ad 23)), (4, .int (zI 1000000)), (0, .ref (ad 24)), (1, .ref p), (2, .int (zI r)), (3, .int (zI c))]) X.x X.b dX2_change_19 hl (by decide) rfl (fun ls hl => ?_)
  have L21 : ∀ (nn : Nat) (i : Int) (le : Int), ((4 - i).toNat) = nn → (0 ≤ i ∧ i ≤ 4) → (le = chN f r c i.toNat) → ∀ (H : Heap) (locs : List Loc) (ls : Array Slot), wa_H G w H → va_S (wa_A G) sS.heap H locs → lv_has ls 9 [(7, .int (zI i)), (4, .int (zI le)), (6, .int (zI 4)), (5, .ref (ad 23)), (0, .ref (ad 24)), (1, .ref p), (2, .int (zI r)), (3, .int (zI c))] → W pP lL eE ({ frames := 3, cells := 0, slots := 0, locals := 69 } : Room) sS mM aA bB mT cC H locs 0 0 (MQ bB (wa_Qz G fun z u => z = chF f r c ∧ w = u) aA sS 0 0 (wa_A G)) (F0 mM 21 ls []) := by
    intro nn
    induction nn using Nat.strongRecOn with
    | ind nn ih21 =>
      intro i le hmu21 i21_0 i21_1 H locs ls hH hS hl
      refine lv_iload X.x X.b dX2_change_21 (lv_at hl 0 rfl) ?_
      refine lv_iload X.x X.b dX2_change_23 (lv_at hl 2 rfl) ?_
      refine wz_icmp_ge (tgt := 58) X.x X.b dX2_change_25 (by decide) ⟨by omega, by omega⟩ ⟨by omega, by omega⟩ (fun c25 => ?_) (fun c25 => ?_)
      · refine lv_iload X.x X.b dX2_change_58 (lv_at hl 1 rfl) ?_
        exact wa_iret X hH hS dX2_change_60 ⟨by rw [i21_1, show i.toNat = 4 by omega]; exact chN_4 hf hr hc, rfl⟩
      · refine lv_aload X.x X.b dX2_change_28 (lv_at hl 3 rfl) ?_
        refine lv_iload X.x X.b dX2_change_30 (lv_at hl 0 rfl) ?_
        obtain ⟨wy, hwy, fwy⟩ := hWY i (by omega) (by omega)
        have hwr : (-1 ≤ wdr i ∧ wdr i ≤ 1) ∧ -1 ≤ wdc i ∧ wdc i ≤ 1 := by unfold wdr wdc; constructor <;> (repeat' split) <;> omega
        have hpr := prF_in hf hr hc hwr.1 hwr.2
        have hci := chN_in hf hr hc i.toNat (by omega)
        refine wa_aald (k := 4) (f := B 5) X hH (have h9 := (XW.c23 hX); h9) rfl rfl (by omega) (by omega) (by omega) dX2_change_32 ?_
        refine wz_opt (q := some wy) (by exact hwy) ?_
        refine lv_astore (lv' := [(8, .ref wy), (7, .int (zI i)), (4, .int (zI le)), (6, .int (zI 4)), (5, .ref (ad 23)), (0, .ref (ad 24)), (1, .ref p), (2, .int (zI r)), (3, .int (zI c))]) X.x X.b dX2_change_33 hl (by decide) rfl (fun ls hl => ?_)
        refine lv_iload X.x X.b dX2_change_35 (lv_at hl 2 rfl) ?_
        refine lv_aload X.x X.b dX2_change_37 (lv_at hl 0 rfl) ?_
        refine lv_aload_n X.x X.b dX2_change_39 rfl (lv_at hl 6 rfl) ?_
        refine lv_iload_n X.x X.b dX2_change_40 rfl (lv_at hl 7 rfl) ?_
        refine lv_iload_n X.x X.b dX2_change_41 rfl (lv_at hl 8 rfl) ?_
        refine wa_c5i hS (wbR1 (rest := [.int (zI le)]) X hH (mX0_lambda_way_0  (show At w p (eO 8 [.ref b, .int (zI x), .int (zI y), .int (zI n)]) from hp.1.2) (show At w b (eI G 32 f) from hp.2.2) (wdr i) (wdc i) r c hr hc hwr.1 hwr.2 hf) rfl rfl fwy.2 q624 hl.1 rfl (Nat.le_of_ble_eq_true rfl) dX2_change_42 (Nat.le_of_ble_eq_true rfl) (Nat.le_of_ble_eq_true rfl) ⟨Nat.le_of_ble_eq_true rfl, Nat.le_of_ble_eq_true rfl⟩) (fun z w42 H locs hp hH hS => ?_)
        obtain ⟨rfl, hw⟩ := hp
        rw [← hw] at hH; clear hw
        refine wa_ci hS (wa_rS (rest := []) X hH (mJ0_min_2 _  le (prF f r c (wdr i) (wdc i)) (show rI le by unfold rI; omega) (show rI (prF f r c (wdr i) (wdc i)) by unfold rI; omega)) (va_cwS 2 X.t (lw_S q627 q628 q111 q629) rfl rfl rfl hdJ0_min_2.2 ⟨Nat.le_of_ble_eq_true rfl, Nat.le_of_ble_eq_true rfl⟩) rfl rfl hl.1 rfl (Nat.le_of_ble_eq_true rfl) dX2_change_47 ⟨Nat.le_of_ble_eq_true rfl, Nat.le_of_ble_eq_true rfl⟩) (fun z w47 H locs hp hH hS => ?_)
        obtain ⟨rfl, hw⟩ := hp
        rw [← hw] at hH; clear hw
        refine lv_istore (lv' := [(4, .int (zI (min le (prF f r c (wdr i) (wdc i))))), (8, .ref wy), (7, .int (zI i)), (6, .int (zI 4)), (5, .ref (ad 23)), (0, .ref (ad 24)), (1, .ref p), (2, .int (zI r)), (3, .int (zI c))]) X.x X.b dX2_change_50 hl (by decide) rfl (fun ls hl => ?_)
        refine wz_iinc (k := 2) (lv' := [(7, .int (zI (i + 1))), (4, .int (zI (min le (prF f r c (wdr i) (wdc i))))), (8, .ref wy), (6, .int (zI 4)), (5, .ref (ad 23)), (0, .ref (ad 24)), (1, .ref p), (2, .int (zI r)), (3, .int (zI c))]) X.x X.b dX2_change_52 hl rfl (by decide) rfl (fun ls hl => ?_)
        refine lv_goto (tgt := 21) X.x X.b dX2_change_55 (by decide) ?_
        exact ih21 _ (by omega) (i + 1) (min le (prF f r c (wdr i) (wdc i))) rfl (by omega) (by rw [show (i + 1).toNat = i.toNat + 1 by omega]; unfold chN; rw [i21_1, Int.toNat_of_nonneg i21_0.1]) _ _ _ hH hS (lv_sub hl [0, 1, 3, 4, 5, 6, 7, 8] rfl)
  exact L21 _ 0 1000000 rfl (by omega) (by rfl) _ _ _ hH hS (lv_sub hl [0, 3, 1, 2, 4, 5, 6, 7] rfl)
set_option maxRecDepth 100000 in
theorem mX1_takes {lL : Launch} {G : wa_G} {ad : Nat → Nat} {w : wa_W} {S : Nat → Int} {A : Nat → Int → Int} {B : Nat → Int → Option Nat} {P : Nat → Option Nat} (hX : XW G ad w S A B P) {s : Nat} {t : Nat} (hPS : PCS ad w (B (10 + t))) (hs : s < 7) (ht : t < 7) (hst : s ≠ t) : Met lL yX1_takes (ws_ yX1_takes cX1_takes 2 (none : Option FieldType)) ({ frames := 1, cells := 0, slots := 0, locals := 100 } : Room) (wa_P G w [.ref (ad (1 + 3 * s)), .ref (ad (1 + 3 * t))]) (wa_Qv G fun u => XW G ad u (sup (sup S (20 + s) (S (20 + t))) (30 + s) (S (30 + t))) (aup A (10 + s) (fup (fup (A (10 + s)) 0 (A (10 + t) 0)) 1 (A (10 + t) 1))) (bup B (10 + s) (cpR (B (10 + t)) (B (10 + s)) 0 0 6)) (pup P (10 + s) (P (10 + t))) ∧ Kp ad w u) 0 0 (wa_A G) := by
  refine wa_met (by decide) (by exact Nat.le_of_ble_eq_true rfl) ?_
  intro pP eE sS mM aA bB mT cC ls X hl hH
  have hS : va_S (wa_A G) sS.heap sS.heap [] := va_S.rf
  have hl : lv_has ls 2 [(0, .ref (ad (1 + 3 * s))), (1, .ref (ad (1 + 3 * t)))] := hl
  have hK : Kp ad w w := Kp.rf
  refine lv_aload_n X.x X.b dX1_takes_0 rfl (lv_at hl 0 rfl) ?_
  refine lv_aload_n X.x X.b dX1_takes_1 rfl (lv_at hl 1 rfl) ?_
  refine wa_get (v := va_rf (P (10 + t))) X hH (have h9 := (XW.st hX ht); h9) wcX1 0 (by decide) q163 rfl (fun _ h9 => h9) rfl dX1_takes_2 ?_
  refine wa_put X hH hS (have h9 := (XW.st hX hs); h9) wcX1 0 (by decide) q163 rfl (fun _ h9 => h9) rfl rf_narA rf_fitA (Nat.le_of_ble_eq_true rfl) dX1_takes_5 (fun w5 H locs ew hH hS => ?_)
  have hk : Kp ad w w5 := Kp.set (i := (1 + 3 * s)) (by omega) ew
  have hX := hX.stP (v := P (10 + t)) hs ew
  have hPS := hPS.kp hk
  have hK := hK.kp hk
  clear ew
  refine lv_aload_n X.x X.b dX1_takes_8 rfl (lv_at hl 0 rfl) ?_
  refine lv_aload_n X.x X.b dX1_takes_9 rfl (lv_at hl 1 rfl) ?_
  refine wa_get (v := .int (zI (S (20 + t)))) X hH (have h9 := (XW.st hX ht); h9) wcX1 1 (by decide) q165 rfl (fun _ h9 => h9) rfl dX1_takes_10 ?_
  refine wa_put X hH hS (have h9 := (XW.st hX hs); h9) wcX1 1 (by decide) q165 rfl (fun _ h9 => h9) rfl rfl rfl (Nat.le_of_ble_eq_true rfl) dX1_takes_13 (fun w13 H locs ew hH hS => ?_)
  have hk : Kp ad w5 w13 := Kp.set (i := (1 + 3 * s)) (by omega) ew
  have hX := hX.stS20 hs ew
  have hPS := hPS.kp hk
  have hK := hK.kp hk
  clear ew
  refine lv_aload_n X.x X.b dX1_takes_16 rfl (lv_at hl 1 rfl) ?_
  refine wa_get (v := .ref (ad (2 + 3 * t))) X hH (have h9 := (XW.st hX ht); h9) wcX1 2 (by decide) q167 rfl (fun _ h9 => h9) rfl dX1_takes_17 ?_
  refine wz_iconst X.x X.b dX1_takes_20 ?_
  refine lv_aload_n X.x X.b dX1_takes_21 rfl (lv_at hl 0 rfl) ?_
  refine wa_get (v := .ref (ad (2 + 3 * s))) X hH (have h9 := (XW.st hX hs); h9) wcX1 2 (by decide) q167 rfl (fun _ h9 => h9) rfl dX1_takes_22 ?_
  refine wz_iconst X.x X.b dX1_takes_25 ?_
  refine wz_bipush X.x X.b dX1_takes_26 rfl ?_
  refine wa_copyq (rest := []) (k := 2) (f := B (10 + t)) (g := B (10 + s)) X hH hS (have h9 := (XW.pa hX ht); h9) (have h9 := (XW.pa hX hs); h9) rfl rfl q482 (by omega) (by omega) (by omega) (by omega) (by omega) ⟨by omega, by omega, by omega⟩ (fun i _ _ z hz => by obtain ⟨fs, h⟩ := hPS i z hz; exact wa_any X hH h.2 rfl) hl.1 (Nat.le_of_ble_eq_true rfl) (by decide +kernel) dX1_takes_28 (fun w28 H locs ew hH hS => ?_)
  have hk : Kp ad w13 w28 := Kp.set (i := (2 + 3 * s)) (by omega) ew
  have hX := hX.paB hs ew
  have hPS := hPS.kp hk
  have hK := hK.kp hk
  clear ew
  refine lv_aload_n X.x X.b dX1_takes_31 rfl (lv_at hl 0 rfl) ?_
  refine lv_aload_n X.x X.b dX1_takes_32 rfl (lv_at hl 1 rfl) ?_
  refine wa_get (v := .int (zI ((sup S (20 + s) (S (20 + t))) (30 + t)))) X hH (have h9 := (XW.st hX ht); h9) wcX1 3 (by decide) q170 rfl (fun _ h9 => h9) rfl dX1_takes_33 ?_
  refine wz_is (z := S (30 + t)) (by exact sup_n (by omega)) ?_
  refine wa_put X hH hS (have h9 := (XW.st hX hs); h9) wcX1 3 (by decide) q170 rfl (fun _ h9 => h9) rfl rfl rfl (Nat.le_of_ble_eq_true rfl) dX1_takes_36 (fun w36 H locs ew hH hS => ?_)
  have hk : Kp ad w28 w36 := Kp.set (i := (1 + 3 * s)) (by omega) ew
  have hX := hX.stS30 hs ew
  have hPS := hPS.kp hk
  have hK := hK.kp hk
  clear ew
  refine lv_aload_n X.x X.b dX1_takes_39 rfl (lv_at hl 0 rfl) ?_
  refine wa_get (v := .ref (ad (3 + 3 * s))) X hH (have h9 := (XW.st hX hs); h9) wcX1 4 (by decide) q173 rfl (fun _ h9 => h9) rfl dX1_takes_40 ?_
  refine wz_iconst X.x X.b dX1_takes_43 ?_
  refine lv_aload_n X.x X.b dX1_takes_44 rfl (lv_at hl 1 rfl) ?_
  refine wa_get (v := .ref (ad (3 + 3 * t))) X hH (have h9 := (XW.st hX ht); h9) wcX1 4 (by decide) q173 rfl (fun _ h9 => h9) rfl dX1_takes_45 ?_
  refine wz_iconst X.x X.b dX1_takes_48 ?_
  refine wa_iald (f := A (10 + t)) X hH (have h9 := (XW.se hX ht); h9) (by omega) (by omega) (by omega) dX1_takes_49 ?_
  refine wa_iast (f := A (10 + s)) X hH hS (have h9 := (XW.se hX hs); h9) (by omega) (by omega) (by omega) dX1_takes_50 (fun w50 H locs ew hH hS => ?_)
  have hk : Kp ad w36 w50 := Kp.set (i := (3 + 3 * s)) (by omega) ew
  have hX := hX.seA hs ew
  have hPS := hPS.kp hk
  have hK := hK.kp hk
  clear ew
  refine lv_aload_n X.x X.b dX1_takes_51 rfl (lv_at hl 0 rfl) ?_
  refine wa_get (v := .ref (ad (3 + 3 * s))) X hH (have h9 := (XW.st hX hs); h9) wcX1 4 (by decide) q173 rfl (fun _ h9 => h9) rfl dX1_takes_52 ?_
  refine wz_iconst X.x X.b dX1_takes_55 ?_
  refine lv_aload_n X.x X.b dX1_takes_56 rfl (lv_at hl 1 rfl) ?_
  refine wa_get (v := .ref (ad (3 + 3 * t))) X hH (have h9 := (XW.st hX ht); h9) wcX1 4 (by decide) q173 rfl (fun _ h9 => h9) rfl dX1_takes_57 ?_
  refine wz_iconst X.x X.b dX1_takes_60 ?_
  refine wa_iald (f := (aup A (10 + s) (fup (A (10 + s)) 0 ((A (10 + t)) 0))) (10 + t)) X hH (have h9 := (XW.se hX ht); h9) (by omega) (by omega) (by omega) dX1_takes_61 ?_
  refine wz_is (z := A (10 + t) 1) (by rw [aup_n (by omega)]) ?_
  refine wa_iast (f := fup (A (10 + s)) 0 ((A (10 + t)) 0)) X hH hS (by have h9 := XW.se hX hs; rw [aup_s] at h9; exact h9) (by omega) (by omega) (by omega) dX1_takes_62 (fun w62 H locs ew hH hS => ?_)
  have hk : Kp ad w50 w62 := Kp.set (i := (3 + 3 * s)) (by omega) ew
  have hX := hX.seA hs ew
  have hX := XW.cA (A2 := aup A (10 + s) (fup (fup (A (10 + s)) 0 ((A (10 + t)) 0)) 1 (A (10 + t) 1))) hX (by funext j; simp only [aup]; by_cases h0 : j = 10 + s; (subst h0; first | rfl | simp); simp only [h0, ↓reduceIte])
  have hPS := hPS.kp hk
  have hK := hK.kp hk
  clear ew
  exact wa_vret X hH hS dX1_takes_63 ⟨hX, hK⟩
set_option maxRecDepth 100000 in
theorem mX0_refuses {lL : Launch} {G : wa_G} {ad : Nat → Nat} {w : wa_W} {S : Nat → Int} {A : Nat → Int → Int} {B : Nat → Int → Option Nat} {P : Nat → Option Nat} (hX : XW G ad w S A B P)   (sort : Int) (v : Int) (hso : 0 ≤ sort ∧ sort ≤ 2) : Met lL yX0_refuses (ws_ yX0_refuses cX0_refuses 3 (some FieldType.int)) ({ frames := 0, cells := 0, slots := 0, locals := 0 } : Room) (wa_P G w [.ref (ad 0), .int (zI sort), .int (zI v)]) (wa_Qz G fun z u => z = v ∧ XW G ad u S (aup A 2 (fup (A 2) sort (A 2 sort + 1))) B P ∧ Kp ad w u) 0 0 (wa_A G) := by
  refine wa_met (by decide) (by exact Nat.le_of_ble_eq_true rfl) ?_
  intro pP eE sS mM aA bB mT cC ls X hl hH
  have hS : va_S (wa_A G) sS.heap sS.heap [] := va_S.rf
  have hl : lv_has ls 3 [(0, .ref (ad 0)), (1, .int (zI sort)), (2, .int (zI v))] := hl
  have hK : Kp ad w w := Kp.rf
  refine lv_aload_n X.x X.b dX0_refuses_0 rfl (lv_at hl 0 rfl) ?_
  refine wa_get (v := .ref (ad 27)) X hH (have h9 := (XW.c0 hX); h9) wcX0 10 (by decide) q430 rfl (fun _ h9 => h9) rfl dX0_refuses_1 ?_
  refine lv_iload_n X.x X.b dX0_refuses_4 rfl (lv_at hl 1 rfl) ?_
  refine lv_dup2_11 X.x X.b dX0_refuses_5 rfl rfl ?_
  refine wa_iald (f := A 2) X hH (have h9 := (XW.c27 hX); h9) (by omega) (by omega) (by omega) dX0_refuses_6 ?_
  refine wz_iconst X.x X.b dX0_refuses_7 ?_
  refine wz_iadd X.x X.b dX0_refuses_8 ?_
  refine wa_iast (f := A 2) X hH hS (have h9 := (XW.c27 hX); h9) (by omega) (by omega) (by omega) dX0_refuses_9 (fun w9 H locs ew hH hS => ?_)
  have hk : Kp ad w w9 := Kp.set (i := 27) (by omega) ew
  have hX := hX.sA (i := 27) (2) (x := fup (A 2) sort (((A 2) sort) + 1)) (by unfold oA; omega) ew
  have hK := hK.kp hk
  clear ew
  refine lv_iload_n X.x X.b dX0_refuses_10 rfl (lv_at hl 2 rfl) ?_
  exact wa_iret X hH hS dX0_refuses_11 ⟨by first | rfl | omega | assumption, ⟨hX, hK⟩⟩
set_option maxRecDepth 100000 in
theorem mX0_bad {lL : Launch} {G : wa_G} {ad : Nat → Nat} {w : wa_W} {S : Nat → Int} {A : Nat → Int → Int} {B : Nat → Int → Option Nat} {P : Nat → Option Nat} (hX : XW G ad w S A B P)    : Met lL yX0_bad (ws_ yX0_bad cX0_bad 1 (some FieldType.int)) ({ frames := 1, cells := 0, slots := 0, locals := 22 } : Room) (wa_P G w [.ref (ad 0)]) (wa_Qz G fun z u => z = -2 ∧ XW G ad u S (aup A 2 (fup (A 2) 0 (A 2 0 + 1))) B P ∧ Kp ad w u) 0 0 (wa_A G) := by
  refine wa_met (by decide) (by exact Nat.le_of_ble_eq_true rfl) ?_
  intro pP eE sS mM aA bB mT cC ls X hl hH
  have hS : va_S (wa_A G) sS.heap sS.heap [] := va_S.rf
  have hl : lv_has ls 1 [(0, .ref (ad 0))] := hl
  have hK : Kp ad w w := Kp.rf
  refine lv_aload_n X.x X.b dX0_bad_0 rfl (lv_at hl 0 rfl) ?_
  refine wz_iconst X.x X.b dX0_bad_1 ?_
  refine wz_bipush X.x X.b dX0_bad_2 rfl ?_
  refine wa_ci hS (wa_rV (rest := []) X hH (mX0_refuses hX  0 (-2) (show 0 ≤ 0 ∧ 0 ≤ 2 by first | assumption | omega)) (cwV 2 X.t (lw_V q496 q498 qs4 q109 q499) rfl rfl rfl hdX0_refuses ⟨Nat.le_of_ble_eq_true rfl, Nat.le_of_ble_eq_true rfl⟩) rfl (have h9 := (XW.c0 hX); h9) rfl rfl hl.1 rfl (Nat.le_of_ble_eq_true rfl) dX0_bad_4 ⟨Nat.le_of_ble_eq_true rfl, Nat.le_of_ble_eq_true rfl⟩) (fun z w4 H locs hp hH hS => ?_)
  obtain ⟨rfl, ⟨hX, hk⟩⟩ := hp
  have hK := hK.kp hk
  exact wa_iret X hH hS dX0_bad_7 ⟨by first | rfl | omega | assumption, ⟨hX, hK⟩⟩
set_option maxRecDepth 100000 in
theorem mX0_no {lL : Launch} {G : wa_G} {ad : Nat → Nat} {w : wa_W} {S : Nat → Int} {A : Nat → Int → Int} {B : Nat → Int → Option Nat} {P : Nat → Option Nat} (hX : XW G ad w S A B P)    : Met lL yX0_no (ws_ yX0_no cX0_no 1 (some FieldType.int)) ({ frames := 1, cells := 0, slots := 0, locals := 22 } : Room) (wa_P G w [.ref (ad 0)]) (wa_Qz G fun z u => z = -3 ∧ XW G ad u S (aup A 2 (fup (A 2) 1 (A 2 1 + 1))) B P ∧ Kp ad w u) 0 0 (wa_A G) := by
  refine wa_met (by decide) (by exact Nat.le_of_ble_eq_true rfl) ?_
  intro pP eE sS mM aA bB mT cC ls X hl hH
  have hS : va_S (wa_A G) sS.heap sS.heap [] := va_S.rf
  have hl : lv_has ls 1 [(0, .ref (ad 0))] := hl
  have hK : Kp ad w w := Kp.rf
  refine lv_aload_n X.x X.b dX0_no_0 rfl (lv_at hl 0 rfl) ?_
  refine wz_iconst X.x X.b dX0_no_1 ?_
  refine wz_bipush X.x X.b dX0_no_2 rfl ?_
  refine wa_ci hS (wa_rV (rest := []) X hH (mX0_refuses hX  1 (-3) (show 0 ≤ 1 ∧ 1 ≤ 2 by first | assumption | omega)) (cwV 2 X.t (lw_V q496 q498 qs4 q109 q499) rfl rfl rfl hdX0_refuses ⟨Nat.le_of_ble_eq_true rfl, Nat.le_of_ble_eq_true rfl⟩) rfl (have h9 := (XW.c0 hX); h9) rfl rfl hl.1 rfl (Nat.le_of_ble_eq_true rfl) dX0_no_4 ⟨Nat.le_of_ble_eq_true rfl, Nat.le_of_ble_eq_true rfl⟩) (fun z w4 H locs hp hH hS => ?_)
  obtain ⟨rfl, ⟨hX, hk⟩⟩ := hp
  have hK := hK.kp hk
  exact wa_iret X hH hS dX0_no_7 ⟨by first | rfl | omega | assumption, ⟨hX, hK⟩⟩
set_option maxRecDepth 100000 in
theorem mX0_isPicture {lL : Launch} {G : wa_G} {ad : Nat → Nat} {w : wa_W} {S : Nat → Int} {A : Nat → Int → Int} {B : Nat → Int → Option Nat} {P : Nat → Option Nat} (hX : XW G ad w S A B P)   (k : Int) (hk : rI k) (hm : 0 ≤ S 30 ∧ S 30 ≤ 6) : Met lL yX0_isPicture (ws_ yX0_isPicture cX0_isPicture 2 (some FieldType.boolean)) ({ frames := 1, cells := 0, slots := 0, locals := 25 } : Room) (wa_P G w [.ref (ad 0), .int (zI k)]) (wa_Qz G fun z u => ((0 ≤ k ∧ k ≤ S 30 - 1) ∧ z = 1 ∨ ¬ (0 ≤ k ∧ k ≤ S 30 - 1) ∧ z = 0) ∧ w = u) 0 0 (wa_A G) := by
  refine wa_met (by decide) (by exact Nat.le_of_ble_eq_true rfl) ?_
  intro pP eE sS mM aA bB mT cC ls X hl hH
  have hS : va_S (wa_A G) sS.heap sS.heap [] := va_S.rf
  have hl : lv_has ls 2 [(0, .ref (ad 0)), (1, .int (zI k))] := hl
  have hK : Kp ad w w := Kp.rf
  refine lv_iload_n X.x X.b dX0_isPicture_0 rfl (lv_at hl 1 rfl) ?_
  refine wz_i2l X.x X.b dX0_isPicture_1 ⟨by omega, by omega⟩ ?_
  refine lv_lconst (v := lI 0) X.x X.b dX0_isPicture_2 rfl ?_
  refine lv_aload_n X.x X.b dX0_isPicture_3 rfl (lv_at hl 0 rfl) ?_
  refine wa_get (v := .ref (ad 1)) X hH (have h9 := (XW.c0 hX); h9) wcX0 0 (by decide) q417 rfl (fun _ h9 => h9) rfl dX0_isPicture_4 ?_
  refine wa_getN (v := .int (zI (S 30))) X hH (have h9 := (XW.c1 hX); h9) wcX1 3 (by decide) q172 rfl (fun _ h9 => h9) rfl dX0_isPicture_7 ?_
  refine wz_iconst X.x X.b dX0_isPicture_10 ?_
  refine wz_isub X.x X.b dX0_isPicture_11 ?_
  refine wz_i2l X.x X.b dX0_isPicture_12 ⟨by omega, by omega⟩ ?_
  refine wa_ci hS (wa_rS (rest := []) X hH (mX0_in _  k 0 ((S 30) - 1) (show rL k by first | assumption | omega) (show rL 0 by first | assumption | omega) (show rL ((S 30) - 1) by first | assumption | omega)) (va_cwS 3 X.t (lw_S q466 q467 q109 q468) rfl rfl rfl hdX0_in.2 ⟨Nat.le_of_ble_eq_true rfl, Nat.le_of_ble_eq_true rfl⟩) rfl rfl hl.1 rfl (Nat.le_of_ble_eq_true rfl) dX0_isPicture_13 ⟨Nat.le_of_ble_eq_true rfl, Nat.le_of_ble_eq_true rfl⟩) (fun z w13 H locs hp hH hS => ?_)
  obtain ⟨hb, hw⟩ := hp
  rw [← hw] at hH; clear hw
  rcases hb with ⟨b13, rfl⟩ | ⟨b13, rfl⟩
  · have b13 : (0 ≤ k ∧ k ≤ ((S 30) - 1)) := b13
    exact wa_zret X hH hS dX0_isPicture_16 nb1 ⟨Or.inl ⟨by first | rfl | omega | assumption, rfl⟩, rfl⟩
  · have b13 : ¬ (0 ≤ k ∧ k ≤ ((S 30) - 1)) := b13
    exact wa_zret X hH hS dX0_isPicture_16 nb0 ⟨Or.inr ⟨by first | rfl | omega | assumption, rfl⟩, rfl⟩
set_option maxRecDepth 100000 in
theorem mX0_isDot {lL : Launch} {G : wa_G} {ad : Nat → Nat} {w : wa_W} {S : Nat → Int} {A : Nat → Int → Int} {B : Nat → Int → Option Nat} {P : Nat → Option Nat} (hX : XW G ad w S A B P)   (r : Int) (c : Int) (h1 : rI r) (h2 : rI c) (hw : S 20 = 0 ∨ 12 ≤ S 20 ∧ S 20 ≤ 32) : Met lL yX0_isDot (ws_ yX0_isDot cX0_isDot 3 (some FieldType.boolean)) ({ frames := 1, cells := 0, slots := 0, locals := 25 } : Room) (wa_P G w [.ref (ad 0), .int (zI r), .int (zI c)]) (wa_Qz G fun z u => (((0 ≤ r ∧ r ≤ 5) ∧ 0 ≤ c ∧ c ≤ S 20 - 1) ∧ z = 1 ∨ ¬ ((0 ≤ r ∧ r ≤ 5) ∧ 0 ≤ c ∧ c ≤ S 20 - 1) ∧ z = 0) ∧ w = u) 0 0 (wa_A G) := by
  refine wa_met (by decide) (by exact Nat.le_of_ble_eq_true rfl) ?_
  intro pP eE sS mM aA bB mT cC ls X hl hH
  have hS : va_S (wa_A G) sS.heap sS.heap [] := va_S.rf
  have hl : lv_has ls 3 [(0, .ref (ad 0)), (1, .int (zI r)), (2, .int (zI c))] := hl
  have hK : Kp ad w w := Kp.rf
  refine lv_iload_n X.x X.b dX0_isDot_0 rfl (lv_at hl 1 rfl) ?_
  refine wz_i2l X.x X.b dX0_isDot_1 ⟨by omega, by omega⟩ ?_
  refine lv_lconst (v := lI 0) X.x X.b dX0_isDot_2 rfl ?_
  refine wz_ldc2 (n := 5) X.x X.b X.own (X.t _ q512) rfl dX0_isDot_3 ?_
  refine wa_ci hS (wa_rS (rest := []) X hH (mX0_in _  r 0 5 (show rL r by first | assumption | omega) (show rL 0 by first | assumption | omega) (show rL 5 by first | assumption | omega)) (va_cwS 3 X.t (lw_S q466 q467 q109 q468) rfl rfl rfl hdX0_in.2 ⟨Nat.le_of_ble_eq_true rfl, Nat.le_of_ble_eq_true rfl⟩) rfl rfl hl.1 rfl (Nat.le_of_ble_eq_true rfl) dX0_isDot_6 ⟨Nat.le_of_ble_eq_true rfl, Nat.le_of_ble_eq_true rfl⟩) (fun z w6 H locs hp hH hS => ?_)
  obtain ⟨hb, hw⟩ := hp
  rw [← hw] at hH; clear hw
  rcases hb with ⟨b6, rfl⟩ | ⟨b6, rfl⟩
  · have b6 : (0 ≤ r ∧ r ≤ 5) := b6
    refine wz_ifeq (tgt := 35) X.x X.b dX0_isDot_9 (by decide) (by decide) (fun h => absurd h (by decide)) (fun _ => ?_)
    refine lv_iload_n X.x X.b dX0_isDot_12 rfl (lv_at hl 2 rfl) ?_
    refine wz_i2l X.x X.b dX0_isDot_13 ⟨by omega, by omega⟩ ?_
    refine lv_lconst (v := lI 0) X.x X.b dX0_isDot_14 rfl ?_
    refine lv_aload_n X.x X.b dX0_isDot_15 rfl (lv_at hl 0 rfl) ?_
    refine wa_get (v := .ref (ad 1)) X hH (have h9 := (XW.c0 hX); h9) wcX0 0 (by decide) q417 rfl (fun _ h9 => h9) rfl dX0_isDot_16 ?_
    refine wa_getN (v := .int (zI (S 20))) X hH (have h9 := (XW.c1 hX); h9) wcX1 1 (by decide) q166 rfl (fun _ h9 => h9) rfl dX0_isDot_19 ?_
    refine wz_iconst X.x X.b dX0_isDot_22 ?_
    refine wz_isub X.x X.b dX0_isDot_23 ?_
    refine wz_i2l X.x X.b dX0_isDot_24 ⟨by omega, by omega⟩ ?_
    refine wa_ci hS (wa_rS (rest := []) X hH (mX0_in _  c 0 ((S 20) - 1) (show rL c by first | assumption | omega) (show rL 0 by first | assumption | omega) (show rL ((S 20) - 1) by first | assumption | omega)) (va_cwS 3 X.t (lw_S q466 q467 q109 q468) rfl rfl rfl hdX0_in.2 ⟨Nat.le_of_ble_eq_true rfl, Nat.le_of_ble_eq_true rfl⟩) rfl rfl hl.1 rfl (Nat.le_of_ble_eq_true rfl) dX0_isDot_25 ⟨Nat.le_of_ble_eq_true rfl, Nat.le_of_ble_eq_true rfl⟩) (fun z w25 H locs hp hH hS => ?_)
    obtain ⟨hb, hw⟩ := hp
    rw [← hw] at hH; clear hw
    rcases hb with ⟨b25, rfl⟩ | ⟨b25, rfl⟩
    · have b25 : (0 ≤ c ∧ c ≤ ((S 20) - 1)) := b25
      refine wz_ifeq (tgt := 35) X.x X.b dX0_isDot_28 (by decide) (by decide) (fun h => absurd h (by decide)) (fun _ => ?_)
      refine wz_iconst X.x X.b dX0_isDot_31 ?_
      refine lv_goto (tgt := 36) X.x X.b dX0_isDot_32 (by decide) ?_
      exact wa_zret X hH hS dX0_isDot_36 nb1 ⟨Or.inl ⟨by first | rfl | omega | assumption, rfl⟩, rfl⟩
    · have b25 : ¬ (0 ≤ c ∧ c ≤ ((S 20) - 1)) := b25
      refine wz_ifeq (tgt := 35) X.x X.b dX0_isDot_28 (by decide) (by decide) (fun _ => ?_) (fun h => absurd h (by decide))
      refine wz_iconst X.x X.b dX0_isDot_35 ?_
      exact wa_zret X hH hS dX0_isDot_36 nb0 ⟨Or.inr ⟨by first | rfl | omega | assumption, rfl⟩, rfl⟩
  · have b6 : ¬ (0 ≤ r ∧ r ≤ 5) := b6
    refine wz_ifeq (tgt := 35) X.x X.b dX0_isDot_9 (by decide) (by decide) (fun _ => ?_) (fun h => absurd h (by decide))
    refine wz_iconst X.x X.b dX0_isDot_35 ?_
    exact wa_zret X hH hS dX0_isDot_36 nb0 ⟨Or.inr ⟨by first | rfl | omega | assumption, rfl⟩, rfl⟩

/-! JOINER: differences, measures -/
set_option maxRecDepth 100000 in
theorem mX2_difference {lL : Launch} {G : wa_G} {ad : Nat → Nat} {w : wa_W} {S : Nat → Int} {A : Nat → Int → Int} {B : Nat → Int → Option Nat} {P : Nat → Option Nat} (hX : XW G ad w S A B P) {l : Nat} {sc : Nat} {a : Int} {b : Int} {v : Int} {e : Int} {f : Int} {g : Int → Int} (hPX : PX G ad w (B 10) g) (fl0 : Lnk ad w l sc a b v e f) (r : Int) (c : Int) (ha : 0 ≤ a ∧ a < g 3) (hb : 0 ≤ b ∧ b < g 3) (hr : (0 ≤ r ∧ r ≤ 3) ∧ 0 ≤ r - e ∧ r - e ≤ 3) (hc : (0 ≤ c ∧ c ≤ 7) ∧ 0 ≤ c - f ∧ c - f ≤ 7) (ho : okS g) : Met lL yX2_difference (ws_ yX2_difference cX2_difference 4 (some FieldType.int)) ({ frames := 1, cells := 0, slots := 0, locals := 22 } : Room) (wa_P G w [.ref (ad 24), .ref l, .int (zI r), .int (zI c)]) (wa_Qz G fun z u => z = (Int.natAbs (pc g a r c - pc g b (r - e) (c - f)) : Int) ∧ w = u) 0 0 (wa_A G) := by
  refine wa_met (by decide) (by exact Nat.le_of_ble_eq_true rfl) ?_
  intro pP eE sS mM aA bB mT cC ls X hl hH
  have hS : va_S (wa_A G) sS.heap sS.heap [] := va_S.rf
  have hl : lv_has ls 4 [(0, .ref (ad 24)), (1, .ref l), (2, .int (zI r)), (3, .int (zI c))] := hl
  have hK : Kp ad w w := Kp.rf
  have hPX_0 := hPX
  have fl0_0 := fl0
  have hmany := ho.many
  obtain ⟨pa, ba, fa, hpa0, fpa, apa⟩ := hPX a (by omega) (by omega)
  have cpa := pcA.cB apa ho (by omega)
  have fpa_0 := fpa
  obtain ⟨pb, bb, fb, hpb0, fpb, apb⟩ := hPX b (by omega) (by omega)
  have cpb := pcA.cB apb ho (by omega)
  have fpb_0 := fpb
  have hpe1 : fa (8 * r + c) = pc g a r c := apa _ _ (by omega) (by omega) (by omega) (by omega)
  have hpe2 : fb (8 * (r - e) + (c - f)) = pc g b (r - e) (c - f) := apb _ _ (by omega) (by omega) (by omega) (by omega)
  have hp1 := ho.pc a r c (by omega) (by omega) (by omega) (by omega) (by omega) (by omega)
  have hp2 := ho.pc b (r - e) (c - f) (by omega) (by omega) (by omega) (by omega) (by omega) (by omega)
  refine lv_aload_n X.x X.b dX2_difference_0 rfl (lv_at hl 0 rfl) ?_
  refine wa_get (v := .ref (ad 0)) X hH (have h9 := (XW.c24 hX); h9) wcX2 15 (by decide) q368 rfl (fun _ h9 => h9) rfl dX2_difference_1 ?_
  refine wa_getN (v := .ref (ad 1)) X hH (have h9 := (XW.c0 hX); h9) wcX0 0 (by decide) q416 rfl (fun _ h9 => h9) rfl dX2_difference_4 ?_
  refine wa_getN (v := .ref (ad 2)) X hH (have h9 := (XW.c1 hX); h9) wcX1 2 (by decide) q168 rfl (fun _ h9 => h9) rfl dX2_difference_7 ?_
  refine lv_aload_n X.x X.b dX2_difference_10 rfl (lv_at hl 1 rfl) ?_
  refine wa_getN (v := .int (zI a)) X hH fl0.1.2 wcX11 0 (by decide) q1124 rfl (fun _ h9 => h9) rfl dX2_difference_11 ?_
  refine wa_aald (k := 2) (f := B 10) X hH (have h9 := (XW.c2 hX); h9) rfl rfl (by omega) (by omega) (by omega) dX2_difference_14 ?_
  refine wz_opt (q := some pa) (by exact hpa0) ?_
  refine lv_iload_n X.x X.b dX2_difference_15 rfl (lv_at hl 2 rfl) ?_
  refine lv_iload_n X.x X.b dX2_difference_16 rfl (lv_at hl 3 rfl) ?_
  refine wa_ci hS (wa_rV (rest := []) X hH (mX8_at  (show At w pa (eO 8 [.ref ba, .int (zI (sh g a 0)), .int (zI (sh g a 1)), .int (zI (sh g a 2))]) from fpa.1.2) (show At w ba (eI G 32 fa) from fpa.2.2) r c (by omega)) (cwV 2 X.t (lw_V q681 q200 q201 q126 q202) rfl rfl rfl hdX8_at ⟨Nat.le_of_ble_eq_true rfl, Nat.le_of_ble_eq_true rfl⟩) rfl fpa.1.2 rfl rfl hl.1 rfl (Nat.le_of_ble_eq_true rfl) dX2_difference_17 ⟨Nat.le_of_ble_eq_true rfl, Nat.le_of_ble_eq_true rfl⟩) (fun z w17 H locs hp hH hS => ?_)
  obtain ⟨rfl, hw⟩ := hp
  rw [← hw] at hH; clear hw
  refine lv_aload_n X.x X.b dX2_difference_20 rfl (lv_at hl 0 rfl) ?_
  refine wa_get (v := .ref (ad 0)) X hH (have h9 := (XW.c24 hX); h9) wcX2 15 (by decide) q368 rfl (fun _ h9 => h9) rfl dX2_difference_21 ?_
  refine wa_getN (v := .ref (ad 1)) X hH (have h9 := (XW.c0 hX); h9) wcX0 0 (by decide) q416 rfl (fun _ h9 => h9) rfl dX2_difference_24 ?_
  refine wa_getN (v := .ref (ad 2)) X hH (have h9 := (XW.c1 hX); h9) wcX1 2 (by decide) q168 rfl (fun _ h9 => h9) rfl dX2_difference_27 ?_
  refine lv_aload_n X.x X.b dX2_difference_30 rfl (lv_at hl 1 rfl) ?_
  refine wa_getN (v := .int (zI b)) X hH fl0.1.2 wcX11 1 (by decide) q1128 rfl (fun _ h9 => h9) rfl dX2_difference_31 ?_
  refine wa_aald (k := 2) (f := B 10) X hH (have h9 := (XW.c2 hX); h9) rfl rfl (by omega) (by omega) (by omega) dX2_difference_34 ?_
  refine wz_opt (q := some pb) (by exact hpb0) ?_
  refine lv_iload_n X.x X.b dX2_difference_35 rfl (lv_at hl 2 rfl) ?_
  refine lv_aload_n X.x X.b dX2_difference_36 rfl (lv_at hl 1 rfl) ?_
  refine wa_getN (v := .ref sc) X hH fl0.1.2 wcX11 2 (by decide) q1130 rfl (fun _ h9 => h9) rfl dX2_difference_37 ?_
  refine wa_getN (v := .int (zI e)) X hH fl0.2.2 wcX10 0 (by decide) q1056 rfl (fun _ h9 => h9) rfl dX2_difference_40 ?_
  refine wz_isub X.x X.b dX2_difference_43 ?_
  refine lv_iload_n X.x X.b dX2_difference_44 rfl (lv_at hl 3 rfl) ?_
  refine lv_aload_n X.x X.b dX2_difference_45 rfl (lv_at hl 1 rfl) ?_
  refine wa_getN (v := .ref sc) X hH fl0.1.2 wcX11 2 (by decide) q1130 rfl (fun _ h9 => h9) rfl dX2_difference_46 ?_
  refine wa_getN (v := .int (zI f)) X hH fl0.2.2 wcX10 1 (by decide) q1060 rfl (fun _ h9 => h9) rfl dX2_difference_49 ?_
  refine wz_isub X.x X.b dX2_difference_52 ?_
  refine wa_ci hS (wa_rV (rest := [.int (zI (fa (8 * r + c)))]) X hH (mX8_at  (show At w pb (eO 8 [.ref bb, .int (zI (sh g b 0)), .int (zI (sh g b 1)), .int (zI (sh g b 2))]) from fpb.1.2) (show At w bb (eI G 32 fb) from fpb.2.2) (r - e) (c - f) (by omega)) (cwV 2 X.t (lw_V q681 q200 q201 q126 q202) rfl rfl rfl hdX8_at ⟨Nat.le_of_ble_eq_true rfl, Nat.le_of_ble_eq_true rfl⟩) rfl fpb.1.2 rfl rfl hl.1 rfl (Nat.le_of_ble_eq_true rfl) dX2_difference_53 ⟨Nat.le_of_ble_eq_true rfl, Nat.le_of_ble_eq_true rfl⟩) (fun z w53 H locs hp hH hS => ?_)
  obtain ⟨rfl, hw⟩ := hp
  rw [← hw] at hH; clear hw
  refine wz_isub X.x X.b dX2_difference_56 ?_
  refine wa_ci hS (wa_rS (rest := []) X hH (mJ0_abs _  ((fa (8 * r + c)) - (fb (8 * (r - e) + (c - f)))) (show rI (fa (8 * r + c) - fb (8 * (r - e) + (c - f))) by unfold rI; omega)) (va_cwS 1 X.t (lw_S q1047 q204 q111 q205) rfl rfl rfl hdJ0_abs.2 ⟨Nat.le_of_ble_eq_true rfl, Nat.le_of_ble_eq_true rfl⟩) rfl rfl hl.1 rfl (Nat.le_of_ble_eq_true rfl) dX2_difference_57 ⟨Nat.le_of_ble_eq_true rfl, Nat.le_of_ble_eq_true rfl⟩) (fun z w57 H locs hp hH hS => ?_)
  obtain ⟨rfl, hw⟩ := hp
  rw [← hw] at hH; clear hw
  exact wa_iret X hH hS dX2_difference_60 ⟨by rw [hpe1, hpe2], rfl⟩
set_option maxRecDepth 100000 in
theorem mX2_lambda_measures_0 {lL : Launch} {G : wa_G} {ad : Nat → Nat} {w : wa_W} {S : Nat → Int} {A : Nat → Int → Int} {B : Nat → Int → Option Nat} {P : Nat → Option Nat} (hX : XW G ad w S A B P) {l : Nat} {sc : Nat} {a : Int} {b : Int} {v : Int} {e : Int} {f : Int} {g : Int → Int} (hPX : PX G ad w (B 10) g) (fl0 : Lnk ad w l sc a b v e f) (r : Int) (c : Int) (ha : 0 ≤ a ∧ a < g 3) (hb : 0 ≤ b ∧ b < g 3) (hr : (0 ≤ r ∧ r ≤ 3) ∧ 0 ≤ r - e ∧ r - e ≤ 3) (hc : (0 ≤ c ∧ c ≤ 7) ∧ 0 ≤ c - f ∧ c - f ≤ 7) (ho : okS g) : Met lL yX2_lambda_measures_0 (ws_ yX2_lambda_measures_0 cX2_lambda_measures_0 4 (none : Option FieldType)) ({ frames := 2, cells := 0, slots := 0, locals := 45 } : Room) (wa_P G w [.ref (ad 24), .ref l, .int (zI r), .int (zI c)]) (wa_Qv G fun u => XW G ad u (sup (sup (sup S 9 (S 9 + 1)) 10 (S 10 + (Int.natAbs (pc g a r c - pc g b (r - e) (c - f)) : Int))) 11 (S 11 + (pc g a r c - pc g b (r - e) (c - f)))) A B P ∧ Kp ad w u) 0 0 (wa_A G) := by
  refine wa_met (by decide) (by exact Nat.le_of_ble_eq_true rfl) ?_
  intro pP eE sS mM aA bB mT cC ls X hl hH
  have hS : va_S (wa_A G) sS.heap sS.heap [] := va_S.rf
  have hl : lv_has ls 4 [(0, .ref (ad 24)), (1, .ref l), (2, .int (zI r)), (3, .int (zI c))] := hl
  have hK : Kp ad w w := Kp.rf
  have hPX_0 := hPX
  have fl0_0 := fl0
  have hmany := ho.many
  obtain ⟨pa, ba, fa, hpa0, fpa, apa⟩ := hPX a (by omega) (by omega)
  have cpa := pcA.cB apa ho (by omega)
  have fpa_0 := fpa
  obtain ⟨pb, bb, fb, hpb0, fpb, apb⟩ := hPX b (by omega) (by omega)
  have cpb := pcA.cB apb ho (by omega)
  have fpb_0 := fpb
  have hpe1 : fa (8 * r + c) = pc g a r c := apa _ _ (by omega) (by omega) (by omega) (by omega)
  have hpe2 : fb (8 * (r - e) + (c - f)) = pc g b (r - e) (c - f) := apb _ _ (by omega) (by omega) (by omega) (by omega)
  have hp1 := ho.pc a r c (by omega) (by omega) (by omega) (by omega) (by omega) (by omega)
  have hp2 := ho.pc b (r - e) (c - f) (by omega) (by omega) (by omega) (by omega) (by omega) (by omega)
  refine lv_aload_n X.x X.b dX2_lambda_measures_0_0 rfl (lv_at hl 0 rfl) ?_
  refine lv_dup X.x X.b dX2_lambda_measures_0_1 rfl ?_
  refine wa_get (v := .int (zI (S 9))) X hH (have h9 := (XW.c24 hX); h9) wcX2 12 (by decide) q362 rfl (fun _ h9 => h9) rfl dX2_lambda_measures_0_2 ?_
  refine wz_iconst X.x X.b dX2_lambda_measures_0_5 ?_
  refine wz_iadd X.x X.b dX2_lambda_measures_0_6 ?_
  refine wa_put X hH hS (have h9 := (XW.c24 hX); h9) wcX2 12 (by decide) q362 rfl (fun _ h9 => h9) rfl rfl rfl (Nat.le_of_ble_eq_true rfl) dX2_lambda_measures_0_7 (fun w7 H locs ew hH hS => ?_)
  have hk : Kp ad w w7 := Kp.set (i := 24) (by omega) ew
  have hX := hX.sS (i := 24) (9) (x := (S 9) + 1) (by unfold oS; omega) ew
  have hPX := hPX.kp hk
  have fl0 := fl0.kp hk
  have fpa := fpa.kp hk
  have fpb := fpb.kp hk
  have hK := hK.kp hk
  clear ew
  refine lv_aload_n X.x X.b dX2_lambda_measures_0_10 rfl (lv_at hl 0 rfl) ?_
  refine lv_dup X.x X.b dX2_lambda_measures_0_11 rfl ?_
  refine wa_get (v := .int (zI (S 10))) X hH (have h9 := (XW.c24 hX); h9) wcX2 13 (by decide) q364 rfl (fun _ h9 => h9) rfl dX2_lambda_measures_0_12 ?_
  refine lv_aload_n X.x X.b dX2_lambda_measures_0_15 rfl (lv_at hl 0 rfl) ?_
  refine lv_aload_n X.x X.b dX2_lambda_measures_0_16 rfl (lv_at hl 1 rfl) ?_
  refine lv_iload_n X.x X.b dX2_lambda_measures_0_17 rfl (lv_at hl 2 rfl) ?_
  refine lv_iload_n X.x X.b dX2_lambda_measures_0_18 rfl (lv_at hl 3 rfl) ?_
  refine wa_ci hS (wa_rV (rest := [.int (zI (S 10)), .ref (ad 24)]) X hH (mX2_difference hX hPX fl0 r c (show 0 ≤ a ∧ a < g 3 by first | assumption | omega) (show 0 ≤ b ∧ b < g 3 by first | assumption | omega) (show (0 ≤ r ∧ r ≤ 3) ∧ 0 ≤ r - e ∧ r - e ≤ 3 by first | assumption | omega) (show (0 ≤ c ∧ c ≤ 7) ∧ 0 ≤ c - f ∧ c - f ≤ 7 by first | assumption | omega) (show okS g by first | assumption | omega)) (cwV 3 X.t (lw_V q1282 q1284 qs31 q112 q1285) rfl rfl rfl hdX2_difference ⟨Nat.le_of_ble_eq_true rfl, Nat.le_of_ble_eq_true rfl⟩) rfl (have h9 := (XW.c24 hX); h9) rfl rfl hl.1 rfl (Nat.le_of_ble_eq_true rfl) dX2_lambda_measures_0_19 ⟨Nat.le_of_ble_eq_true rfl, Nat.le_of_ble_eq_true rfl⟩) (fun z w19 H locs hp hH hS => ?_)
  obtain ⟨rfl, hw⟩ := hp
  refine wz_is (z := (Int.natAbs (pc g a r c - pc g b (r - e) (c - f)) : Int)) (by rfl) ?_
  rw [← hw] at hH; clear hw
  refine wz_iadd X.x X.b dX2_lambda_measures_0_22 ?_
  refine wa_put X hH hS (have h9 := (XW.c24 hX); h9) wcX2 13 (by decide) q364 rfl (fun _ h9 => h9) rfl rfl rfl (Nat.le_of_ble_eq_true rfl) dX2_lambda_measures_0_23 (fun w23 H locs ew hH hS => ?_)
  have hk : Kp ad w7 w23 := Kp.set (i := 24) (by omega) ew
  have hX := hX.sS (i := 24) (10) (x := (S 10) + (Int.natAbs (pc g a r c - pc g b (r - e) (c - f)) : Int)) (by unfold oS; omega) ew
  have hPX := hPX.kp hk
  have fl0 := fl0.kp hk
  have fpa := fpa.kp hk
  have fpb := fpb.kp hk
  have hK := hK.kp hk
  clear ew
  refine lv_aload_n X.x X.b dX2_lambda_measures_0_26 rfl (lv_at hl 0 rfl) ?_
  refine lv_dup X.x X.b dX2_lambda_measures_0_27 rfl ?_
  refine wa_get (v := .int (zI (S 11))) X hH (have h9 := (XW.c24 hX); h9) wcX2 14 (by decide) q366 rfl (fun _ h9 => h9) rfl dX2_lambda_measures_0_28 ?_
  refine lv_aload_n X.x X.b dX2_lambda_measures_0_31 rfl (lv_at hl 0 rfl) ?_
  refine wa_get (v := .ref (ad 0)) X hH (have h9 := (XW.c24 hX); h9) wcX2 15 (by decide) q368 rfl (fun _ h9 => h9) rfl dX2_lambda_measures_0_32 ?_
  refine wa_getN (v := .ref (ad 1)) X hH (have h9 := (XW.c0 hX); h9) wcX0 0 (by decide) q416 rfl (fun _ h9 => h9) rfl dX2_lambda_measures_0_35 ?_
  refine wa_getN (v := .ref (ad 2)) X hH (have h9 := (XW.c1 hX); h9) wcX1 2 (by decide) q168 rfl (fun _ h9 => h9) rfl dX2_lambda_measures_0_38 ?_
  refine lv_aload_n X.x X.b dX2_lambda_measures_0_41 rfl (lv_at hl 1 rfl) ?_
  refine wa_getN (v := .int (zI a)) X hH fl0.1.2 wcX11 0 (by decide) q1124 rfl (fun _ h9 => h9) rfl dX2_lambda_measures_0_42 ?_
  refine wa_aald (k := 2) (f := B 10) X hH (have h9 := (XW.c2 hX); h9) rfl rfl (by omega) (by omega) (by omega) dX2_lambda_measures_0_45 ?_
  refine wz_opt (q := some pa) (by exact hpa0) ?_
  refine lv_iload_n X.x X.b dX2_lambda_measures_0_46 rfl (lv_at hl 2 rfl) ?_
  refine lv_iload_n X.x X.b dX2_lambda_measures_0_47 rfl (lv_at hl 3 rfl) ?_
  refine wa_ci hS (wa_rV (rest := [.int (zI (S 11)), .ref (ad 24)]) X hH (mX8_at  (show At w23 pa (eO 8 [.ref ba, .int (zI (sh g a 0)), .int (zI (sh g a 1)), .int (zI (sh g a 2))]) from fpa.1.2) (show At w23 ba (eI G 32 fa) from fpa.2.2) r c (by omega)) (cwV 2 X.t (lw_V q681 q200 q201 q126 q202) rfl rfl rfl hdX8_at ⟨Nat.le_of_ble_eq_true rfl, Nat.le_of_ble_eq_true rfl⟩) rfl fpa.1.2 rfl rfl hl.1 rfl (Nat.le_of_ble_eq_true rfl) dX2_lambda_measures_0_48 ⟨Nat.le_of_ble_eq_true rfl, Nat.le_of_ble_eq_true rfl⟩) (fun z w48 H locs hp hH hS => ?_)
  obtain ⟨rfl, hw⟩ := hp
  refine wz_is (z := fa (8 * r + c)) (by rfl) ?_
  rw [← hw] at hH; clear hw
  refine lv_aload_n X.x X.b dX2_lambda_measures_0_51 rfl (lv_at hl 0 rfl) ?_
  refine wa_get (v := .ref (ad 0)) X hH (have h9 := (XW.c24 hX); h9) wcX2 15 (by decide) q368 rfl (fun _ h9 => h9) rfl dX2_lambda_measures_0_52 ?_
  refine wa_getN (v := .ref (ad 1)) X hH (have h9 := (XW.c0 hX); h9) wcX0 0 (by decide) q416 rfl (fun _ h9 => h9) rfl dX2_lambda_measures_0_55 ?_
  refine wa_getN (v := .ref (ad 2)) X hH (have h9 := (XW.c1 hX); h9) wcX1 2 (by decide) q168 rfl (fun _ h9 => h9) rfl dX2_lambda_measures_0_58 ?_
  refine lv_aload_n X.x X.b dX2_lambda_measures_0_61 rfl (lv_at hl 1 rfl) ?_
  refine wa_getN (v := .int (zI b)) X hH fl0.1.2 wcX11 1 (by decide) q1128 rfl (fun _ h9 => h9) rfl dX2_lambda_measures_0_62 ?_
  refine wa_aald (k := 2) (f := B 10) X hH (have h9 := (XW.c2 hX); h9) rfl rfl (by omega) (by omega) (by omega) dX2_lambda_measures_0_65 ?_
  refine wz_opt (q := some pb) (by exact hpb0) ?_
  refine lv_iload_n X.x X.b dX2_lambda_measures_0_66 rfl (lv_at hl 2 rfl) ?_
  refine lv_aload_n X.x X.b dX2_lambda_measures_0_67 rfl (lv_at hl 1 rfl) ?_
  refine wa_getN (v := .ref sc) X hH fl0.1.2 wcX11 2 (by decide) q1130 rfl (fun _ h9 => h9) rfl dX2_lambda_measures_0_68 ?_
  refine wa_getN (v := .int (zI e)) X hH fl0.2.2 wcX10 0 (by decide) q1056 rfl (fun _ h9 => h9) rfl dX2_lambda_measures_0_71 ?_
  refine wz_isub X.x X.b dX2_lambda_measures_0_74 ?_
  refine lv_iload_n X.x X.b dX2_lambda_measures_0_75 rfl (lv_at hl 3 rfl) ?_
  refine lv_aload_n X.x X.b dX2_lambda_measures_0_76 rfl (lv_at hl 1 rfl) ?_
  refine wa_getN (v := .ref sc) X hH fl0.1.2 wcX11 2 (by decide) q1130 rfl (fun _ h9 => h9) rfl dX2_lambda_measures_0_77 ?_
  refine wa_getN (v := .int (zI f)) X hH fl0.2.2 wcX10 1 (by decide) q1060 rfl (fun _ h9 => h9) rfl dX2_lambda_measures_0_80 ?_
  refine wz_isub X.x X.b dX2_lambda_measures_0_83 ?_
  refine wa_ci hS (wa_rV (rest := [.int (zI (fa (8 * r + c))), .int (zI (S 11)), .ref (ad 24)]) X hH (mX8_at  (show At w23 pb (eO 8 [.ref bb, .int (zI (sh g b 0)), .int (zI (sh g b 1)), .int (zI (sh g b 2))]) from fpb.1.2) (show At w23 bb (eI G 32 fb) from fpb.2.2) (r - e) (c - f) (by omega)) (cwV 2 X.t (lw_V q681 q200 q201 q126 q202) rfl rfl rfl hdX8_at ⟨Nat.le_of_ble_eq_true rfl, Nat.le_of_ble_eq_true rfl⟩) rfl fpb.1.2 rfl rfl hl.1 rfl (Nat.le_of_ble_eq_true rfl) dX2_lambda_measures_0_84 ⟨Nat.le_of_ble_eq_true rfl, Nat.le_of_ble_eq_true rfl⟩) (fun z w84 H locs hp hH hS => ?_)
  obtain ⟨rfl, hw⟩ := hp
  refine wz_is (z := fb (8 * (r - e) + (c - f))) (by rfl) ?_
  rw [← hw] at hH; clear hw
  refine wz_isub X.x X.b dX2_lambda_measures_0_87 ?_
  refine wz_is (z := pc g a r c - pc g b (r - e) (c - f)) (by rw [hpe1, hpe2]) ?_
  refine wz_iadd X.x X.b dX2_lambda_measures_0_88 ?_
  refine wa_put X hH hS (have h9 := (XW.c24 hX); h9) wcX2 14 (by decide) q366 rfl (fun _ h9 => h9) rfl rfl rfl (Nat.le_of_ble_eq_true rfl) dX2_lambda_measures_0_89 (fun w89 H locs ew hH hS => ?_)
  have hk : Kp ad w23 w89 := Kp.set (i := 24) (by omega) ew
  have hX := hX.sS (i := 24) (11) (x := (S 11) + (pc g a r c - pc g b (r - e) (c - f))) (by unfold oS; omega) ew
  have hPX := hPX.kp hk
  have fl0 := fl0.kp hk
  have fpa := fpa.kp hk
  have fpb := fpb.kp hk
  have hK := hK.kp hk
  clear ew
  exact wa_vret X hH hS dX2_lambda_measures_0_92 ⟨hX, hK⟩
set_option maxRecDepth 100000 in
theorem mX11_each {lL : Launch} {G : wa_G} {ad : Nat → Nat} {w : wa_W} {S : Nat → Int} {A : Nat → Int → Int} {B : Nat → Int → Option Nat} {P : Nat → Option Nat} (hX : XW G ad w S A B P) {l : Nat} {sc : Nat} {a : Int} {v : Int} {vi : Nat} {g : Int → Int} (hPX : PX G ad w (B 10) g) (fl0 : Lnk ad w l sc a (foS g a) v (eS g a) (fS g a)) (fv : Lc ad w vi (.inr { cls := G.2.1 19, slots := #[.ref (ad 24), .ref l], vm := .none })) (ha : 0 ≤ a ∧ a < g 3) (hfo : ¬ foS g a = -1) (ho : okS g) (h9 : S 9 = 0 ∧ S 10 = 0 ∧ S 11 = 0) : Met lL yX11_each (ws_ yX11_each cX11_each 4 (none : Option FieldType)) ({ frames := 4, cells := 0, slots := 0, locals := 90 } : Room) (wa_P G w [.ref l, .ref vi]) (wa_Qv G fun u => XW G ad u (sup (sup (sup S 9 (cellS g a)) 10 (diffS 0 g a)) 11 (diffS 1 g a)) A B P ∧ Kp ad w u) 0 0 (wa_A G) := by
  refine wa_met (by decide) (by exact Nat.le_of_ble_eq_true rfl) ?_
  intro pP eE sS mM aA bB mT cC ls X hl hH
  have hS : va_S (wa_A G) sS.heap sS.heap [] := va_S.rf
  have hl : lv_has ls 4 [(0, .ref l), (1, .ref vi)] := hl
  have hK : Kp ad w w := Kp.rf
  have hPX_0 := hPX
  have fl0_0 := fl0
  have fv_0 := fv
  have hmany := ho.many
  have hef := efS_in (g := g) a
  have hfi := foS_in ho ha.1 ha.2
  refine wz_iconst X.x X.b dX11_each_0 ?_
  refine lv_istore_n (lv' := [(2, .int (zI 0)), (0, .ref l), (1, .ref vi)]) X.x X.b dX11_each_1 rfl hl (by decide) rfl (fun ls hl => ?_)
  have L2 : ∀ (nn : Nat) (r : Int) (x9 : Int) (x10 : Int) (x11 : Int), ((4 - r).toNat) = nn → (0 ≤ r ∧ r ≤ 4) → (x9 = cntD g a r.toNat) → (x10 = allD 0 g a r.toNat) → (x11 = allD 1 g a r.toNat) → ∀ (wl2 : wa_W) (H : Heap) (locs : List Loc) (ls : Array Slot), XW G ad wl2 (sup (sup (sup S 9 x9) 10 x10) 11 x11) A B P → Kp ad w wl2 → PX G ad wl2 (B 10) g → Lnk ad wl2 l sc a (foS g a) v (eS g a) (fS g a) → Lc ad wl2 vi (.inr { cls := G.2.1 19, slots := #[.ref (ad 24), .ref l], vm := .none }) → wa_H G wl2 H → va_S (wa_A G) sS.heap H locs → lv_has ls 4 [(2, .int (zI r)), (0, .ref l), (1, .ref vi)] → W pP lL eE ({ frames := 4, cells := 0, slots := 0, locals := 90 } : Room) sS mM aA bB mT cC H locs 0 0 (MQ bB (wa_Qv G fun u => XW G ad u (sup (sup (sup S 9 (cellS g a)) 10 (diffS 0 g a)) 11 (diffS 1 g a)) A B P ∧ Kp ad w u) aA sS 0 0 (wa_A G)) (F0 mM 2 ls []) := by
    intro nn
    induction nn using Nat.strongRecOn with
    | ind nn ih2 =>
      intro r x9 x10 x11 hmu2 i2_0 i2_1 i2_2 i2_3 wl2 H locs ls hX hK hPX fl0 fv hH hS hl
      refine lv_iload_n X.x X.b dX11_each_2 rfl (lv_at hl 0 rfl) ?_
      refine wz_iconst X.x X.b dX11_each_3 ?_
      refine wz_icmp_ge (tgt := 49) X.x X.b dX11_each_4 (by decide) ⟨by omega, by omega⟩ ⟨by omega, by omega⟩ (fun c4 => ?_) (fun c4 => ?_)
      · exact wa_vret X hH hS dX11_each_49 ⟨XW.cS (S2 := sup (sup (sup S 9 (cellS g a)) 10 (diffS 0 g a)) 11 (diffS 1 g a)) hX (by rw [i2_1, i2_2, i2_3, show r = 4 by omega, show (4 : Int).toNat = 4 from rfl, cntD_4]; rfl), hK⟩
      · refine lv_aload_n X.x X.b dX11_each_7 rfl (lv_at hl 1 rfl) ?_
        refine wa_get (v := .ref sc) X hH fl0.1.2 wcX11 2 (by decide) q1129 rfl (fun _ h9 => h9) rfl dX11_each_8 ?_
        refine wa_getN (v := .int (zI (fS g a))) X hH fl0.2.2 wcX10 1 (by decide) q1059 rfl (fun _ h9 => h9) rfl dX11_each_11 ?_
        refine lv_istore_n (lv' := [(3, .int (zI (fS g a))), (2, .int (zI r)), (0, .ref l), (1, .ref vi)]) X.x X.b dX11_each_14 rfl hl (by decide) rfl (fun ls hl => ?_)
        have L15 : ∀ (nn : Nat) (c : Int) (y9 : Int) (y10 : Int) (y11 : Int), ((8 - c).toNat) = nn → (fS g a ≤ c ∧ c ≤ 8) → (y9 = x9 + (c - fS g a)) → (y10 = x10 + rowD 0 g a r (c - fS g a).toNat) → (y11 = x11 + rowD 1 g a r (c - fS g a).toNat) → (c = fS g a ∨ hrS g a r) → ∀ (wl15 : wa_W) (H : Heap) (locs : List Loc) (ls : Array Slot), XW G ad wl15 (sup (sup (sup S 9 y9) 10 y10) 11 y11) A B P → Kp ad w wl15 → PX G ad wl15 (B 10) g → Lnk ad wl15 l sc a (foS g a) v (eS g a) (fS g a) → Lc ad wl15 vi (.inr { cls := G.2.1 19, slots := #[.ref (ad 24), .ref l], vm := .none }) → wa_H G wl15 H → va_S (wa_A G) sS.heap H locs → lv_has ls 4 [(3, .int (zI c)), (2, .int (zI r)), (0, .ref l), (1, .ref vi)] → W pP lL eE ({ frames := 4, cells := 0, slots := 0, locals := 90 } : Room) sS mM aA bB mT cC H locs 0 0 (MQ bB (wa_Qv G fun u => XW G ad u (sup (sup (sup S 9 (cellS g a)) 10 (diffS 0 g a)) 11 (diffS 1 g a)) A B P ∧ Kp ad w u) aA sS 0 0 (wa_A G)) (F0 mM 15 ls []) := by
          intro nn
          induction nn using Nat.strongRecOn with
          | ind nn ih15 =>
            intro c y9 y10 y11 hmu15 i15_0 i15_1 i15_2 i15_3 i15_4 wl15 H locs ls hX hK hPX fl0 fv hH hS hl
            refine lv_iload_n X.x X.b dX11_each_15 rfl (lv_at hl 0 rfl) ?_
            refine wz_bipush X.x X.b dX11_each_16 rfl ?_
            refine wz_icmp_ge (tgt := 43) X.x X.b dX11_each_18 (by decide) ⟨by omega, by omega⟩ ⟨by omega, by omega⟩ (fun c18 => ?_) (fun c18 => ?_)
            · refine wz_iinc (k := 1) (lv' := [(2, .int (zI (r + 1))), (3, .int (zI c)), (0, .ref l), (1, .ref vi)]) X.x X.b dX11_each_43 hl rfl (by decide) rfl (fun ls hl => ?_)
              refine lv_goto (tgt := 2) X.x X.b dX11_each_46 (by decide) ?_
              exact ih2 _ (by omega) (r + 1) y9 y10 y11 rfl (by omega) (by have e8 : c = 8 := (by omega); rw [cntD_s i2_0.1, if_pos (i15_4.resolve_left (by omega)), ← i2_1, i15_1, e8]) (by have e8 : c = 8 := (by omega); rw [allD_s i2_0.1, if_pos (i15_4.resolve_left (by omega)), ← i2_2, i15_2, e8]) (by have e8 : c = 8 := (by omega); rw [allD_s i2_0.1, if_pos (i15_4.resolve_left (by omega)), ← i2_3, i15_3, e8]) _ _ _ _ hX hK hPX fl0 fv hH hS (lv_sub hl [0, 2, 3] rfl)
            · refine lv_aload_n X.x X.b dX11_each_21 rfl (lv_at hl 2 rfl) ?_
              refine lv_iload_n X.x X.b dX11_each_22 rfl (lv_at hl 1 rfl) ?_
              refine wa_ci hS (wa_rV (rest := []) X hH (mX11_isRow  (show At wl15 l (eO 11 [.int (zI a), .int (zI (foS g a)), .ref sc, .int (zI v)]) from fl0.1.2) (show At wl15 sc (eO 10 [.int (zI (eS g a)), .int (zI (fS g a))]) from fl0.2.2) r (show -100 ≤ r ∧ r ≤ 100 by first | assumption | omega) (show -100 ≤ (eS g a) ∧ (eS g a) ≤ 100 by first | assumption | omega)) (cwV 1 X.t (lw_V q1305 q1272 q1273 q141 q1274) rfl rfl rfl hdX11_isRow ⟨Nat.le_of_ble_eq_true rfl, Nat.le_of_ble_eq_true rfl⟩) rfl fl0.1.2 rfl rfl hl.1 rfl (Nat.le_of_ble_eq_true rfl) dX11_each_23 ⟨Nat.le_of_ble_eq_true rfl, Nat.le_of_ble_eq_true rfl⟩) (fun z w23 H locs hp hH hS => ?_)
              obtain ⟨hb, hw⟩ := hp
              rw [← hw] at hH; clear hw
              rcases hb with ⟨b23, rfl⟩ | ⟨b23, rfl⟩
              · have b23 : ((0 ≤ r - (eS g a) ∧ r - (eS g a) ≤ 3) ∧ 0 ≤ r ∧ r ≤ 3) := b23
                refine wz_ifeq (tgt := 43) X.x X.b dX11_each_26 (by decide) (by decide) (fun h => absurd h (by decide)) (fun _ => ?_)
                have hfoi := hfi.resolve_left hfo
                refine lv_aload_n X.x X.b dX11_each_29 rfl (lv_at hl 3 rfl) ?_
                refine lv_iload_n X.x X.b dX11_each_30 rfl (lv_at hl 1 rfl) ?_
                refine lv_iload_n X.x X.b dX11_each_31 rfl (lv_at hl 0 rfl) ?_
                refine wa_c5v hS (wbR3 (rest := []) X hH (mX2_lambda_measures_0 hX hPX fl0 r c ha ⟨hfoi.1, hfoi.2.1⟩ (by omega) (by omega) ho) rfl rfl (have h9 := (XW.c24 hX); h9) fv.2 q1307 hl.1 rfl (Nat.le_of_ble_eq_true rfl) dX11_each_32 (Nat.le_of_ble_eq_true rfl) (Nat.le_of_ble_eq_true rfl) ⟨Nat.le_of_ble_eq_true rfl, Nat.le_of_ble_eq_true rfl⟩) (fun w32 H locs hp hH hS => ?_)
                obtain ⟨hX, hk⟩ := hp
                have hPX := hPX.kp hk
                have fl0 := fl0.kp hk
                have fv := fv.kp hk
                have hK := hK.kp hk
                refine wz_iinc (k := 0) (lv' := [(3, .int (zI (c + 1))), (2, .int (zI r)), (0, .ref l), (1, .ref vi)]) X.x X.b dX11_each_37 hl rfl (by decide) rfl (fun ls hl => ?_)
                refine lv_goto (tgt := 15) X.x X.b dX11_each_40 (by decide) ?_
                have hX := XW.cS (S2 := sup (sup (sup S 9 (y9 + 1)) 10 (y10 + (Int.natAbs (pc g a r c - pc g (foS g a) (r - (eS g a)) (c - (fS g a))) : Int))) 11 (y11 + (pc g a r c - pc g (foS g a) (r - (eS g a)) (c - (fS g a))))) hX (by funext j; simp only [sup]; by_cases h0 : j = 10; (subst h0; first | rfl | simp); by_cases h1 : j = 11; (subst h1; first | rfl | simp); by_cases h2 : j = 9; (subst h2; first | rfl | simp); simp only [h0, h1, h2, ↓reduceIte])
                exact ih15 _ (by omega) (c + 1) (y9 + 1) (y10 + (Int.natAbs (pc g a r c - pc g (foS g a) (r - (eS g a)) (c - (fS g a))) : Int)) (y11 + (pc g a r c - pc g (foS g a) (r - (eS g a)) (c - (fS g a)))) rfl (by omega) (by omega) (by rw [show c + 1 - fS g a = (c + 1 - fS g a) from rfl, rowD_s i15_0.1, i15_2]; unfold FdS dfS; rw [if_pos rfl]; omega) (by rw [rowD_s i15_0.1, i15_3]; unfold FdS dfS; rw [if_neg (by decide)]; omega) (by exact Or.inr ⟨b23.2, b23.1⟩) _ _ _ _ hX hK hPX fl0 fv hH hS (lv_sub hl [0, 1, 2, 3] rfl)
              · have b23 : ¬ ((0 ≤ r - (eS g a) ∧ r - (eS g a) ≤ 3) ∧ 0 ≤ r ∧ r ≤ 3) := b23
                refine wz_ifeq (tgt := 43) X.x X.b dX11_each_26 (by decide) (by decide) (fun _ => ?_) (fun h => absurd h (by decide))
                refine wz_iinc (k := 1) (lv' := [(2, .int (zI (r + 1))), (3, .int (zI c)), (0, .ref l), (1, .ref vi)]) X.x X.b dX11_each_43 hl rfl (by decide) rfl (fun ls hl => ?_)
                refine lv_goto (tgt := 2) X.x X.b dX11_each_46 (by decide) ?_
                exact ih2 _ (by omega) (r + 1) y9 y10 y11 rfl (by omega) (by have e8 : c = fS g a := i15_4.resolve_right (fun q => b23 ⟨q.2, q.1⟩); rw [cntD_s i2_0.1, if_neg (fun q => b23 ⟨q.2, q.1⟩), ← i2_1, i15_1, e8, Int.sub_self]) (by have e8 : c = fS g a := i15_4.resolve_right (fun q => b23 ⟨q.2, q.1⟩); rw [allD_s i2_0.1, if_neg (fun q => b23 ⟨q.2, q.1⟩), ← i2_2, i15_2, e8, Int.sub_self]; show x10 + 0 = x10 + 0; rfl) (by have e8 : c = fS g a := i15_4.resolve_right (fun q => b23 ⟨q.2, q.1⟩); rw [allD_s i2_0.1, if_neg (fun q => b23 ⟨q.2, q.1⟩), ← i2_3, i15_3, e8, Int.sub_self]; show x11 + 0 = x11 + 0; rfl) _ _ _ _ hX hK hPX fl0 fv hH hS (lv_sub hl [0, 2, 3] rfl)
        exact L15 _ (fS g a) x9 x10 x11 rfl (by omega) (by omega) (by rw [Int.sub_self]; show x10 = x10 + 0; omega) (by rw [Int.sub_self]; show x11 = x11 + 0; omega) (by exact Or.inl rfl) _ _ _ _ hX hK hPX fl0 fv hH hS (lv_sub hl [0, 1, 2, 3] rfl)
  have hX := XW.cS (S2 := sup (sup (sup S 9 (S 9)) 10 (S 10)) 11 (S 11)) hX (by funext j; simp only [sup]; by_cases h0 : j = 10; (subst h0; first | rfl | simp); by_cases h1 : j = 11; (subst h1; first | rfl | simp); by_cases h2 : j = 9; (subst h2; first | rfl | simp); simp only [h0, h1, h2, ↓reduceIte])
  exact L2 _ 0 (S 9) (S 10) (S 11) rfl (by omega) (by show S 9 = 0; exact h9.1) (by show S 10 = 0; exact h9.2.1) (by show S 11 = 0; exact h9.2.2) _ _ _ _ hX hK hPX fl0 fv hH hS (lv_sub hl [0, 1, 2] rfl)
set_option maxRecDepth 100000 in
theorem mX2_measures {lL : Launch} {G : wa_G} {ad : Nat → Nat} {w : wa_W} {S : Nat → Int} {A : Nat → Int → Int} {B : Nat → Int → Option Nat} {P : Nat → Option Nat} (hX : XW G ad w S A B P) {l : Nat} {sc : Nat} {a : Int} {v : Int} {g : Int → Int} (hPX : PX G ad w (B 10) g) (fl0 : Lnk ad w l sc a (foS g a) v (eS g a) (fS g a)) (ha : 0 ≤ a ∧ a < g 3) (hfo : ¬ foS g a = -1) (ho : okS g) : Met lL yX2_measures (ws_ yX2_measures cX2_measures 2 (none : Option FieldType)) ({ frames := 5, cells := 1, slots := 2, locals := 3096 } : Room) (wa_P G w [.ref (ad 24), .ref l]) (wa_Qv G fun u => XW G ad u (sup (sup (sup S 9 (cellS g a)) 10 (diffS 0 g a)) 11 (diffS 1 g a)) A B P ∧ Kp ad w u) 1 2 (wa_A G) := by
  refine wa_met (by decide) (by exact Nat.le_of_ble_eq_true rfl) ?_
  intro pP eE sS mM aA bB mT cC ls X hl hH
  have hS : va_S (wa_A G) sS.heap sS.heap [] := va_S.rf
  have hl : lv_has ls 2 [(0, .ref (ad 24)), (1, .ref l)] := hl
  have hK : Kp ad w w := Kp.rf
  have hPX_0 := hPX
  have fl0_0 := fl0
  have hmany := ho.many
  have hef := efS_in (g := g) a
  have hfi := foS_in ho ha.1 ha.2
  refine lv_aload_n X.x X.b dX2_measures_0 rfl (lv_at hl 0 rfl) ?_
  refine wz_iconst X.x X.b dX2_measures_1 ?_
  refine wa_put X hH hS (have h9 := (XW.c24 hX); h9) wcX2 12 (by decide) q362 rfl (fun _ h9 => h9) rfl rfl rfl (Nat.le_of_ble_eq_true rfl) dX2_measures_2 (fun w2 H locs ew hH hS => ?_)
  have hk : Kp ad w w2 := Kp.set (i := 24) (by omega) ew
  have hX := hX.sS (i := 24) (9) (x := 0) (by unfold oS; omega) ew
  have hPX := hPX.kp hk
  have fl0 := fl0.kp hk
  have hK := hK.kp hk
  clear ew
  refine lv_aload_n X.x X.b dX2_measures_5 rfl (lv_at hl 0 rfl) ?_
  refine wz_iconst X.x X.b dX2_measures_6 ?_
  refine wa_put X hH hS (have h9 := (XW.c24 hX); h9) wcX2 13 (by decide) q364 rfl (fun _ h9 => h9) rfl rfl rfl (Nat.le_of_ble_eq_true rfl) dX2_measures_7 (fun w7 H locs ew hH hS => ?_)
  have hk : Kp ad w2 w7 := Kp.set (i := 24) (by omega) ew
  have hX := hX.sS (i := 24) (10) (x := 0) (by unfold oS; omega) ew
  have hPX := hPX.kp hk
  have fl0 := fl0.kp hk
  have hK := hK.kp hk
  clear ew
  refine lv_aload_n X.x X.b dX2_measures_10 rfl (lv_at hl 0 rfl) ?_
  refine wz_iconst X.x X.b dX2_measures_11 ?_
  refine wa_put X hH hS (have h9 := (XW.c24 hX); h9) wcX2 14 (by decide) q366 rfl (fun _ h9 => h9) rfl rfl rfl (Nat.le_of_ble_eq_true rfl) dX2_measures_12 (fun w12 H locs ew hH hS => ?_)
  have hk : Kp ad w7 w12 := Kp.set (i := 24) (by omega) ew
  have hX := hX.sS (i := 24) (11) (x := 0) (by unfold oS; omega) ew
  have hPX := hPX.kp hk
  have fl0 := fl0.kp hk
  have hK := hK.kp hk
  clear ew
  refine lv_aload_n X.x X.b dX2_measures_15 rfl (lv_at hl 1 rfl) ?_
  refine lv_aload_n X.x X.b dX2_measures_16 rfl (lv_at hl 0 rfl) ?_
  refine lv_aload_n X.x X.b dX2_measures_17 rfl (lv_at hl 1 rfl) ?_
  have hX_18 := hX
  have hK_18 := hK
  have hPX_18 := hPX
  have fl0_18 := fl0
  refine wb_lam (rest := [.ref l]) (vals := [.ref (ad 24), .ref l]) (sh := wbS3) (num := 19) (D := wbD3) (laid := wbL3) X hH hS (wb_hO (X.t _ q2102)) (List.mem_of_getElem? (i := 2) rfl) wbD3_is wbL3_is wbL3_t (by rw [wbC3]; rfl) (by rw [wbC3]; exact (lamOK.cons ⟨rfl, rfl⟩ (lamOK.cons ⟨rfl, rfl⟩ lamOK.nil))) rfl hl.1 (Nat.le_of_ble_eq_true rfl) (Nat.le_of_ble_eq_true rfl) (Nat.le_of_ble_eq_true rfl) dX2_measures_18 (fun nq18 w18 H hn18 ew hH hS => ?_)
  have hk0 := Ext.new hn18 ew
  have hX := hX.ext hk0
  have hk := hk0.k (ad := ad)
  have hPX := hPX.kp hk
  have fl0 := fl0.kp hk
  have hK := hK.kp hk
  have hN18 := hk
  have n18 : Lc ad w18 nq18 (.inr { cls := G.2.1 19, slots := #[.ref (ad 24), .ref l], vm := .none }) := Lc.new hX_18 hn18 (by rw [ew]; exact wup_s)
  clear ew hk0
  refine wa_cv hS (wa_rV (rest := []) X hH (mX11_each hX hPX fl0 n18  (show 0 ≤ a ∧ a < g 3 by first | assumption | omega) (show ¬ foS g a = -1 by first | assumption | omega) (show okS g by first | assumption | omega) (show 0 = 0 ∧ 0 = 0 ∧ 0 = 0 by first | assumption | omega)) (cwV 1 X.t (lw_V q1301 q1302 q1303 q141 q1304) rfl rfl rfl hdX11_each ⟨Nat.le_of_ble_eq_true rfl, Nat.le_of_ble_eq_true rfl⟩) rfl fl0.1.2 rfl rfl hl.1 rfl (Nat.le_of_ble_eq_true rfl) dX2_measures_23 ⟨Nat.le_of_ble_eq_true rfl, Nat.le_of_ble_eq_true rfl⟩) (fun w23 H locs hp hH hS => ?_)
  obtain ⟨hX, hk⟩ := hp
  have hPX := hPX.kp hk
  have fl0 := fl0.kp hk
  have hN18 := hN18.kp hk
  have n18 := n18.kp hk
  have hK := hK.kp hk
  refine W.widen (k := 1) (n := 2) (by first | exact Nat.le_of_ble_eq_true rfl | omega) (by first | exact Nat.le_of_ble_eq_true rfl | omega) ?_
  exact wa_vret X hH hS dX2_measures_26 ⟨XW.cS (S2 := sup (sup (sup S 9 (cellS g a)) 10 (diffS 0 g a)) 11 (diffS 1 g a)) (hX) (by funext j; simp only [sup]; by_cases h0 : j = 10; (subst h0; first | rfl | simp); by_cases h1 : j = 11; (subst h1; first | rfl | simp); by_cases h2 : j = 9; (subst h2; first | rfl | simp); simp only [h0, h1, h2, ↓reduceIte]), hK⟩

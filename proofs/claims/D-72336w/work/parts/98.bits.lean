/-! JOINER: place, shown; bits, corners -/
set_option maxRecDepth 100000 in
theorem mX2_place {lL : Launch} {G : wa_G} {ad : Nat → Nat} {w : wa_W} {S : Nat → Int} {A : Nat → Int → Int} {B : Nat → Int → Option Nat} {P : Nat → Option Nat} (hX : XW G ad w S A B P) {g : Int → Int} (hJR : JR G ad w S A B P g) (k : Int) (what : Int) (hk : 0 ≤ k ∧ k < g 3) (hw : 0 ≤ what ∧ what ≤ 1) (ho : okS g) (hcl : closedS g) (hm : S 30 = g 3) : Met lL yX2_place (ws_ yX2_place cX2_place 7 (some FieldType.int)) ({ frames := 1, cells := 0, slots := 0, locals := 22 } : Room) (wa_P G w [.ref (ad 24), .int (zI k), .int (zI what)]) (wa_Qz G fun z u => z = (if what = 0 then wkS (fS g) g k else wkS (eS g) g k - (2 * sumE g * wkS (fun _ => 1) g k + g 3) / (2 * g 3)) ∧ w = u) 0 0 (wa_A G) := by
  refine wa_met (by decide) (by exact Nat.le_of_ble_eq_true rfl) ?_
  intro pP eE sS mM aA bB mT cC ls X hl hH
  have hS : va_S (wa_A G) sS.heap sS.heap [] := va_S.rf
  have hl : lv_has ls 7 [(0, .ref (ad 24)), (1, .int (zI k)), (2, .int (zI what))] := hl
  have hK : Kp ad w w := Kp.rf
  have hJR_0 := hJR
  have hmany := ho.many
  obtain ⟨N, hN1, hN2, hN3⟩ := pl_way ho hcl hk.1 hk.2
  have hst : stopS g 0 := Or.inl ⟨hcl, rfl⟩
  have hg2 := hcl.1
  have hS8 : S 8 = sumE g := hJR.2.1.2.2.2.2.2
  refine wz_iconst X.x X.b dX2_place_0 ?_
  refine lv_istore_n (lv' := [(3, .int (zI 0)), (0, .ref (ad 24)), (1, .int (zI k)), (2, .int (zI what))]) X.x X.b dX2_place_1 rfl hl (by decide) rfl (fun ls hl => ?_)
  refine wz_iconst X.x X.b dX2_place_2 ?_
  refine lv_istore (lv' := [(4, .int (zI 0)), (3, .int (zI 0)), (0, .ref (ad 24)), (1, .int (zI k)), (2, .int (zI what))]) X.x X.b dX2_place_3 hl (by decide) rfl (fun ls hl => ?_)
  refine wz_iconst X.x X.b dX2_place_5 ?_
  refine lv_istore (lv' := [(5, .int (zI 0)), (4, .int (zI 0)), (3, .int (zI 0)), (0, .ref (ad 24)), (1, .int (zI k)), (2, .int (zI what))]) X.x X.b dX2_place_6 hl (by decide) rfl (fun ls hl => ?_)
  refine wz_iconst X.x X.b dX2_place_8 ?_
  refine lv_istore (lv' := [(6, .int (zI 0)), (5, .int (zI 0)), (4, .int (zI 0)), (3, .int (zI 0)), (0, .ref (ad 24)), (1, .int (zI k)), (2, .int (zI what))]) X.x X.b dX2_place_9 hl (by decide) rfl (fun ls hl => ?_)
  have L11 : ∀ (nn : Nat) (n : Nat) (t : Int) (x : Int) (y : Int) (cn : Int), (N - n) = nn → (t = stN (foS g) n 0) → (0 ≤ t ∧ t < g 3) → (x = wkS (fS g) g t) → (y = wkS (eS g) g t) → (cn = wkS (fun _ => 1) g t) → (cn = n ∧ n ≤ N) → ∀ (H : Heap) (locs : List Loc) (ls : Array Slot), wa_H G w H → va_S (wa_A G) sS.heap H locs → lv_has ls 7 [(3, .int (zI x)), (4, .int (zI y)), (5, .int (zI cn)), (6, .int (zI t)), (0, .ref (ad 24)), (1, .int (zI k)), (2, .int (zI what))] → W pP lL eE ({ frames := 1, cells := 0, slots := 0, locals := 22 } : Room) sS mM aA bB mT cC H locs 0 0 (MQ bB (wa_Qz G fun z u => z = (if what = 0 then wkS (fS g) g k else wkS (eS g) g k - (2 * sumE g * wkS (fun _ => 1) g k + g 3) / (2 * g 3)) ∧ w = u) aA sS 0 0 (wa_A G)) (F0 mM 11 ls []) := by
    intro nn
    induction nn using Nat.strongRecOn with
    | ind nn ih11 =>
      intro n t x y cn hmu11 i11_0 i11_1 i11_2 i11_3 i11_4 i11_5 H locs ls hH hS hl
      refine lv_iload X.x X.b dX2_place_11 (lv_at hl 3 rfl) ?_
      refine lv_iload_n X.x X.b dX2_place_13 rfl (lv_at hl 5 rfl) ?_
      refine wz_icmp_eq (tgt := 69) X.x X.b dX2_place_14 (by decide) ⟨by omega, by omega⟩ ⟨by omega, by omega⟩ (fun c14 => ?_) (fun c14 => ?_)
      · refine lv_iload_n X.x X.b dX2_place_69 rfl (lv_at hl 6 rfl) ?_
        refine wz_ifne (tgt := 77) X.x X.b dX2_place_70 (by decide) ⟨by omega, by omega⟩ (fun c70 => ?_) (fun c70 => ?_)
        · refine lv_iload X.x X.b dX2_place_77 (lv_at hl 1 rfl) ?_
          refine wz_iconst X.x X.b dX2_place_79 ?_
          refine lv_iload X.x X.b dX2_place_80 (lv_at hl 2 rfl) ?_
          refine wz_imul X.x X.b dX2_place_82 ?_
          refine lv_aload_n X.x X.b dX2_place_83 rfl (lv_at hl 4 rfl) ?_
          refine wa_get (v := .int (zI (S 8))) X hH (have h9 := (XW.c24 hX); h9) wcX2 8 (by decide) q354 rfl (fun _ h9 => h9) rfl dX2_place_84 ?_
          have hpd := pl_drift (c := cn) hmany (by omega)
          have hlast : t = k := by omega
          refine wz_imul X.x X.b dX2_place_87 ?_
          refine lv_aload_n X.x X.b dX2_place_88 rfl (lv_at hl 4 rfl) ?_
          refine wa_get (v := .ref (ad 0)) X hH (have h9 := (XW.c24 hX); h9) wcX2 15 (by decide) q368 rfl (fun _ h9 => h9) rfl dX2_place_89 ?_
          refine wa_getN (v := .ref (ad 1)) X hH (have h9 := (XW.c0 hX); h9) wcX0 0 (by decide) q416 rfl (fun _ h9 => h9) rfl dX2_place_92 ?_
          refine wa_getN (v := .int (zI (S 30))) X hH (have h9 := (XW.c1 hX); h9) wcX1 3 (by decide) q171 rfl (fun _ h9 => h9) rfl dX2_place_95 ?_
          refine wz_iadd X.x X.b dX2_place_98 ?_
          refine wz_is (z := 2 * cn * sumE g + g 3) (by rw [hS8, hm]) ?_
          refine wz_iconst X.x X.b dX2_place_99 ?_
          refine lv_aload_n X.x X.b dX2_place_100 rfl (lv_at hl 4 rfl) ?_
          refine wa_get (v := .ref (ad 0)) X hH (have h9 := (XW.c24 hX); h9) wcX2 15 (by decide) q368 rfl (fun _ h9 => h9) rfl dX2_place_101 ?_
          refine wa_getN (v := .ref (ad 1)) X hH (have h9 := (XW.c0 hX); h9) wcX0 0 (by decide) q416 rfl (fun _ h9 => h9) rfl dX2_place_104 ?_
          refine wa_getN (v := .int (zI (S 30))) X hH (have h9 := (XW.c1 hX); h9) wcX1 3 (by decide) q171 rfl (fun _ h9 => h9) rfl dX2_place_107 ?_
          refine wz_imul X.x X.b dX2_place_110 ?_
          refine wz_is (z := 2 * g 3) (by rw [hm]) ?_
          refine wa_ci hS (wa_rS (rest := [.int (zI y)]) X hH (mJ0_floorDiv _  (2 * cn * sumE g + g 3) (2 * g 3) (by unfold rI; omega) (by omega)) (va_cwS 2 X.t (lw_S q1377 q1378 q111 q1379) rfl rfl rfl hdJ0_floorDiv.2 ⟨Nat.le_of_ble_eq_true rfl, Nat.le_of_ble_eq_true rfl⟩) rfl rfl hl.1 rfl (Nat.le_of_ble_eq_true rfl) dX2_place_111 ⟨Nat.le_of_ble_eq_true rfl, Nat.le_of_ble_eq_true rfl⟩) (fun z w111 H locs hp hH hS => ?_)
          obtain ⟨rfl, hw⟩ := hp
          rw [← hw] at hH; clear hw
          refine wz_isub X.x X.b dX2_place_114 ?_
          exact wa_iret X hH hS dX2_place_115 ⟨by (have hlast : t = k := by omega); rw [← hlast]; first | (rw [if_pos (by omega)]; exact i11_2) | (rw [if_neg (by omega), ← i11_3, ← i11_4, show 2 * sumE g * cn = 2 * cn * sumE g by rw [Int.mul_assoc, Int.mul_comm (sumE g), ← Int.mul_assoc]]), rfl⟩
        · refine lv_iload_n X.x X.b dX2_place_73 rfl (lv_at hl 0 rfl) ?_
          refine lv_goto (tgt := 115) X.x X.b dX2_place_74 (by decide) ?_
          exact wa_iret X hH hS dX2_place_115 ⟨by (have hlast : t = k := by omega); rw [← hlast]; first | (rw [if_pos (by omega)]; exact i11_2) | (rw [if_neg (by omega), ← i11_3, ← i11_4, show 2 * sumE g * cn = 2 * cn * sumE g by rw [Int.mul_assoc, Int.mul_comm (sumE g), ← Int.mul_assoc]]), rfl⟩
      · have hnN : n < N := by
          rcases Nat.lt_or_ge n N with q | q
          · exact q
          · exfalso; have e8 : n = N := (by omega); rw [e8, hN2] at i11_0; exact c14 i11_0
        obtain ⟨hs1, hs2, hs3⟩ := pl_step ho hcl hN2 hN3 hnN i11_0 i11_1
        obtain ⟨hq1, hq2, hq3, lk, sc, elk, fl⟩ := (hJR.2.1.1 t (by omega) (by omega)).resolve_left (fun q => closed_all hcl i11_1.1 i11_1.2 q.1)
        refine lv_iload_n X.x X.b dX2_place_17 rfl (lv_at hl 0 rfl) ?_
        refine lv_aload_n X.x X.b dX2_place_18 rfl (lv_at hl 4 rfl) ?_
        refine wa_get (v := .ref (ad 51)) X hH (have h9 := (XW.c24 hX); h9) wcX2 3 (by decide) q344 rfl (fun _ h9 => h9) rfl dX2_place_19 ?_
        refine lv_iload X.x X.b dX2_place_22 (lv_at hl 3 rfl) ?_
        refine wa_aald (k := 6) (f := B 1) X hH (have h9 := (XW.c51 hX); h9) rfl rfl (by omega) (by omega) (by omega) dX2_place_24 ?_
        refine wz_opt (q := some lk) (by exact elk) ?_
        refine wa_getN (v := .ref sc) X hH fl.1.2 wcX11 2 (by decide) q1130 rfl (fun _ h9 => h9) rfl dX2_place_25 ?_
        refine wa_getN (v := .int (zI (fS g t))) X hH fl.2.2 wcX10 1 (by decide) q1060 rfl (fun _ h9 => h9) rfl dX2_place_28 ?_
        refine wz_iadd X.x X.b dX2_place_31 ?_
        refine lv_istore_n (lv' := [(3, .int (zI (x + (fS g t)))), (4, .int (zI y)), (5, .int (zI cn)), (6, .int (zI t)), (0, .ref (ad 24)), (1, .int (zI k)), (2, .int (zI what))]) X.x X.b dX2_place_32 rfl hl (by decide) rfl (fun ls hl => ?_)
        refine lv_iload X.x X.b dX2_place_33 (lv_at hl 1 rfl) ?_
        refine lv_aload_n X.x X.b dX2_place_35 rfl (lv_at hl 4 rfl) ?_
        refine wa_get (v := .ref (ad 51)) X hH (have h9 := (XW.c24 hX); h9) wcX2 3 (by decide) q344 rfl (fun _ h9 => h9) rfl dX2_place_36 ?_
        refine lv_iload X.x X.b dX2_place_39 (lv_at hl 3 rfl) ?_
        refine wa_aald (k := 6) (f := B 1) X hH (have h9 := (XW.c51 hX); h9) rfl rfl (by omega) (by omega) (by omega) dX2_place_41 ?_
        refine wz_opt (q := some lk) (by exact elk) ?_
        refine wa_getN (v := .ref sc) X hH fl.1.2 wcX11 2 (by decide) q1130 rfl (fun _ h9 => h9) rfl dX2_place_42 ?_
        refine wa_getN (v := .int (zI (eS g t))) X hH fl.2.2 wcX10 0 (by decide) q1056 rfl (fun _ h9 => h9) rfl dX2_place_45 ?_
        refine wz_iadd X.x X.b dX2_place_48 ?_
        refine lv_istore (lv' := [(4, .int (zI (y + (eS g t)))), (3, .int (zI (x + (fS g t)))), (5, .int (zI cn)), (6, .int (zI t)), (0, .ref (ad 24)), (1, .int (zI k)), (2, .int (zI what))]) X.x X.b dX2_place_49 hl (by decide) rfl (fun ls hl => ?_)
        refine wz_iinc (k := 2) (lv' := [(5, .int (zI (cn + 1))), (4, .int (zI (y + (eS g t)))), (3, .int (zI (x + (fS g t)))), (6, .int (zI t)), (0, .ref (ad 24)), (1, .int (zI k)), (2, .int (zI what))]) X.x X.b dX2_place_51 hl rfl (by decide) rfl (fun ls hl => ?_)
        refine lv_aload_n X.x X.b dX2_place_54 rfl (lv_at hl 4 rfl) ?_
        refine wa_get (v := .ref (ad 51)) X hH (have h9 := (XW.c24 hX); h9) wcX2 3 (by decide) q344 rfl (fun _ h9 => h9) rfl dX2_place_55 ?_
        refine lv_iload X.x X.b dX2_place_58 (lv_at hl 3 rfl) ?_
        refine wa_aald (k := 6) (f := B 1) X hH (have h9 := (XW.c51 hX); h9) rfl rfl (by omega) (by omega) (by omega) dX2_place_60 ?_
        refine wz_opt (q := some lk) (by exact elk) ?_
        refine wa_getN (v := .int (zI (foS g t))) X hH fl.1.2 wcX11 1 (by decide) q1128 rfl (fun _ h9 => h9) rfl dX2_place_61 ?_
        refine lv_istore (lv' := [(6, .int (zI (foS g t))), (5, .int (zI (cn + 1))), (4, .int (zI (y + (eS g t)))), (3, .int (zI (x + (fS g t)))), (0, .ref (ad 24)), (1, .int (zI k)), (2, .int (zI what))]) X.x X.b dX2_place_64 hl (by decide) rfl (fun ls hl => ?_)
        refine lv_goto (tgt := 11) X.x X.b dX2_place_66 (by decide) ?_
        exact ih11 _ (by omega) (n + 1) (foS g t) (x + (fS g t)) (y + (eS g t)) (cn + 1) rfl (by exact hs1.symm) (by exact hs2) (by rw [hs3, i11_2]; omega) (by rw [hs3, i11_3]; omega) (by rw [hs3, i11_4]; show _ = 1 + _; omega) (by omega) _ _ _ hH hS (lv_sub hl [3, 2, 1, 0, 4, 5, 6] rfl)
  exact L11 _ 0 0 0 0 0 rfl (by rfl) (by omega) (by exact (wkS_stop hst).symm) (by exact (wkS_stop hst).symm) (by exact (wkS_stop hst).symm) (by omega) _ _ _ hH hS (lv_sub hl [3, 2, 1, 0, 4, 5, 6] rfl)
set_option maxRecDepth 100000 in
theorem mX0_lambda_allOf_2 {lL : Launch} {G : wa_G} {ad : Nat → Nat} {w : wa_W} {S : Nat → Int} {A : Nat → Int → Int} {B : Nat → Int → Option Nat} {P : Nat → Option Nat} (hX : XW G ad w S A B P) {g : Int → Int} (hJR : JR G ad w S A B P g) (hPX : PX G ad w (B 10) g) (k : Int) (hk : 0 ≤ k ∧ k < g 3) (ho : okS g) : Met lL yX0_lambda_allOf_2 (ws_ yX0_lambda_allOf_2 cX0_lambda_allOf_2 2 (some FieldType.boolean)) ({ frames := 1, cells := 0, slots := 0, locals := 24 } : Room) (wa_P G w [.ref (ad 24), .int (zI k)]) (wa_Qz G fun z u => ((¬ foS g k = -1 ∧ rightS g k) ∧ z = 1 ∨ ¬ (¬ foS g k = -1 ∧ rightS g k) ∧ z = 0) ∧ w = u) 0 0 (wa_A G) := by
  refine wa_met (by decide) (by exact Nat.le_of_ble_eq_true rfl) ?_
  intro pP eE sS mM aA bB mT cC ls X hl hH
  have hS : va_S (wa_A G) sS.heap sS.heap [] := va_S.rf
  have hl : lv_has ls 2 [(0, .ref (ad 24)), (1, .int (zI k))] := hl
  have hK : Kp ad w w := Kp.rf
  have hJR_0 := hJR
  have hPX_0 := hPX
  refine lv_aload_n X.x X.b dX0_lambda_allOf_2_0 rfl (lv_at hl 0 rfl) ?_
  refine lv_iload_n X.x X.b dX0_lambda_allOf_2_1 rfl (lv_at hl 1 rfl) ?_
  refine wa_ci hS (wa_rV (rest := []) X hH (mX2_isRight hX hJR hPX k (show 0 ≤ k ∧ k < g 3 by first | assumption | omega) (show okS g by first | assumption | omega)) (cwV 1 X.t (lw_V q1357 q1358 q1359 q112 q1360) rfl rfl rfl hdX2_isRight ⟨Nat.le_of_ble_eq_true rfl, Nat.le_of_ble_eq_true rfl⟩) rfl (have h9 := (XW.c24 hX); h9) rfl rfl hl.1 rfl (Nat.le_of_ble_eq_true rfl) dX0_lambda_allOf_2_2 ⟨Nat.le_of_ble_eq_true rfl, Nat.le_of_ble_eq_true rfl⟩) (fun z w2 H locs hp hH hS => ?_)
  obtain ⟨hb, hw⟩ := hp
  rw [← hw] at hH; clear hw
  rcases hb with ⟨b2, rfl⟩ | ⟨b2, rfl⟩
  · have b2 : (¬ foS g k = -1 ∧ rightS g k) := b2
    exact wa_zret X hH hS dX0_lambda_allOf_2_5 nb1 ⟨Or.inl ⟨by assumption, rfl⟩, rfl⟩
  · have b2 : ¬ (¬ foS g k = -1 ∧ rightS g k) := b2
    exact wa_zret X hH hS dX0_lambda_allOf_2_5 nb0 ⟨Or.inr ⟨by assumption, rfl⟩, rfl⟩
set_option maxRecDepth 100000 in
theorem mX0_lambda_allOf_3 {lL : Launch} {G : wa_G} {ad : Nat → Nat} {w : wa_W} {S : Nat → Int} {A : Nat → Int → Int} {B : Nat → Int → Option Nat} {P : Nat → Option Nat} (hX : XW G ad w S A B P) {g : Int → Int} (hJR : JR G ad w S A B P g) (k : Int) (hk : 0 ≤ k ∧ k < g 3) (ho : okS g) : Met lL yX0_lambda_allOf_3 (ws_ yX0_lambda_allOf_3 cX0_lambda_allOf_3 2 (some FieldType.boolean)) ({ frames := 0, cells := 0, slots := 0, locals := 0 } : Room) (wa_P G w [.ref (ad 24), .int (zI k)]) (wa_Qz G fun z u => ((ahS g k = -1) ∧ z = 1 ∨ ¬ (ahS g k = -1) ∧ z = 0) ∧ w = u) 0 0 (wa_A G) := by
  refine wa_met (by decide) (by exact Nat.le_of_ble_eq_true rfl) ?_
  intro pP eE sS mM aA bB mT cC ls X hl hH
  have hS : va_S (wa_A G) sS.heap sS.heap [] := va_S.rf
  have hl : lv_has ls 2 [(0, .ref (ad 24)), (1, .int (zI k))] := hl
  have hK : Kp ad w w := Kp.rf
  have hJR_0 := hJR
  have hmany := ho.many
  have hai := ahS_in ho hk.1 hk.2
  have hah := hJR.2.1.2.1 k hk.1 (by omega)
  refine lv_aload_n X.x X.b dX0_lambda_allOf_3_0 rfl (lv_at hl 0 rfl) ?_
  refine wa_getN (v := .ref (ad 52)) X hH (have h9 := (XW.c24 hX); h9) wcX2 4 (by decide) q347 rfl (fun _ h9 => h9) rfl dX0_lambda_allOf_3_1 ?_
  refine lv_iload_n X.x X.b dX0_lambda_allOf_3_4 rfl (lv_at hl 1 rfl) ?_
  refine wa_iald (f := A 3) X hH (have h9 := (XW.c52 hX); h9) (by omega) (by omega) (by omega) dX0_lambda_allOf_3_5 ?_
  refine wz_iconst X.x X.b dX0_lambda_allOf_3_6 ?_
  refine wz_icmp_ne (tgt := 14) X.x X.b dX0_lambda_allOf_3_7 (by decide) ⟨by omega, by omega⟩ ⟨by omega, by omega⟩ (fun c7 => ?_) (fun c7 => ?_)
  · refine wz_iconst X.x X.b dX0_lambda_allOf_3_14 ?_
    exact wa_zret X hH hS dX0_lambda_allOf_3_15 nb0 ⟨Or.inr ⟨by omega, rfl⟩, rfl⟩
  · refine wz_iconst X.x X.b dX0_lambda_allOf_3_10 ?_
    refine lv_goto (tgt := 15) X.x X.b dX0_lambda_allOf_3_11 (by decide) ?_
    exact wa_zret X hH hS dX0_lambda_allOf_3_15 nb1 ⟨Or.inl ⟨by omega, rfl⟩, rfl⟩
set_option maxRecDepth 100000 in
theorem mX0_bits_4 {lL : Launch} {G : wa_G} {ad : Nat → Nat} {w : wa_W} {S : Nat → Int} {A : Nat → Int → Int} {B : Nat → Int → Option Nat} {P : Nat → Option Nat} (hX : XW G ad w S A B P) {g : Int → Int} {t9 : Nat} (hJR : JR G ad w S A B P g) (hPX : PX G ad w (B 10) g) (ft : Lc ad w t9 (.inr { cls := G.2.1 20, slots := #[.ref (ad 24)], vm := .none })) (m9 : Int) (hm9 : 0 ≤ m9 ∧ m9 ≤ 30) (hm93 : m9 ≤ g 3) (ho : okS g) : Met lL yX0_bits (ws_ yX0_bits cX0_bits 4 (some FieldType.int)) ({ frames := 3, cells := 0, slots := 0, locals := 66 } : Room) (wa_P G w [.int (zI m9), .ref t9]) (wa_Qz G fun z u => z = bset (fun (j : Nat) => cb (¬ foS g (j : Int) = -1 ∧ rightS g (j : Int))) m9.toNat ∧ w = u) 0 0 (wa_A G) := by
  refine wa_met (by decide) (by exact Nat.le_of_ble_eq_true rfl) ?_
  intro pP eE sS mM aA bB mT cC ls X hl hH
  have hS : va_S (wa_A G) sS.heap sS.heap [] := va_S.rf
  have hl : lv_has ls 4 [(0, .int (zI m9)), (1, .ref t9)] := hl
  have hK : Kp ad w w := Kp.rf
  have hJR_0 := hJR
  have hPX_0 := hPX
  have ft_0 := ft
  refine wz_iconst X.x X.b dX0_bits_0 ?_
  refine lv_istore_n (lv' := [(2, .int (zI 0)), (0, .int (zI m9)), (1, .ref t9)]) X.x X.b dX0_bits_1 rfl hl (by decide) rfl (fun ls hl => ?_)
  refine wz_iconst X.x X.b dX0_bits_2 ?_
  refine lv_istore_n (lv' := [(3, .int (zI 0)), (2, .int (zI 0)), (0, .int (zI m9)), (1, .ref t9)]) X.x X.b dX0_bits_3 rfl hl (by decide) rfl (fun ls hl => ?_)
  have L4 : ∀ (nn : Nat) (k9 : Int) (s9 : Int), ((m9 - k9).toNat) = nn → (0 ≤ k9 ∧ k9 ≤ m9) → (s9 = bset (fun (j : Nat) => cb (¬ foS g (j : Int) = -1 ∧ rightS g (j : Int))) k9.toNat) → ∀ (H : Heap) (locs : List Loc) (ls : Array Slot), wa_H G w H → va_S (wa_A G) sS.heap H locs → lv_has ls 4 [(3, .int (zI k9)), (2, .int (zI s9)), (0, .int (zI m9)), (1, .ref t9)] → W pP lL eE ({ frames := 3, cells := 0, slots := 0, locals := 66 } : Room) sS mM aA bB mT cC H locs 0 0 (MQ bB (wa_Qz G fun z u => z = bset (fun (j : Nat) => cb (¬ foS g (j : Int) = -1 ∧ rightS g (j : Int))) m9.toNat ∧ w = u) aA sS 0 0 (wa_A G)) (F0 mM 4 ls []) := by
    intro nn
    induction nn using Nat.strongRecOn with
    | ind nn ih4 =>
      intro k9 s9 hmu4 i4_0 i4_1 H locs ls hH hS hl
      refine lv_iload_n X.x X.b dX0_bits_4 rfl (lv_at hl 0 rfl) ?_
      refine lv_iload_n X.x X.b dX0_bits_5 rfl (lv_at hl 2 rfl) ?_
      refine wz_icmp_ge (tgt := 35) X.x X.b dX0_bits_6 (by decide) ⟨by omega, by omega⟩ ⟨by omega, by omega⟩ (fun c6 => ?_) (fun c6 => ?_)
      · refine lv_iload_n X.x X.b dX0_bits_35 rfl (lv_at hl 1 rfl) ?_
        exact wa_iret X hH hS dX0_bits_36 ⟨by rw [i4_1, show k9 = m9 by omega], rfl⟩
      · refine lv_iload_n X.x X.b dX0_bits_9 rfl (lv_at hl 1 rfl) ?_
        refine lv_aload_n X.x X.b dX0_bits_10 rfl (lv_at hl 3 rfl) ?_
        refine lv_iload_n X.x X.b dX0_bits_11 rfl (lv_at hl 0 rfl) ?_
        refine wa_c5i hS (wbR4 (rest := [.int (zI s9)]) X hH (mX0_lambda_allOf_2 hX hJR hPX k9 (show 0 ≤ k9 ∧ k9 < g 3 by first | assumption | omega) (show okS g by first | assumption | omega)) rfl rfl (fun z u hp => by rcases hp.1 with ⟨_, rfl⟩ | ⟨_, rfl⟩ <;> first | exact nb1 | exact nb0) ft.2 q645 hl.1 rfl (Nat.le_of_ble_eq_true rfl) dX0_bits_12 (Nat.le_of_ble_eq_true rfl) (Nat.le_of_ble_eq_true rfl) ⟨Nat.le_of_ble_eq_true rfl, Nat.le_of_ble_eq_true rfl⟩) (fun z w12 H locs hp hH hS => ?_)
        obtain ⟨hb, hw⟩ := hp
        rw [← hw] at hH; clear hw
        rcases hb with ⟨b12, rfl⟩ | ⟨b12, rfl⟩
        · have b12 : (¬ foS g k9 = -1 ∧ rightS g k9) := b12
          refine wz_ifeq (tgt := 26) X.x X.b dX0_bits_17 (by decide) (by decide) (fun h => absurd h (by decide)) (fun _ => ?_)
          refine wz_iconst X.x X.b dX0_bits_20 ?_
          refine lv_iload_n X.x X.b dX0_bits_21 rfl (lv_at hl 0 rfl) ?_
          refine lv_ishl X.x X.b dX0_bits_22 ?_
          refine lv_goto (tgt := 27) X.x X.b dX0_bits_23 (by decide) ?_
          refine lv_ior X.x X.b dX0_bits_27 ?_
          refine wz_i32 (z := bset (fun (j : Nat) => cb (¬ foS g (j : Int) = -1 ∧ rightS g (j : Int))) (k9 + 1).toNat) (by rw [i4_1, bset_n i4_0.1]; first | (rw [if_pos (cb_t (by rw [Int.toNat_of_nonneg i4_0.1]; exact b12))]; exact bset_or i4_0.1 (by omega)) | (rw [cb_f (by rw [Int.toNat_of_nonneg i4_0.1]; exact b12)]; show _ = zI (_ + 0); rw [Int.add_zero]; exact zI_or0 _)) ?_
          refine lv_istore_n (lv' := [(2, .int (zI (bset (fun (j : Nat) => cb (¬ foS g (j : Int) = -1 ∧ rightS g (j : Int))) (k9 + 1).toNat))), (3, .int (zI k9)), (0, .int (zI m9)), (1, .ref t9)]) X.x X.b dX0_bits_28 rfl hl (by decide) rfl (fun ls hl => ?_)
          refine wz_iinc (k := 1) (lv' := [(3, .int (zI (k9 + 1))), (2, .int (zI (bset (fun (j : Nat) => cb (¬ foS g (j : Int) = -1 ∧ rightS g (j : Int))) (k9 + 1).toNat))), (0, .int (zI m9)), (1, .ref t9)]) X.x X.b dX0_bits_29 hl rfl (by decide) rfl (fun ls hl => ?_)
          refine lv_goto (tgt := 4) X.x X.b dX0_bits_32 (by decide) ?_
          exact ih4 _ (by omega) (k9 + 1) (bset (fun (j : Nat) => cb (¬ foS g (j : Int) = -1 ∧ rightS g (j : Int))) (k9 + 1).toNat) rfl (by omega) (by rfl) _ _ _ hH hS (lv_sub hl [0, 1, 2, 3] rfl)
        · have b12 : ¬ (¬ foS g k9 = -1 ∧ rightS g k9) := b12
          refine wz_ifeq (tgt := 26) X.x X.b dX0_bits_17 (by decide) (by decide) (fun _ => ?_) (fun h => absurd h (by decide))
          refine wz_iconst X.x X.b dX0_bits_26 ?_
          refine lv_ior X.x X.b dX0_bits_27 ?_
          refine wz_i32 (z := bset (fun (j : Nat) => cb (¬ foS g (j : Int) = -1 ∧ rightS g (j : Int))) (k9 + 1).toNat) (by rw [i4_1, bset_n i4_0.1]; first | (rw [if_pos (cb_t (by rw [Int.toNat_of_nonneg i4_0.1]; exact b12))]; exact bset_or i4_0.1 (by omega)) | (rw [cb_f (by rw [Int.toNat_of_nonneg i4_0.1]; exact b12)]; show _ = zI (_ + 0); rw [Int.add_zero]; exact zI_or0 _)) ?_
          refine lv_istore_n (lv' := [(2, .int (zI (bset (fun (j : Nat) => cb (¬ foS g (j : Int) = -1 ∧ rightS g (j : Int))) (k9 + 1).toNat))), (3, .int (zI k9)), (0, .int (zI m9)), (1, .ref t9)]) X.x X.b dX0_bits_28 rfl hl (by decide) rfl (fun ls hl => ?_)
          refine wz_iinc (k := 1) (lv' := [(3, .int (zI (k9 + 1))), (2, .int (zI (bset (fun (j : Nat) => cb (¬ foS g (j : Int) = -1 ∧ rightS g (j : Int))) (k9 + 1).toNat))), (0, .int (zI m9)), (1, .ref t9)]) X.x X.b dX0_bits_29 hl rfl (by decide) rfl (fun ls hl => ?_)
          refine lv_goto (tgt := 4) X.x X.b dX0_bits_32 (by decide) ?_
          exact ih4 _ (by omega) (k9 + 1) (bset (fun (j : Nat) => cb (¬ foS g (j : Int) = -1 ∧ rightS g (j : Int))) (k9 + 1).toNat) rfl (by omega) (by rfl) _ _ _ hH hS (lv_sub hl [0, 1, 2, 3] rfl)
  exact L4 _ 0 0 rfl (by omega) (by rfl) _ _ _ hH hS (lv_sub hl [0, 1, 2, 3] rfl)
set_option maxRecDepth 100000 in
theorem mX0_bits_5 {lL : Launch} {G : wa_G} {ad : Nat → Nat} {w : wa_W} {S : Nat → Int} {A : Nat → Int → Int} {B : Nat → Int → Option Nat} {P : Nat → Option Nat} (hX : XW G ad w S A B P) {g : Int → Int} {t9 : Nat} (hJR : JR G ad w S A B P g) (ft : Lc ad w t9 (.inr { cls := G.2.1 21, slots := #[.ref (ad 24)], vm := .none })) (m9 : Int) (hm9 : 0 ≤ m9 ∧ m9 ≤ 30) (hm93 : m9 ≤ g 3) (ho : okS g) : Met lL yX0_bits (ws_ yX0_bits cX0_bits 4 (some FieldType.int)) ({ frames := 2, cells := 0, slots := 0, locals := 42 } : Room) (wa_P G w [.int (zI m9), .ref t9]) (wa_Qz G fun z u => z = bset (fun (j : Nat) => cb (ahS g (j : Int) = -1)) m9.toNat ∧ w = u) 0 0 (wa_A G) := by
  refine wa_met (by decide) (by exact Nat.le_of_ble_eq_true rfl) ?_
  intro pP eE sS mM aA bB mT cC ls X hl hH
  have hS : va_S (wa_A G) sS.heap sS.heap [] := va_S.rf
  have hl : lv_has ls 4 [(0, .int (zI m9)), (1, .ref t9)] := hl
  have hK : Kp ad w w := Kp.rf
  have hJR_0 := hJR
  have ft_0 := ft
  refine wz_iconst X.x X.b dX0_bits_0 ?_
  refine lv_istore_n (lv' := [(2, .int (zI 0)), (0, .int (zI m9)), (1, .ref t9)]) X.x X.b dX0_bits_1 rfl hl (by decide) rfl (fun ls hl => ?_)
  refine wz_iconst X.x X.b dX0_bits_2 ?_
  refine lv_istore_n (lv' := [(3, .int (zI 0)), (2, .int (zI 0)), (0, .int (zI m9)), (1, .ref t9)]) X.x X.b dX0_bits_3 rfl hl (by decide) rfl (fun ls hl => ?_)
  have L4 : ∀ (nn : Nat) (k9 : Int) (s9 : Int), ((m9 - k9).toNat) = nn → (0 ≤ k9 ∧ k9 ≤ m9) → (s9 = bset (fun (j : Nat) => cb (ahS g (j : Int) = -1)) k9.toNat) → ∀ (H : Heap) (locs : List Loc) (ls : Array Slot), wa_H G w H → va_S (wa_A G) sS.heap H locs → lv_has ls 4 [(3, .int (zI k9)), (2, .int (zI s9)), (0, .int (zI m9)), (1, .ref t9)] → W pP lL eE ({ frames := 2, cells := 0, slots := 0, locals := 42 } : Room) sS mM aA bB mT cC H locs 0 0 (MQ bB (wa_Qz G fun z u => z = bset (fun (j : Nat) => cb (ahS g (j : Int) = -1)) m9.toNat ∧ w = u) aA sS 0 0 (wa_A G)) (F0 mM 4 ls []) := by
    intro nn
    induction nn using Nat.strongRecOn with
    | ind nn ih4 =>
      intro k9 s9 hmu4 i4_0 i4_1 H locs ls hH hS hl
      refine lv_iload_n X.x X.b dX0_bits_4 rfl (lv_at hl 0 rfl) ?_
      refine lv_iload_n X.x X.b dX0_bits_5 rfl (lv_at hl 2 rfl) ?_
      refine wz_icmp_ge (tgt := 35) X.x X.b dX0_bits_6 (by decide) ⟨by omega, by omega⟩ ⟨by omega, by omega⟩ (fun c6 => ?_) (fun c6 => ?_)
      · refine lv_iload_n X.x X.b dX0_bits_35 rfl (lv_at hl 1 rfl) ?_
        exact wa_iret X hH hS dX0_bits_36 ⟨by rw [i4_1, show k9 = m9 by omega], rfl⟩
      · refine lv_iload_n X.x X.b dX0_bits_9 rfl (lv_at hl 1 rfl) ?_
        refine lv_aload_n X.x X.b dX0_bits_10 rfl (lv_at hl 3 rfl) ?_
        refine lv_iload_n X.x X.b dX0_bits_11 rfl (lv_at hl 0 rfl) ?_
        refine wa_c5i hS (wbR5 (rest := [.int (zI s9)]) X hH (mX0_lambda_allOf_3 hX hJR k9 (show 0 ≤ k9 ∧ k9 < g 3 by first | assumption | omega) (show okS g by first | assumption | omega)) rfl rfl (fun z u hp => by rcases hp.1 with ⟨_, rfl⟩ | ⟨_, rfl⟩ <;> first | exact nb1 | exact nb0) ft.2 q645 hl.1 rfl (Nat.le_of_ble_eq_true rfl) dX0_bits_12 (Nat.le_of_ble_eq_true rfl) (Nat.le_of_ble_eq_true rfl) ⟨Nat.le_of_ble_eq_true rfl, Nat.le_of_ble_eq_true rfl⟩) (fun z w12 H locs hp hH hS => ?_)
        obtain ⟨hb, hw⟩ := hp
        rw [← hw] at hH; clear hw
        rcases hb with ⟨b12, rfl⟩ | ⟨b12, rfl⟩
        · have b12 : (ahS g k9 = -1) := b12
          refine wz_ifeq (tgt := 26) X.x X.b dX0_bits_17 (by decide) (by decide) (fun h => absurd h (by decide)) (fun _ => ?_)
          refine wz_iconst X.x X.b dX0_bits_20 ?_
          refine lv_iload_n X.x X.b dX0_bits_21 rfl (lv_at hl 0 rfl) ?_
          refine lv_ishl X.x X.b dX0_bits_22 ?_
          refine lv_goto (tgt := 27) X.x X.b dX0_bits_23 (by decide) ?_
          refine lv_ior X.x X.b dX0_bits_27 ?_
          refine wz_i32 (z := bset (fun (j : Nat) => cb (ahS g (j : Int) = -1)) (k9 + 1).toNat) (by rw [i4_1, bset_n i4_0.1]; first | (rw [if_pos (cb_t (by rw [Int.toNat_of_nonneg i4_0.1]; exact b12))]; exact bset_or i4_0.1 (by omega)) | (rw [cb_f (by rw [Int.toNat_of_nonneg i4_0.1]; exact b12)]; show _ = zI (_ + 0); rw [Int.add_zero]; exact zI_or0 _)) ?_
          refine lv_istore_n (lv' := [(2, .int (zI (bset (fun (j : Nat) => cb (ahS g (j : Int) = -1)) (k9 + 1).toNat))), (3, .int (zI k9)), (0, .int (zI m9)), (1, .ref t9)]) X.x X.b dX0_bits_28 rfl hl (by decide) rfl (fun ls hl => ?_)
          refine wz_iinc (k := 1) (lv' := [(3, .int (zI (k9 + 1))), (2, .int (zI (bset (fun (j : Nat) => cb (ahS g (j : Int) = -1)) (k9 + 1).toNat))), (0, .int (zI m9)), (1, .ref t9)]) X.x X.b dX0_bits_29 hl rfl (by decide) rfl (fun ls hl => ?_)
          refine lv_goto (tgt := 4) X.x X.b dX0_bits_32 (by decide) ?_
          exact ih4 _ (by omega) (k9 + 1) (bset (fun (j : Nat) => cb (ahS g (j : Int) = -1)) (k9 + 1).toNat) rfl (by omega) (by rfl) _ _ _ hH hS (lv_sub hl [0, 1, 2, 3] rfl)
        · have b12 : ¬ (ahS g k9 = -1) := b12
          refine wz_ifeq (tgt := 26) X.x X.b dX0_bits_17 (by decide) (by decide) (fun _ => ?_) (fun h => absurd h (by decide))
          refine wz_iconst X.x X.b dX0_bits_26 ?_
          refine lv_ior X.x X.b dX0_bits_27 ?_
          refine wz_i32 (z := bset (fun (j : Nat) => cb (ahS g (j : Int) = -1)) (k9 + 1).toNat) (by rw [i4_1, bset_n i4_0.1]; first | (rw [if_pos (cb_t (by rw [Int.toNat_of_nonneg i4_0.1]; exact b12))]; exact bset_or i4_0.1 (by omega)) | (rw [cb_f (by rw [Int.toNat_of_nonneg i4_0.1]; exact b12)]; show _ = zI (_ + 0); rw [Int.add_zero]; exact zI_or0 _)) ?_
          refine lv_istore_n (lv' := [(2, .int (zI (bset (fun (j : Nat) => cb (ahS g (j : Int) = -1)) (k9 + 1).toNat))), (3, .int (zI k9)), (0, .int (zI m9)), (1, .ref t9)]) X.x X.b dX0_bits_28 rfl hl (by decide) rfl (fun ls hl => ?_)
          refine wz_iinc (k := 1) (lv' := [(3, .int (zI (k9 + 1))), (2, .int (zI (bset (fun (j : Nat) => cb (ahS g (j : Int) = -1)) (k9 + 1).toNat))), (0, .int (zI m9)), (1, .ref t9)]) X.x X.b dX0_bits_29 hl rfl (by decide) rfl (fun ls hl => ?_)
          refine lv_goto (tgt := 4) X.x X.b dX0_bits_32 (by decide) ?_
          exact ih4 _ (by omega) (k9 + 1) (bset (fun (j : Nat) => cb (ahS g (j : Int) = -1)) (k9 + 1).toNat) rfl (by omega) (by rfl) _ _ _ hH hS (lv_sub hl [0, 1, 2, 3] rfl)
  exact L4 _ 0 0 rfl (by omega) (by rfl) _ _ _ hH hS (lv_sub hl [0, 1, 2, 3] rfl)
set_option maxRecDepth 100000 in
theorem mX2_lambda_shown_1 {lL : Launch} {G : wa_G} (w : wa_W)   (a : Int) (b : Int) (ha : rI a) (hb : rI b) : Met lL yX2_lambda_shown_1 (ws_ yX2_lambda_shown_1 cX2_lambda_shown_1 2 (some FieldType.boolean)) ({ frames := 0, cells := 0, slots := 0, locals := 0 } : Room) (wa_P G w [.int (zI a), .int (zI b)]) (wa_Qz G fun z u => ((a ≤ b) ∧ z = 1 ∨ ¬ (a ≤ b) ∧ z = 0) ∧ w = u) 0 0 (wa_A G) := by
  refine wa_met (by decide) (by exact Nat.le_of_ble_eq_true rfl) ?_
  intro pP eE sS mM aA bB mT cC ls X hl hH
  have hS : va_S (wa_A G) sS.heap sS.heap [] := va_S.rf
  have hl : lv_has ls 2 [(0, .int (zI a)), (1, .int (zI b))] := hl
  have hK : Ext w w := Ext.rf
  refine lv_iload_n X.x X.b dX2_lambda_shown_1_0 rfl (lv_at hl 1 rfl) ?_
  refine lv_iload_n X.x X.b dX2_lambda_shown_1_1 rfl (lv_at hl 0 rfl) ?_
  refine wz_icmp_lt (tgt := 9) X.x X.b dX2_lambda_shown_1_2 (by decide) ⟨by omega, by omega⟩ ⟨by omega, by omega⟩ (fun c2 => ?_) (fun c2 => ?_)
  · refine wz_iconst X.x X.b dX2_lambda_shown_1_9 ?_
    exact wa_zret X hH hS dX2_lambda_shown_1_10 nb0 ⟨Or.inr ⟨by first | rfl | omega | assumption, rfl⟩, rfl⟩
  · refine wz_iconst X.x X.b dX2_lambda_shown_1_5 ?_
    refine lv_goto (tgt := 10) X.x X.b dX2_lambda_shown_1_6 (by decide) ?_
    exact wa_zret X hH hS dX2_lambda_shown_1_10 nb1 ⟨Or.inl ⟨by first | rfl | omega | assumption, rfl⟩, rfl⟩
set_option maxRecDepth 100000 in
theorem mX0_bits_6 {lL : Launch} {G : wa_G} {w : wa_W} {a9 : Int} {t9 : Nat} (ft : At w t9 (.inr { cls := G.2.1 22, slots := #[.int (zI a9)], vm := .none })) (m9 : Int) (hm9 : 0 ≤ m9 ∧ m9 ≤ 30) (ha9 : rI a9) : Met lL yX0_bits (ws_ yX0_bits cX0_bits 4 (some FieldType.int)) ({ frames := 2, cells := 0, slots := 0, locals := 42 } : Room) (wa_P G w [.int (zI m9), .ref t9]) (wa_Qz G fun z u => z = bset (fun (j : Nat) => cb (a9 ≤ (j : Int))) m9.toNat ∧ w = u) 0 0 (wa_A G) := by
  refine wa_met (by decide) (by exact Nat.le_of_ble_eq_true rfl) ?_
  intro pP eE sS mM aA bB mT cC ls X hl hH
  have hS : va_S (wa_A G) sS.heap sS.heap [] := va_S.rf
  have hl : lv_has ls 4 [(0, .int (zI m9)), (1, .ref t9)] := hl
  have hK : Ext w w := Ext.rf
  refine wz_iconst X.x X.b dX0_bits_0 ?_
  refine lv_istore_n (lv' := [(2, .int (zI 0)), (0, .int (zI m9)), (1, .ref t9)]) X.x X.b dX0_bits_1 rfl hl (by decide) rfl (fun ls hl => ?_)
  refine wz_iconst X.x X.b dX0_bits_2 ?_
  refine lv_istore_n (lv' := [(3, .int (zI 0)), (2, .int (zI 0)), (0, .int (zI m9)), (1, .ref t9)]) X.x X.b dX0_bits_3 rfl hl (by decide) rfl (fun ls hl => ?_)
  have L4 : ∀ (nn : Nat) (k9 : Int) (s9 : Int), ((m9 - k9).toNat) = nn → (0 ≤ k9 ∧ k9 ≤ m9) → (s9 = bset (fun (j : Nat) => cb (a9 ≤ (j : Int))) k9.toNat) → ∀ (H : Heap) (locs : List Loc) (ls : Array Slot), wa_H G w H → va_S (wa_A G) sS.heap H locs → lv_has ls 4 [(3, .int (zI k9)), (2, .int (zI s9)), (0, .int (zI m9)), (1, .ref t9)] → W pP lL eE ({ frames := 2, cells := 0, slots := 0, locals := 42 } : Room) sS mM aA bB mT cC H locs 0 0 (MQ bB (wa_Qz G fun z u => z = bset (fun (j : Nat) => cb (a9 ≤ (j : Int))) m9.toNat ∧ w = u) aA sS 0 0 (wa_A G)) (F0 mM 4 ls []) := by
    intro nn
    induction nn using Nat.strongRecOn with
    | ind nn ih4 =>
      intro k9 s9 hmu4 i4_0 i4_1 H locs ls hH hS hl
      refine lv_iload_n X.x X.b dX0_bits_4 rfl (lv_at hl 0 rfl) ?_
      refine lv_iload_n X.x X.b dX0_bits_5 rfl (lv_at hl 2 rfl) ?_
      refine wz_icmp_ge (tgt := 35) X.x X.b dX0_bits_6 (by decide) ⟨by omega, by omega⟩ ⟨by omega, by omega⟩ (fun c6 => ?_) (fun c6 => ?_)
      · refine lv_iload_n X.x X.b dX0_bits_35 rfl (lv_at hl 1 rfl) ?_
        exact wa_iret X hH hS dX0_bits_36 ⟨by rw [i4_1, show k9 = m9 by omega], rfl⟩
      · refine lv_iload_n X.x X.b dX0_bits_9 rfl (lv_at hl 1 rfl) ?_
        refine lv_aload_n X.x X.b dX0_bits_10 rfl (lv_at hl 3 rfl) ?_
        refine lv_iload_n X.x X.b dX0_bits_11 rfl (lv_at hl 0 rfl) ?_
        refine wa_c5i hS (wbR6 (rest := [.int (zI s9)]) X hH (mX2_lambda_shown_1 _  a9 k9 (show rI a9 by first | assumption | omega) (show rI k9 by first | assumption | omega)) rfl rfl (fun z u hp => by rcases hp.1 with ⟨_, rfl⟩ | ⟨_, rfl⟩ <;> first | exact nb1 | exact nb0) ft q645 hl.1 rfl (Nat.le_of_ble_eq_true rfl) dX0_bits_12 (Nat.le_of_ble_eq_true rfl) (Nat.le_of_ble_eq_true rfl) ⟨Nat.le_of_ble_eq_true rfl, Nat.le_of_ble_eq_true rfl⟩) (fun z w12 H locs hp hH hS => ?_)
        obtain ⟨hb, hw⟩ := hp
        rw [← hw] at hH; clear hw
        rcases hb with ⟨b12, rfl⟩ | ⟨b12, rfl⟩
        · have b12 : (a9 ≤ k9) := b12
          refine wz_ifeq (tgt := 26) X.x X.b dX0_bits_17 (by decide) (by decide) (fun h => absurd h (by decide)) (fun _ => ?_)
          refine wz_iconst X.x X.b dX0_bits_20 ?_
          refine lv_iload_n X.x X.b dX0_bits_21 rfl (lv_at hl 0 rfl) ?_
          refine lv_ishl X.x X.b dX0_bits_22 ?_
          refine lv_goto (tgt := 27) X.x X.b dX0_bits_23 (by decide) ?_
          refine lv_ior X.x X.b dX0_bits_27 ?_
          refine wz_i32 (z := bset (fun (j : Nat) => cb (a9 ≤ (j : Int))) (k9 + 1).toNat) (by rw [i4_1, bset_n i4_0.1]; first | (rw [if_pos (cb_t (by rw [Int.toNat_of_nonneg i4_0.1]; exact b12))]; exact bset_or i4_0.1 (by omega)) | (rw [cb_f (by rw [Int.toNat_of_nonneg i4_0.1]; exact b12)]; show _ = zI (_ + 0); rw [Int.add_zero]; exact zI_or0 _)) ?_
          refine lv_istore_n (lv' := [(2, .int (zI (bset (fun (j : Nat) => cb (a9 ≤ (j : Int))) (k9 + 1).toNat))), (3, .int (zI k9)), (0, .int (zI m9)), (1, .ref t9)]) X.x X.b dX0_bits_28 rfl hl (by decide) rfl (fun ls hl => ?_)
          refine wz_iinc (k := 1) (lv' := [(3, .int (zI (k9 + 1))), (2, .int (zI (bset (fun (j : Nat) => cb (a9 ≤ (j : Int))) (k9 + 1).toNat))), (0, .int (zI m9)), (1, .ref t9)]) X.x X.b dX0_bits_29 hl rfl (by decide) rfl (fun ls hl => ?_)
          refine lv_goto (tgt := 4) X.x X.b dX0_bits_32 (by decide) ?_
          exact ih4 _ (by omega) (k9 + 1) (bset (fun (j : Nat) => cb (a9 ≤ (j : Int))) (k9 + 1).toNat) rfl (by omega) (by rfl) _ _ _ hH hS (lv_sub hl [0, 1, 2, 3] rfl)
        · have b12 : ¬ (a9 ≤ k9) := b12
          refine wz_ifeq (tgt := 26) X.x X.b dX0_bits_17 (by decide) (by decide) (fun _ => ?_) (fun h => absurd h (by decide))
          refine wz_iconst X.x X.b dX0_bits_26 ?_
          refine lv_ior X.x X.b dX0_bits_27 ?_
          refine wz_i32 (z := bset (fun (j : Nat) => cb (a9 ≤ (j : Int))) (k9 + 1).toNat) (by rw [i4_1, bset_n i4_0.1]; first | (rw [if_pos (cb_t (by rw [Int.toNat_of_nonneg i4_0.1]; exact b12))]; exact bset_or i4_0.1 (by omega)) | (rw [cb_f (by rw [Int.toNat_of_nonneg i4_0.1]; exact b12)]; show _ = zI (_ + 0); rw [Int.add_zero]; exact zI_or0 _)) ?_
          refine lv_istore_n (lv' := [(2, .int (zI (bset (fun (j : Nat) => cb (a9 ≤ (j : Int))) (k9 + 1).toNat))), (3, .int (zI k9)), (0, .int (zI m9)), (1, .ref t9)]) X.x X.b dX0_bits_28 rfl hl (by decide) rfl (fun ls hl => ?_)
          refine wz_iinc (k := 1) (lv' := [(3, .int (zI (k9 + 1))), (2, .int (zI (bset (fun (j : Nat) => cb (a9 ≤ (j : Int))) (k9 + 1).toNat))), (0, .int (zI m9)), (1, .ref t9)]) X.x X.b dX0_bits_29 hl rfl (by decide) rfl (fun ls hl => ?_)
          refine lv_goto (tgt := 4) X.x X.b dX0_bits_32 (by decide) ?_
          exact ih4 _ (by omega) (k9 + 1) (bset (fun (j : Nat) => cb (a9 ≤ (j : Int))) (k9 + 1).toNat) rfl (by omega) (by rfl) _ _ _ hH hS (lv_sub hl [0, 1, 2, 3] rfl)
  exact L4 _ 0 0 rfl (by omega) (by rfl) _ _ _ hH hS (lv_sub hl [0, 1, 2, 3] rfl)
set_option maxRecDepth 100000 in
theorem mX0_lambda_cornersOf_1 {lL : Launch} {G : wa_G} {ad : Nat → Nat} {w : wa_W} {S : Nat → Int} {A : Nat → Int → Int} {B : Nat → Int → Option Nat} {P : Nat → Option Nat} (hX : XW G ad w S A B P) {p : Nat} {b : Nat} {f : Int → Int} {x : Int} {y : Int} {n : Int} {g : Int → Int} (hp : Pic G ad w p b f x y n) (hWY : WAYS G ad w (B 5)) (i : Int) (hi : 0 ≤ i ∧ i < 12) (hf : cB f) (hg1 : A 10 0 = g 1) (hgr : 1 ≤ g 1 ∧ g 1 ≤ 126) : Met lL yX0_lambda_cornersOf_1 (ws_ yX0_lambda_cornersOf_1 cX0_lambda_cornersOf_1 3 (some FieldType.boolean)) ({ frames := 4, cells := 0, slots := 0, locals := 97 } : Room) (wa_P G w [.ref (ad 0), .ref p, .int (zI i)]) (wa_Qz G fun z u => ((g 1 ≤ chF f (1 + i / 6) (1 + i % 6)) ∧ z = 1 ∨ ¬ (g 1 ≤ chF f (1 + i / 6) (1 + i % 6)) ∧ z = 0) ∧ w = u) 0 0 (wa_A G) := by
  refine wa_met (by decide) (by exact Nat.le_of_ble_eq_true rfl) ?_
  intro pP eE sS mM aA bB mT cC ls X hl hH
  have hS : va_S (wa_A G) sS.heap sS.heap [] := va_S.rf
  have hl : lv_has ls 3 [(0, .ref (ad 0)), (1, .ref p), (2, .int (zI i))] := hl
  have hK : Kp ad w w := Kp.rf
  have hp_0 := hp
  have hWY_0 := hWY
  refine lv_aload_n X.x X.b dX0_lambda_cornersOf_1_0 rfl (lv_at hl 0 rfl) ?_
  refine wa_get (v := .ref (ad 24)) X hH (have h9 := (XW.c0 hX); h9) wcX0 6 (by decide) q424 rfl (fun _ h9 => h9) rfl dX0_lambda_cornersOf_1_1 ?_
  refine lv_aload_n X.x X.b dX0_lambda_cornersOf_1_4 rfl (lv_at hl 1 rfl) ?_
  refine wz_iconst X.x X.b dX0_lambda_cornersOf_1_5 ?_
  refine lv_iload_n X.x X.b dX0_lambda_cornersOf_1_6 rfl (lv_at hl 2 rfl) ?_
  refine wz_bipush X.x X.b dX0_lambda_cornersOf_1_7 rfl ?_
  refine wz_idivp X.x X.b dX0_lambda_cornersOf_1_9 (by omega) (by omega) (by omega) (by omega) ?_
  refine wz_iadd X.x X.b dX0_lambda_cornersOf_1_10 ?_
  refine wz_iconst X.x X.b dX0_lambda_cornersOf_1_11 ?_
  refine lv_iload_n X.x X.b dX0_lambda_cornersOf_1_12 rfl (lv_at hl 2 rfl) ?_
  refine wz_bipush X.x X.b dX0_lambda_cornersOf_1_13 rfl ?_
  refine wz_iremp X.x X.b dX0_lambda_cornersOf_1_15 (by omega) (by omega) (by omega) (by omega) ?_
  refine wz_iadd X.x X.b dX0_lambda_cornersOf_1_16 ?_
  have hci := chN_in hf (r := 1 + i / 6) (c := 1 + i % 6) (by omega) (by omega) 4 (by decide)
  rw [chN_4 hf (by omega) (by omega)] at hci
  refine wa_ci hS (wa_rV (rest := []) X hH (mX2_change hX hp hWY (1 + (i / 6)) (1 + (i % 6)) (by omega) (by omega) hf) (cwV 3 X.t (lw_V q618 q619 q620 q112 q621) rfl rfl rfl hdX2_change ⟨Nat.le_of_ble_eq_true rfl, Nat.le_of_ble_eq_true rfl⟩) rfl (have h9 := (XW.c24 hX); h9) rfl rfl hl.1 rfl (Nat.le_of_ble_eq_true rfl) dX0_lambda_cornersOf_1_17 ⟨Nat.le_of_ble_eq_true rfl, Nat.le_of_ble_eq_true rfl⟩) (fun z w17 H locs hp hH hS => ?_)
  obtain ⟨rfl, hw⟩ := hp
  rw [← hw] at hH; clear hw
  refine lv_aload_n X.x X.b dX0_lambda_cornersOf_1_20 rfl (lv_at hl 0 rfl) ?_
  refine wa_get (v := .ref (ad 1)) X hH (have h9 := (XW.c0 hX); h9) wcX0 0 (by decide) q417 rfl (fun _ h9 => h9) rfl dX0_lambda_cornersOf_1_21 ?_
  refine wa_getN (v := .ref (ad 3)) X hH (have h9 := (XW.c1 hX); h9) wcX1 4 (by decide) q175 rfl (fun _ h9 => h9) rfl dX0_lambda_cornersOf_1_24 ?_
  refine wz_iconst X.x X.b dX0_lambda_cornersOf_1_27 ?_
  refine wa_iald (f := A 10) X hH (have h9 := (XW.c3 hX); h9) (by omega) (by omega) (by omega) dX0_lambda_cornersOf_1_28 ?_
  refine wz_icmp_lt (tgt := 36) X.x X.b dX0_lambda_cornersOf_1_29 (by decide) ⟨by omega, by omega⟩ ⟨by omega, by omega⟩ (fun c29 => ?_) (fun c29 => ?_)
  · refine wz_iconst X.x X.b dX0_lambda_cornersOf_1_36 ?_
    exact wa_zret X hH hS dX0_lambda_cornersOf_1_37 nb0 ⟨Or.inr ⟨by omega, rfl⟩, rfl⟩
  · refine wz_iconst X.x X.b dX0_lambda_cornersOf_1_32 ?_
    refine lv_goto (tgt := 37) X.x X.b dX0_lambda_cornersOf_1_33 (by decide) ?_
    exact wa_zret X hH hS dX0_lambda_cornersOf_1_37 nb1 ⟨Or.inl ⟨by omega, rfl⟩, rfl⟩
set_option maxRecDepth 100000 in
theorem mX0_bits_2 {lL : Launch} {G : wa_G} {ad : Nat → Nat} {w : wa_W} {S : Nat → Int} {A : Nat → Int → Int} {B : Nat → Int → Option Nat} {P : Nat → Option Nat} (hX : XW G ad w S A B P) {p : Nat} {b : Nat} {f : Int → Int} {x : Int} {y : Int} {n : Int} {g : Int → Int} {t9 : Nat} (hp : Pic G ad w p b f x y n) (hWY : WAYS G ad w (B 5)) (ft : Lc ad w t9 (.inr { cls := G.2.1 18, slots := #[.ref (ad 0), .ref p], vm := .none })) (m9 : Int) (hm9 : 0 ≤ m9 ∧ m9 ≤ 30) (hm12 : m9 ≤ 12) (hf : cB f) (hg1 : A 10 0 = g 1) (hgr : 1 ≤ g 1 ∧ g 1 ≤ 126) : Met lL yX0_bits (ws_ yX0_bits cX0_bits 4 (some FieldType.int)) ({ frames := 6, cells := 0, slots := 0, locals := 140 } : Room) (wa_P G w [.int (zI m9), .ref t9]) (wa_Qz G fun z u => z = bset (fun (j : Nat) => cb (g 1 ≤ chF f (1 + (j : Int) / 6) (1 + (j : Int) % 6))) m9.toNat ∧ w = u) 0 0 (wa_A G) := by
  refine wa_met (by decide) (by exact Nat.le_of_ble_eq_true rfl) ?_
  intro pP eE sS mM aA bB mT cC ls X hl hH
  have hS : va_S (wa_A G) sS.heap sS.heap [] := va_S.rf
  have hl : lv_has ls 4 [(0, .int (zI m9)), (1, .ref t9)] := hl
  have hK : Kp ad w w := Kp.rf
  have hp_0 := hp
  have hWY_0 := hWY
  have ft_0 := ft
  refine wz_iconst X.x X.b dX0_bits_0 ?_
  refine lv_istore_n (lv' := [(2, .int (zI 0)), (0, .int (zI m9)), (1, .ref t9)]) X.x X.b dX0_bits_1 rfl hl (by decide) rfl (fun ls hl => ?_)
  refine wz_iconst X.x X.b dX0_bits_2 ?_
  refine lv_istore_n (lv' := [(3, .int (zI 0)), (2, .int (zI 0)), (0, .int (zI m9)), (1, .ref t9)]) X.x X.b dX0_bits_3 rfl hl (by decide) rfl (fun ls hl => ?_)
  have L4 : ∀ (nn : Nat) (k9 : Int) (s9 : Int), ((m9 - k9).toNat) = nn → (0 ≤ k9 ∧ k9 ≤ m9) → (s9 = bset (fun (j : Nat) => cb (g 1 ≤ chF f (1 + (j : Int) / 6) (1 + (j : Int) % 6))) k9.toNat) → ∀ (H : Heap) (locs : List Loc) (ls : Array Slot), wa_H G w H → va_S (wa_A G) sS.heap H locs → lv_has ls 4 [(3, .int (zI k9)), (2, .int (zI s9)), (0, .int (zI m9)), (1, .ref t9)] → W pP lL eE ({ frames := 6, cells := 0, slots := 0, locals := 140 } : Room) sS mM aA bB mT cC H locs 0 0 (MQ bB (wa_Qz G fun z u => z = bset (fun (j : Nat) => cb (g 1 ≤ chF f (1 + (j : Int) / 6) (1 + (j : Int) % 6))) m9.toNat ∧ w = u) aA sS 0 0 (wa_A G)) (F0 mM 4 ls []) := by
    intro nn
    induction nn using Nat.strongRecOn with
    | ind nn ih4 =>
      intro k9 s9 hmu4 i4_0 i4_1 H locs ls hH hS hl
      refine lv_iload_n X.x X.b dX0_bits_4 rfl (lv_at hl 0 rfl) ?_
      refine lv_iload_n X.x X.b dX0_bits_5 rfl (lv_at hl 2 rfl) ?_
      refine wz_icmp_ge (tgt := 35) X.x X.b dX0_bits_6 (by decide) ⟨by omega, by omega⟩ ⟨by omega, by omega⟩ (fun c6 => ?_) (fun c6 => ?_)
      · refine lv_iload_n X.x X.b dX0_bits_35 rfl (lv_at hl 1 rfl) ?_
        exact wa_iret X hH hS dX0_bits_36 ⟨by rw [i4_1, show k9 = m9 by omega], rfl⟩
      · refine lv_iload_n X.x X.b dX0_bits_9 rfl (lv_at hl 1 rfl) ?_
        refine lv_aload_n X.x X.b dX0_bits_10 rfl (lv_at hl 3 rfl) ?_
        refine lv_iload_n X.x X.b dX0_bits_11 rfl (lv_at hl 0 rfl) ?_
        refine wa_c5i hS (wbR2 (rest := [.int (zI s9)]) X hH (mX0_lambda_cornersOf_1 hX hp hWY k9 (show 0 ≤ k9 ∧ k9 < 12 by first | assumption | omega) (show cB f by first | assumption | omega) (show A 10 0 = g 1 by first | assumption | omega) (show 1 ≤ g 1 ∧ g 1 ≤ 126 by first | assumption | omega)) rfl rfl (have h9 := (XW.c0 hX); h9) (fun z u hp => by rcases hp.1 with ⟨_, rfl⟩ | ⟨_, rfl⟩ <;> first | exact nb1 | exact nb0) ft.2 q645 hl.1 rfl (Nat.le_of_ble_eq_true rfl) dX0_bits_12 (Nat.le_of_ble_eq_true rfl) (Nat.le_of_ble_eq_true rfl) ⟨Nat.le_of_ble_eq_true rfl, Nat.le_of_ble_eq_true rfl⟩) (fun z w12 H locs hp hH hS => ?_)
        obtain ⟨hb, hw⟩ := hp
        rw [← hw] at hH; clear hw
        rcases hb with ⟨b12, rfl⟩ | ⟨b12, rfl⟩
        · have b12 : (g 1 ≤ chF f (1 + k9 / 6) (1 + k9 % 6)) := b12
          refine wz_ifeq (tgt := 26) X.x X.b dX0_bits_17 (by decide) (by decide) (fun h => absurd h (by decide)) (fun _ => ?_)
          refine wz_iconst X.x X.b dX0_bits_20 ?_
          refine lv_iload_n X.x X.b dX0_bits_21 rfl (lv_at hl 0 rfl) ?_
          refine lv_ishl X.x X.b dX0_bits_22 ?_
          refine lv_goto (tgt := 27) X.x X.b dX0_bits_23 (by decide) ?_
          refine lv_ior X.x X.b dX0_bits_27 ?_
          refine wz_i32 (z := bset (fun (j : Nat) => cb (g 1 ≤ chF f (1 + (j : Int) / 6) (1 + (j : Int) % 6))) (k9 + 1).toNat) (by rw [i4_1, bset_n i4_0.1]; first | (rw [if_pos (cb_t (by rw [Int.toNat_of_nonneg i4_0.1]; exact b12))]; exact bset_or i4_0.1 (by omega)) | (rw [cb_f (by rw [Int.toNat_of_nonneg i4_0.1]; exact b12)]; show _ = zI (_ + 0); rw [Int.add_zero]; exact zI_or0 _)) ?_
          refine lv_istore_n (lv' := [(2, .int (zI (bset (fun (j : Nat) => cb (g 1 ≤ chF f (1 + (j : Int) / 6) (1 + (j : Int) % 6))) (k9 + 1).toNat))), (3, .int (zI k9)), (0, .int (zI m9)), (1, .ref t9)]) X.x X.b dX0_bits_28 rfl hl (by decide) rfl (fun ls hl => ?_)
          refine wz_iinc (k := 1) (lv' := [(3, .int (zI (k9 + 1))), (2, .int (zI (bset (fun (j : Nat) => cb (g 1 ≤ chF f (1 + (j : Int) / 6) (1 + (j : Int) % 6))) (k9 + 1).toNat))), (0, .int (zI m9)), (1, .ref t9)]) X.x X.b dX0_bits_29 hl rfl (by decide) rfl (fun ls hl => ?_)
          refine lv_goto (tgt := 4) X.x X.b dX0_bits_32 (by decide) ?_
          exact ih4 _ (by omega) (k9 + 1) (bset (fun (j : Nat) => cb (g 1 ≤ chF f (1 + (j : Int) / 6) (1 + (j : Int) % 6))) (k9 + 1).toNat) rfl (by omega) (by rfl) _ _ _ hH hS (lv_sub hl [0, 1, 2, 3] rfl)
        · have b12 : ¬ (g 1 ≤ chF f (1 + k9 / 6) (1 + k9 % 6)) := b12
          refine wz_ifeq (tgt := 26) X.x X.b dX0_bits_17 (by decide) (by decide) (fun _ => ?_) (fun h => absurd h (by decide))
          refine wz_iconst X.x X.b dX0_bits_26 ?_
          refine lv_ior X.x X.b dX0_bits_27 ?_
          refine wz_i32 (z := bset (fun (j : Nat) => cb (g 1 ≤ chF f (1 + (j : Int) / 6) (1 + (j : Int) % 6))) (k9 + 1).toNat) (by rw [i4_1, bset_n i4_0.1]; first | (rw [if_pos (cb_t (by rw [Int.toNat_of_nonneg i4_0.1]; exact b12))]; exact bset_or i4_0.1 (by omega)) | (rw [cb_f (by rw [Int.toNat_of_nonneg i4_0.1]; exact b12)]; show _ = zI (_ + 0); rw [Int.add_zero]; exact zI_or0 _)) ?_
          refine lv_istore_n (lv' := [(2, .int (zI (bset (fun (j : Nat) => cb (g 1 ≤ chF f (1 + (j : Int) / 6) (1 + (j : Int) % 6))) (k9 + 1).toNat))), (3, .int (zI k9)), (0, .int (zI m9)), (1, .ref t9)]) X.x X.b dX0_bits_28 rfl hl (by decide) rfl (fun ls hl => ?_)
          refine wz_iinc (k := 1) (lv' := [(3, .int (zI (k9 + 1))), (2, .int (zI (bset (fun (j : Nat) => cb (g 1 ≤ chF f (1 + (j : Int) / 6) (1 + (j : Int) % 6))) (k9 + 1).toNat))), (0, .int (zI m9)), (1, .ref t9)]) X.x X.b dX0_bits_29 hl rfl (by decide) rfl (fun ls hl => ?_)
          refine lv_goto (tgt := 4) X.x X.b dX0_bits_32 (by decide) ?_
          exact ih4 _ (by omega) (k9 + 1) (bset (fun (j : Nat) => cb (g 1 ≤ chF f (1 + (j : Int) / 6) (1 + (j : Int) % 6))) (k9 + 1).toNat) rfl (by omega) (by rfl) _ _ _ hH hS (lv_sub hl [0, 1, 2, 3] rfl)
  exact L4 _ 0 0 rfl (by omega) (by rfl) _ _ _ hH hS (lv_sub hl [0, 1, 2, 3] rfl)
set_option maxRecDepth 100000 in
theorem mX0_cornersOf {lL : Launch} {G : wa_G} {ad : Nat → Nat} {w : wa_W} {S : Nat → Int} {A : Nat → Int → Int} {B : Nat → Int → Option Nat} {P : Nat → Option Nat} (hX : XW G ad w S A B P) {g : Int → Int} (hPX : PX G ad w (B 10) g) (hWY : WAYS G ad w (B 5)) (k : Int) (hk : 0 ≤ k ∧ k < g 3) (ho : okS g) (hg1 : A 10 0 = g 1) : Met lL yX0_cornersOf (ws_ yX0_cornersOf cX0_cornersOf 3 (some FieldType.int)) ({ frames := 7, cells := 1, slots := 2, locals := 3096 } : Room) (wa_P G w [.ref (ad 0), .int (zI k)]) (wa_Qz G fun z u => z = cset g k ∧ XW G ad u S A B P ∧ Kp ad w u) 1 2 (wa_A G) := by
  refine wa_met (by decide) (by exact Nat.le_of_ble_eq_true rfl) ?_
  intro pP eE sS mM aA bB mT cC ls X hl hH
  have hS : va_S (wa_A G) sS.heap sS.heap [] := va_S.rf
  have hl : lv_has ls 3 [(0, .ref (ad 0)), (1, .int (zI k))] := hl
  have hK : Kp ad w w := Kp.rf
  have hPX_0 := hPX
  have hWY_0 := hWY
  have hmany := ho.many
  have hch := ho.ch
  obtain ⟨p, b, f, hp0, fp, ap⟩ := hPX k (by omega) (by omega)
  have cp := pcA.cB ap ho (by omega)
  have fp_0 := fp
  refine lv_aload_n X.x X.b dX0_cornersOf_0 rfl (lv_at hl 0 rfl) ?_
  refine wa_get (v := .ref (ad 1)) X hH (have h9 := (XW.c0 hX); h9) wcX0 0 (by decide) q417 rfl (fun _ h9 => h9) rfl dX0_cornersOf_1 ?_
  refine wa_getN (v := .ref (ad 2)) X hH (have h9 := (XW.c1 hX); h9) wcX1 2 (by decide) q169 rfl (fun _ h9 => h9) rfl dX0_cornersOf_4 ?_
  refine lv_iload_n X.x X.b dX0_cornersOf_7 rfl (lv_at hl 1 rfl) ?_
  refine wa_aald (k := 2) (f := B 10) X hH (have h9 := (XW.c2 hX); h9) rfl rfl (by omega) (by omega) (by omega) dX0_cornersOf_8 ?_
  refine wz_opt (q := some p) (by exact hp0) ?_
  refine lv_astore_n (lv' := [(2, .ref p), (0, .ref (ad 0)), (1, .int (zI k))]) X.x X.b dX0_cornersOf_9 rfl hl (by decide) rfl (fun ls hl => ?_)
  refine wz_bipush X.x X.b dX0_cornersOf_10 rfl ?_
  refine lv_aload_n X.x X.b dX0_cornersOf_12 rfl (lv_at hl 1 rfl) ?_
  refine lv_aload_n X.x X.b dX0_cornersOf_13 rfl (lv_at hl 0 rfl) ?_
  have hX_14 := hX
  have hK_14 := hK
  have hPX_14 := hPX
  have hWY_14 := hWY
  have fp_14 := fp
  refine wb_lam (rest := [.int (zI 12)]) (vals := [.ref (ad 0), .ref p]) (sh := wbS2) (num := 18) (D := wbD2) (laid := wbL2) X hH hS (wb_hO (X.t _ q2102)) (List.mem_of_getElem? (i := 1) rfl) wbD2_is wbL2_is wbL2_t (by rw [wbC2]; rfl) (by rw [wbC2]; exact (lamOK.cons ⟨rfl, rfl⟩ (lamOK.cons ⟨rfl, rfl⟩ lamOK.nil))) rfl hl.1 (Nat.le_of_ble_eq_true rfl) (Nat.le_of_ble_eq_true rfl) (Nat.le_of_ble_eq_true rfl) dX0_cornersOf_14 (fun nq14 w14 H hn14 ew hH hS => ?_)
  have hk0 := Ext.new hn14 ew
  have hX := hX.ext hk0
  have hk := hk0.k (ad := ad)
  have hPX := hPX.kp hk
  have hWY := hWY.kp hk
  have fp := fp.kp hk
  have hK := hK.kp hk
  have hN14 := hk
  have n14 : Lc ad w14 nq14 (.inr { cls := G.2.1 18, slots := #[.ref (ad 0), .ref p], vm := .none }) := Lc.new hX_14 hn14 (by rw [ew]; exact wup_s)
  clear ew hk0
  refine wa_ci hS (wa_rS (rest := []) X hH (mX0_bits_2 hX fp hWY n14 12 (by omega) (by omega) cp hg1 hch) (va_cwS 2 X.t (lw_S q641 q642 q109 q643) rfl rfl rfl hdX0_bits.2 ⟨Nat.le_of_ble_eq_true rfl, Nat.le_of_ble_eq_true rfl⟩) rfl rfl hl.1 rfl (Nat.le_of_ble_eq_true rfl) dX0_cornersOf_19 ⟨Nat.le_of_ble_eq_true rfl, Nat.le_of_ble_eq_true rfl⟩) (fun z w19 H locs hp hH hS => ?_)
  obtain ⟨rfl, hw⟩ := hp
  rw [← hw] at hH; clear hw
  refine wz_is (z := cset g k) (by show _ = bset (cP g k) 12; refine bset_cb (fun j hj => ?_); show _ ↔ decide (isC g k (1 + (j : Int) / 6) (1 + (j : Int) % 6)) = true; have hj2 : j < 12 := hj; rw [decide_eq_true_iff, pcA.ch ap (by omega) (by omega)]; exact ⟨fun q => ⟨⟨by omega, by omega⟩, q⟩, fun q => q.2⟩) ?_
  refine W.widen (k := 1) (n := 2) (by first | exact Nat.le_of_ble_eq_true rfl | omega) (by first | exact Nat.le_of_ble_eq_true rfl | omega) ?_
  exact wa_iret X hH hS dX0_cornersOf_22 ⟨by first | rfl | omega | assumption, ⟨hX, hK⟩⟩
set_option maxRecDepth 100000 in
theorem mX2_shown {lL : Launch} {G : wa_G} {ad : Nat → Nat} {w : wa_W} {S : Nat → Int} {A : Nat → Int → Int} {B : Nat → Int → Option Nat} {P : Nat → Option Nat} (hX : XW G ad w S A B P) {g : Int → Int} (hJR : JR G ad w S A B P g) (k : Int) (r : Int) (hk : 0 ≤ k ∧ k < g 3) (hr : 0 ≤ r ∧ r ≤ 3) (ho : okS g) : Met lL yX2_shown (ws_ yX2_shown cX2_shown 7 (some FieldType.int)) ({ frames := 3, cells := 1, slots := 1, locals := 3096 } : Room) (wa_P G w [.ref (ad 24), .int (zI k), .int (zI r)]) (wa_Qz G fun z u => z = showS g k r ∧ XW G ad u S A B P ∧ Kp ad w u) 1 1 (wa_A G) := by
  refine wa_met (by decide) (by exact Nat.le_of_ble_eq_true rfl) ?_
  intro pP eE sS mM aA bB mT cC ls X hl hH
  have hS : va_S (wa_A G) sS.heap sS.heap [] := va_S.rf
  have hl : lv_has ls 7 [(0, .ref (ad 24)), (1, .int (zI k)), (2, .int (zI r))] := hl
  have hK : Kp ad w w := Kp.rf
  have hJR_0 := hJR
  have hmany := ho.many
  have hai := ahS_in ho hk.1 hk.2
  have hah := hJR.2.1.2.1 k hk.1 (by omega)
  have hsti := shTo_in (g := g) k r hr.1
  have hsfi := shFrom_in (g := g) k r hr.1
  refine wz_iconst X.x X.b dX2_shown_0 ?_
  refine lv_istore_n (lv' := [(3, .int (zI 0)), (0, .ref (ad 24)), (1, .int (zI k)), (2, .int (zI r))]) X.x X.b dX2_shown_1 rfl hl (by decide) rfl (fun ls hl => ?_)
  refine lv_aload_n X.x X.b dX2_shown_2 rfl (lv_at hl 1 rfl) ?_
  refine wa_get (v := .ref (ad 51)) X hH (have h9 := (XW.c24 hX); h9) wcX2 3 (by decide) q344 rfl (fun _ h9 => h9) rfl dX2_shown_3 ?_
  refine lv_iload_n X.x X.b dX2_shown_6 rfl (lv_at hl 2 rfl) ?_
  refine wa_aald (k := 6) (f := B 1) X hH (have h9 := (XW.c51 hX); h9) rfl rfl (by omega) (by omega) (by omega) dX2_shown_7 ?_
  rcases xo_cases ((B 1) k) with ho8 | ⟨a8, ho8⟩
  · refine wz_opt (q := none) ho8 ?_
    have hf := hJR.2.1.1.nol (a := k) (by omega) (by omega) ho8
    refine lv_ifnullN (tgt := 23) X.x X.b dX2_shown_8 (by decide) ?_
    refine wz_bipush X.x X.b dX2_shown_23 rfl ?_
    refine lv_goto (tgt := 36) X.x X.b dX2_shown_25 (by decide) ?_
    refine wz_is (z := shTo g k r) (by unfold shTo; first | (rw [if_pos hf]; done) | (rw [if_neg hf, if_neg (hsh.mp (by omega))]; done) | (rw [if_neg hf, if_pos (Classical.not_not.mp (fun z => c20 (by rw [hv]; exact hsh.mpr z)))]; exact congrArg zI hv) | (rw [if_neg hf, if_pos (Classical.not_not.mp (fun z => c20 (by rw [hv]; exact hsh.mpr z))), hv])) ?_
    refine lv_istore (lv' := [(4, .int (zI (shTo g k r))), (3, .int (zI 0)), (0, .ref (ad 24)), (1, .int (zI k)), (2, .int (zI r))]) X.x X.b dX2_shown_36 hl (by decide) rfl (fun ls hl => ?_)
    refine lv_aload_n X.x X.b dX2_shown_38 rfl (lv_at hl 2 rfl) ?_
    refine wa_get (v := .ref (ad 52)) X hH (have h9 := (XW.c24 hX); h9) wcX2 4 (by decide) q346 rfl (fun _ h9 => h9) rfl dX2_shown_39 ?_
    refine lv_iload_n X.x X.b dX2_shown_42 rfl (lv_at hl 3 rfl) ?_
    refine wa_iald (f := A 3) X hH (have h9 := (XW.c52 hX); h9) (by omega) (by omega) (by omega) dX2_shown_43 ?_
    refine wz_is (z := ahS g k) (by rw [hah]) ?_
    refine wz_iconst X.x X.b dX2_shown_44 ?_
    refine wz_icmp_eq (tgt := 110) X.x X.b dX2_shown_45 (by decide) ⟨by omega, by omega⟩ ⟨by omega, by omega⟩ (fun c45 => ?_) (fun c45 => ?_)
    · refine lv_iload_n X.x X.b dX2_shown_110 rfl (lv_at hl 1 rfl) ?_
      refine wz_is (z := shFrom g k r) (by first | rfl | (unfold shFrom; rw [if_pos (by omega)])) ?_
      refine lv_istore (lv' := [(5, .int (zI (shFrom g k r))), (4, .int (zI (shTo g k r))), (3, .int (zI 0)), (0, .ref (ad 24)), (1, .int (zI k)), (2, .int (zI r))]) X.x X.b dX2_shown_111 hl (by decide) rfl (fun ls hl => ?_)
      refine lv_iload X.x X.b dX2_shown_113 (lv_at hl 1 rfl) ?_
      refine lv_iload X.x X.b dX2_shown_115 (lv_at hl 0 rfl) ?_
      have hX_117 := hX
      have hK_117 := hK
      have hJR_117 := hJR
      refine wb_lam (rest := [.int (zI (shTo g k r))]) (vals := [.int (zI (shFrom g k r))]) (sh := wbS6) (num := 22) (D := wbD6) (laid := wbL6) X hH hS (wb_hO (X.t _ q2102)) (List.mem_of_getElem? (i := 5) rfl) wbD6_is wbL6_is wbL6_t (by rw [wbC6]; rfl) (by rw [wbC6]; exact (lamOK.cons ⟨rfl, rfl⟩ lamOK.nil)) rfl hl.1 (Nat.le_of_ble_eq_true rfl) (Nat.le_of_ble_eq_true rfl) (Nat.le_of_ble_eq_true rfl) dX2_shown_117 (fun nq117 w117 H hn117 ew hH hS => ?_)
      have hk0 := Ext.new hn117 ew
      have hX := hX.ext hk0
      have hk := hk0.k (ad := ad)
      have hJR := hJR.kp hk
      have hK := hK.kp hk
      have hN117 := hk
      have n117 : Lc ad w117 nq117 (.inr { cls := G.2.1 22, slots := #[.int (zI (shFrom g k r))], vm := .none }) := Lc.new hX_117 hn117 (by rw [ew]; exact wup_s)
      clear ew hk0
      refine wa_ci hS (wa_rSN (rest := []) X hH (mX0_bits_6  (show At w117 nq117 (.inr { cls := G.2.1 22, slots := #[.int (zI (shFrom g k r))], vm := .none }) from n117.2) (shTo g k r) (by omega) (by unfold rI; omega)) (wa_cN X 2 q643 q1423 q109 hdX0_bits.2 ⟨Nat.le_of_ble_eq_true rfl, Nat.le_of_ble_eq_true rfl⟩) q642 rfl rfl hl.1 rfl (Nat.le_of_ble_eq_true rfl) dX2_shown_122 ⟨Nat.le_of_ble_eq_true rfl, Nat.le_of_ble_eq_true rfl⟩) (fun z w122 H locs hp hH hS => ?_)
      obtain ⟨rfl, hw⟩ := hp
      rw [← hw] at hH; clear hw
      refine W.widen (k := 1) (n := 1) (by first | exact Nat.le_of_ble_eq_true rfl | omega) (by first | exact Nat.le_of_ble_eq_true rfl | omega) ?_
      exact wa_iret X hH hS dX2_shown_125 ⟨by unfold showS; exact bset_cb fun j hj => decide_eq_true_iff.symm, ⟨hX, hK⟩⟩
    · refine lv_aload_n X.x X.b dX2_shown_48 rfl (lv_at hl 2 rfl) ?_
      refine wa_get (v := .ref (ad 51)) X hH (have h9 := (XW.c24 hX); h9) wcX2 3 (by decide) q344 rfl (fun _ h9 => h9) rfl dX2_shown_49 ?_
      refine lv_aload_n X.x X.b dX2_shown_52 rfl (lv_at hl 2 rfl) ?_
      refine wa_get (v := .ref (ad 52)) X hH (have h9 := (XW.c24 hX); h9) wcX2 4 (by decide) q346 rfl (fun _ h9 => h9) rfl dX2_shown_53 ?_
      refine lv_iload_n X.x X.b dX2_shown_56 rfl (lv_at hl 3 rfl) ?_
      refine wa_iald (f := A 3) X hH (have h9 := (XW.c52 hX); h9) (by omega) (by omega) (by omega) dX2_shown_57 ?_
      refine wz_is (z := ahS g k) (by rw [hah]) ?_
      have hai2 := hai.resolve_left (by omega)
      have hfa : ¬ foS g (ahS g k) = -1 := by omega
      obtain ⟨hq1, hq2, hq3, lk, sc, elk, flk⟩ := (hJR.2.1.1 (ahS g k) (by omega) (by omega)).resolve_left (fun q => hfa q.1)
      have hea := efS_in (g := g) (ahS g k)
      obtain ⟨q1, rw1, hq4, fs, hr1⟩ := hJR.2.2.1.is (x := ahS g k) (by omega) (by omega) hfa
      refine wa_aald (k := 6) (f := B 1) X hH (have h9 := (XW.c51 hX); h9) rfl rfl (by omega) (by omega) (by omega) dX2_shown_58 ?_
      refine wz_opt (q := some lk) (by exact elk) ?_
      refine lv_astore (lv' := [(5, .ref lk), (4, .int (zI (shTo g k r))), (3, .int (zI 0)), (0, .ref (ad 24)), (1, .int (zI k)), (2, .int (zI r))]) X.x X.b dX2_shown_59 hl (by decide) rfl (fun ls hl => ?_)
      refine lv_iload_n X.x X.b dX2_shown_61 rfl (lv_at hl 5 rfl) ?_
      refine lv_aload X.x X.b dX2_shown_62 (lv_at hl 0 rfl) ?_
      refine wa_getN (v := .ref sc) X hH flk.1.2 wcX11 2 (by decide) q1130 rfl (fun _ h9 => h9) rfl dX2_shown_64 ?_
      refine wa_getN (v := .int (zI (eS g (ahS g k)))) X hH flk.2.2 wcX10 0 (by decide) q1056 rfl (fun _ h9 => h9) rfl dX2_shown_67 ?_
      refine wz_iadd X.x X.b dX2_shown_70 ?_
      refine lv_istore (lv' := [(6, .int (zI (r + (eS g (ahS g k))))), (5, .ref lk), (4, .int (zI (shTo g k r))), (3, .int (zI 0)), (0, .ref (ad 24)), (1, .int (zI k)), (2, .int (zI r))]) X.x X.b dX2_shown_71 hl (by decide) rfl (fun ls hl => ?_)
      refine lv_aload X.x X.b dX2_shown_73 (lv_at hl 1 rfl) ?_
      refine lv_iload X.x X.b dX2_shown_75 (lv_at hl 0 rfl) ?_
      refine wa_ci hS (wa_rV (rest := []) X hH (mX11_isRow  (show At w lk (eO 11 [.int (zI (ahS g k)), .int (zI (foS g (ahS g k))), .ref sc, .int (zI ((bestS g (ahS g k) (foS g (ahS g k))).1))]) from flk.1.2) (show At w sc (eO 10 [.int (zI (eS g (ahS g k))), .int (zI (fS g (ahS g k)))]) from flk.2.2) (r + (eS g (ahS g k))) (show -100 ≤ (r + (eS g (ahS g k))) ∧ (r + (eS g (ahS g k))) ≤ 100 by first | assumption | omega) (show -100 ≤ (eS g (ahS g k)) ∧ (eS g (ahS g k)) ≤ 100 by first | assumption | omega)) (cwV 1 X.t (lw_V q1271 q1272 q1273 q141 q1274) rfl rfl rfl hdX11_isRow ⟨Nat.le_of_ble_eq_true rfl, Nat.le_of_ble_eq_true rfl⟩) rfl flk.1.2 rfl rfl hl.1 rfl (Nat.le_of_ble_eq_true rfl) dX2_shown_77 ⟨Nat.le_of_ble_eq_true rfl, Nat.le_of_ble_eq_true rfl⟩) (fun z w77 H locs hp hH hS => ?_)
      obtain ⟨hb, hw⟩ := hp
      rw [← hw] at hH; clear hw
      rcases hb with ⟨b77, rfl⟩ | ⟨b77, rfl⟩
      · have b77 : ((0 ≤ (r + (eS g (ahS g k))) - (eS g (ahS g k)) ∧ (r + (eS g (ahS g k))) - (eS g (ahS g k)) ≤ 3) ∧ 0 ≤ (r + (eS g (ahS g k))) ∧ (r + (eS g (ahS g k))) ≤ 3) := b77
        refine wz_ifeq (tgt := 108) X.x X.b dX2_shown_80 (by decide) (by decide) (fun h => absurd h (by decide)) (fun _ => ?_)
        refine lv_aload_n X.x X.b dX2_shown_83 rfl (lv_at hl 4 rfl) ?_
        refine wa_get (v := .ref (ad 53)) X hH (have h9 := (XW.c24 hX); h9) wcX2 9 (by decide) q356 rfl (fun _ h9 => h9) rfl dX2_shown_84 ?_
        refine lv_aload X.x X.b dX2_shown_87 (lv_at hl 1 rfl) ?_
        refine wa_getN (v := .int (zI (ahS g k))) X hH flk.1.2 wcX11 0 (by decide) q1124 rfl (fun _ h9 => h9) rfl dX2_shown_89 ?_
        refine wa_aald (k := 7) (f := B 3) X hH (have h9 := (XW.c53 hX); h9) rfl rfl (by omega) (by omega) (by omega) dX2_shown_92 ?_
        refine wz_opt (q := some q1) (by exact hq4) ?_
        refine lv_iload X.x X.b dX2_shown_93 (lv_at hl 0 rfl) ?_
        refine wa_iald (f := rw1) X hH fs.2 (by omega) (by omega) (by omega) dX2_shown_95 ?_
        refine lv_aload X.x X.b dX2_shown_96 (lv_at hl 1 rfl) ?_
        refine wa_getN (v := .ref sc) X hH flk.1.2 wcX11 2 (by decide) q1130 rfl (fun _ h9 => h9) rfl dX2_shown_98 ?_
        refine wa_getN (v := .int (zI (fS g (ahS g k)))) X hH flk.2.2 wcX10 1 (by decide) q1060 rfl (fun _ h9 => h9) rfl dX2_shown_101 ?_
        refine wz_isub X.x X.b dX2_shown_104 ?_
        refine lv_goto (tgt := 109) X.x X.b dX2_shown_105 (by decide) ?_
        refine wz_is (z := shFrom g k r) (by unfold shFrom; rw [if_neg (by omega)]; first | (rw [if_pos ⟨b77.2, b77.1⟩, hr1 _ (by omega) (by omega)]; done) | (rw [if_neg (fun q => b77 ⟨q.2, q.1⟩)]; done)) ?_
        refine lv_istore_n (lv' := [(3, .int (zI (shFrom g k r))), (6, .int (zI (r + (eS g (ahS g k))))), (5, .ref lk), (4, .int (zI (shTo g k r))), (0, .ref (ad 24)), (1, .int (zI k)), (2, .int (zI r))]) X.x X.b dX2_shown_109 rfl hl (by decide) rfl (fun ls hl => ?_)
        refine lv_iload_n X.x X.b dX2_shown_110 rfl (lv_at hl 0 rfl) ?_
        refine wz_is (z := shFrom g k r) (by first | rfl | (unfold shFrom; rw [if_pos (by omega)])) ?_
        refine lv_istore (lv' := [(5, .int (zI (shFrom g k r))), (3, .int (zI (shFrom g k r))), (6, .int (zI (r + (eS g (ahS g k))))), (4, .int (zI (shTo g k r))), (0, .ref (ad 24)), (1, .int (zI k)), (2, .int (zI r))]) X.x X.b dX2_shown_111 hl (by decide) rfl (fun ls hl => ?_)
        refine lv_iload X.x X.b dX2_shown_113 (lv_at hl 3 rfl) ?_
        refine lv_iload X.x X.b dX2_shown_115 (lv_at hl 0 rfl) ?_
        have hX_117 := hX
        have hK_117 := hK
        have hJR_117 := hJR
        have flk_117 := flk
        have fs_117 := fs
        refine wb_lam (rest := [.int (zI (shTo g k r))]) (vals := [.int (zI (shFrom g k r))]) (sh := wbS6) (num := 22) (D := wbD6) (laid := wbL6) X hH hS (wb_hO (X.t _ q2102)) (List.mem_of_getElem? (i := 5) rfl) wbD6_is wbL6_is wbL6_t (by rw [wbC6]; rfl) (by rw [wbC6]; exact (lamOK.cons ⟨rfl, rfl⟩ lamOK.nil)) rfl hl.1 (Nat.le_of_ble_eq_true rfl) (Nat.le_of_ble_eq_true rfl) (Nat.le_of_ble_eq_true rfl) dX2_shown_117 (fun nq117 w117 H hn117 ew hH hS => ?_)
        have hk0 := Ext.new hn117 ew
        have hX := hX.ext hk0
        have hk := hk0.k (ad := ad)
        have hJR := hJR.kp hk
        have flk := flk.kp hk
        have fs := fs.kp hk
        have hK := hK.kp hk
        have hN117 := hk
        have n117 : Lc ad w117 nq117 (.inr { cls := G.2.1 22, slots := #[.int (zI (shFrom g k r))], vm := .none }) := Lc.new hX_117 hn117 (by rw [ew]; exact wup_s)
        clear ew hk0
        refine wa_ci hS (wa_rSN (rest := []) X hH (mX0_bits_6  (show At w117 nq117 (.inr { cls := G.2.1 22, slots := #[.int (zI (shFrom g k r))], vm := .none }) from n117.2) (shTo g k r) (by omega) (by unfold rI; omega)) (wa_cN X 2 q643 q1423 q109 hdX0_bits.2 ⟨Nat.le_of_ble_eq_true rfl, Nat.le_of_ble_eq_true rfl⟩) q642 rfl rfl hl.1 rfl (Nat.le_of_ble_eq_true rfl) dX2_shown_122 ⟨Nat.le_of_ble_eq_true rfl, Nat.le_of_ble_eq_true rfl⟩) (fun z w122 H locs hp hH hS => ?_)
        obtain ⟨rfl, hw⟩ := hp
        rw [← hw] at hH; clear hw
        refine W.widen (k := 1) (n := 1) (by first | exact Nat.le_of_ble_eq_true rfl | omega) (by first | exact Nat.le_of_ble_eq_true rfl | omega) ?_
        exact wa_iret X hH hS dX2_shown_125 ⟨by unfold showS; exact bset_cb fun j hj => decide_eq_true_iff.symm, ⟨hX, hK⟩⟩
      · have b77 : ¬ ((0 ≤ (r + (eS g (ahS g k))) - (eS g (ahS g k)) ∧ (r + (eS g (ahS g k))) - (eS g (ahS g k)) ≤ 3) ∧ 0 ≤ (r + (eS g (ahS g k))) ∧ (r + (eS g (ahS g k))) ≤ 3) := b77
        refine wz_ifeq (tgt := 108) X.x X.b dX2_shown_80 (by decide) (by decide) (fun _ => ?_) (fun h => absurd h (by decide))
        refine wz_iconst X.x X.b dX2_shown_108 ?_
        refine wz_is (z := shFrom g k r) (by unfold shFrom; rw [if_neg (by omega)]; first | (rw [if_pos ⟨b77.2, b77.1⟩, hr1 _ (by omega) (by omega)]; done) | (rw [if_neg (fun q => b77 ⟨q.2, q.1⟩)]; done)) ?_
        refine lv_istore_n (lv' := [(3, .int (zI (shFrom g k r))), (6, .int (zI (r + (eS g (ahS g k))))), (5, .ref lk), (4, .int (zI (shTo g k r))), (0, .ref (ad 24)), (1, .int (zI k)), (2, .int (zI r))]) X.x X.b dX2_shown_109 rfl hl (by decide) rfl (fun ls hl => ?_)
        refine lv_iload_n X.x X.b dX2_shown_110 rfl (lv_at hl 0 rfl) ?_
        refine wz_is (z := shFrom g k r) (by first | rfl | (unfold shFrom; rw [if_pos (by omega)])) ?_
        refine lv_istore (lv' := [(5, .int (zI (shFrom g k r))), (3, .int (zI (shFrom g k r))), (6, .int (zI (r + (eS g (ahS g k))))), (4, .int (zI (shTo g k r))), (0, .ref (ad 24)), (1, .int (zI k)), (2, .int (zI r))]) X.x X.b dX2_shown_111 hl (by decide) rfl (fun ls hl => ?_)
        refine lv_iload X.x X.b dX2_shown_113 (lv_at hl 3 rfl) ?_
        refine lv_iload X.x X.b dX2_shown_115 (lv_at hl 0 rfl) ?_
        have hX_117 := hX
        have hK_117 := hK
        have hJR_117 := hJR
        have flk_117 := flk
        have fs_117 := fs
        refine wb_lam (rest := [.int (zI (shTo g k r))]) (vals := [.int (zI (shFrom g k r))]) (sh := wbS6) (num := 22) (D := wbD6) (laid := wbL6) X hH hS (wb_hO (X.t _ q2102)) (List.mem_of_getElem? (i := 5) rfl) wbD6_is wbL6_is wbL6_t (by rw [wbC6]; rfl) (by rw [wbC6]; exact (lamOK.cons ⟨rfl, rfl⟩ lamOK.nil)) rfl hl.1 (Nat.le_of_ble_eq_true rfl) (Nat.le_of_ble_eq_true rfl) (Nat.le_of_ble_eq_true rfl) dX2_shown_117 (fun nq117 w117 H hn117 ew hH hS => ?_)
        have hk0 := Ext.new hn117 ew
        have hX := hX.ext hk0
        have hk := hk0.k (ad := ad)
        have hJR := hJR.kp hk
        have flk := flk.kp hk
        have fs := fs.kp hk
        have hK := hK.kp hk
        have hN117 := hk
        have n117 : Lc ad w117 nq117 (.inr { cls := G.2.1 22, slots := #[.int (zI (shFrom g k r))], vm := .none }) := Lc.new hX_117 hn117 (by rw [ew]; exact wup_s)
        clear ew hk0
        refine wa_ci hS (wa_rSN (rest := []) X hH (mX0_bits_6  (show At w117 nq117 (.inr { cls := G.2.1 22, slots := #[.int (zI (shFrom g k r))], vm := .none }) from n117.2) (shTo g k r) (by omega) (by unfold rI; omega)) (wa_cN X 2 q643 q1423 q109 hdX0_bits.2 ⟨Nat.le_of_ble_eq_true rfl, Nat.le_of_ble_eq_true rfl⟩) q642 rfl rfl hl.1 rfl (Nat.le_of_ble_eq_true rfl) dX2_shown_122 ⟨Nat.le_of_ble_eq_true rfl, Nat.le_of_ble_eq_true rfl⟩) (fun z w122 H locs hp hH hS => ?_)
        obtain ⟨rfl, hw⟩ := hp
        rw [← hw] at hH; clear hw
        refine W.widen (k := 1) (n := 1) (by first | exact Nat.le_of_ble_eq_true rfl | omega) (by first | exact Nat.le_of_ble_eq_true rfl | omega) ?_
        exact wa_iret X hH hS dX2_shown_125 ⟨by unfold showS; exact bset_cb fun j hj => decide_eq_true_iff.symm, ⟨hX, hK⟩⟩
  · refine wz_opt (q := (some a8)) ho8 ?_
    obtain ⟨hb1, hb2, hb3, sc, fl⟩ := hJR.2.1.1.isl (a := k) (by omega) (by omega) ho8
    have hf : ¬ foS g k = -1 := by omega
    refine lv_ifnull X.x X.b dX2_shown_8 ?_
    obtain ⟨q0, rw0, hq0, fr, hr0⟩ := hJR.2.2.1.is (x := k) (by omega) (by omega) hf
    have hsh := smS_hr (g := g) (a := k) (r := r) (by omega)
    have hsi := smS_in g k r
    have hef := efS_in (g := g) k
    refine lv_aload_n X.x X.b dX2_shown_11 rfl (lv_at hl 1 rfl) ?_
    refine wa_get (v := .ref (ad 53)) X hH (have h9 := (XW.c24 hX); h9) wcX2 9 (by decide) q356 rfl (fun _ h9 => h9) rfl dX2_shown_12 ?_
    refine lv_iload_n X.x X.b dX2_shown_15 rfl (lv_at hl 2 rfl) ?_
    refine wa_aald (k := 7) (f := B 3) X hH (have h9 := (XW.c53 hX); h9) rfl rfl (by omega) (by omega) (by omega) dX2_shown_16 ?_
    refine wz_opt (q := some q0) (by exact hq0) ?_
    refine lv_iload_n X.x X.b dX2_shown_17 rfl (lv_at hl 3 rfl) ?_
    refine wa_iald (f := rw0) X hH fr.2 (by omega) (by omega) (by omega) dX2_shown_18 ?_
    have hv := hr0 r hr.1 hr.2
    refine wz_iconst X.x X.b dX2_shown_19 ?_
    refine wz_icmp_ne (tgt := 28) X.x X.b dX2_shown_20 (by decide) ⟨by omega, by omega⟩ ⟨by omega, by omega⟩ (fun c20 => ?_) (fun c20 => ?_)
    · refine lv_aload_n X.x X.b dX2_shown_28 rfl (lv_at hl 1 rfl) ?_
      refine wa_get (v := .ref (ad 53)) X hH (have h9 := (XW.c24 hX); h9) wcX2 9 (by decide) q356 rfl (fun _ h9 => h9) rfl dX2_shown_29 ?_
      refine lv_iload_n X.x X.b dX2_shown_32 rfl (lv_at hl 2 rfl) ?_
      refine wa_aald (k := 7) (f := B 3) X hH (have h9 := (XW.c53 hX); h9) rfl rfl (by omega) (by omega) (by omega) dX2_shown_33 ?_
      refine wz_opt (q := some q0) (by exact hq0) ?_
      refine lv_iload_n X.x X.b dX2_shown_34 rfl (lv_at hl 3 rfl) ?_
      refine wa_iald (f := rw0) X hH fr.2 (by omega) (by omega) (by omega) dX2_shown_35 ?_
      refine wz_is (z := shTo g k r) (by unfold shTo; first | (rw [if_pos hf]; done) | (rw [if_neg hf, if_neg (hsh.mp (by omega))]; done) | (rw [if_neg hf, if_pos (Classical.not_not.mp (fun z => c20 (by rw [hv]; exact hsh.mpr z)))]; exact congrArg zI hv) | (rw [if_neg hf, if_pos (Classical.not_not.mp (fun z => c20 (by rw [hv]; exact hsh.mpr z))), hv])) ?_
      refine lv_istore (lv' := [(4, .int (zI (shTo g k r))), (3, .int (zI 0)), (0, .ref (ad 24)), (1, .int (zI k)), (2, .int (zI r))]) X.x X.b dX2_shown_36 hl (by decide) rfl (fun ls hl => ?_)
      refine lv_aload_n X.x X.b dX2_shown_38 rfl (lv_at hl 2 rfl) ?_
      refine wa_get (v := .ref (ad 52)) X hH (have h9 := (XW.c24 hX); h9) wcX2 4 (by decide) q346 rfl (fun _ h9 => h9) rfl dX2_shown_39 ?_
      refine lv_iload_n X.x X.b dX2_shown_42 rfl (lv_at hl 3 rfl) ?_
      refine wa_iald (f := A 3) X hH (have h9 := (XW.c52 hX); h9) (by omega) (by omega) (by omega) dX2_shown_43 ?_
      refine wz_is (z := ahS g k) (by rw [hah]) ?_
      refine wz_iconst X.x X.b dX2_shown_44 ?_
      refine wz_icmp_eq (tgt := 110) X.x X.b dX2_shown_45 (by decide) ⟨by omega, by omega⟩ ⟨by omega, by omega⟩ (fun c45 => ?_) (fun c45 => ?_)
      · refine lv_iload_n X.x X.b dX2_shown_110 rfl (lv_at hl 1 rfl) ?_
        refine wz_is (z := shFrom g k r) (by first | rfl | (unfold shFrom; rw [if_pos (by omega)])) ?_
        refine lv_istore (lv' := [(5, .int (zI (shFrom g k r))), (4, .int (zI (shTo g k r))), (3, .int (zI 0)), (0, .ref (ad 24)), (1, .int (zI k)), (2, .int (zI r))]) X.x X.b dX2_shown_111 hl (by decide) rfl (fun ls hl => ?_)
        refine lv_iload X.x X.b dX2_shown_113 (lv_at hl 1 rfl) ?_
        refine lv_iload X.x X.b dX2_shown_115 (lv_at hl 0 rfl) ?_
        have hX_117 := hX
        have hK_117 := hK
        have hJR_117 := hJR
        have fl_117 := fl
        have fr_117 := fr
        refine wb_lam (rest := [.int (zI (shTo g k r))]) (vals := [.int (zI (shFrom g k r))]) (sh := wbS6) (num := 22) (D := wbD6) (laid := wbL6) X hH hS (wb_hO (X.t _ q2102)) (List.mem_of_getElem? (i := 5) rfl) wbD6_is wbL6_is wbL6_t (by rw [wbC6]; rfl) (by rw [wbC6]; exact (lamOK.cons ⟨rfl, rfl⟩ lamOK.nil)) rfl hl.1 (Nat.le_of_ble_eq_true rfl) (Nat.le_of_ble_eq_true rfl) (Nat.le_of_ble_eq_true rfl) dX2_shown_117 (fun nq117 w117 H hn117 ew hH hS => ?_)
        have hk0 := Ext.new hn117 ew
        have hX := hX.ext hk0
        have hk := hk0.k (ad := ad)
        have hJR := hJR.kp hk
        have fl := fl.kp hk
        have fr := fr.kp hk
        have hK := hK.kp hk
        have hN117 := hk
        have n117 : Lc ad w117 nq117 (.inr { cls := G.2.1 22, slots := #[.int (zI (shFrom g k r))], vm := .none }) := Lc.new hX_117 hn117 (by rw [ew]; exact wup_s)
        clear ew hk0
        refine wa_ci hS (wa_rSN (rest := []) X hH (mX0_bits_6  (show At w117 nq117 (.inr { cls := G.2.1 22, slots := #[.int (zI (shFrom g k r))], vm := .none }) from n117.2) (shTo g k r) (by omega) (by unfold rI; omega)) (wa_cN X 2 q643 q1423 q109 hdX0_bits.2 ⟨Nat.le_of_ble_eq_true rfl, Nat.le_of_ble_eq_true rfl⟩) q642 rfl rfl hl.1 rfl (Nat.le_of_ble_eq_true rfl) dX2_shown_122 ⟨Nat.le_of_ble_eq_true rfl, Nat.le_of_ble_eq_true rfl⟩) (fun z w122 H locs hp hH hS => ?_)
        obtain ⟨rfl, hw⟩ := hp
        rw [← hw] at hH; clear hw
        refine W.widen (k := 1) (n := 1) (by first | exact Nat.le_of_ble_eq_true rfl | omega) (by first | exact Nat.le_of_ble_eq_true rfl | omega) ?_
        exact wa_iret X hH hS dX2_shown_125 ⟨by unfold showS; exact bset_cb fun j hj => decide_eq_true_iff.symm, ⟨hX, hK⟩⟩
      · refine lv_aload_n X.x X.b dX2_shown_48 rfl (lv_at hl 2 rfl) ?_
        refine wa_get (v := .ref (ad 51)) X hH (have h9 := (XW.c24 hX); h9) wcX2 3 (by decide) q344 rfl (fun _ h9 => h9) rfl dX2_shown_49 ?_
        refine lv_aload_n X.x X.b dX2_shown_52 rfl (lv_at hl 2 rfl) ?_
        refine wa_get (v := .ref (ad 52)) X hH (have h9 := (XW.c24 hX); h9) wcX2 4 (by decide) q346 rfl (fun _ h9 => h9) rfl dX2_shown_53 ?_
        refine lv_iload_n X.x X.b dX2_shown_56 rfl (lv_at hl 3 rfl) ?_
        refine wa_iald (f := A 3) X hH (have h9 := (XW.c52 hX); h9) (by omega) (by omega) (by omega) dX2_shown_57 ?_
        refine wz_is (z := ahS g k) (by rw [hah]) ?_
        have hai2 := hai.resolve_left (by omega)
        have hfa : ¬ foS g (ahS g k) = -1 := by omega
        obtain ⟨hq1, hq2, hq3, lk, sc, elk, flk⟩ := (hJR.2.1.1 (ahS g k) (by omega) (by omega)).resolve_left (fun q => hfa q.1)
        have hea := efS_in (g := g) (ahS g k)
        obtain ⟨q1, rw1, hq4, fs, hr1⟩ := hJR.2.2.1.is (x := ahS g k) (by omega) (by omega) hfa
        refine wa_aald (k := 6) (f := B 1) X hH (have h9 := (XW.c51 hX); h9) rfl rfl (by omega) (by omega) (by omega) dX2_shown_58 ?_
        refine wz_opt (q := some lk) (by exact elk) ?_
        refine lv_astore (lv' := [(5, .ref lk), (4, .int (zI (shTo g k r))), (3, .int (zI 0)), (0, .ref (ad 24)), (1, .int (zI k)), (2, .int (zI r))]) X.x X.b dX2_shown_59 hl (by decide) rfl (fun ls hl => ?_)
        refine lv_iload_n X.x X.b dX2_shown_61 rfl (lv_at hl 5 rfl) ?_
        refine lv_aload X.x X.b dX2_shown_62 (lv_at hl 0 rfl) ?_
        refine wa_getN (v := .ref sc) X hH flk.1.2 wcX11 2 (by decide) q1130 rfl (fun _ h9 => h9) rfl dX2_shown_64 ?_
        refine wa_getN (v := .int (zI (eS g (ahS g k)))) X hH flk.2.2 wcX10 0 (by decide) q1056 rfl (fun _ h9 => h9) rfl dX2_shown_67 ?_
        refine wz_iadd X.x X.b dX2_shown_70 ?_
        refine lv_istore (lv' := [(6, .int (zI (r + (eS g (ahS g k))))), (5, .ref lk), (4, .int (zI (shTo g k r))), (3, .int (zI 0)), (0, .ref (ad 24)), (1, .int (zI k)), (2, .int (zI r))]) X.x X.b dX2_shown_71 hl (by decide) rfl (fun ls hl => ?_)
        refine lv_aload X.x X.b dX2_shown_73 (lv_at hl 1 rfl) ?_
        refine lv_iload X.x X.b dX2_shown_75 (lv_at hl 0 rfl) ?_
        refine wa_ci hS (wa_rV (rest := []) X hH (mX11_isRow  (show At w lk (eO 11 [.int (zI (ahS g k)), .int (zI (foS g (ahS g k))), .ref sc, .int (zI ((bestS g (ahS g k) (foS g (ahS g k))).1))]) from flk.1.2) (show At w sc (eO 10 [.int (zI (eS g (ahS g k))), .int (zI (fS g (ahS g k)))]) from flk.2.2) (r + (eS g (ahS g k))) (show -100 ≤ (r + (eS g (ahS g k))) ∧ (r + (eS g (ahS g k))) ≤ 100 by first | assumption | omega) (show -100 ≤ (eS g (ahS g k)) ∧ (eS g (ahS g k)) ≤ 100 by first | assumption | omega)) (cwV 1 X.t (lw_V q1271 q1272 q1273 q141 q1274) rfl rfl rfl hdX11_isRow ⟨Nat.le_of_ble_eq_true rfl, Nat.le_of_ble_eq_true rfl⟩) rfl flk.1.2 rfl rfl hl.1 rfl (Nat.le_of_ble_eq_true rfl) dX2_shown_77 ⟨Nat.le_of_ble_eq_true rfl, Nat.le_of_ble_eq_true rfl⟩) (fun z w77 H locs hp hH hS => ?_)
        obtain ⟨hb, hw⟩ := hp
        rw [← hw] at hH; clear hw
        rcases hb with ⟨b77, rfl⟩ | ⟨b77, rfl⟩
        · have b77 : ((0 ≤ (r + (eS g (ahS g k))) - (eS g (ahS g k)) ∧ (r + (eS g (ahS g k))) - (eS g (ahS g k)) ≤ 3) ∧ 0 ≤ (r + (eS g (ahS g k))) ∧ (r + (eS g (ahS g k))) ≤ 3) := b77
          refine wz_ifeq (tgt := 108) X.x X.b dX2_shown_80 (by decide) (by decide) (fun h => absurd h (by decide)) (fun _ => ?_)
          refine lv_aload_n X.x X.b dX2_shown_83 rfl (lv_at hl 4 rfl) ?_
          refine wa_get (v := .ref (ad 53)) X hH (have h9 := (XW.c24 hX); h9) wcX2 9 (by decide) q356 rfl (fun _ h9 => h9) rfl dX2_shown_84 ?_
          refine lv_aload X.x X.b dX2_shown_87 (lv_at hl 1 rfl) ?_
          refine wa_getN (v := .int (zI (ahS g k))) X hH flk.1.2 wcX11 0 (by decide) q1124 rfl (fun _ h9 => h9) rfl dX2_shown_89 ?_
          refine wa_aald (k := 7) (f := B 3) X hH (have h9 := (XW.c53 hX); h9) rfl rfl (by omega) (by omega) (by omega) dX2_shown_92 ?_
          refine wz_opt (q := some q1) (by exact hq4) ?_
          refine lv_iload X.x X.b dX2_shown_93 (lv_at hl 0 rfl) ?_
          refine wa_iald (f := rw1) X hH fs.2 (by omega) (by omega) (by omega) dX2_shown_95 ?_
          refine lv_aload X.x X.b dX2_shown_96 (lv_at hl 1 rfl) ?_
          refine wa_getN (v := .ref sc) X hH flk.1.2 wcX11 2 (by decide) q1130 rfl (fun _ h9 => h9) rfl dX2_shown_98 ?_
          refine wa_getN (v := .int (zI (fS g (ahS g k)))) X hH flk.2.2 wcX10 1 (by decide) q1060 rfl (fun _ h9 => h9) rfl dX2_shown_101 ?_
          refine wz_isub X.x X.b dX2_shown_104 ?_
          refine lv_goto (tgt := 109) X.x X.b dX2_shown_105 (by decide) ?_
          refine wz_is (z := shFrom g k r) (by unfold shFrom; rw [if_neg (by omega)]; first | (rw [if_pos ⟨b77.2, b77.1⟩, hr1 _ (by omega) (by omega)]; done) | (rw [if_neg (fun q => b77 ⟨q.2, q.1⟩)]; done)) ?_
          refine lv_istore_n (lv' := [(3, .int (zI (shFrom g k r))), (6, .int (zI (r + (eS g (ahS g k))))), (5, .ref lk), (4, .int (zI (shTo g k r))), (0, .ref (ad 24)), (1, .int (zI k)), (2, .int (zI r))]) X.x X.b dX2_shown_109 rfl hl (by decide) rfl (fun ls hl => ?_)
          refine lv_iload_n X.x X.b dX2_shown_110 rfl (lv_at hl 0 rfl) ?_
          refine wz_is (z := shFrom g k r) (by first | rfl | (unfold shFrom; rw [if_pos (by omega)])) ?_
          refine lv_istore (lv' := [(5, .int (zI (shFrom g k r))), (3, .int (zI (shFrom g k r))), (6, .int (zI (r + (eS g (ahS g k))))), (4, .int (zI (shTo g k r))), (0, .ref (ad 24)), (1, .int (zI k)), (2, .int (zI r))]) X.x X.b dX2_shown_111 hl (by decide) rfl (fun ls hl => ?_)
          refine lv_iload X.x X.b dX2_shown_113 (lv_at hl 3 rfl) ?_
          refine lv_iload X.x X.b dX2_shown_115 (lv_at hl 0 rfl) ?_
          have hX_117 := hX
          have hK_117 := hK
          have hJR_117 := hJR
          have fl_117 := fl
          have fr_117 := fr
          have flk_117 := flk
          have fs_117 := fs
          refine wb_lam (rest := [.int (zI (shTo g k r))]) (vals := [.int (zI (shFrom g k r))]) (sh := wbS6) (num := 22) (D := wbD6) (laid := wbL6) X hH hS (wb_hO (X.t _ q2102)) (List.mem_of_getElem? (i := 5) rfl) wbD6_is wbL6_is wbL6_t (by rw [wbC6]; rfl) (by rw [wbC6]; exact (lamOK.cons ⟨rfl, rfl⟩ lamOK.nil)) rfl hl.1 (Nat.le_of_ble_eq_true rfl) (Nat.le_of_ble_eq_true rfl) (Nat.le_of_ble_eq_true rfl) dX2_shown_117 (fun nq117 w117 H hn117 ew hH hS => ?_)
          have hk0 := Ext.new hn117 ew
          have hX := hX.ext hk0
          have hk := hk0.k (ad := ad)
          have hJR := hJR.kp hk
          have fl := fl.kp hk
          have fr := fr.kp hk
          have flk := flk.kp hk
          have fs := fs.kp hk
          have hK := hK.kp hk
          have hN117 := hk
          have n117 : Lc ad w117 nq117 (.inr { cls := G.2.1 22, slots := #[.int (zI (shFrom g k r))], vm := .none }) := Lc.new hX_117 hn117 (by rw [ew]; exact wup_s)
          clear ew hk0
          refine wa_ci hS (wa_rSN (rest := []) X hH (mX0_bits_6  (show At w117 nq117 (.inr { cls := G.2.1 22, slots := #[.int (zI (shFrom g k r))], vm := .none }) from n117.2) (shTo g k r) (by omega) (by unfold rI; omega)) (wa_cN X 2 q643 q1423 q109 hdX0_bits.2 ⟨Nat.le_of_ble_eq_true rfl, Nat.le_of_ble_eq_true rfl⟩) q642 rfl rfl hl.1 rfl (Nat.le_of_ble_eq_true rfl) dX2_shown_122 ⟨Nat.le_of_ble_eq_true rfl, Nat.le_of_ble_eq_true rfl⟩) (fun z w122 H locs hp hH hS => ?_)
          obtain ⟨rfl, hw⟩ := hp
          rw [← hw] at hH; clear hw
          refine W.widen (k := 1) (n := 1) (by first | exact Nat.le_of_ble_eq_true rfl | omega) (by first | exact Nat.le_of_ble_eq_true rfl | omega) ?_
          exact wa_iret X hH hS dX2_shown_125 ⟨by unfold showS; exact bset_cb fun j hj => decide_eq_true_iff.symm, ⟨hX, hK⟩⟩
        · have b77 : ¬ ((0 ≤ (r + (eS g (ahS g k))) - (eS g (ahS g k)) ∧ (r + (eS g (ahS g k))) - (eS g (ahS g k)) ≤ 3) ∧ 0 ≤ (r + (eS g (ahS g k))) ∧ (r + (eS g (ahS g k))) ≤ 3) := b77
          refine wz_ifeq (tgt := 108) X.x X.b dX2_shown_80 (by decide) (by decide) (fun _ => ?_) (fun h => absurd h (by decide))
          refine wz_iconst X.x X.b dX2_shown_108 ?_
          refine wz_is (z := shFrom g k r) (by unfold shFrom; rw [if_neg (by omega)]; first | (rw [if_pos ⟨b77.2, b77.1⟩, hr1 _ (by omega) (by omega)]; done) | (rw [if_neg (fun q => b77 ⟨q.2, q.1⟩)]; done)) ?_
          refine lv_istore_n (lv' := [(3, .int (zI (shFrom g k r))), (6, .int (zI (r + (eS g (ahS g k))))), (5, .ref lk), (4, .int (zI (shTo g k r))), (0, .ref (ad 24)), (1, .int (zI k)), (2, .int (zI r))]) X.x X.b dX2_shown_109 rfl hl (by decide) rfl (fun ls hl => ?_)
          refine lv_iload_n X.x X.b dX2_shown_110 rfl (lv_at hl 0 rfl) ?_
          refine wz_is (z := shFrom g k r) (by first | rfl | (unfold shFrom; rw [if_pos (by omega)])) ?_
          refine lv_istore (lv' := [(5, .int (zI (shFrom g k r))), (3, .int (zI (shFrom g k r))), (6, .int (zI (r + (eS g (ahS g k))))), (4, .int (zI (shTo g k r))), (0, .ref (ad 24)), (1, .int (zI k)), (2, .int (zI r))]) X.x X.b dX2_shown_111 hl (by decide) rfl (fun ls hl => ?_)
          refine lv_iload X.x X.b dX2_shown_113 (lv_at hl 3 rfl) ?_
          refine lv_iload X.x X.b dX2_shown_115 (lv_at hl 0 rfl) ?_
          have hX_117 := hX
          have hK_117 := hK
          have hJR_117 := hJR
          have fl_117 := fl
          have fr_117 := fr
          have flk_117 := flk
          have fs_117 := fs
          refine wb_lam (rest := [.int (zI (shTo g k r))]) (vals := [.int (zI (shFrom g k r))]) (sh := wbS6) (num := 22) (D := wbD6) (laid := wbL6) X hH hS (wb_hO (X.t _ q2102)) (List.mem_of_getElem? (i := 5) rfl) wbD6_is wbL6_is wbL6_t (by rw [wbC6]; rfl) (by rw [wbC6]; exact (lamOK.cons ⟨rfl, rfl⟩ lamOK.nil)) rfl hl.1 (Nat.le_of_ble_eq_true rfl) (Nat.le_of_ble_eq_true rfl) (Nat.le_of_ble_eq_true rfl) dX2_shown_117 (fun nq117 w117 H hn117 ew hH hS => ?_)
          have hk0 := Ext.new hn117 ew
          have hX := hX.ext hk0
          have hk := hk0.k (ad := ad)
          have hJR := hJR.kp hk
          have fl := fl.kp hk
          have fr := fr.kp hk
          have flk := flk.kp hk
          have fs := fs.kp hk
          have hK := hK.kp hk
          have hN117 := hk
          have n117 : Lc ad w117 nq117 (.inr { cls := G.2.1 22, slots := #[.int (zI (shFrom g k r))], vm := .none }) := Lc.new hX_117 hn117 (by rw [ew]; exact wup_s)
          clear ew hk0
          refine wa_ci hS (wa_rSN (rest := []) X hH (mX0_bits_6  (show At w117 nq117 (.inr { cls := G.2.1 22, slots := #[.int (zI (shFrom g k r))], vm := .none }) from n117.2) (shTo g k r) (by omega) (by unfold rI; omega)) (wa_cN X 2 q643 q1423 q109 hdX0_bits.2 ⟨Nat.le_of_ble_eq_true rfl, Nat.le_of_ble_eq_true rfl⟩) q642 rfl rfl hl.1 rfl (Nat.le_of_ble_eq_true rfl) dX2_shown_122 ⟨Nat.le_of_ble_eq_true rfl, Nat.le_of_ble_eq_true rfl⟩) (fun z w122 H locs hp hH hS => ?_)
          obtain ⟨rfl, hw⟩ := hp
          rw [← hw] at hH; clear hw
          refine W.widen (k := 1) (n := 1) (by first | exact Nat.le_of_ble_eq_true rfl | omega) (by first | exact Nat.le_of_ble_eq_true rfl | omega) ?_
          exact wa_iret X hH hS dX2_shown_125 ⟨by unfold showS; exact bset_cb fun j hj => decide_eq_true_iff.symm, ⟨hX, hK⟩⟩
    · refine wz_bipush X.x X.b dX2_shown_23 rfl ?_
      refine lv_goto (tgt := 36) X.x X.b dX2_shown_25 (by decide) ?_
      refine wz_is (z := shTo g k r) (by unfold shTo; first | (rw [if_pos hf]; done) | (rw [if_neg hf, if_neg (hsh.mp (by omega))]; done) | (rw [if_neg hf, if_pos (Classical.not_not.mp (fun z => c20 (by rw [hv]; exact hsh.mpr z)))]; exact congrArg zI hv) | (rw [if_neg hf, if_pos (Classical.not_not.mp (fun z => c20 (by rw [hv]; exact hsh.mpr z))), hv])) ?_
      refine lv_istore (lv' := [(4, .int (zI (shTo g k r))), (3, .int (zI 0)), (0, .ref (ad 24)), (1, .int (zI k)), (2, .int (zI r))]) X.x X.b dX2_shown_36 hl (by decide) rfl (fun ls hl => ?_)
      refine lv_aload_n X.x X.b dX2_shown_38 rfl (lv_at hl 2 rfl) ?_
      refine wa_get (v := .ref (ad 52)) X hH (have h9 := (XW.c24 hX); h9) wcX2 4 (by decide) q346 rfl (fun _ h9 => h9) rfl dX2_shown_39 ?_
      refine lv_iload_n X.x X.b dX2_shown_42 rfl (lv_at hl 3 rfl) ?_
      refine wa_iald (f := A 3) X hH (have h9 := (XW.c52 hX); h9) (by omega) (by omega) (by omega) dX2_shown_43 ?_
      refine wz_is (z := ahS g k) (by rw [hah]) ?_
      refine wz_iconst X.x X.b dX2_shown_44 ?_
      refine wz_icmp_eq (tgt := 110) X.x X.b dX2_shown_45 (by decide) ⟨by omega, by omega⟩ ⟨by omega, by omega⟩ (fun c45 => ?_) (fun c45 => ?_)
      · refine lv_iload_n X.x X.b dX2_shown_110 rfl (lv_at hl 1 rfl) ?_
        refine wz_is (z := shFrom g k r) (by first | rfl | (unfold shFrom; rw [if_pos (by omega)])) ?_
        refine lv_istore (lv' := [(5, .int (zI (shFrom g k r))), (4, .int (zI (shTo g k r))), (3, .int (zI 0)), (0, .ref (ad 24)), (1, .int (zI k)), (2, .int (zI r))]) X.x X.b dX2_shown_111 hl (by decide) rfl (fun ls hl => ?_)
        refine lv_iload X.x X.b dX2_shown_113 (lv_at hl 1 rfl) ?_
        refine lv_iload X.x X.b dX2_shown_115 (lv_at hl 0 rfl) ?_
        have hX_117 := hX
        have hK_117 := hK
        have hJR_117 := hJR
        have fl_117 := fl
        have fr_117 := fr
        refine wb_lam (rest := [.int (zI (shTo g k r))]) (vals := [.int (zI (shFrom g k r))]) (sh := wbS6) (num := 22) (D := wbD6) (laid := wbL6) X hH hS (wb_hO (X.t _ q2102)) (List.mem_of_getElem? (i := 5) rfl) wbD6_is wbL6_is wbL6_t (by rw [wbC6]; rfl) (by rw [wbC6]; exact (lamOK.cons ⟨rfl, rfl⟩ lamOK.nil)) rfl hl.1 (Nat.le_of_ble_eq_true rfl) (Nat.le_of_ble_eq_true rfl) (Nat.le_of_ble_eq_true rfl) dX2_shown_117 (fun nq117 w117 H hn117 ew hH hS => ?_)
        have hk0 := Ext.new hn117 ew
        have hX := hX.ext hk0
        have hk := hk0.k (ad := ad)
        have hJR := hJR.kp hk
        have fl := fl.kp hk
        have fr := fr.kp hk
        have hK := hK.kp hk
        have hN117 := hk
        have n117 : Lc ad w117 nq117 (.inr { cls := G.2.1 22, slots := #[.int (zI (shFrom g k r))], vm := .none }) := Lc.new hX_117 hn117 (by rw [ew]; exact wup_s)
        clear ew hk0
        refine wa_ci hS (wa_rSN (rest := []) X hH (mX0_bits_6  (show At w117 nq117 (.inr { cls := G.2.1 22, slots := #[.int (zI (shFrom g k r))], vm := .none }) from n117.2) (shTo g k r) (by omega) (by unfold rI; omega)) (wa_cN X 2 q643 q1423 q109 hdX0_bits.2 ⟨Nat.le_of_ble_eq_true rfl, Nat.le_of_ble_eq_true rfl⟩) q642 rfl rfl hl.1 rfl (Nat.le_of_ble_eq_true rfl) dX2_shown_122 ⟨Nat.le_of_ble_eq_true rfl, Nat.le_of_ble_eq_true rfl⟩) (fun z w122 H locs hp hH hS => ?_)
        obtain ⟨rfl, hw⟩ := hp
        rw [← hw] at hH; clear hw
        refine W.widen (k := 1) (n := 1) (by first | exact Nat.le_of_ble_eq_true rfl | omega) (by first | exact Nat.le_of_ble_eq_true rfl | omega) ?_
        exact wa_iret X hH hS dX2_shown_125 ⟨by unfold showS; exact bset_cb fun j hj => decide_eq_true_iff.symm, ⟨hX, hK⟩⟩
      · refine lv_aload_n X.x X.b dX2_shown_48 rfl (lv_at hl 2 rfl) ?_
        refine wa_get (v := .ref (ad 51)) X hH (have h9 := (XW.c24 hX); h9) wcX2 3 (by decide) q344 rfl (fun _ h9 => h9) rfl dX2_shown_49 ?_
        refine lv_aload_n X.x X.b dX2_shown_52 rfl (lv_at hl 2 rfl) ?_
        refine wa_get (v := .ref (ad 52)) X hH (have h9 := (XW.c24 hX); h9) wcX2 4 (by decide) q346 rfl (fun _ h9 => h9) rfl dX2_shown_53 ?_
        refine lv_iload_n X.x X.b dX2_shown_56 rfl (lv_at hl 3 rfl) ?_
        refine wa_iald (f := A 3) X hH (have h9 := (XW.c52 hX); h9) (by omega) (by omega) (by omega) dX2_shown_57 ?_
        refine wz_is (z := ahS g k) (by rw [hah]) ?_
        have hai2 := hai.resolve_left (by omega)
        have hfa : ¬ foS g (ahS g k) = -1 := by omega
        obtain ⟨hq1, hq2, hq3, lk, sc, elk, flk⟩ := (hJR.2.1.1 (ahS g k) (by omega) (by omega)).resolve_left (fun q => hfa q.1)
        have hea := efS_in (g := g) (ahS g k)
        obtain ⟨q1, rw1, hq4, fs, hr1⟩ := hJR.2.2.1.is (x := ahS g k) (by omega) (by omega) hfa
        refine wa_aald (k := 6) (f := B 1) X hH (have h9 := (XW.c51 hX); h9) rfl rfl (by omega) (by omega) (by omega) dX2_shown_58 ?_
        refine wz_opt (q := some lk) (by exact elk) ?_
        refine lv_astore (lv' := [(5, .ref lk), (4, .int (zI (shTo g k r))), (3, .int (zI 0)), (0, .ref (ad 24)), (1, .int (zI k)), (2, .int (zI r))]) X.x X.b dX2_shown_59 hl (by decide) rfl (fun ls hl => ?_)
        refine lv_iload_n X.x X.b dX2_shown_61 rfl (lv_at hl 5 rfl) ?_
        refine lv_aload X.x X.b dX2_shown_62 (lv_at hl 0 rfl) ?_
        refine wa_getN (v := .ref sc) X hH flk.1.2 wcX11 2 (by decide) q1130 rfl (fun _ h9 => h9) rfl dX2_shown_64 ?_
        refine wa_getN (v := .int (zI (eS g (ahS g k)))) X hH flk.2.2 wcX10 0 (by decide) q1056 rfl (fun _ h9 => h9) rfl dX2_shown_67 ?_
        refine wz_iadd X.x X.b dX2_shown_70 ?_
        refine lv_istore (lv' := [(6, .int (zI (r + (eS g (ahS g k))))), (5, .ref lk), (4, .int (zI (shTo g k r))), (3, .int (zI 0)), (0, .ref (ad 24)), (1, .int (zI k)), (2, .int (zI r))]) X.x X.b dX2_shown_71 hl (by decide) rfl (fun ls hl => ?_)
        refine lv_aload X.x X.b dX2_shown_73 (lv_at hl 1 rfl) ?_
        refine lv_iload X.x X.b dX2_shown_75 (lv_at hl 0 rfl) ?_
        refine wa_ci hS (wa_rV (rest := []) X hH (mX11_isRow  (show At w lk (eO 11 [.int (zI (ahS g k)), .int (zI (foS g (ahS g k))), .ref sc, .int (zI ((bestS g (ahS g k) (foS g (ahS g k))).1))]) from flk.1.2) (show At w sc (eO 10 [.int (zI (eS g (ahS g k))), .int (zI (fS g (ahS g k)))]) from flk.2.2) (r + (eS g (ahS g k))) (show -100 ≤ (r + (eS g (ahS g k))) ∧ (r + (eS g (ahS g k))) ≤ 100 by first | assumption | omega) (show -100 ≤ (eS g (ahS g k)) ∧ (eS g (ahS g k)) ≤ 100 by first | assumption | omega)) (cwV 1 X.t (lw_V q1271 q1272 q1273 q141 q1274) rfl rfl rfl hdX11_isRow ⟨Nat.le_of_ble_eq_true rfl, Nat.le_of_ble_eq_true rfl⟩) rfl flk.1.2 rfl rfl hl.1 rfl (Nat.le_of_ble_eq_true rfl) dX2_shown_77 ⟨Nat.le_of_ble_eq_true rfl, Nat.le_of_ble_eq_true rfl⟩) (fun z w77 H locs hp hH hS => ?_)
        obtain ⟨hb, hw⟩ := hp
        rw [← hw] at hH; clear hw
        rcases hb with ⟨b77, rfl⟩ | ⟨b77, rfl⟩
        · have b77 : ((0 ≤ (r + (eS g (ahS g k))) - (eS g (ahS g k)) ∧ (r + (eS g (ahS g k))) - (eS g (ahS g k)) ≤ 3) ∧ 0 ≤ (r + (eS g (ahS g k))) ∧ (r + (eS g (ahS g k))) ≤ 3) := b77
          refine wz_ifeq (tgt := 108) X.x X.b dX2_shown_80 (by decide) (by decide) (fun h => absurd h (by decide)) (fun _ => ?_)
          refine lv_aload_n X.x X.b dX2_shown_83 rfl (lv_at hl 4 rfl) ?_
          refine wa_get (v := .ref (ad 53)) X hH (have h9 := (XW.c24 hX); h9) wcX2 9 (by decide) q356 rfl (fun _ h9 => h9) rfl dX2_shown_84 ?_
          refine lv_aload X.x X.b dX2_shown_87 (lv_at hl 1 rfl) ?_
          refine wa_getN (v := .int (zI (ahS g k))) X hH flk.1.2 wcX11 0 (by decide) q1124 rfl (fun _ h9 => h9) rfl dX2_shown_89 ?_
          refine wa_aald (k := 7) (f := B 3) X hH (have h9 := (XW.c53 hX); h9) rfl rfl (by omega) (by omega) (by omega) dX2_shown_92 ?_
          refine wz_opt (q := some q1) (by exact hq4) ?_
          refine lv_iload X.x X.b dX2_shown_93 (lv_at hl 0 rfl) ?_
          refine wa_iald (f := rw1) X hH fs.2 (by omega) (by omega) (by omega) dX2_shown_95 ?_
          refine lv_aload X.x X.b dX2_shown_96 (lv_at hl 1 rfl) ?_
          refine wa_getN (v := .ref sc) X hH flk.1.2 wcX11 2 (by decide) q1130 rfl (fun _ h9 => h9) rfl dX2_shown_98 ?_
          refine wa_getN (v := .int (zI (fS g (ahS g k)))) X hH flk.2.2 wcX10 1 (by decide) q1060 rfl (fun _ h9 => h9) rfl dX2_shown_101 ?_
          refine wz_isub X.x X.b dX2_shown_104 ?_
          refine lv_goto (tgt := 109) X.x X.b dX2_shown_105 (by decide) ?_
          refine wz_is (z := shFrom g k r) (by unfold shFrom; rw [if_neg (by omega)]; first | (rw [if_pos ⟨b77.2, b77.1⟩, hr1 _ (by omega) (by omega)]; done) | (rw [if_neg (fun q => b77 ⟨q.2, q.1⟩)]; done)) ?_
          refine lv_istore_n (lv' := [(3, .int (zI (shFrom g k r))), (6, .int (zI (r + (eS g (ahS g k))))), (5, .ref lk), (4, .int (zI (shTo g k r))), (0, .ref (ad 24)), (1, .int (zI k)), (2, .int (zI r))]) X.x X.b dX2_shown_109 rfl hl (by decide) rfl (fun ls hl => ?_)
          refine lv_iload_n X.x X.b dX2_shown_110 rfl (lv_at hl 0 rfl) ?_
          refine wz_is (z := shFrom g k r) (by first | rfl | (unfold shFrom; rw [if_pos (by omega)])) ?_
          refine lv_istore (lv' := [(5, .int (zI (shFrom g k r))), (3, .int (zI (shFrom g k r))), (6, .int (zI (r + (eS g (ahS g k))))), (4, .int (zI (shTo g k r))), (0, .ref (ad 24)), (1, .int (zI k)), (2, .int (zI r))]) X.x X.b dX2_shown_111 hl (by decide) rfl (fun ls hl => ?_)
          refine lv_iload X.x X.b dX2_shown_113 (lv_at hl 3 rfl) ?_
          refine lv_iload X.x X.b dX2_shown_115 (lv_at hl 0 rfl) ?_
          have hX_117 := hX
          have hK_117 := hK
          have hJR_117 := hJR
          have fl_117 := fl
          have fr_117 := fr
          have flk_117 := flk
          have fs_117 := fs
          refine wb_lam (rest := [.int (zI (shTo g k r))]) (vals := [.int (zI (shFrom g k r))]) (sh := wbS6) (num := 22) (D := wbD6) (laid := wbL6) X hH hS (wb_hO (X.t _ q2102)) (List.mem_of_getElem? (i := 5) rfl) wbD6_is wbL6_is wbL6_t (by rw [wbC6]; rfl) (by rw [wbC6]; exact (lamOK.cons ⟨rfl, rfl⟩ lamOK.nil)) rfl hl.1 (Nat.le_of_ble_eq_true rfl) (Nat.le_of_ble_eq_true rfl) (Nat.le_of_ble_eq_true rfl) dX2_shown_117 (fun nq117 w117 H hn117 ew hH hS => ?_)
          have hk0 := Ext.new hn117 ew
          have hX := hX.ext hk0
          have hk := hk0.k (ad := ad)
          have hJR := hJR.kp hk
          have fl := fl.kp hk
          have fr := fr.kp hk
          have flk := flk.kp hk
          have fs := fs.kp hk
          have hK := hK.kp hk
          have hN117 := hk
          have n117 : Lc ad w117 nq117 (.inr { cls := G.2.1 22, slots := #[.int (zI (shFrom g k r))], vm := .none }) := Lc.new hX_117 hn117 (by rw [ew]; exact wup_s)
          clear ew hk0
          refine wa_ci hS (wa_rSN (rest := []) X hH (mX0_bits_6  (show At w117 nq117 (.inr { cls := G.2.1 22, slots := #[.int (zI (shFrom g k r))], vm := .none }) from n117.2) (shTo g k r) (by omega) (by unfold rI; omega)) (wa_cN X 2 q643 q1423 q109 hdX0_bits.2 ⟨Nat.le_of_ble_eq_true rfl, Nat.le_of_ble_eq_true rfl⟩) q642 rfl rfl hl.1 rfl (Nat.le_of_ble_eq_true rfl) dX2_shown_122 ⟨Nat.le_of_ble_eq_true rfl, Nat.le_of_ble_eq_true rfl⟩) (fun z w122 H locs hp hH hS => ?_)
          obtain ⟨rfl, hw⟩ := hp
          rw [← hw] at hH; clear hw
          refine W.widen (k := 1) (n := 1) (by first | exact Nat.le_of_ble_eq_true rfl | omega) (by first | exact Nat.le_of_ble_eq_true rfl | omega) ?_
          exact wa_iret X hH hS dX2_shown_125 ⟨by unfold showS; exact bset_cb fun j hj => decide_eq_true_iff.symm, ⟨hX, hK⟩⟩
        · have b77 : ¬ ((0 ≤ (r + (eS g (ahS g k))) - (eS g (ahS g k)) ∧ (r + (eS g (ahS g k))) - (eS g (ahS g k)) ≤ 3) ∧ 0 ≤ (r + (eS g (ahS g k))) ∧ (r + (eS g (ahS g k))) ≤ 3) := b77
          refine wz_ifeq (tgt := 108) X.x X.b dX2_shown_80 (by decide) (by decide) (fun _ => ?_) (fun h => absurd h (by decide))
          refine wz_iconst X.x X.b dX2_shown_108 ?_
          refine wz_is (z := shFrom g k r) (by unfold shFrom; rw [if_neg (by omega)]; first | (rw [if_pos ⟨b77.2, b77.1⟩, hr1 _ (by omega) (by omega)]; done) | (rw [if_neg (fun q => b77 ⟨q.2, q.1⟩)]; done)) ?_
          refine lv_istore_n (lv' := [(3, .int (zI (shFrom g k r))), (6, .int (zI (r + (eS g (ahS g k))))), (5, .ref lk), (4, .int (zI (shTo g k r))), (0, .ref (ad 24)), (1, .int (zI k)), (2, .int (zI r))]) X.x X.b dX2_shown_109 rfl hl (by decide) rfl (fun ls hl => ?_)
          refine lv_iload_n X.x X.b dX2_shown_110 rfl (lv_at hl 0 rfl) ?_
          refine wz_is (z := shFrom g k r) (by first | rfl | (unfold shFrom; rw [if_pos (by omega)])) ?_
          refine lv_istore (lv' := [(5, .int (zI (shFrom g k r))), (3, .int (zI (shFrom g k r))), (6, .int (zI (r + (eS g (ahS g k))))), (4, .int (zI (shTo g k r))), (0, .ref (ad 24)), (1, .int (zI k)), (2, .int (zI r))]) X.x X.b dX2_shown_111 hl (by decide) rfl (fun ls hl => ?_)
          refine lv_iload X.x X.b dX2_shown_113 (lv_at hl 3 rfl) ?_
          refine lv_iload X.x X.b dX2_shown_115 (lv_at hl 0 rfl) ?_
          have hX_117 := hX
          have hK_117 := hK
          have hJR_117 := hJR
          have fl_117 := fl
          have fr_117 := fr
          have flk_117 := flk
          have fs_117 := fs
          refine wb_lam (rest := [.int (zI (shTo g k r))]) (vals := [.int (zI (shFrom g k r))]) (sh := wbS6) (num := 22) (D := wbD6) (laid := wbL6) X hH hS (wb_hO (X.t _ q2102)) (List.mem_of_getElem? (i := 5) rfl) wbD6_is wbL6_is wbL6_t (by rw [wbC6]; rfl) (by rw [wbC6]; exact (lamOK.cons ⟨rfl, rfl⟩ lamOK.nil)) rfl hl.1 (Nat.le_of_ble_eq_true rfl) (Nat.le_of_ble_eq_true rfl) (Nat.le_of_ble_eq_true rfl) dX2_shown_117 (fun nq117 w117 H hn117 ew hH hS => ?_)
          have hk0 := Ext.new hn117 ew
          have hX := hX.ext hk0
          have hk := hk0.k (ad := ad)
          have hJR := hJR.kp hk
          have fl := fl.kp hk
          have fr := fr.kp hk
          have flk := flk.kp hk
          have fs := fs.kp hk
          have hK := hK.kp hk
          have hN117 := hk
          have n117 : Lc ad w117 nq117 (.inr { cls := G.2.1 22, slots := #[.int (zI (shFrom g k r))], vm := .none }) := Lc.new hX_117 hn117 (by rw [ew]; exact wup_s)
          clear ew hk0
          refine wa_ci hS (wa_rSN (rest := []) X hH (mX0_bits_6  (show At w117 nq117 (.inr { cls := G.2.1 22, slots := #[.int (zI (shFrom g k r))], vm := .none }) from n117.2) (shTo g k r) (by omega) (by unfold rI; omega)) (wa_cN X 2 q643 q1423 q109 hdX0_bits.2 ⟨Nat.le_of_ble_eq_true rfl, Nat.le_of_ble_eq_true rfl⟩) q642 rfl rfl hl.1 rfl (Nat.le_of_ble_eq_true rfl) dX2_shown_122 ⟨Nat.le_of_ble_eq_true rfl, Nat.le_of_ble_eq_true rfl⟩) (fun z w122 H locs hp hH hS => ?_)
          obtain ⟨rfl, hw⟩ := hp
          rw [← hw] at hH; clear hw
          refine W.widen (k := 1) (n := 1) (by first | exact Nat.le_of_ble_eq_true rfl | omega) (by first | exact Nat.le_of_ble_eq_true rfl | omega) ?_
          exact wa_iret X hH hS dX2_shown_125 ⟨by unfold showS; exact bset_cb fun j hj => decide_eq_true_iff.symm, ⟨hX, hK⟩⟩
set_option maxRecDepth 100000 in
theorem mJ9_bitCount {lL : Launch} {G : wa_G} (w : wa_W)   (v : Int) (hv : 0 ≤ v ∧ v < 64) : Met lL yJ9_bitCount (ws_ yJ9_bitCount cJ9_bitCount 1 (some FieldType.int)) ({ frames := 0, cells := 0, slots := 0, locals := 0 } : Room) (wa_P G w [.int (zI v)]) (wa_Qz G fun z u => z = pcS v 6 ∧ w = u) 0 0 (wa_A G) := by
  refine wa_met (by decide) (by exact Nat.le_of_ble_eq_true rfl) ?_
  intro pP eE sS mM aA bB mT cC ls X hl hH
  have hS : va_S (wa_A G) sS.heap sS.heap [] := va_S.rf
  have hl : lv_has ls 1 [(0, .int (zI v))] := hl
  have hK : Ext w w := Ext.rf
  refine lv_iload_n X.x X.b dJ9_bitCount_0 rfl (lv_at hl 0 rfl) ?_
  refine lv_iload_n X.x X.b dJ9_bitCount_1 rfl (lv_at hl 0 rfl) ?_
  refine wz_iconst X.x X.b dJ9_bitCount_2 ?_
  refine lv_iushr X.x X.b dJ9_bitCount_3 rfl ?_
  refine wz_ldcw (n := 1431655765) X.x X.b X.own (X.t _ q1364) rfl dJ9_bitCount_4 ?_
  refine lv_iand X.x X.b dJ9_bitCount_7 ?_
  refine lv_isub X.x X.b dJ9_bitCount_8 ?_
  refine lv_istore_n (lv' := [(0, .int ((zI v) - (((((zI v)).toUInt32 >>> (((zI 1)).toUInt32 &&& Int32.toUInt32 31)).toInt32) &&& (zI 1431655765))))]) X.x X.b dJ9_bitCount_9 rfl hl (by decide) rfl (fun ls hl => ?_)
  refine lv_iload_n X.x X.b dJ9_bitCount_10 rfl (lv_at hl 0 rfl) ?_
  refine wz_ldcw (n := 858993459) X.x X.b X.own (X.t _ q1365) rfl dJ9_bitCount_11 ?_
  refine lv_iand X.x X.b dJ9_bitCount_14 ?_
  refine lv_iload_n X.x X.b dJ9_bitCount_15 rfl (lv_at hl 0 rfl) ?_
  refine wz_iconst X.x X.b dJ9_bitCount_16 ?_
  refine lv_iushr X.x X.b dJ9_bitCount_17 rfl ?_
  refine wz_ldcw (n := 858993459) X.x X.b X.own (X.t _ q1365) rfl dJ9_bitCount_18 ?_
  refine lv_iand X.x X.b dJ9_bitCount_21 ?_
  refine lv_iadd X.x X.b dJ9_bitCount_22 ?_
  refine lv_istore_n (lv' := [(0, .int ((((zI v) - (((((zI v)).toUInt32 >>> (((zI 1)).toUInt32 &&& Int32.toUInt32 31)).toInt32) &&& (zI 1431655765))) &&& (zI 858993459)) + ((((((zI v) - (((((zI v)).toUInt32 >>> (((zI 1)).toUInt32 &&& Int32.toUInt32 31)).toInt32) &&& (zI 1431655765)))).toUInt32 >>> (((zI 2)).toUInt32 &&& Int32.toUInt32 31)).toInt32) &&& (zI 858993459))))]) X.x X.b dJ9_bitCount_23 rfl hl (by decide) rfl (fun ls hl => ?_)
  refine lv_iload_n X.x X.b dJ9_bitCount_24 rfl (lv_at hl 0 rfl) ?_
  refine lv_iload_n X.x X.b dJ9_bitCount_25 rfl (lv_at hl 0 rfl) ?_
  refine wz_iconst X.x X.b dJ9_bitCount_26 ?_
  refine lv_iushr X.x X.b dJ9_bitCount_27 rfl ?_
  refine lv_iadd X.x X.b dJ9_bitCount_28 ?_
  refine wz_ldcw (n := 252645135) X.x X.b X.own (X.t _ q1366) rfl dJ9_bitCount_29 ?_
  refine lv_iand X.x X.b dJ9_bitCount_32 ?_
  refine lv_istore_n (lv' := [(0, .int ((((((zI v) - (((((zI v)).toUInt32 >>> (((zI 1)).toUInt32 &&& Int32.toUInt32 31)).toInt32) &&& (zI 1431655765))) &&& (zI 858993459)) + ((((((zI v) - (((((zI v)).toUInt32 >>> (((zI 1)).toUInt32 &&& Int32.toUInt32 31)).toInt32) &&& (zI 1431655765)))).toUInt32 >>> (((zI 2)).toUInt32 &&& Int32.toUInt32 31)).toInt32) &&& (zI 858993459))) + (((((((zI v) - (((((zI v)).toUInt32 >>> (((zI 1)).toUInt32 &&& Int32.toUInt32 31)).toInt32) &&& (zI 1431655765))) &&& (zI 858993459)) + ((((((zI v) - (((((zI v)).toUInt32 >>> (((zI 1)).toUInt32 &&& Int32.toUInt32 31)).toInt32) &&& (zI 1431655765)))).toUInt32 >>> (((zI 2)).toUInt32 &&& Int32.toUInt32 31)).toInt32) &&& (zI 858993459)))).toUInt32 >>> (((zI 4)).toUInt32 &&& Int32.toUInt32 31)).toInt32)) &&& (zI 252645135)))]) X.x X.b dJ9_bitCount_33 rfl hl (by decide) rfl (fun ls hl => ?_)
  refine lv_iload_n X.x X.b dJ9_bitCount_34 rfl (lv_at hl 0 rfl) ?_
  refine lv_iload_n X.x X.b dJ9_bitCount_35 rfl (lv_at hl 0 rfl) ?_
  refine wz_bipush X.x X.b dJ9_bitCount_36 rfl ?_
  refine lv_iushr X.x X.b dJ9_bitCount_38 rfl ?_
  refine lv_iadd X.x X.b dJ9_bitCount_39 ?_
  refine lv_istore_n (lv' := [(0, .int (((((((zI v) - (((((zI v)).toUInt32 >>> (((zI 1)).toUInt32 &&& Int32.toUInt32 31)).toInt32) &&& (zI 1431655765))) &&& (zI 858993459)) + ((((((zI v) - (((((zI v)).toUInt32 >>> (((zI 1)).toUInt32 &&& Int32.toUInt32 31)).toInt32) &&& (zI 1431655765)))).toUInt32 >>> (((zI 2)).toUInt32 &&& Int32.toUInt32 31)).toInt32) &&& (zI 858993459))) + (((((((zI v) - (((((zI v)).toUInt32 >>> (((zI 1)).toUInt32 &&& Int32.toUInt32 31)).toInt32) &&& (zI 1431655765))) &&& (zI 858993459)) + ((((((zI v) - (((((zI v)).toUInt32 >>> (((zI 1)).toUInt32 &&& Int32.toUInt32 31)).toInt32) &&& (zI 1431655765)))).toUInt32 >>> (((zI 2)).toUInt32 &&& Int32.toUInt32 31)).toInt32) &&& (zI 858993459)))).toUInt32 >>> (((zI 4)).toUInt32 &&& Int32.toUInt32 31)).toInt32)) &&& (zI 252645135)) + (((((((((zI v) - (((((zI v)).toUInt32 >>> (((zI 1)).toUInt32 &&& Int32.toUInt32 31)).toInt32) &&& (zI 1431655765))) &&& (zI 858993459)) + ((((((zI v) - (((((zI v)).toUInt32 >>> (((zI 1)).toUInt32 &&& Int32.toUInt32 31)).toInt32) &&& (zI 1431655765)))).toUInt32 >>> (((zI 2)).toUInt32 &&& Int32.toUInt32 31)).toInt32) &&& (zI 858993459))) + (((((((zI v) - (((((zI v)).toUInt32 >>> (((zI 1)).toUInt32 &&& Int32.toUInt32 31)).toInt32) &&& (zI 1431655765))) &&& (zI 858993459)) + ((((((zI v) - (((((zI v)).toUInt32 >>> (((zI 1)).toUInt32 &&& Int32.toUInt32 31)).toInt32) &&& (zI 1431655765)))).toUInt32 >>> (((zI 2)).toUInt32 &&& Int32.toUInt32 31)).toInt32) &&& (zI 858993459)))).toUInt32 >>> (((zI 4)).toUInt32 &&& Int32.toUInt32 31)).toInt32)) &&& (zI 252645135))).toUInt32 >>> (((zI 8)).toUInt32 &&& Int32.toUInt32 31)).toInt32)))]) X.x X.b dJ9_bitCount_40 rfl hl (by decide) rfl (fun ls hl => ?_)
  refine lv_iload_n X.x X.b dJ9_bitCount_41 rfl (lv_at hl 0 rfl) ?_
  refine lv_iload_n X.x X.b dJ9_bitCount_42 rfl (lv_at hl 0 rfl) ?_
  refine wz_bipush X.x X.b dJ9_bitCount_43 rfl ?_
  refine lv_iushr X.x X.b dJ9_bitCount_45 rfl ?_
  refine lv_iadd X.x X.b dJ9_bitCount_46 ?_
  refine lv_istore_n (lv' := [(0, .int ((((((((zI v) - (((((zI v)).toUInt32 >>> (((zI 1)).toUInt32 &&& Int32.toUInt32 31)).toInt32) &&& (zI 1431655765))) &&& (zI 858993459)) + ((((((zI v) - (((((zI v)).toUInt32 >>> (((zI 1)).toUInt32 &&& Int32.toUInt32 31)).toInt32) &&& (zI 1431655765)))).toUInt32 >>> (((zI 2)).toUInt32 &&& Int32.toUInt32 31)).toInt32) &&& (zI 858993459))) + (((((((zI v) - (((((zI v)).toUInt32 >>> (((zI 1)).toUInt32 &&& Int32.toUInt32 31)).toInt32) &&& (zI 1431655765))) &&& (zI 858993459)) + ((((((zI v) - (((((zI v)).toUInt32 >>> (((zI 1)).toUInt32 &&& Int32.toUInt32 31)).toInt32) &&& (zI 1431655765)))).toUInt32 >>> (((zI 2)).toUInt32 &&& Int32.toUInt32 31)).toInt32) &&& (zI 858993459)))).toUInt32 >>> (((zI 4)).toUInt32 &&& Int32.toUInt32 31)).toInt32)) &&& (zI 252645135)) + (((((((((zI v) - (((((zI v)).toUInt32 >>> (((zI 1)).toUInt32 &&& Int32.toUInt32 31)).toInt32) &&& (zI 1431655765))) &&& (zI 858993459)) + ((((((zI v) - (((((zI v)).toUInt32 >>> (((zI 1)).toUInt32 &&& Int32.toUInt32 31)).toInt32) &&& (zI 1431655765)))).toUInt32 >>> (((zI 2)).toUInt32 &&& Int32.toUInt32 31)).toInt32) &&& (zI 858993459))) + (((((((zI v) - (((((zI v)).toUInt32 >>> (((zI 1)).toUInt32 &&& Int32.toUInt32 31)).toInt32) &&& (zI 1431655765))) &&& (zI 858993459)) + ((((((zI v) - (((((zI v)).toUInt32 >>> (((zI 1)).toUInt32 &&& Int32.toUInt32 31)).toInt32) &&& (zI 1431655765)))).toUInt32 >>> (((zI 2)).toUInt32 &&& Int32.toUInt32 31)).toInt32) &&& (zI 858993459)))).toUInt32 >>> (((zI 4)).toUInt32 &&& Int32.toUInt32 31)).toInt32)) &&& (zI 252645135))).toUInt32 >>> (((zI 8)).toUInt32 &&& Int32.toUInt32 31)).toInt32)) + ((((((((((zI v) - (((((zI v)).toUInt32 >>> (((zI 1)).toUInt32 &&& Int32.toUInt32 31)).toInt32) &&& (zI 1431655765))) &&& (zI 858993459)) + ((((((zI v) - (((((zI v)).toUInt32 >>> (((zI 1)).toUInt32 &&& Int32.toUInt32 31)).toInt32) &&& (zI 1431655765)))).toUInt32 >>> (((zI 2)).toUInt32 &&& Int32.toUInt32 31)).toInt32) &&& (zI 858993459))) + (((((((zI v) - (((((zI v)).toUInt32 >>> (((zI 1)).toUInt32 &&& Int32.toUInt32 31)).toInt32) &&& (zI 1431655765))) &&& (zI 858993459)) + ((((((zI v) - (((((zI v)).toUInt32 >>> (((zI 1)).toUInt32 &&& Int32.toUInt32 31)).toInt32) &&& (zI 1431655765)))).toUInt32 >>> (((zI 2)).toUInt32 &&& Int32.toUInt32 31)).toInt32) &&& (zI 858993459)))).toUInt32 >>> (((zI 4)).toUInt32 &&& Int32.toUInt32 31)).toInt32)) &&& (zI 252645135)) + (((((((((zI v) - (((((zI v)).toUInt32 >>> (((zI 1)).toUInt32 &&& Int32.toUInt32 31)).toInt32) &&& (zI 1431655765))) &&& (zI 858993459)) + ((((((zI v) - (((((zI v)).toUInt32 >>> (((zI 1)).toUInt32 &&& Int32.toUInt32 31)).toInt32) &&& (zI 1431655765)))).toUInt32 >>> (((zI 2)).toUInt32 &&& Int32.toUInt32 31)).toInt32) &&& (zI 858993459))) + (((((((zI v) - (((((zI v)).toUInt32 >>> (((zI 1)).toUInt32 &&& Int32.toUInt32 31)).toInt32) &&& (zI 1431655765))) &&& (zI 858993459)) + ((((((zI v) - (((((zI v)).toUInt32 >>> (((zI 1)).toUInt32 &&& Int32.toUInt32 31)).toInt32) &&& (zI 1431655765)))).toUInt32 >>> (((zI 2)).toUInt32 &&& Int32.toUInt32 31)).toInt32) &&& (zI 858993459)))).toUInt32 >>> (((zI 4)).toUInt32 &&& Int32.toUInt32 31)).toInt32)) &&& (zI 252645135))).toUInt32 >>> (((zI 8)).toUInt32 &&& Int32.toUInt32 31)).toInt32))).toUInt32 >>> (((zI 16)).toUInt32 &&& Int32.toUInt32 31)).toInt32)))]) X.x X.b dJ9_bitCount_47 rfl hl (by decide) rfl (fun ls hl => ?_)
  refine lv_iload_n X.x X.b dJ9_bitCount_48 rfl (lv_at hl 0 rfl) ?_
  refine wz_bipush X.x X.b dJ9_bitCount_49 rfl ?_
  refine lv_iand X.x X.b dJ9_bitCount_51 ?_
  obtain ⟨nv, rfl⟩ : ∃ n : Nat, v = n := ⟨v.toNat, by omega⟩
  have hnv : nv < 64 := by omega
  have key : ∀ n : Fin 64, ((((((((zI (n.val : Int)) - (((((zI (n.val : Int))).toUInt32 >>> (((zI 1)).toUInt32 &&& Int32.toUInt32 31)).toInt32) &&& (zI 1431655765))) &&& (zI 858993459)) + ((((((zI (n.val : Int)) - (((((zI (n.val : Int))).toUInt32 >>> (((zI 1)).toUInt32 &&& Int32.toUInt32 31)).toInt32) &&& (zI 1431655765)))).toUInt32 >>> (((zI 2)).toUInt32 &&& Int32.toUInt32 31)).toInt32) &&& (zI 858993459))) + (((((((zI (n.val : Int)) - (((((zI (n.val : Int))).toUInt32 >>> (((zI 1)).toUInt32 &&& Int32.toUInt32 31)).toInt32) &&& (zI 1431655765))) &&& (zI 858993459)) + ((((((zI (n.val : Int)) - (((((zI (n.val : Int))).toUInt32 >>> (((zI 1)).toUInt32 &&& Int32.toUInt32 31)).toInt32) &&& (zI 1431655765)))).toUInt32 >>> (((zI 2)).toUInt32 &&& Int32.toUInt32 31)).toInt32) &&& (zI 858993459)))).toUInt32 >>> (((zI 4)).toUInt32 &&& Int32.toUInt32 31)).toInt32)) &&& (zI 252645135)) + (((((((((zI (n.val : Int)) - (((((zI (n.val : Int))).toUInt32 >>> (((zI 1)).toUInt32 &&& Int32.toUInt32 31)).toInt32) &&& (zI 1431655765))) &&& (zI 858993459)) + ((((((zI (n.val : Int)) - (((((zI (n.val : Int))).toUInt32 >>> (((zI 1)).toUInt32 &&& Int32.toUInt32 31)).toInt32) &&& (zI 1431655765)))).toUInt32 >>> (((zI 2)).toUInt32 &&& Int32.toUInt32 31)).toInt32) &&& (zI 858993459))) + (((((((zI (n.val : Int)) - (((((zI (n.val : Int))).toUInt32 >>> (((zI 1)).toUInt32 &&& Int32.toUInt32 31)).toInt32) &&& (zI 1431655765))) &&& (zI 858993459)) + ((((((zI (n.val : Int)) - (((((zI (n.val : Int))).toUInt32 >>> (((zI 1)).toUInt32 &&& Int32.toUInt32 31)).toInt32) &&& (zI 1431655765)))).toUInt32 >>> (((zI 2)).toUInt32 &&& Int32.toUInt32 31)).toInt32) &&& (zI 858993459)))).toUInt32 >>> (((zI 4)).toUInt32 &&& Int32.toUInt32 31)).toInt32)) &&& (zI 252645135))).toUInt32 >>> (((zI 8)).toUInt32 &&& Int32.toUInt32 31)).toInt32)) + ((((((((((zI (n.val : Int)) - (((((zI (n.val : Int))).toUInt32 >>> (((zI 1)).toUInt32 &&& Int32.toUInt32 31)).toInt32) &&& (zI 1431655765))) &&& (zI 858993459)) + ((((((zI (n.val : Int)) - (((((zI (n.val : Int))).toUInt32 >>> (((zI 1)).toUInt32 &&& Int32.toUInt32 31)).toInt32) &&& (zI 1431655765)))).toUInt32 >>> (((zI 2)).toUInt32 &&& Int32.toUInt32 31)).toInt32) &&& (zI 858993459))) + (((((((zI (n.val : Int)) - (((((zI (n.val : Int))).toUInt32 >>> (((zI 1)).toUInt32 &&& Int32.toUInt32 31)).toInt32) &&& (zI 1431655765))) &&& (zI 858993459)) + ((((((zI (n.val : Int)) - (((((zI (n.val : Int))).toUInt32 >>> (((zI 1)).toUInt32 &&& Int32.toUInt32 31)).toInt32) &&& (zI 1431655765)))).toUInt32 >>> (((zI 2)).toUInt32 &&& Int32.toUInt32 31)).toInt32) &&& (zI 858993459)))).toUInt32 >>> (((zI 4)).toUInt32 &&& Int32.toUInt32 31)).toInt32)) &&& (zI 252645135)) + (((((((((zI (n.val : Int)) - (((((zI (n.val : Int))).toUInt32 >>> (((zI 1)).toUInt32 &&& Int32.toUInt32 31)).toInt32) &&& (zI 1431655765))) &&& (zI 858993459)) + ((((((zI (n.val : Int)) - (((((zI (n.val : Int))).toUInt32 >>> (((zI 1)).toUInt32 &&& Int32.toUInt32 31)).toInt32) &&& (zI 1431655765)))).toUInt32 >>> (((zI 2)).toUInt32 &&& Int32.toUInt32 31)).toInt32) &&& (zI 858993459))) + (((((((zI (n.val : Int)) - (((((zI (n.val : Int))).toUInt32 >>> (((zI 1)).toUInt32 &&& Int32.toUInt32 31)).toInt32) &&& (zI 1431655765))) &&& (zI 858993459)) + ((((((zI (n.val : Int)) - (((((zI (n.val : Int))).toUInt32 >>> (((zI 1)).toUInt32 &&& Int32.toUInt32 31)).toInt32) &&& (zI 1431655765)))).toUInt32 >>> (((zI 2)).toUInt32 &&& Int32.toUInt32 31)).toInt32) &&& (zI 858993459)))).toUInt32 >>> (((zI 4)).toUInt32 &&& Int32.toUInt32 31)).toInt32)) &&& (zI 252645135))).toUInt32 >>> (((zI 8)).toUInt32 &&& Int32.toUInt32 31)).toInt32))).toUInt32 >>> (((zI 16)).toUInt32 &&& Int32.toUInt32 31)).toInt32)) &&& (zI 63) = zI (pcS (n.val : Int) 6) := by decide +kernel
  refine wz_i32 (z := pcS (nv : Int) 6) (key ⟨nv, hnv⟩) ?_
  exact wa_iret X hH hS dJ9_bitCount_52 ⟨by first | rfl | omega | assumption, rfl⟩

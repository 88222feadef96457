/-! READER: isAt, next, needs, number, signed -/
set_option maxRecDepth 100000 in
theorem mX6_isAt {lL : Launch} {G : wa_G} {ad : Nat → Nat} {w : wa_W} {S : Nat → Int} {A : Nat → Int → Int} {B : Nat → Int → Option Nat} {P : Nat → Option Nat} (hX : XW G ad w S A B P) {tx : Int → Int} {tl : Int}  (lo : Int) (hi : Int) (hS2 : S 2 = tl) (hTX : ∀ i, 0 ≤ i → i < tl → A 1 i = tx i ∧ 0 ≤ tx i ∧ tx i ≤ 127) (htl : 0 ≤ tl ∧ tl ≤ 120) (h0 : 0 ≤ S 3 ∧ S 3 ≤ 200) (hlo : 0 ≤ lo ∧ lo ≤ 127) (hhi : 0 ≤ hi ∧ hi ≤ 127) : Met lL yX6_isAt (ws_ yX6_isAt cX6_isAt 3 (some FieldType.boolean)) ({ frames := 0, cells := 0, slots := 0, locals := 0 } : Room) (wa_P G w [.ref (ad 28), .int (zI lo), .int (zI hi)]) (wa_Qz G fun z u => ((S 3 < tl ∧ lo ≤ tx (S 3) ∧ tx (S 3) ≤ hi) ∧ z = 1 ∨ ¬ (S 3 < tl ∧ lo ≤ tx (S 3) ∧ tx (S 3) ≤ hi) ∧ z = 0) ∧ w = u) 0 0 (wa_A G) := by
  refine wa_met (by decide) (by exact Nat.le_of_ble_eq_true rfl) ?_
  intro pP eE sS mM aA bB mT cC ls X hl hH
  have hS : va_S (wa_A G) sS.heap sS.heap [] := va_S.rf
  have hl : lv_has ls 3 [(0, .ref (ad 28)), (1, .int (zI lo)), (2, .int (zI hi))] := hl
  have hK : Kp ad w w := Kp.rf
  refine lv_aload_n X.x X.b dX6_isAt_0 rfl (lv_at hl 0 rfl) ?_
  refine wa_get (v := .int (zI (S 3))) X hH (have h9 := (XW.c28 hX); h9) wcX6 0 (by decide) q408 rfl (fun _ h9 => h9) rfl dX6_isAt_1 ?_
  refine lv_aload_n X.x X.b dX6_isAt_4 rfl (lv_at hl 0 rfl) ?_
  refine wa_get (v := .ref (ad 0)) X hH (have h9 := (XW.c28 hX); h9) wcX6 1 (by decide) q409 rfl (fun _ h9 => h9) rfl dX6_isAt_5 ?_
  refine wa_getN (v := .int (zI (S 2))) X hH (have h9 := (XW.c0 hX); h9) wcX0 9 (by decide) q428 rfl (fun _ h9 => h9) rfl dX6_isAt_8 ?_
  refine wz_icmp_ge (tgt := 50) X.x X.b dX6_isAt_11 (by decide) ⟨by omega, by omega⟩ ⟨by omega, by omega⟩ (fun c11 => ?_) (fun c11 => ?_)
  · refine wz_iconst X.x X.b dX6_isAt_50 ?_
    exact wa_zret X hH hS dX6_isAt_51 nb0 ⟨Or.inr ⟨by omega, rfl⟩, rfl⟩
  · have htx := hTX (S 3) (by omega) (by omega)
    refine lv_aload_n X.x X.b dX6_isAt_14 rfl (lv_at hl 0 rfl) ?_
    refine wa_get (v := .ref (ad 0)) X hH (have h9 := (XW.c28 hX); h9) wcX6 1 (by decide) q409 rfl (fun _ h9 => h9) rfl dX6_isAt_15 ?_
    refine wa_getN (v := .ref (ad 26)) X hH (have h9 := (XW.c0 hX); h9) wcX0 8 (by decide) q426 rfl (fun _ h9 => h9) rfl dX6_isAt_18 ?_
    refine lv_aload_n X.x X.b dX6_isAt_21 rfl (lv_at hl 0 rfl) ?_
    refine wa_get (v := .int (zI (S 3))) X hH (have h9 := (XW.c28 hX); h9) wcX6 0 (by decide) q408 rfl (fun _ h9 => h9) rfl dX6_isAt_22 ?_
    refine wa_bald (f := A 1) X hH (have h9 := (XW.c26 hX); h9) (by omega) (by omega) (by omega) dX6_isAt_25 ?_
    refine wz_is (z := tx (S 3)) (by exact htx.1) ?_
    refine lv_iload_n X.x X.b dX6_isAt_26 rfl (lv_at hl 1 rfl) ?_
    refine wz_icmp_lt (tgt := 50) X.x X.b dX6_isAt_27 (by decide) ⟨by omega, by omega⟩ ⟨by omega, by omega⟩ (fun c27 => ?_) (fun c27 => ?_)
    · refine wz_iconst X.x X.b dX6_isAt_50 ?_
      exact wa_zret X hH hS dX6_isAt_51 nb0 ⟨Or.inr ⟨by omega, rfl⟩, rfl⟩
    · refine lv_aload_n X.x X.b dX6_isAt_30 rfl (lv_at hl 0 rfl) ?_
      refine wa_get (v := .ref (ad 0)) X hH (have h9 := (XW.c28 hX); h9) wcX6 1 (by decide) q409 rfl (fun _ h9 => h9) rfl dX6_isAt_31 ?_
      refine wa_getN (v := .ref (ad 26)) X hH (have h9 := (XW.c0 hX); h9) wcX0 8 (by decide) q426 rfl (fun _ h9 => h9) rfl dX6_isAt_34 ?_
      refine lv_aload_n X.x X.b dX6_isAt_37 rfl (lv_at hl 0 rfl) ?_
      refine wa_get (v := .int (zI (S 3))) X hH (have h9 := (XW.c28 hX); h9) wcX6 0 (by decide) q408 rfl (fun _ h9 => h9) rfl dX6_isAt_38 ?_
      refine wa_bald (f := A 1) X hH (have h9 := (XW.c26 hX); h9) (by omega) (by omega) (by omega) dX6_isAt_41 ?_
      refine wz_is (z := tx (S 3)) (by exact htx.1) ?_
      refine lv_iload_n X.x X.b dX6_isAt_42 rfl (lv_at hl 2 rfl) ?_
      refine wz_icmp_gt (tgt := 50) X.x X.b dX6_isAt_43 (by decide) ⟨by omega, by omega⟩ ⟨by omega, by omega⟩ (fun c43 => ?_) (fun c43 => ?_)
      · refine wz_iconst X.x X.b dX6_isAt_50 ?_
        exact wa_zret X hH hS dX6_isAt_51 nb0 ⟨Or.inr ⟨by omega, rfl⟩, rfl⟩
      · refine wz_iconst X.x X.b dX6_isAt_46 ?_
        refine lv_goto (tgt := 51) X.x X.b dX6_isAt_47 (by decide) ?_
        exact wa_zret X hH hS dX6_isAt_51 nb1 ⟨Or.inl ⟨by omega, rfl⟩, rfl⟩
set_option maxRecDepth 100000 in
theorem mX6_next {lL : Launch} {G : wa_G} {ad : Nat → Nat} {w : wa_W} {S : Nat → Int} {A : Nat → Int → Int} {B : Nat → Int → Option Nat} {P : Nat → Option Nat} (hX : XW G ad w S A B P) {tx : Int → Int} {tl : Int}  (hS2 : S 2 = tl) (hTX : ∀ i, 0 ≤ i → i < tl → A 1 i = tx i ∧ 0 ≤ tx i ∧ tx i ≤ 127) (htl : 0 ≤ tl ∧ tl ≤ 120) (h0 : -1 ≤ S 3 ∧ S 3 ≤ tl) : Met lL yX6_next (ws_ yX6_next cX6_next 1 (none : Option FieldType)) ({ frames := 1, cells := 0, slots := 0, locals := 22 } : Room) (wa_P G w [.ref (ad 28)]) (wa_Qv G fun u => XW G ad u (sup S 3 (skS tx tl (S 3 + 1))) A B P ∧ Kp ad w u) 0 0 (wa_A G) := by
  refine wa_met (by decide) (by exact Nat.le_of_ble_eq_true rfl) ?_
  intro pP eE sS mM aA bB mT cC ls X hl hH
  have hS : va_S (wa_A G) sS.heap sS.heap [] := va_S.rf
  have hl : lv_has ls 1 [(0, .ref (ad 28))] := hl
  have hK : Kp ad w w := Kp.rf
  refine lv_aload_n X.x X.b dX6_next_0 rfl (lv_at hl 0 rfl) ?_
  refine lv_dup X.x X.b dX6_next_1 rfl ?_
  refine wa_get (v := .int (zI (S 3))) X hH (have h9 := (XW.c28 hX); h9) wcX6 0 (by decide) q408 rfl (fun _ h9 => h9) rfl dX6_next_2 ?_
  refine wz_iconst X.x X.b dX6_next_5 ?_
  refine wz_iadd X.x X.b dX6_next_6 ?_
  refine wa_put X hH hS (have h9 := (XW.c28 hX); h9) wcX6 0 (by decide) q408 rfl (fun _ h9 => h9) rfl rfl rfl (Nat.le_of_ble_eq_true rfl) dX6_next_7 (fun w7 H locs ew hH hS => ?_)
  have hk : Kp ad w w7 := Kp.set (i := 28) (by omega) ew
  have hX := hX.sS (i := 28) (3) (x := (S 3) + 1) (by unfold oS; omega) ew
  have hK := hK.kp hk
  clear ew
  have L10 : ∀ (nn : Nat) (x : Int), ((tl - x).toNat) = nn → (skS tx tl x = skS tx tl (S 3 + 1)) → (0 ≤ x ∧ (x ≤ tl ∨ x = S 3 + 1)) → ∀ (wl10 : wa_W) (H : Heap) (locs : List Loc) (ls : Array Slot), XW G ad wl10 (sup S 3 x) A B P → Kp ad w wl10 → wa_H G wl10 H → va_S (wa_A G) sS.heap H locs → lv_has ls 1 [(0, .ref (ad 28))] → W pP lL eE ({ frames := 1, cells := 0, slots := 0, locals := 22 } : Room) sS mM aA bB mT cC H locs 0 0 (MQ bB (wa_Qv G fun u => XW G ad u (sup S 3 (skS tx tl (S 3 + 1))) A B P ∧ Kp ad w u) aA sS 0 0 (wa_A G)) (F0 mM 10 ls []) := by
    intro nn
    induction nn using Nat.strongRecOn with
    | ind nn ih10 =>
      intro x hmu10 i10_0 i10_1 wl10 H locs ls hX hK  hH hS hl
      refine lv_aload_n X.x X.b dX6_next_10 rfl (lv_at hl 0 rfl) ?_
      refine wz_bipush X.x X.b dX6_next_11 rfl ?_
      refine wz_bipush X.x X.b dX6_next_13 rfl ?_
      refine wa_ci hS (wa_rV (rest := []) X hH (mX6_isAt hX  32 32 (show S 2 = tl by first | assumption | omega) (show ∀ i, 0 ≤ i → i < tl → A 1 i = tx i ∧ 0 ≤ tx i ∧ tx i ≤ 127 by first | assumption | omega) (show 0 ≤ tl ∧ tl ≤ 120 by first | assumption | omega) (show 0 ≤ x ∧ x ≤ 200 by first | assumption | omega) (show 0 ≤ 32 ∧ 32 ≤ 127 by first | assumption | omega) (show 0 ≤ 32 ∧ 32 ≤ 127 by first | assumption | omega)) (cwV 2 X.t (lw_V q1459 q1461 qs41 q123 q1462) rfl rfl rfl hdX6_isAt ⟨Nat.le_of_ble_eq_true rfl, Nat.le_of_ble_eq_true rfl⟩) rfl (have h9 := (XW.c28 hX); h9) rfl rfl hl.1 rfl (Nat.le_of_ble_eq_true rfl) dX6_next_15 ⟨Nat.le_of_ble_eq_true rfl, Nat.le_of_ble_eq_true rfl⟩) (fun z w15 H locs hp hH hS => ?_)
      obtain ⟨hb, hw⟩ := hp
      rw [← hw] at hH; clear hw
      rcases hb with ⟨b15, rfl⟩ | ⟨b15, rfl⟩
      · have b15 : (x < tl ∧ 32 ≤ tx (x) ∧ tx (x) ≤ 32) := b15
        refine wz_ifeq (tgt := 34) X.x X.b dX6_next_18 (by decide) (by decide) (fun h => absurd h (by decide)) (fun _ => ?_)
        refine lv_aload_n X.x X.b dX6_next_21 rfl (lv_at hl 0 rfl) ?_
        refine lv_dup X.x X.b dX6_next_22 rfl ?_
        refine wa_get (v := .int (zI x)) X hH (have h9 := (XW.c28 hX); h9) wcX6 0 (by decide) q408 rfl (fun _ h9 => h9) rfl dX6_next_23 ?_
        refine wz_iconst X.x X.b dX6_next_26 ?_
        refine wz_iadd X.x X.b dX6_next_27 ?_
        refine wa_put X hH hS (have h9 := (XW.c28 hX); h9) wcX6 0 (by decide) q408 rfl (fun _ h9 => h9) rfl rfl rfl (Nat.le_of_ble_eq_true rfl) dX6_next_28 (fun w28 H locs ew hH hS => ?_)
        have hk : Kp ad wl10 w28 := Kp.set (i := 28) (by omega) ew
        have hX := hX.sS (i := 28) (3) (x := x + 1) (by unfold oS; omega) ew
        have hX := XW.cS (S2 := sup S 3 (x + 1)) hX (by funext j; simp only [sup]; by_cases h0 : j = 3; (subst h0; first | rfl | simp); simp only [h0, ↓reduceIte])
        have hK := hK.kp hk
        clear ew
        refine lv_goto (tgt := 10) X.x X.b dX6_next_31 (by decide) ?_
        exact ih10 _ (by omega) (x + 1) rfl (by rw [← i10_0, skS_e tx tl x, if_pos ⟨b15.1, by omega⟩]) (by omega) _ _ _ _ hX hK  hH hS (lv_sub hl [0] rfl)
      · have b15 : ¬ (x < tl ∧ 32 ≤ tx (x) ∧ tx (x) ≤ 32) := b15
        refine wz_ifeq (tgt := 34) X.x X.b dX6_next_18 (by decide) (by decide) (fun _ => ?_) (fun h => absurd h (by decide))
        exact wa_vret X hH hS dX6_next_34 ⟨by rw [← i10_0, skS_id (fun q => b15 ⟨q.1, by omega, by omega⟩)]; exact hX, hK⟩
  exact L10 _ ((S 3) + 1) rfl (by rfl) (by omega) _ _ _ _ hX hK  hH hS (lv_sub hl [0] rfl)
set_option maxRecDepth 100000 in
theorem mX6_needs_1 {lL : Launch} {G : wa_G} {ad : Nat → Nat} {w : wa_W} {S : Nat → Int} {A : Nat → Int → Int} {B : Nat → Int → Option Nat} {P : Nat → Option Nat} (hX : XW G ad w S A B P)    : Met lL yX6_needs (ws_ yX6_needs cX6_needs 2 (none : Option FieldType)) ({ frames := 0, cells := 0, slots := 0, locals := 0 } : Room) (wa_P G w [.ref (ad 28), .int (zI 1)]) (wa_Qv G fun u => w = u) 0 0 (wa_A G) := by
  refine wa_met (by decide) (by exact Nat.le_of_ble_eq_true rfl) ?_
  intro pP eE sS mM aA bB mT cC ls X hl hH
  have hS : va_S (wa_A G) sS.heap sS.heap [] := va_S.rf
  have hl : lv_has ls 2 [(0, .ref (ad 28)), (1, .int (zI 1))] := hl
  have hK : Kp ad w w := Kp.rf
  refine lv_iload_n X.x X.b dX6_needs_0 rfl (lv_at hl 1 rfl) ?_
  refine wz_ifne (tgt := 16) X.x X.b dX6_needs_1 (by decide) (by decide) (fun _ => ?_) (fun h => absurd h (by decide))
  exact wa_vret X hH hS dX6_needs_16 rfl
set_option maxRecDepth 100000 in
theorem mX6_needs_0 {lL : Launch} {G : wa_G} {ad : Nat → Nat} {w : wa_W} {S : Nat → Int} {A : Nat → Int → Int} {B : Nat → Int → Option Nat} {P : Nat → Option Nat} (hX : XW G ad w S A B P)    : wx_Thr lL yX6_needs (ws_ yX6_needs cX6_needs 2 (none : Option FieldType)) ({ frames := 4, cells := 1, slots := 7, locals := 89 } : Room) G w [.ref (ad 28), .int (zI 0)] (fun E q u => E = "PictureRing$Fault" ∧ ∃ (S2 : Nat → Int), XW G ad u S2 A B P ∧ Kp ad w u ∧ (∀ j, j ≠ 3 → S2 j = S j) ∧ Lc ad u q (eO 12 [va_rf none, .null, .null, va_rf none, .null, .int (zI 0), .int (zI (S 3))])) 1 7 := by
  refine wx_met (by decide) (by exact Nat.le_of_ble_eq_true rfl) ?_
  intro pP eE sS mM aA bB mT cC ls X hT hl hH
  have hS : va_S (wa_A G) sS.heap sS.heap [] := va_S.rf
  have hl : lv_has ls 2 [(0, .ref (ad 28)), (1, .int (zI 0))] := hl
  have hK : Kp ad w w := Kp.rf
  refine lv_iload_n X.x X.b dX6_needs_0 rfl (lv_at hl 1 rfl) ?_
  refine wz_ifne (tgt := 16) X.x X.b dX6_needs_1 (by decide) (by decide) (fun h => absurd h (by decide)) (fun _ => ?_)
  have hX_4 := hX
  have hK_4 := hK
  refine wa_new X hH hS wcX12 rfl q1467 q1468 q144 [.null, .null, .null, .null, .null, .int (zI 0), .int (zI 0)] (by decide) (Nat.le_of_ble_eq_true rfl) (Nat.le_of_ble_eq_true rfl) dX6_needs_4 (fun nq4 w4 H hn4 ew hH hS => ?_)
  have hk0 := Ext.new hn4 ew
  have hX := hX.ext hk0
  have hk := hk0.k (ad := ad)
  have hK := hK.kp hk
  have hN4 := hk
  have n4 : Lc ad w4 nq4 (eO 12 [.null, .null, .null, .null, .null, .int (zI 0), .int (zI 0)]) := Lc.new hX_4 hn4 (by rw [ew]; exact wup_s)
  clear ew hk0
  refine lv_dup X.x X.b dX6_needs_7 rfl ?_
  refine lv_aload_n X.x X.b dX6_needs_8 rfl (lv_at hl 0 rfl) ?_
  refine wa_get (v := .int (zI (S 3))) X hH (have h9 := (XW.c28 hX); h9) wcX6 0 (by decide) q408 rfl (fun _ h9 => h9) rfl dX6_needs_9 ?_
  refine wa_cv hS (wa_rI (rest := [.ref nq4]) X hH (mX12_init  (show At w4 nq4 (eO 12 [.null, .null, .null, .null, .null, .int (zI 0), .int (zI 0)]) from n4.2) (S 3) ) (cwI 1 X.t (lw_meth q1478) rfl rfl rfl (X.t _ q144) (X.t _ q1476) (X.t _ q1477) rfl hdX12_init.2 ⟨Nat.le_of_ble_eq_true rfl, Nat.le_of_ble_eq_true rfl⟩) rfl rfl hl.1 rfl (Nat.le_of_ble_eq_true rfl) dX6_needs_12 ⟨Nat.le_of_ble_eq_true rfl, Nat.le_of_ble_eq_true rfl⟩) (fun w12 H locs hp hH hS => ?_)
  obtain ⟨hi, hO2⟩ := hp
  have hOq := hO2
  have hk := Kp.init hn4 hN4 hOq
  have hX := hX_4.init hn4 hX hOq
  have hK := hK_4.kp hk
  have hN4 := hk
  have n4 : Lc ad w12 nq4 (eO 12 [va_rf none, .null, .null, va_rf none, .null, .int (zI 0), .int (zI (S 3))]) := Lc.new hX_4 hn4 hi
  refine vx_athrow X.x X.b dX6_needs_15 ?_
  obtain ⟨ce15, hce15, hcv15, hcl15⟩ := wx_obj X hH n4.2 rfl
  exact wx_out X hH hS (fun x hx => (hT x hx).elim) hce15 hcv15 hcl15 (by first | exact Nat.le_of_ble_eq_true rfl | omega) (by first | exact Nat.le_of_ble_eq_true rfl | omega) ⟨rfl, S, hX, hK, (fun _ _ => rfl), n4⟩
set_option maxRecDepth 100000 in
theorem mX6_number_ok {lL : Launch} {G : wa_G} {ad : Nat → Nat} {w : wa_W} {S : Nat → Int} {A : Nat → Int → Int} {B : Nat → Int → Option Nat} {P : Nat → Option Nat} (hX : XW G ad w S A B P) {tx : Int → Int} {tl : Int}  (hS2 : S 2 = tl) (hTX : ∀ i, 0 ≤ i → i < tl → A 1 i = tx i ∧ 0 ≤ tx i ∧ tx i ≤ 127) (htl : 0 ≤ tl ∧ tl ≤ 120) (h0 : 0 ≤ S 3 ∧ S 3 ≤ tl) (hok : S 3 < (digN tx tl 6 (S 3) 0).1 ∧ ¬ fig tx tl (digN tx tl 6 (S 3) 0).1) : Met lL yX6_number (ws_ yX6_number cX6_number 3 (some FieldType.int)) ({ frames := 2, cells := 0, slots := 0, locals := 42 } : Room) (wa_P G w [.ref (ad 28)]) (wa_Qz G fun z u => z = (digN tx tl 6 (S 3) 0).2 ∧ XW G ad u (sup S 3 (skS tx tl (digN tx tl 6 (S 3) 0).1)) A B P ∧ Kp ad w u) 0 0 (wa_A G) := by
  refine wa_met (by decide) (by exact Nat.le_of_ble_eq_true rfl) ?_
  intro pP eE sS mM aA bB mT cC ls X hl hH
  have hS : va_S (wa_A G) sS.heap sS.heap [] := va_S.rf
  have hl : lv_has ls 3 [(0, .ref (ad 28))] := hl
  have hK : Kp ad w w := Kp.rf
  refine wz_iconst X.x X.b dX6_number_0 ?_
  refine lv_istore_n (lv' := [(1, .int (zI 0)), (0, .ref (ad 28))]) X.x X.b dX6_number_1 rfl hl (by decide) rfl (fun ls hl => ?_)
  refine wz_iconst X.x X.b dX6_number_2 ?_
  refine lv_istore_n (lv' := [(2, .int (zI 0)), (1, .int (zI 0)), (0, .ref (ad 28))]) X.x X.b dX6_number_3 rfl hl (by decide) rfl (fun ls hl => ?_)
  refine lv_aload_n X.x X.b dX6_number_4 rfl (lv_at hl 2 rfl) ?_
  refine lv_aload_n X.x X.b dX6_number_5 rfl (lv_at hl 2 rfl) ?_
  refine wz_bipush X.x X.b dX6_number_6 rfl ?_
  refine wz_bipush X.x X.b dX6_number_8 rfl ?_
  refine wa_ci hS (wa_rV (rest := [.ref (ad 28)]) X hH (mX6_isAt hX  48 57 (show S 2 = tl by first | assumption | omega) (show ∀ i, 0 ≤ i → i < tl → A 1 i = tx i ∧ 0 ≤ tx i ∧ tx i ≤ 127 by first | assumption | omega) (show 0 ≤ tl ∧ tl ≤ 120 by first | assumption | omega) (show 0 ≤ S 3 ∧ S 3 ≤ 200 by first | assumption | omega) (show 0 ≤ 48 ∧ 48 ≤ 127 by first | assumption | omega) (show 0 ≤ 57 ∧ 57 ≤ 127 by first | assumption | omega)) (cwV 2 X.t (lw_V q1459 q1461 qs41 q123 q1462) rfl rfl rfl hdX6_isAt ⟨Nat.le_of_ble_eq_true rfl, Nat.le_of_ble_eq_true rfl⟩) rfl (have h9 := (XW.c28 hX); h9) rfl rfl hl.1 rfl (Nat.le_of_ble_eq_true rfl) dX6_number_10 ⟨Nat.le_of_ble_eq_true rfl, Nat.le_of_ble_eq_true rfl⟩) (fun z w10 H locs hp hH hS => ?_)
  obtain ⟨hb, hw⟩ := hp
  rw [← hw] at hH; clear hw
  obtain rfl : z = 1 := by
    rcases hb with ⟨hq, e⟩ | ⟨hq, e⟩
    · exact e
    · exfalso; rw [dig_n (fun q => hq ⟨q.1, q.2.1, q.2.2⟩)] at hok; exact absurd hok.1 (Int.lt_irrefl _)
  refine wa_cv hS (wa_rV (rest := []) X hH (mX6_needs_1 hX   ) (cwV 1 X.t (lw_V q1463 q1465 qs42 q123 q1466) rfl rfl rfl hdX6_needs ⟨Nat.le_of_ble_eq_true rfl, Nat.le_of_ble_eq_true rfl⟩) rfl (have h9 := (XW.c28 hX); h9) rfl rfl hl.1 rfl (Nat.le_of_ble_eq_true rfl) dX6_number_13 ⟨Nat.le_of_ble_eq_true rfl, Nat.le_of_ble_eq_true rfl⟩) (fun w13 H locs hp hH hS => ?_)
  have hw := hp
  rw [← hw] at hH; clear hw
  have L16 : ∀ (nn : Nat) (v : Int) (n : Int) (x : Int), ((6 - n).toNat) = nn → (digN tx tl 6 (S 3) 0 = digN tx tl (6 - n).toNat x v) → ((0 ≤ n ∧ n ≤ 6) ∧ x = S 3 + n ∧ x ≤ tl) → ∀ (wl16 : wa_W) (H : Heap) (locs : List Loc) (ls : Array Slot), XW G ad wl16 (sup S 3 x) A B P → Kp ad w wl16 → wa_H G wl16 H → va_S (wa_A G) sS.heap H locs → lv_has ls 3 [(1, .int (zI v)), (2, .int (zI n)), (0, .ref (ad 28))] → W pP lL eE ({ frames := 2, cells := 0, slots := 0, locals := 42 } : Room) sS mM aA bB mT cC H locs 0 0 (MQ bB (wa_Qz G fun z u => z = (digN tx tl 6 (S 3) 0).2 ∧ XW G ad u (sup S 3 (skS tx tl (digN tx tl 6 (S 3) 0).1)) A B P ∧ Kp ad w u) aA sS 0 0 (wa_A G)) (F0 mM 16 ls []) := by
    intro nn
    induction nn using Nat.strongRecOn with
    | ind nn ih16 =>
      intro v n x hmu16 i16_0 i16_1 wl16 H locs ls hX hK  hH hS hl
      refine lv_iload_n X.x X.b dX6_number_16 rfl (lv_at hl 1 rfl) ?_
      refine wz_bipush X.x X.b dX6_number_17 rfl ?_
      refine wz_icmp_ge (tgt := 70) X.x X.b dX6_number_19 (by decide) ⟨by omega, by omega⟩ ⟨by omega, by omega⟩ (fun c19 => ?_) (fun c19 => ?_)
      · have hE : digN tx tl 6 (S 3) 0 = (x, v) := by
          rw [i16_0]
          first | (rw [show (6 - n).toNat = 0 by omega]; rfl) | exact dig_n (fun q => b27 ⟨q.1, q.2.1, q.2.2⟩)
        refine lv_aload_n X.x X.b dX6_number_70 rfl (lv_at hl 2 rfl) ?_
        refine lv_aload_n X.x X.b dX6_number_71 rfl (lv_at hl 2 rfl) ?_
        refine wz_bipush X.x X.b dX6_number_72 rfl ?_
        refine wz_bipush X.x X.b dX6_number_74 rfl ?_
        refine wa_ci hS (wa_rV (rest := [.ref (ad 28)]) X hH (mX6_isAt hX  48 57 (show S 2 = tl by first | assumption | omega) (show ∀ i, 0 ≤ i → i < tl → A 1 i = tx i ∧ 0 ≤ tx i ∧ tx i ≤ 127 by first | assumption | omega) (show 0 ≤ tl ∧ tl ≤ 120 by first | assumption | omega) (show 0 ≤ x ∧ x ≤ 200 by first | assumption | omega) (show 0 ≤ 48 ∧ 48 ≤ 127 by first | assumption | omega) (show 0 ≤ 57 ∧ 57 ≤ 127 by first | assumption | omega)) (cwV 2 X.t (lw_V q1459 q1461 qs41 q123 q1462) rfl rfl rfl hdX6_isAt ⟨Nat.le_of_ble_eq_true rfl, Nat.le_of_ble_eq_true rfl⟩) rfl (have h9 := (XW.c28 hX); h9) rfl rfl hl.1 rfl (Nat.le_of_ble_eq_true rfl) dX6_number_76 ⟨Nat.le_of_ble_eq_true rfl, Nat.le_of_ble_eq_true rfl⟩) (fun z w76 H locs hp hH hS => ?_)
        obtain ⟨hb, hw⟩ := hp
        rw [← hw] at hH; clear hw
        obtain rfl : z = 0 := by
          rcases hb with ⟨hq, e⟩ | ⟨hq, e⟩
          · exfalso; rw [hE] at hok; exact hok.2 hq
          · exact e
        refine wz_ifne (tgt := 86) X.x X.b dX6_number_79 (by decide) (by decide) (fun h => absurd h (by decide)) (fun _ => ?_)
        refine wz_iconst X.x X.b dX6_number_82 ?_
        refine lv_goto (tgt := 87) X.x X.b dX6_number_83 (by decide) ?_
        refine wa_cv hS (wa_rV (rest := []) X hH (mX6_needs_1 hX   ) (cwV 1 X.t (lw_V q1463 q1465 qs42 q123 q1466) rfl rfl rfl hdX6_needs ⟨Nat.le_of_ble_eq_true rfl, Nat.le_of_ble_eq_true rfl⟩) rfl (have h9 := (XW.c28 hX); h9) rfl rfl hl.1 rfl (Nat.le_of_ble_eq_true rfl) dX6_number_87 ⟨Nat.le_of_ble_eq_true rfl, Nat.le_of_ble_eq_true rfl⟩) (fun w87 H locs hp hH hS => ?_)
        have hw := hp
        rw [← hw] at hH; clear hw
        refine lv_aload_n X.x X.b dX6_number_90 rfl (lv_at hl 2 rfl) ?_
        refine lv_dup X.x X.b dX6_number_91 rfl ?_
        refine wa_get (v := .int (zI x)) X hH (have h9 := (XW.c28 hX); h9) wcX6 0 (by decide) q408 rfl (fun _ h9 => h9) rfl dX6_number_92 ?_
        refine wz_iconst X.x X.b dX6_number_95 ?_
        refine wz_isub X.x X.b dX6_number_96 ?_
        refine wa_put X hH hS (have h9 := (XW.c28 hX); h9) wcX6 0 (by decide) q408 rfl (fun _ h9 => h9) rfl rfl rfl (Nat.le_of_ble_eq_true rfl) dX6_number_97 (fun w97 H locs ew hH hS => ?_)
        have hk : Kp ad wl16 w97 := Kp.set (i := 28) (by omega) ew
        have hX := hX.sS (i := 28) (3) (x := x - 1) (by unfold oS; omega) ew
        have hX := XW.cS (S2 := sup S 3 (x - 1)) hX (by funext j; simp only [sup]; by_cases h0 : j = 3; (subst h0; first | rfl | simp); simp only [h0, ↓reduceIte])
        have hK := hK.kp hk
        clear ew
        refine lv_aload_n X.x X.b dX6_number_100 rfl (lv_at hl 2 rfl) ?_
        refine wa_cv hS (wa_rV (rest := []) X hH (mX6_next hX   (show S 2 = tl by first | assumption | omega) (show ∀ i, 0 ≤ i → i < tl → A 1 i = tx i ∧ 0 ≤ tx i ∧ tx i ≤ 127 by first | assumption | omega) (show 0 ≤ tl ∧ tl ≤ 120 by first | assumption | omega) (show -1 ≤ (x - 1) ∧ (x - 1) ≤ tl by first | assumption | omega)) (cwV 0 X.t (lw_V q1455 q1457 qs40 q123 q1458) rfl rfl rfl hdX6_next ⟨Nat.le_of_ble_eq_true rfl, Nat.le_of_ble_eq_true rfl⟩) rfl (have h9 := (XW.c28 hX); h9) rfl rfl hl.1 rfl (Nat.le_of_ble_eq_true rfl) dX6_number_101 ⟨Nat.le_of_ble_eq_true rfl, Nat.le_of_ble_eq_true rfl⟩) (fun w101 H locs hp hH hS => ?_)
        obtain ⟨hX, hk⟩ := hp
        have hK := hK.kp hk
        refine lv_iload_n X.x X.b dX6_number_104 rfl (lv_at hl 0 rfl) ?_
        exact wa_iret X hH hS dX6_number_105 ⟨by rw [hE], ⟨by rw [show (digN tx tl 6 (S 3) 0).1 = x by rw [hE], show skS tx tl x = skS tx tl (x - 1 + 1) by congr 1; omega]; have h9 := hX; rw [sup_sup9] at h9; exact h9, hK⟩⟩
      · refine lv_aload_n X.x X.b dX6_number_22 rfl (lv_at hl 2 rfl) ?_
        refine wz_bipush X.x X.b dX6_number_23 rfl ?_
        refine wz_bipush X.x X.b dX6_number_25 rfl ?_
        refine wa_ci hS (wa_rV (rest := []) X hH (mX6_isAt hX  48 57 (show S 2 = tl by first | assumption | omega) (show ∀ i, 0 ≤ i → i < tl → A 1 i = tx i ∧ 0 ≤ tx i ∧ tx i ≤ 127 by first | assumption | omega) (show 0 ≤ tl ∧ tl ≤ 120 by first | assumption | omega) (show 0 ≤ x ∧ x ≤ 200 by first | assumption | omega) (show 0 ≤ 48 ∧ 48 ≤ 127 by first | assumption | omega) (show 0 ≤ 57 ∧ 57 ≤ 127 by first | assumption | omega)) (cwV 2 X.t (lw_V q1459 q1461 qs41 q123 q1462) rfl rfl rfl hdX6_isAt ⟨Nat.le_of_ble_eq_true rfl, Nat.le_of_ble_eq_true rfl⟩) rfl (have h9 := (XW.c28 hX); h9) rfl rfl hl.1 rfl (Nat.le_of_ble_eq_true rfl) dX6_number_27 ⟨Nat.le_of_ble_eq_true rfl, Nat.le_of_ble_eq_true rfl⟩) (fun z w27 H locs hp hH hS => ?_)
        obtain ⟨hb, hw⟩ := hp
        rw [← hw] at hH; clear hw
        rcases hb with ⟨b27, rfl⟩ | ⟨b27, rfl⟩
        · have b27 : (x < tl ∧ 48 ≤ tx (x) ∧ tx (x) ≤ 57) := b27
          refine wz_ifeq (tgt := 70) X.x X.b dX6_number_30 (by decide) (by decide) (fun h => absurd h (by decide)) (fun _ => ?_)
          refine wz_bipush X.x X.b dX6_number_33 rfl ?_
          refine lv_iload_n X.x X.b dX6_number_35 rfl (lv_at hl 0 rfl) ?_
          refine wz_imul X.x X.b dX6_number_36 ?_
          refine lv_aload_n X.x X.b dX6_number_37 rfl (lv_at hl 2 rfl) ?_
          refine wa_get (v := .ref (ad 0)) X hH (have h9 := (XW.c28 hX); h9) wcX6 1 (by decide) q409 rfl (fun _ h9 => h9) rfl dX6_number_38 ?_
          refine wa_getN (v := .ref (ad 26)) X hH (have h9 := (XW.c0 hX); h9) wcX0 8 (by decide) q426 rfl (fun _ h9 => h9) rfl dX6_number_41 ?_
          refine lv_aload_n X.x X.b dX6_number_44 rfl (lv_at hl 2 rfl) ?_
          refine wa_get (v := .int (zI x)) X hH (have h9 := (XW.c28 hX); h9) wcX6 0 (by decide) q408 rfl (fun _ h9 => h9) rfl dX6_number_45 ?_
          have htx := hTX x (by omega) (by omega)
          refine wa_bald (f := A 1) X hH (have h9 := (XW.c26 hX); h9) (by omega) (by omega) (by omega) dX6_number_48 ?_
          refine wz_is (z := tx x) (by exact htx.1) ?_
          refine wz_iadd X.x X.b dX6_number_49 ?_
          refine wz_bipush X.x X.b dX6_number_50 rfl ?_
          refine wz_isub X.x X.b dX6_number_52 ?_
          refine lv_istore_n (lv' := [(1, .int (zI (((10 * v) + (tx x)) - 48))), (2, .int (zI n)), (0, .ref (ad 28))]) X.x X.b dX6_number_53 rfl hl (by decide) rfl (fun ls hl => ?_)
          refine wz_iinc (k := 1) (lv' := [(2, .int (zI (n + 1))), (1, .int (zI (((10 * v) + (tx x)) - 48))), (0, .ref (ad 28))]) X.x X.b dX6_number_54 hl rfl (by decide) rfl (fun ls hl => ?_)
          refine lv_aload_n X.x X.b dX6_number_57 rfl (lv_at hl 2 rfl) ?_
          refine lv_dup X.x X.b dX6_number_58 rfl ?_
          refine wa_get (v := .int (zI x)) X hH (have h9 := (XW.c28 hX); h9) wcX6 0 (by decide) q408 rfl (fun _ h9 => h9) rfl dX6_number_59 ?_
          refine wz_iconst X.x X.b dX6_number_62 ?_
          refine wz_iadd X.x X.b dX6_number_63 ?_
          refine wa_put X hH hS (have h9 := (XW.c28 hX); h9) wcX6 0 (by decide) q408 rfl (fun _ h9 => h9) rfl rfl rfl (Nat.le_of_ble_eq_true rfl) dX6_number_64 (fun w64 H locs ew hH hS => ?_)
          have hk : Kp ad wl16 w64 := Kp.set (i := 28) (by omega) ew
          have hX := hX.sS (i := 28) (3) (x := x + 1) (by unfold oS; omega) ew
          have hX := XW.cS (S2 := sup S 3 (x + 1)) hX (by funext j; simp only [sup]; by_cases h0 : j = 3; (subst h0; first | rfl | simp); simp only [h0, ↓reduceIte])
          have hK := hK.kp hk
          clear ew
          refine lv_goto (tgt := 16) X.x X.b dX6_number_67 (by decide) ?_
          exact ih16 _ (by omega) (((10 * v) + (tx x)) - 48) (n + 1) (x + 1) rfl (by rw [i16_0]; exact dig_y ⟨by omega, by omega⟩ ⟨b27.1, b27.2.1, b27.2.2⟩) (by omega) _ _ _ _ hX hK  hH hS (lv_sub hl [1, 0, 2] rfl)
        · have b27 : ¬ (x < tl ∧ 48 ≤ tx (x) ∧ tx (x) ≤ 57) := b27
          refine wz_ifeq (tgt := 70) X.x X.b dX6_number_30 (by decide) (by decide) (fun _ => ?_) (fun h => absurd h (by decide))
          have hE : digN tx tl 6 (S 3) 0 = (x, v) := by
            rw [i16_0]
            first | (rw [show (6 - n).toNat = 0 by omega]; rfl) | exact dig_n (fun q => b27 ⟨q.1, q.2.1, q.2.2⟩)
          refine lv_aload_n X.x X.b dX6_number_70 rfl (lv_at hl 2 rfl) ?_
          refine lv_aload_n X.x X.b dX6_number_71 rfl (lv_at hl 2 rfl) ?_
          refine wz_bipush X.x X.b dX6_number_72 rfl ?_
          refine wz_bipush X.x X.b dX6_number_74 rfl ?_
          refine wa_ci hS (wa_rV (rest := [.ref (ad 28)]) X hH (mX6_isAt hX  48 57 (show S 2 = tl by first | assumption | omega) (show ∀ i, 0 ≤ i → i < tl → A 1 i = tx i ∧ 0 ≤ tx i ∧ tx i ≤ 127 by first | assumption | omega) (show 0 ≤ tl ∧ tl ≤ 120 by first | assumption | omega) (show 0 ≤ x ∧ x ≤ 200 by first | assumption | omega) (show 0 ≤ 48 ∧ 48 ≤ 127 by first | assumption | omega) (show 0 ≤ 57 ∧ 57 ≤ 127 by first | assumption | omega)) (cwV 2 X.t (lw_V q1459 q1461 qs41 q123 q1462) rfl rfl rfl hdX6_isAt ⟨Nat.le_of_ble_eq_true rfl, Nat.le_of_ble_eq_true rfl⟩) rfl (have h9 := (XW.c28 hX); h9) rfl rfl hl.1 rfl (Nat.le_of_ble_eq_true rfl) dX6_number_76 ⟨Nat.le_of_ble_eq_true rfl, Nat.le_of_ble_eq_true rfl⟩) (fun z w76 H locs hp hH hS => ?_)
          obtain ⟨hb, hw⟩ := hp
          rw [← hw] at hH; clear hw
          obtain rfl : z = 0 := by
            rcases hb with ⟨hq, e⟩ | ⟨hq, e⟩
            · exfalso; rw [hE] at hok; exact hok.2 hq
            · exact e
          refine wz_ifne (tgt := 86) X.x X.b dX6_number_79 (by decide) (by decide) (fun h => absurd h (by decide)) (fun _ => ?_)
          refine wz_iconst X.x X.b dX6_number_82 ?_
          refine lv_goto (tgt := 87) X.x X.b dX6_number_83 (by decide) ?_
          refine wa_cv hS (wa_rV (rest := []) X hH (mX6_needs_1 hX   ) (cwV 1 X.t (lw_V q1463 q1465 qs42 q123 q1466) rfl rfl rfl hdX6_needs ⟨Nat.le_of_ble_eq_true rfl, Nat.le_of_ble_eq_true rfl⟩) rfl (have h9 := (XW.c28 hX); h9) rfl rfl hl.1 rfl (Nat.le_of_ble_eq_true rfl) dX6_number_87 ⟨Nat.le_of_ble_eq_true rfl, Nat.le_of_ble_eq_true rfl⟩) (fun w87 H locs hp hH hS => ?_)
          have hw := hp
          rw [← hw] at hH; clear hw
          refine lv_aload_n X.x X.b dX6_number_90 rfl (lv_at hl 2 rfl) ?_
          refine lv_dup X.x X.b dX6_number_91 rfl ?_
          refine wa_get (v := .int (zI x)) X hH (have h9 := (XW.c28 hX); h9) wcX6 0 (by decide) q408 rfl (fun _ h9 => h9) rfl dX6_number_92 ?_
          refine wz_iconst X.x X.b dX6_number_95 ?_
          refine wz_isub X.x X.b dX6_number_96 ?_
          refine wa_put X hH hS (have h9 := (XW.c28 hX); h9) wcX6 0 (by decide) q408 rfl (fun _ h9 => h9) rfl rfl rfl (Nat.le_of_ble_eq_true rfl) dX6_number_97 (fun w97 H locs ew hH hS => ?_)
          have hk : Kp ad wl16 w97 := Kp.set (i := 28) (by omega) ew
          have hX := hX.sS (i := 28) (3) (x := x - 1) (by unfold oS; omega) ew
          have hX := XW.cS (S2 := sup S 3 (x - 1)) hX (by funext j; simp only [sup]; by_cases h0 : j = 3; (subst h0; first | rfl | simp); simp only [h0, ↓reduceIte])
          have hK := hK.kp hk
          clear ew
          refine lv_aload_n X.x X.b dX6_number_100 rfl (lv_at hl 2 rfl) ?_
          refine wa_cv hS (wa_rV (rest := []) X hH (mX6_next hX   (show S 2 = tl by first | assumption | omega) (show ∀ i, 0 ≤ i → i < tl → A 1 i = tx i ∧ 0 ≤ tx i ∧ tx i ≤ 127 by first | assumption | omega) (show 0 ≤ tl ∧ tl ≤ 120 by first | assumption | omega) (show -1 ≤ (x - 1) ∧ (x - 1) ≤ tl by first | assumption | omega)) (cwV 0 X.t (lw_V q1455 q1457 qs40 q123 q1458) rfl rfl rfl hdX6_next ⟨Nat.le_of_ble_eq_true rfl, Nat.le_of_ble_eq_true rfl⟩) rfl (have h9 := (XW.c28 hX); h9) rfl rfl hl.1 rfl (Nat.le_of_ble_eq_true rfl) dX6_number_101 ⟨Nat.le_of_ble_eq_true rfl, Nat.le_of_ble_eq_true rfl⟩) (fun w101 H locs hp hH hS => ?_)
          obtain ⟨hX, hk⟩ := hp
          have hK := hK.kp hk
          refine lv_iload_n X.x X.b dX6_number_104 rfl (lv_at hl 0 rfl) ?_
          exact wa_iret X hH hS dX6_number_105 ⟨by rw [hE], ⟨by rw [show (digN tx tl 6 (S 3) 0).1 = x by rw [hE], show skS tx tl x = skS tx tl (x - 1 + 1) by congr 1; omega]; have h9 := hX; rw [sup_sup9] at h9; exact h9, hK⟩⟩
  have hX := XW.cS (S2 := sup S 3 (S 3)) hX (by funext j; simp only [sup]; by_cases h0 : j = 3; (subst h0; first | rfl | simp); simp only [h0, ↓reduceIte])
  exact L16 _ 0 0 (S 3) rfl (by rfl) (by omega) _ _ _ _ hX hK  hH hS (lv_sub hl [1, 0, 2] rfl)
set_option maxRecDepth 100000 in
theorem mX6_number_no {lL : Launch} {G : wa_G} {ad : Nat → Nat} {w : wa_W} {S : Nat → Int} {A : Nat → Int → Int} {B : Nat → Int → Option Nat} {P : Nat → Option Nat} (hX : XW G ad w S A B P) {tx : Int → Int} {tl : Int}  (hS2 : S 2 = tl) (hTX : ∀ i, 0 ≤ i → i < tl → A 1 i = tx i ∧ 0 ≤ tx i ∧ tx i ≤ 127) (htl : 0 ≤ tl ∧ tl ≤ 120) (h0 : 0 ≤ S 3 ∧ S 3 ≤ tl) (hno : ¬ (S 3 < (digN tx tl 6 (S 3) 0).1 ∧ ¬ fig tx tl (digN tx tl 6 (S 3) 0).1)) : wx_Thr lL yX6_number (ws_ yX6_number cX6_number 3 (some FieldType.int)) ({ frames := 5, cells := 1, slots := 7, locals := 110 } : Room) G w [.ref (ad 28)] (fun E q u => E = "PictureRing$Fault" ∧ ∃ (S2 : Nat → Int), XW G ad u S2 A B P ∧ Kp ad w u ∧ (∀ j, j ≠ 3 → S2 j = S j) ∧ Lc ad u q (eO 12 [va_rf none, .null, .null, va_rf none, .null, .int (zI 0), .int (zI ((digN tx tl 6 (S 3) 0).1))])) 1 7 := by
  refine wx_met (by decide) (by exact Nat.le_of_ble_eq_true rfl) ?_
  intro pP eE sS mM aA bB mT cC ls X hT hl hH
  have hS : va_S (wa_A G) sS.heap sS.heap [] := va_S.rf
  have hl : lv_has ls 3 [(0, .ref (ad 28))] := hl
  have hK : Kp ad w w := Kp.rf
  refine wz_iconst X.x X.b dX6_number_0 ?_
  refine lv_istore_n (lv' := [(1, .int (zI 0)), (0, .ref (ad 28))]) X.x X.b dX6_number_1 rfl hl (by decide) rfl (fun ls hl => ?_)
  refine wz_iconst X.x X.b dX6_number_2 ?_
  refine lv_istore_n (lv' := [(2, .int (zI 0)), (1, .int (zI 0)), (0, .ref (ad 28))]) X.x X.b dX6_number_3 rfl hl (by decide) rfl (fun ls hl => ?_)
  refine lv_aload_n X.x X.b dX6_number_4 rfl (lv_at hl 2 rfl) ?_
  refine lv_aload_n X.x X.b dX6_number_5 rfl (lv_at hl 2 rfl) ?_
  refine wz_bipush X.x X.b dX6_number_6 rfl ?_
  refine wz_bipush X.x X.b dX6_number_8 rfl ?_
  refine wa_ci hS (wa_rV (rest := [.ref (ad 28)]) X hH (mX6_isAt hX  48 57 (show S 2 = tl by first | assumption | omega) (show ∀ i, 0 ≤ i → i < tl → A 1 i = tx i ∧ 0 ≤ tx i ∧ tx i ≤ 127 by first | assumption | omega) (show 0 ≤ tl ∧ tl ≤ 120 by first | assumption | omega) (show 0 ≤ S 3 ∧ S 3 ≤ 200 by first | assumption | omega) (show 0 ≤ 48 ∧ 48 ≤ 127 by first | assumption | omega) (show 0 ≤ 57 ∧ 57 ≤ 127 by first | assumption | omega)) (cwV 2 X.t (lw_V q1459 q1461 qs41 q123 q1462) rfl rfl rfl hdX6_isAt ⟨Nat.le_of_ble_eq_true rfl, Nat.le_of_ble_eq_true rfl⟩) rfl (have h9 := (XW.c28 hX); h9) rfl rfl hl.1 rfl (Nat.le_of_ble_eq_true rfl) dX6_number_10 ⟨Nat.le_of_ble_eq_true rfl, Nat.le_of_ble_eq_true rfl⟩) (fun z w10 H locs hp hH hS => ?_)
  obtain ⟨hb, hw⟩ := hp
  rw [← hw] at hH; clear hw
  rcases hb with ⟨b10, rfl⟩ | ⟨b10, rfl⟩
  · have b10 : (S 3 < tl ∧ 48 ≤ tx (S 3) ∧ tx (S 3) ≤ 57) := b10
    refine wa_cv hS (wa_rV (rest := []) X hH (mX6_needs_1 hX   ) (cwV 1 X.t (lw_V q1463 q1465 qs42 q123 q1466) rfl rfl rfl hdX6_needs ⟨Nat.le_of_ble_eq_true rfl, Nat.le_of_ble_eq_true rfl⟩) rfl (have h9 := (XW.c28 hX); h9) rfl rfl hl.1 rfl (Nat.le_of_ble_eq_true rfl) dX6_number_13 ⟨Nat.le_of_ble_eq_true rfl, Nat.le_of_ble_eq_true rfl⟩) (fun w13 H locs hp hH hS => ?_)
    have hw := hp
    rw [← hw] at hH; clear hw
    have L16 : ∀ (nn : Nat) (v : Int) (n : Int) (x : Int), ((6 - n).toNat) = nn → (digN tx tl 6 (S 3) 0 = digN tx tl (6 - n).toNat x v) → ((0 ≤ n ∧ n ≤ 6) ∧ x = S 3 + n ∧ x ≤ tl) → ∀ (wl16 : wa_W) (H : Heap) (locs : List Loc) (ls : Array Slot), XW G ad wl16 (sup S 3 x) A B P → Kp ad w wl16 → wa_H G wl16 H → va_S (wa_A G) sS.heap H locs → lv_has ls 3 [(1, .int (zI v)), (2, .int (zI n)), (0, .ref (ad 28))] → W pP lL eE ({ frames := 5, cells := 1, slots := 7, locals := 110 } : Room) sS mM aA bB mT cC H locs 0 0 (vx_MQ bB wx_No (wx_X G (fun E q u => E = "PictureRing$Fault" ∧ ∃ (S2 : Nat → Int), XW G ad u S2 A B P ∧ Kp ad w u ∧ (∀ j, j ≠ 3 → S2 j = S j) ∧ Lc ad u q (eO 12 [va_rf none, .null, .null, va_rf none, .null, .int (zI 0), .int (zI ((digN tx tl 6 (S 3) 0).1))]))) aA sS 1 7 (wa_A G)) (F0 mM 16 ls []) := by
      intro nn
      induction nn using Nat.strongRecOn with
      | ind nn ih16 =>
        intro v n x hmu16 i16_0 i16_1 wl16 H locs ls hX hK  hH hS hl
        refine lv_iload_n X.x X.b dX6_number_16 rfl (lv_at hl 1 rfl) ?_
        refine wz_bipush X.x X.b dX6_number_17 rfl ?_
        refine wz_icmp_ge (tgt := 70) X.x X.b dX6_number_19 (by decide) ⟨by omega, by omega⟩ ⟨by omega, by omega⟩ (fun c19 => ?_) (fun c19 => ?_)
        · have hE : digN tx tl 6 (S 3) 0 = (x, v) := by
            rw [i16_0]
            first | (rw [show (6 - n).toNat = 0 by omega]; rfl) | exact dig_n (fun q => b27 ⟨q.1, q.2.1, q.2.2⟩)
          have hlt : n = 0 → fig tx tl x := fun n0 => by rw [show x = S 3 by omega]; exact b10
          refine lv_aload_n X.x X.b dX6_number_70 rfl (lv_at hl 2 rfl) ?_
          refine lv_aload_n X.x X.b dX6_number_71 rfl (lv_at hl 2 rfl) ?_
          refine wz_bipush X.x X.b dX6_number_72 rfl ?_
          refine wz_bipush X.x X.b dX6_number_74 rfl ?_
          refine wa_ci hS (wa_rV (rest := [.ref (ad 28)]) X hH (mX6_isAt hX  48 57 (show S 2 = tl by first | assumption | omega) (show ∀ i, 0 ≤ i → i < tl → A 1 i = tx i ∧ 0 ≤ tx i ∧ tx i ≤ 127 by first | assumption | omega) (show 0 ≤ tl ∧ tl ≤ 120 by first | assumption | omega) (show 0 ≤ x ∧ x ≤ 200 by first | assumption | omega) (show 0 ≤ 48 ∧ 48 ≤ 127 by first | assumption | omega) (show 0 ≤ 57 ∧ 57 ≤ 127 by first | assumption | omega)) (cwV 2 X.t (lw_V q1459 q1461 qs41 q123 q1462) rfl rfl rfl hdX6_isAt ⟨Nat.le_of_ble_eq_true rfl, Nat.le_of_ble_eq_true rfl⟩) rfl (have h9 := (XW.c28 hX); h9) rfl rfl hl.1 rfl (Nat.le_of_ble_eq_true rfl) dX6_number_76 ⟨Nat.le_of_ble_eq_true rfl, Nat.le_of_ble_eq_true rfl⟩) (fun z w76 H locs hp hH hS => ?_)
          obtain ⟨hb, hw⟩ := hp
          rw [← hw] at hH; clear hw
          obtain rfl : z = 1 := by
            rcases hb with ⟨hq, e⟩ | ⟨hq, e⟩
            · exact e
            · exfalso; exact hno ⟨by rw [hE]; show S 3 < x; by_cases n0 : n = 0; exact absurd (hlt n0) hq; omega, by rw [hE]; exact hq⟩
          refine wz_ifne (tgt := 86) X.x X.b dX6_number_79 (by decide) (by decide) (fun _ => ?_) (fun h => absurd h (by decide))
          refine wz_iconst X.x X.b dX6_number_86 ?_
          refine wx_cx hS (wx_rV (rest := []) X hH (mX6_needs_0 hX   ) (cwV 1 X.t (lw_V q1463 q1465 qs42 q123 q1466) rfl rfl rfl hdX6_needs ⟨Nat.le_of_ble_eq_true rfl, Nat.le_of_ble_eq_true rfl⟩) rfl (have h9 := (XW.c28 hX); h9) rfl rfl hl.1 rfl (Nat.le_of_ble_eq_true rfl) dX6_number_87 ⟨Nat.le_of_ble_eq_true rfl, Nat.le_of_ble_eq_true rfl⟩) (fun E87 q87 w87 ce87 H locs hp hH hS hce87 hcv87 hcl87 => ?_)
          obtain ⟨rfl, S2_87, hX, hk, hx87_0, hx87_1⟩ := hp
          have hK := hK.kp hk
          exact wx_out X hH hS (fun x hx => (hT x hx).elim) hce87 hcv87 hcl87 (by first | exact Nat.le_of_ble_eq_true rfl | omega) (by first | exact Nat.le_of_ble_eq_true rfl | omega) ⟨rfl, S2_87, hX, hK, (fun j hj => (hx87_0 j hj).trans (by first | rfl | exact sup_n hj | (rw [sup_n hj, sup_n hj]))), (by rw [show (digN tx tl 6 (S 3) 0).1 = x by rw [hE]]; exact hx87_1)⟩
        · refine lv_aload_n X.x X.b dX6_number_22 rfl (lv_at hl 2 rfl) ?_
          refine wz_bipush X.x X.b dX6_number_23 rfl ?_
          refine wz_bipush X.x X.b dX6_number_25 rfl ?_
          refine wa_ci hS (wa_rV (rest := []) X hH (mX6_isAt hX  48 57 (show S 2 = tl by first | assumption | omega) (show ∀ i, 0 ≤ i → i < tl → A 1 i = tx i ∧ 0 ≤ tx i ∧ tx i ≤ 127 by first | assumption | omega) (show 0 ≤ tl ∧ tl ≤ 120 by first | assumption | omega) (show 0 ≤ x ∧ x ≤ 200 by first | assumption | omega) (show 0 ≤ 48 ∧ 48 ≤ 127 by first | assumption | omega) (show 0 ≤ 57 ∧ 57 ≤ 127 by first | assumption | omega)) (cwV 2 X.t (lw_V q1459 q1461 qs41 q123 q1462) rfl rfl rfl hdX6_isAt ⟨Nat.le_of_ble_eq_true rfl, Nat.le_of_ble_eq_true rfl⟩) rfl (have h9 := (XW.c28 hX); h9) rfl rfl hl.1 rfl (Nat.le_of_ble_eq_true rfl) dX6_number_27 ⟨Nat.le_of_ble_eq_true rfl, Nat.le_of_ble_eq_true rfl⟩) (fun z w27 H locs hp hH hS => ?_)
          obtain ⟨hb, hw⟩ := hp
          rw [← hw] at hH; clear hw
          rcases hb with ⟨b27, rfl⟩ | ⟨b27, rfl⟩
          · have b27 : (x < tl ∧ 48 ≤ tx (x) ∧ tx (x) ≤ 57) := b27
            refine wz_ifeq (tgt := 70) X.x X.b dX6_number_30 (by decide) (by decide) (fun h => absurd h (by decide)) (fun _ => ?_)
            refine wz_bipush X.x X.b dX6_number_33 rfl ?_
            refine lv_iload_n X.x X.b dX6_number_35 rfl (lv_at hl 0 rfl) ?_
            refine wz_imul X.x X.b dX6_number_36 ?_
            refine lv_aload_n X.x X.b dX6_number_37 rfl (lv_at hl 2 rfl) ?_
            refine wa_get (v := .ref (ad 0)) X hH (have h9 := (XW.c28 hX); h9) wcX6 1 (by decide) q409 rfl (fun _ h9 => h9) rfl dX6_number_38 ?_
            refine wa_getN (v := .ref (ad 26)) X hH (have h9 := (XW.c0 hX); h9) wcX0 8 (by decide) q426 rfl (fun _ h9 => h9) rfl dX6_number_41 ?_
            refine lv_aload_n X.x X.b dX6_number_44 rfl (lv_at hl 2 rfl) ?_
            refine wa_get (v := .int (zI x)) X hH (have h9 := (XW.c28 hX); h9) wcX6 0 (by decide) q408 rfl (fun _ h9 => h9) rfl dX6_number_45 ?_
            have htx := hTX x (by omega) (by omega)
            refine wa_bald (f := A 1) X hH (have h9 := (XW.c26 hX); h9) (by omega) (by omega) (by omega) dX6_number_48 ?_
            refine wz_is (z := tx x) (by exact htx.1) ?_
            refine wz_iadd X.x X.b dX6_number_49 ?_
            refine wz_bipush X.x X.b dX6_number_50 rfl ?_
            refine wz_isub X.x X.b dX6_number_52 ?_
            refine lv_istore_n (lv' := [(1, .int (zI (((10 * v) + (tx x)) - 48))), (2, .int (zI n)), (0, .ref (ad 28))]) X.x X.b dX6_number_53 rfl hl (by decide) rfl (fun ls hl => ?_)
            refine wz_iinc (k := 1) (lv' := [(2, .int (zI (n + 1))), (1, .int (zI (((10 * v) + (tx x)) - 48))), (0, .ref (ad 28))]) X.x X.b dX6_number_54 hl rfl (by decide) rfl (fun ls hl => ?_)
            refine lv_aload_n X.x X.b dX6_number_57 rfl (lv_at hl 2 rfl) ?_
            refine lv_dup X.x X.b dX6_number_58 rfl ?_
            refine wa_get (v := .int (zI x)) X hH (have h9 := (XW.c28 hX); h9) wcX6 0 (by decide) q408 rfl (fun _ h9 => h9) rfl dX6_number_59 ?_
            refine wz_iconst X.x X.b dX6_number_62 ?_
            refine wz_iadd X.x X.b dX6_number_63 ?_
            refine wa_put X hH hS (have h9 := (XW.c28 hX); h9) wcX6 0 (by decide) q408 rfl (fun _ h9 => h9) rfl rfl rfl (Nat.le_of_ble_eq_true rfl) dX6_number_64 (fun w64 H locs ew hH hS => ?_)
            have hk : Kp ad wl16 w64 := Kp.set (i := 28) (by omega) ew
            have hX := hX.sS (i := 28) (3) (x := x + 1) (by unfold oS; omega) ew
            have hX := XW.cS (S2 := sup S 3 (x + 1)) hX (by funext j; simp only [sup]; by_cases h0 : j = 3; (subst h0; first | rfl | simp); simp only [h0, ↓reduceIte])
            have hK := hK.kp hk
            clear ew
            refine lv_goto (tgt := 16) X.x X.b dX6_number_67 (by decide) ?_
            exact ih16 _ (by omega) (((10 * v) + (tx x)) - 48) (n + 1) (x + 1) rfl (by rw [i16_0]; exact dig_y ⟨by omega, by omega⟩ ⟨b27.1, b27.2.1, b27.2.2⟩) (by omega) _ _ _ _ hX hK  hH hS (lv_sub hl [1, 0, 2] rfl)
          · have b27 : ¬ (x < tl ∧ 48 ≤ tx (x) ∧ tx (x) ≤ 57) := b27
            refine wz_ifeq (tgt := 70) X.x X.b dX6_number_30 (by decide) (by decide) (fun _ => ?_) (fun h => absurd h (by decide))
            have hE : digN tx tl 6 (S 3) 0 = (x, v) := by
              rw [i16_0]
              first | (rw [show (6 - n).toNat = 0 by omega]; rfl) | exact dig_n (fun q => b27 ⟨q.1, q.2.1, q.2.2⟩)
            have hlt : n = 0 → fig tx tl x := fun n0 => by rw [show x = S 3 by omega]; exact b10
            refine lv_aload_n X.x X.b dX6_number_70 rfl (lv_at hl 2 rfl) ?_
            refine lv_aload_n X.x X.b dX6_number_71 rfl (lv_at hl 2 rfl) ?_
            refine wz_bipush X.x X.b dX6_number_72 rfl ?_
            refine wz_bipush X.x X.b dX6_number_74 rfl ?_
            refine wa_ci hS (wa_rV (rest := [.ref (ad 28)]) X hH (mX6_isAt hX  48 57 (show S 2 = tl by first | assumption | omega) (show ∀ i, 0 ≤ i → i < tl → A 1 i = tx i ∧ 0 ≤ tx i ∧ tx i ≤ 127 by first | assumption | omega) (show 0 ≤ tl ∧ tl ≤ 120 by first | assumption | omega) (show 0 ≤ x ∧ x ≤ 200 by first | assumption | omega) (show 0 ≤ 48 ∧ 48 ≤ 127 by first | assumption | omega) (show 0 ≤ 57 ∧ 57 ≤ 127 by first | assumption | omega)) (cwV 2 X.t (lw_V q1459 q1461 qs41 q123 q1462) rfl rfl rfl hdX6_isAt ⟨Nat.le_of_ble_eq_true rfl, Nat.le_of_ble_eq_true rfl⟩) rfl (have h9 := (XW.c28 hX); h9) rfl rfl hl.1 rfl (Nat.le_of_ble_eq_true rfl) dX6_number_76 ⟨Nat.le_of_ble_eq_true rfl, Nat.le_of_ble_eq_true rfl⟩) (fun z w76 H locs hp hH hS => ?_)
            obtain ⟨hb, hw⟩ := hp
            rw [← hw] at hH; clear hw
            obtain rfl : z = 1 := by
              rcases hb with ⟨hq, e⟩ | ⟨hq, e⟩
              · exact e
              · exfalso; exact hno ⟨by rw [hE]; show S 3 < x; by_cases n0 : n = 0; exact absurd (hlt n0) hq; omega, by rw [hE]; exact hq⟩
            refine wz_ifne (tgt := 86) X.x X.b dX6_number_79 (by decide) (by decide) (fun _ => ?_) (fun h => absurd h (by decide))
            refine wz_iconst X.x X.b dX6_number_86 ?_
            refine wx_cx hS (wx_rV (rest := []) X hH (mX6_needs_0 hX   ) (cwV 1 X.t (lw_V q1463 q1465 qs42 q123 q1466) rfl rfl rfl hdX6_needs ⟨Nat.le_of_ble_eq_true rfl, Nat.le_of_ble_eq_true rfl⟩) rfl (have h9 := (XW.c28 hX); h9) rfl rfl hl.1 rfl (Nat.le_of_ble_eq_true rfl) dX6_number_87 ⟨Nat.le_of_ble_eq_true rfl, Nat.le_of_ble_eq_true rfl⟩) (fun E87 q87 w87 ce87 H locs hp hH hS hce87 hcv87 hcl87 => ?_)
            obtain ⟨rfl, S2_87, hX, hk, hx87_0, hx87_1⟩ := hp
            have hK := hK.kp hk
            exact wx_out X hH hS (fun x hx => (hT x hx).elim) hce87 hcv87 hcl87 (by first | exact Nat.le_of_ble_eq_true rfl | omega) (by first | exact Nat.le_of_ble_eq_true rfl | omega) ⟨rfl, S2_87, hX, hK, (fun j hj => (hx87_0 j hj).trans (by first | rfl | exact sup_n hj | (rw [sup_n hj, sup_n hj]))), (by rw [show (digN tx tl 6 (S 3) 0).1 = x by rw [hE]]; exact hx87_1)⟩
    have hX := XW.cS (S2 := sup S 3 (S 3)) hX (by funext j; simp only [sup]; by_cases h0 : j = 3; (subst h0; first | rfl | simp); simp only [h0, ↓reduceIte])
    exact L16 _ 0 0 (S 3) rfl (by rfl) (by omega) _ _ _ _ hX hK  hH hS (lv_sub hl [1, 0, 2] rfl)
  · have b10 : ¬ (S 3 < tl ∧ 48 ≤ tx (S 3) ∧ tx (S 3) ≤ 57) := b10
    refine wx_cx hS (wx_rV (rest := []) X hH (mX6_needs_0 hX   ) (cwV 1 X.t (lw_V q1463 q1465 qs42 q123 q1466) rfl rfl rfl hdX6_needs ⟨Nat.le_of_ble_eq_true rfl, Nat.le_of_ble_eq_true rfl⟩) rfl (have h9 := (XW.c28 hX); h9) rfl rfl hl.1 rfl (Nat.le_of_ble_eq_true rfl) dX6_number_13 ⟨Nat.le_of_ble_eq_true rfl, Nat.le_of_ble_eq_true rfl⟩) (fun E13 q13 w13 ce13 H locs hp hH hS hce13 hcv13 hcl13 => ?_)
    obtain ⟨rfl, S2_13, hX, hk, hx13_0, hx13_1⟩ := hp
    have hK := hK.kp hk
    exact wx_out X hH hS (fun x hx => (hT x hx).elim) hce13 hcv13 hcl13 (by first | exact Nat.le_of_ble_eq_true rfl | omega) (by first | exact Nat.le_of_ble_eq_true rfl | omega) ⟨rfl, S2_13, hX, hK, (fun j hj => (hx13_0 j hj).trans (by first | rfl | exact sup_n hj | (rw [sup_n hj, sup_n hj]))), (by rw [show (digN tx tl 6 (S 3) 0).1 = S 3 by rw [dig_n (fun q => b10 ⟨q.1, q.2.1, q.2.2⟩)]]; exact hx13_1)⟩
set_option maxRecDepth 100000 in
theorem mX6_signed_ok {lL : Launch} {G : wa_G} {ad : Nat → Nat} {w : wa_W} {S : Nat → Int} {A : Nat → Int → Int} {B : Nat → Int → Option Nat} {P : Nat → Option Nat} (hX : XW G ad w S A B P) {tx : Int → Int} {tl : Int} {p : Int}  (hS2 : S 2 = tl) (hTX : ∀ i, 0 ≤ i → i < tl → A 1 i = tx i ∧ 0 ≤ tx i ∧ tx i ≤ 127) (htl : 0 ≤ tl ∧ tl ≤ 120) (h0 : 0 ≤ S 3 ∧ S 3 ≤ tl) (hp : S 3 = skS tx tl p) (hok : okT tx tl 1 p) : Met lL yX6_signed (ws_ yX6_signed cX6_signed 3 (some FieldType.int)) ({ frames := 3, cells := 0, slots := 0, locals := 64 } : Room) (wa_P G w [.ref (ad 28)]) (wa_Qz G fun z u => z = tkV tx tl 1 p ∧ XW G ad u (sup S 3 (skS tx tl (tkP tx tl 1 p))) A B P ∧ Kp ad w u) 0 0 (wa_A G) := by
  refine wa_met (by decide) (by exact Nat.le_of_ble_eq_true rfl) ?_
  intro pP eE sS mM aA bB mT cC ls X hl hH
  have hS : va_S (wa_A G) sS.heap sS.heap [] := va_S.rf
  have hl : lv_has ls 3 [(0, .ref (ad 28))] := hl
  have hK : Kp ad w w := Kp.rf
  have hca : chA tx tl (skS tx tl p) = if S 3 < tl then tx (S 3) else -1 := by rw [← hp]; rfl
  refine lv_aload_n X.x X.b dX6_signed_0 rfl (lv_at hl 0 rfl) ?_
  refine wz_bipush X.x X.b dX6_signed_1 rfl ?_
  refine wz_bipush X.x X.b dX6_signed_3 rfl ?_
  refine wa_ci hS (wa_rV (rest := []) X hH (mX6_isAt hX  45 45 (show S 2 = tl by first | assumption | omega) (show ∀ i, 0 ≤ i → i < tl → A 1 i = tx i ∧ 0 ≤ tx i ∧ tx i ≤ 127 by first | assumption | omega) (show 0 ≤ tl ∧ tl ≤ 120 by first | assumption | omega) (show 0 ≤ S 3 ∧ S 3 ≤ 200 by first | assumption | omega) (show 0 ≤ 45 ∧ 45 ≤ 127 by first | assumption | omega) (show 0 ≤ 45 ∧ 45 ≤ 127 by first | assumption | omega)) (cwV 2 X.t (lw_V q1459 q1461 qs41 q123 q1462) rfl rfl rfl hdX6_isAt ⟨Nat.le_of_ble_eq_true rfl, Nat.le_of_ble_eq_true rfl⟩) rfl (have h9 := (XW.c28 hX); h9) rfl rfl hl.1 rfl (Nat.le_of_ble_eq_true rfl) dX6_signed_5 ⟨Nat.le_of_ble_eq_true rfl, Nat.le_of_ble_eq_true rfl⟩) (fun z w5 H locs hp hH hS => ?_)
  obtain ⟨hb, hw⟩ := hp
  rw [← hw] at hH; clear hw
  rcases hb with ⟨b5, rfl⟩ | ⟨b5, rfl⟩
  · have b5 : (S 3 < tl ∧ 45 ≤ tx (S 3) ∧ tx (S 3) ≤ 45) := b5
    refine lv_istore_n (lv' := [(1, .int (zI 1)), (0, .ref (ad 28))]) X.x X.b dX6_signed_8 rfl hl (by decide) rfl (fun ls hl => ?_)
    refine lv_aload_n X.x X.b dX6_signed_9 rfl (lv_at hl 1 rfl) ?_
    refine lv_dup X.x X.b dX6_signed_10 rfl ?_
    refine wa_get (v := .int (zI (S 3))) X hH (have h9 := (XW.c28 hX); h9) wcX6 0 (by decide) q408 rfl (fun _ h9 => h9) rfl dX6_signed_11 ?_
    refine lv_iload_n X.x X.b dX6_signed_14 rfl (lv_at hl 0 rfl) ?_
    refine wz_ifeq (tgt := 22) X.x X.b dX6_signed_15 (by decide) (by decide) (fun h => absurd h (by decide)) (fun _ => ?_)
    refine wz_iconst X.x X.b dX6_signed_18 ?_
    refine lv_goto (tgt := 23) X.x X.b dX6_signed_19 (by decide) ?_
    refine wz_iadd X.x X.b dX6_signed_23 ?_
    refine wa_put X hH hS (have h9 := (XW.c28 hX); h9) wcX6 0 (by decide) q408 rfl (fun _ h9 => h9) rfl rfl rfl (Nat.le_of_ble_eq_true rfl) dX6_signed_24 (fun w24 H locs ew hH hS => ?_)
    have hk : Kp ad w w24 := Kp.set (i := 28) (by omega) ew
    have hX := hX.sS (i := 28) (3) (x := (S 3) + 1) (by unfold oS; omega) ew
    have hK := hK.kp hk
    clear ew
    have htk : tk0 tx tl 1 p = S 3 + 1 := by unfold tk0; rw [if_pos ⟨by rw [hca, if_pos b5.1]; omega, rfl⟩, hp]
    refine lv_aload_n X.x X.b dX6_signed_27 rfl (lv_at hl 1 rfl) ?_
    refine wa_ci hS (wa_rV (rest := []) X hH (mX6_number_ok hX   (show S 2 = tl by first | assumption | omega) (show ∀ i, 0 ≤ i → i < tl → A 1 i = tx i ∧ 0 ≤ tx i ∧ tx i ≤ 127 by first | assumption | omega) (show 0 ≤ tl ∧ tl ≤ 120 by first | assumption | omega) (show 0 ≤ ((S 3) + 1) ∧ ((S 3) + 1) ≤ tl by first | assumption | omega) (by have h9 := hok; unfold okT tkP at h9; rw [htk] at h9; exact h9)) (cwV 0 X.t (lw_V q1499 q1501 qs45 q123 q1502) rfl rfl rfl hdX6_number ⟨Nat.le_of_ble_eq_true rfl, Nat.le_of_ble_eq_true rfl⟩) rfl (have h9 := (XW.c28 hX); h9) rfl rfl hl.1 rfl (Nat.le_of_ble_eq_true rfl) dX6_signed_28 ⟨Nat.le_of_ble_eq_true rfl, Nat.le_of_ble_eq_true rfl⟩) (fun z w28 H locs hp hH hS => ?_)
    obtain ⟨rfl, ⟨hX, hk⟩⟩ := hp
    refine wz_is (z := (digN tx tl 6 (((S 3) + 1)) 0).2) (by rfl) ?_
    have hK := hK.kp hk
    refine lv_istore_n (lv' := [(2, .int (zI ((digN tx tl 6 (((S 3) + 1)) 0).2))), (1, .int (zI 1)), (0, .ref (ad 28))]) X.x X.b dX6_signed_31 rfl hl (by decide) rfl (fun ls hl => ?_)
    refine lv_iload_n X.x X.b dX6_signed_32 rfl (lv_at hl 1 rfl) ?_
    refine wz_ifeq (tgt := 41) X.x X.b dX6_signed_33 (by decide) (by decide) (fun h => absurd h (by decide)) (fun _ => ?_)
    refine lv_iload_n X.x X.b dX6_signed_36 rfl (lv_at hl 0 rfl) ?_
    refine wz_ineg X.x X.b dX6_signed_37 ?_
    refine lv_goto (tgt := 42) X.x X.b dX6_signed_38 (by decide) ?_
    exact wa_iret X hH hS dX6_signed_42 ⟨by unfold tkV; rw [htk]; first | (rw [if_pos ⟨by rw [hca, if_pos b5.1]; omega, rfl⟩]) | (rw [if_neg (fun q => b5 (by have h9 := q.1; rw [hca] at h9; split at h9 <;> omega))]), ⟨by unfold tkP; rw [htk]; have h9 := hX; rw [sup_sup9] at h9; exact h9, hK⟩⟩
  · have b5 : ¬ (S 3 < tl ∧ 45 ≤ tx (S 3) ∧ tx (S 3) ≤ 45) := b5
    refine lv_istore_n (lv' := [(1, .int (zI 0)), (0, .ref (ad 28))]) X.x X.b dX6_signed_8 rfl hl (by decide) rfl (fun ls hl => ?_)
    refine lv_aload_n X.x X.b dX6_signed_9 rfl (lv_at hl 1 rfl) ?_
    refine lv_dup X.x X.b dX6_signed_10 rfl ?_
    refine wa_get (v := .int (zI (S 3))) X hH (have h9 := (XW.c28 hX); h9) wcX6 0 (by decide) q408 rfl (fun _ h9 => h9) rfl dX6_signed_11 ?_
    refine lv_iload_n X.x X.b dX6_signed_14 rfl (lv_at hl 0 rfl) ?_
    refine wz_ifeq (tgt := 22) X.x X.b dX6_signed_15 (by decide) (by decide) (fun _ => ?_) (fun h => absurd h (by decide))
    refine wz_iconst X.x X.b dX6_signed_22 ?_
    refine wz_iadd X.x X.b dX6_signed_23 ?_
    refine wa_put X hH hS (have h9 := (XW.c28 hX); h9) wcX6 0 (by decide) q408 rfl (fun _ h9 => h9) rfl rfl rfl (Nat.le_of_ble_eq_true rfl) dX6_signed_24 (fun w24 H locs ew hH hS => ?_)
    have hk : Kp ad w w24 := Kp.set (i := 28) (by omega) ew
    have hX := hX.sS (i := 28) (3) (x := (S 3) + 0) (by unfold oS; omega) ew
    have hK := hK.kp hk
    clear ew
    have htk : tk0 tx tl 1 p = S 3 + 0 := by unfold tk0; rw [if_neg (fun q => b5 (by have h9 := q.1; rw [hca] at h9; split at h9 <;> omega)), hp]; omega
    refine lv_aload_n X.x X.b dX6_signed_27 rfl (lv_at hl 1 rfl) ?_
    refine wa_ci hS (wa_rV (rest := []) X hH (mX6_number_ok hX   (show S 2 = tl by first | assumption | omega) (show ∀ i, 0 ≤ i → i < tl → A 1 i = tx i ∧ 0 ≤ tx i ∧ tx i ≤ 127 by first | assumption | omega) (show 0 ≤ tl ∧ tl ≤ 120 by first | assumption | omega) (show 0 ≤ ((S 3) + 0) ∧ ((S 3) + 0) ≤ tl by first | assumption | omega) (by have h9 := hok; unfold okT tkP at h9; rw [htk] at h9; exact h9)) (cwV 0 X.t (lw_V q1499 q1501 qs45 q123 q1502) rfl rfl rfl hdX6_number ⟨Nat.le_of_ble_eq_true rfl, Nat.le_of_ble_eq_true rfl⟩) rfl (have h9 := (XW.c28 hX); h9) rfl rfl hl.1 rfl (Nat.le_of_ble_eq_true rfl) dX6_signed_28 ⟨Nat.le_of_ble_eq_true rfl, Nat.le_of_ble_eq_true rfl⟩) (fun z w28 H locs hp hH hS => ?_)
    obtain ⟨rfl, ⟨hX, hk⟩⟩ := hp
    refine wz_is (z := (digN tx tl 6 (((S 3) + 0)) 0).2) (by rfl) ?_
    have hK := hK.kp hk
    refine lv_istore_n (lv' := [(2, .int (zI ((digN tx tl 6 (((S 3) + 0)) 0).2))), (1, .int (zI 0)), (0, .ref (ad 28))]) X.x X.b dX6_signed_31 rfl hl (by decide) rfl (fun ls hl => ?_)
    refine lv_iload_n X.x X.b dX6_signed_32 rfl (lv_at hl 1 rfl) ?_
    refine wz_ifeq (tgt := 41) X.x X.b dX6_signed_33 (by decide) (by decide) (fun _ => ?_) (fun h => absurd h (by decide))
    refine lv_iload_n X.x X.b dX6_signed_41 rfl (lv_at hl 0 rfl) ?_
    exact wa_iret X hH hS dX6_signed_42 ⟨by unfold tkV; rw [htk]; first | (rw [if_pos ⟨by rw [hca, if_pos b5.1]; omega, rfl⟩]) | (rw [if_neg (fun q => b5 (by have h9 := q.1; rw [hca] at h9; split at h9 <;> omega))]), ⟨by unfold tkP; rw [htk]; have h9 := hX; rw [sup_sup9] at h9; exact h9, hK⟩⟩
set_option maxRecDepth 100000 in
theorem mX6_signed_no {lL : Launch} {G : wa_G} {ad : Nat → Nat} {w : wa_W} {S : Nat → Int} {A : Nat → Int → Int} {B : Nat → Int → Option Nat} {P : Nat → Option Nat} (hX : XW G ad w S A B P) {tx : Int → Int} {tl : Int} {p : Int}  (hS2 : S 2 = tl) (hTX : ∀ i, 0 ≤ i → i < tl → A 1 i = tx i ∧ 0 ≤ tx i ∧ tx i ≤ 127) (htl : 0 ≤ tl ∧ tl ≤ 120) (h0 : 0 ≤ S 3 ∧ S 3 ≤ tl) (hp : S 3 = skS tx tl p) (hno : ¬ okT tx tl 1 p) : wx_Thr lL yX6_signed (ws_ yX6_signed cX6_signed 3 (some FieldType.int)) ({ frames := 6, cells := 1, slots := 7, locals := 132 } : Room) G w [.ref (ad 28)] (fun E q u => E = "PictureRing$Fault" ∧ ∃ (S2 : Nat → Int), XW G ad u S2 A B P ∧ Kp ad w u ∧ (∀ j, j ≠ 3 → S2 j = S j) ∧ Lc ad u q (eO 12 [va_rf none, .null, .null, va_rf none, .null, .int (zI 0), .int (zI (tkP tx tl 1 p))])) 1 7 := by
  refine wx_met (by decide) (by exact Nat.le_of_ble_eq_true rfl) ?_
  intro pP eE sS mM aA bB mT cC ls X hT hl hH
  have hS : va_S (wa_A G) sS.heap sS.heap [] := va_S.rf
  have hl : lv_has ls 3 [(0, .ref (ad 28))] := hl
  have hK : Kp ad w w := Kp.rf
  have hca : chA tx tl (skS tx tl p) = if S 3 < tl then tx (S 3) else -1 := by rw [← hp]; rfl
  refine lv_aload_n X.x X.b dX6_signed_0 rfl (lv_at hl 0 rfl) ?_
  refine wz_bipush X.x X.b dX6_signed_1 rfl ?_
  refine wz_bipush X.x X.b dX6_signed_3 rfl ?_
  refine wa_ci hS (wa_rV (rest := []) X hH (mX6_isAt hX  45 45 (show S 2 = tl by first | assumption | omega) (show ∀ i, 0 ≤ i → i < tl → A 1 i = tx i ∧ 0 ≤ tx i ∧ tx i ≤ 127 by first | assumption | omega) (show 0 ≤ tl ∧ tl ≤ 120 by first | assumption | omega) (show 0 ≤ S 3 ∧ S 3 ≤ 200 by first | assumption | omega) (show 0 ≤ 45 ∧ 45 ≤ 127 by first | assumption | omega) (show 0 ≤ 45 ∧ 45 ≤ 127 by first | assumption | omega)) (cwV 2 X.t (lw_V q1459 q1461 qs41 q123 q1462) rfl rfl rfl hdX6_isAt ⟨Nat.le_of_ble_eq_true rfl, Nat.le_of_ble_eq_true rfl⟩) rfl (have h9 := (XW.c28 hX); h9) rfl rfl hl.1 rfl (Nat.le_of_ble_eq_true rfl) dX6_signed_5 ⟨Nat.le_of_ble_eq_true rfl, Nat.le_of_ble_eq_true rfl⟩) (fun z w5 H locs hp hH hS => ?_)
  obtain ⟨hb, hw⟩ := hp
  rw [← hw] at hH; clear hw
  rcases hb with ⟨b5, rfl⟩ | ⟨b5, rfl⟩
  · have b5 : (S 3 < tl ∧ 45 ≤ tx (S 3) ∧ tx (S 3) ≤ 45) := b5
    refine lv_istore_n (lv' := [(1, .int (zI 1)), (0, .ref (ad 28))]) X.x X.b dX6_signed_8 rfl hl (by decide) rfl (fun ls hl => ?_)
    refine lv_aload_n X.x X.b dX6_signed_9 rfl (lv_at hl 1 rfl) ?_
    refine lv_dup X.x X.b dX6_signed_10 rfl ?_
    refine wa_get (v := .int (zI (S 3))) X hH (have h9 := (XW.c28 hX); h9) wcX6 0 (by decide) q408 rfl (fun _ h9 => h9) rfl dX6_signed_11 ?_
    refine lv_iload_n X.x X.b dX6_signed_14 rfl (lv_at hl 0 rfl) ?_
    refine wz_ifeq (tgt := 22) X.x X.b dX6_signed_15 (by decide) (by decide) (fun h => absurd h (by decide)) (fun _ => ?_)
    refine wz_iconst X.x X.b dX6_signed_18 ?_
    refine lv_goto (tgt := 23) X.x X.b dX6_signed_19 (by decide) ?_
    refine wz_iadd X.x X.b dX6_signed_23 ?_
    refine wa_put X hH hS (have h9 := (XW.c28 hX); h9) wcX6 0 (by decide) q408 rfl (fun _ h9 => h9) rfl rfl rfl (Nat.le_of_ble_eq_true rfl) dX6_signed_24 (fun w24 H locs ew hH hS => ?_)
    have hk : Kp ad w w24 := Kp.set (i := 28) (by omega) ew
    have hX := hX.sS (i := 28) (3) (x := (S 3) + 1) (by unfold oS; omega) ew
    have hK := hK.kp hk
    clear ew
    have htk : tk0 tx tl 1 p = S 3 + 1 := by unfold tk0; rw [if_pos ⟨by rw [hca, if_pos b5.1]; omega, rfl⟩, hp]
    refine lv_aload_n X.x X.b dX6_signed_27 rfl (lv_at hl 1 rfl) ?_
    refine wx_cx hS (wx_rV (rest := []) X hH (mX6_number_no hX   (show S 2 = tl by first | assumption | omega) (show ∀ i, 0 ≤ i → i < tl → A 1 i = tx i ∧ 0 ≤ tx i ∧ tx i ≤ 127 by first | assumption | omega) (show 0 ≤ tl ∧ tl ≤ 120 by first | assumption | omega) (show 0 ≤ ((S 3) + 1) ∧ ((S 3) + 1) ≤ tl by first | assumption | omega) (by have h9 := hno; unfold okT tkP at h9; rw [htk] at h9; exact h9)) (cwV 0 X.t (lw_V q1499 q1501 qs45 q123 q1502) rfl rfl rfl hdX6_number ⟨Nat.le_of_ble_eq_true rfl, Nat.le_of_ble_eq_true rfl⟩) rfl (have h9 := (XW.c28 hX); h9) rfl rfl hl.1 rfl (Nat.le_of_ble_eq_true rfl) dX6_signed_28 ⟨Nat.le_of_ble_eq_true rfl, Nat.le_of_ble_eq_true rfl⟩) (fun E28 q28 w28 ce28 H locs hp hH hS hce28 hcv28 hcl28 => ?_)
    obtain ⟨rfl, S2_28, hX, hk, hx28_0, hx28_1⟩ := hp
    have hK := hK.kp hk
    exact wx_out X hH hS (fun x hx => (hT x hx).elim) hce28 hcv28 hcl28 (by first | exact Nat.le_of_ble_eq_true rfl | omega) (by first | exact Nat.le_of_ble_eq_true rfl | omega) ⟨rfl, S2_28, hX, hK, (fun j hj => (hx28_0 j hj).trans (by first | rfl | exact sup_n hj | (rw [sup_n hj, sup_n hj]))), (by rw [show tkP tx tl 1 p = (digN tx tl 6 (tk0 tx tl 1 p) 0).1 from rfl, htk]; exact hx28_1)⟩
  · have b5 : ¬ (S 3 < tl ∧ 45 ≤ tx (S 3) ∧ tx (S 3) ≤ 45) := b5
    refine lv_istore_n (lv' := [(1, .int (zI 0)), (0, .ref (ad 28))]) X.x X.b dX6_signed_8 rfl hl (by decide) rfl (fun ls hl => ?_)
    refine lv_aload_n X.x X.b dX6_signed_9 rfl (lv_at hl 1 rfl) ?_
    refine lv_dup X.x X.b dX6_signed_10 rfl ?_
    refine wa_get (v := .int (zI (S 3))) X hH (have h9 := (XW.c28 hX); h9) wcX6 0 (by decide) q408 rfl (fun _ h9 => h9) rfl dX6_signed_11 ?_
    refine lv_iload_n X.x X.b dX6_signed_14 rfl (lv_at hl 0 rfl) ?_
    refine wz_ifeq (tgt := 22) X.x X.b dX6_signed_15 (by decide) (by decide) (fun _ => ?_) (fun h => absurd h (by decide))
    refine wz_iconst X.x X.b dX6_signed_22 ?_
    refine wz_iadd X.x X.b dX6_signed_23 ?_
    refine wa_put X hH hS (have h9 := (XW.c28 hX); h9) wcX6 0 (by decide) q408 rfl (fun _ h9 => h9) rfl rfl rfl (Nat.le_of_ble_eq_true rfl) dX6_signed_24 (fun w24 H locs ew hH hS => ?_)
    have hk : Kp ad w w24 := Kp.set (i := 28) (by omega) ew
    have hX := hX.sS (i := 28) (3) (x := (S 3) + 0) (by unfold oS; omega) ew
    have hK := hK.kp hk
    clear ew
    have htk : tk0 tx tl 1 p = S 3 + 0 := by unfold tk0; rw [if_neg (fun q => b5 (by have h9 := q.1; rw [hca] at h9; split at h9 <;> omega)), hp]; omega
    refine lv_aload_n X.x X.b dX6_signed_27 rfl (lv_at hl 1 rfl) ?_
    refine wx_cx hS (wx_rV (rest := []) X hH (mX6_number_no hX   (show S 2 = tl by first | assumption | omega) (show ∀ i, 0 ≤ i → i < tl → A 1 i = tx i ∧ 0 ≤ tx i ∧ tx i ≤ 127 by first | assumption | omega) (show 0 ≤ tl ∧ tl ≤ 120 by first | assumption | omega) (show 0 ≤ ((S 3) + 0) ∧ ((S 3) + 0) ≤ tl by first | assumption | omega) (by have h9 := hno; unfold okT tkP at h9; rw [htk] at h9; exact h9)) (cwV 0 X.t (lw_V q1499 q1501 qs45 q123 q1502) rfl rfl rfl hdX6_number ⟨Nat.le_of_ble_eq_true rfl, Nat.le_of_ble_eq_true rfl⟩) rfl (have h9 := (XW.c28 hX); h9) rfl rfl hl.1 rfl (Nat.le_of_ble_eq_true rfl) dX6_signed_28 ⟨Nat.le_of_ble_eq_true rfl, Nat.le_of_ble_eq_true rfl⟩) (fun E28 q28 w28 ce28 H locs hp hH hS hce28 hcv28 hcl28 => ?_)
    obtain ⟨rfl, S2_28, hX, hk, hx28_0, hx28_1⟩ := hp
    have hK := hK.kp hk
    exact wx_out X hH hS (fun x hx => (hT x hx).elim) hce28 hcv28 hcl28 (by first | exact Nat.le_of_ble_eq_true rfl | omega) (by first | exact Nat.le_of_ble_eq_true rfl | omega) ⟨rfl, S2_28, hX, hK, (fun j hj => (hx28_0 j hj).trans (by first | rfl | exact sup_n hj | (rw [sup_n hj, sup_n hj]))), (by rw [show tkP tx tl 1 p = (digN tx tl 6 (tk0 tx tl 1 p) 0).1 from rfl, htk]; exact hx28_1)⟩

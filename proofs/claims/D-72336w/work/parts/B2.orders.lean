/-! READER: one, more -/
set_option maxRecDepth 100000 in
theorem mX6_one_ok {lL : Launch} {G : wa_G} {ad : Nat → Nat} {w : wa_W} {S : Nat → Int} {A : Nat → Int → Int} {B : Nat → Int → Option Nat} {P : Nat → Option Nat} (hX : XW G ad w S A B P) {tx : Int → Int} {tl : Int} {p : Int}  (c : Int) (hS2 : S 2 = tl) (hTX : ∀ i, 0 ≤ i → i < tl → A 1 i = tx i ∧ 0 ≤ tx i ∧ tx i ≤ 127) (htl : 0 ≤ tl ∧ tl ≤ 120) (h0 : 0 ≤ S 3 ∧ S 3 ≤ tl) (hp : S 3 = skS tx tl p) (hok : okT tx tl 0 p) (hc : c = 116 ∨ c = 97 ∨ c = 120) : Met lL yX6_one (ws_ yX6_one cX6_one 3 (some (FieldType.object "PictureRing$Deed"))) ({ frames := 3, cells := 1, slots := 2, locals := 3096 } : Room) (wa_P G w [.ref (ad 28), .int (zI c)]) (wa_Qr G fun r u => ∃ (qd : Nat), XW G ad u (sup S 3 (skS tx tl (tkP tx tl 0 p))) A B P ∧ Kp ad w u ∧ (r = some qd) ∧ (Dd G ad u qd c (taV tx tl (-1) p))) 1 2 (wa_A G) := by
  refine wa_met (by decide) (by exact Nat.le_of_ble_eq_true rfl) ?_
  intro pP eE sS mM aA bB mT cC ls X hl hH
  have hS : va_S (wa_A G) sS.heap sS.heap [] := va_S.rf
  have hl : lv_has ls 3 [(0, .ref (ad 28)), (1, .int (zI c))] := hl
  have hK : Kp ad w w := Kp.rf
  refine lv_aload_n X.x X.b dX6_one_0 rfl (lv_at hl 0 rfl) ?_
  refine wa_ci hS (wa_rV (rest := []) X hH (mX6_number_ok hX   (show S 2 = tl by first | assumption | omega) (show ∀ i, 0 ≤ i → i < tl → A 1 i = tx i ∧ 0 ≤ tx i ∧ tx i ≤ 127 by first | assumption | omega) (show 0 ≤ tl ∧ tl ≤ 120 by first | assumption | omega) (show 0 ≤ S 3 ∧ S 3 ≤ tl by first | assumption | omega) (by rw [hp]; exact okT_0.mp hok)) (cwV 0 X.t (lw_V q1499 q1501 qs45 q123 q1502) rfl rfl rfl hdX6_number ⟨Nat.le_of_ble_eq_true rfl, Nat.le_of_ble_eq_true rfl⟩) rfl (have h9 := (XW.c28 hX); h9) rfl rfl hl.1 rfl (Nat.le_of_ble_eq_true rfl) dX6_one_1 ⟨Nat.le_of_ble_eq_true rfl, Nat.le_of_ble_eq_true rfl⟩) (fun z w1 H locs hp hH hS => ?_)
  obtain ⟨rfl, ⟨hX, hk⟩⟩ := hp
  have hK := hK.kp hk
  refine wz_is (z := tkV tx tl 0 p) (by rw [tkV_0, hp]) ?_
  refine lv_istore_n (lv' := [(2, .int (zI (tkV tx tl 0 p))), (0, .ref (ad 28)), (1, .int (zI c))]) X.x X.b dX6_one_4 rfl hl (by decide) rfl (fun ls hl => ?_)
  refine lv_iload_n X.x X.b dX6_one_5 rfl (lv_at hl 2 rfl) ?_
  refine wz_bipush X.x X.b dX6_one_6 rfl ?_
  refine wz_icmp_ne (tgt := 21) X.x X.b dX6_one_8 (by decide) ⟨by omega, by omega⟩ ⟨by omega, by omega⟩ (fun c8 => ?_) (fun c8 => ?_)
  · refine lv_iload_n X.x X.b dX6_one_21 rfl (lv_at hl 2 rfl) ?_
    refine wz_bipush X.x X.b dX6_one_22 rfl ?_
    refine wz_icmp_ne (tgt := 37) X.x X.b dX6_one_24 (by decide) ⟨by omega, by omega⟩ ⟨by omega, by omega⟩ (fun c24 => ?_) (fun c24 => ?_)
    · refine lv_aload_n X.x X.b dX6_one_37 rfl (lv_at hl 1 rfl) ?_
      refine lv_iload_n X.x X.b dX6_one_38 rfl (lv_at hl 0 rfl) ?_
      have hX_39 := hX
      have hK_39 := hK
      refine wb_lam (rest := []) (vals := [.ref (ad 28), .int (zI (tkV tx tl 0 p))]) (sh := wbS9) (num := 25) (D := wbD9) (laid := wbL9) X hH hS (wb_hO (X.t _ q2102)) (List.mem_of_getElem? (i := 8) rfl) wbD9_is wbL9_is wbL9_t (by rw [wbC9]; rfl) (by rw [wbC9]; exact (lamOK.cons ⟨rfl, rfl⟩ (lamOK.cons ⟨rfl, rfl⟩ lamOK.nil))) rfl hl.1 (Nat.le_of_ble_eq_true rfl) (Nat.le_of_ble_eq_true rfl) (Nat.le_of_ble_eq_true rfl) dX6_one_39 (fun nq39 w39 H hn39 ew hH hS => ?_)
      have hk0 := Ext.new hn39 ew
      have hX := hX.ext hk0
      have hk := hk0.k (ad := ad)
      have hK := hK.kp hk
      have hN39 := hk
      have n39 : Lc ad w39 nq39 (.inr { cls := G.2.1 25, slots := #[.ref (ad 28), .int (zI (tkV tx tl 0 p))], vm := .none }) := Lc.new hX_39 hn39 (by rw [ew]; exact wup_s)
      clear ew hk0
      refine W.widen (k := 1) (n := 2) (by first | exact Nat.le_of_ble_eq_true rfl | omega) (by first | exact Nat.le_of_ble_eq_true rfl | omega) ?_
      exact wa_aret X (Or.inl ⟨_, rfl⟩) hH hS (some nq39) dX6_one_44 ⟨_, (by rw [tkP_0, ← hp]; exact hX), hK, rfl, (by refine ⟨?_, ?_, ?_, ?_, ?_, ?_, ?_⟩ <;> intro e9 <;> first | (exfalso; omega) | (rw [taV_0 _ _ _ _ (by decide)]; exact n39))⟩
    · refine lv_aload_n X.x X.b dX6_one_27 rfl (lv_at hl 1 rfl) ?_
      refine lv_iload_n X.x X.b dX6_one_28 rfl (lv_at hl 0 rfl) ?_
      have hX_29 := hX
      have hK_29 := hK
      refine wb_lam (rest := []) (vals := [.ref (ad 28), .int (zI (tkV tx tl 0 p))]) (sh := wbS8) (num := 24) (D := wbD8) (laid := wbL8) X hH hS (wb_hO (X.t _ q2102)) (List.mem_of_getElem? (i := 7) rfl) wbD8_is wbL8_is wbL8_t (by rw [wbC8]; rfl) (by rw [wbC8]; exact (lamOK.cons ⟨rfl, rfl⟩ (lamOK.cons ⟨rfl, rfl⟩ lamOK.nil))) rfl hl.1 (Nat.le_of_ble_eq_true rfl) (Nat.le_of_ble_eq_true rfl) (Nat.le_of_ble_eq_true rfl) dX6_one_29 (fun nq29 w29 H hn29 ew hH hS => ?_)
      have hk0 := Ext.new hn29 ew
      have hX := hX.ext hk0
      have hk := hk0.k (ad := ad)
      have hK := hK.kp hk
      have hN29 := hk
      have n29 : Lc ad w29 nq29 (.inr { cls := G.2.1 24, slots := #[.ref (ad 28), .int (zI (tkV tx tl 0 p))], vm := .none }) := Lc.new hX_29 hn29 (by rw [ew]; exact wup_s)
      clear ew hk0
      refine lv_goto (tgt := 44) X.x X.b dX6_one_34 (by decide) ?_
      refine W.widen (k := 1) (n := 2) (by first | exact Nat.le_of_ble_eq_true rfl | omega) (by first | exact Nat.le_of_ble_eq_true rfl | omega) ?_
      exact wa_aret X (Or.inl ⟨_, rfl⟩) hH hS (some nq29) dX6_one_44 ⟨_, (by rw [tkP_0, ← hp]; exact hX), hK, rfl, (by refine ⟨?_, ?_, ?_, ?_, ?_, ?_, ?_⟩ <;> intro e9 <;> first | (exfalso; omega) | (rw [taV_0 _ _ _ _ (by decide)]; exact n29))⟩
  · refine lv_aload_n X.x X.b dX6_one_11 rfl (lv_at hl 1 rfl) ?_
    refine lv_iload_n X.x X.b dX6_one_12 rfl (lv_at hl 0 rfl) ?_
    have hX_13 := hX
    have hK_13 := hK
    refine wb_lam (rest := []) (vals := [.ref (ad 28), .int (zI (tkV tx tl 0 p))]) (sh := wbS7) (num := 23) (D := wbD7) (laid := wbL7) X hH hS (wb_hO (X.t _ q2102)) (List.mem_of_getElem? (i := 6) rfl) wbD7_is wbL7_is wbL7_t (by rw [wbC7]; rfl) (by rw [wbC7]; exact (lamOK.cons ⟨rfl, rfl⟩ (lamOK.cons ⟨rfl, rfl⟩ lamOK.nil))) rfl hl.1 (Nat.le_of_ble_eq_true rfl) (Nat.le_of_ble_eq_true rfl) (Nat.le_of_ble_eq_true rfl) dX6_one_13 (fun nq13 w13 H hn13 ew hH hS => ?_)
    have hk0 := Ext.new hn13 ew
    have hX := hX.ext hk0
    have hk := hk0.k (ad := ad)
    have hK := hK.kp hk
    have hN13 := hk
    have n13 : Lc ad w13 nq13 (.inr { cls := G.2.1 23, slots := #[.ref (ad 28), .int (zI (tkV tx tl 0 p))], vm := .none }) := Lc.new hX_13 hn13 (by rw [ew]; exact wup_s)
    clear ew hk0
    refine lv_goto (tgt := 44) X.x X.b dX6_one_18 (by decide) ?_
    refine W.widen (k := 1) (n := 2) (by first | exact Nat.le_of_ble_eq_true rfl | omega) (by first | exact Nat.le_of_ble_eq_true rfl | omega) ?_
    exact wa_aret X (Or.inl ⟨_, rfl⟩) hH hS (some nq13) dX6_one_44 ⟨_, (by rw [tkP_0, ← hp]; exact hX), hK, rfl, (by refine ⟨?_, ?_, ?_, ?_, ?_, ?_, ?_⟩ <;> intro e9 <;> first | (exfalso; omega) | (rw [taV_0 _ _ _ _ (by decide)]; exact n13))⟩
set_option maxRecDepth 100000 in
theorem mX6_one_no {lL : Launch} {G : wa_G} {ad : Nat → Nat} {w : wa_W} {S : Nat → Int} {A : Nat → Int → Int} {B : Nat → Int → Option Nat} {P : Nat → Option Nat} (hX : XW G ad w S A B P) {tx : Int → Int} {tl : Int} {p : Int}  (c : Int) (hS2 : S 2 = tl) (hTX : ∀ i, 0 ≤ i → i < tl → A 1 i = tx i ∧ 0 ≤ tx i ∧ tx i ≤ 127) (htl : 0 ≤ tl ∧ tl ≤ 120) (h0 : 0 ≤ S 3 ∧ S 3 ≤ tl) (hp : S 3 = skS tx tl p) (hno : ¬ okT tx tl 0 p) : wx_Thr lL yX6_one (ws_ yX6_one cX6_one 3 (some (FieldType.object "PictureRing$Deed"))) ({ frames := 6, cells := 1, slots := 7, locals := 132 } : Room) G w [.ref (ad 28), .int (zI c)] (fun E q u => E = "PictureRing$Fault" ∧ ∃ (S2 : Nat → Int), XW G ad u S2 A B P ∧ Kp ad w u ∧ (∀ j, j ≠ 3 → S2 j = S j) ∧ Lc ad u q (eO 12 [va_rf none, .null, .null, va_rf none, .null, .int (zI 0), .int (zI (tkP tx tl 0 p))])) 1 7 := by
  refine wx_met (by decide) (by exact Nat.le_of_ble_eq_true rfl) ?_
  intro pP eE sS mM aA bB mT cC ls X hT hl hH
  have hS : va_S (wa_A G) sS.heap sS.heap [] := va_S.rf
  have hl : lv_has ls 3 [(0, .ref (ad 28)), (1, .int (zI c))] := hl
  have hK : Kp ad w w := Kp.rf
  refine lv_aload_n X.x X.b dX6_one_0 rfl (lv_at hl 0 rfl) ?_
  refine wx_cx hS (wx_rV (rest := []) X hH (mX6_number_no hX   (show S 2 = tl by first | assumption | omega) (show ∀ i, 0 ≤ i → i < tl → A 1 i = tx i ∧ 0 ≤ tx i ∧ tx i ≤ 127 by first | assumption | omega) (show 0 ≤ tl ∧ tl ≤ 120 by first | assumption | omega) (show 0 ≤ S 3 ∧ S 3 ≤ tl by first | assumption | omega) (by rw [hp]; exact fun q => hno (okT_0.mpr q))) (cwV 0 X.t (lw_V q1499 q1501 qs45 q123 q1502) rfl rfl rfl hdX6_number ⟨Nat.le_of_ble_eq_true rfl, Nat.le_of_ble_eq_true rfl⟩) rfl (have h9 := (XW.c28 hX); h9) rfl rfl hl.1 rfl (Nat.le_of_ble_eq_true rfl) dX6_one_1 ⟨Nat.le_of_ble_eq_true rfl, Nat.le_of_ble_eq_true rfl⟩) (fun E1 q1 w1 ce1 H locs hp hH hS hce1 hcv1 hcl1 => ?_)
  obtain ⟨rfl, S2_1, hX, hk, hx1_0, hx1_1⟩ := hp
  have hK := hK.kp hk
  exact wx_out X hH hS (fun x hx => (hT x hx).elim) hce1 hcv1 hcl1 (by first | exact Nat.le_of_ble_eq_true rfl | omega) (by first | exact Nat.le_of_ble_eq_true rfl | omega) ⟨rfl, S2_1, hX, hK, (fun j hj => (hx1_0 j hj).trans (by first | rfl | exact sup_n hj | (rw [sup_n hj, sup_n hj]))), (by rw [tkP_0, ← hp]; exact hx1_1)⟩
set_option maxRecDepth 100000 in
theorem mX6_more_ok {lL : Launch} {G : wa_G} {ad : Nat → Nat} {w : wa_W} {S : Nat → Int} {A : Nat → Int → Int} {B : Nat → Int → Option Nat} {P : Nat → Option Nat} (hX : XW G ad w S A B P) {tx : Int → Int} {tl : Int} {p : Int}  (c : Int) (hS2 : S 2 = tl) (hTX : ∀ i, 0 ≤ i → i < tl → A 1 i = tx i ∧ 0 ≤ tx i ∧ tx i ≤ 127) (htl : 0 ≤ tl ∧ tl ≤ 120) (h0 : 0 ≤ S 3 ∧ S 3 ≤ tl) (hp : S 3 = skS tx tl p) (hok : taO tx tl (sgO c) (nmO c).toNat 0 p) (hc : c = 119 ∨ c = 115 ∨ c = 99 ∨ c = 112) : Met lL yX6_more (ws_ yX6_more cX6_more 6 (some (FieldType.object "PictureRing$Deed"))) ({ frames := 4, cells := 1, slots := 5, locals := 3096 } : Room) (wa_P G w [.ref (ad 28), .int (zI c)]) (wa_Qr G fun r u => ∃ (qd : Nat), XW G ad u (sup S 3 (skS tx tl (taP tx tl (sgO c) (nmO c).toNat 0 p))) A B P ∧ Kp ad w u ∧ (r = some qd) ∧ (Dd G ad u qd c (taV tx tl (sgO c) p))) 1 5 (wa_A G) := by
  refine wa_met (by decide) (by exact Nat.le_of_ble_eq_true rfl) ?_
  intro pP eE sS mM aA bB mT cC ls X hl hH
  have hS : va_S (wa_A G) sS.heap sS.heap [] := va_S.rf
  have hl : lv_has ls 6 [(0, .ref (ad 28)), (1, .int (zI c))] := hl
  have hK : Kp ad w w := Kp.rf
  have hk3 := fun (q : c = 115 ∨ c = 99) => mo_3 (tx := tx) (tl := tl) (p := p) q (s := if c = 115 then 1 else 0) rfl
  have hk1 := fun (q : c = 119) => mo_w (tx := tx) (tl := tl) (p := p) q
  have hk4 := fun (q : c = 112) => mo_p (tx := tx) (tl := tl) (p := p) q
  have ha : okT tx tl 0 p := by rcases hc with q | q | q | q; exact ((hk1 q).2.1.mp hok).1; exact ((hk3 (Or.inl q)).2.1.mp hok).1; exact ((hk3 (Or.inr q)).2.1.mp hok).1; exact ((hk4 q).2.1.mp hok).1
  have hb : okT tx tl 0 (tkP tx tl 0 p) := by rcases hc with q | q | q | q; exact ((hk1 q).2.1.mp hok).2; exact ((hk3 (Or.inl q)).2.1.mp hok).2.1; exact ((hk3 (Or.inr q)).2.1.mp hok).2.1; exact ((hk4 q).2.1.mp hok).2.1
  have hr1 := dig_in (tx := tx) (tl := tl) (p := S 3) h0.2
  rw [hp, ← tkP_0] at hr1
  have hr1s := skS_in tx tl (tkP tx tl 0 p)
  have hr2 := dig_in (tx := tx) (tl := tl) (p := skS tx tl (tkP tx tl 0 p)) (by omega)
  rw [← tkP_0] at hr2
  have hr2s := skS_in tx tl (tkP tx tl 0 (tkP tx tl 0 p))
  have hr3 := dig_in (tx := tx) (tl := tl) (p := skS tx tl (tkP tx tl 0 (tkP tx tl 0 p))) (by omega)
  rw [← tkP_0] at hr3
  have hr3s := skS_in tx tl (tkP tx tl 0 (tkP tx tl 0 (tkP tx tl 0 p)))
  refine lv_aload_n X.x X.b dX6_more_0 rfl (lv_at hl 0 rfl) ?_
  refine wa_ci hS (wa_rV (rest := []) X hH (mX6_number_ok hX   (show S 2 = tl by first | assumption | omega) (show ∀ i, 0 ≤ i → i < tl → A 1 i = tx i ∧ 0 ≤ tx i ∧ tx i ≤ 127 by first | assumption | omega) (show 0 ≤ tl ∧ tl ≤ 120 by first | assumption | omega) (show 0 ≤ S 3 ∧ S 3 ≤ tl by first | assumption | omega) (by rw [hp]; exact okT_0.mp ha)) (cwV 0 X.t (lw_V q1499 q1501 qs45 q123 q1502) rfl rfl rfl hdX6_number ⟨Nat.le_of_ble_eq_true rfl, Nat.le_of_ble_eq_true rfl⟩) rfl (have h9 := (XW.c28 hX); h9) rfl rfl hl.1 rfl (Nat.le_of_ble_eq_true rfl) dX6_more_1 ⟨Nat.le_of_ble_eq_true rfl, Nat.le_of_ble_eq_true rfl⟩) (fun z w1 H locs hp hH hS => ?_)
  obtain ⟨rfl, ⟨hX, hk⟩⟩ := hp
  have hK := hK.kp hk
  refine wz_is (z := tkV tx tl 0 p) (by rw [tkV_0, hp]) ?_
  have hX : XW G ad w1 (sup S 3 (skS tx tl (tkP tx tl 0 p))) A B P := by
    have h9 := hX
    try rw [sup_sup9] at h9
    rw [tkP_0, ← hp]; exact h9
  refine lv_istore_n (lv' := [(2, .int (zI (tkV tx tl 0 p))), (0, .ref (ad 28)), (1, .int (zI c))]) X.x X.b dX6_more_4 rfl hl (by decide) rfl (fun ls hl => ?_)
  refine lv_aload_n X.x X.b dX6_more_5 rfl (lv_at hl 1 rfl) ?_
  refine wa_ci hS (wa_rV (rest := []) X hH (mX6_number_ok hX   (show S 2 = tl by first | assumption | omega) (show ∀ i, 0 ≤ i → i < tl → A 1 i = tx i ∧ 0 ≤ tx i ∧ tx i ≤ 127 by first | assumption | omega) (show 0 ≤ tl ∧ tl ≤ 120 by first | assumption | omega) (show 0 ≤ (skS tx tl (tkP tx tl 0 p)) ∧ (skS tx tl (tkP tx tl 0 p)) ≤ tl by first | assumption | omega) (by exact okT_0.mp hb)) (cwV 0 X.t (lw_V q1499 q1501 qs45 q123 q1502) rfl rfl rfl hdX6_number ⟨Nat.le_of_ble_eq_true rfl, Nat.le_of_ble_eq_true rfl⟩) rfl (have h9 := (XW.c28 hX); h9) rfl rfl hl.1 rfl (Nat.le_of_ble_eq_true rfl) dX6_more_6 ⟨Nat.le_of_ble_eq_true rfl, Nat.le_of_ble_eq_true rfl⟩) (fun z w6 H locs hp hH hS => ?_)
  obtain ⟨rfl, ⟨hX, hk⟩⟩ := hp
  refine wz_is (z := (digN tx tl 6 ((skS tx tl (tkP tx tl 0 p))) 0).2) (by rfl) ?_
  have hK := hK.kp hk
  refine wz_is (z := tkV tx tl 0 (tkP tx tl 0 p)) (by rw [tkV_0]) ?_
  have hX : XW G ad w6 (sup S 3 (skS tx tl (tkP tx tl 0 (tkP tx tl 0 p)))) A B P := by
    have h9 := hX
    try rw [sup_sup9] at h9
    rw [tkP_0]; exact h9
  refine lv_istore_n (lv' := [(3, .int (zI (tkV tx tl 0 (tkP tx tl 0 p)))), (2, .int (zI (tkV tx tl 0 p))), (0, .ref (ad 28)), (1, .int (zI c))]) X.x X.b dX6_more_9 rfl hl (by decide) rfl (fun ls hl => ?_)
  refine lv_iload_n X.x X.b dX6_more_10 rfl (lv_at hl 3 rfl) ?_
  refine wz_bipush X.x X.b dX6_more_11 rfl ?_
  refine wz_icmp_ne (tgt := 25) X.x X.b dX6_more_13 (by decide) ⟨by omega, by omega⟩ ⟨by omega, by omega⟩ (fun c13 => ?_) (fun c13 => ?_)
  · refine lv_iload_n X.x X.b dX6_more_25 rfl (lv_at hl 3 rfl) ?_
    refine wz_bipush X.x X.b dX6_more_26 rfl ?_
    refine wz_icmp_ne (tgt := 48) X.x X.b dX6_more_28 (by decide) ⟨by omega, by omega⟩ ⟨by omega, by omega⟩ (fun c28 => ?_) (fun c28 => ?_)
    · have hd : okT tx tl 0 (tkP tx tl 0 (tkP tx tl 0 p)) := by rcases (show c = 99 ∨ c = 112 by omega) with q | q; (have h9 := ((hk3 (Or.inr q)).2.1.mp hok).2.2; rw [if_neg (by omega)] at h9; exact h9); exact ((hk4 q).2.1.mp hok).2.2.1
      refine lv_aload_n X.x X.b dX6_more_48 rfl (lv_at hl 2 rfl) ?_
      refine wa_ci hS (wa_rV (rest := []) X hH (mX6_number_ok hX   (show S 2 = tl by first | assumption | omega) (show ∀ i, 0 ≤ i → i < tl → A 1 i = tx i ∧ 0 ≤ tx i ∧ tx i ≤ 127 by first | assumption | omega) (show 0 ≤ tl ∧ tl ≤ 120 by first | assumption | omega) (show 0 ≤ (skS tx tl (tkP tx tl 0 (tkP tx tl 0 p))) ∧ (skS tx tl (tkP tx tl 0 (tkP tx tl 0 p))) ≤ tl by first | assumption | omega) (by exact okT_0.mp hd)) (cwV 0 X.t (lw_V q1499 q1501 qs45 q123 q1502) rfl rfl rfl hdX6_number ⟨Nat.le_of_ble_eq_true rfl, Nat.le_of_ble_eq_true rfl⟩) rfl (have h9 := (XW.c28 hX); h9) rfl rfl hl.1 rfl (Nat.le_of_ble_eq_true rfl) dX6_more_49 ⟨Nat.le_of_ble_eq_true rfl, Nat.le_of_ble_eq_true rfl⟩) (fun z w49 H locs hp hH hS => ?_)
      obtain ⟨rfl, ⟨hX, hk⟩⟩ := hp
      refine wz_is (z := (digN tx tl 6 ((skS tx tl (tkP tx tl 0 (tkP tx tl 0 p)))) 0).2) (by rfl) ?_
      have hK := hK.kp hk
      refine wz_is (z := tkV tx tl 0 (tkP tx tl 0 (tkP tx tl 0 p))) (by rw [tkV_0]) ?_
      have hX : XW G ad w49 (sup S 3 (skS tx tl (tkP tx tl 0 (tkP tx tl 0 (tkP tx tl 0 p))))) A B P := by
        have h9 := hX
        try rw [sup_sup9] at h9
        rw [tkP_0]; exact h9
      refine lv_istore (lv' := [(4, .int (zI (tkV tx tl 0 (tkP tx tl 0 (tkP tx tl 0 p))))), (3, .int (zI (tkV tx tl 0 (tkP tx tl 0 p)))), (2, .int (zI (tkV tx tl 0 p))), (0, .ref (ad 28)), (1, .int (zI c))]) X.x X.b dX6_more_52 hl (by decide) rfl (fun ls hl => ?_)
      refine lv_iload_n X.x X.b dX6_more_54 rfl (lv_at hl 4 rfl) ?_
      refine wz_bipush X.x X.b dX6_more_55 rfl ?_
      refine wz_icmp_ne (tgt := 71) X.x X.b dX6_more_57 (by decide) ⟨by omega, by omega⟩ ⟨by omega, by omega⟩ (fun c57 => ?_) (fun c57 => ?_)
      · have he : okT tx tl 0 (tkP tx tl 0 (tkP tx tl 0 (tkP tx tl 0 p))) := ((hk4 (by omega)).2.1.mp hok).2.2.2
        refine lv_aload_n X.x X.b dX6_more_71 rfl (lv_at hl 3 rfl) ?_
        refine wa_ci hS (wa_rV (rest := []) X hH (mX6_number_ok hX   (show S 2 = tl by first | assumption | omega) (show ∀ i, 0 ≤ i → i < tl → A 1 i = tx i ∧ 0 ≤ tx i ∧ tx i ≤ 127 by first | assumption | omega) (show 0 ≤ tl ∧ tl ≤ 120 by first | assumption | omega) (show 0 ≤ (skS tx tl (tkP tx tl 0 (tkP tx tl 0 (tkP tx tl 0 p)))) ∧ (skS tx tl (tkP tx tl 0 (tkP tx tl 0 (tkP tx tl 0 p)))) ≤ tl by first | assumption | omega) (by exact okT_0.mp he)) (cwV 0 X.t (lw_V q1499 q1501 qs45 q123 q1502) rfl rfl rfl hdX6_number ⟨Nat.le_of_ble_eq_true rfl, Nat.le_of_ble_eq_true rfl⟩) rfl (have h9 := (XW.c28 hX); h9) rfl rfl hl.1 rfl (Nat.le_of_ble_eq_true rfl) dX6_more_72 ⟨Nat.le_of_ble_eq_true rfl, Nat.le_of_ble_eq_true rfl⟩) (fun z w72 H locs hp hH hS => ?_)
        obtain ⟨rfl, ⟨hX, hk⟩⟩ := hp
        refine wz_is (z := (digN tx tl 6 ((skS tx tl (tkP tx tl 0 (tkP tx tl 0 (tkP tx tl 0 p))))) 0).2) (by rfl) ?_
        have hK := hK.kp hk
        refine wz_is (z := tkV tx tl 0 (tkP tx tl 0 (tkP tx tl 0 (tkP tx tl 0 p)))) (by rw [tkV_0]) ?_
        have hX : XW G ad w72 (sup S 3 (skS tx tl (tkP tx tl 0 (tkP tx tl 0 (tkP tx tl 0 (tkP tx tl 0 p)))))) A B P := by
          have h9 := hX
          try rw [sup_sup9] at h9
          rw [tkP_0]; exact h9
        refine lv_istore (lv' := [(5, .int (zI (tkV tx tl 0 (tkP tx tl 0 (tkP tx tl 0 (tkP tx tl 0 p)))))), (4, .int (zI (tkV tx tl 0 (tkP tx tl 0 (tkP tx tl 0 p))))), (3, .int (zI (tkV tx tl 0 (tkP tx tl 0 p)))), (2, .int (zI (tkV tx tl 0 p))), (0, .ref (ad 28)), (1, .int (zI c))]) X.x X.b dX6_more_75 hl (by decide) rfl (fun ls hl => ?_)
        refine lv_aload_n X.x X.b dX6_more_77 rfl (lv_at hl 4 rfl) ?_
        refine lv_iload_n X.x X.b dX6_more_78 rfl (lv_at hl 3 rfl) ?_
        refine lv_iload_n X.x X.b dX6_more_79 rfl (lv_at hl 2 rfl) ?_
        refine lv_iload X.x X.b dX6_more_80 (lv_at hl 1 rfl) ?_
        refine lv_iload X.x X.b dX6_more_82 (lv_at hl 0 rfl) ?_
        have hX_84 := hX
        have hK_84 := hK
        refine wb_lam (rest := []) (vals := [.ref (ad 28), .int (zI (tkV tx tl 0 p)), .int (zI (tkV tx tl 0 (tkP tx tl 0 p))), .int (zI (tkV tx tl 0 (tkP tx tl 0 (tkP tx tl 0 p)))), .int (zI (tkV tx tl 0 (tkP tx tl 0 (tkP tx tl 0 (tkP tx tl 0 p)))))]) (sh := wbS13) (num := 29) (D := wbD13) (laid := wbL13) X hH hS (wb_hO (X.t _ q2102)) (List.mem_of_getElem? (i := 12) rfl) wbD13_is wbL13_is wbL13_t (by rw [wbC13]; rfl) (by rw [wbC13]; exact (lamOK.cons ⟨rfl, rfl⟩ (lamOK.cons ⟨rfl, rfl⟩ (lamOK.cons ⟨rfl, rfl⟩ (lamOK.cons ⟨rfl, rfl⟩ (lamOK.cons ⟨rfl, rfl⟩ lamOK.nil)))))) rfl hl.1 (Nat.le_of_ble_eq_true rfl) (Nat.le_of_ble_eq_true rfl) (Nat.le_of_ble_eq_true rfl) dX6_more_84 (fun nq84 w84 H hn84 ew hH hS => ?_)
        have hk0 := Ext.new hn84 ew
        have hX := hX.ext hk0
        have hk := hk0.k (ad := ad)
        have hK := hK.kp hk
        have hN84 := hk
        have n84 : Lc ad w84 nq84 (.inr { cls := G.2.1 29, slots := #[.ref (ad 28), .int (zI (tkV tx tl 0 p)), .int (zI (tkV tx tl 0 (tkP tx tl 0 p))), .int (zI (tkV tx tl 0 (tkP tx tl 0 (tkP tx tl 0 p)))), .int (zI (tkV tx tl 0 (tkP tx tl 0 (tkP tx tl 0 (tkP tx tl 0 p)))))], vm := .none }) := Lc.new hX_84 hn84 (by rw [ew]; exact wup_s)
        clear ew hk0
        refine W.widen (k := 1) (n := 5) (by first | exact Nat.le_of_ble_eq_true rfl | omega) (by first | exact Nat.le_of_ble_eq_true rfl | omega) ?_
        exact wa_aret X (Or.inl ⟨_, rfl⟩) hH hS (some nq84) dX6_more_89 (by
      have h9 := mo_p (tx := tx) (tl := tl) (p := p) (show c = 112 by omega)
      exact ⟨_, (by rw [h9.2.2, if_pos (h9.2.1.mp hok).1, if_pos (h9.2.1.mp hok).2.1, if_pos (h9.2.1.mp hok).2.2.1]; exact hX), hK, rfl, (by refine ⟨?_, ?_, ?_, ?_, ?_, ?_, ?_⟩ <;> intro e9 <;> first | (exfalso; omega) | (rw [taV_0 _ _ _ _ (by rw [h9.1]; decide), taV_1 _ _ _ _ (by rw [h9.1]; decide) (by rw [h9.1]; decide), taV_2 _ _ _ _ (by rw [h9.1]; decide) (by rw [h9.1]; decide), taV_3 _ _ _ _ h9.1, h9.1, show sgn 2 (-1) = 0 from rfl]; exact n84))⟩)
      · refine lv_aload_n X.x X.b dX6_more_60 rfl (lv_at hl 3 rfl) ?_
        refine lv_iload_n X.x X.b dX6_more_61 rfl (lv_at hl 2 rfl) ?_
        refine lv_iload_n X.x X.b dX6_more_62 rfl (lv_at hl 1 rfl) ?_
        refine lv_iload X.x X.b dX6_more_63 (lv_at hl 0 rfl) ?_
        have hX_65 := hX
        have hK_65 := hK
        refine wb_lam (rest := []) (vals := [.ref (ad 28), .int (zI (tkV tx tl 0 p)), .int (zI (tkV tx tl 0 (tkP tx tl 0 p))), .int (zI (tkV tx tl 0 (tkP tx tl 0 (tkP tx tl 0 p))))]) (sh := wbS12) (num := 28) (D := wbD12) (laid := wbL12) X hH hS (wb_hO (X.t _ q2102)) (List.mem_of_getElem? (i := 11) rfl) wbD12_is wbL12_is wbL12_t (by rw [wbC12]; rfl) (by rw [wbC12]; exact (lamOK.cons ⟨rfl, rfl⟩ (lamOK.cons ⟨rfl, rfl⟩ (lamOK.cons ⟨rfl, rfl⟩ (lamOK.cons ⟨rfl, rfl⟩ lamOK.nil))))) rfl hl.1 (Nat.le_of_ble_eq_true rfl) (Nat.le_of_ble_eq_true rfl) (Nat.le_of_ble_eq_true rfl) dX6_more_65 (fun nq65 w65 H hn65 ew hH hS => ?_)
        have hk0 := Ext.new hn65 ew
        have hX := hX.ext hk0
        have hk := hk0.k (ad := ad)
        have hK := hK.kp hk
        have hN65 := hk
        have n65 : Lc ad w65 nq65 (.inr { cls := G.2.1 28, slots := #[.ref (ad 28), .int (zI (tkV tx tl 0 p)), .int (zI (tkV tx tl 0 (tkP tx tl 0 p))), .int (zI (tkV tx tl 0 (tkP tx tl 0 (tkP tx tl 0 p))))], vm := .none }) := Lc.new hX_65 hn65 (by rw [ew]; exact wup_s)
        clear ew hk0
        refine W.widen (k := 1) (n := 5) (by first | exact Nat.le_of_ble_eq_true rfl | omega) (by first | exact Nat.le_of_ble_eq_true rfl | omega) ?_
        exact wa_aret X (Or.inl ⟨_, rfl⟩) hH hS (some nq65) dX6_more_70 (by
      have h9 := mo_3 (tx := tx) (tl := tl) (p := p) (show c = 115 ∨ c = 99 by omega) (s := 0) (if_neg (by omega)).symm
      exact ⟨_, (by rw [h9.2.2, if_pos (h9.2.1.mp hok).1, if_pos (h9.2.1.mp hok).2.1]; exact hX), hK, rfl, (by refine ⟨?_, ?_, ?_, ?_, ?_, ?_, ?_⟩ <;> intro e9 <;> first | (exfalso; omega) | (rw [taV_0 _ _ _ _ h9.1.1, taV_1 _ _ _ _ h9.1.1 h9.1.2.1, taV_2 _ _ _ _ h9.1.1 h9.1.2.1, h9.1.2.2]; exact n65))⟩)
    · refine lv_aload_n X.x X.b dX6_more_31 rfl (lv_at hl 2 rfl) ?_
      refine wa_ci hS (wa_rV (rest := []) X hH (mX6_signed_ok hX   (show S 2 = tl by first | assumption | omega) (show ∀ i, 0 ≤ i → i < tl → A 1 i = tx i ∧ 0 ≤ tx i ∧ tx i ≤ 127 by first | assumption | omega) (show 0 ≤ tl ∧ tl ≤ 120 by first | assumption | omega) (show 0 ≤ (skS tx tl (tkP tx tl 0 (tkP tx tl 0 p))) ∧ (skS tx tl (tkP tx tl 0 (tkP tx tl 0 p))) ≤ tl by first | assumption | omega) rfl (by have h9 := ((hk3 (Or.inl (by omega))).2.1.mp hok).2.2; rw [if_pos (by omega)] at h9; exact h9)) (cwV 0 X.t (lw_V q1522 q1524 qs51 q123 q1525) rfl rfl rfl hdX6_signed ⟨Nat.le_of_ble_eq_true rfl, Nat.le_of_ble_eq_true rfl⟩) rfl (have h9 := (XW.c28 hX); h9) rfl rfl hl.1 rfl (Nat.le_of_ble_eq_true rfl) dX6_more_32 ⟨Nat.le_of_ble_eq_true rfl, Nat.le_of_ble_eq_true rfl⟩) (fun z w32 H locs hp hH hS => ?_)
      obtain ⟨rfl, ⟨hX, hk⟩⟩ := hp
      refine wz_is (z := tkV tx tl 1 (tkP tx tl 0 (tkP tx tl 0 p))) (by rfl) ?_
      have hK := hK.kp hk
      have hX : XW G ad w32 (sup S 3 (skS tx tl (tkP tx tl 1 (tkP tx tl 0 (tkP tx tl 0 p))))) A B P := by
        have h9 := hX
        rw [sup_sup9] at h9
        exact h9
      refine lv_istore (lv' := [(4, .int (zI (tkV tx tl 1 (tkP tx tl 0 (tkP tx tl 0 p))))), (3, .int (zI (tkV tx tl 0 (tkP tx tl 0 p)))), (2, .int (zI (tkV tx tl 0 p))), (0, .ref (ad 28)), (1, .int (zI c))]) X.x X.b dX6_more_35 hl (by decide) rfl (fun ls hl => ?_)
      refine lv_aload_n X.x X.b dX6_more_37 rfl (lv_at hl 3 rfl) ?_
      refine lv_iload_n X.x X.b dX6_more_38 rfl (lv_at hl 2 rfl) ?_
      refine lv_iload_n X.x X.b dX6_more_39 rfl (lv_at hl 1 rfl) ?_
      refine lv_iload X.x X.b dX6_more_40 (lv_at hl 0 rfl) ?_
      have hX_42 := hX
      have hK_42 := hK
      refine wb_lam (rest := []) (vals := [.ref (ad 28), .int (zI (tkV tx tl 0 p)), .int (zI (tkV tx tl 0 (tkP tx tl 0 p))), .int (zI (tkV tx tl 1 (tkP tx tl 0 (tkP tx tl 0 p))))]) (sh := wbS11) (num := 27) (D := wbD11) (laid := wbL11) X hH hS (wb_hO (X.t _ q2102)) (List.mem_of_getElem? (i := 10) rfl) wbD11_is wbL11_is wbL11_t (by rw [wbC11]; rfl) (by rw [wbC11]; exact (lamOK.cons ⟨rfl, rfl⟩ (lamOK.cons ⟨rfl, rfl⟩ (lamOK.cons ⟨rfl, rfl⟩ (lamOK.cons ⟨rfl, rfl⟩ lamOK.nil))))) rfl hl.1 (Nat.le_of_ble_eq_true rfl) (Nat.le_of_ble_eq_true rfl) (Nat.le_of_ble_eq_true rfl) dX6_more_42 (fun nq42 w42 H hn42 ew hH hS => ?_)
      have hk0 := Ext.new hn42 ew
      have hX := hX.ext hk0
      have hk := hk0.k (ad := ad)
      have hK := hK.kp hk
      have hN42 := hk
      have n42 : Lc ad w42 nq42 (.inr { cls := G.2.1 27, slots := #[.ref (ad 28), .int (zI (tkV tx tl 0 p)), .int (zI (tkV tx tl 0 (tkP tx tl 0 p))), .int (zI (tkV tx tl 1 (tkP tx tl 0 (tkP tx tl 0 p))))], vm := .none }) := Lc.new hX_42 hn42 (by rw [ew]; exact wup_s)
      clear ew hk0
      refine W.widen (k := 1) (n := 5) (by first | exact Nat.le_of_ble_eq_true rfl | omega) (by first | exact Nat.le_of_ble_eq_true rfl | omega) ?_
      exact wa_aret X (Or.inl ⟨_, rfl⟩) hH hS (some nq42) dX6_more_47 (by
      have h9 := mo_3 (tx := tx) (tl := tl) (p := p) (show c = 115 ∨ c = 99 by omega) (s := 1) (if_pos (by omega)).symm
      exact ⟨_, (by rw [h9.2.2, if_pos (h9.2.1.mp hok).1, if_pos (h9.2.1.mp hok).2.1]; exact hX), hK, rfl, (by refine ⟨?_, ?_, ?_, ?_, ?_, ?_, ?_⟩ <;> intro e9 <;> first | (exfalso; omega) | (rw [taV_0 _ _ _ _ h9.1.1, taV_1 _ _ _ _ h9.1.1 h9.1.2.1, taV_2 _ _ _ _ h9.1.1 h9.1.2.1, h9.1.2.2]; exact n42))⟩)
  · refine lv_aload_n X.x X.b dX6_more_16 rfl (lv_at hl 2 rfl) ?_
    refine lv_iload_n X.x X.b dX6_more_17 rfl (lv_at hl 1 rfl) ?_
    refine lv_iload_n X.x X.b dX6_more_18 rfl (lv_at hl 0 rfl) ?_
    have hX_19 := hX
    have hK_19 := hK
    refine wb_lam (rest := []) (vals := [.ref (ad 28), .int (zI (tkV tx tl 0 p)), .int (zI (tkV tx tl 0 (tkP tx tl 0 p)))]) (sh := wbS10) (num := 26) (D := wbD10) (laid := wbL10) X hH hS (wb_hO (X.t _ q2102)) (List.mem_of_getElem? (i := 9) rfl) wbD10_is wbL10_is wbL10_t (by rw [wbC10]; rfl) (by rw [wbC10]; exact (lamOK.cons ⟨rfl, rfl⟩ (lamOK.cons ⟨rfl, rfl⟩ (lamOK.cons ⟨rfl, rfl⟩ lamOK.nil)))) rfl hl.1 (Nat.le_of_ble_eq_true rfl) (Nat.le_of_ble_eq_true rfl) (Nat.le_of_ble_eq_true rfl) dX6_more_19 (fun nq19 w19 H hn19 ew hH hS => ?_)
    have hk0 := Ext.new hn19 ew
    have hX := hX.ext hk0
    have hk := hk0.k (ad := ad)
    have hK := hK.kp hk
    have hN19 := hk
    have n19 : Lc ad w19 nq19 (.inr { cls := G.2.1 26, slots := #[.ref (ad 28), .int (zI (tkV tx tl 0 p)), .int (zI (tkV tx tl 0 (tkP tx tl 0 p)))], vm := .none }) := Lc.new hX_19 hn19 (by rw [ew]; exact wup_s)
    clear ew hk0
    refine W.widen (k := 1) (n := 5) (by first | exact Nat.le_of_ble_eq_true rfl | omega) (by first | exact Nat.le_of_ble_eq_true rfl | omega) ?_
    exact wa_aret X (Or.inl ⟨_, rfl⟩) hH hS (some nq19) dX6_more_24 (by
      have h9 := mo_w (tx := tx) (tl := tl) (p := p) (show c = 119 by omega)
      exact ⟨_, (by rw [h9.2.2, if_pos (h9.2.1.mp hok).1]; exact hX), hK, rfl, (by refine ⟨?_, ?_, ?_, ?_, ?_, ?_, ?_⟩ <;> intro e9 <;> first | (exfalso; omega) | (rw [taV_0 _ _ _ _ (by rw [h9.1]; decide), taV_1 _ _ _ _ (by rw [h9.1]; decide) (by rw [h9.1]; decide)]; exact n19))⟩)
set_option maxRecDepth 100000 in
theorem mX6_more_no {lL : Launch} {G : wa_G} {ad : Nat → Nat} {w : wa_W} {S : Nat → Int} {A : Nat → Int → Int} {B : Nat → Int → Option Nat} {P : Nat → Option Nat} (hX : XW G ad w S A B P) {tx : Int → Int} {tl : Int} {p : Int}  (c : Int) (hS2 : S 2 = tl) (hTX : ∀ i, 0 ≤ i → i < tl → A 1 i = tx i ∧ 0 ≤ tx i ∧ tx i ≤ 127) (htl : 0 ≤ tl ∧ tl ≤ 120) (h0 : 0 ≤ S 3 ∧ S 3 ≤ tl) (hp : S 3 = skS tx tl p) (hno : ¬ taO tx tl (sgO c) (nmO c).toNat 0 p) (hc : c = 119 ∨ c = 115 ∨ c = 99 ∨ c = 112) : wx_Thr lL yX6_more (ws_ yX6_more cX6_more 6 (some (FieldType.object "PictureRing$Deed"))) ({ frames := 7, cells := 1, slots := 12, locals := 154 } : Room) G w [.ref (ad 28), .int (zI c)] (fun E q u => E = "PictureRing$Fault" ∧ ∃ (S2 : Nat → Int), XW G ad u S2 A B P ∧ Kp ad w u ∧ (∀ j, j ≠ 3 → S2 j = S j) ∧ Lc ad u q (eO 12 [va_rf none, .null, .null, va_rf none, .null, .int (zI 0), .int (zI (taP tx tl (sgO c) (nmO c).toNat 0 p))])) 1 12 := by
  refine wx_met (by decide) (by exact Nat.le_of_ble_eq_true rfl) ?_
  intro pP eE sS mM aA bB mT cC ls X hT hl hH
  have hS : va_S (wa_A G) sS.heap sS.heap [] := va_S.rf
  have hl : lv_has ls 6 [(0, .ref (ad 28)), (1, .int (zI c))] := hl
  have hK : Kp ad w w := Kp.rf
  have hk3 := fun (q : c = 115 ∨ c = 99) => mo_3 (tx := tx) (tl := tl) (p := p) q (s := if c = 115 then 1 else 0) rfl
  have hk1 := fun (q : c = 119) => mo_w (tx := tx) (tl := tl) (p := p) q
  have hk4 := fun (q : c = 112) => mo_p (tx := tx) (tl := tl) (p := p) q
  have hr1 := dig_in (tx := tx) (tl := tl) (p := S 3) h0.2
  rw [hp, ← tkP_0] at hr1
  have hr1s := skS_in tx tl (tkP tx tl 0 p)
  have hr2 := dig_in (tx := tx) (tl := tl) (p := skS tx tl (tkP tx tl 0 p)) (by omega)
  rw [← tkP_0] at hr2
  have hr2s := skS_in tx tl (tkP tx tl 0 (tkP tx tl 0 p))
  have hr3 := dig_in (tx := tx) (tl := tl) (p := skS tx tl (tkP tx tl 0 (tkP tx tl 0 p))) (by omega)
  rw [← tkP_0] at hr3
  have hr3s := skS_in tx tl (tkP tx tl 0 (tkP tx tl 0 (tkP tx tl 0 p)))
  by_cases ha : okT tx tl 0 p
  · refine lv_aload_n X.x X.b dX6_more_0 rfl (lv_at hl 0 rfl) ?_
    refine wa_ci hS (wa_rV (rest := []) X hH (mX6_number_ok hX   (show S 2 = tl by first | assumption | omega) (show ∀ i, 0 ≤ i → i < tl → A 1 i = tx i ∧ 0 ≤ tx i ∧ tx i ≤ 127 by first | assumption | omega) (show 0 ≤ tl ∧ tl ≤ 120 by first | assumption | omega) (show 0 ≤ S 3 ∧ S 3 ≤ tl by first | assumption | omega) (by rw [hp]; exact okT_0.mp ha)) (cwV 0 X.t (lw_V q1499 q1501 qs45 q123 q1502) rfl rfl rfl hdX6_number ⟨Nat.le_of_ble_eq_true rfl, Nat.le_of_ble_eq_true rfl⟩) rfl (have h9 := (XW.c28 hX); h9) rfl rfl hl.1 rfl (Nat.le_of_ble_eq_true rfl) dX6_more_1 ⟨Nat.le_of_ble_eq_true rfl, Nat.le_of_ble_eq_true rfl⟩) (fun z w1 H locs hp hH hS => ?_)
    obtain ⟨rfl, ⟨hX, hk⟩⟩ := hp
    have hK := hK.kp hk
    refine wz_is (z := tkV tx tl 0 p) (by rw [tkV_0, hp]) ?_
    have hX : XW G ad w1 (sup S 3 (skS tx tl (tkP tx tl 0 p))) A B P := by
      have h9 := hX
      try rw [sup_sup9] at h9
      rw [tkP_0, ← hp]; exact h9
    refine lv_istore_n (lv' := [(2, .int (zI (tkV tx tl 0 p))), (0, .ref (ad 28)), (1, .int (zI c))]) X.x X.b dX6_more_4 rfl hl (by decide) rfl (fun ls hl => ?_)
    by_cases hb : okT tx tl 0 (tkP tx tl 0 p)
    · refine lv_aload_n X.x X.b dX6_more_5 rfl (lv_at hl 1 rfl) ?_
      refine wa_ci hS (wa_rV (rest := []) X hH (mX6_number_ok hX   (show S 2 = tl by first | assumption | omega) (show ∀ i, 0 ≤ i → i < tl → A 1 i = tx i ∧ 0 ≤ tx i ∧ tx i ≤ 127 by first | assumption | omega) (show 0 ≤ tl ∧ tl ≤ 120 by first | assumption | omega) (show 0 ≤ (skS tx tl (tkP tx tl 0 p)) ∧ (skS tx tl (tkP tx tl 0 p)) ≤ tl by first | assumption | omega) (by exact okT_0.mp hb)) (cwV 0 X.t (lw_V q1499 q1501 qs45 q123 q1502) rfl rfl rfl hdX6_number ⟨Nat.le_of_ble_eq_true rfl, Nat.le_of_ble_eq_true rfl⟩) rfl (have h9 := (XW.c28 hX); h9) rfl rfl hl.1 rfl (Nat.le_of_ble_eq_true rfl) dX6_more_6 ⟨Nat.le_of_ble_eq_true rfl, Nat.le_of_ble_eq_true rfl⟩) (fun z w6 H locs hp hH hS => ?_)
      obtain ⟨rfl, ⟨hX, hk⟩⟩ := hp
      refine wz_is (z := (digN tx tl 6 ((skS tx tl (tkP tx tl 0 p))) 0).2) (by rfl) ?_
      have hK := hK.kp hk
      refine wz_is (z := tkV tx tl 0 (tkP tx tl 0 p)) (by rw [tkV_0]) ?_
      have hX : XW G ad w6 (sup S 3 (skS tx tl (tkP tx tl 0 (tkP tx tl 0 p)))) A B P := by
        have h9 := hX
        try rw [sup_sup9] at h9
        rw [tkP_0]; exact h9
      refine lv_istore_n (lv' := [(3, .int (zI (tkV tx tl 0 (tkP tx tl 0 p)))), (2, .int (zI (tkV tx tl 0 p))), (0, .ref (ad 28)), (1, .int (zI c))]) X.x X.b dX6_more_9 rfl hl (by decide) rfl (fun ls hl => ?_)
      refine lv_iload_n X.x X.b dX6_more_10 rfl (lv_at hl 3 rfl) ?_
      refine wz_bipush X.x X.b dX6_more_11 rfl ?_
      refine wz_icmp_ne (tgt := 25) X.x X.b dX6_more_13 (by decide) ⟨by omega, by omega⟩ ⟨by omega, by omega⟩ (fun c13 => ?_) (fun c13 => ?_)
      · refine lv_iload_n X.x X.b dX6_more_25 rfl (lv_at hl 3 rfl) ?_
        refine wz_bipush X.x X.b dX6_more_26 rfl ?_
        refine wz_icmp_ne (tgt := 48) X.x X.b dX6_more_28 (by decide) ⟨by omega, by omega⟩ ⟨by omega, by omega⟩ (fun c28 => ?_) (fun c28 => ?_)
        · by_cases hd : okT tx tl 0 (tkP tx tl 0 (tkP tx tl 0 p))
          · refine lv_aload_n X.x X.b dX6_more_48 rfl (lv_at hl 2 rfl) ?_
            refine wa_ci hS (wa_rV (rest := []) X hH (mX6_number_ok hX   (show S 2 = tl by first | assumption | omega) (show ∀ i, 0 ≤ i → i < tl → A 1 i = tx i ∧ 0 ≤ tx i ∧ tx i ≤ 127 by first | assumption | omega) (show 0 ≤ tl ∧ tl ≤ 120 by first | assumption | omega) (show 0 ≤ (skS tx tl (tkP tx tl 0 (tkP tx tl 0 p))) ∧ (skS tx tl (tkP tx tl 0 (tkP tx tl 0 p))) ≤ tl by first | assumption | omega) (by exact okT_0.mp hd)) (cwV 0 X.t (lw_V q1499 q1501 qs45 q123 q1502) rfl rfl rfl hdX6_number ⟨Nat.le_of_ble_eq_true rfl, Nat.le_of_ble_eq_true rfl⟩) rfl (have h9 := (XW.c28 hX); h9) rfl rfl hl.1 rfl (Nat.le_of_ble_eq_true rfl) dX6_more_49 ⟨Nat.le_of_ble_eq_true rfl, Nat.le_of_ble_eq_true rfl⟩) (fun z w49 H locs hp hH hS => ?_)
            obtain ⟨rfl, ⟨hX, hk⟩⟩ := hp
            refine wz_is (z := (digN tx tl 6 ((skS tx tl (tkP tx tl 0 (tkP tx tl 0 p)))) 0).2) (by rfl) ?_
            have hK := hK.kp hk
            refine wz_is (z := tkV tx tl 0 (tkP tx tl 0 (tkP tx tl 0 p))) (by rw [tkV_0]) ?_
            have hX : XW G ad w49 (sup S 3 (skS tx tl (tkP tx tl 0 (tkP tx tl 0 (tkP tx tl 0 p))))) A B P := by
              have h9 := hX
              try rw [sup_sup9] at h9
              rw [tkP_0]; exact h9
            refine lv_istore (lv' := [(4, .int (zI (tkV tx tl 0 (tkP tx tl 0 (tkP tx tl 0 p))))), (3, .int (zI (tkV tx tl 0 (tkP tx tl 0 p)))), (2, .int (zI (tkV tx tl 0 p))), (0, .ref (ad 28)), (1, .int (zI c))]) X.x X.b dX6_more_52 hl (by decide) rfl (fun ls hl => ?_)
            refine lv_iload_n X.x X.b dX6_more_54 rfl (lv_at hl 4 rfl) ?_
            refine wz_bipush X.x X.b dX6_more_55 rfl ?_
            refine wz_icmp_ne (tgt := 71) X.x X.b dX6_more_57 (by decide) ⟨by omega, by omega⟩ ⟨by omega, by omega⟩ (fun c57 => ?_) (fun c57 => ?_)
            · refine lv_aload_n X.x X.b dX6_more_71 rfl (lv_at hl 3 rfl) ?_
              refine wx_cx hS (wx_rV (rest := []) X hH (mX6_number_no hX   (show S 2 = tl by first | assumption | omega) (show ∀ i, 0 ≤ i → i < tl → A 1 i = tx i ∧ 0 ≤ tx i ∧ tx i ≤ 127 by first | assumption | omega) (show 0 ≤ tl ∧ tl ≤ 120 by first | assumption | omega) (show 0 ≤ (skS tx tl (tkP tx tl 0 (tkP tx tl 0 (tkP tx tl 0 p)))) ∧ (skS tx tl (tkP tx tl 0 (tkP tx tl 0 (tkP tx tl 0 p)))) ≤ tl by first | assumption | omega) (by exact fun q => hno ((hk4 (by omega)).2.1.mpr ⟨ha, hb, hd, okT_0.mpr q⟩))) (cwV 0 X.t (lw_V q1499 q1501 qs45 q123 q1502) rfl rfl rfl hdX6_number ⟨Nat.le_of_ble_eq_true rfl, Nat.le_of_ble_eq_true rfl⟩) rfl (have h9 := (XW.c28 hX); h9) rfl rfl hl.1 rfl (Nat.le_of_ble_eq_true rfl) dX6_more_72 ⟨Nat.le_of_ble_eq_true rfl, Nat.le_of_ble_eq_true rfl⟩) (fun E72 q72 w72 ce72 H locs hp hH hS hce72 hcv72 hcl72 => ?_)
              obtain ⟨rfl, S2_72, hX, hk, hx72_0, hx72_1⟩ := hp
              have hK := hK.kp hk
              exact wx_out X hH hS (fun x hx => (hT x hx).elim) hce72 hcv72 hcl72 (by first | exact Nat.le_of_ble_eq_true rfl | omega) (by first | exact Nat.le_of_ble_eq_true rfl | omega) ⟨rfl, S2_72, hX, hK, (fun j hj => (hx72_0 j hj).trans (by first | rfl | exact sup_n hj | (rw [sup_n hj, sup_n hj]))), (by rw [(show taP tx tl (sgO c) (nmO c).toNat 0 p = (tkP tx tl 0 (tkP tx tl 0 (tkP tx tl 0 (tkP tx tl 0 p)))) by rw [(hk4 (by omega)).2.2, if_pos ha, if_pos hb, if_pos hd]), tkP_0 _ _ (tkP tx tl 0 (tkP tx tl 0 (tkP tx tl 0 p)))]; exact hx72_1)⟩
            · exfalso; exact hno ((hk3 (Or.inr (by omega))).2.1.mpr ⟨ha, hb, by rw [if_neg (by omega)]; exact hd⟩)
          · refine lv_aload_n X.x X.b dX6_more_48 rfl (lv_at hl 2 rfl) ?_
            refine wx_cx hS (wx_rV (rest := []) X hH (mX6_number_no hX   (show S 2 = tl by first | assumption | omega) (show ∀ i, 0 ≤ i → i < tl → A 1 i = tx i ∧ 0 ≤ tx i ∧ tx i ≤ 127 by first | assumption | omega) (show 0 ≤ tl ∧ tl ≤ 120 by first | assumption | omega) (show 0 ≤ (skS tx tl (tkP tx tl 0 (tkP tx tl 0 p))) ∧ (skS tx tl (tkP tx tl 0 (tkP tx tl 0 p))) ≤ tl by first | assumption | omega) (by exact fun q => hd (okT_0.mpr q))) (cwV 0 X.t (lw_V q1499 q1501 qs45 q123 q1502) rfl rfl rfl hdX6_number ⟨Nat.le_of_ble_eq_true rfl, Nat.le_of_ble_eq_true rfl⟩) rfl (have h9 := (XW.c28 hX); h9) rfl rfl hl.1 rfl (Nat.le_of_ble_eq_true rfl) dX6_more_49 ⟨Nat.le_of_ble_eq_true rfl, Nat.le_of_ble_eq_true rfl⟩) (fun E49 q49 w49 ce49 H locs hp hH hS hce49 hcv49 hcl49 => ?_)
            obtain ⟨rfl, S2_49, hX, hk, hx49_0, hx49_1⟩ := hp
            have hK := hK.kp hk
            exact wx_out X hH hS (fun x hx => (hT x hx).elim) hce49 hcv49 hcl49 (by first | exact Nat.le_of_ble_eq_true rfl | omega) (by first | exact Nat.le_of_ble_eq_true rfl | omega) ⟨rfl, S2_49, hX, hK, (fun j hj => (hx49_0 j hj).trans (by first | rfl | exact sup_n hj | (rw [sup_n hj, sup_n hj]))), (by rw [(show taP tx tl (sgO c) (nmO c).toNat 0 p = (tkP tx tl 0 (tkP tx tl 0 (tkP tx tl 0 p))) by rcases (show c = 99 ∨ c = 112 by omega) with q | q; (rw [(hk3 (Or.inr q)).2.2, if_pos ha, if_pos hb, if_neg (show ¬ c = 115 by omega)]); (rw [(hk4 q).2.2, if_pos ha, if_pos hb, if_neg hd])), tkP_0 _ _ (tkP tx tl 0 (tkP tx tl 0 p))]; exact hx49_1)⟩
        · refine lv_aload_n X.x X.b dX6_more_31 rfl (lv_at hl 2 rfl) ?_
          refine wx_cx hS (wx_rV (rest := []) X hH (mX6_signed_no hX   (show S 2 = tl by first | assumption | omega) (show ∀ i, 0 ≤ i → i < tl → A 1 i = tx i ∧ 0 ≤ tx i ∧ tx i ≤ 127 by first | assumption | omega) (show 0 ≤ tl ∧ tl ≤ 120 by first | assumption | omega) (show 0 ≤ (skS tx tl (tkP tx tl 0 (tkP tx tl 0 p))) ∧ (skS tx tl (tkP tx tl 0 (tkP tx tl 0 p))) ≤ tl by first | assumption | omega) rfl (fun q => hno ((hk3 (Or.inl (by omega))).2.1.mpr ⟨ha, hb, by rw [if_pos (by omega)]; exact q⟩))) (cwV 0 X.t (lw_V q1522 q1524 qs51 q123 q1525) rfl rfl rfl hdX6_signed ⟨Nat.le_of_ble_eq_true rfl, Nat.le_of_ble_eq_true rfl⟩) rfl (have h9 := (XW.c28 hX); h9) rfl rfl hl.1 rfl (Nat.le_of_ble_eq_true rfl) dX6_more_32 ⟨Nat.le_of_ble_eq_true rfl, Nat.le_of_ble_eq_true rfl⟩) (fun E32 q32 w32 ce32 H locs hp hH hS hce32 hcv32 hcl32 => ?_)
          obtain ⟨rfl, S2_32, hX, hk, hx32_0, hx32_1⟩ := hp
          have hK := hK.kp hk
          exact wx_out X hH hS (fun x hx => (hT x hx).elim) hce32 hcv32 hcl32 (by first | exact Nat.le_of_ble_eq_true rfl | omega) (by first | exact Nat.le_of_ble_eq_true rfl | omega) ⟨rfl, S2_32, hX, hK, (fun j hj => (hx32_0 j hj).trans (by first | rfl | exact sup_n hj | (rw [sup_n hj, sup_n hj]))), (by rw [(show taP tx tl (sgO c) (nmO c).toNat 0 p = tkP tx tl 1 (tkP tx tl 0 (tkP tx tl 0 p)) by rw [(hk3 (Or.inl (by omega))).2.2, if_pos ha, if_pos hb, if_pos (show c = 115 by omega)])]; exact hx32_1)⟩
      · exfalso; exact hno ((hk1 (by omega)).2.1.mpr ⟨ha, hb⟩)
    · refine lv_aload_n X.x X.b dX6_more_5 rfl (lv_at hl 1 rfl) ?_
      refine wx_cx hS (wx_rV (rest := []) X hH (mX6_number_no hX   (show S 2 = tl by first | assumption | omega) (show ∀ i, 0 ≤ i → i < tl → A 1 i = tx i ∧ 0 ≤ tx i ∧ tx i ≤ 127 by first | assumption | omega) (show 0 ≤ tl ∧ tl ≤ 120 by first | assumption | omega) (show 0 ≤ (skS tx tl (tkP tx tl 0 p)) ∧ (skS tx tl (tkP tx tl 0 p)) ≤ tl by first | assumption | omega) (by exact fun q => hb (okT_0.mpr q))) (cwV 0 X.t (lw_V q1499 q1501 qs45 q123 q1502) rfl rfl rfl hdX6_number ⟨Nat.le_of_ble_eq_true rfl, Nat.le_of_ble_eq_true rfl⟩) rfl (have h9 := (XW.c28 hX); h9) rfl rfl hl.1 rfl (Nat.le_of_ble_eq_true rfl) dX6_more_6 ⟨Nat.le_of_ble_eq_true rfl, Nat.le_of_ble_eq_true rfl⟩) (fun E6 q6 w6 ce6 H locs hp hH hS hce6 hcv6 hcl6 => ?_)
      obtain ⟨rfl, S2_6, hX, hk, hx6_0, hx6_1⟩ := hp
      have hK := hK.kp hk
      exact wx_out X hH hS (fun x hx => (hT x hx).elim) hce6 hcv6 hcl6 (by first | exact Nat.le_of_ble_eq_true rfl | omega) (by first | exact Nat.le_of_ble_eq_true rfl | omega) ⟨rfl, S2_6, hX, hK, (fun j hj => (hx6_0 j hj).trans (by first | rfl | exact sup_n hj | (rw [sup_n hj, sup_n hj]))), (by rw [(show taP tx tl (sgO c) (nmO c).toNat 0 p = (tkP tx tl 0 (tkP tx tl 0 p)) by rcases hc with q | q | q | q; (rw [(hk1 q).2.2, if_pos ha]); (rw [(hk3 (Or.inl q)).2.2, if_pos ha, if_neg hb]); (rw [(hk3 (Or.inr q)).2.2, if_pos ha, if_neg hb]); (rw [(hk4 q).2.2, if_pos ha, if_neg hb])), tkP_0 _ _ (tkP tx tl 0 p)]; exact hx6_1)⟩
  · refine lv_aload_n X.x X.b dX6_more_0 rfl (lv_at hl 0 rfl) ?_
    refine wx_cx hS (wx_rV (rest := []) X hH (mX6_number_no hX   (show S 2 = tl by first | assumption | omega) (show ∀ i, 0 ≤ i → i < tl → A 1 i = tx i ∧ 0 ≤ tx i ∧ tx i ≤ 127 by first | assumption | omega) (show 0 ≤ tl ∧ tl ≤ 120 by first | assumption | omega) (show 0 ≤ S 3 ∧ S 3 ≤ tl by first | assumption | omega) (by rw [hp]; exact fun q => ha (okT_0.mpr q))) (cwV 0 X.t (lw_V q1499 q1501 qs45 q123 q1502) rfl rfl rfl hdX6_number ⟨Nat.le_of_ble_eq_true rfl, Nat.le_of_ble_eq_true rfl⟩) rfl (have h9 := (XW.c28 hX); h9) rfl rfl hl.1 rfl (Nat.le_of_ble_eq_true rfl) dX6_more_1 ⟨Nat.le_of_ble_eq_true rfl, Nat.le_of_ble_eq_true rfl⟩) (fun E1 q1 w1 ce1 H locs hp hH hS hce1 hcv1 hcl1 => ?_)
    obtain ⟨rfl, S2_1, hX, hk, hx1_0, hx1_1⟩ := hp
    have hK := hK.kp hk
    exact wx_out X hH hS (fun x hx => (hT x hx).elim) hce1 hcv1 hcl1 (by first | exact Nat.le_of_ble_eq_true rfl | omega) (by first | exact Nat.le_of_ble_eq_true rfl | omega) ⟨rfl, S2_1, hX, hK, (fun j hj => (hx1_0 j hj).trans (by first | rfl | exact sup_n hj | (rw [sup_n hj, sup_n hj]))), (by rw [(show taP tx tl (sgO c) (nmO c).toNat 0 p = tkP tx tl 0 p by rcases hc with q | q | q | q; (rw [(hk1 q).2.2, if_neg ha]); (rw [(hk3 (Or.inl q)).2.2, if_neg ha]); (rw [(hk3 (Or.inr q)).2.2, if_neg ha]); (rw [(hk4 q).2.2, if_neg ha])), tkP_0, ← hp]; exact hx1_1)⟩

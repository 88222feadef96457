/-! PRIORITYQUEUE -/
set_option maxRecDepth 100000 in
theorem mJ7_siftUpUsingComparator {lL : Launch} {G : wa_G} {ad : Nat → Nat} {w : wa_W} {S : Nat → Int} {A : Nat → Int → Int} {B : Nat → Int → Option Nat} {P : Nat → Option Nat} (hX : XW G ad w S A B P) {D : Nat → Prop} {d : LD} {h : Int → Nat} {n : Int} {x : Nat} (fQ : LQ ad w D d) (k : Int) (hn : 0 ≤ n ∧ n < 36) (hk : 0 ≤ k ∧ k ≤ n) (hB : ∀ i, 0 ≤ i → i ≤ n → i ≠ k → B 2 i = some (h i)) (hx : h k = x) (hU : hpU (fun i => rk d (h i)) n k) (hD : ∀ i, 0 ≤ i → i ≤ n → D (h i)) : Met lL yJ7_siftUpUsingComparator (ws_ yJ7_siftUpUsingComparator cJ7_siftUpUsingComparator 6 (none : Option FieldType)) ({ frames := 2, cells := 0, slots := 0, locals := 45 } : Room) (wa_P G w [.int (zI k), .ref x, .ref (ad 49), .ref (ad 50)]) (wa_Qv G fun u => ∃ (f2 : Int → Option Nat) (h2 : Int → Nat), XW G ad u S A (bup B 2 f2) P ∧ Kp ad w u ∧ (∀ i, 0 ≤ i → i ≤ n → f2 i = some (h2 i)) ∧ (hpA (fun i => rk d (h2 i)) n) ∧ (PM h h2 n)) 0 0 (wa_A G) := by
  refine wa_met (by decide) (by exact Nat.le_of_ble_eq_true rfl) ?_
  intro pP eE sS mM aA bB mT cC ls X hl hH
  have hS : va_S (wa_A G) sS.heap sS.heap [] := va_S.rf
  have hl : lv_has ls 6 [(0, .int (zI k)), (1, .ref x), (2, .ref (ad 49)), (3, .ref (ad 50))] := hl
  have hK : Kp ad w w := Kp.rf
  have L0 : ∀ (nn : Nat) (k0 : Int) (g : Int → Option Nat) (h0 : Int → Nat), (k0.toNat) = nn → (0 ≤ k0 ∧ k0 ≤ n) → (∀ i, 0 ≤ i → i ≤ n → i ≠ k0 → g i = some (h0 i)) → (h0 k0 = x) → (hpU (fun i => rk d (h0 i)) n k0) → (∀ i, 0 ≤ i → i ≤ n → D (h0 i)) → (PM h h0 n) → ∀ (wl0 : wa_W) (H : Heap) (locs : List Loc) (ls : Array Slot), XW G ad wl0 S A (bup B 2 g) P → Kp ad w wl0 → LQ ad wl0 D d → wa_H G wl0 H → va_S (wa_A G) sS.heap H locs → lv_has ls 6 [(0, .int (zI k0)), (1, .ref x), (2, .ref (ad 49)), (3, .ref (ad 50))] → W pP lL eE ({ frames := 2, cells := 0, slots := 0, locals := 45 } : Room) sS mM aA bB mT cC H locs 0 0 (MQ bB (wa_Qv G fun u => ∃ (f2 : Int → Option Nat) (h2 : Int → Nat), XW G ad u S A (bup B 2 f2) P ∧ Kp ad w u ∧ (∀ i, 0 ≤ i → i ≤ n → f2 i = some (h2 i)) ∧ (hpA (fun i => rk d (h2 i)) n) ∧ (PM h h2 n)) aA sS 0 0 (wa_A G)) (F0 mM 0 ls []) := by
    intro nn
    induction nn using Nat.strongRecOn with
    | ind nn ih0 =>
      intro k0 g h0 hmu0 i0_0 i0_1 i0_2 i0_3 i0_4 i0_5 wl0 H locs ls hX hK fQ hH hS hl
      refine lv_iload_n X.x X.b dJ7_siftUpUsingComparator_0 rfl (lv_at hl 0 rfl) ?_
      refine wz_ifle (tgt := 43) X.x X.b dJ7_siftUpUsingComparator_1 (by decide) ⟨by omega, by omega⟩ (fun c1 => ?_) (fun c1 => ?_)
      · have hDx : D x := by rw [← i0_2]; exact i0_4 _ i0_0.1 i0_0.2
        have fx := (fQ x hDx).1
        refine lv_aload_n X.x X.b dJ7_siftUpUsingComparator_43 rfl (lv_at hl 2 rfl) ?_
        refine lv_iload_n X.x X.b dJ7_siftUpUsingComparator_44 rfl (lv_at hl 0 rfl) ?_
        refine lv_aload_n X.x X.b dJ7_siftUpUsingComparator_45 rfl (lv_at hl 1 rfl) ?_
        refine wa_aast (k := 9) (f := g) X hH hS (have h9 := (XW.c49 hX); h9) rfl (wa_anySup X hH fx.2 rfl q1144 q2102) (by omega) (by omega) (by omega) dJ7_siftUpUsingComparator_46 (fun w46 H locs ew hH hS => ?_)
        have hk : Kp ad wl0 w46 := Kp.set (i := 49) (by omega) ew
        have hX := hX.sB (i := 49) (2) (x := fupR g k0 (some x)) (by unfold oB; omega) ew
        have hX := XW.cB (B2 := bup B 2 (fupR g k0 (some x))) hX (by funext j; simp only [bup]; by_cases h0 : j = 2; (subst h0; first | rfl | simp); simp only [h0, ↓reduceIte])
        have fQ := fQ.kp hk
        have fx := fx.kp hk
        have hK := hK.kp hk
        clear ew
        exact wa_vret X hH hS dJ7_siftUpUsingComparator_47 ⟨_, h0, hX, hK, (fun i i1 i2 => by
      by_cases q : i = k0
      · rw [q, fupR_s, i0_2]
      · rw [fupR_n q]; exact i0_1 i i1 i2 q), hpU.done i0_3 (by first | exact Or.inl (by omega) | exact Or.inr (by show rk d (h0 ((k0 - 1) / 2)) ≤ rk d (h0 k0); rw [i0_2, ← ee]; have h9 := hcs.1; omega)), i0_5⟩
      · refine lv_iload_n X.x X.b dJ7_siftUpUsingComparator_4 rfl (lv_at hl 0 rfl) ?_
        refine wz_iconst X.x X.b dJ7_siftUpUsingComparator_5 ?_
        refine wz_isub X.x X.b dJ7_siftUpUsingComparator_6 ?_
        refine wz_iconst X.x X.b dJ7_siftUpUsingComparator_7 ?_
        refine lv_iushr (v := zI ((k0 - 1) / 2)) X.x X.b dJ7_siftUpUsingComparator_8 (shr1 (by omega)) ?_
        refine lv_istore (lv' := [(4, .int (zI ((k0 - 1) / 2))), (0, .int (zI k0)), (1, .ref x), (2, .ref (ad 49)), (3, .ref (ad 50))]) X.x X.b dJ7_siftUpUsingComparator_9 hl (by decide) rfl (fun ls hl => ?_)
        refine lv_aload_n X.x X.b dJ7_siftUpUsingComparator_11 rfl (lv_at hl 3 rfl) ?_
        refine lv_iload X.x X.b dJ7_siftUpUsingComparator_12 (lv_at hl 0 rfl) ?_
        have hpa : (k0 - 1) / 2 ≠ k0 := by omega
        have he := i0_1 ((k0 - 1) / 2) (by omega) (by omega) hpa
        obtain ⟨e, ee⟩ : ∃ e, e = h0 ((k0 - 1) / 2) := ⟨_, rfl⟩
        rw [← ee] at he
        have hDe : D e := by rw [ee]; exact i0_4 _ (by omega) (by omega)
        have fe := (fQ e hDe).1
        have be := (fQ e hDe).2
        have hDx : D x := by rw [← i0_2]; exact i0_4 _ i0_0.1 i0_0.2
        have fx := (fQ x hDx).1
        have bx := (fQ x hDx).2
        have hcs := liC_rk bx be
        refine wa_aald (k := 9) (f := g) X hH (have h9 := (XW.c49 hX); h9) rfl rfl (by omega) (by omega) (by omega) dJ7_siftUpUsingComparator_14 ?_
        refine wz_opt (q := some e) (by exact he) ?_
        refine lv_astore (lv' := [(5, .ref e), (4, .int (zI ((k0 - 1) / 2))), (0, .int (zI k0)), (1, .ref x), (2, .ref (ad 49)), (3, .ref (ad 50))]) X.x X.b dJ7_siftUpUsingComparator_15 hl (by decide) rfl (fun ls hl => ?_)
        refine lv_aload_n X.x X.b dJ7_siftUpUsingComparator_17 rfl (lv_at hl 5 rfl) ?_
        refine lv_aload_n X.x X.b dJ7_siftUpUsingComparator_18 rfl (lv_at hl 3 rfl) ?_
        refine lv_aload X.x X.b dJ7_siftUpUsingComparator_19 (lv_at hl 0 rfl) ?_
        refine wa_c5i hS (wa_rF (rest := []) X hH (mX4_compare  (show At wl0 (ad 50) (eO 4 []) from (XW.c50 hX)) (show At wl0 x (eO 11 [.int (zI ((d x).1)), .int (zI ((d x).2.1)), .ref ((d x).2.2.2), .int (zI ((d x).2.2.1))]) from fx.2) (show At wl0 e (eO 11 [.int (zI ((d e).1)), .int (zI ((d e).2.1)), .ref ((d e).2.2.2), .int (zI ((d e).2.2.1))]) from fe.2)  (by unfold lkB at bx; omega) (by unfold lkB at bx; omega) (by unfold lkB at bx; omega) (by unfold lkB at be; omega) (by unfold lkB at be; omega) (by unfold lkB at be; omega)) (va_cwF 2 X.t (lw_F q1214 q772 q774 q121 q776) rfl rfl rfl (X.k.2.2.2.1 ("PictureRing$ByVotes", ⟨"java/util/Comparato\x72", "compare", "(Ljava/lang/Object;Ljava/lang/Object;)I"⟩, ⟨"PictureRing$ByVotes", "compare", "(Ljava/lang/Object;Ljava/lang/Object;)I"⟩) (by decide)) ⟨by decide, by decide, by decide +kernel⟩ ⟨Nat.le_of_ble_eq_true rfl, Nat.le_of_ble_eq_true rfl⟩) rfl (have h9 := (XW.c50 hX); h9) rfl rfl hl.1 rfl (Nat.le_of_ble_eq_true rfl) dJ7_siftUpUsingComparator_21 ⟨Nat.le_of_ble_eq_true rfl, Nat.le_of_ble_eq_true rfl⟩) (fun z w21 H locs hp hH hS => ?_)
        obtain ⟨rfl, hw⟩ := hp
        refine wz_is (z := liC ((d x).1) ((d x).2.1) ((d x).2.2.1) ((d e).1) ((d e).2.1) ((d e).2.2.1)) (by rfl) ?_
        rw [← hw] at hH; clear hw
        refine wz_iflt (tgt := 32) X.x X.b dJ7_siftUpUsingComparator_26 (by decide) hcs.2.2 (fun c26 => ?_) (fun c26 => ?_)
        · refine lv_aload_n X.x X.b dJ7_siftUpUsingComparator_32 rfl (lv_at hl 4 rfl) ?_
          refine lv_iload_n X.x X.b dJ7_siftUpUsingComparator_33 rfl (lv_at hl 2 rfl) ?_
          refine lv_aload X.x X.b dJ7_siftUpUsingComparator_34 (lv_at hl 0 rfl) ?_
          refine wa_aast (k := 9) (f := g) X hH hS (have h9 := (XW.c49 hX); h9) rfl (wa_anySup X hH fe.2 rfl q1144 q2102) (by omega) (by omega) (by omega) dJ7_siftUpUsingComparator_36 (fun w36 H locs ew hH hS => ?_)
          have hk : Kp ad wl0 w36 := Kp.set (i := 49) (by omega) ew
          have hX := hX.sB (i := 49) (2) (x := fupR g k0 (some e)) (by unfold oB; omega) ew
          have hX := XW.cB (B2 := bup B 2 (fupR g k0 (some e))) hX (by funext j; simp only [bup]; by_cases h0 : j = 2; (subst h0; first | rfl | simp); simp only [h0, ↓reduceIte])
          have fQ := fQ.kp hk
          have fe := fe.kp hk
          have fx := fx.kp hk
          have hK := hK.kp hk
          clear ew
          refine lv_iload X.x X.b dJ7_siftUpUsingComparator_37 (lv_at hl 1 rfl) ?_
          refine lv_istore_n (lv' := [(0, .int (zI ((k0 - 1) / 2))), (5, .ref e), (4, .int (zI ((k0 - 1) / 2))), (1, .ref x), (2, .ref (ad 49)), (3, .ref (ad 50))]) X.x X.b dJ7_siftUpUsingComparator_39 rfl hl (by decide) rfl (fun ls hl => ?_)
          refine lv_goto (tgt := 0) X.x X.b dJ7_siftUpUsingComparator_40 (by decide) ?_
          exact ih0 _ (by omega) ((k0 - 1) / 2) (fupR g k0 (some e)) (swp h0 k0 ((k0 - 1) / 2)) rfl (by omega) (by intro i i1 i2 i3; by_cases q : i = k0; (rw [q, fupR_s, swp_i, ← ee]); (rw [fupR_n q, swp_n q i3]; exact i0_1 i i1 i2 q)) (by rw [swp_j]; exact i0_2) (by exact swp_rk (hpU.step i0_3 (by omega) rfl (by have h9 := hcs.1.mp c26; show rk d (h0 k0) < rk d (h0 ((k0 - 1) / 2)); rw [i0_2, ← ee]; exact h9))) (by intro i i1 i2; exact swp_D i0_4 (by omega) (by omega) i i1 i2) (by exact i0_5.trans (PM.sw (by omega) (by omega))) _ _ _ _ hX hK fQ hH hS (lv_sub hl [0, 3, 4, 5] rfl)
        · refine lv_goto (tgt := 43) X.x X.b dJ7_siftUpUsingComparator_29 (by decide) ?_
          refine lv_aload_n X.x X.b dJ7_siftUpUsingComparator_43 rfl (lv_at hl 4 rfl) ?_
          refine lv_iload_n X.x X.b dJ7_siftUpUsingComparator_44 rfl (lv_at hl 2 rfl) ?_
          refine lv_aload_n X.x X.b dJ7_siftUpUsingComparator_45 rfl (lv_at hl 3 rfl) ?_
          refine wa_aast (k := 9) (f := g) X hH hS (have h9 := (XW.c49 hX); h9) rfl (wa_anySup X hH fx.2 rfl q1144 q2102) (by omega) (by omega) (by omega) dJ7_siftUpUsingComparator_46 (fun w46 H locs ew hH hS => ?_)
          have hk : Kp ad wl0 w46 := Kp.set (i := 49) (by omega) ew
          have hX := hX.sB (i := 49) (2) (x := fupR g k0 (some x)) (by unfold oB; omega) ew
          have hX := XW.cB (B2 := bup B 2 (fupR g k0 (some x))) hX (by funext j; simp only [bup]; by_cases h0 : j = 2; (subst h0; first | rfl | simp); simp only [h0, ↓reduceIte])
          have fQ := fQ.kp hk
          have fe := fe.kp hk
          have fx := fx.kp hk
          have hK := hK.kp hk
          clear ew
          exact wa_vret X hH hS dJ7_siftUpUsingComparator_47 ⟨_, h0, hX, hK, (fun i i1 i2 => by
      by_cases q : i = k0
      · rw [q, fupR_s, i0_2]
      · rw [fupR_n q]; exact i0_1 i i1 i2 q), hpU.done i0_3 (by first | exact Or.inl (by omega) | exact Or.inr (by show rk d (h0 ((k0 - 1) / 2)) ≤ rk d (h0 k0); rw [i0_2, ← ee]; have h9 := hcs.1; omega)), i0_5⟩
  have hX := XW.cB (B2 := bup B 2 (B 2)) hX (by funext j; simp only [bup]; by_cases h0 : j = 2; (subst h0; first | rfl | simp); simp only [h0, ↓reduceIte])
  exact L0 _ k (B 2) h rfl (by exact hk) (by exact hB) (by exact hx) (by exact hU) (by exact hD) (by exact PM.rf) _ _ _ _ hX hK fQ hH hS (lv_sub hl [0, 1, 2, 3] rfl)
set_option maxRecDepth 100000 in
theorem mJ7_siftDownUsingComparator {lL : Launch} {G : wa_G} {ad : Nat → Nat} {w : wa_W} {S : Nat → Int} {A : Nat → Int → Int} {B : Nat → Int → Option Nat} {P : Nat → Option Nat} (hX : XW G ad w S A B P) {D : Nat → Prop} {d : LD} {h : Int → Nat} {n : Int} {x : Nat} (fQ : LQ ad w D d) (k : Int) (q1 : Int) (hn : 0 ≤ n ∧ n < 36) (hq : q1 = n + 1) (hk : 0 ≤ k ∧ k ≤ n) (hB : ∀ i, 0 ≤ i → i ≤ n → i ≠ k → B 2 i = some (h i)) (hx : h k = x) (hU : hpD (fun i => rk d (h i)) n k) (hD : ∀ i, 0 ≤ i → i ≤ n → D (h i)) : Met lL yJ7_siftDownUsingComparator (ws_ yJ7_siftDownUsingComparator cJ7_siftDownUsingComparator 9 (none : Option FieldType)) ({ frames := 2, cells := 0, slots := 0, locals := 45 } : Room) (wa_P G w [.int (zI k), .ref x, .ref (ad 49), .int (zI q1), .ref (ad 50)]) (wa_Qv G fun u => ∃ (f2 : Int → Option Nat) (h2 : Int → Nat), XW G ad u S A (bup B 2 f2) P ∧ Kp ad w u ∧ (∀ i, 0 ≤ i → i ≤ n → f2 i = some (h2 i)) ∧ (hpA (fun i => rk d (h2 i)) n) ∧ (PM h h2 n)) 0 0 (wa_A G) := by
  refine wa_met (by decide) (by exact Nat.le_of_ble_eq_true rfl) ?_
  intro pP eE sS mM aA bB mT cC ls X hl hH
  have hS : va_S (wa_A G) sS.heap sS.heap [] := va_S.rf
  have hl : lv_has ls 9 [(0, .int (zI k)), (1, .ref x), (2, .ref (ad 49)), (3, .int (zI q1)), (4, .ref (ad 50))] := hl
  have hK : Kp ad w w := Kp.rf
  refine lv_iload_n X.x X.b dJ7_siftDownUsingComparator_0 rfl (lv_at hl 3 rfl) ?_
  refine wz_iconst X.x X.b dJ7_siftDownUsingComparator_1 ?_
  refine lv_iushr (v := zI (q1 / 2)) X.x X.b dJ7_siftDownUsingComparator_2 (shr1 (by omega)) ?_
  refine lv_istore (lv' := [(5, .int (zI (q1 / 2))), (0, .int (zI k)), (1, .ref x), (2, .ref (ad 49)), (3, .int (zI q1)), (4, .ref (ad 50))]) X.x X.b dJ7_siftDownUsingComparator_3 hl (by decide) rfl (fun ls hl => ?_)
  have L5 : ∀ (nn : Nat) (k0 : Int) (g : Int → Option Nat) (h0 : Int → Nat), ((n - k0).toNat) = nn → (0 ≤ k0 ∧ k0 ≤ n) → (∀ i, 0 ≤ i → i ≤ n → i ≠ k0 → g i = some (h0 i)) → (h0 k0 = x) → (hpD (fun i => rk d (h0 i)) n k0) → (∀ i, 0 ≤ i → i ≤ n → D (h0 i)) → (PM h h0 n) → ∀ (wl5 : wa_W) (H : Heap) (locs : List Loc) (ls : Array Slot), XW G ad wl5 S A (bup B 2 g) P → Kp ad w wl5 → LQ ad wl5 D d → wa_H G wl5 H → va_S (wa_A G) sS.heap H locs → lv_has ls 9 [(0, .int (zI k0)), (5, .int (zI (q1 / 2))), (1, .ref x), (2, .ref (ad 49)), (3, .int (zI q1)), (4, .ref (ad 50))] → W pP lL eE ({ frames := 2, cells := 0, slots := 0, locals := 45 } : Room) sS mM aA bB mT cC H locs 0 0 (MQ bB (wa_Qv G fun u => ∃ (f2 : Int → Option Nat) (h2 : Int → Nat), XW G ad u S A (bup B 2 f2) P ∧ Kp ad w u ∧ (∀ i, 0 ≤ i → i ≤ n → f2 i = some (h2 i)) ∧ (hpA (fun i => rk d (h2 i)) n) ∧ (PM h h2 n)) aA sS 0 0 (wa_A G)) (F0 mM 5 ls []) := by
    intro nn
    induction nn using Nat.strongRecOn with
    | ind nn ih5 =>
      intro k0 g h0 hmu5 i5_0 i5_1 i5_2 i5_3 i5_4 i5_5 wl5 H locs ls hX hK fQ hH hS hl
      refine lv_iload_n X.x X.b dJ7_siftDownUsingComparator_5 rfl (lv_at hl 0 rfl) ?_
      refine lv_iload X.x X.b dJ7_siftDownUsingComparator_6 (lv_at hl 1 rfl) ?_
      refine wz_icmp_ge (tgt := 88) X.x X.b dJ7_siftDownUsingComparator_8 (by decide) ⟨by omega, by omega⟩ ⟨by omega, by omega⟩ (fun c8 => ?_) (fun c8 => ?_)
      · have hDx : D x := by rw [← i5_2]; exact i5_4 _ i5_0.1 i5_0.2
        have fx := (fQ x hDx).1
        refine lv_aload_n X.x X.b dJ7_siftDownUsingComparator_88 rfl (lv_at hl 3 rfl) ?_
        refine lv_iload_n X.x X.b dJ7_siftDownUsingComparator_89 rfl (lv_at hl 0 rfl) ?_
        refine lv_aload_n X.x X.b dJ7_siftDownUsingComparator_90 rfl (lv_at hl 2 rfl) ?_
        refine wa_aast (k := 9) (f := g) X hH hS (have h9 := (XW.c49 hX); h9) rfl (wa_anySup X hH fx.2 rfl q1144 q2102) (by omega) (by omega) (by omega) dJ7_siftDownUsingComparator_91 (fun w91 H locs ew hH hS => ?_)
        have hk : Kp ad wl5 w91 := Kp.set (i := 49) (by omega) ew
        have hX := hX.sB (i := 49) (2) (x := fupR g k0 (some x)) (by unfold oB; omega) ew
        have hX := XW.cB (B2 := bup B 2 (fupR g k0 (some x))) hX (by funext j; simp only [bup]; by_cases h0 : j = 2; (subst h0; first | rfl | simp); simp only [h0, ↓reduceIte])
        have fQ := fQ.kp hk
        have fx := fx.kp hk
        have hK := hK.kp hk
        clear ew
        exact wa_vret X hH hS dJ7_siftDownUsingComparator_92 ⟨_, h0, hX, hK, (fun i i1 i2 => by
      by_cases q : i = k0
      · rw [q, fupR_s, i5_2]
      · rw [fupR_n q]; exact i5_1 i i1 i2 q), hpD.done i5_3 (fun i i1 i2 i3 => by exfalso; omega), i5_5⟩
      · refine lv_iload_n X.x X.b dJ7_siftDownUsingComparator_11 rfl (lv_at hl 0 rfl) ?_
        refine wz_iconst X.x X.b dJ7_siftDownUsingComparator_12 ?_
        refine lv_ishl X.x X.b dJ7_siftDownUsingComparator_13 ?_
        refine wz_i32 (z := 2 * k0) (shl1 (by omega)) ?_
        refine wz_iconst X.x X.b dJ7_siftDownUsingComparator_14 ?_
        refine wz_iadd X.x X.b dJ7_siftDownUsingComparator_15 ?_
        refine lv_istore (lv' := [(6, .int (zI ((2 * k0) + 1))), (0, .int (zI k0)), (5, .int (zI (q1 / 2))), (1, .ref x), (2, .ref (ad 49)), (3, .int (zI q1)), (4, .ref (ad 50))]) X.x X.b dJ7_siftDownUsingComparator_16 hl (by decide) rfl (fun ls hl => ?_)
        refine lv_aload_n X.x X.b dJ7_siftDownUsingComparator_18 rfl (lv_at hl 4 rfl) ?_
        refine lv_iload X.x X.b dJ7_siftDownUsingComparator_19 (lv_at hl 0 rfl) ?_
        have hc1 := i5_1 (2 * k0 + 1) (by omega) (by omega) (by omega)
        obtain ⟨c1, ec1⟩ : ∃ e, e = h0 (2 * k0 + 1) := ⟨_, rfl⟩
        rw [← ec1] at hc1
        have fc1 := (fQ c1 (by rw [ec1]; exact i5_4 _ (by omega) (by omega))).1
        have bc1 := (fQ c1 (by rw [ec1]; exact i5_4 _ (by omega) (by omega))).2
        refine wa_aald (k := 9) (f := g) X hH (have h9 := (XW.c49 hX); h9) rfl rfl (by omega) (by omega) (by omega) dJ7_siftDownUsingComparator_21 ?_
        refine wz_opt (q := some c1) (by exact hc1) ?_
        refine lv_astore (lv' := [(7, .ref c1), (6, .int (zI ((2 * k0) + 1))), (0, .int (zI k0)), (5, .int (zI (q1 / 2))), (1, .ref x), (2, .ref (ad 49)), (3, .int (zI q1)), (4, .ref (ad 50))]) X.x X.b dJ7_siftDownUsingComparator_22 hl (by decide) rfl (fun ls hl => ?_)
        refine lv_iload X.x X.b dJ7_siftDownUsingComparator_24 (lv_at hl 1 rfl) ?_
        refine wz_iconst X.x X.b dJ7_siftDownUsingComparator_26 ?_
        refine wz_iadd X.x X.b dJ7_siftDownUsingComparator_27 ?_
        refine lv_istore (lv' := [(8, .int (zI (((2 * k0) + 1) + 1))), (7, .ref c1), (6, .int (zI ((2 * k0) + 1))), (0, .int (zI k0)), (5, .int (zI (q1 / 2))), (1, .ref x), (2, .ref (ad 49)), (3, .int (zI q1)), (4, .ref (ad 50))]) X.x X.b dJ7_siftDownUsingComparator_28 hl (by decide) rfl (fun ls hl => ?_)
        refine lv_iload X.x X.b dJ7_siftDownUsingComparator_30 (lv_at hl 0 rfl) ?_
        refine lv_iload_n X.x X.b dJ7_siftDownUsingComparator_32 rfl (lv_at hl 7 rfl) ?_
        refine wz_icmp_ge (tgt := 61) X.x X.b dJ7_siftDownUsingComparator_33 (by decide) ⟨by omega, by omega⟩ ⟨by omega, by omega⟩ (fun c33 => ?_) (fun c33 => ?_)
        · have hmin : ∀ i, 0 < i → i ≤ n → (i - 1) / 2 = k0 → rk d c1 ≤ rk d (h0 i) := fun i i1 i2 i3 => by rcases (show i = 2 * k0 + 1 ∨ i = 2 * k0 + 1 + 1 by omega) with q | q; (rw [q, ← ec1]; exact Int.le_refl _); (exfalso; omega)
          have hDx : D x := by rw [← i5_2]; exact i5_4 _ i5_0.1 i5_0.2
          have fx := (fQ x hDx).1
          have bx := (fQ x hDx).2
          have hcs := liC_rk bx bc1
          refine lv_aload X.x X.b dJ7_siftDownUsingComparator_61 (lv_at hl 8 rfl) ?_
          refine lv_aload_n X.x X.b dJ7_siftDownUsingComparator_63 rfl (lv_at hl 5 rfl) ?_
          refine lv_aload X.x X.b dJ7_siftDownUsingComparator_64 (lv_at hl 1 rfl) ?_
          refine wa_c5i hS (wa_rF (rest := []) X hH (mX4_compare  (show At wl5 (ad 50) (eO 4 []) from (XW.c50 hX)) (show At wl5 x (eO 11 [.int (zI ((d x).1)), .int (zI ((d x).2.1)), .ref ((d x).2.2.2), .int (zI ((d x).2.2.1))]) from fx.2) (show At wl5 c1 (eO 11 [.int (zI ((d c1).1)), .int (zI ((d c1).2.1)), .ref ((d c1).2.2.2), .int (zI ((d c1).2.2.1))]) from fc1.2)  (by unfold lkB at bx; omega) (by unfold lkB at bx; omega) (by unfold lkB at bx; omega) (by unfold lkB at bc1; omega) (by unfold lkB at bc1; omega) (by unfold lkB at bc1; omega)) (va_cwF 2 X.t (lw_F q1214 q772 q774 q121 q776) rfl rfl rfl (X.k.2.2.2.1 ("PictureRing$ByVotes", ⟨"java/util/Comparato\x72", "compare", "(Ljava/lang/Object;Ljava/lang/Object;)I"⟩, ⟨"PictureRing$ByVotes", "compare", "(Ljava/lang/Object;Ljava/lang/Object;)I"⟩) (by decide)) ⟨by decide, by decide, by decide +kernel⟩ ⟨Nat.le_of_ble_eq_true rfl, Nat.le_of_ble_eq_true rfl⟩) rfl (have h9 := (XW.c50 hX); h9) rfl rfl hl.1 rfl (Nat.le_of_ble_eq_true rfl) dJ7_siftDownUsingComparator_66 ⟨Nat.le_of_ble_eq_true rfl, Nat.le_of_ble_eq_true rfl⟩) (fun z w66 H locs hp hH hS => ?_)
          obtain ⟨rfl, hw⟩ := hp
          refine wz_is (z := liC ((d x).1) ((d x).2.1) ((d x).2.2.1) ((d c1).1) ((d c1).2.1) ((d c1).2.2.1)) (by rfl) ?_
          rw [← hw] at hH; clear hw
          refine wz_ifgt (tgt := 77) X.x X.b dJ7_siftDownUsingComparator_71 (by decide) hcs.2.2 (fun c71 => ?_) (fun c71 => ?_)
          · refine lv_aload_n X.x X.b dJ7_siftDownUsingComparator_77 rfl (lv_at hl 6 rfl) ?_
            refine lv_iload_n X.x X.b dJ7_siftDownUsingComparator_78 rfl (lv_at hl 3 rfl) ?_
            refine lv_aload X.x X.b dJ7_siftDownUsingComparator_79 (lv_at hl 1 rfl) ?_
            refine wa_aast (k := 9) (f := g) X hH hS (have h9 := (XW.c49 hX); h9) rfl (wa_anySup X hH fc1.2 rfl q1144 q2102) (by omega) (by omega) (by omega) dJ7_siftDownUsingComparator_81 (fun w81 H locs ew hH hS => ?_)
            have hk : Kp ad wl5 w81 := Kp.set (i := 49) (by omega) ew
            have hX := hX.sB (i := 49) (2) (x := fupR g k0 (some c1)) (by unfold oB; omega) ew
            have hX := XW.cB (B2 := bup B 2 (fupR g k0 (some c1))) hX (by funext j; simp only [bup]; by_cases h0 : j = 2; (subst h0; first | rfl | simp); simp only [h0, ↓reduceIte])
            have fQ := fQ.kp hk
            have fc1 := fc1.kp hk
            have fx := fx.kp hk
            have hK := hK.kp hk
            clear ew
            refine lv_iload X.x X.b dJ7_siftDownUsingComparator_82 (lv_at hl 2 rfl) ?_
            refine lv_istore_n (lv' := [(0, .int (zI ((2 * k0) + 1))), (8, .int (zI (((2 * k0) + 1) + 1))), (7, .ref c1), (6, .int (zI ((2 * k0) + 1))), (5, .int (zI (q1 / 2))), (1, .ref x), (2, .ref (ad 49)), (3, .int (zI q1)), (4, .ref (ad 50))]) X.x X.b dJ7_siftDownUsingComparator_84 rfl hl (by decide) rfl (fun ls hl => ?_)
            refine lv_goto (tgt := 5) X.x X.b dJ7_siftDownUsingComparator_85 (by decide) ?_
            exact ih5 _ (by omega) ((2 * k0) + 1) (fupR g k0 (some c1)) (swp h0 k0 (2 * k0 + 1)) rfl (by omega) (by intro i i1 i2 i3; by_cases q : i = k0; (rw [q, fupR_s, swp_i, ← ec1]); (rw [fupR_n q, swp_n q i3]; exact i5_1 i i1 i2 q)) (by rw [swp_j]; exact i5_2) (by exact swp_rkD (hpD.step i5_3 (by omega) (by omega) (by omega) (by have h9 := hcs.2.1.mp c71; show rk d (h0 (2 * k0 + 1)) < rk d (h0 k0); rw [i5_2, ← ec1]; exact h9) (by intro i i1 i2 i3; show rk d (h0 (2 * k0 + 1)) ≤ rk d (h0 i); rw [← ec1]; exact hmin i i1 i2 i3))) (by intro i i1 i2; exact swp_D i5_4 (by omega) (by omega) i i1 i2) (by exact i5_5.trans (PM.sw (by omega) (by omega))) _ _ _ _ hX hK fQ hH hS (lv_sub hl [0, 4, 5, 6, 7, 8] rfl)
          · refine lv_goto (tgt := 88) X.x X.b dJ7_siftDownUsingComparator_74 (by decide) ?_
            refine lv_aload_n X.x X.b dJ7_siftDownUsingComparator_88 rfl (lv_at hl 6 rfl) ?_
            refine lv_iload_n X.x X.b dJ7_siftDownUsingComparator_89 rfl (lv_at hl 3 rfl) ?_
            refine lv_aload_n X.x X.b dJ7_siftDownUsingComparator_90 rfl (lv_at hl 5 rfl) ?_
            refine wa_aast (k := 9) (f := g) X hH hS (have h9 := (XW.c49 hX); h9) rfl (wa_anySup X hH fx.2 rfl q1144 q2102) (by omega) (by omega) (by omega) dJ7_siftDownUsingComparator_91 (fun w91 H locs ew hH hS => ?_)
            have hk : Kp ad wl5 w91 := Kp.set (i := 49) (by omega) ew
            have hX := hX.sB (i := 49) (2) (x := fupR g k0 (some x)) (by unfold oB; omega) ew
            have hX := XW.cB (B2 := bup B 2 (fupR g k0 (some x))) hX (by funext j; simp only [bup]; by_cases h0 : j = 2; (subst h0; first | rfl | simp); simp only [h0, ↓reduceIte])
            have fQ := fQ.kp hk
            have fc1 := fc1.kp hk
            have fx := fx.kp hk
            have hK := hK.kp hk
            clear ew
            exact wa_vret X hH hS dJ7_siftDownUsingComparator_92 ⟨_, h0, hX, hK, (fun i i1 i2 => by
      by_cases q : i = k0
      · rw [q, fupR_s, i5_2]
      · rw [fupR_n q]; exact i5_1 i i1 i2 q), hpD.done i5_3 (fun i i1 i2 i3 => by show rk d (h0 k0) ≤ rk d (h0 i); rw [i5_2]; have h9 := hmin i i1 i2 i3; have h8 := hcs.2.1; omega), i5_5⟩
        · refine lv_aload X.x X.b dJ7_siftDownUsingComparator_36 (lv_at hl 8 rfl) ?_
          refine lv_aload X.x X.b dJ7_siftDownUsingComparator_38 (lv_at hl 1 rfl) ?_
          refine lv_aload_n X.x X.b dJ7_siftDownUsingComparator_40 rfl (lv_at hl 6 rfl) ?_
          refine lv_iload X.x X.b dJ7_siftDownUsingComparator_41 (lv_at hl 0 rfl) ?_
          have hc2 := i5_1 (2 * k0 + 1 + 1) (by omega) (by omega) (by omega)
          obtain ⟨c2, ec2⟩ : ∃ e, e = h0 (2 * k0 + 1 + 1) := ⟨_, rfl⟩
          rw [← ec2] at hc2
          have fc2 := (fQ c2 (by rw [ec2]; exact i5_4 _ (by omega) (by omega))).1
          have bc2 := (fQ c2 (by rw [ec2]; exact i5_4 _ (by omega) (by omega))).2
          have hcc := liC_rk bc1 bc2
          refine wa_aald (k := 9) (f := g) X hH (have h9 := (XW.c49 hX); h9) rfl rfl (by omega) (by omega) (by omega) dJ7_siftDownUsingComparator_43 ?_
          refine wz_opt (q := some c2) (by exact hc2) ?_
          refine wa_c5i hS (wa_rF (rest := []) X hH (mX4_compare  (show At wl5 (ad 50) (eO 4 []) from (XW.c50 hX)) (show At wl5 c1 (eO 11 [.int (zI ((d c1).1)), .int (zI ((d c1).2.1)), .ref ((d c1).2.2.2), .int (zI ((d c1).2.2.1))]) from fc1.2) (show At wl5 c2 (eO 11 [.int (zI ((d c2).1)), .int (zI ((d c2).2.1)), .ref ((d c2).2.2.2), .int (zI ((d c2).2.2.1))]) from fc2.2)  (by unfold lkB at bc1; omega) (by unfold lkB at bc1; omega) (by unfold lkB at bc1; omega) (by unfold lkB at bc2; omega) (by unfold lkB at bc2; omega) (by unfold lkB at bc2; omega)) (va_cwF 2 X.t (lw_F q1214 q772 q774 q121 q776) rfl rfl rfl (X.k.2.2.2.1 ("PictureRing$ByVotes", ⟨"java/util/Comparato\x72", "compare", "(Ljava/lang/Object;Ljava/lang/Object;)I"⟩, ⟨"PictureRing$ByVotes", "compare", "(Ljava/lang/Object;Ljava/lang/Object;)I"⟩) (by decide)) ⟨by decide, by decide, by decide +kernel⟩ ⟨Nat.le_of_ble_eq_true rfl, Nat.le_of_ble_eq_true rfl⟩) rfl (have h9 := (XW.c50 hX); h9) rfl rfl hl.1 rfl (Nat.le_of_ble_eq_true rfl) dJ7_siftDownUsingComparator_44 ⟨Nat.le_of_ble_eq_true rfl, Nat.le_of_ble_eq_true rfl⟩) (fun z w44 H locs hp hH hS => ?_)
          obtain ⟨rfl, hw⟩ := hp
          refine wz_is (z := liC ((d c1).1) ((d c1).2.1) ((d c1).2.2.1) ((d c2).1) ((d c2).2.1) ((d c2).2.2.1)) (by rfl) ?_
          rw [← hw] at hH; clear hw
          refine wz_ifle (tgt := 61) X.x X.b dJ7_siftDownUsingComparator_49 (by decide) hcc.2.2 (fun c49 => ?_) (fun c49 => ?_)
          · have hmin : ∀ i, 0 < i → i ≤ n → (i - 1) / 2 = k0 → rk d c1 ≤ rk d (h0 i) := fun i i1 i2 i3 => by rcases (show i = 2 * k0 + 1 ∨ i = 2 * k0 + 1 + 1 by omega) with q | q; (rw [q, ← ec1]; exact Int.le_refl _); (rw [q, ← ec2]; have h9 := hcc.2.1; omega)
            have hDx : D x := by rw [← i5_2]; exact i5_4 _ i5_0.1 i5_0.2
            have fx := (fQ x hDx).1
            have bx := (fQ x hDx).2
            have hcs := liC_rk bx bc1
            refine lv_aload X.x X.b dJ7_siftDownUsingComparator_61 (lv_at hl 8 rfl) ?_
            refine lv_aload_n X.x X.b dJ7_siftDownUsingComparator_63 rfl (lv_at hl 5 rfl) ?_
            refine lv_aload X.x X.b dJ7_siftDownUsingComparator_64 (lv_at hl 1 rfl) ?_
            refine wa_c5i hS (wa_rF (rest := []) X hH (mX4_compare  (show At wl5 (ad 50) (eO 4 []) from (XW.c50 hX)) (show At wl5 x (eO 11 [.int (zI ((d x).1)), .int (zI ((d x).2.1)), .ref ((d x).2.2.2), .int (zI ((d x).2.2.1))]) from fx.2) (show At wl5 c1 (eO 11 [.int (zI ((d c1).1)), .int (zI ((d c1).2.1)), .ref ((d c1).2.2.2), .int (zI ((d c1).2.2.1))]) from fc1.2)  (by unfold lkB at bx; omega) (by unfold lkB at bx; omega) (by unfold lkB at bx; omega) (by unfold lkB at bc1; omega) (by unfold lkB at bc1; omega) (by unfold lkB at bc1; omega)) (va_cwF 2 X.t (lw_F q1214 q772 q774 q121 q776) rfl rfl rfl (X.k.2.2.2.1 ("PictureRing$ByVotes", ⟨"java/util/Comparato\x72", "compare", "(Ljava/lang/Object;Ljava/lang/Object;)I"⟩, ⟨"PictureRing$ByVotes", "compare", "(Ljava/lang/Object;Ljava/lang/Object;)I"⟩) (by decide)) ⟨by decide, by decide, by decide +kernel⟩ ⟨Nat.le_of_ble_eq_true rfl, Nat.le_of_ble_eq_true rfl⟩) rfl (have h9 := (XW.c50 hX); h9) rfl rfl hl.1 rfl (Nat.le_of_ble_eq_true rfl) dJ7_siftDownUsingComparator_66 ⟨Nat.le_of_ble_eq_true rfl, Nat.le_of_ble_eq_true rfl⟩) (fun z w66 H locs hp hH hS => ?_)
            obtain ⟨rfl, hw⟩ := hp
            refine wz_is (z := liC ((d x).1) ((d x).2.1) ((d x).2.2.1) ((d c1).1) ((d c1).2.1) ((d c1).2.2.1)) (by rfl) ?_
            rw [← hw] at hH; clear hw
            refine wz_ifgt (tgt := 77) X.x X.b dJ7_siftDownUsingComparator_71 (by decide) hcs.2.2 (fun c71 => ?_) (fun c71 => ?_)
            · refine lv_aload_n X.x X.b dJ7_siftDownUsingComparator_77 rfl (lv_at hl 6 rfl) ?_
              refine lv_iload_n X.x X.b dJ7_siftDownUsingComparator_78 rfl (lv_at hl 3 rfl) ?_
              refine lv_aload X.x X.b dJ7_siftDownUsingComparator_79 (lv_at hl 1 rfl) ?_
              refine wa_aast (k := 9) (f := g) X hH hS (have h9 := (XW.c49 hX); h9) rfl (wa_anySup X hH fc1.2 rfl q1144 q2102) (by omega) (by omega) (by omega) dJ7_siftDownUsingComparator_81 (fun w81 H locs ew hH hS => ?_)
              have hk : Kp ad wl5 w81 := Kp.set (i := 49) (by omega) ew
              have hX := hX.sB (i := 49) (2) (x := fupR g k0 (some c1)) (by unfold oB; omega) ew
              have hX := XW.cB (B2 := bup B 2 (fupR g k0 (some c1))) hX (by funext j; simp only [bup]; by_cases h0 : j = 2; (subst h0; first | rfl | simp); simp only [h0, ↓reduceIte])
              have fQ := fQ.kp hk
              have fc1 := fc1.kp hk
              have fc2 := fc2.kp hk
              have fx := fx.kp hk
              have hK := hK.kp hk
              clear ew
              refine lv_iload X.x X.b dJ7_siftDownUsingComparator_82 (lv_at hl 2 rfl) ?_
              refine lv_istore_n (lv' := [(0, .int (zI ((2 * k0) + 1))), (8, .int (zI (((2 * k0) + 1) + 1))), (7, .ref c1), (6, .int (zI ((2 * k0) + 1))), (5, .int (zI (q1 / 2))), (1, .ref x), (2, .ref (ad 49)), (3, .int (zI q1)), (4, .ref (ad 50))]) X.x X.b dJ7_siftDownUsingComparator_84 rfl hl (by decide) rfl (fun ls hl => ?_)
              refine lv_goto (tgt := 5) X.x X.b dJ7_siftDownUsingComparator_85 (by decide) ?_
              exact ih5 _ (by omega) ((2 * k0) + 1) (fupR g k0 (some c1)) (swp h0 k0 (2 * k0 + 1)) rfl (by omega) (by intro i i1 i2 i3; by_cases q : i = k0; (rw [q, fupR_s, swp_i, ← ec1]); (rw [fupR_n q, swp_n q i3]; exact i5_1 i i1 i2 q)) (by rw [swp_j]; exact i5_2) (by exact swp_rkD (hpD.step i5_3 (by omega) (by omega) (by omega) (by have h9 := hcs.2.1.mp c71; show rk d (h0 (2 * k0 + 1)) < rk d (h0 k0); rw [i5_2, ← ec1]; exact h9) (by intro i i1 i2 i3; show rk d (h0 (2 * k0 + 1)) ≤ rk d (h0 i); rw [← ec1]; exact hmin i i1 i2 i3))) (by intro i i1 i2; exact swp_D i5_4 (by omega) (by omega) i i1 i2) (by exact i5_5.trans (PM.sw (by omega) (by omega))) _ _ _ _ hX hK fQ hH hS (lv_sub hl [0, 4, 5, 6, 7, 8] rfl)
            · refine lv_goto (tgt := 88) X.x X.b dJ7_siftDownUsingComparator_74 (by decide) ?_
              refine lv_aload_n X.x X.b dJ7_siftDownUsingComparator_88 rfl (lv_at hl 6 rfl) ?_
              refine lv_iload_n X.x X.b dJ7_siftDownUsingComparator_89 rfl (lv_at hl 3 rfl) ?_
              refine lv_aload_n X.x X.b dJ7_siftDownUsingComparator_90 rfl (lv_at hl 5 rfl) ?_
              refine wa_aast (k := 9) (f := g) X hH hS (have h9 := (XW.c49 hX); h9) rfl (wa_anySup X hH fx.2 rfl q1144 q2102) (by omega) (by omega) (by omega) dJ7_siftDownUsingComparator_91 (fun w91 H locs ew hH hS => ?_)
              have hk : Kp ad wl5 w91 := Kp.set (i := 49) (by omega) ew
              have hX := hX.sB (i := 49) (2) (x := fupR g k0 (some x)) (by unfold oB; omega) ew
              have hX := XW.cB (B2 := bup B 2 (fupR g k0 (some x))) hX (by funext j; simp only [bup]; by_cases h0 : j = 2; (subst h0; first | rfl | simp); simp only [h0, ↓reduceIte])
              have fQ := fQ.kp hk
              have fc1 := fc1.kp hk
              have fc2 := fc2.kp hk
              have fx := fx.kp hk
              have hK := hK.kp hk
              clear ew
              exact wa_vret X hH hS dJ7_siftDownUsingComparator_92 ⟨_, h0, hX, hK, (fun i i1 i2 => by
      by_cases q : i = k0
      · rw [q, fupR_s, i5_2]
      · rw [fupR_n q]; exact i5_1 i i1 i2 q), hpD.done i5_3 (fun i i1 i2 i3 => by show rk d (h0 k0) ≤ rk d (h0 i); rw [i5_2]; have h9 := hmin i i1 i2 i3; have h8 := hcs.2.1; omega), i5_5⟩
          · refine lv_aload_n X.x X.b dJ7_siftDownUsingComparator_52 rfl (lv_at hl 6 rfl) ?_
            refine lv_iload X.x X.b dJ7_siftDownUsingComparator_53 (lv_at hl 0 rfl) ?_
            refine lv_dup X.x X.b dJ7_siftDownUsingComparator_55 rfl ?_
            refine lv_istore (lv' := [(6, .int (zI (((2 * k0) + 1) + 1))), (8, .int (zI (((2 * k0) + 1) + 1))), (7, .ref c1), (0, .int (zI k0)), (5, .int (zI (q1 / 2))), (1, .ref x), (2, .ref (ad 49)), (3, .int (zI q1)), (4, .ref (ad 50))]) X.x X.b dJ7_siftDownUsingComparator_56 hl (by decide) rfl (fun ls hl => ?_)
            refine wa_aald (k := 9) (f := g) X hH (have h9 := (XW.c49 hX); h9) rfl rfl (by omega) (by omega) (by omega) dJ7_siftDownUsingComparator_58 ?_
            refine wz_opt (q := some c2) (by exact hc2) ?_
            refine lv_astore (lv' := [(7, .ref c2), (6, .int (zI (((2 * k0) + 1) + 1))), (8, .int (zI (((2 * k0) + 1) + 1))), (0, .int (zI k0)), (5, .int (zI (q1 / 2))), (1, .ref x), (2, .ref (ad 49)), (3, .int (zI q1)), (4, .ref (ad 50))]) X.x X.b dJ7_siftDownUsingComparator_59 hl (by decide) rfl (fun ls hl => ?_)
            have hmin : ∀ i, 0 < i → i ≤ n → (i - 1) / 2 = k0 → rk d c2 ≤ rk d (h0 i) := fun i i1 i2 i3 => by rcases (show i = 2 * k0 + 1 ∨ i = 2 * k0 + 1 + 1 by omega) with q | q; (rw [q, ← ec1]; have h9 := hcc.2.1; omega); (rw [q, ← ec2]; exact Int.le_refl _)
            have hDx : D x := by rw [← i5_2]; exact i5_4 _ i5_0.1 i5_0.2
            have fx := (fQ x hDx).1
            have bx := (fQ x hDx).2
            have hcs := liC_rk bx bc2
            refine lv_aload X.x X.b dJ7_siftDownUsingComparator_61 (lv_at hl 8 rfl) ?_
            refine lv_aload_n X.x X.b dJ7_siftDownUsingComparator_63 rfl (lv_at hl 5 rfl) ?_
            refine lv_aload X.x X.b dJ7_siftDownUsingComparator_64 (lv_at hl 0 rfl) ?_
            refine wa_c5i hS (wa_rF (rest := []) X hH (mX4_compare  (show At wl5 (ad 50) (eO 4 []) from (XW.c50 hX)) (show At wl5 x (eO 11 [.int (zI ((d x).1)), .int (zI ((d x).2.1)), .ref ((d x).2.2.2), .int (zI ((d x).2.2.1))]) from fx.2) (show At wl5 c2 (eO 11 [.int (zI ((d c2).1)), .int (zI ((d c2).2.1)), .ref ((d c2).2.2.2), .int (zI ((d c2).2.2.1))]) from fc2.2)  (by unfold lkB at bx; omega) (by unfold lkB at bx; omega) (by unfold lkB at bx; omega) (by unfold lkB at bc2; omega) (by unfold lkB at bc2; omega) (by unfold lkB at bc2; omega)) (va_cwF 2 X.t (lw_F q1214 q772 q774 q121 q776) rfl rfl rfl (X.k.2.2.2.1 ("PictureRing$ByVotes", ⟨"java/util/Comparato\x72", "compare", "(Ljava/lang/Object;Ljava/lang/Object;)I"⟩, ⟨"PictureRing$ByVotes", "compare", "(Ljava/lang/Object;Ljava/lang/Object;)I"⟩) (by decide)) ⟨by decide, by decide, by decide +kernel⟩ ⟨Nat.le_of_ble_eq_true rfl, Nat.le_of_ble_eq_true rfl⟩) rfl (have h9 := (XW.c50 hX); h9) rfl rfl hl.1 rfl (Nat.le_of_ble_eq_true rfl) dJ7_siftDownUsingComparator_66 ⟨Nat.le_of_ble_eq_true rfl, Nat.le_of_ble_eq_true rfl⟩) (fun z w66 H locs hp hH hS => ?_)
            obtain ⟨rfl, hw⟩ := hp
            refine wz_is (z := liC ((d x).1) ((d x).2.1) ((d x).2.2.1) ((d c2).1) ((d c2).2.1) ((d c2).2.2.1)) (by rfl) ?_
            rw [← hw] at hH; clear hw
            refine wz_ifgt (tgt := 77) X.x X.b dJ7_siftDownUsingComparator_71 (by decide) hcs.2.2 (fun c71 => ?_) (fun c71 => ?_)
            · refine lv_aload_n X.x X.b dJ7_siftDownUsingComparator_77 rfl (lv_at hl 6 rfl) ?_
              refine lv_iload_n X.x X.b dJ7_siftDownUsingComparator_78 rfl (lv_at hl 3 rfl) ?_
              refine lv_aload X.x X.b dJ7_siftDownUsingComparator_79 (lv_at hl 0 rfl) ?_
              refine wa_aast (k := 9) (f := g) X hH hS (have h9 := (XW.c49 hX); h9) rfl (wa_anySup X hH fc2.2 rfl q1144 q2102) (by omega) (by omega) (by omega) dJ7_siftDownUsingComparator_81 (fun w81 H locs ew hH hS => ?_)
              have hk : Kp ad wl5 w81 := Kp.set (i := 49) (by omega) ew
              have hX := hX.sB (i := 49) (2) (x := fupR g k0 (some c2)) (by unfold oB; omega) ew
              have hX := XW.cB (B2 := bup B 2 (fupR g k0 (some c2))) hX (by funext j; simp only [bup]; by_cases h0 : j = 2; (subst h0; first | rfl | simp); simp only [h0, ↓reduceIte])
              have fQ := fQ.kp hk
              have fc1 := fc1.kp hk
              have fc2 := fc2.kp hk
              have fx := fx.kp hk
              have hK := hK.kp hk
              clear ew
              refine lv_iload X.x X.b dJ7_siftDownUsingComparator_82 (lv_at hl 1 rfl) ?_
              refine lv_istore_n (lv' := [(0, .int (zI (((2 * k0) + 1) + 1))), (7, .ref c2), (6, .int (zI (((2 * k0) + 1) + 1))), (8, .int (zI (((2 * k0) + 1) + 1))), (5, .int (zI (q1 / 2))), (1, .ref x), (2, .ref (ad 49)), (3, .int (zI q1)), (4, .ref (ad 50))]) X.x X.b dJ7_siftDownUsingComparator_84 rfl hl (by decide) rfl (fun ls hl => ?_)
              refine lv_goto (tgt := 5) X.x X.b dJ7_siftDownUsingComparator_85 (by decide) ?_
              exact ih5 _ (by omega) (((2 * k0) + 1) + 1) (fupR g k0 (some c2)) (swp h0 k0 (2 * k0 + 1 + 1)) rfl (by omega) (by intro i i1 i2 i3; by_cases q : i = k0; (rw [q, fupR_s, swp_i, ← ec2]); (rw [fupR_n q, swp_n q i3]; exact i5_1 i i1 i2 q)) (by rw [swp_j]; exact i5_2) (by exact swp_rkD (hpD.step i5_3 (by omega) (by omega) (by omega) (by have h9 := hcs.2.1.mp c71; show rk d (h0 (2 * k0 + 1 + 1)) < rk d (h0 k0); rw [i5_2, ← ec2]; exact h9) (by intro i i1 i2 i3; show rk d (h0 (2 * k0 + 1 + 1)) ≤ rk d (h0 i); rw [← ec2]; exact hmin i i1 i2 i3))) (by intro i i1 i2; exact swp_D i5_4 (by omega) (by omega) i i1 i2) (by exact i5_5.trans (PM.sw (by omega) (by omega))) _ _ _ _ hX hK fQ hH hS (lv_sub hl [0, 4, 5, 6, 7, 8] rfl)
            · refine lv_goto (tgt := 88) X.x X.b dJ7_siftDownUsingComparator_74 (by decide) ?_
              refine lv_aload_n X.x X.b dJ7_siftDownUsingComparator_88 rfl (lv_at hl 6 rfl) ?_
              refine lv_iload_n X.x X.b dJ7_siftDownUsingComparator_89 rfl (lv_at hl 3 rfl) ?_
              refine lv_aload_n X.x X.b dJ7_siftDownUsingComparator_90 rfl (lv_at hl 5 rfl) ?_
              refine wa_aast (k := 9) (f := g) X hH hS (have h9 := (XW.c49 hX); h9) rfl (wa_anySup X hH fx.2 rfl q1144 q2102) (by omega) (by omega) (by omega) dJ7_siftDownUsingComparator_91 (fun w91 H locs ew hH hS => ?_)
              have hk : Kp ad wl5 w91 := Kp.set (i := 49) (by omega) ew
              have hX := hX.sB (i := 49) (2) (x := fupR g k0 (some x)) (by unfold oB; omega) ew
              have hX := XW.cB (B2 := bup B 2 (fupR g k0 (some x))) hX (by funext j; simp only [bup]; by_cases h0 : j = 2; (subst h0; first | rfl | simp); simp only [h0, ↓reduceIte])
              have fQ := fQ.kp hk
              have fc1 := fc1.kp hk
              have fc2 := fc2.kp hk
              have fx := fx.kp hk
              have hK := hK.kp hk
              clear ew
              exact wa_vret X hH hS dJ7_siftDownUsingComparator_92 ⟨_, h0, hX, hK, (fun i i1 i2 => by
      by_cases q : i = k0
      · rw [q, fupR_s, i5_2]
      · rw [fupR_n q]; exact i5_1 i i1 i2 q), hpD.done i5_3 (fun i i1 i2 i3 => by show rk d (h0 k0) ≤ rk d (h0 i); rw [i5_2]; have h9 := hmin i i1 i2 i3; have h8 := hcs.2.1; omega), i5_5⟩
  have hX := XW.cB (B2 := bup B 2 (B 2)) hX (by funext j; simp only [bup]; by_cases h0 : j = 2; (subst h0; first | rfl | simp); simp only [h0, ↓reduceIte])
  exact L5 _ k (B 2) h rfl (by exact hk) (by exact hB) (by exact hx) (by exact hU) (by exact hD) (by exact PM.rf) _ _ _ _ hX hK fQ hH hS (lv_sub hl [1, 0, 2, 3, 4, 5] rfl)
set_option maxRecDepth 100000 in
theorem mJ7_siftUp {lL : Launch} {G : wa_G} {ad : Nat → Nat} {w : wa_W} {S : Nat → Int} {A : Nat → Int → Int} {B : Nat → Int → Option Nat} {P : Nat → Option Nat} (hX : XW G ad w S A B P) {D : Nat → Prop} {d : LD} {h : Int → Nat} {n : Int} {x : Nat} (fQ : LQ ad w D d) (k : Int) (hn : 0 ≤ n ∧ n < 36) (hk : 0 ≤ k ∧ k ≤ n) (hB : ∀ i, 0 ≤ i → i ≤ n → i ≠ k → B 2 i = some (h i)) (hx : h k = x) (hU : hpU (fun i => rk d (h i)) n k) (hD : ∀ i, 0 ≤ i → i ≤ n → D (h i)) : Met lL yJ7_siftUp (ws_ yJ7_siftUp cJ7_siftUp 3 (none : Option FieldType)) ({ frames := 3, cells := 0, slots := 0, locals := 70 } : Room) (wa_P G w [.ref (ad 48), .int (zI k), .ref x]) (wa_Qv G fun u => ∃ (f2 : Int → Option Nat) (h2 : Int → Nat), XW G ad u S A (bup B 2 f2) P ∧ Kp ad w u ∧ (∀ i, 0 ≤ i → i ≤ n → f2 i = some (h2 i)) ∧ (hpA (fun i => rk d (h2 i)) n) ∧ (PM h h2 n)) 0 0 (wa_A G) := by
  refine wa_met (by decide) (by exact Nat.le_of_ble_eq_true rfl) ?_
  intro pP eE sS mM aA bB mT cC ls X hl hH
  have hS : va_S (wa_A G) sS.heap sS.heap [] := va_S.rf
  have hl : lv_has ls 3 [(0, .ref (ad 48)), (1, .int (zI k)), (2, .ref x)] := hl
  have hK : Kp ad w w := Kp.rf
  refine lv_aload_n X.x X.b dJ7_siftUp_0 rfl (lv_at hl 0 rfl) ?_
  refine wa_get (v := .ref (ad 50)) X hH (have h9 := (XW.c48 hX); h9) wcJ7 2 (by decide) q300 rfl (fun _ h9 => h9) rfl dJ7_siftUp_1 ?_
  refine lv_ifnull X.x X.b dJ7_siftUp_4 ?_
  refine lv_iload_n X.x X.b dJ7_siftUp_7 rfl (lv_at hl 1 rfl) ?_
  refine lv_aload_n X.x X.b dJ7_siftUp_8 rfl (lv_at hl 2 rfl) ?_
  refine lv_aload_n X.x X.b dJ7_siftUp_9 rfl (lv_at hl 0 rfl) ?_
  refine wa_get (v := .ref (ad 49)) X hH (have h9 := (XW.c48 hX); h9) wcJ7 0 (by decide) q298 rfl (fun _ h9 => h9) rfl dJ7_siftUp_10 ?_
  refine lv_aload_n X.x X.b dJ7_siftUp_13 rfl (lv_at hl 0 rfl) ?_
  refine wa_get (v := .ref (ad 50)) X hH (have h9 := (XW.c48 hX); h9) wcJ7 2 (by decide) q300 rfl (fun _ h9 => h9) rfl dJ7_siftUp_14 ?_
  refine wa_cv hS (wa_rS (rest := []) X hH (mJ7_siftUpUsingComparator hX fQ k (show 0 ≤ n ∧ n < 36 by first | assumption | omega) (show 0 ≤ k ∧ k ≤ n by first | assumption | omega) (show ∀ i, 0 ≤ i → i ≤ n → i ≠ k → B 2 i = some (h i) by first | assumption | omega) (show h k = x by first | assumption | omega) (show hpU (fun i => rk d (h i)) n k by first | assumption | omega) (show ∀ i, 0 ≤ i → i ≤ n → D (h i) by first | assumption | omega)) (va_cwS 4 X.t (lw_S q1210 q1211 q120 q1212) rfl rfl rfl hdJ7_siftUpUsingComparator.2 ⟨Nat.le_of_ble_eq_true rfl, Nat.le_of_ble_eq_true rfl⟩) rfl rfl hl.1 rfl (Nat.le_of_ble_eq_true rfl) dJ7_siftUp_17 ⟨Nat.le_of_ble_eq_true rfl, Nat.le_of_ble_eq_true rfl⟩) (fun w17 H locs hp hH hS => ?_)
  obtain ⟨f2_17, h2_17, hX, hk, hx17_0, hx17_1, hx17_2⟩ := hp
  have fQ := fQ.kp hk
  have hK := hK.kp hk
  refine lv_goto (tgt := 32) X.x X.b dJ7_siftUp_20 (by decide) ?_
  exact wa_vret X hH hS dJ7_siftUp_32 ⟨_, h2_17, hX, hK, hx17_0, hx17_1, hx17_2⟩
set_option maxRecDepth 100000 in
theorem mJ7_offer {lL : Launch} {G : wa_G} {ad : Nat → Nat} {w : wa_W} {S : Nat → Int} {A : Nat → Int → Int} {B : Nat → Int → Option Nat} {P : Nat → Option Nat} (hX : XW G ad w S A B P) {D : Nat → Prop} {d : LD} {C : Nat → Prop} {x : Nat} (fQ : LQ ad w D d) (hQ : QI (B 2) (S 12) d C) (hsz : 0 ≤ S 12 ∧ S 12 ≤ 35) (hCD : ∀ a, C a → D a) (hxC : ¬ C x) (hDx : D x) : Met lL yJ7_offer (ws_ yJ7_offer cJ7_offer 3 (some FieldType.boolean)) ({ frames := 4, cells := 0, slots := 0, locals := 92 } : Room) (wa_P G w [.ref (ad 48), .ref x]) (wa_Qz G fun z u => z = 1 ∧ ∃ (f2 : Int → Option Nat), XW G ad u (sup (sup S 13 (S 13 + 1)) 12 (S 12 + 1)) A (bup B 2 f2) P ∧ Kp ad w u ∧ (QI f2 (S 12 + 1) d (fun a => C a ∨ a = x))) 0 0 (wa_A G) := by
  refine wa_met (by decide) (by exact Nat.le_of_ble_eq_true rfl) ?_
  intro pP eE sS mM aA bB mT cC ls X hl hH
  have hS : va_S (wa_A G) sS.heap sS.heap [] := va_S.rf
  have hl : lv_has ls 3 [(0, .ref (ad 48)), (1, .ref x)] := hl
  have hK : Kp ad w w := Kp.rf
  obtain ⟨h, ha1, ha2, ha3, ha4, ha5⟩ := hQ.add hsz.1 hxC
  refine lv_aload_n X.x X.b dJ7_offer_0 rfl (lv_at hl 1 rfl) ?_
  refine lv_ifnonnull (tgt := 12) X.x X.b dJ7_offer_1 (by decide) ?_
  refine lv_aload_n X.x X.b dJ7_offer_12 rfl (lv_at hl 0 rfl) ?_
  refine lv_dup X.x X.b dJ7_offer_13 rfl ?_
  refine wa_get (v := .int (zI (S 13))) X hH (have h9 := (XW.c48 hX); h9) wcJ7 3 (by decide) q301 rfl (fun _ h9 => h9) rfl dJ7_offer_14 ?_
  refine wz_iconst X.x X.b dJ7_offer_17 ?_
  refine wz_iadd X.x X.b dJ7_offer_18 ?_
  refine wa_put X hH hS (have h9 := (XW.c48 hX); h9) wcJ7 3 (by decide) q301 rfl (fun _ h9 => h9) rfl rfl rfl (Nat.le_of_ble_eq_true rfl) dJ7_offer_19 (fun w19 H locs ew hH hS => ?_)
  have hk : Kp ad w w19 := Kp.set (i := 48) (by omega) ew
  have hX := hX.sS (i := 48) (13) (x := (S 13) + 1) (by unfold oS; omega) ew
  have fQ := fQ.kp hk
  have hK := hK.kp hk
  clear ew
  refine lv_aload_n X.x X.b dJ7_offer_22 rfl (lv_at hl 0 rfl) ?_
  refine wa_get (v := .int (zI (S 12))) X hH (have h9 := (XW.c48 hX); h9) wcJ7 1 (by decide) q299 rfl (fun _ h9 => h9) rfl dJ7_offer_23 ?_
  refine lv_istore_n (lv' := [(2, .int (zI (S 12))), (0, .ref (ad 48)), (1, .ref x)]) X.x X.b dJ7_offer_26 rfl hl (by decide) rfl (fun ls hl => ?_)
  refine lv_iload_n X.x X.b dJ7_offer_27 rfl (lv_at hl 0 rfl) ?_
  refine lv_aload_n X.x X.b dJ7_offer_28 rfl (lv_at hl 1 rfl) ?_
  refine wa_get (v := .ref (ad 49)) X hH (have h9 := (XW.c48 hX); h9) wcJ7 0 (by decide) q298 rfl (fun _ h9 => h9) rfl dJ7_offer_29 ?_
  refine wa_alenR (k := 9) X hH (have h9 := (XW.c49 hX); h9) rfl dJ7_offer_32 ?_
  refine wz_icmp_lt (tgt := 43) X.x X.b dJ7_offer_33 (by decide) ⟨by omega, by omega⟩ ⟨by omega, by omega⟩ (fun c33 => ?_) (fun c33 => by exfalso; omega)
  refine lv_aload_n X.x X.b dJ7_offer_43 rfl (lv_at hl 1 rfl) ?_
  refine lv_iload_n X.x X.b dJ7_offer_44 rfl (lv_at hl 0 rfl) ?_
  refine lv_aload_n X.x X.b dJ7_offer_45 rfl (lv_at hl 2 rfl) ?_
  refine wa_cv hS (wa_rV (rest := []) X hH (mJ7_siftUp hX fQ (S 12) (by omega) (by omega) ha1 ha2 ha3 (fun i a b => by rcases (ha5 (h i)).mpr ⟨i, a, b, rfl⟩ with q | q; exact hCD _ q; rw [q]; exact hDx)) (cwV 2 X.t (lw_V q1206 q1208 qs26 q120 q1209) rfl rfl rfl hdJ7_siftUp ⟨Nat.le_of_ble_eq_true rfl, Nat.le_of_ble_eq_true rfl⟩) rfl (have h9 := (XW.c48 hX); h9) rfl rfl hl.1 rfl (Nat.le_of_ble_eq_true rfl) dJ7_offer_46 ⟨Nat.le_of_ble_eq_true rfl, Nat.le_of_ble_eq_true rfl⟩) (fun w46 H locs hp hH hS => ?_)
  obtain ⟨f2_46, h2_46, hX, hk, hx46_0, hx46_1, hx46_2⟩ := hp
  have fQ := fQ.kp hk
  have hK := hK.kp hk
  refine lv_aload_n X.x X.b dJ7_offer_49 rfl (lv_at hl 1 rfl) ?_
  refine lv_iload_n X.x X.b dJ7_offer_50 rfl (lv_at hl 0 rfl) ?_
  refine wz_iconst X.x X.b dJ7_offer_51 ?_
  refine wz_iadd X.x X.b dJ7_offer_52 ?_
  refine wa_put X hH hS (have h9 := (XW.c48 hX); h9) wcJ7 1 (by decide) q299 rfl (fun _ h9 => h9) rfl rfl rfl (Nat.le_of_ble_eq_true rfl) dJ7_offer_53 (fun w53 H locs ew hH hS => ?_)
  have hk : Kp ad w46 w53 := Kp.set (i := 48) (by omega) ew
  have hX := hX.sS (i := 48) (12) (x := (S 12) + 1) (by unfold oS; omega) ew
  have fQ := fQ.kp hk
  have hK := hK.kp hk
  clear ew
  refine wz_iconst X.x X.b dJ7_offer_56 ?_
  exact wa_zret X hH hS dJ7_offer_57 nb1 ⟨by first | rfl | omega | assumption, ⟨_, hX, hK, QI.of (h := h) (g := h2_46) (fun i a b => hx46_0 i a (by omega)) (by rw [show S 12 + 1 - 1 = S 12 by omega]; exact hx46_1) (by rw [show S 12 + 1 - 1 = S 12 by omega]; exact hx46_2) (fun i j a b c e => ha4 i j a (by omega) c (by omega)) (by rw [show S 12 + 1 - 1 = S 12 by omega]; exact ha5)⟩⟩
set_option maxRecDepth 100000 in
theorem mJ7_add {lL : Launch} {G : wa_G} {ad : Nat → Nat} {w : wa_W} {S : Nat → Int} {A : Nat → Int → Int} {B : Nat → Int → Option Nat} {P : Nat → Option Nat} (hX : XW G ad w S A B P) {D : Nat → Prop} {d : LD} {C : Nat → Prop} {x : Nat} (fQ : LQ ad w D d) (hQ : QI (B 2) (S 12) d C) (hsz : 0 ≤ S 12 ∧ S 12 ≤ 35) (hCD : ∀ a, C a → D a) (hxC : ¬ C x) (hDx : D x) : Met lL yJ7_add (ws_ yJ7_add cJ7_add 2 (some FieldType.boolean)) ({ frames := 5, cells := 0, slots := 0, locals := 114 } : Room) (wa_P G w [.ref (ad 48), .ref x]) (wa_Qz G fun z u => z = 1 ∧ ∃ (f2 : Int → Option Nat), XW G ad u (sup (sup S 13 (S 13 + 1)) 12 (S 12 + 1)) A (bup B 2 f2) P ∧ Kp ad w u ∧ (QI f2 (S 12 + 1) d (fun a => C a ∨ a = x))) 0 0 (wa_A G) := by
  refine wa_met (by decide) (by exact Nat.le_of_ble_eq_true rfl) ?_
  intro pP eE sS mM aA bB mT cC ls X hl hH
  have hS : va_S (wa_A G) sS.heap sS.heap [] := va_S.rf
  have hl : lv_has ls 2 [(0, .ref (ad 48)), (1, .ref x)] := hl
  have hK : Kp ad w w := Kp.rf
  refine lv_aload_n X.x X.b dJ7_add_0 rfl (lv_at hl 0 rfl) ?_
  refine lv_aload_n X.x X.b dJ7_add_1 rfl (lv_at hl 1 rfl) ?_
  refine wa_ci hS (wa_rV (rest := []) X hH (mJ7_offer hX fQ  (show QI (B 2) (S 12) d C by first | assumption | omega) (show 0 ≤ S 12 ∧ S 12 ≤ 35 by first | assumption | omega) (show ∀ a, C a → D a by first | assumption | omega) (show ¬ C x by first | assumption | omega) (show D x by first | assumption | omega)) (cwV 1 X.t (lw_V q1149 q1150 q1151 q120 q1152) rfl rfl rfl hdJ7_offer ⟨Nat.le_of_ble_eq_true rfl, Nat.le_of_ble_eq_true rfl⟩) rfl (have h9 := (XW.c48 hX); h9) rfl rfl hl.1 rfl (Nat.le_of_ble_eq_true rfl) dJ7_add_2 ⟨Nat.le_of_ble_eq_true rfl, Nat.le_of_ble_eq_true rfl⟩) (fun z w2 H locs hp hH hS => ?_)
  obtain ⟨rfl, ⟨f2_2, hX, hk, hx2_0⟩⟩ := hp
  have fQ := fQ.kp hk
  have hK := hK.kp hk
  exact wa_zret X hH hS dJ7_add_5 nb1 ⟨by first | rfl | omega | assumption, ⟨_, hX, hK, hx2_0⟩⟩
set_option maxRecDepth 100000 in
theorem mJ7_poll {lL : Launch} {G : wa_G} {ad : Nat → Nat} {w : wa_W} {S : Nat → Int} {A : Nat → Int → Int} {B : Nat → Int → Option Nat} {P : Nat → Option Nat} (hX : XW G ad w S A B P) {D : Nat → Prop} {d : LD} {C : Nat → Prop} (fQ : LQ ad w D d) (hQ : QI (B 2) (S 12) d C) (hsz : 0 ≤ S 12 ∧ S 12 ≤ 35) (hCD : ∀ a, C a → D a) (hS1 : 1 ≤ S 12) : Met lL yJ7_poll (ws_ yJ7_poll cJ7_poll 6 (some (FieldType.object "java/lang/Object"))) ({ frames := 3, cells := 0, slots := 0, locals := 73 } : Room) (wa_P G w [.ref (ad 48)]) (wa_Qr G fun r u => ∃ (m : Nat) (f2 : Int → Option Nat), XW G ad u (sup (sup S 13 (S 13 + 1)) 12 (S 12 - 1)) A (bup B 2 f2) P ∧ Kp ad w u ∧ (r = some m) ∧ (C m) ∧ (∀ a, C a → rk d m ≤ rk d a) ∧ (QI f2 (S 12 - 1) d (fun a => C a ∧ a ≠ m))) 0 0 (wa_A G) := by
  refine wa_met (by decide) (by exact Nat.le_of_ble_eq_true rfl) ?_
  intro pP eE sS mM aA bB mT cC ls X hl hH
  have hS : va_S (wa_A G) sS.heap sS.heap [] := va_S.rf
  have hl : lv_has ls 6 [(0, .ref (ad 48))] := hl
  have hK : Kp ad w w := Kp.rf
  obtain ⟨h, hb1, hb2, hb3, hb4⟩ := hQ
  obtain ⟨hg1, hg2, g0, hg3, hg4, hgC, hgD, hg5, hg6⟩ := QI.cut hS1 hb1 hb2 hb3 hb4
  refine lv_aload_n X.x X.b dJ7_poll_0 rfl (lv_at hl 0 rfl) ?_
  refine wa_get (v := .ref (ad 49)) X hH (have h9 := (XW.c48 hX); h9) wcJ7 0 (by decide) q298 rfl (fun _ h9 => h9) rfl dJ7_poll_1 ?_
  refine lv_dup X.x X.b dJ7_poll_4 rfl ?_
  refine lv_astore_n (lv' := [(1, .ref (ad 49)), (0, .ref (ad 48))]) X.x X.b dJ7_poll_5 rfl hl (by decide) rfl (fun ls hl => ?_)
  refine wz_iconst X.x X.b dJ7_poll_6 ?_
  refine wa_aald (k := 9) (f := B 2) X hH (have h9 := (XW.c49 hX); h9) rfl rfl (by omega) (by omega) (by omega) dJ7_poll_7 ?_
  refine wz_opt (q := some (h 0)) (by exact hb1 0 (by omega) (by omega)) ?_
  refine lv_dup X.x X.b dJ7_poll_8 rfl ?_
  refine lv_astore_n (lv' := [(2, .ref (h 0)), (1, .ref (ad 49)), (0, .ref (ad 48))]) X.x X.b dJ7_poll_9 rfl hl (by decide) rfl (fun ls hl => ?_)
  refine lv_ifnull X.x X.b dJ7_poll_10 ?_
  refine lv_aload_n X.x X.b dJ7_poll_13 rfl (lv_at hl 2 rfl) ?_
  refine lv_dup X.x X.b dJ7_poll_14 rfl ?_
  refine wa_get (v := .int (zI (S 13))) X hH (have h9 := (XW.c48 hX); h9) wcJ7 3 (by decide) q301 rfl (fun _ h9 => h9) rfl dJ7_poll_15 ?_
  refine wz_iconst X.x X.b dJ7_poll_18 ?_
  refine wz_iadd X.x X.b dJ7_poll_19 ?_
  refine wa_put X hH hS (have h9 := (XW.c48 hX); h9) wcJ7 3 (by decide) q301 rfl (fun _ h9 => h9) rfl rfl rfl (Nat.le_of_ble_eq_true rfl) dJ7_poll_20 (fun w20 H locs ew hH hS => ?_)
  have hk : Kp ad w w20 := Kp.set (i := 48) (by omega) ew
  have hX := hX.sS (i := 48) (13) (x := (S 13) + 1) (by unfold oS; omega) ew
  have fQ := fQ.kp hk
  have hK := hK.kp hk
  clear ew
  refine lv_aload_n X.x X.b dJ7_poll_23 rfl (lv_at hl 1 rfl) ?_
  refine lv_aload_n X.x X.b dJ7_poll_24 rfl (lv_at hl 2 rfl) ?_
  refine lv_dup X.x X.b dJ7_poll_25 rfl ?_
  refine wa_get (v := .int (zI (S 12))) X hH (have h9 := (XW.c48 hX); h9) wcJ7 1 (by decide) q299 rfl (fun _ h9 => h9) rfl dJ7_poll_26 ?_
  refine wz_iconst X.x X.b dJ7_poll_29 ?_
  refine wz_isub X.x X.b dJ7_poll_30 ?_
  refine lv_dup_x1 X.x X.b dJ7_poll_31 rfl rfl ?_
  refine wa_put X hH hS (have h9 := (XW.c48 hX); h9) wcJ7 1 (by decide) q299 rfl (fun _ h9 => h9) rfl rfl rfl (Nat.le_of_ble_eq_true rfl) dJ7_poll_32 (fun w32 H locs ew hH hS => ?_)
  have hk : Kp ad w20 w32 := Kp.set (i := 48) (by omega) ew
  have hX := hX.sS (i := 48) (12) (x := (S 12) - 1) (by unfold oS; omega) ew
  have fQ := fQ.kp hk
  have hK := hK.kp hk
  clear ew
  refine lv_dup X.x X.b dJ7_poll_35 rfl ?_
  refine lv_istore_n (lv' := [(3, .int (zI ((S 12) - 1))), (2, .ref (h 0)), (1, .ref (ad 49)), (0, .ref (ad 48))]) X.x X.b dJ7_poll_36 rfl hl (by decide) rfl (fun ls hl => ?_)
  refine wa_aald (k := 9) (f := B 2) X hH (have h9 := (XW.c49 hX); h9) rfl rfl (by omega) (by omega) (by omega) dJ7_poll_37 ?_
  refine wz_opt (q := some (g0 0)) (by rw [hg3]; exact hb1 (S 12 - 1) (by omega) (by omega)) ?_
  refine lv_astore (lv' := [(4, .ref (g0 0)), (3, .int (zI ((S 12) - 1))), (2, .ref (h 0)), (1, .ref (ad 49)), (0, .ref (ad 48))]) X.x X.b dJ7_poll_38 hl (by decide) rfl (fun ls hl => ?_)
  refine lv_aload_n X.x X.b dJ7_poll_40 rfl (lv_at hl 3 rfl) ?_
  refine lv_iload_n X.x X.b dJ7_poll_41 rfl (lv_at hl 1 rfl) ?_
  refine lv_null X.x X.b dJ7_poll_42 ?_
  refine wa_aastN (k := 9) (f := B 2) X hH hS (have h9 := (XW.c49 hX); h9) rfl (by omega) (by omega) (by omega) dJ7_poll_43 (fun w43 H locs ew hH hS => ?_)
  have hk : Kp ad w32 w43 := Kp.set (i := 49) (by omega) ew
  have hX := hX.sB (i := 49) (2) (x := fupR (B 2) ((S 12) - 1) none) (by unfold oB; omega) ew
  have fQ := fQ.kp hk
  have hK := hK.kp hk
  clear ew
  refine lv_iload_n X.x X.b dJ7_poll_44 rfl (lv_at hl 1 rfl) ?_
  refine wz_ifle (tgt := 79) X.x X.b dJ7_poll_45 (by decide) ⟨by omega, by omega⟩ (fun c45 => ?_) (fun c45 => ?_)
  · refine lv_aload_n X.x X.b dJ7_poll_79 rfl (lv_at hl 2 rfl) ?_
    exact wa_aret X (Or.inl ⟨_, rfl⟩) hH hS (some (h 0)) dJ7_poll_80 ⟨h 0, _, hX, hK, rfl, hg1, hg2, QI.of (h := g0) (g := g0) (fun i a b => by omega) (fun i a b => by omega) PM.rf (fun i j a b c e => by omega) (by rw [show S 12 - 1 - 1 = S 12 - 2 by omega]; exact hg6)⟩
  · refine lv_aload_n X.x X.b dJ7_poll_48 rfl (lv_at hl 4 rfl) ?_
    refine wa_get (v := .ref (ad 50)) X hH (have h9 := (XW.c48 hX); h9) wcJ7 2 (by decide) q300 rfl (fun _ h9 => h9) rfl dJ7_poll_49 ?_
    refine lv_dup X.x X.b dJ7_poll_52 rfl ?_
    refine lv_astore (lv' := [(5, .ref (ad 50)), (4, .ref (g0 0)), (3, .int (zI ((S 12) - 1))), (2, .ref (h 0)), (1, .ref (ad 49)), (0, .ref (ad 48))]) X.x X.b dJ7_poll_53 hl (by decide) rfl (fun ls hl => ?_)
    refine lv_ifnonnull (tgt := 69) X.x X.b dJ7_poll_55 (by decide) ?_
    refine wz_iconst X.x X.b dJ7_poll_69 ?_
    refine lv_aload X.x X.b dJ7_poll_70 (lv_at hl 1 rfl) ?_
    refine lv_aload_n X.x X.b dJ7_poll_72 rfl (lv_at hl 4 rfl) ?_
    refine lv_iload_n X.x X.b dJ7_poll_73 rfl (lv_at hl 2 rfl) ?_
    refine lv_aload X.x X.b dJ7_poll_74 (lv_at hl 0 rfl) ?_
    refine wa_cv hS (wa_rS (rest := []) X hH (mJ7_siftDownUsingComparator hX fQ 0 ((S 12) - 1) (show 0 ≤ (S 12 - 1 - 1) ∧ (S 12 - 1 - 1) < 36 by first | assumption | omega) (show ((S 12) - 1) = (S 12 - 1 - 1) + 1 by first | assumption | omega) (show 0 ≤ 0 ∧ 0 ≤ (S 12 - 1 - 1) by first | assumption | omega) (fun i a b c => by rw [show (bup B 2 (fupR (B 2) (S 12 - 1) none)) 2 = fupR (B 2) (S 12 - 1) none from bup_s, fupR_n (show i ≠ S 12 - 1 by omega), hg4 i a (by omega) c]; exact hb1 i a (by omega)) rfl (by rw [show S 12 - 1 - 1 = S 12 - 2 by omega]; exact hgD) (fun i a b => hCD _ (hgC i a (by omega)))) (va_cwS 5 X.t (lw_S q1255 q1256 q120 q1257) rfl rfl rfl hdJ7_siftDownUsingComparator.2 ⟨Nat.le_of_ble_eq_true rfl, Nat.le_of_ble_eq_true rfl⟩) rfl rfl hl.1 rfl (Nat.le_of_ble_eq_true rfl) dJ7_poll_76 ⟨Nat.le_of_ble_eq_true rfl, Nat.le_of_ble_eq_true rfl⟩) (fun w76 H locs hp hH hS => ?_)
    obtain ⟨f2_76, h2_76, hX, hk, hx76_0, hx76_1, hx76_2⟩ := hp
    have fQ := fQ.kp hk
    have hK := hK.kp hk
    refine lv_aload_n X.x X.b dJ7_poll_79 rfl (lv_at hl 3 rfl) ?_
    exact wa_aret X (Or.inl ⟨_, rfl⟩) hH hS (some (h 0)) dJ7_poll_80 ⟨h 0, _, (XW.cB (B2 := bup B 2 f2_76) hX bup_bup), hK, rfl, hg1, hg2, QI.of (h := g0) (g := h2_76) (fun i a b => hx76_0 i a (by omega)) hx76_1 hx76_2 (fun i j a b c e => hg5 i j a (by omega) c (by omega)) (by rw [show S 12 - 1 - 1 = S 12 - 2 by omega]; exact hg6)⟩
set_option maxRecDepth 100000 in
theorem mJ7_clear {lL : Launch} {G : wa_G} {ad : Nat → Nat} {w : wa_W} {S : Nat → Int} {A : Nat → Int → Int} {B : Nat → Int → Option Nat} {P : Nat → Option Nat} (hX : XW G ad w S A B P)   (hsz : 0 ≤ S 12 ∧ S 12 ≤ 36) : Met lL yJ7_clear (ws_ yJ7_clear cJ7_clear 4 (none : Option FieldType)) ({ frames := 0, cells := 0, slots := 0, locals := 0 } : Room) (wa_P G w [.ref (ad 48)]) (wa_Qv G fun u => ∃ (f2 : Int → Option Nat), XW G ad u (sup (sup S 13 (S 13 + 1)) 12 0) A (bup B 2 f2) P ∧ Kp ad w u) 0 0 (wa_A G) := by
  refine wa_met (by decide) (by exact Nat.le_of_ble_eq_true rfl) ?_
  intro pP eE sS mM aA bB mT cC ls X hl hH
  have hS : va_S (wa_A G) sS.heap sS.heap [] := va_S.rf
  have hl : lv_has ls 4 [(0, .ref (ad 48))] := hl
  have hK : Kp ad w w := Kp.rf
  refine lv_aload_n X.x X.b dJ7_clear_0 rfl (lv_at hl 0 rfl) ?_
  refine lv_dup X.x X.b dJ7_clear_1 rfl ?_
  refine wa_get (v := .int (zI (S 13))) X hH (have h9 := (XW.c48 hX); h9) wcJ7 3 (by decide) q301 rfl (fun _ h9 => h9) rfl dJ7_clear_2 ?_
  refine wz_iconst X.x X.b dJ7_clear_5 ?_
  refine wz_iadd X.x X.b dJ7_clear_6 ?_
  refine wa_put X hH hS (have h9 := (XW.c48 hX); h9) wcJ7 3 (by decide) q301 rfl (fun _ h9 => h9) rfl rfl rfl (Nat.le_of_ble_eq_true rfl) dJ7_clear_7 (fun w7 H locs ew hH hS => ?_)
  have hk : Kp ad w w7 := Kp.set (i := 48) (by omega) ew
  have hX := hX.sS (i := 48) (13) (x := (S 13) + 1) (by unfold oS; omega) ew
  have hK := hK.kp hk
  clear ew
  refine lv_aload_n X.x X.b dJ7_clear_10 rfl (lv_at hl 0 rfl) ?_
  refine wa_get (v := .ref (ad 49)) X hH (have h9 := (XW.c48 hX); h9) wcJ7 0 (by decide) q298 rfl (fun _ h9 => h9) rfl dJ7_clear_11 ?_
  refine lv_astore_n (lv' := [(1, .ref (ad 49)), (0, .ref (ad 48))]) X.x X.b dJ7_clear_14 rfl hl (by decide) rfl (fun ls hl => ?_)
  refine wz_iconst X.x X.b dJ7_clear_15 ?_
  refine lv_istore_n (lv' := [(2, .int (zI 0)), (1, .ref (ad 49)), (0, .ref (ad 48))]) X.x X.b dJ7_clear_16 rfl hl (by decide) rfl (fun ls hl => ?_)
  refine lv_aload_n X.x X.b dJ7_clear_17 rfl (lv_at hl 2 rfl) ?_
  refine wa_get (v := .int (zI (S 12))) X hH (have h9 := (XW.c48 hX); h9) wcJ7 1 (by decide) q299 rfl (fun _ h9 => h9) rfl dJ7_clear_18 ?_
  refine lv_istore_n (lv' := [(3, .int (zI (S 12))), (2, .int (zI 0)), (1, .ref (ad 49)), (0, .ref (ad 48))]) X.x X.b dJ7_clear_21 rfl hl (by decide) rfl (fun ls hl => ?_)
  have L22 : ∀ (nn : Nat) (i : Int) (g : Int → Option Nat), ((S 12 - i).toNat) = nn → (0 ≤ i ∧ i ≤ S 12) → ∀ (wl22 : wa_W) (H : Heap) (locs : List Loc) (ls : Array Slot), XW G ad wl22 (sup S 13 ((S 13) + 1)) A (bup B 2 g) P → Kp ad w wl22 → wa_H G wl22 H → va_S (wa_A G) sS.heap H locs → lv_has ls 4 [(2, .int (zI i)), (3, .int (zI (S 12))), (1, .ref (ad 49)), (0, .ref (ad 48))] → W pP lL eE ({ frames := 0, cells := 0, slots := 0, locals := 0 } : Room) sS mM aA bB mT cC H locs 0 0 (MQ bB (wa_Qv G fun u => ∃ (f2 : Int → Option Nat), XW G ad u (sup (sup S 13 (S 13 + 1)) 12 0) A (bup B 2 f2) P ∧ Kp ad w u) aA sS 0 0 (wa_A G)) (F0 mM 22 ls []) := by
    intro nn
    induction nn using Nat.strongRecOn with
    | ind nn ih22 =>
      intro i g hmu22 i22_0 wl22 H locs ls hX hK  hH hS hl
      refine lv_iload_n X.x X.b dJ7_clear_22 rfl (lv_at hl 0 rfl) ?_
      refine lv_iload_n X.x X.b dJ7_clear_23 rfl (lv_at hl 1 rfl) ?_
      refine wz_icmp_ge (tgt := 37) X.x X.b dJ7_clear_24 (by decide) ⟨by omega, by omega⟩ ⟨by omega, by omega⟩ (fun c24 => ?_) (fun c24 => ?_)
      · refine lv_aload_n X.x X.b dJ7_clear_37 rfl (lv_at hl 3 rfl) ?_
        refine wz_iconst X.x X.b dJ7_clear_38 ?_
        refine wa_put X hH hS (have h9 := (XW.c48 hX); h9) wcJ7 1 (by decide) q299 rfl (fun _ h9 => h9) rfl rfl rfl (Nat.le_of_ble_eq_true rfl) dJ7_clear_39 (fun w39 H locs ew hH hS => ?_)
        have hk : Kp ad wl22 w39 := Kp.set (i := 48) (by omega) ew
        have hX := hX.sS (i := 48) (12) (x := 0) (by unfold oS; omega) ew
        have hK := hK.kp hk
        clear ew
        exact wa_vret X hH hS dJ7_clear_42 ⟨_, hX, hK⟩
      · refine lv_aload_n X.x X.b dJ7_clear_27 rfl (lv_at hl 2 rfl) ?_
        refine lv_iload_n X.x X.b dJ7_clear_28 rfl (lv_at hl 0 rfl) ?_
        refine lv_null X.x X.b dJ7_clear_29 ?_
        refine wa_aastN (k := 9) (f := g) X hH hS (have h9 := (XW.c49 hX); h9) rfl (by omega) (by omega) (by omega) dJ7_clear_30 (fun w30 H locs ew hH hS => ?_)
        have hk : Kp ad wl22 w30 := Kp.set (i := 49) (by omega) ew
        have hX := hX.sB (i := 49) (2) (x := fupR g i none) (by unfold oB; omega) ew
        have hX := XW.cB (B2 := bup B 2 (fupR g i none)) hX (by funext j; simp only [bup]; by_cases h0 : j = 2; (subst h0; first | rfl | simp); simp only [h0, ↓reduceIte])
        have hK := hK.kp hk
        clear ew
        refine wz_iinc (k := 0) (lv' := [(2, .int (zI (i + 1))), (3, .int (zI (S 12))), (1, .ref (ad 49)), (0, .ref (ad 48))]) X.x X.b dJ7_clear_31 hl rfl (by decide) rfl (fun ls hl => ?_)
        refine lv_goto (tgt := 22) X.x X.b dJ7_clear_34 (by decide) ?_
        exact ih22 _ (by omega) (i + 1) (fupR g i none) rfl (by omega) _ _ _ _ hX hK  hH hS (lv_sub hl [0, 1, 2, 3] rfl)
  have hX := XW.cB (B2 := bup B 2 (B 2)) hX (by funext j; simp only [bup]; by_cases h0 : j = 2; (subst h0; first | rfl | simp); simp only [h0, ↓reduceIte])
  exact L22 _ 0 (B 2) rfl (by omega) _ _ _ _ hX hK  hH hS (lv_sub hl [1, 0, 2, 3] rfl)
set_option maxRecDepth 100000 in
theorem mJ7_size {lL : Launch} {G : wa_G} {ad : Nat → Nat} {w : wa_W} {S : Nat → Int} {A : Nat → Int → Int} {B : Nat → Int → Option Nat} {P : Nat → Option Nat} (hX : XW G ad w S A B P)    : Met lL yJ7_size (ws_ yJ7_size cJ7_size 1 (some FieldType.int)) ({ frames := 0, cells := 0, slots := 0, locals := 0 } : Room) (wa_P G w [.ref (ad 48)]) (wa_Qz G fun z u => z = S 12 ∧ w = u) 0 0 (wa_A G) := by
  refine wa_met (by decide) (by exact Nat.le_of_ble_eq_true rfl) ?_
  intro pP eE sS mM aA bB mT cC ls X hl hH
  have hS : va_S (wa_A G) sS.heap sS.heap [] := va_S.rf
  have hl : lv_has ls 1 [(0, .ref (ad 48))] := hl
  have hK : Kp ad w w := Kp.rf
  refine lv_aload_n X.x X.b dJ7_size_0 rfl (lv_at hl 0 rfl) ?_
  refine wa_get (v := .int (zI (S 12))) X hH (have h9 := (XW.c48 hX); h9) wcJ7 1 (by decide) q299 rfl (fun _ h9 => h9) rfl dJ7_size_1 ?_
  exact wa_iret X hH hS dJ7_size_4 ⟨by first | rfl | omega | assumption, rfl⟩
set_option maxRecDepth 100000 in
theorem mJ1_isEmpty {lL : Launch} {G : wa_G} {ad : Nat → Nat} {w : wa_W} {S : Nat → Int} {A : Nat → Int → Int} {B : Nat → Int → Option Nat} {P : Nat → Option Nat} (hX : XW G ad w S A B P)   (hsz : 0 ≤ S 12 ∧ S 12 ≤ 36) : Met lL yJ1_isEmpty (ws_ yJ1_isEmpty cJ1_isEmpty 1 (some FieldType.boolean)) ({ frames := 1, cells := 0, slots := 0, locals := 20 } : Room) (wa_P G w [.ref (ad 48)]) (wa_Qz G fun z u => ((S 12 = 0) ∧ z = 1 ∨ ¬ (S 12 = 0) ∧ z = 0) ∧ w = u) 0 0 (wa_A G) := by
  refine wa_met (by decide) (by exact Nat.le_of_ble_eq_true rfl) ?_
  intro pP eE sS mM aA bB mT cC ls X hl hH
  have hS : va_S (wa_A G) sS.heap sS.heap [] := va_S.rf
  have hl : lv_has ls 1 [(0, .ref (ad 48))] := hl
  have hK : Kp ad w w := Kp.rf
  refine lv_aload_n X.x X.b dJ1_isEmpty_0 rfl (lv_at hl 0 rfl) ?_
  refine wa_ci hS (wa_rU (rest := []) X hH (mJ7_size hX   ) (va_cwA 0 X.t (lw_U q1227 q1229 q1230 q1231 q120 q1232) rfl rfl rfl (X.nw q1228 rfl) ⟨by decide, by decide, by decide +kernel⟩ ⟨Nat.le_of_ble_eq_true rfl, Nat.le_of_ble_eq_true rfl⟩) rfl (have h9 := (XW.c48 hX); h9) rfl rfl hl.1 rfl (Nat.le_of_ble_eq_true rfl) dJ1_isEmpty_1 ⟨Nat.le_of_ble_eq_true rfl, Nat.le_of_ble_eq_true rfl⟩) (fun z w1 H locs hp hH hS => ?_)
  obtain ⟨rfl, hw⟩ := hp
  rw [← hw] at hH; clear hw
  refine wz_ifne (tgt := 11) X.x X.b dJ1_isEmpty_4 (by decide) ⟨by omega, by omega⟩ (fun c4 => ?_) (fun c4 => ?_)
  · refine wz_iconst X.x X.b dJ1_isEmpty_11 ?_
    exact wa_zret X hH hS dJ1_isEmpty_12 nb0 ⟨Or.inr ⟨by first | rfl | omega | assumption, rfl⟩, rfl⟩
  · refine wz_iconst X.x X.b dJ1_isEmpty_7 ?_
    refine lv_goto (tgt := 12) X.x X.b dJ1_isEmpty_8 (by decide) ?_
    exact wa_zret X hH hS dJ1_isEmpty_12 nb1 ⟨Or.inl ⟨by first | rfl | omega | assumption, rfl⟩, rfl⟩

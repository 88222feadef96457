/-! JOINER: finds, follower, isRight -/
set_option maxRecDepth 100000 in
theorem mX2_finds {lL : Launch} {G : wa_G} {ad : Nat → Nat} {w : wa_W} {S : Nat → Int} {A : Nat → Int → Int} {B : Nat → Int → Option Nat} {P : Nat → Option Nat} (hX : XW G ad w S A B P) {g : Int → Int} (hPX : PX G ad w (B 10) g) (hWY : WAYS G ad w (B 5)) (hNV : NVX ad w P) (hXJ : XJ G ad w S A B P g) (ho : okS g) (hm : S 30 = g 3) (hg : A 10 0 = g 1 ∧ A 10 1 = g 2) (hq0 : S 12 = 0) : Met lL yX2_finds (ws_ yX2_finds cX2_finds 2 (none : Option FieldType)) ({ frames := 10, cells := 5400, slots := 17400, locals := 3186 } : Room) (wa_P G w [.ref (ad 24)]) (wa_Qv G fun u => ∃ (S2 : Nat → Int) (A2 : Nat → Int → Int) (B2 : Nat → Int → Option Nat) (P2 : Nat → Option Nat), XW G ad u S2 A2 B2 P2 ∧ Kp ad w u ∧ ((∀ j, ¬ ((4 ≤ j ∧ j ≤ 13) ∨ (40 ≤ j ∧ j < 56)) → S2 j = S j) ∧ (∀ j, j ≠ 3 → A2 j = A j) ∧ (∀ j, ¬ (1 ≤ j ∧ j ≤ 4) → B2 j = B j) ∧ ∀ j, 1 ≤ j → j < 20 → P2 j = P j) ∧ (JR G ad u S2 A2 B2 P2 g) ∧ (NVX ad u P2) ∧ (S2 12 = 0 ∧ S2 4 = 0)) 5400 17400 (wa_A G) := by
  refine wa_met (by decide) (by exact Nat.le_of_ble_eq_true rfl) ?_
  intro pP eE sS mM aA bB mT cC ls X hl hH
  have hS : va_S (wa_A G) sS.heap sS.heap [] := va_S.rf
  have hl : lv_has ls 2 [(0, .ref (ad 24))] := hl
  have hK : Kp ad w w := Kp.rf
  have hPX_0 := hPX
  have hWY_0 := hWY
  have hNV_0 := hNV
  have hXJ_0 := hXJ
  have hmany := ho.many
  refine lv_aload_n X.x X.b dX2_finds_0 rfl (lv_at hl 0 rfl) ?_
  refine wa_get (v := .int (zI (S 4))) X hH (have h9 := (XW.c24 hX); h9) wcX2 0 (by decide) q340 rfl (fun _ h9 => h9) rfl dX2_finds_1 ?_
  refine wz_ifne (tgt := 8) X.x X.b dX2_finds_4 (by decide) (by rcases hXJ.1 with q | q <;> (rw [q]; exact ⟨by decide, by decide⟩)) (fun c4 => ?_) (fun c4 => ?_)
  · have hJC : JC ad w S P g 0 := fun k h0 h1 => absurd h1 (by omega)
    refine wz_iconst X.x X.b dX2_finds_8 ?_
    refine lv_istore_n (lv' := [(1, .int (zI 0)), (0, .ref (ad 24))]) X.x X.b dX2_finds_9 rfl hl (by decide) rfl (fun ls hl => ?_)
    have L10 : ∀ (nn : Nat) (k : Int) (Sl : Nat → Int) (Pl : Nat → Option Nat), ((g 3 - k).toNat) = nn → (0 ≤ k ∧ k ≤ g 3) → (∀ j, ¬ (40 ≤ j ∧ j < 56) → Sl j = S j) → (∀ j, j < 20 → Pl j = P j) → ∀ (wl10 : wa_W) (H : Heap) (locs : List Loc) (ls : Array Slot), XW G ad wl10 Sl A B Pl → Kp ad w wl10 → PX G ad wl10 (B 10) g → WAYS G ad wl10 (B 5) → NVX ad wl10 Pl → XJ G ad wl10 S A B P g → JC ad wl10 Sl Pl g k → wa_H G wl10 H → va_S (wa_A G) sS.heap H locs → lv_has ls 2 [(1, .int (zI k)), (0, .ref (ad 24))] → W pP lL eE ({ frames := 10, cells := 5400, slots := 17400, locals := 3186 } : Room) sS mM aA bB mT cC H locs (24 * Int.toNat k) (108 * Int.toNat k) (MQ bB (wa_Qv G fun u => ∃ (S2 : Nat → Int) (A2 : Nat → Int → Int) (B2 : Nat → Int → Option Nat) (P2 : Nat → Option Nat), XW G ad u S2 A2 B2 P2 ∧ Kp ad w u ∧ ((∀ j, ¬ ((4 ≤ j ∧ j ≤ 13) ∨ (40 ≤ j ∧ j < 56)) → S2 j = S j) ∧ (∀ j, j ≠ 3 → A2 j = A j) ∧ (∀ j, ¬ (1 ≤ j ∧ j ≤ 4) → B2 j = B j) ∧ ∀ j, 1 ≤ j → j < 20 → P2 j = P j) ∧ (JR G ad u S2 A2 B2 P2 g) ∧ (NVX ad u P2) ∧ (S2 12 = 0 ∧ S2 4 = 0)) aA sS 5400 17400 (wa_A G)) (F0 mM 10 ls []) := by
      intro nn
      induction nn using Nat.strongRecOn with
      | ind nn ih10 =>
        intro k Sl Pl hmu10 i10_0 i10_1 i10_2 wl10 H locs ls hX hK hPX hWY hNV hXJ hJC hH hS hl
        refine lv_iload_n X.x X.b dX2_finds_10 rfl (lv_at hl 0 rfl) ?_
        refine lv_aload_n X.x X.b dX2_finds_11 rfl (lv_at hl 1 rfl) ?_
        refine wa_get (v := .ref (ad 0)) X hH (have h9 := (XW.c24 hX); h9) wcX2 15 (by decide) q368 rfl (fun _ h9 => h9) rfl dX2_finds_12 ?_
        refine wa_getN (v := .ref (ad 1)) X hH (have h9 := (XW.c0 hX); h9) wcX0 0 (by decide) q416 rfl (fun _ h9 => h9) rfl dX2_finds_15 ?_
        have e30 : Sl 30 = g 3 := (i10_1 30 (by omega)).trans hm
        refine wa_getN (v := .int (zI (Sl 30))) X hH (have h9 := (XW.c1 hX); h9) wcX1 3 (by decide) q171 rfl (fun _ h9 => h9) rfl dX2_finds_18 ?_
        refine wz_is (z := g 3) (by exact e30) ?_
        refine wz_icmp_ge (tgt := 35) X.x X.b dX2_finds_21 (by decide) ⟨by omega, by omega⟩ ⟨by omega, by omega⟩ (fun c21 => ?_) (fun c21 => ?_)
        · obtain rfl : k = g 3 := by omega
          refine lv_aload_n X.x X.b dX2_finds_35 rfl (lv_at hl 1 rfl) ?_
          refine wa_cv hS (wa_rV (rest := []) X hH (mX2_findChain hX hPX hWY hNV hJC  ho ((i10_1 30 (by omega)).trans hm) hg ((i10_1 12 (by omega)).trans hq0)) (cwV 0 X.t (lw_V q928 q930 qs24 q112 q931) rfl rfl rfl hdX2_findChain ⟨Nat.le_of_ble_eq_true rfl, Nat.le_of_ble_eq_true rfl⟩) rfl (have h9 := (XW.c24 hX); h9) rfl rfl hl.1 rfl (Nat.le_of_ble_eq_true rfl) dX2_finds_36 ⟨by dsimp only; omega, by dsimp only; omega⟩) (fun w36 H locs hp hH hS => ?_)
          obtain ⟨S2_36, A2_36, B2_36, P2_36, hX, hk, hx36_0, hx36_1, hx36_2, hx36_3⟩ := hp
          have hPX := hPX.kp hk
          have hWY := hWY.kp hk
          have hNV := hNV.kp hk
          have hXJ := hXJ.kp hk
          have hJC := hJC.kp hk
          have hK := hK.kp hk
          have hCH := hx36_1
          have hNV := hx36_3
          have hJC := hJC.cg (S2 := S2_36) (P2 := P2_36) (fun j h1 h2 => ⟨hx36_0.1 _ (by omega), hx36_0.2.2.2 _ (by omega)⟩)
          have hSM : SM G ad w36 (B2_36 3) g 0 := SM.nil
          refine wz_iconst X.x X.b dX2_finds_39 ?_
          refine lv_istore_n (lv' := [(1, .int (zI 0)), (0, .ref (ad 24))]) X.x X.b dX2_finds_40 rfl hl (by decide) rfl (fun ls hl => ?_)
          have L41 : ∀ (nn : Nat) (k : Int) (b3 : Int → Option Nat), ((6 - k).toNat) = nn → (0 ≤ k ∧ k ≤ 6) → ∀ (wl41 : wa_W) (H : Heap) (locs : List Loc) (ls : Array Slot), XW G ad wl41 S2_36 A2_36 (bup B2_36 3 b3) P2_36 → Kp ad w wl41 → PX G ad wl41 (B 10) g → WAYS G ad wl41 (B 5) → XJ G ad wl41 S A B P g → CH ad wl41 S2_36 A2_36 B2_36 g → NVX ad wl41 P2_36 → JC ad wl41 S2_36 P2_36 g (g 3) → SM G ad wl41 b3 g k → wa_H G wl41 H → va_S (wa_A G) sS.heap H locs → lv_has ls 2 [(1, .int (zI k)), (0, .ref (ad 24))] → W pP lL eE ({ frames := 10, cells := 5400, slots := 17400, locals := 3186 } : Room) sS mM aA bB mT cC H locs (4600 + 7 * Int.toNat k) (15200 + 49 * Int.toNat k) (MQ bB (wa_Qv G fun u => ∃ (S2 : Nat → Int) (A2 : Nat → Int → Int) (B2 : Nat → Int → Option Nat) (P2 : Nat → Option Nat), XW G ad u S2 A2 B2 P2 ∧ Kp ad w u ∧ ((∀ j, ¬ ((4 ≤ j ∧ j ≤ 13) ∨ (40 ≤ j ∧ j < 56)) → S2 j = S j) ∧ (∀ j, j ≠ 3 → A2 j = A j) ∧ (∀ j, ¬ (1 ≤ j ∧ j ≤ 4) → B2 j = B j) ∧ ∀ j, 1 ≤ j → j < 20 → P2 j = P j) ∧ (JR G ad u S2 A2 B2 P2 g) ∧ (NVX ad u P2) ∧ (S2 12 = 0 ∧ S2 4 = 0)) aA sS 5400 17400 (wa_A G)) (F0 mM 41 ls []) := by
            intro nn
            induction nn using Nat.strongRecOn with
            | ind nn ih41 =>
              intro k b3 hmu41 i41_0 wl41 H locs ls hX hK hPX hWY hXJ hCH hNV hJC hSM hH hS hl
              refine lv_iload_n X.x X.b dX2_finds_41 rfl (lv_at hl 0 rfl) ?_
              refine wz_bipush X.x X.b dX2_finds_42 rfl ?_
              refine wz_icmp_ge (tgt := 82) X.x X.b dX2_finds_44 (by decide) ⟨by omega, by omega⟩ ⟨by omega, by omega⟩ (fun c44 => ?_) (fun c44 => ?_)
              · obtain rfl : k = 6 := by omega
                refine lv_aload_n X.x X.b dX2_finds_82 rfl (lv_at hl 1 rfl) ?_
                refine wa_cv hS (wa_rV (rest := []) X hH (mX2_findLevels hX (by rw [bup_n (by decide), hx36_0.2.2.1 10 (by decide) (by decide)]; exact hPX) (hCH.cg (bup_n (by decide)) rfl (fun _ _ _ => rfl))  ho ((hx36_0.1 30 (by omega)).trans ((i10_1 30 (by omega)).trans hm))) (cwV 0 X.t (lw_V q1286 q1288 qs32 q112 q1289) rfl rfl rfl hdX2_findLevels ⟨Nat.le_of_ble_eq_true rfl, Nat.le_of_ble_eq_true rfl⟩) rfl (have h9 := (XW.c24 hX); h9) rfl rfl hl.1 rfl (Nat.le_of_ble_eq_true rfl) dX2_finds_83 ⟨by dsimp only; omega, by dsimp only; omega⟩) (fun w83 H locs hp hH hS => ?_)
                obtain ⟨S2_83, B2_83, P2_83, hX, hk, hx83_0, hx83_1, hx83_2⟩ := hp
                have hPX := hPX.kp hk
                have hWY := hWY.kp hk
                have hXJ := hXJ.kp hk
                have hCH := hCH.kp hk
                have hNV := hNV.kp hk
                have hJC := hJC.kp hk
                have hSM := hSM.kp hk
                have hK := hK.kp hk
                refine lv_aload_n X.x X.b dX2_finds_86 rfl (lv_at hl 1 rfl) ?_
                refine wz_iconst X.x X.b dX2_finds_87 ?_
                refine wa_put X hH hS (have h9 := (XW.c24 hX); h9) wcX2 0 (by decide) q340 rfl (fun _ h9 => h9) rfl nb0 rfl (Nat.le_of_ble_eq_true rfl) dX2_finds_88 (fun w88 H locs ew hH hS => ?_)
                have hk : Kp ad w83 w88 := Kp.set (i := 24) (by omega) ew
                have hX := hX.sS (i := 24) (4) (x := 0) (by unfold oS; omega) ew
                have hPX := hPX.kp hk
                have hWY := hWY.kp hk
                have hXJ := hXJ.kp hk
                have hCH := hCH.kp hk
                have hNV := hNV.kp hk
                have hJC := hJC.kp hk
                have hSM := hSM.kp hk
                have hx83_1 := hx83_1.kp hk
                have hx83_2 := hx83_2.kp hk
                have hK := hK.kp hk
                clear ew
                refine W.widen (k := 5400) (n := 17400) (by first | exact Nat.le_of_ble_eq_true rfl | omega) (by first | exact Nat.le_of_ble_eq_true rfl | omega) ?_
                exact wa_vret X hH hS dX2_finds_91 ⟨_, _, _, _, hX, hK, ⟨fun j hj => by rw [sup_n (by omega), hx83_0.1 j (by omega) (by omega) (by omega), hx36_0.1 j (by omega), i10_1 j (by omega)], fun j hj => hx36_0.2.1 j hj, fun j hj => by rw [hx83_0.2.1 j (by omega), bup_n (by omega), hx36_0.2.2.1 j (by omega) (by omega)], fun j h1 h2 => by rw [hx83_0.2.2 j (by omega), hx36_0.2.2.2 j (by omega), i10_2 j (by omega)]⟩, ⟨hJC.cg (fun j h1 h2 => ⟨by rw [sup_n (by omega)]; exact hx83_0.1 _ (by omega) (by omega) (by omega), hx83_0.2.2 _ (by omega)⟩), hCH.cg (by rw [hx83_0.2.1 1 (by decide)]; exact bup_n (by decide)) rfl (fun k h1 h2 => by rw [sup_n (by omega)]; exact hx83_0.1 _ (by omega) (by omega) (by omega)), (by rw [hx83_0.2.1 3 (by decide), bup_s]; exact hSM), hx83_1, hx83_2⟩, hNV.cg (fun k hk => hx83_0.2.2 _ (by omega)), ⟨by rw [sup_n (by decide), hx83_0.1 12 (by decide) (by decide) (by decide)]; exact hx36_2, rfl⟩⟩
              · refine lv_aload_n X.x X.b dX2_finds_47 rfl (lv_at hl 1 rfl) ?_
                refine wa_get (v := .ref (ad 53)) X hH (have h9 := (XW.c24 hX); h9) wcX2 9 (by decide) q356 rfl (fun _ h9 => h9) rfl dX2_finds_48 ?_
                refine lv_iload_n X.x X.b dX2_finds_51 rfl (lv_at hl 0 rfl) ?_
                refine lv_aload_n X.x X.b dX2_finds_52 rfl (lv_at hl 1 rfl) ?_
                refine wa_get (v := .ref (ad 51)) X hH (have h9 := (XW.c24 hX); h9) wcX2 3 (by decide) q344 rfl (fun _ h9 => h9) rfl dX2_finds_53 ?_
                refine lv_iload_n X.x X.b dX2_finds_56 rfl (lv_at hl 0 rfl) ?_
                refine wa_aald (k := 6) (f := B2_36 1) X hH (have h9 := (XW.c51 hX); h9) rfl rfl (by omega) (by omega) (by omega) dX2_finds_57 ?_
                rcases xo_cases ((B2_36 1) k) with ho58 | ⟨a58, ho58⟩
                · refine wz_opt (q := none) ho58 ?_
                  have hf := (id hCH).1.nol i41_0.1 (by omega) ho58
                  refine lv_ifnonnullN X.x X.b dX2_finds_58 ?_
                  refine lv_null X.x X.b dX2_finds_61 ?_
                  refine lv_goto (tgt := 75) X.x X.b dX2_finds_62 (by decide) ?_
                  refine wa_aastNI (f := b3) X hH hS (have h9 := (XW.c53 hX); h9) (by omega) (by omega) (by omega) dX2_finds_75 (fun w75 H locs ew hH hS => ?_)
                  have hk : Kp ad wl41 w75 := Kp.set (i := 53) (by omega) ew
                  have hX := hX.sB (i := 53) (3) (x := fupR b3 k none) (by unfold oB; omega) ew
                  have hX := XW.cB (B2 := bup B2_36 3 (fupR b3 k none)) hX (by funext j; simp only [bup]; by_cases h0 : j = 3; (subst h0; first | rfl | simp); simp only [h0, ↓reduceIte])
                  have hPX := hPX.kp hk
                  have hWY := hWY.kp hk
                  have hXJ := hXJ.kp hk
                  have hCH := hCH.kp hk
                  have hNV := hNV.kp hk
                  have hJC := hJC.kp hk
                  have hSM := hSM.kp hk
                  have hK := hK.kp hk
                  clear ew
                  have hSM : SM G ad w75 (fupR b3 k none) g (k + 1) := hSM.putN hf
                  refine wz_iinc (k := 0) (lv' := [(1, .int (zI (k + 1))), (0, .ref (ad 24))]) X.x X.b dX2_finds_76 hl rfl (by decide) rfl (fun ls hl => ?_)
                  refine lv_goto (tgt := 41) X.x X.b dX2_finds_79 (by decide) ?_
                  refine W.widen (k := (4600 + 7 * Int.toNat (k + 1))) (n := (15200 + 49 * Int.toNat (k + 1))) (by omega) (by omega) ?_
                  exact ih41 _ (by omega) (k + 1) (fupR b3 k none) rfl (by omega) _ _ _ _ hX hK hPX hWY hXJ hCH hNV hJC hSM hH hS (lv_sub hl [0, 1] rfl)
                · refine wz_opt (q := (some a58)) ho58 ?_
                  obtain ⟨hb1, hb2, hb3, sc, fl⟩ := (id hCH).1.isl i41_0.1 (by omega) ho58
                  have hf : ¬ foS g k = -1 := by omega
                  have hpos := fS_pos hb3
                  refine lv_ifnonnull (tgt := 65) X.x X.b dX2_finds_58 (by decide) ?_
                  refine lv_aload_n X.x X.b dX2_finds_65 rfl (lv_at hl 1 rfl) ?_
                  refine lv_aload_n X.x X.b dX2_finds_66 rfl (lv_at hl 1 rfl) ?_
                  refine wa_get (v := .ref (ad 51)) X hH (have h9 := (XW.c24 hX); h9) wcX2 3 (by decide) q344 rfl (fun _ h9 => h9) rfl dX2_finds_67 ?_
                  refine lv_iload_n X.x X.b dX2_finds_70 rfl (lv_at hl 0 rfl) ?_
                  refine wa_aald (k := 6) (f := B2_36 1) X hH (have h9 := (XW.c51 hX); h9) rfl rfl (by omega) (by omega) (by omega) dX2_finds_71 ?_
                  refine wz_opt (q := some a58) (by exact ho58) ?_
                  refine wa_cr hS (wa_rV (rest := [.int (zI k), .ref (ad 53)]) X hH (mX2_seam hX (by rw [bup_n (by decide), hx36_0.2.2.1 10 (by decide) (by decide)]; exact hPX) fl  (by omega) hf ho hpos) (cwV 1 X.t (lw_V q1266 q1268 qs29 q112 q1269) rfl rfl rfl hdX2_seam ⟨Nat.le_of_ble_eq_true rfl, Nat.le_of_ble_eq_true rfl⟩) rfl (have h9 := (XW.c24 hX); h9) rfl rfl hl.1 rfl (Nat.le_of_ble_eq_true rfl) dX2_finds_72 ⟨by dsimp only; omega, by dsimp only; omega⟩) (fun r72 w72 H locs hp hH hS => ?_)
                  obtain ⟨q_72, row_72, hX, hk, hx72_0, hx72_1, hx72_2⟩ := hp
                  have hPX := hPX.kp hk
                  have hWY := hWY.kp hk
                  have hXJ := hXJ.kp hk
                  have hCH := hCH.kp hk
                  have hNV := hNV.kp hk
                  have hJC := hJC.kp hk
                  have hSM := hSM.kp hk
                  have fl := fl.kp hk
                  have hK := hK.kp hk
                  refine wz_opt (q := some q_72) (by exact hx72_0) ?_
                  refine wa_aastI (f := b3) X hH hS (have h9 := (XW.c53 hX); h9) hx72_1.2 (by omega) (by omega) (by omega) dX2_finds_75 (fun w75 H locs ew hH hS => ?_)
                  have hk : Kp ad w72 w75 := Kp.set (i := 53) (by omega) ew
                  have hX := hX.sB (i := 53) (3) (x := fupR b3 k (some q_72)) (by unfold oB; omega) ew
                  have hX := XW.cB (B2 := bup B2_36 3 (fupR b3 k (some q_72))) hX (by funext j; simp only [bup]; by_cases h0 : j = 3; (subst h0; first | rfl | simp); simp only [h0, ↓reduceIte])
                  have hPX := hPX.kp hk
                  have hWY := hWY.kp hk
                  have hXJ := hXJ.kp hk
                  have hCH := hCH.kp hk
                  have hNV := hNV.kp hk
                  have hJC := hJC.kp hk
                  have hSM := hSM.kp hk
                  have fl := fl.kp hk
                  have hx72_1 := hx72_1.kp hk
                  have hK := hK.kp hk
                  clear ew
                  have hSM : SM G ad w75 (fupR b3 k (some q_72)) g (k + 1) := hSM.put hf hx72_1 hx72_2
                  refine wz_iinc (k := 0) (lv' := [(1, .int (zI (k + 1))), (0, .ref (ad 24))]) X.x X.b dX2_finds_76 hl rfl (by decide) rfl (fun ls hl => ?_)
                  refine lv_goto (tgt := 41) X.x X.b dX2_finds_79 (by decide) ?_
                  refine W.widen (k := (4600 + 7 * Int.toNat (k + 1))) (n := (15200 + 49 * Int.toNat (k + 1))) (by omega) (by omega) ?_
                  exact ih41 _ (by omega) (k + 1) (fupR b3 k (some q_72)) rfl (by omega) _ _ _ _ hX hK hPX hWY hXJ hCH hNV hJC hSM hH hS (lv_sub hl [0, 1] rfl)
          have hX := XW.cB (B2 := bup B2_36 3 (B2_36 3)) hX (by funext j; simp only [bup]; by_cases h0 : j = 3; (subst h0; first | rfl | simp); simp only [h0, ↓reduceIte])
          refine W.widen (k := (4600 + 7 * Int.toNat 0)) (n := (15200 + 49 * Int.toNat 0)) (by omega) (by omega) ?_
          exact L41 _ 0 (B2_36 3) rfl (by omega) _ _ _ _ hX hK hPX hWY hXJ hCH hNV hJC hSM hH hS (lv_sub hl [0, 1] rfl)
        · refine lv_aload_n X.x X.b dX2_finds_24 rfl (lv_at hl 1 rfl) ?_
          refine lv_iload_n X.x X.b dX2_finds_25 rfl (lv_at hl 0 rfl) ?_
          refine wa_cv hS (wa_rV (rest := []) X hH (mX2_findCorners hX hPX hWY hNV k (show k = ((Int.toNat k : Nat) : Int) by omega) (show Int.toNat k < 6 by omega) (show ((Int.toNat k : Nat) : Int) < g 3 by omega) ho hg.1) (cwV 1 X.t (lw_V q661 q663 qs15 q112 q664) rfl rfl rfl hdX2_findCorners ⟨Nat.le_of_ble_eq_true rfl, Nat.le_of_ble_eq_true rfl⟩) rfl (have h9 := (XW.c24 hX); h9) rfl rfl hl.1 rfl (Nat.le_of_ble_eq_true rfl) dX2_finds_26 ⟨by dsimp only; omega, by dsimp only; omega⟩) (fun w26 H locs hp hH hS => ?_)
          obtain ⟨S2_26, P2_26, l_26, κ_26, hX, hk, hx26_0, hx26_1, hx26_2, hx26_3⟩ := hp
          have hPX := hPX.kp hk
          have hWY := hWY.kp hk
          have hNV := hNV.kp hk
          have hXJ := hXJ.kp hk
          have hJC := hJC.kp hk
          have hK := hK.kp hk
          have hNV := hx26_3
          have hJC : JC ad w26 S2_26 P2_26 g (k + 1) := by
            have h8 := (JC.cg hJC (S2 := S2_26) (P2 := P2_26) (fun j h1 h2 => ⟨hx26_0.1 _ (by omega) (by omega), hx26_0.2 _ (by omega)⟩))
            rw [show k = ((k.toNat : Nat) : Int) by omega] at h8 ⊢
            exact h8.add hx26_1 hx26_2
          refine wz_iinc (k := 0) (lv' := [(1, .int (zI (k + 1))), (0, .ref (ad 24))]) X.x X.b dX2_finds_29 hl rfl (by decide) rfl (fun ls hl => ?_)
          refine lv_goto (tgt := 10) X.x X.b dX2_finds_32 (by decide) ?_
          refine W.widen (k := (24 * Int.toNat (k + 1))) (n := (108 * Int.toNat (k + 1))) (by omega) (by omega) ?_
          exact ih10 _ (by omega) (k + 1) S2_26 P2_26 rfl (by omega) (by intro j hj; exact (hx26_0.1 j (by omega) (by omega)).trans (i10_1 j hj)) (by intro j hj; exact (hx26_0.2 j (by omega)).trans (i10_2 j hj)) _ _ _ _ hX hK hPX hWY hNV hXJ hJC hH hS (lv_sub hl [0, 1] rfl)
    refine W.widen (k := (24 * Int.toNat 0)) (n := (108 * Int.toNat 0)) (by omega) (by omega) ?_
    exact L10 _ 0 S P rfl (by omega) (by intro j _; rfl) (by intro j _; rfl) _ _ _ _ hX hK hPX hWY hNV hXJ hJC hH hS (lv_sub hl [0, 1] rfl)
  · refine W.widen (k := 5400) (n := 17400) (by first | exact Nat.le_of_ble_eq_true rfl | omega) (by first | exact Nat.le_of_ble_eq_true rfl | omega) ?_
    exact wa_vret X hH hS dX2_finds_7 ⟨S, A, B, P, hX, hK, ⟨fun j _ => rfl, fun j _ => rfl, fun j _ => rfl, fun j _ _ => rfl⟩, hXJ.2 c4, hNV, ⟨hq0, c4⟩⟩
set_option maxRecDepth 100000 in
theorem mX2_follower {lL : Launch} {G : wa_G} {ad : Nat → Nat} {w : wa_W} {S : Nat → Int} {A : Nat → Int → Int} {B : Nat → Int → Option Nat} {P : Nat → Option Nat} (hX : XW G ad w S A B P) {g : Int → Int} (hJR : JR G ad w S A B P g) (k : Int) (hk : 0 ≤ k ∧ k < g 3) (ho : okS g) : Met lL yX2_follower (ws_ yX2_follower cX2_follower 2 (some FieldType.int)) ({ frames := 0, cells := 0, slots := 0, locals := 0 } : Room) (wa_P G w [.ref (ad 24), .int (zI k)]) (wa_Qz G fun z u => z = foS g k ∧ w = u) 0 0 (wa_A G) := by
  refine wa_met (by decide) (by exact Nat.le_of_ble_eq_true rfl) ?_
  intro pP eE sS mM aA bB mT cC ls X hl hH
  have hS : va_S (wa_A G) sS.heap sS.heap [] := va_S.rf
  have hl : lv_has ls 2 [(0, .ref (ad 24)), (1, .int (zI k))] := hl
  have hK : Kp ad w w := Kp.rf
  have hJR_0 := hJR
  have hmany := ho.many
  refine lv_aload_n X.x X.b dX2_follower_0 rfl (lv_at hl 0 rfl) ?_
  refine wa_get (v := .ref (ad 51)) X hH (have h9 := (XW.c24 hX); h9) wcX2 3 (by decide) q344 rfl (fun _ h9 => h9) rfl dX2_follower_1 ?_
  refine lv_iload_n X.x X.b dX2_follower_4 rfl (lv_at hl 1 rfl) ?_
  refine wa_aald (k := 6) (f := B 1) X hH (have h9 := (XW.c51 hX); h9) rfl rfl (by omega) (by omega) (by omega) dX2_follower_5 ?_
  rcases xo_cases ((B 1) k) with ho6 | ⟨a6, ho6⟩
  · refine wz_opt (q := none) ho6 ?_
    have hf := hJR.2.1.1.nol (a := k) (by omega) (by omega) ho6
    refine lv_ifnonnullN X.x X.b dX2_follower_6 ?_
    refine wz_iconst X.x X.b dX2_follower_9 ?_
    refine lv_goto (tgt := 22) X.x X.b dX2_follower_10 (by decide) ?_
    exact wa_iret X hH hS dX2_follower_22 ⟨by first | rfl | exact hf.symm, rfl⟩
  · refine wz_opt (q := (some a6)) ho6 ?_
    obtain ⟨hb1, hb2, hb3, sc, fl⟩ := hJR.2.1.1.isl (a := k) (by omega) (by omega) ho6
    have hf : ¬ foS g k = -1 := by omega
    refine lv_ifnonnull (tgt := 13) X.x X.b dX2_follower_6 (by decide) ?_
    refine lv_aload_n X.x X.b dX2_follower_13 rfl (lv_at hl 0 rfl) ?_
    refine wa_get (v := .ref (ad 51)) X hH (have h9 := (XW.c24 hX); h9) wcX2 3 (by decide) q344 rfl (fun _ h9 => h9) rfl dX2_follower_14 ?_
    refine lv_iload_n X.x X.b dX2_follower_17 rfl (lv_at hl 1 rfl) ?_
    refine wa_aald (k := 6) (f := B 1) X hH (have h9 := (XW.c51 hX); h9) rfl rfl (by omega) (by omega) (by omega) dX2_follower_18 ?_
    refine wz_opt (q := some a6) (by exact ho6) ?_
    refine wa_getN (v := .int (zI (foS g k))) X hH fl.1.2 wcX11 1 (by decide) q1128 rfl (fun _ h9 => h9) rfl dX2_follower_19 ?_
    exact wa_iret X hH hS dX2_follower_22 ⟨by first | rfl | exact hf.symm, rfl⟩
set_option maxRecDepth 100000 in
theorem mX2_isRight {lL : Launch} {G : wa_G} {ad : Nat → Nat} {w : wa_W} {S : Nat → Int} {A : Nat → Int → Int} {B : Nat → Int → Option Nat} {P : Nat → Option Nat} (hX : XW G ad w S A B P) {g : Int → Int} (hJR : JR G ad w S A B P g) (hPX : PX G ad w (B 10) g) (k : Int) (hk : 0 ≤ k ∧ k < g 3) (ho : okS g) : Met lL yX2_isRight (ws_ yX2_isRight cX2_isRight 5 (some FieldType.boolean)) ({ frames := 0, cells := 0, slots := 0, locals := 0 } : Room) (wa_P G w [.ref (ad 24), .int (zI k)]) (wa_Qz G fun z u => ((¬ foS g k = -1 ∧ rightS g k) ∧ z = 1 ∨ ¬ (¬ foS g k = -1 ∧ rightS g k) ∧ z = 0) ∧ w = u) 0 0 (wa_A G) := by
  refine wa_met (by decide) (by exact Nat.le_of_ble_eq_true rfl) ?_
  intro pP eE sS mM aA bB mT cC ls X hl hH
  have hS : va_S (wa_A G) sS.heap sS.heap [] := va_S.rf
  have hl : lv_has ls 5 [(0, .ref (ad 24)), (1, .int (zI k))] := hl
  have hK : Kp ad w w := Kp.rf
  have hJR_0 := hJR
  have hPX_0 := hPX
  have hmany := ho.many
  refine lv_aload_n X.x X.b dX2_isRight_0 rfl (lv_at hl 0 rfl) ?_
  refine wa_get (v := .ref (ad 51)) X hH (have h9 := (XW.c24 hX); h9) wcX2 3 (by decide) q344 rfl (fun _ h9 => h9) rfl dX2_isRight_1 ?_
  refine lv_iload_n X.x X.b dX2_isRight_4 rfl (lv_at hl 1 rfl) ?_
  refine wa_aald (k := 6) (f := B 1) X hH (have h9 := (XW.c51 hX); h9) rfl rfl (by omega) (by omega) (by omega) dX2_isRight_5 ?_
  refine lv_astore_nO (lv' := [(2, va_rf ((B 1) k)), (0, .ref (ad 24)), (1, .int (zI k))]) X.x X.b dX2_isRight_6 rfl hl (by decide) rfl (fun ls hl => ?_)
  refine lv_aload_nO X.x X.b dX2_isRight_7 rfl (lv_at hl 0 rfl) ?_
  rcases xo_cases ((B 1) k) with ho8 | ⟨a8, ho8⟩
  · refine wz_opt (q := none) ho8 ?_
    have hl : lv_has ls 5 [(2, .null), (0, .ref (ad 24)), (1, .int (zI k))] := by rw [ho8] at hl; exact hl
    have hf := hJR.2.1.1.nol (a := k) (by omega) (by omega) ho8
    refine lv_ifnonnullN X.x X.b dX2_isRight_8 ?_
    refine wz_iconst X.x X.b dX2_isRight_11 ?_
    exact wa_zret X hH hS dX2_isRight_12 nb0 ⟨Or.inr ⟨by exact fun q => q.1 hf, rfl⟩, rfl⟩
  · refine wz_opt (q := (some a8)) ho8 ?_
    have hl : lv_has ls 5 [(2, .ref a8), (0, .ref (ad 24)), (1, .int (zI k))] := by rw [ho8] at hl; exact hl
    obtain ⟨hb1, hb2, hb3, sc, fl⟩ := hJR.2.1.1.isl (a := k) (by omega) (by omega) ho8
    have hf : ¬ foS g k = -1 := by omega
    refine lv_ifnonnull (tgt := 13) X.x X.b dX2_isRight_8 (by decide) ?_
    have hfoi := (foS_in ho hk.1 hk.2).resolve_left hf
    have hef := efS_in (g := g) k
    have hsk := ho.sh k hk.1 hk.2
    have hsf := ho.sh (foS g k) hfoi.1 hfoi.2.1
    obtain ⟨pa, ba, fa, hpa0, fpa, apa⟩ := hPX k (by omega) (by omega)
    have cpa := pcA.cB apa ho (by omega)
    have fpa_0 := fpa
    obtain ⟨pb, bb, fb, hpb0, fpb, apb⟩ := hPX (foS g k) (by omega) (by omega)
    have cpb := pcA.cB apb ho (by omega)
    have fpb_0 := fpb
    refine lv_aload_n X.x X.b dX2_isRight_13 rfl (lv_at hl 1 rfl) ?_
    refine wa_get (v := .ref (ad 0)) X hH (have h9 := (XW.c24 hX); h9) wcX2 15 (by decide) q368 rfl (fun _ h9 => h9) rfl dX2_isRight_14 ?_
    refine wa_getN (v := .ref (ad 1)) X hH (have h9 := (XW.c0 hX); h9) wcX0 0 (by decide) q416 rfl (fun _ h9 => h9) rfl dX2_isRight_17 ?_
    refine wa_getN (v := .ref (ad 2)) X hH (have h9 := (XW.c1 hX); h9) wcX1 2 (by decide) q168 rfl (fun _ h9 => h9) rfl dX2_isRight_20 ?_
    refine lv_aload_n X.x X.b dX2_isRight_23 rfl (lv_at hl 0 rfl) ?_
    refine wa_getN (v := .int (zI k)) X hH fl.1.2 wcX11 0 (by decide) q1124 rfl (fun _ h9 => h9) rfl dX2_isRight_24 ?_
    refine wa_aald (k := 2) (f := B 10) X hH (have h9 := (XW.c2 hX); h9) rfl rfl (by omega) (by omega) (by omega) dX2_isRight_27 ?_
    refine wz_opt (q := some pa) (by exact hpa0) ?_
    refine lv_astore_n (lv' := [(3, .ref pa), (2, .ref a8), (0, .ref (ad 24)), (1, .int (zI k))]) X.x X.b dX2_isRight_28 rfl hl (by decide) rfl (fun ls hl => ?_)
    refine lv_aload_n X.x X.b dX2_isRight_29 rfl (lv_at hl 2 rfl) ?_
    refine wa_get (v := .ref (ad 0)) X hH (have h9 := (XW.c24 hX); h9) wcX2 15 (by decide) q368 rfl (fun _ h9 => h9) rfl dX2_isRight_30 ?_
    refine wa_getN (v := .ref (ad 1)) X hH (have h9 := (XW.c0 hX); h9) wcX0 0 (by decide) q416 rfl (fun _ h9 => h9) rfl dX2_isRight_33 ?_
    refine wa_getN (v := .ref (ad 2)) X hH (have h9 := (XW.c1 hX); h9) wcX1 2 (by decide) q168 rfl (fun _ h9 => h9) rfl dX2_isRight_36 ?_
    refine lv_aload_n X.x X.b dX2_isRight_39 rfl (lv_at hl 1 rfl) ?_
    refine wa_getN (v := .int (zI (foS g k))) X hH fl.1.2 wcX11 1 (by decide) q1128 rfl (fun _ h9 => h9) rfl dX2_isRight_40 ?_
    refine wa_aald (k := 2) (f := B 10) X hH (have h9 := (XW.c2 hX); h9) rfl rfl (by omega) (by omega) (by omega) dX2_isRight_43 ?_
    refine wz_opt (q := some pb) (by exact hpb0) ?_
    refine lv_astore (lv' := [(4, .ref pb), (3, .ref pa), (2, .ref a8), (0, .ref (ad 24)), (1, .int (zI k))]) X.x X.b dX2_isRight_44 hl (by decide) rfl (fun ls hl => ?_)
    refine lv_aload_n X.x X.b dX2_isRight_46 rfl (lv_at hl 1 rfl) ?_
    refine wa_getN (v := .int (zI (sh g k 2))) X hH fpa.1.2 wcX8 3 (by decide) q554 rfl (fun _ h9 => h9) rfl dX2_isRight_47 ?_
    refine lv_aload X.x X.b dX2_isRight_50 (lv_at hl 0 rfl) ?_
    refine wa_getN (v := .int (zI (sh g (foS g k) 2))) X hH fpb.1.2 wcX8 3 (by decide) q554 rfl (fun _ h9 => h9) rfl dX2_isRight_52 ?_
    refine wz_icmp_ne (tgt := 107) X.x X.b dX2_isRight_55 (by decide) ⟨by omega, by omega⟩ ⟨by omega, by omega⟩ (fun c55 => ?_) (fun c55 => ?_)
    · refine wz_iconst X.x X.b dX2_isRight_107 ?_
      exact wa_zret X hH hS dX2_isRight_108 nb0 ⟨Or.inr ⟨by first | exact ⟨hf, c55, c80, c100⟩ | exact fun q => c55 q.2.1 | exact fun q => c80 q.2.2.1 | exact fun q => c100 q.2.2.2, rfl⟩, rfl⟩
    · refine lv_aload_n X.x X.b dX2_isRight_58 rfl (lv_at hl 1 rfl) ?_
      refine wa_getN (v := .int (zI (sh g k 0))) X hH fpa.1.2 wcX8 1 (by decide) q550 rfl (fun _ h9 => h9) rfl dX2_isRight_59 ?_
      refine lv_aload_n X.x X.b dX2_isRight_62 rfl (lv_at hl 2 rfl) ?_
      refine wa_getN (v := .ref sc) X hH fl.1.2 wcX11 2 (by decide) q1130 rfl (fun _ h9 => h9) rfl dX2_isRight_63 ?_
      refine wa_getN (v := .int (zI (fS g k))) X hH fl.2.2 wcX10 1 (by decide) q1060 rfl (fun _ h9 => h9) rfl dX2_isRight_66 ?_
      refine wz_iadd X.x X.b dX2_isRight_69 ?_
      refine lv_aload_n X.x X.b dX2_isRight_70 rfl (lv_at hl 1 rfl) ?_
      refine wa_getN (v := .int (zI (sh g k 2))) X hH fpa.1.2 wcX8 3 (by decide) q554 rfl (fun _ h9 => h9) rfl dX2_isRight_71 ?_
      refine wz_iremp X.x X.b dX2_isRight_74 (by omega) (by omega) (by omega) (by omega) ?_
      refine lv_aload X.x X.b dX2_isRight_75 (lv_at hl 0 rfl) ?_
      refine wa_getN (v := .int (zI (sh g (foS g k) 0))) X hH fpb.1.2 wcX8 1 (by decide) q550 rfl (fun _ h9 => h9) rfl dX2_isRight_77 ?_
      refine wz_icmp_ne (tgt := 107) X.x X.b dX2_isRight_80 (by decide) ⟨by have := Int.emod_nonneg (sh g k 0 + fS g k) (show sh g k 2 ≠ 0 by omega); omega, by have := Int.emod_lt_of_pos (sh g k 0 + fS g k) (show 0 < sh g k 2 by omega); omega⟩ ⟨by omega, by omega⟩ (fun c80 => ?_) (fun c80 => ?_)
      · refine wz_iconst X.x X.b dX2_isRight_107 ?_
        exact wa_zret X hH hS dX2_isRight_108 nb0 ⟨Or.inr ⟨by first | exact ⟨hf, c55, c80, c100⟩ | exact fun q => c55 q.2.1 | exact fun q => c80 q.2.2.1 | exact fun q => c100 q.2.2.2, rfl⟩, rfl⟩
      · refine lv_aload_n X.x X.b dX2_isRight_83 rfl (lv_at hl 1 rfl) ?_
        refine wa_getN (v := .int (zI (sh g k 1))) X hH fpa.1.2 wcX8 2 (by decide) q552 rfl (fun _ h9 => h9) rfl dX2_isRight_84 ?_
        refine lv_aload_n X.x X.b dX2_isRight_87 rfl (lv_at hl 2 rfl) ?_
        refine wa_getN (v := .ref sc) X hH fl.1.2 wcX11 2 (by decide) q1130 rfl (fun _ h9 => h9) rfl dX2_isRight_88 ?_
        refine wa_getN (v := .int (zI (eS g k))) X hH fl.2.2 wcX10 0 (by decide) q1056 rfl (fun _ h9 => h9) rfl dX2_isRight_91 ?_
        refine wz_iadd X.x X.b dX2_isRight_94 ?_
        refine lv_aload X.x X.b dX2_isRight_95 (lv_at hl 0 rfl) ?_
        refine wa_getN (v := .int (zI (sh g (foS g k) 1))) X hH fpb.1.2 wcX8 2 (by decide) q552 rfl (fun _ h9 => h9) rfl dX2_isRight_97 ?_
        refine wz_icmp_ne (tgt := 107) X.x X.b dX2_isRight_100 (by decide) ⟨by omega, by omega⟩ ⟨by omega, by omega⟩ (fun c100 => ?_) (fun c100 => ?_)
        · refine wz_iconst X.x X.b dX2_isRight_107 ?_
          exact wa_zret X hH hS dX2_isRight_108 nb0 ⟨Or.inr ⟨by first | exact ⟨hf, c55, c80, c100⟩ | exact fun q => c55 q.2.1 | exact fun q => c80 q.2.2.1 | exact fun q => c100 q.2.2.2, rfl⟩, rfl⟩
        · refine wz_iconst X.x X.b dX2_isRight_103 ?_
          refine lv_goto (tgt := 108) X.x X.b dX2_isRight_104 (by decide) ?_
          exact wa_zret X hH hS dX2_isRight_108 nb1 ⟨Or.inl ⟨by first | exact ⟨hf, c55, c80, c100⟩ | exact fun q => c55 q.2.1 | exact fun q => c80 q.2.2.1 | exact fun q => c100 q.2.2.2, rfl⟩, rfl⟩

/-! JOINER: findCorners -/
set_option maxRecDepth 100000 in
theorem mX2_findCorners {lL : Launch} {G : wa_G} {ad : Nat → Nat} {w : wa_W} {S : Nat → Int} {A : Nat → Int → Int} {B : Nat → Int → Option Nat} {P : Nat → Option Nat} (hX : XW G ad w S A B P) {kn : Nat} {g : Int → Int} (hPX : PX G ad w (B 10) g) (hWY : WAYS G ad w (B 5)) (hNV : NVX ad w P) (k : Int) (hkn : k = kn) (hk6 : kn < 6) (hkm : (kn : Int) < g 3) (ho : okS g) (hg : A 10 0 = g 1) : Met lL yX2_findCorners (ws_ yX2_findCorners cX2_findCorners 5 (none : Option FieldType)) ({ frames := 9, cells := 24, slots := 108, locals := 236 } : Room) (wa_P G w [.ref (ad 24), .int (zI k)]) (wa_Qv G fun u => ∃ (S2 : Nat → Int) (P2 : Nat → Option Nat) (l : List Nat) (κ : Nat → KT), XW G ad u S2 A B P2 ∧ Kp ad w u ∧ ((∀ j, j ≠ 40 + kn → j ≠ 50 + kn → S2 j = S j) ∧ ∀ j, j ≠ 20 + kn → P2 j = P j) ∧ (TFk ad u S2 P2 kn l κ) ∧ (CLn g kn 12 l κ) ∧ (NVX ad u P2)) 24 108 (wa_A G) := by
  refine wa_met (by decide) (by exact Nat.le_of_ble_eq_true rfl) ?_
  intro pP eE sS mM aA bB mT cC ls X hl hH
  have hS : va_S (wa_A G) sS.heap sS.heap [] := va_S.rf
  have hl : lv_has ls 5 [(0, .ref (ad 24)), (1, .int (zI k))] := hl
  have hK : Kp ad w w := Kp.rf
  have hPX_0 := hPX
  have hWY_0 := hWY
  have hNV_0 := hNV
  have hmany := ho.many
  have hch := ho.ch
  refine lv_aload_n X.x X.b dX2_findCorners_0 rfl (lv_at hl 0 rfl) ?_
  refine wa_get (v := .ref (ad 0)) X hH (have h9 := (XW.c24 hX); h9) wcX2 15 (by decide) q368 rfl (fun _ h9 => h9) rfl dX2_findCorners_1 ?_
  refine wa_getN (v := .ref (ad 1)) X hH (have h9 := (XW.c0 hX); h9) wcX0 0 (by decide) q416 rfl (fun _ h9 => h9) rfl dX2_findCorners_4 ?_
  refine wa_getN (v := .ref (ad 2)) X hH (have h9 := (XW.c1 hX); h9) wcX1 2 (by decide) q168 rfl (fun _ h9 => h9) rfl dX2_findCorners_7 ?_
  obtain ⟨p, b, f, hp0, fp, ap⟩ := hPX kn (by omega) (by omega)
  have cp := pcA.cB ap ho (by omega)
  have fp_0 := fp
  refine lv_iload_n X.x X.b dX2_findCorners_10 rfl (lv_at hl 1 rfl) ?_
  refine wa_aald (k := 2) (f := B 10) X hH (have h9 := (XW.c2 hX); h9) rfl rfl (by omega) (by omega) (by omega) dX2_findCorners_11 ?_
  refine wz_opt (q := some p) (by rw [hkn]; exact hp0) ?_
  refine lv_astore_n (lv' := [(2, .ref p), (0, .ref (ad 24)), (1, .int (zI k))]) X.x X.b dX2_findCorners_12 rfl hl (by decide) rfl (fun ls hl => ?_)
  refine lv_aload_n X.x X.b dX2_findCorners_13 rfl (lv_at hl 1 rfl) ?_
  refine wa_get (v := .ref (ad 29)) X hH (have h9 := (XW.c24 hX); h9) wcX2 1 (by decide) q342 rfl (fun _ h9 => h9) rfl dX2_findCorners_14 ?_
  refine lv_iload_n X.x X.b dX2_findCorners_17 rfl (lv_at hl 2 rfl) ?_
  refine wa_aald (k := 5) (f := xcs ad) X hH (have h9 := (XW.c29 hX); h9) rfl rfl (by omega) (by omega) (by omega) dX2_findCorners_18 ?_
  refine wz_opt (q := some (ad (30 + kn))) (by unfold xcs; rw [hkn]; rfl) ?_
  refine wa_getN (v := .ref (ad (36 + kn))) X hH (have h9 := (XW.co hX hk6); h9) wcX3 0 (by decide) q276 rfl (fun _ h9 => h9) rfl dX2_findCorners_19 ?_
  refine wa_cv hS (wa_rV (rest := []) X hH (mJ3_clear_Y hX hNV  hk6) (cwV 0 X.t (lw_V q665 q666 q667 q116 q668) rfl rfl rfl hdJ3_clear ⟨Nat.le_of_ble_eq_true rfl, Nat.le_of_ble_eq_true rfl⟩) rfl (have h9 := (XW.ts hX hk6); h9) rfl rfl hl.1 rfl (Nat.le_of_ble_eq_true rfl) dX2_findCorners_22 ⟨Nat.le_of_ble_eq_true rfl, Nat.le_of_ble_eq_true rfl⟩) (fun w22 H locs hp hH hS => ?_)
  obtain ⟨S2_22, P2_22, hX, hk, hx22_0, hx22_1, hx22_2⟩ := hp
  have hPX := hPX.kp hk
  have hWY := hWY.kp hk
  have hNV := hNV.kp hk
  have fp := fp.kp hk
  have hK := hK.kp hk
  have hTF := hx22_1
  have hNV := hx22_2
  refine wz_iconst X.x X.b dX2_findCorners_25 ?_
  refine lv_istore_n (lv' := [(3, .int (zI 1)), (2, .ref p), (0, .ref (ad 24)), (1, .int (zI k))]) X.x X.b dX2_findCorners_26 rfl hl (by decide) rfl (fun ls hl => ?_)
  have L27 : ∀ (nn : Nat) (r : Int) (Sl : Nat → Int) (Pl : Nat → Option Nat) (l : List Nat) (κ : Nat → KT) (n : Nat), ((3 - r).toNat) = nn → (1 ≤ r ∧ r ≤ 3) → ((n : Int) = 6 * (r - 1)) → ((∀ j, j ≠ 40 + kn → j ≠ 50 + kn → Sl j = S j) ∧ ∀ j, j ≠ 20 + kn → Pl j = P j) → (CLn g kn n l κ) → (∀ x, x ∈ l → w x = none) → ∀ (wl27 : wa_W) (H : Heap) (locs : List Loc) (ls : Array Slot), XW G ad wl27 Sl A B Pl → Kp ad w wl27 → PX G ad wl27 (B 10) g → WAYS G ad wl27 (B 5) → Pic G ad wl27 p b f (sh g kn 0) (sh g kn 1) (sh g kn 2) → TFk ad wl27 Sl Pl kn l κ → NVX ad wl27 Pl → wa_H G wl27 H → va_S (wa_A G) sS.heap H locs → lv_has ls 5 [(3, .int (zI r)), (2, .ref p), (0, .ref (ad 24)), (1, .int (zI k))] → W pP lL eE ({ frames := 9, cells := 24, slots := 108, locals := 236 } : Room) sS mM aA bB mT cC H locs (2 * n) (9 * n) (MQ bB (wa_Qv G fun u => ∃ (S2 : Nat → Int) (P2 : Nat → Option Nat) (l : List Nat) (κ : Nat → KT), XW G ad u S2 A B P2 ∧ Kp ad w u ∧ ((∀ j, j ≠ 40 + kn → j ≠ 50 + kn → S2 j = S j) ∧ ∀ j, j ≠ 20 + kn → P2 j = P j) ∧ (TFk ad u S2 P2 kn l κ) ∧ (CLn g kn 12 l κ) ∧ (NVX ad u P2)) aA sS 24 108 (wa_A G)) (F0 mM 27 ls []) := by
    intro nn
    induction nn using Nat.strongRecOn with
    | ind nn ih27 =>
      intro r Sl Pl l κ n hmu27 i27_0 i27_1 i27_2 i27_3 i27_4 wl27 H locs ls hX hK hPX hWY fp hTF hNV hH hS hl
      refine lv_iload_n X.x X.b dX2_findCorners_27 rfl (lv_at hl 0 rfl) ?_
      refine wz_iconst X.x X.b dX2_findCorners_28 ?_
      refine wz_icmp_ge (tgt := 107) X.x X.b dX2_findCorners_29 (by decide) ⟨by omega, by omega⟩ ⟨by omega, by omega⟩ (fun c29 => ?_) (fun c29 => ?_)
      · refine W.widen (k := 24) (n := 108) (by first | exact Nat.le_of_ble_eq_true rfl | omega) (by first | exact Nat.le_of_ble_eq_true rfl | omega) ?_
        exact wa_vret X hH hS dX2_findCorners_107 ⟨_, _, _, _, hX, hK, i27_2, hTF, (by have e : n = 12 := (by omega); rw [e] at i27_3; exact i27_3), hNV⟩
      · refine wz_iconst X.x X.b dX2_findCorners_32 ?_
        refine lv_istore (lv' := [(4, .int (zI 1)), (3, .int (zI r)), (2, .ref p), (0, .ref (ad 24)), (1, .int (zI k))]) X.x X.b dX2_findCorners_33 hl (by decide) rfl (fun ls hl => ?_)
        have L35 : ∀ (nn : Nat) (c : Int) (Sm : Nat → Int) (Pm : Nat → Option Nat) (lm : List Nat) (κm : Nat → KT) (n : Nat), ((7 - c).toNat) = nn → (1 ≤ c ∧ c ≤ 7) → ((n : Int) = 6 * (r - 1) + (c - 1)) → ((∀ j, j ≠ 40 + kn → j ≠ 50 + kn → Sm j = S j) ∧ ∀ j, j ≠ 20 + kn → Pm j = P j) → (CLn g kn n lm κm) → (∀ x, x ∈ lm → w x = none) → ∀ (wl35 : wa_W) (H : Heap) (locs : List Loc) (ls : Array Slot), XW G ad wl35 Sm A B Pm → Kp ad w wl35 → PX G ad wl35 (B 10) g → WAYS G ad wl35 (B 5) → Pic G ad wl35 p b f (sh g kn 0) (sh g kn 1) (sh g kn 2) → TFk ad wl35 Sm Pm kn lm κm → NVX ad wl35 Pm → wa_H G wl35 H → va_S (wa_A G) sS.heap H locs → lv_has ls 5 [(4, .int (zI c)), (3, .int (zI r)), (2, .ref p), (0, .ref (ad 24)), (1, .int (zI k))] → W pP lL eE ({ frames := 9, cells := 24, slots := 108, locals := 236 } : Room) sS mM aA bB mT cC H locs (2 * n) (9 * n) (MQ bB (wa_Qv G fun u => ∃ (S2 : Nat → Int) (P2 : Nat → Option Nat) (l : List Nat) (κ : Nat → KT), XW G ad u S2 A B P2 ∧ Kp ad w u ∧ ((∀ j, j ≠ 40 + kn → j ≠ 50 + kn → S2 j = S j) ∧ ∀ j, j ≠ 20 + kn → P2 j = P j) ∧ (TFk ad u S2 P2 kn l κ) ∧ (CLn g kn 12 l κ) ∧ (NVX ad u P2)) aA sS 24 108 (wa_A G)) (F0 mM 35 ls []) := by
          intro nn
          induction nn using Nat.strongRecOn with
          | ind nn ih35 =>
            intro c Sm Pm lm κm n hmu35 i35_0 i35_1 i35_2 i35_3 i35_4 wl35 H locs ls hX hK hPX hWY fp hTF hNV hH hS hl
            refine lv_iload X.x X.b dX2_findCorners_35 (lv_at hl 0 rfl) ?_
            refine wz_bipush X.x X.b dX2_findCorners_37 rfl ?_
            refine wz_icmp_ge (tgt := 101) X.x X.b dX2_findCorners_39 (by decide) ⟨by omega, by omega⟩ ⟨by omega, by omega⟩ (fun c39 => ?_) (fun c39 => ?_)
            · refine wz_iinc (k := 1) (lv' := [(3, .int (zI (r + 1))), (4, .int (zI c)), (2, .ref p), (0, .ref (ad 24)), (1, .int (zI k))]) X.x X.b dX2_findCorners_101 hl rfl (by decide) rfl (fun ls hl => ?_)
              refine lv_goto (tgt := 27) X.x X.b dX2_findCorners_104 (by decide) ?_
              refine W.widen (k := (2 * n)) (n := (9 * n)) (by omega) (by omega) ?_
              exact ih27 _ (by omega) (r + 1) Sm Pm lm κm n rfl (by omega) (by omega) (by exact i35_2) (by exact i35_3) (by exact i35_4) _ _ _ _ hX hK hPX hWY fp hTF hNV hH hS (lv_sub hl [0, 2, 3, 4] rfl)
            · have hce : chF f r c = chS g kn r c := pcA.ch ap (by omega) (by omega)
              have hcb := chS_in ho (k := kn) (r := r) (c := c) (by omega) ⟨by omega, by omega⟩
              refine lv_aload_n X.x X.b dX2_findCorners_42 rfl (lv_at hl 3 rfl) ?_
              refine lv_aload_n X.x X.b dX2_findCorners_43 rfl (lv_at hl 2 rfl) ?_
              refine lv_iload_n X.x X.b dX2_findCorners_44 rfl (lv_at hl 1 rfl) ?_
              refine lv_iload X.x X.b dX2_findCorners_45 (lv_at hl 0 rfl) ?_
              refine wa_ci hS (wa_rV (rest := []) X hH (mX2_change hX fp hWY r c (by omega) (by omega) cp) (cwV 3 X.t (lw_V q678 q619 q620 q112 q621) rfl rfl rfl hdX2_change ⟨Nat.le_of_ble_eq_true rfl, Nat.le_of_ble_eq_true rfl⟩) rfl (have h9 := (XW.c24 hX); h9) rfl rfl hl.1 rfl (Nat.le_of_ble_eq_true rfl) dX2_findCorners_47 ⟨by dsimp only; omega, by dsimp only; omega⟩) (fun z w47 H locs hp hH hS => ?_)
              obtain ⟨rfl, hw⟩ := hp
              rw [← hw] at hH; clear hw
              refine lv_aload_n X.x X.b dX2_findCorners_50 rfl (lv_at hl 3 rfl) ?_
              refine wa_get (v := .ref (ad 0)) X hH (have h9 := (XW.c24 hX); h9) wcX2 15 (by decide) q368 rfl (fun _ h9 => h9) rfl dX2_findCorners_51 ?_
              refine wa_getN (v := .ref (ad 1)) X hH (have h9 := (XW.c0 hX); h9) wcX0 0 (by decide) q416 rfl (fun _ h9 => h9) rfl dX2_findCorners_54 ?_
              refine wa_getN (v := .ref (ad 3)) X hH (have h9 := (XW.c1 hX); h9) wcX1 4 (by decide) q174 rfl (fun _ h9 => h9) rfl dX2_findCorners_57 ?_
              refine wz_iconst X.x X.b dX2_findCorners_60 ?_
              refine wa_iald (f := A 10) X hH (have h9 := (XW.c3 hX); h9) (by omega) (by omega) (by omega) dX2_findCorners_61 ?_
              refine wz_icmp_lt (tgt := 95) X.x X.b dX2_findCorners_62 (by decide) ⟨by omega, by omega⟩ ⟨by omega, by omega⟩ (fun c62 => ?_) (fun c62 => ?_)
              · refine wz_iinc (k := 0) (lv' := [(4, .int (zI (c + 1))), (3, .int (zI r)), (2, .ref p), (0, .ref (ad 24)), (1, .int (zI k))]) X.x X.b dX2_findCorners_95 hl rfl (by decide) rfl (fun ls hl => ?_)
                refine lv_goto (tgt := 35) X.x X.b dX2_findCorners_98 (by decide) ?_
                refine W.widen (k := (2 * (n + 1))) (n := (9 * (n + 1))) (by omega) (by omega) ?_
                exact ih35 _ (by omega) (c + 1) Sm Pm lm κm (n + 1) rfl (by omega) (by omega) (by exact i35_2) (by exact i35_3.skip (fun q => by have := (cP_at i35_1 (by omega) (by omega)).mp q; omega)) (by exact i35_4) _ _ _ _ hX hK hPX hWY fp hTF hNV hH hS (lv_sub hl [0, 1, 2, 3, 4] rfl)
              · refine lv_aload_n X.x X.b dX2_findCorners_65 rfl (lv_at hl 3 rfl) ?_
                refine wa_get (v := .ref (ad 29)) X hH (have h9 := (XW.c24 hX); h9) wcX2 1 (by decide) q342 rfl (fun _ h9 => h9) rfl dX2_findCorners_66 ?_
                refine lv_iload_n X.x X.b dX2_findCorners_69 rfl (lv_at hl 4 rfl) ?_
                refine wa_aald (k := 5) (f := xcs ad) X hH (have h9 := (XW.c29 hX); h9) rfl rfl (by omega) (by omega) (by omega) dX2_findCorners_70 ?_
                refine wz_opt (q := some (ad (30 + kn))) (by unfold xcs; rw [hkn]; rfl) ?_
                refine wa_getN (v := .ref (ad (36 + kn))) X hH (have h9 := (XW.co hX hk6); h9) wcX3 0 (by decide) q276 rfl (fun _ h9 => h9) rfl dX2_findCorners_71 ?_
                have hX_74 := hX
                have hK_74 := hK
                have hPX_74 := hPX
                have hWY_74 := hWY
                have fp_74 := fp
                have hTF_74 := hTF
                have hNV_74 := hNV
                refine wa_new X hH hS wcX9 rfl q679 q680 q127 [.int (zI 0), .int (zI 0), .int (zI 0)] (by decide) (by dsimp only; omega) (by dsimp only; omega) dX2_findCorners_74 (fun nq74 w74 H hn74 ew hH hS => ?_)
                have hk0 := Ext.new hn74 ew
                have hX := hX.ext hk0
                have hk := hk0.k (ad := ad)
                have hPX := hPX.kp hk
                have hWY := hWY.kp hk
                have fp := fp.kp hk
                have hTF := hTF.kp hk
                have hNV := hNV.kp hk
                have hK := hK.kp hk
                have hN74 := hk
                have n74 : Lc ad w74 nq74 (eO 9 [.int (zI 0), .int (zI 0), .int (zI 0)]) := Lc.new hX_74 hn74 (by rw [ew]; exact wup_s)
                clear ew hk0
                refine lv_dup X.x X.b dX2_findCorners_77 rfl ?_
                refine lv_iload_n X.x X.b dX2_findCorners_78 rfl (lv_at hl 1 rfl) ?_
                refine lv_iload X.x X.b dX2_findCorners_79 (lv_at hl 0 rfl) ?_
                refine lv_aload_n X.x X.b dX2_findCorners_81 rfl (lv_at hl 2 rfl) ?_
                refine lv_iload_n X.x X.b dX2_findCorners_82 rfl (lv_at hl 1 rfl) ?_
                refine lv_iload X.x X.b dX2_findCorners_83 (lv_at hl 0 rfl) ?_
                refine wa_ci hS (wa_rV (rest := [.int (zI c), .int (zI r), .ref nq74, .ref nq74, .ref (ad (36 + kn))]) X hH (mX8_at  (show At w74 p (eO 8 [.ref b, .int (zI (sh g kn 0)), .int (zI (sh g kn 1)), .int (zI (sh g kn 2))]) from fp.1.2) (show At w74 b (eI G 32 f) from fp.2.2) r c (by omega)) (cwV 2 X.t (lw_V q681 q200 q201 q126 q202) rfl rfl rfl hdX8_at ⟨Nat.le_of_ble_eq_true rfl, Nat.le_of_ble_eq_true rfl⟩) rfl fp.1.2 rfl rfl hl.1 rfl (Nat.le_of_ble_eq_true rfl) dX2_findCorners_85 ⟨by dsimp only; omega, by dsimp only; omega⟩) (fun z w85 H locs hp hH hS => ?_)
                obtain ⟨rfl, hw⟩ := hp
                rw [← hw] at hH; clear hw
                refine wa_cv hS (wa_rI (rest := [.ref nq74, .ref (ad (36 + kn))]) X hH (mX9_init  (show At w74 nq74 (eO 9 [.int (zI 0), .int (zI 0), .int (zI 0)]) from n74.2) r c (f (8 * r + c)) ) (cwI 3 X.t (lw_meth q684) rfl rfl rfl (X.t _ q127) (X.t _ q682) (X.t _ q683) rfl hdX9_init.2 ⟨Nat.le_of_ble_eq_true rfl, Nat.le_of_ble_eq_true rfl⟩) rfl rfl hl.1 rfl (Nat.le_of_ble_eq_true rfl) dX2_findCorners_88 ⟨by dsimp only; omega, by dsimp only; omega⟩) (fun w88 H locs hp hH hS => ?_)
                obtain ⟨hi, hO2⟩ := hp
                have hOq := hO2
                have hk := Kp.init hn74 hN74 hOq
                have hX := hX_74.init hn74 hX hOq
                have hPX := hPX_74.kp hk
                have hWY := hWY_74.kp hk
                have fp := fp_74.kp hk
                have hTF := hTF_74.kp hk
                have hNV := hNV_74.kp hk
                have hK := hK_74.kp hk
                have hN74 := hk
                have n74 : Lc ad w88 nq74 (eO 9 [.int (zI r), .int (zI c), .int (zI (f (8 * r + c)))]) := Lc.new hX_74 hn74 hi
                refine wa_ci hS (wa_rV (rest := []) X hH (mJ3_add_Y hX hTF (kE_c n74 i35_1 (by omega) (by omega) (ap _ _ (by omega) (by omega) (by omega) (by omega))) hNV  hk6 rfl (kC_ok (by omega)) i35_3.ne hK i35_4) (cwV 1 X.t (lw_V q699 q700 q701 q116 q702) rfl rfl rfl hdJ3_add ⟨Nat.le_of_ble_eq_true rfl, Nat.le_of_ble_eq_true rfl⟩) rfl (have h9 := (XW.ts hX hk6); h9) rfl rfl hl.1 rfl (Nat.le_of_ble_eq_true rfl) dX2_findCorners_91 ⟨by dsimp only; omega, by dsimp only; omega⟩) (fun z w91 H locs hp hH hS => ?_)
                obtain ⟨rfl, ⟨S2_91, P2_91, e_91, a2_91, b2_91, hX, hk, hx91_0, hx91_1, hx91_2, hx91_3⟩⟩ := hp
                have hPX := hPX_0.kp hk
                have hWY := hWY_0.kp hk
                have hNV := hNV_0.kp hk
                have fp := fp_0.kp hk
                have hK := hk
                have hTF := hx91_2
                have hNV := hx91_3
                refine lv_pop X.x X.b dX2_findCorners_94 rfl ?_
                refine wz_iinc (k := 0) (lv' := [(4, .int (zI (c + 1))), (3, .int (zI r)), (2, .ref p), (0, .ref (ad 24)), (1, .int (zI k))]) X.x X.b dX2_findCorners_95 hl rfl (by decide) rfl (fun ls hl => ?_)
                refine lv_goto (tgt := 35) X.x X.b dX2_findCorners_98 (by decide) ?_
                refine W.widen (k := (2 * (n + 1))) (n := (9 * (n + 1))) (by omega) (by omega) ?_
                exact ih35 _ (by omega) (c + 1) S2_91 P2_91 (a2_91 ++ e_91 :: b2_91) (nup κm e_91 (kC g kn n)) (n + 1) rfl (by omega) (by omega) (by exact ⟨fun j e1 e2 => (hx91_0.1 j e1 e2).trans (i35_2.1 j e1 e2), fun j e1 => (hx91_0.2 j e1).trans (i35_2.2 j e1)⟩) (by exact i35_3.add ((cP_at i35_1 (by omega) (by omega)).mpr (by omega)) hx91_1.2.2.1 hx91_1.2.2.2 hx91_1.2.1) (by intro x hx; rcases mem_ins hx with q | q; (rw [q]; exact hx91_1.1); (exact i35_4 x (hx91_1.2.2.1 ▸ q))) _ _ _ _ hX hK hPX hWY fp hTF hNV hH hS (lv_sub hl [0, 1, 2, 3, 4] rfl)
        refine W.widen (k := (2 * n)) (n := (9 * n)) (by omega) (by omega) ?_
        exact L35 _ 1 Sl Pl l κ n rfl (by omega) (by omega) (by exact i27_2) (by exact i27_3) (by exact i27_4) _ _ _ _ hX hK hPX hWY fp hTF hNV hH hS (lv_sub hl [0, 1, 2, 3, 4] rfl)
  refine W.widen (k := (2 * 0)) (n := (9 * 0)) (by omega) (by omega) ?_
  exact L27 _ 1 S2_22 P2_22 ([]) (fun _ => (true, 0, 0, 0)) 0 rfl (by omega) (by rfl) (by exact hx22_0) (by exact CLn.nil) (by intro x h; cases h) _ _ _ _ hX hK hPX hWY fp hTF hNV hH hS (lv_sub hl [0, 1, 2, 3] rfl)

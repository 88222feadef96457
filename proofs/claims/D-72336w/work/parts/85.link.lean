/-! JOINER: link -/
set_option maxRecDepth 100000 in
theorem mX2_link {lL : Launch} {G : wa_G} {ad : Nat → Nat} {w : wa_W} {S : Nat → Int} {A : Nat → Int → Int} {B : Nat → Int → Option Nat} {P : Nat → Option Nat} (hX : XW G ad w S A B P) {an : Nat} {g : Int → Int} (hPX : PX G ad w (B 10) g) (hWY : WAYS G ad w (B 5)) (hNV : NVX ad w P) (hJC : JC ad w S P g (g 3)) (a : Int) (b : Int) (ha : a = an) (ha6 : an < 6) (ham : (an : Int) < g 3) (hb : 0 ≤ b ∧ b < g 3) (ho : okS g) (hg : A 10 0 = g 1 ∧ A 10 1 = g 2) : Met lL yX2_link (ws_ yX2_link cX2_link 8 (some (FieldType.object "PictureRing$Link"))) ({ frames := 8, cells := 120, slots := 400, locals := 215 } : Room) (wa_P G w [.ref (ad 24), .int (zI a), .int (zI b)]) (wa_Qr G fun r u => ∃ (P2 : Nat → Option Nat), XW G ad u S A B P2 ∧ Kp ad w u ∧ (∀ j, j < 30 ∨ 36 ≤ j → P2 j = P j) ∧ (NVX ad u P2) ∧ (BL ad u r a b (bestS g a b))) 120 400 (wa_A G) := by
  refine wa_met (by decide) (by exact Nat.le_of_ble_eq_true rfl) ?_
  intro pP eE sS mM aA bB mT cC ls X hl hH
  have hS : va_S (wa_A G) sS.heap sS.heap [] := va_S.rf
  have hl : lv_has ls 8 [(0, .ref (ad 24)), (1, .int (zI a)), (2, .int (zI b))] := hl
  have hK : Kp ad w w := Kp.rf
  have hPX_0 := hPX
  have hWY_0 := hWY
  have hNV_0 := hNV
  have hJC_0 := hJC
  have hmany := ho.many
  have hX_0 := hX
  have hK_0 := hK
  have hPX_0 := hPX
  have hWY_0 := hWY
  have hNV_0 := hNV
  have hJC_0 := hJC
  refine wa_new X hH hS wcJ5 rfl q940 q228 q118 [.null, .null, .null, .null, .int (zI 0), .int (zI 0), .null, .null, .null] (by decide) (Nat.le_of_ble_eq_true rfl) (Nat.le_of_ble_eq_true rfl) dX2_link_0 (fun nq0 w0 H hn0 ew hH hS => ?_)
  have hk0 := Ext.new hn0 ew
  have hX := hX.ext hk0
  have hk := hk0.k (ad := ad)
  have hPX := hPX.kp hk
  have hWY := hWY.kp hk
  have hNV := hNV.kp hk
  have hJC := hJC.kp hk
  have hK := hK.kp hk
  have hN0 := hk
  have n0 : Lc ad w0 nq0 (eO 16 [.null, .null, .null, .null, .int (zI 0), .int (zI 0), .null, .null, .null]) := Lc.new hX_0 hn0 (by rw [ew]; exact wup_s)
  clear ew hk0
  refine lv_dup X.x X.b dX2_link_3 rfl ?_
  refine wa_cv hS (wa_rI (rest := [.ref nq0]) X hH (mJ5_init  (show At w0 nq0 (eO 16 [.null, .null, .null, .null, .int (zI 0), .int (zI 0), .null, .null, .null]) from n0.2)  ) (cwI 0 X.t (lw_meth q231) rfl rfl rfl (X.t _ q118) (X.t _ q941) (X.t _ q230) rfl hdJ5_init.2 ⟨Nat.le_of_ble_eq_true rfl, Nat.le_of_ble_eq_true rfl⟩) rfl rfl hl.1 rfl (Nat.le_of_ble_eq_true rfl) dX2_link_4 ⟨Nat.le_of_ble_eq_true rfl, Nat.le_of_ble_eq_true rfl⟩) (fun w4 H locs hp hH hS => ?_)
  obtain ⟨hi, hO2⟩ := hp
  have hOq := hO2
  have hk := Kp.init hn0 hN0 hOq
  have hX := hX_0.init hn0 hX hOq
  have hPX := hPX_0.kp hk
  have hWY := hWY_0.kp hk
  have hNV := hNV_0.kp hk
  have hJC := hJC_0.kp hk
  have hK := hK_0.kp hk
  have hN0 := hk
  have n0 : Lc ad w4 nq0 (eO 16 [.null, .null, .null, va_rf none, .int (zI 0), .int (zI 0), .null, va_rf none, .null]) := Lc.new hX_0 hn0 hi
  refine lv_astore_n (lv' := [(3, .ref nq0), (0, .ref (ad 24)), (1, .int (zI a)), (2, .int (zI b))]) X.x X.b dX2_link_7 rfl hl (by decide) rfl (fun ls hl => ?_)
  have hLM : LM G ad w4 nq0 [] (fun _ => (true, 0, 0, 0)) (fun _ => 0) none 0 := LM.nil n0
  refine wz_iconst X.x X.b dX2_link_8 ?_
  refine lv_istore (lv' := [(4, .int (zI (-1))), (3, .ref nq0), (0, .ref (ad 24)), (1, .int (zI a)), (2, .int (zI b))]) X.x X.b dX2_link_9 hl (by decide) rfl (fun ls hl => ?_)
  have L11 : ∀ (nn : Nat) (e : Int) (l : List Nat) (κ : Nat → KT) (ν : Nat → Int) (mo : Int) (n : Nat) (Pl : Nat → Option Nat), ((2 - e).toNat) = nn → (∀ j, j < 30 ∨ 36 ≤ j → Pl j = P j) → ((-1 ≤ e ∧ e ≤ 2) ∧ (n : Int) = 5 * (e + 1)) → (MK g a b e 1 l κ ν) → (∀ x, x ∈ l → w x = none) → ∀ (wl11 : wa_W) (H : Heap) (locs : List Loc) (ls : Array Slot), XW G ad wl11 S A B Pl → Kp ad w wl11 → PX G ad wl11 (B 10) g → WAYS G ad wl11 (B 5) → NVX ad wl11 Pl → JC ad wl11 S P g (g 3) → LM G ad wl11 nq0 l κ ν none mo → wa_H G wl11 H → va_S (wa_A G) sS.heap H locs → lv_has ls 8 [(4, .int (zI e)), (3, .ref nq0), (0, .ref (ad 24)), (1, .int (zI a)), (2, .int (zI b))] → W pP lL eE ({ frames := 8, cells := 120, slots := 400, locals := 215 } : Room) sS mM aA bB mT cC H locs (1 + 4 * n) (9 + 13 * n) (MQ bB (wa_Qr G fun r u => ∃ (P2 : Nat → Option Nat), XW G ad u S A B P2 ∧ Kp ad w u ∧ (∀ j, j < 30 ∨ 36 ≤ j → P2 j = P j) ∧ (NVX ad u P2) ∧ (BL ad u r a b (bestS g a b))) aA sS 120 400 (wa_A G)) (F0 mM 11 ls []) := by
    intro nn
    induction nn using Nat.strongRecOn with
    | ind nn ih11 =>
      intro e l κ ν mo n Pl hmu11 i11_0 i11_1 i11_2 i11_3 wl11 H locs ls hX hK hPX hWY hNV hJC hLM hH hS hl
      refine lv_iload X.x X.b dX2_link_11 (lv_at hl 0 rfl) ?_
      refine wz_iconst X.x X.b dX2_link_13 ?_
      refine wz_icmp_gt (tgt := 76) X.x X.b dX2_link_14 (by decide) ⟨by omega, by omega⟩ ⟨by omega, by omega⟩ (fun c14 => ?_) (fun c14 => ?_)
      · obtain rfl : e = 2 := by omega
        have hMK : MK g a b 2 1 l κ ν := i11_2
        have hlist := hMK.list hLM.so
        have hlen : l.length ≤ 15 := by have e8 := congrArg List.length hlist; have e9 := shL_len g a b; simp at e8 e9; omega
        refine lv_null X.x X.b dX2_link_76 ?_
        refine lv_astoreN (lv' := [(4, .null), (3, .ref nq0), (0, .ref (ad 24)), (1, .int (zI a)), (2, .int (zI b))]) X.x X.b dX2_link_77 hl (by decide) rfl (fun ls hl => ?_)
        refine lv_aload_n X.x X.b dX2_link_79 rfl (lv_at hl 1 rfl) ?_
        refine wa_cr hS (wa_rV (rest := []) X hH (mJ5_keySet_Y hX hLM hNV  hK hn0 i11_3) (cwV 0 X.t (lw_V q1087 q1088 q1089 q118 q1090) rfl rfl rfl hdJ5_keySet ⟨Nat.le_of_ble_eq_true rfl, Nat.le_of_ble_eq_true rfl⟩) rfl ((LM.at hLM).choose_spec) rfl rfl hl.1 rfl (Nat.le_of_ble_eq_true rfl) dX2_link_80 ⟨by dsimp only; omega, by dsimp only; omega⟩) (fun r80 w80 H locs hp hH hS => ?_)
        obtain ⟨ks_80, hX, hk, hx80_0, hx80_1, hx80_2, hx80_3⟩ := hp
        have hPX := hPX_0.kp hk
        have hWY := hWY_0.kp hk
        have hNV := hNV_0.kp hk
        have hJC := hJC_0.kp hk
        have hK := hk
        have hLM := hx80_1
        have hks := hx80_2
        have hNV := hx80_3
        refine wz_opt (q := some ks_80) (by exact hx80_0) ?_
        have hK83 := hK
        have hX83 := hX
        refine wa_c5r hS (wa_rF (rest := []) X hH (mJ16_iterator_Y hX hLM hks  ) (va_cwF 0 X.t (lw_F q1093 q1097 q976 q136 q978) rfl rfl rfl (X.k.2.2.2.1 ("java/util/TreeMap$KeySet", ⟨"java/util/Set", "iterato\x72", "()Ljava/util/Iterator;"⟩, ⟨"java/util/TreeMap$KeySet", "iterato\x72", "()Ljava/util/Iterator;"⟩) (by decide)) ⟨by decide, by decide, by decide +kernel⟩ ⟨Nat.le_of_ble_eq_true rfl, Nat.le_of_ble_eq_true rfl⟩) rfl hks.2 rfl rfl hl.1 rfl (Nat.le_of_ble_eq_true rfl) dX2_link_83 ⟨by dsimp only; omega, by dsimp only; omega⟩) (fun r83 w83 H locs hp hH hS => ?_)
        obtain ⟨it_83, hX, hk, hx83_0, hx83_1, hx83_2, hx83_3⟩ := hp
        have hPX := hPX.kp hk
        have hWY := hWY.kp hk
        have hJC := hJC.kp hk
        have hLM := hLM.kp hk
        have hks := hks.kp hk
        have hNV := hNV.kp hk
        have hK := hK.kp hk
        have hLM := hx83_2
        have hit := hx83_3
        refine wz_opt (q := some it_83) (by exact hx83_0) ?_
        have hit0 := hK83.no0 hX83 hx83_1
        have hBL : BL ad w83 none a b (bestK (vK g a b) (0, 0, 0) (([] : List Nat).map κ)) := Or.inl ⟨rfl, rfl⟩
        refine lv_astore (lv' := [(5, .ref it_83), (4, .null), (3, .ref nq0), (0, .ref (ad 24)), (1, .int (zI a)), (2, .int (zI b))]) X.x X.b dX2_link_88 hl (by decide) rfl (fun ls hl => ?_)
        have L90 : ∀ (nn : Nat) (a1 : List Nat) (b1 : List Nat) (y : Option Nat) (bo : Option Nat) (nc : Nat), (b1.length) = nn → (l = a1 ++ b1) → (nc = a1.length) → ∀ (wl90 : wa_W) (H : Heap) (locs : List Loc) (ls : Array Slot), XW G ad wl90 S A B Pl → Kp ad w wl90 → PX G ad wl90 (B 10) g → WAYS G ad wl90 (B 5) → JC ad wl90 S P g (g 3) → NVX ad wl90 Pl → LM G ad wl90 nq0 l κ ν (some ks_80) mo → Lc ad wl90 it_83 (eO 21 [va_rf (b1.head?), va_rf y, .int (zI mo), .ref nq0]) → BL ad wl90 bo a b (bestK (vK g a b) (0, 0, 0) (a1.map κ)) → wa_H G wl90 H → va_S (wa_A G) sS.heap H locs → lv_has ls 8 [(4, va_rf bo), (5, .ref it_83), (3, .ref nq0), (0, .ref (ad 24)), (1, .int (zI a)), (2, .int (zI b))] → W pP lL eE ({ frames := 8, cells := 120, slots := 400, locals := 215 } : Room) sS mM aA bB mT cC H locs (80 + nc) (220 + 4 * nc) (MQ bB (wa_Qr G fun r u => ∃ (P2 : Nat → Option Nat), XW G ad u S A B P2 ∧ Kp ad w u ∧ (∀ j, j < 30 ∨ 36 ≤ j → P2 j = P j) ∧ (NVX ad u P2) ∧ (BL ad u r a b (bestS g a b))) aA sS 120 400 (wa_A G)) (F0 mM 90 ls []) := by
          intro nn
          induction nn using Nat.strongRecOn with
          | ind nn ih90 =>
            intro a1 b1 y bo nc hmu90 i90_0 i90_1 wl90 H locs ls hX hK hPX hWY hJC hNV hLM hit hBL hH hS hl
            refine lv_aload X.x X.b dX2_link_90 (lv_at hl 1 rfl) ?_
            have hnc0 : nc ≤ 15 := by have e8 := congrArg List.length i90_0; simp at e8; omega
            refine wa_c5i hS (wa_rF (rest := []) X hH (mJ17_hasNext  (show At wl90 it_83 (eO 21 [va_rf (b1.head?), va_rf y, .int (zI mo), .ref nq0]) from hit.2)  ) (va_cwF 0 X.t (lw_F q1019 q1023 q1025 q137 q1027) rfl rfl rfl (X.k.2.2.2.1 ("java/util/TreeMap$KeyIterato\x72", ⟨"java/util/Iterato\x72", "hasNext", "()Z"⟩, ⟨"java/util/TreeMap$PrivateEntryIterato\x72", "hasNext", "()Z"⟩) (by decide)) ⟨by decide, by decide, by decide +kernel⟩ ⟨Nat.le_of_ble_eq_true rfl, Nat.le_of_ble_eq_true rfl⟩) rfl hit.2 rfl rfl hl.1 rfl (Nat.le_of_ble_eq_true rfl) dX2_link_92 ⟨by dsimp only; omega, by dsimp only; omega⟩) (fun z w92 H locs hp hH hS => ?_)
            obtain ⟨hb, hw⟩ := hp
            rw [← hw] at hH; clear hw
            rcases hb with ⟨b92, rfl⟩ | ⟨b92, rfl⟩
            · have b92 : (¬ (b1.head?) = none) := b92
              refine wz_ifeq (tgt := 159) X.x X.b dX2_link_97 (by decide) (by decide) (fun h => absurd h (by decide)) (fun _ => ?_)
              obtain ⟨x0, b2, eb⟩ := head_some b92
              rw [eb] at hit
              have hla : l = a1 ++ x0 :: b2 := by rw [i90_0, eb]
              have hx0 : x0 ∈ l := by rw [hla]; simp
              obtain ⟨e0, f0, hk0, he0, hf0, -, hv0, hp0⟩ := hMK.1 x0 hx0
              have hvb := votesS_in g a b e0 f0
              have hbb := bestK_in (h := vK g a b) (fun q => votesS_in g a b _ _) (a1.map κ) (0, 0, 0) ⟨by decide, by decide⟩
              have hnc : nc < 15 := by have e8 := congrArg List.length hla; simp at e8; omega
              refine lv_aload X.x X.b dX2_link_100 (lv_at hl 1 rfl) ?_
              have hBLs := hBL
              have hits := hit
              refine wa_c5r hS (wa_rF (rest := []) X hH (mJ18_next_Z hX hLM hit hNV  hla hK hit0) (va_cwF 0 X.t (lw_F q1029 q1032 q1034 q138 q1036) rfl rfl rfl (X.k.2.2.2.1 ("java/util/TreeMap$KeyIterato\x72", ⟨"java/util/Iterato\x72", "next", "()Ljava/lang/Object;"⟩, ⟨"java/util/TreeMap$KeyIterato\x72", "next", "()Ljava/lang/Object;"⟩) (by decide)) ⟨by decide, by decide, by decide +kernel⟩ ⟨Nat.le_of_ble_eq_true rfl, Nat.le_of_ble_eq_true rfl⟩) rfl hit.2 rfl rfl hl.1 rfl (Nat.le_of_ble_eq_true rfl) dX2_link_102 ⟨by dsimp only; omega, by dsimp only; omega⟩) (fun r102 w102 H locs hp hH hS => ?_)
              obtain ⟨q_102, hX, hk, hx102_0, hx102_1, hx102_2, hx102_3, hx102_4, hx102_5⟩ := hp
              have hPX := hPX_0.kp hk
              have hWY := hWY_0.kp hk
              have hNV := hNV_0.kp hk
              have hJC := hJC_0.kp hk
              have hK := hk
              have hit := hx102_2
              have hLM := hx102_3
              have hNV := hx102_4
              refine wz_opt (q := some q_102) (by exact hx102_0) ?_
              have hBL := hBLs.off hits.2 hx102_5
              have fk : Lc ad w102 q_102 (eO 10 [.int (zI e0), .int (zI f0)]) := by have h9 := hx102_1; rw [hk0] at h9; exact h9
              refine wa_castS X hH fk.2 rfl rfl q1048 dX2_link_107 ?_
              refine lv_astore (lv' := [(6, .ref q_102), (4, va_rf bo), (5, .ref it_83), (3, .ref nq0), (0, .ref (ad 24)), (1, .int (zI a)), (2, .int (zI b))]) X.x X.b dX2_link_110 hl (by decide) rfl (fun ls hl => ?_)
              refine lv_aload_n X.x X.b dX2_link_112 rfl (lv_at hl 3 rfl) ?_
              refine lv_aload X.x X.b dX2_link_113 (lv_at hl 0 rfl) ?_
              refine wa_cr hS (wa_rV (rest := []) X hH (mJ5_get_Y hX hLM hx102_1  hx0) (cwV 1 X.t (lw_V q1100 q1101 q1102 q118 q1103) rfl rfl rfl hdJ5_get ⟨Nat.le_of_ble_eq_true rfl, Nat.le_of_ble_eq_true rfl⟩) rfl ((LM.at hLM).choose_spec) rfl rfl hl.1 rfl (Nat.le_of_ble_eq_true rfl) dX2_link_115 ⟨by dsimp only; omega, by dsimp only; omega⟩) (fun r115 w115 H locs hp hH hS => ?_)
              obtain ⟨⟨vJ, evJ, hJ⟩, hw⟩ := hp
              rw [← hw] at hH; clear hw
              refine wz_opt (q := some vJ) evJ ?_
              refine wa_castSZ X hH hJ rfl rfl q1112 dX2_link_118 ?_
              refine wa_ci hS (wa_rVZ (rest := []) X hH (mJ9_intValue  hJ  ) (cwV 0 X.t (lw_V q1113 q1114 q1115 q129 q1116) rfl rfl rfl hdJ9_intValue ⟨Nat.le_of_ble_eq_true rfl, Nat.le_of_ble_eq_true rfl⟩) rfl hJ rfl rfl hl.1 rfl (Nat.le_of_ble_eq_true rfl) dX2_link_121 ⟨by dsimp only; omega, by dsimp only; omega⟩) (fun z w121 H locs hp hH hS => ?_)
              obtain ⟨rfl, hw⟩ := hp
              rw [← hw] at hH; clear hw
              refine lv_istore (lv' := [(7, .int (zI (ν x0))), (6, .ref q_102), (4, va_rf bo), (5, .ref it_83), (3, .ref nq0), (0, .ref (ad 24)), (1, .int (zI a)), (2, .int (zI b))]) X.x X.b dX2_link_124 hl (by decide) rfl (fun ls hl => ?_)
              refine lv_aloadO X.x X.b dX2_link_126 (lv_at hl 2 rfl) ?_
              rcases xo_cases (bo) with ho128 | ⟨a128, ho128⟩
              · refine wz_opt (q := none) ho128 ?_
                have hl : lv_has ls 8 [(7, .int (zI (ν x0))), (6, .ref q_102), (4, .null), (5, .ref it_83), (3, .ref nq0), (0, .ref (ad 24)), (1, .int (zI a)), (2, .int (zI b))] := by rw [ho128] at hl; exact hl
                refine lv_ifnullN (tgt := 141) X.x X.b dX2_link_128 (by decide) ?_
                have hX_141 := hX
                have hK_141 := hK
                have hPX_141 := hPX
                have hWY_141 := hWY
                have hJC_141 := hJC
                have hit_141 := hit
                have hLM_141 := hLM
                have hNV_141 := hNV
                have hBL_141 := hBL
                have fk_141 := fk
                have hJ_141 := hJ
                refine wa_new X hH hS wcX11 rfl q311 q1117 q141 [.int (zI 0), .int (zI 0), .null, .int (zI 0)] (by decide) (by dsimp only; omega) (by dsimp only; omega) dX2_link_141 (fun nq141 w141 H hn141 ew hH hS => ?_)
                have hk0 := Ext.new hn141 ew
                have hX := hX.ext hk0
                have hk := hk0.k (ad := ad)
                have hPX := hPX.kp hk
                have hWY := hWY.kp hk
                have hJC := hJC.kp hk
                have hit := hit.kp hk
                have hLM := hLM.kp hk
                have hNV := hNV.kp hk
                have hBL := hBL.kp hk
                have fk := fk.kp hk
                have hJ := hJ.kp hk
                have hK := hK.kp hk
                have hN141 := hk
                have n141 : Lc ad w141 nq141 (eO 11 [.int (zI 0), .int (zI 0), .null, .int (zI 0)]) := Lc.new hX_141 hn141 (by rw [ew]; exact wup_s)
                clear ew hk0
                refine lv_dup X.x X.b dX2_link_144 rfl ?_
                refine lv_iload_n X.x X.b dX2_link_145 rfl (lv_at hl 6 rfl) ?_
                refine lv_iload_n X.x X.b dX2_link_146 rfl (lv_at hl 7 rfl) ?_
                refine lv_aload X.x X.b dX2_link_147 (lv_at hl 1 rfl) ?_
                refine lv_iload X.x X.b dX2_link_149 (lv_at hl 0 rfl) ?_
                refine wa_cv hS (wa_rI (rest := [.ref nq141]) X hH (mX11_init  (show At w141 nq141 (eO 11 [.int (zI 0), .int (zI 0), .null, .int (zI 0)]) from n141.2) a b (ν x0) ) (cwI 4 X.t (lw_meth q1120) rfl rfl rfl (X.t _ q141) (X.t _ q1118) (X.t _ q1119) rfl hdX11_init.2 ⟨Nat.le_of_ble_eq_true rfl, Nat.le_of_ble_eq_true rfl⟩) rfl rfl hl.1 rfl (Nat.le_of_ble_eq_true rfl) dX2_link_151 ⟨by dsimp only; omega, by dsimp only; omega⟩) (fun w151 H locs hp hH hS => ?_)
                obtain ⟨hi, hO2⟩ := hp
                have hOq := hO2
                have hk := Kp.init hn141 hN141 hOq
                have hX := hX_141.init hn141 hX hOq
                have hPX := hPX_141.kp hk
                have hWY := hWY_141.kp hk
                have hJC := hJC_141.kp hk
                have hit := hit_141.kp hk
                have hLM := hLM_141.kp hk
                have hNV := hNV_141.kp hk
                have hBL := hBL_141.kp hk
                have fk := fk_141.kp hk
                have hJ := hJ_141.kp hk
                have hK := hK_141.kp hk
                have hN141 := hk
                have n141 : Lc ad w151 nq141 (eO 11 [.int (zI a), .int (zI b), .ref q_102, .int (zI (ν x0))]) := Lc.new hX_141 hn141 hi
                refine lv_astore (lv' := [(4, .ref nq141), (7, .int (zI (ν x0))), (6, .ref q_102), (5, .ref it_83), (3, .ref nq0), (0, .ref (ad 24)), (1, .int (zI a)), (2, .int (zI b))]) X.x X.b dX2_link_154 hl (by decide) rfl (fun ls hl => ?_)
                have hsB : bestK (vK g a b) (0, 0, 0) ((a1 ++ [x0]).map κ) = stB (vK g a b) (bestK (vK g a b) (0, 0, 0) (a1.map κ)) (κ x0) := by rw [List.map_append]; exact bestK_s _ _ _ _
                have hvK : vK g a b (κ x0) = ν x0 := by rw [hk0, hv0]; rfl
                have hst : stB (vK g a b) (bestK (vK g a b) (0, 0, 0) (a1.map κ)) (κ x0) = (ν x0, e0, f0) := by
                  unfold stB
                  rw [hvK, if_pos (by have h9 := (hBL.resolve_right (fun q => by obtain ⟨-, lk, s, h8, -⟩ := q; rw [ho128] at h8; cases h8)).2; omega), hk0]
                have hBL : BL ad w151 (some nq141) a b (bestK (vK g a b) (0, 0, 0) ((a1 ++ [x0]).map κ)) := by
                  rw [hsB, hst]; exact Or.inr ⟨by show 0 < ν x0; omega, nq141, q_102, rfl, n141, fk⟩
                refine lv_goto (tgt := 90) X.x X.b dX2_link_156 (by decide) ?_
                refine W.widen (k := (80 + (nc + 1))) (n := (220 + 4 * (nc + 1))) (by omega) (by omega) ?_
                exact ih90 _ (by have e9 := hmu90; rw [eb] at e9; simp at e9; omega) (a1 ++ [x0]) b2 (some x0) (some nq141) (nc + 1) rfl (by rw [hla]; simp) (by rw [i90_1]; simp) _ _ _ _ hX hK hPX hWY hJC hNV hLM hit hBL hH hS (lv_sub hl [0, 3, 4, 5, 6, 7] rfl)
              · refine wz_opt (q := (some a128)) ho128 ?_
                have hl : lv_has ls 8 [(7, .int (zI (ν x0))), (6, .ref q_102), (4, .ref a128), (5, .ref it_83), (3, .ref nq0), (0, .ref (ad 24)), (1, .int (zI a)), (2, .int (zI b))] := by rw [ho128] at hl; exact hl
                obtain ⟨hbp, lk, s, hbo, fl⟩ := hBL.resolve_left (fun q => by rw [ho128] at q; exact absurd q.1 (by simp))
                obtain rfl : a128 = lk := Option.some.inj (ho128.symm.trans hbo)
                refine lv_ifnull X.x X.b dX2_link_128 ?_
                refine lv_iload X.x X.b dX2_link_131 (lv_at hl 0 rfl) ?_
                refine lv_aload X.x X.b dX2_link_133 (lv_at hl 2 rfl) ?_
                refine wa_getN (v := .int (zI ((bestK (vK g a b) (0, 0, 0) (a1.map κ)).1))) X hH fl.1.2 wcX11 3 (by decide) q1134 rfl (fun _ h9 => h9) rfl dX2_link_135 ?_
                refine wz_icmp_le (tgt := 156) X.x X.b dX2_link_138 (by decide) ⟨by omega, by omega⟩ ⟨by omega, by omega⟩ (fun c138 => ?_) (fun c138 => ?_)
                · have hsB : bestK (vK g a b) (0, 0, 0) ((a1 ++ [x0]).map κ) = stB (vK g a b) (bestK (vK g a b) (0, 0, 0) (a1.map κ)) (κ x0) := by rw [List.map_append]; exact bestK_s _ _ _ _
                  have hvK : vK g a b (κ x0) = ν x0 := by rw [hk0, hv0]; rfl
                  have hst : stB (vK g a b) (bestK (vK g a b) (0, 0, 0) (a1.map κ)) (κ x0) = (bestK (vK g a b) (0, 0, 0) (a1.map κ)) := by
                    unfold stB
                    rw [hvK, if_neg (by omega)]
                  have hBL : BL ad w102 (some a128) a b (bestK (vK g a b) (0, 0, 0) ((a1 ++ [x0]).map κ)) := by
                    rw [hsB, hst, ← ho128]; exact hBL
                  refine lv_goto (tgt := 90) X.x X.b dX2_link_156 (by decide) ?_
                  refine W.widen (k := (80 + (nc + 1))) (n := (220 + 4 * (nc + 1))) (by omega) (by omega) ?_
                  exact ih90 _ (by have e9 := hmu90; rw [eb] at e9; simp at e9; omega) (a1 ++ [x0]) b2 (some x0) (some a128) (nc + 1) rfl (by rw [hla]; simp) (by rw [i90_1]; simp) _ _ _ _ hX hK hPX hWY hJC hNV hLM hit hBL hH hS (lv_sub hl [2, 3, 4, 5, 6, 7] rfl)
                · have hX_141 := hX
                  have hK_141 := hK
                  have hPX_141 := hPX
                  have hWY_141 := hWY
                  have hJC_141 := hJC
                  have hit_141 := hit
                  have hLM_141 := hLM
                  have hNV_141 := hNV
                  have hBL_141 := hBL
                  have fk_141 := fk
                  have hJ_141 := hJ
                  have fl_141 := fl
                  refine wa_new X hH hS wcX11 rfl q311 q1117 q141 [.int (zI 0), .int (zI 0), .null, .int (zI 0)] (by decide) (by dsimp only; omega) (by dsimp only; omega) dX2_link_141 (fun nq141 w141 H hn141 ew hH hS => ?_)
                  have hk0 := Ext.new hn141 ew
                  have hX := hX.ext hk0
                  have hk := hk0.k (ad := ad)
                  have hPX := hPX.kp hk
                  have hWY := hWY.kp hk
                  have hJC := hJC.kp hk
                  have hit := hit.kp hk
                  have hLM := hLM.kp hk
                  have hNV := hNV.kp hk
                  have hBL := hBL.kp hk
                  have fk := fk.kp hk
                  have hJ := hJ.kp hk
                  have fl := fl.kp hk
                  have hK := hK.kp hk
                  have hN141 := hk
                  have n141 : Lc ad w141 nq141 (eO 11 [.int (zI 0), .int (zI 0), .null, .int (zI 0)]) := Lc.new hX_141 hn141 (by rw [ew]; exact wup_s)
                  clear ew hk0
                  refine lv_dup X.x X.b dX2_link_144 rfl ?_
                  refine lv_iload_n X.x X.b dX2_link_145 rfl (lv_at hl 6 rfl) ?_
                  refine lv_iload_n X.x X.b dX2_link_146 rfl (lv_at hl 7 rfl) ?_
                  refine lv_aload X.x X.b dX2_link_147 (lv_at hl 1 rfl) ?_
                  refine lv_iload X.x X.b dX2_link_149 (lv_at hl 0 rfl) ?_
                  refine wa_cv hS (wa_rI (rest := [.ref nq141]) X hH (mX11_init  (show At w141 nq141 (eO 11 [.int (zI 0), .int (zI 0), .null, .int (zI 0)]) from n141.2) a b (ν x0) ) (cwI 4 X.t (lw_meth q1120) rfl rfl rfl (X.t _ q141) (X.t _ q1118) (X.t _ q1119) rfl hdX11_init.2 ⟨Nat.le_of_ble_eq_true rfl, Nat.le_of_ble_eq_true rfl⟩) rfl rfl hl.1 rfl (Nat.le_of_ble_eq_true rfl) dX2_link_151 ⟨by dsimp only; omega, by dsimp only; omega⟩) (fun w151 H locs hp hH hS => ?_)
                  obtain ⟨hi, hO2⟩ := hp
                  have hOq := hO2
                  have hk := Kp.init hn141 hN141 hOq
                  have hX := hX_141.init hn141 hX hOq
                  have hPX := hPX_141.kp hk
                  have hWY := hWY_141.kp hk
                  have hJC := hJC_141.kp hk
                  have hit := hit_141.kp hk
                  have hLM := hLM_141.kp hk
                  have hNV := hNV_141.kp hk
                  have hBL := hBL_141.kp hk
                  have fk := fk_141.kp hk
                  have hJ := hJ_141.kp hk
                  have fl := fl_141.kp hk
                  have hK := hK_141.kp hk
                  have hN141 := hk
                  have n141 : Lc ad w151 nq141 (eO 11 [.int (zI a), .int (zI b), .ref q_102, .int (zI (ν x0))]) := Lc.new hX_141 hn141 hi
                  refine lv_astore (lv' := [(4, .ref nq141), (7, .int (zI (ν x0))), (6, .ref q_102), (5, .ref it_83), (3, .ref nq0), (0, .ref (ad 24)), (1, .int (zI a)), (2, .int (zI b))]) X.x X.b dX2_link_154 hl (by decide) rfl (fun ls hl => ?_)
                  have hsB : bestK (vK g a b) (0, 0, 0) ((a1 ++ [x0]).map κ) = stB (vK g a b) (bestK (vK g a b) (0, 0, 0) (a1.map κ)) (κ x0) := by rw [List.map_append]; exact bestK_s _ _ _ _
                  have hvK : vK g a b (κ x0) = ν x0 := by rw [hk0, hv0]; rfl
                  have hst : stB (vK g a b) (bestK (vK g a b) (0, 0, 0) (a1.map κ)) (κ x0) = (ν x0, e0, f0) := by
                    unfold stB
                    rw [hvK, if_pos (by omega), hk0]
                  have hBL : BL ad w151 (some nq141) a b (bestK (vK g a b) (0, 0, 0) ((a1 ++ [x0]).map κ)) := by
                    rw [hsB, hst]; exact Or.inr ⟨by show 0 < ν x0; omega, nq141, q_102, rfl, n141, fk⟩
                  refine lv_goto (tgt := 90) X.x X.b dX2_link_156 (by decide) ?_
                  refine W.widen (k := (80 + (nc + 1))) (n := (220 + 4 * (nc + 1))) (by omega) (by omega) ?_
                  exact ih90 _ (by have e9 := hmu90; rw [eb] at e9; simp at e9; omega) (a1 ++ [x0]) b2 (some x0) (some nq141) (nc + 1) rfl (by rw [hla]; simp) (by rw [i90_1]; simp) _ _ _ _ hX hK hPX hWY hJC hNV hLM hit hBL hH hS (lv_sub hl [0, 3, 4, 5, 6, 7] rfl)
            · have b92 : ¬ (¬ (b1.head?) = none) := b92
              refine wz_ifeq (tgt := 159) X.x X.b dX2_link_97 (by decide) (by decide) (fun _ => ?_) (fun h => absurd h (by decide))
              refine lv_aloadO X.x X.b dX2_link_159 (lv_at hl 0 rfl) ?_
              refine W.widen (k := 120) (n := 400) (by first | exact Nat.le_of_ble_eq_true rfl | omega) (by first | exact Nat.le_of_ble_eq_true rfl | omega) ?_
              exact wa_aret X (Or.inl ⟨_, rfl⟩) hH hS bo dX2_link_161 ⟨_, hX, hK, i11_0, hNV, (by have e1 := head_none b92; rw [e1, List.append_nil] at i90_0; rw [← i90_0, hlist, bestK_N g a b 15 (Nat.le_refl 15)] at hBL; exact hBL)⟩
        refine W.widen (k := (80 + 0)) (n := (220 + 4 * 0)) (by omega) (by omega) ?_
        exact L90 _ ([]) l none none 0 rfl (by rfl) (by rfl) _ _ _ _ hX hK hPX hWY hJC hNV hLM hit hBL hH hS (lv_sub hl [1, 0, 2, 3, 4, 5] rfl)
      · refine wz_iconst X.x X.b dX2_link_17 ?_
        refine lv_istore (lv' := [(5, .int (zI 1)), (4, .int (zI e)), (3, .ref nq0), (0, .ref (ad 24)), (1, .int (zI a)), (2, .int (zI b))]) X.x X.b dX2_link_18 hl (by decide) rfl (fun ls hl => ?_)
        have L20 : ∀ (nn : Nat) (f : Int) (lm : List Nat) (κm : Nat → KT) (νm : Nat → Int) (mom : Int) (nm : Nat) (Pm : Nat → Option Nat), ((6 - f).toNat) = nn → (∀ j, j < 30 ∨ 36 ≤ j → Pm j = P j) → ((1 ≤ f ∧ f ≤ 6) ∧ (nm : Int) = 5 * (e + 1) + (f - 1)) → (MK g a b e f lm κm νm) → (∀ x, x ∈ lm → w x = none) → ∀ (wl20 : wa_W) (H : Heap) (locs : List Loc) (ls : Array Slot), XW G ad wl20 S A B Pm → Kp ad w wl20 → PX G ad wl20 (B 10) g → WAYS G ad wl20 (B 5) → NVX ad wl20 Pm → JC ad wl20 S P g (g 3) → LM G ad wl20 nq0 lm κm νm none mom → wa_H G wl20 H → va_S (wa_A G) sS.heap H locs → lv_has ls 8 [(5, .int (zI f)), (4, .int (zI e)), (3, .ref nq0), (0, .ref (ad 24)), (1, .int (zI a)), (2, .int (zI b))] → W pP lL eE ({ frames := 8, cells := 120, slots := 400, locals := 215 } : Room) sS mM aA bB mT cC H locs (1 + 4 * nm) (9 + 13 * nm) (MQ bB (wa_Qr G fun r u => ∃ (P2 : Nat → Option Nat), XW G ad u S A B P2 ∧ Kp ad w u ∧ (∀ j, j < 30 ∨ 36 ≤ j → P2 j = P j) ∧ (NVX ad u P2) ∧ (BL ad u r a b (bestS g a b))) aA sS 120 400 (wa_A G)) (F0 mM 20 ls []) := by
          intro nn
          induction nn using Nat.strongRecOn with
          | ind nn ih20 =>
            intro f lm κm νm mom nm Pm hmu20 i20_0 i20_1 i20_2 i20_3 wl20 H locs ls hX hK hPX hWY hNV hJC hLM hH hS hl
            refine lv_iload X.x X.b dX2_link_20 (lv_at hl 0 rfl) ?_
            refine wz_iconst X.x X.b dX2_link_22 ?_
            refine wz_icmp_gt (tgt := 70) X.x X.b dX2_link_23 (by decide) ⟨by omega, by omega⟩ ⟨by omega, by omega⟩ (fun c23 => ?_) (fun c23 => ?_)
            · refine wz_iinc (k := 1) (lv' := [(4, .int (zI (e + 1))), (5, .int (zI f)), (3, .ref nq0), (0, .ref (ad 24)), (1, .int (zI a)), (2, .int (zI b))]) X.x X.b dX2_link_70 hl rfl (by decide) rfl (fun ls hl => ?_)
              refine lv_goto (tgt := 11) X.x X.b dX2_link_73 (by decide) ?_
              refine W.widen (k := (1 + 4 * nm)) (n := (9 + 13 * nm)) (by omega) (by omega) ?_
              exact ih11 _ (by omega) (e + 1) lm κm νm mom nm Pm rfl (by exact i20_0) (by omega) (by obtain rfl : f = 6 := (by omega); exact i20_2.row) (by exact i20_3) _ _ _ _ hX hK hPX hWY hNV hJC hLM hH hS (lv_sub hl [0, 2, 3, 4, 5] rfl)
            · refine lv_aload_n X.x X.b dX2_link_26 rfl (lv_at hl 3 rfl) ?_
              refine lv_iload_n X.x X.b dX2_link_27 rfl (lv_at hl 4 rfl) ?_
              refine lv_iload_n X.x X.b dX2_link_28 rfl (lv_at hl 5 rfl) ?_
              refine lv_iload X.x X.b dX2_link_29 (lv_at hl 1 rfl) ?_
              refine lv_iload X.x X.b dX2_link_31 (lv_at hl 0 rfl) ?_
              refine wa_ci hS (wa_rV (rest := []) X hH (mX2_votes hX hPX hWY hNV (hJC.cg (fun k h1 h2 => ⟨rfl, i20_0 _ (by omega)⟩)) a b e f (show a = an by first | assumption | omega) (show an < 6 by first | assumption | omega) (show (an : Int) < g 3 by first | assumption | omega) (show 0 ≤ b ∧ b < g 3 by first | assumption | omega) (show -1 ≤ e ∧ e ≤ 1 by first | assumption | omega) (show 1 ≤ f ∧ f ≤ 5 by first | assumption | omega) (show okS g by first | assumption | omega) (show A 10 0 = g 1 ∧ A 10 1 = g 2 by first | assumption | omega)) (cwV 4 X.t (lw_V q942 q943 q944 q112 q945) rfl rfl rfl hdX2_votes ⟨Nat.le_of_ble_eq_true rfl, Nat.le_of_ble_eq_true rfl⟩) rfl (have h9 := (XW.c24 hX); h9) rfl rfl hl.1 rfl (Nat.le_of_ble_eq_true rfl) dX2_link_33 ⟨by dsimp only; omega, by dsimp only; omega⟩) (fun z w33 H locs hp hH hS => ?_)
              obtain ⟨rfl, ⟨P2_33, hX, hk, hx33_0, hx33_1⟩⟩ := hp
              have hPX := hPX.kp hk
              have hWY := hWY.kp hk
              have hNV := hNV.kp hk
              have hJC := hJC.kp hk
              have hLM := hLM.kp hk
              have hK := hK.kp hk
              have hNV := hx33_1
              have hvb := votesS_in g a b e f
              refine lv_istore (lv' := [(6, .int (zI (votesS g a b e f))), (5, .int (zI f)), (4, .int (zI e)), (3, .ref nq0), (0, .ref (ad 24)), (1, .int (zI a)), (2, .int (zI b))]) X.x X.b dX2_link_36 hl (by decide) rfl (fun ls hl => ?_)
              refine lv_iload X.x X.b dX2_link_38 (lv_at hl 0 rfl) ?_
              refine wz_ifle (tgt := 64) X.x X.b dX2_link_40 (by decide) ⟨by omega, by omega⟩ (fun c40 => ?_) (fun c40 => ?_)
              · refine wz_iinc (k := 1) (lv' := [(5, .int (zI (f + 1))), (6, .int (zI (votesS g a b e f))), (4, .int (zI e)), (3, .ref nq0), (0, .ref (ad 24)), (1, .int (zI a)), (2, .int (zI b))]) X.x X.b dX2_link_64 hl rfl (by decide) rfl (fun ls hl => ?_)
                refine lv_goto (tgt := 20) X.x X.b dX2_link_67 (by decide) ?_
                refine W.widen (k := (1 + 4 * (nm + 1))) (n := (9 + 13 * (nm + 1))) (by omega) (by omega) ?_
                exact ih20 _ (by omega) (f + 1) lm κm νm mom (nm + 1) P2_33 rfl (by intro j hj; exact (hx33_0 j hj).trans (i20_0 j hj)) (by omega) (by exact i20_2.skip (by omega)) (by exact i20_3) _ _ _ _ hX hK hPX hWY hNV hJC hLM hH hS (lv_sub hl [0, 2, 3, 4, 5, 6] rfl)
              · refine lv_aload_n X.x X.b dX2_link_43 rfl (lv_at hl 3 rfl) ?_
                have hX_44 := hX
                have hK_44 := hK
                have hPX_44 := hPX
                have hWY_44 := hWY
                have hJC_44 := hJC
                have hLM_44 := hLM
                have hNV_44 := hNV
                refine wa_new X hH hS wcX10 rfl q1048 q1049 q139 [.int (zI 0), .int (zI 0)] (by decide) (by dsimp only; omega) (by dsimp only; omega) dX2_link_44 (fun nq44 w44 H hn44 ew hH hS => ?_)
                have hk0 := Ext.new hn44 ew
                have hX := hX.ext hk0
                have hk := hk0.k (ad := ad)
                have hPX := hPX.kp hk
                have hWY := hWY.kp hk
                have hJC := hJC.kp hk
                have hLM := hLM.kp hk
                have hNV := hNV.kp hk
                have hK := hK.kp hk
                have hN44 := hk
                have n44 : Lc ad w44 nq44 (eO 10 [.int (zI 0), .int (zI 0)]) := Lc.new hX_44 hn44 (by rw [ew]; exact wup_s)
                clear ew hk0
                refine lv_dup X.x X.b dX2_link_47 rfl ?_
                refine lv_iload X.x X.b dX2_link_48 (lv_at hl 2 rfl) ?_
                refine lv_iload X.x X.b dX2_link_50 (lv_at hl 1 rfl) ?_
                refine wa_cv hS (wa_rI (rest := [.ref nq44, .ref nq0]) X hH (mX10_init  (show At w44 nq44 (eO 10 [.int (zI 0), .int (zI 0)]) from n44.2) e f ) (cwI 2 X.t (lw_meth q1052) rfl rfl rfl (X.t _ q139) (X.t _ q1050) (X.t _ q1051) rfl hdX10_init.2 ⟨Nat.le_of_ble_eq_true rfl, Nat.le_of_ble_eq_true rfl⟩) rfl rfl hl.1 rfl (Nat.le_of_ble_eq_true rfl) dX2_link_52 ⟨by dsimp only; omega, by dsimp only; omega⟩) (fun w52 H locs hp hH hS => ?_)
                obtain ⟨hi, hO2⟩ := hp
                have hOq := hO2
                have hk := Kp.init hn44 hN44 hOq
                have hX := hX_44.init hn44 hX hOq
                have hPX := hPX_44.kp hk
                have hWY := hWY_44.kp hk
                have hJC := hJC_44.kp hk
                have hLM := hLM_44.kp hk
                have hNV := hNV_44.kp hk
                have hK := hK_44.kp hk
                have hN44 := hk
                have n44 : Lc ad w52 nq44 (eO 10 [.int (zI e), .int (zI f)]) := Lc.new hX_44 hn44 hi
                refine lv_iload X.x X.b dX2_link_55 (lv_at hl 0 rfl) ?_
                refine wa_cr hS (wa_rS (rest := [.ref nq44, .ref nq0]) X hH (mJ9_valueOf _  (votesS g a b e f) (by omega)) (va_cwS 1 X.t (lw_S q1067 q1068 q129 q1069) rfl rfl rfl hdJ9_valueOf.2 ⟨Nat.le_of_ble_eq_true rfl, Nat.le_of_ble_eq_true rfl⟩) rfl rfl hl.1 rfl (Nat.le_of_ble_eq_true rfl) dX2_link_57 ⟨by dsimp only; omega, by dsimp only; omega⟩) (fun r57 w57 H locs hp hH hS => ?_)
                obtain ⟨⟨vI, evI, hI⟩, hw⟩ := hp
                rw [← hw] at hH; clear hw
                refine wz_opt (q := some vI) evI ?_
                refine wa_cr hS (wa_rV (rest := []) X hH (mJ5_put_Y hX hLM (show Lc ad w52 nq44 (kE (false, e, f, 0)) from n44) hI hNV  rfl (show kOK (false, e, f, 0) by unfold kOK; dsimp only; omega) (i20_2.ne (by omega) (by omega)) hK hn0 i20_3) (cwV 2 X.t (lw_V q1086 q710 q2061 q118 q712) rfl rfl rfl hdJ5_put ⟨Nat.le_of_ble_eq_true rfl, Nat.le_of_ble_eq_true rfl⟩) rfl ((LM.at hLM).choose_spec) rfl rfl hl.1 rfl (Nat.le_of_ble_eq_true rfl) dX2_link_60 ⟨by dsimp only; omega, by dsimp only; omega⟩) (fun r60 w60 H locs hp hH hS => ?_)
                obtain ⟨rfl, ⟨e_60, a2_60, b2_60, hX, hk, hx60_0, hx60_1, hx60_2⟩⟩ := hp
                have hPX := hPX_0.kp hk
                have hWY := hWY_0.kp hk
                have hNV := hNV_0.kp hk
                have hJC := hJC_0.kp hk
                have hK := hk
                have hLM := hx60_1
                have hNV := hx60_2
                refine lv_pop X.x X.b dX2_link_63 rfl ?_
                refine wz_iinc (k := 1) (lv' := [(5, .int (zI (f + 1))), (6, .int (zI (votesS g a b e f))), (4, .int (zI e)), (3, .ref nq0), (0, .ref (ad 24)), (1, .int (zI a)), (2, .int (zI b))]) X.x X.b dX2_link_64 hl rfl (by decide) rfl (fun ls hl => ?_)
                refine lv_goto (tgt := 20) X.x X.b dX2_link_67 (by decide) ?_
                refine W.widen (k := (1 + 4 * (nm + 1))) (n := (9 + 13 * (nm + 1))) (by omega) (by omega) ?_
                exact ih20 _ (by omega) (f + 1) (a2_60 ++ e_60 :: b2_60) (nup κm e_60 (false, e, f, 0)) (nup νm e_60 (votesS g a b e f)) (mom + 1) (nm + 1) P2_33 rfl (by intro j hj; exact (hx33_0 j hj).trans (i20_0 j hj)) (by omega) (by exact i20_2.add (by omega) (by omega) (by omega) rfl hx60_0.2.1 hx60_0.2.2) (by intro x hx; rcases mem_ins hx with q | q; (rw [q]; exact hx60_0.1); (exact i20_3 x (hx60_0.2.2 ▸ q))) _ _ _ _ hX hK hPX hWY hNV hJC hLM hH hS (lv_sub hl [0, 2, 3, 4, 5, 6] rfl)
        refine W.widen (k := (1 + 4 * n)) (n := (9 + 13 * n)) (by omega) (by omega) ?_
        exact L20 _ 1 l κ ν mo n Pl rfl (by exact i11_0) (by omega) (by exact i11_2) (by exact i11_3) _ _ _ _ hX hK hPX hWY hNV hJC hLM hH hS (lv_sub hl [0, 1, 2, 3, 4, 5] rfl)
  refine W.widen (k := (1 + 4 * 0)) (n := (9 + 13 * 0)) (by omega) (by omega) ?_
  exact L11 _ (-1) ([]) (fun _ => (true, 0, 0, 0)) (fun _ => 0) 0 0 P rfl (by intro j hj; rfl) (by omega) (by exact MK.nil) (by intro x h; cases h) _ _ _ _ hX hK hPX hWY hNV hJC hLM hH hS (lv_sub hl [0, 1, 2, 3, 4] rfl)

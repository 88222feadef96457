/-! CALLS: world, dots, shot, paint, drops, sets -/
set_option maxRecDepth 100000 in
theorem mX0_worldTo {lL : Launch} {G : wa_G} {ad : Nat → Nat} {w : wa_W} {S : Nat → Int} {A : Nat → Int → Int} {B : Nat → Int → Option Nat} {P : Nat → Option Nat} (hX : XW G ad w S A B P) {g : Int → Int} {past : Int → Int} {re : Int → Int} {tx : Int → Int} {st : Int} {ck : Int} {co : Int} {tl : Int} {qt : Int} (hI : XI G ad w S A B P g past re tx st ck co tl qt) (s0 : Int) (q0 : Int) (r_s0 : rI s0) (r_q0 : rI q0) : Met lL yX0_worldTo (ws_ yX0_worldTo cX0_worldTo 8 (some FieldType.int)) ({ frames := 3, cells := 1, slots := 192, locals := 142 } : Room) (wa_P G w [.ref (ad 0), .int (zI s0), .int (zI q0)]) (wa_Qz G fun z u => z = worldV g s0 q0 ∧ ∃ (S2 : Nat → Int) (A2 : Nat → Int → Int) (B2 : Nat → Int → Option Nat) (P2 : Nat → Option Nat), XW G ad u S2 A2 B2 P2 ∧ Kp ad w u ∧ (XI G ad u S2 A2 B2 P2 (worldG g s0 q0) (qP (okWorld s0 q0) qt past g st) re tx (qN (okWorld s0 q0) qt st) ck co tl qt)) 1 192 (wa_A G) := by
  refine wa_met (by decide) (by exact Nat.le_of_ble_eq_true rfl) ?_
  intro pP eE sS mM aA bB mT cC ls X hl hH
  have hS : va_S (wa_A G) sS.heap sS.heap [] := va_S.rf
  have hl : lv_has ls 8 [(0, .ref (ad 0)), (1, .int (zI s0)), (2, .int (zI q0))] := hl
  have hK : Kp ad w w := Kp.rf
  have hI_0 := hI
  obtain ⟨ho, hST, hXJ, hRX⟩ := id hI
  have hmany := ho.many
  have hPX : PX G ad w (B 10) g := hST.2.2.1
  have hWY : WAYS G ad w (B 5) := hRX.1
  have hNV : NVX ad w P := hRX.2.1
  have hm : S 30 = g 3 := hST.1.2
  have hwd : S 20 = g 0 := hST.1.1
  have hg : A 10 0 = g 1 ∧ A 10 1 = g 2 := hST.2.1
  have hwide := ho.wide
  have hS0 : S 0 = st := hRX.2.2.2.1.1
  have hS1 : S 1 = qt := hRX.2.2.2.1.2.1
  have hS2 : S 2 = tl := hRX.2.2.2.1.2.2.1
  have hstr := hRX.2.2.2.2.2.2.2.1
  have htlr := hRX.2.2.2.2.2.2.2.2.1
  have hqt := hRX.2.2.2.2.2.2.2.2.2.1
  have hPX_0 := hPX
  have hWY_0 := hWY
  have hNV_0 := hNV
  have hXJ_0 := hXJ
  refine lv_iload_n X.x X.b dX0_worldTo_0 rfl (lv_at hl 1 rfl) ?_
  refine wz_i2l X.x X.b dX0_worldTo_1 ⟨by omega, by omega⟩ ?_
  refine lv_lconst (v := lI 0) X.x X.b dX0_worldTo_2 rfl ?_
  refine wz_ldc2 (n := 999999) X.x X.b X.own (X.t _ q465) rfl dX0_worldTo_3 ?_
  refine wa_ci hS (wa_rS (rest := []) X hH (mX0_in _  s0 0 999999 (show rL s0 by first | assumption | omega) (show rL 0 by first | assumption | omega) (show rL 999999 by first | assumption | omega)) (va_cwS 3 X.t (lw_S q466 q467 q109 q468) rfl rfl rfl hdX0_in.2 ⟨Nat.le_of_ble_eq_true rfl, Nat.le_of_ble_eq_true rfl⟩) rfl rfl hl.1 rfl (Nat.le_of_ble_eq_true rfl) dX0_worldTo_6 ⟨Nat.le_of_ble_eq_true rfl, Nat.le_of_ble_eq_true rfl⟩) (fun z w6 H locs hp hH hS => ?_)
  obtain ⟨hb, hw⟩ := hp
  rw [← hw] at hH; clear hw
  rcases hb with ⟨b6, rfl⟩ | ⟨b6, rfl⟩
  · have b6 : (0 ≤ s0 ∧ s0 ≤ 999999) := b6
    refine wz_ifeq (tgt := 26) X.x X.b dX0_worldTo_9 (by decide) (by decide) (fun h => absurd h (by decide)) (fun _ => ?_)
    refine lv_iload_n X.x X.b dX0_worldTo_12 rfl (lv_at hl 2 rfl) ?_
    refine wz_i2l X.x X.b dX0_worldTo_13 ⟨by omega, by omega⟩ ?_
    refine wz_ldc2 (n := 12) X.x X.b X.own (X.t _ q469) rfl dX0_worldTo_14 ?_
    refine wz_ldc2 (n := 32) X.x X.b X.own (X.t _ q470) rfl dX0_worldTo_17 ?_
    refine wa_ci hS (wa_rS (rest := []) X hH (mX0_in _  q0 12 32 (show rL q0 by first | assumption | omega) (show rL 12 by first | assumption | omega) (show rL 32 by first | assumption | omega)) (va_cwS 3 X.t (lw_S q466 q467 q109 q468) rfl rfl rfl hdX0_in.2 ⟨Nat.le_of_ble_eq_true rfl, Nat.le_of_ble_eq_true rfl⟩) rfl rfl hl.1 rfl (Nat.le_of_ble_eq_true rfl) dX0_worldTo_20 ⟨Nat.le_of_ble_eq_true rfl, Nat.le_of_ble_eq_true rfl⟩) (fun z w20 H locs hp hH hS => ?_)
    obtain ⟨hb, hw⟩ := hp
    rw [← hw] at hH; clear hw
    rcases hb with ⟨b20, rfl⟩ | ⟨b20, rfl⟩
    · have b20 : (12 ≤ q0 ∧ q0 ≤ 32) := b20
      refine wz_ifne (tgt := 29) X.x X.b dX0_worldTo_23 (by decide) (by decide) (fun _ => ?_) (fun h => absurd h (by decide))
      refine lv_aload_n X.x X.b dX0_worldTo_29 rfl (lv_at hl 0 rfl) ?_
      refine wa_cv hS (wa_rV (rest := []) X hH (mX0_leaves hX hI  ) (cwV 0 X.t (lw_V q471 q473 qs1 q109 q474) rfl rfl rfl hdX0_leaves ⟨Nat.le_of_ble_eq_true rfl, Nat.le_of_ble_eq_true rfl⟩) rfl (have h9 := (XW.c0 hX); h9) rfl rfl hl.1 rfl (Nat.le_of_ble_eq_true rfl) dX0_worldTo_30 ⟨Nat.le_of_ble_eq_true rfl, Nat.le_of_ble_eq_true rfl⟩) (fun w30 H locs hp hH hS => ?_)
      obtain ⟨S2_30, A2_30, B2_30, P2_30, hX, hk, hx30_0, hx30_1⟩ := hp
      have hI := hI.kp hk
      have hPX := hPX.kp hk
      have hWY := hWY.kp hk
      have hNV := hNV.kp hk
      have hXJ := hXJ.kp hk
      have hK := hK.kp hk
      have hI := hx30_0
      obtain ⟨ho, hST, hXJ, hRX⟩ := id hI
      have hmany := ho.many
      have hPX : PX G ad w30 (B2_30 10) g := hST.2.2.1
      have hWY : WAYS G ad w30 (B2_30 5) := hRX.1
      have hNV : NVX ad w30 P2_30 := hRX.2.1
      have hm : S2_30 30 = g 3 := hST.1.2
      have hwd : S2_30 20 = g 0 := hST.1.1
      have hg : A2_30 10 0 = g 1 ∧ A2_30 10 1 = g 2 := hST.2.1
      have hwide := ho.wide
      have hS0 : S2_30 0 = (keepM qt st) := hRX.2.2.2.1.1
      have hS1 : S2_30 1 = qt := hRX.2.2.2.1.2.1
      have hS2 : S2_30 2 = tl := hRX.2.2.2.1.2.2.1
      have hstr := hRX.2.2.2.2.2.2.2.1
      have htlr := hRX.2.2.2.2.2.2.2.2.1
      have hqt := hRX.2.2.2.2.2.2.2.2.2.1
      have h4w := hx30_1
      refine lv_aload_n X.x X.b dX0_worldTo_33 rfl (lv_at hl 0 rfl) ?_
      refine wa_get (v := .ref (ad 1)) X hH (have h9 := (XW.c0 hX); h9) wcX0 0 (by decide) q417 rfl (fun _ h9 => h9) rfl dX0_worldTo_34 ?_
      refine wa_getN (v := .int (zI (S2_30 20))) X hH (have h9 := (XW.c1 hX); h9) wcX1 1 (by decide) q166 rfl (fun _ h9 => h9) rfl dX0_worldTo_37 ?_
      refine wz_is (z := g 0) (by rw [hwd]) ?_
      refine lv_istore_n (lv' := [(3, .int (zI (g 0))), (0, .ref (ad 0)), (1, .int (zI s0)), (2, .int (zI q0))]) X.x X.b dX0_worldTo_40 rfl hl (by decide) rfl (fun ls hl => ?_)
      refine wz_bipush X.x X.b dX0_worldTo_41 rfl ?_
      refine lv_iload_n X.x X.b dX0_worldTo_43 rfl (lv_at hl 3 rfl) ?_
      refine wz_imul X.x X.b dX0_worldTo_44 ?_
      have hX_45 := hX
      have hK_45 := hK
      have hI_45 := hI
      have hPX_45 := hPX
      have hWY_45 := hWY
      have hNV_45 := hNV
      have hXJ_45 := hXJ
      refine wa_newi (n := 6 * q0) (N := (6 * q0).toNat) X hH hS q187 (by omega) (by omega) (by dsimp only; omega) (by dsimp only; omega) dX0_worldTo_45 (fun nq45 w45 H hn45 ew hH hS => ?_)
      have hk0 := Ext.new hn45 ew
      have hX := hX.ext hk0
      have hk := hk0.k (ad := ad)
      have hI := hI.kp hk
      have hPX := hPX.kp hk
      have hWY := hWY.kp hk
      have hNV := hNV.kp hk
      have hXJ := hXJ.kp hk
      have hK := hK.kp hk
      have hN45 := hk
      have n45 : Lc ad w45 nq45 (eI G ((6 * q0).toNat) (fun _ => 0)) := Lc.new hX_45 hn45 (by rw [ew]; exact wup_s)
      clear ew hk0
      refine lv_astore (lv' := [(4, .ref nq45), (3, .int (zI (g 0))), (0, .ref (ad 0)), (1, .int (zI s0)), (2, .int (zI q0))]) X.x X.b dX0_worldTo_47 hl (by decide) rfl (fun ls hl => ?_)
      refine lv_iload_n X.x X.b dX0_worldTo_49 rfl (lv_at hl 3 rfl) ?_
      refine wz_i2l X.x X.b dX0_worldTo_50 ⟨by omega, by omega⟩ ?_
      refine lv_lstore (lv' := [(5, .long (lI s0)), (4, .ref nq45), (3, .int (zI (g 0))), (0, .ref (ad 0)), (1, .int (zI s0)), (2, .int (zI q0))]) X.x X.b dX0_worldTo_51 hl (by decide) rfl (fun ls hl => ?_)
      refine wz_iconst X.x X.b dX0_worldTo_53 ?_
      refine lv_istore (lv' := [(7, .int (zI 0)), (5, .long (lI s0)), (4, .ref nq45), (3, .int (zI (g 0))), (0, .ref (ad 0)), (1, .int (zI s0)), (2, .int (zI q0))]) X.x X.b dX0_worldTo_54 hl (by decide) rfl (fun ls hl => ?_)
      have L56 : ∀ (nn : Nat) (k : Int) (x9 : Int) (f9 : Int → Int), ((6 * q0 - k).toNat) = nn → (0 ≤ k ∧ k ≤ 6 * q0) → (x9 = lcg s0 k.toNat) → (∀ j, 0 ≤ j → j < k → f9 j = wv s0 (j + 1)) → ∀ (wl56 : wa_W) (H : Heap) (locs : List Loc) (ls : Array Slot), XW G ad wl56 S2_30 A2_30 B2_30 P2_30 → Kp ad w wl56 → XI G ad wl56 S2_30 A2_30 B2_30 P2_30 g (keepQ qt past g st) re tx (keepM qt st) ck co tl qt → PX G ad wl56 (B2_30 10) g → WAYS G ad wl56 (B2_30 5) → NVX ad wl56 P2_30 → XJ G ad wl56 S2_30 A2_30 B2_30 P2_30 g → Kp ad w30 wl56 → Lc ad wl56 nq45 (eI G (6 * q0).toNat f9) → wa_H G wl56 H → va_S (wa_A G) sS.heap H locs → lv_has ls 8 [(7, .int (zI k)), (5, .long (lI x9)), (4, .ref nq45), (3, .int (zI (g 0))), (0, .ref (ad 0)), (1, .int (zI s0)), (2, .int (zI q0))] → W pP lL eE ({ frames := 3, cells := 1, slots := 192, locals := 142 } : Room) sS mM aA bB mT cC H locs (0 + 1) (0 + ((6 * q0).toNat)) (MQ bB (wa_Qz G fun z u => z = worldV g s0 q0 ∧ ∃ (S2 : Nat → Int) (A2 : Nat → Int → Int) (B2 : Nat → Int → Option Nat) (P2 : Nat → Option Nat), XW G ad u S2 A2 B2 P2 ∧ Kp ad w u ∧ (XI G ad u S2 A2 B2 P2 (worldG g s0 q0) (qP (okWorld s0 q0) qt past g st) re tx (qN (okWorld s0 q0) qt st) ck co tl qt)) aA sS 1 192 (wa_A G)) (F0 mM 56 ls []) := by
        intro nn
        induction nn using Nat.strongRecOn with
        | ind nn ih56 =>
          intro k x9 f9 hmu56 i56_0 i56_1 i56_2 wl56 H locs ls hX hK hI hPX hWY hNV hXJ hN45 n45 hH hS hl
          refine lv_iload X.x X.b dX0_worldTo_56 (lv_at hl 0 rfl) ?_
          refine lv_aload X.x X.b dX0_worldTo_58 (lv_at hl 2 rfl) ?_
          refine wa_alen X hH n45.2 dX0_worldTo_60 ?_
          refine wz_icmp_ge (tgt := 102) X.x X.b dX0_worldTo_61 (by decide) ⟨by omega, by omega⟩ ⟨by omega, by omega⟩ (fun c61 => ?_) (fun c61 => ?_)
          · refine lv_aload_n X.x X.b dX0_worldTo_102 rfl (lv_at hl 4 rfl) ?_
            refine wa_get (v := .ref (ad 1)) X hH (have h9 := (XW.c0 hX); h9) wcX0 0 (by decide) q417 rfl (fun _ h9 => h9) rfl dX0_worldTo_103 ?_
            refine lv_aload X.x X.b dX0_worldTo_106 (lv_at hl 2 rfl) ?_
            refine wa_putN X hH hS (have h9 := (XW.c1 hX); h9) wcX1 0 (by decide) q164 rfl (fun _ h9 => h9) rfl rfl rfl (Nat.le_of_ble_eq_true rfl) dX0_worldTo_108 (fun w108 H locs ew hH hS => ?_)
            have hk : Kp ad wl56 w108 := Kp.set (i := 1) (by omega) ew
            have hX := hX.sP (i := 1) (10) (x := some nq45) (by unfold oP; omega) ew
            have hI := hI.kp hk
            have hPX := hPX.kp hk
            have hWY := hWY.kp hk
            have hNV := hNV.kp hk
            have hXJ := hXJ.kp hk
            have hN45 := hN45.kp hk
            have n45 := n45.kp hk
            have hK := hK.kp hk
            clear ew
            refine lv_aload_n X.x X.b dX0_worldTo_111 rfl (lv_at hl 4 rfl) ?_
            refine wa_get (v := .ref (ad 1)) X hH (have h9 := (XW.c0 hX); h9) wcX0 0 (by decide) q417 rfl (fun _ h9 => h9) rfl dX0_worldTo_112 ?_
            refine lv_iload_n X.x X.b dX0_worldTo_115 rfl (lv_at hl 6 rfl) ?_
            refine wa_putN X hH hS (have h9 := (XW.c1 hX); h9) wcX1 1 (by decide) q166 rfl (fun _ h9 => h9) rfl rfl rfl (Nat.le_of_ble_eq_true rfl) dX0_worldTo_116 (fun w116 H locs ew hH hS => ?_)
            have hk : Kp ad w108 w116 := Kp.set (i := 1) (by omega) ew
            have hX := hX.sS (i := 1) (20) (x := q0) (by unfold oS; omega) ew
            have hI := hI.kp hk
            have hPX := hPX.kp hk
            have hWY := hWY.kp hk
            have hNV := hNV.kp hk
            have hXJ := hXJ.kp hk
            have hN45 := hN45.kp hk
            have n45 := n45.kp hk
            have hK := hK.kp hk
            clear ew
            refine lv_iload_n X.x X.b dX0_worldTo_119 rfl (lv_at hl 3 rfl) ?_
            refine W.widen (k := 1) (n := 192) (by first | exact Nat.le_of_ble_eq_true rfl | omega) (by first | exact Nat.le_of_ble_eq_true rfl | omega) ?_
            exact wa_iret X hH hS dX0_worldTo_120 ⟨by unfold worldV; first | (rw [if_neg (by omega)]; done) | rw [if_pos (by omega)], ⟨_, _, _, _, hX, hK, (hI.wo (q := q0) (g2 := worldS g s0 q0) (h4w) (okS_world ho (by omega)) rfl rfl n45 (fun r c r0 r1 c0 c1 => by rw [i56_2 _ (by omega) (by omega)]; unfold worldS; rw [if_neg (by omega), if_pos (by omega)]; congr 1; omega) (fun i hi => by unfold worldS; rw [if_neg (by omega), if_neg (by omega)])).eq (by unfold worldG; rw [if_pos (by omega)]) (by unfold qP; rw [if_pos (by omega)]) rfl (by unfold qN; rw [if_pos (by omega)])⟩⟩
          · refine lv_lload X.x X.b dX0_worldTo_64 (lv_at hl 1 rfl) ?_
            have hx0 := lcg_in (s := s0) (by omega) k.toNat
            refine wz_ldc2 (n := 1103515245) X.x X.b X.own (X.t _ q483) rfl dX0_worldTo_66 ?_
            refine wz_lmul X.x X.b dX0_worldTo_69 ?_
            refine wz_ldc2 (n := 12345) X.x X.b X.own (X.t _ q484) rfl dX0_worldTo_70 ?_
            refine wz_ladd X.x X.b dX0_worldTo_73 ?_
            refine wz_ldc2 (n := 2147483648) X.x X.b X.own (X.t _ q485) rfl dX0_worldTo_74 ?_
            refine wz_lremp X.x X.b dX0_worldTo_77 (by omega) (by omega) (by omega) (by omega) ?_
            refine lv_lstore (lv' := [(5, .long (lI (((x9 * 1103515245) + 12345) % 2147483648))), (7, .int (zI k)), (4, .ref nq45), (3, .int (zI (g 0))), (0, .ref (ad 0)), (1, .int (zI s0)), (2, .int (zI q0))]) X.x X.b dX0_worldTo_78 hl (by decide) rfl (fun ls hl => ?_)
            refine lv_aload X.x X.b dX0_worldTo_80 (lv_at hl 2 rfl) ?_
            refine lv_iload X.x X.b dX0_worldTo_82 (lv_at hl 1 rfl) ?_
            refine lv_lload X.x X.b dX0_worldTo_84 (lv_at hl 0 rfl) ?_
            refine wz_ldc2 (n := 65536) X.x X.b X.own (X.t _ q486) rfl dX0_worldTo_86 ?_
            refine wz_ldivp X.x X.b dX0_worldTo_89 (by omega) (by omega) (by omega) (by omega) ?_
            refine wz_ldc2 (n := 64) X.x X.b X.own (X.t _ q487) rfl dX0_worldTo_90 ?_
            refine wz_lremp X.x X.b dX0_worldTo_93 (by omega) (by omega) (by omega) (by omega) ?_
            refine wz_l2i X.x X.b dX0_worldTo_94 ?_
            refine wa_iast (f := f9) X hH hS n45.2 (by omega) (by omega) (by omega) dX0_worldTo_95 (fun w95 H locs ew hH hS => ?_)
            have hOq : Off nq45 wl56 w95 := Off.rf.put ew
            have hk := Kp.init hn45 hN45 hOq
            have hX := hX_45.init hn45 hX hOq
            have hI := hI_45.kp hk
            have hPX := hPX_45.kp hk
            have hWY := hWY_45.kp hk
            have hNV := hNV_45.kp hk
            have hXJ := hXJ_45.kp hk
            have hK := hK_45.kp hk
            have hN45 := hk
            have n45 : Lc ad w95 nq45 (eI G (6 * q0).toNat (fup f9 k (((((x9 * 1103515245) + 12345) % 2147483648) / 65536) % 64))) := Lc.new hX_45 hn45 (by rw [ew]; exact wup_s)
            clear ew
            refine wz_iinc (k := 1) (lv' := [(7, .int (zI (k + 1))), (5, .long (lI (((x9 * 1103515245) + 12345) % 2147483648))), (4, .ref nq45), (3, .int (zI (g 0))), (0, .ref (ad 0)), (1, .int (zI s0)), (2, .int (zI q0))]) X.x X.b dX0_worldTo_96 hl rfl (by decide) rfl (fun ls hl => ?_)
            refine lv_goto (tgt := 56) X.x X.b dX0_worldTo_99 (by decide) ?_
            exact ih56 _ (by omega) (k + 1) (((x9 * 1103515245) + 12345) % 2147483648) (fup f9 k (((((x9 * 1103515245) + 12345) % 2147483648) / 65536) % 64)) rfl (by omega) (by rw [show (k + 1).toNat = k.toNat + 1 by omega, lcg, ← i56_1]) (by intro j j0 j1; by_cases z : j = k; (rw [z, fup_s]; unfold wv; rw [show (k + 1).toNat = k.toNat + 1 by omega, lcg, ← i56_1]); (rw [fup_n z]; exact i56_2 j j0 (by omega))) _ _ _ _ hX hK hI hPX hWY hNV hXJ hN45 n45 hH hS (lv_sub hl [0, 1, 2, 3, 4, 5, 6] rfl)
      exact L56 _ 0 s0 (fun _ => 0) rfl (by omega) (by rfl) (by intro j j0 j1; omega) _ _ _ _ hX hK hI hPX hWY hNV hXJ hN45 n45 hH hS (lv_sub hl [0, 1, 2, 3, 4, 5, 6] rfl)
    · have b20 : ¬ (12 ≤ q0 ∧ q0 ≤ 32) := b20
      refine wz_ifne (tgt := 29) X.x X.b dX0_worldTo_23 (by decide) (by decide) (fun h => absurd h (by decide)) (fun _ => ?_)
      refine wz_bipush X.x X.b dX0_worldTo_26 rfl ?_
      refine W.widen (k := 1) (n := 192) (by first | exact Nat.le_of_ble_eq_true rfl | omega) (by first | exact Nat.le_of_ble_eq_true rfl | omega) ?_
      exact wa_iret X hH hS dX0_worldTo_28 ⟨by unfold worldV; first | (rw [if_neg (by omega)]; done) | rw [if_pos (by omega)], ⟨_, _, _, _, hX, hK, hI.eq (by unfold worldG; rw [if_neg (by omega)]) (by unfold qP; rw [if_neg (by omega)]) rfl (by unfold qN; rw [if_neg (by omega)])⟩⟩
  · have b6 : ¬ (0 ≤ s0 ∧ s0 ≤ 999999) := b6
    refine wz_ifeq (tgt := 26) X.x X.b dX0_worldTo_9 (by decide) (by decide) (fun _ => ?_) (fun h => absurd h (by decide))
    refine wz_bipush X.x X.b dX0_worldTo_26 rfl ?_
    refine W.widen (k := 1) (n := 192) (by first | exact Nat.le_of_ble_eq_true rfl | omega) (by first | exact Nat.le_of_ble_eq_true rfl | omega) ?_
    exact wa_iret X hH hS dX0_worldTo_28 ⟨by unfold worldV; first | (rw [if_neg (by omega)]; done) | rw [if_pos (by omega)], ⟨_, _, _, _, hX, hK, hI.eq (by unfold worldG; rw [if_neg (by omega)]) (by unfold qP; rw [if_neg (by omega)]) rfl (by unfold qN; rw [if_neg (by omega)])⟩⟩
set_option maxRecDepth 100000 in
theorem mX0_dotsTo {lL : Launch} {G : wa_G} {ad : Nat → Nat} {w : wa_W} {S : Nat → Int} {A : Nat → Int → Int} {B : Nat → Int → Option Nat} {P : Nat → Option Nat} (hX : XW G ad w S A B P) {g : Int → Int} {past : Int → Int} {re : Int → Int} {tx : Int → Int} {st : Int} {ck : Int} {co : Int} {tl : Int} {qt : Int} (hI : XI G ad w S A B P g past re tx st ck co tl qt) (r : Int) (c : Int) (v : Int) (r_r : rI r) (r_c : rI c) (r_v : rI v) : Met lL yX0_dotsTo (ws_ yX0_dotsTo cX0_dotsTo 6 (some FieldType.int)) ({ frames := 3, cells := 1, slots := 192, locals := 142 } : Room) (wa_P G w [.ref (ad 0), .int (zI r), .int (zI c), .int (zI v)]) (wa_Qz G fun z u => z = dotsV g r c v ∧ ∃ (S2 : Nat → Int) (A2 : Nat → Int → Int) (B2 : Nat → Int → Option Nat) (P2 : Nat → Option Nat), XW G ad u S2 A2 B2 P2 ∧ Kp ad w u ∧ (XI G ad u S2 A2 B2 P2 (dotsG g r c v) (qP (okDots g r c v) qt past g st) re tx (qN (okDots g r c v) qt st) ck co tl qt)) 1 192 (wa_A G) := by
  refine wa_met (by decide) (by exact Nat.le_of_ble_eq_true rfl) ?_
  intro pP eE sS mM aA bB mT cC ls X hl hH
  have hS : va_S (wa_A G) sS.heap sS.heap [] := va_S.rf
  have hl : lv_has ls 6 [(0, .ref (ad 0)), (1, .int (zI r)), (2, .int (zI c)), (3, .int (zI v))] := hl
  have hK : Kp ad w w := Kp.rf
  have hI_0 := hI
  obtain ⟨ho, hST, hXJ, hRX⟩ := id hI
  have hmany := ho.many
  have hPX : PX G ad w (B 10) g := hST.2.2.1
  have hWY : WAYS G ad w (B 5) := hRX.1
  have hNV : NVX ad w P := hRX.2.1
  have hm : S 30 = g 3 := hST.1.2
  have hwd : S 20 = g 0 := hST.1.1
  have hg : A 10 0 = g 1 ∧ A 10 1 = g 2 := hST.2.1
  have hwide := ho.wide
  have hS0 : S 0 = st := hRX.2.2.2.1.1
  have hS1 : S 1 = qt := hRX.2.2.2.1.2.1
  have hS2 : S 2 = tl := hRX.2.2.2.1.2.2.1
  have hstr := hRX.2.2.2.2.2.2.2.1
  have htlr := hRX.2.2.2.2.2.2.2.2.1
  have hqt := hRX.2.2.2.2.2.2.2.2.2.1
  have hPX_0 := hPX
  have hWY_0 := hWY
  have hNV_0 := hNV
  have hXJ_0 := hXJ
  refine lv_aload_n X.x X.b dX0_dotsTo_0 rfl (lv_at hl 0 rfl) ?_
  refine lv_iload_n X.x X.b dX0_dotsTo_1 rfl (lv_at hl 1 rfl) ?_
  refine lv_iload_n X.x X.b dX0_dotsTo_2 rfl (lv_at hl 2 rfl) ?_
  refine wa_ci hS (wa_rV (rest := []) X hH (mX0_isDot hX  r c (show rI r by first | assumption | omega) (show rI c by first | assumption | omega) (show S 20 = 0 ∨ 12 ≤ S 20 ∧ S 20 ≤ 32 by first | assumption | omega)) (cwV 2 X.t (lw_V q508 q510 qs6 q109 q511) rfl rfl rfl hdX0_isDot ⟨Nat.le_of_ble_eq_true rfl, Nat.le_of_ble_eq_true rfl⟩) rfl (have h9 := (XW.c0 hX); h9) rfl rfl hl.1 rfl (Nat.le_of_ble_eq_true rfl) dX0_dotsTo_3 ⟨Nat.le_of_ble_eq_true rfl, Nat.le_of_ble_eq_true rfl⟩) (fun z w3 H locs hp hH hS => ?_)
  obtain ⟨hb, hw⟩ := hp
  rw [← hw] at hH; clear hw
  rcases hb with ⟨b3, rfl⟩ | ⟨b3, rfl⟩
  · have b3 : ((0 ≤ r ∧ r ≤ 5) ∧ 0 ≤ c ∧ c ≤ S 20 - 1) := b3
    refine wz_ifeq (tgt := 21) X.x X.b dX0_dotsTo_6 (by decide) (by decide) (fun h => absurd h (by decide)) (fun _ => ?_)
    refine lv_iload_n X.x X.b dX0_dotsTo_9 rfl (lv_at hl 3 rfl) ?_
    refine wz_i2l X.x X.b dX0_dotsTo_10 ⟨by omega, by omega⟩ ?_
    refine lv_lconst (v := lI 0) X.x X.b dX0_dotsTo_11 rfl ?_
    refine wz_ldc2 (n := 63) X.x X.b X.own (X.t _ q513) rfl dX0_dotsTo_12 ?_
    refine wa_ci hS (wa_rS (rest := []) X hH (mX0_in _  v 0 63 (show rL v by first | assumption | omega) (show rL 0 by first | assumption | omega) (show rL 63 by first | assumption | omega)) (va_cwS 3 X.t (lw_S q466 q467 q109 q468) rfl rfl rfl hdX0_in.2 ⟨Nat.le_of_ble_eq_true rfl, Nat.le_of_ble_eq_true rfl⟩) rfl rfl hl.1 rfl (Nat.le_of_ble_eq_true rfl) dX0_dotsTo_15 ⟨Nat.le_of_ble_eq_true rfl, Nat.le_of_ble_eq_true rfl⟩) (fun z w15 H locs hp hH hS => ?_)
    obtain ⟨hb, hw⟩ := hp
    rw [← hw] at hH; clear hw
    rcases hb with ⟨b15, rfl⟩ | ⟨b15, rfl⟩
    · have b15 : (0 ≤ v ∧ v ≤ 63) := b15
      refine wz_ifne (tgt := 24) X.x X.b dX0_dotsTo_18 (by decide) (by decide) (fun _ => ?_) (fun h => absurd h (by decide))
      refine lv_aload_n X.x X.b dX0_dotsTo_24 rfl (lv_at hl 0 rfl) ?_
      refine wa_cv hS (wa_rV (rest := []) X hH (mX0_leaves hX hI  ) (cwV 0 X.t (lw_V q471 q473 qs1 q109 q474) rfl rfl rfl hdX0_leaves ⟨Nat.le_of_ble_eq_true rfl, Nat.le_of_ble_eq_true rfl⟩) rfl (have h9 := (XW.c0 hX); h9) rfl rfl hl.1 rfl (Nat.le_of_ble_eq_true rfl) dX0_dotsTo_25 ⟨Nat.le_of_ble_eq_true rfl, Nat.le_of_ble_eq_true rfl⟩) (fun w25 H locs hp hH hS => ?_)
      obtain ⟨S2_25, A2_25, B2_25, P2_25, hX, hk, hx25_0, hx25_1⟩ := hp
      have hI := hI.kp hk
      have hPX := hPX.kp hk
      have hWY := hWY.kp hk
      have hNV := hNV.kp hk
      have hXJ := hXJ.kp hk
      have hK := hK.kp hk
      have hI := hx25_0
      obtain ⟨ho, hST, hXJ, hRX⟩ := id hI
      have hmany := ho.many
      have hPX : PX G ad w25 (B2_25 10) g := hST.2.2.1
      have hWY : WAYS G ad w25 (B2_25 5) := hRX.1
      have hNV : NVX ad w25 P2_25 := hRX.2.1
      have hm : S2_25 30 = g 3 := hST.1.2
      have hwd : S2_25 20 = g 0 := hST.1.1
      have hg : A2_25 10 0 = g 1 ∧ A2_25 10 1 = g 2 := hST.2.1
      have hwide := ho.wide
      have hS0 : S2_25 0 = (keepM qt st) := hRX.2.2.2.1.1
      have hS1 : S2_25 1 = qt := hRX.2.2.2.1.2.1
      have hS2 : S2_25 2 = tl := hRX.2.2.2.1.2.2.1
      have hstr := hRX.2.2.2.2.2.2.2.1
      have htlr := hRX.2.2.2.2.2.2.2.2.1
      have hqt := hRX.2.2.2.2.2.2.2.2.2.1
      have h4w := hx25_1
      obtain ⟨wa0, wf0, hwa0, fwo, hwf0⟩ := hST.wo (by omega)
      refine lv_aload_n X.x X.b dX0_dotsTo_28 rfl (lv_at hl 0 rfl) ?_
      refine wa_get (v := .ref (ad 1)) X hH (have h9 := (XW.c0 hX); h9) wcX0 0 (by decide) q417 rfl (fun _ h9 => h9) rfl dX0_dotsTo_29 ?_
      refine wa_getN (v := va_rf (P2_25 10)) X hH (have h9 := (XW.c1 hX); h9) wcX1 0 (by decide) q164 rfl (fun _ h9 => h9) rfl dX0_dotsTo_32 ?_
      refine wz_opt (q := some wa0) (by exact hwa0) ?_
      have hX_35 := hX
      have hK_35 := hK
      have hI_35 := hI
      have hPX_35 := hPX
      have hWY_35 := hWY
      have hNV_35 := hNV
      have hXJ_35 := hXJ
      have fwo_35 := fwo
      refine wa_clone (rest := []) (n := (6 * g 0).toNat) (f := wf0) X hH hS fwo.2 rfl q514 hl.1 (Nat.le_of_ble_eq_true rfl) (Nat.le_of_ble_eq_true rfl) (by dsimp only; omega) (by dsimp only; omega) dX0_dotsTo_35 (fun nq35 w35 H hn35 ew hH hS => ?_)
      have hk0 := Ext.new hn35 ew
      have hX := hX.ext hk0
      have hk := hk0.k (ad := ad)
      have hI := hI.kp hk
      have hPX := hPX.kp hk
      have hWY := hWY.kp hk
      have hNV := hNV.kp hk
      have hXJ := hXJ.kp hk
      have fwo := fwo.kp hk
      have hK := hK.kp hk
      have hN35 := hk
      have n35 : Lc ad w35 nq35 (eI G (6 * g 0).toNat wf0) := Lc.new hX_35 hn35 (by rw [ew]; exact wup_s)
      clear ew hk0
      refine wa_castI X hH n35.2 rfl q520 dX0_dotsTo_38 ?_
      refine lv_astore (lv' := [(4, .ref nq35), (0, .ref (ad 0)), (1, .int (zI r)), (2, .int (zI c)), (3, .int (zI v))]) X.x X.b dX0_dotsTo_41 hl (by decide) rfl (fun ls hl => ?_)
      refine lv_aload X.x X.b dX0_dotsTo_43 (lv_at hl 0 rfl) ?_
      refine wz_bipush X.x X.b dX0_dotsTo_45 rfl ?_
      refine lv_iload_n X.x X.b dX0_dotsTo_47 rfl (lv_at hl 3 rfl) ?_
      refine wz_imul X.x X.b dX0_dotsTo_48 ?_
      refine lv_iload_n X.x X.b dX0_dotsTo_49 rfl (lv_at hl 2 rfl) ?_
      refine wz_iadd X.x X.b dX0_dotsTo_50 ?_
      refine wa_iald (f := wf0) X hH n35.2 (by omega) (by omega) (by omega) dX0_dotsTo_51 ?_
      refine lv_istore (lv' := [(5, .int (zI (wf0 ((6 * c) + r)))), (4, .ref nq35), (0, .ref (ad 0)), (1, .int (zI r)), (2, .int (zI c)), (3, .int (zI v))]) X.x X.b dX0_dotsTo_52 hl (by decide) rfl (fun ls hl => ?_)
      refine lv_aload X.x X.b dX0_dotsTo_54 (lv_at hl 1 rfl) ?_
      refine wz_bipush X.x X.b dX0_dotsTo_56 rfl ?_
      refine lv_iload_n X.x X.b dX0_dotsTo_58 rfl (lv_at hl 4 rfl) ?_
      refine wz_imul X.x X.b dX0_dotsTo_59 ?_
      refine lv_iload_n X.x X.b dX0_dotsTo_60 rfl (lv_at hl 3 rfl) ?_
      refine wz_iadd X.x X.b dX0_dotsTo_61 ?_
      refine lv_iload_n X.x X.b dX0_dotsTo_62 rfl (lv_at hl 5 rfl) ?_
      refine wa_iast (f := wf0) X hH hS n35.2 (by omega) (by omega) (by omega) dX0_dotsTo_63 (fun w63 H locs ew hH hS => ?_)
      have hOq : Off nq35 w35 w63 := Off.rf.put ew
      have hk := Kp.init hn35 hN35 hOq
      have hX := hX_35.init hn35 hX hOq
      have hI := hI_35.kp hk
      have hPX := hPX_35.kp hk
      have hWY := hWY_35.kp hk
      have hNV := hNV_35.kp hk
      have hXJ := hXJ_35.kp hk
      have fwo := fwo_35.kp hk
      have hK := hK_35.kp hk
      have hN35 := hk
      have n35 : Lc ad w63 nq35 (eI G (6 * g 0).toNat (fup wf0 ((6 * c) + r) v)) := Lc.new hX_35 hn35 (by rw [ew]; exact wup_s)
      clear ew
      refine lv_aload_n X.x X.b dX0_dotsTo_64 rfl (lv_at hl 2 rfl) ?_
      refine wa_get (v := .ref (ad 1)) X hH (have h9 := (XW.c0 hX); h9) wcX0 0 (by decide) q417 rfl (fun _ h9 => h9) rfl dX0_dotsTo_65 ?_
      refine lv_aload X.x X.b dX0_dotsTo_68 (lv_at hl 1 rfl) ?_
      refine wa_putN X hH hS (have h9 := (XW.c1 hX); h9) wcX1 0 (by decide) q164 rfl (fun _ h9 => h9) rfl rfl rfl (Nat.le_of_ble_eq_true rfl) dX0_dotsTo_70 (fun w70 H locs ew hH hS => ?_)
      have hk : Kp ad w63 w70 := Kp.set (i := 1) (by omega) ew
      have hX := hX.sP (i := 1) (10) (x := some nq35) (by unfold oP; omega) ew
      have hI := hI.kp hk
      have hPX := hPX.kp hk
      have hWY := hWY.kp hk
      have hNV := hNV.kp hk
      have hXJ := hXJ.kp hk
      have fwo := fwo.kp hk
      have hN35 := hN35.kp hk
      have n35 := n35.kp hk
      have hK := hK.kp hk
      clear ew
      refine lv_iload X.x X.b dX0_dotsTo_73 (lv_at hl 0 rfl) ?_
      refine W.widen (k := 1) (n := 192) (by first | exact Nat.le_of_ble_eq_true rfl | omega) (by first | exact Nat.le_of_ble_eq_true rfl | omega) ?_
      exact wa_iret X hH hS dX0_dotsTo_75 ⟨by unfold dotsV; first | (rw [if_neg (by omega)]; done) | (rw [if_pos (by omega)]; exact hwf0 r c (by omega) (by omega) (by omega) (by omega)), ⟨_, _, _, _, hX, hK, ((hI.wo (q := g 0) (g2 := fup g (4 + 32 * r + c) v) (h4w) (okS_up ho (by omega) (by omega) (by omega)) (fup_n (by omega)) rfl n35 (fun r9 c9 r0 r1 c0 c1 => by
      by_cases z : 6 * c9 + r9 = 6 * c + r
      · rw [z, fup_s, show 4 + 32 * r9 + c9 = 4 + 32 * r + c by omega, fup_s]
      · rw [fup_n z, fup_n (by omega)]; exact hwf0 r9 c9 r0 r1 c0 c1) (fun i hi => fup_n (by omega))).s20 hwd).eq (by unfold dotsG; rw [if_pos (by omega)]) (by unfold qP; rw [if_pos (by omega)]) rfl (by unfold qN; rw [if_pos (by omega)])⟩⟩
    · have b15 : ¬ (0 ≤ v ∧ v ≤ 63) := b15
      refine wz_ifne (tgt := 24) X.x X.b dX0_dotsTo_18 (by decide) (by decide) (fun h => absurd h (by decide)) (fun _ => ?_)
      refine wz_bipush X.x X.b dX0_dotsTo_21 rfl ?_
      refine W.widen (k := 1) (n := 192) (by first | exact Nat.le_of_ble_eq_true rfl | omega) (by first | exact Nat.le_of_ble_eq_true rfl | omega) ?_
      exact wa_iret X hH hS dX0_dotsTo_23 ⟨by unfold dotsV; first | (rw [if_neg (by omega)]; done) | (rw [if_pos (by omega)]; exact hwf0 r c (by omega) (by omega) (by omega) (by omega)), ⟨_, _, _, _, hX, hK, hI.eq (by unfold dotsG; rw [if_neg (by omega)]) (by unfold qP; rw [if_neg (by omega)]) rfl (by unfold qN; rw [if_neg (by omega)])⟩⟩
  · have b3 : ¬ ((0 ≤ r ∧ r ≤ 5) ∧ 0 ≤ c ∧ c ≤ S 20 - 1) := b3
    refine wz_ifeq (tgt := 21) X.x X.b dX0_dotsTo_6 (by decide) (by decide) (fun _ => ?_) (fun h => absurd h (by decide))
    refine wz_bipush X.x X.b dX0_dotsTo_21 rfl ?_
    refine W.widen (k := 1) (n := 192) (by first | exact Nat.le_of_ble_eq_true rfl | omega) (by first | exact Nat.le_of_ble_eq_true rfl | omega) ?_
    exact wa_iret X hH hS dX0_dotsTo_23 ⟨by unfold dotsV; first | (rw [if_neg (by omega)]; done) | (rw [if_pos (by omega)]; exact hwf0 r c (by omega) (by omega) (by omega) (by omega)), ⟨_, _, _, _, hX, hK, hI.eq (by unfold dotsG; rw [if_neg (by omega)]) (by unfold qP; rw [if_neg (by omega)]) rfl (by unfold qN; rw [if_neg (by omega)])⟩⟩
set_option maxRecDepth 100000 in
theorem mX0_shotTo {lL : Launch} {G : wa_G} {ad : Nat → Nat} {w : wa_W} {S : Nat → Int} {A : Nat → Int → Int} {B : Nat → Int → Option Nat} {P : Nat → Option Nat} (hX : XW G ad w S A B P) {g : Int → Int} {past : Int → Int} {re : Int → Int} {tx : Int → Int} {st : Int} {ck : Int} {co : Int} {tl : Int} {qt : Int} (hI : XI G ad w S A B P g past re tx st ck co tl qt) (x : Int) (y : Int) (d : Int) (r_x : rI x) (r_y : rI y) (r_d : rI d) : Met lL yX0_shotTo (ws_ yX0_shotTo cX0_shotTo 7 (some FieldType.int)) ({ frames := 3, cells := 2, slots := 36, locals := 142 } : Room) (wa_P G w [.ref (ad 0), .int (zI x), .int (zI y), .int (zI d)]) (wa_Qz G fun z u => z = shotV g x y d ∧ ∃ (S2 : Nat → Int) (A2 : Nat → Int → Int) (B2 : Nat → Int → Option Nat) (P2 : Nat → Option Nat), XW G ad u S2 A2 B2 P2 ∧ Kp ad w u ∧ (XI G ad u S2 A2 B2 P2 (shotG g x y d) (qP (¬ canS g x y d < 0) qt past g st) re tx (qN (¬ canS g x y d < 0) qt st) ck co tl qt)) 2 36 (wa_A G) := by
  refine wa_met (by decide) (by exact Nat.le_of_ble_eq_true rfl) ?_
  intro pP eE sS mM aA bB mT cC ls X hl hH
  have hS : va_S (wa_A G) sS.heap sS.heap [] := va_S.rf
  have hl : lv_has ls 7 [(0, .ref (ad 0)), (1, .int (zI x)), (2, .int (zI y)), (3, .int (zI d))] := hl
  have hK : Kp ad w w := Kp.rf
  have hI_0 := hI
  obtain ⟨ho, hST, hXJ, hRX⟩ := id hI
  have hmany := ho.many
  have hPX : PX G ad w (B 10) g := hST.2.2.1
  have hWY : WAYS G ad w (B 5) := hRX.1
  have hNV : NVX ad w P := hRX.2.1
  have hm : S 30 = g 3 := hST.1.2
  have hwd : S 20 = g 0 := hST.1.1
  have hg : A 10 0 = g 1 ∧ A 10 1 = g 2 := hST.2.1
  have hwide := ho.wide
  have hS0 : S 0 = st := hRX.2.2.2.1.1
  have hS1 : S 1 = qt := hRX.2.2.2.1.2.1
  have hS2 : S 2 = tl := hRX.2.2.2.1.2.2.1
  have hstr := hRX.2.2.2.2.2.2.2.1
  have htlr := hRX.2.2.2.2.2.2.2.2.1
  have hqt := hRX.2.2.2.2.2.2.2.2.2.1
  have hPX_0 := hPX
  have hWY_0 := hWY
  have hNV_0 := hNV
  have hXJ_0 := hXJ
  refine lv_iload_n X.x X.b dX0_shotTo_0 rfl (lv_at hl 1 rfl) ?_
  refine wz_i2l X.x X.b dX0_shotTo_1 ⟨by omega, by omega⟩ ?_
  refine lv_lconst (v := lI 0) X.x X.b dX0_shotTo_2 rfl ?_
  refine lv_aload_n X.x X.b dX0_shotTo_3 rfl (lv_at hl 0 rfl) ?_
  refine wa_get (v := .ref (ad 1)) X hH (have h9 := (XW.c0 hX); h9) wcX0 0 (by decide) q417 rfl (fun _ h9 => h9) rfl dX0_shotTo_4 ?_
  refine wa_getN (v := .int (zI (S 20))) X hH (have h9 := (XW.c1 hX); h9) wcX1 1 (by decide) q166 rfl (fun _ h9 => h9) rfl dX0_shotTo_7 ?_
  refine wz_iconst X.x X.b dX0_shotTo_10 ?_
  refine wz_isub X.x X.b dX0_shotTo_11 ?_
  refine wz_i2l X.x X.b dX0_shotTo_12 ⟨by omega, by omega⟩ ?_
  refine wa_ci hS (wa_rS (rest := []) X hH (mX0_in _  x 0 ((S 20) - 1) (show rL x by first | assumption | omega) (show rL 0 by first | assumption | omega) (show rL ((S 20) - 1) by first | assumption | omega)) (va_cwS 3 X.t (lw_S q466 q467 q109 q468) rfl rfl rfl hdX0_in.2 ⟨Nat.le_of_ble_eq_true rfl, Nat.le_of_ble_eq_true rfl⟩) rfl rfl hl.1 rfl (Nat.le_of_ble_eq_true rfl) dX0_shotTo_13 ⟨Nat.le_of_ble_eq_true rfl, Nat.le_of_ble_eq_true rfl⟩) (fun z w13 H locs hp hH hS => ?_)
  obtain ⟨hb, hw⟩ := hp
  rw [← hw] at hH; clear hw
  rcases hb with ⟨b13, rfl⟩ | ⟨b13, rfl⟩
  · have b13 : (0 ≤ x ∧ x ≤ ((S 20) - 1)) := b13
    refine wz_ifeq (tgt := 45) X.x X.b dX0_shotTo_16 (by decide) (by decide) (fun h => absurd h (by decide)) (fun _ => ?_)
    refine lv_iload_n X.x X.b dX0_shotTo_19 rfl (lv_at hl 2 rfl) ?_
    refine wz_i2l X.x X.b dX0_shotTo_20 ⟨by omega, by omega⟩ ?_
    refine lv_lconst (v := lI 0) X.x X.b dX0_shotTo_21 rfl ?_
    refine wz_ldc2 (n := 2) X.x X.b X.own (X.t _ q529) rfl dX0_shotTo_22 ?_
    refine wa_ci hS (wa_rS (rest := []) X hH (mX0_in _  y 0 2 (show rL y by first | assumption | omega) (show rL 0 by first | assumption | omega) (show rL 2 by first | assumption | omega)) (va_cwS 3 X.t (lw_S q466 q467 q109 q468) rfl rfl rfl hdX0_in.2 ⟨Nat.le_of_ble_eq_true rfl, Nat.le_of_ble_eq_true rfl⟩) rfl rfl hl.1 rfl (Nat.le_of_ble_eq_true rfl) dX0_shotTo_25 ⟨Nat.le_of_ble_eq_true rfl, Nat.le_of_ble_eq_true rfl⟩) (fun z w25 H locs hp hH hS => ?_)
    obtain ⟨hb, hw⟩ := hp
    rw [← hw] at hH; clear hw
    rcases hb with ⟨b25, rfl⟩ | ⟨b25, rfl⟩
    · have b25 : (0 ≤ y ∧ y ≤ 2) := b25
      refine wz_ifeq (tgt := 45) X.x X.b dX0_shotTo_28 (by decide) (by decide) (fun h => absurd h (by decide)) (fun _ => ?_)
      refine lv_iload_n X.x X.b dX0_shotTo_31 rfl (lv_at hl 3 rfl) ?_
      refine wz_i2l X.x X.b dX0_shotTo_32 ⟨by omega, by omega⟩ ?_
      refine wz_ldc2 (n := (-20)) X.x X.b X.own (X.t _ q530) rfl dX0_shotTo_33 ?_
      refine wz_ldc2 (n := 20) X.x X.b X.own (X.t _ q531) rfl dX0_shotTo_36 ?_
      refine wa_ci hS (wa_rS (rest := []) X hH (mX0_in _  d (-20) 20 (show rL d by first | assumption | omega) (show rL (-20) by first | assumption | omega) (show rL 20 by first | assumption | omega)) (va_cwS 3 X.t (lw_S q466 q467 q109 q468) rfl rfl rfl hdX0_in.2 ⟨Nat.le_of_ble_eq_true rfl, Nat.le_of_ble_eq_true rfl⟩) rfl rfl hl.1 rfl (Nat.le_of_ble_eq_true rfl) dX0_shotTo_39 ⟨Nat.le_of_ble_eq_true rfl, Nat.le_of_ble_eq_true rfl⟩) (fun z w39 H locs hp hH hS => ?_)
      obtain ⟨hb, hw⟩ := hp
      rw [← hw] at hH; clear hw
      rcases hb with ⟨b39, rfl⟩ | ⟨b39, rfl⟩
      · have b39 : ((-20) ≤ d ∧ d ≤ 20) := b39
        refine wz_ifne (tgt := 48) X.x X.b dX0_shotTo_42 (by decide) (by decide) (fun _ => ?_) (fun h => absurd h (by decide))
        refine lv_aload_n X.x X.b dX0_shotTo_48 rfl (lv_at hl 0 rfl) ?_
        refine wa_get (v := .ref (ad 1)) X hH (have h9 := (XW.c0 hX); h9) wcX0 0 (by decide) q417 rfl (fun _ h9 => h9) rfl dX0_shotTo_49 ?_
        refine wa_getN (v := .int (zI (S 30))) X hH (have h9 := (XW.c1 hX); h9) wcX1 3 (by decide) q172 rfl (fun _ h9 => h9) rfl dX0_shotTo_52 ?_
        refine wz_bipush X.x X.b dX0_shotTo_55 rfl ?_
        refine wz_icmp_ne (tgt := 63) X.x X.b dX0_shotTo_57 (by decide) ⟨by omega, by omega⟩ ⟨by omega, by omega⟩ (fun c57 => ?_) (fun c57 => ?_)
        · have hcs : ¬ canS g x y d < 0 := by unfold canS; rw [if_neg (by omega), if_neg (by omega)]; decide
          have hcz : canS g x y d = 0 := by unfold canS; rw [if_neg (by omega), if_neg (by omega)]
          refine lv_aload_n X.x X.b dX0_shotTo_63 rfl (lv_at hl 0 rfl) ?_
          refine wa_cv hS (wa_rV (rest := []) X hH (mX0_leaves hX hI  ) (cwV 0 X.t (lw_V q471 q473 qs1 q109 q474) rfl rfl rfl hdX0_leaves ⟨Nat.le_of_ble_eq_true rfl, Nat.le_of_ble_eq_true rfl⟩) rfl (have h9 := (XW.c0 hX); h9) rfl rfl hl.1 rfl (Nat.le_of_ble_eq_true rfl) dX0_shotTo_64 ⟨Nat.le_of_ble_eq_true rfl, Nat.le_of_ble_eq_true rfl⟩) (fun w64 H locs hp hH hS => ?_)
          obtain ⟨S2_64, A2_64, B2_64, P2_64, hX, hk, hx64_0, hx64_1⟩ := hp
          have hI := hI.kp hk
          have hPX := hPX.kp hk
          have hWY := hWY.kp hk
          have hNV := hNV.kp hk
          have hXJ := hXJ.kp hk
          have hK := hK.kp hk
          have hI := hx64_0
          obtain ⟨ho, hST, hXJ, hRX⟩ := id hI
          have hmany := ho.many
          have hPX : PX G ad w64 (B2_64 10) g := hST.2.2.1
          have hWY : WAYS G ad w64 (B2_64 5) := hRX.1
          have hNV : NVX ad w64 P2_64 := hRX.2.1
          have hm : S2_64 30 = g 3 := hST.1.2
          have hwd : S2_64 20 = g 0 := hST.1.1
          have hg : A2_64 10 0 = g 1 ∧ A2_64 10 1 = g 2 := hST.2.1
          have hwide := ho.wide
          have hS0 : S2_64 0 = (keepM qt st) := hRX.2.2.2.1.1
          have hS1 : S2_64 1 = qt := hRX.2.2.2.1.2.1
          have hS2 : S2_64 2 = tl := hRX.2.2.2.1.2.2.1
          have hstr := hRX.2.2.2.2.2.2.2.1
          have htlr := hRX.2.2.2.2.2.2.2.2.1
          have hqt := hRX.2.2.2.2.2.2.2.2.2.1
          have h4w := hx64_1
          obtain ⟨wa0, wf0, hwa0, fwo, hwf0⟩ := hST.wo (by omega)
          refine wz_bipush X.x X.b dX0_shotTo_67 rfl ?_
          have hX_69 := hX
          have hK_69 := hK
          have hI_69 := hI
          have hPX_69 := hPX
          have hWY_69 := hWY
          have hNV_69 := hNV
          have hXJ_69 := hXJ
          have fwo_69 := fwo
          refine wa_newi (n := 32) (N := 32) X hH hS q187 rfl (by decide) (Nat.le_of_ble_eq_true rfl) (Nat.le_of_ble_eq_true rfl) dX0_shotTo_69 (fun nq69 w69 H hn69 ew hH hS => ?_)
          have hk0 := Ext.new hn69 ew
          have hX := hX.ext hk0
          have hk := hk0.k (ad := ad)
          have hI := hI.kp hk
          have hPX := hPX.kp hk
          have hWY := hWY.kp hk
          have hNV := hNV.kp hk
          have hXJ := hXJ.kp hk
          have fwo := fwo.kp hk
          have hK := hK.kp hk
          have hN69 := hk
          have n69 : Lc ad w69 nq69 (eI G 32 (fun _ => 0)) := Lc.new hX_69 hn69 (by rw [ew]; exact wup_s)
          clear ew hk0
          refine lv_astore (lv' := [(4, .ref nq69), (0, .ref (ad 0)), (1, .int (zI x)), (2, .int (zI y)), (3, .int (zI d))]) X.x X.b dX0_shotTo_71 hl (by decide) rfl (fun ls hl => ?_)
          refine wz_iconst X.x X.b dX0_shotTo_73 ?_
          refine lv_istore (lv' := [(5, .int (zI 0)), (4, .ref nq69), (0, .ref (ad 0)), (1, .int (zI x)), (2, .int (zI y)), (3, .int (zI d))]) X.x X.b dX0_shotTo_74 hl (by decide) rfl (fun ls hl => ?_)
          have L76 : ∀ (nn : Nat) (k : Int) (f9 : Int → Int), ((32 - k).toNat) = nn → (0 ≤ k ∧ k ≤ 32) → (∀ o, 0 ≤ o → o < k → f9 o = shotC g x y d o) → ∀ (wl76 : wa_W) (H : Heap) (locs : List Loc) (ls : Array Slot), XW G ad wl76 S2_64 A2_64 B2_64 P2_64 → Kp ad w wl76 → XI G ad wl76 S2_64 A2_64 B2_64 P2_64 g (keepQ qt past g st) re tx (keepM qt st) ck co tl qt → PX G ad wl76 (B2_64 10) g → WAYS G ad wl76 (B2_64 5) → NVX ad wl76 P2_64 → XJ G ad wl76 S2_64 A2_64 B2_64 P2_64 g → Lc ad wl76 wa0 (eI G (6 * g 0).toNat wf0) → Kp ad w64 wl76 → Lc ad wl76 nq69 (eI G 32 f9) → wa_H G wl76 H → va_S (wa_A G) sS.heap H locs → lv_has ls 7 [(5, .int (zI k)), (4, .ref nq69), (0, .ref (ad 0)), (1, .int (zI x)), (2, .int (zI y)), (3, .int (zI d))] → W pP lL eE ({ frames := 3, cells := 2, slots := 36, locals := 142 } : Room) sS mM aA bB mT cC H locs (0 + 1) (0 + 32) (MQ bB (wa_Qz G fun z u => z = shotV g x y d ∧ ∃ (S2 : Nat → Int) (A2 : Nat → Int → Int) (B2 : Nat → Int → Option Nat) (P2 : Nat → Option Nat), XW G ad u S2 A2 B2 P2 ∧ Kp ad w u ∧ (XI G ad u S2 A2 B2 P2 (shotG g x y d) (qP (¬ canS g x y d < 0) qt past g st) re tx (qN (¬ canS g x y d < 0) qt st) ck co tl qt)) aA sS 2 36 (wa_A G)) (F0 mM 76 ls []) := by
            intro nn
            induction nn using Nat.strongRecOn with
            | ind nn ih76 =>
              intro k f9 hmu76 i76_0 i76_1 wl76 H locs ls hX hK hI hPX hWY hNV hXJ fwo hN69 n69 hH hS hl
              refine lv_iload X.x X.b dX0_shotTo_76 (lv_at hl 0 rfl) ?_
              refine lv_aload X.x X.b dX0_shotTo_78 (lv_at hl 1 rfl) ?_
              refine wa_alen X hH n69.2 dX0_shotTo_80 ?_
              refine wz_icmp_ge (tgt := 141) X.x X.b dX0_shotTo_81 (by decide) ⟨by omega, by omega⟩ ⟨by omega, by omega⟩ (fun c81 => ?_) (fun c81 => ?_)
              · refine lv_aload_n X.x X.b dX0_shotTo_141 rfl (lv_at hl 2 rfl) ?_
                refine wa_get (v := .ref (ad 1)) X hH (have h9 := (XW.c0 hX); h9) wcX0 0 (by decide) q417 rfl (fun _ h9 => h9) rfl dX0_shotTo_142 ?_
                refine wa_getN (v := .ref (ad 2)) X hH (have h9 := (XW.c1 hX); h9) wcX1 2 (by decide) q169 rfl (fun _ h9 => h9) rfl dX0_shotTo_145 ?_
                refine lv_aload_n X.x X.b dX0_shotTo_148 rfl (lv_at hl 2 rfl) ?_
                refine wa_get (v := .ref (ad 1)) X hH (have h9 := (XW.c0 hX); h9) wcX0 0 (by decide) q417 rfl (fun _ h9 => h9) rfl dX0_shotTo_149 ?_
                refine wa_getN (v := .int (zI (S2_64 30))) X hH (have h9 := (XW.c1 hX); h9) wcX1 3 (by decide) q172 rfl (fun _ h9 => h9) rfl dX0_shotTo_152 ?_
                refine wz_is (z := g 3) (by rw [hm]) ?_
                have hX_155 := hX
                have hK_155 := hK
                have hI_155 := hI
                have hPX_155 := hPX
                have hWY_155 := hWY
                have hNV_155 := hNV
                have hXJ_155 := hXJ
                have fwo_155 := fwo
                have hN69_155 := hN69
                have n69_155 := n69
                refine wa_new X hH hS wcX8 rfl q541 q542 q126 [.null, .int (zI 0), .int (zI 0), .int (zI 0)] (by decide) (Nat.le_of_ble_eq_true rfl) (Nat.le_of_ble_eq_true rfl) dX0_shotTo_155 (fun nq155 w155 H hn155 ew hH hS => ?_)
                have hk0 := Ext.new hn155 ew
                have hX := hX.ext hk0
                have hk := hk0.k (ad := ad)
                have hI := hI.kp hk
                have hPX := hPX.kp hk
                have hWY := hWY.kp hk
                have hNV := hNV.kp hk
                have hXJ := hXJ.kp hk
                have fwo := fwo.kp hk
                have hN69 := hN69.kp hk
                have n69 := n69.kp hk
                have hK := hK.kp hk
                have hN155 := hk
                have n155 : Lc ad w155 nq155 (eO 8 [.null, .int (zI 0), .int (zI 0), .int (zI 0)]) := Lc.new hX_155 hn155 (by rw [ew]; exact wup_s)
                clear ew hk0
                refine lv_dup X.x X.b dX0_shotTo_158 rfl ?_
                refine lv_aload X.x X.b dX0_shotTo_159 (lv_at hl 1 rfl) ?_
                refine lv_iload_n X.x X.b dX0_shotTo_161 rfl (lv_at hl 3 rfl) ?_
                refine lv_iload_n X.x X.b dX0_shotTo_162 rfl (lv_at hl 4 rfl) ?_
                refine lv_aload_n X.x X.b dX0_shotTo_163 rfl (lv_at hl 2 rfl) ?_
                refine wa_get (v := .ref (ad 1)) X hH (have h9 := (XW.c0 hX); h9) wcX0 0 (by decide) q417 rfl (fun _ h9 => h9) rfl dX0_shotTo_164 ?_
                refine wa_getN (v := .int (zI (S2_64 20))) X hH (have h9 := (XW.c1 hX); h9) wcX1 1 (by decide) q166 rfl (fun _ h9 => h9) rfl dX0_shotTo_167 ?_
                refine wz_is (z := g 0) (by rw [hwd]) ?_
                refine wa_cv hS (wa_rI (rest := [.ref nq155, .int (zI (g 3)), .ref (ad 2)]) X hH (mX8_init  (show At w155 nq155 (eO 8 [.null, .int (zI 0), .int (zI 0), .int (zI 0)]) from n155.2) x y (g 0) ) (cwI 4 X.t (lw_meth q545) rfl rfl rfl (X.t _ q126) (X.t _ q543) (X.t _ q544) rfl hdX8_init.2 ⟨Nat.le_of_ble_eq_true rfl, Nat.le_of_ble_eq_true rfl⟩) rfl rfl hl.1 rfl (Nat.le_of_ble_eq_true rfl) dX0_shotTo_170 ⟨Nat.le_of_ble_eq_true rfl, Nat.le_of_ble_eq_true rfl⟩) (fun w170 H locs hp hH hS => ?_)
                obtain ⟨hi, hO2⟩ := hp
                have hOq := hO2
                have hk := Kp.init hn155 hN155 hOq
                have hX := hX_155.init hn155 hX hOq
                have hI := hI_155.kp hk
                have hPX := hPX_155.kp hk
                have hWY := hWY_155.kp hk
                have hNV := hNV_155.kp hk
                have hXJ := hXJ_155.kp hk
                have fwo := fwo_155.kp hk
                have hN69 := hN69_155.kp hk
                have n69 := n69_155.kp hk
                have hK := hK_155.kp hk
                have hN155 := hk
                have n155 : Lc ad w170 nq155 (eO 8 [.ref nq69, .int (zI x), .int (zI y), .int (zI (g 0))]) := Lc.new hX_155 hn155 hi
                refine wa_aast (k := 2) (f := B2_64 10) X hH hS (have h9 := (XW.c2 hX); h9) rfl (wa_any X hH n155.2 rfl) (by omega) (by omega) (by omega) dX0_shotTo_173 (fun w173 H locs ew hH hS => ?_)
                have hk : Kp ad w170 w173 := Kp.set (i := 2) (by omega) ew
                have hX := hX.sB (i := 2) (10) (x := fupR (B2_64 10) (g 3) (some nq155)) (by unfold oB; omega) ew
                have hI := hI.kp hk
                have hPX := hPX.kp hk
                have hWY := hWY.kp hk
                have hNV := hNV.kp hk
                have hXJ := hXJ.kp hk
                have fwo := fwo.kp hk
                have hN69 := hN69.kp hk
                have n69 := n69.kp hk
                have hN155 := hN155.kp hk
                have n155 := n155.kp hk
                have hK := hK.kp hk
                clear ew
                refine lv_aload_n X.x X.b dX0_shotTo_174 rfl (lv_at hl 2 rfl) ?_
                refine wa_get (v := .ref (ad 1)) X hH (have h9 := (XW.c0 hX); h9) wcX0 0 (by decide) q417 rfl (fun _ h9 => h9) rfl dX0_shotTo_175 ?_
                refine lv_dup X.x X.b dX0_shotTo_178 rfl ?_
                refine wa_getN (v := .int (zI (S2_64 30))) X hH (have h9 := (XW.c1 hX); h9) wcX1 3 (by decide) q172 rfl (fun _ h9 => h9) rfl dX0_shotTo_179 ?_
                refine wz_is (z := g 3) (by rw [hm]) ?_
                refine wz_iconst X.x X.b dX0_shotTo_182 ?_
                refine wz_iadd X.x X.b dX0_shotTo_183 ?_
                refine wa_putN X hH hS (have h9 := (XW.c1 hX); h9) wcX1 3 (by decide) q172 rfl (fun _ h9 => h9) rfl rfl rfl (Nat.le_of_ble_eq_true rfl) dX0_shotTo_184 (fun w184 H locs ew hH hS => ?_)
                have hk : Kp ad w173 w184 := Kp.set (i := 1) (by omega) ew
                have hX := hX.sS (i := 1) (30) (x := (g 3) + 1) (by unfold oS; omega) ew
                have hI := hI.kp hk
                have hPX := hPX.kp hk
                have hWY := hWY.kp hk
                have hNV := hNV.kp hk
                have hXJ := hXJ.kp hk
                have fwo := fwo.kp hk
                have hN69 := hN69.kp hk
                have n69 := n69.kp hk
                have hN155 := hN155.kp hk
                have n155 := n155.kp hk
                have hK := hK.kp hk
                clear ew
                refine lv_aload_n X.x X.b dX0_shotTo_187 rfl (lv_at hl 2 rfl) ?_
                refine wa_get (v := .ref (ad 1)) X hH (have h9 := (XW.c0 hX); h9) wcX0 0 (by decide) q417 rfl (fun _ h9 => h9) rfl dX0_shotTo_188 ?_
                refine wa_getN (v := .int (zI ((g 3) + 1))) X hH (have h9 := (XW.c1 hX); h9) wcX1 3 (by decide) q172 rfl (fun _ h9 => h9) rfl dX0_shotTo_191 ?_
                refine wz_iconst X.x X.b dX0_shotTo_194 ?_
                refine wz_isub X.x X.b dX0_shotTo_195 ?_
                refine W.widen (k := 2) (n := 36) (by first | exact Nat.le_of_ble_eq_true rfl | omega) (by first | exact Nat.le_of_ble_eq_true rfl | omega) ?_
                exact wa_iret X hH hS dX0_shotTo_196 ⟨by unfold shotV; first | (rw [if_neg hcs]; omega) | (rw [if_pos hcs]; unfold canS; first | rw [if_pos (by omega)] | rw [if_neg (by omega), if_pos (by omega)]), ⟨_, _, _, _, hX, hK, (hI.px (m := g 3 + 1) (g2 := shotS g x y d) h4w (okS_shot ho hcz) (if_pos rfl) (px_shot ⟨by omega, by omega⟩ hPX (fun o o0 o1 => i76_1 o o0 (by omega)) ⟨n155, n69⟩) (hI.2.1.2.2.2.1.up n155) (fun i i0 i1 i2 => by unfold shotS; rw [if_neg i2, if_neg (by omega), if_neg (by omega), if_neg (by omega), if_neg (by omega)])).eq (by unfold shotG; rw [if_neg hcs]) (by unfold qP; rw [if_pos hcs]) rfl (by unfold qN; rw [if_pos hcs])⟩⟩
              · refine lv_iload_n X.x X.b dX0_shotTo_84 rfl (lv_at hl 3 rfl) ?_
                refine lv_iload X.x X.b dX0_shotTo_85 (lv_at hl 0 rfl) ?_
                refine wz_bipush X.x X.b dX0_shotTo_87 rfl ?_
                refine wz_iremp X.x X.b dX0_shotTo_89 (by omega) (by omega) (by omega) (by omega) ?_
                refine wz_iadd X.x X.b dX0_shotTo_90 ?_
                refine lv_aload_n X.x X.b dX0_shotTo_91 rfl (lv_at hl 2 rfl) ?_
                refine wa_get (v := .ref (ad 1)) X hH (have h9 := (XW.c0 hX); h9) wcX0 0 (by decide) q417 rfl (fun _ h9 => h9) rfl dX0_shotTo_92 ?_
                refine wa_getN (v := .int (zI (S2_64 20))) X hH (have h9 := (XW.c1 hX); h9) wcX1 1 (by decide) q166 rfl (fun _ h9 => h9) rfl dX0_shotTo_95 ?_
                refine wz_is (z := g 0) (by rw [hwd]) ?_
                refine wz_iremp X.x X.b dX0_shotTo_98 (by omega) (by omega) (by omega) (by omega) ?_
                refine wz_top (fun c9 ec9 => ?_)
                have hc9 : 0 ≤ c9 ∧ c9 < g 0 := by rw [ec9]; exact ⟨Int.emod_nonneg _ (by omega), Int.emod_lt_of_pos _ (by omega)⟩
                refine lv_istore (lv' := [(6, .int (zI c9)), (5, .int (zI k)), (4, .ref nq69), (0, .ref (ad 0)), (1, .int (zI x)), (2, .int (zI y)), (3, .int (zI d))]) X.x X.b dX0_shotTo_99 hl (by decide) rfl (fun ls hl => ?_)
                refine lv_aload X.x X.b dX0_shotTo_101 (lv_at hl 2 rfl) ?_
                refine lv_iload X.x X.b dX0_shotTo_103 (lv_at hl 1 rfl) ?_
                refine lv_aload_n X.x X.b dX0_shotTo_105 rfl (lv_at hl 3 rfl) ?_
                refine wa_get (v := .ref (ad 1)) X hH (have h9 := (XW.c0 hX); h9) wcX0 0 (by decide) q417 rfl (fun _ h9 => h9) rfl dX0_shotTo_106 ?_
                refine wa_getN (v := va_rf (P2_64 10)) X hH (have h9 := (XW.c1 hX); h9) wcX1 0 (by decide) q164 rfl (fun _ h9 => h9) rfl dX0_shotTo_109 ?_
                refine wz_opt (q := some wa0) (by exact hwa0) ?_
                refine wz_bipush X.x X.b dX0_shotTo_112 rfl ?_
                refine lv_iload X.x X.b dX0_shotTo_114 (lv_at hl 0 rfl) ?_
                refine wz_imul X.x X.b dX0_shotTo_116 ?_
                refine lv_iload_n X.x X.b dX0_shotTo_117 rfl (lv_at hl 5 rfl) ?_
                refine wz_iadd X.x X.b dX0_shotTo_118 ?_
                refine lv_iload X.x X.b dX0_shotTo_119 (lv_at hl 1 rfl) ?_
                refine wz_bipush X.x X.b dX0_shotTo_121 rfl ?_
                refine wz_idivp X.x X.b dX0_shotTo_123 (by omega) (by omega) (by omega) (by omega) ?_
                refine wz_iadd X.x X.b dX0_shotTo_124 ?_
                have hgw := ho.wo (4 + 32 * (y + k / 8) + c9) (by omega) (by omega)
                refine wa_iald (f := wf0) X hH fwo.2 (by omega) (by omega) (by omega) dX0_shotTo_125 ?_
                refine wz_is (z := g (4 + 32 * (y + k / 8) + c9)) (by rw [show 6 * c9 + y + k / 8 = 6 * c9 + (y + k / 8) by omega, hwf0 _ _ (by omega) (by omega) (by omega) (by omega)]) ?_
                refine lv_iload_n X.x X.b dX0_shotTo_126 rfl (lv_at hl 6 rfl) ?_
                refine wz_iadd X.x X.b dX0_shotTo_127 ?_
                refine wz_i2l X.x X.b dX0_shotTo_128 ⟨by omega, by omega⟩ ?_
                refine wz_bipush X.x X.b dX0_shotTo_129 rfl ?_
                refine wa_ci hS (wa_rS (rest := [.int (zI k), .ref nq69]) X hH (mX0_into _  ((g (4 + 32 * (y + k / 8) + c9)) + d) 63 (by unfold rL; omega) (by decide)) (va_cwS 2 X.t (lw_S q532 q533 q109 q534) rfl rfl rfl hdX0_into.2 ⟨Nat.le_of_ble_eq_true rfl, Nat.le_of_ble_eq_true rfl⟩) rfl rfl hl.1 rfl (Nat.le_of_ble_eq_true rfl) dX0_shotTo_131 ⟨Nat.le_of_ble_eq_true rfl, Nat.le_of_ble_eq_true rfl⟩) (fun z w131 H locs hp hH hS => ?_)
                obtain ⟨rfl, hw⟩ := hp
                rw [← hw] at hH; clear hw
                refine wz_is (z := shotC g x y d k) (by unfold shotC heldS; rw [← ec9]; congr 1; (repeat' split) <;> omega) ?_
                refine wa_iast (f := f9) X hH hS n69.2 (by omega) (by omega) (by omega) dX0_shotTo_134 (fun w134 H locs ew hH hS => ?_)
                have hOq : Off nq69 wl76 w134 := Off.rf.put ew
                have hk := Kp.init hn69 hN69 hOq
                have hX := hX_69.init hn69 hX hOq
                have hI := hI_69.kp hk
                have hPX := hPX_69.kp hk
                have hWY := hWY_69.kp hk
                have hNV := hNV_69.kp hk
                have hXJ := hXJ_69.kp hk
                have fwo := fwo_69.kp hk
                have hK := hK_69.kp hk
                have hN69 := hk
                have n69 : Lc ad w134 nq69 (eI G 32 (fup f9 k (shotC g x y d k))) := Lc.new hX_69 hn69 (by rw [ew]; exact wup_s)
                clear ew
                refine wz_iinc (k := 1) (lv' := [(5, .int (zI (k + 1))), (6, .int (zI c9)), (4, .ref nq69), (0, .ref (ad 0)), (1, .int (zI x)), (2, .int (zI y)), (3, .int (zI d))]) X.x X.b dX0_shotTo_135 hl rfl (by decide) rfl (fun ls hl => ?_)
                refine lv_goto (tgt := 76) X.x X.b dX0_shotTo_138 (by decide) ?_
                exact ih76 _ (by omega) (k + 1) (fup f9 k (shotC g x y d k)) rfl (by omega) (by intro o o0 o1; by_cases z : o = k; (rw [z, fup_s]); (rw [fup_n z]; exact i76_1 o o0 (by omega))) _ _ _ _ hX hK hI hPX hWY hNV hXJ fwo hN69 n69 hH hS (lv_sub hl [0, 2, 3, 4, 5, 6] rfl)
          exact L76 _ 0 (fun _ => 0) rfl (by omega) (by intro o o0 o1; omega) _ _ _ _ hX hK hI hPX hWY hNV hXJ fwo hN69 n69 hH hS (lv_sub hl [0, 1, 2, 3, 4, 5] rfl)
        · have hcs : canS g x y d < 0 := by unfold canS; rw [if_neg (by omega), if_pos (by omega)]; decide
          refine wz_bipush X.x X.b dX0_shotTo_60 rfl ?_
          refine W.widen (k := 2) (n := 36) (by first | exact Nat.le_of_ble_eq_true rfl | omega) (by first | exact Nat.le_of_ble_eq_true rfl | omega) ?_
          exact wa_iret X hH hS dX0_shotTo_62 ⟨by unfold shotV; first | (rw [if_neg hcs]; omega) | (rw [if_pos hcs]; unfold canS; first | rw [if_pos (by omega)] | rw [if_neg (by omega), if_pos (by omega)]), ⟨_, _, _, _, hX, hK, hI.eq (by unfold shotG; rw [if_pos hcs]) (by unfold qP; rw [if_neg (fun q => q hcs)]) rfl (by unfold qN; rw [if_neg (fun q => q hcs)])⟩⟩
      · have b39 : ¬ ((-20) ≤ d ∧ d ≤ 20) := b39
        refine wz_ifne (tgt := 48) X.x X.b dX0_shotTo_42 (by decide) (by decide) (fun h => absurd h (by decide)) (fun _ => ?_)
        have hcs : canS g x y d < 0 := by unfold canS; rw [if_pos (by omega)]; decide
        refine wz_bipush X.x X.b dX0_shotTo_45 rfl ?_
        refine W.widen (k := 2) (n := 36) (by first | exact Nat.le_of_ble_eq_true rfl | omega) (by first | exact Nat.le_of_ble_eq_true rfl | omega) ?_
        exact wa_iret X hH hS dX0_shotTo_47 ⟨by unfold shotV; first | (rw [if_neg hcs]; omega) | (rw [if_pos hcs]; unfold canS; first | rw [if_pos (by omega)] | rw [if_neg (by omega), if_pos (by omega)]), ⟨_, _, _, _, hX, hK, hI.eq (by unfold shotG; rw [if_pos hcs]) (by unfold qP; rw [if_neg (fun q => q hcs)]) rfl (by unfold qN; rw [if_neg (fun q => q hcs)])⟩⟩
    · have b25 : ¬ (0 ≤ y ∧ y ≤ 2) := b25
      refine wz_ifeq (tgt := 45) X.x X.b dX0_shotTo_28 (by decide) (by decide) (fun _ => ?_) (fun h => absurd h (by decide))
      have hcs : canS g x y d < 0 := by unfold canS; rw [if_pos (by omega)]; decide
      refine wz_bipush X.x X.b dX0_shotTo_45 rfl ?_
      refine W.widen (k := 2) (n := 36) (by first | exact Nat.le_of_ble_eq_true rfl | omega) (by first | exact Nat.le_of_ble_eq_true rfl | omega) ?_
      exact wa_iret X hH hS dX0_shotTo_47 ⟨by unfold shotV; first | (rw [if_neg hcs]; omega) | (rw [if_pos hcs]; unfold canS; first | rw [if_pos (by omega)] | rw [if_neg (by omega), if_pos (by omega)]), ⟨_, _, _, _, hX, hK, hI.eq (by unfold shotG; rw [if_pos hcs]) (by unfold qP; rw [if_neg (fun q => q hcs)]) rfl (by unfold qN; rw [if_neg (fun q => q hcs)])⟩⟩
  · have b13 : ¬ (0 ≤ x ∧ x ≤ ((S 20) - 1)) := b13
    refine wz_ifeq (tgt := 45) X.x X.b dX0_shotTo_16 (by decide) (by decide) (fun _ => ?_) (fun h => absurd h (by decide))
    have hcs : canS g x y d < 0 := by unfold canS; rw [if_pos (by omega)]; decide
    refine wz_bipush X.x X.b dX0_shotTo_45 rfl ?_
    refine W.widen (k := 2) (n := 36) (by first | exact Nat.le_of_ble_eq_true rfl | omega) (by first | exact Nat.le_of_ble_eq_true rfl | omega) ?_
    exact wa_iret X hH hS dX0_shotTo_47 ⟨by unfold shotV; first | (rw [if_neg hcs]; omega) | (rw [if_pos hcs]; unfold canS; first | rw [if_pos (by omega)] | rw [if_neg (by omega), if_pos (by omega)]), ⟨_, _, _, _, hX, hK, hI.eq (by unfold shotG; rw [if_pos hcs]) (by unfold qP; rw [if_neg (fun q => q hcs)]) rfl (by unfold qN; rw [if_neg (fun q => q hcs)])⟩⟩
set_option maxRecDepth 100000 in
theorem mX0_paintTo {lL : Launch} {G : wa_G} {ad : Nat → Nat} {w : wa_W} {S : Nat → Int} {A : Nat → Int → Int} {B : Nat → Int → Option Nat} {P : Nat → Option Nat} (hX : XW G ad w S A B P) {g : Int → Int} {past : Int → Int} {re : Int → Int} {tx : Int → Int} {st : Int} {ck : Int} {co : Int} {tl : Int} {qt : Int} (hI : XI G ad w S A B P g past re tx st ck co tl qt) (k : Int) (r : Int) (c : Int) (v : Int) (r_k : rI k) (r_r : rI r) (r_c : rI c) (r_v : rI v) : Met lL yX0_paintTo (ws_ yX0_paintTo cX0_paintTo 6 (some FieldType.int)) ({ frames := 3, cells := 2, slots := 36, locals := 142 } : Room) (wa_P G w [.ref (ad 0), .int (zI k), .int (zI r), .int (zI c), .int (zI v)]) (wa_Qz G fun z u => z = paintV g k r c v ∧ ∃ (S2 : Nat → Int) (A2 : Nat → Int → Int) (B2 : Nat → Int → Option Nat) (P2 : Nat → Option Nat), XW G ad u S2 A2 B2 P2 ∧ Kp ad w u ∧ (XI G ad u S2 A2 B2 P2 (paintG g k r c v) (qP (okPaint g k r c v) qt past g st) re tx (qN (okPaint g k r c v) qt st) ck co tl qt)) 2 36 (wa_A G) := by
  refine wa_met (by decide) (by exact Nat.le_of_ble_eq_true rfl) ?_
  intro pP eE sS mM aA bB mT cC ls X hl hH
  have hS : va_S (wa_A G) sS.heap sS.heap [] := va_S.rf
  have hl : lv_has ls 6 [(0, .ref (ad 0)), (1, .int (zI k)), (2, .int (zI r)), (3, .int (zI c)), (4, .int (zI v))] := hl
  have hK : Kp ad w w := Kp.rf
  have hI_0 := hI
  obtain ⟨ho, hST, hXJ, hRX⟩ := id hI
  have hmany := ho.many
  have hPX : PX G ad w (B 10) g := hST.2.2.1
  have hWY : WAYS G ad w (B 5) := hRX.1
  have hNV : NVX ad w P := hRX.2.1
  have hm : S 30 = g 3 := hST.1.2
  have hwd : S 20 = g 0 := hST.1.1
  have hg : A 10 0 = g 1 ∧ A 10 1 = g 2 := hST.2.1
  have hwide := ho.wide
  have hS0 : S 0 = st := hRX.2.2.2.1.1
  have hS1 : S 1 = qt := hRX.2.2.2.1.2.1
  have hS2 : S 2 = tl := hRX.2.2.2.1.2.2.1
  have hstr := hRX.2.2.2.2.2.2.2.1
  have htlr := hRX.2.2.2.2.2.2.2.2.1
  have hqt := hRX.2.2.2.2.2.2.2.2.2.1
  have hPX_0 := hPX
  have hWY_0 := hWY
  have hNV_0 := hNV
  have hXJ_0 := hXJ
  refine lv_aload_n X.x X.b dX0_paintTo_0 rfl (lv_at hl 0 rfl) ?_
  refine lv_iload_n X.x X.b dX0_paintTo_1 rfl (lv_at hl 1 rfl) ?_
  refine wa_ci hS (wa_rV (rest := []) X hH (mX0_isPicture hX  k (show rI k by first | assumption | omega) (show 0 ≤ S 30 ∧ S 30 ≤ 6 by first | assumption | omega)) (cwV 1 X.t (lw_V q572 q574 qs9 q109 q575) rfl rfl rfl hdX0_isPicture ⟨Nat.le_of_ble_eq_true rfl, Nat.le_of_ble_eq_true rfl⟩) rfl (have h9 := (XW.c0 hX); h9) rfl rfl hl.1 rfl (Nat.le_of_ble_eq_true rfl) dX0_paintTo_2 ⟨Nat.le_of_ble_eq_true rfl, Nat.le_of_ble_eq_true rfl⟩) (fun z w2 H locs hp hH hS => ?_)
  obtain ⟨hb, hw⟩ := hp
  rw [← hw] at hH; clear hw
  rcases hb with ⟨b2, rfl⟩ | ⟨b2, rfl⟩
  · have b2 : (0 ≤ k ∧ k ≤ S 30 - 1) := b2
    refine wz_ifeq (tgt := 29) X.x X.b dX0_paintTo_5 (by decide) (by decide) (fun h => absurd h (by decide)) (fun _ => ?_)
    refine lv_iload_n X.x X.b dX0_paintTo_8 rfl (lv_at hl 2 rfl) ?_
    refine lv_iload_n X.x X.b dX0_paintTo_9 rfl (lv_at hl 3 rfl) ?_
    refine wa_ci hS (wa_rS (rest := []) X hH (mX0_isCell _  r c (show rI r by first | assumption | omega) (show rI c by first | assumption | omega)) (va_cwS 2 X.t (lw_S q576 q577 q109 q578) rfl rfl rfl hdX0_isCell.2 ⟨Nat.le_of_ble_eq_true rfl, Nat.le_of_ble_eq_true rfl⟩) rfl rfl hl.1 rfl (Nat.le_of_ble_eq_true rfl) dX0_paintTo_10 ⟨Nat.le_of_ble_eq_true rfl, Nat.le_of_ble_eq_true rfl⟩) (fun z w10 H locs hp hH hS => ?_)
    obtain ⟨hb, hw⟩ := hp
    rw [← hw] at hH; clear hw
    rcases hb with ⟨b10, rfl⟩ | ⟨b10, rfl⟩
    · have b10 : ((0 ≤ r ∧ r ≤ 3) ∧ 0 ≤ c ∧ c ≤ 7) := b10
      refine wz_ifeq (tgt := 29) X.x X.b dX0_paintTo_13 (by decide) (by decide) (fun h => absurd h (by decide)) (fun _ => ?_)
      refine lv_iload X.x X.b dX0_paintTo_16 (lv_at hl 4 rfl) ?_
      refine wz_i2l X.x X.b dX0_paintTo_18 ⟨by omega, by omega⟩ ?_
      refine lv_lconst (v := lI 0) X.x X.b dX0_paintTo_19 rfl ?_
      refine wz_ldc2 (n := 63) X.x X.b X.own (X.t _ q513) rfl dX0_paintTo_20 ?_
      refine wa_ci hS (wa_rS (rest := []) X hH (mX0_in _  v 0 63 (show rL v by first | assumption | omega) (show rL 0 by first | assumption | omega) (show rL 63 by first | assumption | omega)) (va_cwS 3 X.t (lw_S q466 q467 q109 q468) rfl rfl rfl hdX0_in.2 ⟨Nat.le_of_ble_eq_true rfl, Nat.le_of_ble_eq_true rfl⟩) rfl rfl hl.1 rfl (Nat.le_of_ble_eq_true rfl) dX0_paintTo_23 ⟨Nat.le_of_ble_eq_true rfl, Nat.le_of_ble_eq_true rfl⟩) (fun z w23 H locs hp hH hS => ?_)
      obtain ⟨hb, hw⟩ := hp
      rw [← hw] at hH; clear hw
      rcases hb with ⟨b23, rfl⟩ | ⟨b23, rfl⟩
      · have b23 : (0 ≤ v ∧ v ≤ 63) := b23
        refine wz_ifne (tgt := 32) X.x X.b dX0_paintTo_26 (by decide) (by decide) (fun _ => ?_) (fun h => absurd h (by decide))
        refine lv_aload_n X.x X.b dX0_paintTo_32 rfl (lv_at hl 0 rfl) ?_
        refine wa_cv hS (wa_rV (rest := []) X hH (mX0_leaves hX hI  ) (cwV 0 X.t (lw_V q471 q473 qs1 q109 q474) rfl rfl rfl hdX0_leaves ⟨Nat.le_of_ble_eq_true rfl, Nat.le_of_ble_eq_true rfl⟩) rfl (have h9 := (XW.c0 hX); h9) rfl rfl hl.1 rfl (Nat.le_of_ble_eq_true rfl) dX0_paintTo_33 ⟨Nat.le_of_ble_eq_true rfl, Nat.le_of_ble_eq_true rfl⟩) (fun w33 H locs hp hH hS => ?_)
        obtain ⟨S2_33, A2_33, B2_33, P2_33, hX, hk, hx33_0, hx33_1⟩ := hp
        have hI := hI.kp hk
        have hPX := hPX.kp hk
        have hWY := hWY.kp hk
        have hNV := hNV.kp hk
        have hXJ := hXJ.kp hk
        have hK := hK.kp hk
        have hI := hx33_0
        obtain ⟨ho, hST, hXJ, hRX⟩ := id hI
        have hmany := ho.many
        have hPX : PX G ad w33 (B2_33 10) g := hST.2.2.1
        have hWY : WAYS G ad w33 (B2_33 5) := hRX.1
        have hNV : NVX ad w33 P2_33 := hRX.2.1
        have hm : S2_33 30 = g 3 := hST.1.2
        have hwd : S2_33 20 = g 0 := hST.1.1
        have hg : A2_33 10 0 = g 1 ∧ A2_33 10 1 = g 2 := hST.2.1
        have hwide := ho.wide
        have hS0 : S2_33 0 = (keepM qt st) := hRX.2.2.2.1.1
        have hS1 : S2_33 1 = qt := hRX.2.2.2.1.2.1
        have hS2 : S2_33 2 = tl := hRX.2.2.2.1.2.2.1
        have hstr := hRX.2.2.2.2.2.2.2.1
        have htlr := hRX.2.2.2.2.2.2.2.2.1
        have hqt := hRX.2.2.2.2.2.2.2.2.2.1
        have h4w := hx33_1
        obtain ⟨p, b, f, hp0, fp, ap⟩ := hPX k (by omega) (by omega)
        have cp := pcA.cB ap ho (by omega)
        have fp_0 := fp
        refine lv_aload_n X.x X.b dX0_paintTo_36 rfl (lv_at hl 0 rfl) ?_
        refine wa_get (v := .ref (ad 1)) X hH (have h9 := (XW.c0 hX); h9) wcX0 0 (by decide) q417 rfl (fun _ h9 => h9) rfl dX0_paintTo_37 ?_
        refine wa_getN (v := .ref (ad 2)) X hH (have h9 := (XW.c1 hX); h9) wcX1 2 (by decide) q169 rfl (fun _ h9 => h9) rfl dX0_paintTo_40 ?_
        refine lv_iload_n X.x X.b dX0_paintTo_43 rfl (lv_at hl 1 rfl) ?_
        refine wa_aald (k := 2) (f := B2_33 10) X hH (have h9 := (XW.c2 hX); h9) rfl rfl (by omega) (by omega) (by omega) dX0_paintTo_44 ?_
        refine wz_opt (q := some p) (by exact hp0) ?_
        refine lv_iload_n X.x X.b dX0_paintTo_45 rfl (lv_at hl 2 rfl) ?_
        refine lv_iload_n X.x X.b dX0_paintTo_46 rfl (lv_at hl 3 rfl) ?_
        refine wa_ci hS (wa_rV (rest := []) X hH (mX8_at  (show At w33 p (eO 8 [.ref b, .int (zI (sh g k 0)), .int (zI (sh g k 1)), .int (zI (sh g k 2))]) from fp.1.2) (show At w33 b (eI G 32 f) from fp.2.2) r c (by omega)) (cwV 2 X.t (lw_V q199 q200 q201 q126 q202) rfl rfl rfl hdX8_at ⟨Nat.le_of_ble_eq_true rfl, Nat.le_of_ble_eq_true rfl⟩) rfl fp.1.2 rfl rfl hl.1 rfl (Nat.le_of_ble_eq_true rfl) dX0_paintTo_47 ⟨Nat.le_of_ble_eq_true rfl, Nat.le_of_ble_eq_true rfl⟩) (fun z w47 H locs hp hH hS => ?_)
        obtain ⟨rfl, hw⟩ := hp
        rw [← hw] at hH; clear hw
        refine lv_istore (lv' := [(5, .int (zI (f (8 * r + c)))), (0, .ref (ad 0)), (1, .int (zI k)), (2, .int (zI r)), (3, .int (zI c)), (4, .int (zI v))]) X.x X.b dX0_paintTo_50 hl (by decide) rfl (fun ls hl => ?_)
        refine lv_aload_n X.x X.b dX0_paintTo_52 rfl (lv_at hl 1 rfl) ?_
        refine wa_get (v := .ref (ad 1)) X hH (have h9 := (XW.c0 hX); h9) wcX0 0 (by decide) q417 rfl (fun _ h9 => h9) rfl dX0_paintTo_53 ?_
        refine wa_getN (v := .ref (ad 2)) X hH (have h9 := (XW.c1 hX); h9) wcX1 2 (by decide) q169 rfl (fun _ h9 => h9) rfl dX0_paintTo_56 ?_
        refine lv_iload_n X.x X.b dX0_paintTo_59 rfl (lv_at hl 2 rfl) ?_
        refine lv_aload_n X.x X.b dX0_paintTo_60 rfl (lv_at hl 1 rfl) ?_
        refine wa_get (v := .ref (ad 1)) X hH (have h9 := (XW.c0 hX); h9) wcX0 0 (by decide) q417 rfl (fun _ h9 => h9) rfl dX0_paintTo_61 ?_
        refine wa_getN (v := .ref (ad 2)) X hH (have h9 := (XW.c1 hX); h9) wcX1 2 (by decide) q169 rfl (fun _ h9 => h9) rfl dX0_paintTo_64 ?_
        refine lv_iload_n X.x X.b dX0_paintTo_67 rfl (lv_at hl 2 rfl) ?_
        refine wa_aald (k := 2) (f := B2_33 10) X hH (have h9 := (XW.c2 hX); h9) rfl rfl (by omega) (by omega) (by omega) dX0_paintTo_68 ?_
        refine wz_opt (q := some p) (by exact hp0) ?_
        refine lv_iload_n X.x X.b dX0_paintTo_69 rfl (lv_at hl 3 rfl) ?_
        refine lv_iload_n X.x X.b dX0_paintTo_70 rfl (lv_at hl 4 rfl) ?_
        refine lv_iload X.x X.b dX0_paintTo_71 (lv_at hl 5 rfl) ?_
        refine wa_cr hS (wa_rV (rest := [.int (zI k), .ref (ad 2)]) X hH (mX8_with hX fp r c v (by omega)) (cwV 3 X.t (lw_V q581 q582 q583 q126 q584) rfl rfl rfl hdX8_with ⟨Nat.le_of_ble_eq_true rfl, Nat.le_of_ble_eq_true rfl⟩) rfl fp.1.2 rfl rfl hl.1 rfl (Nat.le_of_ble_eq_true rfl) dX0_paintTo_73 ⟨Nat.le_of_ble_eq_true rfl, Nat.le_of_ble_eq_true rfl⟩) (fun r73 w73 H locs hp hH hS => ?_)
        obtain ⟨p2_73, b2_73, hX, hk, hx73_0, hx73_1⟩ := hp
        have hI := hI.kp hk
        have hPX := hPX.kp hk
        have hWY := hWY.kp hk
        have hNV := hNV.kp hk
        have hXJ := hXJ.kp hk
        have fp := fp.kp hk
        have hK := hK.kp hk
        refine wz_opt (q := some p2_73) (by exact hx73_0) ?_
        have fpn := hx73_1
        refine wa_aast (k := 2) (f := B2_33 10) X hH hS (have h9 := (XW.c2 hX); h9) rfl (wa_any X hH fpn.1.2 rfl) (by omega) (by omega) (by omega) dX0_paintTo_76 (fun w76 H locs ew hH hS => ?_)
        have hk : Kp ad w73 w76 := Kp.set (i := 2) (by omega) ew
        have hX := hX.sB (i := 2) (10) (x := fupR (B2_33 10) k (some p2_73)) (by unfold oB; omega) ew
        have hI := hI.kp hk
        have hPX := hPX.kp hk
        have hWY := hWY.kp hk
        have hNV := hNV.kp hk
        have hXJ := hXJ.kp hk
        have fp := fp.kp hk
        have fpn := fpn.kp hk
        have hK := hK.kp hk
        clear ew
        refine lv_iload X.x X.b dX0_paintTo_77 (lv_at hl 0 rfl) ?_
        refine W.widen (k := 2) (n := 36) (by first | exact Nat.le_of_ble_eq_true rfl | omega) (by first | exact Nat.le_of_ble_eq_true rfl | omega) ?_
        exact wa_iret X hH hS dX0_paintTo_79 ⟨by unfold paintV; first | (rw [if_neg (by omega)]; done) | (rw [if_pos (by omega)]; exact ap r c (by omega) (by omega) (by omega) (by omega)), ⟨_, _, _, _, hX, hK, ((hI.px (m := g 3) (g2 := fup g (196 + 35 * k + 8 * r + c) v) h4w (okS_up ho (by omega) (by have h9 : (196 + 35 * k + 8 * r + c - 196) % 35 = 8 * r + c := (by rw [show 196 + 35 * k + 8 * r + c - 196 = (8 * r + c) + 35 * k by omega, Int.add_mul_emod_self_left]; omega); omega) (by omega)) (fup_n (by omega)) (px_paint hPX (by omega) ⟨by omega, by omega⟩ ap fpn) (hI.2.1.2.2.2.1.up fpn.1) (fun i i0 i1 i2 => fup_n (by omega))).s30 hm).eq (by unfold paintG; rw [if_pos (by omega)]) (by unfold qP; rw [if_pos (by omega)]) rfl (by unfold qN; rw [if_pos (by omega)])⟩⟩
      · have b23 : ¬ (0 ≤ v ∧ v ≤ 63) := b23
        refine wz_ifne (tgt := 32) X.x X.b dX0_paintTo_26 (by decide) (by decide) (fun h => absurd h (by decide)) (fun _ => ?_)
        refine wz_bipush X.x X.b dX0_paintTo_29 rfl ?_
        refine W.widen (k := 2) (n := 36) (by first | exact Nat.le_of_ble_eq_true rfl | omega) (by first | exact Nat.le_of_ble_eq_true rfl | omega) ?_
        exact wa_iret X hH hS dX0_paintTo_31 ⟨by unfold paintV; first | (rw [if_neg (by omega)]; done) | (rw [if_pos (by omega)]; exact ap r c (by omega) (by omega) (by omega) (by omega)), ⟨_, _, _, _, hX, hK, hI.eq (by unfold paintG; rw [if_neg (by omega)]) (by unfold qP; rw [if_neg (by omega)]) rfl (by unfold qN; rw [if_neg (by omega)])⟩⟩
    · have b10 : ¬ ((0 ≤ r ∧ r ≤ 3) ∧ 0 ≤ c ∧ c ≤ 7) := b10
      refine wz_ifeq (tgt := 29) X.x X.b dX0_paintTo_13 (by decide) (by decide) (fun _ => ?_) (fun h => absurd h (by decide))
      refine wz_bipush X.x X.b dX0_paintTo_29 rfl ?_
      refine W.widen (k := 2) (n := 36) (by first | exact Nat.le_of_ble_eq_true rfl | omega) (by first | exact Nat.le_of_ble_eq_true rfl | omega) ?_
      exact wa_iret X hH hS dX0_paintTo_31 ⟨by unfold paintV; first | (rw [if_neg (by omega)]; done) | (rw [if_pos (by omega)]; exact ap r c (by omega) (by omega) (by omega) (by omega)), ⟨_, _, _, _, hX, hK, hI.eq (by unfold paintG; rw [if_neg (by omega)]) (by unfold qP; rw [if_neg (by omega)]) rfl (by unfold qN; rw [if_neg (by omega)])⟩⟩
  · have b2 : ¬ (0 ≤ k ∧ k ≤ S 30 - 1) := b2
    refine wz_ifeq (tgt := 29) X.x X.b dX0_paintTo_5 (by decide) (by decide) (fun _ => ?_) (fun h => absurd h (by decide))
    refine wz_bipush X.x X.b dX0_paintTo_29 rfl ?_
    refine W.widen (k := 2) (n := 36) (by first | exact Nat.le_of_ble_eq_true rfl | omega) (by first | exact Nat.le_of_ble_eq_true rfl | omega) ?_
    exact wa_iret X hH hS dX0_paintTo_31 ⟨by unfold paintV; first | (rw [if_neg (by omega)]; done) | (rw [if_pos (by omega)]; exact ap r c (by omega) (by omega) (by omega) (by omega)), ⟨_, _, _, _, hX, hK, hI.eq (by unfold paintG; rw [if_neg (by omega)]) (by unfold qP; rw [if_neg (by omega)]) rfl (by unfold qN; rw [if_neg (by omega)])⟩⟩
set_option maxRecDepth 100000 in
theorem mX0_dropsTo {lL : Launch} {G : wa_G} {ad : Nat → Nat} {w : wa_W} {S : Nat → Int} {A : Nat → Int → Int} {B : Nat → Int → Option Nat} {P : Nat → Option Nat} (hX : XW G ad w S A B P) {g : Int → Int} {past : Int → Int} {re : Int → Int} {tx : Int → Int} {st : Int} {ck : Int} {co : Int} {tl : Int} {qt : Int} (hI : XI G ad w S A B P g past re tx st ck co tl qt) (k : Int) (r_k : rI k) : Met lL yX0_dropsTo (ws_ yX0_dropsTo cX0_dropsTo 2 (some FieldType.int)) ({ frames := 3, cells := 0, slots := 0, locals := 142 } : Room) (wa_P G w [.ref (ad 0), .int (zI k)]) (wa_Qz G fun z u => z = dropsV g k ∧ ∃ (S2 : Nat → Int) (A2 : Nat → Int → Int) (B2 : Nat → Int → Option Nat) (P2 : Nat → Option Nat), XW G ad u S2 A2 B2 P2 ∧ Kp ad w u ∧ (XI G ad u S2 A2 B2 P2 (dropsG g k) (qP (okPic g k) qt past g st) re tx (qN (okPic g k) qt st) ck co tl qt)) 0 0 (wa_A G) := by
  refine wa_met (by decide) (by exact Nat.le_of_ble_eq_true rfl) ?_
  intro pP eE sS mM aA bB mT cC ls X hl hH
  have hS : va_S (wa_A G) sS.heap sS.heap [] := va_S.rf
  have hl : lv_has ls 2 [(0, .ref (ad 0)), (1, .int (zI k))] := hl
  have hK : Kp ad w w := Kp.rf
  have hI_0 := hI
  obtain ⟨ho, hST, hXJ, hRX⟩ := id hI
  have hmany := ho.many
  have hPX : PX G ad w (B 10) g := hST.2.2.1
  have hWY : WAYS G ad w (B 5) := hRX.1
  have hNV : NVX ad w P := hRX.2.1
  have hm : S 30 = g 3 := hST.1.2
  have hwd : S 20 = g 0 := hST.1.1
  have hg : A 10 0 = g 1 ∧ A 10 1 = g 2 := hST.2.1
  have hwide := ho.wide
  have hS0 : S 0 = st := hRX.2.2.2.1.1
  have hS1 : S 1 = qt := hRX.2.2.2.1.2.1
  have hS2 : S 2 = tl := hRX.2.2.2.1.2.2.1
  have hstr := hRX.2.2.2.2.2.2.2.1
  have htlr := hRX.2.2.2.2.2.2.2.2.1
  have hqt := hRX.2.2.2.2.2.2.2.2.2.1
  have hPX_0 := hPX
  have hWY_0 := hWY
  have hNV_0 := hNV
  have hXJ_0 := hXJ
  refine lv_aload_n X.x X.b dX0_dropsTo_0 rfl (lv_at hl 0 rfl) ?_
  refine lv_iload_n X.x X.b dX0_dropsTo_1 rfl (lv_at hl 1 rfl) ?_
  refine wa_ci hS (wa_rV (rest := []) X hH (mX0_isPicture hX  k (show rI k by first | assumption | omega) (show 0 ≤ S 30 ∧ S 30 ≤ 6 by first | assumption | omega)) (cwV 1 X.t (lw_V q572 q574 qs9 q109 q575) rfl rfl rfl hdX0_isPicture ⟨Nat.le_of_ble_eq_true rfl, Nat.le_of_ble_eq_true rfl⟩) rfl (have h9 := (XW.c0 hX); h9) rfl rfl hl.1 rfl (Nat.le_of_ble_eq_true rfl) dX0_dropsTo_2 ⟨Nat.le_of_ble_eq_true rfl, Nat.le_of_ble_eq_true rfl⟩) (fun z w2 H locs hp hH hS => ?_)
  obtain ⟨hb, hw⟩ := hp
  rw [← hw] at hH; clear hw
  rcases hb with ⟨b2, rfl⟩ | ⟨b2, rfl⟩
  · have b2 : (0 ≤ k ∧ k ≤ S 30 - 1) := b2
    refine wz_ifne (tgt := 11) X.x X.b dX0_dropsTo_5 (by decide) (by decide) (fun _ => ?_) (fun h => absurd h (by decide))
    refine lv_aload_n X.x X.b dX0_dropsTo_11 rfl (lv_at hl 0 rfl) ?_
    refine wa_cv hS (wa_rV (rest := []) X hH (mX0_leaves hX hI  ) (cwV 0 X.t (lw_V q471 q473 qs1 q109 q474) rfl rfl rfl hdX0_leaves ⟨Nat.le_of_ble_eq_true rfl, Nat.le_of_ble_eq_true rfl⟩) rfl (have h9 := (XW.c0 hX); h9) rfl rfl hl.1 rfl (Nat.le_of_ble_eq_true rfl) dX0_dropsTo_12 ⟨Nat.le_of_ble_eq_true rfl, Nat.le_of_ble_eq_true rfl⟩) (fun w12 H locs hp hH hS => ?_)
    obtain ⟨S2_12, A2_12, B2_12, P2_12, hX, hk, hx12_0, hx12_1⟩ := hp
    have hI := hI.kp hk
    have hPX := hPX.kp hk
    have hWY := hWY.kp hk
    have hNV := hNV.kp hk
    have hXJ := hXJ.kp hk
    have hK := hK.kp hk
    have hI := hx12_0
    obtain ⟨ho, hST, hXJ, hRX⟩ := id hI
    have hmany := ho.many
    have hPX : PX G ad w12 (B2_12 10) g := hST.2.2.1
    have hWY : WAYS G ad w12 (B2_12 5) := hRX.1
    have hNV : NVX ad w12 P2_12 := hRX.2.1
    have hm : S2_12 30 = g 3 := hST.1.2
    have hwd : S2_12 20 = g 0 := hST.1.1
    have hg : A2_12 10 0 = g 1 ∧ A2_12 10 1 = g 2 := hST.2.1
    have hwide := ho.wide
    have hS0 : S2_12 0 = (keepM qt st) := hRX.2.2.2.1.1
    have hS1 : S2_12 1 = qt := hRX.2.2.2.1.2.1
    have hS2 : S2_12 2 = tl := hRX.2.2.2.1.2.2.1
    have hstr := hRX.2.2.2.2.2.2.2.1
    have htlr := hRX.2.2.2.2.2.2.2.2.1
    have hqt := hRX.2.2.2.2.2.2.2.2.2.1
    have h4w := hx12_1
    refine lv_aload_n X.x X.b dX0_dropsTo_15 rfl (lv_at hl 0 rfl) ?_
    refine wa_get (v := .ref (ad 1)) X hH (have h9 := (XW.c0 hX); h9) wcX0 0 (by decide) q417 rfl (fun _ h9 => h9) rfl dX0_dropsTo_16 ?_
    refine lv_dup X.x X.b dX0_dropsTo_19 rfl ?_
    refine wa_getN (v := .int (zI (S2_12 30))) X hH (have h9 := (XW.c1 hX); h9) wcX1 3 (by decide) q172 rfl (fun _ h9 => h9) rfl dX0_dropsTo_20 ?_
    refine wz_is (z := g 3) (by rw [hm]) ?_
    refine wz_iconst X.x X.b dX0_dropsTo_23 ?_
    refine wz_isub X.x X.b dX0_dropsTo_24 ?_
    refine wa_putN X hH hS (have h9 := (XW.c1 hX); h9) wcX1 3 (by decide) q172 rfl (fun _ h9 => h9) rfl rfl rfl (Nat.le_of_ble_eq_true rfl) dX0_dropsTo_25 (fun w25 H locs ew hH hS => ?_)
    have hk : Kp ad w12 w25 := Kp.set (i := 1) (by omega) ew
    have hX := hX.sS (i := 1) (30) (x := (g 3) - 1) (by unfold oS; omega) ew
    have hI := hI.kp hk
    have hPX := hPX.kp hk
    have hWY := hWY.kp hk
    have hNV := hNV.kp hk
    have hXJ := hXJ.kp hk
    have hK := hK.kp hk
    clear ew
    refine lv_aload_n X.x X.b dX0_dropsTo_28 rfl (lv_at hl 0 rfl) ?_
    refine wa_get (v := .ref (ad 1)) X hH (have h9 := (XW.c0 hX); h9) wcX0 0 (by decide) q417 rfl (fun _ h9 => h9) rfl dX0_dropsTo_29 ?_
    refine wa_getN (v := .ref (ad 2)) X hH (have h9 := (XW.c1 hX); h9) wcX1 2 (by decide) q169 rfl (fun _ h9 => h9) rfl dX0_dropsTo_32 ?_
    refine lv_iload_n X.x X.b dX0_dropsTo_35 rfl (lv_at hl 1 rfl) ?_
    refine wz_iconst X.x X.b dX0_dropsTo_36 ?_
    refine wz_iadd X.x X.b dX0_dropsTo_37 ?_
    refine lv_aload_n X.x X.b dX0_dropsTo_38 rfl (lv_at hl 0 rfl) ?_
    refine wa_get (v := .ref (ad 1)) X hH (have h9 := (XW.c0 hX); h9) wcX0 0 (by decide) q417 rfl (fun _ h9 => h9) rfl dX0_dropsTo_39 ?_
    refine wa_getN (v := .ref (ad 2)) X hH (have h9 := (XW.c1 hX); h9) wcX1 2 (by decide) q169 rfl (fun _ h9 => h9) rfl dX0_dropsTo_42 ?_
    refine lv_iload_n X.x X.b dX0_dropsTo_45 rfl (lv_at hl 1 rfl) ?_
    refine lv_aload_n X.x X.b dX0_dropsTo_46 rfl (lv_at hl 0 rfl) ?_
    refine wa_get (v := .ref (ad 1)) X hH (have h9 := (XW.c0 hX); h9) wcX0 0 (by decide) q417 rfl (fun _ h9 => h9) rfl dX0_dropsTo_47 ?_
    refine wa_getN (v := .int (zI ((g 3) - 1))) X hH (have h9 := (XW.c1 hX); h9) wcX1 3 (by decide) q172 rfl (fun _ h9 => h9) rfl dX0_dropsTo_50 ?_
    refine lv_iload_n X.x X.b dX0_dropsTo_53 rfl (lv_at hl 1 rfl) ?_
    refine wz_isub X.x X.b dX0_dropsTo_54 ?_
    refine wa_copyq (rest := []) (k := 2) (f := B2_12 10) (g := B2_12 10) X hH hS (have h9 := (XW.c2 hX); h9) (have h9 := (XW.c2 hX); h9) rfl rfl q475 (by omega) (by omega) (by omega) (by omega) (by omega) ⟨by omega, by omega, by omega⟩ (fun i _ _ z hz => by obtain ⟨fs, h⟩ := hI.2.1.2.2.2.1 i z hz; exact wa_any X hH h.2 rfl) hl.1 (Nat.le_of_ble_eq_true rfl) (by decide +kernel) dX0_dropsTo_55 (fun w55 H locs ew hH hS => ?_)
    have hk : Kp ad w25 w55 := Kp.set (i := 2) (by omega) ew
    have hX := hX.sB (i := 2) (10) (x := cpR (B2_12 10) (B2_12 10) (k + 1) k (((g 3) - 1) - k)) (by unfold oB; omega) ew
    have hI := hI.kp hk
    have hPX := hPX.kp hk
    have hWY := hWY.kp hk
    have hNV := hNV.kp hk
    have hXJ := hXJ.kp hk
    have hK := hK.kp hk
    clear ew
    refine lv_aload_n X.x X.b dX0_dropsTo_58 rfl (lv_at hl 0 rfl) ?_
    refine wa_get (v := .ref (ad 1)) X hH (have h9 := (XW.c0 hX); h9) wcX0 0 (by decide) q417 rfl (fun _ h9 => h9) rfl dX0_dropsTo_59 ?_
    refine wa_getN (v := .int (zI ((g 3) - 1))) X hH (have h9 := (XW.c1 hX); h9) wcX1 3 (by decide) q172 rfl (fun _ h9 => h9) rfl dX0_dropsTo_62 ?_
    exact wa_iret X hH hS dX0_dropsTo_65 ⟨by unfold dropsV; first | (rw [if_neg (by omega)]; done) | (rw [if_pos (by omega)]; done), ⟨_, _, _, _, hX, hK, (hI.px (m := g 3 - 1) (g2 := dropS g k) h4w (okS_drop ho (by omega)) (if_pos rfl) (px_drop hPX (by omega)) (hI.2.1.2.2.2.1.cp hI.2.1.2.2.2.1) (fun i i0 i1 i2 => by unfold dropS; rw [if_neg i2, if_neg (by omega)])).eq (by unfold dropsG; rw [if_pos (by omega)]) (by unfold qP; rw [if_pos (by omega)]) rfl (by unfold qN; rw [if_pos (by omega)])⟩⟩
  · have b2 : ¬ (0 ≤ k ∧ k ≤ S 30 - 1) := b2
    refine wz_ifne (tgt := 11) X.x X.b dX0_dropsTo_5 (by decide) (by decide) (fun h => absurd h (by decide)) (fun _ => ?_)
    refine wz_bipush X.x X.b dX0_dropsTo_8 rfl ?_
    exact wa_iret X hH hS dX0_dropsTo_10 ⟨by unfold dropsV; first | (rw [if_neg (by omega)]; done) | (rw [if_pos (by omega)]; done), ⟨_, _, _, _, hX, hK, hI.eq (by unfold dropsG; rw [if_neg (by omega)]) (by unfold qP; rw [if_neg (by omega)]) rfl (by unfold qN; rw [if_neg (by omega)])⟩⟩
set_option maxRecDepth 100000 in
theorem mX0_setsTo {lL : Launch} {G : wa_G} {ad : Nat → Nat} {w : wa_W} {S : Nat → Int} {A : Nat → Int → Int} {B : Nat → Int → Option Nat} {P : Nat → Option Nat} (hX : XW G ad w S A B P) {g : Int → Int} {past : Int → Int} {re : Int → Int} {tx : Int → Int} {st : Int} {ck : Int} {co : Int} {tl : Int} {qt : Int} (hI : XI G ad w S A B P g past re tx st ck co tl qt) (what : Int) (v : Int) (r_what : rI what) (r_v : rI v) : Met lL yX0_setsTo (ws_ yX0_setsTo cX0_setsTo 4 (some FieldType.int)) ({ frames := 3, cells := 0, slots := 0, locals := 142 } : Room) (wa_P G w [.ref (ad 0), .int (zI what), .int (zI v)]) (wa_Qz G fun z u => z = setsV g what v ∧ ∃ (S2 : Nat → Int) (A2 : Nat → Int → Int) (B2 : Nat → Int → Option Nat) (P2 : Nat → Option Nat), XW G ad u S2 A2 B2 P2 ∧ Kp ad w u ∧ (XI G ad u S2 A2 B2 P2 (setsG g what v) (qP (okSets what v) qt past g st) re tx (qN (okSets what v) qt st) ck co tl qt)) 0 0 (wa_A G) := by
  refine wa_met (by decide) (by exact Nat.le_of_ble_eq_true rfl) ?_
  intro pP eE sS mM aA bB mT cC ls X hl hH
  have hS : va_S (wa_A G) sS.heap sS.heap [] := va_S.rf
  have hl : lv_has ls 4 [(0, .ref (ad 0)), (1, .int (zI what)), (2, .int (zI v))] := hl
  have hK : Kp ad w w := Kp.rf
  have hI_0 := hI
  obtain ⟨ho, hST, hXJ, hRX⟩ := id hI
  have hmany := ho.many
  have hPX : PX G ad w (B 10) g := hST.2.2.1
  have hWY : WAYS G ad w (B 5) := hRX.1
  have hNV : NVX ad w P := hRX.2.1
  have hm : S 30 = g 3 := hST.1.2
  have hwd : S 20 = g 0 := hST.1.1
  have hg : A 10 0 = g 1 ∧ A 10 1 = g 2 := hST.2.1
  have hwide := ho.wide
  have hS0 : S 0 = st := hRX.2.2.2.1.1
  have hS1 : S 1 = qt := hRX.2.2.2.1.2.1
  have hS2 : S 2 = tl := hRX.2.2.2.1.2.2.1
  have hstr := hRX.2.2.2.2.2.2.2.1
  have htlr := hRX.2.2.2.2.2.2.2.2.1
  have hqt := hRX.2.2.2.2.2.2.2.2.2.1
  have hPX_0 := hPX
  have hWY_0 := hWY
  have hNV_0 := hNV
  have hXJ_0 := hXJ
  refine lv_iload_n X.x X.b dX0_setsTo_0 rfl (lv_at hl 1 rfl) ?_
  refine wz_i2l X.x X.b dX0_setsTo_1 ⟨by omega, by omega⟩ ?_
  refine lv_lconst (v := lI 0) X.x X.b dX0_setsTo_2 rfl ?_
  refine lv_lconst (v := lI 1) X.x X.b dX0_setsTo_3 rfl ?_
  refine wa_ci hS (wa_rS (rest := []) X hH (mX0_in _  what 0 1 (show rL what by first | assumption | omega) (show rL 0 by first | assumption | omega) (show rL 1 by first | assumption | omega)) (va_cwS 3 X.t (lw_S q466 q467 q109 q468) rfl rfl rfl hdX0_in.2 ⟨Nat.le_of_ble_eq_true rfl, Nat.le_of_ble_eq_true rfl⟩) rfl rfl hl.1 rfl (Nat.le_of_ble_eq_true rfl) dX0_setsTo_4 ⟨Nat.le_of_ble_eq_true rfl, Nat.le_of_ble_eq_true rfl⟩) (fun z w4 H locs hp hH hS => ?_)
  obtain ⟨hb, hw⟩ := hp
  rw [← hw] at hH; clear hw
  rcases hb with ⟨b4, rfl⟩ | ⟨b4, rfl⟩
  · have b4 : (0 ≤ what ∧ what ≤ 1) := b4
    refine wz_ifeq (tgt := 35) X.x X.b dX0_setsTo_7 (by decide) (by decide) (fun h => absurd h (by decide)) (fun _ => ?_)
    refine lv_iload_n X.x X.b dX0_setsTo_10 rfl (lv_at hl 2 rfl) ?_
    refine wz_i2l X.x X.b dX0_setsTo_11 ⟨by omega, by omega⟩ ?_
    refine wz_iconst X.x X.b dX0_setsTo_12 ?_
    refine lv_iload_n X.x X.b dX0_setsTo_13 rfl (lv_at hl 1 rfl) ?_
    refine wz_isub X.x X.b dX0_setsTo_14 ?_
    refine wz_i2l X.x X.b dX0_setsTo_15 ⟨by omega, by omega⟩ ?_
    refine lv_iload_n X.x X.b dX0_setsTo_16 rfl (lv_at hl 1 rfl) ?_
    refine wz_ifne (tgt := 26) X.x X.b dX0_setsTo_17 (by decide) ⟨by omega, by omega⟩ (fun c17 => ?_) (fun c17 => ?_)
    · refine wz_ldc2 (n := 63) X.x X.b X.own (X.t _ q513) rfl dX0_setsTo_26 ?_
      refine wa_ci hS (wa_rS (rest := []) X hH (mX0_in _  v (1 - what) 63 (show rL v by first | assumption | omega) (show rL (1 - what) by first | assumption | omega) (show rL 63 by first | assumption | omega)) (va_cwS 3 X.t (lw_S q466 q467 q109 q468) rfl rfl rfl hdX0_in.2 ⟨Nat.le_of_ble_eq_true rfl, Nat.le_of_ble_eq_true rfl⟩) rfl rfl hl.1 rfl (Nat.le_of_ble_eq_true rfl) dX0_setsTo_29 ⟨Nat.le_of_ble_eq_true rfl, Nat.le_of_ble_eq_true rfl⟩) (fun z w29 H locs hp hH hS => ?_)
      obtain ⟨hb, hw⟩ := hp
      rw [← hw] at hH; clear hw
      rcases hb with ⟨b29, rfl⟩ | ⟨b29, rfl⟩
      · have b29 : ((1 - what) ≤ v ∧ v ≤ 63) := b29
        refine wz_ifne (tgt := 38) X.x X.b dX0_setsTo_32 (by decide) (by decide) (fun _ => ?_) (fun h => absurd h (by decide))
        refine lv_aload_n X.x X.b dX0_setsTo_38 rfl (lv_at hl 0 rfl) ?_
        refine wa_cv hS (wa_rV (rest := []) X hH (mX0_leaves hX hI  ) (cwV 0 X.t (lw_V q471 q473 qs1 q109 q474) rfl rfl rfl hdX0_leaves ⟨Nat.le_of_ble_eq_true rfl, Nat.le_of_ble_eq_true rfl⟩) rfl (have h9 := (XW.c0 hX); h9) rfl rfl hl.1 rfl (Nat.le_of_ble_eq_true rfl) dX0_setsTo_39 ⟨Nat.le_of_ble_eq_true rfl, Nat.le_of_ble_eq_true rfl⟩) (fun w39 H locs hp hH hS => ?_)
        obtain ⟨S2_39, A2_39, B2_39, P2_39, hX, hk, hx39_0, hx39_1⟩ := hp
        have hI := hI.kp hk
        have hPX := hPX.kp hk
        have hWY := hWY.kp hk
        have hNV := hNV.kp hk
        have hXJ := hXJ.kp hk
        have hK := hK.kp hk
        have hI := hx39_0
        obtain ⟨ho, hST, hXJ, hRX⟩ := id hI
        have hmany := ho.many
        have hPX : PX G ad w39 (B2_39 10) g := hST.2.2.1
        have hWY : WAYS G ad w39 (B2_39 5) := hRX.1
        have hNV : NVX ad w39 P2_39 := hRX.2.1
        have hm : S2_39 30 = g 3 := hST.1.2
        have hwd : S2_39 20 = g 0 := hST.1.1
        have hg : A2_39 10 0 = g 1 ∧ A2_39 10 1 = g 2 := hST.2.1
        have hwide := ho.wide
        have hS0 : S2_39 0 = (keepM qt st) := hRX.2.2.2.1.1
        have hS1 : S2_39 1 = qt := hRX.2.2.2.1.2.1
        have hS2 : S2_39 2 = tl := hRX.2.2.2.1.2.2.1
        have hstr := hRX.2.2.2.2.2.2.2.1
        have htlr := hRX.2.2.2.2.2.2.2.2.1
        have hqt := hRX.2.2.2.2.2.2.2.2.2.1
        have h4w := hx39_1
        have hw01 : what = 0 ∨ what = 1 := by omega
        refine lv_aload_n X.x X.b dX0_setsTo_42 rfl (lv_at hl 0 rfl) ?_
        refine wa_get (v := .ref (ad 1)) X hH (have h9 := (XW.c0 hX); h9) wcX0 0 (by decide) q417 rfl (fun _ h9 => h9) rfl dX0_setsTo_43 ?_
        refine wa_getN (v := .ref (ad 3)) X hH (have h9 := (XW.c1 hX); h9) wcX1 4 (by decide) q175 rfl (fun _ h9 => h9) rfl dX0_setsTo_46 ?_
        refine lv_iload_n X.x X.b dX0_setsTo_49 rfl (lv_at hl 1 rfl) ?_
        refine wa_iald (f := A2_39 10) X hH (have h9 := (XW.c3 hX); h9) (by omega) (by omega) (by omega) dX0_setsTo_50 ?_
        refine lv_istore_n (lv' := [(3, .int (zI ((A2_39 10) what))), (0, .ref (ad 0)), (1, .int (zI what)), (2, .int (zI v))]) X.x X.b dX0_setsTo_51 rfl hl (by decide) rfl (fun ls hl => ?_)
        refine lv_aload_n X.x X.b dX0_setsTo_52 rfl (lv_at hl 1 rfl) ?_
        refine wa_get (v := .ref (ad 1)) X hH (have h9 := (XW.c0 hX); h9) wcX0 0 (by decide) q417 rfl (fun _ h9 => h9) rfl dX0_setsTo_53 ?_
        refine wa_getN (v := .ref (ad 3)) X hH (have h9 := (XW.c1 hX); h9) wcX1 4 (by decide) q175 rfl (fun _ h9 => h9) rfl dX0_setsTo_56 ?_
        refine lv_iload_n X.x X.b dX0_setsTo_59 rfl (lv_at hl 2 rfl) ?_
        refine lv_iload_n X.x X.b dX0_setsTo_60 rfl (lv_at hl 3 rfl) ?_
        refine wa_iast (f := A2_39 10) X hH hS (have h9 := (XW.c3 hX); h9) (by omega) (by omega) (by omega) dX0_setsTo_61 (fun w61 H locs ew hH hS => ?_)
        have hk : Kp ad w39 w61 := Kp.set (i := 3) (by omega) ew
        have hX := hX.sA (i := 3) (10) (x := fup (A2_39 10) what v) (by unfold oA; omega) ew
        have hI := hI.kp hk
        have hPX := hPX.kp hk
        have hWY := hWY.kp hk
        have hNV := hNV.kp hk
        have hXJ := hXJ.kp hk
        have hK := hK.kp hk
        clear ew
        refine lv_iload_n X.x X.b dX0_setsTo_62 rfl (lv_at hl 0 rfl) ?_
        exact wa_iret X hH hS dX0_setsTo_63 ⟨by unfold setsV; first | (rw [if_neg (by omega)]; done) | (rw [if_pos (by omega)]; rcases hw01 with q | q <;> (rw [q]; first | exact hg.1 | exact hg.2)), ⟨_, _, _, _, hX, hK, (hI.se h4w (by omega) (okS_set ho (by omega))).eq (by unfold setsG; rw [if_pos (by omega)]) (by unfold qP; rw [if_pos (by omega)]) rfl (by unfold qN; rw [if_pos (by omega)])⟩⟩
      · have b29 : ¬ ((1 - what) ≤ v ∧ v ≤ 63) := b29
        refine wz_ifne (tgt := 38) X.x X.b dX0_setsTo_32 (by decide) (by decide) (fun h => absurd h (by decide)) (fun _ => ?_)
        refine wz_bipush X.x X.b dX0_setsTo_35 rfl ?_
        exact wa_iret X hH hS dX0_setsTo_37 ⟨by unfold setsV; first | (rw [if_neg (by omega)]; done) | (rw [if_pos (by omega)]; rcases hw01 with q | q <;> (rw [q]; first | exact hg.1 | exact hg.2)), ⟨_, _, _, _, hX, hK, hI.eq (by unfold setsG; rw [if_neg (by omega)]) (by unfold qP; rw [if_neg (by omega)]) rfl (by unfold qN; rw [if_neg (by omega)])⟩⟩
    · refine wz_ldc2 (n := 126) X.x X.b X.own (X.t _ q605) rfl dX0_setsTo_20 ?_
      refine lv_goto (tgt := 29) X.x X.b dX0_setsTo_23 (by decide) ?_
      refine wa_ci hS (wa_rS (rest := []) X hH (mX0_in _  v (1 - what) 126 (show rL v by first | assumption | omega) (show rL (1 - what) by first | assumption | omega) (show rL 126 by first | assumption | omega)) (va_cwS 3 X.t (lw_S q466 q467 q109 q468) rfl rfl rfl hdX0_in.2 ⟨Nat.le_of_ble_eq_true rfl, Nat.le_of_ble_eq_true rfl⟩) rfl rfl hl.1 rfl (Nat.le_of_ble_eq_true rfl) dX0_setsTo_29 ⟨Nat.le_of_ble_eq_true rfl, Nat.le_of_ble_eq_true rfl⟩) (fun z w29 H locs hp hH hS => ?_)
      obtain ⟨hb, hw⟩ := hp
      rw [← hw] at hH; clear hw
      rcases hb with ⟨b29, rfl⟩ | ⟨b29, rfl⟩
      · have b29 : ((1 - what) ≤ v ∧ v ≤ 126) := b29
        refine wz_ifne (tgt := 38) X.x X.b dX0_setsTo_32 (by decide) (by decide) (fun _ => ?_) (fun h => absurd h (by decide))
        refine lv_aload_n X.x X.b dX0_setsTo_38 rfl (lv_at hl 0 rfl) ?_
        refine wa_cv hS (wa_rV (rest := []) X hH (mX0_leaves hX hI  ) (cwV 0 X.t (lw_V q471 q473 qs1 q109 q474) rfl rfl rfl hdX0_leaves ⟨Nat.le_of_ble_eq_true rfl, Nat.le_of_ble_eq_true rfl⟩) rfl (have h9 := (XW.c0 hX); h9) rfl rfl hl.1 rfl (Nat.le_of_ble_eq_true rfl) dX0_setsTo_39 ⟨Nat.le_of_ble_eq_true rfl, Nat.le_of_ble_eq_true rfl⟩) (fun w39 H locs hp hH hS => ?_)
        obtain ⟨S2_39, A2_39, B2_39, P2_39, hX, hk, hx39_0, hx39_1⟩ := hp
        have hI := hI.kp hk
        have hPX := hPX.kp hk
        have hWY := hWY.kp hk
        have hNV := hNV.kp hk
        have hXJ := hXJ.kp hk
        have hK := hK.kp hk
        have hI := hx39_0
        obtain ⟨ho, hST, hXJ, hRX⟩ := id hI
        have hmany := ho.many
        have hPX : PX G ad w39 (B2_39 10) g := hST.2.2.1
        have hWY : WAYS G ad w39 (B2_39 5) := hRX.1
        have hNV : NVX ad w39 P2_39 := hRX.2.1
        have hm : S2_39 30 = g 3 := hST.1.2
        have hwd : S2_39 20 = g 0 := hST.1.1
        have hg : A2_39 10 0 = g 1 ∧ A2_39 10 1 = g 2 := hST.2.1
        have hwide := ho.wide
        have hS0 : S2_39 0 = (keepM qt st) := hRX.2.2.2.1.1
        have hS1 : S2_39 1 = qt := hRX.2.2.2.1.2.1
        have hS2 : S2_39 2 = tl := hRX.2.2.2.1.2.2.1
        have hstr := hRX.2.2.2.2.2.2.2.1
        have htlr := hRX.2.2.2.2.2.2.2.2.1
        have hqt := hRX.2.2.2.2.2.2.2.2.2.1
        have h4w := hx39_1
        have hw01 : what = 0 ∨ what = 1 := by omega
        refine lv_aload_n X.x X.b dX0_setsTo_42 rfl (lv_at hl 0 rfl) ?_
        refine wa_get (v := .ref (ad 1)) X hH (have h9 := (XW.c0 hX); h9) wcX0 0 (by decide) q417 rfl (fun _ h9 => h9) rfl dX0_setsTo_43 ?_
        refine wa_getN (v := .ref (ad 3)) X hH (have h9 := (XW.c1 hX); h9) wcX1 4 (by decide) q175 rfl (fun _ h9 => h9) rfl dX0_setsTo_46 ?_
        refine lv_iload_n X.x X.b dX0_setsTo_49 rfl (lv_at hl 1 rfl) ?_
        refine wa_iald (f := A2_39 10) X hH (have h9 := (XW.c3 hX); h9) (by omega) (by omega) (by omega) dX0_setsTo_50 ?_
        refine lv_istore_n (lv' := [(3, .int (zI ((A2_39 10) what))), (0, .ref (ad 0)), (1, .int (zI what)), (2, .int (zI v))]) X.x X.b dX0_setsTo_51 rfl hl (by decide) rfl (fun ls hl => ?_)
        refine lv_aload_n X.x X.b dX0_setsTo_52 rfl (lv_at hl 1 rfl) ?_
        refine wa_get (v := .ref (ad 1)) X hH (have h9 := (XW.c0 hX); h9) wcX0 0 (by decide) q417 rfl (fun _ h9 => h9) rfl dX0_setsTo_53 ?_
        refine wa_getN (v := .ref (ad 3)) X hH (have h9 := (XW.c1 hX); h9) wcX1 4 (by decide) q175 rfl (fun _ h9 => h9) rfl dX0_setsTo_56 ?_
        refine lv_iload_n X.x X.b dX0_setsTo_59 rfl (lv_at hl 2 rfl) ?_
        refine lv_iload_n X.x X.b dX0_setsTo_60 rfl (lv_at hl 3 rfl) ?_
        refine wa_iast (f := A2_39 10) X hH hS (have h9 := (XW.c3 hX); h9) (by omega) (by omega) (by omega) dX0_setsTo_61 (fun w61 H locs ew hH hS => ?_)
        have hk : Kp ad w39 w61 := Kp.set (i := 3) (by omega) ew
        have hX := hX.sA (i := 3) (10) (x := fup (A2_39 10) what v) (by unfold oA; omega) ew
        have hI := hI.kp hk
        have hPX := hPX.kp hk
        have hWY := hWY.kp hk
        have hNV := hNV.kp hk
        have hXJ := hXJ.kp hk
        have hK := hK.kp hk
        clear ew
        refine lv_iload_n X.x X.b dX0_setsTo_62 rfl (lv_at hl 0 rfl) ?_
        exact wa_iret X hH hS dX0_setsTo_63 ⟨by unfold setsV; first | (rw [if_neg (by omega)]; done) | (rw [if_pos (by omega)]; rcases hw01 with q | q <;> (rw [q]; first | exact hg.1 | exact hg.2)), ⟨_, _, _, _, hX, hK, (hI.se h4w (by omega) (okS_set ho (by omega))).eq (by unfold setsG; rw [if_pos (by omega)]) (by unfold qP; rw [if_pos (by omega)]) rfl (by unfold qN; rw [if_pos (by omega)])⟩⟩
      · have b29 : ¬ ((1 - what) ≤ v ∧ v ≤ 126) := b29
        refine wz_ifne (tgt := 38) X.x X.b dX0_setsTo_32 (by decide) (by decide) (fun h => absurd h (by decide)) (fun _ => ?_)
        refine wz_bipush X.x X.b dX0_setsTo_35 rfl ?_
        exact wa_iret X hH hS dX0_setsTo_37 ⟨by unfold setsV; first | (rw [if_neg (by omega)]; done) | (rw [if_pos (by omega)]; rcases hw01 with q | q <;> (rw [q]; first | exact hg.1 | exact hg.2)), ⟨_, _, _, _, hX, hK, hI.eq (by unfold setsG; rw [if_neg (by omega)]) (by unfold qP; rw [if_neg (by omega)]) rfl (by unfold qN; rw [if_neg (by omega)])⟩⟩
  · have b4 : ¬ (0 ≤ what ∧ what ≤ 1) := b4
    refine wz_ifeq (tgt := 35) X.x X.b dX0_setsTo_7 (by decide) (by decide) (fun _ => ?_) (fun h => absurd h (by decide))
    refine wz_bipush X.x X.b dX0_setsTo_35 rfl ?_
    exact wa_iret X hH hS dX0_setsTo_37 ⟨by unfold setsV; first | (rw [if_neg (by omega)]; done) | (rw [if_pos (by omega)]; rcases hw01 with q | q <;> (rw [q]; first | exact hg.1 | exact hg.2)), ⟨_, _, _, _, hX, hK, hI.eq (by unfold setsG; rw [if_neg (by omega)]) (by unfold qP; rw [if_neg (by omega)]) rfl (by unfold qN; rw [if_neg (by omega)])⟩⟩
set_option maxRecDepth 100000 in
theorem mX0_counted {lL : Launch} {G : wa_G} {ad : Nat → Nat} {w : wa_W} {S : Nat → Int} {A : Nat → Int → Int} {B : Nat → Int → Option Nat} {P : Nat → Option Nat} (hX : XW G ad w S A B P) {g : Int → Int} {past : Int → Int} {re : Int → Int} {tx : Int → Int} {st : Int} {ck : Int} {co : Int} {tl : Int} {qt : Int} (hI : XI G ad w S A B P g past re tx st ck co tl qt) (v : Int) (r_v : rI v) : Met lL yX0_counted (ws_ yX0_counted cX0_counted 2 (some FieldType.int)) ({ frames := 2, cells := 0, slots := 0, locals := 42 } : Room) (wa_P G w [.ref (ad 0), .int (zI v)]) (wa_Qz G fun z u => z = v ∧ ∃ (S2 : Nat → Int) (A2 : Nat → Int → Int) (B2 : Nat → Int → Option Nat) (P2 : Nat → Option Nat), XW G ad u S2 A2 B2 P2 ∧ Kp ad w u ∧ (XI G ad u S2 A2 B2 P2 g past (rfu re (cntA v)) tx st ck co tl qt)) 0 0 (wa_A G) := by
  refine wa_met (by decide) (by exact Nat.le_of_ble_eq_true rfl) ?_
  intro pP eE sS mM aA bB mT cC ls X hl hH
  have hS : va_S (wa_A G) sS.heap sS.heap [] := va_S.rf
  have hl : lv_has ls 2 [(0, .ref (ad 0)), (1, .int (zI v))] := hl
  have hK : Kp ad w w := Kp.rf
  have hI_0 := hI
  obtain ⟨ho, hST, hXJ, hRX⟩ := id hI
  have hmany := ho.many
  have hPX : PX G ad w (B 10) g := hST.2.2.1
  have hWY : WAYS G ad w (B 5) := hRX.1
  have hNV : NVX ad w P := hRX.2.1
  have hm : S 30 = g 3 := hST.1.2
  have hwd : S 20 = g 0 := hST.1.1
  have hg : A 10 0 = g 1 ∧ A 10 1 = g 2 := hST.2.1
  have hwide := ho.wide
  have hS0 : S 0 = st := hRX.2.2.2.1.1
  have hS1 : S 1 = qt := hRX.2.2.2.1.2.1
  have hS2 : S 2 = tl := hRX.2.2.2.1.2.2.1
  have hstr := hRX.2.2.2.2.2.2.2.1
  have htlr := hRX.2.2.2.2.2.2.2.2.1
  have hqt := hRX.2.2.2.2.2.2.2.2.2.1
  have hPX_0 := hPX
  have hWY_0 := hWY
  have hNV_0 := hNV
  have hXJ_0 := hXJ
  refine lv_iload_n X.x X.b dX0_counted_0 rfl (lv_at hl 1 rfl) ?_
  refine wz_bipush X.x X.b dX0_counted_1 rfl ?_
  refine wz_icmp_ne (tgt := 13) X.x X.b dX0_counted_3 (by decide) ⟨by omega, by omega⟩ ⟨by omega, by omega⟩ (fun c3 => ?_) (fun c3 => ?_)
  · refine lv_iload_n X.x X.b dX0_counted_13 rfl (lv_at hl 1 rfl) ?_
    refine wz_bipush X.x X.b dX0_counted_14 rfl ?_
    refine wz_icmp_ne (tgt := 29) X.x X.b dX0_counted_16 (by decide) ⟨by omega, by omega⟩ ⟨by omega, by omega⟩ (fun c16 => ?_) (fun c16 => ?_)
    · refine lv_iload_n X.x X.b dX0_counted_29 rfl (lv_at hl 1 rfl) ?_
      exact wa_iret X hH hS dX0_counted_30 ⟨by first | rfl | omega | assumption, ⟨_, _, _, _, hX, hK, (hI).rv (by unfold cntA rfu; (repeat' split) <;> first | rfl | (exfalso; omega))⟩⟩
    · refine lv_aload_n X.x X.b dX0_counted_19 rfl (lv_at hl 0 rfl) ?_
      refine wz_iconst X.x X.b dX0_counted_20 ?_
      refine wz_bipush X.x X.b dX0_counted_21 rfl ?_
      refine wa_ci hS (wa_rV (rest := []) X hH (mX0_refuses hX  2 (-4) (show 0 ≤ 2 ∧ 2 ≤ 2 by first | assumption | omega)) (cwV 2 X.t (lw_V q496 q498 qs4 q109 q499) rfl rfl rfl hdX0_refuses ⟨Nat.le_of_ble_eq_true rfl, Nat.le_of_ble_eq_true rfl⟩) rfl (have h9 := (XW.c0 hX); h9) rfl rfl hl.1 rfl (Nat.le_of_ble_eq_true rfl) dX0_counted_23 ⟨Nat.le_of_ble_eq_true rfl, Nat.le_of_ble_eq_true rfl⟩) (fun z w23 H locs hp hH hS => ?_)
      obtain ⟨rfl, ⟨hX, hk⟩⟩ := hp
      have hI := hI.kp hk
      have hPX := hPX.kp hk
      have hWY := hWY.kp hk
      have hNV := hNV.kp hk
      have hXJ := hXJ.kp hk
      have hK := hK.kp hk
      refine lv_goto (tgt := 30) X.x X.b dX0_counted_26 (by decide) ?_
      exact wa_iret X hH hS dX0_counted_30 ⟨by first | rfl | omega | assumption, ⟨_, _, _, _, hX, hK, (hI.ref).rv (by unfold cntA rfu; (repeat' split) <;> first | rfl | (exfalso; omega))⟩⟩
  · refine lv_aload_n X.x X.b dX0_counted_6 rfl (lv_at hl 0 rfl) ?_
    refine wa_ci hS (wa_rV (rest := []) X hH (mX0_bad hX   ) (cwV 0 X.t (lw_V q492 q494 qs3 q109 q495) rfl rfl rfl hdX0_bad ⟨Nat.le_of_ble_eq_true rfl, Nat.le_of_ble_eq_true rfl⟩) rfl (have h9 := (XW.c0 hX); h9) rfl rfl hl.1 rfl (Nat.le_of_ble_eq_true rfl) dX0_counted_7 ⟨Nat.le_of_ble_eq_true rfl, Nat.le_of_ble_eq_true rfl⟩) (fun z w7 H locs hp hH hS => ?_)
    obtain ⟨rfl, ⟨hX, hk⟩⟩ := hp
    have hI := hI.kp hk
    have hPX := hPX.kp hk
    have hWY := hWY.kp hk
    have hNV := hNV.kp hk
    have hXJ := hXJ.kp hk
    have hK := hK.kp hk
    refine lv_goto (tgt := 30) X.x X.b dX0_counted_10 (by decide) ?_
    exact wa_iret X hH hS dX0_counted_30 ⟨by first | rfl | omega | assumption, ⟨_, _, _, _, hX, hK, (hI.ref).rv (by unfold cntA rfu; (repeat' split) <;> first | rfl | (exfalso; omega))⟩⟩
set_option maxRecDepth 100000 in
theorem mX0_world {lL : Launch} {G : wa_G} {ad : Nat → Nat} {w : wa_W} {S : Nat → Int} {A : Nat → Int → Int} {B : Nat → Int → Option Nat} {P : Nat → Option Nat} (hX : XW G ad w S A B P) {g : Int → Int} {past : Int → Int} {re : Int → Int} {tx : Int → Int} {st : Int} {ck : Int} {co : Int} {tl : Int} {qt : Int} (hI : XI G ad w S A B P g past re tx st ck co tl qt) (s0 : Int) (q0 : Int) (r_s0 : rI s0) (r_q0 : rI q0) (hq : qt = 0) : Met lL yX0_world (ws_ yX0_world cX0_world 3 (some FieldType.int)) ({ frames := 4, cells := 1, slots := 192, locals := 169 } : Room) (wa_P G w [.ref (ad 0), .int (zI s0), .int (zI q0)]) (wa_Qz G fun z u => z = worldV g s0 q0 ∧ ∃ (S2 : Nat → Int) (A2 : Nat → Int → Int) (B2 : Nat → Int → Option Nat) (P2 : Nat → Option Nat), XW G ad u S2 A2 B2 P2 ∧ Kp ad w u ∧ (XI G ad u S2 A2 B2 P2 (worldG g s0 q0) (keepPo (okWorld s0 q0) past g st) (rfu re (bad (okWorld s0 q0))) tx (keepNo (okWorld s0 q0) st) ck co tl qt)) 1 192 (wa_A G) := by
  refine wa_met (by decide) (by exact Nat.le_of_ble_eq_true rfl) ?_
  intro pP eE sS mM aA bB mT cC ls X hl hH
  have hS : va_S (wa_A G) sS.heap sS.heap [] := va_S.rf
  have hl : lv_has ls 3 [(0, .ref (ad 0)), (1, .int (zI s0)), (2, .int (zI q0))] := hl
  have hK : Kp ad w w := Kp.rf
  have hI_0 := hI
  obtain ⟨ho, hST, hXJ, hRX⟩ := id hI
  have hmany := ho.many
  have hPX : PX G ad w (B 10) g := hST.2.2.1
  have hWY : WAYS G ad w (B 5) := hRX.1
  have hNV : NVX ad w P := hRX.2.1
  have hm : S 30 = g 3 := hST.1.2
  have hwd : S 20 = g 0 := hST.1.1
  have hg : A 10 0 = g 1 ∧ A 10 1 = g 2 := hST.2.1
  have hwide := ho.wide
  have hS0 : S 0 = st := hRX.2.2.2.1.1
  have hS1 : S 1 = qt := hRX.2.2.2.1.2.1
  have hS2 : S 2 = tl := hRX.2.2.2.1.2.2.1
  have hstr := hRX.2.2.2.2.2.2.2.1
  have htlr := hRX.2.2.2.2.2.2.2.2.1
  have hqt := hRX.2.2.2.2.2.2.2.2.2.1
  have hPX_0 := hPX
  have hWY_0 := hWY
  have hNV_0 := hNV
  have hXJ_0 := hXJ
  have hVR : (worldV g s0 q0 = -2 ∧ bad (okWorld s0 q0) = 0) ∨ ((0 ≤ worldV g s0 q0 ∧ worldV g s0 q0 < 1000) ∧ bad (okWorld s0 q0) = -1) ∨ (worldV g s0 q0 = -4 ∧ bad (okWorld s0 q0) = 2) := by
    unfold worldV bad; (repeat' split) <;> omega
  refine lv_aload_n X.x X.b dX0_world_0 rfl (lv_at hl 0 rfl) ?_
  refine lv_aload_n X.x X.b dX0_world_1 rfl (lv_at hl 0 rfl) ?_
  refine lv_iload_n X.x X.b dX0_world_2 rfl (lv_at hl 1 rfl) ?_
  refine lv_iload_n X.x X.b dX0_world_3 rfl (lv_at hl 2 rfl) ?_
  refine wa_ci hS (wa_rV (rest := [.ref (ad 0)]) X hH (mX0_worldTo hX hI s0 q0 (show rI s0 by first | assumption | omega) (show rI q0 by first | assumption | omega)) (cwV 2 X.t (lw_V q461 q463 qs0 q109 q464) rfl rfl rfl hdX0_worldTo ⟨Nat.le_of_ble_eq_true rfl, Nat.le_of_ble_eq_true rfl⟩) rfl (have h9 := (XW.c0 hX); h9) rfl rfl hl.1 rfl (Nat.le_of_ble_eq_true rfl) dX0_world_4 ⟨Nat.le_of_ble_eq_true rfl, Nat.le_of_ble_eq_true rfl⟩) (fun z w4 H locs hp hH hS => ?_)
  obtain ⟨rfl, ⟨S2_4, A2_4, B2_4, P2_4, hX, hk, hx4_0⟩⟩ := hp
  have hI := hI.kp hk
  have hPX := hPX.kp hk
  have hWY := hWY.kp hk
  have hNV := hNV.kp hk
  have hXJ := hXJ.kp hk
  have hK := hK.kp hk
  have hI := hx4_0
  refine wa_ci hS (wa_rV (rest := []) X hH (mX0_counted hX hI (worldV g s0 q0) (by unfold rI; omega)) (cwV 1 X.t (lw_V q488 q490 qs2 q109 q491) rfl rfl rfl hdX0_counted ⟨Nat.le_of_ble_eq_true rfl, Nat.le_of_ble_eq_true rfl⟩) rfl (have h9 := (XW.c0 hX); h9) rfl rfl hl.1 rfl (Nat.le_of_ble_eq_true rfl) dX0_world_7 ⟨Nat.le_of_ble_eq_true rfl, Nat.le_of_ble_eq_true rfl⟩) (fun z w7 H locs hp hH hS => ?_)
  obtain ⟨rfl, ⟨S2_7, A2_7, B2_7, P2_7, hX, hk, hx7_0⟩⟩ := hp
  have hPX := hPX.kp hk
  have hWY := hWY.kp hk
  have hNV := hNV.kp hk
  have hXJ := hXJ.kp hk
  have hI := hI.kp hk
  have hK := hK.kp hk
  have hI := hx7_0
  refine W.widen (k := 1) (n := 192) (by first | exact Nat.le_of_ble_eq_true rfl | omega) (by first | exact Nat.le_of_ble_eq_true rfl | omega) ?_
  exact wa_iret X hH hS dX0_world_10 ⟨by rfl, ⟨_, _, _, _, hX, hK, hI.eq rfl (qP0 hq) (by congr 1; unfold cntA; omega) (qN0 hq)⟩⟩
set_option maxRecDepth 100000 in
theorem mX0_dots {lL : Launch} {G : wa_G} {ad : Nat → Nat} {w : wa_W} {S : Nat → Int} {A : Nat → Int → Int} {B : Nat → Int → Option Nat} {P : Nat → Option Nat} (hX : XW G ad w S A B P) {g : Int → Int} {past : Int → Int} {re : Int → Int} {tx : Int → Int} {st : Int} {ck : Int} {co : Int} {tl : Int} {qt : Int} (hI : XI G ad w S A B P g past re tx st ck co tl qt) (r : Int) (c : Int) (v : Int) (r_r : rI r) (r_c : rI c) (r_v : rI v) (hq : qt = 0) : Met lL yX0_dots (ws_ yX0_dots cX0_dots 4 (some FieldType.int)) ({ frames := 4, cells := 1, slots := 192, locals := 167 } : Room) (wa_P G w [.ref (ad 0), .int (zI r), .int (zI c), .int (zI v)]) (wa_Qz G fun z u => z = dotsV g r c v ∧ ∃ (S2 : Nat → Int) (A2 : Nat → Int → Int) (B2 : Nat → Int → Option Nat) (P2 : Nat → Option Nat), XW G ad u S2 A2 B2 P2 ∧ Kp ad w u ∧ (XI G ad u S2 A2 B2 P2 (dotsG g r c v) (keepPo (okDots g r c v) past g st) (rfu re (bad (okDots g r c v))) tx (keepNo (okDots g r c v) st) ck co tl qt)) 1 192 (wa_A G) := by
  refine wa_met (by decide) (by exact Nat.le_of_ble_eq_true rfl) ?_
  intro pP eE sS mM aA bB mT cC ls X hl hH
  have hS : va_S (wa_A G) sS.heap sS.heap [] := va_S.rf
  have hl : lv_has ls 4 [(0, .ref (ad 0)), (1, .int (zI r)), (2, .int (zI c)), (3, .int (zI v))] := hl
  have hK : Kp ad w w := Kp.rf
  have hI_0 := hI
  obtain ⟨ho, hST, hXJ, hRX⟩ := id hI
  have hmany := ho.many
  have hPX : PX G ad w (B 10) g := hST.2.2.1
  have hWY : WAYS G ad w (B 5) := hRX.1
  have hNV : NVX ad w P := hRX.2.1
  have hm : S 30 = g 3 := hST.1.2
  have hwd : S 20 = g 0 := hST.1.1
  have hg : A 10 0 = g 1 ∧ A 10 1 = g 2 := hST.2.1
  have hwide := ho.wide
  have hS0 : S 0 = st := hRX.2.2.2.1.1
  have hS1 : S 1 = qt := hRX.2.2.2.1.2.1
  have hS2 : S 2 = tl := hRX.2.2.2.1.2.2.1
  have hstr := hRX.2.2.2.2.2.2.2.1
  have htlr := hRX.2.2.2.2.2.2.2.2.1
  have hqt := hRX.2.2.2.2.2.2.2.2.2.1
  have hPX_0 := hPX
  have hWY_0 := hWY
  have hNV_0 := hNV
  have hXJ_0 := hXJ
  have hVR : (dotsV g r c v = -2 ∧ bad (okDots g r c v) = 0) ∨ ((0 ≤ dotsV g r c v ∧ dotsV g r c v < 1000) ∧ bad (okDots g r c v) = -1) ∨ (dotsV g r c v = -4 ∧ bad (okDots g r c v) = 2) := by
    have hw9 : okDots g r c v → 0 ≤ g (4 + 32 * r + c) ∧ g (4 + 32 * r + c) ≤ 63 := fun q => ho.wo _ (by omega) (by omega)
    by_cases ok9 : okDots g r c v
    · have hw8 := hw9 ok9
      unfold dotsV bad; rw [if_pos ok9, if_pos ok9]; omega
    unfold dotsV bad; (repeat' split) <;> omega
  refine lv_aload_n X.x X.b dX0_dots_0 rfl (lv_at hl 0 rfl) ?_
  refine lv_aload_n X.x X.b dX0_dots_1 rfl (lv_at hl 0 rfl) ?_
  refine lv_iload_n X.x X.b dX0_dots_2 rfl (lv_at hl 1 rfl) ?_
  refine lv_iload_n X.x X.b dX0_dots_3 rfl (lv_at hl 2 rfl) ?_
  refine lv_iload_n X.x X.b dX0_dots_4 rfl (lv_at hl 3 rfl) ?_
  refine wa_ci hS (wa_rV (rest := [.ref (ad 0)]) X hH (mX0_dotsTo hX hI r c v (show rI r by first | assumption | omega) (show rI c by first | assumption | omega) (show rI v by first | assumption | omega)) (cwV 3 X.t (lw_V q504 q506 qs5 q109 q507) rfl rfl rfl hdX0_dotsTo ⟨Nat.le_of_ble_eq_true rfl, Nat.le_of_ble_eq_true rfl⟩) rfl (have h9 := (XW.c0 hX); h9) rfl rfl hl.1 rfl (Nat.le_of_ble_eq_true rfl) dX0_dots_5 ⟨Nat.le_of_ble_eq_true rfl, Nat.le_of_ble_eq_true rfl⟩) (fun z w5 H locs hp hH hS => ?_)
  obtain ⟨rfl, ⟨S2_5, A2_5, B2_5, P2_5, hX, hk, hx5_0⟩⟩ := hp
  have hI := hI.kp hk
  have hPX := hPX.kp hk
  have hWY := hWY.kp hk
  have hNV := hNV.kp hk
  have hXJ := hXJ.kp hk
  have hK := hK.kp hk
  have hI := hx5_0
  refine wa_ci hS (wa_rV (rest := []) X hH (mX0_counted hX hI (dotsV g r c v) (by unfold rI; omega)) (cwV 1 X.t (lw_V q488 q490 qs2 q109 q491) rfl rfl rfl hdX0_counted ⟨Nat.le_of_ble_eq_true rfl, Nat.le_of_ble_eq_true rfl⟩) rfl (have h9 := (XW.c0 hX); h9) rfl rfl hl.1 rfl (Nat.le_of_ble_eq_true rfl) dX0_dots_8 ⟨Nat.le_of_ble_eq_true rfl, Nat.le_of_ble_eq_true rfl⟩) (fun z w8 H locs hp hH hS => ?_)
  obtain ⟨rfl, ⟨S2_8, A2_8, B2_8, P2_8, hX, hk, hx8_0⟩⟩ := hp
  have hPX := hPX.kp hk
  have hWY := hWY.kp hk
  have hNV := hNV.kp hk
  have hXJ := hXJ.kp hk
  have hI := hI.kp hk
  have hK := hK.kp hk
  have hI := hx8_0
  refine W.widen (k := 1) (n := 192) (by first | exact Nat.le_of_ble_eq_true rfl | omega) (by first | exact Nat.le_of_ble_eq_true rfl | omega) ?_
  exact wa_iret X hH hS dX0_dots_11 ⟨by rfl, ⟨_, _, _, _, hX, hK, hI.eq rfl (qP0 hq) (by congr 1; unfold cntA; omega) (qN0 hq)⟩⟩
set_option maxRecDepth 100000 in
theorem mX0_shot {lL : Launch} {G : wa_G} {ad : Nat → Nat} {w : wa_W} {S : Nat → Int} {A : Nat → Int → Int} {B : Nat → Int → Option Nat} {P : Nat → Option Nat} (hX : XW G ad w S A B P) {g : Int → Int} {past : Int → Int} {re : Int → Int} {tx : Int → Int} {st : Int} {ck : Int} {co : Int} {tl : Int} {qt : Int} (hI : XI G ad w S A B P g past re tx st ck co tl qt) (x : Int) (y : Int) (d : Int) (r_x : rI x) (r_y : rI y) (r_d : rI d) (hq : qt = 0) : Met lL yX0_shot (ws_ yX0_shot cX0_shot 4 (some FieldType.int)) ({ frames := 4, cells := 2, slots := 36, locals := 168 } : Room) (wa_P G w [.ref (ad 0), .int (zI x), .int (zI y), .int (zI d)]) (wa_Qz G fun z u => z = shotV g x y d ∧ ∃ (S2 : Nat → Int) (A2 : Nat → Int → Int) (B2 : Nat → Int → Option Nat) (P2 : Nat → Option Nat), XW G ad u S2 A2 B2 P2 ∧ Kp ad w u ∧ (XI G ad u S2 A2 B2 P2 (shotG g x y d) (keepPo (¬ canS g x y d < 0) past g st) (rfu re (shotR g x y d)) tx (keepNo (¬ canS g x y d < 0) st) ck co tl qt)) 2 36 (wa_A G) := by
  refine wa_met (by decide) (by exact Nat.le_of_ble_eq_true rfl) ?_
  intro pP eE sS mM aA bB mT cC ls X hl hH
  have hS : va_S (wa_A G) sS.heap sS.heap [] := va_S.rf
  have hl : lv_has ls 4 [(0, .ref (ad 0)), (1, .int (zI x)), (2, .int (zI y)), (3, .int (zI d))] := hl
  have hK : Kp ad w w := Kp.rf
  have hI_0 := hI
  obtain ⟨ho, hST, hXJ, hRX⟩ := id hI
  have hmany := ho.many
  have hPX : PX G ad w (B 10) g := hST.2.2.1
  have hWY : WAYS G ad w (B 5) := hRX.1
  have hNV : NVX ad w P := hRX.2.1
  have hm : S 30 = g 3 := hST.1.2
  have hwd : S 20 = g 0 := hST.1.1
  have hg : A 10 0 = g 1 ∧ A 10 1 = g 2 := hST.2.1
  have hwide := ho.wide
  have hS0 : S 0 = st := hRX.2.2.2.1.1
  have hS1 : S 1 = qt := hRX.2.2.2.1.2.1
  have hS2 : S 2 = tl := hRX.2.2.2.1.2.2.1
  have hstr := hRX.2.2.2.2.2.2.2.1
  have htlr := hRX.2.2.2.2.2.2.2.2.1
  have hqt := hRX.2.2.2.2.2.2.2.2.2.1
  have hPX_0 := hPX
  have hWY_0 := hWY
  have hNV_0 := hNV
  have hXJ_0 := hXJ
  have hVR : (shotV g x y d = -2 ∧ shotR g x y d = 0) ∨ ((0 ≤ shotV g x y d ∧ shotV g x y d < 1000) ∧ shotR g x y d = -1) ∨ (shotV g x y d = -4 ∧ shotR g x y d = 2) := by
    have hcan := canS_in g x y d
    unfold shotV shotR; (repeat' split) <;> omega
  refine lv_aload_n X.x X.b dX0_shot_0 rfl (lv_at hl 0 rfl) ?_
  refine lv_aload_n X.x X.b dX0_shot_1 rfl (lv_at hl 0 rfl) ?_
  refine lv_iload_n X.x X.b dX0_shot_2 rfl (lv_at hl 1 rfl) ?_
  refine lv_iload_n X.x X.b dX0_shot_3 rfl (lv_at hl 2 rfl) ?_
  refine lv_iload_n X.x X.b dX0_shot_4 rfl (lv_at hl 3 rfl) ?_
  refine wa_ci hS (wa_rV (rest := [.ref (ad 0)]) X hH (mX0_shotTo hX hI x y d (show rI x by first | assumption | omega) (show rI y by first | assumption | omega) (show rI d by first | assumption | omega)) (cwV 3 X.t (lw_V q525 q527 qs7 q109 q528) rfl rfl rfl hdX0_shotTo ⟨Nat.le_of_ble_eq_true rfl, Nat.le_of_ble_eq_true rfl⟩) rfl (have h9 := (XW.c0 hX); h9) rfl rfl hl.1 rfl (Nat.le_of_ble_eq_true rfl) dX0_shot_5 ⟨Nat.le_of_ble_eq_true rfl, Nat.le_of_ble_eq_true rfl⟩) (fun z w5 H locs hp hH hS => ?_)
  obtain ⟨rfl, ⟨S2_5, A2_5, B2_5, P2_5, hX, hk, hx5_0⟩⟩ := hp
  have hI := hI.kp hk
  have hPX := hPX.kp hk
  have hWY := hWY.kp hk
  have hNV := hNV.kp hk
  have hXJ := hXJ.kp hk
  have hK := hK.kp hk
  have hI := hx5_0
  refine wa_ci hS (wa_rV (rest := []) X hH (mX0_counted hX hI (shotV g x y d) (by unfold rI; omega)) (cwV 1 X.t (lw_V q488 q490 qs2 q109 q491) rfl rfl rfl hdX0_counted ⟨Nat.le_of_ble_eq_true rfl, Nat.le_of_ble_eq_true rfl⟩) rfl (have h9 := (XW.c0 hX); h9) rfl rfl hl.1 rfl (Nat.le_of_ble_eq_true rfl) dX0_shot_8 ⟨Nat.le_of_ble_eq_true rfl, Nat.le_of_ble_eq_true rfl⟩) (fun z w8 H locs hp hH hS => ?_)
  obtain ⟨rfl, ⟨S2_8, A2_8, B2_8, P2_8, hX, hk, hx8_0⟩⟩ := hp
  have hPX := hPX.kp hk
  have hWY := hWY.kp hk
  have hNV := hNV.kp hk
  have hXJ := hXJ.kp hk
  have hI := hI.kp hk
  have hK := hK.kp hk
  have hI := hx8_0
  refine W.widen (k := 2) (n := 36) (by first | exact Nat.le_of_ble_eq_true rfl | omega) (by first | exact Nat.le_of_ble_eq_true rfl | omega) ?_
  exact wa_iret X hH hS dX0_shot_11 ⟨by rfl, ⟨_, _, _, _, hX, hK, hI.eq rfl (qP0 hq) (by congr 1; unfold cntA; omega) (qN0 hq)⟩⟩
set_option maxRecDepth 100000 in
theorem mX0_paint {lL : Launch} {G : wa_G} {ad : Nat → Nat} {w : wa_W} {S : Nat → Int} {A : Nat → Int → Int} {B : Nat → Int → Option Nat} {P : Nat → Option Nat} (hX : XW G ad w S A B P) {g : Int → Int} {past : Int → Int} {re : Int → Int} {tx : Int → Int} {st : Int} {ck : Int} {co : Int} {tl : Int} {qt : Int} (hI : XI G ad w S A B P g past re tx st ck co tl qt) (k : Int) (r : Int) (c : Int) (v : Int) (r_k : rI k) (r_r : rI r) (r_c : rI c) (r_v : rI v) (hq : qt = 0) : Met lL yX0_paint (ws_ yX0_paint cX0_paint 5 (some FieldType.int)) ({ frames := 4, cells := 2, slots := 36, locals := 167 } : Room) (wa_P G w [.ref (ad 0), .int (zI k), .int (zI r), .int (zI c), .int (zI v)]) (wa_Qz G fun z u => z = paintV g k r c v ∧ ∃ (S2 : Nat → Int) (A2 : Nat → Int → Int) (B2 : Nat → Int → Option Nat) (P2 : Nat → Option Nat), XW G ad u S2 A2 B2 P2 ∧ Kp ad w u ∧ (XI G ad u S2 A2 B2 P2 (paintG g k r c v) (keepPo (okPaint g k r c v) past g st) (rfu re (bad (okPaint g k r c v))) tx (keepNo (okPaint g k r c v) st) ck co tl qt)) 2 36 (wa_A G) := by
  refine wa_met (by decide) (by exact Nat.le_of_ble_eq_true rfl) ?_
  intro pP eE sS mM aA bB mT cC ls X hl hH
  have hS : va_S (wa_A G) sS.heap sS.heap [] := va_S.rf
  have hl : lv_has ls 5 [(0, .ref (ad 0)), (1, .int (zI k)), (2, .int (zI r)), (3, .int (zI c)), (4, .int (zI v))] := hl
  have hK : Kp ad w w := Kp.rf
  have hI_0 := hI
  obtain ⟨ho, hST, hXJ, hRX⟩ := id hI
  have hmany := ho.many
  have hPX : PX G ad w (B 10) g := hST.2.2.1
  have hWY : WAYS G ad w (B 5) := hRX.1
  have hNV : NVX ad w P := hRX.2.1
  have hm : S 30 = g 3 := hST.1.2
  have hwd : S 20 = g 0 := hST.1.1
  have hg : A 10 0 = g 1 ∧ A 10 1 = g 2 := hST.2.1
  have hwide := ho.wide
  have hS0 : S 0 = st := hRX.2.2.2.1.1
  have hS1 : S 1 = qt := hRX.2.2.2.1.2.1
  have hS2 : S 2 = tl := hRX.2.2.2.1.2.2.1
  have hstr := hRX.2.2.2.2.2.2.2.1
  have htlr := hRX.2.2.2.2.2.2.2.2.1
  have hqt := hRX.2.2.2.2.2.2.2.2.2.1
  have hPX_0 := hPX
  have hWY_0 := hWY
  have hNV_0 := hNV
  have hXJ_0 := hXJ
  have hVR : (paintV g k r c v = -2 ∧ bad (okPaint g k r c v) = 0) ∨ ((0 ≤ paintV g k r c v ∧ paintV g k r c v < 1000) ∧ bad (okPaint g k r c v) = -1) ∨ (paintV g k r c v = -4 ∧ bad (okPaint g k r c v) = 2) := by
    by_cases ok9 : okPaint g k r c v
    · have hw8 := ho.pc k r c (by omega) (by omega) (by omega) (by omega) (by omega) (by omega)
      unfold paintV bad; rw [if_pos ok9, if_pos ok9]; omega
    unfold paintV bad; (repeat' split) <;> omega
  refine lv_aload_n X.x X.b dX0_paint_0 rfl (lv_at hl 0 rfl) ?_
  refine lv_aload_n X.x X.b dX0_paint_1 rfl (lv_at hl 0 rfl) ?_
  refine lv_iload_n X.x X.b dX0_paint_2 rfl (lv_at hl 1 rfl) ?_
  refine lv_iload_n X.x X.b dX0_paint_3 rfl (lv_at hl 2 rfl) ?_
  refine lv_iload_n X.x X.b dX0_paint_4 rfl (lv_at hl 3 rfl) ?_
  refine lv_iload X.x X.b dX0_paint_5 (lv_at hl 4 rfl) ?_
  refine wa_ci hS (wa_rV (rest := [.ref (ad 0)]) X hH (mX0_paintTo hX hI k r c v (show rI k by first | assumption | omega) (show rI r by first | assumption | omega) (show rI c by first | assumption | omega) (show rI v by first | assumption | omega)) (cwV 4 X.t (lw_V q568 q570 qs8 q109 q571) rfl rfl rfl hdX0_paintTo ⟨Nat.le_of_ble_eq_true rfl, Nat.le_of_ble_eq_true rfl⟩) rfl (have h9 := (XW.c0 hX); h9) rfl rfl hl.1 rfl (Nat.le_of_ble_eq_true rfl) dX0_paint_7 ⟨Nat.le_of_ble_eq_true rfl, Nat.le_of_ble_eq_true rfl⟩) (fun z w7 H locs hp hH hS => ?_)
  obtain ⟨rfl, ⟨S2_7, A2_7, B2_7, P2_7, hX, hk, hx7_0⟩⟩ := hp
  have hI := hI.kp hk
  have hPX := hPX.kp hk
  have hWY := hWY.kp hk
  have hNV := hNV.kp hk
  have hXJ := hXJ.kp hk
  have hK := hK.kp hk
  have hI := hx7_0
  refine wa_ci hS (wa_rV (rest := []) X hH (mX0_counted hX hI (paintV g k r c v) (by unfold rI; omega)) (cwV 1 X.t (lw_V q488 q490 qs2 q109 q491) rfl rfl rfl hdX0_counted ⟨Nat.le_of_ble_eq_true rfl, Nat.le_of_ble_eq_true rfl⟩) rfl (have h9 := (XW.c0 hX); h9) rfl rfl hl.1 rfl (Nat.le_of_ble_eq_true rfl) dX0_paint_10 ⟨Nat.le_of_ble_eq_true rfl, Nat.le_of_ble_eq_true rfl⟩) (fun z w10 H locs hp hH hS => ?_)
  obtain ⟨rfl, ⟨S2_10, A2_10, B2_10, P2_10, hX, hk, hx10_0⟩⟩ := hp
  have hPX := hPX.kp hk
  have hWY := hWY.kp hk
  have hNV := hNV.kp hk
  have hXJ := hXJ.kp hk
  have hI := hI.kp hk
  have hK := hK.kp hk
  have hI := hx10_0
  refine W.widen (k := 2) (n := 36) (by first | exact Nat.le_of_ble_eq_true rfl | omega) (by first | exact Nat.le_of_ble_eq_true rfl | omega) ?_
  exact wa_iret X hH hS dX0_paint_13 ⟨by rfl, ⟨_, _, _, _, hX, hK, hI.eq rfl (qP0 hq) (by congr 1; unfold cntA; omega) (qN0 hq)⟩⟩
set_option maxRecDepth 100000 in
theorem mX0_drops {lL : Launch} {G : wa_G} {ad : Nat → Nat} {w : wa_W} {S : Nat → Int} {A : Nat → Int → Int} {B : Nat → Int → Option Nat} {P : Nat → Option Nat} (hX : XW G ad w S A B P) {g : Int → Int} {past : Int → Int} {re : Int → Int} {tx : Int → Int} {st : Int} {ck : Int} {co : Int} {tl : Int} {qt : Int} (hI : XI G ad w S A B P g past re tx st ck co tl qt) (k : Int) (r_k : rI k) (hq : qt = 0) : Met lL yX0_drops (ws_ yX0_drops cX0_drops 2 (some FieldType.int)) ({ frames := 4, cells := 0, slots := 0, locals := 163 } : Room) (wa_P G w [.ref (ad 0), .int (zI k)]) (wa_Qz G fun z u => z = dropsV g k ∧ ∃ (S2 : Nat → Int) (A2 : Nat → Int → Int) (B2 : Nat → Int → Option Nat) (P2 : Nat → Option Nat), XW G ad u S2 A2 B2 P2 ∧ Kp ad w u ∧ (XI G ad u S2 A2 B2 P2 (dropsG g k) (keepPo (okPic g k) past g st) (rfu re (bad (okPic g k))) tx (keepNo (okPic g k) st) ck co tl qt)) 0 0 (wa_A G) := by
  refine wa_met (by decide) (by exact Nat.le_of_ble_eq_true rfl) ?_
  intro pP eE sS mM aA bB mT cC ls X hl hH
  have hS : va_S (wa_A G) sS.heap sS.heap [] := va_S.rf
  have hl : lv_has ls 2 [(0, .ref (ad 0)), (1, .int (zI k))] := hl
  have hK : Kp ad w w := Kp.rf
  have hI_0 := hI
  obtain ⟨ho, hST, hXJ, hRX⟩ := id hI
  have hmany := ho.many
  have hPX : PX G ad w (B 10) g := hST.2.2.1
  have hWY : WAYS G ad w (B 5) := hRX.1
  have hNV : NVX ad w P := hRX.2.1
  have hm : S 30 = g 3 := hST.1.2
  have hwd : S 20 = g 0 := hST.1.1
  have hg : A 10 0 = g 1 ∧ A 10 1 = g 2 := hST.2.1
  have hwide := ho.wide
  have hS0 : S 0 = st := hRX.2.2.2.1.1
  have hS1 : S 1 = qt := hRX.2.2.2.1.2.1
  have hS2 : S 2 = tl := hRX.2.2.2.1.2.2.1
  have hstr := hRX.2.2.2.2.2.2.2.1
  have htlr := hRX.2.2.2.2.2.2.2.2.1
  have hqt := hRX.2.2.2.2.2.2.2.2.2.1
  have hPX_0 := hPX
  have hWY_0 := hWY
  have hNV_0 := hNV
  have hXJ_0 := hXJ
  have hVR : (dropsV g k = -2 ∧ bad (okPic g k) = 0) ∨ ((0 ≤ dropsV g k ∧ dropsV g k < 1000) ∧ bad (okPic g k) = -1) ∨ (dropsV g k = -4 ∧ bad (okPic g k) = 2) := by
    unfold dropsV bad; (repeat' split) <;> omega
  refine lv_aload_n X.x X.b dX0_drops_0 rfl (lv_at hl 0 rfl) ?_
  refine lv_aload_n X.x X.b dX0_drops_1 rfl (lv_at hl 0 rfl) ?_
  refine lv_iload_n X.x X.b dX0_drops_2 rfl (lv_at hl 1 rfl) ?_
  refine wa_ci hS (wa_rV (rest := [.ref (ad 0)]) X hH (mX0_dropsTo hX hI k (show rI k by first | assumption | omega)) (cwV 1 X.t (lw_V q593 q595 qs10 q109 q596) rfl rfl rfl hdX0_dropsTo ⟨Nat.le_of_ble_eq_true rfl, Nat.le_of_ble_eq_true rfl⟩) rfl (have h9 := (XW.c0 hX); h9) rfl rfl hl.1 rfl (Nat.le_of_ble_eq_true rfl) dX0_drops_3 ⟨Nat.le_of_ble_eq_true rfl, Nat.le_of_ble_eq_true rfl⟩) (fun z w3 H locs hp hH hS => ?_)
  obtain ⟨rfl, ⟨S2_3, A2_3, B2_3, P2_3, hX, hk, hx3_0⟩⟩ := hp
  have hI := hI.kp hk
  have hPX := hPX.kp hk
  have hWY := hWY.kp hk
  have hNV := hNV.kp hk
  have hXJ := hXJ.kp hk
  have hK := hK.kp hk
  have hI := hx3_0
  refine wa_ci hS (wa_rV (rest := []) X hH (mX0_counted hX hI (dropsV g k) (by unfold rI; omega)) (cwV 1 X.t (lw_V q488 q490 qs2 q109 q491) rfl rfl rfl hdX0_counted ⟨Nat.le_of_ble_eq_true rfl, Nat.le_of_ble_eq_true rfl⟩) rfl (have h9 := (XW.c0 hX); h9) rfl rfl hl.1 rfl (Nat.le_of_ble_eq_true rfl) dX0_drops_6 ⟨Nat.le_of_ble_eq_true rfl, Nat.le_of_ble_eq_true rfl⟩) (fun z w6 H locs hp hH hS => ?_)
  obtain ⟨rfl, ⟨S2_6, A2_6, B2_6, P2_6, hX, hk, hx6_0⟩⟩ := hp
  have hPX := hPX.kp hk
  have hWY := hWY.kp hk
  have hNV := hNV.kp hk
  have hXJ := hXJ.kp hk
  have hI := hI.kp hk
  have hK := hK.kp hk
  have hI := hx6_0
  exact wa_iret X hH hS dX0_drops_9 ⟨by rfl, ⟨_, _, _, _, hX, hK, hI.eq rfl (qP0 hq) (by congr 1; unfold cntA; omega) (qN0 hq)⟩⟩
set_option maxRecDepth 100000 in
theorem mX0_sets {lL : Launch} {G : wa_G} {ad : Nat → Nat} {w : wa_W} {S : Nat → Int} {A : Nat → Int → Int} {B : Nat → Int → Option Nat} {P : Nat → Option Nat} (hX : XW G ad w S A B P) {g : Int → Int} {past : Int → Int} {re : Int → Int} {tx : Int → Int} {st : Int} {ck : Int} {co : Int} {tl : Int} {qt : Int} (hI : XI G ad w S A B P g past re tx st ck co tl qt) (what : Int) (v : Int) (r_what : rI what) (r_v : rI v) (hq : qt = 0) : Met lL yX0_sets (ws_ yX0_sets cX0_sets 3 (some FieldType.int)) ({ frames := 4, cells := 0, slots := 0, locals := 165 } : Room) (wa_P G w [.ref (ad 0), .int (zI what), .int (zI v)]) (wa_Qz G fun z u => z = setsV g what v ∧ ∃ (S2 : Nat → Int) (A2 : Nat → Int → Int) (B2 : Nat → Int → Option Nat) (P2 : Nat → Option Nat), XW G ad u S2 A2 B2 P2 ∧ Kp ad w u ∧ (XI G ad u S2 A2 B2 P2 (setsG g what v) (keepPo (okSets what v) past g st) (rfu re (bad (okSets what v))) tx (keepNo (okSets what v) st) ck co tl qt)) 0 0 (wa_A G) := by
  refine wa_met (by decide) (by exact Nat.le_of_ble_eq_true rfl) ?_
  intro pP eE sS mM aA bB mT cC ls X hl hH
  have hS : va_S (wa_A G) sS.heap sS.heap [] := va_S.rf
  have hl : lv_has ls 3 [(0, .ref (ad 0)), (1, .int (zI what)), (2, .int (zI v))] := hl
  have hK : Kp ad w w := Kp.rf
  have hI_0 := hI
  obtain ⟨ho, hST, hXJ, hRX⟩ := id hI
  have hmany := ho.many
  have hPX : PX G ad w (B 10) g := hST.2.2.1
  have hWY : WAYS G ad w (B 5) := hRX.1
  have hNV : NVX ad w P := hRX.2.1
  have hm : S 30 = g 3 := hST.1.2
  have hwd : S 20 = g 0 := hST.1.1
  have hg : A 10 0 = g 1 ∧ A 10 1 = g 2 := hST.2.1
  have hwide := ho.wide
  have hS0 : S 0 = st := hRX.2.2.2.1.1
  have hS1 : S 1 = qt := hRX.2.2.2.1.2.1
  have hS2 : S 2 = tl := hRX.2.2.2.1.2.2.1
  have hstr := hRX.2.2.2.2.2.2.2.1
  have htlr := hRX.2.2.2.2.2.2.2.2.1
  have hqt := hRX.2.2.2.2.2.2.2.2.2.1
  have hPX_0 := hPX
  have hWY_0 := hWY
  have hNV_0 := hNV
  have hXJ_0 := hXJ
  have hVR : (setsV g what v = -2 ∧ bad (okSets what v) = 0) ∨ ((0 ≤ setsV g what v ∧ setsV g what v < 1000) ∧ bad (okSets what v) = -1) ∨ (setsV g what v = -4 ∧ bad (okSets what v) = 2) := by
    have hch := ho.ch
    have hal := ho.al
    by_cases ok9 : okSets what v
    · have hw01 : what = 0 ∨ what = 1 := by omega
      unfold setsV bad; rw [if_pos ok9, if_pos ok9]; rcases hw01 with q | q <;> (rw [q]; first | (show (g 1 = -2 ∧ _) ∨ ((0 ≤ g 1 ∧ g 1 < 1000) ∧ _) ∨ _; omega) | (show (g 2 = -2 ∧ _) ∨ ((0 ≤ g 2 ∧ g 2 < 1000) ∧ _) ∨ _; omega))
    unfold setsV bad; (repeat' split) <;> omega
  refine lv_aload_n X.x X.b dX0_sets_0 rfl (lv_at hl 0 rfl) ?_
  refine lv_aload_n X.x X.b dX0_sets_1 rfl (lv_at hl 0 rfl) ?_
  refine lv_iload_n X.x X.b dX0_sets_2 rfl (lv_at hl 1 rfl) ?_
  refine lv_iload_n X.x X.b dX0_sets_3 rfl (lv_at hl 2 rfl) ?_
  refine wa_ci hS (wa_rV (rest := [.ref (ad 0)]) X hH (mX0_setsTo hX hI what v (show rI what by first | assumption | omega) (show rI v by first | assumption | omega)) (cwV 2 X.t (lw_V q601 q603 qs11 q109 q604) rfl rfl rfl hdX0_setsTo ⟨Nat.le_of_ble_eq_true rfl, Nat.le_of_ble_eq_true rfl⟩) rfl (have h9 := (XW.c0 hX); h9) rfl rfl hl.1 rfl (Nat.le_of_ble_eq_true rfl) dX0_sets_4 ⟨Nat.le_of_ble_eq_true rfl, Nat.le_of_ble_eq_true rfl⟩) (fun z w4 H locs hp hH hS => ?_)
  obtain ⟨rfl, ⟨S2_4, A2_4, B2_4, P2_4, hX, hk, hx4_0⟩⟩ := hp
  have hI := hI.kp hk
  have hPX := hPX.kp hk
  have hWY := hWY.kp hk
  have hNV := hNV.kp hk
  have hXJ := hXJ.kp hk
  have hK := hK.kp hk
  have hI := hx4_0
  refine wa_ci hS (wa_rV (rest := []) X hH (mX0_counted hX hI (setsV g what v) (by unfold rI; omega)) (cwV 1 X.t (lw_V q488 q490 qs2 q109 q491) rfl rfl rfl hdX0_counted ⟨Nat.le_of_ble_eq_true rfl, Nat.le_of_ble_eq_true rfl⟩) rfl (have h9 := (XW.c0 hX); h9) rfl rfl hl.1 rfl (Nat.le_of_ble_eq_true rfl) dX0_sets_7 ⟨Nat.le_of_ble_eq_true rfl, Nat.le_of_ble_eq_true rfl⟩) (fun z w7 H locs hp hH hS => ?_)
  obtain ⟨rfl, ⟨S2_7, A2_7, B2_7, P2_7, hX, hk, hx7_0⟩⟩ := hp
  have hPX := hPX.kp hk
  have hWY := hWY.kp hk
  have hNV := hNV.kp hk
  have hXJ := hXJ.kp hk
  have hI := hI.kp hk
  have hK := hK.kp hk
  have hI := hx7_0
  exact wa_iret X hH hS dX0_sets_10 ⟨by rfl, ⟨_, _, _, _, hX, hK, hI.eq rfl (qP0 hq) (by congr 1; unfold cntA; omega) (qN0 hq)⟩⟩

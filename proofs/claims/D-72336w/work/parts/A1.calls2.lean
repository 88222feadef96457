/-! CALLS: all, place, overlap, level, rest, shows, seen -/
set_option maxRecDepth 100000 in
theorem mX0_allOf {lL : Launch} {G : wa_G} {ad : Nat → Nat} {w : wa_W} {S : Nat → Int} {A : Nat → Int → Int} {B : Nat → Int → Option Nat} {P : Nat → Option Nat} (hX : XW G ad w S A B P) {g : Int → Int} {past : Int → Int} {re : Int → Int} {tx : Int → Int} {st : Int} {ck : Int} {co : Int} {tl : Int} {qt : Int} (hI : XI G ad w S A B P g past re tx st ck co tl qt) (what : Int) (hw5 : 0 ≤ what ∧ what ≤ 5) : Met lL yX0_allOf (ws_ yX0_allOf cX0_allOf 3 (some FieldType.int)) ({ frames := 12, cells := 5401, slots := 17401, locals := 3227 } : Room) (wa_P G w [.ref (ad 0), .int (zI what)]) (wa_Qz G fun z u => z = allS g what ∧ ∃ (S2 : Nat → Int) (A2 : Nat → Int → Int) (B2 : Nat → Int → Option Nat) (P2 : Nat → Option Nat), XW G ad u S2 A2 B2 P2 ∧ Kp ad w u ∧ (XI G ad u S2 A2 B2 P2 g past re tx st ck co tl qt) ∧ (S2 4 = 0)) 5401 17401 (wa_A G) := by
  refine wa_met (by decide) (by exact Nat.le_of_ble_eq_true rfl) ?_
  intro pP eE sS mM aA bB mT cC ls X hl hH
  have hS : va_S (wa_A G) sS.heap sS.heap [] := va_S.rf
  have hl : lv_has ls 3 [(0, .ref (ad 0)), (1, .int (zI what))] := hl
  have hK : Kp ad w w := Kp.rf
  have hI_0 := hI
  obtain ⟨ho, hST, hXJ, hRX⟩ := id hI
  have hmany := ho.many
  have hPX : PX G ad w (B 10) g := hST.2.2.1
  have hWY : WAYS G ad w (B 5) := hRX.1
  have hNV : NVX ad w P := hRX.2.1
  have hm : S 30 = g 3 := hST.1.2
  have hwd : S 20 = g 0 := hST.1.1
  have hg : A 10 0 = g 1 ∧ A 10 1 = g 2 := hST.2.1
  have hwide := ho.wide
  have hS0 : S 0 = st := hRX.2.2.2.1.1
  have hS1 : S 1 = qt := hRX.2.2.2.1.2.1
  have hS2 : S 2 = tl := hRX.2.2.2.1.2.2.1
  have hstr := hRX.2.2.2.2.2.2.2.1
  have htlr := hRX.2.2.2.2.2.2.2.2.1
  have hqt := hRX.2.2.2.2.2.2.2.2.2.1
  have hPX_0 := hPX
  have hWY_0 := hWY
  have hNV_0 := hNV
  have hXJ_0 := hXJ
  refine lv_aload_n X.x X.b dX0_allOf_0 rfl (lv_at hl 0 rfl) ?_
  refine wa_cr hS (wa_rV (rest := []) X hH (mX0_joined hX hI  ) (cwV 0 X.t (lw_V q653 q655 qs14 q109 q656) rfl rfl rfl hdX0_joined ⟨Nat.le_of_ble_eq_true rfl, Nat.le_of_ble_eq_true rfl⟩) rfl (have h9 := (XW.c0 hX); h9) rfl rfl hl.1 rfl (Nat.le_of_ble_eq_true rfl) dX0_allOf_1 ⟨Nat.le_of_ble_eq_true rfl, Nat.le_of_ble_eq_true rfl⟩) (fun r1 w1 H locs hp hH hS => ?_)
  obtain ⟨rfl, ⟨S2_1, A2_1, B2_1, P2_1, hX, hk, hx1_0, hx1_1, hx1_2⟩⟩ := hp
  have hI := hI.kp hk
  have hPX := hPX.kp hk
  have hWY := hWY.kp hk
  have hNV := hNV.kp hk
  have hXJ := hXJ.kp hk
  have hK := hK.kp hk
  have hI := hx1_0
  have hJR := hx1_1
  refine wz_opt (q := some (ad 24)) (by rfl) ?_
  obtain ⟨ho, hST, hXJ, hRX⟩ := id hI
  have hmany := ho.many
  have hPX : PX G ad w1 (B2_1 10) g := hST.2.2.1
  have hWY : WAYS G ad w1 (B2_1 5) := hRX.1
  have hNV : NVX ad w1 P2_1 := hRX.2.1
  have hm : S2_1 30 = g 3 := hST.1.2
  have hwd : S2_1 20 = g 0 := hST.1.1
  have hg : A2_1 10 0 = g 1 ∧ A2_1 10 1 = g 2 := hST.2.1
  have hwide := ho.wide
  have hS0 : S2_1 0 = st := hRX.2.2.2.1.1
  have hS1 : S2_1 1 = qt := hRX.2.2.2.1.2.1
  have hS2 : S2_1 2 = tl := hRX.2.2.2.1.2.2.1
  have hstr := hRX.2.2.2.2.2.2.2.1
  have htlr := hRX.2.2.2.2.2.2.2.2.1
  have hqt := hRX.2.2.2.2.2.2.2.2.2.1
  have hJC := hJR.1
  have hCH := hJR.2.1
  obtain ⟨hLA, hah, hS5, hC6, hS7, hS8⟩ := id hCH
  refine lv_astore_n (lv' := [(2, .ref (ad 24)), (0, .ref (ad 0)), (1, .int (zI what))]) X.x X.b dX0_allOf_4 rfl hl (by decide) rfl (fun ls hl => ?_)
  refine lv_iload_n X.x X.b dX0_allOf_5 rfl (lv_at hl 2 rfl) ?_
  rcases (show what = 0 ∨ what = 1 ∨ what = 2 ∨ what = 3 ∨ what = 4 ∨ (what < 0 ∨ 4 < what) by omega) with e6 | e6 | e6 | e6 | e6 | e6
  · refine wz_is (z := 0) e6 ?_
    refine lv_tableIn (tgt := 40) X.x X.b dX0_allOf_6 (by decide +kernel) (by decide +kernel) rfl (by decide) ?_
    refine lv_aload_n X.x X.b dX0_allOf_40 rfl (lv_at hl 0 rfl) ?_
    refine wa_getN (v := .int (zI (S2_1 5))) X hH (have h9 := (XW.c24 hX); h9) wcX2 5 (by decide) q349 rfl (fun _ h9 => h9) rfl dX0_allOf_41 ?_
    refine W.widen (k := 5401) (n := 17401) (by first | exact Nat.le_of_ble_eq_true rfl | omega) (by first | exact Nat.le_of_ble_eq_true rfl | omega) ?_
    exact wa_iret X hH hS dX0_allOf_44 ⟨by first | (unfold allS; rw [if_pos e6]; exact hS5) | (unfold allS; rw [if_neg (by omega), if_pos e6, if_pos (hC6.resolve_right (fun q => by omega)).1]) | (unfold allS; rw [if_neg (by omega), if_pos e6, if_neg (hC6.resolve_left (fun q => by omega)).1]) | (unfold allS; rw [if_neg (by omega), if_neg (by omega), if_pos e6]; exact hS7) | (unfold allS; rw [if_neg (by omega), if_neg (by omega), if_neg (by omega), if_pos e6, hS8]) | (unfold allS; rw [if_neg (by omega), if_neg (by omega), if_neg (by omega), if_neg (by omega), if_pos e6]; exact pcS_cnt (fun a => ¬ foS g a = -1 ∧ rightS g a) (by omega)) | (unfold allS; rw [if_neg (by omega), if_neg (by omega), if_neg (by omega), if_neg (by omega), if_neg (by omega)]; exact pcS_cnt (fun a => ahS g a = -1) (by omega)), ⟨_, _, _, _, hX, hK, hI, hx1_2⟩⟩
  · refine wz_is (z := 1) e6 ?_
    refine lv_tableIn (tgt := 45) X.x X.b dX0_allOf_6 (by decide +kernel) (by decide +kernel) rfl (by decide) ?_
    refine lv_aload_n X.x X.b dX0_allOf_45 rfl (lv_at hl 0 rfl) ?_
    refine wa_getN (v := .int (zI (S2_1 6))) X hH (have h9 := (XW.c24 hX); h9) wcX2 6 (by decide) q351 rfl (fun _ h9 => h9) rfl dX0_allOf_46 ?_
    refine wz_ifeq (tgt := 56) X.x X.b dX0_allOf_49 (by decide) (by rcases hC6 with q | q <;> (rw [q.2]; exact ⟨by decide, by decide⟩)) (fun c49 => ?_) (fun c49 => ?_)
    · refine wz_iconst X.x X.b dX0_allOf_56 ?_
      refine W.widen (k := 5401) (n := 17401) (by first | exact Nat.le_of_ble_eq_true rfl | omega) (by first | exact Nat.le_of_ble_eq_true rfl | omega) ?_
      exact wa_iret X hH hS dX0_allOf_57 ⟨by first | (unfold allS; rw [if_pos e6]; exact hS5) | (unfold allS; rw [if_neg (by omega), if_pos e6, if_pos (hC6.resolve_right (fun q => by omega)).1]) | (unfold allS; rw [if_neg (by omega), if_pos e6, if_neg (hC6.resolve_left (fun q => by omega)).1]) | (unfold allS; rw [if_neg (by omega), if_neg (by omega), if_pos e6]; exact hS7) | (unfold allS; rw [if_neg (by omega), if_neg (by omega), if_neg (by omega), if_pos e6, hS8]) | (unfold allS; rw [if_neg (by omega), if_neg (by omega), if_neg (by omega), if_neg (by omega), if_pos e6]; exact pcS_cnt (fun a => ¬ foS g a = -1 ∧ rightS g a) (by omega)) | (unfold allS; rw [if_neg (by omega), if_neg (by omega), if_neg (by omega), if_neg (by omega), if_neg (by omega)]; exact pcS_cnt (fun a => ahS g a = -1) (by omega)), ⟨_, _, _, _, hX, hK, hI, hx1_2⟩⟩
    · refine wz_iconst X.x X.b dX0_allOf_52 ?_
      refine lv_goto (tgt := 57) X.x X.b dX0_allOf_53 (by decide) ?_
      refine W.widen (k := 5401) (n := 17401) (by first | exact Nat.le_of_ble_eq_true rfl | omega) (by first | exact Nat.le_of_ble_eq_true rfl | omega) ?_
      exact wa_iret X hH hS dX0_allOf_57 ⟨by first | (unfold allS; rw [if_pos e6]; exact hS5) | (unfold allS; rw [if_neg (by omega), if_pos e6, if_pos (hC6.resolve_right (fun q => by omega)).1]) | (unfold allS; rw [if_neg (by omega), if_pos e6, if_neg (hC6.resolve_left (fun q => by omega)).1]) | (unfold allS; rw [if_neg (by omega), if_neg (by omega), if_pos e6]; exact hS7) | (unfold allS; rw [if_neg (by omega), if_neg (by omega), if_neg (by omega), if_pos e6, hS8]) | (unfold allS; rw [if_neg (by omega), if_neg (by omega), if_neg (by omega), if_neg (by omega), if_pos e6]; exact pcS_cnt (fun a => ¬ foS g a = -1 ∧ rightS g a) (by omega)) | (unfold allS; rw [if_neg (by omega), if_neg (by omega), if_neg (by omega), if_neg (by omega), if_neg (by omega)]; exact pcS_cnt (fun a => ahS g a = -1) (by omega)), ⟨_, _, _, _, hX, hK, hI, hx1_2⟩⟩
  · refine wz_is (z := 2) e6 ?_
    refine lv_tableIn (tgt := 58) X.x X.b dX0_allOf_6 (by decide +kernel) (by decide +kernel) rfl (by decide) ?_
    refine lv_aload_n X.x X.b dX0_allOf_58 rfl (lv_at hl 0 rfl) ?_
    refine wa_getN (v := .int (zI (S2_1 7))) X hH (have h9 := (XW.c24 hX); h9) wcX2 7 (by decide) q353 rfl (fun _ h9 => h9) rfl dX0_allOf_59 ?_
    refine W.widen (k := 5401) (n := 17401) (by first | exact Nat.le_of_ble_eq_true rfl | omega) (by first | exact Nat.le_of_ble_eq_true rfl | omega) ?_
    exact wa_iret X hH hS dX0_allOf_62 ⟨by first | (unfold allS; rw [if_pos e6]; exact hS5) | (unfold allS; rw [if_neg (by omega), if_pos e6, if_pos (hC6.resolve_right (fun q => by omega)).1]) | (unfold allS; rw [if_neg (by omega), if_pos e6, if_neg (hC6.resolve_left (fun q => by omega)).1]) | (unfold allS; rw [if_neg (by omega), if_neg (by omega), if_pos e6]; exact hS7) | (unfold allS; rw [if_neg (by omega), if_neg (by omega), if_neg (by omega), if_pos e6, hS8]) | (unfold allS; rw [if_neg (by omega), if_neg (by omega), if_neg (by omega), if_neg (by omega), if_pos e6]; exact pcS_cnt (fun a => ¬ foS g a = -1 ∧ rightS g a) (by omega)) | (unfold allS; rw [if_neg (by omega), if_neg (by omega), if_neg (by omega), if_neg (by omega), if_neg (by omega)]; exact pcS_cnt (fun a => ahS g a = -1) (by omega)), ⟨_, _, _, _, hX, hK, hI, hx1_2⟩⟩
  · refine wz_is (z := 3) e6 ?_
    refine lv_tableIn (tgt := 63) X.x X.b dX0_allOf_6 (by decide +kernel) (by decide +kernel) rfl (by decide) ?_
    refine lv_aload_n X.x X.b dX0_allOf_63 rfl (lv_at hl 0 rfl) ?_
    refine wa_getN (v := .int (zI (S2_1 8))) X hH (have h9 := (XW.c24 hX); h9) wcX2 8 (by decide) q355 rfl (fun _ h9 => h9) rfl dX0_allOf_64 ?_
    refine wz_bipush X.x X.b dX0_allOf_67 rfl ?_
    refine wz_iadd X.x X.b dX0_allOf_69 ?_
    refine W.widen (k := 5401) (n := 17401) (by first | exact Nat.le_of_ble_eq_true rfl | omega) (by first | exact Nat.le_of_ble_eq_true rfl | omega) ?_
    exact wa_iret X hH hS dX0_allOf_70 ⟨by first | (unfold allS; rw [if_pos e6]; exact hS5) | (unfold allS; rw [if_neg (by omega), if_pos e6, if_pos (hC6.resolve_right (fun q => by omega)).1]) | (unfold allS; rw [if_neg (by omega), if_pos e6, if_neg (hC6.resolve_left (fun q => by omega)).1]) | (unfold allS; rw [if_neg (by omega), if_neg (by omega), if_pos e6]; exact hS7) | (unfold allS; rw [if_neg (by omega), if_neg (by omega), if_neg (by omega), if_pos e6, hS8]) | (unfold allS; rw [if_neg (by omega), if_neg (by omega), if_neg (by omega), if_neg (by omega), if_pos e6]; exact pcS_cnt (fun a => ¬ foS g a = -1 ∧ rightS g a) (by omega)) | (unfold allS; rw [if_neg (by omega), if_neg (by omega), if_neg (by omega), if_neg (by omega), if_neg (by omega)]; exact pcS_cnt (fun a => ahS g a = -1) (by omega)), ⟨_, _, _, _, hX, hK, hI, hx1_2⟩⟩
  · refine wz_is (z := 4) e6 ?_
    refine lv_tableIn (tgt := 71) X.x X.b dX0_allOf_6 (by decide +kernel) (by decide +kernel) rfl (by decide) ?_
    refine lv_aload_n X.x X.b dX0_allOf_71 rfl (lv_at hl 1 rfl) ?_
    refine wa_get (v := .ref (ad 1)) X hH (have h9 := (XW.c0 hX); h9) wcX0 0 (by decide) q417 rfl (fun _ h9 => h9) rfl dX0_allOf_72 ?_
    refine wa_getN (v := .int (zI (S2_1 30))) X hH (have h9 := (XW.c1 hX); h9) wcX1 3 (by decide) q172 rfl (fun _ h9 => h9) rfl dX0_allOf_75 ?_
    refine wz_is (z := g 3) (by exact hm) ?_
    refine lv_aload_n X.x X.b dX0_allOf_78 rfl (lv_at hl 0 rfl) ?_
    have hX_79 := hX
    have hK_79 := hK
    have hI_79 := hI
    have hJR_79 := hJR
    have hPX_79 := hPX
    have hWY_79 := hWY
    have hNV_79 := hNV
    have hXJ_79 := hXJ
    have hJC_79 := hJC
    refine wb_lam (rest := [.int (zI (g 3))]) (vals := [.ref (ad 24)]) (sh := wbS4) (num := 20) (D := wbD4) (laid := wbL4) X hH hS (wb_hO (X.t _ q2102)) (List.mem_of_getElem? (i := 3) rfl) wbD4_is wbL4_is wbL4_t (by rw [wbC4]; rfl) (by rw [wbC4]; exact (lamOK.cons ⟨rfl, rfl⟩ lamOK.nil)) rfl hl.1 (Nat.le_of_ble_eq_true rfl) (Nat.le_of_ble_eq_true rfl) (Nat.le_of_ble_eq_true rfl) dX0_allOf_79 (fun nq79 w79 H hn79 ew hH hS => ?_)
    have hk0 := Ext.new hn79 ew
    have hX := hX.ext hk0
    have hk := hk0.k (ad := ad)
    have hI := hI.kp hk
    have hJR := hJR.kp hk
    have hPX := hPX.kp hk
    have hWY := hWY.kp hk
    have hNV := hNV.kp hk
    have hXJ := hXJ.kp hk
    have hJC := hJC.kp hk
    have hK := hK.kp hk
    have hN79 := hk
    have n79 : Lc ad w79 nq79 (.inr { cls := G.2.1 20, slots := #[.ref (ad 24)], vm := .none }) := Lc.new hX_79 hn79 (by rw [ew]; exact wup_s)
    clear ew hk0
    refine wa_ci hS (wa_rS (rest := []) X hH (mX0_bits_4 hX hJR hPX n79 (g 3) (by omega) (Int.le_refl _) ho) (va_cwS 2 X.t (lw_S q641 q642 q109 q643) rfl rfl rfl hdX0_bits.2 ⟨Nat.le_of_ble_eq_true rfl, Nat.le_of_ble_eq_true rfl⟩) rfl rfl hl.1 rfl (Nat.le_of_ble_eq_true rfl) dX0_allOf_84 ⟨Nat.le_of_ble_eq_true rfl, Nat.le_of_ble_eq_true rfl⟩) (fun z w84 H locs hp hH hS => ?_)
    obtain ⟨rfl, hw⟩ := hp
    rw [← hw] at hH; clear hw
    refine wa_ci hS (wa_rS (rest := []) X hH (mJ9_bitCount _  (bset (fun (j : Nat) => cb (¬ foS g (j : Int) = -1 ∧ rightS g (j : Int))) (g 3).toNat) (bset_64 _ (by omega))) (va_cwS 1 X.t (lw_S q1361 q1362 q129 q1363) rfl rfl rfl hdJ9_bitCount.2 ⟨Nat.le_of_ble_eq_true rfl, Nat.le_of_ble_eq_true rfl⟩) rfl rfl hl.1 rfl (Nat.le_of_ble_eq_true rfl) dX0_allOf_87 ⟨Nat.le_of_ble_eq_true rfl, Nat.le_of_ble_eq_true rfl⟩) (fun z w87 H locs hp hH hS => ?_)
    obtain ⟨rfl, hw⟩ := hp
    rw [← hw] at hH; clear hw
    refine W.widen (k := 5401) (n := 17401) (by first | exact Nat.le_of_ble_eq_true rfl | omega) (by first | exact Nat.le_of_ble_eq_true rfl | omega) ?_
    exact wa_iret X hH hS dX0_allOf_90 ⟨by first | (unfold allS; rw [if_pos e6]; exact hS5) | (unfold allS; rw [if_neg (by omega), if_pos e6, if_pos (hC6.resolve_right (fun q => by omega)).1]) | (unfold allS; rw [if_neg (by omega), if_pos e6, if_neg (hC6.resolve_left (fun q => by omega)).1]) | (unfold allS; rw [if_neg (by omega), if_neg (by omega), if_pos e6]; exact hS7) | (unfold allS; rw [if_neg (by omega), if_neg (by omega), if_neg (by omega), if_pos e6, hS8]) | (unfold allS; rw [if_neg (by omega), if_neg (by omega), if_neg (by omega), if_neg (by omega), if_pos e6]; exact pcS_cnt (fun a => ¬ foS g a = -1 ∧ rightS g a) (by omega)) | (unfold allS; rw [if_neg (by omega), if_neg (by omega), if_neg (by omega), if_neg (by omega), if_neg (by omega)]; exact pcS_cnt (fun a => ahS g a = -1) (by omega)), ⟨_, _, _, _, hX, hK, hI, hx1_2⟩⟩
  · refine lv_tableOut (tgt := 91) X.x X.b dX0_allOf_6 (by rw [zI_toInt (by omega) (by omega)]; omega) (by decide) ?_
    refine lv_aload_n X.x X.b dX0_allOf_91 rfl (lv_at hl 1 rfl) ?_
    refine wa_get (v := .ref (ad 1)) X hH (have h9 := (XW.c0 hX); h9) wcX0 0 (by decide) q417 rfl (fun _ h9 => h9) rfl dX0_allOf_92 ?_
    refine wa_getN (v := .int (zI (S2_1 30))) X hH (have h9 := (XW.c1 hX); h9) wcX1 3 (by decide) q172 rfl (fun _ h9 => h9) rfl dX0_allOf_95 ?_
    refine wz_is (z := g 3) (by exact hm) ?_
    refine lv_aload_n X.x X.b dX0_allOf_98 rfl (lv_at hl 0 rfl) ?_
    have hX_99 := hX
    have hK_99 := hK
    have hI_99 := hI
    have hJR_99 := hJR
    have hPX_99 := hPX
    have hWY_99 := hWY
    have hNV_99 := hNV
    have hXJ_99 := hXJ
    have hJC_99 := hJC
    refine wb_lam (rest := [.int (zI (g 3))]) (vals := [.ref (ad 24)]) (sh := wbS5) (num := 21) (D := wbD5) (laid := wbL5) X hH hS (wb_hO (X.t _ q2102)) (List.mem_of_getElem? (i := 4) rfl) wbD5_is wbL5_is wbL5_t (by rw [wbC5]; rfl) (by rw [wbC5]; exact (lamOK.cons ⟨rfl, rfl⟩ lamOK.nil)) rfl hl.1 (Nat.le_of_ble_eq_true rfl) (Nat.le_of_ble_eq_true rfl) (Nat.le_of_ble_eq_true rfl) dX0_allOf_99 (fun nq99 w99 H hn99 ew hH hS => ?_)
    have hk0 := Ext.new hn99 ew
    have hX := hX.ext hk0
    have hk := hk0.k (ad := ad)
    have hI := hI.kp hk
    have hJR := hJR.kp hk
    have hPX := hPX.kp hk
    have hWY := hWY.kp hk
    have hNV := hNV.kp hk
    have hXJ := hXJ.kp hk
    have hJC := hJC.kp hk
    have hK := hK.kp hk
    have hN99 := hk
    have n99 : Lc ad w99 nq99 (.inr { cls := G.2.1 21, slots := #[.ref (ad 24)], vm := .none }) := Lc.new hX_99 hn99 (by rw [ew]; exact wup_s)
    clear ew hk0
    refine wa_ci hS (wa_rS (rest := []) X hH (mX0_bits_5 hX hJR n99 (g 3) (by omega) (Int.le_refl _) ho) (va_cwS 2 X.t (lw_S q641 q642 q109 q643) rfl rfl rfl hdX0_bits.2 ⟨Nat.le_of_ble_eq_true rfl, Nat.le_of_ble_eq_true rfl⟩) rfl rfl hl.1 rfl (Nat.le_of_ble_eq_true rfl) dX0_allOf_104 ⟨Nat.le_of_ble_eq_true rfl, Nat.le_of_ble_eq_true rfl⟩) (fun z w104 H locs hp hH hS => ?_)
    obtain ⟨rfl, hw⟩ := hp
    rw [← hw] at hH; clear hw
    refine wa_ci hS (wa_rS (rest := []) X hH (mJ9_bitCount _  (bset (fun (j : Nat) => cb (ahS g (j : Int) = -1)) (g 3).toNat) (bset_64 _ (by omega))) (va_cwS 1 X.t (lw_S q1361 q1362 q129 q1363) rfl rfl rfl hdJ9_bitCount.2 ⟨Nat.le_of_ble_eq_true rfl, Nat.le_of_ble_eq_true rfl⟩) rfl rfl hl.1 rfl (Nat.le_of_ble_eq_true rfl) dX0_allOf_107 ⟨Nat.le_of_ble_eq_true rfl, Nat.le_of_ble_eq_true rfl⟩) (fun z w107 H locs hp hH hS => ?_)
    obtain ⟨rfl, hw⟩ := hp
    rw [← hw] at hH; clear hw
    refine W.widen (k := 5401) (n := 17401) (by first | exact Nat.le_of_ble_eq_true rfl | omega) (by first | exact Nat.le_of_ble_eq_true rfl | omega) ?_
    exact wa_iret X hH hS dX0_allOf_110 ⟨by first | (unfold allS; rw [if_pos e6]; exact hS5) | (unfold allS; rw [if_neg (by omega), if_pos e6, if_pos (hC6.resolve_right (fun q => by omega)).1]) | (unfold allS; rw [if_neg (by omega), if_pos e6, if_neg (hC6.resolve_left (fun q => by omega)).1]) | (unfold allS; rw [if_neg (by omega), if_neg (by omega), if_pos e6]; exact hS7) | (unfold allS; rw [if_neg (by omega), if_neg (by omega), if_neg (by omega), if_pos e6, hS8]) | (unfold allS; rw [if_neg (by omega), if_neg (by omega), if_neg (by omega), if_neg (by omega), if_pos e6]; exact pcS_cnt (fun a => ¬ foS g a = -1 ∧ rightS g a) (by omega)) | (unfold allS; rw [if_neg (by omega), if_neg (by omega), if_neg (by omega), if_neg (by omega), if_neg (by omega)]; exact pcS_cnt (fun a => ahS g a = -1) (by omega)), ⟨_, _, _, _, hX, hK, hI, hx1_2⟩⟩
set_option maxRecDepth 100000 in
theorem mX0_allOf_0 {lL : Launch} {G : wa_G} {ad : Nat → Nat} {w : wa_W} {S : Nat → Int} {A : Nat → Int → Int} {B : Nat → Int → Option Nat} {P : Nat → Option Nat} (hX : XW G ad w S A B P) {g : Int → Int} {past : Int → Int} {re : Int → Int} {tx : Int → Int} {st : Int} {ck : Int} {co : Int} {tl : Int} {qt : Int} (hI : XI G ad w S A B P g past re tx st ck co tl qt) (what : Int) (hw5 : 0 ≤ what ∧ what ≤ 5) (h4 : S 4 = 0) : Met lL yX0_allOf (ws_ yX0_allOf cX0_allOf 3 (some FieldType.int)) ({ frames := 4, cells := 1, slots := 1, locals := 3096 } : Room) (wa_P G w [.ref (ad 0), .int (zI what)]) (wa_Qz G fun z u => z = allS g what ∧ XW G ad u S A B P ∧ Kp ad w u) 1 1 (wa_A G) := by
  refine wa_met (by decide) (by exact Nat.le_of_ble_eq_true rfl) ?_
  intro pP eE sS mM aA bB mT cC ls X hl hH
  have hS : va_S (wa_A G) sS.heap sS.heap [] := va_S.rf
  have hl : lv_has ls 3 [(0, .ref (ad 0)), (1, .int (zI what))] := hl
  have hK : Kp ad w w := Kp.rf
  have hI_0 := hI
  obtain ⟨ho, hST, hXJ, hRX⟩ := id hI
  have hmany := ho.many
  have hPX : PX G ad w (B 10) g := hST.2.2.1
  have hWY : WAYS G ad w (B 5) := hRX.1
  have hNV : NVX ad w P := hRX.2.1
  have hm : S 30 = g 3 := hST.1.2
  have hwd : S 20 = g 0 := hST.1.1
  have hg : A 10 0 = g 1 ∧ A 10 1 = g 2 := hST.2.1
  have hwide := ho.wide
  have hS0 : S 0 = st := hRX.2.2.2.1.1
  have hS1 : S 1 = qt := hRX.2.2.2.1.2.1
  have hS2 : S 2 = tl := hRX.2.2.2.1.2.2.1
  have hstr := hRX.2.2.2.2.2.2.2.1
  have htlr := hRX.2.2.2.2.2.2.2.2.1
  have hqt := hRX.2.2.2.2.2.2.2.2.2.1
  have hPX_0 := hPX
  have hWY_0 := hWY
  have hNV_0 := hNV
  have hXJ_0 := hXJ
  have hJR : JR G ad w S A B P g := hXJ.2 h4
  have hJR_0 := hJR
  have hCH := hJR.2.1
  obtain ⟨hLA, hah, hS5, hC6, hS7, hS8⟩ := id hCH
  refine lv_aload_n X.x X.b dX0_allOf_0 rfl (lv_at hl 0 rfl) ?_
  refine wa_cr hS (wa_rV (rest := []) X hH (mX0_joined_0 hX   (show S 4 = 0 by first | assumption | omega)) (cwV 0 X.t (lw_V q653 q655 qs14 q109 q656) rfl rfl rfl hdX0_joined ⟨Nat.le_of_ble_eq_true rfl, Nat.le_of_ble_eq_true rfl⟩) rfl (have h9 := (XW.c0 hX); h9) rfl rfl hl.1 rfl (Nat.le_of_ble_eq_true rfl) dX0_allOf_1 ⟨Nat.le_of_ble_eq_true rfl, Nat.le_of_ble_eq_true rfl⟩) (fun r1 w1 H locs hp hH hS => ?_)
  obtain ⟨rfl, hw⟩ := hp
  rw [← hw] at hH; clear hw
  refine wz_opt (q := some (ad 24)) (by rfl) ?_
  refine lv_astore_n (lv' := [(2, .ref (ad 24)), (0, .ref (ad 0)), (1, .int (zI what))]) X.x X.b dX0_allOf_4 rfl hl (by decide) rfl (fun ls hl => ?_)
  refine lv_iload_n X.x X.b dX0_allOf_5 rfl (lv_at hl 2 rfl) ?_
  rcases (show what = 0 ∨ what = 1 ∨ what = 2 ∨ what = 3 ∨ what = 4 ∨ (what < 0 ∨ 4 < what) by omega) with e6 | e6 | e6 | e6 | e6 | e6
  · refine wz_is (z := 0) e6 ?_
    refine lv_tableIn (tgt := 40) X.x X.b dX0_allOf_6 (by decide +kernel) (by decide +kernel) rfl (by decide) ?_
    refine lv_aload_n X.x X.b dX0_allOf_40 rfl (lv_at hl 0 rfl) ?_
    refine wa_getN (v := .int (zI (S 5))) X hH (have h9 := (XW.c24 hX); h9) wcX2 5 (by decide) q349 rfl (fun _ h9 => h9) rfl dX0_allOf_41 ?_
    refine W.widen (k := 1) (n := 1) (by first | exact Nat.le_of_ble_eq_true rfl | omega) (by first | exact Nat.le_of_ble_eq_true rfl | omega) ?_
    exact wa_iret X hH hS dX0_allOf_44 ⟨by first | (unfold allS; rw [if_pos e6]; exact hS5) | (unfold allS; rw [if_neg (by omega), if_pos e6, if_pos (hC6.resolve_right (fun q => by omega)).1]) | (unfold allS; rw [if_neg (by omega), if_pos e6, if_neg (hC6.resolve_left (fun q => by omega)).1]) | (unfold allS; rw [if_neg (by omega), if_neg (by omega), if_pos e6]; exact hS7) | (unfold allS; rw [if_neg (by omega), if_neg (by omega), if_neg (by omega), if_pos e6, hS8]) | (unfold allS; rw [if_neg (by omega), if_neg (by omega), if_neg (by omega), if_neg (by omega), if_pos e6]; exact pcS_cnt (fun a => ¬ foS g a = -1 ∧ rightS g a) (by omega)) | (unfold allS; rw [if_neg (by omega), if_neg (by omega), if_neg (by omega), if_neg (by omega), if_neg (by omega)]; exact pcS_cnt (fun a => ahS g a = -1) (by omega)), ⟨hX, hK⟩⟩
  · refine wz_is (z := 1) e6 ?_
    refine lv_tableIn (tgt := 45) X.x X.b dX0_allOf_6 (by decide +kernel) (by decide +kernel) rfl (by decide) ?_
    refine lv_aload_n X.x X.b dX0_allOf_45 rfl (lv_at hl 0 rfl) ?_
    refine wa_getN (v := .int (zI (S 6))) X hH (have h9 := (XW.c24 hX); h9) wcX2 6 (by decide) q351 rfl (fun _ h9 => h9) rfl dX0_allOf_46 ?_
    refine wz_ifeq (tgt := 56) X.x X.b dX0_allOf_49 (by decide) (by rcases hC6 with q | q <;> (rw [q.2]; exact ⟨by decide, by decide⟩)) (fun c49 => ?_) (fun c49 => ?_)
    · refine wz_iconst X.x X.b dX0_allOf_56 ?_
      refine W.widen (k := 1) (n := 1) (by first | exact Nat.le_of_ble_eq_true rfl | omega) (by first | exact Nat.le_of_ble_eq_true rfl | omega) ?_
      exact wa_iret X hH hS dX0_allOf_57 ⟨by first | (unfold allS; rw [if_pos e6]; exact hS5) | (unfold allS; rw [if_neg (by omega), if_pos e6, if_pos (hC6.resolve_right (fun q => by omega)).1]) | (unfold allS; rw [if_neg (by omega), if_pos e6, if_neg (hC6.resolve_left (fun q => by omega)).1]) | (unfold allS; rw [if_neg (by omega), if_neg (by omega), if_pos e6]; exact hS7) | (unfold allS; rw [if_neg (by omega), if_neg (by omega), if_neg (by omega), if_pos e6, hS8]) | (unfold allS; rw [if_neg (by omega), if_neg (by omega), if_neg (by omega), if_neg (by omega), if_pos e6]; exact pcS_cnt (fun a => ¬ foS g a = -1 ∧ rightS g a) (by omega)) | (unfold allS; rw [if_neg (by omega), if_neg (by omega), if_neg (by omega), if_neg (by omega), if_neg (by omega)]; exact pcS_cnt (fun a => ahS g a = -1) (by omega)), ⟨hX, hK⟩⟩
    · refine wz_iconst X.x X.b dX0_allOf_52 ?_
      refine lv_goto (tgt := 57) X.x X.b dX0_allOf_53 (by decide) ?_
      refine W.widen (k := 1) (n := 1) (by first | exact Nat.le_of_ble_eq_true rfl | omega) (by first | exact Nat.le_of_ble_eq_true rfl | omega) ?_
      exact wa_iret X hH hS dX0_allOf_57 ⟨by first | (unfold allS; rw [if_pos e6]; exact hS5) | (unfold allS; rw [if_neg (by omega), if_pos e6, if_pos (hC6.resolve_right (fun q => by omega)).1]) | (unfold allS; rw [if_neg (by omega), if_pos e6, if_neg (hC6.resolve_left (fun q => by omega)).1]) | (unfold allS; rw [if_neg (by omega), if_neg (by omega), if_pos e6]; exact hS7) | (unfold allS; rw [if_neg (by omega), if_neg (by omega), if_neg (by omega), if_pos e6, hS8]) | (unfold allS; rw [if_neg (by omega), if_neg (by omega), if_neg (by omega), if_neg (by omega), if_pos e6]; exact pcS_cnt (fun a => ¬ foS g a = -1 ∧ rightS g a) (by omega)) | (unfold allS; rw [if_neg (by omega), if_neg (by omega), if_neg (by omega), if_neg (by omega), if_neg (by omega)]; exact pcS_cnt (fun a => ahS g a = -1) (by omega)), ⟨hX, hK⟩⟩
  · refine wz_is (z := 2) e6 ?_
    refine lv_tableIn (tgt := 58) X.x X.b dX0_allOf_6 (by decide +kernel) (by decide +kernel) rfl (by decide) ?_
    refine lv_aload_n X.x X.b dX0_allOf_58 rfl (lv_at hl 0 rfl) ?_
    refine wa_getN (v := .int (zI (S 7))) X hH (have h9 := (XW.c24 hX); h9) wcX2 7 (by decide) q353 rfl (fun _ h9 => h9) rfl dX0_allOf_59 ?_
    refine W.widen (k := 1) (n := 1) (by first | exact Nat.le_of_ble_eq_true rfl | omega) (by first | exact Nat.le_of_ble_eq_true rfl | omega) ?_
    exact wa_iret X hH hS dX0_allOf_62 ⟨by first | (unfold allS; rw [if_pos e6]; exact hS5) | (unfold allS; rw [if_neg (by omega), if_pos e6, if_pos (hC6.resolve_right (fun q => by omega)).1]) | (unfold allS; rw [if_neg (by omega), if_pos e6, if_neg (hC6.resolve_left (fun q => by omega)).1]) | (unfold allS; rw [if_neg (by omega), if_neg (by omega), if_pos e6]; exact hS7) | (unfold allS; rw [if_neg (by omega), if_neg (by omega), if_neg (by omega), if_pos e6, hS8]) | (unfold allS; rw [if_neg (by omega), if_neg (by omega), if_neg (by omega), if_neg (by omega), if_pos e6]; exact pcS_cnt (fun a => ¬ foS g a = -1 ∧ rightS g a) (by omega)) | (unfold allS; rw [if_neg (by omega), if_neg (by omega), if_neg (by omega), if_neg (by omega), if_neg (by omega)]; exact pcS_cnt (fun a => ahS g a = -1) (by omega)), ⟨hX, hK⟩⟩
  · refine wz_is (z := 3) e6 ?_
    refine lv_tableIn (tgt := 63) X.x X.b dX0_allOf_6 (by decide +kernel) (by decide +kernel) rfl (by decide) ?_
    refine lv_aload_n X.x X.b dX0_allOf_63 rfl (lv_at hl 0 rfl) ?_
    refine wa_getN (v := .int (zI (S 8))) X hH (have h9 := (XW.c24 hX); h9) wcX2 8 (by decide) q355 rfl (fun _ h9 => h9) rfl dX0_allOf_64 ?_
    refine wz_bipush X.x X.b dX0_allOf_67 rfl ?_
    refine wz_iadd X.x X.b dX0_allOf_69 ?_
    refine W.widen (k := 1) (n := 1) (by first | exact Nat.le_of_ble_eq_true rfl | omega) (by first | exact Nat.le_of_ble_eq_true rfl | omega) ?_
    exact wa_iret X hH hS dX0_allOf_70 ⟨by first | (unfold allS; rw [if_pos e6]; exact hS5) | (unfold allS; rw [if_neg (by omega), if_pos e6, if_pos (hC6.resolve_right (fun q => by omega)).1]) | (unfold allS; rw [if_neg (by omega), if_pos e6, if_neg (hC6.resolve_left (fun q => by omega)).1]) | (unfold allS; rw [if_neg (by omega), if_neg (by omega), if_pos e6]; exact hS7) | (unfold allS; rw [if_neg (by omega), if_neg (by omega), if_neg (by omega), if_pos e6, hS8]) | (unfold allS; rw [if_neg (by omega), if_neg (by omega), if_neg (by omega), if_neg (by omega), if_pos e6]; exact pcS_cnt (fun a => ¬ foS g a = -1 ∧ rightS g a) (by omega)) | (unfold allS; rw [if_neg (by omega), if_neg (by omega), if_neg (by omega), if_neg (by omega), if_neg (by omega)]; exact pcS_cnt (fun a => ahS g a = -1) (by omega)), ⟨hX, hK⟩⟩
  · refine wz_is (z := 4) e6 ?_
    refine lv_tableIn (tgt := 71) X.x X.b dX0_allOf_6 (by decide +kernel) (by decide +kernel) rfl (by decide) ?_
    refine lv_aload_n X.x X.b dX0_allOf_71 rfl (lv_at hl 1 rfl) ?_
    refine wa_get (v := .ref (ad 1)) X hH (have h9 := (XW.c0 hX); h9) wcX0 0 (by decide) q417 rfl (fun _ h9 => h9) rfl dX0_allOf_72 ?_
    refine wa_getN (v := .int (zI (S 30))) X hH (have h9 := (XW.c1 hX); h9) wcX1 3 (by decide) q172 rfl (fun _ h9 => h9) rfl dX0_allOf_75 ?_
    refine wz_is (z := g 3) (by exact hm) ?_
    refine lv_aload_n X.x X.b dX0_allOf_78 rfl (lv_at hl 0 rfl) ?_
    have hX_79 := hX
    have hK_79 := hK
    have hI_79 := hI
    have hPX_79 := hPX
    have hWY_79 := hWY
    have hNV_79 := hNV
    have hXJ_79 := hXJ
    have hJR_79 := hJR
    refine wb_lam (rest := [.int (zI (g 3))]) (vals := [.ref (ad 24)]) (sh := wbS4) (num := 20) (D := wbD4) (laid := wbL4) X hH hS (wb_hO (X.t _ q2102)) (List.mem_of_getElem? (i := 3) rfl) wbD4_is wbL4_is wbL4_t (by rw [wbC4]; rfl) (by rw [wbC4]; exact (lamOK.cons ⟨rfl, rfl⟩ lamOK.nil)) rfl hl.1 (Nat.le_of_ble_eq_true rfl) (Nat.le_of_ble_eq_true rfl) (Nat.le_of_ble_eq_true rfl) dX0_allOf_79 (fun nq79 w79 H hn79 ew hH hS => ?_)
    have hk0 := Ext.new hn79 ew
    have hX := hX.ext hk0
    have hk := hk0.k (ad := ad)
    have hI := hI.kp hk
    have hPX := hPX.kp hk
    have hWY := hWY.kp hk
    have hNV := hNV.kp hk
    have hXJ := hXJ.kp hk
    have hJR := hJR.kp hk
    have hK := hK.kp hk
    have hN79 := hk
    have n79 : Lc ad w79 nq79 (.inr { cls := G.2.1 20, slots := #[.ref (ad 24)], vm := .none }) := Lc.new hX_79 hn79 (by rw [ew]; exact wup_s)
    clear ew hk0
    refine wa_ci hS (wa_rS (rest := []) X hH (mX0_bits_4 hX hJR hPX n79 (g 3) (by omega) (Int.le_refl _) ho) (va_cwS 2 X.t (lw_S q641 q642 q109 q643) rfl rfl rfl hdX0_bits.2 ⟨Nat.le_of_ble_eq_true rfl, Nat.le_of_ble_eq_true rfl⟩) rfl rfl hl.1 rfl (Nat.le_of_ble_eq_true rfl) dX0_allOf_84 ⟨Nat.le_of_ble_eq_true rfl, Nat.le_of_ble_eq_true rfl⟩) (fun z w84 H locs hp hH hS => ?_)
    obtain ⟨rfl, hw⟩ := hp
    rw [← hw] at hH; clear hw
    refine wa_ci hS (wa_rS (rest := []) X hH (mJ9_bitCount _  (bset (fun (j : Nat) => cb (¬ foS g (j : Int) = -1 ∧ rightS g (j : Int))) (g 3).toNat) (bset_64 _ (by omega))) (va_cwS 1 X.t (lw_S q1361 q1362 q129 q1363) rfl rfl rfl hdJ9_bitCount.2 ⟨Nat.le_of_ble_eq_true rfl, Nat.le_of_ble_eq_true rfl⟩) rfl rfl hl.1 rfl (Nat.le_of_ble_eq_true rfl) dX0_allOf_87 ⟨Nat.le_of_ble_eq_true rfl, Nat.le_of_ble_eq_true rfl⟩) (fun z w87 H locs hp hH hS => ?_)
    obtain ⟨rfl, hw⟩ := hp
    rw [← hw] at hH; clear hw
    refine W.widen (k := 1) (n := 1) (by first | exact Nat.le_of_ble_eq_true rfl | omega) (by first | exact Nat.le_of_ble_eq_true rfl | omega) ?_
    exact wa_iret X hH hS dX0_allOf_90 ⟨by first | (unfold allS; rw [if_pos e6]; exact hS5) | (unfold allS; rw [if_neg (by omega), if_pos e6, if_pos (hC6.resolve_right (fun q => by omega)).1]) | (unfold allS; rw [if_neg (by omega), if_pos e6, if_neg (hC6.resolve_left (fun q => by omega)).1]) | (unfold allS; rw [if_neg (by omega), if_neg (by omega), if_pos e6]; exact hS7) | (unfold allS; rw [if_neg (by omega), if_neg (by omega), if_neg (by omega), if_pos e6, hS8]) | (unfold allS; rw [if_neg (by omega), if_neg (by omega), if_neg (by omega), if_neg (by omega), if_pos e6]; exact pcS_cnt (fun a => ¬ foS g a = -1 ∧ rightS g a) (by omega)) | (unfold allS; rw [if_neg (by omega), if_neg (by omega), if_neg (by omega), if_neg (by omega), if_neg (by omega)]; exact pcS_cnt (fun a => ahS g a = -1) (by omega)), ⟨hX, hK⟩⟩
  · refine lv_tableOut (tgt := 91) X.x X.b dX0_allOf_6 (by rw [zI_toInt (by omega) (by omega)]; omega) (by decide) ?_
    refine lv_aload_n X.x X.b dX0_allOf_91 rfl (lv_at hl 1 rfl) ?_
    refine wa_get (v := .ref (ad 1)) X hH (have h9 := (XW.c0 hX); h9) wcX0 0 (by decide) q417 rfl (fun _ h9 => h9) rfl dX0_allOf_92 ?_
    refine wa_getN (v := .int (zI (S 30))) X hH (have h9 := (XW.c1 hX); h9) wcX1 3 (by decide) q172 rfl (fun _ h9 => h9) rfl dX0_allOf_95 ?_
    refine wz_is (z := g 3) (by exact hm) ?_
    refine lv_aload_n X.x X.b dX0_allOf_98 rfl (lv_at hl 0 rfl) ?_
    have hX_99 := hX
    have hK_99 := hK
    have hI_99 := hI
    have hPX_99 := hPX
    have hWY_99 := hWY
    have hNV_99 := hNV
    have hXJ_99 := hXJ
    have hJR_99 := hJR
    refine wb_lam (rest := [.int (zI (g 3))]) (vals := [.ref (ad 24)]) (sh := wbS5) (num := 21) (D := wbD5) (laid := wbL5) X hH hS (wb_hO (X.t _ q2102)) (List.mem_of_getElem? (i := 4) rfl) wbD5_is wbL5_is wbL5_t (by rw [wbC5]; rfl) (by rw [wbC5]; exact (lamOK.cons ⟨rfl, rfl⟩ lamOK.nil)) rfl hl.1 (Nat.le_of_ble_eq_true rfl) (Nat.le_of_ble_eq_true rfl) (Nat.le_of_ble_eq_true rfl) dX0_allOf_99 (fun nq99 w99 H hn99 ew hH hS => ?_)
    have hk0 := Ext.new hn99 ew
    have hX := hX.ext hk0
    have hk := hk0.k (ad := ad)
    have hI := hI.kp hk
    have hPX := hPX.kp hk
    have hWY := hWY.kp hk
    have hNV := hNV.kp hk
    have hXJ := hXJ.kp hk
    have hJR := hJR.kp hk
    have hK := hK.kp hk
    have hN99 := hk
    have n99 : Lc ad w99 nq99 (.inr { cls := G.2.1 21, slots := #[.ref (ad 24)], vm := .none }) := Lc.new hX_99 hn99 (by rw [ew]; exact wup_s)
    clear ew hk0
    refine wa_ci hS (wa_rS (rest := []) X hH (mX0_bits_5 hX hJR n99 (g 3) (by omega) (Int.le_refl _) ho) (va_cwS 2 X.t (lw_S q641 q642 q109 q643) rfl rfl rfl hdX0_bits.2 ⟨Nat.le_of_ble_eq_true rfl, Nat.le_of_ble_eq_true rfl⟩) rfl rfl hl.1 rfl (Nat.le_of_ble_eq_true rfl) dX0_allOf_104 ⟨Nat.le_of_ble_eq_true rfl, Nat.le_of_ble_eq_true rfl⟩) (fun z w104 H locs hp hH hS => ?_)
    obtain ⟨rfl, hw⟩ := hp
    rw [← hw] at hH; clear hw
    refine wa_ci hS (wa_rS (rest := []) X hH (mJ9_bitCount _  (bset (fun (j : Nat) => cb (ahS g (j : Int) = -1)) (g 3).toNat) (bset_64 _ (by omega))) (va_cwS 1 X.t (lw_S q1361 q1362 q129 q1363) rfl rfl rfl hdJ9_bitCount.2 ⟨Nat.le_of_ble_eq_true rfl, Nat.le_of_ble_eq_true rfl⟩) rfl rfl hl.1 rfl (Nat.le_of_ble_eq_true rfl) dX0_allOf_107 ⟨Nat.le_of_ble_eq_true rfl, Nat.le_of_ble_eq_true rfl⟩) (fun z w107 H locs hp hH hS => ?_)
    obtain ⟨rfl, hw⟩ := hp
    rw [← hw] at hH; clear hw
    refine W.widen (k := 1) (n := 1) (by first | exact Nat.le_of_ble_eq_true rfl | omega) (by first | exact Nat.le_of_ble_eq_true rfl | omega) ?_
    exact wa_iret X hH hS dX0_allOf_110 ⟨by first | (unfold allS; rw [if_pos e6]; exact hS5) | (unfold allS; rw [if_neg (by omega), if_pos e6, if_pos (hC6.resolve_right (fun q => by omega)).1]) | (unfold allS; rw [if_neg (by omega), if_pos e6, if_neg (hC6.resolve_left (fun q => by omega)).1]) | (unfold allS; rw [if_neg (by omega), if_neg (by omega), if_pos e6]; exact hS7) | (unfold allS; rw [if_neg (by omega), if_neg (by omega), if_neg (by omega), if_pos e6, hS8]) | (unfold allS; rw [if_neg (by omega), if_neg (by omega), if_neg (by omega), if_neg (by omega), if_pos e6]; exact pcS_cnt (fun a => ¬ foS g a = -1 ∧ rightS g a) (by omega)) | (unfold allS; rw [if_neg (by omega), if_neg (by omega), if_neg (by omega), if_neg (by omega), if_neg (by omega)]; exact pcS_cnt (fun a => ahS g a = -1) (by omega)), ⟨hX, hK⟩⟩
set_option maxRecDepth 100000 in
theorem mX0_all {lL : Launch} {G : wa_G} {ad : Nat → Nat} {w : wa_W} {S : Nat → Int} {A : Nat → Int → Int} {B : Nat → Int → Option Nat} {P : Nat → Option Nat} (hX : XW G ad w S A B P) {g : Int → Int} {past : Int → Int} {re : Int → Int} {tx : Int → Int} {st : Int} {ck : Int} {co : Int} {tl : Int} {qt : Int} (hI : XI G ad w S A B P g past re tx st ck co tl qt) (what : Int) (r_what : rI what) : Met lL yX0_all (ws_ yX0_all cX0_all 2 (some FieldType.int)) ({ frames := 13, cells := 5401, slots := 17401, locals := 3249 } : Room) (wa_P G w [.ref (ad 0), .int (zI what)]) (wa_Qz G fun z u => z = allV g what ∧ ∃ (S2 : Nat → Int) (A2 : Nat → Int → Int) (B2 : Nat → Int → Option Nat) (P2 : Nat → Option Nat), XW G ad u S2 A2 B2 P2 ∧ Kp ad w u ∧ (XI G ad u S2 A2 B2 P2 g past (rfu re (bad (0 ≤ what ∧ what ≤ 5))) tx st ck co tl qt)) 5401 17401 (wa_A G) := by
  refine wa_met (by decide) (by exact Nat.le_of_ble_eq_true rfl) ?_
  intro pP eE sS mM aA bB mT cC ls X hl hH
  have hS : va_S (wa_A G) sS.heap sS.heap [] := va_S.rf
  have hl : lv_has ls 2 [(0, .ref (ad 0)), (1, .int (zI what))] := hl
  have hK : Kp ad w w := Kp.rf
  have hI_0 := hI
  obtain ⟨ho, hST, hXJ, hRX⟩ := id hI
  have hmany := ho.many
  have hPX : PX G ad w (B 10) g := hST.2.2.1
  have hWY : WAYS G ad w (B 5) := hRX.1
  have hNV : NVX ad w P := hRX.2.1
  have hm : S 30 = g 3 := hST.1.2
  have hwd : S 20 = g 0 := hST.1.1
  have hg : A 10 0 = g 1 ∧ A 10 1 = g 2 := hST.2.1
  have hwide := ho.wide
  have hS0 : S 0 = st := hRX.2.2.2.1.1
  have hS1 : S 1 = qt := hRX.2.2.2.1.2.1
  have hS2 : S 2 = tl := hRX.2.2.2.1.2.2.1
  have hstr := hRX.2.2.2.2.2.2.2.1
  have htlr := hRX.2.2.2.2.2.2.2.2.1
  have hqt := hRX.2.2.2.2.2.2.2.2.2.1
  have hPX_0 := hPX
  have hWY_0 := hWY
  have hNV_0 := hNV
  have hXJ_0 := hXJ
  refine lv_iload_n X.x X.b dX0_all_0 rfl (lv_at hl 1 rfl) ?_
  refine wz_i2l X.x X.b dX0_all_1 ⟨by omega, by omega⟩ ?_
  refine lv_lconst (v := lI 0) X.x X.b dX0_all_2 rfl ?_
  refine wz_ldc2 (n := 5) X.x X.b X.own (X.t _ q512) rfl dX0_all_3 ?_
  refine wa_ci hS (wa_rS (rest := []) X hH (mX0_in _  what 0 5 (show rL what by first | assumption | omega) (show rL 0 by first | assumption | omega) (show rL 5 by first | assumption | omega)) (va_cwS 3 X.t (lw_S q466 q467 q109 q468) rfl rfl rfl hdX0_in.2 ⟨Nat.le_of_ble_eq_true rfl, Nat.le_of_ble_eq_true rfl⟩) rfl rfl hl.1 rfl (Nat.le_of_ble_eq_true rfl) dX0_all_6 ⟨Nat.le_of_ble_eq_true rfl, Nat.le_of_ble_eq_true rfl⟩) (fun z w6 H locs hp hH hS => ?_)
  obtain ⟨hb, hw⟩ := hp
  rw [← hw] at hH; clear hw
  rcases hb with ⟨b6, rfl⟩ | ⟨b6, rfl⟩
  · have b6 : (0 ≤ what ∧ what ≤ 5) := b6
    refine wz_ifeq (tgt := 20) X.x X.b dX0_all_9 (by decide) (by decide) (fun h => absurd h (by decide)) (fun _ => ?_)
    refine lv_aload_n X.x X.b dX0_all_12 rfl (lv_at hl 0 rfl) ?_
    refine lv_iload_n X.x X.b dX0_all_13 rfl (lv_at hl 1 rfl) ?_
    refine wa_ci hS (wa_rV (rest := []) X hH (mX0_allOf hX hI what (show 0 ≤ what ∧ what ≤ 5 by first | assumption | omega)) (cwV 1 X.t (lw_V q1351 q1353 qs36 q109 q1354) rfl rfl rfl hdX0_allOf ⟨Nat.le_of_ble_eq_true rfl, Nat.le_of_ble_eq_true rfl⟩) rfl (have h9 := (XW.c0 hX); h9) rfl rfl hl.1 rfl (Nat.le_of_ble_eq_true rfl) dX0_all_14 ⟨Nat.le_of_ble_eq_true rfl, Nat.le_of_ble_eq_true rfl⟩) (fun z w14 H locs hp hH hS => ?_)
    obtain ⟨rfl, ⟨S2_14, A2_14, B2_14, P2_14, hX, hk, hx14_0, hx14_1⟩⟩ := hp
    have hI := hI.kp hk
    have hPX := hPX.kp hk
    have hWY := hWY.kp hk
    have hNV := hNV.kp hk
    have hXJ := hXJ.kp hk
    have hK := hK.kp hk
    have hI := hx14_0
    refine lv_goto (tgt := 24) X.x X.b dX0_all_17 (by decide) ?_
    refine W.widen (k := 5401) (n := 17401) (by first | exact Nat.le_of_ble_eq_true rfl | omega) (by first | exact Nat.le_of_ble_eq_true rfl | omega) ?_
    exact wa_iret X hH hS dX0_all_24 ⟨by (try unfold allV); ((repeat' split) <;> first | rfl | omega | contradiction | (exfalso; omega)), ⟨_, _, _, _, hX, hK, (hI).rv (by (try simp only [rfu, bad]) <;> ((repeat' split) <;> first | rfl | (exfalso; omega) | contradiction))⟩⟩
  · have b6 : ¬ (0 ≤ what ∧ what ≤ 5) := b6
    refine wz_ifeq (tgt := 20) X.x X.b dX0_all_9 (by decide) (by decide) (fun _ => ?_) (fun h => absurd h (by decide))
    refine lv_aload_n X.x X.b dX0_all_20 rfl (lv_at hl 0 rfl) ?_
    refine wa_ci hS (wa_rV (rest := []) X hH (mX0_bad hX   ) (cwV 0 X.t (lw_V q492 q494 qs3 q109 q495) rfl rfl rfl hdX0_bad ⟨Nat.le_of_ble_eq_true rfl, Nat.le_of_ble_eq_true rfl⟩) rfl (have h9 := (XW.c0 hX); h9) rfl rfl hl.1 rfl (Nat.le_of_ble_eq_true rfl) dX0_all_21 ⟨Nat.le_of_ble_eq_true rfl, Nat.le_of_ble_eq_true rfl⟩) (fun z w21 H locs hp hH hS => ?_)
    obtain ⟨rfl, ⟨hX, hk⟩⟩ := hp
    have hI := hI.kp hk
    have hPX := hPX.kp hk
    have hWY := hWY.kp hk
    have hNV := hNV.kp hk
    have hXJ := hXJ.kp hk
    have hK := hK.kp hk
    refine W.widen (k := 5401) (n := 17401) (by first | exact Nat.le_of_ble_eq_true rfl | omega) (by first | exact Nat.le_of_ble_eq_true rfl | omega) ?_
    exact wa_iret X hH hS dX0_all_24 ⟨by (try unfold allV); ((repeat' split) <;> first | rfl | omega | contradiction | (exfalso; omega)), ⟨_, _, _, _, hX, hK, ((hI).ref).rv (by (try simp only [rfu, bad]) <;> ((repeat' split) <;> first | rfl | (exfalso; omega) | contradiction))⟩⟩
set_option maxRecDepth 100000 in
theorem mX0_place {lL : Launch} {G : wa_G} {ad : Nat → Nat} {w : wa_W} {S : Nat → Int} {A : Nat → Int → Int} {B : Nat → Int → Option Nat} {P : Nat → Option Nat} (hX : XW G ad w S A B P) {g : Int → Int} {past : Int → Int} {re : Int → Int} {tx : Int → Int} {st : Int} {ck : Int} {co : Int} {tl : Int} {qt : Int} (hI : XI G ad w S A B P g past re tx st ck co tl qt) (k : Int) (what : Int) (r_k : rI k) (r_what : rI what) : Met lL yX0_place (ws_ yX0_place cX0_place 3 (some FieldType.int)) ({ frames := 12, cells := 5400, slots := 17400, locals := 3227 } : Room) (wa_P G w [.ref (ad 0), .int (zI k), .int (zI what)]) (wa_Qz G fun z u => z = placeV g k what ∧ ∃ (S2 : Nat → Int) (A2 : Nat → Int → Int) (B2 : Nat → Int → Option Nat) (P2 : Nat → Option Nat), XW G ad u S2 A2 B2 P2 ∧ Kp ad w u ∧ (XI G ad u S2 A2 B2 P2 g past (rfu re (placeR g k what)) tx st ck co tl qt)) 5400 17400 (wa_A G) := by
  refine wa_met (by decide) (by exact Nat.le_of_ble_eq_true rfl) ?_
  intro pP eE sS mM aA bB mT cC ls X hl hH
  have hS : va_S (wa_A G) sS.heap sS.heap [] := va_S.rf
  have hl : lv_has ls 3 [(0, .ref (ad 0)), (1, .int (zI k)), (2, .int (zI what))] := hl
  have hK : Kp ad w w := Kp.rf
  have hI_0 := hI
  obtain ⟨ho, hST, hXJ, hRX⟩ := id hI
  have hmany := ho.many
  have hPX : PX G ad w (B 10) g := hST.2.2.1
  have hWY : WAYS G ad w (B 5) := hRX.1
  have hNV : NVX ad w P := hRX.2.1
  have hm : S 30 = g 3 := hST.1.2
  have hwd : S 20 = g 0 := hST.1.1
  have hg : A 10 0 = g 1 ∧ A 10 1 = g 2 := hST.2.1
  have hwide := ho.wide
  have hS0 : S 0 = st := hRX.2.2.2.1.1
  have hS1 : S 1 = qt := hRX.2.2.2.1.2.1
  have hS2 : S 2 = tl := hRX.2.2.2.1.2.2.1
  have hstr := hRX.2.2.2.2.2.2.2.1
  have htlr := hRX.2.2.2.2.2.2.2.2.1
  have hqt := hRX.2.2.2.2.2.2.2.2.2.1
  have hPX_0 := hPX
  have hWY_0 := hWY
  have hNV_0 := hNV
  have hXJ_0 := hXJ
  refine lv_aload_n X.x X.b dX0_place_0 rfl (lv_at hl 0 rfl) ?_
  refine lv_iload_n X.x X.b dX0_place_1 rfl (lv_at hl 1 rfl) ?_
  refine wa_ci hS (wa_rV (rest := []) X hH (mX0_isPicture hX  k (show rI k by first | assumption | omega) (show 0 ≤ S 30 ∧ S 30 ≤ 6 by first | assumption | omega)) (cwV 1 X.t (lw_V q572 q574 qs9 q109 q575) rfl rfl rfl hdX0_isPicture ⟨Nat.le_of_ble_eq_true rfl, Nat.le_of_ble_eq_true rfl⟩) rfl (have h9 := (XW.c0 hX); h9) rfl rfl hl.1 rfl (Nat.le_of_ble_eq_true rfl) dX0_place_2 ⟨Nat.le_of_ble_eq_true rfl, Nat.le_of_ble_eq_true rfl⟩) (fun z w2 H locs hp hH hS => ?_)
  obtain ⟨hb, hw⟩ := hp
  rw [← hw] at hH; clear hw
  rcases hb with ⟨b2, rfl⟩ | ⟨b2, rfl⟩
  · have b2 : (0 ≤ k ∧ k ≤ S 30 - 1) := b2
    refine wz_ifeq (tgt := 18) X.x X.b dX0_place_5 (by decide) (by decide) (fun h => absurd h (by decide)) (fun _ => ?_)
    refine lv_iload_n X.x X.b dX0_place_8 rfl (lv_at hl 2 rfl) ?_
    refine wz_i2l X.x X.b dX0_place_9 ⟨by omega, by omega⟩ ?_
    refine lv_lconst (v := lI 0) X.x X.b dX0_place_10 rfl ?_
    refine lv_lconst (v := lI 1) X.x X.b dX0_place_11 rfl ?_
    refine wa_ci hS (wa_rS (rest := []) X hH (mX0_in _  what 0 1 (show rL what by first | assumption | omega) (show rL 0 by first | assumption | omega) (show rL 1 by first | assumption | omega)) (va_cwS 3 X.t (lw_S q466 q467 q109 q468) rfl rfl rfl hdX0_in.2 ⟨Nat.le_of_ble_eq_true rfl, Nat.le_of_ble_eq_true rfl⟩) rfl rfl hl.1 rfl (Nat.le_of_ble_eq_true rfl) dX0_place_12 ⟨Nat.le_of_ble_eq_true rfl, Nat.le_of_ble_eq_true rfl⟩) (fun z w12 H locs hp hH hS => ?_)
    obtain ⟨hb, hw⟩ := hp
    rw [← hw] at hH; clear hw
    rcases hb with ⟨b12, rfl⟩ | ⟨b12, rfl⟩
    · have b12 : (0 ≤ what ∧ what ≤ 1) := b12
      refine wz_ifne (tgt := 23) X.x X.b dX0_place_15 (by decide) (by decide) (fun _ => ?_) (fun h => absurd h (by decide))
      refine lv_aload_n X.x X.b dX0_place_23 rfl (lv_at hl 0 rfl) ?_
      refine wa_cr hS (wa_rV (rest := []) X hH (mX0_joined hX hI  ) (cwV 0 X.t (lw_V q653 q655 qs14 q109 q656) rfl rfl rfl hdX0_joined ⟨Nat.le_of_ble_eq_true rfl, Nat.le_of_ble_eq_true rfl⟩) rfl (have h9 := (XW.c0 hX); h9) rfl rfl hl.1 rfl (Nat.le_of_ble_eq_true rfl) dX0_place_24 ⟨Nat.le_of_ble_eq_true rfl, Nat.le_of_ble_eq_true rfl⟩) (fun r24 w24 H locs hp hH hS => ?_)
      obtain ⟨rfl, ⟨S2_24, A2_24, B2_24, P2_24, hX, hk, hx24_0, hx24_1, hx24_2⟩⟩ := hp
      have hI := hI.kp hk
      have hPX := hPX.kp hk
      have hWY := hWY.kp hk
      have hNV := hNV.kp hk
      have hXJ := hXJ.kp hk
      have hK := hK.kp hk
      have hI := hx24_0
      have hJR := hx24_1
      refine wz_opt (q := some (ad 24)) (by rfl) ?_
      obtain ⟨ho, hST, hXJ, hRX⟩ := id hI
      have hmany := ho.many
      have hPX : PX G ad w24 (B2_24 10) g := hST.2.2.1
      have hWY : WAYS G ad w24 (B2_24 5) := hRX.1
      have hNV : NVX ad w24 P2_24 := hRX.2.1
      have hm : S2_24 30 = g 3 := hST.1.2
      have hwd : S2_24 20 = g 0 := hST.1.1
      have hg : A2_24 10 0 = g 1 ∧ A2_24 10 1 = g 2 := hST.2.1
      have hwide := ho.wide
      have hS0 : S2_24 0 = st := hRX.2.2.2.1.1
      have hS1 : S2_24 1 = qt := hRX.2.2.2.1.2.1
      have hS2 : S2_24 2 = tl := hRX.2.2.2.1.2.2.1
      have hstr := hRX.2.2.2.2.2.2.2.1
      have htlr := hRX.2.2.2.2.2.2.2.2.1
      have hqt := hRX.2.2.2.2.2.2.2.2.2.1
      have hJC := hJR.1
      have hCH := hJR.2.1
      obtain ⟨hLA, hah, hS5, hC6, hS7, hS8⟩ := id hCH
      refine wa_getN (v := .int (zI (S2_24 6))) X hH (have h9 := (XW.c24 hX); h9) wcX2 6 (by decide) q351 rfl (fun _ h9 => h9) rfl dX0_place_27 ?_
      refine wz_ifeq (tgt := 50) X.x X.b dX0_place_30 (by decide) (by rcases hC6 with q | q <;> (rw [q.2]; exact ⟨by decide, by decide⟩)) (fun c30 => ?_) (fun c30 => ?_)
      · have hcl := (hC6.resolve_left (fun q => by omega)).1
        refine lv_aload_n X.x X.b dX0_place_50 rfl (lv_at hl 0 rfl) ?_
        refine wa_ci hS (wa_rV (rest := []) X hH (mX0_no hX   ) (cwV 0 X.t (lw_V q1380 q1382 qs37 q109 q1383) rfl rfl rfl hdX0_no ⟨Nat.le_of_ble_eq_true rfl, Nat.le_of_ble_eq_true rfl⟩) rfl (have h9 := (XW.c0 hX); h9) rfl rfl hl.1 rfl (Nat.le_of_ble_eq_true rfl) dX0_place_51 ⟨Nat.le_of_ble_eq_true rfl, Nat.le_of_ble_eq_true rfl⟩) (fun z w51 H locs hp hH hS => ?_)
        obtain ⟨rfl, ⟨hX, hk⟩⟩ := hp
        have hI := hI.kp hk
        have hJR := hJR.kp hk
        have hPX := hPX.kp hk
        have hWY := hWY.kp hk
        have hNV := hNV.kp hk
        have hXJ := hXJ.kp hk
        have hJC := hJC.kp hk
        have hK := hK.kp hk
        refine W.widen (k := 5400) (n := 17400) (by first | exact Nat.le_of_ble_eq_true rfl | omega) (by first | exact Nat.le_of_ble_eq_true rfl | omega) ?_
        exact wa_iret X hH hS dX0_place_54 ⟨by unfold placeV; first | (rw [if_neg (show ¬ okK1 g k what by omega)]; done) | (rw [if_pos (show okK1 g k what by omega), if_neg hcl]; done) | (rw [if_pos (show okK1 g k what by omega), if_pos hcl]; unfold placeS; by_cases z : what = 0; (rw [if_pos z, if_pos z]; omega); (rw [if_neg z, if_neg z]; omega)), ⟨_, _, _, _, hX, hK, ((hI).ref).rv (by unfold placeR; first | (rw [if_neg (by omega)]; rfl) | (rw [if_pos (by omega), if_pos hcl]; rfl) | (rw [if_pos (by omega), if_neg hcl]; rfl))⟩⟩
      · have hcl := (hC6.resolve_right (fun q => by omega)).1
        refine lv_aload_n X.x X.b dX0_place_33 rfl (lv_at hl 0 rfl) ?_
        refine wa_get (v := .ref (ad 24)) X hH (have h9 := (XW.c0 hX); h9) wcX0 6 (by decide) q424 rfl (fun _ h9 => h9) rfl dX0_place_34 ?_
        refine lv_iload_n X.x X.b dX0_place_37 rfl (lv_at hl 1 rfl) ?_
        refine lv_iload_n X.x X.b dX0_place_38 rfl (lv_at hl 2 rfl) ?_
        refine wa_ci hS (wa_rV (rest := []) X hH (mX2_place hX hJR k what (by omega) (by omega) ho hcl hm) (cwV 2 X.t (lw_V q1373 q1374 q1375 q112 q1376) rfl rfl rfl hdX2_place ⟨Nat.le_of_ble_eq_true rfl, Nat.le_of_ble_eq_true rfl⟩) rfl (have h9 := (XW.c24 hX); h9) rfl rfl hl.1 rfl (Nat.le_of_ble_eq_true rfl) dX0_place_39 ⟨Nat.le_of_ble_eq_true rfl, Nat.le_of_ble_eq_true rfl⟩) (fun z w39 H locs hp hH hS => ?_)
        obtain ⟨rfl, hw⟩ := hp
        rw [← hw] at hH; clear hw
        refine wz_bipush X.x X.b dX0_place_42 rfl ?_
        refine lv_iload_n X.x X.b dX0_place_44 rfl (lv_at hl 2 rfl) ?_
        refine wz_imul X.x X.b dX0_place_45 ?_
        refine wz_iadd X.x X.b dX0_place_46 ?_
        refine lv_goto (tgt := 54) X.x X.b dX0_place_47 (by decide) ?_
        refine W.widen (k := 5400) (n := 17400) (by first | exact Nat.le_of_ble_eq_true rfl | omega) (by first | exact Nat.le_of_ble_eq_true rfl | omega) ?_
        exact wa_iret X hH hS dX0_place_54 ⟨by unfold placeV; first | (rw [if_neg (show ¬ okK1 g k what by omega)]; done) | (rw [if_pos (show okK1 g k what by omega), if_neg hcl]; done) | (rw [if_pos (show okK1 g k what by omega), if_pos hcl]; unfold placeS; by_cases z : what = 0; (rw [if_pos z, if_pos z]; omega); (rw [if_neg z, if_neg z]; omega)), ⟨_, _, _, _, hX, hK, (hI).rv (by unfold placeR; first | (rw [if_neg (by omega)]; rfl) | (rw [if_pos (by omega), if_pos hcl]; rfl) | (rw [if_pos (by omega), if_neg hcl]; rfl))⟩⟩
    · have b12 : ¬ (0 ≤ what ∧ what ≤ 1) := b12
      refine wz_ifne (tgt := 23) X.x X.b dX0_place_15 (by decide) (by decide) (fun h => absurd h (by decide)) (fun _ => ?_)
      refine lv_aload_n X.x X.b dX0_place_18 rfl (lv_at hl 0 rfl) ?_
      refine wa_ci hS (wa_rV (rest := []) X hH (mX0_bad hX   ) (cwV 0 X.t (lw_V q492 q494 qs3 q109 q495) rfl rfl rfl hdX0_bad ⟨Nat.le_of_ble_eq_true rfl, Nat.le_of_ble_eq_true rfl⟩) rfl (have h9 := (XW.c0 hX); h9) rfl rfl hl.1 rfl (Nat.le_of_ble_eq_true rfl) dX0_place_19 ⟨Nat.le_of_ble_eq_true rfl, Nat.le_of_ble_eq_true rfl⟩) (fun z w19 H locs hp hH hS => ?_)
      obtain ⟨rfl, ⟨hX, hk⟩⟩ := hp
      have hI := hI.kp hk
      have hPX := hPX.kp hk
      have hWY := hWY.kp hk
      have hNV := hNV.kp hk
      have hXJ := hXJ.kp hk
      have hK := hK.kp hk
      refine W.widen (k := 5400) (n := 17400) (by first | exact Nat.le_of_ble_eq_true rfl | omega) (by first | exact Nat.le_of_ble_eq_true rfl | omega) ?_
      exact wa_iret X hH hS dX0_place_22 ⟨by unfold placeV; first | (rw [if_neg (show ¬ okK1 g k what by omega)]; done) | (rw [if_pos (show okK1 g k what by omega), if_neg hcl]; done) | (rw [if_pos (show okK1 g k what by omega), if_pos hcl]; unfold placeS; by_cases z : what = 0; (rw [if_pos z, if_pos z]; omega); (rw [if_neg z, if_neg z]; omega)), ⟨_, _, _, _, hX, hK, ((hI).ref).rv (by unfold placeR; first | (rw [if_neg (by omega)]; rfl) | (rw [if_pos (by omega), if_pos hcl]; rfl) | (rw [if_pos (by omega), if_neg hcl]; rfl))⟩⟩
  · have b2 : ¬ (0 ≤ k ∧ k ≤ S 30 - 1) := b2
    refine wz_ifeq (tgt := 18) X.x X.b dX0_place_5 (by decide) (by decide) (fun _ => ?_) (fun h => absurd h (by decide))
    refine lv_aload_n X.x X.b dX0_place_18 rfl (lv_at hl 0 rfl) ?_
    refine wa_ci hS (wa_rV (rest := []) X hH (mX0_bad hX   ) (cwV 0 X.t (lw_V q492 q494 qs3 q109 q495) rfl rfl rfl hdX0_bad ⟨Nat.le_of_ble_eq_true rfl, Nat.le_of_ble_eq_true rfl⟩) rfl (have h9 := (XW.c0 hX); h9) rfl rfl hl.1 rfl (Nat.le_of_ble_eq_true rfl) dX0_place_19 ⟨Nat.le_of_ble_eq_true rfl, Nat.le_of_ble_eq_true rfl⟩) (fun z w19 H locs hp hH hS => ?_)
    obtain ⟨rfl, ⟨hX, hk⟩⟩ := hp
    have hI := hI.kp hk
    have hPX := hPX.kp hk
    have hWY := hWY.kp hk
    have hNV := hNV.kp hk
    have hXJ := hXJ.kp hk
    have hK := hK.kp hk
    refine W.widen (k := 5400) (n := 17400) (by first | exact Nat.le_of_ble_eq_true rfl | omega) (by first | exact Nat.le_of_ble_eq_true rfl | omega) ?_
    exact wa_iret X hH hS dX0_place_22 ⟨by unfold placeV; first | (rw [if_neg (show ¬ okK1 g k what by omega)]; done) | (rw [if_pos (show okK1 g k what by omega), if_neg hcl]; done) | (rw [if_pos (show okK1 g k what by omega), if_pos hcl]; unfold placeS; by_cases z : what = 0; (rw [if_pos z, if_pos z]; omega); (rw [if_neg z, if_neg z]; omega)), ⟨_, _, _, _, hX, hK, ((hI).ref).rv (by unfold placeR; first | (rw [if_neg (by omega)]; rfl) | (rw [if_pos (by omega), if_pos hcl]; rfl) | (rw [if_pos (by omega), if_neg hcl]; rfl))⟩⟩
set_option maxRecDepth 100000 in
theorem mX0_seamCost {lL : Launch} {G : wa_G} {ad : Nat → Nat} {w : wa_W} {S : Nat → Int} {A : Nat → Int → Int} {B : Nat → Int → Option Nat} {P : Nat → Option Nat} (hX : XW G ad w S A B P) {l : Nat} {sc : Nat} {a : Int} {v : Int} {g : Int → Int} (hJR : JR G ad w S A B P g) (hPX : PX G ad w (B 10) g) (fl0 : Lnk ad w l sc a (foS g a) v (eS g a) (fS g a)) (ha : 0 ≤ a ∧ a < g 3) (hfo : ¬ foS g a = -1) (ho : okS g) : Met lL yX0_seamCost (ws_ yX0_seamCost cX0_seamCost 4 (some FieldType.int)) ({ frames := 2, cells := 0, slots := 0, locals := 46 } : Room) (wa_P G w [.ref (ad 0), .ref l]) (wa_Qz G fun z u => z = scS g a ∧ w = u) 0 0 (wa_A G) := by
  refine wa_met (by decide) (by exact Nat.le_of_ble_eq_true rfl) ?_
  intro pP eE sS mM aA bB mT cC ls X hl hH
  have hS : va_S (wa_A G) sS.heap sS.heap [] := va_S.rf
  have hl : lv_has ls 4 [(0, .ref (ad 0)), (1, .ref l)] := hl
  have hK : Kp ad w w := Kp.rf
  have hJR_0 := hJR
  have hPX_0 := hPX
  have fl0_0 := fl0
  have hmany := ho.many
  have hef := efS_in (g := g) a
  have hfi := foS_in ho ha.1 ha.2
  refine wz_iconst X.x X.b dX0_seamCost_0 ?_
  refine lv_istore_n (lv' := [(2, .int (zI 0)), (0, .ref (ad 0)), (1, .ref l)]) X.x X.b dX0_seamCost_1 rfl hl (by decide) rfl (fun ls hl => ?_)
  refine wz_iconst X.x X.b dX0_seamCost_2 ?_
  refine lv_istore_n (lv' := [(3, .int (zI 0)), (2, .int (zI 0)), (0, .ref (ad 0)), (1, .ref l)]) X.x X.b dX0_seamCost_3 rfl hl (by decide) rfl (fun ls hl => ?_)
  have L4 : ∀ (nn : Nat) (r : Int) (s9 : Int), ((4 - r).toNat) = nn → (0 ≤ r ∧ r ≤ 4) → (s9 = scN g a r.toNat) → ∀ (H : Heap) (locs : List Loc) (ls : Array Slot), wa_H G w H → va_S (wa_A G) sS.heap H locs → lv_has ls 4 [(3, .int (zI r)), (2, .int (zI s9)), (0, .ref (ad 0)), (1, .ref l)] → W pP lL eE ({ frames := 2, cells := 0, slots := 0, locals := 46 } : Room) sS mM aA bB mT cC H locs 0 0 (MQ bB (wa_Qz G fun z u => z = scS g a ∧ w = u) aA sS 0 0 (wa_A G)) (F0 mM 4 ls []) := by
    intro nn
    induction nn using Nat.strongRecOn with
    | ind nn ih4 =>
      intro r s9 hmu4 i4_0 i4_1 H locs ls hH hS hl
      refine lv_iload_n X.x X.b dX0_seamCost_4 rfl (lv_at hl 0 rfl) ?_
      refine wz_iconst X.x X.b dX0_seamCost_5 ?_
      refine wz_icmp_ge (tgt := 53) X.x X.b dX0_seamCost_6 (by decide) ⟨by omega, by omega⟩ ⟨by omega, by omega⟩ (fun c6 => ?_) (fun c6 => ?_)
      · refine lv_iload_n X.x X.b dX0_seamCost_53 rfl (lv_at hl 1 rfl) ?_
        exact wa_iret X hH hS dX0_seamCost_54 ⟨by rw [i4_1, show r = 4 by omega]; rfl, rfl⟩
      · refine lv_iload_n X.x X.b dX0_seamCost_9 rfl (lv_at hl 1 rfl) ?_
        refine lv_aload_n X.x X.b dX0_seamCost_10 rfl (lv_at hl 3 rfl) ?_
        refine lv_iload_n X.x X.b dX0_seamCost_11 rfl (lv_at hl 0 rfl) ?_
        refine wa_ci hS (wa_rV (rest := [.int (zI s9)]) X hH (mX11_isRow  (show At w l (eO 11 [.int (zI a), .int (zI (foS g a)), .ref sc, .int (zI v)]) from fl0.1.2) (show At w sc (eO 10 [.int (zI (eS g a)), .int (zI (fS g a))]) from fl0.2.2) r (show -100 ≤ r ∧ r ≤ 100 by first | assumption | omega) (show -100 ≤ (eS g a) ∧ (eS g a) ≤ 100 by first | assumption | omega)) (cwV 1 X.t (lw_V q1393 q1272 q1273 q141 q1274) rfl rfl rfl hdX11_isRow ⟨Nat.le_of_ble_eq_true rfl, Nat.le_of_ble_eq_true rfl⟩) rfl fl0.1.2 rfl rfl hl.1 rfl (Nat.le_of_ble_eq_true rfl) dX0_seamCost_12 ⟨Nat.le_of_ble_eq_true rfl, Nat.le_of_ble_eq_true rfl⟩) (fun z w12 H locs hp hH hS => ?_)
        obtain ⟨hb, hw⟩ := hp
        rw [← hw] at hH; clear hw
        rcases hb with ⟨b12, rfl⟩ | ⟨b12, rfl⟩
        · have b12 : ((0 ≤ r - (eS g a) ∧ r - (eS g a) ≤ 3) ∧ 0 ≤ r ∧ r ≤ 3) := b12
          refine wz_ifeq (tgt := 44) X.x X.b dX0_seamCost_15 (by decide) (by decide) (fun h => absurd h (by decide)) (fun _ => ?_)
          have hrr : hrS g a r := ⟨b12.2, b12.1⟩
          obtain ⟨q0, rw0, hq0, fr, hr0⟩ := hJR.2.2.1.is (x := a) (by omega) (by omega) hfo
          have hsi := (smS_in g a r).resolve_left (fun z => (smS_hr (by omega)).mp z hrr)
          have hfoi := (foS_in ho ha.1 ha.2).resolve_left hfo
          refine lv_aload_n X.x X.b dX0_seamCost_18 rfl (lv_at hl 2 rfl) ?_
          refine wa_get (v := .ref (ad 24)) X hH (have h9 := (XW.c0 hX); h9) wcX0 6 (by decide) q424 rfl (fun _ h9 => h9) rfl dX0_seamCost_19 ?_
          refine lv_aload_n X.x X.b dX0_seamCost_22 rfl (lv_at hl 3 rfl) ?_
          refine lv_iload_n X.x X.b dX0_seamCost_23 rfl (lv_at hl 0 rfl) ?_
          refine lv_aload_n X.x X.b dX0_seamCost_24 rfl (lv_at hl 2 rfl) ?_
          refine wa_get (v := .ref (ad 24)) X hH (have h9 := (XW.c0 hX); h9) wcX0 6 (by decide) q424 rfl (fun _ h9 => h9) rfl dX0_seamCost_25 ?_
          refine wa_getN (v := .ref (ad 53)) X hH (have h9 := (XW.c24 hX); h9) wcX2 9 (by decide) q357 rfl (fun _ h9 => h9) rfl dX0_seamCost_28 ?_
          refine lv_aload_n X.x X.b dX0_seamCost_31 rfl (lv_at hl 3 rfl) ?_
          refine wa_getN (v := .int (zI a)) X hH fl0.1.2 wcX11 0 (by decide) q1125 rfl (fun _ h9 => h9) rfl dX0_seamCost_32 ?_
          refine wa_aald (k := 7) (f := B 3) X hH (have h9 := (XW.c53 hX); h9) rfl rfl (by omega) (by omega) (by omega) dX0_seamCost_35 ?_
          refine wz_opt (q := some q0) (by exact hq0) ?_
          refine lv_iload_n X.x X.b dX0_seamCost_36 rfl (lv_at hl 0 rfl) ?_
          refine wa_iald (f := rw0) X hH fr.2 (by omega) (by omega) (by omega) dX0_seamCost_37 ?_
          refine wz_is (z := smS g a r) (by exact hr0 r (by omega) (by omega)) ?_
          refine wa_ci hS (wa_rVN (rest := [.int (zI s9)]) X hH (mX2_difference hX hPX fl0 r (smS g a r) ha ⟨hfoi.1, hfoi.2.1⟩ ⟨b12.2, b12.1⟩ ⟨by omega, by omega⟩ ho) (wa_cN X 3 q1285 q1394 q112 hdX2_difference.2 ⟨Nat.le_of_ble_eq_true rfl, Nat.le_of_ble_eq_true rfl⟩) q1284 qs31 rfl (have h9 := (XW.c24 hX); h9) rfl rfl hl.1 rfl (Nat.le_of_ble_eq_true rfl) dX0_seamCost_38 ⟨Nat.le_of_ble_eq_true rfl, Nat.le_of_ble_eq_true rfl⟩) (fun z w38 H locs hp hH hS => ?_)
          obtain ⟨rfl, hw⟩ := hp
          rw [← hw] at hH; clear hw
          refine lv_goto (tgt := 45) X.x X.b dX0_seamCost_41 (by decide) ?_
          refine wz_iadd X.x X.b dX0_seamCost_45 ?_
          refine lv_istore_n (lv' := [(2, .int (zI (s9 + (Int.natAbs (pc g a r (smS g a r) - pc g (foS g a) (r - (eS g a)) ((smS g a r) - (fS g a))) : Int)))), (3, .int (zI r)), (0, .ref (ad 0)), (1, .ref l)]) X.x X.b dX0_seamCost_46 rfl hl (by decide) rfl (fun ls hl => ?_)
          refine wz_iinc (k := 1) (lv' := [(3, .int (zI (r + 1))), (2, .int (zI (s9 + (Int.natAbs (pc g a r (smS g a r) - pc g (foS g a) (r - (eS g a)) ((smS g a r) - (fS g a))) : Int)))), (0, .ref (ad 0)), (1, .ref l)]) X.x X.b dX0_seamCost_47 hl rfl (by decide) rfl (fun ls hl => ?_)
          refine lv_goto (tgt := 4) X.x X.b dX0_seamCost_50 (by decide) ?_
          exact ih4 _ (by omega) (r + 1) (s9 + (Int.natAbs (pc g a r (smS g a r) - pc g (foS g a) (r - (eS g a)) ((smS g a r) - (fS g a))) : Int)) rfl (by omega) (by rw [scN_s i4_0.1, ← i4_1]; first | (rw [if_neg (by omega)]; rfl) | (rw [if_pos ((smS_hr i4_0.1).mpr (fun q => b12 ⟨q.2, q.1⟩))])) _ _ _ hH hS (lv_sub hl [0, 1, 2, 3] rfl)
        · have b12 : ¬ ((0 ≤ r - (eS g a) ∧ r - (eS g a) ≤ 3) ∧ 0 ≤ r ∧ r ≤ 3) := b12
          refine wz_ifeq (tgt := 44) X.x X.b dX0_seamCost_15 (by decide) (by decide) (fun _ => ?_) (fun h => absurd h (by decide))
          refine wz_iconst X.x X.b dX0_seamCost_44 ?_
          refine wz_iadd X.x X.b dX0_seamCost_45 ?_
          refine lv_istore_n (lv' := [(2, .int (zI (s9 + 0))), (3, .int (zI r)), (0, .ref (ad 0)), (1, .ref l)]) X.x X.b dX0_seamCost_46 rfl hl (by decide) rfl (fun ls hl => ?_)
          refine wz_iinc (k := 1) (lv' := [(3, .int (zI (r + 1))), (2, .int (zI (s9 + 0))), (0, .ref (ad 0)), (1, .ref l)]) X.x X.b dX0_seamCost_47 hl rfl (by decide) rfl (fun ls hl => ?_)
          refine lv_goto (tgt := 4) X.x X.b dX0_seamCost_50 (by decide) ?_
          exact ih4 _ (by omega) (r + 1) (s9 + 0) rfl (by omega) (by rw [scN_s i4_0.1, ← i4_1]; first | (rw [if_neg (by omega)]; rfl) | (rw [if_pos ((smS_hr i4_0.1).mpr (fun q => b12 ⟨q.2, q.1⟩))])) _ _ _ hH hS (lv_sub hl [0, 1, 2, 3] rfl)
  exact L4 _ 0 0 rfl (by omega) (by rfl) _ _ _ hH hS (lv_sub hl [0, 1, 2, 3] rfl)
set_option maxRecDepth 100000 in
theorem mX0_overlap {lL : Launch} {G : wa_G} {ad : Nat → Nat} {w : wa_W} {S : Nat → Int} {A : Nat → Int → Int} {B : Nat → Int → Option Nat} {P : Nat → Option Nat} (hX : XW G ad w S A B P) {g : Int → Int} {past : Int → Int} {re : Int → Int} {tx : Int → Int} {st : Int} {ck : Int} {co : Int} {tl : Int} {qt : Int} (hI : XI G ad w S A B P g past re tx st ck co tl qt) (k : Int) (what : Int) (r_k : rI k) (r_what : rI what) : Met lL yX0_overlap (ws_ yX0_overlap cX0_overlap 4 (some FieldType.int)) ({ frames := 12, cells := 5401, slots := 17402, locals := 3227 } : Room) (wa_P G w [.ref (ad 0), .int (zI k), .int (zI what)]) (wa_Qz G fun z u => z = overV g k what ∧ ∃ (S2 : Nat → Int) (A2 : Nat → Int → Int) (B2 : Nat → Int → Option Nat) (P2 : Nat → Option Nat), XW G ad u S2 A2 B2 P2 ∧ Kp ad w u ∧ (XI G ad u S2 A2 B2 P2 g past (rfu re (overR g k what)) tx st ck co tl qt)) 5401 17402 (wa_A G) := by
  refine wa_met (by decide) (by exact Nat.le_of_ble_eq_true rfl) ?_
  intro pP eE sS mM aA bB mT cC ls X hl hH
  have hS : va_S (wa_A G) sS.heap sS.heap [] := va_S.rf
  have hl : lv_has ls 4 [(0, .ref (ad 0)), (1, .int (zI k)), (2, .int (zI what))] := hl
  have hK : Kp ad w w := Kp.rf
  have hI_0 := hI
  obtain ⟨ho, hST, hXJ, hRX⟩ := id hI
  have hmany := ho.many
  have hPX : PX G ad w (B 10) g := hST.2.2.1
  have hWY : WAYS G ad w (B 5) := hRX.1
  have hNV : NVX ad w P := hRX.2.1
  have hm : S 30 = g 3 := hST.1.2
  have hwd : S 20 = g 0 := hST.1.1
  have hg : A 10 0 = g 1 ∧ A 10 1 = g 2 := hST.2.1
  have hwide := ho.wide
  have hS0 : S 0 = st := hRX.2.2.2.1.1
  have hS1 : S 1 = qt := hRX.2.2.2.1.2.1
  have hS2 : S 2 = tl := hRX.2.2.2.1.2.2.1
  have hstr := hRX.2.2.2.2.2.2.2.1
  have htlr := hRX.2.2.2.2.2.2.2.2.1
  have hqt := hRX.2.2.2.2.2.2.2.2.2.1
  have hPX_0 := hPX
  have hWY_0 := hWY
  have hNV_0 := hNV
  have hXJ_0 := hXJ
  refine lv_aload_n X.x X.b dX0_overlap_0 rfl (lv_at hl 0 rfl) ?_
  refine lv_iload_n X.x X.b dX0_overlap_1 rfl (lv_at hl 1 rfl) ?_
  refine wa_ci hS (wa_rV (rest := []) X hH (mX0_isPicture hX  k (show rI k by first | assumption | omega) (show 0 ≤ S 30 ∧ S 30 ≤ 6 by first | assumption | omega)) (cwV 1 X.t (lw_V q572 q574 qs9 q109 q575) rfl rfl rfl hdX0_isPicture ⟨Nat.le_of_ble_eq_true rfl, Nat.le_of_ble_eq_true rfl⟩) rfl (have h9 := (XW.c0 hX); h9) rfl rfl hl.1 rfl (Nat.le_of_ble_eq_true rfl) dX0_overlap_2 ⟨Nat.le_of_ble_eq_true rfl, Nat.le_of_ble_eq_true rfl⟩) (fun z w2 H locs hp hH hS => ?_)
  obtain ⟨hb, hw⟩ := hp
  rw [← hw] at hH; clear hw
  rcases hb with ⟨b2, rfl⟩ | ⟨b2, rfl⟩
  · have b2 : (0 ≤ k ∧ k ≤ S 30 - 1) := b2
    refine wz_ifeq (tgt := 20) X.x X.b dX0_overlap_5 (by decide) (by decide) (fun h => absurd h (by decide)) (fun _ => ?_)
    refine lv_iload_n X.x X.b dX0_overlap_8 rfl (lv_at hl 2 rfl) ?_
    refine wz_i2l X.x X.b dX0_overlap_9 ⟨by omega, by omega⟩ ?_
    refine lv_lconst (v := lI 0) X.x X.b dX0_overlap_10 rfl ?_
    refine wz_ldc2 (n := 3) X.x X.b X.own (X.t _ q579) rfl dX0_overlap_11 ?_
    refine wa_ci hS (wa_rS (rest := []) X hH (mX0_in _  what 0 3 (show rL what by first | assumption | omega) (show rL 0 by first | assumption | omega) (show rL 3 by first | assumption | omega)) (va_cwS 3 X.t (lw_S q466 q467 q109 q468) rfl rfl rfl hdX0_in.2 ⟨Nat.le_of_ble_eq_true rfl, Nat.le_of_ble_eq_true rfl⟩) rfl rfl hl.1 rfl (Nat.le_of_ble_eq_true rfl) dX0_overlap_14 ⟨Nat.le_of_ble_eq_true rfl, Nat.le_of_ble_eq_true rfl⟩) (fun z w14 H locs hp hH hS => ?_)
    obtain ⟨hb, hw⟩ := hp
    rw [← hw] at hH; clear hw
    rcases hb with ⟨b14, rfl⟩ | ⟨b14, rfl⟩
    · have b14 : (0 ≤ what ∧ what ≤ 3) := b14
      refine wz_ifne (tgt := 25) X.x X.b dX0_overlap_17 (by decide) (by decide) (fun _ => ?_) (fun h => absurd h (by decide))
      refine lv_aload_n X.x X.b dX0_overlap_25 rfl (lv_at hl 0 rfl) ?_
      refine wa_cr hS (wa_rV (rest := []) X hH (mX0_joined hX hI  ) (cwV 0 X.t (lw_V q653 q655 qs14 q109 q656) rfl rfl rfl hdX0_joined ⟨Nat.le_of_ble_eq_true rfl, Nat.le_of_ble_eq_true rfl⟩) rfl (have h9 := (XW.c0 hX); h9) rfl rfl hl.1 rfl (Nat.le_of_ble_eq_true rfl) dX0_overlap_26 ⟨Nat.le_of_ble_eq_true rfl, Nat.le_of_ble_eq_true rfl⟩) (fun r26 w26 H locs hp hH hS => ?_)
      obtain ⟨rfl, ⟨S2_26, A2_26, B2_26, P2_26, hX, hk, hx26_0, hx26_1, hx26_2⟩⟩ := hp
      have hI := hI.kp hk
      have hPX := hPX.kp hk
      have hWY := hWY.kp hk
      have hNV := hNV.kp hk
      have hXJ := hXJ.kp hk
      have hK := hK.kp hk
      have hI := hx26_0
      have hJR := hx26_1
      refine wz_opt (q := some (ad 24)) (by rfl) ?_
      obtain ⟨ho, hST, hXJ, hRX⟩ := id hI
      have hmany := ho.many
      have hPX : PX G ad w26 (B2_26 10) g := hST.2.2.1
      have hWY : WAYS G ad w26 (B2_26 5) := hRX.1
      have hNV : NVX ad w26 P2_26 := hRX.2.1
      have hm : S2_26 30 = g 3 := hST.1.2
      have hwd : S2_26 20 = g 0 := hST.1.1
      have hg : A2_26 10 0 = g 1 ∧ A2_26 10 1 = g 2 := hST.2.1
      have hwide := ho.wide
      have hS0 : S2_26 0 = st := hRX.2.2.2.1.1
      have hS1 : S2_26 1 = qt := hRX.2.2.2.1.2.1
      have hS2 : S2_26 2 = tl := hRX.2.2.2.1.2.2.1
      have hstr := hRX.2.2.2.2.2.2.2.1
      have htlr := hRX.2.2.2.2.2.2.2.2.1
      have hqt := hRX.2.2.2.2.2.2.2.2.2.1
      have hJC := hJR.1
      have hCH := hJR.2.1
      obtain ⟨hLA, hah, hS5, hC6, hS7, hS8⟩ := id hCH
      refine wa_getN (v := .ref (ad 51)) X hH (have h9 := (XW.c24 hX); h9) wcX2 3 (by decide) q345 rfl (fun _ h9 => h9) rfl dX0_overlap_29 ?_
      refine lv_iload_n X.x X.b dX0_overlap_32 rfl (lv_at hl 1 rfl) ?_
      refine wa_aald (k := 6) (f := B2_26 1) X hH (have h9 := (XW.c51 hX); h9) rfl rfl (by omega) (by omega) (by omega) dX0_overlap_33 ?_
      refine lv_astore_nO (lv' := [(3, va_rf ((B2_26 1) k)), (0, .ref (ad 0)), (1, .int (zI k)), (2, .int (zI what))]) X.x X.b dX0_overlap_34 rfl hl (by decide) rfl (fun ls hl => ?_)
      refine lv_aload_nO X.x X.b dX0_overlap_35 rfl (lv_at hl 0 rfl) ?_
      rcases xo_cases ((B2_26 1) k) with ho36 | ⟨a36, ho36⟩
      · refine wz_opt (q := none) ho36 ?_
        have hl : lv_has ls 4 [(3, .null), (0, .ref (ad 0)), (1, .int (zI k)), (2, .int (zI what))] := by rw [ho36] at hl; exact hl
        have hf := hLA.nol (a := k) (by omega) (by omega) ho36
        refine lv_ifnonnullN X.x X.b dX0_overlap_36 ?_
        refine lv_aload_n X.x X.b dX0_overlap_39 rfl (lv_at hl 1 rfl) ?_
        refine wa_ci hS (wa_rV (rest := []) X hH (mX0_no hX   ) (cwV 0 X.t (lw_V q1380 q1382 qs37 q109 q1383) rfl rfl rfl hdX0_no ⟨Nat.le_of_ble_eq_true rfl, Nat.le_of_ble_eq_true rfl⟩) rfl (have h9 := (XW.c0 hX); h9) rfl rfl hl.1 rfl (Nat.le_of_ble_eq_true rfl) dX0_overlap_40 ⟨Nat.le_of_ble_eq_true rfl, Nat.le_of_ble_eq_true rfl⟩) (fun z w40 H locs hp hH hS => ?_)
        obtain ⟨rfl, ⟨hX, hk⟩⟩ := hp
        have hI := hI.kp hk
        have hJR := hJR.kp hk
        have hPX := hPX.kp hk
        have hWY := hWY.kp hk
        have hNV := hNV.kp hk
        have hXJ := hXJ.kp hk
        have hJC := hJC.kp hk
        have hK := hK.kp hk
        refine W.widen (k := 5401) (n := 17402) (by first | exact Nat.le_of_ble_eq_true rfl | omega) (by first | exact Nat.le_of_ble_eq_true rfl | omega) ?_
        exact wa_iret X hH hS dX0_overlap_43 ⟨by unfold overV; first | (rw [if_neg (by omega)]; done) | (rw [if_pos (by omega), if_pos hf]; done) | (rw [if_pos (by omega), if_neg hf]; first | (rw [if_pos e53]; done) | (rw [if_neg (by omega), if_pos e53]; done) | (rw [if_neg (by omega), if_neg (by omega), if_pos e53]; done) | (rw [if_neg (by omega), if_neg (by omega), if_neg (by omega)]; done)), ⟨_, _, _, _, hX, hK, ((hI).ref).rv (by unfold overR; first | (rw [if_neg (by omega)]; rfl) | (rw [if_pos (by omega), if_pos hf]; rfl) | (rw [if_pos (by omega), if_neg hf]; rfl))⟩⟩
      · refine wz_opt (q := (some a36)) ho36 ?_
        have hl : lv_has ls 4 [(3, .ref a36), (0, .ref (ad 0)), (1, .int (zI k)), (2, .int (zI what))] := by rw [ho36] at hl; exact hl
        obtain ⟨hb1, hb2, hb3, sc, fl⟩ := hLA.isl (a := k) (by omega) (by omega) ho36
        have hf : ¬ foS g k = -1 := by omega
        refine lv_ifnonnull (tgt := 44) X.x X.b dX0_overlap_36 (by decide) ?_
        refine lv_aload_n X.x X.b dX0_overlap_44 rfl (lv_at hl 1 rfl) ?_
        refine wa_get (v := .ref (ad 24)) X hH (have h9 := (XW.c0 hX); h9) wcX0 6 (by decide) q424 rfl (fun _ h9 => h9) rfl dX0_overlap_45 ?_
        refine lv_aload_n X.x X.b dX0_overlap_48 rfl (lv_at hl 0 rfl) ?_
        refine wa_cv hS (wa_rV (rest := []) X hH (mX2_measures hX hPX fl  (by omega) hf ho) (cwV 1 X.t (lw_V q1388 q1295 q1296 q112 q1297) rfl rfl rfl hdX2_measures ⟨Nat.le_of_ble_eq_true rfl, Nat.le_of_ble_eq_true rfl⟩) rfl (have h9 := (XW.c24 hX); h9) rfl rfl hl.1 rfl (Nat.le_of_ble_eq_true rfl) dX0_overlap_49 ⟨Nat.le_of_ble_eq_true rfl, Nat.le_of_ble_eq_true rfl⟩) (fun w49 H locs hp hH hS => ?_)
        obtain ⟨hX, hk⟩ := hp
        have hI := hI.kp hk
        have hJR := hJR.kp hk
        have hPX := hPX.kp hk
        have hWY := hWY.kp hk
        have hNV := hNV.kp hk
        have hXJ := hXJ.kp hk
        have hJC := hJC.kp hk
        have fl := fl.kp hk
        have hK := hK.kp hk
        refine lv_iload_n X.x X.b dX0_overlap_52 rfl (lv_at hl 3 rfl) ?_
        rcases (show what = 0 ∨ what = 1 ∨ what = 2 ∨ (what < 0 ∨ 2 < what) by omega) with e53 | e53 | e53 | e53
        · refine wz_is (z := 0) e53 ?_
          refine lv_tableIn (tgt := 80) X.x X.b dX0_overlap_53 (by decide +kernel) (by decide +kernel) rfl (by decide) ?_
          refine lv_aload_n X.x X.b dX0_overlap_80 rfl (lv_at hl 1 rfl) ?_
          refine wa_get (v := .ref (ad 24)) X hH (have h9 := (XW.c0 hX); h9) wcX0 6 (by decide) q424 rfl (fun _ h9 => h9) rfl dX0_overlap_81 ?_
          refine wa_getN (v := .int (zI (cellS g k))) X hH (have h9 := (XW.c24 hX); h9) wcX2 12 (by decide) q363 rfl (fun _ h9 => h9) rfl dX0_overlap_84 ?_
          refine W.widen (k := 5401) (n := 17402) (by first | exact Nat.le_of_ble_eq_true rfl | omega) (by first | exact Nat.le_of_ble_eq_true rfl | omega) ?_
          exact wa_iret X hH hS dX0_overlap_87 ⟨by unfold overV; first | (rw [if_neg (by omega)]; done) | (rw [if_pos (by omega), if_pos hf]; done) | (rw [if_pos (by omega), if_neg hf]; first | (rw [if_pos e53]; done) | (rw [if_neg (by omega), if_pos e53]; done) | (rw [if_neg (by omega), if_neg (by omega), if_pos e53]; done) | (rw [if_neg (by omega), if_neg (by omega), if_neg (by omega)]; done)), ⟨_, _, _, _, hX, hK, (hI.ms).rv (by unfold overR; first | (rw [if_neg (by omega)]; rfl) | (rw [if_pos (by omega), if_pos hf]; rfl) | (rw [if_pos (by omega), if_neg hf]; rfl))⟩⟩
        · refine wz_is (z := 1) e53 ?_
          refine lv_tableIn (tgt := 88) X.x X.b dX0_overlap_53 (by decide +kernel) (by decide +kernel) rfl (by decide) ?_
          refine lv_aload_n X.x X.b dX0_overlap_88 rfl (lv_at hl 1 rfl) ?_
          refine wa_get (v := .ref (ad 24)) X hH (have h9 := (XW.c0 hX); h9) wcX0 6 (by decide) q424 rfl (fun _ h9 => h9) rfl dX0_overlap_89 ?_
          refine wa_getN (v := .int (zI (diffS 0 g k))) X hH (have h9 := (XW.c24 hX); h9) wcX2 13 (by decide) q365 rfl (fun _ h9 => h9) rfl dX0_overlap_92 ?_
          refine W.widen (k := 5401) (n := 17402) (by first | exact Nat.le_of_ble_eq_true rfl | omega) (by first | exact Nat.le_of_ble_eq_true rfl | omega) ?_
          exact wa_iret X hH hS dX0_overlap_95 ⟨by unfold overV; first | (rw [if_neg (by omega)]; done) | (rw [if_pos (by omega), if_pos hf]; done) | (rw [if_pos (by omega), if_neg hf]; first | (rw [if_pos e53]; done) | (rw [if_neg (by omega), if_pos e53]; done) | (rw [if_neg (by omega), if_neg (by omega), if_pos e53]; done) | (rw [if_neg (by omega), if_neg (by omega), if_neg (by omega)]; done)), ⟨_, _, _, _, hX, hK, (hI.ms).rv (by unfold overR; first | (rw [if_neg (by omega)]; rfl) | (rw [if_pos (by omega), if_pos hf]; rfl) | (rw [if_pos (by omega), if_neg hf]; rfl))⟩⟩
        · refine wz_is (z := 2) e53 ?_
          refine lv_tableIn (tgt := 96) X.x X.b dX0_overlap_53 (by decide +kernel) (by decide +kernel) rfl (by decide) ?_
          refine lv_aload_n X.x X.b dX0_overlap_96 rfl (lv_at hl 1 rfl) ?_
          refine lv_aload_n X.x X.b dX0_overlap_97 rfl (lv_at hl 0 rfl) ?_
          refine wa_ci hS (wa_rV (rest := []) X hH (mX0_seamCost hX (hJR.ms hmany) hPX fl  (by omega) hf ho) (cwV 1 X.t (lw_V q1389 q1391 qs38 q109 q1392) rfl rfl rfl hdX0_seamCost ⟨Nat.le_of_ble_eq_true rfl, Nat.le_of_ble_eq_true rfl⟩) rfl (have h9 := (XW.c0 hX); h9) rfl rfl hl.1 rfl (Nat.le_of_ble_eq_true rfl) dX0_overlap_98 ⟨Nat.le_of_ble_eq_true rfl, Nat.le_of_ble_eq_true rfl⟩) (fun z w98 H locs hp hH hS => ?_)
          obtain ⟨rfl, hw⟩ := hp
          refine wz_is (z := scS g k) (by rfl) ?_
          rw [← hw] at hH; clear hw
          refine W.widen (k := 5401) (n := 17402) (by first | exact Nat.le_of_ble_eq_true rfl | omega) (by first | exact Nat.le_of_ble_eq_true rfl | omega) ?_
          exact wa_iret X hH hS dX0_overlap_101 ⟨by unfold overV; first | (rw [if_neg (by omega)]; done) | (rw [if_pos (by omega), if_pos hf]; done) | (rw [if_pos (by omega), if_neg hf]; first | (rw [if_pos e53]; done) | (rw [if_neg (by omega), if_pos e53]; done) | (rw [if_neg (by omega), if_neg (by omega), if_pos e53]; done) | (rw [if_neg (by omega), if_neg (by omega), if_neg (by omega)]; done)), ⟨_, _, _, _, hX, hK, (hI.ms).rv (by unfold overR; first | (rw [if_neg (by omega)]; rfl) | (rw [if_pos (by omega), if_pos hf]; rfl) | (rw [if_pos (by omega), if_neg hf]; rfl))⟩⟩
        · refine lv_tableOut (tgt := 102) X.x X.b dX0_overlap_53 (by rw [zI_toInt (by omega) (by omega)]; omega) (by decide) ?_
          refine lv_aload_n X.x X.b dX0_overlap_102 rfl (lv_at hl 1 rfl) ?_
          refine wa_get (v := .ref (ad 24)) X hH (have h9 := (XW.c0 hX); h9) wcX0 6 (by decide) q424 rfl (fun _ h9 => h9) rfl dX0_overlap_103 ?_
          refine wa_getN (v := .int (zI (diffS 1 g k))) X hH (have h9 := (XW.c24 hX); h9) wcX2 14 (by decide) q367 rfl (fun _ h9 => h9) rfl dX0_overlap_106 ?_
          refine wz_sipush X.x X.b dX0_overlap_109 rfl ?_
          refine wz_iadd X.x X.b dX0_overlap_112 ?_
          refine W.widen (k := 5401) (n := 17402) (by first | exact Nat.le_of_ble_eq_true rfl | omega) (by first | exact Nat.le_of_ble_eq_true rfl | omega) ?_
          exact wa_iret X hH hS dX0_overlap_113 ⟨by unfold overV; first | (rw [if_neg (by omega)]; done) | (rw [if_pos (by omega), if_pos hf]; done) | (rw [if_pos (by omega), if_neg hf]; first | (rw [if_pos e53]; done) | (rw [if_neg (by omega), if_pos e53]; done) | (rw [if_neg (by omega), if_neg (by omega), if_pos e53]; done) | (rw [if_neg (by omega), if_neg (by omega), if_neg (by omega)]; done)), ⟨_, _, _, _, hX, hK, (hI.ms).rv (by unfold overR; first | (rw [if_neg (by omega)]; rfl) | (rw [if_pos (by omega), if_pos hf]; rfl) | (rw [if_pos (by omega), if_neg hf]; rfl))⟩⟩
    · have b14 : ¬ (0 ≤ what ∧ what ≤ 3) := b14
      refine wz_ifne (tgt := 25) X.x X.b dX0_overlap_17 (by decide) (by decide) (fun h => absurd h (by decide)) (fun _ => ?_)
      refine lv_aload_n X.x X.b dX0_overlap_20 rfl (lv_at hl 0 rfl) ?_
      refine wa_ci hS (wa_rV (rest := []) X hH (mX0_bad hX   ) (cwV 0 X.t (lw_V q492 q494 qs3 q109 q495) rfl rfl rfl hdX0_bad ⟨Nat.le_of_ble_eq_true rfl, Nat.le_of_ble_eq_true rfl⟩) rfl (have h9 := (XW.c0 hX); h9) rfl rfl hl.1 rfl (Nat.le_of_ble_eq_true rfl) dX0_overlap_21 ⟨Nat.le_of_ble_eq_true rfl, Nat.le_of_ble_eq_true rfl⟩) (fun z w21 H locs hp hH hS => ?_)
      obtain ⟨rfl, ⟨hX, hk⟩⟩ := hp
      have hI := hI.kp hk
      have hPX := hPX.kp hk
      have hWY := hWY.kp hk
      have hNV := hNV.kp hk
      have hXJ := hXJ.kp hk
      have hK := hK.kp hk
      refine W.widen (k := 5401) (n := 17402) (by first | exact Nat.le_of_ble_eq_true rfl | omega) (by first | exact Nat.le_of_ble_eq_true rfl | omega) ?_
      exact wa_iret X hH hS dX0_overlap_24 ⟨by unfold overV; first | (rw [if_neg (by omega)]; done) | (rw [if_pos (by omega), if_pos hf]; done) | (rw [if_pos (by omega), if_neg hf]; first | (rw [if_pos e53]; done) | (rw [if_neg (by omega), if_pos e53]; done) | (rw [if_neg (by omega), if_neg (by omega), if_pos e53]; done) | (rw [if_neg (by omega), if_neg (by omega), if_neg (by omega)]; done)), ⟨_, _, _, _, hX, hK, ((hI).ref).rv (by unfold overR; first | (rw [if_neg (by omega)]; rfl) | (rw [if_pos (by omega), if_pos hf]; rfl) | (rw [if_pos (by omega), if_neg hf]; rfl))⟩⟩
  · have b2 : ¬ (0 ≤ k ∧ k ≤ S 30 - 1) := b2
    refine wz_ifeq (tgt := 20) X.x X.b dX0_overlap_5 (by decide) (by decide) (fun _ => ?_) (fun h => absurd h (by decide))
    refine lv_aload_n X.x X.b dX0_overlap_20 rfl (lv_at hl 0 rfl) ?_
    refine wa_ci hS (wa_rV (rest := []) X hH (mX0_bad hX   ) (cwV 0 X.t (lw_V q492 q494 qs3 q109 q495) rfl rfl rfl hdX0_bad ⟨Nat.le_of_ble_eq_true rfl, Nat.le_of_ble_eq_true rfl⟩) rfl (have h9 := (XW.c0 hX); h9) rfl rfl hl.1 rfl (Nat.le_of_ble_eq_true rfl) dX0_overlap_21 ⟨Nat.le_of_ble_eq_true rfl, Nat.le_of_ble_eq_true rfl⟩) (fun z w21 H locs hp hH hS => ?_)
    obtain ⟨rfl, ⟨hX, hk⟩⟩ := hp
    have hI := hI.kp hk
    have hPX := hPX.kp hk
    have hWY := hWY.kp hk
    have hNV := hNV.kp hk
    have hXJ := hXJ.kp hk
    have hK := hK.kp hk
    refine W.widen (k := 5401) (n := 17402) (by first | exact Nat.le_of_ble_eq_true rfl | omega) (by first | exact Nat.le_of_ble_eq_true rfl | omega) ?_
    exact wa_iret X hH hS dX0_overlap_24 ⟨by unfold overV; first | (rw [if_neg (by omega)]; done) | (rw [if_pos (by omega), if_pos hf]; done) | (rw [if_pos (by omega), if_neg hf]; first | (rw [if_pos e53]; done) | (rw [if_neg (by omega), if_pos e53]; done) | (rw [if_neg (by omega), if_neg (by omega), if_pos e53]; done) | (rw [if_neg (by omega), if_neg (by omega), if_neg (by omega)]; done)), ⟨_, _, _, _, hX, hK, ((hI).ref).rv (by unfold overR; first | (rw [if_neg (by omega)]; rfl) | (rw [if_pos (by omega), if_pos hf]; rfl) | (rw [if_pos (by omega), if_neg hf]; rfl))⟩⟩
set_option maxRecDepth 100000 in
theorem mX0_part {lL : Launch} {G : wa_G} {w : wa_W} {q : Nat} {n : Int} {d : Int} (fq : At w q (eO 5 [.long (lI n), .long (lI d)])) (what : Int) (hw : rI what) : Met lL yX0_part (ws_ yX0_part cX0_part 2 (some FieldType.long)) ({ frames := 0, cells := 0, slots := 0, locals := 0 } : Room) (wa_P G w [.ref q, .int (zI what)]) (wa_Ql G fun z u => z = (if what = 0 then n else d) ∧ w = u) 0 0 (wa_A G) := by
  refine wa_met (by decide) (by exact Nat.le_of_ble_eq_true rfl) ?_
  intro pP eE sS mM aA bB mT cC ls X hl hH
  have hS : va_S (wa_A G) sS.heap sS.heap [] := va_S.rf
  have hl : lv_has ls 2 [(0, .ref q), (1, .int (zI what))] := hl
  have hK : Ext w w := Ext.rf
  refine lv_iload_n X.x X.b dX0_part_0 rfl (lv_at hl 1 rfl) ?_
  refine wz_ifne (tgt := 11) X.x X.b dX0_part_1 (by decide) ⟨by omega, by omega⟩ (fun c1 => ?_) (fun c1 => ?_)
  · refine lv_aload_n X.x X.b dX0_part_11 rfl (lv_at hl 0 rfl) ?_
    refine wa_getN (v := .long (lI d)) X hH fq wcX5 1 (by decide) q334 rfl (fun _ h9 => h9) rfl dX0_part_12 ?_
    exact wa_lret X hH hS dX0_part_15 ⟨by first | rw [if_pos (by omega)] | rw [if_neg (by omega)], rfl⟩
  · refine lv_aload_n X.x X.b dX0_part_4 rfl (lv_at hl 0 rfl) ?_
    refine wa_getN (v := .long (lI n)) X hH fq wcX5 0 (by decide) q332 rfl (fun _ h9 => h9) rfl dX0_part_5 ?_
    refine lv_goto (tgt := 15) X.x X.b dX0_part_8 (by decide) ?_
    exact wa_lret X hH hS dX0_part_15 ⟨by first | rw [if_pos (by omega)] | rw [if_neg (by omega)], rfl⟩
set_option maxRecDepth 100000 in
theorem mX0_level {lL : Launch} {G : wa_G} {ad : Nat → Nat} {w : wa_W} {S : Nat → Int} {A : Nat → Int → Int} {B : Nat → Int → Option Nat} {P : Nat → Option Nat} (hX : XW G ad w S A B P) {g : Int → Int} {past : Int → Int} {re : Int → Int} {tx : Int → Int} {st : Int} {ck : Int} {co : Int} {tl : Int} {qt : Int} (hI : XI G ad w S A B P g past re tx st ck co tl qt) (k : Int) (what : Int) (r_k : rI k) (r_what : rI what) : Met lL yX0_level (ws_ yX0_level cX0_level 3 (some FieldType.long)) ({ frames := 12, cells := 5400, slots := 17400, locals := 3227 } : Room) (wa_P G w [.ref (ad 0), .int (zI k), .int (zI what)]) (wa_Ql G fun z u => z = levelV g k what ∧ ∃ (S2 : Nat → Int) (A2 : Nat → Int → Int) (B2 : Nat → Int → Option Nat) (P2 : Nat → Option Nat), XW G ad u S2 A2 B2 P2 ∧ Kp ad w u ∧ (XI G ad u S2 A2 B2 P2 g past (rfu re (bad (okK1 g k what))) tx st ck co tl qt)) 5400 17400 (wa_A G) := by
  refine wa_met (by decide) (by exact Nat.le_of_ble_eq_true rfl) ?_
  intro pP eE sS mM aA bB mT cC ls X hl hH
  have hS : va_S (wa_A G) sS.heap sS.heap [] := va_S.rf
  have hl : lv_has ls 3 [(0, .ref (ad 0)), (1, .int (zI k)), (2, .int (zI what))] := hl
  have hK : Kp ad w w := Kp.rf
  have hI_0 := hI
  obtain ⟨ho, hST, hXJ, hRX⟩ := id hI
  have hmany := ho.many
  have hPX : PX G ad w (B 10) g := hST.2.2.1
  have hWY : WAYS G ad w (B 5) := hRX.1
  have hNV : NVX ad w P := hRX.2.1
  have hm : S 30 = g 3 := hST.1.2
  have hwd : S 20 = g 0 := hST.1.1
  have hg : A 10 0 = g 1 ∧ A 10 1 = g 2 := hST.2.1
  have hwide := ho.wide
  have hS0 : S 0 = st := hRX.2.2.2.1.1
  have hS1 : S 1 = qt := hRX.2.2.2.1.2.1
  have hS2 : S 2 = tl := hRX.2.2.2.1.2.2.1
  have hstr := hRX.2.2.2.2.2.2.2.1
  have htlr := hRX.2.2.2.2.2.2.2.2.1
  have hqt := hRX.2.2.2.2.2.2.2.2.2.1
  have hPX_0 := hPX
  have hWY_0 := hWY
  have hNV_0 := hNV
  have hXJ_0 := hXJ
  refine lv_aload_n X.x X.b dX0_level_0 rfl (lv_at hl 0 rfl) ?_
  refine lv_iload_n X.x X.b dX0_level_1 rfl (lv_at hl 1 rfl) ?_
  refine wa_ci hS (wa_rV (rest := []) X hH (mX0_isPicture hX  k (show rI k by first | assumption | omega) (show 0 ≤ S 30 ∧ S 30 ≤ 6 by first | assumption | omega)) (cwV 1 X.t (lw_V q572 q574 qs9 q109 q575) rfl rfl rfl hdX0_isPicture ⟨Nat.le_of_ble_eq_true rfl, Nat.le_of_ble_eq_true rfl⟩) rfl (have h9 := (XW.c0 hX); h9) rfl rfl hl.1 rfl (Nat.le_of_ble_eq_true rfl) dX0_level_2 ⟨Nat.le_of_ble_eq_true rfl, Nat.le_of_ble_eq_true rfl⟩) (fun z w2 H locs hp hH hS => ?_)
  obtain ⟨hb, hw⟩ := hp
  rw [← hw] at hH; clear hw
  rcases hb with ⟨b2, rfl⟩ | ⟨b2, rfl⟩
  · have b2 : (0 ≤ k ∧ k ≤ S 30 - 1) := b2
    refine wz_ifeq (tgt := 34) X.x X.b dX0_level_5 (by decide) (by decide) (fun h => absurd h (by decide)) (fun _ => ?_)
    refine lv_iload_n X.x X.b dX0_level_8 rfl (lv_at hl 2 rfl) ?_
    refine wz_i2l X.x X.b dX0_level_9 ⟨by omega, by omega⟩ ?_
    refine lv_lconst (v := lI 0) X.x X.b dX0_level_10 rfl ?_
    refine lv_lconst (v := lI 1) X.x X.b dX0_level_11 rfl ?_
    refine wa_ci hS (wa_rS (rest := []) X hH (mX0_in _  what 0 1 (show rL what by first | assumption | omega) (show rL 0 by first | assumption | omega) (show rL 1 by first | assumption | omega)) (va_cwS 3 X.t (lw_S q466 q467 q109 q468) rfl rfl rfl hdX0_in.2 ⟨Nat.le_of_ble_eq_true rfl, Nat.le_of_ble_eq_true rfl⟩) rfl rfl hl.1 rfl (Nat.le_of_ble_eq_true rfl) dX0_level_12 ⟨Nat.le_of_ble_eq_true rfl, Nat.le_of_ble_eq_true rfl⟩) (fun z w12 H locs hp hH hS => ?_)
    obtain ⟨hb, hw⟩ := hp
    rw [← hw] at hH; clear hw
    rcases hb with ⟨b12, rfl⟩ | ⟨b12, rfl⟩
    · have b12 : (0 ≤ what ∧ what ≤ 1) := b12
      refine wz_ifeq (tgt := 34) X.x X.b dX0_level_15 (by decide) (by decide) (fun h => absurd h (by decide)) (fun _ => ?_)
      refine lv_aload_n X.x X.b dX0_level_18 rfl (lv_at hl 0 rfl) ?_
      refine wa_cr hS (wa_rV (rest := []) X hH (mX0_joined hX hI  ) (cwV 0 X.t (lw_V q653 q655 qs14 q109 q656) rfl rfl rfl hdX0_joined ⟨Nat.le_of_ble_eq_true rfl, Nat.le_of_ble_eq_true rfl⟩) rfl (have h9 := (XW.c0 hX); h9) rfl rfl hl.1 rfl (Nat.le_of_ble_eq_true rfl) dX0_level_19 ⟨Nat.le_of_ble_eq_true rfl, Nat.le_of_ble_eq_true rfl⟩) (fun r19 w19 H locs hp hH hS => ?_)
      obtain ⟨rfl, ⟨S2_19, A2_19, B2_19, P2_19, hX, hk, hx19_0, hx19_1, hx19_2⟩⟩ := hp
      have hI := hI.kp hk
      have hPX := hPX.kp hk
      have hWY := hWY.kp hk
      have hNV := hNV.kp hk
      have hXJ := hXJ.kp hk
      have hK := hK.kp hk
      have hI := hx19_0
      have hJR := hx19_1
      refine wz_opt (q := some (ad 24)) (by rfl) ?_
      obtain ⟨ho, hST, hXJ, hRX⟩ := id hI
      have hmany := ho.many
      have hPX : PX G ad w19 (B2_19 10) g := hST.2.2.1
      have hWY : WAYS G ad w19 (B2_19 5) := hRX.1
      have hNV : NVX ad w19 P2_19 := hRX.2.1
      have hm : S2_19 30 = g 3 := hST.1.2
      have hwd : S2_19 20 = g 0 := hST.1.1
      have hg : A2_19 10 0 = g 1 ∧ A2_19 10 1 = g 2 := hST.2.1
      have hwide := ho.wide
      have hS0 : S2_19 0 = st := hRX.2.2.2.1.1
      have hS1 : S2_19 1 = qt := hRX.2.2.2.1.2.1
      have hS2 : S2_19 2 = tl := hRX.2.2.2.1.2.2.1
      have hstr := hRX.2.2.2.2.2.2.2.1
      have htlr := hRX.2.2.2.2.2.2.2.2.1
      have hqt := hRX.2.2.2.2.2.2.2.2.2.1
      have hJC := hJR.1
      refine wa_getN (v := .ref (ad 54)) X hH (have h9 := (XW.c24 hX); h9) wcX2 10 (by decide) q359 rfl (fun _ h9 => h9) rfl dX0_level_22 ?_
      refine lv_iload_n X.x X.b dX0_level_25 rfl (lv_at hl 1 rfl) ?_
      obtain ⟨q0, hq0, fl⟩ := hJR.2.2.2.1 k (by omega) (by omega) trivial
      refine wa_aald (k := 8) (f := B2_19 4) X hH (have h9 := (XW.c54 hX); h9) rfl rfl (by omega) (by omega) (by omega) dX0_level_26 ?_
      refine wz_opt (q := some q0) (by exact hq0) ?_
      refine lv_iload_n X.x X.b dX0_level_27 rfl (lv_at hl 2 rfl) ?_
      refine wa_cl hS (wa_rS (rest := []) X hH (mX0_part  (show At w19 q0 (eO 5 [.long (lI (lowA (levS g k) (levD g))), .long (lI (lowB (levS g k) (levD g)))]) from fl.2) what (show rI what by first | assumption | omega)) (va_cwS 2 X.t (lw_S q1405 q1406 q109 q1407) rfl rfl rfl hdX0_part.2 ⟨Nat.le_of_ble_eq_true rfl, Nat.le_of_ble_eq_true rfl⟩) rfl rfl hl.1 rfl (Nat.le_of_ble_eq_true rfl) dX0_level_28 ⟨Nat.le_of_ble_eq_true rfl, Nat.le_of_ble_eq_true rfl⟩) (fun z w28 H locs hp hH hS => ?_)
      obtain ⟨rfl, hw⟩ := hp
      rw [← hw] at hH; clear hw
      refine lv_goto (tgt := 43) X.x X.b dX0_level_31 (by decide) ?_
      refine W.widen (k := 5400) (n := 17400) (by first | exact Nat.le_of_ble_eq_true rfl | omega) (by first | exact Nat.le_of_ble_eq_true rfl | omega) ?_
      exact wa_lret X hH hS dX0_level_43 ⟨by unfold levelV; first | (rw [if_neg (show ¬ okK1 g k what by omega)]; done) | rw [if_pos (show okK1 g k what by omega)], ⟨_, _, _, _, hX, hK, (hI).rv (by (try simp only [rfu, bad]) <;> ((repeat' split) <;> first | rfl | (exfalso; omega) | contradiction))⟩⟩
    · have b12 : ¬ (0 ≤ what ∧ what ≤ 1) := b12
      refine wz_ifeq (tgt := 34) X.x X.b dX0_level_15 (by decide) (by decide) (fun _ => ?_) (fun h => absurd h (by decide))
      refine lv_aload_n X.x X.b dX0_level_34 rfl (lv_at hl 0 rfl) ?_
      refine wz_iconst X.x X.b dX0_level_35 ?_
      refine wz_ldcw (n := (-999999)) X.x X.b X.own (X.t _ q1408) rfl dX0_level_36 ?_
      refine wa_ci hS (wa_rV (rest := []) X hH (mX0_refuses hX  0 (-999999) (show 0 ≤ 0 ∧ 0 ≤ 2 by first | assumption | omega)) (cwV 2 X.t (lw_V q496 q498 qs4 q109 q499) rfl rfl rfl hdX0_refuses ⟨Nat.le_of_ble_eq_true rfl, Nat.le_of_ble_eq_true rfl⟩) rfl (have h9 := (XW.c0 hX); h9) rfl rfl hl.1 rfl (Nat.le_of_ble_eq_true rfl) dX0_level_39 ⟨Nat.le_of_ble_eq_true rfl, Nat.le_of_ble_eq_true rfl⟩) (fun z w39 H locs hp hH hS => ?_)
      obtain ⟨rfl, ⟨hX, hk⟩⟩ := hp
      have hI := hI.kp hk
      have hPX := hPX.kp hk
      have hWY := hWY.kp hk
      have hNV := hNV.kp hk
      have hXJ := hXJ.kp hk
      have hK := hK.kp hk
      refine wz_i2l X.x X.b dX0_level_42 ⟨by omega, by omega⟩ ?_
      refine W.widen (k := 5400) (n := 17400) (by first | exact Nat.le_of_ble_eq_true rfl | omega) (by first | exact Nat.le_of_ble_eq_true rfl | omega) ?_
      exact wa_lret X hH hS dX0_level_43 ⟨by unfold levelV; first | (rw [if_neg (show ¬ okK1 g k what by omega)]; done) | rw [if_pos (show okK1 g k what by omega)], ⟨_, _, _, _, hX, hK, ((hI).ref).rv (by (try simp only [rfu, bad]) <;> ((repeat' split) <;> first | rfl | (exfalso; omega) | contradiction))⟩⟩
  · have b2 : ¬ (0 ≤ k ∧ k ≤ S 30 - 1) := b2
    refine wz_ifeq (tgt := 34) X.x X.b dX0_level_5 (by decide) (by decide) (fun _ => ?_) (fun h => absurd h (by decide))
    refine lv_aload_n X.x X.b dX0_level_34 rfl (lv_at hl 0 rfl) ?_
    refine wz_iconst X.x X.b dX0_level_35 ?_
    refine wz_ldcw (n := (-999999)) X.x X.b X.own (X.t _ q1408) rfl dX0_level_36 ?_
    refine wa_ci hS (wa_rV (rest := []) X hH (mX0_refuses hX  0 (-999999) (show 0 ≤ 0 ∧ 0 ≤ 2 by first | assumption | omega)) (cwV 2 X.t (lw_V q496 q498 qs4 q109 q499) rfl rfl rfl hdX0_refuses ⟨Nat.le_of_ble_eq_true rfl, Nat.le_of_ble_eq_true rfl⟩) rfl (have h9 := (XW.c0 hX); h9) rfl rfl hl.1 rfl (Nat.le_of_ble_eq_true rfl) dX0_level_39 ⟨Nat.le_of_ble_eq_true rfl, Nat.le_of_ble_eq_true rfl⟩) (fun z w39 H locs hp hH hS => ?_)
    obtain ⟨rfl, ⟨hX, hk⟩⟩ := hp
    have hI := hI.kp hk
    have hPX := hPX.kp hk
    have hWY := hWY.kp hk
    have hNV := hNV.kp hk
    have hXJ := hXJ.kp hk
    have hK := hK.kp hk
    refine wz_i2l X.x X.b dX0_level_42 ⟨by omega, by omega⟩ ?_
    refine W.widen (k := 5400) (n := 17400) (by first | exact Nat.le_of_ble_eq_true rfl | omega) (by first | exact Nat.le_of_ble_eq_true rfl | omega) ?_
    exact wa_lret X hH hS dX0_level_43 ⟨by unfold levelV; first | (rw [if_neg (show ¬ okK1 g k what by omega)]; done) | rw [if_pos (show okK1 g k what by omega)], ⟨_, _, _, _, hX, hK, ((hI).ref).rv (by (try simp only [rfu, bad]) <;> ((repeat' split) <;> first | rfl | (exfalso; omega) | contradiction))⟩⟩
set_option maxRecDepth 100000 in
theorem mX0_rest {lL : Launch} {G : wa_G} {ad : Nat → Nat} {w : wa_W} {S : Nat → Int} {A : Nat → Int → Int} {B : Nat → Int → Option Nat} {P : Nat → Option Nat} (hX : XW G ad w S A B P) {g : Int → Int} {past : Int → Int} {re : Int → Int} {tx : Int → Int} {st : Int} {ck : Int} {co : Int} {tl : Int} {qt : Int} (hI : XI G ad w S A B P g past re tx st ck co tl qt) (what : Int) (r_what : rI what) : Met lL yX0_rest (ws_ yX0_rest cX0_rest 2 (some FieldType.long)) ({ frames := 12, cells := 5400, slots := 17400, locals := 3227 } : Room) (wa_P G w [.ref (ad 0), .int (zI what)]) (wa_Ql G fun z u => z = restV g what ∧ ∃ (S2 : Nat → Int) (A2 : Nat → Int → Int) (B2 : Nat → Int → Option Nat) (P2 : Nat → Option Nat), XW G ad u S2 A2 B2 P2 ∧ Kp ad w u ∧ (XI G ad u S2 A2 B2 P2 g past (rfu re (bad (0 ≤ what ∧ what ≤ 1))) tx st ck co tl qt)) 5400 17400 (wa_A G) := by
  refine wa_met (by decide) (by exact Nat.le_of_ble_eq_true rfl) ?_
  intro pP eE sS mM aA bB mT cC ls X hl hH
  have hS : va_S (wa_A G) sS.heap sS.heap [] := va_S.rf
  have hl : lv_has ls 2 [(0, .ref (ad 0)), (1, .int (zI what))] := hl
  have hK : Kp ad w w := Kp.rf
  have hI_0 := hI
  obtain ⟨ho, hST, hXJ, hRX⟩ := id hI
  have hmany := ho.many
  have hPX : PX G ad w (B 10) g := hST.2.2.1
  have hWY : WAYS G ad w (B 5) := hRX.1
  have hNV : NVX ad w P := hRX.2.1
  have hm : S 30 = g 3 := hST.1.2
  have hwd : S 20 = g 0 := hST.1.1
  have hg : A 10 0 = g 1 ∧ A 10 1 = g 2 := hST.2.1
  have hwide := ho.wide
  have hS0 : S 0 = st := hRX.2.2.2.1.1
  have hS1 : S 1 = qt := hRX.2.2.2.1.2.1
  have hS2 : S 2 = tl := hRX.2.2.2.1.2.2.1
  have hstr := hRX.2.2.2.2.2.2.2.1
  have htlr := hRX.2.2.2.2.2.2.2.2.1
  have hqt := hRX.2.2.2.2.2.2.2.2.2.1
  have hPX_0 := hPX
  have hWY_0 := hWY
  have hNV_0 := hNV
  have hXJ_0 := hXJ
  refine lv_iload_n X.x X.b dX0_rest_0 rfl (lv_at hl 1 rfl) ?_
  refine wz_i2l X.x X.b dX0_rest_1 ⟨by omega, by omega⟩ ?_
  refine lv_lconst (v := lI 0) X.x X.b dX0_rest_2 rfl ?_
  refine lv_lconst (v := lI 1) X.x X.b dX0_rest_3 rfl ?_
  refine wa_ci hS (wa_rS (rest := []) X hH (mX0_in _  what 0 1 (show rL what by first | assumption | omega) (show rL 0 by first | assumption | omega) (show rL 1 by first | assumption | omega)) (va_cwS 3 X.t (lw_S q466 q467 q109 q468) rfl rfl rfl hdX0_in.2 ⟨Nat.le_of_ble_eq_true rfl, Nat.le_of_ble_eq_true rfl⟩) rfl rfl hl.1 rfl (Nat.le_of_ble_eq_true rfl) dX0_rest_4 ⟨Nat.le_of_ble_eq_true rfl, Nat.le_of_ble_eq_true rfl⟩) (fun z w4 H locs hp hH hS => ?_)
  obtain ⟨hb, hw⟩ := hp
  rw [← hw] at hH; clear hw
  rcases hb with ⟨b4, rfl⟩ | ⟨b4, rfl⟩
  · have b4 : (0 ≤ what ∧ what ≤ 1) := b4
    refine wz_ifeq (tgt := 24) X.x X.b dX0_rest_7 (by decide) (by decide) (fun h => absurd h (by decide)) (fun _ => ?_)
    refine lv_aload_n X.x X.b dX0_rest_10 rfl (lv_at hl 0 rfl) ?_
    refine wa_cr hS (wa_rV (rest := []) X hH (mX0_joined hX hI  ) (cwV 0 X.t (lw_V q653 q655 qs14 q109 q656) rfl rfl rfl hdX0_joined ⟨Nat.le_of_ble_eq_true rfl, Nat.le_of_ble_eq_true rfl⟩) rfl (have h9 := (XW.c0 hX); h9) rfl rfl hl.1 rfl (Nat.le_of_ble_eq_true rfl) dX0_rest_11 ⟨Nat.le_of_ble_eq_true rfl, Nat.le_of_ble_eq_true rfl⟩) (fun r11 w11 H locs hp hH hS => ?_)
    obtain ⟨rfl, ⟨S2_11, A2_11, B2_11, P2_11, hX, hk, hx11_0, hx11_1, hx11_2⟩⟩ := hp
    have hI := hI.kp hk
    have hPX := hPX.kp hk
    have hWY := hWY.kp hk
    have hNV := hNV.kp hk
    have hXJ := hXJ.kp hk
    have hK := hK.kp hk
    have hI := hx11_0
    have hJR := hx11_1
    refine wz_opt (q := some (ad 24)) (by rfl) ?_
    obtain ⟨ho, hST, hXJ, hRX⟩ := id hI
    have hmany := ho.many
    have hPX : PX G ad w11 (B2_11 10) g := hST.2.2.1
    have hWY : WAYS G ad w11 (B2_11 5) := hRX.1
    have hNV : NVX ad w11 P2_11 := hRX.2.1
    have hm : S2_11 30 = g 3 := hST.1.2
    have hwd : S2_11 20 = g 0 := hST.1.1
    have hg : A2_11 10 0 = g 1 ∧ A2_11 10 1 = g 2 := hST.2.1
    have hwide := ho.wide
    have hS0 : S2_11 0 = st := hRX.2.2.2.1.1
    have hS1 : S2_11 1 = qt := hRX.2.2.2.1.2.1
    have hS2 : S2_11 2 = tl := hRX.2.2.2.1.2.2.1
    have hstr := hRX.2.2.2.2.2.2.2.1
    have htlr := hRX.2.2.2.2.2.2.2.2.1
    have hqt := hRX.2.2.2.2.2.2.2.2.2.1
    have hJC := hJR.1
    obtain ⟨q0, hq0, fl⟩ := hJR.2.2.2.2
    refine wa_getN (v := va_rf (P2_11 0)) X hH (have h9 := (XW.c24 hX); h9) wcX2 11 (by decide) q361 rfl (fun _ h9 => h9) rfl dX0_rest_14 ?_
    refine wz_opt (q := some q0) (by exact hq0) ?_
    refine lv_iload_n X.x X.b dX0_rest_17 rfl (lv_at hl 1 rfl) ?_
    refine wa_cl hS (wa_rS (rest := []) X hH (mX0_part  (show At w11 q0 (eO 5 [.long (lI (restA g)), .long (lI (restB g))]) from fl.2) what (show rI what by first | assumption | omega)) (va_cwS 2 X.t (lw_S q1405 q1406 q109 q1407) rfl rfl rfl hdX0_part.2 ⟨Nat.le_of_ble_eq_true rfl, Nat.le_of_ble_eq_true rfl⟩) rfl rfl hl.1 rfl (Nat.le_of_ble_eq_true rfl) dX0_rest_18 ⟨Nat.le_of_ble_eq_true rfl, Nat.le_of_ble_eq_true rfl⟩) (fun z w18 H locs hp hH hS => ?_)
    obtain ⟨rfl, hw⟩ := hp
    rw [← hw] at hH; clear hw
    refine lv_goto (tgt := 29) X.x X.b dX0_rest_21 (by decide) ?_
    refine W.widen (k := 5400) (n := 17400) (by first | exact Nat.le_of_ble_eq_true rfl | omega) (by first | exact Nat.le_of_ble_eq_true rfl | omega) ?_
    exact wa_lret X hH hS dX0_rest_29 ⟨by unfold restV; first | (rw [if_neg (show ¬ (0 ≤ what ∧ what ≤ 1) by omega)]; done) | rw [if_pos (show 0 ≤ what ∧ what ≤ 1 by omega)], ⟨_, _, _, _, hX, hK, (hI).rv (by (try simp only [rfu, bad]) <;> ((repeat' split) <;> first | rfl | (exfalso; omega) | contradiction))⟩⟩
  · have b4 : ¬ (0 ≤ what ∧ what ≤ 1) := b4
    refine wz_ifeq (tgt := 24) X.x X.b dX0_rest_7 (by decide) (by decide) (fun _ => ?_) (fun h => absurd h (by decide))
    refine lv_aload_n X.x X.b dX0_rest_24 rfl (lv_at hl 0 rfl) ?_
    refine wa_ci hS (wa_rV (rest := []) X hH (mX0_bad hX   ) (cwV 0 X.t (lw_V q492 q494 qs3 q109 q495) rfl rfl rfl hdX0_bad ⟨Nat.le_of_ble_eq_true rfl, Nat.le_of_ble_eq_true rfl⟩) rfl (have h9 := (XW.c0 hX); h9) rfl rfl hl.1 rfl (Nat.le_of_ble_eq_true rfl) dX0_rest_25 ⟨Nat.le_of_ble_eq_true rfl, Nat.le_of_ble_eq_true rfl⟩) (fun z w25 H locs hp hH hS => ?_)
    obtain ⟨rfl, ⟨hX, hk⟩⟩ := hp
    have hI := hI.kp hk
    have hPX := hPX.kp hk
    have hWY := hWY.kp hk
    have hNV := hNV.kp hk
    have hXJ := hXJ.kp hk
    have hK := hK.kp hk
    refine wz_i2l X.x X.b dX0_rest_28 ⟨by omega, by omega⟩ ?_
    refine W.widen (k := 5400) (n := 17400) (by first | exact Nat.le_of_ble_eq_true rfl | omega) (by first | exact Nat.le_of_ble_eq_true rfl | omega) ?_
    exact wa_lret X hH hS dX0_rest_29 ⟨by unfold restV; first | (rw [if_neg (show ¬ (0 ≤ what ∧ what ≤ 1) by omega)]; done) | rw [if_pos (show 0 ≤ what ∧ what ≤ 1 by omega)], ⟨_, _, _, _, hX, hK, ((hI).ref).rv (by (try simp only [rfu, bad]) <;> ((repeat' split) <;> first | rfl | (exfalso; omega) | contradiction))⟩⟩
set_option maxRecDepth 100000 in
theorem mX0_shows {lL : Launch} {G : wa_G} {ad : Nat → Nat} {w : wa_W} {S : Nat → Int} {A : Nat → Int → Int} {B : Nat → Int → Option Nat} {P : Nat → Option Nat} (hX : XW G ad w S A B P) {g : Int → Int} {past : Int → Int} {re : Int → Int} {tx : Int → Int} {st : Int} {ck : Int} {co : Int} {tl : Int} {qt : Int} (hI : XI G ad w S A B P g past re tx st ck co tl qt) (k : Int) (r : Int) (r_k : rI k) (r_r : rI r) : Met lL yX0_shows (ws_ yX0_shows cX0_shows 3 (some FieldType.int)) ({ frames := 12, cells := 5401, slots := 17401, locals := 3227 } : Room) (wa_P G w [.ref (ad 0), .int (zI k), .int (zI r)]) (wa_Qz G fun z u => z = showsV g k r ∧ ∃ (S2 : Nat → Int) (A2 : Nat → Int → Int) (B2 : Nat → Int → Option Nat) (P2 : Nat → Option Nat), XW G ad u S2 A2 B2 P2 ∧ Kp ad w u ∧ (XI G ad u S2 A2 B2 P2 g past (rfu re (bad (okK3 g k r))) tx st ck co tl qt)) 5401 17401 (wa_A G) := by
  refine wa_met (by decide) (by exact Nat.le_of_ble_eq_true rfl) ?_
  intro pP eE sS mM aA bB mT cC ls X hl hH
  have hS : va_S (wa_A G) sS.heap sS.heap [] := va_S.rf
  have hl : lv_has ls 3 [(0, .ref (ad 0)), (1, .int (zI k)), (2, .int (zI r))] := hl
  have hK : Kp ad w w := Kp.rf
  have hI_0 := hI
  obtain ⟨ho, hST, hXJ, hRX⟩ := id hI
  have hmany := ho.many
  have hPX : PX G ad w (B 10) g := hST.2.2.1
  have hWY : WAYS G ad w (B 5) := hRX.1
  have hNV : NVX ad w P := hRX.2.1
  have hm : S 30 = g 3 := hST.1.2
  have hwd : S 20 = g 0 := hST.1.1
  have hg : A 10 0 = g 1 ∧ A 10 1 = g 2 := hST.2.1
  have hwide := ho.wide
  have hS0 : S 0 = st := hRX.2.2.2.1.1
  have hS1 : S 1 = qt := hRX.2.2.2.1.2.1
  have hS2 : S 2 = tl := hRX.2.2.2.1.2.2.1
  have hstr := hRX.2.2.2.2.2.2.2.1
  have htlr := hRX.2.2.2.2.2.2.2.2.1
  have hqt := hRX.2.2.2.2.2.2.2.2.2.1
  have hPX_0 := hPX
  have hWY_0 := hWY
  have hNV_0 := hNV
  have hXJ_0 := hXJ
  refine lv_aload_n X.x X.b dX0_shows_0 rfl (lv_at hl 0 rfl) ?_
  refine lv_iload_n X.x X.b dX0_shows_1 rfl (lv_at hl 1 rfl) ?_
  refine wa_ci hS (wa_rV (rest := []) X hH (mX0_isPicture hX  k (show rI k by first | assumption | omega) (show 0 ≤ S 30 ∧ S 30 ≤ 6 by first | assumption | omega)) (cwV 1 X.t (lw_V q572 q574 qs9 q109 q575) rfl rfl rfl hdX0_isPicture ⟨Nat.le_of_ble_eq_true rfl, Nat.le_of_ble_eq_true rfl⟩) rfl (have h9 := (XW.c0 hX); h9) rfl rfl hl.1 rfl (Nat.le_of_ble_eq_true rfl) dX0_shows_2 ⟨Nat.le_of_ble_eq_true rfl, Nat.le_of_ble_eq_true rfl⟩) (fun z w2 H locs hp hH hS => ?_)
  obtain ⟨hb, hw⟩ := hp
  rw [← hw] at hH; clear hw
  rcases hb with ⟨b2, rfl⟩ | ⟨b2, rfl⟩
  · have b2 : (0 ≤ k ∧ k ≤ S 30 - 1) := b2
    refine wz_ifeq (tgt := 32) X.x X.b dX0_shows_5 (by decide) (by decide) (fun h => absurd h (by decide)) (fun _ => ?_)
    refine lv_iload_n X.x X.b dX0_shows_8 rfl (lv_at hl 2 rfl) ?_
    refine wz_i2l X.x X.b dX0_shows_9 ⟨by omega, by omega⟩ ?_
    refine lv_lconst (v := lI 0) X.x X.b dX0_shows_10 rfl ?_
    refine wz_ldc2 (n := 3) X.x X.b X.own (X.t _ q579) rfl dX0_shows_11 ?_
    refine wa_ci hS (wa_rS (rest := []) X hH (mX0_in _  r 0 3 (show rL r by first | assumption | omega) (show rL 0 by first | assumption | omega) (show rL 3 by first | assumption | omega)) (va_cwS 3 X.t (lw_S q466 q467 q109 q468) rfl rfl rfl hdX0_in.2 ⟨Nat.le_of_ble_eq_true rfl, Nat.le_of_ble_eq_true rfl⟩) rfl rfl hl.1 rfl (Nat.le_of_ble_eq_true rfl) dX0_shows_14 ⟨Nat.le_of_ble_eq_true rfl, Nat.le_of_ble_eq_true rfl⟩) (fun z w14 H locs hp hH hS => ?_)
    obtain ⟨hb, hw⟩ := hp
    rw [← hw] at hH; clear hw
    rcases hb with ⟨b14, rfl⟩ | ⟨b14, rfl⟩
    · have b14 : (0 ≤ r ∧ r ≤ 3) := b14
      refine wz_ifeq (tgt := 32) X.x X.b dX0_shows_17 (by decide) (by decide) (fun h => absurd h (by decide)) (fun _ => ?_)
      refine lv_aload_n X.x X.b dX0_shows_20 rfl (lv_at hl 0 rfl) ?_
      refine wa_cr hS (wa_rV (rest := []) X hH (mX0_joined hX hI  ) (cwV 0 X.t (lw_V q653 q655 qs14 q109 q656) rfl rfl rfl hdX0_joined ⟨Nat.le_of_ble_eq_true rfl, Nat.le_of_ble_eq_true rfl⟩) rfl (have h9 := (XW.c0 hX); h9) rfl rfl hl.1 rfl (Nat.le_of_ble_eq_true rfl) dX0_shows_21 ⟨Nat.le_of_ble_eq_true rfl, Nat.le_of_ble_eq_true rfl⟩) (fun r21 w21 H locs hp hH hS => ?_)
      obtain ⟨rfl, ⟨S2_21, A2_21, B2_21, P2_21, hX, hk, hx21_0, hx21_1, hx21_2⟩⟩ := hp
      have hI := hI.kp hk
      have hPX := hPX.kp hk
      have hWY := hWY.kp hk
      have hNV := hNV.kp hk
      have hXJ := hXJ.kp hk
      have hK := hK.kp hk
      have hI := hx21_0
      have hJR := hx21_1
      refine wz_opt (q := some (ad 24)) (by rfl) ?_
      obtain ⟨ho, hST, hXJ, hRX⟩ := id hI
      have hmany := ho.many
      have hPX : PX G ad w21 (B2_21 10) g := hST.2.2.1
      have hWY : WAYS G ad w21 (B2_21 5) := hRX.1
      have hNV : NVX ad w21 P2_21 := hRX.2.1
      have hm : S2_21 30 = g 3 := hST.1.2
      have hwd : S2_21 20 = g 0 := hST.1.1
      have hg : A2_21 10 0 = g 1 ∧ A2_21 10 1 = g 2 := hST.2.1
      have hwide := ho.wide
      have hS0 : S2_21 0 = st := hRX.2.2.2.1.1
      have hS1 : S2_21 1 = qt := hRX.2.2.2.1.2.1
      have hS2 : S2_21 2 = tl := hRX.2.2.2.1.2.2.1
      have hstr := hRX.2.2.2.2.2.2.2.1
      have htlr := hRX.2.2.2.2.2.2.2.2.1
      have hqt := hRX.2.2.2.2.2.2.2.2.2.1
      have hJC := hJR.1
      refine lv_iload_n X.x X.b dX0_shows_24 rfl (lv_at hl 1 rfl) ?_
      refine lv_iload_n X.x X.b dX0_shows_25 rfl (lv_at hl 2 rfl) ?_
      refine wa_ci hS (wa_rV (rest := []) X hH (mX2_shown hX hJR k r (by omega) (by omega) ho) (cwV 2 X.t (lw_V q1417 q1418 q1419 q112 q1420) rfl rfl rfl hdX2_shown ⟨Nat.le_of_ble_eq_true rfl, Nat.le_of_ble_eq_true rfl⟩) rfl (have h9 := (XW.c24 hX); h9) rfl rfl hl.1 rfl (Nat.le_of_ble_eq_true rfl) dX0_shows_26 ⟨Nat.le_of_ble_eq_true rfl, Nat.le_of_ble_eq_true rfl⟩) (fun z w26 H locs hp hH hS => ?_)
      obtain ⟨rfl, ⟨hX, hk⟩⟩ := hp
      have hI := hI.kp hk
      have hJR := hJR.kp hk
      have hPX := hPX.kp hk
      have hWY := hWY.kp hk
      have hNV := hNV.kp hk
      have hXJ := hXJ.kp hk
      have hJC := hJC.kp hk
      have hK := hK.kp hk
      refine lv_goto (tgt := 36) X.x X.b dX0_shows_29 (by decide) ?_
      refine W.widen (k := 5401) (n := 17401) (by first | exact Nat.le_of_ble_eq_true rfl | omega) (by first | exact Nat.le_of_ble_eq_true rfl | omega) ?_
      exact wa_iret X hH hS dX0_shows_36 ⟨by (try unfold showsV); ((repeat' split) <;> first | rfl | omega | contradiction | (exfalso; omega)), ⟨_, _, _, _, hX, hK, (hI).rv (by (try simp only [rfu, bad]) <;> ((repeat' split) <;> first | rfl | (exfalso; omega) | contradiction))⟩⟩
    · have b14 : ¬ (0 ≤ r ∧ r ≤ 3) := b14
      refine wz_ifeq (tgt := 32) X.x X.b dX0_shows_17 (by decide) (by decide) (fun _ => ?_) (fun h => absurd h (by decide))
      refine lv_aload_n X.x X.b dX0_shows_32 rfl (lv_at hl 0 rfl) ?_
      refine wa_ci hS (wa_rV (rest := []) X hH (mX0_bad hX   ) (cwV 0 X.t (lw_V q492 q494 qs3 q109 q495) rfl rfl rfl hdX0_bad ⟨Nat.le_of_ble_eq_true rfl, Nat.le_of_ble_eq_true rfl⟩) rfl (have h9 := (XW.c0 hX); h9) rfl rfl hl.1 rfl (Nat.le_of_ble_eq_true rfl) dX0_shows_33 ⟨Nat.le_of_ble_eq_true rfl, Nat.le_of_ble_eq_true rfl⟩) (fun z w33 H locs hp hH hS => ?_)
      obtain ⟨rfl, ⟨hX, hk⟩⟩ := hp
      have hI := hI.kp hk
      have hPX := hPX.kp hk
      have hWY := hWY.kp hk
      have hNV := hNV.kp hk
      have hXJ := hXJ.kp hk
      have hK := hK.kp hk
      refine W.widen (k := 5401) (n := 17401) (by first | exact Nat.le_of_ble_eq_true rfl | omega) (by first | exact Nat.le_of_ble_eq_true rfl | omega) ?_
      exact wa_iret X hH hS dX0_shows_36 ⟨by (try unfold showsV); ((repeat' split) <;> first | rfl | omega | contradiction | (exfalso; omega)), ⟨_, _, _, _, hX, hK, ((hI).ref).rv (by (try simp only [rfu, bad]) <;> ((repeat' split) <;> first | rfl | (exfalso; omega) | contradiction))⟩⟩
  · have b2 : ¬ (0 ≤ k ∧ k ≤ S 30 - 1) := b2
    refine wz_ifeq (tgt := 32) X.x X.b dX0_shows_5 (by decide) (by decide) (fun _ => ?_) (fun h => absurd h (by decide))
    refine lv_aload_n X.x X.b dX0_shows_32 rfl (lv_at hl 0 rfl) ?_
    refine wa_ci hS (wa_rV (rest := []) X hH (mX0_bad hX   ) (cwV 0 X.t (lw_V q492 q494 qs3 q109 q495) rfl rfl rfl hdX0_bad ⟨Nat.le_of_ble_eq_true rfl, Nat.le_of_ble_eq_true rfl⟩) rfl (have h9 := (XW.c0 hX); h9) rfl rfl hl.1 rfl (Nat.le_of_ble_eq_true rfl) dX0_shows_33 ⟨Nat.le_of_ble_eq_true rfl, Nat.le_of_ble_eq_true rfl⟩) (fun z w33 H locs hp hH hS => ?_)
    obtain ⟨rfl, ⟨hX, hk⟩⟩ := hp
    have hI := hI.kp hk
    have hPX := hPX.kp hk
    have hWY := hWY.kp hk
    have hNV := hNV.kp hk
    have hXJ := hXJ.kp hk
    have hK := hK.kp hk
    refine W.widen (k := 5401) (n := 17401) (by first | exact Nat.le_of_ble_eq_true rfl | omega) (by first | exact Nat.le_of_ble_eq_true rfl | omega) ?_
    exact wa_iret X hH hS dX0_shows_36 ⟨by (try unfold showsV); ((repeat' split) <;> first | rfl | omega | contradiction | (exfalso; omega)), ⟨_, _, _, _, hX, hK, ((hI).ref).rv (by (try simp only [rfu, bad]) <;> ((repeat' split) <;> first | rfl | (exfalso; omega) | contradiction))⟩⟩
set_option maxRecDepth 100000 in
theorem mX0_seenAt {lL : Launch} {G : wa_G} {ad : Nat → Nat} {w : wa_W} {S : Nat → Int} {A : Nat → Int → Int} {B : Nat → Int → Option Nat} {P : Nat → Option Nat} (hX : XW G ad w S A B P) {g : Int → Int} {past : Int → Int} {re : Int → Int} {tx : Int → Int} {st : Int} {ck : Int} {co : Int} {tl : Int} {qt : Int} (hI : XI G ad w S A B P g past re tx st ck co tl qt) (k : Int) (r : Int) (c : Int) (hk : 0 ≤ k ∧ k < g 3) (hrc : (0 ≤ r ∧ r ≤ 3) ∧ 0 ≤ c ∧ c ≤ 7) : Met lL yX0_seenAt (ws_ yX0_seenAt cX0_seenAt 7 (some FieldType.int)) ({ frames := 12, cells := 5400, slots := 17400, locals := 3227 } : Room) (wa_P G w [.ref (ad 0), .int (zI k), .int (zI r), .int (zI c)]) (wa_Qz G fun z u => z = seenS g k r c ∧ ∃ (S2 : Nat → Int) (A2 : Nat → Int → Int) (B2 : Nat → Int → Option Nat) (P2 : Nat → Option Nat), XW G ad u S2 A2 B2 P2 ∧ Kp ad w u ∧ (XI G ad u S2 A2 B2 P2 g past re tx st ck co tl qt)) 5400 17400 (wa_A G) := by
  refine wa_met (by decide) (by exact Nat.le_of_ble_eq_true rfl) ?_
  intro pP eE sS mM aA bB mT cC ls X hl hH
  have hS : va_S (wa_A G) sS.heap sS.heap [] := va_S.rf
  have hl : lv_has ls 7 [(0, .ref (ad 0)), (1, .int (zI k)), (2, .int (zI r)), (3, .int (zI c))] := hl
  have hK : Kp ad w w := Kp.rf
  have hI_0 := hI
  obtain ⟨ho, hST, hXJ, hRX⟩ := id hI
  have hmany := ho.many
  have hPX : PX G ad w (B 10) g := hST.2.2.1
  have hWY : WAYS G ad w (B 5) := hRX.1
  have hNV : NVX ad w P := hRX.2.1
  have hm : S 30 = g 3 := hST.1.2
  have hwd : S 20 = g 0 := hST.1.1
  have hg : A 10 0 = g 1 ∧ A 10 1 = g 2 := hST.2.1
  have hwide := ho.wide
  have hS0 : S 0 = st := hRX.2.2.2.1.1
  have hS1 : S 1 = qt := hRX.2.2.2.1.2.1
  have hS2 : S 2 = tl := hRX.2.2.2.1.2.2.1
  have hstr := hRX.2.2.2.2.2.2.2.1
  have htlr := hRX.2.2.2.2.2.2.2.2.1
  have hqt := hRX.2.2.2.2.2.2.2.2.2.1
  have hPX_0 := hPX
  have hWY_0 := hWY
  have hNV_0 := hNV
  have hXJ_0 := hXJ
  refine lv_aload_n X.x X.b dX0_seenAt_0 rfl (lv_at hl 0 rfl) ?_
  refine wa_cr hS (wa_rV (rest := []) X hH (mX0_joined hX hI  ) (cwV 0 X.t (lw_V q653 q655 qs14 q109 q656) rfl rfl rfl hdX0_joined ⟨Nat.le_of_ble_eq_true rfl, Nat.le_of_ble_eq_true rfl⟩) rfl (have h9 := (XW.c0 hX); h9) rfl rfl hl.1 rfl (Nat.le_of_ble_eq_true rfl) dX0_seenAt_1 ⟨Nat.le_of_ble_eq_true rfl, Nat.le_of_ble_eq_true rfl⟩) (fun r1 w1 H locs hp hH hS => ?_)
  obtain ⟨rfl, ⟨S2_1, A2_1, B2_1, P2_1, hX, hk, hx1_0, hx1_1, hx1_2⟩⟩ := hp
  have hI := hI.kp hk
  have hPX := hPX.kp hk
  have hWY := hWY.kp hk
  have hNV := hNV.kp hk
  have hXJ := hXJ.kp hk
  have hK := hK.kp hk
  have hI := hx1_0
  have hJR := hx1_1
  refine wz_opt (q := some (ad 24)) (by rfl) ?_
  obtain ⟨ho, hST, hXJ, hRX⟩ := id hI
  have hmany := ho.many
  have hPX : PX G ad w1 (B2_1 10) g := hST.2.2.1
  have hWY : WAYS G ad w1 (B2_1 5) := hRX.1
  have hNV : NVX ad w1 P2_1 := hRX.2.1
  have hm : S2_1 30 = g 3 := hST.1.2
  have hwd : S2_1 20 = g 0 := hST.1.1
  have hg : A2_1 10 0 = g 1 ∧ A2_1 10 1 = g 2 := hST.2.1
  have hwide := ho.wide
  have hS0 : S2_1 0 = st := hRX.2.2.2.1.1
  have hS1 : S2_1 1 = qt := hRX.2.2.2.1.2.1
  have hS2 : S2_1 2 = tl := hRX.2.2.2.1.2.2.1
  have hstr := hRX.2.2.2.2.2.2.2.1
  have htlr := hRX.2.2.2.2.2.2.2.2.1
  have hqt := hRX.2.2.2.2.2.2.2.2.2.1
  have hJC := hJR.1
  obtain ⟨q0, hq0, fl⟩ := hJR.2.2.2.1 k (by omega) (by omega) trivial
  obtain ⟨p, b, f, hp0, fp, ap⟩ := hPX k (by omega) (by omega)
  have cp := pcA.cB ap ho (by omega)
  have fp_0 := fp
  have hlv := levS_in ho (k := k) (by omega) (by omega)
  have hD := levD_in ho
  have hlo := lowB_in (n := levS g k) hD.1
  have hla := lowA_in (n := levS g k) (B := 91039334400) hD.1 (by omega) hlv
  have hp := ho.pc k r c (by omega) (by omega) (by omega) (by omega) (by omega) (by omega)
  have hmul := mul_in (a := pc g k r c) (A := 63) (b := lowB (levS g k) (levD g)) (B := 16934400) (by omega) (by omega) (by omega)
  refine wa_getN (v := .ref (ad 54)) X hH (have h9 := (XW.c24 hX); h9) wcX2 10 (by decide) q359 rfl (fun _ h9 => h9) rfl dX0_seenAt_4 ?_
  refine lv_iload_n X.x X.b dX0_seenAt_7 rfl (lv_at hl 1 rfl) ?_
  refine wa_aald (k := 8) (f := B2_1 4) X hH (have h9 := (XW.c54 hX); h9) rfl rfl (by omega) (by omega) (by omega) dX0_seenAt_8 ?_
  refine wz_opt (q := some q0) (by exact hq0) ?_
  refine lv_astore (lv' := [(4, .ref q0), (0, .ref (ad 0)), (1, .int (zI k)), (2, .int (zI r)), (3, .int (zI c))]) X.x X.b dX0_seenAt_9 hl (by decide) rfl (fun ls hl => ?_)
  refine wz_ldc2 (n := 2) X.x X.b X.own (X.t _ q529) rfl dX0_seenAt_11 ?_
  refine lv_aload_n X.x X.b dX0_seenAt_14 rfl (lv_at hl 1 rfl) ?_
  refine wa_get (v := .ref (ad 1)) X hH (have h9 := (XW.c0 hX); h9) wcX0 0 (by decide) q417 rfl (fun _ h9 => h9) rfl dX0_seenAt_15 ?_
  refine wa_getN (v := .ref (ad 2)) X hH (have h9 := (XW.c1 hX); h9) wcX1 2 (by decide) q169 rfl (fun _ h9 => h9) rfl dX0_seenAt_18 ?_
  refine lv_iload_n X.x X.b dX0_seenAt_21 rfl (lv_at hl 2 rfl) ?_
  refine wa_aald (k := 2) (f := B2_1 10) X hH (have h9 := (XW.c2 hX); h9) rfl rfl (by omega) (by omega) (by omega) dX0_seenAt_22 ?_
  refine wz_opt (q := some p) (by exact hp0) ?_
  refine lv_iload_n X.x X.b dX0_seenAt_23 rfl (lv_at hl 3 rfl) ?_
  refine lv_iload_n X.x X.b dX0_seenAt_24 rfl (lv_at hl 4 rfl) ?_
  refine wa_ci hS (wa_rV (rest := [.long (lI 2)]) X hH (mX8_at  (show At w1 p (eO 8 [.ref b, .int (zI (sh g k 0)), .int (zI (sh g k 1)), .int (zI (sh g k 2))]) from fp.1.2) (show At w1 b (eI G 32 f) from fp.2.2) r c (by omega)) (cwV 2 X.t (lw_V q199 q200 q201 q126 q202) rfl rfl rfl hdX8_at ⟨Nat.le_of_ble_eq_true rfl, Nat.le_of_ble_eq_true rfl⟩) rfl fp.1.2 rfl rfl hl.1 rfl (Nat.le_of_ble_eq_true rfl) dX0_seenAt_25 ⟨Nat.le_of_ble_eq_true rfl, Nat.le_of_ble_eq_true rfl⟩) (fun z w25 H locs hp hH hS => ?_)
  obtain ⟨rfl, hw⟩ := hp
  rw [← hw] at hH; clear hw
  refine wz_is (z := pc g k r c) (by exact ap r c (by omega) (by omega) (by omega) (by omega)) ?_
  refine wz_i2l X.x X.b dX0_seenAt_28 ⟨by omega, by omega⟩ ?_
  refine lv_aload X.x X.b dX0_seenAt_29 (lv_at hl 0 rfl) ?_
  refine wa_getN (v := .long (lI (lowB (levS g k) (levD g)))) X hH fl.2 wcX5 1 (by decide) q334 rfl (fun _ h9 => h9) rfl dX0_seenAt_31 ?_
  refine wz_lmul X.x X.b dX0_seenAt_34 ?_
  refine lv_aload X.x X.b dX0_seenAt_35 (lv_at hl 0 rfl) ?_
  refine wa_getN (v := .long (lI (lowA (levS g k) (levD g)))) X hH fl.2 wcX5 0 (by decide) q332 rfl (fun _ h9 => h9) rfl dX0_seenAt_37 ?_
  refine wz_ladd X.x X.b dX0_seenAt_40 ?_
  refine wz_lmul X.x X.b dX0_seenAt_41 ?_
  refine lv_aload X.x X.b dX0_seenAt_42 (lv_at hl 0 rfl) ?_
  refine wa_getN (v := .long (lI (lowB (levS g k) (levD g)))) X hH fl.2 wcX5 1 (by decide) q334 rfl (fun _ h9 => h9) rfl dX0_seenAt_44 ?_
  refine wz_ladd X.x X.b dX0_seenAt_47 ?_
  refine wz_topl (fun tw etw => ?_)
  refine lv_lstore (lv' := [(5, .long (lI tw)), (4, .ref q0), (0, .ref (ad 0)), (1, .int (zI k)), (2, .int (zI r)), (3, .int (zI c))]) X.x X.b dX0_seenAt_48 hl (by decide) rfl (fun ls hl => ?_)
  refine lv_lload X.x X.b dX0_seenAt_50 (lv_at hl 0 rfl) ?_
  refine wz_ldc2 (n := 2) X.x X.b X.own (X.t _ q529) rfl dX0_seenAt_52 ?_
  refine lv_aload X.x X.b dX0_seenAt_55 (lv_at hl 1 rfl) ?_
  refine wa_getN (v := .long (lI (lowB (levS g k) (levD g)))) X hH fl.2 wcX5 1 (by decide) q334 rfl (fun _ h9 => h9) rfl dX0_seenAt_57 ?_
  refine wz_lmul X.x X.b dX0_seenAt_60 ?_
  refine wz_topl (fun bw ebw => ?_)
  refine wa_cl hS (wa_rS (rest := []) X hH (mJ0_floorDiv_2 _  tw bw (by unfold rL; omega) (by omega)) (va_cwS 2 X.t (lw_S q1432 q1433 q111 q1434) rfl rfl rfl hdJ0_floorDiv_2.2 ⟨Nat.le_of_ble_eq_true rfl, Nat.le_of_ble_eq_true rfl⟩) rfl rfl hl.1 rfl (Nat.le_of_ble_eq_true rfl) dX0_seenAt_61 ⟨Nat.le_of_ble_eq_true rfl, Nat.le_of_ble_eq_true rfl⟩) (fun z w61 H locs hp hH hS => ?_)
  obtain ⟨rfl, hw⟩ := hp
  rw [← hw] at hH; clear hw
  have hed := ediv_in (v := tw) (b := bw) (B := 200000000000) (by omega) (by omega) (by omega)
  refine wz_bipush X.x X.b dX0_seenAt_64 rfl ?_
  refine wa_ci hS (wa_rS (rest := []) X hH (mX0_into _  (tw / bw) 63 (by unfold rL; omega) (by decide)) (va_cwS 2 X.t (lw_S q532 q533 q109 q534) rfl rfl rfl hdX0_into.2 ⟨Nat.le_of_ble_eq_true rfl, Nat.le_of_ble_eq_true rfl⟩) rfl rfl hl.1 rfl (Nat.le_of_ble_eq_true rfl) dX0_seenAt_66 ⟨Nat.le_of_ble_eq_true rfl, Nat.le_of_ble_eq_true rfl⟩) (fun z w66 H locs hp hH hS => ?_)
  obtain ⟨rfl, hw⟩ := hp
  rw [← hw] at hH; clear hw
  refine W.widen (k := 5400) (n := 17400) (by first | exact Nat.le_of_ble_eq_true rfl | omega) (by first | exact Nat.le_of_ble_eq_true rfl | omega) ?_
  exact wa_iret X hH hS dX0_seenAt_69 ⟨by unfold seenS heldS; rw [← etw, ← ebw]; (repeat' split) <;> omega, ⟨_, _, _, _, hX, hK, hI⟩⟩
set_option maxRecDepth 100000 in
theorem mX0_seen {lL : Launch} {G : wa_G} {ad : Nat → Nat} {w : wa_W} {S : Nat → Int} {A : Nat → Int → Int} {B : Nat → Int → Option Nat} {P : Nat → Option Nat} (hX : XW G ad w S A B P) {g : Int → Int} {past : Int → Int} {re : Int → Int} {tx : Int → Int} {st : Int} {ck : Int} {co : Int} {tl : Int} {qt : Int} (hI : XI G ad w S A B P g past re tx st ck co tl qt) (k : Int) (r : Int) (c : Int) (r_k : rI k) (r_r : rI r) (r_c : rI c) : Met lL yX0_seen (ws_ yX0_seen cX0_seen 4 (some FieldType.int)) ({ frames := 13, cells := 5400, slots := 17400, locals := 3253 } : Room) (wa_P G w [.ref (ad 0), .int (zI k), .int (zI r), .int (zI c)]) (wa_Qz G fun z u => z = seenV g k r c ∧ ∃ (S2 : Nat → Int) (A2 : Nat → Int → Int) (B2 : Nat → Int → Option Nat) (P2 : Nat → Option Nat), XW G ad u S2 A2 B2 P2 ∧ Kp ad w u ∧ (XI G ad u S2 A2 B2 P2 g past (rfu re (bad (okPic g k ∧ okCell r c))) tx st ck co tl qt)) 5400 17400 (wa_A G) := by
  refine wa_met (by decide) (by exact Nat.le_of_ble_eq_true rfl) ?_
  intro pP eE sS mM aA bB mT cC ls X hl hH
  have hS : va_S (wa_A G) sS.heap sS.heap [] := va_S.rf
  have hl : lv_has ls 4 [(0, .ref (ad 0)), (1, .int (zI k)), (2, .int (zI r)), (3, .int (zI c))] := hl
  have hK : Kp ad w w := Kp.rf
  have hI_0 := hI
  obtain ⟨ho, hST, hXJ, hRX⟩ := id hI
  have hmany := ho.many
  have hPX : PX G ad w (B 10) g := hST.2.2.1
  have hWY : WAYS G ad w (B 5) := hRX.1
  have hNV : NVX ad w P := hRX.2.1
  have hm : S 30 = g 3 := hST.1.2
  have hwd : S 20 = g 0 := hST.1.1
  have hg : A 10 0 = g 1 ∧ A 10 1 = g 2 := hST.2.1
  have hwide := ho.wide
  have hS0 : S 0 = st := hRX.2.2.2.1.1
  have hS1 : S 1 = qt := hRX.2.2.2.1.2.1
  have hS2 : S 2 = tl := hRX.2.2.2.1.2.2.1
  have hstr := hRX.2.2.2.2.2.2.2.1
  have htlr := hRX.2.2.2.2.2.2.2.2.1
  have hqt := hRX.2.2.2.2.2.2.2.2.2.1
  have hPX_0 := hPX
  have hWY_0 := hWY
  have hNV_0 := hNV
  have hXJ_0 := hXJ
  refine lv_aload_n X.x X.b dX0_seen_0 rfl (lv_at hl 0 rfl) ?_
  refine lv_iload_n X.x X.b dX0_seen_1 rfl (lv_at hl 1 rfl) ?_
  refine wa_ci hS (wa_rV (rest := []) X hH (mX0_isPicture hX  k (show rI k by first | assumption | omega) (show 0 ≤ S 30 ∧ S 30 ≤ 6 by first | assumption | omega)) (cwV 1 X.t (lw_V q572 q574 qs9 q109 q575) rfl rfl rfl hdX0_isPicture ⟨Nat.le_of_ble_eq_true rfl, Nat.le_of_ble_eq_true rfl⟩) rfl (have h9 := (XW.c0 hX); h9) rfl rfl hl.1 rfl (Nat.le_of_ble_eq_true rfl) dX0_seen_2 ⟨Nat.le_of_ble_eq_true rfl, Nat.le_of_ble_eq_true rfl⟩) (fun z w2 H locs hp hH hS => ?_)
  obtain ⟨hb, hw⟩ := hp
  rw [← hw] at hH; clear hw
  rcases hb with ⟨b2, rfl⟩ | ⟨b2, rfl⟩
  · have b2 : (0 ≤ k ∧ k ≤ S 30 - 1) := b2
    refine wz_ifeq (tgt := 26) X.x X.b dX0_seen_5 (by decide) (by decide) (fun h => absurd h (by decide)) (fun _ => ?_)
    refine lv_iload_n X.x X.b dX0_seen_8 rfl (lv_at hl 2 rfl) ?_
    refine lv_iload_n X.x X.b dX0_seen_9 rfl (lv_at hl 3 rfl) ?_
    refine wa_ci hS (wa_rS (rest := []) X hH (mX0_isCell _  r c (show rI r by first | assumption | omega) (show rI c by first | assumption | omega)) (va_cwS 2 X.t (lw_S q576 q577 q109 q578) rfl rfl rfl hdX0_isCell.2 ⟨Nat.le_of_ble_eq_true rfl, Nat.le_of_ble_eq_true rfl⟩) rfl rfl hl.1 rfl (Nat.le_of_ble_eq_true rfl) dX0_seen_10 ⟨Nat.le_of_ble_eq_true rfl, Nat.le_of_ble_eq_true rfl⟩) (fun z w10 H locs hp hH hS => ?_)
    obtain ⟨hb, hw⟩ := hp
    rw [← hw] at hH; clear hw
    rcases hb with ⟨b10, rfl⟩ | ⟨b10, rfl⟩
    · have b10 : ((0 ≤ r ∧ r ≤ 3) ∧ 0 ≤ c ∧ c ≤ 7) := b10
      refine wz_ifeq (tgt := 26) X.x X.b dX0_seen_13 (by decide) (by decide) (fun h => absurd h (by decide)) (fun _ => ?_)
      refine lv_aload_n X.x X.b dX0_seen_16 rfl (lv_at hl 0 rfl) ?_
      refine lv_iload_n X.x X.b dX0_seen_17 rfl (lv_at hl 1 rfl) ?_
      refine lv_iload_n X.x X.b dX0_seen_18 rfl (lv_at hl 2 rfl) ?_
      refine lv_iload_n X.x X.b dX0_seen_19 rfl (lv_at hl 3 rfl) ?_
      refine wa_ci hS (wa_rV (rest := []) X hH (mX0_seenAt hX hI k r c (by omega) (by omega)) (cwV 3 X.t (lw_V q1428 q1430 qs39 q109 q1431) rfl rfl rfl hdX0_seenAt ⟨Nat.le_of_ble_eq_true rfl, Nat.le_of_ble_eq_true rfl⟩) rfl (have h9 := (XW.c0 hX); h9) rfl rfl hl.1 rfl (Nat.le_of_ble_eq_true rfl) dX0_seen_20 ⟨Nat.le_of_ble_eq_true rfl, Nat.le_of_ble_eq_true rfl⟩) (fun z w20 H locs hp hH hS => ?_)
      obtain ⟨rfl, ⟨S2_20, A2_20, B2_20, P2_20, hX, hk, hx20_0⟩⟩ := hp
      have hI := hI.kp hk
      have hPX := hPX.kp hk
      have hWY := hWY.kp hk
      have hNV := hNV.kp hk
      have hXJ := hXJ.kp hk
      have hK := hK.kp hk
      have hI := hx20_0
      refine lv_goto (tgt := 30) X.x X.b dX0_seen_23 (by decide) ?_
      refine W.widen (k := 5400) (n := 17400) (by first | exact Nat.le_of_ble_eq_true rfl | omega) (by first | exact Nat.le_of_ble_eq_true rfl | omega) ?_
      exact wa_iret X hH hS dX0_seen_30 ⟨by (try unfold seenV); ((repeat' split) <;> first | rfl | omega | contradiction | (exfalso; omega)), ⟨_, _, _, _, hX, hK, (hI).rv (by (try simp only [rfu, bad]) <;> ((repeat' split) <;> first | rfl | (exfalso; omega) | contradiction))⟩⟩
    · have b10 : ¬ ((0 ≤ r ∧ r ≤ 3) ∧ 0 ≤ c ∧ c ≤ 7) := b10
      refine wz_ifeq (tgt := 26) X.x X.b dX0_seen_13 (by decide) (by decide) (fun _ => ?_) (fun h => absurd h (by decide))
      refine lv_aload_n X.x X.b dX0_seen_26 rfl (lv_at hl 0 rfl) ?_
      refine wa_ci hS (wa_rV (rest := []) X hH (mX0_bad hX   ) (cwV 0 X.t (lw_V q492 q494 qs3 q109 q495) rfl rfl rfl hdX0_bad ⟨Nat.le_of_ble_eq_true rfl, Nat.le_of_ble_eq_true rfl⟩) rfl (have h9 := (XW.c0 hX); h9) rfl rfl hl.1 rfl (Nat.le_of_ble_eq_true rfl) dX0_seen_27 ⟨Nat.le_of_ble_eq_true rfl, Nat.le_of_ble_eq_true rfl⟩) (fun z w27 H locs hp hH hS => ?_)
      obtain ⟨rfl, ⟨hX, hk⟩⟩ := hp
      have hI := hI.kp hk
      have hPX := hPX.kp hk
      have hWY := hWY.kp hk
      have hNV := hNV.kp hk
      have hXJ := hXJ.kp hk
      have hK := hK.kp hk
      refine W.widen (k := 5400) (n := 17400) (by first | exact Nat.le_of_ble_eq_true rfl | omega) (by first | exact Nat.le_of_ble_eq_true rfl | omega) ?_
      exact wa_iret X hH hS dX0_seen_30 ⟨by (try unfold seenV); ((repeat' split) <;> first | rfl | omega | contradiction | (exfalso; omega)), ⟨_, _, _, _, hX, hK, ((hI).ref).rv (by (try simp only [rfu, bad]) <;> ((repeat' split) <;> first | rfl | (exfalso; omega) | contradiction))⟩⟩
  · have b2 : ¬ (0 ≤ k ∧ k ≤ S 30 - 1) := b2
    refine wz_ifeq (tgt := 26) X.x X.b dX0_seen_5 (by decide) (by decide) (fun _ => ?_) (fun h => absurd h (by decide))
    refine lv_aload_n X.x X.b dX0_seen_26 rfl (lv_at hl 0 rfl) ?_
    refine wa_ci hS (wa_rV (rest := []) X hH (mX0_bad hX   ) (cwV 0 X.t (lw_V q492 q494 qs3 q109 q495) rfl rfl rfl hdX0_bad ⟨Nat.le_of_ble_eq_true rfl, Nat.le_of_ble_eq_true rfl⟩) rfl (have h9 := (XW.c0 hX); h9) rfl rfl hl.1 rfl (Nat.le_of_ble_eq_true rfl) dX0_seen_27 ⟨Nat.le_of_ble_eq_true rfl, Nat.le_of_ble_eq_true rfl⟩) (fun z w27 H locs hp hH hS => ?_)
    obtain ⟨rfl, ⟨hX, hk⟩⟩ := hp
    have hI := hI.kp hk
    have hPX := hPX.kp hk
    have hWY := hWY.kp hk
    have hNV := hNV.kp hk
    have hXJ := hXJ.kp hk
    have hK := hK.kp hk
    refine W.widen (k := 5400) (n := 17400) (by first | exact Nat.le_of_ble_eq_true rfl | omega) (by first | exact Nat.le_of_ble_eq_true rfl | omega) ?_
    exact wa_iret X hH hS dX0_seen_30 ⟨by (try unfold seenV); ((repeat' split) <;> first | rfl | omega | contradiction | (exfalso; omega)), ⟨_, _, _, _, hX, hK, ((hI).ref).rv (by (try simp only [rfu, bad]) <;> ((repeat' split) <;> first | rfl | (exfalso; omega) | contradiction))⟩⟩

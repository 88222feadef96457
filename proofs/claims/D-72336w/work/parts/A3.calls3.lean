/-! CALLS: leaves, type, clear, why, told, back -/
set_option maxRecDepth 100000 in
theorem mX0_leaves {lL : Launch} {G : wa_G} {ad : Nat → Nat} {w : wa_W} {S : Nat → Int} {A : Nat → Int → Int} {B : Nat → Int → Option Nat} {P : Nat → Option Nat} (hX : XW G ad w S A B P) {g : Int → Int} {past : Int → Int} {re : Int → Int} {tx : Int → Int} {st : Int} {ck : Int} {co : Int} {tl : Int} {qt : Int} (hI : XI G ad w S A B P g past re tx st ck co tl qt)  : Met lL yX0_leaves (ws_ yX0_leaves cX0_leaves 2 (none : Option FieldType)) ({ frames := 2, cells := 0, slots := 0, locals := 121 } : Room) (wa_P G w [.ref (ad 0)]) (wa_Qv G fun u => ∃ (S2 : Nat → Int) (A2 : Nat → Int → Int) (B2 : Nat → Int → Option Nat) (P2 : Nat → Option Nat), XW G ad u S2 A2 B2 P2 ∧ Kp ad w u ∧ (XI G ad u S2 A2 B2 P2 g (keepQ qt past g st) re tx (keepM qt st) ck co tl qt) ∧ (S2 4 = 1)) 0 0 (wa_A G) := by
  refine wa_met (by decide) (by exact Nat.le_of_ble_eq_true rfl) ?_
  intro pP eE sS mM aA bB mT cC ls X hl hH
  have hS : va_S (wa_A G) sS.heap sS.heap [] := va_S.rf
  have hl : lv_has ls 2 [(0, .ref (ad 0))] := hl
  have hK : Kp ad w w := Kp.rf
  have hI_0 := hI
  obtain ⟨ho, hST, hXJ, hRX⟩ := id hI
  have hmany := ho.many
  have hPX : PX G ad w (B 10) g := hST.2.2.1
  have hWY : WAYS G ad w (B 5) := hRX.1
  have hNV : NVX ad w P := hRX.2.1
  have hm : S 30 = g 3 := hST.1.2
  have hwd : S 20 = g 0 := hST.1.1
  have hg : A 10 0 = g 1 ∧ A 10 1 = g 2 := hST.2.1
  have hwide := ho.wide
  have hS0 : S 0 = st := hRX.2.2.2.1.1
  have hS1 : S 1 = qt := hRX.2.2.2.1.2.1
  have hS2 : S 2 = tl := hRX.2.2.2.1.2.2.1
  have hstr := hRX.2.2.2.2.2.2.2.1
  have htlr := hRX.2.2.2.2.2.2.2.2.1
  have hqt := hRX.2.2.2.2.2.2.2.2.2.1
  have hPX_0 := hPX
  have hWY_0 := hWY
  have hNV_0 := hNV
  have hXJ_0 := hXJ
  refine lv_aload_n X.x X.b dX0_leaves_0 rfl (lv_at hl 0 rfl) ?_
  refine wa_get (v := .ref (ad 24)) X hH (have h9 := (XW.c0 hX); h9) wcX0 6 (by decide) q424 rfl (fun _ h9 => h9) rfl dX0_leaves_1 ?_
  refine wz_iconst X.x X.b dX0_leaves_4 ?_
  refine wa_putN X hH hS (have h9 := (XW.c24 hX); h9) wcX2 0 (by decide) q341 rfl (fun _ h9 => h9) rfl nb1 rfl (Nat.le_of_ble_eq_true rfl) dX0_leaves_5 (fun w5 H locs ew hH hS => ?_)
  have hk : Kp ad w w5 := Kp.set (i := 24) (by omega) ew
  have hX := hX.sS (i := 24) (4) (x := 1) (by unfold oS; omega) ew
  have hI := hI.kp hk
  have hPX := hPX.kp hk
  have hWY := hWY.kp hk
  have hNV := hNV.kp hk
  have hXJ := hXJ.kp hk
  have hK := hK.kp hk
  clear ew
  refine lv_aload_n X.x X.b dX0_leaves_8 rfl (lv_at hl 0 rfl) ?_
  refine wa_get (v := .int (zI (S 1))) X hH (have h9 := (XW.c0 hX); h9) wcX0 4 (by decide) q421 rfl (fun _ h9 => h9) rfl dX0_leaves_9 ?_
  refine wz_ifeq (tgt := 16) X.x X.b dX0_leaves_12 (by decide) (by rw [hS1]; rcases hqt with q | q <;> (rw [q]; exact ⟨by decide, by decide⟩)) (fun c12 => ?_) (fun c12 => ?_)
  · refine lv_aload_n X.x X.b dX0_leaves_16 rfl (lv_at hl 0 rfl) ?_
    refine wa_get (v := .int (zI (S 0))) X hH (have h9 := (XW.c0 hX); h9) wcX0 3 (by decide) q420 rfl (fun _ h9 => h9) rfl dX0_leaves_17 ?_
    refine wz_iconst X.x X.b dX0_leaves_20 ?_
    refine wz_icmp_ne (tgt := 62) X.x X.b dX0_leaves_21 (by decide) ⟨by omega, by omega⟩ ⟨by omega, by omega⟩ (fun c21 => ?_) (fun c21 => ?_)
    · refine lv_aload_n X.x X.b dX0_leaves_62 rfl (lv_at hl 0 rfl) ?_
      refine wa_get (v := .ref (ad 22)) X hH (have h9 := (XW.c0 hX); h9) wcX0 2 (by decide) q419 rfl (fun _ h9 => h9) rfl dX0_leaves_63 ?_
      refine lv_aload_n X.x X.b dX0_leaves_66 rfl (lv_at hl 0 rfl) ?_
      refine wa_get (v := .int (zI (S 0))) X hH (have h9 := (XW.c0 hX); h9) wcX0 3 (by decide) q420 rfl (fun _ h9 => h9) rfl dX0_leaves_67 ?_
      obtain ⟨sp, hsp2, hsp7, hspb, hspp, -⟩ := hI.2.2.2.2.2.1.pl (j := S 0) (by omega) (by omega)
      refine wa_aald (k := 3) (f := B 0) X hH (have h9 := (XW.c22 hX); h9) rfl rfl (by omega) (by omega) (by omega) dX0_leaves_70 ?_
      refine wz_opt (q := some (ad (1 + 3 * sp))) (by exact hspb) ?_
      refine lv_aload_n X.x X.b dX0_leaves_71 rfl (lv_at hl 0 rfl) ?_
      refine wa_get (v := .ref (ad 1)) X hH (have h9 := (XW.c0 hX); h9) wcX0 0 (by decide) q417 rfl (fun _ h9 => h9) rfl dX0_leaves_72 ?_
      refine wa_cv hS (wa_rV (rest := []) X hH (mX1_takes hX (show PCS ad w5 (B (10 + 0)) from by first | exact hI.2.1.2.2.2.1 | (rw [bup_n (by decide)]; exact hI.2.1.2.2.2.1))  (by omega) (show 0 < 7 by decide) (show sp ≠ 0 by omega)) (cwV 1 X.t (lw_V q478 q479 q480 q110 q481) rfl rfl rfl hdX1_takes ⟨Nat.le_of_ble_eq_true rfl, Nat.le_of_ble_eq_true rfl⟩) rfl (have h9 := (XW.st hX hsp7); h9) rfl rfl hl.1 rfl (Nat.le_of_ble_eq_true rfl) dX0_leaves_75 ⟨Nat.le_of_ble_eq_true rfl, Nat.le_of_ble_eq_true rfl⟩) (fun w75 H locs hp hH hS => ?_)
      obtain ⟨hX, hk⟩ := hp
      have hI := hI.kp hk
      have hPX := hPX.kp hk
      have hWY := hWY.kp hk
      have hNV := hNV.kp hk
      have hXJ := hXJ.kp hk
      have hspp := hspp.kp hk
      have hK := hK.kp hk
      refine lv_aload_n X.x X.b dX0_leaves_78 rfl (lv_at hl 0 rfl) ?_
      refine lv_dup X.x X.b dX0_leaves_79 rfl ?_
      refine wa_get (v := .int (zI ((sup (sup (sup S 4 1) (20 + sp) ((sup S 4 1) (20 + 0))) (30 + sp) ((sup S 4 1) (30 + 0))) 0))) X hH (have h9 := (XW.c0 hX); h9) wcX0 3 (by decide) q420 rfl (fun _ h9 => h9) rfl dX0_leaves_80 ?_
      refine wz_is (z := S 0) (by rw [sup_n (by omega), sup_n (by omega), sup_n (by omega)]) ?_
      refine wz_iconst X.x X.b dX0_leaves_83 ?_
      refine wz_iadd X.x X.b dX0_leaves_84 ?_
      refine wa_put X hH hS (have h9 := (XW.c0 hX); h9) wcX0 3 (by decide) q420 rfl (fun _ h9 => h9) rfl rfl rfl (Nat.le_of_ble_eq_true rfl) dX0_leaves_85 (fun w85 H locs ew hH hS => ?_)
      have hk : Kp ad w75 w85 := Kp.set (i := 0) (by omega) ew
      have hX := hX.sS (i := 0) (0) (x := (S 0) + 1) (by unfold oS; omega) ew
      have hI := hI.kp hk
      have hPX := hPX.kp hk
      have hWY := hWY.kp hk
      have hNV := hNV.kp hk
      have hXJ := hXJ.kp hk
      have hspp := hspp.kp hk
      have hK := hK.kp hk
      clear ew
      exact wa_vret X hH hS dX0_leaves_88 ⟨_, _, _, _, hX, hK, (hI.lv hX.1 (S2 := (sup (sup (sup (sup S 4 1) (20 + sp) ((sup S 4 1) (20 + 0))) (30 + sp) ((sup S 4 1) (30 + 0))) 0 ((S 0) + 1))) (A2 := (aup A (10 + sp) (fup (fup (A (10 + sp)) 0 (A (10 + 0) 0)) 1 (A (10 + 0) 1)))) (B2 := (bup B (10 + sp) (cpR (B (10 + 0)) (B (10 + sp)) 0 0 6))) (P2 := (pup P (10 + sp) (P (10 + 0)))) (b0 := B 0) (past1 := past) (n := st) (s := sp) (by rw [bup_id]; exact hI.2.2.2.2.2.1) (by omega) (by rw [← hS0]; exact hspb) ⟨hsp2, hsp7⟩ hspp ⟨by rw [sup_s]; omega, by rw [sup_n (by omega), sup_n (by omega), sup_n (by omega), sup_n (by omega)], by rw [sup_n (by omega), sup_n (by omega), sup_n (by omega), sup_n (by omega)], by rw [sup_n (by omega), sup_n (by omega), sup_n (by omega), sup_n (by omega)], by rw [sup_n (by omega), sup_n (by omega), sup_n (by omega), sup_s]⟩ (fun j j0 j1 => by rw [sup_n (by omega)]; unfold sup; (repeat' split) <;> first | rfl | (exfalso; omega)) rfl (by rw [bup_id]) rfl).eq rfl (by unfold keepQ keepP; rw [if_pos (by omega), if_neg (by omega)]) rfl (by unfold keepM keepN; rw [if_pos (by omega), if_neg (by omega)]), by rw [sup_n (by omega), sup_n (by omega), sup_n (by omega), sup_s]⟩
    · obtain ⟨s0, hs02, hs07, hs0b, hs0p, -⟩ := hI.2.2.2.2.2.1.pl (j := 0) (by omega) (by omega)
      refine lv_aload_n X.x X.b dX0_leaves_24 rfl (lv_at hl 0 rfl) ?_
      refine wa_get (v := .ref (ad 22)) X hH (have h9 := (XW.c0 hX); h9) wcX0 2 (by decide) q419 rfl (fun _ h9 => h9) rfl dX0_leaves_25 ?_
      refine wz_iconst X.x X.b dX0_leaves_28 ?_
      refine wa_aald (k := 3) (f := B 0) X hH (have h9 := (XW.c22 hX); h9) rfl rfl (by omega) (by omega) (by omega) dX0_leaves_29 ?_
      refine wz_opt (q := some (ad (1 + 3 * s0))) (by exact hs0b) ?_
      refine lv_astore_n (lv' := [(1, .ref (ad (1 + 3 * s0))), (0, .ref (ad 0))]) X.x X.b dX0_leaves_30 rfl hl (by decide) rfl (fun ls hl => ?_)
      refine lv_aload_n X.x X.b dX0_leaves_31 rfl (lv_at hl 1 rfl) ?_
      refine wa_get (v := .ref (ad 22)) X hH (have h9 := (XW.c0 hX); h9) wcX0 2 (by decide) q419 rfl (fun _ h9 => h9) rfl dX0_leaves_32 ?_
      refine wz_iconst X.x X.b dX0_leaves_35 ?_
      refine lv_aload_n X.x X.b dX0_leaves_36 rfl (lv_at hl 1 rfl) ?_
      refine wa_get (v := .ref (ad 22)) X hH (have h9 := (XW.c0 hX); h9) wcX0 2 (by decide) q419 rfl (fun _ h9 => h9) rfl dX0_leaves_37 ?_
      refine wz_iconst X.x X.b dX0_leaves_40 ?_
      refine wz_iconst X.x X.b dX0_leaves_41 ?_
      refine wa_copyq (rest := []) (k := 3) (f := B 0) (g := B 0) X hH hS (have h9 := (XW.c22 hX); h9) (have h9 := (XW.c22 hX); h9) rfl rfl q475 (by omega) (by omega) (by omega) (by omega) (by omega) ⟨by omega, by omega, by omega⟩ (fun i i0 i1 z hz => by obtain ⟨s9, e1, e2, e3, -⟩ := hRX.2.2.1.pl (j := i) (by omega) (by omega); rw [e3] at hz; cases hz; exact wa_any X hH (XW.st hX e2) rfl) hl.1 (Nat.le_of_ble_eq_true rfl) (by decide +kernel) dX0_leaves_42 (fun w42 H locs ew hH hS => ?_)
      have hk : Kp ad w5 w42 := Kp.set (i := 22) (by omega) ew
      have hX := hX.sB (i := 22) (0) (x := cpR (B 0) (B 0) 1 0 4) (by unfold oB; omega) ew
      have hI := hI.kp hk
      have hPX := hPX.kp hk
      have hWY := hWY.kp hk
      have hNV := hNV.kp hk
      have hXJ := hXJ.kp hk
      have hs0p := hs0p.kp hk
      have hK := hK.kp hk
      clear ew
      refine lv_aload_n X.x X.b dX0_leaves_45 rfl (lv_at hl 1 rfl) ?_
      refine wa_get (v := .ref (ad 22)) X hH (have h9 := (XW.c0 hX); h9) wcX0 2 (by decide) q419 rfl (fun _ h9 => h9) rfl dX0_leaves_46 ?_
      refine wz_iconst X.x X.b dX0_leaves_49 ?_
      refine lv_aload_n X.x X.b dX0_leaves_50 rfl (lv_at hl 0 rfl) ?_
      refine wa_aast (k := 3) (f := cpR (B 0) (B 0) 1 0 4) X hH hS (have h9 := (XW.c22 hX); h9) rfl (wa_any X hH (have h9 := (XW.st hX hs07); h9) rfl) (by omega) (by omega) (by omega) dX0_leaves_51 (fun w51 H locs ew hH hS => ?_)
      have hk : Kp ad w42 w51 := Kp.set (i := 22) (by omega) ew
      have hX := hX.sB (i := 22) (0) (x := fupR (cpR (B 0) (B 0) 1 0 4) 4 (some (ad (1 + 3 * s0)))) (by unfold oB; omega) ew
      have hX := XW.cB (B2 := bup B 0 (fupR (cpR (B 0) (B 0) 1 0 4) 4 (some (ad (1 + 3 * s0))))) hX (by funext j; simp only [bup]; by_cases h0 : j = 0; (subst h0; first | rfl | simp); simp only [h0, ↓reduceIte])
      have hI := hI.kp hk
      have hPX := hPX.kp hk
      have hWY := hWY.kp hk
      have hNV := hNV.kp hk
      have hXJ := hXJ.kp hk
      have hs0p := hs0p.kp hk
      have hK := hK.kp hk
      clear ew
      refine lv_aload_n X.x X.b dX0_leaves_52 rfl (lv_at hl 1 rfl) ?_
      refine lv_dup X.x X.b dX0_leaves_53 rfl ?_
      refine wa_get (v := .int (zI (S 0))) X hH (have h9 := (XW.c0 hX); h9) wcX0 3 (by decide) q420 rfl (fun _ h9 => h9) rfl dX0_leaves_54 ?_
      refine wz_iconst X.x X.b dX0_leaves_57 ?_
      refine wz_isub X.x X.b dX0_leaves_58 ?_
      refine wa_put X hH hS (have h9 := (XW.c0 hX); h9) wcX0 3 (by decide) q420 rfl (fun _ h9 => h9) rfl rfl rfl (Nat.le_of_ble_eq_true rfl) dX0_leaves_59 (fun w59 H locs ew hH hS => ?_)
      have hk : Kp ad w51 w59 := Kp.set (i := 0) (by omega) ew
      have hX := hX.sS (i := 0) (0) (x := (S 0) - 1) (by unfold oS; omega) ew
      have hI := hI.kp hk
      have hPX := hPX.kp hk
      have hWY := hWY.kp hk
      have hNV := hNV.kp hk
      have hXJ := hXJ.kp hk
      have hs0p := hs0p.kp hk
      have hK := hK.kp hk
      clear ew
      refine lv_aload_n X.x X.b dX0_leaves_62 rfl (lv_at hl 1 rfl) ?_
      refine wa_get (v := .ref (ad 22)) X hH (have h9 := (XW.c0 hX); h9) wcX0 2 (by decide) q419 rfl (fun _ h9 => h9) rfl dX0_leaves_63 ?_
      refine lv_aload_n X.x X.b dX0_leaves_66 rfl (lv_at hl 1 rfl) ?_
      refine wa_get (v := .int (zI ((S 0) - 1))) X hH (have h9 := (XW.c0 hX); h9) wcX0 3 (by decide) q420 rfl (fun _ h9 => h9) rfl dX0_leaves_67 ?_
      refine wa_aald (k := 3) (f := fupR (cpR (B 0) (B 0) 1 0 4) 4 (some (ad (1 + 3 * s0)))) X hH (have h9 := (XW.c22 hX); h9) rfl rfl (by omega) (by omega) (by omega) dX0_leaves_70 ?_
      refine wz_opt (q := some (ad (1 + 3 * s0))) (by rw [show S 0 - 1 = 4 by omega]; exact fupR_s) ?_
      refine lv_aload_n X.x X.b dX0_leaves_71 rfl (lv_at hl 1 rfl) ?_
      refine wa_get (v := .ref (ad 1)) X hH (have h9 := (XW.c0 hX); h9) wcX0 0 (by decide) q417 rfl (fun _ h9 => h9) rfl dX0_leaves_72 ?_
      refine wa_cv hS (wa_rV (rest := []) X hH (mX1_takes hX (show PCS ad w59 ((bup B 0 (fupR (cpR (B 0) (B 0) 1 0 4) 4 (some (ad (1 + 3 * s0))))) (10 + 0)) from by first | exact hI.2.1.2.2.2.1 | (rw [bup_n (by decide)]; exact hI.2.1.2.2.2.1))  (by omega) (show 0 < 7 by decide) (show s0 ≠ 0 by omega)) (cwV 1 X.t (lw_V q478 q479 q480 q110 q481) rfl rfl rfl hdX1_takes ⟨Nat.le_of_ble_eq_true rfl, Nat.le_of_ble_eq_true rfl⟩) rfl (have h9 := (XW.st hX hs07); h9) rfl rfl hl.1 rfl (Nat.le_of_ble_eq_true rfl) dX0_leaves_75 ⟨Nat.le_of_ble_eq_true rfl, Nat.le_of_ble_eq_true rfl⟩) (fun w75 H locs hp hH hS => ?_)
      obtain ⟨hX, hk⟩ := hp
      have hI := hI.kp hk
      have hPX := hPX.kp hk
      have hWY := hWY.kp hk
      have hNV := hNV.kp hk
      have hXJ := hXJ.kp hk
      have hs0p := hs0p.kp hk
      have hK := hK.kp hk
      refine lv_aload_n X.x X.b dX0_leaves_78 rfl (lv_at hl 1 rfl) ?_
      refine lv_dup X.x X.b dX0_leaves_79 rfl ?_
      refine wa_get (v := .int (zI ((sup (sup (sup (sup S 4 1) 0 ((S 0) - 1)) (20 + s0) ((sup S 0 ((S 0) - 1)) (20 + 0))) (30 + s0) ((sup S 0 ((S 0) - 1)) (30 + 0))) 0))) X hH (have h9 := (XW.c0 hX); h9) wcX0 3 (by decide) q420 rfl (fun _ h9 => h9) rfl dX0_leaves_80 ?_
      refine wz_is (z := S 0 - 1) (by rw [sup_n (by omega), sup_n (by omega), sup_s]) ?_
      refine wz_iconst X.x X.b dX0_leaves_83 ?_
      refine wz_iadd X.x X.b dX0_leaves_84 ?_
      refine wa_put X hH hS (have h9 := (XW.c0 hX); h9) wcX0 3 (by decide) q420 rfl (fun _ h9 => h9) rfl rfl rfl (Nat.le_of_ble_eq_true rfl) dX0_leaves_85 (fun w85 H locs ew hH hS => ?_)
      have hk : Kp ad w75 w85 := Kp.set (i := 0) (by omega) ew
      have hX := hX.sS (i := 0) (0) (x := (S 0 - 1) + 1) (by unfold oS; omega) ew
      have hX := XW.cS (S2 := sup (sup (sup (sup S 4 1) (20 + s0) ((sup S 0 ((S 0) - 1)) (20 + 0))) (30 + s0) ((sup S 0 ((S 0) - 1)) (30 + 0))) 0 ((S 0 - 1) + 1)) hX (by funext j; simp only [sup]; (repeat' split) <;> first | rfl | (exfalso; omega) | (subst_vars; first | rfl | (exfalso; omega)))
      have hI := hI.kp hk
      have hPX := hPX.kp hk
      have hWY := hWY.kp hk
      have hNV := hNV.kp hk
      have hXJ := hXJ.kp hk
      have hs0p := hs0p.kp hk
      have hK := hK.kp hk
      clear ew
      exact wa_vret X hH hS dX0_leaves_88 ⟨_, _, _, _, hX, hK, (hI.lv hX.1 (S2 := (sup (sup (sup (sup S 4 1) (20 + s0) ((sup S 0 ((S 0) - 1)) (20 + 0))) (30 + s0) ((sup S 0 ((S 0) - 1)) (30 + 0))) 0 ((S 0 - 1) + 1))) (A2 := (aup A (10 + s0) (fup (fup (A (10 + s0)) 0 (A (10 + 0) 0)) 1 (A (10 + 0) 1)))) (B2 := (bup (bup B 0 (fupR (cpR (B 0) (B 0) 1 0 4) 4 (some (ad (1 + 3 * s0))))) (10 + s0) (cpR ((bup B 0 (fupR (cpR (B 0) (B 0) 1 0 4) 4 (some (ad (1 + 3 * s0))))) (10 + 0)) ((bup B 0 (fupR (cpR (B 0) (B 0) 1 0 4) 4 (some (ad (1 + 3 * s0))))) (10 + s0)) 0 0 6))) (P2 := (pup P (10 + s0) (P (10 + 0)))) (b0 := fupR (cpR (B 0) (B 0) 1 0 4) 4 (some (ad (1 + 3 * s0)))) (past1 := shiftP past) (n := 4) (s := s0) (PA.rot (by have h9 := hI.2.2.2.2.2.1; rw [show st = 5 by omega] at h9; exact h9) (fun i i0 i1 => by rw [fupR_n (by omega)]; unfold cpR; rw [if_pos (by omega)]; congr 1; omega) (by rw [fupR_s, hs0b])) (by omega) fupR_s ⟨hs02, hs07⟩ hs0p ⟨by rw [sup_s]; omega, by rw [sup_n (by omega), sup_n (by omega), sup_n (by omega), sup_n (by omega)], by rw [sup_n (by omega), sup_n (by omega), sup_n (by omega), sup_n (by omega)], by rw [sup_n (by omega), sup_n (by omega), sup_n (by omega), sup_n (by omega)], by rw [sup_n (by omega), sup_n (by omega), sup_n (by omega), sup_s]⟩ (fun j j0 j1 => by rw [sup_n (by omega)]; unfold sup; (repeat' split) <;> first | rfl | (exfalso; omega)) rfl (by rw [bup_n (show 10 + 0 ≠ 0 by decide), bup_n (show 10 + s0 ≠ 0 by omega)]) rfl).eq rfl (by unfold keepQ keepP; rw [if_pos (by omega), if_pos (by omega)]) rfl (by unfold keepM keepN; rw [if_pos (by omega), if_pos (by omega)]; rfl), by rw [sup_n (by omega), sup_n (by omega), sup_n (by omega), sup_s]⟩
  · exact wa_vret X hH hS dX0_leaves_15 ⟨_, _, _, _, hX, hK, (hI.now sup_s ho (hI.2.1.cg0 (sup_n (by decide)) (sup_n (by decide)) rfl rfl rfl) (fun j q => sup_n (by omega)) (fun _ _ => rfl) (fun _ _ => rfl) (fun _ _ _ => rfl) hNV).eq rfl (if_neg (by omega)) rfl (if_neg (by omega)), sup_s⟩
set_option maxRecDepth 100000 in
theorem mX0_type {lL : Launch} {G : wa_G} {ad : Nat → Nat} {w : wa_W} {S : Nat → Int} {A : Nat → Int → Int} {B : Nat → Int → Option Nat} {P : Nat → Option Nat} (hX : XW G ad w S A B P) {g : Int → Int} {past : Int → Int} {re : Int → Int} {tx : Int → Int} {st : Int} {ck : Int} {co : Int} {tl : Int} {qt : Int} (hI : XI G ad w S A B P g past re tx st ck co tl qt) (c : Int) (r_c : rI c) : Met lL yX0_type (ws_ yX0_type cX0_type 2 (some FieldType.int)) ({ frames := 2, cells := 0, slots := 0, locals := 42 } : Room) (wa_P G w [.ref (ad 0), .int (zI c)]) (wa_Qz G fun z u => z = typeV tl c ∧ ∃ (S2 : Nat → Int) (A2 : Nat → Int → Int) (B2 : Nat → Int → Option Nat) (P2 : Nat → Option Nat), XW G ad u S2 A2 B2 P2 ∧ Kp ad w u ∧ (XI G ad u S2 A2 B2 P2 g past (rfu re (typeR tl c)) (typeT tx tl c) st ck co (typeL tl c) qt)) 0 0 (wa_A G) := by
  refine wa_met (by decide) (by exact Nat.le_of_ble_eq_true rfl) ?_
  intro pP eE sS mM aA bB mT cC ls X hl hH
  have hS : va_S (wa_A G) sS.heap sS.heap [] := va_S.rf
  have hl : lv_has ls 2 [(0, .ref (ad 0)), (1, .int (zI c))] := hl
  have hK : Kp ad w w := Kp.rf
  have hI_0 := hI
  obtain ⟨ho, hST, hXJ, hRX⟩ := id hI
  have hmany := ho.many
  have hPX : PX G ad w (B 10) g := hST.2.2.1
  have hWY : WAYS G ad w (B 5) := hRX.1
  have hNV : NVX ad w P := hRX.2.1
  have hm : S 30 = g 3 := hST.1.2
  have hwd : S 20 = g 0 := hST.1.1
  have hg : A 10 0 = g 1 ∧ A 10 1 = g 2 := hST.2.1
  have hwide := ho.wide
  have hS0 : S 0 = st := hRX.2.2.2.1.1
  have hS1 : S 1 = qt := hRX.2.2.2.1.2.1
  have hS2 : S 2 = tl := hRX.2.2.2.1.2.2.1
  have hstr := hRX.2.2.2.2.2.2.2.1
  have htlr := hRX.2.2.2.2.2.2.2.2.1
  have hqt := hRX.2.2.2.2.2.2.2.2.2.1
  have hPX_0 := hPX
  have hWY_0 := hWY
  have hNV_0 := hNV
  have hXJ_0 := hXJ
  refine lv_iload_n X.x X.b dX0_type_0 rfl (lv_at hl 1 rfl) ?_
  refine wz_i2l X.x X.b dX0_type_1 ⟨by omega, by omega⟩ ?_
  refine lv_lconst (v := lI 0) X.x X.b dX0_type_2 rfl ?_
  refine wz_ldc2 (n := 127) X.x X.b X.own (X.t _ q1439) rfl dX0_type_3 ?_
  refine wa_ci hS (wa_rS (rest := []) X hH (mX0_in _  c 0 127 (show rL c by first | assumption | omega) (show rL 0 by first | assumption | omega) (show rL 127 by first | assumption | omega)) (va_cwS 3 X.t (lw_S q466 q467 q109 q468) rfl rfl rfl hdX0_in.2 ⟨Nat.le_of_ble_eq_true rfl, Nat.le_of_ble_eq_true rfl⟩) rfl rfl hl.1 rfl (Nat.le_of_ble_eq_true rfl) dX0_type_6 ⟨Nat.le_of_ble_eq_true rfl, Nat.le_of_ble_eq_true rfl⟩) (fun z w6 H locs hp hH hS => ?_)
  obtain ⟨hb, hw⟩ := hp
  rw [← hw] at hH; clear hw
  rcases hb with ⟨b6, rfl⟩ | ⟨b6, rfl⟩
  · have b6 : (0 ≤ c ∧ c ≤ 127) := b6
    refine wz_ifne (tgt := 17) X.x X.b dX0_type_9 (by decide) (by decide) (fun _ => ?_) (fun h => absurd h (by decide))
    refine lv_aload_n X.x X.b dX0_type_17 rfl (lv_at hl 0 rfl) ?_
    refine wa_get (v := .int (zI (S 2))) X hH (have h9 := (XW.c0 hX); h9) wcX0 9 (by decide) q429 rfl (fun _ h9 => h9) rfl dX0_type_18 ?_
    refine wz_is (z := tl) (by rw [hS2]) ?_
    refine wz_bipush X.x X.b dX0_type_21 rfl ?_
    refine wz_icmp_ne (tgt := 34) X.x X.b dX0_type_23 (by decide) ⟨by omega, by omega⟩ ⟨by omega, by omega⟩ (fun c23 => ?_) (fun c23 => ?_)
    · refine lv_aload_n X.x X.b dX0_type_34 rfl (lv_at hl 0 rfl) ?_
      refine wa_get (v := .ref (ad 26)) X hH (have h9 := (XW.c0 hX); h9) wcX0 8 (by decide) q427 rfl (fun _ h9 => h9) rfl dX0_type_35 ?_
      refine lv_aload_n X.x X.b dX0_type_38 rfl (lv_at hl 0 rfl) ?_
      refine wa_get (v := .int (zI (S 2))) X hH (have h9 := (XW.c0 hX); h9) wcX0 9 (by decide) q429 rfl (fun _ h9 => h9) rfl dX0_type_39 ?_
      refine wz_is (z := tl) (by rw [hS2]) ?_
      refine lv_iload_n X.x X.b dX0_type_42 rfl (lv_at hl 1 rfl) ?_
      refine lv_i2b (v := zI c) X.x X.b dX0_type_43 (zI_by (by omega)) ?_
      refine wa_bast (f := A 1) X hH hS (have h9 := (XW.c26 hX); h9) (by omega) (by omega) (by omega) (by omega) dX0_type_44 (fun w44 H locs ew hH hS => ?_)
      have hk : Kp ad w w44 := Kp.set (i := 26) (by omega) ew
      have hX := hX.sA (i := 26) (1) (x := fup (A 1) tl c) (by unfold oA; omega) ew
      have hI := hI.kp hk
      have hPX := hPX.kp hk
      have hWY := hWY.kp hk
      have hNV := hNV.kp hk
      have hXJ := hXJ.kp hk
      have hK := hK.kp hk
      clear ew
      refine lv_aload_n X.x X.b dX0_type_45 rfl (lv_at hl 0 rfl) ?_
      refine lv_dup X.x X.b dX0_type_46 rfl ?_
      refine wa_get (v := .int (zI (S 2))) X hH (have h9 := (XW.c0 hX); h9) wcX0 9 (by decide) q429 rfl (fun _ h9 => h9) rfl dX0_type_47 ?_
      refine wz_is (z := tl) (by rw [hS2]) ?_
      refine wz_iconst X.x X.b dX0_type_50 ?_
      refine wz_iadd X.x X.b dX0_type_51 ?_
      refine wa_put X hH hS (have h9 := (XW.c0 hX); h9) wcX0 9 (by decide) q429 rfl (fun _ h9 => h9) rfl rfl rfl (Nat.le_of_ble_eq_true rfl) dX0_type_52 (fun w52 H locs ew hH hS => ?_)
      have hk : Kp ad w44 w52 := Kp.set (i := 0) (by omega) ew
      have hX := hX.sS (i := 0) (2) (x := tl + 1) (by unfold oS; omega) ew
      have hI := hI.kp hk
      have hPX := hPX.kp hk
      have hWY := hWY.kp hk
      have hNV := hNV.kp hk
      have hXJ := hXJ.kp hk
      have hK := hK.kp hk
      clear ew
      refine lv_aload_n X.x X.b dX0_type_55 rfl (lv_at hl 0 rfl) ?_
      refine wa_get (v := .int (zI (tl + 1))) X hH (have h9 := (XW.c0 hX); h9) wcX0 9 (by decide) q429 rfl (fun _ h9 => h9) rfl dX0_type_56 ?_
      refine wz_is (z := tl + 1) (by rfl) ?_
      exact wa_iret X hH hS dX0_type_59 ⟨by unfold typeV; (repeat' split) <;> first | rfl | omega, ⟨_, _, _, _, hX, hK, ((hI.txt (tl2 := tl + 1) (tx2 := fup tx tl c) (A2 := aup A 1 (fup (A 1) tl c)) (fun i i0 i1 => by rw [aup_s]; unfold fup; split; (exact ⟨rfl, by omega⟩); (exact hRX.2.2.2.2.2.1 i i0 (by omega))) (by omega) (fun j q => aup_n q)).rv (by unfold typeR rfu; (repeat' split) <;> first | rfl | (exfalso; omega))).tll (by unfold typeL; (repeat' split) <;> omega) (by unfold typeT; (repeat' split) <;> first | rfl | omega)⟩⟩
    · refine lv_aload_n X.x X.b dX0_type_26 rfl (lv_at hl 0 rfl) ?_
      refine wz_iconst X.x X.b dX0_type_27 ?_
      refine wz_bipush X.x X.b dX0_type_28 rfl ?_
      refine wa_ci hS (wa_rV (rest := []) X hH (mX0_refuses hX  2 (-4) (show 0 ≤ 2 ∧ 2 ≤ 2 by first | assumption | omega)) (cwV 2 X.t (lw_V q496 q498 qs4 q109 q499) rfl rfl rfl hdX0_refuses ⟨Nat.le_of_ble_eq_true rfl, Nat.le_of_ble_eq_true rfl⟩) rfl (have h9 := (XW.c0 hX); h9) rfl rfl hl.1 rfl (Nat.le_of_ble_eq_true rfl) dX0_type_30 ⟨Nat.le_of_ble_eq_true rfl, Nat.le_of_ble_eq_true rfl⟩) (fun z w30 H locs hp hH hS => ?_)
      obtain ⟨rfl, ⟨hX, hk⟩⟩ := hp
      have hI := hI.kp hk
      have hPX := hPX.kp hk
      have hWY := hWY.kp hk
      have hNV := hNV.kp hk
      have hXJ := hXJ.kp hk
      have hK := hK.kp hk
      exact wa_iret X hH hS dX0_type_33 ⟨by unfold typeV; (repeat' split) <;> first | rfl | omega, ⟨_, _, _, _, hX, hK, (hI.ref.rv (by unfold typeR rfu; (repeat' split) <;> first | rfl | (exfalso; omega))).tll (by unfold typeL; (repeat' split) <;> omega) (by unfold typeT; (repeat' split) <;> first | rfl | omega)⟩⟩
  · have b6 : ¬ (0 ≤ c ∧ c ≤ 127) := b6
    refine wz_ifne (tgt := 17) X.x X.b dX0_type_9 (by decide) (by decide) (fun h => absurd h (by decide)) (fun _ => ?_)
    refine lv_aload_n X.x X.b dX0_type_12 rfl (lv_at hl 0 rfl) ?_
    refine wa_ci hS (wa_rV (rest := []) X hH (mX0_bad hX   ) (cwV 0 X.t (lw_V q492 q494 qs3 q109 q495) rfl rfl rfl hdX0_bad ⟨Nat.le_of_ble_eq_true rfl, Nat.le_of_ble_eq_true rfl⟩) rfl (have h9 := (XW.c0 hX); h9) rfl rfl hl.1 rfl (Nat.le_of_ble_eq_true rfl) dX0_type_13 ⟨Nat.le_of_ble_eq_true rfl, Nat.le_of_ble_eq_true rfl⟩) (fun z w13 H locs hp hH hS => ?_)
    obtain ⟨rfl, ⟨hX, hk⟩⟩ := hp
    have hI := hI.kp hk
    have hPX := hPX.kp hk
    have hWY := hWY.kp hk
    have hNV := hNV.kp hk
    have hXJ := hXJ.kp hk
    have hK := hK.kp hk
    exact wa_iret X hH hS dX0_type_16 ⟨by unfold typeV; (repeat' split) <;> first | rfl | omega, ⟨_, _, _, _, hX, hK, (hI.ref.rv (by unfold typeR rfu; (repeat' split) <;> first | rfl | (exfalso; omega))).tll (by unfold typeL; (repeat' split) <;> omega) (by unfold typeT; (repeat' split) <;> first | rfl | omega)⟩⟩
set_option maxRecDepth 100000 in
theorem mX0_clear {lL : Launch} {G : wa_G} {ad : Nat → Nat} {w : wa_W} {S : Nat → Int} {A : Nat → Int → Int} {B : Nat → Int → Option Nat} {P : Nat → Option Nat} (hX : XW G ad w S A B P) {g : Int → Int} {past : Int → Int} {re : Int → Int} {tx : Int → Int} {st : Int} {ck : Int} {co : Int} {tl : Int} {qt : Int} (hI : XI G ad w S A B P g past re tx st ck co tl qt)  : Met lL yX0_clear (ws_ yX0_clear cX0_clear 2 (some FieldType.int)) ({ frames := 0, cells := 0, slots := 0, locals := 0 } : Room) (wa_P G w [.ref (ad 0)]) (wa_Qz G fun z u => z = tl ∧ ∃ (S2 : Nat → Int) (A2 : Nat → Int → Int) (B2 : Nat → Int → Option Nat) (P2 : Nat → Option Nat), XW G ad u S2 A2 B2 P2 ∧ Kp ad w u ∧ (XI G ad u S2 A2 B2 P2 g past re tx st ck co 0 qt)) 0 0 (wa_A G) := by
  refine wa_met (by decide) (by exact Nat.le_of_ble_eq_true rfl) ?_
  intro pP eE sS mM aA bB mT cC ls X hl hH
  have hS : va_S (wa_A G) sS.heap sS.heap [] := va_S.rf
  have hl : lv_has ls 2 [(0, .ref (ad 0))] := hl
  have hK : Kp ad w w := Kp.rf
  have hI_0 := hI
  obtain ⟨ho, hST, hXJ, hRX⟩ := id hI
  have hmany := ho.many
  have hPX : PX G ad w (B 10) g := hST.2.2.1
  have hWY : WAYS G ad w (B 5) := hRX.1
  have hNV : NVX ad w P := hRX.2.1
  have hm : S 30 = g 3 := hST.1.2
  have hwd : S 20 = g 0 := hST.1.1
  have hg : A 10 0 = g 1 ∧ A 10 1 = g 2 := hST.2.1
  have hwide := ho.wide
  have hS0 : S 0 = st := hRX.2.2.2.1.1
  have hS1 : S 1 = qt := hRX.2.2.2.1.2.1
  have hS2 : S 2 = tl := hRX.2.2.2.1.2.2.1
  have hstr := hRX.2.2.2.2.2.2.2.1
  have htlr := hRX.2.2.2.2.2.2.2.2.1
  have hqt := hRX.2.2.2.2.2.2.2.2.2.1
  have hPX_0 := hPX
  have hWY_0 := hWY
  have hNV_0 := hNV
  have hXJ_0 := hXJ
  refine lv_aload_n X.x X.b dX0_clear_0 rfl (lv_at hl 0 rfl) ?_
  refine wa_get (v := .int (zI (S 2))) X hH (have h9 := (XW.c0 hX); h9) wcX0 9 (by decide) q429 rfl (fun _ h9 => h9) rfl dX0_clear_1 ?_
  refine wz_is (z := tl) (by rw [hS2]) ?_
  refine lv_istore_n (lv' := [(1, .int (zI tl)), (0, .ref (ad 0))]) X.x X.b dX0_clear_4 rfl hl (by decide) rfl (fun ls hl => ?_)
  refine lv_aload_n X.x X.b dX0_clear_5 rfl (lv_at hl 1 rfl) ?_
  refine wz_iconst X.x X.b dX0_clear_6 ?_
  refine wa_put X hH hS (have h9 := (XW.c0 hX); h9) wcX0 9 (by decide) q429 rfl (fun _ h9 => h9) rfl rfl rfl (Nat.le_of_ble_eq_true rfl) dX0_clear_7 (fun w7 H locs ew hH hS => ?_)
  have hk : Kp ad w w7 := Kp.set (i := 0) (by omega) ew
  have hX := hX.sS (i := 0) (2) (x := 0) (by unfold oS; omega) ew
  have hI := hI.kp hk
  have hPX := hPX.kp hk
  have hWY := hWY.kp hk
  have hNV := hNV.kp hk
  have hXJ := hXJ.kp hk
  have hK := hK.kp hk
  clear ew
  refine lv_iload_n X.x X.b dX0_clear_10 rfl (lv_at hl 0 rfl) ?_
  exact wa_iret X hH hS dX0_clear_11 ⟨by first | rfl | omega | assumption, ⟨_, _, _, _, hX, hK, hI.txt (fun i i0 i1 => absurd i1 (by omega)) (by omega) (fun _ _ => rfl)⟩⟩
set_option maxRecDepth 100000 in
theorem mX0_why {lL : Launch} {G : wa_G} {ad : Nat → Nat} {w : wa_W} {S : Nat → Int} {A : Nat → Int → Int} {B : Nat → Int → Option Nat} {P : Nat → Option Nat} (hX : XW G ad w S A B P) {g : Int → Int} {past : Int → Int} {re : Int → Int} {tx : Int → Int} {st : Int} {ck : Int} {co : Int} {tl : Int} {qt : Int} (hI : XI G ad w S A B P g past re tx st ck co tl qt) (what : Int) (r_what : rI what) : Met lL yX0_why (ws_ yX0_why cX0_why 2 (some FieldType.int)) ({ frames := 1, cells := 0, slots := 0, locals := 25 } : Room) (wa_P G w [.ref (ad 0), .int (zI what)]) (wa_Qz G fun z u => z = whyV ck co what ∧ ∃ (S2 : Nat → Int) (A2 : Nat → Int → Int) (B2 : Nat → Int → Option Nat) (P2 : Nat → Option Nat), XW G ad u S2 A2 B2 P2 ∧ Kp ad w u ∧ (XI G ad u S2 A2 B2 P2 g past (rfu re (bad (0 ≤ what ∧ what ≤ 1))) tx st ck co tl qt)) 0 0 (wa_A G) := by
  refine wa_met (by decide) (by exact Nat.le_of_ble_eq_true rfl) ?_
  intro pP eE sS mM aA bB mT cC ls X hl hH
  have hS : va_S (wa_A G) sS.heap sS.heap [] := va_S.rf
  have hl : lv_has ls 2 [(0, .ref (ad 0)), (1, .int (zI what))] := hl
  have hK : Kp ad w w := Kp.rf
  have hI_0 := hI
  obtain ⟨ho, hST, hXJ, hRX⟩ := id hI
  have hmany := ho.many
  have hPX : PX G ad w (B 10) g := hST.2.2.1
  have hWY : WAYS G ad w (B 5) := hRX.1
  have hNV : NVX ad w P := hRX.2.1
  have hm : S 30 = g 3 := hST.1.2
  have hwd : S 20 = g 0 := hST.1.1
  have hg : A 10 0 = g 1 ∧ A 10 1 = g 2 := hST.2.1
  have hwide := ho.wide
  have hS0 : S 0 = st := hRX.2.2.2.1.1
  have hS1 : S 1 = qt := hRX.2.2.2.1.2.1
  have hS2 : S 2 = tl := hRX.2.2.2.1.2.2.1
  have hstr := hRX.2.2.2.2.2.2.2.1
  have htlr := hRX.2.2.2.2.2.2.2.2.1
  have hqt := hRX.2.2.2.2.2.2.2.2.2.1
  have hPX_0 := hPX
  have hWY_0 := hWY
  have hNV_0 := hNV
  have hXJ_0 := hXJ
  refine lv_iload_n X.x X.b dX0_why_0 rfl (lv_at hl 1 rfl) ?_
  refine wz_i2l X.x X.b dX0_why_1 ⟨by omega, by omega⟩ ?_
  refine lv_lconst (v := lI 0) X.x X.b dX0_why_2 rfl ?_
  refine lv_lconst (v := lI 1) X.x X.b dX0_why_3 rfl ?_
  refine wa_ci hS (wa_rS (rest := []) X hH (mX0_in _  what 0 1 (show rL what by first | assumption | omega) (show rL 0 by first | assumption | omega) (show rL 1 by first | assumption | omega)) (va_cwS 3 X.t (lw_S q466 q467 q109 q468) rfl rfl rfl hdX0_in.2 ⟨Nat.le_of_ble_eq_true rfl, Nat.le_of_ble_eq_true rfl⟩) rfl rfl hl.1 rfl (Nat.le_of_ble_eq_true rfl) dX0_why_4 ⟨Nat.le_of_ble_eq_true rfl, Nat.le_of_ble_eq_true rfl⟩) (fun z w4 H locs hp hH hS => ?_)
  obtain ⟨hb, hw⟩ := hp
  rw [← hw] at hH; clear hw
  rcases hb with ⟨b4, rfl⟩ | ⟨b4, rfl⟩
  · have b4 : (0 ≤ what ∧ what ≤ 1) := b4
    refine wz_ifeq (tgt := 19) X.x X.b dX0_why_7 (by decide) (by decide) (fun h => absurd h (by decide)) (fun _ => ?_)
    have hw01 : what = 0 ∨ what = 1 := by omega
    have hca := hRX.2.2.2.2.1
    refine lv_aload_n X.x X.b dX0_why_10 rfl (lv_at hl 0 rfl) ?_
    refine wa_get (v := .ref (ad 25)) X hH (have h9 := (XW.c0 hX); h9) wcX0 7 (by decide) q425 rfl (fun _ h9 => h9) rfl dX0_why_11 ?_
    refine lv_iload_n X.x X.b dX0_why_14 rfl (lv_at hl 1 rfl) ?_
    refine wa_iald (f := A 0) X hH (have h9 := (XW.c25 hX); h9) (by omega) (by omega) (by omega) dX0_why_15 ?_
    refine lv_goto (tgt := 26) X.x X.b dX0_why_16 (by decide) ?_
    exact wa_iret X hH hS dX0_why_26 ⟨by unfold whyV; first | (rw [if_neg (by omega)]; done) | (rw [if_pos (by omega)]; rcases hw01 with q | q <;> (rw [q]; first | exact hca.1 | exact hca.2)), ⟨_, _, _, _, hX, hK, (hI).rv (by (try simp only [rfu, bad]) <;> ((repeat' split) <;> first | rfl | (exfalso; omega) | contradiction))⟩⟩
  · have b4 : ¬ (0 ≤ what ∧ what ≤ 1) := b4
    refine wz_ifeq (tgt := 19) X.x X.b dX0_why_7 (by decide) (by decide) (fun _ => ?_) (fun h => absurd h (by decide))
    refine lv_aload_n X.x X.b dX0_why_19 rfl (lv_at hl 0 rfl) ?_
    refine wz_iconst X.x X.b dX0_why_20 ?_
    refine wz_bipush X.x X.b dX0_why_21 rfl ?_
    refine wa_ci hS (wa_rV (rest := []) X hH (mX0_refuses hX  0 (-10) (show 0 ≤ 0 ∧ 0 ≤ 2 by first | assumption | omega)) (cwV 2 X.t (lw_V q496 q498 qs4 q109 q499) rfl rfl rfl hdX0_refuses ⟨Nat.le_of_ble_eq_true rfl, Nat.le_of_ble_eq_true rfl⟩) rfl (have h9 := (XW.c0 hX); h9) rfl rfl hl.1 rfl (Nat.le_of_ble_eq_true rfl) dX0_why_23 ⟨Nat.le_of_ble_eq_true rfl, Nat.le_of_ble_eq_true rfl⟩) (fun z w23 H locs hp hH hS => ?_)
    obtain ⟨rfl, ⟨hX, hk⟩⟩ := hp
    have hI := hI.kp hk
    have hPX := hPX.kp hk
    have hWY := hWY.kp hk
    have hNV := hNV.kp hk
    have hXJ := hXJ.kp hk
    have hK := hK.kp hk
    exact wa_iret X hH hS dX0_why_26 ⟨by unfold whyV; first | (rw [if_neg (by omega)]; done) | (rw [if_pos (by omega)]; rcases hw01 with q | q <;> (rw [q]; first | exact hca.1 | exact hca.2)), ⟨_, _, _, _, hX, hK, ((hI).ref).rv (by (try simp only [rfu, bad]) <;> ((repeat' split) <;> first | rfl | (exfalso; omega) | contradiction))⟩⟩
set_option maxRecDepth 100000 in
theorem mX0_toldOf {lL : Launch} {G : wa_G} {ad : Nat → Nat} {w : wa_W} {S : Nat → Int} {A : Nat → Int → Int} {B : Nat → Int → Option Nat} {P : Nat → Option Nat} (hX : XW G ad w S A B P) {g : Int → Int} {past : Int → Int} {re : Int → Int} {tx : Int → Int} {st : Int} {ck : Int} {co : Int} {tl : Int} {qt : Int} (hI : XI G ad w S A B P g past re tx st ck co tl qt) (what : Int) (hw : 0 ≤ what ∧ what ≤ 8) : Met lL yX0_toldOf (ws_ yX0_toldOf cX0_toldOf 2 (some FieldType.int)) ({ frames := 0, cells := 0, slots := 0, locals := 0 } : Room) (wa_P G w [.ref (ad 0), .int (zI what)]) (wa_Qz G fun z u => z = toldS g re st tl what ∧ w = u) 0 0 (wa_A G) := by
  refine wa_met (by decide) (by exact Nat.le_of_ble_eq_true rfl) ?_
  intro pP eE sS mM aA bB mT cC ls X hl hH
  have hS : va_S (wa_A G) sS.heap sS.heap [] := va_S.rf
  have hl : lv_has ls 2 [(0, .ref (ad 0)), (1, .int (zI what))] := hl
  have hK : Kp ad w w := Kp.rf
  have hI_0 := hI
  obtain ⟨ho, hST, hXJ, hRX⟩ := id hI
  have hmany := ho.many
  have hPX : PX G ad w (B 10) g := hST.2.2.1
  have hWY : WAYS G ad w (B 5) := hRX.1
  have hNV : NVX ad w P := hRX.2.1
  have hm : S 30 = g 3 := hST.1.2
  have hwd : S 20 = g 0 := hST.1.1
  have hg : A 10 0 = g 1 ∧ A 10 1 = g 2 := hST.2.1
  have hwide := ho.wide
  have hS0 : S 0 = st := hRX.2.2.2.1.1
  have hS1 : S 1 = qt := hRX.2.2.2.1.2.1
  have hS2 : S 2 = tl := hRX.2.2.2.1.2.2.1
  have hstr := hRX.2.2.2.2.2.2.2.1
  have htlr := hRX.2.2.2.2.2.2.2.2.1
  have hqt := hRX.2.2.2.2.2.2.2.2.2.1
  have hPX_0 := hPX
  have hWY_0 := hWY
  have hNV_0 := hNV
  have hXJ_0 := hXJ
  refine lv_iload_n X.x X.b dX0_toldOf_0 rfl (lv_at hl 1 rfl) ?_
  rcases (show what = 0 ∨ what = 1 ∨ what = 2 ∨ what = 3 ∨ what = 4 ∨ what = 5 ∨ what = 6 ∨ what = 7 ∨ (what < 0 ∨ 7 < what) by omega) with e1 | e1 | e1 | e1 | e1 | e1 | e1 | e1 | e1
  · refine wz_is (z := 0) e1 ?_
    refine lv_tableIn (tgt := 48) X.x X.b dX0_toldOf_1 (by decide +kernel) (by decide +kernel) rfl (by decide) ?_
    refine lv_aload_n X.x X.b dX0_toldOf_48 rfl (lv_at hl 0 rfl) ?_
    refine wa_get (v := .ref (ad 27)) X hH (have h9 := (XW.c0 hX); h9) wcX0 10 (by decide) q430 rfl (fun _ h9 => h9) rfl dX0_toldOf_49 ?_
    refine lv_iload_n X.x X.b dX0_toldOf_52 rfl (lv_at hl 1 rfl) ?_
    refine wa_iald (f := A 2) X hH (have h9 := (XW.c27 hX); h9) (by omega) (by omega) (by omega) dX0_toldOf_53 ?_
    exact wa_iret X hH hS dX0_toldOf_54 ⟨by unfold toldS; first | (rw [if_pos (by omega)]; exact hS2) | (rw [if_neg (by omega), if_pos (by omega)]; exact hwd) | (rw [if_neg (by omega), if_neg (by omega), if_pos (by omega)]; exact hm) | (rw [if_neg (by omega), if_neg (by omega), if_neg (by omega), if_pos (by omega), show what - 6 = 0 by omega]; exact hg.1) | (rw [if_neg (by omega), if_neg (by omega), if_neg (by omega), if_neg (by omega), if_pos (by omega), show what - 6 = 1 by omega]; exact hg.2) | (rw [if_neg (by omega), if_neg (by omega), if_neg (by omega), if_neg (by omega), if_neg (by omega), if_pos (by omega)]; exact hS0) | (rw [if_neg (by omega), if_neg (by omega), if_neg (by omega), if_neg (by omega), if_neg (by omega), if_neg (by omega)]; exact hRX.2.2.2.2.2.2.1 what (by omega) (by omega)), rfl⟩
  · refine wz_is (z := 1) e1 ?_
    refine lv_tableIn (tgt := 48) X.x X.b dX0_toldOf_1 (by decide +kernel) (by decide +kernel) rfl (by decide) ?_
    refine lv_aload_n X.x X.b dX0_toldOf_48 rfl (lv_at hl 0 rfl) ?_
    refine wa_get (v := .ref (ad 27)) X hH (have h9 := (XW.c0 hX); h9) wcX0 10 (by decide) q430 rfl (fun _ h9 => h9) rfl dX0_toldOf_49 ?_
    refine lv_iload_n X.x X.b dX0_toldOf_52 rfl (lv_at hl 1 rfl) ?_
    refine wa_iald (f := A 2) X hH (have h9 := (XW.c27 hX); h9) (by omega) (by omega) (by omega) dX0_toldOf_53 ?_
    exact wa_iret X hH hS dX0_toldOf_54 ⟨by unfold toldS; first | (rw [if_pos (by omega)]; exact hS2) | (rw [if_neg (by omega), if_pos (by omega)]; exact hwd) | (rw [if_neg (by omega), if_neg (by omega), if_pos (by omega)]; exact hm) | (rw [if_neg (by omega), if_neg (by omega), if_neg (by omega), if_pos (by omega), show what - 6 = 0 by omega]; exact hg.1) | (rw [if_neg (by omega), if_neg (by omega), if_neg (by omega), if_neg (by omega), if_pos (by omega), show what - 6 = 1 by omega]; exact hg.2) | (rw [if_neg (by omega), if_neg (by omega), if_neg (by omega), if_neg (by omega), if_neg (by omega), if_pos (by omega)]; exact hS0) | (rw [if_neg (by omega), if_neg (by omega), if_neg (by omega), if_neg (by omega), if_neg (by omega), if_neg (by omega)]; exact hRX.2.2.2.2.2.2.1 what (by omega) (by omega)), rfl⟩
  · refine wz_is (z := 2) e1 ?_
    refine lv_tableIn (tgt := 48) X.x X.b dX0_toldOf_1 (by decide +kernel) (by decide +kernel) rfl (by decide) ?_
    refine lv_aload_n X.x X.b dX0_toldOf_48 rfl (lv_at hl 0 rfl) ?_
    refine wa_get (v := .ref (ad 27)) X hH (have h9 := (XW.c0 hX); h9) wcX0 10 (by decide) q430 rfl (fun _ h9 => h9) rfl dX0_toldOf_49 ?_
    refine lv_iload_n X.x X.b dX0_toldOf_52 rfl (lv_at hl 1 rfl) ?_
    refine wa_iald (f := A 2) X hH (have h9 := (XW.c27 hX); h9) (by omega) (by omega) (by omega) dX0_toldOf_53 ?_
    exact wa_iret X hH hS dX0_toldOf_54 ⟨by unfold toldS; first | (rw [if_pos (by omega)]; exact hS2) | (rw [if_neg (by omega), if_pos (by omega)]; exact hwd) | (rw [if_neg (by omega), if_neg (by omega), if_pos (by omega)]; exact hm) | (rw [if_neg (by omega), if_neg (by omega), if_neg (by omega), if_pos (by omega), show what - 6 = 0 by omega]; exact hg.1) | (rw [if_neg (by omega), if_neg (by omega), if_neg (by omega), if_neg (by omega), if_pos (by omega), show what - 6 = 1 by omega]; exact hg.2) | (rw [if_neg (by omega), if_neg (by omega), if_neg (by omega), if_neg (by omega), if_neg (by omega), if_pos (by omega)]; exact hS0) | (rw [if_neg (by omega), if_neg (by omega), if_neg (by omega), if_neg (by omega), if_neg (by omega), if_neg (by omega)]; exact hRX.2.2.2.2.2.2.1 what (by omega) (by omega)), rfl⟩
  · refine wz_is (z := 3) e1 ?_
    refine lv_tableIn (tgt := 55) X.x X.b dX0_toldOf_1 (by decide +kernel) (by decide +kernel) rfl (by decide) ?_
    refine lv_aload_n X.x X.b dX0_toldOf_55 rfl (lv_at hl 0 rfl) ?_
    refine wa_get (v := .int (zI (S 2))) X hH (have h9 := (XW.c0 hX); h9) wcX0 9 (by decide) q429 rfl (fun _ h9 => h9) rfl dX0_toldOf_56 ?_
    exact wa_iret X hH hS dX0_toldOf_59 ⟨by unfold toldS; first | (rw [if_pos (by omega)]; exact hS2) | (rw [if_neg (by omega), if_pos (by omega)]; exact hwd) | (rw [if_neg (by omega), if_neg (by omega), if_pos (by omega)]; exact hm) | (rw [if_neg (by omega), if_neg (by omega), if_neg (by omega), if_pos (by omega), show what - 6 = 0 by omega]; exact hg.1) | (rw [if_neg (by omega), if_neg (by omega), if_neg (by omega), if_neg (by omega), if_pos (by omega), show what - 6 = 1 by omega]; exact hg.2) | (rw [if_neg (by omega), if_neg (by omega), if_neg (by omega), if_neg (by omega), if_neg (by omega), if_pos (by omega)]; exact hS0) | (rw [if_neg (by omega), if_neg (by omega), if_neg (by omega), if_neg (by omega), if_neg (by omega), if_neg (by omega)]; exact hRX.2.2.2.2.2.2.1 what (by omega) (by omega)), rfl⟩
  · refine wz_is (z := 4) e1 ?_
    refine lv_tableIn (tgt := 60) X.x X.b dX0_toldOf_1 (by decide +kernel) (by decide +kernel) rfl (by decide) ?_
    refine lv_aload_n X.x X.b dX0_toldOf_60 rfl (lv_at hl 0 rfl) ?_
    refine wa_get (v := .ref (ad 1)) X hH (have h9 := (XW.c0 hX); h9) wcX0 0 (by decide) q417 rfl (fun _ h9 => h9) rfl dX0_toldOf_61 ?_
    refine wa_getN (v := .int (zI (S 20))) X hH (have h9 := (XW.c1 hX); h9) wcX1 1 (by decide) q166 rfl (fun _ h9 => h9) rfl dX0_toldOf_64 ?_
    exact wa_iret X hH hS dX0_toldOf_67 ⟨by unfold toldS; first | (rw [if_pos (by omega)]; exact hS2) | (rw [if_neg (by omega), if_pos (by omega)]; exact hwd) | (rw [if_neg (by omega), if_neg (by omega), if_pos (by omega)]; exact hm) | (rw [if_neg (by omega), if_neg (by omega), if_neg (by omega), if_pos (by omega), show what - 6 = 0 by omega]; exact hg.1) | (rw [if_neg (by omega), if_neg (by omega), if_neg (by omega), if_neg (by omega), if_pos (by omega), show what - 6 = 1 by omega]; exact hg.2) | (rw [if_neg (by omega), if_neg (by omega), if_neg (by omega), if_neg (by omega), if_neg (by omega), if_pos (by omega)]; exact hS0) | (rw [if_neg (by omega), if_neg (by omega), if_neg (by omega), if_neg (by omega), if_neg (by omega), if_neg (by omega)]; exact hRX.2.2.2.2.2.2.1 what (by omega) (by omega)), rfl⟩
  · refine wz_is (z := 5) e1 ?_
    refine lv_tableIn (tgt := 68) X.x X.b dX0_toldOf_1 (by decide +kernel) (by decide +kernel) rfl (by decide) ?_
    refine lv_aload_n X.x X.b dX0_toldOf_68 rfl (lv_at hl 0 rfl) ?_
    refine wa_get (v := .ref (ad 1)) X hH (have h9 := (XW.c0 hX); h9) wcX0 0 (by decide) q417 rfl (fun _ h9 => h9) rfl dX0_toldOf_69 ?_
    refine wa_getN (v := .int (zI (S 30))) X hH (have h9 := (XW.c1 hX); h9) wcX1 3 (by decide) q172 rfl (fun _ h9 => h9) rfl dX0_toldOf_72 ?_
    exact wa_iret X hH hS dX0_toldOf_75 ⟨by unfold toldS; first | (rw [if_pos (by omega)]; exact hS2) | (rw [if_neg (by omega), if_pos (by omega)]; exact hwd) | (rw [if_neg (by omega), if_neg (by omega), if_pos (by omega)]; exact hm) | (rw [if_neg (by omega), if_neg (by omega), if_neg (by omega), if_pos (by omega), show what - 6 = 0 by omega]; exact hg.1) | (rw [if_neg (by omega), if_neg (by omega), if_neg (by omega), if_neg (by omega), if_pos (by omega), show what - 6 = 1 by omega]; exact hg.2) | (rw [if_neg (by omega), if_neg (by omega), if_neg (by omega), if_neg (by omega), if_neg (by omega), if_pos (by omega)]; exact hS0) | (rw [if_neg (by omega), if_neg (by omega), if_neg (by omega), if_neg (by omega), if_neg (by omega), if_neg (by omega)]; exact hRX.2.2.2.2.2.2.1 what (by omega) (by omega)), rfl⟩
  · refine wz_is (z := 6) e1 ?_
    refine lv_tableIn (tgt := 76) X.x X.b dX0_toldOf_1 (by decide +kernel) (by decide +kernel) rfl (by decide) ?_
    refine lv_aload_n X.x X.b dX0_toldOf_76 rfl (lv_at hl 0 rfl) ?_
    refine wa_get (v := .ref (ad 1)) X hH (have h9 := (XW.c0 hX); h9) wcX0 0 (by decide) q417 rfl (fun _ h9 => h9) rfl dX0_toldOf_77 ?_
    refine wa_getN (v := .ref (ad 3)) X hH (have h9 := (XW.c1 hX); h9) wcX1 4 (by decide) q175 rfl (fun _ h9 => h9) rfl dX0_toldOf_80 ?_
    refine lv_iload_n X.x X.b dX0_toldOf_83 rfl (lv_at hl 1 rfl) ?_
    refine wz_bipush X.x X.b dX0_toldOf_84 rfl ?_
    refine wz_isub X.x X.b dX0_toldOf_86 ?_
    refine wa_iald (f := A 10) X hH (have h9 := (XW.c3 hX); h9) (by omega) (by omega) (by omega) dX0_toldOf_87 ?_
    exact wa_iret X hH hS dX0_toldOf_88 ⟨by unfold toldS; first | (rw [if_pos (by omega)]; exact hS2) | (rw [if_neg (by omega), if_pos (by omega)]; exact hwd) | (rw [if_neg (by omega), if_neg (by omega), if_pos (by omega)]; exact hm) | (rw [if_neg (by omega), if_neg (by omega), if_neg (by omega), if_pos (by omega), show what - 6 = 0 by omega]; exact hg.1) | (rw [if_neg (by omega), if_neg (by omega), if_neg (by omega), if_neg (by omega), if_pos (by omega), show what - 6 = 1 by omega]; exact hg.2) | (rw [if_neg (by omega), if_neg (by omega), if_neg (by omega), if_neg (by omega), if_neg (by omega), if_pos (by omega)]; exact hS0) | (rw [if_neg (by omega), if_neg (by omega), if_neg (by omega), if_neg (by omega), if_neg (by omega), if_neg (by omega)]; exact hRX.2.2.2.2.2.2.1 what (by omega) (by omega)), rfl⟩
  · refine wz_is (z := 7) e1 ?_
    refine lv_tableIn (tgt := 76) X.x X.b dX0_toldOf_1 (by decide +kernel) (by decide +kernel) rfl (by decide) ?_
    refine lv_aload_n X.x X.b dX0_toldOf_76 rfl (lv_at hl 0 rfl) ?_
    refine wa_get (v := .ref (ad 1)) X hH (have h9 := (XW.c0 hX); h9) wcX0 0 (by decide) q417 rfl (fun _ h9 => h9) rfl dX0_toldOf_77 ?_
    refine wa_getN (v := .ref (ad 3)) X hH (have h9 := (XW.c1 hX); h9) wcX1 4 (by decide) q175 rfl (fun _ h9 => h9) rfl dX0_toldOf_80 ?_
    refine lv_iload_n X.x X.b dX0_toldOf_83 rfl (lv_at hl 1 rfl) ?_
    refine wz_bipush X.x X.b dX0_toldOf_84 rfl ?_
    refine wz_isub X.x X.b dX0_toldOf_86 ?_
    refine wa_iald (f := A 10) X hH (have h9 := (XW.c3 hX); h9) (by omega) (by omega) (by omega) dX0_toldOf_87 ?_
    exact wa_iret X hH hS dX0_toldOf_88 ⟨by unfold toldS; first | (rw [if_pos (by omega)]; exact hS2) | (rw [if_neg (by omega), if_pos (by omega)]; exact hwd) | (rw [if_neg (by omega), if_neg (by omega), if_pos (by omega)]; exact hm) | (rw [if_neg (by omega), if_neg (by omega), if_neg (by omega), if_pos (by omega), show what - 6 = 0 by omega]; exact hg.1) | (rw [if_neg (by omega), if_neg (by omega), if_neg (by omega), if_neg (by omega), if_pos (by omega), show what - 6 = 1 by omega]; exact hg.2) | (rw [if_neg (by omega), if_neg (by omega), if_neg (by omega), if_neg (by omega), if_neg (by omega), if_pos (by omega)]; exact hS0) | (rw [if_neg (by omega), if_neg (by omega), if_neg (by omega), if_neg (by omega), if_neg (by omega), if_neg (by omega)]; exact hRX.2.2.2.2.2.2.1 what (by omega) (by omega)), rfl⟩
  · refine lv_tableOut (tgt := 89) X.x X.b dX0_toldOf_1 (by rw [zI_toInt (by omega) (by omega)]; omega) (by decide) ?_
    refine lv_aload_n X.x X.b dX0_toldOf_89 rfl (lv_at hl 0 rfl) ?_
    refine wa_get (v := .int (zI (S 0))) X hH (have h9 := (XW.c0 hX); h9) wcX0 3 (by decide) q420 rfl (fun _ h9 => h9) rfl dX0_toldOf_90 ?_
    exact wa_iret X hH hS dX0_toldOf_93 ⟨by unfold toldS; first | (rw [if_pos (by omega)]; exact hS2) | (rw [if_neg (by omega), if_pos (by omega)]; exact hwd) | (rw [if_neg (by omega), if_neg (by omega), if_pos (by omega)]; exact hm) | (rw [if_neg (by omega), if_neg (by omega), if_neg (by omega), if_pos (by omega), show what - 6 = 0 by omega]; exact hg.1) | (rw [if_neg (by omega), if_neg (by omega), if_neg (by omega), if_neg (by omega), if_pos (by omega), show what - 6 = 1 by omega]; exact hg.2) | (rw [if_neg (by omega), if_neg (by omega), if_neg (by omega), if_neg (by omega), if_neg (by omega), if_pos (by omega)]; exact hS0) | (rw [if_neg (by omega), if_neg (by omega), if_neg (by omega), if_neg (by omega), if_neg (by omega), if_neg (by omega)]; exact hRX.2.2.2.2.2.2.1 what (by omega) (by omega)), rfl⟩
set_option maxRecDepth 100000 in
theorem mX0_told {lL : Launch} {G : wa_G} {ad : Nat → Nat} {w : wa_W} {S : Nat → Int} {A : Nat → Int → Int} {B : Nat → Int → Option Nat} {P : Nat → Option Nat} (hX : XW G ad w S A B P) {g : Int → Int} {past : Int → Int} {re : Int → Int} {tx : Int → Int} {st : Int} {ck : Int} {co : Int} {tl : Int} {qt : Int} (hI : XI G ad w S A B P g past re tx st ck co tl qt) (what : Int) (r_what : rI what) : Met lL yX0_told (ws_ yX0_told cX0_told 2 (some FieldType.int)) ({ frames := 2, cells := 0, slots := 0, locals := 42 } : Room) (wa_P G w [.ref (ad 0), .int (zI what)]) (wa_Qz G fun z u => z = toldV g re st tl what ∧ ∃ (S2 : Nat → Int) (A2 : Nat → Int → Int) (B2 : Nat → Int → Option Nat) (P2 : Nat → Option Nat), XW G ad u S2 A2 B2 P2 ∧ Kp ad w u ∧ (XI G ad u S2 A2 B2 P2 g past (rfu re (bad (0 ≤ what ∧ what ≤ 8))) tx st ck co tl qt)) 0 0 (wa_A G) := by
  refine wa_met (by decide) (by exact Nat.le_of_ble_eq_true rfl) ?_
  intro pP eE sS mM aA bB mT cC ls X hl hH
  have hS : va_S (wa_A G) sS.heap sS.heap [] := va_S.rf
  have hl : lv_has ls 2 [(0, .ref (ad 0)), (1, .int (zI what))] := hl
  have hK : Kp ad w w := Kp.rf
  have hI_0 := hI
  obtain ⟨ho, hST, hXJ, hRX⟩ := id hI
  have hmany := ho.many
  have hPX : PX G ad w (B 10) g := hST.2.2.1
  have hWY : WAYS G ad w (B 5) := hRX.1
  have hNV : NVX ad w P := hRX.2.1
  have hm : S 30 = g 3 := hST.1.2
  have hwd : S 20 = g 0 := hST.1.1
  have hg : A 10 0 = g 1 ∧ A 10 1 = g 2 := hST.2.1
  have hwide := ho.wide
  have hS0 : S 0 = st := hRX.2.2.2.1.1
  have hS1 : S 1 = qt := hRX.2.2.2.1.2.1
  have hS2 : S 2 = tl := hRX.2.2.2.1.2.2.1
  have hstr := hRX.2.2.2.2.2.2.2.1
  have htlr := hRX.2.2.2.2.2.2.2.2.1
  have hqt := hRX.2.2.2.2.2.2.2.2.2.1
  have hPX_0 := hPX
  have hWY_0 := hWY
  have hNV_0 := hNV
  have hXJ_0 := hXJ
  refine lv_iload_n X.x X.b dX0_told_0 rfl (lv_at hl 1 rfl) ?_
  refine wz_i2l X.x X.b dX0_told_1 ⟨by omega, by omega⟩ ?_
  refine lv_lconst (v := lI 0) X.x X.b dX0_told_2 rfl ?_
  refine wz_ldc2 (n := 8) X.x X.b X.own (X.t _ q1601) rfl dX0_told_3 ?_
  refine wa_ci hS (wa_rS (rest := []) X hH (mX0_in _  what 0 8 (show rL what by first | assumption | omega) (show rL 0 by first | assumption | omega) (show rL 8 by first | assumption | omega)) (va_cwS 3 X.t (lw_S q466 q467 q109 q468) rfl rfl rfl hdX0_in.2 ⟨Nat.le_of_ble_eq_true rfl, Nat.le_of_ble_eq_true rfl⟩) rfl rfl hl.1 rfl (Nat.le_of_ble_eq_true rfl) dX0_told_6 ⟨Nat.le_of_ble_eq_true rfl, Nat.le_of_ble_eq_true rfl⟩) (fun z w6 H locs hp hH hS => ?_)
  obtain ⟨hb, hw⟩ := hp
  rw [← hw] at hH; clear hw
  rcases hb with ⟨b6, rfl⟩ | ⟨b6, rfl⟩
  · have b6 : (0 ≤ what ∧ what ≤ 8) := b6
    refine wz_ifeq (tgt := 20) X.x X.b dX0_told_9 (by decide) (by decide) (fun h => absurd h (by decide)) (fun _ => ?_)
    refine lv_aload_n X.x X.b dX0_told_12 rfl (lv_at hl 0 rfl) ?_
    refine lv_iload_n X.x X.b dX0_told_13 rfl (lv_at hl 1 rfl) ?_
    refine wa_ci hS (wa_rV (rest := []) X hH (mX0_toldOf hX hI what (by omega)) (cwV 1 X.t (lw_V q1602 q1604 qs55 q109 q1605) rfl rfl rfl hdX0_toldOf ⟨Nat.le_of_ble_eq_true rfl, Nat.le_of_ble_eq_true rfl⟩) rfl (have h9 := (XW.c0 hX); h9) rfl rfl hl.1 rfl (Nat.le_of_ble_eq_true rfl) dX0_told_14 ⟨Nat.le_of_ble_eq_true rfl, Nat.le_of_ble_eq_true rfl⟩) (fun z w14 H locs hp hH hS => ?_)
    obtain ⟨rfl, hw⟩ := hp
    rw [← hw] at hH; clear hw
    refine lv_goto (tgt := 24) X.x X.b dX0_told_17 (by decide) ?_
    exact wa_iret X hH hS dX0_told_24 ⟨by (try unfold toldV); ((repeat' split) <;> first | rfl | omega | contradiction | (exfalso; omega)), ⟨_, _, _, _, hX, hK, (hI).rv (by (try simp only [rfu, bad]) <;> ((repeat' split) <;> first | rfl | (exfalso; omega) | contradiction))⟩⟩
  · have b6 : ¬ (0 ≤ what ∧ what ≤ 8) := b6
    refine wz_ifeq (tgt := 20) X.x X.b dX0_told_9 (by decide) (by decide) (fun _ => ?_) (fun h => absurd h (by decide))
    refine lv_aload_n X.x X.b dX0_told_20 rfl (lv_at hl 0 rfl) ?_
    refine wa_ci hS (wa_rV (rest := []) X hH (mX0_bad hX   ) (cwV 0 X.t (lw_V q492 q494 qs3 q109 q495) rfl rfl rfl hdX0_bad ⟨Nat.le_of_ble_eq_true rfl, Nat.le_of_ble_eq_true rfl⟩) rfl (have h9 := (XW.c0 hX); h9) rfl rfl hl.1 rfl (Nat.le_of_ble_eq_true rfl) dX0_told_21 ⟨Nat.le_of_ble_eq_true rfl, Nat.le_of_ble_eq_true rfl⟩) (fun z w21 H locs hp hH hS => ?_)
    obtain ⟨rfl, ⟨hX, hk⟩⟩ := hp
    have hI := hI.kp hk
    have hPX := hPX.kp hk
    have hWY := hWY.kp hk
    have hNV := hNV.kp hk
    have hXJ := hXJ.kp hk
    have hK := hK.kp hk
    exact wa_iret X hH hS dX0_told_24 ⟨by (try unfold toldV); ((repeat' split) <;> first | rfl | omega | contradiction | (exfalso; omega)), ⟨_, _, _, _, hX, hK, ((hI).ref).rv (by (try simp only [rfu, bad]) <;> ((repeat' split) <;> first | rfl | (exfalso; omega) | contradiction))⟩⟩
set_option maxRecDepth 100000 in
theorem mX0_back {lL : Launch} {G : wa_G} {ad : Nat → Nat} {w : wa_W} {S : Nat → Int} {A : Nat → Int → Int} {B : Nat → Int → Option Nat} {P : Nat → Option Nat} (hX : XW G ad w S A B P) {g : Int → Int} {past : Int → Int} {re : Int → Int} {tx : Int → Int} {st : Int} {ck : Int} {co : Int} {tl : Int} {qt : Int} (hI : XI G ad w S A B P g past re tx st ck co tl qt)  : Met lL yX0_back (ws_ yX0_back cX0_back 1 (some FieldType.int)) ({ frames := 2, cells := 0, slots := 0, locals := 121 } : Room) (wa_P G w [.ref (ad 0)]) (wa_Qz G fun z u => z = backV st ∧ ∃ (S2 : Nat → Int) (A2 : Nat → Int → Int) (B2 : Nat → Int → Option Nat) (P2 : Nat → Option Nat), XW G ad u S2 A2 B2 P2 ∧ Kp ad w u ∧ (XI G ad u S2 A2 B2 P2 (backG g past st) past (rfu re (if st = 0 then 1 else -1)) tx (backN st) ck co tl qt)) 0 0 (wa_A G) := by
  refine wa_met (by decide) (by exact Nat.le_of_ble_eq_true rfl) ?_
  intro pP eE sS mM aA bB mT cC ls X hl hH
  have hS : va_S (wa_A G) sS.heap sS.heap [] := va_S.rf
  have hl : lv_has ls 1 [(0, .ref (ad 0))] := hl
  have hK : Kp ad w w := Kp.rf
  have hI_0 := hI
  obtain ⟨ho, hST, hXJ, hRX⟩ := id hI
  have hmany := ho.many
  have hPX : PX G ad w (B 10) g := hST.2.2.1
  have hWY : WAYS G ad w (B 5) := hRX.1
  have hNV : NVX ad w P := hRX.2.1
  have hm : S 30 = g 3 := hST.1.2
  have hwd : S 20 = g 0 := hST.1.1
  have hg : A 10 0 = g 1 ∧ A 10 1 = g 2 := hST.2.1
  have hwide := ho.wide
  have hS0 : S 0 = st := hRX.2.2.2.1.1
  have hS1 : S 1 = qt := hRX.2.2.2.1.2.1
  have hS2 : S 2 = tl := hRX.2.2.2.1.2.2.1
  have hstr := hRX.2.2.2.2.2.2.2.1
  have htlr := hRX.2.2.2.2.2.2.2.2.1
  have hqt := hRX.2.2.2.2.2.2.2.2.2.1
  have hPX_0 := hPX
  have hWY_0 := hWY
  have hNV_0 := hNV
  have hXJ_0 := hXJ
  refine lv_aload_n X.x X.b dX0_back_0 rfl (lv_at hl 0 rfl) ?_
  refine wa_get (v := .int (zI (S 0))) X hH (have h9 := (XW.c0 hX); h9) wcX0 3 (by decide) q420 rfl (fun _ h9 => h9) rfl dX0_back_1 ?_
  refine wz_ifne (tgt := 12) X.x X.b dX0_back_4 (by decide) ⟨by omega, by omega⟩ (fun c4 => ?_) (fun c4 => ?_)
  · refine lv_aload_n X.x X.b dX0_back_12 rfl (lv_at hl 0 rfl) ?_
    refine lv_dup X.x X.b dX0_back_13 rfl ?_
    refine wa_get (v := .int (zI (S 0))) X hH (have h9 := (XW.c0 hX); h9) wcX0 3 (by decide) q420 rfl (fun _ h9 => h9) rfl dX0_back_14 ?_
    refine wz_iconst X.x X.b dX0_back_17 ?_
    refine wz_isub X.x X.b dX0_back_18 ?_
    refine wa_put X hH hS (have h9 := (XW.c0 hX); h9) wcX0 3 (by decide) q420 rfl (fun _ h9 => h9) rfl rfl rfl (Nat.le_of_ble_eq_true rfl) dX0_back_19 (fun w19 H locs ew hH hS => ?_)
    have hk : Kp ad w w19 := Kp.set (i := 0) (by omega) ew
    have hX := hX.sS (i := 0) (0) (x := (S 0) - 1) (by unfold oS; omega) ew
    have hI := hI.kp hk
    have hPX := hPX.kp hk
    have hWY := hWY.kp hk
    have hNV := hNV.kp hk
    have hXJ := hXJ.kp hk
    have hK := hK.kp hk
    clear ew
    refine lv_aload_n X.x X.b dX0_back_22 rfl (lv_at hl 0 rfl) ?_
    refine wa_get (v := .ref (ad 1)) X hH (have h9 := (XW.c0 hX); h9) wcX0 0 (by decide) q417 rfl (fun _ h9 => h9) rfl dX0_back_23 ?_
    refine lv_aload_n X.x X.b dX0_back_26 rfl (lv_at hl 0 rfl) ?_
    refine wa_get (v := .ref (ad 22)) X hH (have h9 := (XW.c0 hX); h9) wcX0 2 (by decide) q419 rfl (fun _ h9 => h9) rfl dX0_back_27 ?_
    refine lv_aload_n X.x X.b dX0_back_30 rfl (lv_at hl 0 rfl) ?_
    obtain ⟨sp, hsp2, hsp7, hspb, hspp, hspx⟩ := hI.2.2.2.2.2.1.pl (j := S 0 - 1) (by omega) (by omega)
    obtain ⟨hpo, hpS⟩ := hspx (by omega)
    refine wa_get (v := .int (zI ((S 0) - 1))) X hH (have h9 := (XW.c0 hX); h9) wcX0 3 (by decide) q420 rfl (fun _ h9 => h9) rfl dX0_back_31 ?_
    refine wa_aald (k := 3) (f := B 0) X hH (have h9 := (XW.c22 hX); h9) rfl rfl (by omega) (by omega) (by omega) dX0_back_34 ?_
    refine wz_opt (q := some (ad (1 + 3 * sp))) (by exact hspb) ?_
    refine wa_cv hS (wa_rV (rest := []) X hH (mX1_takes hX hspp  (show 0 < 7 by decide) (by omega) (show 0 ≠ sp by omega)) (cwV 1 X.t (lw_V q478 q479 q480 q110 q481) rfl rfl rfl hdX1_takes ⟨Nat.le_of_ble_eq_true rfl, Nat.le_of_ble_eq_true rfl⟩) rfl (have h9 := (XW.c1 hX); h9) rfl rfl hl.1 rfl (Nat.le_of_ble_eq_true rfl) dX0_back_35 ⟨Nat.le_of_ble_eq_true rfl, Nat.le_of_ble_eq_true rfl⟩) (fun w35 H locs hp hH hS => ?_)
    obtain ⟨hX, hk⟩ := hp
    have hI := hI.kp hk
    have hPX := hPX.kp hk
    have hWY := hWY.kp hk
    have hNV := hNV.kp hk
    have hXJ := hXJ.kp hk
    have hspp := hspp.kp hk
    have hpS := hpS.kp hk
    have hK := hK.kp hk
    refine lv_aload_n X.x X.b dX0_back_38 rfl (lv_at hl 0 rfl) ?_
    refine wa_get (v := .ref (ad 24)) X hH (have h9 := (XW.c0 hX); h9) wcX0 6 (by decide) q424 rfl (fun _ h9 => h9) rfl dX0_back_39 ?_
    refine wz_iconst X.x X.b dX0_back_42 ?_
    refine wa_putN X hH hS (have h9 := (XW.c24 hX); h9) wcX2 0 (by decide) q341 rfl (fun _ h9 => h9) rfl nb1 rfl (Nat.le_of_ble_eq_true rfl) dX0_back_43 (fun w43 H locs ew hH hS => ?_)
    have hk : Kp ad w35 w43 := Kp.set (i := 24) (by omega) ew
    have hX := hX.sS (i := 24) (4) (x := 1) (by unfold oS; omega) ew
    have hI := hI.kp hk
    have hPX := hPX.kp hk
    have hWY := hWY.kp hk
    have hNV := hNV.kp hk
    have hXJ := hXJ.kp hk
    have hspp := hspp.kp hk
    have hpS := hpS.kp hk
    have hK := hK.kp hk
    clear ew
    refine lv_aload_n X.x X.b dX0_back_46 rfl (lv_at hl 0 rfl) ?_
    refine wa_get (v := .int (zI ((sup (sup (sup (sup S 0 ((S 0) - 1)) (20 + 0) ((sup S 0 ((S 0) - 1)) (20 + sp))) (30 + 0) ((sup S 0 ((S 0) - 1)) (30 + sp))) 4 1) 0))) X hH (have h9 := (XW.c0 hX); h9) wcX0 3 (by decide) q420 rfl (fun _ h9 => h9) rfl dX0_back_47 ?_
    refine wz_is (z := S 0 - 1) (by rw [sup_n (by omega), sup_n (by omega), sup_n (by omega), sup_s]) ?_
    exact wa_iret X hH hS dX0_back_50 ⟨by unfold backV; first | (rw [if_pos (by omega)]; done) | (rw [if_neg (by omega), hS0]), ⟨_, _, _, _, hX, hK, (hI.bk (g2 := backG g past st) (s := sp) (st2 := S 0 - 1) (hpo.gx (fun i i0 i1 => by unfold backG; rw [if_neg (by omega), if_pos ⟨i0, i1⟩, hS0])) (hpS.gx (fun i i0 i1 => by unfold backG; rw [if_neg (by omega), if_pos ⟨i0, i1⟩, hS0]) hpo.many.2 (by have := hpo.wide; omega)) (by omega) (by omega) ⟨by rw [sup_n (by omega), sup_n (by omega), sup_n (by omega), sup_s], by rw [sup_n (by omega), sup_n (by omega), sup_n (by omega), sup_n (by omega)], by rw [sup_n (by omega), sup_n (by omega), sup_n (by omega), sup_n (by omega)], by rw [sup_n (by omega), sup_n (by omega), sup_n (by omega), sup_n (by omega)], by rw [sup_s]⟩ (fun j j0 j1 => by rw [sup_n (by omega)]; unfold sup; (repeat' split) <;> first | rfl | (exfalso; omega)) rfl rfl rfl).eq rfl rfl (by unfold rfu; rw [if_neg (show ¬ st = 0 by omega)]; rfl) (by unfold backN; rw [if_neg (by omega)]; omega)⟩⟩
  · refine lv_aload_n X.x X.b dX0_back_7 rfl (lv_at hl 0 rfl) ?_
    refine wa_ci hS (wa_rV (rest := []) X hH (mX0_no hX   ) (cwV 0 X.t (lw_V q1380 q1382 qs37 q109 q1383) rfl rfl rfl hdX0_no ⟨Nat.le_of_ble_eq_true rfl, Nat.le_of_ble_eq_true rfl⟩) rfl (have h9 := (XW.c0 hX); h9) rfl rfl hl.1 rfl (Nat.le_of_ble_eq_true rfl) dX0_back_8 ⟨Nat.le_of_ble_eq_true rfl, Nat.le_of_ble_eq_true rfl⟩) (fun z w8 H locs hp hH hS => ?_)
    obtain ⟨rfl, ⟨hX, hk⟩⟩ := hp
    have hI := hI.kp hk
    have hPX := hPX.kp hk
    have hWY := hWY.kp hk
    have hNV := hNV.kp hk
    have hXJ := hXJ.kp hk
    have hK := hK.kp hk
    exact wa_iret X hH hS dX0_back_11 ⟨by unfold backV; first | (rw [if_pos (by omega)]; done) | (rw [if_neg (by omega), hS0]), ⟨_, _, _, _, hX, hK, hI.ref.eq (by unfold backG; rw [if_pos (by omega)]) rfl (by unfold rfu; rw [if_pos (show st = 0 by omega)]; rfl) (by unfold backN; rw [if_pos (by omega)]; omega)⟩⟩

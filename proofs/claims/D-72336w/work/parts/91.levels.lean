/-! JOINER: steps, levels -/
set_option maxRecDepth 100000 in
theorem mX2_step {lL : Launch} {G : wa_G} {ad : Nat → Nat} {w : wa_W} {S : Nat → Int} {A : Nat → Int → Int} {B : Nat → Int → Option Nat} {P : Nat → Option Nat} (hX : XW G ad w S A B P) {l : Nat} {sc : Nat} {a : Int} {v : Int} {g : Int → Int} (hPX : PX G ad w (B 10) g) (fl0 : Lnk ad w l sc a (foS g a) v (eS g a) (fS g a)) (ha : 0 ≤ a ∧ a < g 3) (hfo : ¬ foS g a = -1) (ho : okS g) : Met lL yX2_step (ws_ yX2_step cX2_step 2 (some (FieldType.object "PictureRing$Fraction"))) ({ frames := 6, cells := 2, slots := 4, locals := 3117 } : Room) (wa_P G w [.ref (ad 24), .ref l]) (wa_Qr G fun r u => ∃ (q : Nat), XW G ad u (sup (sup (sup S 9 (cellS g a)) 10 (diffS 0 g a)) 11 (diffS 1 g a)) A B P ∧ Kp ad w u ∧ (r = some q) ∧ (Lc ad u q (frO (diffS 1 g a) (cellS g a)))) 2 4 (wa_A G) := by
  refine wa_met (by decide) (by exact Nat.le_of_ble_eq_true rfl) ?_
  intro pP eE sS mM aA bB mT cC ls X hl hH
  have hS : va_S (wa_A G) sS.heap sS.heap [] := va_S.rf
  have hl : lv_has ls 2 [(0, .ref (ad 24)), (1, .ref l)] := hl
  have hK : Kp ad w w := Kp.rf
  have hPX_0 := hPX
  have fl0_0 := fl0
  have hmany := ho.many
  have hef := efS_in (g := g) a
  have hfi := foS_in ho ha.1 ha.2
  refine lv_aload_n X.x X.b dX2_step_0 rfl (lv_at hl 0 rfl) ?_
  refine lv_aload_n X.x X.b dX2_step_1 rfl (lv_at hl 1 rfl) ?_
  refine wa_cv hS (wa_rV (rest := []) X hH (mX2_measures hX hPX fl0  (show 0 ≤ a ∧ a < g 3 by first | assumption | omega) (show ¬ foS g a = -1 by first | assumption | omega) (show okS g by first | assumption | omega)) (cwV 1 X.t (lw_V q1294 q1295 q1296 q112 q1297) rfl rfl rfl hdX2_measures ⟨Nat.le_of_ble_eq_true rfl, Nat.le_of_ble_eq_true rfl⟩) rfl (have h9 := (XW.c24 hX); h9) rfl rfl hl.1 rfl (Nat.le_of_ble_eq_true rfl) dX2_step_2 ⟨Nat.le_of_ble_eq_true rfl, Nat.le_of_ble_eq_true rfl⟩) (fun w2 H locs hp hH hS => ?_)
  obtain ⟨hX, hk⟩ := hp
  have hPX := hPX.kp hk
  have fl0 := fl0.kp hk
  have hK := hK.kp hk
  have hci := cellS_in g a
  have hdi := diffS_in (sg := 1) ho ha.1 ha.2 hfo
  have hX_5 := hX
  have hK_5 := hK
  have hPX_5 := hPX
  have fl0_5 := fl0
  refine wa_new X hH hS wcX5 rfl q315 q317 q122 [.long (lI 0), .long (lI 0)] (by decide) (Nat.le_of_ble_eq_true rfl) (Nat.le_of_ble_eq_true rfl) dX2_step_5 (fun nq5 w5 H hn5 ew hH hS => ?_)
  have hk0 := Ext.new hn5 ew
  have hX := hX.ext hk0
  have hk := hk0.k (ad := ad)
  have hPX := hPX.kp hk
  have fl0 := fl0.kp hk
  have hK := hK.kp hk
  have hN5 := hk
  have n5 : Lc ad w5 nq5 (eO 5 [.long (lI 0), .long (lI 0)]) := Lc.new hX_5 hn5 (by rw [ew]; exact wup_s)
  clear ew hk0
  refine lv_dup X.x X.b dX2_step_8 rfl ?_
  refine lv_aload_n X.x X.b dX2_step_9 rfl (lv_at hl 0 rfl) ?_
  refine wa_get (v := .int (zI (diffS 1 g a))) X hH (have h9 := (XW.c24 hX); h9) wcX2 14 (by decide) q366 rfl (fun _ h9 => h9) rfl dX2_step_10 ?_
  refine wz_i2l X.x X.b dX2_step_13 ⟨by omega, by omega⟩ ?_
  refine lv_aload_n X.x X.b dX2_step_14 rfl (lv_at hl 0 rfl) ?_
  refine wa_get (v := .int (zI (cellS g a))) X hH (have h9 := (XW.c24 hX); h9) wcX2 12 (by decide) q362 rfl (fun _ h9 => h9) rfl dX2_step_15 ?_
  refine wz_i2l X.x X.b dX2_step_18 ⟨by omega, by omega⟩ ?_
  refine wa_cv hS (wa_rI (rest := [.ref nq5]) X hH (mX5_init_2  (show At w5 nq5 (eO 5 [.long (lI 0), .long (lI 0)]) from n5.2) (diffS 1 g a) (cellS g a) (by omega) (by omega)) (cwI 2 X.t (lw_meth q323) rfl rfl rfl (X.t _ q122) (X.t _ q1310) (X.t _ q322) rfl hdX5_init_2.2 ⟨Nat.le_of_ble_eq_true rfl, Nat.le_of_ble_eq_true rfl⟩) rfl rfl hl.1 rfl (Nat.le_of_ble_eq_true rfl) dX2_step_19 ⟨Nat.le_of_ble_eq_true rfl, Nat.le_of_ble_eq_true rfl⟩) (fun w19 H locs hp hH hS => ?_)
  obtain ⟨hi, hO2⟩ := hp
  have hOq := hO2
  have hk := Kp.init hn5 hN5 hOq
  have hX := hX_5.init hn5 hX hOq
  have hPX := hPX_5.kp hk
  have fl0 := fl0_5.kp hk
  have hK := hK_5.kp hk
  have hN5 := hk
  have n5 : Lc ad w19 nq5 (eO 5 [.long (lI (lowA (diffS 1 g a) (cellS g a))), .long (lI (lowB (diffS 1 g a) (cellS g a)))]) := Lc.new hX_5 hn5 hi
  refine W.widen (k := 2) (n := 4) (by first | exact Nat.le_of_ble_eq_true rfl | omega) (by first | exact Nat.le_of_ble_eq_true rfl | omega) ?_
  exact wa_aret X (Or.inl ⟨_, rfl⟩) hH hS (some nq5) dX2_step_22 ⟨_, XW.cS (S2 := sup (sup (sup S 9 (cellS g a)) 10 (diffS 0 g a)) 11 (diffS 1 g a)) hX (by rfl), hK, rfl, n5⟩
set_option maxRecDepth 100000 in
theorem mX2_levelsFrom {lL : Launch} {G : wa_G} {ad : Nat → Nat} {w : wa_W} {S : Nat → Int} {A : Nat → Int → Int} {B : Nat → Int → Option Nat} {P : Nat → Option Nat} (hX : XW G ad w S A B P) {q : Nat} {U : Int → Prop} {g : Int → Int} (hPX : PX G ad w (B 10) g) (hLA : LA ad w (B 1) (foS g) g) (fq : Lc ad w q (eO 5 [.long (lI (lowA (shrN g) (shrD g))), .long (lI (lowB (shrN g) (shrD g)))])) (hLV : LV ad w (B 4) g U) (r : Int) (hr : 0 ≤ r ∧ r < g 3) (hs : closedS g → r = 0) (hU : U r) (ho : okS g) : Met lL yX2_levelsFrom (ws_ yX2_levelsFrom cX2_levelsFrom 5 (none : Option FieldType)) ({ frames := 7, cells := 98, slots := 196, locals := 3138 } : Room) (wa_P G w [.ref (ad 24), .int (zI r), .ref q]) (wa_Qv G fun u => ∃ (S2 : Nat → Int) (B2 : Nat → Int → Option Nat), XW G ad u S2 A B2 P ∧ Kp ad w u ∧ ((∀ j, j ≠ 9 → j ≠ 10 → j ≠ 11 → S2 j = S j) ∧ ∀ j, j ≠ 4 → B2 j = B j) ∧ (LV ad u (B2 4) g (fun x => U x ∨ onW (foS g) r x))) 98 196 (wa_A G) := by
  refine wa_met (by decide) (by exact Nat.le_of_ble_eq_true rfl) ?_
  intro pP eE sS mM aA bB mT cC ls X hl hH
  have hS : va_S (wa_A G) sS.heap sS.heap [] := va_S.rf
  have hl : lv_has ls 5 [(0, .ref (ad 24)), (1, .int (zI r)), (2, .ref q)] := hl
  have hK : Kp ad w w := Kp.rf
  have hPX_0 := hPX
  have hLA_0 := hLA
  have fq_0 := fq
  have hLV_0 := hLV
  have hmany := ho.many
  obtain ⟨N, hN13, hN⟩ := lv_way ho hr.1 hr.2 hs
  refine lv_aload_n X.x X.b dX2_levelsFrom_0 rfl (lv_at hl 0 rfl) ?_
  refine wa_get (v := .ref (ad 51)) X hH (have h9 := (XW.c24 hX); h9) wcX2 3 (by decide) q344 rfl (fun _ h9 => h9) rfl dX2_levelsFrom_1 ?_
  refine lv_iload_n X.x X.b dX2_levelsFrom_4 rfl (lv_at hl 1 rfl) ?_
  refine wa_aald (k := 6) (f := B 1) X hH (have h9 := (XW.c51 hX); h9) rfl rfl (by omega) (by omega) (by omega) dX2_levelsFrom_5 ?_
  have hLV : LV ad w (B 4) g (fun x => U x ∨ ∃ j, j ≤ 0 ∧ stN (foS g) j r = x) := hLV.mono fun x x0 x1 hV => by
    rcases hV with q | ⟨j, j1, j2⟩
    · exact q
    · obtain rfl : j = 0 := by omega
      rw [← j2]; exact hU
  refine lv_astore_nO (lv' := [(3, va_rf ((B 1) r)), (0, .ref (ad 24)), (1, .int (zI r)), (2, .ref q)]) X.x X.b dX2_levelsFrom_6 rfl hl (by decide) rfl (fun ls hl => ?_)
  have L7 : ∀ (nn : Nat) (k : Nat) (t : Int) (ol : Option Nat) (Sl : Nat → Int) (Bl : Nat → Int → Option Nat), (N + 1 - k) = nn → (t = stN (foS g) k r) → (0 ≤ t ∧ t < g 3) → (∀ j, 1 ≤ j → j ≤ k → stN (foS g) j r ≠ r ∧ stN (foS g) j r ≠ -1) → (∀ j, j ≠ 9 → j ≠ 10 → j ≠ 11 → Sl j = S j) → (∀ j, j ≠ 4 → Bl j = B j) → (ol = B 1 t) → ∀ (wl7 : wa_W) (H : Heap) (locs : List Loc) (ls : Array Slot), XW G ad wl7 Sl A Bl P → Kp ad w wl7 → PX G ad wl7 (B 10) g → LA ad wl7 (B 1) (foS g) g → Lc ad wl7 q (eO 5 [.long (lI (lowA (shrN g) (shrD g))), .long (lI (lowB (shrN g) (shrD g)))]) → LV ad wl7 (Bl 4) g (fun x => U x ∨ ∃ j, j ≤ k ∧ stN (foS g) j r = x) → wa_H G wl7 H → va_S (wa_A G) sS.heap H locs → lv_has ls 5 [(3, va_rf ol), (0, .ref (ad 24)), (1, .int (zI r)), (2, .ref q)] → W pP lL eE ({ frames := 7, cells := 98, slots := 196, locals := 3138 } : Room) sS mM aA bB mT cC H locs (7 * k) (14 * k) (MQ bB (wa_Qv G fun u => ∃ (S2 : Nat → Int) (B2 : Nat → Int → Option Nat), XW G ad u S2 A B2 P ∧ Kp ad w u ∧ ((∀ j, j ≠ 9 → j ≠ 10 → j ≠ 11 → S2 j = S j) ∧ ∀ j, j ≠ 4 → B2 j = B j) ∧ (LV ad u (B2 4) g (fun x => U x ∨ onW (foS g) r x))) aA sS 98 196 (wa_A G)) (F0 mM 7 ls []) := by
    intro nn
    induction nn using Nat.strongRecOn with
    | ind nn ih7 =>
      intro k t ol Sl Bl hmu7 i7_0 i7_1 i7_2 i7_3 i7_4 i7_5 wl7 H locs ls hX hK hPX hLA fq hLV hH hS hl
      have hkN := lv_le hN i7_2
      refine lv_aload_nO X.x X.b dX2_levelsFrom_7 rfl (lv_at hl 0 rfl) ?_
      rcases xo_cases (ol) with ho8 | ⟨a8, ho8⟩
      · refine wz_opt (q := none) ho8 ?_
        have hl : lv_has ls 5 [(3, .null), (0, .ref (ad 24)), (1, .int (zI r)), (2, .ref q)] := by rw [ho8] at hl; exact hl
        refine lv_ifnullN (tgt := 82) X.x X.b dX2_levelsFrom_8 (by decide) ?_
        refine W.widen (k := 98) (n := 196) (by first | exact Nat.le_of_ble_eq_true rfl | omega) (by first | exact Nat.le_of_ble_eq_true rfl | omega) ?_
        exact wa_vret X hH hS dX2_levelsFrom_82 ⟨_, _, hX, hK, ⟨i7_3, i7_4⟩, hLV.mono fun x x0 x1 hV => by
      rcases hV with q | ⟨n, n1, n2⟩
      · exact Or.inl q
      · exact Or.inr ⟨n, lv_le (N := k) (Or.inr (by rw [stN_s, ← i7_0]; unfold stp; rw [if_neg (by omega)]; exact hLA.nol i7_1.1 (by omega) (i7_5.symm.trans ho8))) n2, n1⟩⟩
      · refine wz_opt (q := (some a8)) ho8 ?_
        have hl : lv_has ls 5 [(3, .ref a8), (0, .ref (ad 24)), (1, .int (zI r)), (2, .ref q)] := by rw [ho8] at hl; exact hl
        have hol : B 1 t = some a8 := i7_5.symm.trans ho8
        obtain ⟨hb1, hb2, hb3, sc, fl⟩ := hLA.isl i7_1.1 (by omega) hol
        have hpos := fS_pos hb3
        have hci := cellS_in g t
        have hfo : ¬ foS g t = -1 := by omega
        have hdi := diffS_in (sg := 1) ho i7_1.1 i7_1.2 hfo
        refine lv_ifnull X.x X.b dX2_levelsFrom_8 ?_
        refine lv_aload_n X.x X.b dX2_levelsFrom_11 rfl (lv_at hl 0 rfl) ?_
        refine wa_getN (v := .int (zI (foS g t))) X hH fl.1.2 wcX11 1 (by decide) q1128 rfl (fun _ h9 => h9) rfl dX2_levelsFrom_12 ?_
        refine lv_iload_n X.x X.b dX2_levelsFrom_15 rfl (lv_at hl 2 rfl) ?_
        refine wz_icmp_eq (tgt := 82) X.x X.b dX2_levelsFrom_16 (by decide) ⟨by omega, by omega⟩ ⟨by omega, by omega⟩ (fun c16 => ?_) (fun c16 => ?_)
        · refine W.widen (k := 98) (n := 196) (by first | exact Nat.le_of_ble_eq_true rfl | omega) (by first | exact Nat.le_of_ble_eq_true rfl | omega) ?_
          exact wa_vret X hH hS dX2_levelsFrom_82 ⟨_, _, hX, hK, ⟨i7_3, i7_4⟩, hLV.mono fun x x0 x1 hV => by
      rcases hV with q | ⟨n, n1, n2⟩
      · exact Or.inl q
      · exact Or.inr ⟨n, lv_le (N := k) (Or.inl (by rw [stN_s, ← i7_0]; unfold stp; rw [if_neg (by omega)]; exact c16)) n2, n1⟩⟩
        · have hst : stN (foS g) (k + 1) r = foS g t := by rw [stN_s, ← i7_0]; unfold stp; rw [if_neg (by omega)]
          refine lv_aload_n X.x X.b dX2_levelsFrom_19 rfl (lv_at hl 1 rfl) ?_
          refine lv_aload_n X.x X.b dX2_levelsFrom_20 rfl (lv_at hl 0 rfl) ?_
          refine wa_cr hS (wa_rV (rest := []) X hH (mX2_step hX (by rw [i7_4 10 (by decide)]; exact hPX) fl  i7_1 hfo ho) (cwV 1 X.t (lw_V q1290 q1292 qs33 q112 q1293) rfl rfl rfl hdX2_step ⟨Nat.le_of_ble_eq_true rfl, Nat.le_of_ble_eq_true rfl⟩) rfl (have h9 := (XW.c24 hX); h9) rfl rfl hl.1 rfl (Nat.le_of_ble_eq_true rfl) dX2_levelsFrom_21 ⟨by dsimp only; omega, by dsimp only; omega⟩) (fun r21 w21 H locs hp hH hS => ?_)
          obtain ⟨q_21, hX, hk, hx21_0, hx21_1⟩ := hp
          have hPX := hPX.kp hk
          have hLA := hLA.kp hk
          have fq := fq.kp hk
          have hLV := hLV.kp hk
          have fl := fl.kp hk
          have hK := hK.kp hk
          have fst := hx21_1
          refine wz_opt (q := some q_21) (by exact hx21_0) ?_
          refine lv_astore (lv' := [(4, .ref q_21), (3, .ref a8), (0, .ref (ad 24)), (1, .int (zI r)), (2, .ref q)]) X.x X.b dX2_levelsFrom_24 hl (by decide) rfl (fun ls hl => ?_)
          refine lv_aload_n X.x X.b dX2_levelsFrom_26 rfl (lv_at hl 2 rfl) ?_
          obtain ⟨lq, elq, flq⟩ := hLV t i7_1.1 i7_1.2 (Or.inr ⟨k, Nat.le_refl k, i7_0.symm⟩)
          have hLD := levD_in ho
          have hLS := levS_in ho i7_1.1 i7_1.2
          have hl1 := fr_in (n := levS g t) (d := levD g) (B := 91039334400) (C := 16934400) hLD hLS (by decide)
          have hs1 := fr_in (n := diffS 1 g t) (d := cellS g t) (B := 2016) (C := 32) ⟨by omega, by omega⟩ hdi (by decide)
          have hm1 := mul_in hLS (b := cellS g t) (B := 32) ⟨by omega, by omega⟩ (by decide)
          have hm2 := mul_in hdi (b := levD g) (B := 16934400) ⟨by omega, by omega⟩ (by decide)
          have hm3 := mul_in (a := levD g) (A := 16934400) ⟨by omega, by omega⟩ (b := cellS g t) (B := 32) ⟨by omega, by omega⟩ (by decide)
          have hp3 := Int.mul_pos hLD.1 (show 0 < cellS g t by omega)
          have hl2 := fr_in (n := levS g t * cellS g t + diffS 1 g t * levD g) (d := levD g * cellS g t) (B := 3000000000000) (C := 541900800) ⟨by omega, by omega⟩ ⟨by omega, by omega⟩ (by decide)
          have hs2 := fr_in (n := 1) (d := cellS g t) (B := 1) (C := 32) ⟨by omega, by omega⟩ ⟨by decide, by decide⟩ (by decide)
          have hsi := shr_in ho
          have hsh := fr_in (n := shrN g) (d := shrD g) (B := 6773760) (C := 3360) hsi.2 hsi.1 (by decide)
          have hm4 := mul_in (a := shrD g) (A := 3360) ⟨by omega, by omega⟩ (b := cellS g t) (B := 32) ⟨by omega, by omega⟩ (by decide)
          have hp4 := Int.mul_pos hsi.2.1 (show 0 < cellS g t by omega)
          have hl3 := fr_in (n := shrN g * 1) (d := shrD g * cellS g t) (B := 6773760) (C := 107520) ⟨by omega, by omega⟩ ⟨by omega, by omega⟩ (by decide)
          have hl4 := fr_in (n := -(shrN g * 1)) (d := shrD g * cellS g t) (B := 6773760) (C := 107520) ⟨by omega, by omega⟩ ⟨by omega, by omega⟩ (by decide)
          have hn4 := low_neg (n := shrN g * 1) hp4
          refine wa_get (v := .ref (ad 54)) X hH (have h9 := (XW.c24 hX); h9) wcX2 10 (by decide) q358 rfl (fun _ h9 => h9) rfl dX2_levelsFrom_27 ?_
          refine lv_aload_n X.x X.b dX2_levelsFrom_30 rfl (lv_at hl 1 rfl) ?_
          refine wa_getN (v := .int (zI (foS g t))) X hH fl.1.2 wcX11 1 (by decide) q1128 rfl (fun _ h9 => h9) rfl dX2_levelsFrom_31 ?_
          refine lv_aload_n X.x X.b dX2_levelsFrom_34 rfl (lv_at hl 2 rfl) ?_
          refine wa_get (v := .ref (ad 54)) X hH (have h9 := (XW.c24 hX); h9) wcX2 10 (by decide) q358 rfl (fun _ h9 => h9) rfl dX2_levelsFrom_35 ?_
          refine lv_aload_n X.x X.b dX2_levelsFrom_38 rfl (lv_at hl 1 rfl) ?_
          refine wa_getN (v := .int (zI t)) X hH fl.1.2 wcX11 0 (by decide) q1124 rfl (fun _ h9 => h9) rfl dX2_levelsFrom_39 ?_
          refine wa_aald (k := 8) (f := Bl 4) X hH (have h9 := (XW.c54 hX); h9) rfl rfl (by omega) (by omega) (by omega) dX2_levelsFrom_42 ?_
          refine wz_opt (q := some lq) (by exact elq) ?_
          refine lv_aload X.x X.b dX2_levelsFrom_43 (lv_at hl 0 rfl) ?_
          have hX_45 := hX
          have hK_45 := hK
          have hPX_45 := hPX
          have hLA_45 := hLA
          have fq_45 := fq
          have hLV_45 := hLV
          have fl_45 := fl
          have fst_45 := fst
          have flq_45 := flq
          refine wa_cr hS (wa_rV (rest := [.int (zI (foS g t)), .ref (ad 54)]) X hH (mX5_and  (show At w21 lq (eO 5 [.long (lI (lowA (levS g t) (levD g))), .long (lI (lowB (levS g t) (levD g)))]) from flq.2) (show At w21 q_21 (eO 5 [.long (lI (lowA (diffS 1 g t) (cellS g t))), .long (lI (lowB (diffS 1 g t) (cellS g t)))]) from fst.2)  (and_in hl1 hs1 (by decide) (by decide) (by decide) (by decide)).1 (and_in hl1 hs1 (by decide) (by decide) (by decide) (by decide)).2) (cwV 1 X.t (lw_V q1311 q1312 q1313 q122 q1314) rfl rfl rfl hdX5_and ⟨Nat.le_of_ble_eq_true rfl, Nat.le_of_ble_eq_true rfl⟩) rfl flq.2 rfl rfl hl.1 rfl (Nat.le_of_ble_eq_true rfl) dX2_levelsFrom_45 ⟨by dsimp only; omega, by dsimp only; omega⟩) (fun r45 w45 H locs hp hH hS => ?_)
          obtain ⟨nq45, rfl, hn45, hi45, hE⟩ := hp
          have hk := hE.k (ad := ad)
          have hX := hX.ext hE
          have hPX := hPX.kp hk
          have hLA := hLA.kp hk
          have fq := fq.kp hk
          have hLV := hLV.kp hk
          have fl := fl.kp hk
          have fst := fst.kp hk
          have flq := flq.kp hk
          have hK := hK.kp hk
          have n45 : Lc ad w45 nq45 (eO 5 [.long (lI (lowA ((lowA (levS g t) (levD g)) * (lowB (diffS 1 g t) (cellS g t)) + (lowA (diffS 1 g t) (cellS g t)) * (lowB (levS g t) (levD g))) ((lowB (levS g t) (levD g)) * (lowB (diffS 1 g t) (cellS g t))))), .long (lI (lowB ((lowA (levS g t) (levD g)) * (lowB (diffS 1 g t) (cellS g t)) + (lowA (diffS 1 g t) (cellS g t)) * (lowB (levS g t) (levD g))) ((lowB (levS g t) (levD g)) * (lowB (diffS 1 g t) (cellS g t)))))]) := Lc.new hX_45 hn45 hi45
          have n45 : Lc ad w45 nq45 (frO (levS g t * cellS g t + diffS 1 g t * levD g) (levD g * cellS g t)) := by
            have h9 := n45
            rw [(low_and hLD.1 (show 0 < cellS g t by omega) hp3 rfl).1, (low_and hLD.1 (show 0 < cellS g t by omega) hp3 rfl).2] at h9
            exact h9
          refine lv_aload_n X.x X.b dX2_levelsFrom_48 rfl (lv_at hl 4 rfl) ?_
          have hX_49 := hX
          have hK_49 := hK
          have hPX_49 := hPX
          have hLA_49 := hLA
          have fq_49 := fq
          have hLV_49 := hLV
          have fl_49 := fl
          have fst_49 := fst
          have flq_49 := flq
          have n45_49 := n45
          refine wa_new X hH hS wcX5 rfl q315 q317 q122 [.long (lI 0), .long (lI 0)] (by decide) (by dsimp only; omega) (by dsimp only; omega) dX2_levelsFrom_49 (fun nq49 w49 H hn49 ew hH hS => ?_)
          have hk0 := Ext.new hn49 ew
          have hX := hX.ext hk0
          have hk := hk0.k (ad := ad)
          have hPX := hPX.kp hk
          have hLA := hLA.kp hk
          have fq := fq.kp hk
          have hLV := hLV.kp hk
          have fl := fl.kp hk
          have fst := fst.kp hk
          have flq := flq.kp hk
          have n45 := n45.kp hk
          have hK := hK.kp hk
          have hN49 := hk
          have n49 : Lc ad w49 nq49 (eO 5 [.long (lI 0), .long (lI 0)]) := Lc.new hX_49 hn49 (by rw [ew]; exact wup_s)
          clear ew hk0
          refine lv_dup X.x X.b dX2_levelsFrom_52 rfl ?_
          refine lv_lconst (v := lI 1) X.x X.b dX2_levelsFrom_53 rfl ?_
          refine lv_aload_n X.x X.b dX2_levelsFrom_54 rfl (lv_at hl 2 rfl) ?_
          refine wa_get (v := .int (zI (cellS g t))) X hH (have h9 := (XW.c24 hX); h9) wcX2 12 (by decide) q362 rfl (fun _ h9 => h9) rfl dX2_levelsFrom_55 ?_
          refine wz_i2l X.x X.b dX2_levelsFrom_58 ⟨by omega, by omega⟩ ?_
          refine wa_cv hS (wa_rI (rest := [.ref nq49, .ref q, .ref nq45, .int (zI (foS g t)), .ref (ad 54)]) X hH (mX5_init_2  (show At w49 nq49 (eO 5 [.long (lI 0), .long (lI 0)]) from n49.2) 1 (cellS g t) (by omega) (by omega)) (cwI 2 X.t (lw_meth q323) rfl rfl rfl (X.t _ q122) (X.t _ q1310) (X.t _ q322) rfl hdX5_init_2.2 ⟨Nat.le_of_ble_eq_true rfl, Nat.le_of_ble_eq_true rfl⟩) rfl rfl hl.1 rfl (Nat.le_of_ble_eq_true rfl) dX2_levelsFrom_59 ⟨by dsimp only; omega, by dsimp only; omega⟩) (fun w59 H locs hp hH hS => ?_)
          obtain ⟨hi, hO2⟩ := hp
          have hOq := hO2
          have hk := Kp.init hn49 hN49 hOq
          have hX := hX_49.init hn49 hX hOq
          have hPX := hPX_49.kp hk
          have hLA := hLA_49.kp hk
          have fq := fq_49.kp hk
          have hLV := hLV_49.kp hk
          have fl := fl_49.kp hk
          have fst := fst_49.kp hk
          have flq := flq_49.kp hk
          have n45 := n45_49.kp hk
          have hK := hK_49.kp hk
          have hN49 := hk
          have n49 : Lc ad w59 nq49 (eO 5 [.long (lI (lowA 1 (cellS g t))), .long (lI (lowB 1 (cellS g t)))]) := Lc.new hX_49 hn49 hi
          have hX_62 := hX
          have hK_62 := hK
          have hPX_62 := hPX
          have hLA_62 := hLA
          have fq_62 := fq
          have hLV_62 := hLV
          have fl_62 := fl
          have fst_62 := fst
          have flq_62 := flq
          have n45_62 := n45
          have hN49_62 := hN49
          have n49_62 := n49
          refine wa_cr hS (wa_rV (rest := [.ref nq45, .int (zI (foS g t)), .ref (ad 54)]) X hH (mX5_times  (show At w59 q (eO 5 [.long (lI (lowA (shrN g) (shrD g))), .long (lI (lowB (shrN g) (shrD g)))]) from fq.2) (show At w59 nq49 (eO 5 [.long (lI (lowA 1 (cellS g t))), .long (lI (lowB 1 (cellS g t)))]) from n49.2)  (mulf_in hsh hs2 (by decide) (by decide) (by decide) (by decide)).1 (mulf_in hsh hs2 (by decide) (by decide) (by decide) (by decide)).2) (cwV 1 X.t (lw_V q1320 q1321 q1322 q122 q1323) rfl rfl rfl hdX5_times ⟨Nat.le_of_ble_eq_true rfl, Nat.le_of_ble_eq_true rfl⟩) rfl fq.2 rfl rfl hl.1 rfl (Nat.le_of_ble_eq_true rfl) dX2_levelsFrom_62 ⟨by dsimp only; omega, by dsimp only; omega⟩) (fun r62 w62 H locs hp hH hS => ?_)
          obtain ⟨nq62, rfl, hn62, hi62, hE⟩ := hp
          have hk := hE.k (ad := ad)
          have hX := hX.ext hE
          have hPX := hPX.kp hk
          have hLA := hLA.kp hk
          have fq := fq.kp hk
          have hLV := hLV.kp hk
          have fl := fl.kp hk
          have fst := fst.kp hk
          have flq := flq.kp hk
          have n45 := n45.kp hk
          have hN49 := hN49.kp hk
          have n49 := n49.kp hk
          have hK := hK.kp hk
          have n62 : Lc ad w62 nq62 (eO 5 [.long (lI (lowA ((lowA (shrN g) (shrD g)) * (lowA 1 (cellS g t))) ((lowB (shrN g) (shrD g)) * (lowB 1 (cellS g t))))), .long (lI (lowB ((lowA (shrN g) (shrD g)) * (lowA 1 (cellS g t))) ((lowB (shrN g) (shrD g)) * (lowB 1 (cellS g t)))))]) := Lc.new hX_62 hn62 hi62
          have n62 : Lc ad w62 nq62 (frO (shrN g * 1) (shrD g * cellS g t)) := by
            have h9 := n62
            rw [(low_mul hsi.2.1 (show 0 < cellS g t by omega) hp4 rfl).1, (low_mul hsi.2.1 (show 0 < cellS g t by omega) hp4 rfl).2] at h9
            exact h9
          have hX_65 := hX
          have hK_65 := hK
          have hPX_65 := hPX
          have hLA_65 := hLA
          have fq_65 := fq
          have hLV_65 := hLV
          have fl_65 := fl
          have fst_65 := fst
          have flq_65 := flq
          have n45_65 := n45
          have hN49_65 := hN49
          have n49_65 := n49
          have n62_65 := n62
          refine wa_cr hS (wa_rV (rest := [.int (zI (foS g t)), .ref (ad 54)]) X hH (mX5_less  (show At w62 nq45 (eO 5 [.long (lI (lowA (levS g t * cellS g t + diffS 1 g t * levD g) (levD g * cellS g t))), .long (lI (lowB (levS g t * cellS g t + diffS 1 g t * levD g) (levD g * cellS g t)))]) from n45.2) (show At w62 nq62 (eO 5 [.long (lI (lowA (shrN g * 1) (shrD g * cellS g t))), .long (lI (lowB (shrN g * 1) (shrD g * cellS g t)))]) from n62.2)  (by omega) (by omega) (by rw [hn4.1, hn4.2]; exact (and_in hl2 hl4 (by decide) (by decide) (by decide) (by decide)).1) (by rw [hn4.2]; exact (and_in hl2 hl4 (by decide) (by decide) (by decide) (by decide)).2)) (cwV 1 X.t (lw_V q1328 q1329 q1330 q122 q1331) rfl rfl rfl hdX5_less ⟨Nat.le_of_ble_eq_true rfl, Nat.le_of_ble_eq_true rfl⟩) rfl n45.2 rfl rfl hl.1 rfl (Nat.le_of_ble_eq_true rfl) dX2_levelsFrom_65 ⟨by dsimp only; omega, by dsimp only; omega⟩) (fun r65 w65 H locs hp hH hS => ?_)
          obtain ⟨nq65, rfl, hn65, hi65, hE⟩ := hp
          have hk := hE.k (ad := ad)
          have hX := hX.ext hE
          have hPX := hPX.kp hk
          have hLA := hLA.kp hk
          have fq := fq.kp hk
          have hLV := hLV.kp hk
          have fl := fl.kp hk
          have fst := fst.kp hk
          have flq := flq.kp hk
          have n45 := n45.kp hk
          have hN49 := hN49.kp hk
          have n49 := n49.kp hk
          have n62 := n62.kp hk
          have hK := hK.kp hk
          have n65 : Lc ad w65 nq65 (eO 5 [.long (lI (lowA ((lowA (levS g t * cellS g t + diffS 1 g t * levD g) (levD g * cellS g t)) * lowB (-(lowA (shrN g * 1) (shrD g * cellS g t))) (lowB (shrN g * 1) (shrD g * cellS g t)) + lowA (-(lowA (shrN g * 1) (shrD g * cellS g t))) (lowB (shrN g * 1) (shrD g * cellS g t)) * (lowB (levS g t * cellS g t + diffS 1 g t * levD g) (levD g * cellS g t))) ((lowB (levS g t * cellS g t + diffS 1 g t * levD g) (levD g * cellS g t)) * lowB (-(lowA (shrN g * 1) (shrD g * cellS g t))) (lowB (shrN g * 1) (shrD g * cellS g t))))), .long (lI (lowB ((lowA (levS g t * cellS g t + diffS 1 g t * levD g) (levD g * cellS g t)) * lowB (-(lowA (shrN g * 1) (shrD g * cellS g t))) (lowB (shrN g * 1) (shrD g * cellS g t)) + lowA (-(lowA (shrN g * 1) (shrD g * cellS g t))) (lowB (shrN g * 1) (shrD g * cellS g t)) * (lowB (levS g t * cellS g t + diffS 1 g t * levD g) (levD g * cellS g t))) ((lowB (levS g t * cellS g t + diffS 1 g t * levD g) (levD g * cellS g t)) * lowB (-(lowA (shrN g * 1) (shrD g * cellS g t))) (lowB (shrN g * 1) (shrD g * cellS g t)))))]) := Lc.new hX_65 hn65 hi65
          have n65 : Lc ad w65 nq65 (frO (levS g (foS g t)) (levD g)) := by
            have h9 := n65
            rw [hn4.1, hn4.2, (low_and hp3 hp4 hLD.1 (lev_eq ho i7_1.1 i7_1.2 hfo hpos hs (by omega))).1, (low_and hp3 hp4 hLD.1 (lev_eq ho i7_1.1 i7_1.2 hfo hpos hs (by omega))).2] at h9
            exact h9
          refine wa_aast (k := 8) (f := Bl 4) X hH hS (have h9 := (XW.c54 hX); h9) rfl (wa_any X hH n65.2 rfl) (by omega) (by omega) (by omega) dX2_levelsFrom_68 (fun w68 H locs ew hH hS => ?_)
          have hk : Kp ad w65 w68 := Kp.set (i := 54) (by omega) ew
          have hX := hX.sB (i := 54) (4) (x := fupR (Bl 4) (foS g t) (some nq65)) (by unfold oB; omega) ew
          have hPX := hPX.kp hk
          have hLA := hLA.kp hk
          have fq := fq.kp hk
          have hLV := hLV.kp hk
          have fl := fl.kp hk
          have fst := fst.kp hk
          have flq := flq.kp hk
          have n45 := n45.kp hk
          have hN49 := hN49.kp hk
          have n49 := n49.kp hk
          have n62 := n62.kp hk
          have n65 := n65.kp hk
          have hK := hK.kp hk
          clear ew
          have hLV : LV ad w68 (fupR (Bl 4) (foS g t) (some nq65)) g (fun x => U x ∨ ∃ j, j ≤ k + 1 ∧ stN (foS g) j r = x) := (hLV.put n65).mono fun x x0 x1 hV => by
            rcases hV with q | ⟨j, j1, j2⟩
            · exact Or.inl (Or.inl q)
            · rcases (show j ≤ k ∨ j = k + 1 by omega) with q | q
              · exact Or.inl (Or.inr ⟨j, q, j2⟩)
              · right; rw [← j2, q]; exact hst
          refine lv_aload_n X.x X.b dX2_levelsFrom_69 rfl (lv_at hl 2 rfl) ?_
          refine wa_get (v := .ref (ad 51)) X hH (have h9 := (XW.c24 hX); h9) wcX2 3 (by decide) q344 rfl (fun _ h9 => h9) rfl dX2_levelsFrom_70 ?_
          refine lv_aload_n X.x X.b dX2_levelsFrom_73 rfl (lv_at hl 1 rfl) ?_
          refine wa_getN (v := .int (zI (foS g t))) X hH fl.1.2 wcX11 1 (by decide) q1128 rfl (fun _ h9 => h9) rfl dX2_levelsFrom_74 ?_
          refine wa_aald (k := 6) (f := Bl 1) X hH (have h9 := (XW.c51 hX); h9) rfl rfl (by omega) (by omega) (by omega) dX2_levelsFrom_77 ?_
          refine lv_astore_nO (lv' := [(3, va_rf ((Bl 1) (foS g t))), (4, .ref q_21), (0, .ref (ad 24)), (1, .int (zI r)), (2, .ref q)]) X.x X.b dX2_levelsFrom_78 rfl hl (by decide) rfl (fun ls hl => ?_)
          refine lv_goto (tgt := 7) X.x X.b dX2_levelsFrom_79 (by decide) ?_
          refine W.widen (k := (7 * (k + 1))) (n := (14 * (k + 1))) (by omega) (by omega) ?_
          exact ih7 _ (by have h9 := lv_le hN i7_2; omega) (k + 1) (foS g t) ((Bl 1) (foS g t)) (sup (sup (sup Sl 9 (cellS g t)) 10 (diffS 0 g t)) 11 (diffS 1 g t)) (bup Bl 4 (fupR (Bl 4) (foS g t) (some nq65))) rfl (by exact hst.symm) (by omega) (by intro j h1 h2; rcases (show j ≤ k ∨ j = k + 1 by omega) with q | q; exact i7_2 j h1 q; (rw [q, hst]; omega)) (by intro j h1 h2 h3; rw [sup_n h3, sup_n h2, sup_n h1]; exact i7_3 j h1 h2 h3) (by intro j h1; rw [bup_n h1]; exact i7_4 j h1) (by rw [i7_4 1 (by decide)]) _ _ _ _ hX hK hPX hLA fq hLV hH hS (lv_sub hl [0, 2, 3, 4] rfl)
  refine W.widen (k := (7 * 0)) (n := (14 * 0)) (by omega) (by omega) ?_
  exact L7 _ 0 r ((B 1) r) S B rfl (by rfl) (by omega) (by intro j h1 h2; omega) (by intro j _ _ _; rfl) (by intro j _; rfl) (by rfl) _ _ _ _ hX hK hPX hLA fq hLV hH hS (lv_sub hl [0, 1, 2, 3] rfl)

/-! JOINER: findLevels -/
set_option maxRecDepth 100000 in
theorem mX2_findLevels {lL : Launch} {G : wa_G} {ad : Nat → Nat} {w : wa_W} {S : Nat → Int} {A : Nat → Int → Int} {B : Nat → Int → Option Nat} {P : Nat → Option Nat} (hX : XW G ad w S A B P) {g : Int → Int} (hPX : PX G ad w (B 10) g) (hCH : CH ad w S A B g) (ho : okS g) (hm : S 30 = g 3) : Met lL yX2_findLevels (ws_ yX2_findLevels cX2_findLevels 5 (none : Option FieldType)) ({ frames := 8, cells := 700, slots := 1400, locals := 3162 } : Room) (wa_P G w [.ref (ad 24)]) (wa_Qv G fun u => ∃ (S2 : Nat → Int) (B2 : Nat → Int → Option Nat) (P2 : Nat → Option Nat), XW G ad u S2 A B2 P2 ∧ Kp ad w u ∧ ((∀ j, j ≠ 9 → j ≠ 10 → j ≠ 11 → S2 j = S j) ∧ (∀ j, j ≠ 4 → B2 j = B j) ∧ ∀ j, j ≠ 0 → P2 j = P j) ∧ (LV ad u (B2 4) g (fun _ => True)) ∧ (RS ad u P2 g)) 700 1400 (wa_A G) := by
  refine wa_met (by decide) (by exact Nat.le_of_ble_eq_true rfl) ?_
  intro pP eE sS mM aA bB mT cC ls X hl hH
  have hS : va_S (wa_A G) sS.heap sS.heap [] := va_S.rf
  have hl : lv_has ls 5 [(0, .ref (ad 24))] := hl
  have hK : Kp ad w w := Kp.rf
  have hPX_0 := hPX
  have hCH_0 := hCH
  have hmany := ho.many
  obtain ⟨hLA, hah, h5, hC6, h7, h8⟩ := id hCH
  have hLA_0 := hLA
  refine lv_aload_n X.x X.b dX2_findLevels_0 rfl (lv_at hl 0 rfl) ?_
  have hX_1 := hX
  have hK_1 := hK
  have hPX_1 := hPX
  have hCH_1 := hCH
  have hLA_1 := hLA
  refine wa_new X hH hS wcX5 rfl q315 q317 q122 [.long (lI 0), .long (lI 0)] (by decide) (Nat.le_of_ble_eq_true rfl) (Nat.le_of_ble_eq_true rfl) dX2_findLevels_1 (fun nq1 w1 H hn1 ew hH hS => ?_)
  have hk0 := Ext.new hn1 ew
  have hX := hX.ext hk0
  have hk := hk0.k (ad := ad)
  have hPX := hPX.kp hk
  have hCH := hCH.kp hk
  have hLA := hLA.kp hk
  have hK := hK.kp hk
  have hN1 := hk
  have n1 : Lc ad w1 nq1 (eO 5 [.long (lI 0), .long (lI 0)]) := Lc.new hX_1 hn1 (by rw [ew]; exact wup_s)
  clear ew hk0
  refine lv_dup X.x X.b dX2_findLevels_4 rfl ?_
  refine wa_cv hS (wa_rI (rest := [.ref nq1, .ref (ad 24)]) X hH (mX5_init  (show At w1 nq1 (eO 5 [.long (lI 0), .long (lI 0)]) from n1.2)  ) (cwI 0 X.t (lw_meth q320) rfl rfl rfl (X.t _ q122) (X.t _ q318) (X.t _ q319) rfl hdX5_init.2 ⟨Nat.le_of_ble_eq_true rfl, Nat.le_of_ble_eq_true rfl⟩) rfl rfl hl.1 rfl (Nat.le_of_ble_eq_true rfl) dX2_findLevels_5 ⟨Nat.le_of_ble_eq_true rfl, Nat.le_of_ble_eq_true rfl⟩) (fun w5 H locs hp hH hS => ?_)
  obtain ⟨hi, hO2⟩ := hp
  have hOq := hO2
  have hk := Kp.init hn1 hN1 hOq
  have hX := hX_1.init hn1 hX hOq
  have hPX := hPX_1.kp hk
  have hCH := hCH_1.kp hk
  have hLA := hLA_1.kp hk
  have hK := hK_1.kp hk
  have hN1 := hk
  have n1 : Lc ad w5 nq1 (eO 5 [.long (lI 0), .long (lI 1)]) := Lc.new hX_1 hn1 hi
  refine wa_put X hH hS (have h9 := (XW.c24 hX); h9) wcX2 11 (by decide) q360 rfl (fun _ h9 => h9) rfl rfl rfl (Nat.le_of_ble_eq_true rfl) dX2_findLevels_8 (fun w8 H locs ew hH hS => ?_)
  have hk : Kp ad w5 w8 := Kp.set (i := 24) (by omega) ew
  have hX := hX.sP (i := 24) (0) (x := some nq1) (by unfold oP; omega) ew
  have hPX := hPX.kp hk
  have hCH := hCH.kp hk
  have hLA := hLA.kp hk
  have hN1 := hN1.kp hk
  have n1 := n1.kp hk
  have hK := hK.kp hk
  clear ew
  have hL0 : L0 ad w8 (B 4) 0 := fun x h0 h1 => by omega
  refine wz_iconst X.x X.b dX2_findLevels_11 ?_
  refine lv_istore_n (lv' := [(1, .int (zI 0)), (0, .ref (ad 24))]) X.x X.b dX2_findLevels_12 rfl hl (by decide) rfl (fun ls hl => ?_)
  have L13 : ∀ (nn : Nat) (k : Int) (b4 : Int → Option Nat), ((g 3 - k).toNat) = nn → (0 ≤ k ∧ k ≤ g 3) → ∀ (wl13 : wa_W) (H : Heap) (locs : List Loc) (ls : Array Slot), XW G ad wl13 S A (bup B 4 b4) (pup P 0 (some nq1)) → Kp ad w wl13 → PX G ad wl13 (B 10) g → CH ad wl13 S A B g → LA ad wl13 (B 1) (foS g) g → Kp ad w wl13 → Lc ad wl13 nq1 (eO 5 [.long (lI 0), .long (lI 1)]) → L0 ad wl13 b4 k → wa_H G wl13 H → va_S (wa_A G) sS.heap H locs → lv_has ls 5 [(1, .int (zI k)), (0, .ref (ad 24))] → W pP lL eE ({ frames := 8, cells := 700, slots := 1400, locals := 3162 } : Room) sS mM aA bB mT cC H locs (1 + Int.toNat k) (2 + 2 * Int.toNat k) (MQ bB (wa_Qv G fun u => ∃ (S2 : Nat → Int) (B2 : Nat → Int → Option Nat) (P2 : Nat → Option Nat), XW G ad u S2 A B2 P2 ∧ Kp ad w u ∧ ((∀ j, j ≠ 9 → j ≠ 10 → j ≠ 11 → S2 j = S j) ∧ (∀ j, j ≠ 4 → B2 j = B j) ∧ ∀ j, j ≠ 0 → P2 j = P j) ∧ (LV ad u (B2 4) g (fun _ => True)) ∧ (RS ad u P2 g)) aA sS 700 1400 (wa_A G)) (F0 mM 13 ls []) := by
    intro nn
    induction nn using Nat.strongRecOn with
    | ind nn ih13 =>
      intro k b4 hmu13 i13_0 wl13 H locs ls hX hK hPX hCH hLA hN1 n1 hL0 hH hS hl
      refine lv_iload_n X.x X.b dX2_findLevels_13 rfl (lv_at hl 0 rfl) ?_
      refine lv_aload_n X.x X.b dX2_findLevels_14 rfl (lv_at hl 1 rfl) ?_
      refine wa_get (v := .ref (ad 0)) X hH (have h9 := (XW.c24 hX); h9) wcX2 15 (by decide) q368 rfl (fun _ h9 => h9) rfl dX2_findLevels_15 ?_
      refine wa_getN (v := .ref (ad 1)) X hH (have h9 := (XW.c0 hX); h9) wcX0 0 (by decide) q416 rfl (fun _ h9 => h9) rfl dX2_findLevels_18 ?_
      refine wa_getN (v := .int (zI (S 30))) X hH (have h9 := (XW.c1 hX); h9) wcX1 3 (by decide) q171 rfl (fun _ h9 => h9) rfl dX2_findLevels_21 ?_
      refine wz_icmp_ge (tgt := 46) X.x X.b dX2_findLevels_24 (by decide) ⟨by omega, by omega⟩ ⟨by omega, by omega⟩ (fun c24 => ?_) (fun c24 => ?_)
      · have hX_46 := hX
        have hK_46 := hK
        have hPX_46 := hPX
        have hCH_46 := hCH
        have hLA_46 := hLA
        have hN1_46 := hN1
        have n1_46 := n1
        have hL0_46 := hL0
        refine wa_new X hH hS wcX5 rfl q315 q317 q122 [.long (lI 0), .long (lI 0)] (by decide) (by dsimp only; omega) (by dsimp only; omega) dX2_findLevels_46 (fun nq46 w46 H hn46 ew hH hS => ?_)
        have hk0 := Ext.new hn46 ew
        have hX := hX.ext hk0
        have hk := hk0.k (ad := ad)
        have hPX := hPX.kp hk
        have hCH := hCH.kp hk
        have hLA := hLA.kp hk
        have hN1 := hN1.kp hk
        have n1 := n1.kp hk
        have hL0 := hL0.kp hk
        have hK := hK.kp hk
        have hN46 := hk
        have n46 : Lc ad w46 nq46 (eO 5 [.long (lI 0), .long (lI 0)]) := Lc.new hX_46 hn46 (by rw [ew]; exact wup_s)
        clear ew hk0
        refine lv_dup X.x X.b dX2_findLevels_49 rfl ?_
        refine wa_cv hS (wa_rI (rest := [.ref nq46]) X hH (mX5_init  (show At w46 nq46 (eO 5 [.long (lI 0), .long (lI 0)]) from n46.2)  ) (cwI 0 X.t (lw_meth q320) rfl rfl rfl (X.t _ q122) (X.t _ q318) (X.t _ q319) rfl hdX5_init.2 ⟨Nat.le_of_ble_eq_true rfl, Nat.le_of_ble_eq_true rfl⟩) rfl rfl hl.1 rfl (Nat.le_of_ble_eq_true rfl) dX2_findLevels_50 ⟨by dsimp only; omega, by dsimp only; omega⟩) (fun w50 H locs hp hH hS => ?_)
        obtain ⟨hi, hO2⟩ := hp
        have hOq := hO2
        have hk := Kp.init hn46 hN46 hOq
        have hX := hX_46.init hn46 hX hOq
        have hPX := hPX_46.kp hk
        have hCH := hCH_46.kp hk
        have hLA := hLA_46.kp hk
        have hN1 := hN1_46.kp hk
        have n1 := n1_46.kp hk
        have hL0 := hL0_46.kp hk
        have hK := hK_46.kp hk
        have hN46 := hk
        have n46 : Lc ad w50 nq46 (eO 5 [.long (lI 0), .long (lI 1)]) := Lc.new hX_46 hn46 hi
        refine lv_astore_n (lv' := [(1, .ref nq46), (0, .ref (ad 24))]) X.x X.b dX2_findLevels_53 rfl hl (by decide) rfl (fun ls hl => ?_)
        refine lv_aload_n X.x X.b dX2_findLevels_54 rfl (lv_at hl 1 rfl) ?_
        refine wa_get (v := .int (zI (S 6))) X hH (have h9 := (XW.c24 hX); h9) wcX2 6 (by decide) q350 rfl (fun _ h9 => h9) rfl dX2_findLevels_55 ?_
        refine wz_ifeq (tgt := 150) X.x X.b dX2_findLevels_58 (by decide) ⟨by omega, by omega⟩ (fun c58 => ?_) (fun c58 => ?_)
        · refine wz_iconst X.x X.b dX2_findLevels_150 ?_
          refine lv_istore_n (lv' := [(2, .int (zI 0)), (1, .ref nq46), (0, .ref (ad 24))]) X.x X.b dX2_findLevels_151 rfl hl (by decide) rfl (fun ls hl => ?_)
          have hcl : ¬ closedS g := (hC6.resolve_left (fun q => by omega)).1
          have fs : Lc ad w50 nq46 (frO (shrN g) (shrD g)) := by unfold shrN shrD; rw [if_neg hcl, if_neg hcl, fr0 rfl (by decide)]; exact n46
          have hRS : RS ad w50 (pup P 0 (some nq1)) g := ⟨_, rfl, by unfold restA restB; rw [if_neg hcl, if_neg hcl]; exact n1⟩
          have hLV : LV ad w50 (b4) g (fun x => stopS g x ∨ ∃ r, 0 ≤ r ∧ r < 0 ∧ stopS g r ∧ onW (foS g) r x) := (L0.lv ho (show L0 ad w50 (b4) (g 3) from (show k = g 3 by omega) ▸ hL0)).mono fun x x0 x1 hV => hV.elim id (fun ⟨r, r0, r1, _⟩ => by omega)
          have L152 : ∀ (nn : Nat) (k2 : Int) (qs : Nat) (Sk : Nat → Int) (Bl : Nat → Int → Option Nat) (Pl : Nat → Option Nat), ((g 3 - k2).toNat) = nn → (0 ≤ k2 ∧ k2 ≤ g 3) → (∀ j, j ≠ 9 → j ≠ 10 → j ≠ 11 → Sk j = S j) → (∀ j, j ≠ 4 → Bl j = B j) → (∀ j, j ≠ 0 → Pl j = P j) → ∀ (wl152 : wa_W) (H : Heap) (locs : List Loc) (ls : Array Slot), XW G ad wl152 Sk A Bl Pl → Kp ad w wl152 → PX G ad wl152 (B 10) g → LA ad wl152 (B 1) (foS g) g → Lc ad wl152 qs (eO 5 [.long (lI (lowA (shrN g) (shrD g))), .long (lI (lowB (shrN g) (shrD g)))]) → RS ad wl152 Pl g → LV ad wl152 (Bl 4) g (fun x => stopS g x ∨ ∃ r, 0 ≤ r ∧ r < k2 ∧ stopS g r ∧ onW (foS g) r x) → wa_H G wl152 H → va_S (wa_A G) sS.heap H locs → lv_has ls 5 [(2, .int (zI k2)), (1, .ref qs), (0, .ref (ad 24))] → W pP lL eE ({ frames := 8, cells := 700, slots := 1400, locals := 3162 } : Room) sS mM aA bB mT cC H locs (80 + 98 * Int.toNat k2) (160 + 196 * Int.toNat k2) (MQ bB (wa_Qv G fun u => ∃ (S2 : Nat → Int) (B2 : Nat → Int → Option Nat) (P2 : Nat → Option Nat), XW G ad u S2 A B2 P2 ∧ Kp ad w u ∧ ((∀ j, j ≠ 9 → j ≠ 10 → j ≠ 11 → S2 j = S j) ∧ (∀ j, j ≠ 4 → B2 j = B j) ∧ ∀ j, j ≠ 0 → P2 j = P j) ∧ (LV ad u (B2 4) g (fun _ => True)) ∧ (RS ad u P2 g)) aA sS 700 1400 (wa_A G)) (F0 mM 152 ls []) := by
            intro nn
            induction nn using Nat.strongRecOn with
            | ind nn ih152 =>
              intro k2 qs Sk Bl Pl hmu152 i152_0 i152_1 i152_2 i152_3 wl152 H locs ls hX hK hPX hLA fs hRS hLV hH hS hl
              refine lv_iload_n X.x X.b dX2_findLevels_152 rfl (lv_at hl 0 rfl) ?_
              refine lv_aload_n X.x X.b dX2_findLevels_153 rfl (lv_at hl 2 rfl) ?_
              refine wa_get (v := .ref (ad 0)) X hH (have h9 := (XW.c24 hX); h9) wcX2 15 (by decide) q368 rfl (fun _ h9 => h9) rfl dX2_findLevels_154 ?_
              refine wa_getN (v := .ref (ad 1)) X hH (have h9 := (XW.c0 hX); h9) wcX0 0 (by decide) q416 rfl (fun _ h9 => h9) rfl dX2_findLevels_157 ?_
              refine wa_getN (v := .int (zI (Sk 30))) X hH (have h9 := (XW.c1 hX); h9) wcX1 3 (by decide) q171 rfl (fun _ h9 => h9) rfl dX2_findLevels_160 ?_
              refine wz_is (z := g 3) (by exact (i152_1 30 (by decide) (by decide) (by decide)).trans hm) ?_
              refine wz_icmp_ge (tgt := 202) X.x X.b dX2_findLevels_163 (by decide) ⟨by omega, by omega⟩ ⟨by omega, by omega⟩ (fun c163 => ?_) (fun c163 => ?_)
              · refine W.widen (k := 700) (n := 1400) (by first | exact Nat.le_of_ble_eq_true rfl | omega) (by first | exact Nat.le_of_ble_eq_true rfl | omega) ?_
                exact wa_vret X hH hS dX2_findLevels_202 ⟨_, _, _, hX, hK, ⟨i152_1, i152_2, i152_3⟩, (hLV.mono fun x x0 x1 _ => by
      obtain ⟨r, r0, r1, r2, r3⟩ := lv_root ho x0 x1
      exact Or.inr ⟨r, r0, by omega, r2, r3⟩), hRS⟩
              · have e6 : Sk 6 = S 6 := i152_1 6 (by decide) (by decide) (by decide)
                refine lv_aload_n X.x X.b dX2_findLevels_166 rfl (lv_at hl 2 rfl) ?_
                refine wa_get (v := .int (zI (Sk 6))) X hH (have h9 := (XW.c24 hX); h9) wcX2 6 (by decide) q350 rfl (fun _ h9 => h9) rfl dX2_findLevels_167 ?_
                refine wz_ifeq (tgt := 180) X.x X.b dX2_findLevels_170 (by decide) ⟨by omega, by omega⟩ (fun c170 => ?_) (fun c170 => ?_)
                · have hak := hah k2 (by omega) (by omega)
                  have hai := ahS_in ho (a := k2) (by omega) (by omega)
                  refine lv_aload_n X.x X.b dX2_findLevels_180 rfl (lv_at hl 2 rfl) ?_
                  refine wa_get (v := .ref (ad 52)) X hH (have h9 := (XW.c24 hX); h9) wcX2 4 (by decide) q346 rfl (fun _ h9 => h9) rfl dX2_findLevels_181 ?_
                  refine lv_iload_n X.x X.b dX2_findLevels_184 rfl (lv_at hl 0 rfl) ?_
                  refine wa_iald (f := A 3) X hH (have h9 := (XW.c52 hX); h9) (by omega) (by omega) (by omega) dX2_findLevels_185 ?_
                  refine wz_iconst X.x X.b dX2_findLevels_186 ?_
                  refine wz_icmp_ne (tgt := 196) X.x X.b dX2_findLevels_187 (by decide) ⟨by omega, by omega⟩ ⟨by omega, by omega⟩ (fun c187 => ?_) (fun c187 => ?_)
                  · have hLV : LV ad wl152 (Bl 4) g (fun x => stopS g x ∨ ∃ r, 0 ≤ r ∧ r < k2 + 1 ∧ stopS g r ∧ onW (foS g) r x) := hLV.mono fun x x0 x1 hV => by
                      rcases hV with q | ⟨r, r0, r1, r2, r3⟩
                      · exact Or.inl q
                      · rcases (show r < k2 ∨ r = k2 by omega) with q | q
                        · exact Or.inr ⟨r, r0, q, r2, r3⟩
                        · exfalso
                          rw [q] at r2
                          rcases r2 with ⟨z1, z2⟩ | ⟨z1, z2⟩
                          · first | exact c173 z2 | exact (hC6.resolve_right (fun q => q.1 z1)).2.symm.trans_ne (by decide) (by omega) | (have := (hC6.resolve_right (fun q => q.1 z1)).2; omega)
                          · first | (rw [← hah k2 (by omega) (by omega)] at z2; exact c187 z2) | (have := (hC6.resolve_left (fun q => z1 q.1)).2; omega)
                    refine wz_iinc (k := 0) (lv' := [(2, .int (zI (k2 + 1))), (1, .ref qs), (0, .ref (ad 24))]) X.x X.b dX2_findLevels_196 hl rfl (by decide) rfl (fun ls hl => ?_)
                    refine lv_goto (tgt := 152) X.x X.b dX2_findLevels_199 (by decide) ?_
                    refine W.widen (k := (80 + 98 * Int.toNat (k2 + 1))) (n := (160 + 196 * Int.toNat (k2 + 1))) (by omega) (by omega) ?_
                    exact ih152 _ (by omega) (k2 + 1) qs Sk Bl Pl rfl (by omega) (by exact i152_1) (by exact i152_2) (by exact i152_3) _ _ _ _ hX hK hPX hLA fs hRS hLV hH hS (lv_sub hl [0, 1, 2] rfl)
                  · refine lv_aload_n X.x X.b dX2_findLevels_190 rfl (lv_at hl 2 rfl) ?_
                    refine lv_iload_n X.x X.b dX2_findLevels_191 rfl (lv_at hl 0 rfl) ?_
                    refine lv_aload_n X.x X.b dX2_findLevels_192 rfl (lv_at hl 1 rfl) ?_
                    refine wa_cv hS (wa_rV (rest := []) X hH (mX2_levelsFrom hX (by rw [i152_2 10 (by decide)]; exact hPX) (by rw [i152_2 1 (by decide)]; exact hLA) fs hLV k2 (by omega) (fun z => by first | omega | (have := (hC6.resolve_right (fun q => q.1 z)).2; omega)) (Or.inl (by first | exact Or.inl ⟨(hC6.resolve_right (fun q => by omega)).1, by omega⟩ | exact Or.inr ⟨(hC6.resolve_left (fun q => by omega)).1, by rw [← hah k2 (by omega) (by omega)]; omega⟩)) ho) (cwV 2 X.t (lw_V q1324 q1326 qs35 q112 q1327) rfl rfl rfl hdX2_levelsFrom ⟨Nat.le_of_ble_eq_true rfl, Nat.le_of_ble_eq_true rfl⟩) rfl (have h9 := (XW.c24 hX); h9) rfl rfl hl.1 rfl (Nat.le_of_ble_eq_true rfl) dX2_findLevels_193 ⟨by dsimp only; omega, by dsimp only; omega⟩) (fun w193 H locs hp hH hS => ?_)
                    obtain ⟨S2_193, B2_193, hX, hk, hx193_0, hx193_1⟩ := hp
                    have hPX := hPX.kp hk
                    have hLA := hLA.kp hk
                    have fs := fs.kp hk
                    have hRS := hRS.kp hk
                    have hLV := hLV.kp hk
                    have hK := hK.kp hk
                    have hLV : LV ad w193 (B2_193 4) g (fun x => stopS g x ∨ ∃ r, 0 ≤ r ∧ r < k2 + 1 ∧ stopS g r ∧ onW (foS g) r x) := hx193_1.mono fun x x0 x1 hV => by
                      rcases hV with q | ⟨r, r0, r1, r2, r3⟩
                      · exact Or.inl (Or.inl q)
                      · rcases (show r < k2 ∨ r = k2 by omega) with q | q
                        · exact Or.inl (Or.inr ⟨r, r0, q, r2, r3⟩)
                        · exact Or.inr (q ▸ r3)
                    refine wz_iinc (k := 0) (lv' := [(2, .int (zI (k2 + 1))), (1, .ref qs), (0, .ref (ad 24))]) X.x X.b dX2_findLevels_196 hl rfl (by decide) rfl (fun ls hl => ?_)
                    refine lv_goto (tgt := 152) X.x X.b dX2_findLevels_199 (by decide) ?_
                    refine W.widen (k := (80 + 98 * Int.toNat (k2 + 1))) (n := (160 + 196 * Int.toNat (k2 + 1))) (by omega) (by omega) ?_
                    exact ih152 _ (by omega) (k2 + 1) qs S2_193 B2_193 Pl rfl (by omega) (by intro j h1 h2 h3; exact (hx193_0.1 j h1 h2 h3).trans (i152_1 j h1 h2 h3)) (by intro j h1; exact (hx193_0.2 j h1).trans (i152_2 j h1)) (by exact i152_3) _ _ _ _ hX hK hPX hLA fs hRS hLV hH hS (lv_sub hl [0, 1, 2] rfl)
                · refine lv_iload_n X.x X.b dX2_findLevels_173 rfl (lv_at hl 0 rfl) ?_
                  refine wz_ifne (tgt := 196) X.x X.b dX2_findLevels_174 (by decide) ⟨by omega, by omega⟩ (fun c174 => ?_) (fun c174 => ?_)
                  · have hLV : LV ad wl152 (Bl 4) g (fun x => stopS g x ∨ ∃ r, 0 ≤ r ∧ r < k2 + 1 ∧ stopS g r ∧ onW (foS g) r x) := hLV.mono fun x x0 x1 hV => by
                      rcases hV with q | ⟨r, r0, r1, r2, r3⟩
                      · exact Or.inl q
                      · rcases (show r < k2 ∨ r = k2 by omega) with q | q
                        · exact Or.inr ⟨r, r0, q, r2, r3⟩
                        · exfalso
                          rw [q] at r2
                          rcases r2 with ⟨z1, z2⟩ | ⟨z1, z2⟩
                          · first | exact c173 z2 | exact (hC6.resolve_right (fun q => q.1 z1)).2.symm.trans_ne (by decide) (by omega) | (have := (hC6.resolve_right (fun q => q.1 z1)).2; omega)
                          · first | (rw [← hah k2 (by omega) (by omega)] at z2; exact c187 z2) | (have := (hC6.resolve_left (fun q => z1 q.1)).2; omega)
                    refine wz_iinc (k := 0) (lv' := [(2, .int (zI (k2 + 1))), (1, .ref qs), (0, .ref (ad 24))]) X.x X.b dX2_findLevels_196 hl rfl (by decide) rfl (fun ls hl => ?_)
                    refine lv_goto (tgt := 152) X.x X.b dX2_findLevels_199 (by decide) ?_
                    refine W.widen (k := (80 + 98 * Int.toNat (k2 + 1))) (n := (160 + 196 * Int.toNat (k2 + 1))) (by omega) (by omega) ?_
                    exact ih152 _ (by omega) (k2 + 1) qs Sk Bl Pl rfl (by omega) (by exact i152_1) (by exact i152_2) (by exact i152_3) _ _ _ _ hX hK hPX hLA fs hRS hLV hH hS (lv_sub hl [0, 1, 2] rfl)
                  · refine lv_goto (tgt := 190) X.x X.b dX2_findLevels_177 (by decide) ?_
                    refine lv_aload_n X.x X.b dX2_findLevels_190 rfl (lv_at hl 2 rfl) ?_
                    refine lv_iload_n X.x X.b dX2_findLevels_191 rfl (lv_at hl 0 rfl) ?_
                    refine lv_aload_n X.x X.b dX2_findLevels_192 rfl (lv_at hl 1 rfl) ?_
                    refine wa_cv hS (wa_rV (rest := []) X hH (mX2_levelsFrom hX (by rw [i152_2 10 (by decide)]; exact hPX) (by rw [i152_2 1 (by decide)]; exact hLA) fs hLV k2 (by omega) (fun z => by first | omega | (have := (hC6.resolve_right (fun q => q.1 z)).2; omega)) (Or.inl (by first | exact Or.inl ⟨(hC6.resolve_right (fun q => by omega)).1, by omega⟩ | exact Or.inr ⟨(hC6.resolve_left (fun q => by omega)).1, by rw [← hah k2 (by omega) (by omega)]; omega⟩)) ho) (cwV 2 X.t (lw_V q1324 q1326 qs35 q112 q1327) rfl rfl rfl hdX2_levelsFrom ⟨Nat.le_of_ble_eq_true rfl, Nat.le_of_ble_eq_true rfl⟩) rfl (have h9 := (XW.c24 hX); h9) rfl rfl hl.1 rfl (Nat.le_of_ble_eq_true rfl) dX2_findLevels_193 ⟨by dsimp only; omega, by dsimp only; omega⟩) (fun w193 H locs hp hH hS => ?_)
                    obtain ⟨S2_193, B2_193, hX, hk, hx193_0, hx193_1⟩ := hp
                    have hPX := hPX.kp hk
                    have hLA := hLA.kp hk
                    have fs := fs.kp hk
                    have hRS := hRS.kp hk
                    have hLV := hLV.kp hk
                    have hK := hK.kp hk
                    have hLV : LV ad w193 (B2_193 4) g (fun x => stopS g x ∨ ∃ r, 0 ≤ r ∧ r < k2 + 1 ∧ stopS g r ∧ onW (foS g) r x) := hx193_1.mono fun x x0 x1 hV => by
                      rcases hV with q | ⟨r, r0, r1, r2, r3⟩
                      · exact Or.inl (Or.inl q)
                      · rcases (show r < k2 ∨ r = k2 by omega) with q | q
                        · exact Or.inl (Or.inr ⟨r, r0, q, r2, r3⟩)
                        · exact Or.inr (q ▸ r3)
                    refine wz_iinc (k := 0) (lv' := [(2, .int (zI (k2 + 1))), (1, .ref qs), (0, .ref (ad 24))]) X.x X.b dX2_findLevels_196 hl rfl (by decide) rfl (fun ls hl => ?_)
                    refine lv_goto (tgt := 152) X.x X.b dX2_findLevels_199 (by decide) ?_
                    refine W.widen (k := (80 + 98 * Int.toNat (k2 + 1))) (n := (160 + 196 * Int.toNat (k2 + 1))) (by omega) (by omega) ?_
                    exact ih152 _ (by omega) (k2 + 1) qs S2_193 B2_193 Pl rfl (by omega) (by intro j h1 h2 h3; exact (hx193_0.1 j h1 h2 h3).trans (i152_1 j h1 h2 h3)) (by intro j h1; exact (hx193_0.2 j h1).trans (i152_2 j h1)) (by exact i152_3) _ _ _ _ hX hK hPX hLA fs hRS hLV hH hS (lv_sub hl [0, 1, 2] rfl)
          refine W.widen (k := (80 + 98 * Int.toNat 0)) (n := (160 + 196 * Int.toNat 0)) (by omega) (by omega) ?_
          exact L152 _ 0 nq46 S (bup B 4 b4) (pup P 0 (some nq1)) rfl (by omega) (by intro j _ _ _; rfl) (by intro j hj; exact bup_n hj) (by intro j hj; first | exact pup_n hj | (rw [pup_n hj, pup_n hj])) _ _ _ _ hX hK hPX hLA fs hRS hLV hH hS (lv_sub hl [0, 1, 2] rfl)
        · have hcl : closedS g := (hC6.resolve_right (fun q => c58 q.2)).1
          have hall := fun a h0 h1 => closed_all hcl (a := a) h0 h1
          have hshW := shW_in ho hcl
          have hlfD := lfD_in ho hcl
          have hX_61 := hX
          have hK_61 := hK
          have hPX_61 := hPX
          have hCH_61 := hCH
          have hLA_61 := hLA
          have hN1_61 := hN1
          have n1_61 := n1
          have hL0_61 := hL0
          have hN46_61 := hN46
          have n46_61 := n46
          refine wa_new X hH hS wcX5 rfl q315 q317 q122 [.long (lI 0), .long (lI 0)] (by decide) (by dsimp only; omega) (by dsimp only; omega) dX2_findLevels_61 (fun nq61 w61 H hn61 ew hH hS => ?_)
          have hk0 := Ext.new hn61 ew
          have hX := hX.ext hk0
          have hk := hk0.k (ad := ad)
          have hPX := hPX.kp hk
          have hCH := hCH.kp hk
          have hLA := hLA.kp hk
          have hN1 := hN1.kp hk
          have n1 := n1.kp hk
          have hL0 := hL0.kp hk
          have hN46 := hN46.kp hk
          have n46 := n46.kp hk
          have hK := hK.kp hk
          have hN61 := hk
          have n61 : Lc ad w61 nq61 (eO 5 [.long (lI 0), .long (lI 0)]) := Lc.new hX_61 hn61 (by rw [ew]; exact wup_s)
          clear ew hk0
          refine lv_dup X.x X.b dX2_findLevels_64 rfl ?_
          refine wa_cv hS (wa_rI (rest := [.ref nq61]) X hH (mX5_init  (show At w61 nq61 (eO 5 [.long (lI 0), .long (lI 0)]) from n61.2)  ) (cwI 0 X.t (lw_meth q320) rfl rfl rfl (X.t _ q122) (X.t _ q318) (X.t _ q319) rfl hdX5_init.2 ⟨Nat.le_of_ble_eq_true rfl, Nat.le_of_ble_eq_true rfl⟩) rfl rfl hl.1 rfl (Nat.le_of_ble_eq_true rfl) dX2_findLevels_65 ⟨by dsimp only; omega, by dsimp only; omega⟩) (fun w65 H locs hp hH hS => ?_)
          obtain ⟨hi, hO2⟩ := hp
          have hOq := hO2
          have hk := Kp.init hn61 hN61 hOq
          have hX := hX_61.init hn61 hX hOq
          have hPX := hPX_61.kp hk
          have hCH := hCH_61.kp hk
          have hLA := hLA_61.kp hk
          have hN1 := hN1_61.kp hk
          have n1 := n1_61.kp hk
          have hL0 := hL0_61.kp hk
          have hN46 := hN46_61.kp hk
          have n46 := n46_61.kp hk
          have hK := hK_61.kp hk
          have hN61 := hk
          have n61 : Lc ad w65 nq61 (eO 5 [.long (lI 0), .long (lI 1)]) := Lc.new hX_61 hn61 hi
          refine lv_astore_n (lv' := [(2, .ref nq61), (1, .ref nq46), (0, .ref (ad 24))]) X.x X.b dX2_findLevels_68 rfl hl (by decide) rfl (fun ls hl => ?_)
          have hX_69 := hX
          have hK_69 := hK
          have hPX_69 := hPX
          have hCH_69 := hCH
          have hLA_69 := hLA
          have hN1_69 := hN1
          have n1_69 := n1
          have hL0_69 := hL0
          have hN46_69 := hN46
          have n46_69 := n46
          have hN61_69 := hN61
          have n61_69 := n61
          refine wa_new X hH hS wcX5 rfl q315 q317 q122 [.long (lI 0), .long (lI 0)] (by decide) (by dsimp only; omega) (by dsimp only; omega) dX2_findLevels_69 (fun nq69 w69 H hn69 ew hH hS => ?_)
          have hk0 := Ext.new hn69 ew
          have hX := hX.ext hk0
          have hk := hk0.k (ad := ad)
          have hPX := hPX.kp hk
          have hCH := hCH.kp hk
          have hLA := hLA.kp hk
          have hN1 := hN1.kp hk
          have n1 := n1.kp hk
          have hL0 := hL0.kp hk
          have hN46 := hN46.kp hk
          have n46 := n46.kp hk
          have hN61 := hN61.kp hk
          have n61 := n61.kp hk
          have hK := hK.kp hk
          have hN69 := hk
          have n69 : Lc ad w69 nq69 (eO 5 [.long (lI 0), .long (lI 0)]) := Lc.new hX_69 hn69 (by rw [ew]; exact wup_s)
          clear ew hk0
          refine lv_dup X.x X.b dX2_findLevels_72 rfl ?_
          refine wa_cv hS (wa_rI (rest := [.ref nq69]) X hH (mX5_init  (show At w69 nq69 (eO 5 [.long (lI 0), .long (lI 0)]) from n69.2)  ) (cwI 0 X.t (lw_meth q320) rfl rfl rfl (X.t _ q122) (X.t _ q318) (X.t _ q319) rfl hdX5_init.2 ⟨Nat.le_of_ble_eq_true rfl, Nat.le_of_ble_eq_true rfl⟩) rfl rfl hl.1 rfl (Nat.le_of_ble_eq_true rfl) dX2_findLevels_73 ⟨by dsimp only; omega, by dsimp only; omega⟩) (fun w73 H locs hp hH hS => ?_)
          obtain ⟨hi, hO2⟩ := hp
          have hOq := hO2
          have hk := Kp.init hn69 hN69 hOq
          have hX := hX_69.init hn69 hX hOq
          have hPX := hPX_69.kp hk
          have hCH := hCH_69.kp hk
          have hLA := hLA_69.kp hk
          have hN1 := hN1_69.kp hk
          have n1 := n1_69.kp hk
          have hL0 := hL0_69.kp hk
          have hN46 := hN46_69.kp hk
          have n46 := n46_69.kp hk
          have hN61 := hN61_69.kp hk
          have n61 := n61_69.kp hk
          have hK := hK_69.kp hk
          have hN69 := hk
          have n69 : Lc ad w73 nq69 (eO 5 [.long (lI 0), .long (lI 1)]) := Lc.new hX_69 hn69 hi
          refine lv_astore_n (lv' := [(3, .ref nq69), (2, .ref nq61), (1, .ref nq46), (0, .ref (ad 24))]) X.x X.b dX2_findLevels_76 rfl hl (by decide) rfl (fun ls hl => ?_)
          have e0 : frO (lfN g (0 : Int).toNat) 5040 = eO 5 [.long (lI 0), .long (lI 1)] := fr0 rfl (by decide)
          have e1 : frO (shN g (0 : Int).toNat) 5040 = eO 5 [.long (lI 0), .long (lI 1)] := fr0 rfl (by decide)
          have fa : Lc ad w73 nq61 (frO (lfN g (0 : Int).toNat) 5040) := e0 ▸ n61
          have fz : Lc ad w73 nq69 (frO (shN g (0 : Int).toNat) 5040) := e1 ▸ n69
          refine wz_iconst X.x X.b dX2_findLevels_77 ?_
          refine lv_istore (lv' := [(4, .int (zI 0)), (3, .ref nq69), (2, .ref nq61), (1, .ref nq46), (0, .ref (ad 24))]) X.x X.b dX2_findLevels_78 hl (by decide) rfl (fun ls hl => ?_)
          have L80 : ∀ (nn : Nat) (i : Int) (qa : Nat) (qz : Nat) (Sl : Nat → Int), ((g 3 - i).toNat) = nn → (0 ≤ i ∧ i ≤ g 3) → (∀ j, j ≠ 9 → j ≠ 10 → j ≠ 11 → Sl j = S j) → ∀ (wl80 : wa_W) (H : Heap) (locs : List Loc) (ls : Array Slot), XW G ad wl80 Sl A (bup B 4 b4) (pup P 0 (some nq1)) → Kp ad w wl80 → PX G ad wl80 (B 10) g → CH ad wl80 S A B g → LA ad wl80 (B 1) (foS g) g → Kp ad w wl80 → Lc ad wl80 nq1 (eO 5 [.long (lI 0), .long (lI 1)]) → L0 ad wl80 b4 k → Kp ad wl13 wl80 → Lc ad wl80 nq46 (eO 5 [.long (lI 0), .long (lI 1)]) → Kp ad w50 wl80 → Lc ad wl80 nq61 (eO 5 [.long (lI 0), .long (lI 1)]) → Kp ad w65 wl80 → Lc ad wl80 nq69 (eO 5 [.long (lI 0), .long (lI 1)]) → Lc ad wl80 qa (eO 5 [.long (lI (lowA (lfN g i.toNat) (5040))), .long (lI (lowB (lfN g i.toNat) (5040)))]) → Lc ad wl80 qz (eO 5 [.long (lI (lowA (shN g i.toNat) (5040))), .long (lI (lowB (shN g i.toNat) (5040)))]) → wa_H G wl80 H → va_S (wa_A G) sS.heap H locs → lv_has ls 5 [(4, .int (zI i)), (2, .ref qa), (3, .ref qz), (1, .ref nq46), (0, .ref (ad 24))] → W pP lL eE ({ frames := 8, cells := 700, slots := 1400, locals := 3162 } : Room) sS mM aA bB mT cC H locs (20 + 5 * Int.toNat i) (40 + 10 * Int.toNat i) (MQ bB (wa_Qv G fun u => ∃ (S2 : Nat → Int) (B2 : Nat → Int → Option Nat) (P2 : Nat → Option Nat), XW G ad u S2 A B2 P2 ∧ Kp ad w u ∧ ((∀ j, j ≠ 9 → j ≠ 10 → j ≠ 11 → S2 j = S j) ∧ (∀ j, j ≠ 4 → B2 j = B j) ∧ ∀ j, j ≠ 0 → P2 j = P j) ∧ (LV ad u (B2 4) g (fun _ => True)) ∧ (RS ad u P2 g)) aA sS 700 1400 (wa_A G)) (F0 mM 80 ls []) := by
            intro nn
            induction nn using Nat.strongRecOn with
            | ind nn ih80 =>
              intro i qa qz Sl hmu80 i80_0 i80_1 wl80 H locs ls hX hK hPX hCH hLA hN1 n1 hL0 hN46 n46 hN61 n61 hN69 n69 fa fz hH hS hl
              refine lv_iload X.x X.b dX2_findLevels_80 (lv_at hl 0 rfl) ?_
              refine lv_aload_n X.x X.b dX2_findLevels_82 rfl (lv_at hl 4 rfl) ?_
              refine wa_get (v := .ref (ad 0)) X hH (have h9 := (XW.c24 hX); h9) wcX2 15 (by decide) q368 rfl (fun _ h9 => h9) rfl dX2_findLevels_83 ?_
              refine wa_getN (v := .ref (ad 1)) X hH (have h9 := (XW.c0 hX); h9) wcX0 0 (by decide) q416 rfl (fun _ h9 => h9) rfl dX2_findLevels_86 ?_
              refine wa_getN (v := .int (zI (Sl 30))) X hH (have h9 := (XW.c1 hX); h9) wcX1 3 (by decide) q171 rfl (fun _ h9 => h9) rfl dX2_findLevels_89 ?_
              refine wz_is (z := g 3) (by exact (i80_1 30 (by decide) (by decide) (by decide)).trans hm) ?_
              refine wz_icmp_ge (tgt := 135) X.x X.b dX2_findLevels_92 (by decide) ⟨by omega, by omega⟩ ⟨by omega, by omega⟩ (fun c92 => ?_) (fun c92 => ?_)
              · have ei : i = g 3 := by omega
                rw [ei] at fa fz
                have hl1 := fr_in (n := lfN g (g 3).toNat) (d := 5040) (B := 7000000) (C := 5040) ⟨by decide, by decide⟩ (by have h9 := hlfD; unfold lfD at h9; omega) (by decide)
                have hl3 := fr_in (n := shN g (g 3).toNat) (d := 5040) (B := 7000000) (C := 5040) ⟨by decide, by decide⟩ (by have h9 := hshW; unfold shW at h9; omega) (by decide)
                have hzp : 0 < lowA (shN g (g 3).toNat) 5040 := lowA_pos (by have h9 := hshW; unfold shW at h9; omega) (by decide)
                have hl5 := fr_in (n := lfD g) (d := shW g) (B := 6773760) (C := 3360) ⟨by omega, by omega⟩ hlfD (by decide)
                refine lv_aload_n X.x X.b dX2_findLevels_135 rfl (lv_at hl 1 rfl) ?_
                refine lv_aload_n X.x X.b dX2_findLevels_136 rfl (lv_at hl 2 rfl) ?_
                have hX_137 := hX
                have hK_137 := hK
                have hPX_137 := hPX
                have hCH_137 := hCH
                have hLA_137 := hLA
                have hN1_137 := hN1
                have n1_137 := n1
                have hL0_137 := hL0
                have hN46_137 := hN46
                have n46_137 := n46
                have hN61_137 := hN61
                have n61_137 := n61
                have hN69_137 := hN69
                have n69_137 := n69
                have fa_137 := fa
                have fz_137 := fz
                refine wa_cr hS (wa_rV (rest := []) X hH (mX5_by  (show At wl80 qa (eO 5 [.long (lI (lowA (lfN g (g 3).toNat) (5040))), .long (lI (lowB (lfN g (g 3).toNat) (5040)))]) from fa.2) (show At wl80 qz (eO 5 [.long (lI (lowA (shN g (g 3).toNat) (5040))), .long (lI (lowB (shN g (g 3).toNat) (5040)))]) from fz.2)  (mulf_in (a2 := lowB (shN g (g 3).toNat) 5040) (A2 := 5040) (b2 := 1) (B2 := 1) hl1 ⟨⟨by omega, by omega⟩, by decide, by decide⟩ (by decide) (by decide) (by decide) (by decide)).1 (mulf_in (a1 := 0) (A1 := 0) (a2 := 0) (A2 := 0) (b1 := lowB (lfN g (g 3).toNat) 5040) (B1 := 5040) (b2 := lowA (shN g (g 3).toNat) 5040) (B2 := 7000000) ⟨⟨by decide, by decide⟩, hl1.2⟩ ⟨⟨by decide, by decide⟩, hzp, hl3.1.2⟩ (by decide) (by decide) (by decide) (by decide)).2) (cwV 1 X.t (lw_V q1316 q1317 q1318 q122 q1319) rfl rfl rfl hdX5_by ⟨Nat.le_of_ble_eq_true rfl, Nat.le_of_ble_eq_true rfl⟩) rfl fa.2 rfl rfl hl.1 rfl (Nat.le_of_ble_eq_true rfl) dX2_findLevels_137 ⟨by dsimp only; omega, by dsimp only; omega⟩) (fun r137 w137 H locs hp hH hS => ?_)
                obtain ⟨nq137, rfl, hn137, hi137, hE⟩ := hp
                have hk := hE.k (ad := ad)
                have hX := hX.ext hE
                have hPX := hPX.kp hk
                have hCH := hCH.kp hk
                have hLA := hLA.kp hk
                have hN1 := hN1.kp hk
                have n1 := n1.kp hk
                have hL0 := hL0.kp hk
                have hN46 := hN46.kp hk
                have n46 := n46.kp hk
                have hN61 := hN61.kp hk
                have n61 := n61.kp hk
                have hN69 := hN69.kp hk
                have n69 := n69.kp hk
                have fa := fa.kp hk
                have fz := fz.kp hk
                have hK := hK.kp hk
                have n137 : Lc ad w137 nq137 (eO 5 [.long (lI (lowA ((lowA (lfN g (g 3).toNat) (5040)) * (lowB (shN g (g 3).toNat) (5040))) ((lowB (lfN g (g 3).toNat) (5040)) * (lowA (shN g (g 3).toNat) (5040))))), .long (lI (lowB ((lowA (lfN g (g 3).toNat) (5040)) * (lowB (shN g (g 3).toNat) (5040))) ((lowB (lfN g (g 3).toNat) (5040)) * (lowA (shN g (g 3).toNat) (5040)))))]) := Lc.new hX_137 hn137 hi137
                have n137 : Lc ad w137 nq137 (frO (lfD g) (shW g)) := by
                  have h9 := n137
                  rw [(low_by (show (0 : Int) < 5040 by decide) (show (0 : Int) < 5040 by decide) (show 0 < shN g (g 3).toNat by have h9 := hshW; unfold shW at h9; omega) (show 0 < shW g by omega) (show (lfN g (g 3).toNat * 5040) * shW g = lfD g * (5040 * shN g (g 3).toNat) by unfold lfD shW; exact Int.mul_assoc _ _ _)).1, (low_by (show (0 : Int) < 5040 by decide) (show (0 : Int) < 5040 by decide) (show 0 < shN g (g 3).toNat by have h9 := hshW; unfold shW at h9; omega) (show 0 < shW g by omega) (show (lfN g (g 3).toNat * 5040) * shW g = lfD g * (5040 * shN g (g 3).toNat) by unfold lfD shW; exact Int.mul_assoc _ _ _)).2] at h9
                  exact h9
                refine lv_astore_n (lv' := [(1, .ref nq137), (4, .int (zI i)), (2, .ref qa), (3, .ref qz), (0, .ref (ad 24))]) X.x X.b dX2_findLevels_140 rfl hl (by decide) rfl (fun ls hl => ?_)
                refine lv_aload_n X.x X.b dX2_findLevels_141 rfl (lv_at hl 4 rfl) ?_
                refine lv_aload_n X.x X.b dX2_findLevels_142 rfl (lv_at hl 2 rfl) ?_
                refine lv_aload_n X.x X.b dX2_findLevels_143 rfl (lv_at hl 0 rfl) ?_
                have hX_144 := hX
                have hK_144 := hK
                have hPX_144 := hPX
                have hCH_144 := hCH
                have hLA_144 := hLA
                have hN1_144 := hN1
                have n1_144 := n1
                have hL0_144 := hL0
                have hN46_144 := hN46
                have n46_144 := n46
                have hN61_144 := hN61
                have n61_144 := n61
                have hN69_144 := hN69
                have n69_144 := n69
                have fa_144 := fa
                have fz_144 := fz
                have n137_144 := n137
                refine wa_cr hS (wa_rV (rest := [.ref (ad 24)]) X hH (mX5_times  (show At w137 qa (eO 5 [.long (lI (lowA (lfN g (g 3).toNat) (5040))), .long (lI (lowB (lfN g (g 3).toNat) (5040)))]) from fa.2) (show At w137 nq137 (eO 5 [.long (lI (lowA (lfD g) (shW g))), .long (lI (lowB (lfD g) (shW g)))]) from n137.2)  (mulf_in hl1 hl5 (by decide) (by decide) (by decide) (by decide)).1 (mulf_in hl1 hl5 (by decide) (by decide) (by decide) (by decide)).2) (cwV 1 X.t (lw_V q1320 q1321 q1322 q122 q1323) rfl rfl rfl hdX5_times ⟨Nat.le_of_ble_eq_true rfl, Nat.le_of_ble_eq_true rfl⟩) rfl fa.2 rfl rfl hl.1 rfl (Nat.le_of_ble_eq_true rfl) dX2_findLevels_144 ⟨by dsimp only; omega, by dsimp only; omega⟩) (fun r144 w144 H locs hp hH hS => ?_)
                obtain ⟨nq144, rfl, hn144, hi144, hE⟩ := hp
                have hk := hE.k (ad := ad)
                have hX := hX.ext hE
                have hPX := hPX.kp hk
                have hCH := hCH.kp hk
                have hLA := hLA.kp hk
                have hN1 := hN1.kp hk
                have n1 := n1.kp hk
                have hL0 := hL0.kp hk
                have hN46 := hN46.kp hk
                have n46 := n46.kp hk
                have hN61 := hN61.kp hk
                have n61 := n61.kp hk
                have hN69 := hN69.kp hk
                have n69 := n69.kp hk
                have fa := fa.kp hk
                have fz := fz.kp hk
                have n137 := n137.kp hk
                have hK := hK.kp hk
                have n144 : Lc ad w144 nq144 (eO 5 [.long (lI (lowA ((lowA (lfN g (g 3).toNat) (5040)) * (lowA (lfD g) (shW g))) ((lowB (lfN g (g 3).toNat) (5040)) * (lowB (lfD g) (shW g))))), .long (lI (lowB ((lowA (lfN g (g 3).toNat) (5040)) * (lowA (lfD g) (shW g))) ((lowB (lfN g (g 3).toNat) (5040)) * (lowB (lfD g) (shW g)))))]) := Lc.new hX_144 hn144 hi144
                have n144 : Lc ad w144 nq144 (frO (lfD g * lfD g) (5040 * shW g)) := by
                  have h9 := n144
                  rw [(low_mul (show (0 : Int) < 5040 by decide) (show 0 < shW g by omega) (show 0 < 5040 * shW g by omega) (show (lfN g (g 3).toNat * lfD g) * (5040 * shW g) = (lfD g * lfD g) * (5040 * shW g) from rfl)).1, (low_mul (show (0 : Int) < 5040 by decide) (show 0 < shW g by omega) (show 0 < 5040 * shW g by omega) (show (lfN g (g 3).toNat * lfD g) * (5040 * shW g) = (lfD g * lfD g) * (5040 * shW g) from rfl)).2] at h9
                  exact h9
                refine wa_put X hH hS (have h9 := (XW.c24 hX); h9) wcX2 11 (by decide) q360 rfl (fun _ h9 => h9) rfl rfl rfl (Nat.le_of_ble_eq_true rfl) dX2_findLevels_147 (fun w147 H locs ew hH hS => ?_)
                have hk : Kp ad w144 w147 := Kp.set (i := 24) (by omega) ew
                have hX := hX.sP (i := 24) (0) (x := some nq144) (by unfold oP; omega) ew
                have hX := XW.cP (P2 := pup P 0 (some nq144)) hX (by funext j; simp only [pup]; by_cases h0 : j = 0; (subst h0; first | rfl | simp); simp only [h0, ↓reduceIte])
                have hPX := hPX.kp hk
                have hCH := hCH.kp hk
                have hLA := hLA.kp hk
                have hN1 := hN1.kp hk
                have n1 := n1.kp hk
                have hL0 := hL0.kp hk
                have hN46 := hN46.kp hk
                have n46 := n46.kp hk
                have hN61 := hN61.kp hk
                have n61 := n61.kp hk
                have hN69 := hN69.kp hk
                have n69 := n69.kp hk
                have fa := fa.kp hk
                have fz := fz.kp hk
                have n137 := n137.kp hk
                have n144 := n144.kp hk
                have hK := hK.kp hk
                clear ew
                refine wz_iconst X.x X.b dX2_findLevels_150 ?_
                refine lv_istore_n (lv' := [(2, .int (zI 0)), (1, .ref nq137), (4, .int (zI i)), (3, .ref qz), (0, .ref (ad 24))]) X.x X.b dX2_findLevels_151 rfl hl (by decide) rfl (fun ls hl => ?_)
                have fs : Lc ad w147 nq137 (frO (shrN g) (shrD g)) := by unfold shrN shrD; rw [if_pos hcl, if_pos hcl]; exact n137
                have hRS : RS ad w147 (pup P 0 (some nq144)) g := ⟨_, rfl, by unfold restA restB; rw [if_pos hcl, if_pos hcl]; exact n144⟩
                have hLV : LV ad w147 (b4) g (fun x => stopS g x ∨ ∃ r, 0 ≤ r ∧ r < 0 ∧ stopS g r ∧ onW (foS g) r x) := (L0.lv ho (show L0 ad w147 (b4) (g 3) from (show k = g 3 by omega) ▸ hL0)).mono fun x x0 x1 hV => hV.elim id (fun ⟨r, r0, r1, _⟩ => by omega)
                have L152 : ∀ (nn : Nat) (k2 : Int) (qs : Nat) (Sk : Nat → Int) (Bl : Nat → Int → Option Nat) (Pl : Nat → Option Nat), ((g 3 - k2).toNat) = nn → (0 ≤ k2 ∧ k2 ≤ g 3) → (∀ j, j ≠ 9 → j ≠ 10 → j ≠ 11 → Sk j = S j) → (∀ j, j ≠ 4 → Bl j = B j) → (∀ j, j ≠ 0 → Pl j = P j) → ∀ (wl152 : wa_W) (H : Heap) (locs : List Loc) (ls : Array Slot), XW G ad wl152 Sk A Bl Pl → Kp ad w wl152 → PX G ad wl152 (B 10) g → LA ad wl152 (B 1) (foS g) g → Lc ad wl152 qs (eO 5 [.long (lI (lowA (shrN g) (shrD g))), .long (lI (lowB (shrN g) (shrD g)))]) → RS ad wl152 Pl g → LV ad wl152 (Bl 4) g (fun x => stopS g x ∨ ∃ r, 0 ≤ r ∧ r < k2 ∧ stopS g r ∧ onW (foS g) r x) → wa_H G wl152 H → va_S (wa_A G) sS.heap H locs → lv_has ls 5 [(2, .int (zI k2)), (1, .ref qs), (0, .ref (ad 24))] → W pP lL eE ({ frames := 8, cells := 700, slots := 1400, locals := 3162 } : Room) sS mM aA bB mT cC H locs (80 + 98 * Int.toNat k2) (160 + 196 * Int.toNat k2) (MQ bB (wa_Qv G fun u => ∃ (S2 : Nat → Int) (B2 : Nat → Int → Option Nat) (P2 : Nat → Option Nat), XW G ad u S2 A B2 P2 ∧ Kp ad w u ∧ ((∀ j, j ≠ 9 → j ≠ 10 → j ≠ 11 → S2 j = S j) ∧ (∀ j, j ≠ 4 → B2 j = B j) ∧ ∀ j, j ≠ 0 → P2 j = P j) ∧ (LV ad u (B2 4) g (fun _ => True)) ∧ (RS ad u P2 g)) aA sS 700 1400 (wa_A G)) (F0 mM 152 ls []) := by
                  intro nn
                  induction nn using Nat.strongRecOn with
                  | ind nn ih152 =>
                    intro k2 qs Sk Bl Pl hmu152 i152_0 i152_1 i152_2 i152_3 wl152 H locs ls hX hK hPX hLA fs hRS hLV hH hS hl
                    refine lv_iload_n X.x X.b dX2_findLevels_152 rfl (lv_at hl 0 rfl) ?_
                    refine lv_aload_n X.x X.b dX2_findLevels_153 rfl (lv_at hl 2 rfl) ?_
                    refine wa_get (v := .ref (ad 0)) X hH (have h9 := (XW.c24 hX); h9) wcX2 15 (by decide) q368 rfl (fun _ h9 => h9) rfl dX2_findLevels_154 ?_
                    refine wa_getN (v := .ref (ad 1)) X hH (have h9 := (XW.c0 hX); h9) wcX0 0 (by decide) q416 rfl (fun _ h9 => h9) rfl dX2_findLevels_157 ?_
                    refine wa_getN (v := .int (zI (Sk 30))) X hH (have h9 := (XW.c1 hX); h9) wcX1 3 (by decide) q171 rfl (fun _ h9 => h9) rfl dX2_findLevels_160 ?_
                    refine wz_is (z := g 3) (by exact (i152_1 30 (by decide) (by decide) (by decide)).trans hm) ?_
                    refine wz_icmp_ge (tgt := 202) X.x X.b dX2_findLevels_163 (by decide) ⟨by omega, by omega⟩ ⟨by omega, by omega⟩ (fun c163 => ?_) (fun c163 => ?_)
                    · refine W.widen (k := 700) (n := 1400) (by first | exact Nat.le_of_ble_eq_true rfl | omega) (by first | exact Nat.le_of_ble_eq_true rfl | omega) ?_
                      exact wa_vret X hH hS dX2_findLevels_202 ⟨_, _, _, hX, hK, ⟨i152_1, i152_2, i152_3⟩, (hLV.mono fun x x0 x1 _ => by
      obtain ⟨r, r0, r1, r2, r3⟩ := lv_root ho x0 x1
      exact Or.inr ⟨r, r0, by omega, r2, r3⟩), hRS⟩
                    · have e6 : Sk 6 = S 6 := i152_1 6 (by decide) (by decide) (by decide)
                      refine lv_aload_n X.x X.b dX2_findLevels_166 rfl (lv_at hl 2 rfl) ?_
                      refine wa_get (v := .int (zI (Sk 6))) X hH (have h9 := (XW.c24 hX); h9) wcX2 6 (by decide) q350 rfl (fun _ h9 => h9) rfl dX2_findLevels_167 ?_
                      refine wz_ifeq (tgt := 180) X.x X.b dX2_findLevels_170 (by decide) ⟨by omega, by omega⟩ (fun c170 => ?_) (fun c170 => ?_)
                      · have hak := hah k2 (by omega) (by omega)
                        have hai := ahS_in ho (a := k2) (by omega) (by omega)
                        refine lv_aload_n X.x X.b dX2_findLevels_180 rfl (lv_at hl 2 rfl) ?_
                        refine wa_get (v := .ref (ad 52)) X hH (have h9 := (XW.c24 hX); h9) wcX2 4 (by decide) q346 rfl (fun _ h9 => h9) rfl dX2_findLevels_181 ?_
                        refine lv_iload_n X.x X.b dX2_findLevels_184 rfl (lv_at hl 0 rfl) ?_
                        refine wa_iald (f := A 3) X hH (have h9 := (XW.c52 hX); h9) (by omega) (by omega) (by omega) dX2_findLevels_185 ?_
                        refine wz_iconst X.x X.b dX2_findLevels_186 ?_
                        refine wz_icmp_ne (tgt := 196) X.x X.b dX2_findLevels_187 (by decide) ⟨by omega, by omega⟩ ⟨by omega, by omega⟩ (fun c187 => ?_) (fun c187 => ?_)
                        · have hLV : LV ad wl152 (Bl 4) g (fun x => stopS g x ∨ ∃ r, 0 ≤ r ∧ r < k2 + 1 ∧ stopS g r ∧ onW (foS g) r x) := hLV.mono fun x x0 x1 hV => by
                            rcases hV with q | ⟨r, r0, r1, r2, r3⟩
                            · exact Or.inl q
                            · rcases (show r < k2 ∨ r = k2 by omega) with q | q
                              · exact Or.inr ⟨r, r0, q, r2, r3⟩
                              · exfalso
                                rw [q] at r2
                                rcases r2 with ⟨z1, z2⟩ | ⟨z1, z2⟩
                                · first | exact c173 z2 | exact (hC6.resolve_right (fun q => q.1 z1)).2.symm.trans_ne (by decide) (by omega) | (have := (hC6.resolve_right (fun q => q.1 z1)).2; omega)
                                · first | (rw [← hah k2 (by omega) (by omega)] at z2; exact c187 z2) | (have := (hC6.resolve_left (fun q => z1 q.1)).2; omega)
                          refine wz_iinc (k := 0) (lv' := [(2, .int (zI (k2 + 1))), (1, .ref qs), (0, .ref (ad 24))]) X.x X.b dX2_findLevels_196 hl rfl (by decide) rfl (fun ls hl => ?_)
                          refine lv_goto (tgt := 152) X.x X.b dX2_findLevels_199 (by decide) ?_
                          refine W.widen (k := (80 + 98 * Int.toNat (k2 + 1))) (n := (160 + 196 * Int.toNat (k2 + 1))) (by omega) (by omega) ?_
                          exact ih152 _ (by omega) (k2 + 1) qs Sk Bl Pl rfl (by omega) (by exact i152_1) (by exact i152_2) (by exact i152_3) _ _ _ _ hX hK hPX hLA fs hRS hLV hH hS (lv_sub hl [0, 1, 2] rfl)
                        · refine lv_aload_n X.x X.b dX2_findLevels_190 rfl (lv_at hl 2 rfl) ?_
                          refine lv_iload_n X.x X.b dX2_findLevels_191 rfl (lv_at hl 0 rfl) ?_
                          refine lv_aload_n X.x X.b dX2_findLevels_192 rfl (lv_at hl 1 rfl) ?_
                          refine wa_cv hS (wa_rV (rest := []) X hH (mX2_levelsFrom hX (by rw [i152_2 10 (by decide)]; exact hPX) (by rw [i152_2 1 (by decide)]; exact hLA) fs hLV k2 (by omega) (fun z => by first | omega | (have := (hC6.resolve_right (fun q => q.1 z)).2; omega)) (Or.inl (by first | exact Or.inl ⟨(hC6.resolve_right (fun q => by omega)).1, by omega⟩ | exact Or.inr ⟨(hC6.resolve_left (fun q => by omega)).1, by rw [← hah k2 (by omega) (by omega)]; omega⟩)) ho) (cwV 2 X.t (lw_V q1324 q1326 qs35 q112 q1327) rfl rfl rfl hdX2_levelsFrom ⟨Nat.le_of_ble_eq_true rfl, Nat.le_of_ble_eq_true rfl⟩) rfl (have h9 := (XW.c24 hX); h9) rfl rfl hl.1 rfl (Nat.le_of_ble_eq_true rfl) dX2_findLevels_193 ⟨by dsimp only; omega, by dsimp only; omega⟩) (fun w193 H locs hp hH hS => ?_)
                          obtain ⟨S2_193, B2_193, hX, hk, hx193_0, hx193_1⟩ := hp
                          have hPX := hPX.kp hk
                          have hLA := hLA.kp hk
                          have fs := fs.kp hk
                          have hRS := hRS.kp hk
                          have hLV := hLV.kp hk
                          have hK := hK.kp hk
                          have hLV : LV ad w193 (B2_193 4) g (fun x => stopS g x ∨ ∃ r, 0 ≤ r ∧ r < k2 + 1 ∧ stopS g r ∧ onW (foS g) r x) := hx193_1.mono fun x x0 x1 hV => by
                            rcases hV with q | ⟨r, r0, r1, r2, r3⟩
                            · exact Or.inl (Or.inl q)
                            · rcases (show r < k2 ∨ r = k2 by omega) with q | q
                              · exact Or.inl (Or.inr ⟨r, r0, q, r2, r3⟩)
                              · exact Or.inr (q ▸ r3)
                          refine wz_iinc (k := 0) (lv' := [(2, .int (zI (k2 + 1))), (1, .ref qs), (0, .ref (ad 24))]) X.x X.b dX2_findLevels_196 hl rfl (by decide) rfl (fun ls hl => ?_)
                          refine lv_goto (tgt := 152) X.x X.b dX2_findLevels_199 (by decide) ?_
                          refine W.widen (k := (80 + 98 * Int.toNat (k2 + 1))) (n := (160 + 196 * Int.toNat (k2 + 1))) (by omega) (by omega) ?_
                          exact ih152 _ (by omega) (k2 + 1) qs S2_193 B2_193 Pl rfl (by omega) (by intro j h1 h2 h3; exact (hx193_0.1 j h1 h2 h3).trans (i152_1 j h1 h2 h3)) (by intro j h1; exact (hx193_0.2 j h1).trans (i152_2 j h1)) (by exact i152_3) _ _ _ _ hX hK hPX hLA fs hRS hLV hH hS (lv_sub hl [0, 1, 2] rfl)
                      · refine lv_iload_n X.x X.b dX2_findLevels_173 rfl (lv_at hl 0 rfl) ?_
                        refine wz_ifne (tgt := 196) X.x X.b dX2_findLevels_174 (by decide) ⟨by omega, by omega⟩ (fun c174 => ?_) (fun c174 => ?_)
                        · have hLV : LV ad wl152 (Bl 4) g (fun x => stopS g x ∨ ∃ r, 0 ≤ r ∧ r < k2 + 1 ∧ stopS g r ∧ onW (foS g) r x) := hLV.mono fun x x0 x1 hV => by
                            rcases hV with q | ⟨r, r0, r1, r2, r3⟩
                            · exact Or.inl q
                            · rcases (show r < k2 ∨ r = k2 by omega) with q | q
                              · exact Or.inr ⟨r, r0, q, r2, r3⟩
                              · exfalso
                                rw [q] at r2
                                rcases r2 with ⟨z1, z2⟩ | ⟨z1, z2⟩
                                · first | exact c173 z2 | exact (hC6.resolve_right (fun q => q.1 z1)).2.symm.trans_ne (by decide) (by omega) | (have := (hC6.resolve_right (fun q => q.1 z1)).2; omega)
                                · first | (rw [← hah k2 (by omega) (by omega)] at z2; exact c187 z2) | (have := (hC6.resolve_left (fun q => z1 q.1)).2; omega)
                          refine wz_iinc (k := 0) (lv' := [(2, .int (zI (k2 + 1))), (1, .ref qs), (0, .ref (ad 24))]) X.x X.b dX2_findLevels_196 hl rfl (by decide) rfl (fun ls hl => ?_)
                          refine lv_goto (tgt := 152) X.x X.b dX2_findLevels_199 (by decide) ?_
                          refine W.widen (k := (80 + 98 * Int.toNat (k2 + 1))) (n := (160 + 196 * Int.toNat (k2 + 1))) (by omega) (by omega) ?_
                          exact ih152 _ (by omega) (k2 + 1) qs Sk Bl Pl rfl (by omega) (by exact i152_1) (by exact i152_2) (by exact i152_3) _ _ _ _ hX hK hPX hLA fs hRS hLV hH hS (lv_sub hl [0, 1, 2] rfl)
                        · refine lv_goto (tgt := 190) X.x X.b dX2_findLevels_177 (by decide) ?_
                          refine lv_aload_n X.x X.b dX2_findLevels_190 rfl (lv_at hl 2 rfl) ?_
                          refine lv_iload_n X.x X.b dX2_findLevels_191 rfl (lv_at hl 0 rfl) ?_
                          refine lv_aload_n X.x X.b dX2_findLevels_192 rfl (lv_at hl 1 rfl) ?_
                          refine wa_cv hS (wa_rV (rest := []) X hH (mX2_levelsFrom hX (by rw [i152_2 10 (by decide)]; exact hPX) (by rw [i152_2 1 (by decide)]; exact hLA) fs hLV k2 (by omega) (fun z => by first | omega | (have := (hC6.resolve_right (fun q => q.1 z)).2; omega)) (Or.inl (by first | exact Or.inl ⟨(hC6.resolve_right (fun q => by omega)).1, by omega⟩ | exact Or.inr ⟨(hC6.resolve_left (fun q => by omega)).1, by rw [← hah k2 (by omega) (by omega)]; omega⟩)) ho) (cwV 2 X.t (lw_V q1324 q1326 qs35 q112 q1327) rfl rfl rfl hdX2_levelsFrom ⟨Nat.le_of_ble_eq_true rfl, Nat.le_of_ble_eq_true rfl⟩) rfl (have h9 := (XW.c24 hX); h9) rfl rfl hl.1 rfl (Nat.le_of_ble_eq_true rfl) dX2_findLevels_193 ⟨by dsimp only; omega, by dsimp only; omega⟩) (fun w193 H locs hp hH hS => ?_)
                          obtain ⟨S2_193, B2_193, hX, hk, hx193_0, hx193_1⟩ := hp
                          have hPX := hPX.kp hk
                          have hLA := hLA.kp hk
                          have fs := fs.kp hk
                          have hRS := hRS.kp hk
                          have hLV := hLV.kp hk
                          have hK := hK.kp hk
                          have hLV : LV ad w193 (B2_193 4) g (fun x => stopS g x ∨ ∃ r, 0 ≤ r ∧ r < k2 + 1 ∧ stopS g r ∧ onW (foS g) r x) := hx193_1.mono fun x x0 x1 hV => by
                            rcases hV with q | ⟨r, r0, r1, r2, r3⟩
                            · exact Or.inl (Or.inl q)
                            · rcases (show r < k2 ∨ r = k2 by omega) with q | q
                              · exact Or.inl (Or.inr ⟨r, r0, q, r2, r3⟩)
                              · exact Or.inr (q ▸ r3)
                          refine wz_iinc (k := 0) (lv' := [(2, .int (zI (k2 + 1))), (1, .ref qs), (0, .ref (ad 24))]) X.x X.b dX2_findLevels_196 hl rfl (by decide) rfl (fun ls hl => ?_)
                          refine lv_goto (tgt := 152) X.x X.b dX2_findLevels_199 (by decide) ?_
                          refine W.widen (k := (80 + 98 * Int.toNat (k2 + 1))) (n := (160 + 196 * Int.toNat (k2 + 1))) (by omega) (by omega) ?_
                          exact ih152 _ (by omega) (k2 + 1) qs S2_193 B2_193 Pl rfl (by omega) (by intro j h1 h2 h3; exact (hx193_0.1 j h1 h2 h3).trans (i152_1 j h1 h2 h3)) (by intro j h1; exact (hx193_0.2 j h1).trans (i152_2 j h1)) (by exact i152_3) _ _ _ _ hX hK hPX hLA fs hRS hLV hH hS (lv_sub hl [0, 1, 2] rfl)
                refine W.widen (k := (80 + 98 * Int.toNat 0)) (n := (160 + 196 * Int.toNat 0)) (by omega) (by omega) ?_
                exact L152 _ 0 nq137 Sl (bup B 4 b4) (pup P 0 (some nq144)) rfl (by omega) (by exact i80_1) (by intro j hj; exact bup_n hj) (by intro j hj; first | exact pup_n hj | (rw [pup_n hj, pup_n hj])) _ _ _ _ hX hK hPX hLA fs hRS hLV hH hS (lv_sub hl [0, 1, 4] rfl)
              · obtain ⟨hq1, hq2, hq3, lk, sc, elk, fl⟩ := (hLA i (by omega) (by omega)).resolve_left (fun q => hall i (by omega) (by omega) q.1)
                have hpos := fS_pos hq3
                have hwt := cell_wt hpos
                have hci := cellS_in g i
                have hdi := diffS_in (sg := 1) ho (a := i) (by omega) (by omega) (hall i (by omega) (by omega))
                have hlN := lfN_in ho i.toNat (by omega) hall
                have hsN := shN_in g i.toNat
                have hp3 := Int.mul_pos (show (0 : Int) < 5040 by decide) (show 0 < cellS g i by omega)
                have hl1 := fr_in (n := lfN g i.toNat) (d := 5040) (B := 7000000) (C := 5040) ⟨by decide, by decide⟩ ⟨by omega, by omega⟩ (by decide)
                have hl2 := fr_in (n := diffS 1 g i) (d := cellS g i) (B := 2016) (C := 32) ⟨by omega, by omega⟩ hdi (by decide)
                have hl3 := fr_in (n := shN g i.toNat) (d := 5040) (B := 7000000) (C := 5040) ⟨by decide, by decide⟩ ⟨by omega, by omega⟩ (by decide)
                have hl4 := fr_in (n := 1) (d := cellS g i) (B := 1) (C := 32) ⟨by omega, by omega⟩ ⟨by decide, by decide⟩ (by decide)
                refine lv_aload_n X.x X.b dX2_findLevels_95 rfl (lv_at hl 1 rfl) ?_
                refine lv_aload_n X.x X.b dX2_findLevels_96 rfl (lv_at hl 4 rfl) ?_
                refine lv_aload_n X.x X.b dX2_findLevels_97 rfl (lv_at hl 4 rfl) ?_
                refine wa_get (v := .ref (ad 51)) X hH (have h9 := (XW.c24 hX); h9) wcX2 3 (by decide) q344 rfl (fun _ h9 => h9) rfl dX2_findLevels_98 ?_
                refine lv_iload X.x X.b dX2_findLevels_101 (lv_at hl 0 rfl) ?_
                refine wa_aald (k := 6) (f := B 1) X hH (have h9 := (XW.c51 hX); h9) rfl rfl (by omega) (by omega) (by omega) dX2_findLevels_103 ?_
                refine wz_opt (q := some lk) (by exact elk) ?_
                refine wa_cr hS (wa_rV (rest := [.ref qa]) X hH (mX2_step hX hPX fl  (by omega) (hall i (by omega) (by omega)) ho) (cwV 1 X.t (lw_V q1290 q1292 qs33 q112 q1293) rfl rfl rfl hdX2_step ⟨Nat.le_of_ble_eq_true rfl, Nat.le_of_ble_eq_true rfl⟩) rfl (have h9 := (XW.c24 hX); h9) rfl rfl hl.1 rfl (Nat.le_of_ble_eq_true rfl) dX2_findLevels_104 ⟨by dsimp only; omega, by dsimp only; omega⟩) (fun r104 w104 H locs hp hH hS => ?_)
                obtain ⟨q_104, hX, hk, hx104_0, hx104_1⟩ := hp
                have hPX := hPX.kp hk
                have hCH := hCH.kp hk
                have hLA := hLA.kp hk
                have hN1 := hN1.kp hk
                have n1 := n1.kp hk
                have hL0 := hL0.kp hk
                have hN46 := hN46.kp hk
                have n46 := n46.kp hk
                have hN61 := hN61.kp hk
                have n61 := n61.kp hk
                have hN69 := hN69.kp hk
                have n69 := n69.kp hk
                have fa := fa.kp hk
                have fz := fz.kp hk
                have fl := fl.kp hk
                have hK := hK.kp hk
                have fst := hx104_1
                refine wz_opt (q := some q_104) (by exact hx104_0) ?_
                have hX_107 := hX
                have hK_107 := hK
                have hPX_107 := hPX
                have hCH_107 := hCH
                have hLA_107 := hLA
                have hN1_107 := hN1
                have n1_107 := n1
                have hL0_107 := hL0
                have hN46_107 := hN46
                have n46_107 := n46
                have hN61_107 := hN61
                have n61_107 := n61
                have hN69_107 := hN69
                have n69_107 := n69
                have fa_107 := fa
                have fz_107 := fz
                have fl_107 := fl
                have fst_107 := fst
                refine wa_cr hS (wa_rV (rest := []) X hH (mX5_and  (show At w104 qa (eO 5 [.long (lI (lowA (lfN g i.toNat) (5040))), .long (lI (lowB (lfN g i.toNat) (5040)))]) from fa.2) (show At w104 q_104 (eO 5 [.long (lI (lowA (diffS 1 g i) (cellS g i))), .long (lI (lowB (diffS 1 g i) (cellS g i)))]) from fst.2)  (and_in hl1 hl2 (by decide) (by decide) (by decide) (by decide)).1 (and_in hl1 hl2 (by decide) (by decide) (by decide) (by decide)).2) (cwV 1 X.t (lw_V q1311 q1312 q1313 q122 q1314) rfl rfl rfl hdX5_and ⟨Nat.le_of_ble_eq_true rfl, Nat.le_of_ble_eq_true rfl⟩) rfl fa.2 rfl rfl hl.1 rfl (Nat.le_of_ble_eq_true rfl) dX2_findLevels_107 ⟨by dsimp only; omega, by dsimp only; omega⟩) (fun r107 w107 H locs hp hH hS => ?_)
                obtain ⟨nq107, rfl, hn107, hi107, hE⟩ := hp
                have hk := hE.k (ad := ad)
                have hX := hX.ext hE
                have hPX := hPX.kp hk
                have hCH := hCH.kp hk
                have hLA := hLA.kp hk
                have hN1 := hN1.kp hk
                have n1 := n1.kp hk
                have hL0 := hL0.kp hk
                have hN46 := hN46.kp hk
                have n46 := n46.kp hk
                have hN61 := hN61.kp hk
                have n61 := n61.kp hk
                have hN69 := hN69.kp hk
                have n69 := n69.kp hk
                have fa := fa.kp hk
                have fz := fz.kp hk
                have fl := fl.kp hk
                have fst := fst.kp hk
                have hK := hK.kp hk
                have n107 : Lc ad w107 nq107 (eO 5 [.long (lI (lowA ((lowA (lfN g i.toNat) (5040)) * (lowB (diffS 1 g i) (cellS g i)) + (lowA (diffS 1 g i) (cellS g i)) * (lowB (lfN g i.toNat) (5040))) ((lowB (lfN g i.toNat) (5040)) * (lowB (diffS 1 g i) (cellS g i))))), .long (lI (lowB ((lowA (lfN g i.toNat) (5040)) * (lowB (diffS 1 g i) (cellS g i)) + (lowA (diffS 1 g i) (cellS g i)) * (lowB (lfN g i.toNat) (5040))) ((lowB (lfN g i.toNat) (5040)) * (lowB (diffS 1 g i) (cellS g i)))))]) := Lc.new hX_107 hn107 hi107
                have n107 : Lc ad w107 nq107 (frO (lfN g (i + 1).toNat) (5040)) := by
                  have h9 := n107
                  rw [(low_and (show (0 : Int) < 5040 by decide) (show 0 < cellS g i by omega) (show (0 : Int) < 5040 by decide) (sum_step (m := lfN g (i + 1).toNat) hwt (lfN_s i80_0.1))).1, (low_and (show (0 : Int) < 5040 by decide) (show 0 < cellS g i by omega) (show (0 : Int) < 5040 by decide) (sum_step (m := lfN g (i + 1).toNat) hwt (lfN_s i80_0.1))).2] at h9
                  exact h9
                refine lv_astore_n (lv' := [(2, .ref nq107), (4, .int (zI i)), (3, .ref qz), (1, .ref nq46), (0, .ref (ad 24))]) X.x X.b dX2_findLevels_110 rfl hl (by decide) rfl (fun ls hl => ?_)
                refine lv_aload_n X.x X.b dX2_findLevels_111 rfl (lv_at hl 2 rfl) ?_
                have hX_112 := hX
                have hK_112 := hK
                have hPX_112 := hPX
                have hCH_112 := hCH
                have hLA_112 := hLA
                have hN1_112 := hN1
                have n1_112 := n1
                have hL0_112 := hL0
                have hN46_112 := hN46
                have n46_112 := n46
                have hN61_112 := hN61
                have n61_112 := n61
                have hN69_112 := hN69
                have n69_112 := n69
                have fa_112 := fa
                have fz_112 := fz
                have fl_112 := fl
                have fst_112 := fst
                have n107_112 := n107
                refine wa_new X hH hS wcX5 rfl q315 q317 q122 [.long (lI 0), .long (lI 0)] (by decide) (by dsimp only; omega) (by dsimp only; omega) dX2_findLevels_112 (fun nq112 w112 H hn112 ew hH hS => ?_)
                have hk0 := Ext.new hn112 ew
                have hX := hX.ext hk0
                have hk := hk0.k (ad := ad)
                have hPX := hPX.kp hk
                have hCH := hCH.kp hk
                have hLA := hLA.kp hk
                have hN1 := hN1.kp hk
                have n1 := n1.kp hk
                have hL0 := hL0.kp hk
                have hN46 := hN46.kp hk
                have n46 := n46.kp hk
                have hN61 := hN61.kp hk
                have n61 := n61.kp hk
                have hN69 := hN69.kp hk
                have n69 := n69.kp hk
                have fa := fa.kp hk
                have fz := fz.kp hk
                have fl := fl.kp hk
                have fst := fst.kp hk
                have n107 := n107.kp hk
                have hK := hK.kp hk
                have hN112 := hk
                have n112 : Lc ad w112 nq112 (eO 5 [.long (lI 0), .long (lI 0)]) := Lc.new hX_112 hn112 (by rw [ew]; exact wup_s)
                clear ew hk0
                refine lv_dup X.x X.b dX2_findLevels_115 rfl ?_
                refine lv_lconst (v := lI 1) X.x X.b dX2_findLevels_116 rfl ?_
                refine lv_aload_n X.x X.b dX2_findLevels_117 rfl (lv_at hl 4 rfl) ?_
                refine wa_get (v := .int (zI (cellS g i))) X hH (have h9 := (XW.c24 hX); h9) wcX2 12 (by decide) q362 rfl (fun _ h9 => h9) rfl dX2_findLevels_118 ?_
                refine wz_i2l X.x X.b dX2_findLevels_121 ⟨by omega, by omega⟩ ?_
                refine wa_cv hS (wa_rI (rest := [.ref nq112, .ref qz]) X hH (mX5_init_2  (show At w112 nq112 (eO 5 [.long (lI 0), .long (lI 0)]) from n112.2) 1 (cellS g i) (by omega) (by omega)) (cwI 2 X.t (lw_meth q323) rfl rfl rfl (X.t _ q122) (X.t _ q1310) (X.t _ q322) rfl hdX5_init_2.2 ⟨Nat.le_of_ble_eq_true rfl, Nat.le_of_ble_eq_true rfl⟩) rfl rfl hl.1 rfl (Nat.le_of_ble_eq_true rfl) dX2_findLevels_122 ⟨by dsimp only; omega, by dsimp only; omega⟩) (fun w122 H locs hp hH hS => ?_)
                obtain ⟨hi, hO2⟩ := hp
                have hOq := hO2
                have hk := Kp.init hn112 hN112 hOq
                have hX := hX_112.init hn112 hX hOq
                have hPX := hPX_112.kp hk
                have hCH := hCH_112.kp hk
                have hLA := hLA_112.kp hk
                have hN1 := hN1_112.kp hk
                have n1 := n1_112.kp hk
                have hL0 := hL0_112.kp hk
                have hN46 := hN46_112.kp hk
                have n46 := n46_112.kp hk
                have hN61 := hN61_112.kp hk
                have n61 := n61_112.kp hk
                have hN69 := hN69_112.kp hk
                have n69 := n69_112.kp hk
                have fa := fa_112.kp hk
                have fz := fz_112.kp hk
                have fl := fl_112.kp hk
                have fst := fst_112.kp hk
                have n107 := n107_112.kp hk
                have hK := hK_112.kp hk
                have hN112 := hk
                have n112 : Lc ad w122 nq112 (eO 5 [.long (lI (lowA 1 (cellS g i))), .long (lI (lowB 1 (cellS g i)))]) := Lc.new hX_112 hn112 hi
                have hX_125 := hX
                have hK_125 := hK
                have hPX_125 := hPX
                have hCH_125 := hCH
                have hLA_125 := hLA
                have hN1_125 := hN1
                have n1_125 := n1
                have hL0_125 := hL0
                have hN46_125 := hN46
                have n46_125 := n46
                have hN61_125 := hN61
                have n61_125 := n61
                have hN69_125 := hN69
                have n69_125 := n69
                have fa_125 := fa
                have fz_125 := fz
                have fl_125 := fl
                have fst_125 := fst
                have n107_125 := n107
                have hN112_125 := hN112
                have n112_125 := n112
                refine wa_cr hS (wa_rV (rest := []) X hH (mX5_and  (show At w122 qz (eO 5 [.long (lI (lowA (shN g i.toNat) (5040))), .long (lI (lowB (shN g i.toNat) (5040)))]) from fz.2) (show At w122 nq112 (eO 5 [.long (lI (lowA 1 (cellS g i))), .long (lI (lowB 1 (cellS g i)))]) from n112.2)  (and_in hl3 hl4 (by decide) (by decide) (by decide) (by decide)).1 (and_in hl3 hl4 (by decide) (by decide) (by decide) (by decide)).2) (cwV 1 X.t (lw_V q1311 q1312 q1313 q122 q1314) rfl rfl rfl hdX5_and ⟨Nat.le_of_ble_eq_true rfl, Nat.le_of_ble_eq_true rfl⟩) rfl fz.2 rfl rfl hl.1 rfl (Nat.le_of_ble_eq_true rfl) dX2_findLevels_125 ⟨by dsimp only; omega, by dsimp only; omega⟩) (fun r125 w125 H locs hp hH hS => ?_)
                obtain ⟨nq125, rfl, hn125, hi125, hE⟩ := hp
                have hk := hE.k (ad := ad)
                have hX := hX.ext hE
                have hPX := hPX.kp hk
                have hCH := hCH.kp hk
                have hLA := hLA.kp hk
                have hN1 := hN1.kp hk
                have n1 := n1.kp hk
                have hL0 := hL0.kp hk
                have hN46 := hN46.kp hk
                have n46 := n46.kp hk
                have hN61 := hN61.kp hk
                have n61 := n61.kp hk
                have hN69 := hN69.kp hk
                have n69 := n69.kp hk
                have fa := fa.kp hk
                have fz := fz.kp hk
                have fl := fl.kp hk
                have fst := fst.kp hk
                have n107 := n107.kp hk
                have hN112 := hN112.kp hk
                have n112 := n112.kp hk
                have hK := hK.kp hk
                have n125 : Lc ad w125 nq125 (eO 5 [.long (lI (lowA ((lowA (shN g i.toNat) (5040)) * (lowB 1 (cellS g i)) + (lowA 1 (cellS g i)) * (lowB (shN g i.toNat) (5040))) ((lowB (shN g i.toNat) (5040)) * (lowB 1 (cellS g i))))), .long (lI (lowB ((lowA (shN g i.toNat) (5040)) * (lowB 1 (cellS g i)) + (lowA 1 (cellS g i)) * (lowB (shN g i.toNat) (5040))) ((lowB (shN g i.toNat) (5040)) * (lowB 1 (cellS g i)))))]) := Lc.new hX_125 hn125 hi125
                have n125 : Lc ad w125 nq125 (frO (shN g (i + 1).toNat) (5040)) := by
                  have h9 := n125
                  rw [(low_and (show (0 : Int) < 5040 by decide) (show 0 < cellS g i by omega) (show (0 : Int) < 5040 by decide) (sum_step (m := shN g (i + 1).toNat) (d := 1) hwt (by rw [shN_s i80_0.1]; omega))).1, (low_and (show (0 : Int) < 5040 by decide) (show 0 < cellS g i by omega) (show (0 : Int) < 5040 by decide) (sum_step (m := shN g (i + 1).toNat) (d := 1) hwt (by rw [shN_s i80_0.1]; omega))).2] at h9
                  exact h9
                refine lv_astore_n (lv' := [(3, .ref nq125), (2, .ref nq107), (4, .int (zI i)), (1, .ref nq46), (0, .ref (ad 24))]) X.x X.b dX2_findLevels_128 rfl hl (by decide) rfl (fun ls hl => ?_)
                have fa := n107
                have fz := n125
                refine wz_iinc (k := 2) (lv' := [(4, .int (zI (i + 1))), (3, .ref nq125), (2, .ref nq107), (1, .ref nq46), (0, .ref (ad 24))]) X.x X.b dX2_findLevels_129 hl rfl (by decide) rfl (fun ls hl => ?_)
                refine lv_goto (tgt := 80) X.x X.b dX2_findLevels_132 (by decide) ?_
                refine W.widen (k := (20 + 5 * Int.toNat (i + 1))) (n := (40 + 10 * Int.toNat (i + 1))) (by omega) (by omega) ?_
                exact ih80 _ (by omega) (i + 1) nq107 nq125 (sup (sup (sup Sl 9 (cellS g i)) 10 (diffS 0 g i)) 11 (diffS 1 g i)) rfl (by omega) (by intro j h1 h2 h3; rw [sup_n h3, sup_n h2, sup_n h1]; exact i80_1 j h1 h2 h3) _ _ _ _ hX hK hPX hCH hLA hN1 n1 hL0 hN46 n46 hN61 n61 hN69 n69 fa fz hH hS (lv_sub hl [0, 2, 1, 3, 4] rfl)
          refine W.widen (k := (20 + 5 * Int.toNat 0)) (n := (40 + 10 * Int.toNat 0)) (by omega) (by omega) ?_
          exact L80 _ 0 nq61 nq69 S rfl (by omega) (by intro j _ _ _; rfl) _ _ _ _ hX hK hPX hCH hLA hN1 n1 hL0 hN46 n46 hN61 n61 hN69 n69 fa fz hH hS (lv_sub hl [0, 2, 1, 3, 4] rfl)
      · refine lv_aload_n X.x X.b dX2_findLevels_27 rfl (lv_at hl 1 rfl) ?_
        refine wa_get (v := .ref (ad 54)) X hH (have h9 := (XW.c24 hX); h9) wcX2 10 (by decide) q358 rfl (fun _ h9 => h9) rfl dX2_findLevels_28 ?_
        refine lv_iload_n X.x X.b dX2_findLevels_31 rfl (lv_at hl 0 rfl) ?_
        have hX_32 := hX
        have hK_32 := hK
        have hPX_32 := hPX
        have hCH_32 := hCH
        have hLA_32 := hLA
        have hN1_32 := hN1
        have n1_32 := n1
        have hL0_32 := hL0
        refine wa_new X hH hS wcX5 rfl q315 q317 q122 [.long (lI 0), .long (lI 0)] (by decide) (by dsimp only; omega) (by dsimp only; omega) dX2_findLevels_32 (fun nq32 w32 H hn32 ew hH hS => ?_)
        have hk0 := Ext.new hn32 ew
        have hX := hX.ext hk0
        have hk := hk0.k (ad := ad)
        have hPX := hPX.kp hk
        have hCH := hCH.kp hk
        have hLA := hLA.kp hk
        have hN1 := hN1.kp hk
        have n1 := n1.kp hk
        have hL0 := hL0.kp hk
        have hK := hK.kp hk
        have hN32 := hk
        have n32 : Lc ad w32 nq32 (eO 5 [.long (lI 0), .long (lI 0)]) := Lc.new hX_32 hn32 (by rw [ew]; exact wup_s)
        clear ew hk0
        refine lv_dup X.x X.b dX2_findLevels_35 rfl ?_
        refine wa_cv hS (wa_rI (rest := [.ref nq32, .int (zI k), .ref (ad 54)]) X hH (mX5_init  (show At w32 nq32 (eO 5 [.long (lI 0), .long (lI 0)]) from n32.2)  ) (cwI 0 X.t (lw_meth q320) rfl rfl rfl (X.t _ q122) (X.t _ q318) (X.t _ q319) rfl hdX5_init.2 ⟨Nat.le_of_ble_eq_true rfl, Nat.le_of_ble_eq_true rfl⟩) rfl rfl hl.1 rfl (Nat.le_of_ble_eq_true rfl) dX2_findLevels_36 ⟨by dsimp only; omega, by dsimp only; omega⟩) (fun w36 H locs hp hH hS => ?_)
        obtain ⟨hi, hO2⟩ := hp
        have hOq := hO2
        have hk := Kp.init hn32 hN32 hOq
        have hX := hX_32.init hn32 hX hOq
        have hPX := hPX_32.kp hk
        have hCH := hCH_32.kp hk
        have hLA := hLA_32.kp hk
        have hN1 := hN1_32.kp hk
        have n1 := n1_32.kp hk
        have hL0 := hL0_32.kp hk
        have hK := hK_32.kp hk
        have hN32 := hk
        have n32 : Lc ad w36 nq32 (eO 5 [.long (lI 0), .long (lI 1)]) := Lc.new hX_32 hn32 hi
        refine wa_aast (k := 8) (f := b4) X hH hS (have h9 := (XW.c54 hX); h9) rfl (wa_any X hH n32.2 rfl) (by omega) (by omega) (by omega) dX2_findLevels_39 (fun w39 H locs ew hH hS => ?_)
        have hk : Kp ad w36 w39 := Kp.set (i := 54) (by omega) ew
        have hX := hX.sB (i := 54) (4) (x := fupR b4 k (some nq32)) (by unfold oB; omega) ew
        have hX := XW.cB (B2 := bup B 4 (fupR b4 k (some nq32))) hX (by funext j; simp only [bup]; by_cases h0 : j = 4; (subst h0; first | rfl | simp); simp only [h0, ↓reduceIte])
        have hPX := hPX.kp hk
        have hCH := hCH.kp hk
        have hLA := hLA.kp hk
        have hN1 := hN1.kp hk
        have n1 := n1.kp hk
        have hL0 := hL0.kp hk
        have hN32 := hN32.kp hk
        have n32 := n32.kp hk
        have hK := hK.kp hk
        clear ew
        have hL0 := hL0.put n32
        refine wz_iinc (k := 0) (lv' := [(1, .int (zI (k + 1))), (0, .ref (ad 24))]) X.x X.b dX2_findLevels_40 hl rfl (by decide) rfl (fun ls hl => ?_)
        refine lv_goto (tgt := 13) X.x X.b dX2_findLevels_43 (by decide) ?_
        refine W.widen (k := (1 + Int.toNat (k + 1))) (n := (2 + 2 * Int.toNat (k + 1))) (by omega) (by omega) ?_
        exact ih13 _ (by omega) (k + 1) (fupR b4 k (some nq32)) rfl (by omega) _ _ _ _ hX hK hPX hCH hLA hN1 n1 hL0 hH hS (lv_sub hl [0, 1] rfl)
  have hX := XW.cB (B2 := bup B 4 (B 4)) hX (by funext j; simp only [bup]; by_cases h0 : j = 4; (subst h0; first | rfl | simp); simp only [h0, ↓reduceIte])
  refine W.widen (k := (1 + Int.toNat 0)) (n := (2 + 2 * Int.toNat 0)) (by omega) (by omega) ?_
  exact L13 _ 0 (B 4) rfl (by omega) _ _ _ _ hX hK hPX hCH hLA hN1 n1 hL0 hH hS (lv_sub hl [0, 1] rfl)

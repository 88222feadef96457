/-! CALLS: digest -/
set_option maxRecDepth 100000 in
theorem mX0_digest {lL : Launch} {G : wa_G} {ad : Nat → Nat} {w : wa_W} {S : Nat → Int} {A : Nat → Int → Int} {B : Nat → Int → Option Nat} {P : Nat → Option Nat} (hX : XW G ad w S A B P) {g : Int → Int} {past : Int → Int} {re : Int → Int} {tx : Int → Int} {st : Int} {ck : Int} {co : Int} {tl : Int} {qt : Int} (hI : XI G ad w S A B P g past re tx st ck co tl qt) (hre : ∀ i, 0 ≤ i → i ≤ 2 → rI (re i)) (hck : rI ck) (hco : rI co) : Met lL yX0_digest (ws_ yX0_digest cX0_digest 5 (some FieldType.long)) ({ frames := 13, cells := 5420, slots := 17440, locals := 3249 } : Room) (wa_P G w [.ref (ad 0)]) (wa_Ql G fun z u => z = digS g re st ck co tl ∧ ∃ (S2 : Nat → Int) (A2 : Nat → Int → Int) (B2 : Nat → Int → Option Nat) (P2 : Nat → Option Nat), XW G ad u S2 A2 B2 P2 ∧ Kp ad w u ∧ (XI G ad u S2 A2 B2 P2 g past re tx st ck co tl qt)) 5420 17440 (wa_A G) := by
  refine wa_met (by decide) (by exact Nat.le_of_ble_eq_true rfl) ?_
  intro pP eE sS mM aA bB mT cC ls X hl hH
  have hS : va_S (wa_A G) sS.heap sS.heap [] := va_S.rf
  have hl : lv_has ls 5 [(0, .ref (ad 0))] := hl
  have hK : Kp ad w w := Kp.rf
  have hI_0 := hI
  obtain ⟨ho, hST, hXJ, hRX⟩ := id hI
  have hmany := ho.many
  have hPX : PX G ad w (B 10) g := hST.2.2.1
  have hWY : WAYS G ad w (B 5) := hRX.1
  have hNV : NVX ad w P := hRX.2.1
  have hm : S 30 = g 3 := hST.1.2
  have hwd : S 20 = g 0 := hST.1.1
  have hg : A 10 0 = g 1 ∧ A 10 1 = g 2 := hST.2.1
  have hwide := ho.wide
  have hS0 : S 0 = st := hRX.2.2.2.1.1
  have hS1 : S 1 = qt := hRX.2.2.2.1.2.1
  have hS2 : S 2 = tl := hRX.2.2.2.1.2.2.1
  have hstr := hRX.2.2.2.2.2.2.2.1
  have htlr := hRX.2.2.2.2.2.2.2.2.1
  have hqt := hRX.2.2.2.2.2.2.2.2.2.1
  have hPX_0 := hPX
  have hWY_0 := hWY
  have hNV_0 := hNV
  have hXJ_0 := hXJ
  unfold rI at hck hco
  refine wz_ldc2 (n := 2269) X.x X.b X.own (X.t _ q1610) rfl dX0_digest_0 ?_
  refine lv_lstore_n (lv' := [(1, .long (lI 2269)), (0, .ref (ad 0))]) X.x X.b dX0_digest_3 rfl hl (by decide) rfl (fun ls hl => ?_)
  refine wz_iconst X.x X.b dX0_digest_4 ?_
  refine lv_istore_n (lv' := [(3, .int (zI 0)), (1, .long (lI 2269)), (0, .ref (ad 0))]) X.x X.b dX0_digest_5 rfl hl (by decide) rfl (fun ls hl => ?_)
  have L6 : ∀ (nn : Nat) (i : Int) (h : Int), ((9 - i).toNat) = nn → (0 ≤ i ∧ i ≤ 9) → (h = tolN g re st tl i.toNat) → ∀ (wl6 : wa_W) (H : Heap) (locs : List Loc) (ls : Array Slot), XW G ad wl6 S A B P → Kp ad w wl6 → XI G ad wl6 S A B P g past re tx st ck co tl qt → PX G ad wl6 (B 10) g → WAYS G ad wl6 (B 5) → NVX ad wl6 P → XJ G ad wl6 S A B P g → wa_H G wl6 H → va_S (wa_A G) sS.heap H locs → lv_has ls 5 [(3, .int (zI i)), (1, .long (lI h)), (0, .ref (ad 0))] → W pP lL eE ({ frames := 13, cells := 5420, slots := 17440, locals := 3249 } : Room) sS mM aA bB mT cC H locs 0 0 (MQ bB (wa_Ql G fun z u => z = digS g re st ck co tl ∧ ∃ (S2 : Nat → Int) (A2 : Nat → Int → Int) (B2 : Nat → Int → Option Nat) (P2 : Nat → Option Nat), XW G ad u S2 A2 B2 P2 ∧ Kp ad w u ∧ (XI G ad u S2 A2 B2 P2 g past re tx st ck co tl qt)) aA sS 5420 17440 (wa_A G)) (F0 mM 6 ls []) := by
    intro nn
    induction nn using Nat.strongRecOn with
    | ind nn ih6 =>
      intro i h hmu6 i6_0 i6_1 wl6 H locs ls hX hK hI hPX hWY hNV hXJ hH hS hl
      refine lv_iload_n X.x X.b dX0_digest_6 rfl (lv_at hl 0 rfl) ?_
      refine wz_bipush X.x X.b dX0_digest_7 rfl ?_
      refine wz_icmp_ge (tgt := 31) X.x X.b dX0_digest_9 (by decide) ⟨by omega, by omega⟩ ⟨by omega, by omega⟩ (fun c9 => ?_) (fun c9 => ?_)
      · have hi9 : i = 9 := by omega
        refine wz_ldc2 (n := 31) X.x X.b X.own (X.t _ q1611) rfl dX0_digest_31 ?_
        refine wz_ldc2 (n := 31) X.x X.b X.own (X.t _ q1611) rfl dX0_digest_34 ?_
        refine lv_lload_n X.x X.b dX0_digest_37 rfl (lv_at hl 1 rfl) ?_
        refine wz_lmul X.x X.b dX0_digest_38 ?_
        refine lv_aload_n X.x X.b dX0_digest_39 rfl (lv_at hl 2 rfl) ?_
        refine wa_get (v := .ref (ad 25)) X hH (have h9 := (XW.c0 hX); h9) wcX0 7 (by decide) q425 rfl (fun _ h9 => h9) rfl dX0_digest_40 ?_
        refine wz_iconst X.x X.b dX0_digest_43 ?_
        refine wa_iald (f := A 0) X hH (have h9 := (XW.c25 hX); h9) (by omega) (by omega) (by omega) dX0_digest_44 ?_
        refine wz_is (z := ck) (by exact hRX.2.2.2.2.1.1) ?_
        refine wz_i2l X.x X.b dX0_digest_45 ⟨by omega, by omega⟩ ?_
        refine wz_ladd X.x X.b dX0_digest_46 ?_
        refine wz_lmul X.x X.b dX0_digest_47 ?_
        refine lv_aload_n X.x X.b dX0_digest_48 rfl (lv_at hl 2 rfl) ?_
        refine wa_get (v := .ref (ad 25)) X hH (have h9 := (XW.c0 hX); h9) wcX0 7 (by decide) q425 rfl (fun _ h9 => h9) rfl dX0_digest_49 ?_
        refine wz_iconst X.x X.b dX0_digest_52 ?_
        refine wa_iald (f := A 0) X hH (have h9 := (XW.c25 hX); h9) (by omega) (by omega) (by omega) dX0_digest_53 ?_
        refine wz_is (z := co) (by exact hRX.2.2.2.2.1.2) ?_
        refine wz_i2l X.x X.b dX0_digest_54 ⟨by omega, by omega⟩ ?_
        refine wz_ladd X.x X.b dX0_digest_55 ?_
        refine lv_lstore_n (lv' := [(1, .long (lI ((31 * ((31 * h) + ck)) + co))), (3, .int (zI i)), (0, .ref (ad 0))]) X.x X.b dX0_digest_56 rfl hl (by decide) rfl (fun ls hl => ?_)
        refine wz_iconst X.x X.b dX0_digest_57 ?_
        refine lv_istore_n (lv' := [(3, .int (zI 0)), (1, .long (lI ((31 * ((31 * h) + ck)) + co))), (0, .ref (ad 0))]) X.x X.b dX0_digest_58 rfl hl (by decide) rfl (fun ls hl => ?_)
        have L59 : ∀ (nn : Nat) (k : Int) (h : Int) (o : Nat) (Sl : Nat → Int) (Al : Nat → Int → Int) (Bl : Nat → Int → Option Nat) (Pl : Nat → Option Nat), ((g 3 - k).toNat) = nn → (0 ≤ k ∧ k ≤ g 3) → (h = picN g (31 * (31 * tolN g re st tl 9 + ck) + co) k.toNat) → ((o = 0 ∧ k = 0) ∨ (o = 1 ∧ Sl 4 = 0)) → ∀ (wl59 : wa_W) (H : Heap) (locs : List Loc) (ls : Array Slot), XW G ad wl59 Sl Al Bl Pl → Kp ad w wl59 → XI G ad wl59 Sl Al Bl Pl g past re tx st ck co tl qt → wa_H G wl59 H → va_S (wa_A G) sS.heap H locs → lv_has ls 5 [(3, .int (zI k)), (1, .long (lI h)), (0, .ref (ad 0))] → W pP lL eE ({ frames := 13, cells := 5420, slots := 17440, locals := 3249 } : Room) sS mM aA bB mT cC H locs (5400 * o + Int.toNat k) (17400 * o + 2 * Int.toNat k) (MQ bB (wa_Ql G fun z u => z = digS g re st ck co tl ∧ ∃ (S2 : Nat → Int) (A2 : Nat → Int → Int) (B2 : Nat → Int → Option Nat) (P2 : Nat → Option Nat), XW G ad u S2 A2 B2 P2 ∧ Kp ad w u ∧ (XI G ad u S2 A2 B2 P2 g past re tx st ck co tl qt)) aA sS 5420 17440 (wa_A G)) (F0 mM 59 ls []) := by
          intro nn
          induction nn using Nat.strongRecOn with
          | ind nn ih59 =>
            intro k h o Sl Al Bl Pl hmu59 i59_0 i59_1 i59_2 wl59 H locs ls hX hK hI hH hS hl
            refine lv_iload_n X.x X.b dX0_digest_59 rfl (lv_at hl 0 rfl) ?_
            obtain ⟨ho, hST, hXJ, hRX⟩ := id hI
            have hmany := ho.many
            have hPX : PX G ad wl59 (Bl 10) g := hST.2.2.1
            have hWY : WAYS G ad wl59 (Bl 5) := hRX.1
            have hNV : NVX ad wl59 Pl := hRX.2.1
            have hm : Sl 30 = g 3 := hST.1.2
            have hwd : Sl 20 = g 0 := hST.1.1
            have hg : Al 10 0 = g 1 ∧ Al 10 1 = g 2 := hST.2.1
            have hwide := ho.wide
            have hS0 : Sl 0 = st := hRX.2.2.2.1.1
            have hS1 : Sl 1 = qt := hRX.2.2.2.1.2.1
            have hS2 : Sl 2 = tl := hRX.2.2.2.1.2.2.1
            have hstr := hRX.2.2.2.2.2.2.2.1
            have htlr := hRX.2.2.2.2.2.2.2.2.1
            have hqt := hRX.2.2.2.2.2.2.2.2.2.1
            refine lv_aload_n X.x X.b dX0_digest_60 rfl (lv_at hl 2 rfl) ?_
            refine wa_get (v := .ref (ad 1)) X hH (have h9 := (XW.c0 hX); h9) wcX0 0 (by decide) q417 rfl (fun _ h9 => h9) rfl dX0_digest_61 ?_
            refine wa_getN (v := .int (zI (Sl 30))) X hH (have h9 := (XW.c1 hX); h9) wcX1 3 (by decide) q172 rfl (fun _ h9 => h9) rfl dX0_digest_64 ?_
            refine wz_is (z := g 3) (by rw [hm]) ?_
            refine wz_icmp_ge (tgt := 142) X.x X.b dX0_digest_67 (by decide) ⟨by omega, by omega⟩ ⟨by omega, by omega⟩ (fun c67 => ?_) (fun c67 => ?_)
            · have hk3 : k = g 3 := by omega
              refine wz_iconst X.x X.b dX0_digest_142 ?_
              refine lv_istore_n (lv' := [(3, .int (zI 0)), (1, .long (lI h)), (0, .ref (ad 0))]) X.x X.b dX0_digest_143 rfl hl (by decide) rfl (fun ls hl => ?_)
              have L144 : ∀ (nn : Nat) (i : Int) (h3 : Int) (o2 : Nat) (Sm : Nat → Int) (Am : Nat → Int → Int) (Bm : Nat → Int → Option Nat) (Pm : Nat → Option Nat), ((6 - i).toNat) = nn → (0 ≤ i ∧ i ≤ 6) → (h3 = alN g (picN g (31 * (31 * tolN g re st tl 9 + ck) + co) (g 3).toNat) i.toNat) → (o2 = 0 ∨ (o2 = 1 ∧ Sm 4 = 0)) → ∀ (wl144 : wa_W) (H : Heap) (locs : List Loc) (ls : Array Slot), XW G ad wl144 Sm Am Bm Pm → Kp ad w wl144 → XI G ad wl144 Sm Am Bm Pm g past re tx st ck co tl qt → wa_H G wl144 H → va_S (wa_A G) sS.heap H locs → lv_has ls 5 [(3, .int (zI i)), (1, .long (lI h3)), (0, .ref (ad 0))] → W pP lL eE ({ frames := 13, cells := 5420, slots := 17440, locals := 3249 } : Room) sS mM aA bB mT cC H locs (5401 * o2 + 6 + Int.toNat i) (17401 * o2 + 12 + Int.toNat i) (MQ bB (wa_Ql G fun z u => z = digS g re st ck co tl ∧ ∃ (S2 : Nat → Int) (A2 : Nat → Int → Int) (B2 : Nat → Int → Option Nat) (P2 : Nat → Option Nat), XW G ad u S2 A2 B2 P2 ∧ Kp ad w u ∧ (XI G ad u S2 A2 B2 P2 g past re tx st ck co tl qt)) aA sS 5420 17440 (wa_A G)) (F0 mM 144 ls []) := by
                intro nn
                induction nn using Nat.strongRecOn with
                | ind nn ih144 =>
                  intro i h3 o2 Sm Am Bm Pm hmu144 i144_0 i144_1 i144_2 wl144 H locs ls hX hK hI hH hS hl
                  refine lv_iload_n X.x X.b dX0_digest_144 rfl (lv_at hl 0 rfl) ?_
                  refine wz_bipush X.x X.b dX0_digest_145 rfl ?_
                  refine wz_icmp_ge (tgt := 169) X.x X.b dX0_digest_147 (by decide) ⟨by omega, by omega⟩ ⟨by omega, by omega⟩ (fun c147 => ?_) (fun c147 => ?_)
                  · refine lv_lload_n X.x X.b dX0_digest_169 rfl (lv_at hl 1 rfl) ?_
                    refine W.widen (k := 5420) (n := 17440) (by first | exact Nat.le_of_ble_eq_true rfl | omega) (by first | exact Nat.le_of_ble_eq_true rfl | omega) ?_
                    exact wa_lret X hH hS dX0_digest_170 ⟨by rw [i144_1, show i = 6 by omega]; rfl, ⟨_, _, _, _, hX, hK, hI⟩⟩
                  · rcases i144_2 with hoo | hoo
                    · refine wz_ldc2 (n := 31) X.x X.b X.own (X.t _ q1611) rfl dX0_digest_150 ?_
                      refine lv_lload_n X.x X.b dX0_digest_153 rfl (lv_at hl 1 rfl) ?_
                      refine wz_lmul X.x X.b dX0_digest_154 ?_
                      refine lv_aload_n X.x X.b dX0_digest_155 rfl (lv_at hl 2 rfl) ?_
                      refine lv_iload_n X.x X.b dX0_digest_156 rfl (lv_at hl 0 rfl) ?_
                      refine wa_ci hS (wa_rV (rest := [.long (lI (31 * h3))]) X hH (mX0_allOf hX hI i (by omega)) (cwV 1 X.t (lw_V q1351 q1353 qs36 q109 q1354) rfl rfl rfl hdX0_allOf ⟨Nat.le_of_ble_eq_true rfl, Nat.le_of_ble_eq_true rfl⟩) rfl (have h9 := (XW.c0 hX); h9) rfl rfl hl.1 rfl (Nat.le_of_ble_eq_true rfl) dX0_digest_157 ⟨by dsimp only; omega, by dsimp only; omega⟩) (fun z w157 H locs hp hH hS => ?_)
                      obtain ⟨rfl, ⟨S2_157, A2_157, B2_157, P2_157, hX, hk, hx157_0, hx157_1⟩⟩ := hp
                      have hI := hI.kp hk
                      have hK := hK.kp hk
                      have hI := hx157_0
                      have hal := allS_in ho i
                      refine wz_i2l X.x X.b dX0_digest_160 ⟨by omega, by omega⟩ ?_
                      refine wz_ladd X.x X.b dX0_digest_161 ?_
                      refine lv_lstore_n (lv' := [(1, .long (lI ((31 * h3) + (allS g i)))), (3, .int (zI i)), (0, .ref (ad 0))]) X.x X.b dX0_digest_162 rfl hl (by decide) rfl (fun ls hl => ?_)
                      refine wz_iinc (k := 1) (lv' := [(3, .int (zI (i + 1))), (1, .long (lI ((31 * h3) + (allS g i)))), (0, .ref (ad 0))]) X.x X.b dX0_digest_163 hl rfl (by decide) rfl (fun ls hl => ?_)
                      refine lv_goto (tgt := 144) X.x X.b dX0_digest_166 (by decide) ?_
                      refine W.widen (k := (5401 * 1 + 6 + Int.toNat (i + 1))) (n := (17401 * 1 + 12 + Int.toNat (i + 1))) (by omega) (by omega) ?_
                      exact ih144 _ (by omega) (i + 1) ((31 * h3) + (allS g i)) 1 S2_157 A2_157 B2_157 P2_157 rfl (by omega) (by rw [alN_s i144_0.1, ← i144_1]) (by exact Or.inr ⟨rfl, hx157_1⟩) _ _ _ _ hX hK hI hH hS (lv_sub hl [0, 1, 2] rfl)
                    · refine wz_ldc2 (n := 31) X.x X.b X.own (X.t _ q1611) rfl dX0_digest_150 ?_
                      refine lv_lload_n X.x X.b dX0_digest_153 rfl (lv_at hl 1 rfl) ?_
                      refine wz_lmul X.x X.b dX0_digest_154 ?_
                      refine lv_aload_n X.x X.b dX0_digest_155 rfl (lv_at hl 2 rfl) ?_
                      refine lv_iload_n X.x X.b dX0_digest_156 rfl (lv_at hl 0 rfl) ?_
                      refine wa_ci hS (wa_rV (rest := [.long (lI (31 * h3))]) X hH (mX0_allOf_0 hX hI i (by omega) hoo.2) (cwV 1 X.t (lw_V q1351 q1353 qs36 q109 q1354) rfl rfl rfl hdX0_allOf ⟨Nat.le_of_ble_eq_true rfl, Nat.le_of_ble_eq_true rfl⟩) rfl (have h9 := (XW.c0 hX); h9) rfl rfl hl.1 rfl (Nat.le_of_ble_eq_true rfl) dX0_digest_157 ⟨by dsimp only; omega, by dsimp only; omega⟩) (fun z w157 H locs hp hH hS => ?_)
                      obtain ⟨rfl, ⟨hX, hk⟩⟩ := hp
                      have hI := hI.kp hk
                      have hK := hK.kp hk
                      have hal := allS_in ho i
                      refine wz_i2l X.x X.b dX0_digest_160 ⟨by omega, by omega⟩ ?_
                      refine wz_ladd X.x X.b dX0_digest_161 ?_
                      refine lv_lstore_n (lv' := [(1, .long (lI ((31 * h3) + (allS g i)))), (3, .int (zI i)), (0, .ref (ad 0))]) X.x X.b dX0_digest_162 rfl hl (by decide) rfl (fun ls hl => ?_)
                      refine wz_iinc (k := 1) (lv' := [(3, .int (zI (i + 1))), (1, .long (lI ((31 * h3) + (allS g i)))), (0, .ref (ad 0))]) X.x X.b dX0_digest_163 hl rfl (by decide) rfl (fun ls hl => ?_)
                      refine lv_goto (tgt := 144) X.x X.b dX0_digest_166 (by decide) ?_
                      refine W.widen (k := (5401 * 1 + 6 + Int.toNat (i + 1))) (n := (17401 * 1 + 12 + Int.toNat (i + 1))) (by omega) (by omega) ?_
                      exact ih144 _ (by omega) (i + 1) ((31 * h3) + (allS g i)) 1 Sm Am Bm Pm rfl (by omega) (by rw [alN_s i144_0.1, ← i144_1]) (by exact Or.inr ⟨rfl, hoo.2⟩) _ _ _ _ hX hK hI hH hS (lv_sub hl [0, 1, 2] rfl)
              refine W.widen (k := (5401 * o + 6 + Int.toNat 0)) (n := (17401 * o + 12 + Int.toNat 0)) (by omega) (by omega) ?_
              exact L144 _ 0 h o Sl Al Bl Pl rfl (by omega) (by rw [i59_1, hk3]; rfl) (by exact i59_2.elim (fun q => Or.inl q.1) Or.inr) _ _ _ _ hX hK hI hH hS (lv_sub hl [0, 1, 2] rfl)
            · obtain ⟨p, b, f, hp0, fp, ap⟩ := hPX k (by omega) (by omega)
              have cp := pcA.cB ap ho (by omega)
              have fp_0 := fp
              refine wz_iconst X.x X.b dX0_digest_70 ?_
              refine lv_istore (lv' := [(4, .int (zI 0)), (3, .int (zI k)), (1, .long (lI h)), (0, .ref (ad 0))]) X.x X.b dX0_digest_71 hl (by decide) rfl (fun ls hl => ?_)
              have L73 : ∀ (nn : Nat) (i : Int) (h2 : Int), ((32 - i).toNat) = nn → (0 ≤ i ∧ i ≤ 32) → (h2 = celN g k (picN g (31 * (31 * tolN g re st tl 9 + ck) + co) k.toNat) i.toNat) → ∀ (wl73 : wa_W) (H : Heap) (locs : List Loc) (ls : Array Slot), XW G ad wl73 Sl Al Bl Pl → Kp ad w wl73 → XI G ad wl73 Sl Al Bl Pl g past re tx st ck co tl qt → PX G ad wl73 (Bl 10) g → WAYS G ad wl73 (Bl 5) → NVX ad wl73 Pl → XJ G ad wl73 Sl Al Bl Pl g → Pic G ad wl73 p b f (sh g k 0) (sh g k 1) (sh g k 2) → wa_H G wl73 H → va_S (wa_A G) sS.heap H locs → lv_has ls 5 [(4, .int (zI i)), (1, .long (lI h2)), (3, .int (zI k)), (0, .ref (ad 0))] → W pP lL eE ({ frames := 13, cells := 5420, slots := 17440, locals := 3249 } : Room) sS mM aA bB mT cC H locs (5400 * o + Int.toNat k) (17400 * o + 2 * Int.toNat k) (MQ bB (wa_Ql G fun z u => z = digS g re st ck co tl ∧ ∃ (S2 : Nat → Int) (A2 : Nat → Int → Int) (B2 : Nat → Int → Option Nat) (P2 : Nat → Option Nat), XW G ad u S2 A2 B2 P2 ∧ Kp ad w u ∧ (XI G ad u S2 A2 B2 P2 g past re tx st ck co tl qt)) aA sS 5420 17440 (wa_A G)) (F0 mM 73 ls []) := by
                intro nn
                induction nn using Nat.strongRecOn with
                | ind nn ih73 =>
                  intro i h2 hmu73 i73_0 i73_1 wl73 H locs ls hX hK hI hPX hWY hNV hXJ fp hH hS hl
                  refine lv_iload X.x X.b dX0_digest_73 (lv_at hl 0 rfl) ?_
                  refine wz_bipush X.x X.b dX0_digest_75 rfl ?_
                  refine wz_icmp_ge (tgt := 109) X.x X.b dX0_digest_77 (by decide) ⟨by omega, by omega⟩ ⟨by omega, by omega⟩ (fun c77 => ?_) (fun c77 => ?_)
                  · have hi32 : i = 32 := by omega
                    have hcs := cset_in g k
                    have hfoi := foS_in ho (a := k) (by omega) (by omega)
                    refine wz_ldc2 (n := 31) X.x X.b X.own (X.t _ q1611) rfl dX0_digest_109 ?_
                    refine wz_ldc2 (n := 31) X.x X.b X.own (X.t _ q1611) rfl dX0_digest_112 ?_
                    refine lv_lload_n X.x X.b dX0_digest_115 rfl (lv_at hl 1 rfl) ?_
                    refine wz_lmul X.x X.b dX0_digest_116 ?_
                    refine lv_aload_n X.x X.b dX0_digest_117 rfl (lv_at hl 3 rfl) ?_
                    refine lv_iload_n X.x X.b dX0_digest_118 rfl (lv_at hl 2 rfl) ?_
                    refine wa_ci hS (wa_rV (rest := [.long (lI (31 * h2)), .long (lI 31)]) X hH (mX0_cornersOf hX hPX hWY k (by omega) ho hg.1) (cwV 1 X.t (lw_V q634 q636 qs12 q109 q637) rfl rfl rfl hdX0_cornersOf ⟨Nat.le_of_ble_eq_true rfl, Nat.le_of_ble_eq_true rfl⟩) rfl (have h9 := (XW.c0 hX); h9) rfl rfl hl.1 rfl (Nat.le_of_ble_eq_true rfl) dX0_digest_119 ⟨by dsimp only; omega, by dsimp only; omega⟩) (fun z w119 H locs hp hH hS => ?_)
                    obtain ⟨rfl, ⟨hX, hk⟩⟩ := hp
                    have hI := hI.kp hk
                    have hPX := hPX.kp hk
                    have hWY := hWY.kp hk
                    have hNV := hNV.kp hk
                    have hXJ := hXJ.kp hk
                    have fp := fp.kp hk
                    have hK := hK.kp hk
                    refine wz_i2l X.x X.b dX0_digest_122 ⟨by omega, by omega⟩ ?_
                    refine wz_ladd X.x X.b dX0_digest_123 ?_
                    refine wz_lmul X.x X.b dX0_digest_124 ?_
                    rcases i59_2 with hoo | hoo
                    · refine lv_aload_n X.x X.b dX0_digest_125 rfl (lv_at hl 3 rfl) ?_
                      refine wa_cr hS (wa_rV (rest := [.long (lI (31 * ((31 * h2) + (cset g k))))]) X hH (mX0_joined hX hI  ) (cwV 0 X.t (lw_V q653 q655 qs14 q109 q656) rfl rfl rfl hdX0_joined ⟨Nat.le_of_ble_eq_true rfl, Nat.le_of_ble_eq_true rfl⟩) rfl (have h9 := (XW.c0 hX); h9) rfl rfl hl.1 rfl (Nat.le_of_ble_eq_true rfl) dX0_digest_126 ⟨by dsimp only; omega, by dsimp only; omega⟩) (fun r126 w126 H locs hp hH hS => ?_)
                      obtain ⟨rfl, ⟨S2_126, A2_126, B2_126, P2_126, hX, hk, hx126_0, hx126_1, hx126_2⟩⟩ := hp
                      have hI := hI.kp hk
                      have hPX := hPX.kp hk
                      have hWY := hWY.kp hk
                      have hNV := hNV.kp hk
                      have hXJ := hXJ.kp hk
                      have fp := fp.kp hk
                      have hK := hK.kp hk
                      have hI := hx126_0
                      have hJR := hx126_1
                      refine wz_opt (q := some (ad 24)) (by rfl) ?_
                      obtain ⟨ho, hST, hXJ, hRX⟩ := id hI
                      have hmany := ho.many
                      have hPX : PX G ad w126 (B2_126 10) g := hST.2.2.1
                      have hWY : WAYS G ad w126 (B2_126 5) := hRX.1
                      have hNV : NVX ad w126 P2_126 := hRX.2.1
                      have hm : S2_126 30 = g 3 := hST.1.2
                      have hwd : S2_126 20 = g 0 := hST.1.1
                      have hg : A2_126 10 0 = g 1 ∧ A2_126 10 1 = g 2 := hST.2.1
                      have hwide := ho.wide
                      have hS0 : S2_126 0 = st := hRX.2.2.2.1.1
                      have hS1 : S2_126 1 = qt := hRX.2.2.2.1.2.1
                      have hS2 : S2_126 2 = tl := hRX.2.2.2.1.2.2.1
                      have hstr := hRX.2.2.2.2.2.2.2.1
                      have htlr := hRX.2.2.2.2.2.2.2.2.1
                      have hqt := hRX.2.2.2.2.2.2.2.2.2.1
                      refine lv_iload_n X.x X.b dX0_digest_129 rfl (lv_at hl 2 rfl) ?_
                      refine wa_ci hS (wa_rV (rest := [.long (lI (31 * ((31 * h2) + (cset g k))))]) X hH (mX2_follower hX hJR k (by omega) ho) (cwV 1 X.t (lw_V q1343 q1344 q1345 q112 q1346) rfl rfl rfl hdX2_follower ⟨Nat.le_of_ble_eq_true rfl, Nat.le_of_ble_eq_true rfl⟩) rfl (have h9 := (XW.c24 hX); h9) rfl rfl hl.1 rfl (Nat.le_of_ble_eq_true rfl) dX0_digest_130 ⟨by dsimp only; omega, by dsimp only; omega⟩) (fun z w130 H locs hp hH hS => ?_)
                      obtain ⟨rfl, hw⟩ := hp
                      rw [← hw] at hH; clear hw
                      refine wz_i2l X.x X.b dX0_digest_133 ⟨by omega, by omega⟩ ?_
                      refine wz_ladd X.x X.b dX0_digest_134 ?_
                      refine lv_lstore_n (lv' := [(1, .long (lI ((31 * ((31 * h2) + (cset g k))) + (foS g k)))), (4, .int (zI i)), (3, .int (zI k)), (0, .ref (ad 0))]) X.x X.b dX0_digest_135 rfl hl (by decide) rfl (fun ls hl => ?_)
                      refine wz_iinc (k := 2) (lv' := [(3, .int (zI (k + 1))), (1, .long (lI ((31 * ((31 * h2) + (cset g k))) + (foS g k)))), (4, .int (zI i)), (0, .ref (ad 0))]) X.x X.b dX0_digest_136 hl rfl (by decide) rfl (fun ls hl => ?_)
                      refine lv_goto (tgt := 59) X.x X.b dX0_digest_139 (by decide) ?_
                      refine W.widen (k := (5400 * 1 + Int.toNat (k + 1))) (n := (17400 * 1 + 2 * Int.toNat (k + 1))) (by omega) (by omega) ?_
                      exact ih59 _ (by omega) (k + 1) ((31 * ((31 * h2) + (cset g k))) + (foS g k)) 1 S2_126 A2_126 B2_126 P2_126 rfl (by omega) (by rw [picN_s i59_0.1, i73_1, hi32]; rfl) (by exact Or.inr ⟨rfl, hx126_2⟩) _ _ _ _ hX hK hI hH hS (lv_sub hl [0, 1, 3] rfl)
                    · refine lv_aload_n X.x X.b dX0_digest_125 rfl (lv_at hl 3 rfl) ?_
                      refine wa_cr hS (wa_rV (rest := [.long (lI (31 * ((31 * h2) + (cset g k))))]) X hH (mX0_joined_0 hX   hoo.2) (cwV 0 X.t (lw_V q653 q655 qs14 q109 q656) rfl rfl rfl hdX0_joined ⟨Nat.le_of_ble_eq_true rfl, Nat.le_of_ble_eq_true rfl⟩) rfl (have h9 := (XW.c0 hX); h9) rfl rfl hl.1 rfl (Nat.le_of_ble_eq_true rfl) dX0_digest_126 ⟨by dsimp only; omega, by dsimp only; omega⟩) (fun r126 w126 H locs hp hH hS => ?_)
                      obtain ⟨rfl, hw⟩ := hp
                      rw [← hw] at hH; clear hw
                      refine wz_opt (q := some (ad 24)) (by rfl) ?_
                      have hJR : JR G ad w119 Sl Al Bl Pl g := hI.2.2.1.2 hoo.2
                      obtain ⟨ho, hST, hXJ, hRX⟩ := id hI
                      have hmany := ho.many
                      have hPX : PX G ad w119 (Bl 10) g := hST.2.2.1
                      have hWY : WAYS G ad w119 (Bl 5) := hRX.1
                      have hNV : NVX ad w119 Pl := hRX.2.1
                      have hm : Sl 30 = g 3 := hST.1.2
                      have hwd : Sl 20 = g 0 := hST.1.1
                      have hg : Al 10 0 = g 1 ∧ Al 10 1 = g 2 := hST.2.1
                      have hwide := ho.wide
                      have hS0 : Sl 0 = st := hRX.2.2.2.1.1
                      have hS1 : Sl 1 = qt := hRX.2.2.2.1.2.1
                      have hS2 : Sl 2 = tl := hRX.2.2.2.1.2.2.1
                      have hstr := hRX.2.2.2.2.2.2.2.1
                      have htlr := hRX.2.2.2.2.2.2.2.2.1
                      have hqt := hRX.2.2.2.2.2.2.2.2.2.1
                      refine lv_iload_n X.x X.b dX0_digest_129 rfl (lv_at hl 2 rfl) ?_
                      refine wa_ci hS (wa_rV (rest := [.long (lI (31 * ((31 * h2) + (cset g k))))]) X hH (mX2_follower hX hJR k (by omega) ho) (cwV 1 X.t (lw_V q1343 q1344 q1345 q112 q1346) rfl rfl rfl hdX2_follower ⟨Nat.le_of_ble_eq_true rfl, Nat.le_of_ble_eq_true rfl⟩) rfl (have h9 := (XW.c24 hX); h9) rfl rfl hl.1 rfl (Nat.le_of_ble_eq_true rfl) dX0_digest_130 ⟨by dsimp only; omega, by dsimp only; omega⟩) (fun z w130 H locs hp hH hS => ?_)
                      obtain ⟨rfl, hw⟩ := hp
                      rw [← hw] at hH; clear hw
                      refine wz_i2l X.x X.b dX0_digest_133 ⟨by omega, by omega⟩ ?_
                      refine wz_ladd X.x X.b dX0_digest_134 ?_
                      refine lv_lstore_n (lv' := [(1, .long (lI ((31 * ((31 * h2) + (cset g k))) + (foS g k)))), (4, .int (zI i)), (3, .int (zI k)), (0, .ref (ad 0))]) X.x X.b dX0_digest_135 rfl hl (by decide) rfl (fun ls hl => ?_)
                      refine wz_iinc (k := 2) (lv' := [(3, .int (zI (k + 1))), (1, .long (lI ((31 * ((31 * h2) + (cset g k))) + (foS g k)))), (4, .int (zI i)), (0, .ref (ad 0))]) X.x X.b dX0_digest_136 hl rfl (by decide) rfl (fun ls hl => ?_)
                      refine lv_goto (tgt := 59) X.x X.b dX0_digest_139 (by decide) ?_
                      refine W.widen (k := (5400 * 1 + Int.toNat (k + 1))) (n := (17400 * 1 + 2 * Int.toNat (k + 1))) (by omega) (by omega) ?_
                      exact ih59 _ (by omega) (k + 1) ((31 * ((31 * h2) + (cset g k))) + (foS g k)) 1 Sl Al Bl Pl rfl (by omega) (by rw [picN_s i59_0.1, i73_1, hi32]; rfl) (by exact Or.inr ⟨rfl, hoo.2⟩) _ _ _ _ hX hK hI hH hS (lv_sub hl [0, 1, 3] rfl)
                  · refine wz_ldc2 (n := 31) X.x X.b X.own (X.t _ q1611) rfl dX0_digest_80 ?_
                    refine lv_lload_n X.x X.b dX0_digest_83 rfl (lv_at hl 1 rfl) ?_
                    refine wz_lmul X.x X.b dX0_digest_84 ?_
                    refine lv_aload_n X.x X.b dX0_digest_85 rfl (lv_at hl 3 rfl) ?_
                    refine wa_get (v := .ref (ad 1)) X hH (have h9 := (XW.c0 hX); h9) wcX0 0 (by decide) q417 rfl (fun _ h9 => h9) rfl dX0_digest_86 ?_
                    refine wa_getN (v := .ref (ad 2)) X hH (have h9 := (XW.c1 hX); h9) wcX1 2 (by decide) q169 rfl (fun _ h9 => h9) rfl dX0_digest_89 ?_
                    refine lv_iload_n X.x X.b dX0_digest_92 rfl (lv_at hl 2 rfl) ?_
                    refine wa_aald (k := 2) (f := Bl 10) X hH (have h9 := (XW.c2 hX); h9) rfl rfl (by omega) (by omega) (by omega) dX0_digest_93 ?_
                    refine wz_opt (q := some p) (by exact hp0) ?_
                    refine wa_getN (v := .ref b) X hH fp.1.2 wcX8 0 (by decide) q548 rfl (fun _ h9 => h9) rfl dX0_digest_94 ?_
                    have hpcv := ho.pc k (i / 8) (i % 8) (by omega) (by omega) (by omega) (by omega) (by omega) (by omega)
                    refine lv_iload X.x X.b dX0_digest_97 (lv_at hl 0 rfl) ?_
                    refine wa_iald (f := f) X hH fp.2.2 (by omega) (by omega) (by omega) dX0_digest_99 ?_
                    refine wz_is (z := pc g k (i / 8) (i % 8)) (by rw [← ap (i / 8) (i % 8) (by omega) (by omega) (by omega) (by omega), show 8 * (i / 8) + i % 8 = i by omega]) ?_
                    refine wz_i2l X.x X.b dX0_digest_100 ⟨by omega, by omega⟩ ?_
                    refine wz_ladd X.x X.b dX0_digest_101 ?_
                    refine lv_lstore_n (lv' := [(1, .long (lI ((31 * h2) + (pc g k (i / 8) (i % 8))))), (4, .int (zI i)), (3, .int (zI k)), (0, .ref (ad 0))]) X.x X.b dX0_digest_102 rfl hl (by decide) rfl (fun ls hl => ?_)
                    refine wz_iinc (k := 1) (lv' := [(4, .int (zI (i + 1))), (1, .long (lI ((31 * h2) + (pc g k (i / 8) (i % 8))))), (3, .int (zI k)), (0, .ref (ad 0))]) X.x X.b dX0_digest_103 hl rfl (by decide) rfl (fun ls hl => ?_)
                    refine lv_goto (tgt := 73) X.x X.b dX0_digest_106 (by decide) ?_
                    exact ih73 _ (by omega) (i + 1) ((31 * h2) + (pc g k (i / 8) (i % 8))) rfl (by omega) (by rw [celN_s i73_0.1, ← i73_1]) _ _ _ _ hX hK hI hPX hWY hNV hXJ fp hH hS (lv_sub hl [0, 1, 2, 3] rfl)
              exact L73 _ 0 h rfl (by omega) (by rw [i59_1]; rfl) _ _ _ _ hX hK hI hPX hWY hNV hXJ fp hH hS (lv_sub hl [0, 2, 1, 3] rfl)
        refine W.widen (k := (5400 * 0 + Int.toNat 0)) (n := (17400 * 0 + 2 * Int.toNat 0)) (by omega) (by omega) ?_
        exact L59 _ 0 ((31 * ((31 * h) + ck)) + co) 0 S A B P rfl (by omega) (by rw [i6_1, hi9]; rfl) (by exact Or.inl ⟨rfl, rfl⟩) _ _ _ _ hX hK hI hH hS (lv_sub hl [0, 1, 2] rfl)
      · refine wz_ldc2 (n := 31) X.x X.b X.own (X.t _ q1611) rfl dX0_digest_12 ?_
        refine lv_lload_n X.x X.b dX0_digest_15 rfl (lv_at hl 1 rfl) ?_
        refine wz_lmul X.x X.b dX0_digest_16 ?_
        refine lv_aload_n X.x X.b dX0_digest_17 rfl (lv_at hl 2 rfl) ?_
        refine lv_iload_n X.x X.b dX0_digest_18 rfl (lv_at hl 0 rfl) ?_
        refine wa_ci hS (wa_rV (rest := [.long (lI (31 * h))]) X hH (mX0_toldOf hX hI i (by omega)) (cwV 1 X.t (lw_V q1602 q1604 qs55 q109 q1605) rfl rfl rfl hdX0_toldOf ⟨Nat.le_of_ble_eq_true rfl, Nat.le_of_ble_eq_true rfl⟩) rfl (have h9 := (XW.c0 hX); h9) rfl rfl hl.1 rfl (Nat.le_of_ble_eq_true rfl) dX0_digest_19 ⟨Nat.le_of_ble_eq_true rfl, Nat.le_of_ble_eq_true rfl⟩) (fun z w19 H locs hp hH hS => ?_)
        obtain ⟨rfl, hw⟩ := hp
        rw [← hw] at hH; clear hw
        have htd := toldS_in ho hstr htlr hre (what := i) (by omega)
        unfold rI at htd
        refine wz_i2l X.x X.b dX0_digest_22 ⟨by omega, by omega⟩ ?_
        refine wz_ladd X.x X.b dX0_digest_23 ?_
        refine lv_lstore_n (lv' := [(1, .long (lI ((31 * h) + (toldS g re st tl i)))), (3, .int (zI i)), (0, .ref (ad 0))]) X.x X.b dX0_digest_24 rfl hl (by decide) rfl (fun ls hl => ?_)
        refine wz_iinc (k := 1) (lv' := [(3, .int (zI (i + 1))), (1, .long (lI ((31 * h) + (toldS g re st tl i)))), (0, .ref (ad 0))]) X.x X.b dX0_digest_25 hl rfl (by decide) rfl (fun ls hl => ?_)
        refine lv_goto (tgt := 6) X.x X.b dX0_digest_28 (by decide) ?_
        exact ih6 _ (by omega) (i + 1) ((31 * h) + (toldS g re st tl i)) rfl (by omega) (by rw [tolN_s i6_0.1, ← i6_1]) _ _ _ _ hX hK hI hPX hWY hNV hXJ hH hS (lv_sub hl [0, 1, 2] rfl)
  exact L6 _ 0 2269 rfl (by omega) (by rfl) _ _ _ _ hX hK hI hPX hWY hNV hXJ hH hS (lv_sub hl [0, 1, 2] rfl)

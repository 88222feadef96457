/-! JOINER: votes -/
set_option maxRecDepth 100000 in
theorem mX2_votes {lL : Launch} {G : wa_G} {ad : Nat → Nat} {w : wa_W} {S : Nat → Int} {A : Nat → Int → Int} {B : Nat → Int → Option Nat} {P : Nat → Option Nat} (hX : XW G ad w S A B P) {an : Nat} {g : Int → Int} (hPX : PX G ad w (B 10) g) (hWY : WAYS G ad w (B 5)) (hNV : NVX ad w P) (hJC : JC ad w S P g (g 3)) (a : Int) (b : Int) (e : Int) (f : Int) (ha : a = an) (ha6 : an < 6) (ham : (an : Int) < g 3) (hb : 0 ≤ b ∧ b < g 3) (he : -1 ≤ e ∧ e ≤ 1) (hf : 1 ≤ f ∧ f ≤ 5) (ho : okS g) (hg : A 10 0 = g 1 ∧ A 10 1 = g 2) : Met lL yX2_votes (ws_ yX2_votes cX2_votes 11 (some FieldType.int)) ({ frames := 6, cells := 2, slots := 5, locals := 124 } : Room) (wa_P G w [.ref (ad 24), .int (zI a), .int (zI b), .int (zI e), .int (zI f)]) (wa_Qz G fun z u => z = votesS g a b e f ∧ ∃ (P2 : Nat → Option Nat), XW G ad u S A B P2 ∧ Kp ad w u ∧ (∀ j, j < 30 ∨ 36 ≤ j → P2 j = P j) ∧ (NVX ad u P2)) 2 5 (wa_A G) := by
  refine wa_met (by decide) (by exact Nat.le_of_ble_eq_true rfl) ?_
  intro pP eE sS mM aA bB mT cC ls X hl hH
  have hS : va_S (wa_A G) sS.heap sS.heap [] := va_S.rf
  have hl : lv_has ls 11 [(0, .ref (ad 24)), (1, .int (zI a)), (2, .int (zI b)), (3, .int (zI e)), (4, .int (zI f))] := hl
  have hK : Kp ad w w := Kp.rf
  have hPX_0 := hPX
  have hWY_0 := hWY
  have hNV_0 := hNV
  have hJC_0 := hJC
  have hmany := ho.many
  have hch := ho.ch
  have hal := ho.al
  refine wz_iconst X.x X.b dX2_votes_0 ?_
  refine lv_istore (lv' := [(5, .int (zI 0)), (0, .ref (ad 24)), (1, .int (zI a)), (2, .int (zI b)), (3, .int (zI e)), (4, .int (zI f))]) X.x X.b dX2_votes_1 hl (by decide) rfl (fun ls hl => ?_)
  obtain ⟨l, κ, hTF, hCL⟩ := hJC.tf hNV an ha6 ham
  have hTF_0 := hTF
  obtain ⟨pb, bb, fb, hpb0, fpb, apb⟩ := hPX b (by omega) (by omega)
  have cpb := pcA.cB apb ho (by omega)
  have fpb_0 := fpb
  refine lv_aload_n X.x X.b dX2_votes_3 rfl (lv_at hl 1 rfl) ?_
  refine wa_get (v := .ref (ad 29)) X hH (have h9 := (XW.c24 hX); h9) wcX2 1 (by decide) q342 rfl (fun _ h9 => h9) rfl dX2_votes_4 ?_
  refine lv_iload_n X.x X.b dX2_votes_7 rfl (lv_at hl 2 rfl) ?_
  refine wa_aald (k := 5) (f := xcs ad) X hH (have h9 := (XW.c29 hX); h9) rfl rfl (by omega) (by omega) (by omega) dX2_votes_8 ?_
  refine wz_opt (q := some (ad (30 + an))) (by unfold xcs; rw [ha]; rfl) ?_
  refine wa_getN (v := .ref (ad (36 + an))) X hH (have h9 := (XW.co hX ha6); h9) wcX3 0 (by decide) q276 rfl (fun _ h9 => h9) rfl dX2_votes_9 ?_
  refine wa_cr hS (wa_rV (rest := []) X hH (mJ3_iterator_Y hX hTF hNV  ha6) (cwV 0 X.t (lw_V q946 q947 q948 q116 q949) rfl rfl rfl hdJ3_iterator ⟨Nat.le_of_ble_eq_true rfl, Nat.le_of_ble_eq_true rfl⟩) rfl (have h9 := (XW.ts hX ha6); h9) rfl rfl hl.1 rfl (Nat.le_of_ble_eq_true rfl) dX2_votes_12 ⟨Nat.le_of_ble_eq_true rfl, Nat.le_of_ble_eq_true rfl⟩) (fun r12 w12 H locs hp hH hS => ?_)
  obtain ⟨P2_12, it_12, hX, hk, hx12_0, hx12_1, hx12_2, hx12_3, hx12_4, hx12_5⟩ := hp
  have hPX := hPX.kp hk
  have hWY := hWY.kp hk
  have hNV := hNV.kp hk
  have hJC := hJC.kp hk
  have hTF := hTF.kp hk
  have fpb := fpb.kp hk
  have hK := hK.kp hk
  have hit := hx12_3
  have hTF := hx12_4
  have hNV := hx12_5
  refine wz_opt (q := some it_12) (by exact hx12_0) ?_
  refine lv_astore (lv' := [(6, .ref it_12), (5, .int (zI 0)), (0, .ref (ad 24)), (1, .int (zI a)), (2, .int (zI b)), (3, .int (zI e)), (4, .int (zI f))]) X.x X.b dX2_votes_15 hl (by decide) rfl (fun ls hl => ?_)
  have L17 : ∀ (nn : Nat) (n : Int) (a1 : List Nat) (b1 : List Nat) (y : Option Nat), (b1.length) = nn → (l = a1 ++ b1) → (n = sumK (vtK g b e f) (a1.map κ)) → ∀ (wl17 : wa_W) (H : Heap) (locs : List Loc) (ls : Array Slot), XW G ad wl17 S A B P2_12 → Kp ad w wl17 → PX G ad wl17 (B 10) g → WAYS G ad wl17 (B 5) → JC ad wl17 S P g (g 3) → Pic G ad wl17 pb bb fb (sh g b 0) (sh g b 1) (sh g b 2) → Lc ad wl17 it_12 (eO 21 [va_rf (b1.head?), va_rf y, .int (zI (S (50 + an))), .ref (ad (42 + an))]) → TFk ad wl17 S P2_12 an l κ → NVX ad wl17 P2_12 → wa_H G wl17 H → va_S (wa_A G) sS.heap H locs → lv_has ls 11 [(5, .int (zI n)), (6, .ref it_12), (0, .ref (ad 24)), (1, .int (zI a)), (2, .int (zI b)), (3, .int (zI e)), (4, .int (zI f))] → W pP lL eE ({ frames := 6, cells := 2, slots := 5, locals := 124 } : Room) sS mM aA bB mT cC H locs (0 + 2) (0 + 5) (MQ bB (wa_Qz G fun z u => z = votesS g a b e f ∧ ∃ (P2 : Nat → Option Nat), XW G ad u S A B P2 ∧ Kp ad w u ∧ (∀ j, j < 30 ∨ 36 ≤ j → P2 j = P j) ∧ (NVX ad u P2)) aA sS 2 5 (wa_A G)) (F0 mM 17 ls []) := by
    intro nn
    induction nn using Nat.strongRecOn with
    | ind nn ih17 =>
      intro n a1 b1 y hmu17 i17_0 i17_1 wl17 H locs ls hX hK hPX hWY hJC fpb hit hTF hNV hH hS hl
      refine lv_aload X.x X.b dX2_votes_17 (lv_at hl 1 rfl) ?_
      refine wa_c5i hS (wa_rF (rest := []) X hH (mJ17_hasNext  (show At wl17 it_12 (eO 21 [va_rf (b1.head?), va_rf y, .int (zI (S (50 + an))), .ref (ad (42 + an))]) from hit.2)  ) (va_cwF 0 X.t (lw_F q1019 q1023 q1025 q137 q1027) rfl rfl rfl (X.k.2.2.2.1 ("java/util/TreeMap$KeyIterato\x72", ⟨"java/util/Iterato\x72", "hasNext", "()Z"⟩, ⟨"java/util/TreeMap$PrivateEntryIterato\x72", "hasNext", "()Z"⟩) (by decide)) ⟨by decide, by decide, by decide +kernel⟩ ⟨Nat.le_of_ble_eq_true rfl, Nat.le_of_ble_eq_true rfl⟩) rfl hit.2 rfl rfl hl.1 rfl (Nat.le_of_ble_eq_true rfl) dX2_votes_19 ⟨Nat.le_of_ble_eq_true rfl, Nat.le_of_ble_eq_true rfl⟩) (fun z w19 H locs hp hH hS => ?_)
      obtain ⟨hb, hw⟩ := hp
      rw [← hw] at hH; clear hw
      rcases hb with ⟨b19, rfl⟩ | ⟨b19, rfl⟩
      · have b19 : (¬ (b1.head?) = none) := b19
        refine wz_ifeq (tgt := 171) X.x X.b dX2_votes_24 (by decide) (by decide) (fun h => absurd h (by decide)) (fun _ => ?_)
        obtain ⟨n0, b2, eb⟩ := head_some b19
        rw [eb] at hit
        have hla : l = a1 ++ n0 :: b2 := by rw [i17_0, eb]
        have hkv := hCL.val ho (by omega) (x := n0) (by rw [hla]; simp)
        refine lv_aload X.x X.b dX2_votes_27 (lv_at hl 1 rfl) ?_
        refine wa_c5r hS (wa_rF (rest := []) X hH (mJ18_next_Y hX hTF hit hNV  ha6 rfl hla hK hx12_1) (va_cwF 0 X.t (lw_F q1029 q1032 q1034 q138 q1036) rfl rfl rfl (X.k.2.2.2.1 ("java/util/TreeMap$KeyIterato\x72", ⟨"java/util/Iterato\x72", "next", "()Ljava/lang/Object;"⟩, ⟨"java/util/TreeMap$KeyIterato\x72", "next", "()Ljava/lang/Object;"⟩) (by decide)) ⟨by decide, by decide, by decide +kernel⟩ ⟨Nat.le_of_ble_eq_true rfl, Nat.le_of_ble_eq_true rfl⟩) rfl hit.2 rfl rfl hl.1 rfl (Nat.le_of_ble_eq_true rfl) dX2_votes_29 ⟨Nat.le_of_ble_eq_true rfl, Nat.le_of_ble_eq_true rfl⟩) (fun r29 w29 H locs hp hH hS => ?_)
        obtain ⟨q_29, hX, hk, hx29_0, hx29_1, hx29_2, hx29_3, hx29_4, hx29_5⟩ := hp
        have hPX := hPX_0.kp hk
        have hWY := hWY_0.kp hk
        have hNV := hNV_0.kp hk
        have hJC := hJC_0.kp hk
        have hTF := hTF_0.kp hk
        have fpb := fpb_0.kp hk
        have hK := hk
        have hit := hx29_3
        have hTF := hx29_4
        have hNV := hx29_5
        refine wz_opt (q := some q_29) (by exact hx29_0) ?_
        have fk := kE_t hx29_1 hx29_2
        refine wa_castS X hH fk.2 rfl rfl q679 dX2_votes_34 ?_
        refine lv_astore (lv' := [(7, .ref q_29), (5, .int (zI n)), (6, .ref it_12), (0, .ref (ad 24)), (1, .int (zI a)), (2, .int (zI b)), (3, .int (zI e)), (4, .int (zI f))]) X.x X.b dX2_votes_37 hl (by decide) rfl (fun ls hl => ?_)
        refine lv_aload X.x X.b dX2_votes_39 (lv_at hl 0 rfl) ?_
        refine wa_getN (v := .int (zI ((κ n0).2.1))) X hH fk.2 wcX9 0 (by decide) q687 rfl (fun _ h9 => h9) rfl dX2_votes_41 ?_
        refine lv_iload_n X.x X.b dX2_votes_44 rfl (lv_at hl 6 rfl) ?_
        refine wz_isub X.x X.b dX2_votes_45 ?_
        refine lv_istore (lv' := [(8, .int (zI (((κ n0).2.1) - e))), (7, .ref q_29), (5, .int (zI n)), (6, .ref it_12), (0, .ref (ad 24)), (1, .int (zI a)), (2, .int (zI b)), (3, .int (zI e)), (4, .int (zI f))]) X.x X.b dX2_votes_46 hl (by decide) rfl (fun ls hl => ?_)
        refine lv_aload X.x X.b dX2_votes_48 (lv_at hl 1 rfl) ?_
        refine wa_getN (v := .int (zI ((κ n0).2.2.1))) X hH fk.2 wcX9 1 (by decide) q689 rfl (fun _ h9 => h9) rfl dX2_votes_50 ?_
        refine lv_iload X.x X.b dX2_votes_53 (lv_at hl 8 rfl) ?_
        refine wz_isub X.x X.b dX2_votes_55 ?_
        refine lv_istore (lv' := [(9, .int (zI (((κ n0).2.2.1) - f))), (8, .int (zI (((κ n0).2.1) - e))), (7, .ref q_29), (5, .int (zI n)), (6, .ref it_12), (0, .ref (ad 24)), (1, .int (zI a)), (2, .int (zI b)), (3, .int (zI e)), (4, .int (zI f))]) X.x X.b dX2_votes_56 hl (by decide) rfl (fun ls hl => ?_)
        refine lv_iload X.x X.b dX2_votes_58 (lv_at hl 1 rfl) ?_
        refine lv_iload X.x X.b dX2_votes_60 (lv_at hl 0 rfl) ?_
        refine wa_ci hS (wa_rSN (rest := []) X hH (mX0_isInner _  (((κ n0).2.1) - e) (((κ n0).2.2.1) - f) (show rI ((κ n0).2.1 - e) by unfold rI; omega) (show rI ((κ n0).2.2.1 - f) by unfold rI; omega)) (wa_cN X 2 q616 q1046 q109 hdX0_isInner.2 ⟨Nat.le_of_ble_eq_true rfl, Nat.le_of_ble_eq_true rfl⟩) q615 rfl rfl hl.1 rfl (Nat.le_of_ble_eq_true rfl) dX2_votes_62 ⟨Nat.le_of_ble_eq_true rfl, Nat.le_of_ble_eq_true rfl⟩) (fun z w62 H locs hp hH hS => ?_)
        obtain ⟨hb, hw⟩ := hp
        rw [← hw] at hH; clear hw
        rcases hb with ⟨b62, rfl⟩ | ⟨b62, rfl⟩
        · have b62 : ((1 ≤ (((κ n0).2.1) - e) ∧ (((κ n0).2.1) - e) ≤ 2) ∧ 1 ≤ (((κ n0).2.2.1) - f) ∧ (((κ n0).2.2.1) - f) ≤ 6) := b62
          refine wz_ifeq (tgt := 107) X.x X.b dX2_votes_65 (by decide) (by decide) (fun h => absurd h (by decide)) (fun _ => ?_)
          have hce : chF fb ((κ n0).2.1 - e) ((κ n0).2.2.1 - f) = chS g b ((κ n0).2.1 - e) ((κ n0).2.2.1 - f) := pcA.ch apb b62.1 b62.2
          have hcb := chS_in ho (k := b) (r := ((κ n0).2.1 - e)) (c := ((κ n0).2.2.1 - f)) (by omega) b62
          have hpe : fb (8 * ((κ n0).2.1 - e) + ((κ n0).2.2.1 - f)) = pc g b ((κ n0).2.1 - e) ((κ n0).2.2.1 - f) := apb _ _ (by omega) (by omega) (by omega) (by omega)
          have hpb := ho.pc b ((κ n0).2.1 - e) ((κ n0).2.2.1 - f) (by omega) (by omega) (by omega) (by omega) (by omega) (by omega)
          refine lv_aload_n X.x X.b dX2_votes_68 rfl (lv_at hl 5 rfl) ?_
          refine lv_aload_n X.x X.b dX2_votes_69 rfl (lv_at hl 5 rfl) ?_
          refine wa_get (v := .ref (ad 0)) X hH (have h9 := (XW.c24 hX); h9) wcX2 15 (by decide) q368 rfl (fun _ h9 => h9) rfl dX2_votes_70 ?_
          refine wa_getN (v := .ref (ad 1)) X hH (have h9 := (XW.c0 hX); h9) wcX0 0 (by decide) q416 rfl (fun _ h9 => h9) rfl dX2_votes_73 ?_
          refine wa_getN (v := .ref (ad 2)) X hH (have h9 := (XW.c1 hX); h9) wcX1 2 (by decide) q168 rfl (fun _ h9 => h9) rfl dX2_votes_76 ?_
          refine lv_iload_n X.x X.b dX2_votes_79 rfl (lv_at hl 7 rfl) ?_
          refine wa_aald (k := 2) (f := B 10) X hH (have h9 := (XW.c2 hX); h9) rfl rfl (by omega) (by omega) (by omega) dX2_votes_80 ?_
          refine wz_opt (q := some pb) (by exact hpb0) ?_
          refine lv_iload X.x X.b dX2_votes_81 (lv_at hl 1 rfl) ?_
          refine lv_iload X.x X.b dX2_votes_83 (lv_at hl 0 rfl) ?_
          refine wa_ci hS (wa_rV (rest := []) X hH (mX2_change hX fpb hWY (((κ n0).2.1) - e) (((κ n0).2.2.1) - f) b62.1 b62.2 cpb) (cwV 3 X.t (lw_V q678 q619 q620 q112 q621) rfl rfl rfl hdX2_change ⟨Nat.le_of_ble_eq_true rfl, Nat.le_of_ble_eq_true rfl⟩) rfl (have h9 := (XW.c24 hX); h9) rfl rfl hl.1 rfl (Nat.le_of_ble_eq_true rfl) dX2_votes_85 ⟨Nat.le_of_ble_eq_true rfl, Nat.le_of_ble_eq_true rfl⟩) (fun z w85 H locs hp hH hS => ?_)
          obtain ⟨rfl, hw⟩ := hp
          rw [← hw] at hH; clear hw
          refine lv_aload_n X.x X.b dX2_votes_88 rfl (lv_at hl 5 rfl) ?_
          refine wa_get (v := .ref (ad 0)) X hH (have h9 := (XW.c24 hX); h9) wcX2 15 (by decide) q368 rfl (fun _ h9 => h9) rfl dX2_votes_89 ?_
          refine wa_getN (v := .ref (ad 1)) X hH (have h9 := (XW.c0 hX); h9) wcX0 0 (by decide) q416 rfl (fun _ h9 => h9) rfl dX2_votes_92 ?_
          refine wa_getN (v := .ref (ad 3)) X hH (have h9 := (XW.c1 hX); h9) wcX1 4 (by decide) q174 rfl (fun _ h9 => h9) rfl dX2_votes_95 ?_
          refine wz_iconst X.x X.b dX2_votes_98 ?_
          refine wa_iald (f := A 10) X hH (have h9 := (XW.c3 hX); h9) (by omega) (by omega) (by omega) dX2_votes_99 ?_
          refine wz_icmp_lt (tgt := 107) X.x X.b dX2_votes_100 (by decide) ⟨by omega, by omega⟩ ⟨by omega, by omega⟩ (fun c100 => ?_) (fun c100 => ?_)
          · refine wz_iconst X.x X.b dX2_votes_107 ?_
            refine lv_istore (lv' := [(10, .int (zI 0)), (9, .int (zI (((κ n0).2.2.1) - f))), (8, .int (zI (((κ n0).2.1) - e))), (7, .ref q_29), (5, .int (zI n)), (6, .ref it_12), (0, .ref (ad 24)), (1, .int (zI a)), (2, .int (zI b)), (3, .int (zI e)), (4, .int (zI f))]) X.x X.b dX2_votes_108 hl (by decide) rfl (fun ls hl => ?_)
            refine lv_iload X.x X.b dX2_votes_110 (lv_at hl 4 rfl) ?_
            refine lv_iload X.x X.b dX2_votes_112 (lv_at hl 0 rfl) ?_
            refine wz_ifeq (tgt := 164) X.x X.b dX2_votes_114 (by decide) (by decide) (fun _ => ?_) (fun h => absurd h (by decide))
            refine wz_iconst X.x X.b dX2_votes_164 ?_
            refine wz_iadd X.x X.b dX2_votes_165 ?_
            have hvt : vtK g b e f (κ n0) = 0 := if_neg (fun q => by
              obtain ⟨q1, q2, q3⟩ := q
              first | exact b62 q1 | omega)
            refine lv_istore (lv' := [(5, .int (zI (n + 0))), (10, .int (zI 0)), (9, .int (zI (((κ n0).2.2.1) - f))), (8, .int (zI (((κ n0).2.1) - e))), (7, .ref q_29), (6, .ref it_12), (0, .ref (ad 24)), (1, .int (zI a)), (2, .int (zI b)), (3, .int (zI e)), (4, .int (zI f))]) X.x X.b dX2_votes_166 hl (by decide) rfl (fun ls hl => ?_)
            refine lv_goto (tgt := 17) X.x X.b dX2_votes_168 (by decide) ?_
            exact ih17 _ (by have e9 := hmu17; rw [eb] at e9; simp at e9; omega) (n + 0) (a1 ++ [n0]) b2 (some n0) rfl (by rw [hla]; simp) (by rw [List.map_append, sumK_app, ← i17_1]; show _ = n + (vtK g b e f (κ n0) + 0); omega) _ _ _ _ hX hK hPX hWY hJC fpb hit hTF hNV hH hS (lv_sub hl [0, 5, 6, 7, 8, 9, 10] rfl)
          · refine wz_iconst X.x X.b dX2_votes_103 ?_
            refine lv_goto (tgt := 108) X.x X.b dX2_votes_104 (by decide) ?_
            refine lv_istore (lv' := [(10, .int (zI 1)), (9, .int (zI (((κ n0).2.2.1) - f))), (8, .int (zI (((κ n0).2.1) - e))), (7, .ref q_29), (5, .int (zI n)), (6, .ref it_12), (0, .ref (ad 24)), (1, .int (zI a)), (2, .int (zI b)), (3, .int (zI e)), (4, .int (zI f))]) X.x X.b dX2_votes_108 hl (by decide) rfl (fun ls hl => ?_)
            refine lv_iload X.x X.b dX2_votes_110 (lv_at hl 4 rfl) ?_
            refine lv_iload X.x X.b dX2_votes_112 (lv_at hl 0 rfl) ?_
            refine wz_ifeq (tgt := 164) X.x X.b dX2_votes_114 (by decide) (by decide) (fun h => absurd h (by decide)) (fun _ => ?_)
            refine lv_aload_n X.x X.b dX2_votes_117 rfl (lv_at hl 6 rfl) ?_
            refine wa_get (v := .ref (ad 0)) X hH (have h9 := (XW.c24 hX); h9) wcX2 15 (by decide) q368 rfl (fun _ h9 => h9) rfl dX2_votes_118 ?_
            refine wa_getN (v := .ref (ad 1)) X hH (have h9 := (XW.c0 hX); h9) wcX0 0 (by decide) q416 rfl (fun _ h9 => h9) rfl dX2_votes_121 ?_
            refine wa_getN (v := .ref (ad 2)) X hH (have h9 := (XW.c1 hX); h9) wcX1 2 (by decide) q168 rfl (fun _ h9 => h9) rfl dX2_votes_124 ?_
            refine lv_iload_n X.x X.b dX2_votes_127 rfl (lv_at hl 8 rfl) ?_
            refine wa_aald (k := 2) (f := B 10) X hH (have h9 := (XW.c2 hX); h9) rfl rfl (by omega) (by omega) (by omega) dX2_votes_128 ?_
            refine wz_opt (q := some pb) (by exact hpb0) ?_
            refine lv_iload X.x X.b dX2_votes_129 (lv_at hl 2 rfl) ?_
            refine lv_iload X.x X.b dX2_votes_131 (lv_at hl 1 rfl) ?_
            refine wa_ci hS (wa_rV (rest := [.int (zI n)]) X hH (mX8_at  (show At w29 pb (eO 8 [.ref bb, .int (zI (sh g b 0)), .int (zI (sh g b 1)), .int (zI (sh g b 2))]) from fpb.1.2) (show At w29 bb (eI G 32 fb) from fpb.2.2) (((κ n0).2.1) - e) (((κ n0).2.2.1) - f) (by omega)) (cwV 2 X.t (lw_V q681 q200 q201 q126 q202) rfl rfl rfl hdX8_at ⟨Nat.le_of_ble_eq_true rfl, Nat.le_of_ble_eq_true rfl⟩) rfl fpb.1.2 rfl rfl hl.1 rfl (Nat.le_of_ble_eq_true rfl) dX2_votes_133 ⟨Nat.le_of_ble_eq_true rfl, Nat.le_of_ble_eq_true rfl⟩) (fun z w133 H locs hp hH hS => ?_)
            obtain ⟨rfl, hw⟩ := hp
            rw [← hw] at hH; clear hw
            refine lv_aload X.x X.b dX2_votes_136 (lv_at hl 3 rfl) ?_
            refine wa_getN (v := .int (zI ((κ n0).2.2.2))) X hH fk.2 wcX9 2 (by decide) q691 rfl (fun _ h9 => h9) rfl dX2_votes_138 ?_
            refine wz_isub X.x X.b dX2_votes_141 ?_
            refine wa_ci hS (wa_rS (rest := [.int (zI n)]) X hH (mJ0_abs _  ((fb (8 * (((κ n0).2.1) - e) + (((κ n0).2.2.1) - f))) - ((κ n0).2.2.2)) (show rI (fb (8 * ((κ n0).2.1 - e) + ((κ n0).2.2.1 - f)) - (κ n0).2.2.2) by unfold rI; omega)) (va_cwS 1 X.t (lw_S q1047 q204 q111 q205) rfl rfl rfl hdJ0_abs.2 ⟨Nat.le_of_ble_eq_true rfl, Nat.le_of_ble_eq_true rfl⟩) rfl rfl hl.1 rfl (Nat.le_of_ble_eq_true rfl) dX2_votes_142 ⟨Nat.le_of_ble_eq_true rfl, Nat.le_of_ble_eq_true rfl⟩) (fun z w142 H locs hp hH hS => ?_)
            obtain ⟨rfl, hw⟩ := hp
            rw [← hw] at hH; clear hw
            refine lv_aload_n X.x X.b dX2_votes_145 rfl (lv_at hl 6 rfl) ?_
            refine wa_get (v := .ref (ad 0)) X hH (have h9 := (XW.c24 hX); h9) wcX2 15 (by decide) q368 rfl (fun _ h9 => h9) rfl dX2_votes_146 ?_
            refine wa_getN (v := .ref (ad 1)) X hH (have h9 := (XW.c0 hX); h9) wcX0 0 (by decide) q416 rfl (fun _ h9 => h9) rfl dX2_votes_149 ?_
            refine wa_getN (v := .ref (ad 3)) X hH (have h9 := (XW.c1 hX); h9) wcX1 4 (by decide) q174 rfl (fun _ h9 => h9) rfl dX2_votes_152 ?_
            refine wz_iconst X.x X.b dX2_votes_155 ?_
            refine wa_iald (f := A 10) X hH (have h9 := (XW.c3 hX); h9) (by omega) (by omega) (by omega) dX2_votes_156 ?_
            refine wz_icmp_gt (tgt := 164) X.x X.b dX2_votes_157 (by decide) ⟨by omega, by omega⟩ ⟨by omega, by omega⟩ (fun c157 => ?_) (fun c157 => ?_)
            · refine wz_iconst X.x X.b dX2_votes_164 ?_
              refine wz_iadd X.x X.b dX2_votes_165 ?_
              have hvt : vtK g b e f (κ n0) = 0 := if_neg (fun q => by
                obtain ⟨q1, q2, q3⟩ := q
                first | exact b62 q1 | omega)
              refine lv_istore (lv' := [(5, .int (zI (n + 0))), (10, .int (zI 1)), (9, .int (zI (((κ n0).2.2.1) - f))), (8, .int (zI (((κ n0).2.1) - e))), (7, .ref q_29), (6, .ref it_12), (0, .ref (ad 24)), (1, .int (zI a)), (2, .int (zI b)), (3, .int (zI e)), (4, .int (zI f))]) X.x X.b dX2_votes_166 hl (by decide) rfl (fun ls hl => ?_)
              refine lv_goto (tgt := 17) X.x X.b dX2_votes_168 (by decide) ?_
              exact ih17 _ (by have e9 := hmu17; rw [eb] at e9; simp at e9; omega) (n + 0) (a1 ++ [n0]) b2 (some n0) rfl (by rw [hla]; simp) (by rw [List.map_append, sumK_app, ← i17_1]; show _ = n + (vtK g b e f (κ n0) + 0); omega) _ _ _ _ hX hK hPX hWY hJC fpb hit hTF hNV hH hS (lv_sub hl [0, 5, 6, 7, 8, 9, 10] rfl)
            · refine wz_iconst X.x X.b dX2_votes_160 ?_
              refine lv_goto (tgt := 165) X.x X.b dX2_votes_161 (by decide) ?_
              refine wz_iadd X.x X.b dX2_votes_165 ?_
              have hvt : vtK g b e f (κ n0) = 1 := if_pos ⟨b62, by omega, by omega⟩
              refine lv_istore (lv' := [(5, .int (zI (n + 1))), (10, .int (zI 1)), (9, .int (zI (((κ n0).2.2.1) - f))), (8, .int (zI (((κ n0).2.1) - e))), (7, .ref q_29), (6, .ref it_12), (0, .ref (ad 24)), (1, .int (zI a)), (2, .int (zI b)), (3, .int (zI e)), (4, .int (zI f))]) X.x X.b dX2_votes_166 hl (by decide) rfl (fun ls hl => ?_)
              refine lv_goto (tgt := 17) X.x X.b dX2_votes_168 (by decide) ?_
              exact ih17 _ (by have e9 := hmu17; rw [eb] at e9; simp at e9; omega) (n + 1) (a1 ++ [n0]) b2 (some n0) rfl (by rw [hla]; simp) (by rw [List.map_append, sumK_app, ← i17_1]; show _ = n + (vtK g b e f (κ n0) + 0); omega) _ _ _ _ hX hK hPX hWY hJC fpb hit hTF hNV hH hS (lv_sub hl [0, 5, 6, 7, 8, 9, 10] rfl)
        · have b62 : ¬ ((1 ≤ (((κ n0).2.1) - e) ∧ (((κ n0).2.1) - e) ≤ 2) ∧ 1 ≤ (((κ n0).2.2.1) - f) ∧ (((κ n0).2.2.1) - f) ≤ 6) := b62
          refine wz_ifeq (tgt := 107) X.x X.b dX2_votes_65 (by decide) (by decide) (fun _ => ?_) (fun h => absurd h (by decide))
          refine wz_iconst X.x X.b dX2_votes_107 ?_
          refine lv_istore (lv' := [(10, .int (zI 0)), (9, .int (zI (((κ n0).2.2.1) - f))), (8, .int (zI (((κ n0).2.1) - e))), (7, .ref q_29), (5, .int (zI n)), (6, .ref it_12), (0, .ref (ad 24)), (1, .int (zI a)), (2, .int (zI b)), (3, .int (zI e)), (4, .int (zI f))]) X.x X.b dX2_votes_108 hl (by decide) rfl (fun ls hl => ?_)
          refine lv_iload X.x X.b dX2_votes_110 (lv_at hl 4 rfl) ?_
          refine lv_iload X.x X.b dX2_votes_112 (lv_at hl 0 rfl) ?_
          refine wz_ifeq (tgt := 164) X.x X.b dX2_votes_114 (by decide) (by decide) (fun _ => ?_) (fun h => absurd h (by decide))
          refine wz_iconst X.x X.b dX2_votes_164 ?_
          refine wz_iadd X.x X.b dX2_votes_165 ?_
          have hvt : vtK g b e f (κ n0) = 0 := if_neg (fun q => by
            obtain ⟨q1, q2, q3⟩ := q
            first | exact b62 q1 | omega)
          refine lv_istore (lv' := [(5, .int (zI (n + 0))), (10, .int (zI 0)), (9, .int (zI (((κ n0).2.2.1) - f))), (8, .int (zI (((κ n0).2.1) - e))), (7, .ref q_29), (6, .ref it_12), (0, .ref (ad 24)), (1, .int (zI a)), (2, .int (zI b)), (3, .int (zI e)), (4, .int (zI f))]) X.x X.b dX2_votes_166 hl (by decide) rfl (fun ls hl => ?_)
          refine lv_goto (tgt := 17) X.x X.b dX2_votes_168 (by decide) ?_
          exact ih17 _ (by have e9 := hmu17; rw [eb] at e9; simp at e9; omega) (n + 0) (a1 ++ [n0]) b2 (some n0) rfl (by rw [hla]; simp) (by rw [List.map_append, sumK_app, ← i17_1]; show _ = n + (vtK g b e f (κ n0) + 0); omega) _ _ _ _ hX hK hPX hWY hJC fpb hit hTF hNV hH hS (lv_sub hl [0, 5, 6, 7, 8, 9, 10] rfl)
      · have b19 : ¬ (¬ (b1.head?) = none) := b19
        refine wz_ifeq (tgt := 171) X.x X.b dX2_votes_24 (by decide) (by decide) (fun _ => ?_) (fun h => absurd h (by decide))
        refine lv_iload X.x X.b dX2_votes_171 (lv_at hl 0 rfl) ?_
        refine W.widen (k := 2) (n := 5) (by first | exact Nat.le_of_ble_eq_true rfl | omega) (by first | exact Nat.le_of_ble_eq_true rfl | omega) ?_
        exact wa_iret X hH hS dX2_votes_173 ⟨by (have e1 := head_none b19; rw [e1, List.append_nil] at i17_0; rw [i17_1, ← i17_0, ha]; exact hCL.votes), ⟨_, hX, hK, (fun j hj => hx12_2 j (by omega)), hNV⟩⟩
  exact L17 _ 0 ([]) l none rfl (by rfl) (by rfl) _ _ _ _ hX hK hPX hWY hJC fpb hit hTF hNV hH hS (lv_sub hl [1, 0, 2, 3, 4, 5, 6] rfl)

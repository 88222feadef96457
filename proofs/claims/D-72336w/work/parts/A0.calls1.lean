/-! CALLS: value, change, corners, votes, link, chain -/
set_option maxRecDepth 100000 in
theorem mX2_finds_0 {lL : Launch} {G : wa_G} {ad : Nat → Nat} {w : wa_W} {S : Nat → Int} {A : Nat → Int → Int} {B : Nat → Int → Option Nat} {P : Nat → Option Nat} (hX : XW G ad w S A B P)   (h4 : S 4 = 0) : Met lL yX2_finds (ws_ yX2_finds cX2_finds 2 (none : Option FieldType)) ({ frames := 0, cells := 0, slots := 0, locals := 0 } : Room) (wa_P G w [.ref (ad 24)]) (wa_Qv G fun u => w = u) 0 0 (wa_A G) := by
  refine wa_met (by decide) (by exact Nat.le_of_ble_eq_true rfl) ?_
  intro pP eE sS mM aA bB mT cC ls X hl hH
  have hS : va_S (wa_A G) sS.heap sS.heap [] := va_S.rf
  have hl : lv_has ls 2 [(0, .ref (ad 24))] := hl
  have hK : Kp ad w w := Kp.rf
  refine lv_aload_n X.x X.b dX2_finds_0 rfl (lv_at hl 0 rfl) ?_
  refine wa_get (v := .int (zI (S 4))) X hH (have h9 := (XW.c24 hX); h9) wcX2 0 (by decide) q340 rfl (fun _ h9 => h9) rfl dX2_finds_1 ?_
  refine wz_ifne (tgt := 8) X.x X.b dX2_finds_4 (by decide) ⟨by omega, by omega⟩ (fun c4 => by exfalso; omega) (fun c4 => ?_)
  exact wa_vret X hH hS dX2_finds_7 rfl
set_option maxRecDepth 100000 in
theorem mX0_joined {lL : Launch} {G : wa_G} {ad : Nat → Nat} {w : wa_W} {S : Nat → Int} {A : Nat → Int → Int} {B : Nat → Int → Option Nat} {P : Nat → Option Nat} (hX : XW G ad w S A B P) {g : Int → Int} {past : Int → Int} {re : Int → Int} {tx : Int → Int} {st : Int} {ck : Int} {co : Int} {tl : Int} {qt : Int} (hI : XI G ad w S A B P g past re tx st ck co tl qt)  : Met lL yX0_joined (ws_ yX0_joined cX0_joined 1 (some (FieldType.object "PictureRing$Joine\x72"))) ({ frames := 11, cells := 5400, slots := 17400, locals := 3207 } : Room) (wa_P G w [.ref (ad 0)]) (wa_Qr G fun r u => r = some (ad 24) ∧ ∃ (S2 : Nat → Int) (A2 : Nat → Int → Int) (B2 : Nat → Int → Option Nat) (P2 : Nat → Option Nat), XW G ad u S2 A2 B2 P2 ∧ Kp ad w u ∧ (XI G ad u S2 A2 B2 P2 g past re tx st ck co tl qt) ∧ (JR G ad u S2 A2 B2 P2 g) ∧ (S2 4 = 0)) 5400 17400 (wa_A G) := by
  refine wa_met (by decide) (by exact Nat.le_of_ble_eq_true rfl) ?_
  intro pP eE sS mM aA bB mT cC ls X hl hH
  have hS : va_S (wa_A G) sS.heap sS.heap [] := va_S.rf
  have hl : lv_has ls 1 [(0, .ref (ad 0))] := hl
  have hK : Kp ad w w := Kp.rf
  have hI_0 := hI
  obtain ⟨ho, hST, hXJ, hRX⟩ := id hI
  have hmany := ho.many
  have hPX : PX G ad w (B 10) g := hST.2.2.1
  have hWY : WAYS G ad w (B 5) := hRX.1
  have hNV : NVX ad w P := hRX.2.1
  have hm : S 30 = g 3 := hST.1.2
  have hwd : S 20 = g 0 := hST.1.1
  have hg : A 10 0 = g 1 ∧ A 10 1 = g 2 := hST.2.1
  have hwide := ho.wide
  have hS0 : S 0 = st := hRX.2.2.2.1.1
  have hS1 : S 1 = qt := hRX.2.2.2.1.2.1
  have hS2 : S 2 = tl := hRX.2.2.2.1.2.2.1
  have hstr := hRX.2.2.2.2.2.2.2.1
  have htlr := hRX.2.2.2.2.2.2.2.2.1
  have hqt := hRX.2.2.2.2.2.2.2.2.2.1
  have hPX_0 := hPX
  have hWY_0 := hWY
  have hNV_0 := hNV
  have hXJ_0 := hXJ
  refine lv_aload_n X.x X.b dX0_joined_0 rfl (lv_at hl 0 rfl) ?_
  refine wa_get (v := .ref (ad 24)) X hH (have h9 := (XW.c0 hX); h9) wcX0 6 (by decide) q424 rfl (fun _ h9 => h9) rfl dX0_joined_1 ?_
  refine wa_cv hS (wa_rV (rest := []) X hH (mX2_finds hX hPX hWY hNV hXJ  ho hm (show A 10 0 = g 1 ∧ A 10 1 = g 2 by first | assumption | omega) (hRX.2.2.2.1.2.2.2)) (cwV 0 X.t (lw_V q657 q658 q659 q112 q660) rfl rfl rfl hdX2_finds ⟨Nat.le_of_ble_eq_true rfl, Nat.le_of_ble_eq_true rfl⟩) rfl (have h9 := (XW.c24 hX); h9) rfl rfl hl.1 rfl (Nat.le_of_ble_eq_true rfl) dX0_joined_4 ⟨Nat.le_of_ble_eq_true rfl, Nat.le_of_ble_eq_true rfl⟩) (fun w4 H locs hp hH hS => ?_)
  obtain ⟨S2_4, A2_4, B2_4, P2_4, hX, hk, hx4_0, hx4_1, hx4_2, hx4_3⟩ := hp
  have hI := hI.kp hk
  have hPX := hPX.kp hk
  have hWY := hWY.kp hk
  have hNV := hNV.kp hk
  have hXJ := hXJ.kp hk
  have hK := hK.kp hk
  have hNV := hx4_2
  refine lv_aload_n X.x X.b dX0_joined_7 rfl (lv_at hl 0 rfl) ?_
  refine wa_get (v := .ref (ad 24)) X hH (have h9 := (XW.c0 hX); h9) wcX0 6 (by decide) q424 rfl (fun _ h9 => h9) rfl dX0_joined_8 ?_
  refine W.widen (k := 5400) (n := 17400) (by first | exact Nat.le_of_ble_eq_true rfl | omega) (by first | exact Nat.le_of_ble_eq_true rfl | omega) ?_
  exact wa_aret X (Or.inl ⟨_, rfl⟩) hH hS (some (ad 24)) dX0_joined_11 ⟨by first | rfl | omega | assumption, ⟨_, _, _, _, hX, hK, hI.jn hx4_0 hx4_1 hNV hx4_3, hx4_1, hx4_3.2⟩⟩
set_option maxRecDepth 100000 in
theorem mX0_joined_0 {lL : Launch} {G : wa_G} {ad : Nat → Nat} {w : wa_W} {S : Nat → Int} {A : Nat → Int → Int} {B : Nat → Int → Option Nat} {P : Nat → Option Nat} (hX : XW G ad w S A B P)   (h4 : S 4 = 0) : Met lL yX0_joined (ws_ yX0_joined cX0_joined 1 (some (FieldType.object "PictureRing$Joine\x72"))) ({ frames := 1, cells := 0, slots := 0, locals := 21 } : Room) (wa_P G w [.ref (ad 0)]) (wa_Qr G fun r u => r = some (ad 24) ∧ w = u) 0 0 (wa_A G) := by
  refine wa_met (by decide) (by exact Nat.le_of_ble_eq_true rfl) ?_
  intro pP eE sS mM aA bB mT cC ls X hl hH
  have hS : va_S (wa_A G) sS.heap sS.heap [] := va_S.rf
  have hl : lv_has ls 1 [(0, .ref (ad 0))] := hl
  have hK : Kp ad w w := Kp.rf
  refine lv_aload_n X.x X.b dX0_joined_0 rfl (lv_at hl 0 rfl) ?_
  refine wa_get (v := .ref (ad 24)) X hH (have h9 := (XW.c0 hX); h9) wcX0 6 (by decide) q424 rfl (fun _ h9 => h9) rfl dX0_joined_1 ?_
  refine wa_cv hS (wa_rV (rest := []) X hH (mX2_finds_0 hX   (show S 4 = 0 by first | assumption | omega)) (cwV 0 X.t (lw_V q657 q658 q659 q112 q660) rfl rfl rfl hdX2_finds ⟨Nat.le_of_ble_eq_true rfl, Nat.le_of_ble_eq_true rfl⟩) rfl (have h9 := (XW.c24 hX); h9) rfl rfl hl.1 rfl (Nat.le_of_ble_eq_true rfl) dX0_joined_4 ⟨Nat.le_of_ble_eq_true rfl, Nat.le_of_ble_eq_true rfl⟩) (fun w4 H locs hp hH hS => ?_)
  have hw := hp
  rw [← hw] at hH; clear hw
  refine lv_aload_n X.x X.b dX0_joined_7 rfl (lv_at hl 0 rfl) ?_
  refine wa_get (v := .ref (ad 24)) X hH (have h9 := (XW.c0 hX); h9) wcX0 6 (by decide) q424 rfl (fun _ h9 => h9) rfl dX0_joined_8 ?_
  exact wa_aret X (Or.inl ⟨_, rfl⟩) hH hS (some (ad 24)) dX0_joined_11 ⟨by first | rfl | omega | assumption, rfl⟩
set_option maxRecDepth 100000 in
theorem mX0_value {lL : Launch} {G : wa_G} {ad : Nat → Nat} {w : wa_W} {S : Nat → Int} {A : Nat → Int → Int} {B : Nat → Int → Option Nat} {P : Nat → Option Nat} (hX : XW G ad w S A B P) {g : Int → Int} {past : Int → Int} {re : Int → Int} {tx : Int → Int} {st : Int} {ck : Int} {co : Int} {tl : Int} {qt : Int} (hI : XI G ad w S A B P g past re tx st ck co tl qt) (k : Int) (r : Int) (c : Int) (r_k : rI k) (r_r : rI r) (r_c : rI c) : Met lL yX0_value (ws_ yX0_value cX0_value 4 (some FieldType.int)) ({ frames := 2, cells := 0, slots := 0, locals := 47 } : Room) (wa_P G w [.ref (ad 0), .int (zI k), .int (zI r), .int (zI c)]) (wa_Qz G fun z u => z = valueV g k r c ∧ ∃ (S2 : Nat → Int) (A2 : Nat → Int → Int) (B2 : Nat → Int → Option Nat) (P2 : Nat → Option Nat), XW G ad u S2 A2 B2 P2 ∧ Kp ad w u ∧ (XI G ad u S2 A2 B2 P2 g past (rfu re (bad (okValue g k r c))) tx st ck co tl qt)) 0 0 (wa_A G) := by
  refine wa_met (by decide) (by exact Nat.le_of_ble_eq_true rfl) ?_
  intro pP eE sS mM aA bB mT cC ls X hl hH
  have hS : va_S (wa_A G) sS.heap sS.heap [] := va_S.rf
  have hl : lv_has ls 4 [(0, .ref (ad 0)), (1, .int (zI k)), (2, .int (zI r)), (3, .int (zI c))] := hl
  have hK : Kp ad w w := Kp.rf
  have hI_0 := hI
  obtain ⟨ho, hST, hXJ, hRX⟩ := id hI
  have hmany := ho.many
  have hPX : PX G ad w (B 10) g := hST.2.2.1
  have hWY : WAYS G ad w (B 5) := hRX.1
  have hNV : NVX ad w P := hRX.2.1
  have hm : S 30 = g 3 := hST.1.2
  have hwd : S 20 = g 0 := hST.1.1
  have hg : A 10 0 = g 1 ∧ A 10 1 = g 2 := hST.2.1
  have hwide := ho.wide
  have hS0 : S 0 = st := hRX.2.2.2.1.1
  have hS1 : S 1 = qt := hRX.2.2.2.1.2.1
  have hS2 : S 2 = tl := hRX.2.2.2.1.2.2.1
  have hstr := hRX.2.2.2.2.2.2.2.1
  have htlr := hRX.2.2.2.2.2.2.2.2.1
  have hqt := hRX.2.2.2.2.2.2.2.2.2.1
  have hPX_0 := hPX
  have hWY_0 := hWY
  have hNV_0 := hNV
  have hXJ_0 := hXJ
  refine lv_iload_n X.x X.b dX0_value_0 rfl (lv_at hl 1 rfl) ?_
  refine wz_iconst X.x X.b dX0_value_1 ?_
  refine wz_icmp_ne (tgt := 36) X.x X.b dX0_value_2 (by decide) ⟨by omega, by omega⟩ ⟨by omega, by omega⟩ (fun c2 => ?_) (fun c2 => ?_)
  · refine lv_aload_n X.x X.b dX0_value_36 rfl (lv_at hl 0 rfl) ?_
    refine lv_iload_n X.x X.b dX0_value_37 rfl (lv_at hl 1 rfl) ?_
    refine wa_ci hS (wa_rV (rest := []) X hH (mX0_isPicture hX  k (show rI k by first | assumption | omega) (show 0 ≤ S 30 ∧ S 30 ≤ 6 by first | assumption | omega)) (cwV 1 X.t (lw_V q572 q574 qs9 q109 q575) rfl rfl rfl hdX0_isPicture ⟨Nat.le_of_ble_eq_true rfl, Nat.le_of_ble_eq_true rfl⟩) rfl (have h9 := (XW.c0 hX); h9) rfl rfl hl.1 rfl (Nat.le_of_ble_eq_true rfl) dX0_value_38 ⟨Nat.le_of_ble_eq_true rfl, Nat.le_of_ble_eq_true rfl⟩) (fun z w38 H locs hp hH hS => ?_)
    obtain ⟨hb, hw⟩ := hp
    rw [← hw] at hH; clear hw
    rcases hb with ⟨b38, rfl⟩ | ⟨b38, rfl⟩
    · have b38 : (0 ≤ k ∧ k ≤ S 30 - 1) := b38
      refine wz_ifeq (tgt := 69) X.x X.b dX0_value_41 (by decide) (by decide) (fun h => absurd h (by decide)) (fun _ => ?_)
      refine lv_iload_n X.x X.b dX0_value_44 rfl (lv_at hl 2 rfl) ?_
      refine lv_iload_n X.x X.b dX0_value_45 rfl (lv_at hl 3 rfl) ?_
      refine wa_ci hS (wa_rS (rest := []) X hH (mX0_isCell _  r c (show rI r by first | assumption | omega) (show rI c by first | assumption | omega)) (va_cwS 2 X.t (lw_S q576 q577 q109 q578) rfl rfl rfl hdX0_isCell.2 ⟨Nat.le_of_ble_eq_true rfl, Nat.le_of_ble_eq_true rfl⟩) rfl rfl hl.1 rfl (Nat.le_of_ble_eq_true rfl) dX0_value_46 ⟨Nat.le_of_ble_eq_true rfl, Nat.le_of_ble_eq_true rfl⟩) (fun z w46 H locs hp hH hS => ?_)
      obtain ⟨hb, hw⟩ := hp
      rw [← hw] at hH; clear hw
      rcases hb with ⟨b46, rfl⟩ | ⟨b46, rfl⟩
      · have b46 : ((0 ≤ r ∧ r ≤ 3) ∧ 0 ≤ c ∧ c ≤ 7) := b46
        refine wz_ifeq (tgt := 69) X.x X.b dX0_value_49 (by decide) (by decide) (fun h => absurd h (by decide)) (fun _ => ?_)
        refine lv_aload_n X.x X.b dX0_value_52 rfl (lv_at hl 0 rfl) ?_
        refine wa_get (v := .ref (ad 1)) X hH (have h9 := (XW.c0 hX); h9) wcX0 0 (by decide) q417 rfl (fun _ h9 => h9) rfl dX0_value_53 ?_
        refine wa_getN (v := .ref (ad 2)) X hH (have h9 := (XW.c1 hX); h9) wcX1 2 (by decide) q169 rfl (fun _ h9 => h9) rfl dX0_value_56 ?_
        refine lv_iload_n X.x X.b dX0_value_59 rfl (lv_at hl 1 rfl) ?_
        obtain ⟨p, b, f, hp0, fp, ap⟩ := hPX k (by omega) (by omega)
        have cp := pcA.cB ap ho (by omega)
        have fp_0 := fp
        refine wa_aald (k := 2) (f := B 10) X hH (have h9 := (XW.c2 hX); h9) rfl rfl (by omega) (by omega) (by omega) dX0_value_60 ?_
        refine wz_opt (q := some p) (by exact hp0) ?_
        refine lv_iload_n X.x X.b dX0_value_61 rfl (lv_at hl 2 rfl) ?_
        refine lv_iload_n X.x X.b dX0_value_62 rfl (lv_at hl 3 rfl) ?_
        refine wa_ci hS (wa_rV (rest := []) X hH (mX8_at  (show At w p (eO 8 [.ref b, .int (zI (sh g k 0)), .int (zI (sh g k 1)), .int (zI (sh g k 2))]) from fp.1.2) (show At w b (eI G 32 f) from fp.2.2) r c (by omega)) (cwV 2 X.t (lw_V q199 q200 q201 q126 q202) rfl rfl rfl hdX8_at ⟨Nat.le_of_ble_eq_true rfl, Nat.le_of_ble_eq_true rfl⟩) rfl fp.1.2 rfl rfl hl.1 rfl (Nat.le_of_ble_eq_true rfl) dX0_value_63 ⟨Nat.le_of_ble_eq_true rfl, Nat.le_of_ble_eq_true rfl⟩) (fun z w63 H locs hp hH hS => ?_)
        obtain ⟨rfl, hw⟩ := hp
        rw [← hw] at hH; clear hw
        have hv := ap r c (by omega) (by omega) (by omega) (by omega)
        refine lv_goto (tgt := 73) X.x X.b dX0_value_66 (by decide) ?_
        exact wa_iret X hH hS dX0_value_73 ⟨by unfold valueV; first | (rw [if_pos (by omega), if_pos (by omega)]; exact hv) | (rw [if_pos (by omega), if_neg (by omega)]; exact hv) | (rw [if_neg (by omega)]), ⟨_, _, _, _, hX, hK, (hI).rv (by (try simp only [rfu, bad]) <;> ((repeat' split) <;> first | rfl | (exfalso; omega) | contradiction))⟩⟩
      · have b46 : ¬ ((0 ≤ r ∧ r ≤ 3) ∧ 0 ≤ c ∧ c ≤ 7) := b46
        refine wz_ifeq (tgt := 69) X.x X.b dX0_value_49 (by decide) (by decide) (fun _ => ?_) (fun h => absurd h (by decide))
        refine lv_aload_n X.x X.b dX0_value_69 rfl (lv_at hl 0 rfl) ?_
        refine wa_ci hS (wa_rV (rest := []) X hH (mX0_bad hX   ) (cwV 0 X.t (lw_V q492 q494 qs3 q109 q495) rfl rfl rfl hdX0_bad ⟨Nat.le_of_ble_eq_true rfl, Nat.le_of_ble_eq_true rfl⟩) rfl (have h9 := (XW.c0 hX); h9) rfl rfl hl.1 rfl (Nat.le_of_ble_eq_true rfl) dX0_value_70 ⟨Nat.le_of_ble_eq_true rfl, Nat.le_of_ble_eq_true rfl⟩) (fun z w70 H locs hp hH hS => ?_)
        obtain ⟨rfl, ⟨hX, hk⟩⟩ := hp
        have hI := hI.kp hk
        have hPX := hPX.kp hk
        have hWY := hWY.kp hk
        have hNV := hNV.kp hk
        have hXJ := hXJ.kp hk
        have hK := hK.kp hk
        exact wa_iret X hH hS dX0_value_73 ⟨by unfold valueV; first | (rw [if_pos (by omega), if_pos (by omega)]; exact hv) | (rw [if_pos (by omega), if_neg (by omega)]; exact hv) | (rw [if_neg (by omega)]), ⟨_, _, _, _, hX, hK, ((hI).ref).rv (by (try simp only [rfu, bad]) <;> ((repeat' split) <;> first | rfl | (exfalso; omega) | contradiction))⟩⟩
    · have b38 : ¬ (0 ≤ k ∧ k ≤ S 30 - 1) := b38
      refine wz_ifeq (tgt := 69) X.x X.b dX0_value_41 (by decide) (by decide) (fun _ => ?_) (fun h => absurd h (by decide))
      refine lv_aload_n X.x X.b dX0_value_69 rfl (lv_at hl 0 rfl) ?_
      refine wa_ci hS (wa_rV (rest := []) X hH (mX0_bad hX   ) (cwV 0 X.t (lw_V q492 q494 qs3 q109 q495) rfl rfl rfl hdX0_bad ⟨Nat.le_of_ble_eq_true rfl, Nat.le_of_ble_eq_true rfl⟩) rfl (have h9 := (XW.c0 hX); h9) rfl rfl hl.1 rfl (Nat.le_of_ble_eq_true rfl) dX0_value_70 ⟨Nat.le_of_ble_eq_true rfl, Nat.le_of_ble_eq_true rfl⟩) (fun z w70 H locs hp hH hS => ?_)
      obtain ⟨rfl, ⟨hX, hk⟩⟩ := hp
      have hI := hI.kp hk
      have hPX := hPX.kp hk
      have hWY := hWY.kp hk
      have hNV := hNV.kp hk
      have hXJ := hXJ.kp hk
      have hK := hK.kp hk
      exact wa_iret X hH hS dX0_value_73 ⟨by unfold valueV; first | (rw [if_pos (by omega), if_pos (by omega)]; exact hv) | (rw [if_pos (by omega), if_neg (by omega)]; exact hv) | (rw [if_neg (by omega)]), ⟨_, _, _, _, hX, hK, ((hI).ref).rv (by (try simp only [rfu, bad]) <;> ((repeat' split) <;> first | rfl | (exfalso; omega) | contradiction))⟩⟩
  · refine lv_aload_n X.x X.b dX0_value_5 rfl (lv_at hl 0 rfl) ?_
    refine lv_iload_n X.x X.b dX0_value_6 rfl (lv_at hl 2 rfl) ?_
    refine lv_iload_n X.x X.b dX0_value_7 rfl (lv_at hl 3 rfl) ?_
    refine wa_ci hS (wa_rV (rest := []) X hH (mX0_isDot hX  r c (show rI r by first | assumption | omega) (show rI c by first | assumption | omega) (show S 20 = 0 ∨ 12 ≤ S 20 ∧ S 20 ≤ 32 by first | assumption | omega)) (cwV 2 X.t (lw_V q508 q510 qs6 q109 q511) rfl rfl rfl hdX0_isDot ⟨Nat.le_of_ble_eq_true rfl, Nat.le_of_ble_eq_true rfl⟩) rfl (have h9 := (XW.c0 hX); h9) rfl rfl hl.1 rfl (Nat.le_of_ble_eq_true rfl) dX0_value_8 ⟨Nat.le_of_ble_eq_true rfl, Nat.le_of_ble_eq_true rfl⟩) (fun z w8 H locs hp hH hS => ?_)
    obtain ⟨hb, hw⟩ := hp
    rw [← hw] at hH; clear hw
    rcases hb with ⟨b8, rfl⟩ | ⟨b8, rfl⟩
    · have b8 : ((0 ≤ r ∧ r ≤ 5) ∧ 0 ≤ c ∧ c ≤ S 20 - 1) := b8
      refine wz_ifeq (tgt := 31) X.x X.b dX0_value_11 (by decide) (by decide) (fun h => absurd h (by decide)) (fun _ => ?_)
      refine lv_aload_n X.x X.b dX0_value_14 rfl (lv_at hl 0 rfl) ?_
      refine wa_get (v := .ref (ad 1)) X hH (have h9 := (XW.c0 hX); h9) wcX0 0 (by decide) q417 rfl (fun _ h9 => h9) rfl dX0_value_15 ?_
      obtain ⟨wa0, wf0, hwa0, fwo, hwf0⟩ := hST.wo (by omega)
      refine wa_getN (v := va_rf (P 10)) X hH (have h9 := (XW.c1 hX); h9) wcX1 0 (by decide) q164 rfl (fun _ h9 => h9) rfl dX0_value_18 ?_
      refine wz_opt (q := some wa0) (by exact hwa0) ?_
      refine wz_bipush X.x X.b dX0_value_21 rfl ?_
      refine lv_iload_n X.x X.b dX0_value_23 rfl (lv_at hl 3 rfl) ?_
      refine wz_imul X.x X.b dX0_value_24 ?_
      refine lv_iload_n X.x X.b dX0_value_25 rfl (lv_at hl 2 rfl) ?_
      refine wz_iadd X.x X.b dX0_value_26 ?_
      refine wa_iald (f := wf0) X hH fwo.2 (by omega) (by omega) (by omega) dX0_value_27 ?_
      have hv := hwf0 r c (by omega) (by omega) (by omega) (by omega)
      refine lv_goto (tgt := 35) X.x X.b dX0_value_28 (by decide) ?_
      exact wa_iret X hH hS dX0_value_35 ⟨by unfold valueV; first | (rw [if_pos (by omega), if_pos (by omega)]; exact hv) | (rw [if_pos (by omega), if_neg (by omega)]; exact hv) | (rw [if_neg (by omega)]), ⟨_, _, _, _, hX, hK, (hI).rv (by (try simp only [rfu, bad]) <;> ((repeat' split) <;> first | rfl | (exfalso; omega) | contradiction))⟩⟩
    · have b8 : ¬ ((0 ≤ r ∧ r ≤ 5) ∧ 0 ≤ c ∧ c ≤ S 20 - 1) := b8
      refine wz_ifeq (tgt := 31) X.x X.b dX0_value_11 (by decide) (by decide) (fun _ => ?_) (fun h => absurd h (by decide))
      refine lv_aload_n X.x X.b dX0_value_31 rfl (lv_at hl 0 rfl) ?_
      refine wa_ci hS (wa_rV (rest := []) X hH (mX0_bad hX   ) (cwV 0 X.t (lw_V q492 q494 qs3 q109 q495) rfl rfl rfl hdX0_bad ⟨Nat.le_of_ble_eq_true rfl, Nat.le_of_ble_eq_true rfl⟩) rfl (have h9 := (XW.c0 hX); h9) rfl rfl hl.1 rfl (Nat.le_of_ble_eq_true rfl) dX0_value_32 ⟨Nat.le_of_ble_eq_true rfl, Nat.le_of_ble_eq_true rfl⟩) (fun z w32 H locs hp hH hS => ?_)
      obtain ⟨rfl, ⟨hX, hk⟩⟩ := hp
      have hI := hI.kp hk
      have hPX := hPX.kp hk
      have hWY := hWY.kp hk
      have hNV := hNV.kp hk
      have hXJ := hXJ.kp hk
      have hK := hK.kp hk
      exact wa_iret X hH hS dX0_value_35 ⟨by unfold valueV; first | (rw [if_pos (by omega), if_pos (by omega)]; exact hv) | (rw [if_pos (by omega), if_neg (by omega)]; exact hv) | (rw [if_neg (by omega)]), ⟨_, _, _, _, hX, hK, ((hI).ref).rv (by (try simp only [rfu, bad]) <;> ((repeat' split) <;> first | rfl | (exfalso; omega) | contradiction))⟩⟩
set_option maxRecDepth 100000 in
theorem mX0_change {lL : Launch} {G : wa_G} {ad : Nat → Nat} {w : wa_W} {S : Nat → Int} {A : Nat → Int → Int} {B : Nat → Int → Option Nat} {P : Nat → Option Nat} (hX : XW G ad w S A B P) {g : Int → Int} {past : Int → Int} {re : Int → Int} {tx : Int → Int} {st : Int} {ck : Int} {co : Int} {tl : Int} {qt : Int} (hI : XI G ad w S A B P g past re tx st ck co tl qt) (k : Int) (r : Int) (c : Int) (r_k : rI k) (r_r : rI r) (r_c : rI c) : Met lL yX0_change (ws_ yX0_change cX0_change 4 (some FieldType.int)) ({ frames := 4, cells := 0, slots := 0, locals := 97 } : Room) (wa_P G w [.ref (ad 0), .int (zI k), .int (zI r), .int (zI c)]) (wa_Qz G fun z u => z = changeV g k r c ∧ ∃ (S2 : Nat → Int) (A2 : Nat → Int → Int) (B2 : Nat → Int → Option Nat) (P2 : Nat → Option Nat), XW G ad u S2 A2 B2 P2 ∧ Kp ad w u ∧ (XI G ad u S2 A2 B2 P2 g past (rfu re (bad (okChange g k r c))) tx st ck co tl qt)) 0 0 (wa_A G) := by
  refine wa_met (by decide) (by exact Nat.le_of_ble_eq_true rfl) ?_
  intro pP eE sS mM aA bB mT cC ls X hl hH
  have hS : va_S (wa_A G) sS.heap sS.heap [] := va_S.rf
  have hl : lv_has ls 4 [(0, .ref (ad 0)), (1, .int (zI k)), (2, .int (zI r)), (3, .int (zI c))] := hl
  have hK : Kp ad w w := Kp.rf
  have hI_0 := hI
  obtain ⟨ho, hST, hXJ, hRX⟩ := id hI
  have hmany := ho.many
  have hPX : PX G ad w (B 10) g := hST.2.2.1
  have hWY : WAYS G ad w (B 5) := hRX.1
  have hNV : NVX ad w P := hRX.2.1
  have hm : S 30 = g 3 := hST.1.2
  have hwd : S 20 = g 0 := hST.1.1
  have hg : A 10 0 = g 1 ∧ A 10 1 = g 2 := hST.2.1
  have hwide := ho.wide
  have hS0 : S 0 = st := hRX.2.2.2.1.1
  have hS1 : S 1 = qt := hRX.2.2.2.1.2.1
  have hS2 : S 2 = tl := hRX.2.2.2.1.2.2.1
  have hstr := hRX.2.2.2.2.2.2.2.1
  have htlr := hRX.2.2.2.2.2.2.2.2.1
  have hqt := hRX.2.2.2.2.2.2.2.2.2.1
  have hPX_0 := hPX
  have hWY_0 := hWY
  have hNV_0 := hNV
  have hXJ_0 := hXJ
  refine lv_aload_n X.x X.b dX0_change_0 rfl (lv_at hl 0 rfl) ?_
  refine lv_iload_n X.x X.b dX0_change_1 rfl (lv_at hl 1 rfl) ?_
  refine wa_ci hS (wa_rV (rest := []) X hH (mX0_isPicture hX  k (show rI k by first | assumption | omega) (show 0 ≤ S 30 ∧ S 30 ≤ 6 by first | assumption | omega)) (cwV 1 X.t (lw_V q572 q574 qs9 q109 q575) rfl rfl rfl hdX0_isPicture ⟨Nat.le_of_ble_eq_true rfl, Nat.le_of_ble_eq_true rfl⟩) rfl (have h9 := (XW.c0 hX); h9) rfl rfl hl.1 rfl (Nat.le_of_ble_eq_true rfl) dX0_change_2 ⟨Nat.le_of_ble_eq_true rfl, Nat.le_of_ble_eq_true rfl⟩) (fun z w2 H locs hp hH hS => ?_)
  obtain ⟨hb, hw⟩ := hp
  rw [← hw] at hH; clear hw
  rcases hb with ⟨b2, rfl⟩ | ⟨b2, rfl⟩
  · have b2 : (0 ≤ k ∧ k ≤ S 30 - 1) := b2
    refine wz_ifeq (tgt := 37) X.x X.b dX0_change_5 (by decide) (by decide) (fun h => absurd h (by decide)) (fun _ => ?_)
    refine lv_iload_n X.x X.b dX0_change_8 rfl (lv_at hl 2 rfl) ?_
    refine lv_iload_n X.x X.b dX0_change_9 rfl (lv_at hl 3 rfl) ?_
    refine wa_ci hS (wa_rS (rest := []) X hH (mX0_isInner _  r c (show rI r by first | assumption | omega) (show rI c by first | assumption | omega)) (va_cwS 2 X.t (lw_S q614 q615 q109 q616) rfl rfl rfl hdX0_isInner.2 ⟨Nat.le_of_ble_eq_true rfl, Nat.le_of_ble_eq_true rfl⟩) rfl rfl hl.1 rfl (Nat.le_of_ble_eq_true rfl) dX0_change_10 ⟨Nat.le_of_ble_eq_true rfl, Nat.le_of_ble_eq_true rfl⟩) (fun z w10 H locs hp hH hS => ?_)
    obtain ⟨hb, hw⟩ := hp
    rw [← hw] at hH; clear hw
    rcases hb with ⟨b10, rfl⟩ | ⟨b10, rfl⟩
    · have b10 : ((1 ≤ r ∧ r ≤ 2) ∧ 1 ≤ c ∧ c ≤ 6) := b10
      refine wz_ifeq (tgt := 37) X.x X.b dX0_change_13 (by decide) (by decide) (fun h => absurd h (by decide)) (fun _ => ?_)
      refine lv_aload_n X.x X.b dX0_change_16 rfl (lv_at hl 0 rfl) ?_
      refine wa_get (v := .ref (ad 24)) X hH (have h9 := (XW.c0 hX); h9) wcX0 6 (by decide) q424 rfl (fun _ h9 => h9) rfl dX0_change_17 ?_
      refine lv_aload_n X.x X.b dX0_change_20 rfl (lv_at hl 0 rfl) ?_
      refine wa_get (v := .ref (ad 1)) X hH (have h9 := (XW.c0 hX); h9) wcX0 0 (by decide) q417 rfl (fun _ h9 => h9) rfl dX0_change_21 ?_
      refine wa_getN (v := .ref (ad 2)) X hH (have h9 := (XW.c1 hX); h9) wcX1 2 (by decide) q169 rfl (fun _ h9 => h9) rfl dX0_change_24 ?_
      obtain ⟨p, b, f, hp0, fp, ap⟩ := hPX k (by omega) (by omega)
      have cp := pcA.cB ap ho (by omega)
      have fp_0 := fp
      refine lv_iload_n X.x X.b dX0_change_27 rfl (lv_at hl 1 rfl) ?_
      refine wa_aald (k := 2) (f := B 10) X hH (have h9 := (XW.c2 hX); h9) rfl rfl (by omega) (by omega) (by omega) dX0_change_28 ?_
      refine wz_opt (q := some p) (by exact hp0) ?_
      refine lv_iload_n X.x X.b dX0_change_29 rfl (lv_at hl 2 rfl) ?_
      refine lv_iload_n X.x X.b dX0_change_30 rfl (lv_at hl 3 rfl) ?_
      refine wa_ci hS (wa_rV (rest := []) X hH (mX2_change hX fp hWY r c (by omega) (by omega) cp) (cwV 3 X.t (lw_V q618 q619 q620 q112 q621) rfl rfl rfl hdX2_change ⟨Nat.le_of_ble_eq_true rfl, Nat.le_of_ble_eq_true rfl⟩) rfl (have h9 := (XW.c24 hX); h9) rfl rfl hl.1 rfl (Nat.le_of_ble_eq_true rfl) dX0_change_31 ⟨Nat.le_of_ble_eq_true rfl, Nat.le_of_ble_eq_true rfl⟩) (fun z w31 H locs hp hH hS => ?_)
      obtain ⟨rfl, hw⟩ := hp
      rw [← hw] at hH; clear hw
      have hv := pcA.ch ap (r := r) (c := c) (by omega) (by omega)
      refine lv_goto (tgt := 41) X.x X.b dX0_change_34 (by decide) ?_
      exact wa_iret X hH hS dX0_change_41 ⟨by unfold changeV; first | (rw [if_pos (by omega)]; exact hv) | (rw [if_neg (by omega)]), ⟨_, _, _, _, hX, hK, (hI).rv (by (try simp only [rfu, bad]) <;> ((repeat' split) <;> first | rfl | (exfalso; omega) | contradiction))⟩⟩
    · have b10 : ¬ ((1 ≤ r ∧ r ≤ 2) ∧ 1 ≤ c ∧ c ≤ 6) := b10
      refine wz_ifeq (tgt := 37) X.x X.b dX0_change_13 (by decide) (by decide) (fun _ => ?_) (fun h => absurd h (by decide))
      refine lv_aload_n X.x X.b dX0_change_37 rfl (lv_at hl 0 rfl) ?_
      refine wa_ci hS (wa_rV (rest := []) X hH (mX0_bad hX   ) (cwV 0 X.t (lw_V q492 q494 qs3 q109 q495) rfl rfl rfl hdX0_bad ⟨Nat.le_of_ble_eq_true rfl, Nat.le_of_ble_eq_true rfl⟩) rfl (have h9 := (XW.c0 hX); h9) rfl rfl hl.1 rfl (Nat.le_of_ble_eq_true rfl) dX0_change_38 ⟨Nat.le_of_ble_eq_true rfl, Nat.le_of_ble_eq_true rfl⟩) (fun z w38 H locs hp hH hS => ?_)
      obtain ⟨rfl, ⟨hX, hk⟩⟩ := hp
      have hI := hI.kp hk
      have hPX := hPX.kp hk
      have hWY := hWY.kp hk
      have hNV := hNV.kp hk
      have hXJ := hXJ.kp hk
      have hK := hK.kp hk
      exact wa_iret X hH hS dX0_change_41 ⟨by unfold changeV; first | (rw [if_pos (by omega)]; exact hv) | (rw [if_neg (by omega)]), ⟨_, _, _, _, hX, hK, ((hI).ref).rv (by (try simp only [rfu, bad]) <;> ((repeat' split) <;> first | rfl | (exfalso; omega) | contradiction))⟩⟩
  · have b2 : ¬ (0 ≤ k ∧ k ≤ S 30 - 1) := b2
    refine wz_ifeq (tgt := 37) X.x X.b dX0_change_5 (by decide) (by decide) (fun _ => ?_) (fun h => absurd h (by decide))
    refine lv_aload_n X.x X.b dX0_change_37 rfl (lv_at hl 0 rfl) ?_
    refine wa_ci hS (wa_rV (rest := []) X hH (mX0_bad hX   ) (cwV 0 X.t (lw_V q492 q494 qs3 q109 q495) rfl rfl rfl hdX0_bad ⟨Nat.le_of_ble_eq_true rfl, Nat.le_of_ble_eq_true rfl⟩) rfl (have h9 := (XW.c0 hX); h9) rfl rfl hl.1 rfl (Nat.le_of_ble_eq_true rfl) dX0_change_38 ⟨Nat.le_of_ble_eq_true rfl, Nat.le_of_ble_eq_true rfl⟩) (fun z w38 H locs hp hH hS => ?_)
    obtain ⟨rfl, ⟨hX, hk⟩⟩ := hp
    have hI := hI.kp hk
    have hPX := hPX.kp hk
    have hWY := hWY.kp hk
    have hNV := hNV.kp hk
    have hXJ := hXJ.kp hk
    have hK := hK.kp hk
    exact wa_iret X hH hS dX0_change_41 ⟨by unfold changeV; first | (rw [if_pos (by omega)]; exact hv) | (rw [if_neg (by omega)]), ⟨_, _, _, _, hX, hK, ((hI).ref).rv (by (try simp only [rfu, bad]) <;> ((repeat' split) <;> first | rfl | (exfalso; omega) | contradiction))⟩⟩
set_option maxRecDepth 100000 in
theorem mX0_corners {lL : Launch} {G : wa_G} {ad : Nat → Nat} {w : wa_W} {S : Nat → Int} {A : Nat → Int → Int} {B : Nat → Int → Option Nat} {P : Nat → Option Nat} (hX : XW G ad w S A B P) {g : Int → Int} {past : Int → Int} {re : Int → Int} {tx : Int → Int} {st : Int} {ck : Int} {co : Int} {tl : Int} {qt : Int} (hI : XI G ad w S A B P g past re tx st ck co tl qt) (k : Int) (r_k : rI k) : Met lL yX0_corners (ws_ yX0_corners cX0_corners 2 (some FieldType.int)) ({ frames := 8, cells := 1, slots := 2, locals := 3118 } : Room) (wa_P G w [.ref (ad 0), .int (zI k)]) (wa_Qz G fun z u => z = cornersV g k ∧ ∃ (S2 : Nat → Int) (A2 : Nat → Int → Int) (B2 : Nat → Int → Option Nat) (P2 : Nat → Option Nat), XW G ad u S2 A2 B2 P2 ∧ Kp ad w u ∧ (XI G ad u S2 A2 B2 P2 g past (rfu re (bad (okPic g k))) tx st ck co tl qt)) 1 2 (wa_A G) := by
  refine wa_met (by decide) (by exact Nat.le_of_ble_eq_true rfl) ?_
  intro pP eE sS mM aA bB mT cC ls X hl hH
  have hS : va_S (wa_A G) sS.heap sS.heap [] := va_S.rf
  have hl : lv_has ls 2 [(0, .ref (ad 0)), (1, .int (zI k))] := hl
  have hK : Kp ad w w := Kp.rf
  have hI_0 := hI
  obtain ⟨ho, hST, hXJ, hRX⟩ := id hI
  have hmany := ho.many
  have hPX : PX G ad w (B 10) g := hST.2.2.1
  have hWY : WAYS G ad w (B 5) := hRX.1
  have hNV : NVX ad w P := hRX.2.1
  have hm : S 30 = g 3 := hST.1.2
  have hwd : S 20 = g 0 := hST.1.1
  have hg : A 10 0 = g 1 ∧ A 10 1 = g 2 := hST.2.1
  have hwide := ho.wide
  have hS0 : S 0 = st := hRX.2.2.2.1.1
  have hS1 : S 1 = qt := hRX.2.2.2.1.2.1
  have hS2 : S 2 = tl := hRX.2.2.2.1.2.2.1
  have hstr := hRX.2.2.2.2.2.2.2.1
  have htlr := hRX.2.2.2.2.2.2.2.2.1
  have hqt := hRX.2.2.2.2.2.2.2.2.2.1
  have hPX_0 := hPX
  have hWY_0 := hWY
  have hNV_0 := hNV
  have hXJ_0 := hXJ
  refine lv_aload_n X.x X.b dX0_corners_0 rfl (lv_at hl 0 rfl) ?_
  refine lv_iload_n X.x X.b dX0_corners_1 rfl (lv_at hl 1 rfl) ?_
  refine wa_ci hS (wa_rV (rest := []) X hH (mX0_isPicture hX  k (show rI k by first | assumption | omega) (show 0 ≤ S 30 ∧ S 30 ≤ 6 by first | assumption | omega)) (cwV 1 X.t (lw_V q572 q574 qs9 q109 q575) rfl rfl rfl hdX0_isPicture ⟨Nat.le_of_ble_eq_true rfl, Nat.le_of_ble_eq_true rfl⟩) rfl (have h9 := (XW.c0 hX); h9) rfl rfl hl.1 rfl (Nat.le_of_ble_eq_true rfl) dX0_corners_2 ⟨Nat.le_of_ble_eq_true rfl, Nat.le_of_ble_eq_true rfl⟩) (fun z w2 H locs hp hH hS => ?_)
  obtain ⟨hb, hw⟩ := hp
  rw [← hw] at hH; clear hw
  rcases hb with ⟨b2, rfl⟩ | ⟨b2, rfl⟩
  · have b2 : (0 ≤ k ∧ k ≤ S 30 - 1) := b2
    refine wz_ifeq (tgt := 16) X.x X.b dX0_corners_5 (by decide) (by decide) (fun h => absurd h (by decide)) (fun _ => ?_)
    refine lv_aload_n X.x X.b dX0_corners_8 rfl (lv_at hl 0 rfl) ?_
    refine lv_iload_n X.x X.b dX0_corners_9 rfl (lv_at hl 1 rfl) ?_
    refine wa_ci hS (wa_rV (rest := []) X hH (mX0_cornersOf hX hPX hWY k (by omega) ho hg.1) (cwV 1 X.t (lw_V q634 q636 qs12 q109 q637) rfl rfl rfl hdX0_cornersOf ⟨Nat.le_of_ble_eq_true rfl, Nat.le_of_ble_eq_true rfl⟩) rfl (have h9 := (XW.c0 hX); h9) rfl rfl hl.1 rfl (Nat.le_of_ble_eq_true rfl) dX0_corners_10 ⟨Nat.le_of_ble_eq_true rfl, Nat.le_of_ble_eq_true rfl⟩) (fun z w10 H locs hp hH hS => ?_)
    obtain ⟨rfl, ⟨hX, hk⟩⟩ := hp
    have hI := hI.kp hk
    have hPX := hPX.kp hk
    have hWY := hWY.kp hk
    have hNV := hNV.kp hk
    have hXJ := hXJ.kp hk
    have hK := hK.kp hk
    refine lv_goto (tgt := 20) X.x X.b dX0_corners_13 (by decide) ?_
    refine W.widen (k := 1) (n := 2) (by first | exact Nat.le_of_ble_eq_true rfl | omega) (by first | exact Nat.le_of_ble_eq_true rfl | omega) ?_
    exact wa_iret X hH hS dX0_corners_20 ⟨by (try unfold cornersV); ((repeat' split) <;> first | rfl | omega | contradiction | (exfalso; omega)), ⟨_, _, _, _, hX, hK, (hI).rv (by (try simp only [rfu, bad]) <;> ((repeat' split) <;> first | rfl | (exfalso; omega) | contradiction))⟩⟩
  · have b2 : ¬ (0 ≤ k ∧ k ≤ S 30 - 1) := b2
    refine wz_ifeq (tgt := 16) X.x X.b dX0_corners_5 (by decide) (by decide) (fun _ => ?_) (fun h => absurd h (by decide))
    refine lv_aload_n X.x X.b dX0_corners_16 rfl (lv_at hl 0 rfl) ?_
    refine wa_ci hS (wa_rV (rest := []) X hH (mX0_bad hX   ) (cwV 0 X.t (lw_V q492 q494 qs3 q109 q495) rfl rfl rfl hdX0_bad ⟨Nat.le_of_ble_eq_true rfl, Nat.le_of_ble_eq_true rfl⟩) rfl (have h9 := (XW.c0 hX); h9) rfl rfl hl.1 rfl (Nat.le_of_ble_eq_true rfl) dX0_corners_17 ⟨Nat.le_of_ble_eq_true rfl, Nat.le_of_ble_eq_true rfl⟩) (fun z w17 H locs hp hH hS => ?_)
    obtain ⟨rfl, ⟨hX, hk⟩⟩ := hp
    have hI := hI.kp hk
    have hPX := hPX.kp hk
    have hWY := hWY.kp hk
    have hNV := hNV.kp hk
    have hXJ := hXJ.kp hk
    have hK := hK.kp hk
    refine W.widen (k := 1) (n := 2) (by first | exact Nat.le_of_ble_eq_true rfl | omega) (by first | exact Nat.le_of_ble_eq_true rfl | omega) ?_
    exact wa_iret X hH hS dX0_corners_20 ⟨by (try unfold cornersV); ((repeat' split) <;> first | rfl | omega | contradiction | (exfalso; omega)), ⟨_, _, _, _, hX, hK, ((hI).ref).rv (by (try simp only [rfu, bad]) <;> ((repeat' split) <;> first | rfl | (exfalso; omega) | contradiction))⟩⟩
set_option maxRecDepth 100000 in
theorem mX0_votes {lL : Launch} {G : wa_G} {ad : Nat → Nat} {w : wa_W} {S : Nat → Int} {A : Nat → Int → Int} {B : Nat → Int → Option Nat} {P : Nat → Option Nat} (hX : XW G ad w S A B P) {g : Int → Int} {past : Int → Int} {re : Int → Int} {tx : Int → Int} {st : Int} {ck : Int} {co : Int} {tl : Int} {qt : Int} (hI : XI G ad w S A B P g past re tx st ck co tl qt) (a : Int) (b : Int) (e : Int) (f : Int) (r_a : rI a) (r_b : rI b) (r_e : rI e) (r_f : rI f) : Met lL yX0_votes (ws_ yX0_votes cX0_votes 5 (some FieldType.int)) ({ frames := 12, cells := 5402, slots := 17405, locals := 3227 } : Room) (wa_P G w [.ref (ad 0), .int (zI a), .int (zI b), .int (zI e), .int (zI f)]) (wa_Qz G fun z u => z = votesV g a b e f ∧ ∃ (S2 : Nat → Int) (A2 : Nat → Int → Int) (B2 : Nat → Int → Option Nat) (P2 : Nat → Option Nat), XW G ad u S2 A2 B2 P2 ∧ Kp ad w u ∧ (XI G ad u S2 A2 B2 P2 g past (rfu re (bad (okVotes g a b e f))) tx st ck co tl qt)) 5402 17405 (wa_A G) := by
  refine wa_met (by decide) (by exact Nat.le_of_ble_eq_true rfl) ?_
  intro pP eE sS mM aA bB mT cC ls X hl hH
  have hS : va_S (wa_A G) sS.heap sS.heap [] := va_S.rf
  have hl : lv_has ls 5 [(0, .ref (ad 0)), (1, .int (zI a)), (2, .int (zI b)), (3, .int (zI e)), (4, .int (zI f))] := hl
  have hK : Kp ad w w := Kp.rf
  have hI_0 := hI
  obtain ⟨ho, hST, hXJ, hRX⟩ := id hI
  have hmany := ho.many
  have hPX : PX G ad w (B 10) g := hST.2.2.1
  have hWY : WAYS G ad w (B 5) := hRX.1
  have hNV : NVX ad w P := hRX.2.1
  have hm : S 30 = g 3 := hST.1.2
  have hwd : S 20 = g 0 := hST.1.1
  have hg : A 10 0 = g 1 ∧ A 10 1 = g 2 := hST.2.1
  have hwide := ho.wide
  have hS0 : S 0 = st := hRX.2.2.2.1.1
  have hS1 : S 1 = qt := hRX.2.2.2.1.2.1
  have hS2 : S 2 = tl := hRX.2.2.2.1.2.2.1
  have hstr := hRX.2.2.2.2.2.2.2.1
  have htlr := hRX.2.2.2.2.2.2.2.2.1
  have hqt := hRX.2.2.2.2.2.2.2.2.2.1
  have hPX_0 := hPX
  have hWY_0 := hWY
  have hNV_0 := hNV
  have hXJ_0 := hXJ
  refine lv_aload_n X.x X.b dX0_votes_0 rfl (lv_at hl 0 rfl) ?_
  refine lv_iload_n X.x X.b dX0_votes_1 rfl (lv_at hl 1 rfl) ?_
  refine wa_ci hS (wa_rV (rest := []) X hH (mX0_isPicture hX  a (show rI a by first | assumption | omega) (show 0 ≤ S 30 ∧ S 30 ≤ 6 by first | assumption | omega)) (cwV 1 X.t (lw_V q572 q574 qs9 q109 q575) rfl rfl rfl hdX0_isPicture ⟨Nat.le_of_ble_eq_true rfl, Nat.le_of_ble_eq_true rfl⟩) rfl (have h9 := (XW.c0 hX); h9) rfl rfl hl.1 rfl (Nat.le_of_ble_eq_true rfl) dX0_votes_2 ⟨Nat.le_of_ble_eq_true rfl, Nat.le_of_ble_eq_true rfl⟩) (fun z w2 H locs hp hH hS => ?_)
  obtain ⟨hb, hw⟩ := hp
  rw [← hw] at hH; clear hw
  rcases hb with ⟨b2, rfl⟩ | ⟨b2, rfl⟩
  · have b2 : (0 ≤ a ∧ a ≤ S 30 - 1) := b2
    refine wz_ifeq (tgt := 46) X.x X.b dX0_votes_5 (by decide) (by decide) (fun h => absurd h (by decide)) (fun _ => ?_)
    refine lv_aload_n X.x X.b dX0_votes_8 rfl (lv_at hl 0 rfl) ?_
    refine lv_iload_n X.x X.b dX0_votes_9 rfl (lv_at hl 2 rfl) ?_
    refine wa_ci hS (wa_rV (rest := []) X hH (mX0_isPicture hX  b (show rI b by first | assumption | omega) (show 0 ≤ S 30 ∧ S 30 ≤ 6 by first | assumption | omega)) (cwV 1 X.t (lw_V q572 q574 qs9 q109 q575) rfl rfl rfl hdX0_isPicture ⟨Nat.le_of_ble_eq_true rfl, Nat.le_of_ble_eq_true rfl⟩) rfl (have h9 := (XW.c0 hX); h9) rfl rfl hl.1 rfl (Nat.le_of_ble_eq_true rfl) dX0_votes_10 ⟨Nat.le_of_ble_eq_true rfl, Nat.le_of_ble_eq_true rfl⟩) (fun z w10 H locs hp hH hS => ?_)
    obtain ⟨hb, hw⟩ := hp
    rw [← hw] at hH; clear hw
    rcases hb with ⟨b10, rfl⟩ | ⟨b10, rfl⟩
    · have b10 : (0 ≤ b ∧ b ≤ S 30 - 1) := b10
      refine wz_ifeq (tgt := 46) X.x X.b dX0_votes_13 (by decide) (by decide) (fun h => absurd h (by decide)) (fun _ => ?_)
      refine lv_iload_n X.x X.b dX0_votes_16 rfl (lv_at hl 1 rfl) ?_
      refine lv_iload_n X.x X.b dX0_votes_17 rfl (lv_at hl 2 rfl) ?_
      refine wz_icmp_eq (tgt := 46) X.x X.b dX0_votes_18 (by decide) ⟨by omega, by omega⟩ ⟨by omega, by omega⟩ (fun c18 => ?_) (fun c18 => ?_)
      · refine lv_aload_n X.x X.b dX0_votes_46 rfl (lv_at hl 0 rfl) ?_
        refine wa_ci hS (wa_rV (rest := []) X hH (mX0_bad hX   ) (cwV 0 X.t (lw_V q492 q494 qs3 q109 q495) rfl rfl rfl hdX0_bad ⟨Nat.le_of_ble_eq_true rfl, Nat.le_of_ble_eq_true rfl⟩) rfl (have h9 := (XW.c0 hX); h9) rfl rfl hl.1 rfl (Nat.le_of_ble_eq_true rfl) dX0_votes_47 ⟨Nat.le_of_ble_eq_true rfl, Nat.le_of_ble_eq_true rfl⟩) (fun z w47 H locs hp hH hS => ?_)
        obtain ⟨rfl, ⟨hX, hk⟩⟩ := hp
        have hI := hI.kp hk
        have hPX := hPX.kp hk
        have hWY := hWY.kp hk
        have hNV := hNV.kp hk
        have hXJ := hXJ.kp hk
        have hK := hK.kp hk
        refine W.widen (k := 5402) (n := 17405) (by first | exact Nat.le_of_ble_eq_true rfl | omega) (by first | exact Nat.le_of_ble_eq_true rfl | omega) ?_
        exact wa_iret X hH hS dX0_votes_50 ⟨by (try unfold votesV); ((repeat' split) <;> first | rfl | omega | contradiction | (exfalso; omega)), ⟨_, _, _, _, hX, hK, ((hI).ref).rv (by (try simp only [rfu, bad]) <;> ((repeat' split) <;> first | rfl | (exfalso; omega) | contradiction))⟩⟩
      · refine lv_iload_n X.x X.b dX0_votes_21 rfl (lv_at hl 3 rfl) ?_
        refine wz_i2l X.x X.b dX0_votes_22 ⟨by omega, by omega⟩ ?_
        refine wz_ldc2 (n := (-1)) X.x X.b X.own (X.t _ q652) rfl dX0_votes_23 ?_
        refine lv_lconst (v := lI 1) X.x X.b dX0_votes_26 rfl ?_
        refine wa_ci hS (wa_rS (rest := []) X hH (mX0_in _  e (-1) 1 (show rL e by first | assumption | omega) (show rL (-1) by first | assumption | omega) (show rL 1 by first | assumption | omega)) (va_cwS 3 X.t (lw_S q466 q467 q109 q468) rfl rfl rfl hdX0_in.2 ⟨Nat.le_of_ble_eq_true rfl, Nat.le_of_ble_eq_true rfl⟩) rfl rfl hl.1 rfl (Nat.le_of_ble_eq_true rfl) dX0_votes_27 ⟨Nat.le_of_ble_eq_true rfl, Nat.le_of_ble_eq_true rfl⟩) (fun z w27 H locs hp hH hS => ?_)
        obtain ⟨hb, hw⟩ := hp
        rw [← hw] at hH; clear hw
        rcases hb with ⟨b27, rfl⟩ | ⟨b27, rfl⟩
        · have b27 : ((-1) ≤ e ∧ e ≤ 1) := b27
          refine wz_ifeq (tgt := 46) X.x X.b dX0_votes_30 (by decide) (by decide) (fun h => absurd h (by decide)) (fun _ => ?_)
          refine lv_iload X.x X.b dX0_votes_33 (lv_at hl 4 rfl) ?_
          refine wz_i2l X.x X.b dX0_votes_35 ⟨by omega, by omega⟩ ?_
          refine lv_lconst (v := lI 1) X.x X.b dX0_votes_36 rfl ?_
          refine wz_ldc2 (n := 5) X.x X.b X.own (X.t _ q512) rfl dX0_votes_37 ?_
          refine wa_ci hS (wa_rS (rest := []) X hH (mX0_in _  f 1 5 (show rL f by first | assumption | omega) (show rL 1 by first | assumption | omega) (show rL 5 by first | assumption | omega)) (va_cwS 3 X.t (lw_S q466 q467 q109 q468) rfl rfl rfl hdX0_in.2 ⟨Nat.le_of_ble_eq_true rfl, Nat.le_of_ble_eq_true rfl⟩) rfl rfl hl.1 rfl (Nat.le_of_ble_eq_true rfl) dX0_votes_40 ⟨Nat.le_of_ble_eq_true rfl, Nat.le_of_ble_eq_true rfl⟩) (fun z w40 H locs hp hH hS => ?_)
          obtain ⟨hb, hw⟩ := hp
          rw [← hw] at hH; clear hw
          rcases hb with ⟨b40, rfl⟩ | ⟨b40, rfl⟩
          · have b40 : (1 ≤ f ∧ f ≤ 5) := b40
            refine wz_ifne (tgt := 51) X.x X.b dX0_votes_43 (by decide) (by decide) (fun _ => ?_) (fun h => absurd h (by decide))
            refine lv_aload_n X.x X.b dX0_votes_51 rfl (lv_at hl 0 rfl) ?_
            refine wa_cr hS (wa_rV (rest := []) X hH (mX0_joined hX hI  ) (cwV 0 X.t (lw_V q653 q655 qs14 q109 q656) rfl rfl rfl hdX0_joined ⟨Nat.le_of_ble_eq_true rfl, Nat.le_of_ble_eq_true rfl⟩) rfl (have h9 := (XW.c0 hX); h9) rfl rfl hl.1 rfl (Nat.le_of_ble_eq_true rfl) dX0_votes_52 ⟨Nat.le_of_ble_eq_true rfl, Nat.le_of_ble_eq_true rfl⟩) (fun r52 w52 H locs hp hH hS => ?_)
            obtain ⟨rfl, ⟨S2_52, A2_52, B2_52, P2_52, hX, hk, hx52_0, hx52_1, hx52_2⟩⟩ := hp
            have hI := hI.kp hk
            have hPX := hPX.kp hk
            have hWY := hWY.kp hk
            have hNV := hNV.kp hk
            have hXJ := hXJ.kp hk
            have hK := hK.kp hk
            have hI := hx52_0
            have hJR := hx52_1
            refine wz_opt (q := some (ad 24)) (by rfl) ?_
            obtain ⟨ho, hST, hXJ, hRX⟩ := id hI
            have hmany := ho.many
            have hPX : PX G ad w52 (B2_52 10) g := hST.2.2.1
            have hWY : WAYS G ad w52 (B2_52 5) := hRX.1
            have hNV : NVX ad w52 P2_52 := hRX.2.1
            have hm : S2_52 30 = g 3 := hST.1.2
            have hwd : S2_52 20 = g 0 := hST.1.1
            have hg : A2_52 10 0 = g 1 ∧ A2_52 10 1 = g 2 := hST.2.1
            have hwide := ho.wide
            have hS0 : S2_52 0 = st := hRX.2.2.2.1.1
            have hS1 : S2_52 1 = qt := hRX.2.2.2.1.2.1
            have hS2 : S2_52 2 = tl := hRX.2.2.2.1.2.2.1
            have hstr := hRX.2.2.2.2.2.2.2.1
            have htlr := hRX.2.2.2.2.2.2.2.2.1
            have hqt := hRX.2.2.2.2.2.2.2.2.2.1
            have hJC := hJR.1
            refine lv_iload_n X.x X.b dX0_votes_55 rfl (lv_at hl 1 rfl) ?_
            refine lv_iload_n X.x X.b dX0_votes_56 rfl (lv_at hl 2 rfl) ?_
            refine lv_iload_n X.x X.b dX0_votes_57 rfl (lv_at hl 3 rfl) ?_
            refine lv_iload X.x X.b dX0_votes_58 (lv_at hl 4 rfl) ?_
            refine wa_ci hS (wa_rV (rest := []) X hH (mX2_votes hX hPX hWY hNV hJC a b e f (show a = ((Int.toNat a : Nat) : Int) by omega) (show Int.toNat a < 6 by omega) (show ((Int.toNat a : Nat) : Int) < g 3 by omega) (by omega) (by omega) (by omega) ho (show A2_52 10 0 = g 1 ∧ A2_52 10 1 = g 2 by first | assumption | omega)) (cwV 4 X.t (lw_V q1333 q943 q944 q112 q945) rfl rfl rfl hdX2_votes ⟨Nat.le_of_ble_eq_true rfl, Nat.le_of_ble_eq_true rfl⟩) rfl (have h9 := (XW.c24 hX); h9) rfl rfl hl.1 rfl (Nat.le_of_ble_eq_true rfl) dX0_votes_60 ⟨Nat.le_of_ble_eq_true rfl, Nat.le_of_ble_eq_true rfl⟩) (fun z w60 H locs hp hH hS => ?_)
            obtain ⟨rfl, ⟨P2_60, hX, hk, hx60_0, hx60_1⟩⟩ := hp
            have hI := hI.kp hk
            have hJR := hJR.kp hk
            have hPX := hPX.kp hk
            have hWY := hWY.kp hk
            have hNV := hNV.kp hk
            have hXJ := hXJ.kp hk
            have hJC := hJC.kp hk
            have hK := hK.kp hk
            have hNV := hx60_1
            refine W.widen (k := 5402) (n := 17405) (by first | exact Nat.le_of_ble_eq_true rfl | omega) (by first | exact Nat.le_of_ble_eq_true rfl | omega) ?_
            exact wa_iret X hH hS dX0_votes_63 ⟨by (try unfold votesV); ((repeat' split) <;> first | rfl | omega | contradiction | (exfalso; omega)), ⟨_, _, _, _, hX, hK, (hI.nv hx60_0 hNV).rv (by (try simp only [rfu, bad]) <;> ((repeat' split) <;> first | rfl | (exfalso; omega) | contradiction))⟩⟩
          · have b40 : ¬ (1 ≤ f ∧ f ≤ 5) := b40
            refine wz_ifne (tgt := 51) X.x X.b dX0_votes_43 (by decide) (by decide) (fun h => absurd h (by decide)) (fun _ => ?_)
            refine lv_aload_n X.x X.b dX0_votes_46 rfl (lv_at hl 0 rfl) ?_
            refine wa_ci hS (wa_rV (rest := []) X hH (mX0_bad hX   ) (cwV 0 X.t (lw_V q492 q494 qs3 q109 q495) rfl rfl rfl hdX0_bad ⟨Nat.le_of_ble_eq_true rfl, Nat.le_of_ble_eq_true rfl⟩) rfl (have h9 := (XW.c0 hX); h9) rfl rfl hl.1 rfl (Nat.le_of_ble_eq_true rfl) dX0_votes_47 ⟨Nat.le_of_ble_eq_true rfl, Nat.le_of_ble_eq_true rfl⟩) (fun z w47 H locs hp hH hS => ?_)
            obtain ⟨rfl, ⟨hX, hk⟩⟩ := hp
            have hI := hI.kp hk
            have hPX := hPX.kp hk
            have hWY := hWY.kp hk
            have hNV := hNV.kp hk
            have hXJ := hXJ.kp hk
            have hK := hK.kp hk
            refine W.widen (k := 5402) (n := 17405) (by first | exact Nat.le_of_ble_eq_true rfl | omega) (by first | exact Nat.le_of_ble_eq_true rfl | omega) ?_
            exact wa_iret X hH hS dX0_votes_50 ⟨by (try unfold votesV); ((repeat' split) <;> first | rfl | omega | contradiction | (exfalso; omega)), ⟨_, _, _, _, hX, hK, ((hI).ref).rv (by (try simp only [rfu, bad]) <;> ((repeat' split) <;> first | rfl | (exfalso; omega) | contradiction))⟩⟩
        · have b27 : ¬ ((-1) ≤ e ∧ e ≤ 1) := b27
          refine wz_ifeq (tgt := 46) X.x X.b dX0_votes_30 (by decide) (by decide) (fun _ => ?_) (fun h => absurd h (by decide))
          refine lv_aload_n X.x X.b dX0_votes_46 rfl (lv_at hl 0 rfl) ?_
          refine wa_ci hS (wa_rV (rest := []) X hH (mX0_bad hX   ) (cwV 0 X.t (lw_V q492 q494 qs3 q109 q495) rfl rfl rfl hdX0_bad ⟨Nat.le_of_ble_eq_true rfl, Nat.le_of_ble_eq_true rfl⟩) rfl (have h9 := (XW.c0 hX); h9) rfl rfl hl.1 rfl (Nat.le_of_ble_eq_true rfl) dX0_votes_47 ⟨Nat.le_of_ble_eq_true rfl, Nat.le_of_ble_eq_true rfl⟩) (fun z w47 H locs hp hH hS => ?_)
          obtain ⟨rfl, ⟨hX, hk⟩⟩ := hp
          have hI := hI.kp hk
          have hPX := hPX.kp hk
          have hWY := hWY.kp hk
          have hNV := hNV.kp hk
          have hXJ := hXJ.kp hk
          have hK := hK.kp hk
          refine W.widen (k := 5402) (n := 17405) (by first | exact Nat.le_of_ble_eq_true rfl | omega) (by first | exact Nat.le_of_ble_eq_true rfl | omega) ?_
          exact wa_iret X hH hS dX0_votes_50 ⟨by (try unfold votesV); ((repeat' split) <;> first | rfl | omega | contradiction | (exfalso; omega)), ⟨_, _, _, _, hX, hK, ((hI).ref).rv (by (try simp only [rfu, bad]) <;> ((repeat' split) <;> first | rfl | (exfalso; omega) | contradiction))⟩⟩
    · have b10 : ¬ (0 ≤ b ∧ b ≤ S 30 - 1) := b10
      refine wz_ifeq (tgt := 46) X.x X.b dX0_votes_13 (by decide) (by decide) (fun _ => ?_) (fun h => absurd h (by decide))
      refine lv_aload_n X.x X.b dX0_votes_46 rfl (lv_at hl 0 rfl) ?_
      refine wa_ci hS (wa_rV (rest := []) X hH (mX0_bad hX   ) (cwV 0 X.t (lw_V q492 q494 qs3 q109 q495) rfl rfl rfl hdX0_bad ⟨Nat.le_of_ble_eq_true rfl, Nat.le_of_ble_eq_true rfl⟩) rfl (have h9 := (XW.c0 hX); h9) rfl rfl hl.1 rfl (Nat.le_of_ble_eq_true rfl) dX0_votes_47 ⟨Nat.le_of_ble_eq_true rfl, Nat.le_of_ble_eq_true rfl⟩) (fun z w47 H locs hp hH hS => ?_)
      obtain ⟨rfl, ⟨hX, hk⟩⟩ := hp
      have hI := hI.kp hk
      have hPX := hPX.kp hk
      have hWY := hWY.kp hk
      have hNV := hNV.kp hk
      have hXJ := hXJ.kp hk
      have hK := hK.kp hk
      refine W.widen (k := 5402) (n := 17405) (by first | exact Nat.le_of_ble_eq_true rfl | omega) (by first | exact Nat.le_of_ble_eq_true rfl | omega) ?_
      exact wa_iret X hH hS dX0_votes_50 ⟨by (try unfold votesV); ((repeat' split) <;> first | rfl | omega | contradiction | (exfalso; omega)), ⟨_, _, _, _, hX, hK, ((hI).ref).rv (by (try simp only [rfu, bad]) <;> ((repeat' split) <;> first | rfl | (exfalso; omega) | contradiction))⟩⟩
  · have b2 : ¬ (0 ≤ a ∧ a ≤ S 30 - 1) := b2
    refine wz_ifeq (tgt := 46) X.x X.b dX0_votes_5 (by decide) (by decide) (fun _ => ?_) (fun h => absurd h (by decide))
    refine lv_aload_n X.x X.b dX0_votes_46 rfl (lv_at hl 0 rfl) ?_
    refine wa_ci hS (wa_rV (rest := []) X hH (mX0_bad hX   ) (cwV 0 X.t (lw_V q492 q494 qs3 q109 q495) rfl rfl rfl hdX0_bad ⟨Nat.le_of_ble_eq_true rfl, Nat.le_of_ble_eq_true rfl⟩) rfl (have h9 := (XW.c0 hX); h9) rfl rfl hl.1 rfl (Nat.le_of_ble_eq_true rfl) dX0_votes_47 ⟨Nat.le_of_ble_eq_true rfl, Nat.le_of_ble_eq_true rfl⟩) (fun z w47 H locs hp hH hS => ?_)
    obtain ⟨rfl, ⟨hX, hk⟩⟩ := hp
    have hI := hI.kp hk
    have hPX := hPX.kp hk
    have hWY := hWY.kp hk
    have hNV := hNV.kp hk
    have hXJ := hXJ.kp hk
    have hK := hK.kp hk
    refine W.widen (k := 5402) (n := 17405) (by first | exact Nat.le_of_ble_eq_true rfl | omega) (by first | exact Nat.le_of_ble_eq_true rfl | omega) ?_
    exact wa_iret X hH hS dX0_votes_50 ⟨by (try unfold votesV); ((repeat' split) <;> first | rfl | omega | contradiction | (exfalso; omega)), ⟨_, _, _, _, hX, hK, ((hI).ref).rv (by (try simp only [rfu, bad]) <;> ((repeat' split) <;> first | rfl | (exfalso; omega) | contradiction))⟩⟩
set_option maxRecDepth 100000 in
theorem mX0_link {lL : Launch} {G : wa_G} {ad : Nat → Nat} {w : wa_W} {S : Nat → Int} {A : Nat → Int → Int} {B : Nat → Int → Option Nat} {P : Nat → Option Nat} (hX : XW G ad w S A B P) {g : Int → Int} {past : Int → Int} {re : Int → Int} {tx : Int → Int} {st : Int} {ck : Int} {co : Int} {tl : Int} {qt : Int} (hI : XI G ad w S A B P g past re tx st ck co tl qt) (a : Int) (b : Int) (what : Int) (r_a : rI a) (r_b : rI b) (r_what : rI what) : Met lL yX0_link (ws_ yX0_link cX0_link 5 (some FieldType.int)) ({ frames := 12, cells := 5520, slots := 17800, locals := 3227 } : Room) (wa_P G w [.ref (ad 0), .int (zI a), .int (zI b), .int (zI what)]) (wa_Qz G fun z u => z = linkV g a b what ∧ ∃ (S2 : Nat → Int) (A2 : Nat → Int → Int) (B2 : Nat → Int → Option Nat) (P2 : Nat → Option Nat), XW G ad u S2 A2 B2 P2 ∧ Kp ad w u ∧ (XI G ad u S2 A2 B2 P2 g past (rfu re (bad (okLink g a b what))) tx st ck co tl qt)) 5520 17800 (wa_A G) := by
  refine wa_met (by decide) (by exact Nat.le_of_ble_eq_true rfl) ?_
  intro pP eE sS mM aA bB mT cC ls X hl hH
  have hS : va_S (wa_A G) sS.heap sS.heap [] := va_S.rf
  have hl : lv_has ls 5 [(0, .ref (ad 0)), (1, .int (zI a)), (2, .int (zI b)), (3, .int (zI what))] := hl
  have hK : Kp ad w w := Kp.rf
  have hI_0 := hI
  obtain ⟨ho, hST, hXJ, hRX⟩ := id hI
  have hmany := ho.many
  have hPX : PX G ad w (B 10) g := hST.2.2.1
  have hWY : WAYS G ad w (B 5) := hRX.1
  have hNV : NVX ad w P := hRX.2.1
  have hm : S 30 = g 3 := hST.1.2
  have hwd : S 20 = g 0 := hST.1.1
  have hg : A 10 0 = g 1 ∧ A 10 1 = g 2 := hST.2.1
  have hwide := ho.wide
  have hS0 : S 0 = st := hRX.2.2.2.1.1
  have hS1 : S 1 = qt := hRX.2.2.2.1.2.1
  have hS2 : S 2 = tl := hRX.2.2.2.1.2.2.1
  have hstr := hRX.2.2.2.2.2.2.2.1
  have htlr := hRX.2.2.2.2.2.2.2.2.1
  have hqt := hRX.2.2.2.2.2.2.2.2.2.1
  have hPX_0 := hPX
  have hWY_0 := hWY
  have hNV_0 := hNV
  have hXJ_0 := hXJ
  refine lv_aload_n X.x X.b dX0_link_0 rfl (lv_at hl 0 rfl) ?_
  refine lv_iload_n X.x X.b dX0_link_1 rfl (lv_at hl 1 rfl) ?_
  refine wa_ci hS (wa_rV (rest := []) X hH (mX0_isPicture hX  a (show rI a by first | assumption | omega) (show 0 ≤ S 30 ∧ S 30 ≤ 6 by first | assumption | omega)) (cwV 1 X.t (lw_V q572 q574 qs9 q109 q575) rfl rfl rfl hdX0_isPicture ⟨Nat.le_of_ble_eq_true rfl, Nat.le_of_ble_eq_true rfl⟩) rfl (have h9 := (XW.c0 hX); h9) rfl rfl hl.1 rfl (Nat.le_of_ble_eq_true rfl) dX0_link_2 ⟨Nat.le_of_ble_eq_true rfl, Nat.le_of_ble_eq_true rfl⟩) (fun z w2 H locs hp hH hS => ?_)
  obtain ⟨hb, hw⟩ := hp
  rw [← hw] at hH; clear hw
  rcases hb with ⟨b2, rfl⟩ | ⟨b2, rfl⟩
  · have b2 : (0 ≤ a ∧ a ≤ S 30 - 1) := b2
    refine wz_ifeq (tgt := 33) X.x X.b dX0_link_5 (by decide) (by decide) (fun h => absurd h (by decide)) (fun _ => ?_)
    refine lv_aload_n X.x X.b dX0_link_8 rfl (lv_at hl 0 rfl) ?_
    refine lv_iload_n X.x X.b dX0_link_9 rfl (lv_at hl 2 rfl) ?_
    refine wa_ci hS (wa_rV (rest := []) X hH (mX0_isPicture hX  b (show rI b by first | assumption | omega) (show 0 ≤ S 30 ∧ S 30 ≤ 6 by first | assumption | omega)) (cwV 1 X.t (lw_V q572 q574 qs9 q109 q575) rfl rfl rfl hdX0_isPicture ⟨Nat.le_of_ble_eq_true rfl, Nat.le_of_ble_eq_true rfl⟩) rfl (have h9 := (XW.c0 hX); h9) rfl rfl hl.1 rfl (Nat.le_of_ble_eq_true rfl) dX0_link_10 ⟨Nat.le_of_ble_eq_true rfl, Nat.le_of_ble_eq_true rfl⟩) (fun z w10 H locs hp hH hS => ?_)
    obtain ⟨hb, hw⟩ := hp
    rw [← hw] at hH; clear hw
    rcases hb with ⟨b10, rfl⟩ | ⟨b10, rfl⟩
    · have b10 : (0 ≤ b ∧ b ≤ S 30 - 1) := b10
      refine wz_ifeq (tgt := 33) X.x X.b dX0_link_13 (by decide) (by decide) (fun h => absurd h (by decide)) (fun _ => ?_)
      refine lv_iload_n X.x X.b dX0_link_16 rfl (lv_at hl 1 rfl) ?_
      refine lv_iload_n X.x X.b dX0_link_17 rfl (lv_at hl 2 rfl) ?_
      refine wz_icmp_eq (tgt := 33) X.x X.b dX0_link_18 (by decide) ⟨by omega, by omega⟩ ⟨by omega, by omega⟩ (fun c18 => ?_) (fun c18 => ?_)
      · refine lv_aload_n X.x X.b dX0_link_33 rfl (lv_at hl 0 rfl) ?_
        refine wa_ci hS (wa_rV (rest := []) X hH (mX0_bad hX   ) (cwV 0 X.t (lw_V q492 q494 qs3 q109 q495) rfl rfl rfl hdX0_bad ⟨Nat.le_of_ble_eq_true rfl, Nat.le_of_ble_eq_true rfl⟩) rfl (have h9 := (XW.c0 hX); h9) rfl rfl hl.1 rfl (Nat.le_of_ble_eq_true rfl) dX0_link_34 ⟨Nat.le_of_ble_eq_true rfl, Nat.le_of_ble_eq_true rfl⟩) (fun z w34 H locs hp hH hS => ?_)
        obtain ⟨rfl, ⟨hX, hk⟩⟩ := hp
        have hI := hI.kp hk
        have hPX := hPX.kp hk
        have hWY := hWY.kp hk
        have hNV := hNV.kp hk
        have hXJ := hXJ.kp hk
        have hK := hK.kp hk
        refine W.widen (k := 5520) (n := 17800) (by first | exact Nat.le_of_ble_eq_true rfl | omega) (by first | exact Nat.le_of_ble_eq_true rfl | omega) ?_
        exact wa_iret X hH hS dX0_link_37 ⟨by (try unfold linkV); ((repeat' split) <;> first | rfl | omega | contradiction | (exfalso; omega)), ⟨_, _, _, _, hX, hK, ((hI).ref).rv (by (try simp only [rfu, bad]) <;> ((repeat' split) <;> first | rfl | (exfalso; omega) | contradiction))⟩⟩
      · refine lv_iload_n X.x X.b dX0_link_21 rfl (lv_at hl 3 rfl) ?_
        refine wz_i2l X.x X.b dX0_link_22 ⟨by omega, by omega⟩ ?_
        refine lv_lconst (v := lI 0) X.x X.b dX0_link_23 rfl ?_
        refine wz_ldc2 (n := 2) X.x X.b X.own (X.t _ q529) rfl dX0_link_24 ?_
        refine wa_ci hS (wa_rS (rest := []) X hH (mX0_in _  what 0 2 (show rL what by first | assumption | omega) (show rL 0 by first | assumption | omega) (show rL 2 by first | assumption | omega)) (va_cwS 3 X.t (lw_S q466 q467 q109 q468) rfl rfl rfl hdX0_in.2 ⟨Nat.le_of_ble_eq_true rfl, Nat.le_of_ble_eq_true rfl⟩) rfl rfl hl.1 rfl (Nat.le_of_ble_eq_true rfl) dX0_link_27 ⟨Nat.le_of_ble_eq_true rfl, Nat.le_of_ble_eq_true rfl⟩) (fun z w27 H locs hp hH hS => ?_)
        obtain ⟨hb, hw⟩ := hp
        rw [← hw] at hH; clear hw
        rcases hb with ⟨b27, rfl⟩ | ⟨b27, rfl⟩
        · have b27 : (0 ≤ what ∧ what ≤ 2) := b27
          refine wz_ifne (tgt := 38) X.x X.b dX0_link_30 (by decide) (by decide) (fun _ => ?_) (fun h => absurd h (by decide))
          refine lv_aload_n X.x X.b dX0_link_38 rfl (lv_at hl 0 rfl) ?_
          refine wa_cr hS (wa_rV (rest := []) X hH (mX0_joined hX hI  ) (cwV 0 X.t (lw_V q653 q655 qs14 q109 q656) rfl rfl rfl hdX0_joined ⟨Nat.le_of_ble_eq_true rfl, Nat.le_of_ble_eq_true rfl⟩) rfl (have h9 := (XW.c0 hX); h9) rfl rfl hl.1 rfl (Nat.le_of_ble_eq_true rfl) dX0_link_39 ⟨Nat.le_of_ble_eq_true rfl, Nat.le_of_ble_eq_true rfl⟩) (fun r39 w39 H locs hp hH hS => ?_)
          obtain ⟨rfl, ⟨S2_39, A2_39, B2_39, P2_39, hX, hk, hx39_0, hx39_1, hx39_2⟩⟩ := hp
          have hI := hI.kp hk
          have hPX := hPX.kp hk
          have hWY := hWY.kp hk
          have hNV := hNV.kp hk
          have hXJ := hXJ.kp hk
          have hK := hK.kp hk
          have hI := hx39_0
          have hJR := hx39_1
          refine wz_opt (q := some (ad 24)) (by rfl) ?_
          obtain ⟨ho, hST, hXJ, hRX⟩ := id hI
          have hmany := ho.many
          have hPX : PX G ad w39 (B2_39 10) g := hST.2.2.1
          have hWY : WAYS G ad w39 (B2_39 5) := hRX.1
          have hNV : NVX ad w39 P2_39 := hRX.2.1
          have hm : S2_39 30 = g 3 := hST.1.2
          have hwd : S2_39 20 = g 0 := hST.1.1
          have hg : A2_39 10 0 = g 1 ∧ A2_39 10 1 = g 2 := hST.2.1
          have hwide := ho.wide
          have hS0 : S2_39 0 = st := hRX.2.2.2.1.1
          have hS1 : S2_39 1 = qt := hRX.2.2.2.1.2.1
          have hS2 : S2_39 2 = tl := hRX.2.2.2.1.2.2.1
          have hstr := hRX.2.2.2.2.2.2.2.1
          have htlr := hRX.2.2.2.2.2.2.2.2.1
          have hqt := hRX.2.2.2.2.2.2.2.2.2.1
          have hJC := hJR.1
          refine lv_iload_n X.x X.b dX0_link_42 rfl (lv_at hl 1 rfl) ?_
          refine lv_iload_n X.x X.b dX0_link_43 rfl (lv_at hl 2 rfl) ?_
          refine wa_cr hS (wa_rV (rest := []) X hH (mX2_link hX hPX hWY hNV hJC a b (show a = ((Int.toNat a : Nat) : Int) by omega) (show Int.toNat a < 6 by omega) (show ((Int.toNat a : Nat) : Int) < g 3 by omega) (by omega) ho (show A2_39 10 0 = g 1 ∧ A2_39 10 1 = g 2 by first | assumption | omega)) (cwV 2 X.t (lw_V q1338 q937 q938 q112 q939) rfl rfl rfl hdX2_link ⟨Nat.le_of_ble_eq_true rfl, Nat.le_of_ble_eq_true rfl⟩) rfl (have h9 := (XW.c24 hX); h9) rfl rfl hl.1 rfl (Nat.le_of_ble_eq_true rfl) dX0_link_44 ⟨Nat.le_of_ble_eq_true rfl, Nat.le_of_ble_eq_true rfl⟩) (fun r44 w44 H locs hp hH hS => ?_)
          obtain ⟨P2_44, hX, hk, hx44_0, hx44_1, hx44_2⟩ := hp
          have hI := hI.kp hk
          have hJR := hJR.kp hk
          have hPX := hPX.kp hk
          have hWY := hWY.kp hk
          have hNV := hNV.kp hk
          have hXJ := hXJ.kp hk
          have hJC := hJC.kp hk
          have hK := hK.kp hk
          have hNV := hx44_1
          refine lv_astoreO (lv' := [(4, va_rf r44), (0, .ref (ad 0)), (1, .int (zI a)), (2, .int (zI b)), (3, .int (zI what))]) X.x X.b dX0_link_47 hl (by decide) rfl (fun ls hl => ?_)
          refine lv_aloadO X.x X.b dX0_link_49 (lv_at hl 0 rfl) ?_
          rcases xo_cases (r44) with ho51 | ⟨a51, ho51⟩
          · refine wz_opt (q := none) ho51 ?_
            have hl : lv_has ls 5 [(4, .null), (0, .ref (ad 0)), (1, .int (zI a)), (2, .int (zI b)), (3, .int (zI what))] := by rw [ho51] at hl; exact hl
            have hbn := (show BL ad w44 none a b (bestS g a b) from ho51 ▸ hx44_2).no
            refine lv_ifnonnullN X.x X.b dX0_link_51 ?_
            refine lv_iload_n X.x X.b dX0_link_54 rfl (lv_at hl 4 rfl) ?_
            refine wz_ifne (tgt := 62) X.x X.b dX0_link_55 (by decide) ⟨by omega, by omega⟩ (fun c55 => ?_) (fun c55 => ?_)
            · refine wz_iconst X.x X.b dX0_link_62 ?_
              refine W.widen (k := 5520) (n := 17800) (by first | exact Nat.le_of_ble_eq_true rfl | omega) (by first | exact Nat.le_of_ble_eq_true rfl | omega) ?_
              exact wa_iret X hH hS dX0_link_63 ⟨by (try unfold linkV); ((repeat' split) <;> first | rfl | omega | contradiction | (exfalso; omega)), ⟨_, _, _, _, hX, hK, (hI.nv hx44_0 hNV).rv (by (try simp only [rfu, bad]) <;> ((repeat' split) <;> first | rfl | (exfalso; omega) | contradiction))⟩⟩
            · refine wz_iconst X.x X.b dX0_link_58 ?_
              refine lv_goto (tgt := 63) X.x X.b dX0_link_59 (by decide) ?_
              refine W.widen (k := 5520) (n := 17800) (by first | exact Nat.le_of_ble_eq_true rfl | omega) (by first | exact Nat.le_of_ble_eq_true rfl | omega) ?_
              exact wa_iret X hH hS dX0_link_63 ⟨by (try unfold linkV); ((repeat' split) <;> first | rfl | omega | contradiction | (exfalso; omega)), ⟨_, _, _, _, hX, hK, (hI.nv hx44_0 hNV).rv (by (try simp only [rfu, bad]) <;> ((repeat' split) <;> first | rfl | (exfalso; omega) | contradiction))⟩⟩
          · refine wz_opt (q := (some a51)) ho51 ?_
            have hl : lv_has ls 5 [(4, .ref a51), (0, .ref (ad 0)), (1, .int (zI a)), (2, .int (zI b)), (3, .int (zI what))] := by rw [ho51] at hl; exact hl
            obtain ⟨hbp, lsc, fl⟩ := (show BL ad w44 (some a51) a b (bestS g a b) from ho51 ▸ hx44_2).is
            refine lv_ifnonnull (tgt := 64) X.x X.b dX0_link_51 (by decide) ?_
            refine lv_iload_n X.x X.b dX0_link_64 rfl (lv_at hl 4 rfl) ?_
            refine wz_ifne (tgt := 76) X.x X.b dX0_link_65 (by decide) ⟨by omega, by omega⟩ (fun c65 => ?_) (fun c65 => ?_)
            · refine lv_iload_n X.x X.b dX0_link_76 rfl (lv_at hl 4 rfl) ?_
              refine wz_iconst X.x X.b dX0_link_77 ?_
              refine wz_icmp_ne (tgt := 94) X.x X.b dX0_link_78 (by decide) ⟨by omega, by omega⟩ ⟨by omega, by omega⟩ (fun c78 => ?_) (fun c78 => ?_)
              · refine lv_aload X.x X.b dX0_link_94 (lv_at hl 0 rfl) ?_
                refine wa_getN (v := .ref lsc) X hH fl.1.2 wcX11 2 (by decide) q1131 rfl (fun _ h9 => h9) rfl dX0_link_96 ?_
                refine wa_getN (v := .int (zI ((bestS g a b).2.2))) X hH fl.2.2 wcX10 1 (by decide) q1061 rfl (fun _ h9 => h9) rfl dX0_link_99 ?_
                refine W.widen (k := 5520) (n := 17800) (by first | exact Nat.le_of_ble_eq_true rfl | omega) (by first | exact Nat.le_of_ble_eq_true rfl | omega) ?_
                exact wa_iret X hH hS dX0_link_102 ⟨by (try unfold linkV); ((repeat' split) <;> first | rfl | omega | contradiction | (exfalso; omega)), ⟨_, _, _, _, hX, hK, (hI.nv hx44_0 hNV).rv (by (try simp only [rfu, bad]) <;> ((repeat' split) <;> first | rfl | (exfalso; omega) | contradiction))⟩⟩
              · refine lv_aload X.x X.b dX0_link_81 (lv_at hl 0 rfl) ?_
                refine wa_getN (v := .ref lsc) X hH fl.1.2 wcX11 2 (by decide) q1131 rfl (fun _ h9 => h9) rfl dX0_link_83 ?_
                refine wa_getN (v := .int (zI ((bestS g a b).2.1))) X hH fl.2.2 wcX10 0 (by decide) q1057 rfl (fun _ h9 => h9) rfl dX0_link_86 ?_
                refine wz_iconst X.x X.b dX0_link_89 ?_
                refine wz_iadd X.x X.b dX0_link_90 ?_
                refine lv_goto (tgt := 102) X.x X.b dX0_link_91 (by decide) ?_
                refine W.widen (k := 5520) (n := 17800) (by first | exact Nat.le_of_ble_eq_true rfl | omega) (by first | exact Nat.le_of_ble_eq_true rfl | omega) ?_
                exact wa_iret X hH hS dX0_link_102 ⟨by (try unfold linkV); ((repeat' split) <;> first | rfl | omega | contradiction | (exfalso; omega)), ⟨_, _, _, _, hX, hK, (hI.nv hx44_0 hNV).rv (by (try simp only [rfu, bad]) <;> ((repeat' split) <;> first | rfl | (exfalso; omega) | contradiction))⟩⟩
            · refine lv_aload X.x X.b dX0_link_68 (lv_at hl 0 rfl) ?_
              refine wa_getN (v := .int (zI ((bestS g a b).1))) X hH fl.1.2 wcX11 3 (by decide) q1135 rfl (fun _ h9 => h9) rfl dX0_link_70 ?_
              refine lv_goto (tgt := 102) X.x X.b dX0_link_73 (by decide) ?_
              refine W.widen (k := 5520) (n := 17800) (by first | exact Nat.le_of_ble_eq_true rfl | omega) (by first | exact Nat.le_of_ble_eq_true rfl | omega) ?_
              exact wa_iret X hH hS dX0_link_102 ⟨by (try unfold linkV); ((repeat' split) <;> first | rfl | omega | contradiction | (exfalso; omega)), ⟨_, _, _, _, hX, hK, (hI.nv hx44_0 hNV).rv (by (try simp only [rfu, bad]) <;> ((repeat' split) <;> first | rfl | (exfalso; omega) | contradiction))⟩⟩
        · have b27 : ¬ (0 ≤ what ∧ what ≤ 2) := b27
          refine wz_ifne (tgt := 38) X.x X.b dX0_link_30 (by decide) (by decide) (fun h => absurd h (by decide)) (fun _ => ?_)
          refine lv_aload_n X.x X.b dX0_link_33 rfl (lv_at hl 0 rfl) ?_
          refine wa_ci hS (wa_rV (rest := []) X hH (mX0_bad hX   ) (cwV 0 X.t (lw_V q492 q494 qs3 q109 q495) rfl rfl rfl hdX0_bad ⟨Nat.le_of_ble_eq_true rfl, Nat.le_of_ble_eq_true rfl⟩) rfl (have h9 := (XW.c0 hX); h9) rfl rfl hl.1 rfl (Nat.le_of_ble_eq_true rfl) dX0_link_34 ⟨Nat.le_of_ble_eq_true rfl, Nat.le_of_ble_eq_true rfl⟩) (fun z w34 H locs hp hH hS => ?_)
          obtain ⟨rfl, ⟨hX, hk⟩⟩ := hp
          have hI := hI.kp hk
          have hPX := hPX.kp hk
          have hWY := hWY.kp hk
          have hNV := hNV.kp hk
          have hXJ := hXJ.kp hk
          have hK := hK.kp hk
          refine W.widen (k := 5520) (n := 17800) (by first | exact Nat.le_of_ble_eq_true rfl | omega) (by first | exact Nat.le_of_ble_eq_true rfl | omega) ?_
          exact wa_iret X hH hS dX0_link_37 ⟨by (try unfold linkV); ((repeat' split) <;> first | rfl | omega | contradiction | (exfalso; omega)), ⟨_, _, _, _, hX, hK, ((hI).ref).rv (by (try simp only [rfu, bad]) <;> ((repeat' split) <;> first | rfl | (exfalso; omega) | contradiction))⟩⟩
    · have b10 : ¬ (0 ≤ b ∧ b ≤ S 30 - 1) := b10
      refine wz_ifeq (tgt := 33) X.x X.b dX0_link_13 (by decide) (by decide) (fun _ => ?_) (fun h => absurd h (by decide))
      refine lv_aload_n X.x X.b dX0_link_33 rfl (lv_at hl 0 rfl) ?_
      refine wa_ci hS (wa_rV (rest := []) X hH (mX0_bad hX   ) (cwV 0 X.t (lw_V q492 q494 qs3 q109 q495) rfl rfl rfl hdX0_bad ⟨Nat.le_of_ble_eq_true rfl, Nat.le_of_ble_eq_true rfl⟩) rfl (have h9 := (XW.c0 hX); h9) rfl rfl hl.1 rfl (Nat.le_of_ble_eq_true rfl) dX0_link_34 ⟨Nat.le_of_ble_eq_true rfl, Nat.le_of_ble_eq_true rfl⟩) (fun z w34 H locs hp hH hS => ?_)
      obtain ⟨rfl, ⟨hX, hk⟩⟩ := hp
      have hI := hI.kp hk
      have hPX := hPX.kp hk
      have hWY := hWY.kp hk
      have hNV := hNV.kp hk
      have hXJ := hXJ.kp hk
      have hK := hK.kp hk
      refine W.widen (k := 5520) (n := 17800) (by first | exact Nat.le_of_ble_eq_true rfl | omega) (by first | exact Nat.le_of_ble_eq_true rfl | omega) ?_
      exact wa_iret X hH hS dX0_link_37 ⟨by (try unfold linkV); ((repeat' split) <;> first | rfl | omega | contradiction | (exfalso; omega)), ⟨_, _, _, _, hX, hK, ((hI).ref).rv (by (try simp only [rfu, bad]) <;> ((repeat' split) <;> first | rfl | (exfalso; omega) | contradiction))⟩⟩
  · have b2 : ¬ (0 ≤ a ∧ a ≤ S 30 - 1) := b2
    refine wz_ifeq (tgt := 33) X.x X.b dX0_link_5 (by decide) (by decide) (fun _ => ?_) (fun h => absurd h (by decide))
    refine lv_aload_n X.x X.b dX0_link_33 rfl (lv_at hl 0 rfl) ?_
    refine wa_ci hS (wa_rV (rest := []) X hH (mX0_bad hX   ) (cwV 0 X.t (lw_V q492 q494 qs3 q109 q495) rfl rfl rfl hdX0_bad ⟨Nat.le_of_ble_eq_true rfl, Nat.le_of_ble_eq_true rfl⟩) rfl (have h9 := (XW.c0 hX); h9) rfl rfl hl.1 rfl (Nat.le_of_ble_eq_true rfl) dX0_link_34 ⟨Nat.le_of_ble_eq_true rfl, Nat.le_of_ble_eq_true rfl⟩) (fun z w34 H locs hp hH hS => ?_)
    obtain ⟨rfl, ⟨hX, hk⟩⟩ := hp
    have hI := hI.kp hk
    have hPX := hPX.kp hk
    have hWY := hWY.kp hk
    have hNV := hNV.kp hk
    have hXJ := hXJ.kp hk
    have hK := hK.kp hk
    refine W.widen (k := 5520) (n := 17800) (by first | exact Nat.le_of_ble_eq_true rfl | omega) (by first | exact Nat.le_of_ble_eq_true rfl | omega) ?_
    exact wa_iret X hH hS dX0_link_37 ⟨by (try unfold linkV); ((repeat' split) <;> first | rfl | omega | contradiction | (exfalso; omega)), ⟨_, _, _, _, hX, hK, ((hI).ref).rv (by (try simp only [rfu, bad]) <;> ((repeat' split) <;> first | rfl | (exfalso; omega) | contradiction))⟩⟩
set_option maxRecDepth 100000 in
theorem mX0_chain {lL : Launch} {G : wa_G} {ad : Nat → Nat} {w : wa_W} {S : Nat → Int} {A : Nat → Int → Int} {B : Nat → Int → Option Nat} {P : Nat → Option Nat} (hX : XW G ad w S A B P) {g : Int → Int} {past : Int → Int} {re : Int → Int} {tx : Int → Int} {st : Int} {ck : Int} {co : Int} {tl : Int} {qt : Int} (hI : XI G ad w S A B P g past re tx st ck co tl qt) (k : Int) (what : Int) (r_k : rI k) (r_what : rI what) : Met lL yX0_chain (ws_ yX0_chain cX0_chain 3 (some FieldType.int)) ({ frames := 12, cells := 5400, slots := 17400, locals := 3227 } : Room) (wa_P G w [.ref (ad 0), .int (zI k), .int (zI what)]) (wa_Qz G fun z u => z = chainV g k what ∧ ∃ (S2 : Nat → Int) (A2 : Nat → Int → Int) (B2 : Nat → Int → Option Nat) (P2 : Nat → Option Nat), XW G ad u S2 A2 B2 P2 ∧ Kp ad w u ∧ (XI G ad u S2 A2 B2 P2 g past (rfu re (bad (okK1 g k what))) tx st ck co tl qt)) 5400 17400 (wa_A G) := by
  refine wa_met (by decide) (by exact Nat.le_of_ble_eq_true rfl) ?_
  intro pP eE sS mM aA bB mT cC ls X hl hH
  have hS : va_S (wa_A G) sS.heap sS.heap [] := va_S.rf
  have hl : lv_has ls 3 [(0, .ref (ad 0)), (1, .int (zI k)), (2, .int (zI what))] := hl
  have hK : Kp ad w w := Kp.rf
  have hI_0 := hI
  obtain ⟨ho, hST, hXJ, hRX⟩ := id hI
  have hmany := ho.many
  have hPX : PX G ad w (B 10) g := hST.2.2.1
  have hWY : WAYS G ad w (B 5) := hRX.1
  have hNV : NVX ad w P := hRX.2.1
  have hm : S 30 = g 3 := hST.1.2
  have hwd : S 20 = g 0 := hST.1.1
  have hg : A 10 0 = g 1 ∧ A 10 1 = g 2 := hST.2.1
  have hwide := ho.wide
  have hS0 : S 0 = st := hRX.2.2.2.1.1
  have hS1 : S 1 = qt := hRX.2.2.2.1.2.1
  have hS2 : S 2 = tl := hRX.2.2.2.1.2.2.1
  have hstr := hRX.2.2.2.2.2.2.2.1
  have htlr := hRX.2.2.2.2.2.2.2.2.1
  have hqt := hRX.2.2.2.2.2.2.2.2.2.1
  have hPX_0 := hPX
  have hWY_0 := hWY
  have hNV_0 := hNV
  have hXJ_0 := hXJ
  refine lv_aload_n X.x X.b dX0_chain_0 rfl (lv_at hl 0 rfl) ?_
  refine lv_iload_n X.x X.b dX0_chain_1 rfl (lv_at hl 1 rfl) ?_
  refine wa_ci hS (wa_rV (rest := []) X hH (mX0_isPicture hX  k (show rI k by first | assumption | omega) (show 0 ≤ S 30 ∧ S 30 ≤ 6 by first | assumption | omega)) (cwV 1 X.t (lw_V q572 q574 qs9 q109 q575) rfl rfl rfl hdX0_isPicture ⟨Nat.le_of_ble_eq_true rfl, Nat.le_of_ble_eq_true rfl⟩) rfl (have h9 := (XW.c0 hX); h9) rfl rfl hl.1 rfl (Nat.le_of_ble_eq_true rfl) dX0_chain_2 ⟨Nat.le_of_ble_eq_true rfl, Nat.le_of_ble_eq_true rfl⟩) (fun z w2 H locs hp hH hS => ?_)
  obtain ⟨hb, hw⟩ := hp
  rw [← hw] at hH; clear hw
  rcases hb with ⟨b2, rfl⟩ | ⟨b2, rfl⟩
  · have b2 : (0 ≤ k ∧ k ≤ S 30 - 1) := b2
    refine wz_ifeq (tgt := 18) X.x X.b dX0_chain_5 (by decide) (by decide) (fun h => absurd h (by decide)) (fun _ => ?_)
    refine lv_iload_n X.x X.b dX0_chain_8 rfl (lv_at hl 2 rfl) ?_
    refine wz_i2l X.x X.b dX0_chain_9 ⟨by omega, by omega⟩ ?_
    refine lv_lconst (v := lI 0) X.x X.b dX0_chain_10 rfl ?_
    refine lv_lconst (v := lI 1) X.x X.b dX0_chain_11 rfl ?_
    refine wa_ci hS (wa_rS (rest := []) X hH (mX0_in _  what 0 1 (show rL what by first | assumption | omega) (show rL 0 by first | assumption | omega) (show rL 1 by first | assumption | omega)) (va_cwS 3 X.t (lw_S q466 q467 q109 q468) rfl rfl rfl hdX0_in.2 ⟨Nat.le_of_ble_eq_true rfl, Nat.le_of_ble_eq_true rfl⟩) rfl rfl hl.1 rfl (Nat.le_of_ble_eq_true rfl) dX0_chain_12 ⟨Nat.le_of_ble_eq_true rfl, Nat.le_of_ble_eq_true rfl⟩) (fun z w12 H locs hp hH hS => ?_)
    obtain ⟨hb, hw⟩ := hp
    rw [← hw] at hH; clear hw
    rcases hb with ⟨b12, rfl⟩ | ⟨b12, rfl⟩
    · have b12 : (0 ≤ what ∧ what ≤ 1) := b12
      refine wz_ifne (tgt := 23) X.x X.b dX0_chain_15 (by decide) (by decide) (fun _ => ?_) (fun h => absurd h (by decide))
      refine lv_iload_n X.x X.b dX0_chain_23 rfl (lv_at hl 2 rfl) ?_
      refine wz_ifne (tgt := 38) X.x X.b dX0_chain_24 (by decide) ⟨by omega, by omega⟩ (fun c24 => ?_) (fun c24 => ?_)
      · refine lv_aload_n X.x X.b dX0_chain_38 rfl (lv_at hl 0 rfl) ?_
        refine wa_cr hS (wa_rV (rest := []) X hH (mX0_joined hX hI  ) (cwV 0 X.t (lw_V q653 q655 qs14 q109 q656) rfl rfl rfl hdX0_joined ⟨Nat.le_of_ble_eq_true rfl, Nat.le_of_ble_eq_true rfl⟩) rfl (have h9 := (XW.c0 hX); h9) rfl rfl hl.1 rfl (Nat.le_of_ble_eq_true rfl) dX0_chain_39 ⟨Nat.le_of_ble_eq_true rfl, Nat.le_of_ble_eq_true rfl⟩) (fun r39 w39 H locs hp hH hS => ?_)
        obtain ⟨rfl, ⟨S2_39, A2_39, B2_39, P2_39, hX, hk, hx39_0, hx39_1, hx39_2⟩⟩ := hp
        have hI := hI.kp hk
        have hPX := hPX.kp hk
        have hWY := hWY.kp hk
        have hNV := hNV.kp hk
        have hXJ := hXJ.kp hk
        have hK := hK.kp hk
        have hI := hx39_0
        have hJR := hx39_1
        refine wz_opt (q := some (ad 24)) (by rfl) ?_
        obtain ⟨ho, hST, hXJ, hRX⟩ := id hI
        have hmany := ho.many
        have hPX : PX G ad w39 (B2_39 10) g := hST.2.2.1
        have hWY : WAYS G ad w39 (B2_39 5) := hRX.1
        have hNV : NVX ad w39 P2_39 := hRX.2.1
        have hm : S2_39 30 = g 3 := hST.1.2
        have hwd : S2_39 20 = g 0 := hST.1.1
        have hg : A2_39 10 0 = g 1 ∧ A2_39 10 1 = g 2 := hST.2.1
        have hwide := ho.wide
        have hS0 : S2_39 0 = st := hRX.2.2.2.1.1
        have hS1 : S2_39 1 = qt := hRX.2.2.2.1.2.1
        have hS2 : S2_39 2 = tl := hRX.2.2.2.1.2.2.1
        have hstr := hRX.2.2.2.2.2.2.2.1
        have htlr := hRX.2.2.2.2.2.2.2.2.1
        have hqt := hRX.2.2.2.2.2.2.2.2.2.1
        have hJC := hJR.1
        refine wa_getN (v := .ref (ad 52)) X hH (have h9 := (XW.c24 hX); h9) wcX2 4 (by decide) q347 rfl (fun _ h9 => h9) rfl dX0_chain_42 ?_
        refine lv_iload_n X.x X.b dX0_chain_45 rfl (lv_at hl 1 rfl) ?_
        refine wa_iald (f := A2_39 3) X hH (have h9 := (XW.c52 hX); h9) (by omega) (by omega) (by omega) dX0_chain_46 ?_
        refine wz_is (z := ahS g k) (by exact hJR.2.1.2.1 k (by omega) (by omega)) ?_
        refine W.widen (k := 5400) (n := 17400) (by first | exact Nat.le_of_ble_eq_true rfl | omega) (by first | exact Nat.le_of_ble_eq_true rfl | omega) ?_
        exact wa_iret X hH hS dX0_chain_47 ⟨by (try unfold chainV); ((repeat' split) <;> first | rfl | omega | contradiction | (exfalso; omega)), ⟨_, _, _, _, hX, hK, (hI).rv (by (try simp only [rfu, bad]) <;> ((repeat' split) <;> first | rfl | (exfalso; omega) | contradiction))⟩⟩
      · refine lv_aload_n X.x X.b dX0_chain_27 rfl (lv_at hl 0 rfl) ?_
        refine wa_cr hS (wa_rV (rest := []) X hH (mX0_joined hX hI  ) (cwV 0 X.t (lw_V q653 q655 qs14 q109 q656) rfl rfl rfl hdX0_joined ⟨Nat.le_of_ble_eq_true rfl, Nat.le_of_ble_eq_true rfl⟩) rfl (have h9 := (XW.c0 hX); h9) rfl rfl hl.1 rfl (Nat.le_of_ble_eq_true rfl) dX0_chain_28 ⟨Nat.le_of_ble_eq_true rfl, Nat.le_of_ble_eq_true rfl⟩) (fun r28 w28 H locs hp hH hS => ?_)
        obtain ⟨rfl, ⟨S2_28, A2_28, B2_28, P2_28, hX, hk, hx28_0, hx28_1, hx28_2⟩⟩ := hp
        have hI := hI.kp hk
        have hPX := hPX.kp hk
        have hWY := hWY.kp hk
        have hNV := hNV.kp hk
        have hXJ := hXJ.kp hk
        have hK := hK.kp hk
        have hI := hx28_0
        have hJR := hx28_1
        refine wz_opt (q := some (ad 24)) (by rfl) ?_
        obtain ⟨ho, hST, hXJ, hRX⟩ := id hI
        have hmany := ho.many
        have hPX : PX G ad w28 (B2_28 10) g := hST.2.2.1
        have hWY : WAYS G ad w28 (B2_28 5) := hRX.1
        have hNV : NVX ad w28 P2_28 := hRX.2.1
        have hm : S2_28 30 = g 3 := hST.1.2
        have hwd : S2_28 20 = g 0 := hST.1.1
        have hg : A2_28 10 0 = g 1 ∧ A2_28 10 1 = g 2 := hST.2.1
        have hwide := ho.wide
        have hS0 : S2_28 0 = st := hRX.2.2.2.1.1
        have hS1 : S2_28 1 = qt := hRX.2.2.2.1.2.1
        have hS2 : S2_28 2 = tl := hRX.2.2.2.1.2.2.1
        have hstr := hRX.2.2.2.2.2.2.2.1
        have htlr := hRX.2.2.2.2.2.2.2.2.1
        have hqt := hRX.2.2.2.2.2.2.2.2.2.1
        have hJC := hJR.1
        refine lv_iload_n X.x X.b dX0_chain_31 rfl (lv_at hl 1 rfl) ?_
        refine wa_ci hS (wa_rV (rest := []) X hH (mX2_follower hX hJR k (by omega) ho) (cwV 1 X.t (lw_V q1343 q1344 q1345 q112 q1346) rfl rfl rfl hdX2_follower ⟨Nat.le_of_ble_eq_true rfl, Nat.le_of_ble_eq_true rfl⟩) rfl (have h9 := (XW.c24 hX); h9) rfl rfl hl.1 rfl (Nat.le_of_ble_eq_true rfl) dX0_chain_32 ⟨Nat.le_of_ble_eq_true rfl, Nat.le_of_ble_eq_true rfl⟩) (fun z w32 H locs hp hH hS => ?_)
        obtain ⟨rfl, hw⟩ := hp
        rw [← hw] at hH; clear hw
        refine lv_goto (tgt := 47) X.x X.b dX0_chain_35 (by decide) ?_
        refine W.widen (k := 5400) (n := 17400) (by first | exact Nat.le_of_ble_eq_true rfl | omega) (by first | exact Nat.le_of_ble_eq_true rfl | omega) ?_
        exact wa_iret X hH hS dX0_chain_47 ⟨by (try unfold chainV); ((repeat' split) <;> first | rfl | omega | contradiction | (exfalso; omega)), ⟨_, _, _, _, hX, hK, (hI).rv (by (try simp only [rfu, bad]) <;> ((repeat' split) <;> first | rfl | (exfalso; omega) | contradiction))⟩⟩
    · have b12 : ¬ (0 ≤ what ∧ what ≤ 1) := b12
      refine wz_ifne (tgt := 23) X.x X.b dX0_chain_15 (by decide) (by decide) (fun h => absurd h (by decide)) (fun _ => ?_)
      refine lv_aload_n X.x X.b dX0_chain_18 rfl (lv_at hl 0 rfl) ?_
      refine wa_ci hS (wa_rV (rest := []) X hH (mX0_bad hX   ) (cwV 0 X.t (lw_V q492 q494 qs3 q109 q495) rfl rfl rfl hdX0_bad ⟨Nat.le_of_ble_eq_true rfl, Nat.le_of_ble_eq_true rfl⟩) rfl (have h9 := (XW.c0 hX); h9) rfl rfl hl.1 rfl (Nat.le_of_ble_eq_true rfl) dX0_chain_19 ⟨Nat.le_of_ble_eq_true rfl, Nat.le_of_ble_eq_true rfl⟩) (fun z w19 H locs hp hH hS => ?_)
      obtain ⟨rfl, ⟨hX, hk⟩⟩ := hp
      have hI := hI.kp hk
      have hPX := hPX.kp hk
      have hWY := hWY.kp hk
      have hNV := hNV.kp hk
      have hXJ := hXJ.kp hk
      have hK := hK.kp hk
      refine W.widen (k := 5400) (n := 17400) (by first | exact Nat.le_of_ble_eq_true rfl | omega) (by first | exact Nat.le_of_ble_eq_true rfl | omega) ?_
      exact wa_iret X hH hS dX0_chain_22 ⟨by (try unfold chainV); ((repeat' split) <;> first | rfl | omega | contradiction | (exfalso; omega)), ⟨_, _, _, _, hX, hK, ((hI).ref).rv (by (try simp only [rfu, bad]) <;> ((repeat' split) <;> first | rfl | (exfalso; omega) | contradiction))⟩⟩
  · have b2 : ¬ (0 ≤ k ∧ k ≤ S 30 - 1) := b2
    refine wz_ifeq (tgt := 18) X.x X.b dX0_chain_5 (by decide) (by decide) (fun _ => ?_) (fun h => absurd h (by decide))
    refine lv_aload_n X.x X.b dX0_chain_18 rfl (lv_at hl 0 rfl) ?_
    refine wa_ci hS (wa_rV (rest := []) X hH (mX0_bad hX   ) (cwV 0 X.t (lw_V q492 q494 qs3 q109 q495) rfl rfl rfl hdX0_bad ⟨Nat.le_of_ble_eq_true rfl, Nat.le_of_ble_eq_true rfl⟩) rfl (have h9 := (XW.c0 hX); h9) rfl rfl hl.1 rfl (Nat.le_of_ble_eq_true rfl) dX0_chain_19 ⟨Nat.le_of_ble_eq_true rfl, Nat.le_of_ble_eq_true rfl⟩) (fun z w19 H locs hp hH hS => ?_)
    obtain ⟨rfl, ⟨hX, hk⟩⟩ := hp
    have hI := hI.kp hk
    have hPX := hPX.kp hk
    have hWY := hWY.kp hk
    have hNV := hNV.kp hk
    have hXJ := hXJ.kp hk
    have hK := hK.kp hk
    refine W.widen (k := 5400) (n := 17400) (by first | exact Nat.le_of_ble_eq_true rfl | omega) (by first | exact Nat.le_of_ble_eq_true rfl | omega) ?_
    exact wa_iret X hH hS dX0_chain_22 ⟨by (try unfold chainV); ((repeat' split) <;> first | rfl | omega | contradiction | (exfalso; omega)), ⟨_, _, _, _, hX, hK, ((hI).ref).rv (by (try simp only [rfu, bad]) <;> ((repeat' split) <;> first | rfl | (exfalso; omega) | contradiction))⟩⟩

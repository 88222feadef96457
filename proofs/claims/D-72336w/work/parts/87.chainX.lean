/-! JOINER: leads, takes, findChain -/
set_option maxRecDepth 100000 in
theorem mX2_leads {lL : Launch} {G : wa_G} {ad : Nat → Nat} {w : wa_W} {S : Nat → Int} {A : Nat → Int → Int} {B : Nat → Int → Option Nat} {P : Nat → Option Nat} (hX : XW G ad w S A B P) {fo : Int → Int} {ah : Int → Int} {g : Int → Int} (hLA : LA ad w (B 1) fo g) (x : Int) (y : Int) (hx : 0 ≤ x ∧ x < g 3) (hy : 0 ≤ y ∧ y < g 3) (hCI : CI fo ah (g 3)) (hm : 0 ≤ g 3 ∧ g 3 ≤ 6) : Met lL yX2_leads (ws_ yX2_leads cX2_leads 5 (some FieldType.int)) ({ frames := 0, cells := 0, slots := 0, locals := 0 } : Room) (wa_P G w [.ref (ad 24), .int (zI x), .int (zI y)]) (wa_Qz G fun z u => (LDs fo x y z) ∧ w = u) 0 0 (wa_A G) := by
  refine wa_met (by decide) (by exact Nat.le_of_ble_eq_true rfl) ?_
  intro pP eE sS mM aA bB mT cC ls X hl hH
  have hS : va_S (wa_A G) sS.heap sS.heap [] := va_S.rf
  have hl : lv_has ls 5 [(0, .ref (ad 24)), (1, .int (zI x)), (2, .int (zI y))] := hl
  have hK : Kp ad w w := Kp.rf
  have hLA_0 := hLA
  obtain ⟨N, hN12, hN⟩ := LDs_end hCI hm hx hy
  refine wz_iconst X.x X.b dX2_leads_0 ?_
  refine lv_istore_n (lv' := [(3, .int (zI 1)), (0, .ref (ad 24)), (1, .int (zI x)), (2, .int (zI y))]) X.x X.b dX2_leads_1 rfl hl (by decide) rfl (fun ls hl => ?_)
  refine lv_iload_n X.x X.b dX2_leads_2 rfl (lv_at hl 2 rfl) ?_
  refine lv_istore (lv' := [(4, .int (zI x)), (3, .int (zI 1)), (0, .ref (ad 24)), (1, .int (zI x)), (2, .int (zI y))]) X.x X.b dX2_leads_3 hl (by decide) rfl (fun ls hl => ?_)
  have L5 : ∀ (nn : Nat) (k : Nat) (t : Int) (n : Int), (N - k) = nn → (t = stN fo k x) → (∀ j, j < k → stN fo j x ≠ y) → (0 ≤ t ∧ t < g 3) → (n = (k : Int) + 1) → ∀ (H : Heap) (locs : List Loc) (ls : Array Slot), wa_H G w H → va_S (wa_A G) sS.heap H locs → lv_has ls 5 [(3, .int (zI n)), (4, .int (zI t)), (0, .ref (ad 24)), (1, .int (zI x)), (2, .int (zI y))] → W pP lL eE ({ frames := 0, cells := 0, slots := 0, locals := 0 } : Room) sS mM aA bB mT cC H locs 0 0 (MQ bB (wa_Qz G fun z u => (LDs fo x y z) ∧ w = u) aA sS 0 0 (wa_A G)) (F0 mM 5 ls []) := by
    intro nn
    induction nn using Nat.strongRecOn with
    | ind nn ih5 =>
      intro k t n hmu5 i5_0 i5_1 i5_2 i5_3 H locs ls hH hS hl
      have hkN := LDs_le (k := k) hN i5_1 (by rw [← i5_0]; omega)
      refine lv_iload X.x X.b dX2_leads_5 (lv_at hl 1 rfl) ?_
      refine lv_iload_n X.x X.b dX2_leads_7 rfl (lv_at hl 4 rfl) ?_
      refine wz_icmp_eq (tgt := 39) X.x X.b dX2_leads_8 (by decide) ⟨by omega, by omega⟩ ⟨by omega, by omega⟩ (fun c8 => ?_) (fun c8 => ?_)
      · refine lv_iload X.x X.b dX2_leads_39 (lv_at hl 1 rfl) ?_
        refine lv_iload_n X.x X.b dX2_leads_41 rfl (lv_at hl 4 rfl) ?_
        refine wz_icmp_ne (tgt := 49) X.x X.b dX2_leads_42 (by decide) ⟨by omega, by omega⟩ ⟨by omega, by omega⟩ (fun c42 => ?_) (fun c42 => ?_)
        · refine wz_iconst X.x X.b dX2_leads_49 ?_
          exact wa_iret X hH hS dX2_leads_50 ⟨by first | exact Or.inl ⟨k, by omega, i5_3, by rw [← i5_0]; assumption, i5_1⟩ | (exfalso; omega) | exact Or.inr ⟨rfl, st_never (k := k) (by omega) i5_1 (by rw [← i5_0]; assumption) (by rw [stN_s, ← i5_0]; unfold stp; rw [if_neg (by omega)]; exact hfo)⟩, rfl⟩
        · refine lv_iload_n X.x X.b dX2_leads_45 rfl (lv_at hl 0 rfl) ?_
          refine lv_goto (tgt := 50) X.x X.b dX2_leads_46 (by decide) ?_
          exact wa_iret X hH hS dX2_leads_50 ⟨by first | exact Or.inl ⟨k, by omega, i5_3, by rw [← i5_0]; assumption, i5_1⟩ | (exfalso; omega) | exact Or.inr ⟨rfl, st_never (k := k) (by omega) i5_1 (by rw [← i5_0]; assumption) (by rw [stN_s, ← i5_0]; unfold stp; rw [if_neg (by omega)]; exact hfo)⟩, rfl⟩
      · refine lv_aload_n X.x X.b dX2_leads_11 rfl (lv_at hl 2 rfl) ?_
        refine wa_get (v := .ref (ad 51)) X hH (have h9 := (XW.c24 hX); h9) wcX2 3 (by decide) q344 rfl (fun _ h9 => h9) rfl dX2_leads_12 ?_
        refine lv_iload X.x X.b dX2_leads_15 (lv_at hl 1 rfl) ?_
        refine wa_aald (k := 6) (f := B 1) X hH (have h9 := (XW.c51 hX); h9) rfl rfl (by omega) (by omega) (by omega) dX2_leads_17 ?_
        rcases xo_cases ((B 1) t) with ho18 | ⟨a18, ho18⟩
        · refine wz_opt (q := none) ho18 ?_
          have hfo := hLA.nol i5_2.1 (by omega) ho18
          refine lv_ifnullN (tgt := 39) X.x X.b dX2_leads_18 (by decide) ?_
          refine lv_iload X.x X.b dX2_leads_39 (lv_at hl 1 rfl) ?_
          refine lv_iload_n X.x X.b dX2_leads_41 rfl (lv_at hl 4 rfl) ?_
          refine wz_icmp_ne (tgt := 49) X.x X.b dX2_leads_42 (by decide) ⟨by omega, by omega⟩ ⟨by omega, by omega⟩ (fun c42 => ?_) (fun c42 => ?_)
          · refine wz_iconst X.x X.b dX2_leads_49 ?_
            exact wa_iret X hH hS dX2_leads_50 ⟨by first | exact Or.inl ⟨k, by omega, i5_3, by rw [← i5_0]; assumption, i5_1⟩ | (exfalso; omega) | exact Or.inr ⟨rfl, st_never (k := k) (by omega) i5_1 (by rw [← i5_0]; assumption) (by rw [stN_s, ← i5_0]; unfold stp; rw [if_neg (by omega)]; exact hfo)⟩, rfl⟩
          · refine lv_iload_n X.x X.b dX2_leads_45 rfl (lv_at hl 0 rfl) ?_
            refine lv_goto (tgt := 50) X.x X.b dX2_leads_46 (by decide) ?_
            exact wa_iret X hH hS dX2_leads_50 ⟨by first | exact Or.inl ⟨k, by omega, i5_3, by rw [← i5_0]; assumption, i5_1⟩ | (exfalso; omega) | exact Or.inr ⟨rfl, st_never (k := k) (by omega) i5_1 (by rw [← i5_0]; assumption) (by rw [stN_s, ← i5_0]; unfold stp; rw [if_neg (by omega)]; exact hfo)⟩, rfl⟩
        · refine wz_opt (q := (some a18)) ho18 ?_
          obtain ⟨hb1, hb2, hb3, sc, fl⟩ := hLA.isl i5_2.1 (by omega) ho18
          have hst : stN fo (k + 1) x = fo t := by rw [stN_s, ← i5_0]; unfold stp; rw [if_neg (by omega)]
          refine lv_ifnull X.x X.b dX2_leads_18 ?_
          refine lv_aload_n X.x X.b dX2_leads_21 rfl (lv_at hl 2 rfl) ?_
          refine wa_get (v := .ref (ad 51)) X hH (have h9 := (XW.c24 hX); h9) wcX2 3 (by decide) q344 rfl (fun _ h9 => h9) rfl dX2_leads_22 ?_
          refine lv_iload X.x X.b dX2_leads_25 (lv_at hl 1 rfl) ?_
          refine wa_aald (k := 6) (f := B 1) X hH (have h9 := (XW.c51 hX); h9) rfl rfl (by omega) (by omega) (by omega) dX2_leads_27 ?_
          refine wz_opt (q := some a18) (by exact ho18) ?_
          refine wa_getN (v := .int (zI (fo t))) X hH fl.1.2 wcX11 1 (by decide) q1128 rfl (fun _ h9 => h9) rfl dX2_leads_28 ?_
          refine lv_istore (lv' := [(4, .int (zI (fo t))), (3, .int (zI n)), (0, .ref (ad 24)), (1, .int (zI x)), (2, .int (zI y))]) X.x X.b dX2_leads_31 hl (by decide) rfl (fun ls hl => ?_)
          refine wz_iinc (k := 1) (lv' := [(3, .int (zI (n + 1))), (4, .int (zI (fo t))), (0, .ref (ad 24)), (1, .int (zI x)), (2, .int (zI y))]) X.x X.b dX2_leads_33 hl rfl (by decide) rfl (fun ls hl => ?_)
          refine lv_goto (tgt := 5) X.x X.b dX2_leads_36 (by decide) ?_
          exact ih5 _ (by have h9 := LDs_le (k := k + 1) hN (fun j hj => by rcases (show j < k ∨ j = k by omega) with q | q; exact i5_1 j q; (rw [q, ← i5_0]; exact c8)) (by rw [hst]; omega); omega) (k + 1) (fo t) (n + 1) rfl (by exact hst.symm) (by intro j hj; rcases (show j < k ∨ j = k by omega) with q | q; exact i5_1 j q; (rw [q, ← i5_0]; exact c8)) (by omega) (by omega) _ _ _ hH hS (lv_sub hl [0, 1, 2, 3, 4] rfl)
  exact L5 _ 0 x 1 rfl (by rfl) (by intro j hj; omega) (by omega) (by omega) _ _ _ hH hS (lv_sub hl [1, 0, 2, 3, 4] rfl)
set_option maxRecDepth 100000 in
theorem mX2_takes {lL : Launch} {G : wa_G} {ad : Nat → Nat} {w : wa_W} {S : Nat → Int} {A : Nat → Int → Int} {B : Nat → Int → Option Nat} {P : Nat → Option Nat} (hX : XW G ad w S A B P) {l : Nat} {sc : Nat} {a : Int} {b : Int} {g : Int → Int} {s : Cst} (fl0 : Lnk ad w l sc a b ((bestS g a b).1) ((bestS g a b).2.1) ((bestS g a b).2.2)) (hCS : CS ad w S A B g s) (ha : 0 ≤ a ∧ a < g 3) (hb : 0 ≤ b ∧ b < g 3) (hab : a ≠ b) (hv0 : 0 < (bestS g a b).1) (hCI : CI s.1 s.2 (g 3)) (ho : okS g) (hm : S 30 = g 3) : Met lL yX2_takes (ws_ yX2_takes cX2_takes 3 (none : Option FieldType)) ({ frames := 1, cells := 0, slots := 0, locals := 24 } : Room) (wa_P G w [.ref (ad 24), .ref l]) (wa_Qv G fun u => ∃ (S2 : Nat → Int) (A2 : Nat → Int → Int) (B2 : Nat → Int → Option Nat), XW G ad u S2 A2 B2 P ∧ Kp ad w u ∧ ((∀ j, j ≠ 5 → j ≠ 7 → j ≠ 8 → S2 j = S j) ∧ (∀ j, j ≠ 3 → A2 j = A j) ∧ ∀ j, j ≠ 1 → B2 j = B j) ∧ (CS ad u S2 A2 B2 g (tk (g 3) s a b))) 0 0 (wa_A G) := by
  refine wa_met (by decide) (by exact Nat.le_of_ble_eq_true rfl) ?_
  intro pP eE sS mM aA bB mT cC ls X hl hH
  have hS : va_S (wa_A G) sS.heap sS.heap [] := va_S.rf
  have hl : lv_has ls 3 [(0, .ref (ad 24)), (1, .ref l)] := hl
  have hK : Kp ad w w := Kp.rf
  have fl0_0 := fl0
  have hCS_0 := hCS
  have hmany := ho.many
  obtain ⟨hLA, hah, hs5, hs7, hs8⟩ := id hCS
  have hAb := hah b hb.1 (by omega)
  have hAr := hCI.1.2.1 b hb.1 hb.2
  have hbi := bestN_in g a b 15 (Nat.le_refl 15)
  rw [show bestN g a b 15 = bestS g a b from rfl] at hbi
  have hLA_0 := hLA
  refine lv_aload_n X.x X.b dX2_takes_0 rfl (lv_at hl 0 rfl) ?_
  refine lv_aload_n X.x X.b dX2_takes_1 rfl (lv_at hl 1 rfl) ?_
  refine wa_getN (v := .int (zI b)) X hH fl0.1.2 wcX11 1 (by decide) q1128 rfl (fun _ h9 => h9) rfl dX2_takes_2 ?_
  refine lv_aload_n X.x X.b dX2_takes_5 rfl (lv_at hl 1 rfl) ?_
  refine wa_getN (v := .int (zI a)) X hH fl0.1.2 wcX11 0 (by decide) q1124 rfl (fun _ h9 => h9) rfl dX2_takes_6 ?_
  refine wa_ci hS (wa_rV (rest := []) X hH (mX2_leads hX hLA b a hb ha hCI hmany) (cwV 2 X.t (lw_V q1262 q1264 qs28 q112 q1265) rfl rfl rfl hdX2_leads ⟨Nat.le_of_ble_eq_true rfl, Nat.le_of_ble_eq_true rfl⟩) rfl (have h9 := (XW.c24 hX); h9) rfl rfl hl.1 rfl (Nat.le_of_ble_eq_true rfl) dX2_takes_9 ⟨Nat.le_of_ble_eq_true rfl, Nat.le_of_ble_eq_true rfl⟩) (fun z w9 H locs hp hH hS => ?_)
  obtain ⟨hz9, hw⟩ := hp
  obtain ⟨z9, ez9⟩ : ∃ q, q = z := ⟨_, rfl⟩
  rw [← ez9] at hz9 ⊢
  rw [← hw] at hH; clear hw
  have hzb := LDs_in hz9
  refine lv_istore_n (lv' := [(2, .int (zI z9)), (0, .ref (ad 24)), (1, .ref l)]) X.x X.b dX2_takes_12 rfl hl (by decide) rfl (fun ls hl => ?_)
  refine lv_aload_n X.x X.b dX2_takes_13 rfl (lv_at hl 1 rfl) ?_
  refine wa_get (v := .ref (ad 51)) X hH (have h9 := (XW.c24 hX); h9) wcX2 3 (by decide) q344 rfl (fun _ h9 => h9) rfl dX2_takes_14 ?_
  refine lv_aload_n X.x X.b dX2_takes_17 rfl (lv_at hl 2 rfl) ?_
  refine wa_getN (v := .int (zI a)) X hH fl0.1.2 wcX11 0 (by decide) q1124 rfl (fun _ h9 => h9) rfl dX2_takes_18 ?_
  refine wa_aald (k := 6) (f := B 1) X hH (have h9 := (XW.c51 hX); h9) rfl rfl (by omega) (by omega) (by omega) dX2_takes_21 ?_
  rcases xo_cases ((B 1) a) with ho22 | ⟨a22, ho22⟩
  · refine wz_opt (q := none) ho22 ?_
    refine lv_ifnonnullN X.x X.b dX2_takes_22 ?_
    refine lv_aload_n X.x X.b dX2_takes_25 rfl (lv_at hl 1 rfl) ?_
    refine wa_get (v := .ref (ad 52)) X hH (have h9 := (XW.c24 hX); h9) wcX2 4 (by decide) q346 rfl (fun _ h9 => h9) rfl dX2_takes_26 ?_
    refine lv_aload_n X.x X.b dX2_takes_29 rfl (lv_at hl 2 rfl) ?_
    refine wa_getN (v := .int (zI b)) X hH fl0.1.2 wcX11 1 (by decide) q1128 rfl (fun _ h9 => h9) rfl dX2_takes_30 ?_
    refine wa_iald (f := A 3) X hH (have h9 := (XW.c52 hX); h9) (by omega) (by omega) (by omega) dX2_takes_33 ?_
    refine wz_iconst X.x X.b dX2_takes_34 ?_
    refine wz_icmp_ne (tgt := 122) X.x X.b dX2_takes_35 (by decide) ⟨by omega, by omega⟩ ⟨by omega, by omega⟩ (fun c35 => ?_) (fun c35 => ?_)
    · exact wa_vret X hH hS dX2_takes_122 ⟨S, A, B, hX, hK, ⟨fun j _ _ _ => rfl, fun j _ => rfl, fun j _ => rfl⟩, CS.nt hCS (fun q => by
      obtain ⟨q1, q2, q3⟩ := (LDs_mt hz9).mp q
      first | (rw [hAb] at c35; exact c35 q2) | (have h9 := (hLA.isl ha.1 (by omega) ho22).1; omega) | omega)⟩
    · refine lv_iload_n X.x X.b dX2_takes_38 rfl (lv_at hl 0 rfl) ?_
      refine wz_iconst X.x X.b dX2_takes_39 ?_
      refine wz_icmp_eq (tgt := 57) X.x X.b dX2_takes_40 (by decide) ⟨by omega, by omega⟩ ⟨by omega, by omega⟩ (fun c40 => ?_) (fun c40 => ?_)
      · refine lv_aload_n X.x X.b dX2_takes_57 rfl (lv_at hl 1 rfl) ?_
        refine wa_get (v := .ref (ad 51)) X hH (have h9 := (XW.c24 hX); h9) wcX2 3 (by decide) q344 rfl (fun _ h9 => h9) rfl dX2_takes_58 ?_
        refine lv_aload_n X.x X.b dX2_takes_61 rfl (lv_at hl 2 rfl) ?_
        refine wa_getN (v := .int (zI a)) X hH fl0.1.2 wcX11 0 (by decide) q1124 rfl (fun _ h9 => h9) rfl dX2_takes_62 ?_
        refine lv_aload_n X.x X.b dX2_takes_65 rfl (lv_at hl 2 rfl) ?_
        refine wa_aast (k := 6) (f := B 1) X hH hS (have h9 := (XW.c51 hX); h9) rfl (wa_any X hH fl0.1.2 rfl) (by omega) (by omega) (by omega) dX2_takes_66 (fun w66 H locs ew hH hS => ?_)
        have hk : Kp ad w w66 := Kp.set (i := 51) (by omega) ew
        have hX := hX.sB (i := 51) (1) (x := fupR (B 1) a (some l)) (by unfold oB; omega) ew
        have fl0 := fl0.kp hk
        have hCS := hCS.kp hk
        have hLA := hLA.kp hk
        have hK := hK.kp hk
        clear ew
        refine lv_aload_n X.x X.b dX2_takes_67 rfl (lv_at hl 1 rfl) ?_
        refine wa_get (v := .ref (ad 52)) X hH (have h9 := (XW.c24 hX); h9) wcX2 4 (by decide) q346 rfl (fun _ h9 => h9) rfl dX2_takes_68 ?_
        refine lv_aload_n X.x X.b dX2_takes_71 rfl (lv_at hl 2 rfl) ?_
        refine wa_getN (v := .int (zI b)) X hH fl0.1.2 wcX11 1 (by decide) q1128 rfl (fun _ h9 => h9) rfl dX2_takes_72 ?_
        refine lv_aload_n X.x X.b dX2_takes_75 rfl (lv_at hl 2 rfl) ?_
        refine wa_getN (v := .int (zI a)) X hH fl0.1.2 wcX11 0 (by decide) q1124 rfl (fun _ h9 => h9) rfl dX2_takes_76 ?_
        refine wa_iast (f := A 3) X hH hS (have h9 := (XW.c52 hX); h9) (by omega) (by omega) (by omega) dX2_takes_79 (fun w79 H locs ew hH hS => ?_)
        have hk : Kp ad w66 w79 := Kp.set (i := 52) (by omega) ew
        have hX := hX.sA (i := 52) (3) (x := fup (A 3) b a) (by unfold oA; omega) ew
        have fl0 := fl0.kp hk
        have hCS := hCS.kp hk
        have hLA := hLA.kp hk
        have hK := hK.kp hk
        clear ew
        refine lv_aload_n X.x X.b dX2_takes_80 rfl (lv_at hl 1 rfl) ?_
        refine lv_dup X.x X.b dX2_takes_81 rfl ?_
        refine wa_get (v := .int (zI (S 5))) X hH (have h9 := (XW.c24 hX); h9) wcX2 5 (by decide) q348 rfl (fun _ h9 => h9) rfl dX2_takes_82 ?_
        refine wz_iconst X.x X.b dX2_takes_85 ?_
        refine wz_iadd X.x X.b dX2_takes_86 ?_
        refine wa_put X hH hS (have h9 := (XW.c24 hX); h9) wcX2 5 (by decide) q348 rfl (fun _ h9 => h9) rfl rfl rfl (Nat.le_of_ble_eq_true rfl) dX2_takes_87 (fun w87 H locs ew hH hS => ?_)
        have hk : Kp ad w79 w87 := Kp.set (i := 24) (by omega) ew
        have hX := hX.sS (i := 24) (5) (x := (S 5) + 1) (by unfold oS; omega) ew
        have fl0 := fl0.kp hk
        have hCS := hCS.kp hk
        have hLA := hLA.kp hk
        have hK := hK.kp hk
        clear ew
        refine lv_aload_n X.x X.b dX2_takes_90 rfl (lv_at hl 1 rfl) ?_
        refine lv_dup X.x X.b dX2_takes_91 rfl ?_
        refine wa_get (v := .int (zI (S 7))) X hH (have h9 := (XW.c24 hX); h9) wcX2 7 (by decide) q352 rfl (fun _ h9 => h9) rfl dX2_takes_92 ?_
        refine lv_aload_n X.x X.b dX2_takes_95 rfl (lv_at hl 2 rfl) ?_
        refine wa_getN (v := .ref sc) X hH fl0.1.2 wcX11 2 (by decide) q1130 rfl (fun _ h9 => h9) rfl dX2_takes_96 ?_
        refine wa_getN (v := .int (zI ((bestS g a b).2.2))) X hH fl0.2.2 wcX10 1 (by decide) q1060 rfl (fun _ h9 => h9) rfl dX2_takes_99 ?_
        refine wz_iadd X.x X.b dX2_takes_102 ?_
        refine wa_put X hH hS (have h9 := (XW.c24 hX); h9) wcX2 7 (by decide) q352 rfl (fun _ h9 => h9) rfl rfl rfl (Nat.le_of_ble_eq_true rfl) dX2_takes_103 (fun w103 H locs ew hH hS => ?_)
        have hk : Kp ad w87 w103 := Kp.set (i := 24) (by omega) ew
        have hX := hX.sS (i := 24) (7) (x := (S 7) + ((bestS g a b).2.2)) (by unfold oS; omega) ew
        have fl0 := fl0.kp hk
        have hCS := hCS.kp hk
        have hLA := hLA.kp hk
        have hK := hK.kp hk
        clear ew
        refine lv_aload_n X.x X.b dX2_takes_106 rfl (lv_at hl 1 rfl) ?_
        refine lv_dup X.x X.b dX2_takes_107 rfl ?_
        refine wa_get (v := .int (zI (S 8))) X hH (have h9 := (XW.c24 hX); h9) wcX2 8 (by decide) q354 rfl (fun _ h9 => h9) rfl dX2_takes_108 ?_
        refine lv_aload_n X.x X.b dX2_takes_111 rfl (lv_at hl 2 rfl) ?_
        refine wa_getN (v := .ref sc) X hH fl0.1.2 wcX11 2 (by decide) q1130 rfl (fun _ h9 => h9) rfl dX2_takes_112 ?_
        refine wa_getN (v := .int (zI ((bestS g a b).2.1))) X hH fl0.2.2 wcX10 0 (by decide) q1056 rfl (fun _ h9 => h9) rfl dX2_takes_115 ?_
        refine wz_iadd X.x X.b dX2_takes_118 ?_
        refine wa_put X hH hS (have h9 := (XW.c24 hX); h9) wcX2 8 (by decide) q354 rfl (fun _ h9 => h9) rfl rfl rfl (Nat.le_of_ble_eq_true rfl) dX2_takes_119 (fun w119 H locs ew hH hS => ?_)
        have hk : Kp ad w103 w119 := Kp.set (i := 24) (by omega) ew
        have hX := hX.sS (i := 24) (8) (x := (S 8) + ((bestS g a b).2.1)) (by unfold oS; omega) ew
        have fl0 := fl0.kp hk
        have hCS := hCS.kp hk
        have hLA := hLA.kp hk
        have hK := hK.kp hk
        clear ew
        exact wa_vret X hH hS dX2_takes_122 ⟨_, _, _, hX, hK, ⟨fun j h1 h2 h3 => by rw [sup_n h3, sup_n h2, sup_n h1], fun j h => aup_n h, fun j h => bup_n h⟩, CS.take hCS ((LDs_mt hz9).mpr ⟨hLA.nol ha.1 (by omega) ho22, by omega, by omega⟩) ha hb hmany.2 hab hv0 fl0 rfl rfl rfl rfl rfl⟩
      · refine lv_iload_n X.x X.b dX2_takes_43 rfl (lv_at hl 0 rfl) ?_
        refine lv_aload_n X.x X.b dX2_takes_44 rfl (lv_at hl 1 rfl) ?_
        refine wa_get (v := .ref (ad 0)) X hH (have h9 := (XW.c24 hX); h9) wcX2 15 (by decide) q368 rfl (fun _ h9 => h9) rfl dX2_takes_45 ?_
        refine wa_getN (v := .ref (ad 1)) X hH (have h9 := (XW.c0 hX); h9) wcX0 0 (by decide) q416 rfl (fun _ h9 => h9) rfl dX2_takes_48 ?_
        refine wa_getN (v := .int (zI (S 30))) X hH (have h9 := (XW.c1 hX); h9) wcX1 3 (by decide) q171 rfl (fun _ h9 => h9) rfl dX2_takes_51 ?_
        refine wz_icmp_ne (tgt := 122) X.x X.b dX2_takes_54 (by decide) ⟨by omega, by omega⟩ ⟨by omega, by omega⟩ (fun c54 => ?_) (fun c54 => ?_)
        · exact wa_vret X hH hS dX2_takes_122 ⟨S, A, B, hX, hK, ⟨fun j _ _ _ => rfl, fun j _ => rfl, fun j _ => rfl⟩, CS.nt hCS (fun q => by
      obtain ⟨q1, q2, q3⟩ := (LDs_mt hz9).mp q
      first | (rw [hAb] at c35; exact c35 q2) | (have h9 := (hLA.isl ha.1 (by omega) ho22).1; omega) | omega)⟩
        · refine lv_aload_n X.x X.b dX2_takes_57 rfl (lv_at hl 1 rfl) ?_
          refine wa_get (v := .ref (ad 51)) X hH (have h9 := (XW.c24 hX); h9) wcX2 3 (by decide) q344 rfl (fun _ h9 => h9) rfl dX2_takes_58 ?_
          refine lv_aload_n X.x X.b dX2_takes_61 rfl (lv_at hl 2 rfl) ?_
          refine wa_getN (v := .int (zI a)) X hH fl0.1.2 wcX11 0 (by decide) q1124 rfl (fun _ h9 => h9) rfl dX2_takes_62 ?_
          refine lv_aload_n X.x X.b dX2_takes_65 rfl (lv_at hl 2 rfl) ?_
          refine wa_aast (k := 6) (f := B 1) X hH hS (have h9 := (XW.c51 hX); h9) rfl (wa_any X hH fl0.1.2 rfl) (by omega) (by omega) (by omega) dX2_takes_66 (fun w66 H locs ew hH hS => ?_)
          have hk : Kp ad w w66 := Kp.set (i := 51) (by omega) ew
          have hX := hX.sB (i := 51) (1) (x := fupR (B 1) a (some l)) (by unfold oB; omega) ew
          have fl0 := fl0.kp hk
          have hCS := hCS.kp hk
          have hLA := hLA.kp hk
          have hK := hK.kp hk
          clear ew
          refine lv_aload_n X.x X.b dX2_takes_67 rfl (lv_at hl 1 rfl) ?_
          refine wa_get (v := .ref (ad 52)) X hH (have h9 := (XW.c24 hX); h9) wcX2 4 (by decide) q346 rfl (fun _ h9 => h9) rfl dX2_takes_68 ?_
          refine lv_aload_n X.x X.b dX2_takes_71 rfl (lv_at hl 2 rfl) ?_
          refine wa_getN (v := .int (zI b)) X hH fl0.1.2 wcX11 1 (by decide) q1128 rfl (fun _ h9 => h9) rfl dX2_takes_72 ?_
          refine lv_aload_n X.x X.b dX2_takes_75 rfl (lv_at hl 2 rfl) ?_
          refine wa_getN (v := .int (zI a)) X hH fl0.1.2 wcX11 0 (by decide) q1124 rfl (fun _ h9 => h9) rfl dX2_takes_76 ?_
          refine wa_iast (f := A 3) X hH hS (have h9 := (XW.c52 hX); h9) (by omega) (by omega) (by omega) dX2_takes_79 (fun w79 H locs ew hH hS => ?_)
          have hk : Kp ad w66 w79 := Kp.set (i := 52) (by omega) ew
          have hX := hX.sA (i := 52) (3) (x := fup (A 3) b a) (by unfold oA; omega) ew
          have fl0 := fl0.kp hk
          have hCS := hCS.kp hk
          have hLA := hLA.kp hk
          have hK := hK.kp hk
          clear ew
          refine lv_aload_n X.x X.b dX2_takes_80 rfl (lv_at hl 1 rfl) ?_
          refine lv_dup X.x X.b dX2_takes_81 rfl ?_
          refine wa_get (v := .int (zI (S 5))) X hH (have h9 := (XW.c24 hX); h9) wcX2 5 (by decide) q348 rfl (fun _ h9 => h9) rfl dX2_takes_82 ?_
          refine wz_iconst X.x X.b dX2_takes_85 ?_
          refine wz_iadd X.x X.b dX2_takes_86 ?_
          refine wa_put X hH hS (have h9 := (XW.c24 hX); h9) wcX2 5 (by decide) q348 rfl (fun _ h9 => h9) rfl rfl rfl (Nat.le_of_ble_eq_true rfl) dX2_takes_87 (fun w87 H locs ew hH hS => ?_)
          have hk : Kp ad w79 w87 := Kp.set (i := 24) (by omega) ew
          have hX := hX.sS (i := 24) (5) (x := (S 5) + 1) (by unfold oS; omega) ew
          have fl0 := fl0.kp hk
          have hCS := hCS.kp hk
          have hLA := hLA.kp hk
          have hK := hK.kp hk
          clear ew
          refine lv_aload_n X.x X.b dX2_takes_90 rfl (lv_at hl 1 rfl) ?_
          refine lv_dup X.x X.b dX2_takes_91 rfl ?_
          refine wa_get (v := .int (zI (S 7))) X hH (have h9 := (XW.c24 hX); h9) wcX2 7 (by decide) q352 rfl (fun _ h9 => h9) rfl dX2_takes_92 ?_
          refine lv_aload_n X.x X.b dX2_takes_95 rfl (lv_at hl 2 rfl) ?_
          refine wa_getN (v := .ref sc) X hH fl0.1.2 wcX11 2 (by decide) q1130 rfl (fun _ h9 => h9) rfl dX2_takes_96 ?_
          refine wa_getN (v := .int (zI ((bestS g a b).2.2))) X hH fl0.2.2 wcX10 1 (by decide) q1060 rfl (fun _ h9 => h9) rfl dX2_takes_99 ?_
          refine wz_iadd X.x X.b dX2_takes_102 ?_
          refine wa_put X hH hS (have h9 := (XW.c24 hX); h9) wcX2 7 (by decide) q352 rfl (fun _ h9 => h9) rfl rfl rfl (Nat.le_of_ble_eq_true rfl) dX2_takes_103 (fun w103 H locs ew hH hS => ?_)
          have hk : Kp ad w87 w103 := Kp.set (i := 24) (by omega) ew
          have hX := hX.sS (i := 24) (7) (x := (S 7) + ((bestS g a b).2.2)) (by unfold oS; omega) ew
          have fl0 := fl0.kp hk
          have hCS := hCS.kp hk
          have hLA := hLA.kp hk
          have hK := hK.kp hk
          clear ew
          refine lv_aload_n X.x X.b dX2_takes_106 rfl (lv_at hl 1 rfl) ?_
          refine lv_dup X.x X.b dX2_takes_107 rfl ?_
          refine wa_get (v := .int (zI (S 8))) X hH (have h9 := (XW.c24 hX); h9) wcX2 8 (by decide) q354 rfl (fun _ h9 => h9) rfl dX2_takes_108 ?_
          refine lv_aload_n X.x X.b dX2_takes_111 rfl (lv_at hl 2 rfl) ?_
          refine wa_getN (v := .ref sc) X hH fl0.1.2 wcX11 2 (by decide) q1130 rfl (fun _ h9 => h9) rfl dX2_takes_112 ?_
          refine wa_getN (v := .int (zI ((bestS g a b).2.1))) X hH fl0.2.2 wcX10 0 (by decide) q1056 rfl (fun _ h9 => h9) rfl dX2_takes_115 ?_
          refine wz_iadd X.x X.b dX2_takes_118 ?_
          refine wa_put X hH hS (have h9 := (XW.c24 hX); h9) wcX2 8 (by decide) q354 rfl (fun _ h9 => h9) rfl rfl rfl (Nat.le_of_ble_eq_true rfl) dX2_takes_119 (fun w119 H locs ew hH hS => ?_)
          have hk : Kp ad w103 w119 := Kp.set (i := 24) (by omega) ew
          have hX := hX.sS (i := 24) (8) (x := (S 8) + ((bestS g a b).2.1)) (by unfold oS; omega) ew
          have fl0 := fl0.kp hk
          have hCS := hCS.kp hk
          have hLA := hLA.kp hk
          have hK := hK.kp hk
          clear ew
          exact wa_vret X hH hS dX2_takes_122 ⟨_, _, _, hX, hK, ⟨fun j h1 h2 h3 => by rw [sup_n h3, sup_n h2, sup_n h1], fun j h => aup_n h, fun j h => bup_n h⟩, CS.take hCS ((LDs_mt hz9).mpr ⟨hLA.nol ha.1 (by omega) ho22, by omega, by omega⟩) ha hb hmany.2 hab hv0 fl0 rfl rfl rfl rfl rfl⟩
  · refine wz_opt (q := (some a22)) ho22 ?_
    refine lv_ifnonnull (tgt := 122) X.x X.b dX2_takes_22 (by decide) ?_
    exact wa_vret X hH hS dX2_takes_122 ⟨S, A, B, hX, hK, ⟨fun j _ _ _ => rfl, fun j _ => rfl, fun j _ => rfl⟩, CS.nt hCS (fun q => by
      obtain ⟨q1, q2, q3⟩ := (LDs_mt hz9).mp q
      first | (rw [hAb] at c35; exact c35 q2) | (have h9 := (hLA.isl ha.1 (by omega) ho22).1; omega) | omega)⟩
set_option maxRecDepth 100000 in
theorem mX2_findChain {lL : Launch} {G : wa_G} {ad : Nat → Nat} {w : wa_W} {S : Nat → Int} {A : Nat → Int → Int} {B : Nat → Int → Option Nat} {P : Nat → Option Nat} (hX : XW G ad w S A B P) {g : Int → Int} (hPX : PX G ad w (B 10) g) (hWY : WAYS G ad w (B 5)) (hNV : NVX ad w P) (hJC : JC ad w S P g (g 3)) (ho : okS g) (hm : S 30 = g 3) (hg : A 10 0 = g 1 ∧ A 10 1 = g 2) (hq0 : S 12 = 0) : Met lL yX2_findChain (ws_ yX2_findChain cX2_findChain 5 (none : Option FieldType)) ({ frames := 9, cells := 4400, slots := 14500, locals := 242 } : Room) (wa_P G w [.ref (ad 24)]) (wa_Qv G fun u => ∃ (S2 : Nat → Int) (A2 : Nat → Int → Int) (B2 : Nat → Int → Option Nat) (P2 : Nat → Option Nat), XW G ad u S2 A2 B2 P2 ∧ Kp ad w u ∧ ((∀ j, ¬ ((5 ≤ j ∧ j ≤ 8) ∨ j = 12 ∨ j = 13) → S2 j = S j) ∧ (∀ j, j ≠ 3 → A2 j = A j) ∧ (∀ j, j ≠ 1 → j ≠ 2 → B2 j = B j) ∧ ∀ j, j < 30 ∨ 36 ≤ j → P2 j = P j) ∧ (CH ad u S2 A2 B2 g) ∧ (S2 12 = 0) ∧ (NVX ad u P2)) 4400 14500 (wa_A G) := by
  refine wa_met (by decide) (by exact Nat.le_of_ble_eq_true rfl) ?_
  intro pP eE sS mM aA bB mT cC ls X hl hH
  have hS : va_S (wa_A G) sS.heap sS.heap [] := va_S.rf
  have hl : lv_has ls 5 [(0, .ref (ad 24))] := hl
  have hK : Kp ad w w := Kp.rf
  have hPX_0 := hPX
  have hWY_0 := hWY
  have hNV_0 := hNV
  have hJC_0 := hJC
  have hmany := ho.many
  have hsq := sq_in9 hmany
  refine lv_aload_n X.x X.b dX2_findChain_0 rfl (lv_at hl 0 rfl) ?_
  refine wa_get (v := .ref (ad 48)) X hH (have h9 := (XW.c24 hX); h9) wcX2 2 (by decide) q343 rfl (fun _ h9 => h9) rfl dX2_findChain_1 ?_
  refine wa_cv hS (wa_rV (rest := []) X hH (mJ7_clear hX   (show 0 ≤ S 12 ∧ S 12 ≤ 36 by first | assumption | omega)) (cwV 0 X.t (lw_V q932 q933 q934 q120 q935) rfl rfl rfl hdJ7_clear ⟨Nat.le_of_ble_eq_true rfl, Nat.le_of_ble_eq_true rfl⟩) rfl (have h9 := (XW.c48 hX); h9) rfl rfl hl.1 rfl (Nat.le_of_ble_eq_true rfl) dX2_findChain_4 ⟨Nat.le_of_ble_eq_true rfl, Nat.le_of_ble_eq_true rfl⟩) (fun w4 H locs hp hH hS => ?_)
  obtain ⟨f2_4, hX, hk⟩ := hp
  have hPX := hPX.kp hk
  have hWY := hWY.kp hk
  have hNV := hNV.kp hk
  have hJC := hJC.kp hk
  have hK := hK.kp hk
  refine wz_iconst X.x X.b dX2_findChain_7 ?_
  refine lv_istore_n (lv' := [(1, .int (zI 0)), (0, .ref (ad 24))]) X.x X.b dX2_findChain_8 rfl hl (by decide) rfl (fun ls hl => ?_)
  have L9 : ∀ (nn : Nat) (k : Int) (b1 : Int → Option Nat) (a3 : Int → Int), ((6 - k).toNat) = nn → (0 ≤ k ∧ k ≤ 6) → (∀ j, 0 ≤ j → j < k → b1 j = none ∧ a3 j = -1) → ∀ (wl9 : wa_W) (H : Heap) (locs : List Loc) (ls : Array Slot), XW G ad wl9 (sup (sup S 13 (S 13 + 1)) 12 0) (aup A 3 a3) (bup (bup B 2 f2_4) 1 b1) P → Kp ad w wl9 → PX G ad wl9 (B 10) g → WAYS G ad wl9 (B 5) → NVX ad wl9 P → JC ad wl9 S P g (g 3) → wa_H G wl9 H → va_S (wa_A G) sS.heap H locs → lv_has ls 5 [(1, .int (zI k)), (0, .ref (ad 24))] → W pP lL eE ({ frames := 9, cells := 4400, slots := 14500, locals := 242 } : Room) sS mM aA bB mT cC H locs 0 0 (MQ bB (wa_Qv G fun u => ∃ (S2 : Nat → Int) (A2 : Nat → Int → Int) (B2 : Nat → Int → Option Nat) (P2 : Nat → Option Nat), XW G ad u S2 A2 B2 P2 ∧ Kp ad w u ∧ ((∀ j, ¬ ((5 ≤ j ∧ j ≤ 8) ∨ j = 12 ∨ j = 13) → S2 j = S j) ∧ (∀ j, j ≠ 3 → A2 j = A j) ∧ (∀ j, j ≠ 1 → j ≠ 2 → B2 j = B j) ∧ ∀ j, j < 30 ∨ 36 ≤ j → P2 j = P j) ∧ (CH ad u S2 A2 B2 g) ∧ (S2 12 = 0) ∧ (NVX ad u P2)) aA sS 4400 14500 (wa_A G)) (F0 mM 9 ls []) := by
    intro nn
    induction nn using Nat.strongRecOn with
    | ind nn ih9 =>
      intro k b1 a3 hmu9 i9_0 i9_1 wl9 H locs ls hX hK hPX hWY hNV hJC hH hS hl
      refine lv_iload_n X.x X.b dX2_findChain_9 rfl (lv_at hl 0 rfl) ?_
      refine wz_bipush X.x X.b dX2_findChain_10 rfl ?_
      refine wz_icmp_ge (tgt := 35) X.x X.b dX2_findChain_12 (by decide) ⟨by omega, by omega⟩ ⟨by omega, by omega⟩ (fun c12 => ?_) (fun c12 => ?_)
      · refine lv_aload_n X.x X.b dX2_findChain_35 rfl (lv_at hl 1 rfl) ?_
        refine wz_iconst X.x X.b dX2_findChain_36 ?_
        refine wa_put X hH hS (have h9 := (XW.c24 hX); h9) wcX2 5 (by decide) q348 rfl (fun _ h9 => h9) rfl rfl rfl (Nat.le_of_ble_eq_true rfl) dX2_findChain_37 (fun w37 H locs ew hH hS => ?_)
        have hk : Kp ad wl9 w37 := Kp.set (i := 24) (by omega) ew
        have hX := hX.sS (i := 24) (5) (x := 0) (by unfold oS; omega) ew
        have hPX := hPX.kp hk
        have hWY := hWY.kp hk
        have hNV := hNV.kp hk
        have hJC := hJC.kp hk
        have hK := hK.kp hk
        clear ew
        refine lv_aload_n X.x X.b dX2_findChain_40 rfl (lv_at hl 1 rfl) ?_
        refine wz_iconst X.x X.b dX2_findChain_41 ?_
        refine wa_put X hH hS (have h9 := (XW.c24 hX); h9) wcX2 7 (by decide) q352 rfl (fun _ h9 => h9) rfl rfl rfl (Nat.le_of_ble_eq_true rfl) dX2_findChain_42 (fun w42 H locs ew hH hS => ?_)
        have hk : Kp ad w37 w42 := Kp.set (i := 24) (by omega) ew
        have hX := hX.sS (i := 24) (7) (x := 0) (by unfold oS; omega) ew
        have hPX := hPX.kp hk
        have hWY := hWY.kp hk
        have hNV := hNV.kp hk
        have hJC := hJC.kp hk
        have hK := hK.kp hk
        clear ew
        refine lv_aload_n X.x X.b dX2_findChain_45 rfl (lv_at hl 1 rfl) ?_
        refine wz_iconst X.x X.b dX2_findChain_46 ?_
        refine wa_put X hH hS (have h9 := (XW.c24 hX); h9) wcX2 8 (by decide) q354 rfl (fun _ h9 => h9) rfl rfl rfl (Nat.le_of_ble_eq_true rfl) dX2_findChain_47 (fun w47 H locs ew hH hS => ?_)
        have hk : Kp ad w42 w47 := Kp.set (i := 24) (by omega) ew
        have hX := hX.sS (i := 24) (8) (x := 0) (by unfold oS; omega) ew
        have hPX := hPX.kp hk
        have hWY := hWY.kp hk
        have hNV := hNV.kp hk
        have hJC := hJC.kp hk
        have hK := hK.kp hk
        clear ew
        have hQS : QS ad w47 (fun _ => False) (fun _ => (0, 0, 0, 0)) g := fun x q => q.elim
        refine wz_iconst X.x X.b dX2_findChain_50 ?_
        refine lv_istore_n (lv' := [(1, .int (zI 0)), (0, .ref (ad 24))]) X.x X.b dX2_findChain_51 rfl hl (by decide) rfl (fun ls hl => ?_)
        have L52 : ∀ (nn : Nat) (k : Int) (Sl : Nat → Int) (Bl : Nat → Int → Option Nat) (Pl : Nat → Option Nat) (D : Nat → Prop) (d : LD), ((g 3 * g 3 - k).toNat) = nn → (0 ≤ k ∧ k ≤ g 3 * g 3) → (∀ j, ¬ ((5 ≤ j ∧ j ≤ 8) ∨ j = 12 ∨ j = 13) → Sl j = S j) → (∀ j, j < 30 ∨ 36 ≤ j → Pl j = P j) → ((∀ j, j ≠ 1 → j ≠ 2 → Bl j = B j) ∧ ∀ j, 0 ≤ j → j < 6 → Bl 1 j = none) → (QI (Bl 2) (Sl 12) d D) → (0 ≤ Sl 12 ∧ (Sl 12 = 0 ∨ Sl 12 < k)) → (QK D d g k) → (Sl 5 = 0 ∧ Sl 7 = 0 ∧ Sl 8 = 0) → ∀ (wl52 : wa_W) (H : Heap) (locs : List Loc) (ls : Array Slot), XW G ad wl52 Sl (aup A 3 a3) Bl Pl → Kp ad w wl52 → PX G ad wl52 (B 10) g → WAYS G ad wl52 (B 5) → NVX ad wl52 Pl → JC ad wl52 S P g (g 3) → QS ad wl52 D d g → wa_H G wl52 H → va_S (wa_A G) sS.heap H locs → lv_has ls 5 [(1, .int (zI k)), (0, .ref (ad 24))] → W pP lL eE ({ frames := 9, cells := 4400, slots := 14500, locals := 242 } : Room) sS mM aA bB mT cC H locs (120 * Int.toNat k) (400 * Int.toNat k) (MQ bB (wa_Qv G fun u => ∃ (S2 : Nat → Int) (A2 : Nat → Int → Int) (B2 : Nat → Int → Option Nat) (P2 : Nat → Option Nat), XW G ad u S2 A2 B2 P2 ∧ Kp ad w u ∧ ((∀ j, ¬ ((5 ≤ j ∧ j ≤ 8) ∨ j = 12 ∨ j = 13) → S2 j = S j) ∧ (∀ j, j ≠ 3 → A2 j = A j) ∧ (∀ j, j ≠ 1 → j ≠ 2 → B2 j = B j) ∧ ∀ j, j < 30 ∨ 36 ≤ j → P2 j = P j) ∧ (CH ad u S2 A2 B2 g) ∧ (S2 12 = 0) ∧ (NVX ad u P2)) aA sS 4400 14500 (wa_A G)) (F0 mM 52 ls []) := by
          intro nn
          induction nn using Nat.strongRecOn with
          | ind nn ih52 =>
            intro k Sl Bl Pl D d hmu52 i52_0 i52_1 i52_2 i52_3 i52_4 i52_5 i52_6 i52_7 wl52 H locs ls hX hK hPX hWY hNV hJC hQS hH hS hl
            have e30 : Sl 30 = g 3 := (i52_1 30 (by omega)).trans hm
            refine lv_iload_n X.x X.b dX2_findChain_52 rfl (lv_at hl 0 rfl) ?_
            refine lv_aload_n X.x X.b dX2_findChain_53 rfl (lv_at hl 1 rfl) ?_
            refine wa_get (v := .ref (ad 0)) X hH (have h9 := (XW.c24 hX); h9) wcX2 15 (by decide) q368 rfl (fun _ h9 => h9) rfl dX2_findChain_54 ?_
            refine wa_getN (v := .ref (ad 1)) X hH (have h9 := (XW.c0 hX); h9) wcX0 0 (by decide) q416 rfl (fun _ h9 => h9) rfl dX2_findChain_57 ?_
            refine wa_getN (v := .int (zI (Sl 30))) X hH (have h9 := (XW.c1 hX); h9) wcX1 3 (by decide) q171 rfl (fun _ h9 => h9) rfl dX2_findChain_60 ?_
            refine wz_is (z := g 3) (by exact e30) ?_
            refine lv_aload_n X.x X.b dX2_findChain_63 rfl (lv_at hl 1 rfl) ?_
            refine wa_get (v := .ref (ad 0)) X hH (have h9 := (XW.c24 hX); h9) wcX2 15 (by decide) q368 rfl (fun _ h9 => h9) rfl dX2_findChain_64 ?_
            refine wa_getN (v := .ref (ad 1)) X hH (have h9 := (XW.c0 hX); h9) wcX0 0 (by decide) q416 rfl (fun _ h9 => h9) rfl dX2_findChain_67 ?_
            refine wa_getN (v := .int (zI (Sl 30))) X hH (have h9 := (XW.c1 hX); h9) wcX1 3 (by decide) q171 rfl (fun _ h9 => h9) rfl dX2_findChain_70 ?_
            refine wz_is (z := g 3) (by exact e30) ?_
            refine wz_imul X.x X.b dX2_findChain_73 ?_
            refine wz_icmp_ge (tgt := 141) X.x X.b dX2_findChain_74 (by decide) ⟨by omega, by omega⟩ ⟨by omega, by omega⟩ (fun c74 => ?_) (fun c74 => ?_)
            · obtain rfl : k = g 3 * g 3 := by omega
              have hCS : CS ad wl52 Sl (aup A 3 a3) Bl g (posC g 0) := ⟨fun a h0 h1 => Or.inl ⟨rfl, i52_3.2 a h0 h1⟩, fun j h0 h1 => (i9_1 j h0 (by omega)).2, i52_7.1, i52_7.2.1, i52_7.2.2⟩
              have L141 : ∀ (nn : Nat) (Sp : Nat → Int) (Ap : Nat → Int → Int) (Bp : Nat → Int → Option Nat) (ρ : Nat) (C : Nat → Prop), ((Sp 12).toNat) = nn → (∀ j, ¬ ((5 ≤ j ∧ j ≤ 8) ∨ j = 12 ∨ j = 13) → Sp j = S j) → (∀ j, j ≠ 3 → Ap j = A j) → (∀ j, j ≠ 1 → j ≠ 2 → Bp j = B j) → (QI (Bp 2) (Sp 12) d C) → (0 ≤ Sp 12 ∧ Sp 12 ≤ 35) → (∀ x, C x ↔ D x ∧ ρ ≤ posD d x) → (ρ ≤ 432) → ∀ (wl141 : wa_W) (H : Heap) (locs : List Loc) (ls : Array Slot), XW G ad wl141 Sp Ap Bp Pl → Kp ad w wl141 → PX G ad wl141 (B 10) g → WAYS G ad wl141 (B 5) → NVX ad wl141 Pl → JC ad wl141 S P g (g 3) → QS ad wl141 D d g → CS ad wl141 Sp Ap Bp g (posC g ρ) → wa_H G wl141 H → va_S (wa_A G) sS.heap H locs → lv_has ls 5 [(0, .ref (ad 24))] → W pP lL eE ({ frames := 9, cells := 4400, slots := 14500, locals := 242 } : Room) sS mM aA bB mT cC H locs 4320 14400 (MQ bB (wa_Qv G fun u => ∃ (S2 : Nat → Int) (A2 : Nat → Int → Int) (B2 : Nat → Int → Option Nat) (P2 : Nat → Option Nat), XW G ad u S2 A2 B2 P2 ∧ Kp ad w u ∧ ((∀ j, ¬ ((5 ≤ j ∧ j ≤ 8) ∨ j = 12 ∨ j = 13) → S2 j = S j) ∧ (∀ j, j ≠ 3 → A2 j = A j) ∧ (∀ j, j ≠ 1 → j ≠ 2 → B2 j = B j) ∧ ∀ j, j < 30 ∨ 36 ≤ j → P2 j = P j) ∧ (CH ad u S2 A2 B2 g) ∧ (S2 12 = 0) ∧ (NVX ad u P2)) aA sS 4400 14500 (wa_A G)) (F0 mM 141 ls []) := by
                intro nn
                induction nn using Nat.strongRecOn with
                | ind nn ih141 =>
                  intro Sp Ap Bp ρ C hmu141 i141_0 i141_1 i141_2 i141_3 i141_4 i141_5 i141_6 wl141 H locs ls hX hK hPX hWY hNV hJC hQS hCS hH hS hl
                  refine lv_aload_n X.x X.b dX2_findChain_141 rfl (lv_at hl 0 rfl) ?_
                  refine wa_get (v := .ref (ad 48)) X hH (have h9 := (XW.c24 hX); h9) wcX2 2 (by decide) q343 rfl (fun _ h9 => h9) rfl dX2_findChain_142 ?_
                  refine wa_ci hS (wa_rU (rest := []) X hH (mJ1_isEmpty hX   (⟨i141_4.1, by omega⟩)) (va_cwU 0 X.t (lw_U q1221 q1222 q1224 q1225 q114 q1226) rfl rfl rfl rfl ⟨by decide, by decide, by decide +kernel⟩ ⟨Nat.le_of_ble_eq_true rfl, Nat.le_of_ble_eq_true rfl⟩) rfl (have h9 := (XW.c48 hX); h9) rfl rfl hl.1 rfl (Nat.le_of_ble_eq_true rfl) dX2_findChain_145 ⟨Nat.le_of_ble_eq_true rfl, Nat.le_of_ble_eq_true rfl⟩) (fun z w145 H locs hp hH hS => ?_)
                  obtain ⟨hb, hw⟩ := hp
                  rw [← hw] at hH; clear hw
                  rcases hb with ⟨b145, rfl⟩ | ⟨b145, rfl⟩
                  · have b145 : (Sp 12 = 0) := b145
                    refine wz_ifne (tgt := 168) X.x X.b dX2_findChain_148 (by decide) (by decide) (fun _ => ?_) (fun h => absurd h (by decide))
                    have e12 : Sp 12 = 0 := b145
                    have hpe := posC_end ho hQS i52_6 (fun a b a0 a1 b0 b1 => pair_in ⟨a0, a1⟩ ⟨b0, b1⟩) i141_5 (i141_3.emp e12) i141_6
                    rw [hpe] at hCS
                    obtain ⟨ht5, ht6, ht7⟩ := hCS.tkn ho
                    have e30 : Sp 30 = g 3 := (i141_0 30 (by omega)).trans hm
                    refine lv_aload_n X.x X.b dX2_findChain_168 rfl (lv_at hl 0 rfl) ?_
                    refine lv_aload_n X.x X.b dX2_findChain_169 rfl (lv_at hl 0 rfl) ?_
                    refine wa_get (v := .ref (ad 0)) X hH (have h9 := (XW.c24 hX); h9) wcX2 15 (by decide) q368 rfl (fun _ h9 => h9) rfl dX2_findChain_170 ?_
                    refine wa_getN (v := .ref (ad 1)) X hH (have h9 := (XW.c0 hX); h9) wcX0 0 (by decide) q416 rfl (fun _ h9 => h9) rfl dX2_findChain_173 ?_
                    refine wa_getN (v := .int (zI (Sp 30))) X hH (have h9 := (XW.c1 hX); h9) wcX1 3 (by decide) q171 rfl (fun _ h9 => h9) rfl dX2_findChain_176 ?_
                    refine wz_is (z := g 3) (by exact e30) ?_
                    refine wz_iconst X.x X.b dX2_findChain_179 ?_
                    refine wz_icmp_le (tgt := 204) X.x X.b dX2_findChain_180 (by decide) ⟨by omega, by omega⟩ ⟨by omega, by omega⟩ (fun c180 => ?_) (fun c180 => ?_)
                    · refine wz_iconst X.x X.b dX2_findChain_204 ?_
                      refine wa_put X hH hS (have h9 := (XW.c24 hX); h9) wcX2 6 (by decide) q350 rfl (fun _ h9 => h9) rfl nb0 rfl (Nat.le_of_ble_eq_true rfl) dX2_findChain_205 (fun w205 H locs ew hH hS => ?_)
                      have hk : Kp ad wl141 w205 := Kp.set (i := 24) (by omega) ew
                      have hX := hX.sS (i := 24) (6) (x := 0) (by unfold oS; omega) ew
                      have hPX := hPX.kp hk
                      have hWY := hWY.kp hk
                      have hNV := hNV.kp hk
                      have hJC := hJC.kp hk
                      have hQS := hQS.kp hk
                      have hCS := hCS.kp hk
                      have hK := hK.kp hk
                      clear ew
                      refine W.widen (k := 4400) (n := 14500) (by first | exact Nat.le_of_ble_eq_true rfl | omega) (by first | exact Nat.le_of_ble_eq_true rfl | omega) ?_
                      exact wa_vret X hH hS dX2_findChain_208 ⟨_, _, _, _, hX, hK, ⟨fun j hj => by rw [sup_n (by omega)]; exact i141_0 j hj, i141_1, i141_2, i52_2⟩, CS.ch ho (hCS.cg rfl rfl rfl rfl rfl) (by unfold closedS; first | exact Or.inl ⟨⟨by omega, by omega⟩, rfl⟩ | exact Or.inr ⟨by omega, rfl⟩), e12, hNV⟩
                    · refine lv_aload_n X.x X.b dX2_findChain_183 rfl (lv_at hl 0 rfl) ?_
                      refine wa_get (v := .int (zI (Sp 5))) X hH (have h9 := (XW.c24 hX); h9) wcX2 5 (by decide) q348 rfl (fun _ h9 => h9) rfl dX2_findChain_184 ?_
                      refine wz_is (z := takenS g) (by exact ht5) ?_
                      refine lv_aload_n X.x X.b dX2_findChain_187 rfl (lv_at hl 0 rfl) ?_
                      refine wa_get (v := .ref (ad 0)) X hH (have h9 := (XW.c24 hX); h9) wcX2 15 (by decide) q368 rfl (fun _ h9 => h9) rfl dX2_findChain_188 ?_
                      refine wa_getN (v := .ref (ad 1)) X hH (have h9 := (XW.c0 hX); h9) wcX0 0 (by decide) q416 rfl (fun _ h9 => h9) rfl dX2_findChain_191 ?_
                      refine wa_getN (v := .int (zI (Sp 30))) X hH (have h9 := (XW.c1 hX); h9) wcX1 3 (by decide) q171 rfl (fun _ h9 => h9) rfl dX2_findChain_194 ?_
                      refine wz_is (z := g 3) (by exact e30) ?_
                      refine wz_icmp_ne (tgt := 204) X.x X.b dX2_findChain_197 (by decide) ⟨by omega, by omega⟩ ⟨by omega, by omega⟩ (fun c197 => ?_) (fun c197 => ?_)
                      · refine wz_iconst X.x X.b dX2_findChain_204 ?_
                        refine wa_put X hH hS (have h9 := (XW.c24 hX); h9) wcX2 6 (by decide) q350 rfl (fun _ h9 => h9) rfl nb0 rfl (Nat.le_of_ble_eq_true rfl) dX2_findChain_205 (fun w205 H locs ew hH hS => ?_)
                        have hk : Kp ad wl141 w205 := Kp.set (i := 24) (by omega) ew
                        have hX := hX.sS (i := 24) (6) (x := 0) (by unfold oS; omega) ew
                        have hPX := hPX.kp hk
                        have hWY := hWY.kp hk
                        have hNV := hNV.kp hk
                        have hJC := hJC.kp hk
                        have hQS := hQS.kp hk
                        have hCS := hCS.kp hk
                        have hK := hK.kp hk
                        clear ew
                        refine W.widen (k := 4400) (n := 14500) (by first | exact Nat.le_of_ble_eq_true rfl | omega) (by first | exact Nat.le_of_ble_eq_true rfl | omega) ?_
                        exact wa_vret X hH hS dX2_findChain_208 ⟨_, _, _, _, hX, hK, ⟨fun j hj => by rw [sup_n (by omega)]; exact i141_0 j hj, i141_1, i141_2, i52_2⟩, CS.ch ho (hCS.cg rfl rfl rfl rfl rfl) (by unfold closedS; first | exact Or.inl ⟨⟨by omega, by omega⟩, rfl⟩ | exact Or.inr ⟨by omega, rfl⟩), e12, hNV⟩
                      · refine wz_iconst X.x X.b dX2_findChain_200 ?_
                        refine lv_goto (tgt := 205) X.x X.b dX2_findChain_201 (by decide) ?_
                        refine wa_put X hH hS (have h9 := (XW.c24 hX); h9) wcX2 6 (by decide) q350 rfl (fun _ h9 => h9) rfl nb1 rfl (Nat.le_of_ble_eq_true rfl) dX2_findChain_205 (fun w205 H locs ew hH hS => ?_)
                        have hk : Kp ad wl141 w205 := Kp.set (i := 24) (by omega) ew
                        have hX := hX.sS (i := 24) (6) (x := 1) (by unfold oS; omega) ew
                        have hPX := hPX.kp hk
                        have hWY := hWY.kp hk
                        have hNV := hNV.kp hk
                        have hJC := hJC.kp hk
                        have hQS := hQS.kp hk
                        have hCS := hCS.kp hk
                        have hK := hK.kp hk
                        clear ew
                        refine W.widen (k := 4400) (n := 14500) (by first | exact Nat.le_of_ble_eq_true rfl | omega) (by first | exact Nat.le_of_ble_eq_true rfl | omega) ?_
                        exact wa_vret X hH hS dX2_findChain_208 ⟨_, _, _, _, hX, hK, ⟨fun j hj => by rw [sup_n (by omega)]; exact i141_0 j hj, i141_1, i141_2, i52_2⟩, CS.ch ho (hCS.cg rfl rfl rfl rfl rfl) (by unfold closedS; first | exact Or.inl ⟨⟨by omega, by omega⟩, rfl⟩ | exact Or.inr ⟨by omega, rfl⟩), e12, hNV⟩
                  · have b145 : ¬ (Sp 12 = 0) := b145
                    refine wz_ifne (tgt := 168) X.x X.b dX2_findChain_148 (by decide) (by decide) (fun h => absurd h (by decide)) (fun _ => ?_)
                    refine lv_aload_n X.x X.b dX2_findChain_151 rfl (lv_at hl 0 rfl) ?_
                    refine lv_aload_n X.x X.b dX2_findChain_152 rfl (lv_at hl 0 rfl) ?_
                    refine wa_get (v := .ref (ad 48)) X hH (have h9 := (XW.c24 hX); h9) wcX2 2 (by decide) q343 rfl (fun _ h9 => h9) rfl dX2_findChain_153 ?_
                    refine wa_cr hS (wa_rV (rest := [.ref (ad 24)]) X hH (mJ7_poll hX (hQS.lq hmany.2)  i141_3 i141_4 (fun a q => ((i141_5 a).mp q).1) (by omega)) (cwV 0 X.t (lw_V q1248 q1249 q1250 q120 q1251) rfl rfl rfl hdJ7_poll ⟨Nat.le_of_ble_eq_true rfl, Nat.le_of_ble_eq_true rfl⟩) rfl (have h9 := (XW.c48 hX); h9) rfl rfl hl.1 rfl (Nat.le_of_ble_eq_true rfl) dX2_findChain_156 ⟨Nat.le_of_ble_eq_true rfl, Nat.le_of_ble_eq_true rfl⟩) (fun r156 w156 H locs hp hH hS => ?_)
                    obtain ⟨m_156, f2_156, hX, hk, hx156_0, hx156_1, hx156_2, hx156_3⟩ := hp
                    have hPX := hPX.kp hk
                    have hWY := hWY.kp hk
                    have hNV := hNV.kp hk
                    have hJC := hJC.kp hk
                    have hQS := hQS.kp hk
                    have hCS := hCS.kp hk
                    have hK := hK.kp hk
                    refine wz_opt (q := some m_156) (by exact hx156_0) ?_
                    obtain ⟨fl, hla, hlb, hlab, hlv, hlv0⟩ := hQS m_156 ((i141_5 m_156).mp hx156_1).1
                    obtain ⟨hp1, hp2⟩ := poll_pos ho hQS i52_6 (fun a b a0 a1 b0 b1 => pair_in ⟨a0, a1⟩ ⟨b0, b1⟩) i141_5 hx156_1 hx156_2
                    have hlt := posD_lt ho hQS ((i141_5 m_156).mp hx156_1).1
                    rw [hlv] at fl hlv0
                    refine wa_castS X hH fl.1.2 rfl rfl q311 dX2_findChain_159 ?_
                    refine wa_cv hS (wa_rV (rest := []) X hH (mX2_takes hX fl (hCS.cg rfl rfl rfl rfl rfl)  hla hlb hlab hlv0 (CI_pos hmany ρ) (show okS g by first | assumption | omega) ((i141_0 30 (by omega)).trans hm)) (cwV 1 X.t (lw_V q1258 q1260 qs27 q112 q1261) rfl rfl rfl hdX2_takes ⟨Nat.le_of_ble_eq_true rfl, Nat.le_of_ble_eq_true rfl⟩) rfl (have h9 := (XW.c24 hX); h9) rfl rfl hl.1 rfl (Nat.le_of_ble_eq_true rfl) dX2_findChain_162 ⟨Nat.le_of_ble_eq_true rfl, Nat.le_of_ble_eq_true rfl⟩) (fun w162 H locs hp hH hS => ?_)
                    obtain ⟨S2_162, A2_162, B2_162, hX, hk, hx162_0, hx162_1⟩ := hp
                    have hPX := hPX.kp hk
                    have hWY := hWY.kp hk
                    have hNV := hNV.kp hk
                    have hJC := hJC.kp hk
                    have hQS := hQS.kp hk
                    have hCS := hCS.kp hk
                    have fl := fl.kp hk
                    have hK := hK.kp hk
                    have hCS : CS ad w162 S2_162 A2_162 B2_162 g (posC g (posD d m_156 + 1)) := by
                      unfold posD
                      rw [posC_take hmany hla hlb hlab hlv.symm]
                      unfold posD at hp1
                      rw [hp1]; exact hx162_1
                    refine lv_goto (tgt := 141) X.x X.b dX2_findChain_165 (by decide) ?_
                    refine W.widen (k := 4320) (n := 14400) (by omega) (by omega) ?_
                    exact ih141 _ (by have h9 : S2_162 12 = Sp 12 - 1 := hx162_0.1 12 (by decide) (by decide) (by decide); omega) S2_162 A2_162 B2_162 (posD d m_156 + 1) (fun a => C a ∧ a ≠ m_156) rfl (by intro j hj; rw [hx162_0.1 j (by omega) (by omega) (by omega), sup_n (by omega), sup_n (by omega)]; exact i141_0 j hj) (by intro j hj; exact (hx162_0.2.1 j hj).trans (i141_1 j hj)) (by intro j h1 h2; rw [hx162_0.2.2 j h1, bup_n h2]; exact i141_2 j h1 h2) (by rw [hx162_0.2.2 2 (by decide), hx162_0.1 12 (by decide) (by decide) (by decide)]; exact hx156_3) (by rw [hx162_0.1 12 (by decide) (by decide) (by decide)]; show 0 ≤ Sp 12 - 1 ∧ Sp 12 - 1 ≤ 35; omega) (by exact hp2) (by omega) _ _ _ _ hX hK hPX hWY hNV hJC hQS hCS hH hS (lv_sub hl [0] rfl)
              refine W.widen (k := 4320) (n := 14400) (by omega) (by omega) ?_
              exact L141 _ Sl (aup A 3 a3) Bl 0 D rfl (by exact i52_1) (by intro j h; exact aup_n h) (by exact i52_3.1) (by exact i52_4) (by exact ⟨i52_5.1, by omega⟩) (by intro x; exact ⟨fun q => ⟨q, Nat.zero_le _⟩, fun q => q.1⟩) (by omega) _ _ _ _ hX hK hPX hWY hNV hJC hQS hCS hH hS (lv_sub hl [1] rfl)
            · have hm0 := sq_pos hmany.1 i52_0.1 (by omega : k < g 3 * g 3)
              obtain ⟨hpa, hpb, hpk⟩ := pair_of hm0 i52_0.1 (by omega : k < g 3 * g 3)
              refine lv_iload_n X.x X.b dX2_findChain_77 rfl (lv_at hl 0 rfl) ?_
              refine lv_aload_n X.x X.b dX2_findChain_78 rfl (lv_at hl 1 rfl) ?_
              refine wa_get (v := .ref (ad 0)) X hH (have h9 := (XW.c24 hX); h9) wcX2 15 (by decide) q368 rfl (fun _ h9 => h9) rfl dX2_findChain_79 ?_
              refine wa_getN (v := .ref (ad 1)) X hH (have h9 := (XW.c0 hX); h9) wcX0 0 (by decide) q416 rfl (fun _ h9 => h9) rfl dX2_findChain_82 ?_
              refine wa_getN (v := .int (zI (Sl 30))) X hH (have h9 := (XW.c1 hX); h9) wcX1 3 (by decide) q171 rfl (fun _ h9 => h9) rfl dX2_findChain_85 ?_
              refine wz_is (z := g 3) (by exact e30) ?_
              refine wz_idivp X.x X.b dX2_findChain_88 (by omega) (by omega) (by omega) (by omega) ?_
              refine lv_istore_n (lv' := [(2, .int (zI (k / (g 3)))), (1, .int (zI k)), (0, .ref (ad 24))]) X.x X.b dX2_findChain_89 rfl hl (by decide) rfl (fun ls hl => ?_)
              refine lv_iload_n X.x X.b dX2_findChain_90 rfl (lv_at hl 1 rfl) ?_
              refine lv_aload_n X.x X.b dX2_findChain_91 rfl (lv_at hl 2 rfl) ?_
              refine wa_get (v := .ref (ad 0)) X hH (have h9 := (XW.c24 hX); h9) wcX2 15 (by decide) q368 rfl (fun _ h9 => h9) rfl dX2_findChain_92 ?_
              refine wa_getN (v := .ref (ad 1)) X hH (have h9 := (XW.c0 hX); h9) wcX0 0 (by decide) q416 rfl (fun _ h9 => h9) rfl dX2_findChain_95 ?_
              refine wa_getN (v := .int (zI (Sl 30))) X hH (have h9 := (XW.c1 hX); h9) wcX1 3 (by decide) q171 rfl (fun _ h9 => h9) rfl dX2_findChain_98 ?_
              refine wz_is (z := g 3) (by exact e30) ?_
              refine wz_iremp X.x X.b dX2_findChain_101 (by omega) (by omega) (by omega) (by omega) ?_
              refine lv_istore_n (lv' := [(3, .int (zI (k % (g 3)))), (2, .int (zI (k / (g 3)))), (1, .int (zI k)), (0, .ref (ad 24))]) X.x X.b dX2_findChain_102 rfl hl (by decide) rfl (fun ls hl => ?_)
              refine lv_iload_n X.x X.b dX2_findChain_103 rfl (lv_at hl 1 rfl) ?_
              refine lv_iload_n X.x X.b dX2_findChain_104 rfl (lv_at hl 0 rfl) ?_
              refine wz_icmp_ne (tgt := 112) X.x X.b dX2_findChain_105 (by decide) ⟨by omega, by omega⟩ ⟨by omega, by omega⟩ (fun c105 => ?_) (fun c105 => ?_)
              · refine lv_aload_n X.x X.b dX2_findChain_112 rfl (lv_at hl 3 rfl) ?_
                refine lv_iload_n X.x X.b dX2_findChain_113 rfl (lv_at hl 1 rfl) ?_
                refine lv_iload_n X.x X.b dX2_findChain_114 rfl (lv_at hl 0 rfl) ?_
                refine wa_cr hS (wa_rV (rest := []) X hH (mX2_link hX (by rw [i52_3.1 10 (by decide) (by decide)]; exact hPX) (by rw [i52_3.1 5 (by decide) (by decide)]; exact hWY) hNV (hJC.cg (fun k h1 h2 => ⟨i52_1 _ (by omega), i52_2 _ (by omega)⟩)) (k / (g 3)) (k % (g 3)) (show (k / (g 3)) = ((k / g 3).toNat) by first | assumption | omega) (show ((k / g 3).toNat) < 6 by first | assumption | omega) (show (((k / g 3).toNat) : Int) < g 3 by first | assumption | omega) (show 0 ≤ (k % (g 3)) ∧ (k % (g 3)) < g 3 by first | assumption | omega) (show okS g by first | assumption | omega) (show A 10 0 = g 1 ∧ A 10 1 = g 2 by first | assumption | omega)) (cwV 2 X.t (lw_V q936 q937 q938 q112 q939) rfl rfl rfl hdX2_link ⟨Nat.le_of_ble_eq_true rfl, Nat.le_of_ble_eq_true rfl⟩) rfl (have h9 := (XW.c24 hX); h9) rfl rfl hl.1 rfl (Nat.le_of_ble_eq_true rfl) dX2_findChain_115 ⟨by dsimp only; omega, by dsimp only; omega⟩) (fun r115 w115 H locs hp hH hS => ?_)
                obtain ⟨P2_115, hX, hk, hx115_0, hx115_1, hx115_2⟩ := hp
                have hPX := hPX.kp hk
                have hWY := hWY.kp hk
                have hNV := hNV.kp hk
                have hJC := hJC.kp hk
                have hQS := hQS.kp hk
                have hK := hK.kp hk
                have hNV := hx115_1
                refine lv_astoreO (lv' := [(4, va_rf r115), (3, .int (zI (k % (g 3)))), (2, .int (zI (k / (g 3)))), (1, .int (zI k)), (0, .ref (ad 24))]) X.x X.b dX2_findChain_118 hl (by decide) rfl (fun ls hl => ?_)
                refine lv_aloadO X.x X.b dX2_findChain_120 (lv_at hl 0 rfl) ?_
                rcases xo_cases (r115) with ho122 | ⟨a122, ho122⟩
                · refine wz_opt (q := none) ho122 ?_
                  have hl : lv_has ls 5 [(4, .null), (3, .int (zI (k % (g 3)))), (2, .int (zI (k / (g 3)))), (1, .int (zI k)), (0, .ref (ad 24))] := by rw [ho122] at hl; exact hl
                  have hbl := hx115_2
                  rw [ho122] at hbl
                  have hb0 := hbl.no
                  refine lv_ifnullN (tgt := 135) X.x X.b dX2_findChain_122 (by decide) ?_
                  refine wz_iinc (k := 3) (lv' := [(1, .int (zI (k + 1))), (4, .null), (3, .int (zI (k % (g 3)))), (2, .int (zI (k / (g 3)))), (0, .ref (ad 24))]) X.x X.b dX2_findChain_135 hl rfl (by decide) rfl (fun ls hl => ?_)
                  refine lv_goto (tgt := 52) X.x X.b dX2_findChain_138 (by decide) ?_
                  refine W.widen (k := (120 * Int.toNat (k + 1))) (n := (400 * Int.toNat (k + 1))) (by omega) (by omega) ?_
                  exact ih52 _ (by omega) (k + 1) Sl Bl P2_115 D d rfl (by omega) (by exact i52_1) (by intro j hj; exact (hx115_0 j hj).trans (i52_2 j hj)) (by exact i52_3) (by exact i52_4) (by omega) (by exact i52_6.skip hpk hpb (Or.inr hb0)) (by exact i52_7) _ _ _ _ hX hK hPX hWY hNV hJC hQS hH hS (lv_sub hl [0, 4] rfl)
                · refine wz_opt (q := (some a122)) ho122 ?_
                  have hl : lv_has ls 5 [(4, .ref a122), (3, .int (zI (k % (g 3)))), (2, .int (zI (k / (g 3)))), (1, .int (zI k)), (0, .ref (ad 24))] := by rw [ho122] at hl; exact hl
                  have hbl := hx115_2
                  rw [ho122] at hbl
                  obtain ⟨hbv, sc, fl⟩ := hbl.is
                  have hnx := hQS.nin hmany.2 i52_6 hpk hpa hpb fl
                  have hQS_p := hQS
                  have hQS := hQS.add hnx hpa hpb c105 hbv fl
                  have fQ := hQS.lq hmany.2
                  refine lv_ifnull X.x X.b dX2_findChain_122 ?_
                  refine lv_aload_n X.x X.b dX2_findChain_125 rfl (lv_at hl 4 rfl) ?_
                  refine wa_get (v := .ref (ad 48)) X hH (have h9 := (XW.c24 hX); h9) wcX2 2 (by decide) q343 rfl (fun _ h9 => h9) rfl dX2_findChain_126 ?_
                  refine lv_aload X.x X.b dX2_findChain_129 (lv_at hl 0 rfl) ?_
                  refine wa_ci hS (wa_rV (rest := []) X hH (mJ7_add hX fQ  (i52_4.cg (fun x hx => nup_n (fun e => hnx (e ▸ hx)))) (⟨i52_5.1, by omega⟩) (fun a q => Or.inl q) hnx (Or.inr rfl)) (cwV 1 X.t (lw_V q1145 q1146 q1147 q120 q1148) rfl rfl rfl hdJ7_add ⟨Nat.le_of_ble_eq_true rfl, Nat.le_of_ble_eq_true rfl⟩) rfl (have h9 := (XW.c48 hX); h9) rfl rfl hl.1 rfl (Nat.le_of_ble_eq_true rfl) dX2_findChain_131 ⟨by dsimp only; omega, by dsimp only; omega⟩) (fun z w131 H locs hp hH hS => ?_)
                  obtain ⟨rfl, ⟨f2_131, hX, hk, hx131_0⟩⟩ := hp
                  refine wz_is (z := 1) (by rfl) ?_
                  have hPX := hPX.kp hk
                  have hWY := hWY.kp hk
                  have hJC := hJC.kp hk
                  have hNV := hNV.kp hk
                  have hx115_2 := hx115_2.kp hk
                  have hQS := hQS.kp hk
                  have fl := fl.kp hk
                  have hK := hK.kp hk
                  refine lv_pop X.x X.b dX2_findChain_134 rfl ?_
                  refine wz_iinc (k := 3) (lv' := [(1, .int (zI (k + 1))), (4, .ref a122), (3, .int (zI (k % (g 3)))), (2, .int (zI (k / (g 3)))), (0, .ref (ad 24))]) X.x X.b dX2_findChain_135 hl rfl (by decide) rfl (fun ls hl => ?_)
                  refine lv_goto (tgt := 52) X.x X.b dX2_findChain_138 (by decide) ?_
                  refine W.widen (k := (120 * Int.toNat (k + 1))) (n := (400 * Int.toNat (k + 1))) (by omega) (by omega) ?_
                  exact ih52 _ (by omega) (k + 1) (sup (sup Sl 13 (Sl 13 + 1)) 12 (Sl 12 + 1)) (bup Bl 2 f2_131) P2_115 (fun y => D y ∨ y = a122) (nup d a122 ((k / g 3), (k % g 3), (bestS g (k / g 3) (k % g 3)).1, sc)) rfl (by omega) (by intro j hj; rw [sup_n (by omega), sup_n (by omega)]; exact i52_1 j hj) (by intro j hj; exact (hx115_0 j hj).trans (i52_2 j hj)) (by exact ⟨fun j h1 h2 => by rw [bup_n h2]; exact i52_3.1 j h1 h2, fun j h1 h2 => by rw [bup_n (by decide)]; exact i52_3.2 j h1 h2⟩) (by exact hx131_0) (by show 0 ≤ Sl 12 + 1 ∧ (Sl 12 + 1 = 0 ∨ Sl 12 + 1 < k + 1); have h9 := mul_ab hpa hpb c105; omega) (by exact i52_6.add hpk hpb hnx (fun y hy => (hQS_p y hy).2.2.1)) (by exact i52_7) _ _ _ _ hX hK hPX hWY hNV hJC hQS hH hS (lv_sub hl [0, 4] rfl)
              · refine lv_null X.x X.b dX2_findChain_108 ?_
                refine lv_goto (tgt := 118) X.x X.b dX2_findChain_109 (by decide) ?_
                refine lv_astoreN (lv' := [(4, .null), (3, .int (zI (k % (g 3)))), (2, .int (zI (k / (g 3)))), (1, .int (zI k)), (0, .ref (ad 24))]) X.x X.b dX2_findChain_118 hl (by decide) rfl (fun ls hl => ?_)
                refine lv_aloadN X.x X.b dX2_findChain_120 (lv_at hl 0 rfl) ?_
                refine lv_ifnullN (tgt := 135) X.x X.b dX2_findChain_122 (by decide) ?_
                refine wz_iinc (k := 3) (lv' := [(1, .int (zI (k + 1))), (4, .null), (3, .int (zI (k % (g 3)))), (2, .int (zI (k / (g 3)))), (0, .ref (ad 24))]) X.x X.b dX2_findChain_135 hl rfl (by decide) rfl (fun ls hl => ?_)
                refine lv_goto (tgt := 52) X.x X.b dX2_findChain_138 (by decide) ?_
                refine W.widen (k := (120 * Int.toNat (k + 1))) (n := (400 * Int.toNat (k + 1))) (by omega) (by omega) ?_
                exact ih52 _ (by omega) (k + 1) Sl Bl Pl D d rfl (by omega) (by exact i52_1) (by exact i52_2) (by exact i52_3) (by exact i52_4) (by omega) (by exact i52_6.skip hpk hpb (Or.inl (by omega))) (by exact i52_7) _ _ _ _ hX hK hPX hWY hNV hJC hQS hH hS (lv_sub hl [0, 4] rfl)
        refine W.widen (k := (120 * Int.toNat 0)) (n := (400 * Int.toNat 0)) (by omega) (by omega) ?_
        exact L52 _ 0 (sup (sup (sup (sup (sup S 13 (S 13 + 1)) 12 0) 5 0) 7 0) 8 0) (bup (bup B 2 f2_4) 1 b1) P (fun _ => False) (fun _ => (0, 0, 0, 0)) rfl (by omega) (by intro j hj; rw [sup_n (by omega), sup_n (by omega), sup_n (by omega), sup_n (by omega), sup_n (by omega)]) (by intro j _; rfl) (by exact ⟨fun j h1 h2 => by rw [bup_n h1, bup_n h2], fun j h1 h2 => (i9_1 j h1 (by omega)).1⟩) (by exact QI.nil) (by exact ⟨Int.le_refl 0, Or.inl rfl⟩) (by exact QK.nil hmany.1) (by exact ⟨rfl, rfl, rfl⟩) _ _ _ _ hX hK hPX hWY hNV hJC hQS hH hS (lv_sub hl [0, 1] rfl)
      · refine lv_aload_n X.x X.b dX2_findChain_15 rfl (lv_at hl 1 rfl) ?_
        refine wa_get (v := .ref (ad 51)) X hH (have h9 := (XW.c24 hX); h9) wcX2 3 (by decide) q344 rfl (fun _ h9 => h9) rfl dX2_findChain_16 ?_
        refine lv_iload_n X.x X.b dX2_findChain_19 rfl (lv_at hl 0 rfl) ?_
        refine lv_null X.x X.b dX2_findChain_20 ?_
        refine wa_aastN (k := 6) (f := b1) X hH hS (have h9 := (XW.c51 hX); h9) rfl (by omega) (by omega) (by omega) dX2_findChain_21 (fun w21 H locs ew hH hS => ?_)
        have hk : Kp ad wl9 w21 := Kp.set (i := 51) (by omega) ew
        have hX := hX.sB (i := 51) (1) (x := fupR b1 k none) (by unfold oB; omega) ew
        have hX := XW.cB (B2 := bup (bup B 2 f2_4) 1 (fupR b1 k none)) hX (by funext j; simp only [bup]; by_cases h0 : j = 1; (subst h0; first | rfl | simp); by_cases h1 : j = 2; (subst h1; first | rfl | simp); simp only [h0, h1, ↓reduceIte])
        have hPX := hPX.kp hk
        have hWY := hWY.kp hk
        have hNV := hNV.kp hk
        have hJC := hJC.kp hk
        have hK := hK.kp hk
        clear ew
        refine lv_aload_n X.x X.b dX2_findChain_22 rfl (lv_at hl 1 rfl) ?_
        refine wa_get (v := .ref (ad 52)) X hH (have h9 := (XW.c24 hX); h9) wcX2 4 (by decide) q346 rfl (fun _ h9 => h9) rfl dX2_findChain_23 ?_
        refine lv_iload_n X.x X.b dX2_findChain_26 rfl (lv_at hl 0 rfl) ?_
        refine wz_iconst X.x X.b dX2_findChain_27 ?_
        refine wa_iast (f := a3) X hH hS (have h9 := (XW.c52 hX); h9) (by omega) (by omega) (by omega) dX2_findChain_28 (fun w28 H locs ew hH hS => ?_)
        have hk : Kp ad w21 w28 := Kp.set (i := 52) (by omega) ew
        have hX := hX.sA (i := 52) (3) (x := fup a3 k (-1)) (by unfold oA; omega) ew
        have hX := XW.cA (A2 := aup A 3 (fup a3 k (-1))) hX (by funext j; simp only [aup]; by_cases h0 : j = 3; (subst h0; first | rfl | simp); simp only [h0, ↓reduceIte])
        have hPX := hPX.kp hk
        have hWY := hWY.kp hk
        have hNV := hNV.kp hk
        have hJC := hJC.kp hk
        have hK := hK.kp hk
        clear ew
        refine wz_iinc (k := 0) (lv' := [(1, .int (zI (k + 1))), (0, .ref (ad 24))]) X.x X.b dX2_findChain_29 hl rfl (by decide) rfl (fun ls hl => ?_)
        refine lv_goto (tgt := 9) X.x X.b dX2_findChain_32 (by decide) ?_
        exact ih9 _ (by omega) (k + 1) (fupR b1 k none) (fup a3 k (-1)) rfl (by omega) (by intro j h1 h2; by_cases q : j = k; (rw [q, fupR_s, fup_s]; exact ⟨rfl, rfl⟩); (rw [fupR_n q, fup_n q]; exact i9_1 j h1 (by omega))) _ _ _ _ hX hK hPX hWY hNV hJC hH hS (lv_sub hl [0, 1] rfl)
  have hX := XW.cA (A2 := aup A 3 (A 3)) hX (by funext j; simp only [aup]; by_cases h0 : j = 3; (subst h0; first | rfl | simp); simp only [h0, ↓reduceIte])
  have hX := XW.cB (B2 := bup (bup B 2 f2_4) 1 (B 1)) hX (by funext j; simp only [bup]; by_cases h0 : j = 1; (subst h0; first | rfl | simp); by_cases h1 : j = 2; (subst h1; first | rfl | simp); simp only [h0, h1, ↓reduceIte])
  exact L9 _ 0 (B 1) (A 3) rfl (by omega) (by intro j h1 h2; omega) _ _ _ _ hX hK hPX hWY hNV hJC hH hS (lv_sub hl [0, 1] rfl)

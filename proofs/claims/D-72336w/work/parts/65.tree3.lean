/-! TREEMAP: fixAfterInsertion -/
set_option maxRecDepth 100000 in
theorem mJ5_fixAfterInsertion {lL : Launch} {G : wa_G} {w : wa_W} {m : Nat} {l : List Nat} {K : Nat → Nat} {V : Nat → Nat} {L : Nat → Option Nat} {R : Nat → Option Nat} {P : Nat → Option Nat} {C : Nat → Int} {ro : Option Nat} {si : Int} {mo : Int} {nv : Option Nat} (hX : TN w m l K V L R P C ro si mo nv) {x : Nat}  (hx : x ∈ l) (ht : Tr L R P ro none l) (hn : l.Nodup) (hC : ∀ n, n ∈ l → C n = 0 ∨ C n = 1) (hroot : ∀ r, ro = some r → C r = 1 ∨ r = x) : Met lL yJ5_fixAfterInsertion (ws_ yJ5_fixAfterInsertion cJ5_fixAfterInsertion 3 (none : Option FieldType)) ({ frames := 1, cells := 0, slots := 0, locals := 22 } : Room) (wa_P G w [.ref m, .ref x]) (wa_Qv G fun u => ∃ (L2 : Nat → Option Nat) (R2 : Nat → Option Nat) (P2 : Nat → Option Nat) (C2 : Nat → Int) (ro2 : Option Nat), TN u m l K V L2 R2 P2 C2 ro2 si mo nv ∧ Fr m l w u ∧ (Tr L2 R2 P2 ro2 none l) ∧ (∀ r, ro2 = some r → C2 r = 1) ∧ (∀ n, n ∈ l → C2 n = 0 ∨ C2 n = 1)) 0 0 (wa_A G) := by
  refine wa_met (by decide) (by exact Nat.le_of_ble_eq_true rfl) ?_
  intro pP eE sS mM aA bB mT cC ls X hl hH
  have hS : va_S (wa_A G) sS.heap sS.heap [] := va_S.rf
  have hl : lv_has ls 3 [(0, .ref m), (1, .ref x)] := hl
  have hK : Fr m l w w := Fr.rf
  obtain ⟨d, -, hd⟩ := ht.dep hn (fun q z => by cases z) 0
  refine lv_aload_n X.x X.b dJ5_fixAfterInsertion_0 rfl (lv_at hl 1 rfl) ?_
  refine wz_iconst X.x X.b dJ5_fixAfterInsertion_1 ?_
  refine wa_put X hH hS (have h9 := (hX.nd hx); h9) wcJ10 5 (by decide) q798 rfl (fun _ h9 => h9) rfl nb0 rfl (Nat.le_of_ble_eq_true rfl) dJ5_fixAfterInsertion_2 (fun w2 H locs ew hH hS => ?_)
  have hk : Fr m l w w2 := Fr.nd hx ew
  have hX := hX.sC (x := 0) hx ew
  have hK := hK.trans hk
  clear ew
  have L5 : ∀ (nn : Nat) (x0 : Nat) (C0 : Nat → Int), (d x0) = nn → (x0 ∈ l) → (∀ n, n ∈ l → C0 n = 0 ∨ C0 n = 1) → (∀ r, ro = some r → C0 r = 1 ∨ r = x0) → ∀ (wl5 : wa_W) (H : Heap) (locs : List Loc) (ls : Array Slot), TN wl5 m l K V L R P C0 ro si mo nv → Fr m l w wl5 → wa_H G wl5 H → va_S (wa_A G) sS.heap H locs → lv_has ls 3 [(1, .ref x0), (0, .ref m)] → W pP lL eE ({ frames := 1, cells := 0, slots := 0, locals := 22 } : Room) sS mM aA bB mT cC H locs 0 0 (MQ bB (wa_Qv G fun u => ∃ (L2 : Nat → Option Nat) (R2 : Nat → Option Nat) (P2 : Nat → Option Nat) (C2 : Nat → Int) (ro2 : Option Nat), TN u m l K V L2 R2 P2 C2 ro2 si mo nv ∧ Fr m l w u ∧ (Tr L2 R2 P2 ro2 none l) ∧ (∀ r, ro2 = some r → C2 r = 1) ∧ (∀ n, n ∈ l → C2 n = 0 ∨ C2 n = 1)) aA sS 0 0 (wa_A G)) (F0 mM 5 ls []) := by
    intro nn
    induction nn using Nat.strongRecOn with
    | ind nn ih5 =>
      intro x0 C0 hmu5 i5_0 i5_1 i5_2 wl5 H locs ls hX hK  hH hS hl
      refine lv_aload_n X.x X.b dJ5_fixAfterInsertion_5 rfl (lv_at hl 0 rfl) ?_
      refine lv_ifnull X.x X.b dJ5_fixAfterInsertion_6 ?_
      refine lv_aload_n X.x X.b dJ5_fixAfterInsertion_9 rfl (lv_at hl 0 rfl) ?_
      refine lv_aload_n X.x X.b dJ5_fixAfterInsertion_10 rfl (lv_at hl 1 rfl) ?_
      refine wa_get (v := va_rf ro) X hH (have h9 := (hX.1); h9) wcJ5 3 (by decide) q237 rfl (fun _ h9 => h9) rfl dJ5_fixAfterInsertion_11 ?_
      refine lv_acmp_eq (rx := some x0) (ry := ro) (tgt := 258) X.x X.b dJ5_fixAfterInsertion_14 (by decide) (fun c14 => ?_) (fun c14 => ?_)
      · obtain ⟨r1, hr1, hr1l⟩ := ht.hasRoot i5_0
        refine lv_aload_n X.x X.b dJ5_fixAfterInsertion_258 rfl (lv_at hl 1 rfl) ?_
        refine wa_get (v := va_rf ro) X hH (have h9 := (hX.1); h9) wcJ5 3 (by decide) q237 rfl (fun _ h9 => h9) rfl dJ5_fixAfterInsertion_259 ?_
        refine wz_opt (q := some r1) (by exact hr1) ?_
        refine wz_iconst X.x X.b dJ5_fixAfterInsertion_262 ?_
        refine wa_put X hH hS (have h9 := (hX.nd hr1l); h9) wcJ10 5 (by decide) q798 rfl (fun _ h9 => h9) rfl nb1 rfl (Nat.le_of_ble_eq_true rfl) dJ5_fixAfterInsertion_263 (fun w263 H locs ew hH hS => ?_)
        have hk : Fr m l wl5 w263 := Fr.nd hr1l ew
        have hX := hX.sC (x := 1) hr1l ew
        have hK := hK.trans hk
        clear ew
        exact wa_vret X hH hS dJ5_fixAfterInsertion_266 ⟨_, _, _, _, _, hX, hK, ht, (fun r e => by cases hr1.symm.trans e; exact nup_s), (fun n hn1 => by exact br (i5_1 n hn1))⟩
      · obtain ⟨y, hy⟩ : ∃ y, P x0 = some y := by
          rcases xo_cases (P x0) with e | e
          · exact absurd ((ht.top i5_0).1 e).symm c14
          · exact e
        obtain ⟨hyl, hyk, -⟩ := (ht.top i5_0).2 y hy
        have hyx : y ≠ x0 := fun e => by rw [e] at hy; exact ht.irr hn i5_0 hy
        refine lv_aload_n X.x X.b dJ5_fixAfterInsertion_17 rfl (lv_at hl 0 rfl) ?_
        refine wa_get (v := va_rf (P x0)) X hH (have h9 := (hX.nd i5_0); h9) wcJ10 4 (by decide) q796 rfl (fun _ h9 => h9) rfl dJ5_fixAfterInsertion_18 ?_
        refine wz_opt (q := some y) (by exact hy) ?_
        refine wa_get (v := .int (zI (C0 y))) X hH (have h9 := (hX.nd hyl); h9) wcJ10 5 (by decide) q798 rfl (fun _ h9 => h9) rfl dJ5_fixAfterInsertion_21 ?_
        refine wz_ifne (tgt := 258) X.x X.b dJ5_fixAfterInsertion_24 (by decide) (bI (i5_1 y hyl)) (fun c24 => ?_) (fun c24 => ?_)
        · obtain ⟨r1, hr1, hr1l⟩ := ht.hasRoot i5_0
          refine lv_aload_n X.x X.b dJ5_fixAfterInsertion_258 rfl (lv_at hl 1 rfl) ?_
          refine wa_get (v := va_rf ro) X hH (have h9 := (hX.1); h9) wcJ5 3 (by decide) q237 rfl (fun _ h9 => h9) rfl dJ5_fixAfterInsertion_259 ?_
          refine wz_opt (q := some r1) (by exact hr1) ?_
          refine wz_iconst X.x X.b dJ5_fixAfterInsertion_262 ?_
          refine wa_put X hH hS (have h9 := (hX.nd hr1l); h9) wcJ10 5 (by decide) q798 rfl (fun _ h9 => h9) rfl nb1 rfl (Nat.le_of_ble_eq_true rfl) dJ5_fixAfterInsertion_263 (fun w263 H locs ew hH hS => ?_)
          have hk : Fr m l wl5 w263 := Fr.nd hr1l ew
          have hX := hX.sC (x := 1) hr1l ew
          have hK := hK.trans hk
          clear ew
          exact wa_vret X hH hS dJ5_fixAfterInsertion_266 ⟨_, _, _, _, _, hX, hK, ht, (fun r e => by cases hr1.symm.trans e; exact nup_s), (fun n hn1 => by exact br (i5_1 n hn1))⟩
        · have hyr : ¬ ro = some y := fun e => by
            rcases i5_2 y e with q | q
            · omega
            · exact hyx q
          obtain ⟨g, hg⟩ : ∃ g, P y = some g := by
            rcases xo_cases (P y) with e | e
            · exact absurd ((ht.top hyl).1 e) hyr
            · exact e
          obtain ⟨hgl, hgk, -⟩ := (ht.top hyl).2 g hg
          have hgy : g ≠ y := fun e => by rw [e] at hg; exact ht.irr hn hyl hg
          have hgx : g ≠ x0 := fun e => by rw [e] at hg; exact ht.irr2 hn i5_0 hyl hy hg
          refine lv_aload_n X.x X.b dJ5_fixAfterInsertion_27 rfl (lv_at hl 0 rfl) ?_
          refine wa_cr hS (wa_rS (rest := []) X hH (mJ5_parentOf  (show At wl5 x0 (eO 19 [.ref (K x0), .ref (V x0), va_rf (L x0), va_rf (R x0), va_rf (P x0), .int (zI (C0 x0))]) from (hX.nd i5_0))  ) (va_cwS 1 X.t (lw_S q905 q906 q118 q907) rfl rfl rfl hdJ5_parentOf.2 ⟨Nat.le_of_ble_eq_true rfl, Nat.le_of_ble_eq_true rfl⟩) rfl rfl hl.1 rfl (Nat.le_of_ble_eq_true rfl) dJ5_fixAfterInsertion_28 ⟨Nat.le_of_ble_eq_true rfl, Nat.le_of_ble_eq_true rfl⟩) (fun r28 w28 H locs hp hH hS => ?_)
          obtain ⟨rfl, hw⟩ := hp
          rw [← hw] at hH; clear hw
          refine lv_aload_n X.x X.b dJ5_fixAfterInsertion_31 rfl (lv_at hl 0 rfl) ?_
          refine wa_cr hS (wa_rS (rest := [va_rf (P x0)]) X hH (mJ5_parentOf  (show At wl5 x0 (eO 19 [.ref (K x0), .ref (V x0), va_rf (L x0), va_rf (R x0), va_rf (P x0), .int (zI (C0 x0))]) from (hX.nd i5_0))  ) (va_cwS 1 X.t (lw_S q905 q906 q118 q907) rfl rfl rfl hdJ5_parentOf.2 ⟨Nat.le_of_ble_eq_true rfl, Nat.le_of_ble_eq_true rfl⟩) rfl rfl hl.1 rfl (by simp [va_cat]; try exact Nat.le_of_ble_eq_true rfl) dJ5_fixAfterInsertion_32 ⟨Nat.le_of_ble_eq_true rfl, Nat.le_of_ble_eq_true rfl⟩) (fun r32 w32 H locs hp hH hS => ?_)
          obtain ⟨rfl, hw⟩ := hp
          rw [← hw] at hH; clear hw
          refine wz_opt (q := some y) (by exact hy) ?_
          refine wa_cr hS (wa_rS (rest := [va_rf (P x0)]) X hH (mJ5_parentOf  (show At wl5 y (eO 19 [.ref (K y), .ref (V y), va_rf (L y), va_rf (R y), va_rf (P y), .int (zI (C0 y))]) from (hX.nd hyl))  ) (va_cwS 1 X.t (lw_S q905 q906 q118 q907) rfl rfl rfl hdJ5_parentOf.2 ⟨Nat.le_of_ble_eq_true rfl, Nat.le_of_ble_eq_true rfl⟩) rfl rfl hl.1 rfl (by simp [va_cat]; try exact Nat.le_of_ble_eq_true rfl) dJ5_fixAfterInsertion_35 ⟨Nat.le_of_ble_eq_true rfl, Nat.le_of_ble_eq_true rfl⟩) (fun r35 w35 H locs hp hH hS => ?_)
          obtain ⟨rfl, hw⟩ := hp
          rw [← hw] at hH; clear hw
          refine wz_opt (q := some g) (by exact hg) ?_
          refine wa_cr hS (wa_rS (rest := [va_rf (P x0)]) X hH (mJ5_leftOf  (show At wl5 g (eO 19 [.ref (K g), .ref (V g), va_rf (L g), va_rf (R g), va_rf (P g), .int (zI (C0 g))]) from (hX.nd hgl))  ) (va_cwS 1 X.t (lw_S q908 q909 q118 q910) rfl rfl rfl hdJ5_leftOf.2 ⟨Nat.le_of_ble_eq_true rfl, Nat.le_of_ble_eq_true rfl⟩) rfl rfl hl.1 rfl (by simp [va_cat]; try exact Nat.le_of_ble_eq_true rfl) dJ5_fixAfterInsertion_38 ⟨Nat.le_of_ble_eq_true rfl, Nat.le_of_ble_eq_true rfl⟩) (fun r38 w38 H locs hp hH hS => ?_)
          obtain ⟨rfl, hw⟩ := hp
          rw [← hw] at hH; clear hw
          refine lv_acmp_ne (rx := (P x0)) (ry := (L g)) (tgt := 151) X.x X.b dJ5_fixAfterInsertion_41 (by decide) (fun c41 => ?_) (fun c41 => ?_)
          · refine lv_aload_n X.x X.b dJ5_fixAfterInsertion_151 rfl (lv_at hl 0 rfl) ?_
            refine wa_cr hS (wa_rS (rest := []) X hH (mJ5_parentOf  (show At wl5 x0 (eO 19 [.ref (K x0), .ref (V x0), va_rf (L x0), va_rf (R x0), va_rf (P x0), .int (zI (C0 x0))]) from (hX.nd i5_0))  ) (va_cwS 1 X.t (lw_S q905 q906 q118 q907) rfl rfl rfl hdJ5_parentOf.2 ⟨Nat.le_of_ble_eq_true rfl, Nat.le_of_ble_eq_true rfl⟩) rfl rfl hl.1 rfl (Nat.le_of_ble_eq_true rfl) dJ5_fixAfterInsertion_152 ⟨Nat.le_of_ble_eq_true rfl, Nat.le_of_ble_eq_true rfl⟩) (fun r152 w152 H locs hp hH hS => ?_)
            obtain ⟨rfl, hw⟩ := hp
            rw [← hw] at hH; clear hw
            refine wz_opt (q := some y) (by exact hy) ?_
            refine wa_cr hS (wa_rS (rest := []) X hH (mJ5_parentOf  (show At wl5 y (eO 19 [.ref (K y), .ref (V y), va_rf (L y), va_rf (R y), va_rf (P y), .int (zI (C0 y))]) from (hX.nd hyl))  ) (va_cwS 1 X.t (lw_S q905 q906 q118 q907) rfl rfl rfl hdJ5_parentOf.2 ⟨Nat.le_of_ble_eq_true rfl, Nat.le_of_ble_eq_true rfl⟩) rfl rfl hl.1 rfl (Nat.le_of_ble_eq_true rfl) dJ5_fixAfterInsertion_155 ⟨Nat.le_of_ble_eq_true rfl, Nat.le_of_ble_eq_true rfl⟩) (fun r155 w155 H locs hp hH hS => ?_)
            obtain ⟨rfl, hw⟩ := hp
            rw [← hw] at hH; clear hw
            refine wz_opt (q := some g) (by exact hg) ?_
            refine wa_cr hS (wa_rS (rest := []) X hH (mJ5_leftOf  (show At wl5 g (eO 19 [.ref (K g), .ref (V g), va_rf (L g), va_rf (R g), va_rf (P g), .int (zI (C0 g))]) from (hX.nd hgl))  ) (va_cwS 1 X.t (lw_S q908 q909 q118 q910) rfl rfl rfl hdJ5_leftOf.2 ⟨Nat.le_of_ble_eq_true rfl, Nat.le_of_ble_eq_true rfl⟩) rfl rfl hl.1 rfl (Nat.le_of_ble_eq_true rfl) dJ5_fixAfterInsertion_158 ⟨Nat.le_of_ble_eq_true rfl, Nat.le_of_ble_eq_true rfl⟩) (fun r158 w158 H locs hp hH hS => ?_)
            obtain ⟨rfl, hw⟩ := hp
            rw [← hw] at hH; clear hw
            refine lv_astore_nO (lv' := [(2, va_rf (L g)), (1, .ref x0), (0, .ref m)]) X.x X.b dJ5_fixAfterInsertion_161 rfl hl (by decide) rfl (fun ls hl => ?_)
            refine lv_aload_nO X.x X.b dJ5_fixAfterInsertion_162 rfl (lv_at hl 0 rfl) ?_
            rcases xo_cases ((L g)) with ho163 | ⟨a163, ho163⟩
            · refine wz_opt (q := none) ho163 ?_
              have hl : lv_has ls 3 [(2, .null), (1, .ref x0), (0, .ref m)] := by rw [ho163] at hl; exact hl
              refine wa_ci hS (wa_rS (rest := []) X hH (mJ5_colorOf_N _   (n := none) rfl) (va_cwS 1 X.t (lw_S q914 q915 q118 q916) rfl rfl rfl hdJ5_colorOf.2 ⟨Nat.le_of_ble_eq_true rfl, Nat.le_of_ble_eq_true rfl⟩) rfl rfl hl.1 rfl (Nat.le_of_ble_eq_true rfl) dJ5_fixAfterInsertion_163 ⟨Nat.le_of_ble_eq_true rfl, Nat.le_of_ble_eq_true rfl⟩) (fun z w163 H locs hp hH hS => ?_)
              obtain ⟨rfl, hw⟩ := hp
              rw [← hw] at hH; clear hw
              refine wz_ifne (tgt := 204) X.x X.b dJ5_fixAfterInsertion_166 (by decide) (by decide) (fun _ => ?_) (fun h => absurd h (by decide))
              refine lv_aload_n X.x X.b dJ5_fixAfterInsertion_204 rfl (lv_at hl 1 rfl) ?_
              refine lv_aload_n X.x X.b dJ5_fixAfterInsertion_205 rfl (lv_at hl 1 rfl) ?_
              refine wa_cr hS (wa_rS (rest := [.ref x0]) X hH (mJ5_parentOf  (show At wl5 x0 (eO 19 [.ref (K x0), .ref (V x0), va_rf (L x0), va_rf (R x0), va_rf (P x0), .int (zI (C0 x0))]) from (hX.nd i5_0))  ) (va_cwS 1 X.t (lw_S q905 q906 q118 q907) rfl rfl rfl hdJ5_parentOf.2 ⟨Nat.le_of_ble_eq_true rfl, Nat.le_of_ble_eq_true rfl⟩) rfl rfl hl.1 rfl (Nat.le_of_ble_eq_true rfl) dJ5_fixAfterInsertion_206 ⟨Nat.le_of_ble_eq_true rfl, Nat.le_of_ble_eq_true rfl⟩) (fun r206 w206 H locs hp hH hS => ?_)
              obtain ⟨rfl, hw⟩ := hp
              rw [← hw] at hH; clear hw
              refine wz_opt (q := some y) (by exact hy) ?_
              refine wa_cr hS (wa_rS (rest := [.ref x0]) X hH (mJ5_leftOf  (show At wl5 y (eO 19 [.ref (K y), .ref (V y), va_rf (L y), va_rf (R y), va_rf (P y), .int (zI (C0 y))]) from (hX.nd hyl))  ) (va_cwS 1 X.t (lw_S q908 q909 q118 q910) rfl rfl rfl hdJ5_leftOf.2 ⟨Nat.le_of_ble_eq_true rfl, Nat.le_of_ble_eq_true rfl⟩) rfl rfl hl.1 rfl (Nat.le_of_ble_eq_true rfl) dJ5_fixAfterInsertion_209 ⟨Nat.le_of_ble_eq_true rfl, Nat.le_of_ble_eq_true rfl⟩) (fun r209 w209 H locs hp hH hS => ?_)
              obtain ⟨rfl, hw⟩ := hp
              rw [← hw] at hH; clear hw
              refine lv_acmp_ne (rx := some x0) (ry := (L y)) (tgt := 225) X.x X.b dJ5_fixAfterInsertion_212 (by decide) (fun c212 => ?_) (fun c212 => ?_)
              · refine lv_aload_n X.x X.b dJ5_fixAfterInsertion_225 rfl (lv_at hl 1 rfl) ?_
                refine wa_cr hS (wa_rS (rest := []) X hH (mJ5_parentOf  (show At wl5 x0 (eO 19 [.ref (K x0), .ref (V x0), va_rf (L x0), va_rf (R x0), va_rf (P x0), .int (zI (C0 x0))]) from (hX.nd i5_0))  ) (va_cwS 1 X.t (lw_S q905 q906 q118 q907) rfl rfl rfl hdJ5_parentOf.2 ⟨Nat.le_of_ble_eq_true rfl, Nat.le_of_ble_eq_true rfl⟩) rfl rfl hl.1 rfl (Nat.le_of_ble_eq_true rfl) dJ5_fixAfterInsertion_226 ⟨Nat.le_of_ble_eq_true rfl, Nat.le_of_ble_eq_true rfl⟩) (fun r226 w226 H locs hp hH hS => ?_)
                obtain ⟨rfl, hw⟩ := hp
                rw [← hw] at hH; clear hw
                refine wz_opt (q := some y) (by exact hy) ?_
                refine wz_iconst X.x X.b dJ5_fixAfterInsertion_229 ?_
                refine wa_cv hS (wa_rS (rest := []) X hH (mJ5_setColor hX  1 (show y ∈ l by first | assumption | omega) nb1 rfl) (va_cwS 2 X.t (lw_S q917 q918 q118 q919) rfl rfl rfl hdJ5_setColor.2 ⟨Nat.le_of_ble_eq_true rfl, Nat.le_of_ble_eq_true rfl⟩) rfl rfl hl.1 rfl (Nat.le_of_ble_eq_true rfl) dJ5_fixAfterInsertion_230 ⟨Nat.le_of_ble_eq_true rfl, Nat.le_of_ble_eq_true rfl⟩) (fun w230 H locs hp hH hS => ?_)
                obtain ⟨hX, hk⟩ := hp
                have hK := hK.trans hk
                refine lv_aload_n X.x X.b dJ5_fixAfterInsertion_233 rfl (lv_at hl 1 rfl) ?_
                refine wa_cr hS (wa_rS (rest := []) X hH (mJ5_parentOf  (show At w230 x0 (eO 19 [.ref (K x0), .ref (V x0), va_rf (L x0), va_rf (R x0), va_rf (P x0), .int (zI ((nup C0 y 1) x0))]) from (hX.nd i5_0))  ) (va_cwS 1 X.t (lw_S q905 q906 q118 q907) rfl rfl rfl hdJ5_parentOf.2 ⟨Nat.le_of_ble_eq_true rfl, Nat.le_of_ble_eq_true rfl⟩) rfl rfl hl.1 rfl (Nat.le_of_ble_eq_true rfl) dJ5_fixAfterInsertion_234 ⟨Nat.le_of_ble_eq_true rfl, Nat.le_of_ble_eq_true rfl⟩) (fun r234 w234 H locs hp hH hS => ?_)
                obtain ⟨rfl, hw⟩ := hp
                rw [← hw] at hH; clear hw
                refine wz_opt (q := some y) (by exact hy) ?_
                refine wa_cr hS (wa_rS (rest := []) X hH (mJ5_parentOf  (show At w230 y (eO 19 [.ref (K y), .ref (V y), va_rf (L y), va_rf (R y), va_rf (P y), .int (zI ((nup C0 y 1) y))]) from (hX.nd hyl))  ) (va_cwS 1 X.t (lw_S q905 q906 q118 q907) rfl rfl rfl hdJ5_parentOf.2 ⟨Nat.le_of_ble_eq_true rfl, Nat.le_of_ble_eq_true rfl⟩) rfl rfl hl.1 rfl (Nat.le_of_ble_eq_true rfl) dJ5_fixAfterInsertion_237 ⟨Nat.le_of_ble_eq_true rfl, Nat.le_of_ble_eq_true rfl⟩) (fun r237 w237 H locs hp hH hS => ?_)
                obtain ⟨rfl, hw⟩ := hp
                rw [← hw] at hH; clear hw
                refine wz_opt (q := some g) (by exact hg) ?_
                refine wz_iconst X.x X.b dJ5_fixAfterInsertion_240 ?_
                refine wa_cv hS (wa_rS (rest := []) X hH (mJ5_setColor hX  0 (show g ∈ l by first | assumption | omega) nb0 rfl) (va_cwS 2 X.t (lw_S q917 q918 q118 q919) rfl rfl rfl hdJ5_setColor.2 ⟨Nat.le_of_ble_eq_true rfl, Nat.le_of_ble_eq_true rfl⟩) rfl rfl hl.1 rfl (Nat.le_of_ble_eq_true rfl) dJ5_fixAfterInsertion_241 ⟨Nat.le_of_ble_eq_true rfl, Nat.le_of_ble_eq_true rfl⟩) (fun w241 H locs hp hH hS => ?_)
                obtain ⟨hX, hk⟩ := hp
                have hK := hK.trans hk
                have hgu : R g = some y := (show R g = some y from hgk.resolve_left (fun e => c41 (hy.trans e.symm)))
                have hgr := hgu
                have ht1 := ht
                refine lv_aload_n X.x X.b dJ5_fixAfterInsertion_244 rfl (lv_at hl 2 rfl) ?_
                refine lv_aload_n X.x X.b dJ5_fixAfterInsertion_245 rfl (lv_at hl 1 rfl) ?_
                refine wa_cr hS (wa_rS (rest := [.ref m]) X hH (mJ5_parentOf  (show At w241 x0 (eO 19 [.ref (K x0), .ref (V x0), va_rf (L x0), va_rf (R x0), va_rf (P x0), .int (zI ((nup (nup C0 y 1) g 0) x0))]) from (hX.nd i5_0))  ) (va_cwS 1 X.t (lw_S q905 q906 q118 q907) rfl rfl rfl hdJ5_parentOf.2 ⟨Nat.le_of_ble_eq_true rfl, Nat.le_of_ble_eq_true rfl⟩) rfl rfl hl.1 rfl (Nat.le_of_ble_eq_true rfl) dJ5_fixAfterInsertion_246 ⟨Nat.le_of_ble_eq_true rfl, Nat.le_of_ble_eq_true rfl⟩) (fun r246 w246 H locs hp hH hS => ?_)
                obtain ⟨rfl, hw⟩ := hp
                rw [← hw] at hH; clear hw
                refine wz_opt (q := some y) (by exact hy) ?_
                refine wa_cr hS (wa_rS (rest := [.ref m]) X hH (mJ5_parentOf  (show At w241 y (eO 19 [.ref (K y), .ref (V y), va_rf (L y), va_rf (R y), va_rf (P y), .int (zI ((nup (nup C0 y 1) g 0) y))]) from (hX.nd hyl))  ) (va_cwS 1 X.t (lw_S q905 q906 q118 q907) rfl rfl rfl hdJ5_parentOf.2 ⟨Nat.le_of_ble_eq_true rfl, Nat.le_of_ble_eq_true rfl⟩) rfl rfl hl.1 rfl (Nat.le_of_ble_eq_true rfl) dJ5_fixAfterInsertion_249 ⟨Nat.le_of_ble_eq_true rfl, Nat.le_of_ble_eq_true rfl⟩) (fun r249 w249 H locs hp hH hS => ?_)
                obtain ⟨rfl, hw⟩ := hp
                rw [← hw] at hH; clear hw
                refine wz_opt (q := some g) (by exact hg) ?_
                refine wa_cv hS (wa_rV (rest := []) X hH (mJ5_rotateLeft hX   hgl hgr ht1 (show l.Nodup by first | assumption | omega)) (cwV 1 X.t (lw_V q920 q922 qs22 q118 q923) rfl rfl rfl hdJ5_rotateLeft ⟨Nat.le_of_ble_eq_true rfl, Nat.le_of_ble_eq_true rfl⟩) rfl (have h9 := (hX.1); h9) rfl rfl hl.1 rfl (Nat.le_of_ble_eq_true rfl) dJ5_fixAfterInsertion_252 ⟨Nat.le_of_ble_eq_true rfl, Nat.le_of_ble_eq_true rfl⟩) (fun w252 H locs hp hH hS => ?_)
                obtain ⟨hX, hk⟩ := hp
                have hK := hK.trans hk
                have ht2 := Tr.rotL (L' := rtL L P g y) (R' := rtR L R P g y) (P' := rtP L P g y) hgr ht1 hn hgl (fun q z => by cases z) (fun n _ => ⟨rfl, rfl, rfl⟩)
                have hmid : ¬ L y = some x0 := fun e => c212 e.symm
                have hfin : (rtP L P g y) x0 = some y := by unfold rtP; rw [if_neg (Ne.symm hgx), if_neg (Ne.symm hyx), if_neg hmid]; exact hy
                refine lv_goto (tgt := 5) X.x X.b dJ5_fixAfterInsertion_255 (by decide) ?_
                refine lv_aload_n X.x X.b dJ5_fixAfterInsertion_5 rfl (lv_at hl 1 rfl) ?_
                refine lv_ifnull X.x X.b dJ5_fixAfterInsertion_6 ?_
                refine lv_aload_n X.x X.b dJ5_fixAfterInsertion_9 rfl (lv_at hl 1 rfl) ?_
                refine lv_aload_n X.x X.b dJ5_fixAfterInsertion_10 rfl (lv_at hl 2 rfl) ?_
                refine wa_get (v := va_rf (if ro = some g then some y else ro)) X hH (have h9 := (hX.1); h9) wcJ5 3 (by decide) q237 rfl (fun _ h9 => h9) rfl dJ5_fixAfterInsertion_11 ?_
                refine lv_acmp_eq (rx := some x0) (ry := if ro = some g then some y else ro) (tgt := 258) X.x X.b dJ5_fixAfterInsertion_14 (by decide) (fun c14 => ?_) (fun c14 => ?_)
                · obtain ⟨r1, hr1, hr1l⟩ := ht2.hasRoot i5_0
                  refine lv_aload_n X.x X.b dJ5_fixAfterInsertion_258 rfl (lv_at hl 2 rfl) ?_
                  refine wa_get (v := va_rf (if ro = some g then some y else ro)) X hH (have h9 := (hX.1); h9) wcJ5 3 (by decide) q237 rfl (fun _ h9 => h9) rfl dJ5_fixAfterInsertion_259 ?_
                  refine wz_opt (q := some r1) (by exact hr1) ?_
                  refine wz_iconst X.x X.b dJ5_fixAfterInsertion_262 ?_
                  refine wa_put X hH hS (have h9 := (hX.nd hr1l); h9) wcJ10 5 (by decide) q798 rfl (fun _ h9 => h9) rfl nb1 rfl (Nat.le_of_ble_eq_true rfl) dJ5_fixAfterInsertion_263 (fun w263 H locs ew hH hS => ?_)
                  have hk : Fr m l w252 w263 := Fr.nd hr1l ew
                  have hX := hX.sC (x := 1) hr1l ew
                  have hK := hK.trans hk
                  clear ew
                  exact wa_vret X hH hS dJ5_fixAfterInsertion_266 ⟨_, _, _, _, _, hX, hK, ht2, (fun r e => by cases hr1.symm.trans e; exact nup_s), (fun n hn1 => by exact br (bl (br (i5_1 n hn1))))⟩
                · refine lv_aload_n X.x X.b dJ5_fixAfterInsertion_17 rfl (lv_at hl 1 rfl) ?_
                  refine wa_get (v := va_rf ((rtP L P g y) x0)) X hH (have h9 := (hX.nd i5_0); h9) wcJ10 4 (by decide) q796 rfl (fun _ h9 => h9) rfl dJ5_fixAfterInsertion_18 ?_
                  refine wz_opt (q := some y) (by exact hfin) ?_
                  refine wa_get (v := .int (zI ((nup (nup C0 y 1) g 0) y))) X hH (have h9 := (hX.nd hyl); h9) wcJ10 5 (by decide) q798 rfl (fun _ h9 => h9) rfl dJ5_fixAfterInsertion_21 ?_
                  refine wz_is (z := 1) (by rw [nup_n (Ne.symm hgy), nup_s]) ?_
                  refine wz_ifne (tgt := 258) X.x X.b dJ5_fixAfterInsertion_24 (by decide) (by decide) (fun _ => ?_) (fun h => absurd h (by decide))
                  obtain ⟨r1, hr1, hr1l⟩ := ht2.hasRoot i5_0
                  refine lv_aload_n X.x X.b dJ5_fixAfterInsertion_258 rfl (lv_at hl 2 rfl) ?_
                  refine wa_get (v := va_rf (if ro = some g then some y else ro)) X hH (have h9 := (hX.1); h9) wcJ5 3 (by decide) q237 rfl (fun _ h9 => h9) rfl dJ5_fixAfterInsertion_259 ?_
                  refine wz_opt (q := some r1) (by exact hr1) ?_
                  refine wz_iconst X.x X.b dJ5_fixAfterInsertion_262 ?_
                  refine wa_put X hH hS (have h9 := (hX.nd hr1l); h9) wcJ10 5 (by decide) q798 rfl (fun _ h9 => h9) rfl nb1 rfl (Nat.le_of_ble_eq_true rfl) dJ5_fixAfterInsertion_263 (fun w263 H locs ew hH hS => ?_)
                  have hk : Fr m l w252 w263 := Fr.nd hr1l ew
                  have hX := hX.sC (x := 1) hr1l ew
                  have hK := hK.trans hk
                  clear ew
                  exact wa_vret X hH hS dJ5_fixAfterInsertion_266 ⟨_, _, _, _, _, hX, hK, ht2, (fun r e => by cases hr1.symm.trans e; exact nup_s), (fun n hn1 => by exact br (bl (br (i5_1 n hn1))))⟩
              · refine lv_aload_n X.x X.b dJ5_fixAfterInsertion_215 rfl (lv_at hl 1 rfl) ?_
                refine wa_cr hS (wa_rS (rest := []) X hH (mJ5_parentOf  (show At wl5 x0 (eO 19 [.ref (K x0), .ref (V x0), va_rf (L x0), va_rf (R x0), va_rf (P x0), .int (zI (C0 x0))]) from (hX.nd i5_0))  ) (va_cwS 1 X.t (lw_S q905 q906 q118 q907) rfl rfl rfl hdJ5_parentOf.2 ⟨Nat.le_of_ble_eq_true rfl, Nat.le_of_ble_eq_true rfl⟩) rfl rfl hl.1 rfl (Nat.le_of_ble_eq_true rfl) dJ5_fixAfterInsertion_216 ⟨Nat.le_of_ble_eq_true rfl, Nat.le_of_ble_eq_true rfl⟩) (fun r216 w216 H locs hp hH hS => ?_)
                obtain ⟨rfl, hw⟩ := hp
                rw [← hw] at hH; clear hw
                refine wz_opt (q := some y) (by exact hy) ?_
                refine lv_astore_n (lv' := [(1, .ref y), (2, .null), (0, .ref m)]) X.x X.b dJ5_fixAfterInsertion_219 rfl hl (by decide) rfl (fun ls hl => ?_)
                have hxr : L y = some x0 := c212.symm
                have ht1 := Tr.rotR (R' := rtL R P y x0) (L' := rtR R L P y x0) (P' := rtP R P y x0) hxr ht hn hyl (fun q z => by cases z) (fun n _ => ⟨rfl, rfl, rfl⟩)
                refine lv_aload_n X.x X.b dJ5_fixAfterInsertion_220 rfl (lv_at hl 2 rfl) ?_
                refine lv_aload_n X.x X.b dJ5_fixAfterInsertion_221 rfl (lv_at hl 0 rfl) ?_
                refine wa_cv hS (wa_rV (rest := []) X hH (mJ5_rotateRight hX   hyl hxr (show Tr L R P ro none l by first | assumption | omega) (show l.Nodup by first | assumption | omega)) (cwV 1 X.t (lw_V q924 q926 qs23 q118 q927) rfl rfl rfl hdJ5_rotateRight ⟨Nat.le_of_ble_eq_true rfl, Nat.le_of_ble_eq_true rfl⟩) rfl (have h9 := (hX.1); h9) rfl rfl hl.1 rfl (Nat.le_of_ble_eq_true rfl) dJ5_fixAfterInsertion_222 ⟨Nat.le_of_ble_eq_true rfl, Nat.le_of_ble_eq_true rfl⟩) (fun w222 H locs hp hH hS => ?_)
                obtain ⟨hX, hk⟩ := hp
                have hK := hK.trans hk
                refine lv_aload_n X.x X.b dJ5_fixAfterInsertion_225 rfl (lv_at hl 0 rfl) ?_
                refine wa_cr hS (wa_rS (rest := []) X hH (mJ5_parentOf  (show At w222 y (eO 19 [.ref (K y), .ref (V y), va_rf ((rtR R L P y x0) y), va_rf ((rtL R P y x0) y), va_rf ((rtP R P y x0) y), .int (zI (C0 y))]) from (hX.nd hyl))  ) (va_cwS 1 X.t (lw_S q905 q906 q118 q907) rfl rfl rfl hdJ5_parentOf.2 ⟨Nat.le_of_ble_eq_true rfl, Nat.le_of_ble_eq_true rfl⟩) rfl rfl hl.1 rfl (Nat.le_of_ble_eq_true rfl) dJ5_fixAfterInsertion_226 ⟨Nat.le_of_ble_eq_true rfl, Nat.le_of_ble_eq_true rfl⟩) (fun r226 w226 H locs hp hH hS => ?_)
                obtain ⟨rfl, hw⟩ := hp
                rw [← hw] at hH; clear hw
                refine wz_opt (q := some x0) (by unfold rtP; exact if_pos rfl) ?_
                refine wz_iconst X.x X.b dJ5_fixAfterInsertion_229 ?_
                refine wa_cv hS (wa_rS (rest := []) X hH (mJ5_setColor hX  1 (show x0 ∈ l by first | assumption | omega) nb1 rfl) (va_cwS 2 X.t (lw_S q917 q918 q118 q919) rfl rfl rfl hdJ5_setColor.2 ⟨Nat.le_of_ble_eq_true rfl, Nat.le_of_ble_eq_true rfl⟩) rfl rfl hl.1 rfl (Nat.le_of_ble_eq_true rfl) dJ5_fixAfterInsertion_230 ⟨Nat.le_of_ble_eq_true rfl, Nat.le_of_ble_eq_true rfl⟩) (fun w230 H locs hp hH hS => ?_)
                obtain ⟨hX, hk⟩ := hp
                have hK := hK.trans hk
                refine lv_aload_n X.x X.b dJ5_fixAfterInsertion_233 rfl (lv_at hl 0 rfl) ?_
                refine wa_cr hS (wa_rS (rest := []) X hH (mJ5_parentOf  (show At w230 y (eO 19 [.ref (K y), .ref (V y), va_rf ((rtR R L P y x0) y), va_rf ((rtL R P y x0) y), va_rf ((rtP R P y x0) y), .int (zI ((nup C0 x0 1) y))]) from (hX.nd hyl))  ) (va_cwS 1 X.t (lw_S q905 q906 q118 q907) rfl rfl rfl hdJ5_parentOf.2 ⟨Nat.le_of_ble_eq_true rfl, Nat.le_of_ble_eq_true rfl⟩) rfl rfl hl.1 rfl (Nat.le_of_ble_eq_true rfl) dJ5_fixAfterInsertion_234 ⟨Nat.le_of_ble_eq_true rfl, Nat.le_of_ble_eq_true rfl⟩) (fun r234 w234 H locs hp hH hS => ?_)
                obtain ⟨rfl, hw⟩ := hp
                rw [← hw] at hH; clear hw
                refine wz_opt (q := some x0) (by unfold rtP; exact if_pos rfl) ?_
                refine wa_cr hS (wa_rS (rest := []) X hH (mJ5_parentOf  (show At w230 x0 (eO 19 [.ref (K x0), .ref (V x0), va_rf ((rtR R L P y x0) x0), va_rf ((rtL R P y x0) x0), va_rf ((rtP R P y x0) x0), .int (zI ((nup C0 x0 1) x0))]) from (hX.nd i5_0))  ) (va_cwS 1 X.t (lw_S q905 q906 q118 q907) rfl rfl rfl hdJ5_parentOf.2 ⟨Nat.le_of_ble_eq_true rfl, Nat.le_of_ble_eq_true rfl⟩) rfl rfl hl.1 rfl (Nat.le_of_ble_eq_true rfl) dJ5_fixAfterInsertion_237 ⟨Nat.le_of_ble_eq_true rfl, Nat.le_of_ble_eq_true rfl⟩) (fun r237 w237 H locs hp hH hS => ?_)
                obtain ⟨rfl, hw⟩ := hp
                rw [← hw] at hH; clear hw
                refine wz_opt (q := some g) (by unfold rtP; rw [if_neg (Ne.symm hyx), if_pos rfl]; exact hg) ?_
                refine wz_iconst X.x X.b dJ5_fixAfterInsertion_240 ?_
                refine wa_cv hS (wa_rS (rest := []) X hH (mJ5_setColor hX  0 (show g ∈ l by first | assumption | omega) nb0 rfl) (va_cwS 2 X.t (lw_S q917 q918 q118 q919) rfl rfl rfl hdJ5_setColor.2 ⟨Nat.le_of_ble_eq_true rfl, Nat.le_of_ble_eq_true rfl⟩) rfl rfl hl.1 rfl (Nat.le_of_ble_eq_true rfl) dJ5_fixAfterInsertion_241 ⟨Nat.le_of_ble_eq_true rfl, Nat.le_of_ble_eq_true rfl⟩) (fun w241 H locs hp hH hS => ?_)
                obtain ⟨hX, hk⟩ := hp
                have hK := hK.trans hk
                have hgu : R g = some y := (show R g = some y from hgk.resolve_left (fun e => c41 (hy.trans e.symm)))
                have hgr : (rtL R P y x0) g = some x0 := by unfold rtL; rw [if_neg hgx, if_pos ⟨hg, hgu⟩]
                refine lv_aload_n X.x X.b dJ5_fixAfterInsertion_244 rfl (lv_at hl 2 rfl) ?_
                refine lv_aload_n X.x X.b dJ5_fixAfterInsertion_245 rfl (lv_at hl 0 rfl) ?_
                refine wa_cr hS (wa_rS (rest := [.ref m]) X hH (mJ5_parentOf  (show At w241 y (eO 19 [.ref (K y), .ref (V y), va_rf ((rtR R L P y x0) y), va_rf ((rtL R P y x0) y), va_rf ((rtP R P y x0) y), .int (zI ((nup (nup C0 x0 1) g 0) y))]) from (hX.nd hyl))  ) (va_cwS 1 X.t (lw_S q905 q906 q118 q907) rfl rfl rfl hdJ5_parentOf.2 ⟨Nat.le_of_ble_eq_true rfl, Nat.le_of_ble_eq_true rfl⟩) rfl rfl hl.1 rfl (Nat.le_of_ble_eq_true rfl) dJ5_fixAfterInsertion_246 ⟨Nat.le_of_ble_eq_true rfl, Nat.le_of_ble_eq_true rfl⟩) (fun r246 w246 H locs hp hH hS => ?_)
                obtain ⟨rfl, hw⟩ := hp
                rw [← hw] at hH; clear hw
                refine wz_opt (q := some x0) (by unfold rtP; exact if_pos rfl) ?_
                refine wa_cr hS (wa_rS (rest := [.ref m]) X hH (mJ5_parentOf  (show At w241 x0 (eO 19 [.ref (K x0), .ref (V x0), va_rf ((rtR R L P y x0) x0), va_rf ((rtL R P y x0) x0), va_rf ((rtP R P y x0) x0), .int (zI ((nup (nup C0 x0 1) g 0) x0))]) from (hX.nd i5_0))  ) (va_cwS 1 X.t (lw_S q905 q906 q118 q907) rfl rfl rfl hdJ5_parentOf.2 ⟨Nat.le_of_ble_eq_true rfl, Nat.le_of_ble_eq_true rfl⟩) rfl rfl hl.1 rfl (Nat.le_of_ble_eq_true rfl) dJ5_fixAfterInsertion_249 ⟨Nat.le_of_ble_eq_true rfl, Nat.le_of_ble_eq_true rfl⟩) (fun r249 w249 H locs hp hH hS => ?_)
                obtain ⟨rfl, hw⟩ := hp
                rw [← hw] at hH; clear hw
                refine wz_opt (q := some g) (by unfold rtP; rw [if_neg (Ne.symm hyx), if_pos rfl]; exact hg) ?_
                refine wa_cv hS (wa_rV (rest := []) X hH (mJ5_rotateLeft hX   hgl hgr ht1 (show l.Nodup by first | assumption | omega)) (cwV 1 X.t (lw_V q920 q922 qs22 q118 q923) rfl rfl rfl hdJ5_rotateLeft ⟨Nat.le_of_ble_eq_true rfl, Nat.le_of_ble_eq_true rfl⟩) rfl (have h9 := (hX.1); h9) rfl rfl hl.1 rfl (Nat.le_of_ble_eq_true rfl) dJ5_fixAfterInsertion_252 ⟨Nat.le_of_ble_eq_true rfl, Nat.le_of_ble_eq_true rfl⟩) (fun w252 H locs hp hH hS => ?_)
                obtain ⟨hX, hk⟩ := hp
                have hK := hK.trans hk
                have ht2 := Tr.rotL (L' := rtL (rtR R L P y x0) (rtP R P y x0) g x0) (R' := rtR (rtR R L P y x0) (rtL R P y x0) (rtP R P y x0) g x0) (P' := rtP (rtR R L P y x0) (rtP R P y x0) g x0) hgr ht1 hn hgl (fun q z => by cases z) (fun n _ => ⟨rfl, rfl, rfl⟩)
                have hmid : ¬ (rtR R L P y x0) x0 = some y := fun e => by
                  unfold rtR at e; rw [if_neg (Ne.symm hyx), if_neg (fun q => by rw [hg] at q; exact hgx (Option.some.inj q.1))] at e
                  exact ht.irr2 hn i5_0 hyl hy ((ht.kid x0 i5_0).2 y e).2
                have hfin : (rtP (rtR R L P y x0) (rtP R P y x0) g x0) y = some x0 := by unfold rtP; rw [if_neg (Ne.symm hgy), if_neg hyx]; exact (if_neg hmid).trans (by first | rfl | exact if_pos rfl)
                refine lv_goto (tgt := 5) X.x X.b dJ5_fixAfterInsertion_255 (by decide) ?_
                refine lv_aload_n X.x X.b dJ5_fixAfterInsertion_5 rfl (lv_at hl 0 rfl) ?_
                refine lv_ifnull X.x X.b dJ5_fixAfterInsertion_6 ?_
                refine lv_aload_n X.x X.b dJ5_fixAfterInsertion_9 rfl (lv_at hl 0 rfl) ?_
                refine lv_aload_n X.x X.b dJ5_fixAfterInsertion_10 rfl (lv_at hl 2 rfl) ?_
                refine wa_get (v := va_rf (if (if ro = some y then some x0 else ro) = some g then some x0 else (if ro = some y then some x0 else ro))) X hH (have h9 := (hX.1); h9) wcJ5 3 (by decide) q237 rfl (fun _ h9 => h9) rfl dJ5_fixAfterInsertion_11 ?_
                refine lv_acmp_eq (rx := some y) (ry := if (if ro = some y then some x0 else ro) = some g then some x0 else (if ro = some y then some x0 else ro)) (tgt := 258) X.x X.b dJ5_fixAfterInsertion_14 (by decide) (fun c14 => ?_) (fun c14 => ?_)
                · obtain ⟨r1, hr1, hr1l⟩ := ht2.hasRoot i5_0
                  refine lv_aload_n X.x X.b dJ5_fixAfterInsertion_258 rfl (lv_at hl 2 rfl) ?_
                  refine wa_get (v := va_rf (if (if ro = some y then some x0 else ro) = some g then some x0 else (if ro = some y then some x0 else ro))) X hH (have h9 := (hX.1); h9) wcJ5 3 (by decide) q237 rfl (fun _ h9 => h9) rfl dJ5_fixAfterInsertion_259 ?_
                  refine wz_opt (q := some r1) (by exact hr1) ?_
                  refine wz_iconst X.x X.b dJ5_fixAfterInsertion_262 ?_
                  refine wa_put X hH hS (have h9 := (hX.nd hr1l); h9) wcJ10 5 (by decide) q798 rfl (fun _ h9 => h9) rfl nb1 rfl (Nat.le_of_ble_eq_true rfl) dJ5_fixAfterInsertion_263 (fun w263 H locs ew hH hS => ?_)
                  have hk : Fr m l w252 w263 := Fr.nd hr1l ew
                  have hX := hX.sC (x := 1) hr1l ew
                  have hK := hK.trans hk
                  clear ew
                  exact wa_vret X hH hS dJ5_fixAfterInsertion_266 ⟨_, _, _, _, _, hX, hK, ht2, (fun r e => by cases hr1.symm.trans e; exact nup_s), (fun n hn1 => by exact br (bl (br (i5_1 n hn1))))⟩
                · refine lv_aload_n X.x X.b dJ5_fixAfterInsertion_17 rfl (lv_at hl 0 rfl) ?_
                  refine wa_get (v := va_rf ((rtP (rtR R L P y x0) (rtP R P y x0) g x0) y)) X hH (have h9 := (hX.nd hyl); h9) wcJ10 4 (by decide) q796 rfl (fun _ h9 => h9) rfl dJ5_fixAfterInsertion_18 ?_
                  refine wz_opt (q := some x0) (by exact hfin) ?_
                  refine wa_get (v := .int (zI ((nup (nup C0 x0 1) g 0) x0))) X hH (have h9 := (hX.nd i5_0); h9) wcJ10 5 (by decide) q798 rfl (fun _ h9 => h9) rfl dJ5_fixAfterInsertion_21 ?_
                  refine wz_is (z := 1) (by rw [nup_n (Ne.symm hgx), nup_s]) ?_
                  refine wz_ifne (tgt := 258) X.x X.b dJ5_fixAfterInsertion_24 (by decide) (by decide) (fun _ => ?_) (fun h => absurd h (by decide))
                  obtain ⟨r1, hr1, hr1l⟩ := ht2.hasRoot i5_0
                  refine lv_aload_n X.x X.b dJ5_fixAfterInsertion_258 rfl (lv_at hl 2 rfl) ?_
                  refine wa_get (v := va_rf (if (if ro = some y then some x0 else ro) = some g then some x0 else (if ro = some y then some x0 else ro))) X hH (have h9 := (hX.1); h9) wcJ5 3 (by decide) q237 rfl (fun _ h9 => h9) rfl dJ5_fixAfterInsertion_259 ?_
                  refine wz_opt (q := some r1) (by exact hr1) ?_
                  refine wz_iconst X.x X.b dJ5_fixAfterInsertion_262 ?_
                  refine wa_put X hH hS (have h9 := (hX.nd hr1l); h9) wcJ10 5 (by decide) q798 rfl (fun _ h9 => h9) rfl nb1 rfl (Nat.le_of_ble_eq_true rfl) dJ5_fixAfterInsertion_263 (fun w263 H locs ew hH hS => ?_)
                  have hk : Fr m l w252 w263 := Fr.nd hr1l ew
                  have hX := hX.sC (x := 1) hr1l ew
                  have hK := hK.trans hk
                  clear ew
                  exact wa_vret X hH hS dJ5_fixAfterInsertion_266 ⟨_, _, _, _, _, hX, hK, ht2, (fun r e => by cases hr1.symm.trans e; exact nup_s), (fun n hn1 => by exact br (bl (br (i5_1 n hn1))))⟩
            · refine wz_opt (q := (some a163)) ho163 ?_
              have hl : lv_has ls 3 [(2, .ref a163), (1, .ref x0), (0, .ref m)] := by rw [ho163] at hl; exact hl
              have hal := ((ht.kid g hgl).2 a163 ho163).1
              refine wa_ci hS (wa_rS (rest := []) X hH (mJ5_colorOf  (show At wl5 a163 (eO 19 [.ref (K a163), .ref (V a163), va_rf (L a163), va_rf (R a163), va_rf (P a163), .int (zI (C0 a163))]) from (hX.nd hal))  (bN (i5_1 _ hal))) (va_cwS 1 X.t (lw_S q914 q915 q118 q916) rfl rfl rfl hdJ5_colorOf.2 ⟨Nat.le_of_ble_eq_true rfl, Nat.le_of_ble_eq_true rfl⟩) rfl rfl hl.1 rfl (Nat.le_of_ble_eq_true rfl) dJ5_fixAfterInsertion_163 ⟨Nat.le_of_ble_eq_true rfl, Nat.le_of_ble_eq_true rfl⟩) (fun z w163 H locs hp hH hS => ?_)
              obtain ⟨rfl, hw⟩ := hp
              rw [← hw] at hH; clear hw
              refine wz_ifne (tgt := 204) X.x X.b dJ5_fixAfterInsertion_166 (by decide) (bI (i5_1 _ hal)) (fun c166 => ?_) (fun c166 => ?_)
              · refine lv_aload_n X.x X.b dJ5_fixAfterInsertion_204 rfl (lv_at hl 1 rfl) ?_
                refine lv_aload_n X.x X.b dJ5_fixAfterInsertion_205 rfl (lv_at hl 1 rfl) ?_
                refine wa_cr hS (wa_rS (rest := [.ref x0]) X hH (mJ5_parentOf  (show At wl5 x0 (eO 19 [.ref (K x0), .ref (V x0), va_rf (L x0), va_rf (R x0), va_rf (P x0), .int (zI (C0 x0))]) from (hX.nd i5_0))  ) (va_cwS 1 X.t (lw_S q905 q906 q118 q907) rfl rfl rfl hdJ5_parentOf.2 ⟨Nat.le_of_ble_eq_true rfl, Nat.le_of_ble_eq_true rfl⟩) rfl rfl hl.1 rfl (Nat.le_of_ble_eq_true rfl) dJ5_fixAfterInsertion_206 ⟨Nat.le_of_ble_eq_true rfl, Nat.le_of_ble_eq_true rfl⟩) (fun r206 w206 H locs hp hH hS => ?_)
                obtain ⟨rfl, hw⟩ := hp
                rw [← hw] at hH; clear hw
                refine wz_opt (q := some y) (by exact hy) ?_
                refine wa_cr hS (wa_rS (rest := [.ref x0]) X hH (mJ5_leftOf  (show At wl5 y (eO 19 [.ref (K y), .ref (V y), va_rf (L y), va_rf (R y), va_rf (P y), .int (zI (C0 y))]) from (hX.nd hyl))  ) (va_cwS 1 X.t (lw_S q908 q909 q118 q910) rfl rfl rfl hdJ5_leftOf.2 ⟨Nat.le_of_ble_eq_true rfl, Nat.le_of_ble_eq_true rfl⟩) rfl rfl hl.1 rfl (Nat.le_of_ble_eq_true rfl) dJ5_fixAfterInsertion_209 ⟨Nat.le_of_ble_eq_true rfl, Nat.le_of_ble_eq_true rfl⟩) (fun r209 w209 H locs hp hH hS => ?_)
                obtain ⟨rfl, hw⟩ := hp
                rw [← hw] at hH; clear hw
                refine lv_acmp_ne (rx := some x0) (ry := (L y)) (tgt := 225) X.x X.b dJ5_fixAfterInsertion_212 (by decide) (fun c212 => ?_) (fun c212 => ?_)
                · refine lv_aload_n X.x X.b dJ5_fixAfterInsertion_225 rfl (lv_at hl 1 rfl) ?_
                  refine wa_cr hS (wa_rS (rest := []) X hH (mJ5_parentOf  (show At wl5 x0 (eO 19 [.ref (K x0), .ref (V x0), va_rf (L x0), va_rf (R x0), va_rf (P x0), .int (zI (C0 x0))]) from (hX.nd i5_0))  ) (va_cwS 1 X.t (lw_S q905 q906 q118 q907) rfl rfl rfl hdJ5_parentOf.2 ⟨Nat.le_of_ble_eq_true rfl, Nat.le_of_ble_eq_true rfl⟩) rfl rfl hl.1 rfl (Nat.le_of_ble_eq_true rfl) dJ5_fixAfterInsertion_226 ⟨Nat.le_of_ble_eq_true rfl, Nat.le_of_ble_eq_true rfl⟩) (fun r226 w226 H locs hp hH hS => ?_)
                  obtain ⟨rfl, hw⟩ := hp
                  rw [← hw] at hH; clear hw
                  refine wz_opt (q := some y) (by exact hy) ?_
                  refine wz_iconst X.x X.b dJ5_fixAfterInsertion_229 ?_
                  refine wa_cv hS (wa_rS (rest := []) X hH (mJ5_setColor hX  1 (show y ∈ l by first | assumption | omega) nb1 rfl) (va_cwS 2 X.t (lw_S q917 q918 q118 q919) rfl rfl rfl hdJ5_setColor.2 ⟨Nat.le_of_ble_eq_true rfl, Nat.le_of_ble_eq_true rfl⟩) rfl rfl hl.1 rfl (Nat.le_of_ble_eq_true rfl) dJ5_fixAfterInsertion_230 ⟨Nat.le_of_ble_eq_true rfl, Nat.le_of_ble_eq_true rfl⟩) (fun w230 H locs hp hH hS => ?_)
                  obtain ⟨hX, hk⟩ := hp
                  have hK := hK.trans hk
                  refine lv_aload_n X.x X.b dJ5_fixAfterInsertion_233 rfl (lv_at hl 1 rfl) ?_
                  refine wa_cr hS (wa_rS (rest := []) X hH (mJ5_parentOf  (show At w230 x0 (eO 19 [.ref (K x0), .ref (V x0), va_rf (L x0), va_rf (R x0), va_rf (P x0), .int (zI ((nup C0 y 1) x0))]) from (hX.nd i5_0))  ) (va_cwS 1 X.t (lw_S q905 q906 q118 q907) rfl rfl rfl hdJ5_parentOf.2 ⟨Nat.le_of_ble_eq_true rfl, Nat.le_of_ble_eq_true rfl⟩) rfl rfl hl.1 rfl (Nat.le_of_ble_eq_true rfl) dJ5_fixAfterInsertion_234 ⟨Nat.le_of_ble_eq_true rfl, Nat.le_of_ble_eq_true rfl⟩) (fun r234 w234 H locs hp hH hS => ?_)
                  obtain ⟨rfl, hw⟩ := hp
                  rw [← hw] at hH; clear hw
                  refine wz_opt (q := some y) (by exact hy) ?_
                  refine wa_cr hS (wa_rS (rest := []) X hH (mJ5_parentOf  (show At w230 y (eO 19 [.ref (K y), .ref (V y), va_rf (L y), va_rf (R y), va_rf (P y), .int (zI ((nup C0 y 1) y))]) from (hX.nd hyl))  ) (va_cwS 1 X.t (lw_S q905 q906 q118 q907) rfl rfl rfl hdJ5_parentOf.2 ⟨Nat.le_of_ble_eq_true rfl, Nat.le_of_ble_eq_true rfl⟩) rfl rfl hl.1 rfl (Nat.le_of_ble_eq_true rfl) dJ5_fixAfterInsertion_237 ⟨Nat.le_of_ble_eq_true rfl, Nat.le_of_ble_eq_true rfl⟩) (fun r237 w237 H locs hp hH hS => ?_)
                  obtain ⟨rfl, hw⟩ := hp
                  rw [← hw] at hH; clear hw
                  refine wz_opt (q := some g) (by exact hg) ?_
                  refine wz_iconst X.x X.b dJ5_fixAfterInsertion_240 ?_
                  refine wa_cv hS (wa_rS (rest := []) X hH (mJ5_setColor hX  0 (show g ∈ l by first | assumption | omega) nb0 rfl) (va_cwS 2 X.t (lw_S q917 q918 q118 q919) rfl rfl rfl hdJ5_setColor.2 ⟨Nat.le_of_ble_eq_true rfl, Nat.le_of_ble_eq_true rfl⟩) rfl rfl hl.1 rfl (Nat.le_of_ble_eq_true rfl) dJ5_fixAfterInsertion_241 ⟨Nat.le_of_ble_eq_true rfl, Nat.le_of_ble_eq_true rfl⟩) (fun w241 H locs hp hH hS => ?_)
                  obtain ⟨hX, hk⟩ := hp
                  have hK := hK.trans hk
                  have hgu : R g = some y := (show R g = some y from hgk.resolve_left (fun e => c41 (hy.trans e.symm)))
                  have hgr := hgu
                  have ht1 := ht
                  refine lv_aload_n X.x X.b dJ5_fixAfterInsertion_244 rfl (lv_at hl 2 rfl) ?_
                  refine lv_aload_n X.x X.b dJ5_fixAfterInsertion_245 rfl (lv_at hl 1 rfl) ?_
                  refine wa_cr hS (wa_rS (rest := [.ref m]) X hH (mJ5_parentOf  (show At w241 x0 (eO 19 [.ref (K x0), .ref (V x0), va_rf (L x0), va_rf (R x0), va_rf (P x0), .int (zI ((nup (nup C0 y 1) g 0) x0))]) from (hX.nd i5_0))  ) (va_cwS 1 X.t (lw_S q905 q906 q118 q907) rfl rfl rfl hdJ5_parentOf.2 ⟨Nat.le_of_ble_eq_true rfl, Nat.le_of_ble_eq_true rfl⟩) rfl rfl hl.1 rfl (Nat.le_of_ble_eq_true rfl) dJ5_fixAfterInsertion_246 ⟨Nat.le_of_ble_eq_true rfl, Nat.le_of_ble_eq_true rfl⟩) (fun r246 w246 H locs hp hH hS => ?_)
                  obtain ⟨rfl, hw⟩ := hp
                  rw [← hw] at hH; clear hw
                  refine wz_opt (q := some y) (by exact hy) ?_
                  refine wa_cr hS (wa_rS (rest := [.ref m]) X hH (mJ5_parentOf  (show At w241 y (eO 19 [.ref (K y), .ref (V y), va_rf (L y), va_rf (R y), va_rf (P y), .int (zI ((nup (nup C0 y 1) g 0) y))]) from (hX.nd hyl))  ) (va_cwS 1 X.t (lw_S q905 q906 q118 q907) rfl rfl rfl hdJ5_parentOf.2 ⟨Nat.le_of_ble_eq_true rfl, Nat.le_of_ble_eq_true rfl⟩) rfl rfl hl.1 rfl (Nat.le_of_ble_eq_true rfl) dJ5_fixAfterInsertion_249 ⟨Nat.le_of_ble_eq_true rfl, Nat.le_of_ble_eq_true rfl⟩) (fun r249 w249 H locs hp hH hS => ?_)
                  obtain ⟨rfl, hw⟩ := hp
                  rw [← hw] at hH; clear hw
                  refine wz_opt (q := some g) (by exact hg) ?_
                  refine wa_cv hS (wa_rV (rest := []) X hH (mJ5_rotateLeft hX   hgl hgr ht1 (show l.Nodup by first | assumption | omega)) (cwV 1 X.t (lw_V q920 q922 qs22 q118 q923) rfl rfl rfl hdJ5_rotateLeft ⟨Nat.le_of_ble_eq_true rfl, Nat.le_of_ble_eq_true rfl⟩) rfl (have h9 := (hX.1); h9) rfl rfl hl.1 rfl (Nat.le_of_ble_eq_true rfl) dJ5_fixAfterInsertion_252 ⟨Nat.le_of_ble_eq_true rfl, Nat.le_of_ble_eq_true rfl⟩) (fun w252 H locs hp hH hS => ?_)
                  obtain ⟨hX, hk⟩ := hp
                  have hK := hK.trans hk
                  have ht2 := Tr.rotL (L' := rtL L P g y) (R' := rtR L R P g y) (P' := rtP L P g y) hgr ht1 hn hgl (fun q z => by cases z) (fun n _ => ⟨rfl, rfl, rfl⟩)
                  have hmid : ¬ L y = some x0 := fun e => c212 e.symm
                  have hfin : (rtP L P g y) x0 = some y := by unfold rtP; rw [if_neg (Ne.symm hgx), if_neg (Ne.symm hyx), if_neg hmid]; exact hy
                  refine lv_goto (tgt := 5) X.x X.b dJ5_fixAfterInsertion_255 (by decide) ?_
                  refine lv_aload_n X.x X.b dJ5_fixAfterInsertion_5 rfl (lv_at hl 1 rfl) ?_
                  refine lv_ifnull X.x X.b dJ5_fixAfterInsertion_6 ?_
                  refine lv_aload_n X.x X.b dJ5_fixAfterInsertion_9 rfl (lv_at hl 1 rfl) ?_
                  refine lv_aload_n X.x X.b dJ5_fixAfterInsertion_10 rfl (lv_at hl 2 rfl) ?_
                  refine wa_get (v := va_rf (if ro = some g then some y else ro)) X hH (have h9 := (hX.1); h9) wcJ5 3 (by decide) q237 rfl (fun _ h9 => h9) rfl dJ5_fixAfterInsertion_11 ?_
                  refine lv_acmp_eq (rx := some x0) (ry := if ro = some g then some y else ro) (tgt := 258) X.x X.b dJ5_fixAfterInsertion_14 (by decide) (fun c14 => ?_) (fun c14 => ?_)
                  · obtain ⟨r1, hr1, hr1l⟩ := ht2.hasRoot i5_0
                    refine lv_aload_n X.x X.b dJ5_fixAfterInsertion_258 rfl (lv_at hl 2 rfl) ?_
                    refine wa_get (v := va_rf (if ro = some g then some y else ro)) X hH (have h9 := (hX.1); h9) wcJ5 3 (by decide) q237 rfl (fun _ h9 => h9) rfl dJ5_fixAfterInsertion_259 ?_
                    refine wz_opt (q := some r1) (by exact hr1) ?_
                    refine wz_iconst X.x X.b dJ5_fixAfterInsertion_262 ?_
                    refine wa_put X hH hS (have h9 := (hX.nd hr1l); h9) wcJ10 5 (by decide) q798 rfl (fun _ h9 => h9) rfl nb1 rfl (Nat.le_of_ble_eq_true rfl) dJ5_fixAfterInsertion_263 (fun w263 H locs ew hH hS => ?_)
                    have hk : Fr m l w252 w263 := Fr.nd hr1l ew
                    have hX := hX.sC (x := 1) hr1l ew
                    have hK := hK.trans hk
                    clear ew
                    exact wa_vret X hH hS dJ5_fixAfterInsertion_266 ⟨_, _, _, _, _, hX, hK, ht2, (fun r e => by cases hr1.symm.trans e; exact nup_s), (fun n hn1 => by exact br (bl (br (i5_1 n hn1))))⟩
                  · refine lv_aload_n X.x X.b dJ5_fixAfterInsertion_17 rfl (lv_at hl 1 rfl) ?_
                    refine wa_get (v := va_rf ((rtP L P g y) x0)) X hH (have h9 := (hX.nd i5_0); h9) wcJ10 4 (by decide) q796 rfl (fun _ h9 => h9) rfl dJ5_fixAfterInsertion_18 ?_
                    refine wz_opt (q := some y) (by exact hfin) ?_
                    refine wa_get (v := .int (zI ((nup (nup C0 y 1) g 0) y))) X hH (have h9 := (hX.nd hyl); h9) wcJ10 5 (by decide) q798 rfl (fun _ h9 => h9) rfl dJ5_fixAfterInsertion_21 ?_
                    refine wz_is (z := 1) (by rw [nup_n (Ne.symm hgy), nup_s]) ?_
                    refine wz_ifne (tgt := 258) X.x X.b dJ5_fixAfterInsertion_24 (by decide) (by decide) (fun _ => ?_) (fun h => absurd h (by decide))
                    obtain ⟨r1, hr1, hr1l⟩ := ht2.hasRoot i5_0
                    refine lv_aload_n X.x X.b dJ5_fixAfterInsertion_258 rfl (lv_at hl 2 rfl) ?_
                    refine wa_get (v := va_rf (if ro = some g then some y else ro)) X hH (have h9 := (hX.1); h9) wcJ5 3 (by decide) q237 rfl (fun _ h9 => h9) rfl dJ5_fixAfterInsertion_259 ?_
                    refine wz_opt (q := some r1) (by exact hr1) ?_
                    refine wz_iconst X.x X.b dJ5_fixAfterInsertion_262 ?_
                    refine wa_put X hH hS (have h9 := (hX.nd hr1l); h9) wcJ10 5 (by decide) q798 rfl (fun _ h9 => h9) rfl nb1 rfl (Nat.le_of_ble_eq_true rfl) dJ5_fixAfterInsertion_263 (fun w263 H locs ew hH hS => ?_)
                    have hk : Fr m l w252 w263 := Fr.nd hr1l ew
                    have hX := hX.sC (x := 1) hr1l ew
                    have hK := hK.trans hk
                    clear ew
                    exact wa_vret X hH hS dJ5_fixAfterInsertion_266 ⟨_, _, _, _, _, hX, hK, ht2, (fun r e => by cases hr1.symm.trans e; exact nup_s), (fun n hn1 => by exact br (bl (br (i5_1 n hn1))))⟩
                · refine lv_aload_n X.x X.b dJ5_fixAfterInsertion_215 rfl (lv_at hl 1 rfl) ?_
                  refine wa_cr hS (wa_rS (rest := []) X hH (mJ5_parentOf  (show At wl5 x0 (eO 19 [.ref (K x0), .ref (V x0), va_rf (L x0), va_rf (R x0), va_rf (P x0), .int (zI (C0 x0))]) from (hX.nd i5_0))  ) (va_cwS 1 X.t (lw_S q905 q906 q118 q907) rfl rfl rfl hdJ5_parentOf.2 ⟨Nat.le_of_ble_eq_true rfl, Nat.le_of_ble_eq_true rfl⟩) rfl rfl hl.1 rfl (Nat.le_of_ble_eq_true rfl) dJ5_fixAfterInsertion_216 ⟨Nat.le_of_ble_eq_true rfl, Nat.le_of_ble_eq_true rfl⟩) (fun r216 w216 H locs hp hH hS => ?_)
                  obtain ⟨rfl, hw⟩ := hp
                  rw [← hw] at hH; clear hw
                  refine wz_opt (q := some y) (by exact hy) ?_
                  refine lv_astore_n (lv' := [(1, .ref y), (2, .ref a163), (0, .ref m)]) X.x X.b dJ5_fixAfterInsertion_219 rfl hl (by decide) rfl (fun ls hl => ?_)
                  have hxr : L y = some x0 := c212.symm
                  have ht1 := Tr.rotR (R' := rtL R P y x0) (L' := rtR R L P y x0) (P' := rtP R P y x0) hxr ht hn hyl (fun q z => by cases z) (fun n _ => ⟨rfl, rfl, rfl⟩)
                  refine lv_aload_n X.x X.b dJ5_fixAfterInsertion_220 rfl (lv_at hl 2 rfl) ?_
                  refine lv_aload_n X.x X.b dJ5_fixAfterInsertion_221 rfl (lv_at hl 0 rfl) ?_
                  refine wa_cv hS (wa_rV (rest := []) X hH (mJ5_rotateRight hX   hyl hxr (show Tr L R P ro none l by first | assumption | omega) (show l.Nodup by first | assumption | omega)) (cwV 1 X.t (lw_V q924 q926 qs23 q118 q927) rfl rfl rfl hdJ5_rotateRight ⟨Nat.le_of_ble_eq_true rfl, Nat.le_of_ble_eq_true rfl⟩) rfl (have h9 := (hX.1); h9) rfl rfl hl.1 rfl (Nat.le_of_ble_eq_true rfl) dJ5_fixAfterInsertion_222 ⟨Nat.le_of_ble_eq_true rfl, Nat.le_of_ble_eq_true rfl⟩) (fun w222 H locs hp hH hS => ?_)
                  obtain ⟨hX, hk⟩ := hp
                  have hK := hK.trans hk
                  refine lv_aload_n X.x X.b dJ5_fixAfterInsertion_225 rfl (lv_at hl 0 rfl) ?_
                  refine wa_cr hS (wa_rS (rest := []) X hH (mJ5_parentOf  (show At w222 y (eO 19 [.ref (K y), .ref (V y), va_rf ((rtR R L P y x0) y), va_rf ((rtL R P y x0) y), va_rf ((rtP R P y x0) y), .int (zI (C0 y))]) from (hX.nd hyl))  ) (va_cwS 1 X.t (lw_S q905 q906 q118 q907) rfl rfl rfl hdJ5_parentOf.2 ⟨Nat.le_of_ble_eq_true rfl, Nat.le_of_ble_eq_true rfl⟩) rfl rfl hl.1 rfl (Nat.le_of_ble_eq_true rfl) dJ5_fixAfterInsertion_226 ⟨Nat.le_of_ble_eq_true rfl, Nat.le_of_ble_eq_true rfl⟩) (fun r226 w226 H locs hp hH hS => ?_)
                  obtain ⟨rfl, hw⟩ := hp
                  rw [← hw] at hH; clear hw
                  refine wz_opt (q := some x0) (by unfold rtP; exact if_pos rfl) ?_
                  refine wz_iconst X.x X.b dJ5_fixAfterInsertion_229 ?_
                  refine wa_cv hS (wa_rS (rest := []) X hH (mJ5_setColor hX  1 (show x0 ∈ l by first | assumption | omega) nb1 rfl) (va_cwS 2 X.t (lw_S q917 q918 q118 q919) rfl rfl rfl hdJ5_setColor.2 ⟨Nat.le_of_ble_eq_true rfl, Nat.le_of_ble_eq_true rfl⟩) rfl rfl hl.1 rfl (Nat.le_of_ble_eq_true rfl) dJ5_fixAfterInsertion_230 ⟨Nat.le_of_ble_eq_true rfl, Nat.le_of_ble_eq_true rfl⟩) (fun w230 H locs hp hH hS => ?_)
                  obtain ⟨hX, hk⟩ := hp
                  have hK := hK.trans hk
                  refine lv_aload_n X.x X.b dJ5_fixAfterInsertion_233 rfl (lv_at hl 0 rfl) ?_
                  refine wa_cr hS (wa_rS (rest := []) X hH (mJ5_parentOf  (show At w230 y (eO 19 [.ref (K y), .ref (V y), va_rf ((rtR R L P y x0) y), va_rf ((rtL R P y x0) y), va_rf ((rtP R P y x0) y), .int (zI ((nup C0 x0 1) y))]) from (hX.nd hyl))  ) (va_cwS 1 X.t (lw_S q905 q906 q118 q907) rfl rfl rfl hdJ5_parentOf.2 ⟨Nat.le_of_ble_eq_true rfl, Nat.le_of_ble_eq_true rfl⟩) rfl rfl hl.1 rfl (Nat.le_of_ble_eq_true rfl) dJ5_fixAfterInsertion_234 ⟨Nat.le_of_ble_eq_true rfl, Nat.le_of_ble_eq_true rfl⟩) (fun r234 w234 H locs hp hH hS => ?_)
                  obtain ⟨rfl, hw⟩ := hp
                  rw [← hw] at hH; clear hw
                  refine wz_opt (q := some x0) (by unfold rtP; exact if_pos rfl) ?_
                  refine wa_cr hS (wa_rS (rest := []) X hH (mJ5_parentOf  (show At w230 x0 (eO 19 [.ref (K x0), .ref (V x0), va_rf ((rtR R L P y x0) x0), va_rf ((rtL R P y x0) x0), va_rf ((rtP R P y x0) x0), .int (zI ((nup C0 x0 1) x0))]) from (hX.nd i5_0))  ) (va_cwS 1 X.t (lw_S q905 q906 q118 q907) rfl rfl rfl hdJ5_parentOf.2 ⟨Nat.le_of_ble_eq_true rfl, Nat.le_of_ble_eq_true rfl⟩) rfl rfl hl.1 rfl (Nat.le_of_ble_eq_true rfl) dJ5_fixAfterInsertion_237 ⟨Nat.le_of_ble_eq_true rfl, Nat.le_of_ble_eq_true rfl⟩) (fun r237 w237 H locs hp hH hS => ?_)
                  obtain ⟨rfl, hw⟩ := hp
                  rw [← hw] at hH; clear hw
                  refine wz_opt (q := some g) (by unfold rtP; rw [if_neg (Ne.symm hyx), if_pos rfl]; exact hg) ?_
                  refine wz_iconst X.x X.b dJ5_fixAfterInsertion_240 ?_
                  refine wa_cv hS (wa_rS (rest := []) X hH (mJ5_setColor hX  0 (show g ∈ l by first | assumption | omega) nb0 rfl) (va_cwS 2 X.t (lw_S q917 q918 q118 q919) rfl rfl rfl hdJ5_setColor.2 ⟨Nat.le_of_ble_eq_true rfl, Nat.le_of_ble_eq_true rfl⟩) rfl rfl hl.1 rfl (Nat.le_of_ble_eq_true rfl) dJ5_fixAfterInsertion_241 ⟨Nat.le_of_ble_eq_true rfl, Nat.le_of_ble_eq_true rfl⟩) (fun w241 H locs hp hH hS => ?_)
                  obtain ⟨hX, hk⟩ := hp
                  have hK := hK.trans hk
                  have hgu : R g = some y := (show R g = some y from hgk.resolve_left (fun e => c41 (hy.trans e.symm)))
                  have hgr : (rtL R P y x0) g = some x0 := by unfold rtL; rw [if_neg hgx, if_pos ⟨hg, hgu⟩]
                  refine lv_aload_n X.x X.b dJ5_fixAfterInsertion_244 rfl (lv_at hl 2 rfl) ?_
                  refine lv_aload_n X.x X.b dJ5_fixAfterInsertion_245 rfl (lv_at hl 0 rfl) ?_
                  refine wa_cr hS (wa_rS (rest := [.ref m]) X hH (mJ5_parentOf  (show At w241 y (eO 19 [.ref (K y), .ref (V y), va_rf ((rtR R L P y x0) y), va_rf ((rtL R P y x0) y), va_rf ((rtP R P y x0) y), .int (zI ((nup (nup C0 x0 1) g 0) y))]) from (hX.nd hyl))  ) (va_cwS 1 X.t (lw_S q905 q906 q118 q907) rfl rfl rfl hdJ5_parentOf.2 ⟨Nat.le_of_ble_eq_true rfl, Nat.le_of_ble_eq_true rfl⟩) rfl rfl hl.1 rfl (Nat.le_of_ble_eq_true rfl) dJ5_fixAfterInsertion_246 ⟨Nat.le_of_ble_eq_true rfl, Nat.le_of_ble_eq_true rfl⟩) (fun r246 w246 H locs hp hH hS => ?_)
                  obtain ⟨rfl, hw⟩ := hp
                  rw [← hw] at hH; clear hw
                  refine wz_opt (q := some x0) (by unfold rtP; exact if_pos rfl) ?_
                  refine wa_cr hS (wa_rS (rest := [.ref m]) X hH (mJ5_parentOf  (show At w241 x0 (eO 19 [.ref (K x0), .ref (V x0), va_rf ((rtR R L P y x0) x0), va_rf ((rtL R P y x0) x0), va_rf ((rtP R P y x0) x0), .int (zI ((nup (nup C0 x0 1) g 0) x0))]) from (hX.nd i5_0))  ) (va_cwS 1 X.t (lw_S q905 q906 q118 q907) rfl rfl rfl hdJ5_parentOf.2 ⟨Nat.le_of_ble_eq_true rfl, Nat.le_of_ble_eq_true rfl⟩) rfl rfl hl.1 rfl (Nat.le_of_ble_eq_true rfl) dJ5_fixAfterInsertion_249 ⟨Nat.le_of_ble_eq_true rfl, Nat.le_of_ble_eq_true rfl⟩) (fun r249 w249 H locs hp hH hS => ?_)
                  obtain ⟨rfl, hw⟩ := hp
                  rw [← hw] at hH; clear hw
                  refine wz_opt (q := some g) (by unfold rtP; rw [if_neg (Ne.symm hyx), if_pos rfl]; exact hg) ?_
                  refine wa_cv hS (wa_rV (rest := []) X hH (mJ5_rotateLeft hX   hgl hgr ht1 (show l.Nodup by first | assumption | omega)) (cwV 1 X.t (lw_V q920 q922 qs22 q118 q923) rfl rfl rfl hdJ5_rotateLeft ⟨Nat.le_of_ble_eq_true rfl, Nat.le_of_ble_eq_true rfl⟩) rfl (have h9 := (hX.1); h9) rfl rfl hl.1 rfl (Nat.le_of_ble_eq_true rfl) dJ5_fixAfterInsertion_252 ⟨Nat.le_of_ble_eq_true rfl, Nat.le_of_ble_eq_true rfl⟩) (fun w252 H locs hp hH hS => ?_)
                  obtain ⟨hX, hk⟩ := hp
                  have hK := hK.trans hk
                  have ht2 := Tr.rotL (L' := rtL (rtR R L P y x0) (rtP R P y x0) g x0) (R' := rtR (rtR R L P y x0) (rtL R P y x0) (rtP R P y x0) g x0) (P' := rtP (rtR R L P y x0) (rtP R P y x0) g x0) hgr ht1 hn hgl (fun q z => by cases z) (fun n _ => ⟨rfl, rfl, rfl⟩)
                  have hmid : ¬ (rtR R L P y x0) x0 = some y := fun e => by
                    unfold rtR at e; rw [if_neg (Ne.symm hyx), if_neg (fun q => by rw [hg] at q; exact hgx (Option.some.inj q.1))] at e
                    exact ht.irr2 hn i5_0 hyl hy ((ht.kid x0 i5_0).2 y e).2
                  have hfin : (rtP (rtR R L P y x0) (rtP R P y x0) g x0) y = some x0 := by unfold rtP; rw [if_neg (Ne.symm hgy), if_neg hyx]; exact (if_neg hmid).trans (by first | rfl | exact if_pos rfl)
                  refine lv_goto (tgt := 5) X.x X.b dJ5_fixAfterInsertion_255 (by decide) ?_
                  refine lv_aload_n X.x X.b dJ5_fixAfterInsertion_5 rfl (lv_at hl 0 rfl) ?_
                  refine lv_ifnull X.x X.b dJ5_fixAfterInsertion_6 ?_
                  refine lv_aload_n X.x X.b dJ5_fixAfterInsertion_9 rfl (lv_at hl 0 rfl) ?_
                  refine lv_aload_n X.x X.b dJ5_fixAfterInsertion_10 rfl (lv_at hl 2 rfl) ?_
                  refine wa_get (v := va_rf (if (if ro = some y then some x0 else ro) = some g then some x0 else (if ro = some y then some x0 else ro))) X hH (have h9 := (hX.1); h9) wcJ5 3 (by decide) q237 rfl (fun _ h9 => h9) rfl dJ5_fixAfterInsertion_11 ?_
                  refine lv_acmp_eq (rx := some y) (ry := if (if ro = some y then some x0 else ro) = some g then some x0 else (if ro = some y then some x0 else ro)) (tgt := 258) X.x X.b dJ5_fixAfterInsertion_14 (by decide) (fun c14 => ?_) (fun c14 => ?_)
                  · obtain ⟨r1, hr1, hr1l⟩ := ht2.hasRoot i5_0
                    refine lv_aload_n X.x X.b dJ5_fixAfterInsertion_258 rfl (lv_at hl 2 rfl) ?_
                    refine wa_get (v := va_rf (if (if ro = some y then some x0 else ro) = some g then some x0 else (if ro = some y then some x0 else ro))) X hH (have h9 := (hX.1); h9) wcJ5 3 (by decide) q237 rfl (fun _ h9 => h9) rfl dJ5_fixAfterInsertion_259 ?_
                    refine wz_opt (q := some r1) (by exact hr1) ?_
                    refine wz_iconst X.x X.b dJ5_fixAfterInsertion_262 ?_
                    refine wa_put X hH hS (have h9 := (hX.nd hr1l); h9) wcJ10 5 (by decide) q798 rfl (fun _ h9 => h9) rfl nb1 rfl (Nat.le_of_ble_eq_true rfl) dJ5_fixAfterInsertion_263 (fun w263 H locs ew hH hS => ?_)
                    have hk : Fr m l w252 w263 := Fr.nd hr1l ew
                    have hX := hX.sC (x := 1) hr1l ew
                    have hK := hK.trans hk
                    clear ew
                    exact wa_vret X hH hS dJ5_fixAfterInsertion_266 ⟨_, _, _, _, _, hX, hK, ht2, (fun r e => by cases hr1.symm.trans e; exact nup_s), (fun n hn1 => by exact br (bl (br (i5_1 n hn1))))⟩
                  · refine lv_aload_n X.x X.b dJ5_fixAfterInsertion_17 rfl (lv_at hl 0 rfl) ?_
                    refine wa_get (v := va_rf ((rtP (rtR R L P y x0) (rtP R P y x0) g x0) y)) X hH (have h9 := (hX.nd hyl); h9) wcJ10 4 (by decide) q796 rfl (fun _ h9 => h9) rfl dJ5_fixAfterInsertion_18 ?_
                    refine wz_opt (q := some x0) (by exact hfin) ?_
                    refine wa_get (v := .int (zI ((nup (nup C0 x0 1) g 0) x0))) X hH (have h9 := (hX.nd i5_0); h9) wcJ10 5 (by decide) q798 rfl (fun _ h9 => h9) rfl dJ5_fixAfterInsertion_21 ?_
                    refine wz_is (z := 1) (by rw [nup_n (Ne.symm hgx), nup_s]) ?_
                    refine wz_ifne (tgt := 258) X.x X.b dJ5_fixAfterInsertion_24 (by decide) (by decide) (fun _ => ?_) (fun h => absurd h (by decide))
                    obtain ⟨r1, hr1, hr1l⟩ := ht2.hasRoot i5_0
                    refine lv_aload_n X.x X.b dJ5_fixAfterInsertion_258 rfl (lv_at hl 2 rfl) ?_
                    refine wa_get (v := va_rf (if (if ro = some y then some x0 else ro) = some g then some x0 else (if ro = some y then some x0 else ro))) X hH (have h9 := (hX.1); h9) wcJ5 3 (by decide) q237 rfl (fun _ h9 => h9) rfl dJ5_fixAfterInsertion_259 ?_
                    refine wz_opt (q := some r1) (by exact hr1) ?_
                    refine wz_iconst X.x X.b dJ5_fixAfterInsertion_262 ?_
                    refine wa_put X hH hS (have h9 := (hX.nd hr1l); h9) wcJ10 5 (by decide) q798 rfl (fun _ h9 => h9) rfl nb1 rfl (Nat.le_of_ble_eq_true rfl) dJ5_fixAfterInsertion_263 (fun w263 H locs ew hH hS => ?_)
                    have hk : Fr m l w252 w263 := Fr.nd hr1l ew
                    have hX := hX.sC (x := 1) hr1l ew
                    have hK := hK.trans hk
                    clear ew
                    exact wa_vret X hH hS dJ5_fixAfterInsertion_266 ⟨_, _, _, _, _, hX, hK, ht2, (fun r e => by cases hr1.symm.trans e; exact nup_s), (fun n hn1 => by exact br (bl (br (i5_1 n hn1))))⟩
              · refine lv_aload_n X.x X.b dJ5_fixAfterInsertion_169 rfl (lv_at hl 1 rfl) ?_
                refine wa_cr hS (wa_rS (rest := []) X hH (mJ5_parentOf  (show At wl5 x0 (eO 19 [.ref (K x0), .ref (V x0), va_rf (L x0), va_rf (R x0), va_rf (P x0), .int (zI (C0 x0))]) from (hX.nd i5_0))  ) (va_cwS 1 X.t (lw_S q905 q906 q118 q907) rfl rfl rfl hdJ5_parentOf.2 ⟨Nat.le_of_ble_eq_true rfl, Nat.le_of_ble_eq_true rfl⟩) rfl rfl hl.1 rfl (Nat.le_of_ble_eq_true rfl) dJ5_fixAfterInsertion_170 ⟨Nat.le_of_ble_eq_true rfl, Nat.le_of_ble_eq_true rfl⟩) (fun r170 w170 H locs hp hH hS => ?_)
                obtain ⟨rfl, hw⟩ := hp
                rw [← hw] at hH; clear hw
                refine wz_opt (q := some y) (by exact hy) ?_
                refine wz_iconst X.x X.b dJ5_fixAfterInsertion_173 ?_
                refine wa_cv hS (wa_rS (rest := []) X hH (mJ5_setColor hX  1 (show y ∈ l by first | assumption | omega) nb1 rfl) (va_cwS 2 X.t (lw_S q917 q918 q118 q919) rfl rfl rfl hdJ5_setColor.2 ⟨Nat.le_of_ble_eq_true rfl, Nat.le_of_ble_eq_true rfl⟩) rfl rfl hl.1 rfl (Nat.le_of_ble_eq_true rfl) dJ5_fixAfterInsertion_174 ⟨Nat.le_of_ble_eq_true rfl, Nat.le_of_ble_eq_true rfl⟩) (fun w174 H locs hp hH hS => ?_)
                obtain ⟨hX, hk⟩ := hp
                have hK := hK.trans hk
                refine lv_aload_n X.x X.b dJ5_fixAfterInsertion_177 rfl (lv_at hl 0 rfl) ?_
                refine wz_iconst X.x X.b dJ5_fixAfterInsertion_178 ?_
                refine wa_cv hS (wa_rS (rest := []) X hH (mJ5_setColor hX  1 (show a163 ∈ l by first | assumption | omega) nb1 rfl) (va_cwS 2 X.t (lw_S q917 q918 q118 q919) rfl rfl rfl hdJ5_setColor.2 ⟨Nat.le_of_ble_eq_true rfl, Nat.le_of_ble_eq_true rfl⟩) rfl rfl hl.1 rfl (Nat.le_of_ble_eq_true rfl) dJ5_fixAfterInsertion_179 ⟨Nat.le_of_ble_eq_true rfl, Nat.le_of_ble_eq_true rfl⟩) (fun w179 H locs hp hH hS => ?_)
                obtain ⟨hX, hk⟩ := hp
                have hK := hK.trans hk
                refine lv_aload_n X.x X.b dJ5_fixAfterInsertion_182 rfl (lv_at hl 1 rfl) ?_
                refine wa_cr hS (wa_rS (rest := []) X hH (mJ5_parentOf  (show At w179 x0 (eO 19 [.ref (K x0), .ref (V x0), va_rf (L x0), va_rf (R x0), va_rf (P x0), .int (zI ((nup (nup C0 y 1) a163 1) x0))]) from (hX.nd i5_0))  ) (va_cwS 1 X.t (lw_S q905 q906 q118 q907) rfl rfl rfl hdJ5_parentOf.2 ⟨Nat.le_of_ble_eq_true rfl, Nat.le_of_ble_eq_true rfl⟩) rfl rfl hl.1 rfl (Nat.le_of_ble_eq_true rfl) dJ5_fixAfterInsertion_183 ⟨Nat.le_of_ble_eq_true rfl, Nat.le_of_ble_eq_true rfl⟩) (fun r183 w183 H locs hp hH hS => ?_)
                obtain ⟨rfl, hw⟩ := hp
                rw [← hw] at hH; clear hw
                refine wz_opt (q := some y) (by exact hy) ?_
                refine wa_cr hS (wa_rS (rest := []) X hH (mJ5_parentOf  (show At w179 y (eO 19 [.ref (K y), .ref (V y), va_rf (L y), va_rf (R y), va_rf (P y), .int (zI ((nup (nup C0 y 1) a163 1) y))]) from (hX.nd hyl))  ) (va_cwS 1 X.t (lw_S q905 q906 q118 q907) rfl rfl rfl hdJ5_parentOf.2 ⟨Nat.le_of_ble_eq_true rfl, Nat.le_of_ble_eq_true rfl⟩) rfl rfl hl.1 rfl (Nat.le_of_ble_eq_true rfl) dJ5_fixAfterInsertion_186 ⟨Nat.le_of_ble_eq_true rfl, Nat.le_of_ble_eq_true rfl⟩) (fun r186 w186 H locs hp hH hS => ?_)
                obtain ⟨rfl, hw⟩ := hp
                rw [← hw] at hH; clear hw
                refine wz_opt (q := some g) (by exact hg) ?_
                refine wz_iconst X.x X.b dJ5_fixAfterInsertion_189 ?_
                refine wa_cv hS (wa_rS (rest := []) X hH (mJ5_setColor hX  0 (show g ∈ l by first | assumption | omega) nb0 rfl) (va_cwS 2 X.t (lw_S q917 q918 q118 q919) rfl rfl rfl hdJ5_setColor.2 ⟨Nat.le_of_ble_eq_true rfl, Nat.le_of_ble_eq_true rfl⟩) rfl rfl hl.1 rfl (Nat.le_of_ble_eq_true rfl) dJ5_fixAfterInsertion_190 ⟨Nat.le_of_ble_eq_true rfl, Nat.le_of_ble_eq_true rfl⟩) (fun w190 H locs hp hH hS => ?_)
                obtain ⟨hX, hk⟩ := hp
                have hK := hK.trans hk
                refine lv_aload_n X.x X.b dJ5_fixAfterInsertion_193 rfl (lv_at hl 1 rfl) ?_
                refine wa_cr hS (wa_rS (rest := []) X hH (mJ5_parentOf  (show At w190 x0 (eO 19 [.ref (K x0), .ref (V x0), va_rf (L x0), va_rf (R x0), va_rf (P x0), .int (zI ((nup (nup (nup C0 y 1) a163 1) g 0) x0))]) from (hX.nd i5_0))  ) (va_cwS 1 X.t (lw_S q905 q906 q118 q907) rfl rfl rfl hdJ5_parentOf.2 ⟨Nat.le_of_ble_eq_true rfl, Nat.le_of_ble_eq_true rfl⟩) rfl rfl hl.1 rfl (Nat.le_of_ble_eq_true rfl) dJ5_fixAfterInsertion_194 ⟨Nat.le_of_ble_eq_true rfl, Nat.le_of_ble_eq_true rfl⟩) (fun r194 w194 H locs hp hH hS => ?_)
                obtain ⟨rfl, hw⟩ := hp
                rw [← hw] at hH; clear hw
                refine wz_opt (q := some y) (by exact hy) ?_
                refine wa_cr hS (wa_rS (rest := []) X hH (mJ5_parentOf  (show At w190 y (eO 19 [.ref (K y), .ref (V y), va_rf (L y), va_rf (R y), va_rf (P y), .int (zI ((nup (nup (nup C0 y 1) a163 1) g 0) y))]) from (hX.nd hyl))  ) (va_cwS 1 X.t (lw_S q905 q906 q118 q907) rfl rfl rfl hdJ5_parentOf.2 ⟨Nat.le_of_ble_eq_true rfl, Nat.le_of_ble_eq_true rfl⟩) rfl rfl hl.1 rfl (Nat.le_of_ble_eq_true rfl) dJ5_fixAfterInsertion_197 ⟨Nat.le_of_ble_eq_true rfl, Nat.le_of_ble_eq_true rfl⟩) (fun r197 w197 H locs hp hH hS => ?_)
                obtain ⟨rfl, hw⟩ := hp
                rw [← hw] at hH; clear hw
                refine wz_opt (q := some g) (by exact hg) ?_
                refine lv_astore_n (lv' := [(1, .ref g), (2, .ref a163), (0, .ref m)]) X.x X.b dJ5_fixAfterInsertion_200 rfl hl (by decide) rfl (fun ls hl => ?_)
                refine lv_goto (tgt := 255) X.x X.b dJ5_fixAfterInsertion_201 (by decide) ?_
                refine lv_goto (tgt := 5) X.x X.b dJ5_fixAfterInsertion_255 (by decide) ?_
                exact ih5 _ (by have e1 := (hd x0 i5_0).2 y hy hyl; have e2 := (hd y hyl).2 g hg hgl; omega) g (nup (nup (nup C0 y 1) a163 1) g 0) rfl (by exact hgl) (by intro n q; exact bl (br (br (i5_1 n q)))) (by intro r e; by_cases z : r = g; exact Or.inr z; exact Or.inl (by rw [nup_n z]; exact b1 (b1 ((i5_2 r e).resolve_right (fun z2 => c14 (by rw [← z2]; exact e.symm)))))) _ _ _ _ hX hK  hH hS (lv_sub hl [0, 2] rfl)
          · refine lv_aload_n X.x X.b dJ5_fixAfterInsertion_44 rfl (lv_at hl 0 rfl) ?_
            refine wa_cr hS (wa_rS (rest := []) X hH (mJ5_parentOf  (show At wl5 x0 (eO 19 [.ref (K x0), .ref (V x0), va_rf (L x0), va_rf (R x0), va_rf (P x0), .int (zI (C0 x0))]) from (hX.nd i5_0))  ) (va_cwS 1 X.t (lw_S q905 q906 q118 q907) rfl rfl rfl hdJ5_parentOf.2 ⟨Nat.le_of_ble_eq_true rfl, Nat.le_of_ble_eq_true rfl⟩) rfl rfl hl.1 rfl (Nat.le_of_ble_eq_true rfl) dJ5_fixAfterInsertion_45 ⟨Nat.le_of_ble_eq_true rfl, Nat.le_of_ble_eq_true rfl⟩) (fun r45 w45 H locs hp hH hS => ?_)
            obtain ⟨rfl, hw⟩ := hp
            rw [← hw] at hH; clear hw
            refine wz_opt (q := some y) (by exact hy) ?_
            refine wa_cr hS (wa_rS (rest := []) X hH (mJ5_parentOf  (show At wl5 y (eO 19 [.ref (K y), .ref (V y), va_rf (L y), va_rf (R y), va_rf (P y), .int (zI (C0 y))]) from (hX.nd hyl))  ) (va_cwS 1 X.t (lw_S q905 q906 q118 q907) rfl rfl rfl hdJ5_parentOf.2 ⟨Nat.le_of_ble_eq_true rfl, Nat.le_of_ble_eq_true rfl⟩) rfl rfl hl.1 rfl (Nat.le_of_ble_eq_true rfl) dJ5_fixAfterInsertion_48 ⟨Nat.le_of_ble_eq_true rfl, Nat.le_of_ble_eq_true rfl⟩) (fun r48 w48 H locs hp hH hS => ?_)
            obtain ⟨rfl, hw⟩ := hp
            rw [← hw] at hH; clear hw
            refine wz_opt (q := some g) (by exact hg) ?_
            refine wa_cr hS (wa_rS (rest := []) X hH (mJ5_rightOf  (show At wl5 g (eO 19 [.ref (K g), .ref (V g), va_rf (L g), va_rf (R g), va_rf (P g), .int (zI (C0 g))]) from (hX.nd hgl))  ) (va_cwS 1 X.t (lw_S q911 q912 q118 q913) rfl rfl rfl hdJ5_rightOf.2 ⟨Nat.le_of_ble_eq_true rfl, Nat.le_of_ble_eq_true rfl⟩) rfl rfl hl.1 rfl (Nat.le_of_ble_eq_true rfl) dJ5_fixAfterInsertion_51 ⟨Nat.le_of_ble_eq_true rfl, Nat.le_of_ble_eq_true rfl⟩) (fun r51 w51 H locs hp hH hS => ?_)
            obtain ⟨rfl, hw⟩ := hp
            rw [← hw] at hH; clear hw
            refine lv_astore_nO (lv' := [(2, va_rf (R g)), (1, .ref x0), (0, .ref m)]) X.x X.b dJ5_fixAfterInsertion_54 rfl hl (by decide) rfl (fun ls hl => ?_)
            refine lv_aload_nO X.x X.b dJ5_fixAfterInsertion_55 rfl (lv_at hl 0 rfl) ?_
            rcases xo_cases ((R g)) with ho56 | ⟨a56, ho56⟩
            · refine wz_opt (q := none) ho56 ?_
              have hl : lv_has ls 3 [(2, .null), (1, .ref x0), (0, .ref m)] := by rw [ho56] at hl; exact hl
              refine wa_ci hS (wa_rS (rest := []) X hH (mJ5_colorOf_N _   (n := none) rfl) (va_cwS 1 X.t (lw_S q914 q915 q118 q916) rfl rfl rfl hdJ5_colorOf.2 ⟨Nat.le_of_ble_eq_true rfl, Nat.le_of_ble_eq_true rfl⟩) rfl rfl hl.1 rfl (Nat.le_of_ble_eq_true rfl) dJ5_fixAfterInsertion_56 ⟨Nat.le_of_ble_eq_true rfl, Nat.le_of_ble_eq_true rfl⟩) (fun z w56 H locs hp hH hS => ?_)
              obtain ⟨rfl, hw⟩ := hp
              rw [← hw] at hH; clear hw
              refine wz_ifne (tgt := 97) X.x X.b dJ5_fixAfterInsertion_59 (by decide) (by decide) (fun _ => ?_) (fun h => absurd h (by decide))
              refine lv_aload_n X.x X.b dJ5_fixAfterInsertion_97 rfl (lv_at hl 1 rfl) ?_
              refine lv_aload_n X.x X.b dJ5_fixAfterInsertion_98 rfl (lv_at hl 1 rfl) ?_
              refine wa_cr hS (wa_rS (rest := [.ref x0]) X hH (mJ5_parentOf  (show At wl5 x0 (eO 19 [.ref (K x0), .ref (V x0), va_rf (L x0), va_rf (R x0), va_rf (P x0), .int (zI (C0 x0))]) from (hX.nd i5_0))  ) (va_cwS 1 X.t (lw_S q905 q906 q118 q907) rfl rfl rfl hdJ5_parentOf.2 ⟨Nat.le_of_ble_eq_true rfl, Nat.le_of_ble_eq_true rfl⟩) rfl rfl hl.1 rfl (Nat.le_of_ble_eq_true rfl) dJ5_fixAfterInsertion_99 ⟨Nat.le_of_ble_eq_true rfl, Nat.le_of_ble_eq_true rfl⟩) (fun r99 w99 H locs hp hH hS => ?_)
              obtain ⟨rfl, hw⟩ := hp
              rw [← hw] at hH; clear hw
              refine wz_opt (q := some y) (by exact hy) ?_
              refine wa_cr hS (wa_rS (rest := [.ref x0]) X hH (mJ5_rightOf  (show At wl5 y (eO 19 [.ref (K y), .ref (V y), va_rf (L y), va_rf (R y), va_rf (P y), .int (zI (C0 y))]) from (hX.nd hyl))  ) (va_cwS 1 X.t (lw_S q911 q912 q118 q913) rfl rfl rfl hdJ5_rightOf.2 ⟨Nat.le_of_ble_eq_true rfl, Nat.le_of_ble_eq_true rfl⟩) rfl rfl hl.1 rfl (Nat.le_of_ble_eq_true rfl) dJ5_fixAfterInsertion_102 ⟨Nat.le_of_ble_eq_true rfl, Nat.le_of_ble_eq_true rfl⟩) (fun r102 w102 H locs hp hH hS => ?_)
              obtain ⟨rfl, hw⟩ := hp
              rw [← hw] at hH; clear hw
              refine lv_acmp_ne (rx := some x0) (ry := (R y)) (tgt := 118) X.x X.b dJ5_fixAfterInsertion_105 (by decide) (fun c105 => ?_) (fun c105 => ?_)
              · refine lv_aload_n X.x X.b dJ5_fixAfterInsertion_118 rfl (lv_at hl 1 rfl) ?_
                refine wa_cr hS (wa_rS (rest := []) X hH (mJ5_parentOf  (show At wl5 x0 (eO 19 [.ref (K x0), .ref (V x0), va_rf (L x0), va_rf (R x0), va_rf (P x0), .int (zI (C0 x0))]) from (hX.nd i5_0))  ) (va_cwS 1 X.t (lw_S q905 q906 q118 q907) rfl rfl rfl hdJ5_parentOf.2 ⟨Nat.le_of_ble_eq_true rfl, Nat.le_of_ble_eq_true rfl⟩) rfl rfl hl.1 rfl (Nat.le_of_ble_eq_true rfl) dJ5_fixAfterInsertion_119 ⟨Nat.le_of_ble_eq_true rfl, Nat.le_of_ble_eq_true rfl⟩) (fun r119 w119 H locs hp hH hS => ?_)
                obtain ⟨rfl, hw⟩ := hp
                rw [← hw] at hH; clear hw
                refine wz_opt (q := some y) (by exact hy) ?_
                refine wz_iconst X.x X.b dJ5_fixAfterInsertion_122 ?_
                refine wa_cv hS (wa_rS (rest := []) X hH (mJ5_setColor hX  1 (show y ∈ l by first | assumption | omega) nb1 rfl) (va_cwS 2 X.t (lw_S q917 q918 q118 q919) rfl rfl rfl hdJ5_setColor.2 ⟨Nat.le_of_ble_eq_true rfl, Nat.le_of_ble_eq_true rfl⟩) rfl rfl hl.1 rfl (Nat.le_of_ble_eq_true rfl) dJ5_fixAfterInsertion_123 ⟨Nat.le_of_ble_eq_true rfl, Nat.le_of_ble_eq_true rfl⟩) (fun w123 H locs hp hH hS => ?_)
                obtain ⟨hX, hk⟩ := hp
                have hK := hK.trans hk
                refine lv_aload_n X.x X.b dJ5_fixAfterInsertion_126 rfl (lv_at hl 1 rfl) ?_
                refine wa_cr hS (wa_rS (rest := []) X hH (mJ5_parentOf  (show At w123 x0 (eO 19 [.ref (K x0), .ref (V x0), va_rf (L x0), va_rf (R x0), va_rf (P x0), .int (zI ((nup C0 y 1) x0))]) from (hX.nd i5_0))  ) (va_cwS 1 X.t (lw_S q905 q906 q118 q907) rfl rfl rfl hdJ5_parentOf.2 ⟨Nat.le_of_ble_eq_true rfl, Nat.le_of_ble_eq_true rfl⟩) rfl rfl hl.1 rfl (Nat.le_of_ble_eq_true rfl) dJ5_fixAfterInsertion_127 ⟨Nat.le_of_ble_eq_true rfl, Nat.le_of_ble_eq_true rfl⟩) (fun r127 w127 H locs hp hH hS => ?_)
                obtain ⟨rfl, hw⟩ := hp
                rw [← hw] at hH; clear hw
                refine wz_opt (q := some y) (by exact hy) ?_
                refine wa_cr hS (wa_rS (rest := []) X hH (mJ5_parentOf  (show At w123 y (eO 19 [.ref (K y), .ref (V y), va_rf (L y), va_rf (R y), va_rf (P y), .int (zI ((nup C0 y 1) y))]) from (hX.nd hyl))  ) (va_cwS 1 X.t (lw_S q905 q906 q118 q907) rfl rfl rfl hdJ5_parentOf.2 ⟨Nat.le_of_ble_eq_true rfl, Nat.le_of_ble_eq_true rfl⟩) rfl rfl hl.1 rfl (Nat.le_of_ble_eq_true rfl) dJ5_fixAfterInsertion_130 ⟨Nat.le_of_ble_eq_true rfl, Nat.le_of_ble_eq_true rfl⟩) (fun r130 w130 H locs hp hH hS => ?_)
                obtain ⟨rfl, hw⟩ := hp
                rw [← hw] at hH; clear hw
                refine wz_opt (q := some g) (by exact hg) ?_
                refine wz_iconst X.x X.b dJ5_fixAfterInsertion_133 ?_
                refine wa_cv hS (wa_rS (rest := []) X hH (mJ5_setColor hX  0 (show g ∈ l by first | assumption | omega) nb0 rfl) (va_cwS 2 X.t (lw_S q917 q918 q118 q919) rfl rfl rfl hdJ5_setColor.2 ⟨Nat.le_of_ble_eq_true rfl, Nat.le_of_ble_eq_true rfl⟩) rfl rfl hl.1 rfl (Nat.le_of_ble_eq_true rfl) dJ5_fixAfterInsertion_134 ⟨Nat.le_of_ble_eq_true rfl, Nat.le_of_ble_eq_true rfl⟩) (fun w134 H locs hp hH hS => ?_)
                obtain ⟨hX, hk⟩ := hp
                have hK := hK.trans hk
                have hgu : L g = some y := (show L g = some y from (hy.symm.trans c41).symm)
                have hgr := hgu
                have ht1 := ht
                refine lv_aload_n X.x X.b dJ5_fixAfterInsertion_137 rfl (lv_at hl 2 rfl) ?_
                refine lv_aload_n X.x X.b dJ5_fixAfterInsertion_138 rfl (lv_at hl 1 rfl) ?_
                refine wa_cr hS (wa_rS (rest := [.ref m]) X hH (mJ5_parentOf  (show At w134 x0 (eO 19 [.ref (K x0), .ref (V x0), va_rf (L x0), va_rf (R x0), va_rf (P x0), .int (zI ((nup (nup C0 y 1) g 0) x0))]) from (hX.nd i5_0))  ) (va_cwS 1 X.t (lw_S q905 q906 q118 q907) rfl rfl rfl hdJ5_parentOf.2 ⟨Nat.le_of_ble_eq_true rfl, Nat.le_of_ble_eq_true rfl⟩) rfl rfl hl.1 rfl (Nat.le_of_ble_eq_true rfl) dJ5_fixAfterInsertion_139 ⟨Nat.le_of_ble_eq_true rfl, Nat.le_of_ble_eq_true rfl⟩) (fun r139 w139 H locs hp hH hS => ?_)
                obtain ⟨rfl, hw⟩ := hp
                rw [← hw] at hH; clear hw
                refine wz_opt (q := some y) (by exact hy) ?_
                refine wa_cr hS (wa_rS (rest := [.ref m]) X hH (mJ5_parentOf  (show At w134 y (eO 19 [.ref (K y), .ref (V y), va_rf (L y), va_rf (R y), va_rf (P y), .int (zI ((nup (nup C0 y 1) g 0) y))]) from (hX.nd hyl))  ) (va_cwS 1 X.t (lw_S q905 q906 q118 q907) rfl rfl rfl hdJ5_parentOf.2 ⟨Nat.le_of_ble_eq_true rfl, Nat.le_of_ble_eq_true rfl⟩) rfl rfl hl.1 rfl (Nat.le_of_ble_eq_true rfl) dJ5_fixAfterInsertion_142 ⟨Nat.le_of_ble_eq_true rfl, Nat.le_of_ble_eq_true rfl⟩) (fun r142 w142 H locs hp hH hS => ?_)
                obtain ⟨rfl, hw⟩ := hp
                rw [← hw] at hH; clear hw
                refine wz_opt (q := some g) (by exact hg) ?_
                refine wa_cv hS (wa_rV (rest := []) X hH (mJ5_rotateRight hX   hgl hgr ht1 (show l.Nodup by first | assumption | omega)) (cwV 1 X.t (lw_V q924 q926 qs23 q118 q927) rfl rfl rfl hdJ5_rotateRight ⟨Nat.le_of_ble_eq_true rfl, Nat.le_of_ble_eq_true rfl⟩) rfl (have h9 := (hX.1); h9) rfl rfl hl.1 rfl (Nat.le_of_ble_eq_true rfl) dJ5_fixAfterInsertion_145 ⟨Nat.le_of_ble_eq_true rfl, Nat.le_of_ble_eq_true rfl⟩) (fun w145 H locs hp hH hS => ?_)
                obtain ⟨hX, hk⟩ := hp
                have hK := hK.trans hk
                have ht2 := Tr.rotR (R' := rtL R P g y) (L' := rtR R L P g y) (P' := rtP R P g y) hgr ht1 hn hgl (fun q z => by cases z) (fun n _ => ⟨rfl, rfl, rfl⟩)
                have hmid : ¬ R y = some x0 := fun e => c105 e.symm
                have hfin : (rtP R P g y) x0 = some y := by unfold rtP; rw [if_neg (Ne.symm hgx), if_neg (Ne.symm hyx), if_neg hmid]; exact hy
                refine lv_goto (tgt := 5) X.x X.b dJ5_fixAfterInsertion_148 (by decide) ?_
                refine lv_aload_n X.x X.b dJ5_fixAfterInsertion_5 rfl (lv_at hl 1 rfl) ?_
                refine lv_ifnull X.x X.b dJ5_fixAfterInsertion_6 ?_
                refine lv_aload_n X.x X.b dJ5_fixAfterInsertion_9 rfl (lv_at hl 1 rfl) ?_
                refine lv_aload_n X.x X.b dJ5_fixAfterInsertion_10 rfl (lv_at hl 2 rfl) ?_
                refine wa_get (v := va_rf (if ro = some g then some y else ro)) X hH (have h9 := (hX.1); h9) wcJ5 3 (by decide) q237 rfl (fun _ h9 => h9) rfl dJ5_fixAfterInsertion_11 ?_
                refine lv_acmp_eq (rx := some x0) (ry := if ro = some g then some y else ro) (tgt := 258) X.x X.b dJ5_fixAfterInsertion_14 (by decide) (fun c14 => ?_) (fun c14 => ?_)
                · obtain ⟨r1, hr1, hr1l⟩ := ht2.hasRoot i5_0
                  refine lv_aload_n X.x X.b dJ5_fixAfterInsertion_258 rfl (lv_at hl 2 rfl) ?_
                  refine wa_get (v := va_rf (if ro = some g then some y else ro)) X hH (have h9 := (hX.1); h9) wcJ5 3 (by decide) q237 rfl (fun _ h9 => h9) rfl dJ5_fixAfterInsertion_259 ?_
                  refine wz_opt (q := some r1) (by exact hr1) ?_
                  refine wz_iconst X.x X.b dJ5_fixAfterInsertion_262 ?_
                  refine wa_put X hH hS (have h9 := (hX.nd hr1l); h9) wcJ10 5 (by decide) q798 rfl (fun _ h9 => h9) rfl nb1 rfl (Nat.le_of_ble_eq_true rfl) dJ5_fixAfterInsertion_263 (fun w263 H locs ew hH hS => ?_)
                  have hk : Fr m l w145 w263 := Fr.nd hr1l ew
                  have hX := hX.sC (x := 1) hr1l ew
                  have hK := hK.trans hk
                  clear ew
                  exact wa_vret X hH hS dJ5_fixAfterInsertion_266 ⟨_, _, _, _, _, hX, hK, ht2, (fun r e => by cases hr1.symm.trans e; exact nup_s), (fun n hn1 => by exact br (bl (br (i5_1 n hn1))))⟩
                · refine lv_aload_n X.x X.b dJ5_fixAfterInsertion_17 rfl (lv_at hl 1 rfl) ?_
                  refine wa_get (v := va_rf ((rtP R P g y) x0)) X hH (have h9 := (hX.nd i5_0); h9) wcJ10 4 (by decide) q796 rfl (fun _ h9 => h9) rfl dJ5_fixAfterInsertion_18 ?_
                  refine wz_opt (q := some y) (by exact hfin) ?_
                  refine wa_get (v := .int (zI ((nup (nup C0 y 1) g 0) y))) X hH (have h9 := (hX.nd hyl); h9) wcJ10 5 (by decide) q798 rfl (fun _ h9 => h9) rfl dJ5_fixAfterInsertion_21 ?_
                  refine wz_is (z := 1) (by rw [nup_n (Ne.symm hgy), nup_s]) ?_
                  refine wz_ifne (tgt := 258) X.x X.b dJ5_fixAfterInsertion_24 (by decide) (by decide) (fun _ => ?_) (fun h => absurd h (by decide))
                  obtain ⟨r1, hr1, hr1l⟩ := ht2.hasRoot i5_0
                  refine lv_aload_n X.x X.b dJ5_fixAfterInsertion_258 rfl (lv_at hl 2 rfl) ?_
                  refine wa_get (v := va_rf (if ro = some g then some y else ro)) X hH (have h9 := (hX.1); h9) wcJ5 3 (by decide) q237 rfl (fun _ h9 => h9) rfl dJ5_fixAfterInsertion_259 ?_
                  refine wz_opt (q := some r1) (by exact hr1) ?_
                  refine wz_iconst X.x X.b dJ5_fixAfterInsertion_262 ?_
                  refine wa_put X hH hS (have h9 := (hX.nd hr1l); h9) wcJ10 5 (by decide) q798 rfl (fun _ h9 => h9) rfl nb1 rfl (Nat.le_of_ble_eq_true rfl) dJ5_fixAfterInsertion_263 (fun w263 H locs ew hH hS => ?_)
                  have hk : Fr m l w145 w263 := Fr.nd hr1l ew
                  have hX := hX.sC (x := 1) hr1l ew
                  have hK := hK.trans hk
                  clear ew
                  exact wa_vret X hH hS dJ5_fixAfterInsertion_266 ⟨_, _, _, _, _, hX, hK, ht2, (fun r e => by cases hr1.symm.trans e; exact nup_s), (fun n hn1 => by exact br (bl (br (i5_1 n hn1))))⟩
              · refine lv_aload_n X.x X.b dJ5_fixAfterInsertion_108 rfl (lv_at hl 1 rfl) ?_
                refine wa_cr hS (wa_rS (rest := []) X hH (mJ5_parentOf  (show At wl5 x0 (eO 19 [.ref (K x0), .ref (V x0), va_rf (L x0), va_rf (R x0), va_rf (P x0), .int (zI (C0 x0))]) from (hX.nd i5_0))  ) (va_cwS 1 X.t (lw_S q905 q906 q118 q907) rfl rfl rfl hdJ5_parentOf.2 ⟨Nat.le_of_ble_eq_true rfl, Nat.le_of_ble_eq_true rfl⟩) rfl rfl hl.1 rfl (Nat.le_of_ble_eq_true rfl) dJ5_fixAfterInsertion_109 ⟨Nat.le_of_ble_eq_true rfl, Nat.le_of_ble_eq_true rfl⟩) (fun r109 w109 H locs hp hH hS => ?_)
                obtain ⟨rfl, hw⟩ := hp
                rw [← hw] at hH; clear hw
                refine wz_opt (q := some y) (by exact hy) ?_
                refine lv_astore_n (lv' := [(1, .ref y), (2, .null), (0, .ref m)]) X.x X.b dJ5_fixAfterInsertion_112 rfl hl (by decide) rfl (fun ls hl => ?_)
                have hxr : R y = some x0 := c105.symm
                have ht1 := Tr.rotL (L' := rtL L P y x0) (R' := rtR L R P y x0) (P' := rtP L P y x0) hxr ht hn hyl (fun q z => by cases z) (fun n _ => ⟨rfl, rfl, rfl⟩)
                refine lv_aload_n X.x X.b dJ5_fixAfterInsertion_113 rfl (lv_at hl 2 rfl) ?_
                refine lv_aload_n X.x X.b dJ5_fixAfterInsertion_114 rfl (lv_at hl 0 rfl) ?_
                refine wa_cv hS (wa_rV (rest := []) X hH (mJ5_rotateLeft hX   hyl hxr (show Tr L R P ro none l by first | assumption | omega) (show l.Nodup by first | assumption | omega)) (cwV 1 X.t (lw_V q920 q922 qs22 q118 q923) rfl rfl rfl hdJ5_rotateLeft ⟨Nat.le_of_ble_eq_true rfl, Nat.le_of_ble_eq_true rfl⟩) rfl (have h9 := (hX.1); h9) rfl rfl hl.1 rfl (Nat.le_of_ble_eq_true rfl) dJ5_fixAfterInsertion_115 ⟨Nat.le_of_ble_eq_true rfl, Nat.le_of_ble_eq_true rfl⟩) (fun w115 H locs hp hH hS => ?_)
                obtain ⟨hX, hk⟩ := hp
                have hK := hK.trans hk
                refine lv_aload_n X.x X.b dJ5_fixAfterInsertion_118 rfl (lv_at hl 0 rfl) ?_
                refine wa_cr hS (wa_rS (rest := []) X hH (mJ5_parentOf  (show At w115 y (eO 19 [.ref (K y), .ref (V y), va_rf ((rtL L P y x0) y), va_rf ((rtR L R P y x0) y), va_rf ((rtP L P y x0) y), .int (zI (C0 y))]) from (hX.nd hyl))  ) (va_cwS 1 X.t (lw_S q905 q906 q118 q907) rfl rfl rfl hdJ5_parentOf.2 ⟨Nat.le_of_ble_eq_true rfl, Nat.le_of_ble_eq_true rfl⟩) rfl rfl hl.1 rfl (Nat.le_of_ble_eq_true rfl) dJ5_fixAfterInsertion_119 ⟨Nat.le_of_ble_eq_true rfl, Nat.le_of_ble_eq_true rfl⟩) (fun r119 w119 H locs hp hH hS => ?_)
                obtain ⟨rfl, hw⟩ := hp
                rw [← hw] at hH; clear hw
                refine wz_opt (q := some x0) (by unfold rtP; exact if_pos rfl) ?_
                refine wz_iconst X.x X.b dJ5_fixAfterInsertion_122 ?_
                refine wa_cv hS (wa_rS (rest := []) X hH (mJ5_setColor hX  1 (show x0 ∈ l by first | assumption | omega) nb1 rfl) (va_cwS 2 X.t (lw_S q917 q918 q118 q919) rfl rfl rfl hdJ5_setColor.2 ⟨Nat.le_of_ble_eq_true rfl, Nat.le_of_ble_eq_true rfl⟩) rfl rfl hl.1 rfl (Nat.le_of_ble_eq_true rfl) dJ5_fixAfterInsertion_123 ⟨Nat.le_of_ble_eq_true rfl, Nat.le_of_ble_eq_true rfl⟩) (fun w123 H locs hp hH hS => ?_)
                obtain ⟨hX, hk⟩ := hp
                have hK := hK.trans hk
                refine lv_aload_n X.x X.b dJ5_fixAfterInsertion_126 rfl (lv_at hl 0 rfl) ?_
                refine wa_cr hS (wa_rS (rest := []) X hH (mJ5_parentOf  (show At w123 y (eO 19 [.ref (K y), .ref (V y), va_rf ((rtL L P y x0) y), va_rf ((rtR L R P y x0) y), va_rf ((rtP L P y x0) y), .int (zI ((nup C0 x0 1) y))]) from (hX.nd hyl))  ) (va_cwS 1 X.t (lw_S q905 q906 q118 q907) rfl rfl rfl hdJ5_parentOf.2 ⟨Nat.le_of_ble_eq_true rfl, Nat.le_of_ble_eq_true rfl⟩) rfl rfl hl.1 rfl (Nat.le_of_ble_eq_true rfl) dJ5_fixAfterInsertion_127 ⟨Nat.le_of_ble_eq_true rfl, Nat.le_of_ble_eq_true rfl⟩) (fun r127 w127 H locs hp hH hS => ?_)
                obtain ⟨rfl, hw⟩ := hp
                rw [← hw] at hH; clear hw
                refine wz_opt (q := some x0) (by unfold rtP; exact if_pos rfl) ?_
                refine wa_cr hS (wa_rS (rest := []) X hH (mJ5_parentOf  (show At w123 x0 (eO 19 [.ref (K x0), .ref (V x0), va_rf ((rtL L P y x0) x0), va_rf ((rtR L R P y x0) x0), va_rf ((rtP L P y x0) x0), .int (zI ((nup C0 x0 1) x0))]) from (hX.nd i5_0))  ) (va_cwS 1 X.t (lw_S q905 q906 q118 q907) rfl rfl rfl hdJ5_parentOf.2 ⟨Nat.le_of_ble_eq_true rfl, Nat.le_of_ble_eq_true rfl⟩) rfl rfl hl.1 rfl (Nat.le_of_ble_eq_true rfl) dJ5_fixAfterInsertion_130 ⟨Nat.le_of_ble_eq_true rfl, Nat.le_of_ble_eq_true rfl⟩) (fun r130 w130 H locs hp hH hS => ?_)
                obtain ⟨rfl, hw⟩ := hp
                rw [← hw] at hH; clear hw
                refine wz_opt (q := some g) (by unfold rtP; rw [if_neg (Ne.symm hyx), if_pos rfl]; exact hg) ?_
                refine wz_iconst X.x X.b dJ5_fixAfterInsertion_133 ?_
                refine wa_cv hS (wa_rS (rest := []) X hH (mJ5_setColor hX  0 (show g ∈ l by first | assumption | omega) nb0 rfl) (va_cwS 2 X.t (lw_S q917 q918 q118 q919) rfl rfl rfl hdJ5_setColor.2 ⟨Nat.le_of_ble_eq_true rfl, Nat.le_of_ble_eq_true rfl⟩) rfl rfl hl.1 rfl (Nat.le_of_ble_eq_true rfl) dJ5_fixAfterInsertion_134 ⟨Nat.le_of_ble_eq_true rfl, Nat.le_of_ble_eq_true rfl⟩) (fun w134 H locs hp hH hS => ?_)
                obtain ⟨hX, hk⟩ := hp
                have hK := hK.trans hk
                have hgu : L g = some y := (show L g = some y from (hy.symm.trans c41).symm)
                have hgr : (rtL L P y x0) g = some x0 := by unfold rtL; rw [if_neg hgx, if_pos ⟨hg, hgu⟩]
                refine lv_aload_n X.x X.b dJ5_fixAfterInsertion_137 rfl (lv_at hl 2 rfl) ?_
                refine lv_aload_n X.x X.b dJ5_fixAfterInsertion_138 rfl (lv_at hl 0 rfl) ?_
                refine wa_cr hS (wa_rS (rest := [.ref m]) X hH (mJ5_parentOf  (show At w134 y (eO 19 [.ref (K y), .ref (V y), va_rf ((rtL L P y x0) y), va_rf ((rtR L R P y x0) y), va_rf ((rtP L P y x0) y), .int (zI ((nup (nup C0 x0 1) g 0) y))]) from (hX.nd hyl))  ) (va_cwS 1 X.t (lw_S q905 q906 q118 q907) rfl rfl rfl hdJ5_parentOf.2 ⟨Nat.le_of_ble_eq_true rfl, Nat.le_of_ble_eq_true rfl⟩) rfl rfl hl.1 rfl (Nat.le_of_ble_eq_true rfl) dJ5_fixAfterInsertion_139 ⟨Nat.le_of_ble_eq_true rfl, Nat.le_of_ble_eq_true rfl⟩) (fun r139 w139 H locs hp hH hS => ?_)
                obtain ⟨rfl, hw⟩ := hp
                rw [← hw] at hH; clear hw
                refine wz_opt (q := some x0) (by unfold rtP; exact if_pos rfl) ?_
                refine wa_cr hS (wa_rS (rest := [.ref m]) X hH (mJ5_parentOf  (show At w134 x0 (eO 19 [.ref (K x0), .ref (V x0), va_rf ((rtL L P y x0) x0), va_rf ((rtR L R P y x0) x0), va_rf ((rtP L P y x0) x0), .int (zI ((nup (nup C0 x0 1) g 0) x0))]) from (hX.nd i5_0))  ) (va_cwS 1 X.t (lw_S q905 q906 q118 q907) rfl rfl rfl hdJ5_parentOf.2 ⟨Nat.le_of_ble_eq_true rfl, Nat.le_of_ble_eq_true rfl⟩) rfl rfl hl.1 rfl (Nat.le_of_ble_eq_true rfl) dJ5_fixAfterInsertion_142 ⟨Nat.le_of_ble_eq_true rfl, Nat.le_of_ble_eq_true rfl⟩) (fun r142 w142 H locs hp hH hS => ?_)
                obtain ⟨rfl, hw⟩ := hp
                rw [← hw] at hH; clear hw
                refine wz_opt (q := some g) (by unfold rtP; rw [if_neg (Ne.symm hyx), if_pos rfl]; exact hg) ?_
                refine wa_cv hS (wa_rV (rest := []) X hH (mJ5_rotateRight hX   hgl hgr ht1 (show l.Nodup by first | assumption | omega)) (cwV 1 X.t (lw_V q924 q926 qs23 q118 q927) rfl rfl rfl hdJ5_rotateRight ⟨Nat.le_of_ble_eq_true rfl, Nat.le_of_ble_eq_true rfl⟩) rfl (have h9 := (hX.1); h9) rfl rfl hl.1 rfl (Nat.le_of_ble_eq_true rfl) dJ5_fixAfterInsertion_145 ⟨Nat.le_of_ble_eq_true rfl, Nat.le_of_ble_eq_true rfl⟩) (fun w145 H locs hp hH hS => ?_)
                obtain ⟨hX, hk⟩ := hp
                have hK := hK.trans hk
                have ht2 := Tr.rotR (R' := rtL (rtR L R P y x0) (rtP L P y x0) g x0) (L' := rtR (rtR L R P y x0) (rtL L P y x0) (rtP L P y x0) g x0) (P' := rtP (rtR L R P y x0) (rtP L P y x0) g x0) hgr ht1 hn hgl (fun q z => by cases z) (fun n _ => ⟨rfl, rfl, rfl⟩)
                have hmid : ¬ (rtR L R P y x0) x0 = some y := fun e => by
                  unfold rtR at e; rw [if_neg (Ne.symm hyx), if_neg (fun q => by rw [hg] at q; exact hgx (Option.some.inj q.1))] at e
                  exact ht.irr2 hn i5_0 hyl hy ((ht.kid x0 i5_0).1 y e).2
                have hfin : (rtP (rtR L R P y x0) (rtP L P y x0) g x0) y = some x0 := by unfold rtP; rw [if_neg (Ne.symm hgy), if_neg hyx]; exact (if_neg hmid).trans (by first | rfl | exact if_pos rfl)
                refine lv_goto (tgt := 5) X.x X.b dJ5_fixAfterInsertion_148 (by decide) ?_
                refine lv_aload_n X.x X.b dJ5_fixAfterInsertion_5 rfl (lv_at hl 0 rfl) ?_
                refine lv_ifnull X.x X.b dJ5_fixAfterInsertion_6 ?_
                refine lv_aload_n X.x X.b dJ5_fixAfterInsertion_9 rfl (lv_at hl 0 rfl) ?_
                refine lv_aload_n X.x X.b dJ5_fixAfterInsertion_10 rfl (lv_at hl 2 rfl) ?_
                refine wa_get (v := va_rf (if (if ro = some y then some x0 else ro) = some g then some x0 else (if ro = some y then some x0 else ro))) X hH (have h9 := (hX.1); h9) wcJ5 3 (by decide) q237 rfl (fun _ h9 => h9) rfl dJ5_fixAfterInsertion_11 ?_
                refine lv_acmp_eq (rx := some y) (ry := if (if ro = some y then some x0 else ro) = some g then some x0 else (if ro = some y then some x0 else ro)) (tgt := 258) X.x X.b dJ5_fixAfterInsertion_14 (by decide) (fun c14 => ?_) (fun c14 => ?_)
                · obtain ⟨r1, hr1, hr1l⟩ := ht2.hasRoot i5_0
                  refine lv_aload_n X.x X.b dJ5_fixAfterInsertion_258 rfl (lv_at hl 2 rfl) ?_
                  refine wa_get (v := va_rf (if (if ro = some y then some x0 else ro) = some g then some x0 else (if ro = some y then some x0 else ro))) X hH (have h9 := (hX.1); h9) wcJ5 3 (by decide) q237 rfl (fun _ h9 => h9) rfl dJ5_fixAfterInsertion_259 ?_
                  refine wz_opt (q := some r1) (by exact hr1) ?_
                  refine wz_iconst X.x X.b dJ5_fixAfterInsertion_262 ?_
                  refine wa_put X hH hS (have h9 := (hX.nd hr1l); h9) wcJ10 5 (by decide) q798 rfl (fun _ h9 => h9) rfl nb1 rfl (Nat.le_of_ble_eq_true rfl) dJ5_fixAfterInsertion_263 (fun w263 H locs ew hH hS => ?_)
                  have hk : Fr m l w145 w263 := Fr.nd hr1l ew
                  have hX := hX.sC (x := 1) hr1l ew
                  have hK := hK.trans hk
                  clear ew
                  exact wa_vret X hH hS dJ5_fixAfterInsertion_266 ⟨_, _, _, _, _, hX, hK, ht2, (fun r e => by cases hr1.symm.trans e; exact nup_s), (fun n hn1 => by exact br (bl (br (i5_1 n hn1))))⟩
                · refine lv_aload_n X.x X.b dJ5_fixAfterInsertion_17 rfl (lv_at hl 0 rfl) ?_
                  refine wa_get (v := va_rf ((rtP (rtR L R P y x0) (rtP L P y x0) g x0) y)) X hH (have h9 := (hX.nd hyl); h9) wcJ10 4 (by decide) q796 rfl (fun _ h9 => h9) rfl dJ5_fixAfterInsertion_18 ?_
                  refine wz_opt (q := some x0) (by exact hfin) ?_
                  refine wa_get (v := .int (zI ((nup (nup C0 x0 1) g 0) x0))) X hH (have h9 := (hX.nd i5_0); h9) wcJ10 5 (by decide) q798 rfl (fun _ h9 => h9) rfl dJ5_fixAfterInsertion_21 ?_
                  refine wz_is (z := 1) (by rw [nup_n (Ne.symm hgx), nup_s]) ?_
                  refine wz_ifne (tgt := 258) X.x X.b dJ5_fixAfterInsertion_24 (by decide) (by decide) (fun _ => ?_) (fun h => absurd h (by decide))
                  obtain ⟨r1, hr1, hr1l⟩ := ht2.hasRoot i5_0
                  refine lv_aload_n X.x X.b dJ5_fixAfterInsertion_258 rfl (lv_at hl 2 rfl) ?_
                  refine wa_get (v := va_rf (if (if ro = some y then some x0 else ro) = some g then some x0 else (if ro = some y then some x0 else ro))) X hH (have h9 := (hX.1); h9) wcJ5 3 (by decide) q237 rfl (fun _ h9 => h9) rfl dJ5_fixAfterInsertion_259 ?_
                  refine wz_opt (q := some r1) (by exact hr1) ?_
                  refine wz_iconst X.x X.b dJ5_fixAfterInsertion_262 ?_
                  refine wa_put X hH hS (have h9 := (hX.nd hr1l); h9) wcJ10 5 (by decide) q798 rfl (fun _ h9 => h9) rfl nb1 rfl (Nat.le_of_ble_eq_true rfl) dJ5_fixAfterInsertion_263 (fun w263 H locs ew hH hS => ?_)
                  have hk : Fr m l w145 w263 := Fr.nd hr1l ew
                  have hX := hX.sC (x := 1) hr1l ew
                  have hK := hK.trans hk
                  clear ew
                  exact wa_vret X hH hS dJ5_fixAfterInsertion_266 ⟨_, _, _, _, _, hX, hK, ht2, (fun r e => by cases hr1.symm.trans e; exact nup_s), (fun n hn1 => by exact br (bl (br (i5_1 n hn1))))⟩
            · refine wz_opt (q := (some a56)) ho56 ?_
              have hl : lv_has ls 3 [(2, .ref a56), (1, .ref x0), (0, .ref m)] := by rw [ho56] at hl; exact hl
              have hal := ((ht.kid g hgl).1 a56 ho56).1
              refine wa_ci hS (wa_rS (rest := []) X hH (mJ5_colorOf  (show At wl5 a56 (eO 19 [.ref (K a56), .ref (V a56), va_rf (L a56), va_rf (R a56), va_rf (P a56), .int (zI (C0 a56))]) from (hX.nd hal))  (bN (i5_1 _ hal))) (va_cwS 1 X.t (lw_S q914 q915 q118 q916) rfl rfl rfl hdJ5_colorOf.2 ⟨Nat.le_of_ble_eq_true rfl, Nat.le_of_ble_eq_true rfl⟩) rfl rfl hl.1 rfl (Nat.le_of_ble_eq_true rfl) dJ5_fixAfterInsertion_56 ⟨Nat.le_of_ble_eq_true rfl, Nat.le_of_ble_eq_true rfl⟩) (fun z w56 H locs hp hH hS => ?_)
              obtain ⟨rfl, hw⟩ := hp
              rw [← hw] at hH; clear hw
              refine wz_ifne (tgt := 97) X.x X.b dJ5_fixAfterInsertion_59 (by decide) (bI (i5_1 _ hal)) (fun c59 => ?_) (fun c59 => ?_)
              · refine lv_aload_n X.x X.b dJ5_fixAfterInsertion_97 rfl (lv_at hl 1 rfl) ?_
                refine lv_aload_n X.x X.b dJ5_fixAfterInsertion_98 rfl (lv_at hl 1 rfl) ?_
                refine wa_cr hS (wa_rS (rest := [.ref x0]) X hH (mJ5_parentOf  (show At wl5 x0 (eO 19 [.ref (K x0), .ref (V x0), va_rf (L x0), va_rf (R x0), va_rf (P x0), .int (zI (C0 x0))]) from (hX.nd i5_0))  ) (va_cwS 1 X.t (lw_S q905 q906 q118 q907) rfl rfl rfl hdJ5_parentOf.2 ⟨Nat.le_of_ble_eq_true rfl, Nat.le_of_ble_eq_true rfl⟩) rfl rfl hl.1 rfl (Nat.le_of_ble_eq_true rfl) dJ5_fixAfterInsertion_99 ⟨Nat.le_of_ble_eq_true rfl, Nat.le_of_ble_eq_true rfl⟩) (fun r99 w99 H locs hp hH hS => ?_)
                obtain ⟨rfl, hw⟩ := hp
                rw [← hw] at hH; clear hw
                refine wz_opt (q := some y) (by exact hy) ?_
                refine wa_cr hS (wa_rS (rest := [.ref x0]) X hH (mJ5_rightOf  (show At wl5 y (eO 19 [.ref (K y), .ref (V y), va_rf (L y), va_rf (R y), va_rf (P y), .int (zI (C0 y))]) from (hX.nd hyl))  ) (va_cwS 1 X.t (lw_S q911 q912 q118 q913) rfl rfl rfl hdJ5_rightOf.2 ⟨Nat.le_of_ble_eq_true rfl, Nat.le_of_ble_eq_true rfl⟩) rfl rfl hl.1 rfl (Nat.le_of_ble_eq_true rfl) dJ5_fixAfterInsertion_102 ⟨Nat.le_of_ble_eq_true rfl, Nat.le_of_ble_eq_true rfl⟩) (fun r102 w102 H locs hp hH hS => ?_)
                obtain ⟨rfl, hw⟩ := hp
                rw [← hw] at hH; clear hw
                refine lv_acmp_ne (rx := some x0) (ry := (R y)) (tgt := 118) X.x X.b dJ5_fixAfterInsertion_105 (by decide) (fun c105 => ?_) (fun c105 => ?_)
                · refine lv_aload_n X.x X.b dJ5_fixAfterInsertion_118 rfl (lv_at hl 1 rfl) ?_
                  refine wa_cr hS (wa_rS (rest := []) X hH (mJ5_parentOf  (show At wl5 x0 (eO 19 [.ref (K x0), .ref (V x0), va_rf (L x0), va_rf (R x0), va_rf (P x0), .int (zI (C0 x0))]) from (hX.nd i5_0))  ) (va_cwS 1 X.t (lw_S q905 q906 q118 q907) rfl rfl rfl hdJ5_parentOf.2 ⟨Nat.le_of_ble_eq_true rfl, Nat.le_of_ble_eq_true rfl⟩) rfl rfl hl.1 rfl (Nat.le_of_ble_eq_true rfl) dJ5_fixAfterInsertion_119 ⟨Nat.le_of_ble_eq_true rfl, Nat.le_of_ble_eq_true rfl⟩) (fun r119 w119 H locs hp hH hS => ?_)
                  obtain ⟨rfl, hw⟩ := hp
                  rw [← hw] at hH; clear hw
                  refine wz_opt (q := some y) (by exact hy) ?_
                  refine wz_iconst X.x X.b dJ5_fixAfterInsertion_122 ?_
                  refine wa_cv hS (wa_rS (rest := []) X hH (mJ5_setColor hX  1 (show y ∈ l by first | assumption | omega) nb1 rfl) (va_cwS 2 X.t (lw_S q917 q918 q118 q919) rfl rfl rfl hdJ5_setColor.2 ⟨Nat.le_of_ble_eq_true rfl, Nat.le_of_ble_eq_true rfl⟩) rfl rfl hl.1 rfl (Nat.le_of_ble_eq_true rfl) dJ5_fixAfterInsertion_123 ⟨Nat.le_of_ble_eq_true rfl, Nat.le_of_ble_eq_true rfl⟩) (fun w123 H locs hp hH hS => ?_)
                  obtain ⟨hX, hk⟩ := hp
                  have hK := hK.trans hk
                  refine lv_aload_n X.x X.b dJ5_fixAfterInsertion_126 rfl (lv_at hl 1 rfl) ?_
                  refine wa_cr hS (wa_rS (rest := []) X hH (mJ5_parentOf  (show At w123 x0 (eO 19 [.ref (K x0), .ref (V x0), va_rf (L x0), va_rf (R x0), va_rf (P x0), .int (zI ((nup C0 y 1) x0))]) from (hX.nd i5_0))  ) (va_cwS 1 X.t (lw_S q905 q906 q118 q907) rfl rfl rfl hdJ5_parentOf.2 ⟨Nat.le_of_ble_eq_true rfl, Nat.le_of_ble_eq_true rfl⟩) rfl rfl hl.1 rfl (Nat.le_of_ble_eq_true rfl) dJ5_fixAfterInsertion_127 ⟨Nat.le_of_ble_eq_true rfl, Nat.le_of_ble_eq_true rfl⟩) (fun r127 w127 H locs hp hH hS => ?_)
                  obtain ⟨rfl, hw⟩ := hp
                  rw [← hw] at hH; clear hw
                  refine wz_opt (q := some y) (by exact hy) ?_
                  refine wa_cr hS (wa_rS (rest := []) X hH (mJ5_parentOf  (show At w123 y (eO 19 [.ref (K y), .ref (V y), va_rf (L y), va_rf (R y), va_rf (P y), .int (zI ((nup C0 y 1) y))]) from (hX.nd hyl))  ) (va_cwS 1 X.t (lw_S q905 q906 q118 q907) rfl rfl rfl hdJ5_parentOf.2 ⟨Nat.le_of_ble_eq_true rfl, Nat.le_of_ble_eq_true rfl⟩) rfl rfl hl.1 rfl (Nat.le_of_ble_eq_true rfl) dJ5_fixAfterInsertion_130 ⟨Nat.le_of_ble_eq_true rfl, Nat.le_of_ble_eq_true rfl⟩) (fun r130 w130 H locs hp hH hS => ?_)
                  obtain ⟨rfl, hw⟩ := hp
                  rw [← hw] at hH; clear hw
                  refine wz_opt (q := some g) (by exact hg) ?_
                  refine wz_iconst X.x X.b dJ5_fixAfterInsertion_133 ?_
                  refine wa_cv hS (wa_rS (rest := []) X hH (mJ5_setColor hX  0 (show g ∈ l by first | assumption | omega) nb0 rfl) (va_cwS 2 X.t (lw_S q917 q918 q118 q919) rfl rfl rfl hdJ5_setColor.2 ⟨Nat.le_of_ble_eq_true rfl, Nat.le_of_ble_eq_true rfl⟩) rfl rfl hl.1 rfl (Nat.le_of_ble_eq_true rfl) dJ5_fixAfterInsertion_134 ⟨Nat.le_of_ble_eq_true rfl, Nat.le_of_ble_eq_true rfl⟩) (fun w134 H locs hp hH hS => ?_)
                  obtain ⟨hX, hk⟩ := hp
                  have hK := hK.trans hk
                  have hgu : L g = some y := (show L g = some y from (hy.symm.trans c41).symm)
                  have hgr := hgu
                  have ht1 := ht
                  refine lv_aload_n X.x X.b dJ5_fixAfterInsertion_137 rfl (lv_at hl 2 rfl) ?_
                  refine lv_aload_n X.x X.b dJ5_fixAfterInsertion_138 rfl (lv_at hl 1 rfl) ?_
                  refine wa_cr hS (wa_rS (rest := [.ref m]) X hH (mJ5_parentOf  (show At w134 x0 (eO 19 [.ref (K x0), .ref (V x0), va_rf (L x0), va_rf (R x0), va_rf (P x0), .int (zI ((nup (nup C0 y 1) g 0) x0))]) from (hX.nd i5_0))  ) (va_cwS 1 X.t (lw_S q905 q906 q118 q907) rfl rfl rfl hdJ5_parentOf.2 ⟨Nat.le_of_ble_eq_true rfl, Nat.le_of_ble_eq_true rfl⟩) rfl rfl hl.1 rfl (Nat.le_of_ble_eq_true rfl) dJ5_fixAfterInsertion_139 ⟨Nat.le_of_ble_eq_true rfl, Nat.le_of_ble_eq_true rfl⟩) (fun r139 w139 H locs hp hH hS => ?_)
                  obtain ⟨rfl, hw⟩ := hp
                  rw [← hw] at hH; clear hw
                  refine wz_opt (q := some y) (by exact hy) ?_
                  refine wa_cr hS (wa_rS (rest := [.ref m]) X hH (mJ5_parentOf  (show At w134 y (eO 19 [.ref (K y), .ref (V y), va_rf (L y), va_rf (R y), va_rf (P y), .int (zI ((nup (nup C0 y 1) g 0) y))]) from (hX.nd hyl))  ) (va_cwS 1 X.t (lw_S q905 q906 q118 q907) rfl rfl rfl hdJ5_parentOf.2 ⟨Nat.le_of_ble_eq_true rfl, Nat.le_of_ble_eq_true rfl⟩) rfl rfl hl.1 rfl (Nat.le_of_ble_eq_true rfl) dJ5_fixAfterInsertion_142 ⟨Nat.le_of_ble_eq_true rfl, Nat.le_of_ble_eq_true rfl⟩) (fun r142 w142 H locs hp hH hS => ?_)
                  obtain ⟨rfl, hw⟩ := hp
                  rw [← hw] at hH; clear hw
                  refine wz_opt (q := some g) (by exact hg) ?_
                  refine wa_cv hS (wa_rV (rest := []) X hH (mJ5_rotateRight hX   hgl hgr ht1 (show l.Nodup by first | assumption | omega)) (cwV 1 X.t (lw_V q924 q926 qs23 q118 q927) rfl rfl rfl hdJ5_rotateRight ⟨Nat.le_of_ble_eq_true rfl, Nat.le_of_ble_eq_true rfl⟩) rfl (have h9 := (hX.1); h9) rfl rfl hl.1 rfl (Nat.le_of_ble_eq_true rfl) dJ5_fixAfterInsertion_145 ⟨Nat.le_of_ble_eq_true rfl, Nat.le_of_ble_eq_true rfl⟩) (fun w145 H locs hp hH hS => ?_)
                  obtain ⟨hX, hk⟩ := hp
                  have hK := hK.trans hk
                  have ht2 := Tr.rotR (R' := rtL R P g y) (L' := rtR R L P g y) (P' := rtP R P g y) hgr ht1 hn hgl (fun q z => by cases z) (fun n _ => ⟨rfl, rfl, rfl⟩)
                  have hmid : ¬ R y = some x0 := fun e => c105 e.symm
                  have hfin : (rtP R P g y) x0 = some y := by unfold rtP; rw [if_neg (Ne.symm hgx), if_neg (Ne.symm hyx), if_neg hmid]; exact hy
                  refine lv_goto (tgt := 5) X.x X.b dJ5_fixAfterInsertion_148 (by decide) ?_
                  refine lv_aload_n X.x X.b dJ5_fixAfterInsertion_5 rfl (lv_at hl 1 rfl) ?_
                  refine lv_ifnull X.x X.b dJ5_fixAfterInsertion_6 ?_
                  refine lv_aload_n X.x X.b dJ5_fixAfterInsertion_9 rfl (lv_at hl 1 rfl) ?_
                  refine lv_aload_n X.x X.b dJ5_fixAfterInsertion_10 rfl (lv_at hl 2 rfl) ?_
                  refine wa_get (v := va_rf (if ro = some g then some y else ro)) X hH (have h9 := (hX.1); h9) wcJ5 3 (by decide) q237 rfl (fun _ h9 => h9) rfl dJ5_fixAfterInsertion_11 ?_
                  refine lv_acmp_eq (rx := some x0) (ry := if ro = some g then some y else ro) (tgt := 258) X.x X.b dJ5_fixAfterInsertion_14 (by decide) (fun c14 => ?_) (fun c14 => ?_)
                  · obtain ⟨r1, hr1, hr1l⟩ := ht2.hasRoot i5_0
                    refine lv_aload_n X.x X.b dJ5_fixAfterInsertion_258 rfl (lv_at hl 2 rfl) ?_
                    refine wa_get (v := va_rf (if ro = some g then some y else ro)) X hH (have h9 := (hX.1); h9) wcJ5 3 (by decide) q237 rfl (fun _ h9 => h9) rfl dJ5_fixAfterInsertion_259 ?_
                    refine wz_opt (q := some r1) (by exact hr1) ?_
                    refine wz_iconst X.x X.b dJ5_fixAfterInsertion_262 ?_
                    refine wa_put X hH hS (have h9 := (hX.nd hr1l); h9) wcJ10 5 (by decide) q798 rfl (fun _ h9 => h9) rfl nb1 rfl (Nat.le_of_ble_eq_true rfl) dJ5_fixAfterInsertion_263 (fun w263 H locs ew hH hS => ?_)
                    have hk : Fr m l w145 w263 := Fr.nd hr1l ew
                    have hX := hX.sC (x := 1) hr1l ew
                    have hK := hK.trans hk
                    clear ew
                    exact wa_vret X hH hS dJ5_fixAfterInsertion_266 ⟨_, _, _, _, _, hX, hK, ht2, (fun r e => by cases hr1.symm.trans e; exact nup_s), (fun n hn1 => by exact br (bl (br (i5_1 n hn1))))⟩
                  · refine lv_aload_n X.x X.b dJ5_fixAfterInsertion_17 rfl (lv_at hl 1 rfl) ?_
                    refine wa_get (v := va_rf ((rtP R P g y) x0)) X hH (have h9 := (hX.nd i5_0); h9) wcJ10 4 (by decide) q796 rfl (fun _ h9 => h9) rfl dJ5_fixAfterInsertion_18 ?_
                    refine wz_opt (q := some y) (by exact hfin) ?_
                    refine wa_get (v := .int (zI ((nup (nup C0 y 1) g 0) y))) X hH (have h9 := (hX.nd hyl); h9) wcJ10 5 (by decide) q798 rfl (fun _ h9 => h9) rfl dJ5_fixAfterInsertion_21 ?_
                    refine wz_is (z := 1) (by rw [nup_n (Ne.symm hgy), nup_s]) ?_
                    refine wz_ifne (tgt := 258) X.x X.b dJ5_fixAfterInsertion_24 (by decide) (by decide) (fun _ => ?_) (fun h => absurd h (by decide))
                    obtain ⟨r1, hr1, hr1l⟩ := ht2.hasRoot i5_0
                    refine lv_aload_n X.x X.b dJ5_fixAfterInsertion_258 rfl (lv_at hl 2 rfl) ?_
                    refine wa_get (v := va_rf (if ro = some g then some y else ro)) X hH (have h9 := (hX.1); h9) wcJ5 3 (by decide) q237 rfl (fun _ h9 => h9) rfl dJ5_fixAfterInsertion_259 ?_
                    refine wz_opt (q := some r1) (by exact hr1) ?_
                    refine wz_iconst X.x X.b dJ5_fixAfterInsertion_262 ?_
                    refine wa_put X hH hS (have h9 := (hX.nd hr1l); h9) wcJ10 5 (by decide) q798 rfl (fun _ h9 => h9) rfl nb1 rfl (Nat.le_of_ble_eq_true rfl) dJ5_fixAfterInsertion_263 (fun w263 H locs ew hH hS => ?_)
                    have hk : Fr m l w145 w263 := Fr.nd hr1l ew
                    have hX := hX.sC (x := 1) hr1l ew
                    have hK := hK.trans hk
                    clear ew
                    exact wa_vret X hH hS dJ5_fixAfterInsertion_266 ⟨_, _, _, _, _, hX, hK, ht2, (fun r e => by cases hr1.symm.trans e; exact nup_s), (fun n hn1 => by exact br (bl (br (i5_1 n hn1))))⟩
                · refine lv_aload_n X.x X.b dJ5_fixAfterInsertion_108 rfl (lv_at hl 1 rfl) ?_
                  refine wa_cr hS (wa_rS (rest := []) X hH (mJ5_parentOf  (show At wl5 x0 (eO 19 [.ref (K x0), .ref (V x0), va_rf (L x0), va_rf (R x0), va_rf (P x0), .int (zI (C0 x0))]) from (hX.nd i5_0))  ) (va_cwS 1 X.t (lw_S q905 q906 q118 q907) rfl rfl rfl hdJ5_parentOf.2 ⟨Nat.le_of_ble_eq_true rfl, Nat.le_of_ble_eq_true rfl⟩) rfl rfl hl.1 rfl (Nat.le_of_ble_eq_true rfl) dJ5_fixAfterInsertion_109 ⟨Nat.le_of_ble_eq_true rfl, Nat.le_of_ble_eq_true rfl⟩) (fun r109 w109 H locs hp hH hS => ?_)
                  obtain ⟨rfl, hw⟩ := hp
                  rw [← hw] at hH; clear hw
                  refine wz_opt (q := some y) (by exact hy) ?_
                  refine lv_astore_n (lv' := [(1, .ref y), (2, .ref a56), (0, .ref m)]) X.x X.b dJ5_fixAfterInsertion_112 rfl hl (by decide) rfl (fun ls hl => ?_)
                  have hxr : R y = some x0 := c105.symm
                  have ht1 := Tr.rotL (L' := rtL L P y x0) (R' := rtR L R P y x0) (P' := rtP L P y x0) hxr ht hn hyl (fun q z => by cases z) (fun n _ => ⟨rfl, rfl, rfl⟩)
                  refine lv_aload_n X.x X.b dJ5_fixAfterInsertion_113 rfl (lv_at hl 2 rfl) ?_
                  refine lv_aload_n X.x X.b dJ5_fixAfterInsertion_114 rfl (lv_at hl 0 rfl) ?_
                  refine wa_cv hS (wa_rV (rest := []) X hH (mJ5_rotateLeft hX   hyl hxr (show Tr L R P ro none l by first | assumption | omega) (show l.Nodup by first | assumption | omega)) (cwV 1 X.t (lw_V q920 q922 qs22 q118 q923) rfl rfl rfl hdJ5_rotateLeft ⟨Nat.le_of_ble_eq_true rfl, Nat.le_of_ble_eq_true rfl⟩) rfl (have h9 := (hX.1); h9) rfl rfl hl.1 rfl (Nat.le_of_ble_eq_true rfl) dJ5_fixAfterInsertion_115 ⟨Nat.le_of_ble_eq_true rfl, Nat.le_of_ble_eq_true rfl⟩) (fun w115 H locs hp hH hS => ?_)
                  obtain ⟨hX, hk⟩ := hp
                  have hK := hK.trans hk
                  refine lv_aload_n X.x X.b dJ5_fixAfterInsertion_118 rfl (lv_at hl 0 rfl) ?_
                  refine wa_cr hS (wa_rS (rest := []) X hH (mJ5_parentOf  (show At w115 y (eO 19 [.ref (K y), .ref (V y), va_rf ((rtL L P y x0) y), va_rf ((rtR L R P y x0) y), va_rf ((rtP L P y x0) y), .int (zI (C0 y))]) from (hX.nd hyl))  ) (va_cwS 1 X.t (lw_S q905 q906 q118 q907) rfl rfl rfl hdJ5_parentOf.2 ⟨Nat.le_of_ble_eq_true rfl, Nat.le_of_ble_eq_true rfl⟩) rfl rfl hl.1 rfl (Nat.le_of_ble_eq_true rfl) dJ5_fixAfterInsertion_119 ⟨Nat.le_of_ble_eq_true rfl, Nat.le_of_ble_eq_true rfl⟩) (fun r119 w119 H locs hp hH hS => ?_)
                  obtain ⟨rfl, hw⟩ := hp
                  rw [← hw] at hH; clear hw
                  refine wz_opt (q := some x0) (by unfold rtP; exact if_pos rfl) ?_
                  refine wz_iconst X.x X.b dJ5_fixAfterInsertion_122 ?_
                  refine wa_cv hS (wa_rS (rest := []) X hH (mJ5_setColor hX  1 (show x0 ∈ l by first | assumption | omega) nb1 rfl) (va_cwS 2 X.t (lw_S q917 q918 q118 q919) rfl rfl rfl hdJ5_setColor.2 ⟨Nat.le_of_ble_eq_true rfl, Nat.le_of_ble_eq_true rfl⟩) rfl rfl hl.1 rfl (Nat.le_of_ble_eq_true rfl) dJ5_fixAfterInsertion_123 ⟨Nat.le_of_ble_eq_true rfl, Nat.le_of_ble_eq_true rfl⟩) (fun w123 H locs hp hH hS => ?_)
                  obtain ⟨hX, hk⟩ := hp
                  have hK := hK.trans hk
                  refine lv_aload_n X.x X.b dJ5_fixAfterInsertion_126 rfl (lv_at hl 0 rfl) ?_
                  refine wa_cr hS (wa_rS (rest := []) X hH (mJ5_parentOf  (show At w123 y (eO 19 [.ref (K y), .ref (V y), va_rf ((rtL L P y x0) y), va_rf ((rtR L R P y x0) y), va_rf ((rtP L P y x0) y), .int (zI ((nup C0 x0 1) y))]) from (hX.nd hyl))  ) (va_cwS 1 X.t (lw_S q905 q906 q118 q907) rfl rfl rfl hdJ5_parentOf.2 ⟨Nat.le_of_ble_eq_true rfl, Nat.le_of_ble_eq_true rfl⟩) rfl rfl hl.1 rfl (Nat.le_of_ble_eq_true rfl) dJ5_fixAfterInsertion_127 ⟨Nat.le_of_ble_eq_true rfl, Nat.le_of_ble_eq_true rfl⟩) (fun r127 w127 H locs hp hH hS => ?_)
                  obtain ⟨rfl, hw⟩ := hp
                  rw [← hw] at hH; clear hw
                  refine wz_opt (q := some x0) (by unfold rtP; exact if_pos rfl) ?_
                  refine wa_cr hS (wa_rS (rest := []) X hH (mJ5_parentOf  (show At w123 x0 (eO 19 [.ref (K x0), .ref (V x0), va_rf ((rtL L P y x0) x0), va_rf ((rtR L R P y x0) x0), va_rf ((rtP L P y x0) x0), .int (zI ((nup C0 x0 1) x0))]) from (hX.nd i5_0))  ) (va_cwS 1 X.t (lw_S q905 q906 q118 q907) rfl rfl rfl hdJ5_parentOf.2 ⟨Nat.le_of_ble_eq_true rfl, Nat.le_of_ble_eq_true rfl⟩) rfl rfl hl.1 rfl (Nat.le_of_ble_eq_true rfl) dJ5_fixAfterInsertion_130 ⟨Nat.le_of_ble_eq_true rfl, Nat.le_of_ble_eq_true rfl⟩) (fun r130 w130 H locs hp hH hS => ?_)
                  obtain ⟨rfl, hw⟩ := hp
                  rw [← hw] at hH; clear hw
                  refine wz_opt (q := some g) (by unfold rtP; rw [if_neg (Ne.symm hyx), if_pos rfl]; exact hg) ?_
                  refine wz_iconst X.x X.b dJ5_fixAfterInsertion_133 ?_
                  refine wa_cv hS (wa_rS (rest := []) X hH (mJ5_setColor hX  0 (show g ∈ l by first | assumption | omega) nb0 rfl) (va_cwS 2 X.t (lw_S q917 q918 q118 q919) rfl rfl rfl hdJ5_setColor.2 ⟨Nat.le_of_ble_eq_true rfl, Nat.le_of_ble_eq_true rfl⟩) rfl rfl hl.1 rfl (Nat.le_of_ble_eq_true rfl) dJ5_fixAfterInsertion_134 ⟨Nat.le_of_ble_eq_true rfl, Nat.le_of_ble_eq_true rfl⟩) (fun w134 H locs hp hH hS => ?_)
                  obtain ⟨hX, hk⟩ := hp
                  have hK := hK.trans hk
                  have hgu : L g = some y := (show L g = some y from (hy.symm.trans c41).symm)
                  have hgr : (rtL L P y x0) g = some x0 := by unfold rtL; rw [if_neg hgx, if_pos ⟨hg, hgu⟩]
                  refine lv_aload_n X.x X.b dJ5_fixAfterInsertion_137 rfl (lv_at hl 2 rfl) ?_
                  refine lv_aload_n X.x X.b dJ5_fixAfterInsertion_138 rfl (lv_at hl 0 rfl) ?_
                  refine wa_cr hS (wa_rS (rest := [.ref m]) X hH (mJ5_parentOf  (show At w134 y (eO 19 [.ref (K y), .ref (V y), va_rf ((rtL L P y x0) y), va_rf ((rtR L R P y x0) y), va_rf ((rtP L P y x0) y), .int (zI ((nup (nup C0 x0 1) g 0) y))]) from (hX.nd hyl))  ) (va_cwS 1 X.t (lw_S q905 q906 q118 q907) rfl rfl rfl hdJ5_parentOf.2 ⟨Nat.le_of_ble_eq_true rfl, Nat.le_of_ble_eq_true rfl⟩) rfl rfl hl.1 rfl (Nat.le_of_ble_eq_true rfl) dJ5_fixAfterInsertion_139 ⟨Nat.le_of_ble_eq_true rfl, Nat.le_of_ble_eq_true rfl⟩) (fun r139 w139 H locs hp hH hS => ?_)
                  obtain ⟨rfl, hw⟩ := hp
                  rw [← hw] at hH; clear hw
                  refine wz_opt (q := some x0) (by unfold rtP; exact if_pos rfl) ?_
                  refine wa_cr hS (wa_rS (rest := [.ref m]) X hH (mJ5_parentOf  (show At w134 x0 (eO 19 [.ref (K x0), .ref (V x0), va_rf ((rtL L P y x0) x0), va_rf ((rtR L R P y x0) x0), va_rf ((rtP L P y x0) x0), .int (zI ((nup (nup C0 x0 1) g 0) x0))]) from (hX.nd i5_0))  ) (va_cwS 1 X.t (lw_S q905 q906 q118 q907) rfl rfl rfl hdJ5_parentOf.2 ⟨Nat.le_of_ble_eq_true rfl, Nat.le_of_ble_eq_true rfl⟩) rfl rfl hl.1 rfl (Nat.le_of_ble_eq_true rfl) dJ5_fixAfterInsertion_142 ⟨Nat.le_of_ble_eq_true rfl, Nat.le_of_ble_eq_true rfl⟩) (fun r142 w142 H locs hp hH hS => ?_)
                  obtain ⟨rfl, hw⟩ := hp
                  rw [← hw] at hH; clear hw
                  refine wz_opt (q := some g) (by unfold rtP; rw [if_neg (Ne.symm hyx), if_pos rfl]; exact hg) ?_
                  refine wa_cv hS (wa_rV (rest := []) X hH (mJ5_rotateRight hX   hgl hgr ht1 (show l.Nodup by first | assumption | omega)) (cwV 1 X.t (lw_V q924 q926 qs23 q118 q927) rfl rfl rfl hdJ5_rotateRight ⟨Nat.le_of_ble_eq_true rfl, Nat.le_of_ble_eq_true rfl⟩) rfl (have h9 := (hX.1); h9) rfl rfl hl.1 rfl (Nat.le_of_ble_eq_true rfl) dJ5_fixAfterInsertion_145 ⟨Nat.le_of_ble_eq_true rfl, Nat.le_of_ble_eq_true rfl⟩) (fun w145 H locs hp hH hS => ?_)
                  obtain ⟨hX, hk⟩ := hp
                  have hK := hK.trans hk
                  have ht2 := Tr.rotR (R' := rtL (rtR L R P y x0) (rtP L P y x0) g x0) (L' := rtR (rtR L R P y x0) (rtL L P y x0) (rtP L P y x0) g x0) (P' := rtP (rtR L R P y x0) (rtP L P y x0) g x0) hgr ht1 hn hgl (fun q z => by cases z) (fun n _ => ⟨rfl, rfl, rfl⟩)
                  have hmid : ¬ (rtR L R P y x0) x0 = some y := fun e => by
                    unfold rtR at e; rw [if_neg (Ne.symm hyx), if_neg (fun q => by rw [hg] at q; exact hgx (Option.some.inj q.1))] at e
                    exact ht.irr2 hn i5_0 hyl hy ((ht.kid x0 i5_0).1 y e).2
                  have hfin : (rtP (rtR L R P y x0) (rtP L P y x0) g x0) y = some x0 := by unfold rtP; rw [if_neg (Ne.symm hgy), if_neg hyx]; exact (if_neg hmid).trans (by first | rfl | exact if_pos rfl)
                  refine lv_goto (tgt := 5) X.x X.b dJ5_fixAfterInsertion_148 (by decide) ?_
                  refine lv_aload_n X.x X.b dJ5_fixAfterInsertion_5 rfl (lv_at hl 0 rfl) ?_
                  refine lv_ifnull X.x X.b dJ5_fixAfterInsertion_6 ?_
                  refine lv_aload_n X.x X.b dJ5_fixAfterInsertion_9 rfl (lv_at hl 0 rfl) ?_
                  refine lv_aload_n X.x X.b dJ5_fixAfterInsertion_10 rfl (lv_at hl 2 rfl) ?_
                  refine wa_get (v := va_rf (if (if ro = some y then some x0 else ro) = some g then some x0 else (if ro = some y then some x0 else ro))) X hH (have h9 := (hX.1); h9) wcJ5 3 (by decide) q237 rfl (fun _ h9 => h9) rfl dJ5_fixAfterInsertion_11 ?_
                  refine lv_acmp_eq (rx := some y) (ry := if (if ro = some y then some x0 else ro) = some g then some x0 else (if ro = some y then some x0 else ro)) (tgt := 258) X.x X.b dJ5_fixAfterInsertion_14 (by decide) (fun c14 => ?_) (fun c14 => ?_)
                  · obtain ⟨r1, hr1, hr1l⟩ := ht2.hasRoot i5_0
                    refine lv_aload_n X.x X.b dJ5_fixAfterInsertion_258 rfl (lv_at hl 2 rfl) ?_
                    refine wa_get (v := va_rf (if (if ro = some y then some x0 else ro) = some g then some x0 else (if ro = some y then some x0 else ro))) X hH (have h9 := (hX.1); h9) wcJ5 3 (by decide) q237 rfl (fun _ h9 => h9) rfl dJ5_fixAfterInsertion_259 ?_
                    refine wz_opt (q := some r1) (by exact hr1) ?_
                    refine wz_iconst X.x X.b dJ5_fixAfterInsertion_262 ?_
                    refine wa_put X hH hS (have h9 := (hX.nd hr1l); h9) wcJ10 5 (by decide) q798 rfl (fun _ h9 => h9) rfl nb1 rfl (Nat.le_of_ble_eq_true rfl) dJ5_fixAfterInsertion_263 (fun w263 H locs ew hH hS => ?_)
                    have hk : Fr m l w145 w263 := Fr.nd hr1l ew
                    have hX := hX.sC (x := 1) hr1l ew
                    have hK := hK.trans hk
                    clear ew
                    exact wa_vret X hH hS dJ5_fixAfterInsertion_266 ⟨_, _, _, _, _, hX, hK, ht2, (fun r e => by cases hr1.symm.trans e; exact nup_s), (fun n hn1 => by exact br (bl (br (i5_1 n hn1))))⟩
                  · refine lv_aload_n X.x X.b dJ5_fixAfterInsertion_17 rfl (lv_at hl 0 rfl) ?_
                    refine wa_get (v := va_rf ((rtP (rtR L R P y x0) (rtP L P y x0) g x0) y)) X hH (have h9 := (hX.nd hyl); h9) wcJ10 4 (by decide) q796 rfl (fun _ h9 => h9) rfl dJ5_fixAfterInsertion_18 ?_
                    refine wz_opt (q := some x0) (by exact hfin) ?_
                    refine wa_get (v := .int (zI ((nup (nup C0 x0 1) g 0) x0))) X hH (have h9 := (hX.nd i5_0); h9) wcJ10 5 (by decide) q798 rfl (fun _ h9 => h9) rfl dJ5_fixAfterInsertion_21 ?_
                    refine wz_is (z := 1) (by rw [nup_n (Ne.symm hgx), nup_s]) ?_
                    refine wz_ifne (tgt := 258) X.x X.b dJ5_fixAfterInsertion_24 (by decide) (by decide) (fun _ => ?_) (fun h => absurd h (by decide))
                    obtain ⟨r1, hr1, hr1l⟩ := ht2.hasRoot i5_0
                    refine lv_aload_n X.x X.b dJ5_fixAfterInsertion_258 rfl (lv_at hl 2 rfl) ?_
                    refine wa_get (v := va_rf (if (if ro = some y then some x0 else ro) = some g then some x0 else (if ro = some y then some x0 else ro))) X hH (have h9 := (hX.1); h9) wcJ5 3 (by decide) q237 rfl (fun _ h9 => h9) rfl dJ5_fixAfterInsertion_259 ?_
                    refine wz_opt (q := some r1) (by exact hr1) ?_
                    refine wz_iconst X.x X.b dJ5_fixAfterInsertion_262 ?_
                    refine wa_put X hH hS (have h9 := (hX.nd hr1l); h9) wcJ10 5 (by decide) q798 rfl (fun _ h9 => h9) rfl nb1 rfl (Nat.le_of_ble_eq_true rfl) dJ5_fixAfterInsertion_263 (fun w263 H locs ew hH hS => ?_)
                    have hk : Fr m l w145 w263 := Fr.nd hr1l ew
                    have hX := hX.sC (x := 1) hr1l ew
                    have hK := hK.trans hk
                    clear ew
                    exact wa_vret X hH hS dJ5_fixAfterInsertion_266 ⟨_, _, _, _, _, hX, hK, ht2, (fun r e => by cases hr1.symm.trans e; exact nup_s), (fun n hn1 => by exact br (bl (br (i5_1 n hn1))))⟩
              · refine lv_aload_n X.x X.b dJ5_fixAfterInsertion_62 rfl (lv_at hl 1 rfl) ?_
                refine wa_cr hS (wa_rS (rest := []) X hH (mJ5_parentOf  (show At wl5 x0 (eO 19 [.ref (K x0), .ref (V x0), va_rf (L x0), va_rf (R x0), va_rf (P x0), .int (zI (C0 x0))]) from (hX.nd i5_0))  ) (va_cwS 1 X.t (lw_S q905 q906 q118 q907) rfl rfl rfl hdJ5_parentOf.2 ⟨Nat.le_of_ble_eq_true rfl, Nat.le_of_ble_eq_true rfl⟩) rfl rfl hl.1 rfl (Nat.le_of_ble_eq_true rfl) dJ5_fixAfterInsertion_63 ⟨Nat.le_of_ble_eq_true rfl, Nat.le_of_ble_eq_true rfl⟩) (fun r63 w63 H locs hp hH hS => ?_)
                obtain ⟨rfl, hw⟩ := hp
                rw [← hw] at hH; clear hw
                refine wz_opt (q := some y) (by exact hy) ?_
                refine wz_iconst X.x X.b dJ5_fixAfterInsertion_66 ?_
                refine wa_cv hS (wa_rS (rest := []) X hH (mJ5_setColor hX  1 (show y ∈ l by first | assumption | omega) nb1 rfl) (va_cwS 2 X.t (lw_S q917 q918 q118 q919) rfl rfl rfl hdJ5_setColor.2 ⟨Nat.le_of_ble_eq_true rfl, Nat.le_of_ble_eq_true rfl⟩) rfl rfl hl.1 rfl (Nat.le_of_ble_eq_true rfl) dJ5_fixAfterInsertion_67 ⟨Nat.le_of_ble_eq_true rfl, Nat.le_of_ble_eq_true rfl⟩) (fun w67 H locs hp hH hS => ?_)
                obtain ⟨hX, hk⟩ := hp
                have hK := hK.trans hk
                refine lv_aload_n X.x X.b dJ5_fixAfterInsertion_70 rfl (lv_at hl 0 rfl) ?_
                refine wz_iconst X.x X.b dJ5_fixAfterInsertion_71 ?_
                refine wa_cv hS (wa_rS (rest := []) X hH (mJ5_setColor hX  1 (show a56 ∈ l by first | assumption | omega) nb1 rfl) (va_cwS 2 X.t (lw_S q917 q918 q118 q919) rfl rfl rfl hdJ5_setColor.2 ⟨Nat.le_of_ble_eq_true rfl, Nat.le_of_ble_eq_true rfl⟩) rfl rfl hl.1 rfl (Nat.le_of_ble_eq_true rfl) dJ5_fixAfterInsertion_72 ⟨Nat.le_of_ble_eq_true rfl, Nat.le_of_ble_eq_true rfl⟩) (fun w72 H locs hp hH hS => ?_)
                obtain ⟨hX, hk⟩ := hp
                have hK := hK.trans hk
                refine lv_aload_n X.x X.b dJ5_fixAfterInsertion_75 rfl (lv_at hl 1 rfl) ?_
                refine wa_cr hS (wa_rS (rest := []) X hH (mJ5_parentOf  (show At w72 x0 (eO 19 [.ref (K x0), .ref (V x0), va_rf (L x0), va_rf (R x0), va_rf (P x0), .int (zI ((nup (nup C0 y 1) a56 1) x0))]) from (hX.nd i5_0))  ) (va_cwS 1 X.t (lw_S q905 q906 q118 q907) rfl rfl rfl hdJ5_parentOf.2 ⟨Nat.le_of_ble_eq_true rfl, Nat.le_of_ble_eq_true rfl⟩) rfl rfl hl.1 rfl (Nat.le_of_ble_eq_true rfl) dJ5_fixAfterInsertion_76 ⟨Nat.le_of_ble_eq_true rfl, Nat.le_of_ble_eq_true rfl⟩) (fun r76 w76 H locs hp hH hS => ?_)
                obtain ⟨rfl, hw⟩ := hp
                rw [← hw] at hH; clear hw
                refine wz_opt (q := some y) (by exact hy) ?_
                refine wa_cr hS (wa_rS (rest := []) X hH (mJ5_parentOf  (show At w72 y (eO 19 [.ref (K y), .ref (V y), va_rf (L y), va_rf (R y), va_rf (P y), .int (zI ((nup (nup C0 y 1) a56 1) y))]) from (hX.nd hyl))  ) (va_cwS 1 X.t (lw_S q905 q906 q118 q907) rfl rfl rfl hdJ5_parentOf.2 ⟨Nat.le_of_ble_eq_true rfl, Nat.le_of_ble_eq_true rfl⟩) rfl rfl hl.1 rfl (Nat.le_of_ble_eq_true rfl) dJ5_fixAfterInsertion_79 ⟨Nat.le_of_ble_eq_true rfl, Nat.le_of_ble_eq_true rfl⟩) (fun r79 w79 H locs hp hH hS => ?_)
                obtain ⟨rfl, hw⟩ := hp
                rw [← hw] at hH; clear hw
                refine wz_opt (q := some g) (by exact hg) ?_
                refine wz_iconst X.x X.b dJ5_fixAfterInsertion_82 ?_
                refine wa_cv hS (wa_rS (rest := []) X hH (mJ5_setColor hX  0 (show g ∈ l by first | assumption | omega) nb0 rfl) (va_cwS 2 X.t (lw_S q917 q918 q118 q919) rfl rfl rfl hdJ5_setColor.2 ⟨Nat.le_of_ble_eq_true rfl, Nat.le_of_ble_eq_true rfl⟩) rfl rfl hl.1 rfl (Nat.le_of_ble_eq_true rfl) dJ5_fixAfterInsertion_83 ⟨Nat.le_of_ble_eq_true rfl, Nat.le_of_ble_eq_true rfl⟩) (fun w83 H locs hp hH hS => ?_)
                obtain ⟨hX, hk⟩ := hp
                have hK := hK.trans hk
                refine lv_aload_n X.x X.b dJ5_fixAfterInsertion_86 rfl (lv_at hl 1 rfl) ?_
                refine wa_cr hS (wa_rS (rest := []) X hH (mJ5_parentOf  (show At w83 x0 (eO 19 [.ref (K x0), .ref (V x0), va_rf (L x0), va_rf (R x0), va_rf (P x0), .int (zI ((nup (nup (nup C0 y 1) a56 1) g 0) x0))]) from (hX.nd i5_0))  ) (va_cwS 1 X.t (lw_S q905 q906 q118 q907) rfl rfl rfl hdJ5_parentOf.2 ⟨Nat.le_of_ble_eq_true rfl, Nat.le_of_ble_eq_true rfl⟩) rfl rfl hl.1 rfl (Nat.le_of_ble_eq_true rfl) dJ5_fixAfterInsertion_87 ⟨Nat.le_of_ble_eq_true rfl, Nat.le_of_ble_eq_true rfl⟩) (fun r87 w87 H locs hp hH hS => ?_)
                obtain ⟨rfl, hw⟩ := hp
                rw [← hw] at hH; clear hw
                refine wz_opt (q := some y) (by exact hy) ?_
                refine wa_cr hS (wa_rS (rest := []) X hH (mJ5_parentOf  (show At w83 y (eO 19 [.ref (K y), .ref (V y), va_rf (L y), va_rf (R y), va_rf (P y), .int (zI ((nup (nup (nup C0 y 1) a56 1) g 0) y))]) from (hX.nd hyl))  ) (va_cwS 1 X.t (lw_S q905 q906 q118 q907) rfl rfl rfl hdJ5_parentOf.2 ⟨Nat.le_of_ble_eq_true rfl, Nat.le_of_ble_eq_true rfl⟩) rfl rfl hl.1 rfl (Nat.le_of_ble_eq_true rfl) dJ5_fixAfterInsertion_90 ⟨Nat.le_of_ble_eq_true rfl, Nat.le_of_ble_eq_true rfl⟩) (fun r90 w90 H locs hp hH hS => ?_)
                obtain ⟨rfl, hw⟩ := hp
                rw [← hw] at hH; clear hw
                refine wz_opt (q := some g) (by exact hg) ?_
                refine lv_astore_n (lv' := [(1, .ref g), (2, .ref a56), (0, .ref m)]) X.x X.b dJ5_fixAfterInsertion_93 rfl hl (by decide) rfl (fun ls hl => ?_)
                refine lv_goto (tgt := 148) X.x X.b dJ5_fixAfterInsertion_94 (by decide) ?_
                refine lv_goto (tgt := 5) X.x X.b dJ5_fixAfterInsertion_148 (by decide) ?_
                exact ih5 _ (by have e1 := (hd x0 i5_0).2 y hy hyl; have e2 := (hd y hyl).2 g hg hgl; omega) g (nup (nup (nup C0 y 1) a56 1) g 0) rfl (by exact hgl) (by intro n q; exact bl (br (br (i5_1 n q)))) (by intro r e; by_cases z : r = g; exact Or.inr z; exact Or.inl (by rw [nup_n z]; exact b1 (b1 ((i5_2 r e).resolve_right (fun z2 => c14 (by rw [← z2]; exact e.symm)))))) _ _ _ _ hX hK  hH hS (lv_sub hl [0, 2] rfl)
  exact L5 _ x (nup C x 0) rfl (by exact hx) (by intro n q; exact bl (hC n q)) (by intro r e; rcases hroot r e with q | q; (by_cases z : r = x; exact Or.inr z; exact Or.inl (by rw [nup_n z]; exact q)); exact Or.inr q) _ _ _ _ hX hK  hH hS (lv_sub hl [1, 0] rfl)

/-! JOINER: below, seam -/
set_option maxRecDepth 100000 in
theorem mX2_below {lL : Launch} {G : wa_G} {ad : Nat → Nat} {w : wa_W} {S : Nat → Int} {A : Nat → Int → Int} {B : Nat → Int → Option Nat} {P : Nat → Option Nat} (hX : XW G ad w S A B P) {wb : wa_W} {q : Nat} {F : Int → Int → Int} (hSQ : SQ G ad wb w q F) (r : Int) (c : Int) (hr : 0 ≤ r ∧ r ≤ 4) (hc : 0 ≤ c ∧ c ≤ 7) (hF : ∀ d, 0 ≤ d → d ≤ 7 → rI (F r d)) : Met lL yX2_below (ws_ yX2_below cX2_below 7 (some FieldType.int)) ({ frames := 1, cells := 0, slots := 0, locals := 21 } : Room) (wa_P G w [.ref (ad 24), .ref q, .int (zI r), .int (zI c)]) (wa_Qz G fun z u => z = bwS (F r) c ∧ w = u) 0 0 (wa_A G) := by
  refine wa_met (by decide) (by exact Nat.le_of_ble_eq_true rfl) ?_
  intro pP eE sS mM aA bB mT cC ls X hl hH
  have hS : va_S (wa_A G) sS.heap sS.heap [] := va_S.rf
  have hl : lv_has ls 7 [(0, .ref (ad 24)), (1, .ref q), (2, .int (zI r)), (3, .int (zI c))] := hl
  have hK : Kp ad w w := Kp.rf
  have hSQ_0 := hSQ
  have hrng : ∀ d, 0 ≤ d → d ≤ 7 → rI (F r d) := hF
  refine lv_iload_n X.x X.b dX2_below_0 rfl (lv_at hl 3 rfl) ?_
  refine lv_istore (lv' := [(4, .int (zI c)), (0, .ref (ad 24)), (1, .ref q), (2, .int (zI r)), (3, .int (zI c))]) X.x X.b dX2_below_1 hl (by decide) rfl (fun ls hl => ?_)
  refine wz_iconst X.x X.b dX2_below_3 ?_
  refine lv_iload_n X.x X.b dX2_below_4 rfl (lv_at hl 4 rfl) ?_
  refine wz_iconst X.x X.b dX2_below_5 ?_
  refine wz_isub X.x X.b dX2_below_6 ?_
  refine wa_ci hS (wa_rS (rest := []) X hH (mJ0_max_2 _  0 (c - 1) (show rI 0 by first | assumption | omega) (show rI (c - 1) by first | assumption | omega)) (va_cwS 2 X.t (lw_S q1281 q1163 q111 q1164) rfl rfl rfl hdJ0_max_2.2 ⟨Nat.le_of_ble_eq_true rfl, Nat.le_of_ble_eq_true rfl⟩) rfl rfl hl.1 rfl (Nat.le_of_ble_eq_true rfl) dX2_below_7 ⟨Nat.le_of_ble_eq_true rfl, Nat.le_of_ble_eq_true rfl⟩) (fun z w7 H locs hp hH hS => ?_)
  obtain ⟨rfl, hw⟩ := hp
  rw [← hw] at hH; clear hw
  refine lv_istore (lv' := [(5, .int (zI (max 0 (c - 1)))), (4, .int (zI c)), (0, .ref (ad 24)), (1, .ref q), (2, .int (zI r)), (3, .int (zI c))]) X.x X.b dX2_below_10 hl (by decide) rfl (fun ls hl => ?_)
  have L12 : ∀ (nn : Nat) (q0 : Int) (le : Int), ((min 7 (c + 1) + 1 - q0).toNat) = nn → (max 0 (c - 1) ≤ q0 ∧ q0 ≤ min 7 (c + 1) + 1) → (0 ≤ q0) → (le = bwN (F r) (max 0 (c - 1)) (q0 - max 0 (c - 1)).toNat c) → ∀ (H : Heap) (locs : List Loc) (ls : Array Slot), wa_H G w H → va_S (wa_A G) sS.heap H locs → lv_has ls 7 [(4, .int (zI le)), (5, .int (zI q0)), (0, .ref (ad 24)), (1, .ref q), (2, .int (zI r)), (3, .int (zI c))] → W pP lL eE ({ frames := 1, cells := 0, slots := 0, locals := 21 } : Room) sS mM aA bB mT cC H locs 0 0 (MQ bB (wa_Qz G fun z u => z = bwS (F r) c ∧ w = u) aA sS 0 0 (wa_A G)) (F0 mM 12 ls []) := by
    intro nn
    induction nn using Nat.strongRecOn with
    | ind nn ih12 =>
      intro q0 le hmu12 i12_0 i12_1 i12_2 H locs ls hH hS hl
      refine lv_iload X.x X.b dX2_below_12 (lv_at hl 1 rfl) ?_
      refine wz_bipush X.x X.b dX2_below_14 rfl ?_
      refine lv_iload_n X.x X.b dX2_below_16 rfl (lv_at hl 5 rfl) ?_
      refine wz_iconst X.x X.b dX2_below_17 ?_
      refine wz_iadd X.x X.b dX2_below_18 ?_
      refine wa_ci hS (wa_rS (rest := [.int (zI q0)]) X hH (mJ0_min_2 _  7 (c + 1) (show rI 7 by first | assumption | omega) (show rI (c + 1) by first | assumption | omega)) (va_cwS 2 X.t (lw_S q627 q628 q111 q629) rfl rfl rfl hdJ0_min_2.2 ⟨Nat.le_of_ble_eq_true rfl, Nat.le_of_ble_eq_true rfl⟩) rfl rfl hl.1 rfl (Nat.le_of_ble_eq_true rfl) dX2_below_19 ⟨Nat.le_of_ble_eq_true rfl, Nat.le_of_ble_eq_true rfl⟩) (fun z w19 H locs hp hH hS => ?_)
      obtain ⟨rfl, hw⟩ := hp
      rw [← hw] at hH; clear hw
      refine wz_icmp_gt (tgt := 89) X.x X.b dX2_below_22 (by decide) ⟨by omega, by omega⟩ ⟨by omega, by omega⟩ (fun c22 => ?_) (fun c22 => ?_)
      · refine lv_iload X.x X.b dX2_below_89 (lv_at hl 0 rfl) ?_
        exact wa_iret X hH hS dX2_below_91 ⟨by (unfold bwS; rw [i12_2]; congr 2; omega), rfl⟩
      · have hl8 : 0 ≤ le ∧ le ≤ 7 := by rw [i12_2]; exact bwN_in _ (by omega) (by omega)
        have hr1 := hF q0 (by omega) (by omega)
        have hr2 := hF le (by omega) (by omega)
        refine lv_aload_n X.x X.b dX2_below_25 rfl (lv_at hl 3 rfl) ?_
        refine lv_iload_n X.x X.b dX2_below_26 rfl (lv_at hl 4 rfl) ?_
        refine wa_aald (k := 7) (f := fun i => some (q + 1 + i.toNat)) X hH hSQ.out.2 rfl rfl (by omega) (by omega) (by omega) dX2_below_27 ?_
        refine wz_opt (q := some (q + 1 + Int.toNat r)) (by rfl) ?_
        have fr : Lc ad w (q + 1 + Int.toNat r) (eI G 8 (F r)) := hSQ.row (by omega) (by omega)
        refine lv_iload X.x X.b dX2_below_28 (lv_at hl 1 rfl) ?_
        refine wa_iald (f := F r) X hH fr.2 (by omega) (by omega) (by omega) dX2_below_30 ?_
        refine lv_aload_n X.x X.b dX2_below_31 rfl (lv_at hl 3 rfl) ?_
        refine lv_iload_n X.x X.b dX2_below_32 rfl (lv_at hl 4 rfl) ?_
        refine wa_aald (k := 7) (f := fun i => some (q + 1 + i.toNat)) X hH hSQ.out.2 rfl rfl (by omega) (by omega) (by omega) dX2_below_33 ?_
        refine wz_opt (q := some (q + 1 + Int.toNat r)) (by rfl) ?_
        refine lv_iload X.x X.b dX2_below_34 (lv_at hl 0 rfl) ?_
        refine wa_iald (f := F r) X hH fr.2 (by omega) (by omega) (by omega) dX2_below_36 ?_
        refine wz_icmp_lt (tgt := 62) X.x X.b dX2_below_37 (by decide) (by assumption) (by assumption) (fun c37 => ?_) (fun c37 => ?_)
        · refine wz_iconst X.x X.b dX2_below_62 ?_
          refine lv_goto (tgt := 67) X.x X.b dX2_below_63 (by decide) ?_
          refine lv_istore (lv' := [(6, .int (zI 1)), (4, .int (zI le)), (5, .int (zI q0)), (0, .ref (ad 24)), (1, .ref q), (2, .int (zI r)), (3, .int (zI c))]) X.x X.b dX2_below_67 hl (by decide) rfl (fun ls hl => ?_)
          refine lv_iload X.x X.b dX2_below_69 (lv_at hl 0 rfl) ?_
          refine wz_ifeq (tgt := 79) X.x X.b dX2_below_71 (by decide) (by decide) (fun h => absurd h (by decide)) (fun _ => ?_)
          refine lv_iload X.x X.b dX2_below_74 (lv_at hl 2 rfl) ?_
          refine lv_goto (tgt := 81) X.x X.b dX2_below_76 (by decide) ?_
          refine lv_istore (lv' := [(4, .int (zI q0)), (6, .int (zI 1)), (5, .int (zI q0)), (0, .ref (ad 24)), (1, .ref q), (2, .int (zI r)), (3, .int (zI c))]) X.x X.b dX2_below_81 hl (by decide) rfl (fun ls hl => ?_)
          refine wz_iinc (k := 2) (lv' := [(5, .int (zI (q0 + 1))), (4, .int (zI q0)), (6, .int (zI 1)), (0, .ref (ad 24)), (1, .ref q), (2, .int (zI r)), (3, .int (zI c))]) X.x X.b dX2_below_83 hl rfl (by decide) rfl (fun ls hl => ?_)
          refine lv_goto (tgt := 12) X.x X.b dX2_below_86 (by decide) ?_
          exact ih12 _ (by omega) (q0 + 1) q0 rfl (by omega) (by omega) (by rw [bwN_s i12_0.1, ← i12_2]; unfold bw1; first | rw [if_pos (by omega)] | rw [if_neg (by omega)]) _ _ _ hH hS (lv_sub hl [1, 0, 3, 4, 5, 6] rfl)
        · refine lv_aload_n X.x X.b dX2_below_40 rfl (lv_at hl 3 rfl) ?_
          refine lv_iload_n X.x X.b dX2_below_41 rfl (lv_at hl 4 rfl) ?_
          refine wa_aald (k := 7) (f := fun i => some (q + 1 + i.toNat)) X hH hSQ.out.2 rfl rfl (by omega) (by omega) (by omega) dX2_below_42 ?_
          refine wz_opt (q := some (q + 1 + Int.toNat r)) (by rfl) ?_
          refine lv_iload X.x X.b dX2_below_43 (lv_at hl 1 rfl) ?_
          refine wa_iald (f := F r) X hH fr.2 (by omega) (by omega) (by omega) dX2_below_45 ?_
          refine lv_aload_n X.x X.b dX2_below_46 rfl (lv_at hl 3 rfl) ?_
          refine lv_iload_n X.x X.b dX2_below_47 rfl (lv_at hl 4 rfl) ?_
          refine wa_aald (k := 7) (f := fun i => some (q + 1 + i.toNat)) X hH hSQ.out.2 rfl rfl (by omega) (by omega) (by omega) dX2_below_48 ?_
          refine wz_opt (q := some (q + 1 + Int.toNat r)) (by rfl) ?_
          refine lv_iload X.x X.b dX2_below_49 (lv_at hl 0 rfl) ?_
          refine wa_iald (f := F r) X hH fr.2 (by omega) (by omega) (by omega) dX2_below_51 ?_
          refine wz_icmp_ne (tgt := 66) X.x X.b dX2_below_52 (by decide) (by assumption) (by assumption) (fun c52 => ?_) (fun c52 => ?_)
          · refine wz_iconst X.x X.b dX2_below_66 ?_
            refine lv_istore (lv' := [(6, .int (zI 0)), (4, .int (zI le)), (5, .int (zI q0)), (0, .ref (ad 24)), (1, .ref q), (2, .int (zI r)), (3, .int (zI c))]) X.x X.b dX2_below_67 hl (by decide) rfl (fun ls hl => ?_)
            refine lv_iload X.x X.b dX2_below_69 (lv_at hl 0 rfl) ?_
            refine wz_ifeq (tgt := 79) X.x X.b dX2_below_71 (by decide) (by decide) (fun _ => ?_) (fun h => absurd h (by decide))
            refine lv_iload X.x X.b dX2_below_79 (lv_at hl 1 rfl) ?_
            refine lv_istore (lv' := [(4, .int (zI le)), (6, .int (zI 0)), (5, .int (zI q0)), (0, .ref (ad 24)), (1, .ref q), (2, .int (zI r)), (3, .int (zI c))]) X.x X.b dX2_below_81 hl (by decide) rfl (fun ls hl => ?_)
            refine wz_iinc (k := 2) (lv' := [(5, .int (zI (q0 + 1))), (4, .int (zI le)), (6, .int (zI 0)), (0, .ref (ad 24)), (1, .ref q), (2, .int (zI r)), (3, .int (zI c))]) X.x X.b dX2_below_83 hl rfl (by decide) rfl (fun ls hl => ?_)
            refine lv_goto (tgt := 12) X.x X.b dX2_below_86 (by decide) ?_
            exact ih12 _ (by omega) (q0 + 1) le rfl (by omega) (by omega) (by rw [bwN_s i12_0.1, ← i12_2]; unfold bw1; first | rw [if_pos (by omega)] | rw [if_neg (by omega)]) _ _ _ hH hS (lv_sub hl [1, 0, 3, 4, 5, 6] rfl)
          · refine lv_iload X.x X.b dX2_below_55 (lv_at hl 1 rfl) ?_
            refine lv_iload X.x X.b dX2_below_57 (lv_at hl 0 rfl) ?_
            refine wz_icmp_ge (tgt := 66) X.x X.b dX2_below_59 (by decide) ⟨by omega, by omega⟩ ⟨by omega, by omega⟩ (fun c59 => ?_) (fun c59 => ?_)
            · refine wz_iconst X.x X.b dX2_below_66 ?_
              refine lv_istore (lv' := [(6, .int (zI 0)), (4, .int (zI le)), (5, .int (zI q0)), (0, .ref (ad 24)), (1, .ref q), (2, .int (zI r)), (3, .int (zI c))]) X.x X.b dX2_below_67 hl (by decide) rfl (fun ls hl => ?_)
              refine lv_iload X.x X.b dX2_below_69 (lv_at hl 0 rfl) ?_
              refine wz_ifeq (tgt := 79) X.x X.b dX2_below_71 (by decide) (by decide) (fun _ => ?_) (fun h => absurd h (by decide))
              refine lv_iload X.x X.b dX2_below_79 (lv_at hl 1 rfl) ?_
              refine lv_istore (lv' := [(4, .int (zI le)), (6, .int (zI 0)), (5, .int (zI q0)), (0, .ref (ad 24)), (1, .ref q), (2, .int (zI r)), (3, .int (zI c))]) X.x X.b dX2_below_81 hl (by decide) rfl (fun ls hl => ?_)
              refine wz_iinc (k := 2) (lv' := [(5, .int (zI (q0 + 1))), (4, .int (zI le)), (6, .int (zI 0)), (0, .ref (ad 24)), (1, .ref q), (2, .int (zI r)), (3, .int (zI c))]) X.x X.b dX2_below_83 hl rfl (by decide) rfl (fun ls hl => ?_)
              refine lv_goto (tgt := 12) X.x X.b dX2_below_86 (by decide) ?_
              exact ih12 _ (by omega) (q0 + 1) le rfl (by omega) (by omega) (by rw [bwN_s i12_0.1, ← i12_2]; unfold bw1; first | rw [if_pos (by omega)] | rw [if_neg (by omega)]) _ _ _ hH hS (lv_sub hl [1, 0, 3, 4, 5, 6] rfl)
            · refine wz_iconst X.x X.b dX2_below_62 ?_
              refine lv_goto (tgt := 67) X.x X.b dX2_below_63 (by decide) ?_
              refine lv_istore (lv' := [(6, .int (zI 1)), (4, .int (zI le)), (5, .int (zI q0)), (0, .ref (ad 24)), (1, .ref q), (2, .int (zI r)), (3, .int (zI c))]) X.x X.b dX2_below_67 hl (by decide) rfl (fun ls hl => ?_)
              refine lv_iload X.x X.b dX2_below_69 (lv_at hl 0 rfl) ?_
              refine wz_ifeq (tgt := 79) X.x X.b dX2_below_71 (by decide) (by decide) (fun h => absurd h (by decide)) (fun _ => ?_)
              refine lv_iload X.x X.b dX2_below_74 (lv_at hl 2 rfl) ?_
              refine lv_goto (tgt := 81) X.x X.b dX2_below_76 (by decide) ?_
              refine lv_istore (lv' := [(4, .int (zI q0)), (6, .int (zI 1)), (5, .int (zI q0)), (0, .ref (ad 24)), (1, .ref q), (2, .int (zI r)), (3, .int (zI c))]) X.x X.b dX2_below_81 hl (by decide) rfl (fun ls hl => ?_)
              refine wz_iinc (k := 2) (lv' := [(5, .int (zI (q0 + 1))), (4, .int (zI q0)), (6, .int (zI 1)), (0, .ref (ad 24)), (1, .ref q), (2, .int (zI r)), (3, .int (zI c))]) X.x X.b dX2_below_83 hl rfl (by decide) rfl (fun ls hl => ?_)
              refine lv_goto (tgt := 12) X.x X.b dX2_below_86 (by decide) ?_
              exact ih12 _ (by omega) (q0 + 1) q0 rfl (by omega) (by omega) (by rw [bwN_s i12_0.1, ← i12_2]; unfold bw1; first | rw [if_pos (by omega)] | rw [if_neg (by omega)]) _ _ _ hH hS (lv_sub hl [1, 0, 3, 4, 5, 6] rfl)
  exact L12 _ (max 0 (c - 1)) c rfl (by omega) (by omega) (by rw [show (max 0 (c - 1) - max 0 (c - 1)).toNat = 0 by omega]; rfl) _ _ _ hH hS (lv_sub hl [1, 0, 2, 3, 4, 5] rfl)
set_option maxRecDepth 100000 in
theorem mX2_seam {lL : Launch} {G : wa_G} {ad : Nat → Nat} {w : wa_W} {S : Nat → Int} {A : Nat → Int → Int} {B : Nat → Int → Option Nat} {P : Nat → Option Nat} (hX : XW G ad w S A B P) {l : Nat} {sc : Nat} {a : Int} {v : Int} {g : Int → Int} (hPX : PX G ad w (B 10) g) (fl0 : Lnk ad w l sc a (foS g a) v (eS g a) (fS g a)) (ha : 0 ≤ a ∧ a < g 3) (hfo : ¬ foS g a = -1) (ho : okS g) (hpos : 1 ≤ fS g a ∧ fS g a ≤ 5) : Met lL yX2_seam (ws_ yX2_seam cX2_seam 7 (some (FieldType.array FieldType.int))) ({ frames := 2, cells := 7, slots := 49, locals := 47 } : Room) (wa_P G w [.ref (ad 24), .ref l]) (wa_Qr G fun r u => ∃ (q : Nat) (row : Int → Int), XW G ad u S A B P ∧ Kp ad w u ∧ (r = some q) ∧ (Lc ad u q (eI G 4 row)) ∧ (∀ i, 0 ≤ i → i ≤ 3 → row i = smS g a i)) 7 49 (wa_A G) := by
  refine wa_met (by decide) (by exact Nat.le_of_ble_eq_true rfl) ?_
  intro pP eE sS mM aA bB mT cC ls X hl hH
  have hS : va_S (wa_A G) sS.heap sS.heap [] := va_S.rf
  have hl : lv_has ls 7 [(0, .ref (ad 24)), (1, .ref l)] := hl
  have hK : Kp ad w w := Kp.rf
  have hPX_0 := hPX
  have fl0_0 := fl0
  have hmany := ho.many
  have hef := efS_in (g := g) a
  have hfi := foS_in ho ha.1 ha.2
  refine wz_iconst X.x X.b dX2_seam_0 ?_
  refine wz_bipush X.x X.b dX2_seam_1 rfl ?_
  have hX_3 := hX
  have hK_3 := hK
  have hPX_3 := hPX
  have fl0_3 := fl0
  refine wa_multi (n := 5) (k := 8) (N := 5) (M := 8) X hH hS rfl q1270 q187 rfl rfl (by decide) (Nat.le_of_ble_eq_true rfl) (Nat.le_of_ble_eq_true rfl) dX2_seam_3 (fun nq3 w3 H hn3 hm3 hE3 ei3 ej3 hH hS => ?_)
  have hX := hX.ext hE3
  have hk := hE3.k (ad := ad)
  have hPX := hPX.kp hk
  have fl0 := fl0.kp hk
  have hK := hK.kp hk
  have hN3 := hk
  have hSQ : SQ G ad w w3 nq3 (fun _ _ => 0) := SQ.new hX_3 hn3 hm3 ei3 ej3
  refine lv_astore_n (lv' := [(2, .ref nq3), (0, .ref (ad 24)), (1, .ref l)]) X.x X.b dX2_seam_7 rfl hl (by decide) rfl (fun ls hl => ?_)
  refine wz_iconst X.x X.b dX2_seam_8 ?_
  refine lv_istore_n (lv' := [(3, .int (zI 3)), (2, .ref nq3), (0, .ref (ad 24)), (1, .ref l)]) X.x X.b dX2_seam_9 rfl hl (by decide) rfl (fun ls hl => ?_)
  have L10 : ∀ (nn : Nat) (r : Int) (F : Int → Int → Int), ((r + 1).toNat) = nn → (-1 ≤ r ∧ r ≤ 3) → (SUM g a r F) → (∀ i d, 0 ≤ i → i ≤ 4 → 0 ≤ d → d ≤ 7 → 0 ≤ F i d ∧ F i d ≤ 1000000 + 63 * (3 - r)) → ∀ (wl10 : wa_W) (H : Heap) (locs : List Loc) (ls : Array Slot), XW G ad wl10 S A B P → Kp ad w wl10 → PX G ad wl10 (B 10) g → Lnk ad wl10 l sc a (foS g a) v (eS g a) (fS g a) → Kp ad w wl10 → SQ G ad w wl10 nq3 F → wa_H G wl10 H → va_S (wa_A G) sS.heap H locs → lv_has ls 7 [(3, .int (zI r)), (2, .ref nq3), (0, .ref (ad 24)), (1, .ref l)] → W pP lL eE ({ frames := 2, cells := 7, slots := 49, locals := 47 } : Room) sS mM aA bB mT cC H locs (0 + 1 + 5) (0 + 5 + 5 * 8) (MQ bB (wa_Qr G fun r u => ∃ (q : Nat) (row : Int → Int), XW G ad u S A B P ∧ Kp ad w u ∧ (r = some q) ∧ (Lc ad u q (eI G 4 row)) ∧ (∀ i, 0 ≤ i → i ≤ 3 → row i = smS g a i)) aA sS 7 49 (wa_A G)) (F0 mM 10 ls []) := by
    intro nn
    induction nn using Nat.strongRecOn with
    | ind nn ih10 =>
      intro r F hmu10 i10_0 i10_1 i10_2 wl10 H locs ls hX hK hPX fl0 hN3 hSQ hH hS hl
      refine lv_iload_n X.x X.b dX2_seam_10 rfl (lv_at hl 0 rfl) ?_
      refine wz_iflt (tgt := 127) X.x X.b dX2_seam_11 (by decide) ⟨by omega, by omega⟩ (fun c11 => ?_) (fun c11 => ?_)
      · obtain rfl : r = -1 := by omega
        refine wz_iconst X.x X.b dX2_seam_127 ?_
        have hX_128 := hX
        have hK_128 := hK
        have hPX_128 := hPX
        have fl0_128 := fl0
        have hN3_128 := hN3
        have hSQ_128 := hSQ
        refine wa_newi (n := 4) (N := 4) X hH hS q187 rfl (by decide) (Nat.le_of_ble_eq_true rfl) (Nat.le_of_ble_eq_true rfl) dX2_seam_128 (fun nq128 w128 H hn128 ew hH hS => ?_)
        have hk0 := Ext.new hn128 ew
        have hX := hX.ext hk0
        have hk := hk0.k (ad := ad)
        have hPX := hPX.kp hk
        have fl0 := fl0.kp hk
        have hN3 := hN3.kp hk
        have hSQ := hSQ.kp hk
        have hK := hK.kp hk
        have hN128 := hk
        have n128 : Lc ad w128 nq128 (eI G 4 (fun _ => 0)) := Lc.new hX_128 hn128 (by rw [ew]; exact wup_s)
        clear ew hk0
        refine lv_astore_n (lv' := [(3, .ref nq128), (2, .ref nq3), (0, .ref (ad 24)), (1, .ref l)]) X.x X.b dX2_seam_130 rfl hl (by decide) rfl (fun ls hl => ?_)
        refine wz_iconst X.x X.b dX2_seam_131 ?_
        refine lv_istore (lv' := [(4, .int (zI (-1))), (3, .ref nq128), (2, .ref nq3), (0, .ref (ad 24)), (1, .ref l)]) X.x X.b dX2_seam_132 hl (by decide) rfl (fun ls hl => ?_)
        refine wz_iconst X.x X.b dX2_seam_134 ?_
        refine lv_istore (lv' := [(5, .int (zI 0)), (4, .int (zI (-1))), (3, .ref nq128), (2, .ref nq3), (0, .ref (ad 24)), (1, .ref l)]) X.x X.b dX2_seam_135 hl (by decide) rfl (fun ls hl => ?_)
        have L137 : ∀ (nn : Nat) (r : Int) (t : Int) (row : Int → Int), ((4 - r).toNat) = nn → (0 ≤ r ∧ r ≤ 4) → (dwS g a r t) → (∀ i, 0 ≤ i → i < r → row i = smS g a i) → ∀ (wl137 : wa_W) (H : Heap) (locs : List Loc) (ls : Array Slot), XW G ad wl137 S A B P → Kp ad w wl137 → PX G ad wl137 (B 10) g → Lnk ad wl137 l sc a (foS g a) v (eS g a) (fS g a) → Kp ad w wl137 → SQ G ad w wl137 nq3 F → Kp ad wl10 wl137 → Lc ad wl137 nq128 (eI G 4 row) → wa_H G wl137 H → va_S (wa_A G) sS.heap H locs → lv_has ls 7 [(5, .int (zI r)), (4, .int (zI t)), (3, .ref nq128), (2, .ref nq3), (0, .ref (ad 24)), (1, .ref l)] → W pP lL eE ({ frames := 2, cells := 7, slots := 49, locals := 47 } : Room) sS mM aA bB mT cC H locs (0 + 1 + 5 + 1) (0 + 5 + 5 * 8 + 4) (MQ bB (wa_Qr G fun r u => ∃ (q : Nat) (row : Int → Int), XW G ad u S A B P ∧ Kp ad w u ∧ (r = some q) ∧ (Lc ad u q (eI G 4 row)) ∧ (∀ i, 0 ≤ i → i ≤ 3 → row i = smS g a i)) aA sS 7 49 (wa_A G)) (F0 mM 137 ls []) := by
          intro nn
          induction nn using Nat.strongRecOn with
          | ind nn ih137 =>
            intro r t row hmu137 i137_0 i137_1 i137_2 wl137 H locs ls hX hK hPX fl0 hN3 hSQ hN128 n128 hH hS hl
            refine lv_iload X.x X.b dX2_seam_137 (lv_at hl 0 rfl) ?_
            refine wz_iconst X.x X.b dX2_seam_139 ?_
            refine wz_icmp_ge (tgt := 244) X.x X.b dX2_seam_140 (by decide) ⟨by omega, by omega⟩ ⟨by omega, by omega⟩ (fun c140 => ?_) (fun c140 => ?_)
            · refine lv_aload_n X.x X.b dX2_seam_244 rfl (lv_at hl 2 rfl) ?_
              refine W.widen (k := 7) (n := 49) (by first | exact Nat.le_of_ble_eq_true rfl | omega) (by first | exact Nat.le_of_ble_eq_true rfl | omega) ?_
              exact wa_aret X (Or.inr ⟨_, rfl⟩) hH hS (some nq128) dX2_seam_245 ⟨_, _, hX, hK, rfl, n128, (fun i i0 i1 => i137_2 i i0 (by omega))⟩
            · have hda := i137_1
              refine lv_aload_n X.x X.b dX2_seam_143 rfl (lv_at hl 5 rfl) ?_
              refine lv_iload X.x X.b dX2_seam_144 (lv_at hl 0 rfl) ?_
              refine wa_ci hS (wa_rV (rest := []) X hH (mX11_isRow  (show At wl137 l (eO 11 [.int (zI a), .int (zI (foS g a)), .ref sc, .int (zI v)]) from fl0.1.2) (show At wl137 sc (eO 10 [.int (zI (eS g a)), .int (zI (fS g a))]) from fl0.2.2) r (show -100 ≤ r ∧ r ≤ 100 by first | assumption | omega) (show -100 ≤ (eS g a) ∧ (eS g a) ≤ 100 by first | assumption | omega)) (cwV 1 X.t (lw_V q1271 q1272 q1273 q141 q1274) rfl rfl rfl hdX11_isRow ⟨Nat.le_of_ble_eq_true rfl, Nat.le_of_ble_eq_true rfl⟩) rfl fl0.1.2 rfl rfl hl.1 rfl (Nat.le_of_ble_eq_true rfl) dX2_seam_146 ⟨Nat.le_of_ble_eq_true rfl, Nat.le_of_ble_eq_true rfl⟩) (fun z w146 H locs hp hH hS => ?_)
              obtain ⟨hb, hw⟩ := hp
              rw [← hw] at hH; clear hw
              rcases hb with ⟨b146, rfl⟩ | ⟨b146, rfl⟩
              · have b146 : ((0 ≤ r - (eS g a) ∧ r - (eS g a) ≤ 3) ∧ 0 ≤ r ∧ r ≤ 3) := b146
                refine wz_ifne (tgt := 160) X.x X.b dX2_seam_149 (by decide) (by decide) (fun _ => ?_) (fun h => absurd h (by decide))
                have hr0 : hrS g a r := ⟨b146.2, b146.1⟩
                have htp := i137_1.1 hr0
                have hti := i137_1.2.2
                have hse := smS_e (g := g) (a := a) (r := r) (by omega)
                rw [if_pos hr0] at hse
                have hrw := fun d (d0 : 0 ≤ d) (d1 : d ≤ 7) => i10_1 r (by omega) (by omega) hr0 d d0 d1
                refine lv_iload X.x X.b dX2_seam_160 (lv_at hl 1 rfl) ?_
                refine wz_iconst X.x X.b dX2_seam_162 ?_
                refine wz_icmp_ne (tgt := 221) X.x X.b dX2_seam_163 (by decide) ⟨by omega, by omega⟩ ⟨by omega, by omega⟩ (fun c163 => ?_) (fun c163 => ?_)
                · have ht0 := hti.resolve_left (by omega)
                  have hfr : ∀ d, 0 ≤ d → d ≤ 7 → rI (F r d) := fun d d0 d1 => by have h9 := i10_2 r d (by omega) (by omega) d0 d1; unfold rI; omega
                  refine lv_aload_n X.x X.b dX2_seam_221 rfl (lv_at hl 4 rfl) ?_
                  refine lv_aload_n X.x X.b dX2_seam_222 rfl (lv_at hl 3 rfl) ?_
                  refine lv_iload X.x X.b dX2_seam_223 (lv_at hl 0 rfl) ?_
                  refine lv_iload X.x X.b dX2_seam_225 (lv_at hl 1 rfl) ?_
                  refine wa_ci hS (wa_rV (rest := []) X hH (mX2_below hX hSQ r t (by omega) (by omega) hfr) (cwV 3 X.t (lw_V q1277 q1279 qs30 q112 q1280) rfl rfl rfl hdX2_below ⟨Nat.le_of_ble_eq_true rfl, Nat.le_of_ble_eq_true rfl⟩) rfl (have h9 := (XW.c24 hX); h9) rfl rfl hl.1 rfl (Nat.le_of_ble_eq_true rfl) dX2_seam_227 ⟨Nat.le_of_ble_eq_true rfl, Nat.le_of_ble_eq_true rfl⟩) (fun z w227 H locs hp hH hS => ?_)
                  obtain ⟨rfl, hw⟩ := hp
                  rw [← hw] at hH; clear hw
                  have hnew : bwS (F r) t = smS g a r := by rw [i10_1.below ho ha hfo hpos (by omega) hr0 ht0, hse, ← htp]; unfold swl swh; rw [if_neg (by omega), if_neg (by omega)]
                  refine lv_istore (lv' := [(4, .int (zI (bwS (F r) t))), (5, .int (zI r)), (3, .ref nq128), (2, .ref nq3), (0, .ref (ad 24)), (1, .ref l)]) X.x X.b dX2_seam_230 hl (by decide) rfl (fun ls hl => ?_)
                  refine lv_aload_n X.x X.b dX2_seam_232 rfl (lv_at hl 2 rfl) ?_
                  refine lv_iload X.x X.b dX2_seam_233 (lv_at hl 1 rfl) ?_
                  refine lv_iload X.x X.b dX2_seam_235 (lv_at hl 0 rfl) ?_
                  refine wa_iast (f := row) X hH hS n128.2 (by omega) (by omega) (by omega) dX2_seam_237 (fun w237 H locs ew hH hS => ?_)
                  have hOq : Off nq128 wl137 w237 := Off.rf.put ew
                  have hk := Kp.init hn128 hN128 hOq
                  have hX := hX_128.init hn128 hX hOq
                  have hPX := hPX_128.kp hk
                  have fl0 := fl0_128.kp hk
                  have hN3 := hN3_128.kp hk
                  have hSQ := hSQ_128.kp hk
                  have hK := hK_128.kp hk
                  have hN128 := hk
                  have n128 : Lc ad w237 nq128 (eI G 4 (fup row r (bwS (F r) t))) := Lc.new hX_128 hn128 (by rw [ew]; exact wup_s)
                  clear ew
                  refine wz_iinc (k := 1) (lv' := [(5, .int (zI (r + 1))), (4, .int (zI (bwS (F r) t))), (3, .ref nq128), (2, .ref nq3), (0, .ref (ad 24)), (1, .ref l)]) X.x X.b dX2_seam_238 hl rfl (by decide) rfl (fun ls hl => ?_)
                  refine lv_goto (tgt := 137) X.x X.b dX2_seam_241 (by decide) ?_
                  exact ih137 _ (by omega) (r + 1) (bwS (F r) t) (fup row r (bwS (F r) t)) rfl (by omega) (by exact dwS.step (by omega) hr0 hnew) (by intro i i0 i1; by_cases z : i = r; (rw [z, fup_s]; exact hnew); (rw [fup_n z]; exact i137_2 i i0 (by omega))) _ _ _ _ hX hK hPX fl0 hN3 hSQ hN128 n128 hH hS (lv_sub hl [0, 1, 2, 3, 4, 5] rfl)
                · refine lv_aload_n X.x X.b dX2_seam_166 rfl (lv_at hl 5 rfl) ?_
                  refine wa_getN (v := .ref sc) X hH fl0.1.2 wcX11 2 (by decide) q1130 rfl (fun _ h9 => h9) rfl dX2_seam_167 ?_
                  refine wa_getN (v := .int (zI (fS g a))) X hH fl0.2.2 wcX10 1 (by decide) q1060 rfl (fun _ h9 => h9) rfl dX2_seam_170 ?_
                  refine lv_istore (lv' := [(4, .int (zI (fS g a))), (5, .int (zI r)), (3, .ref nq128), (2, .ref nq3), (0, .ref (ad 24)), (1, .ref l)]) X.x X.b dX2_seam_173 hl (by decide) rfl (fun ls hl => ?_)
                  refine lv_iload X.x X.b dX2_seam_175 (lv_at hl 0 rfl) ?_
                  refine lv_istore (lv' := [(6, .int (zI (fS g a))), (4, .int (zI (fS g a))), (5, .int (zI r)), (3, .ref nq128), (2, .ref nq3), (0, .ref (ad 24)), (1, .ref l)]) X.x X.b dX2_seam_177 hl (by decide) rfl (fun ls hl => ?_)
                  have L179 : ∀ (nn : Nat) (c9 : Int) (at9 : Int), ((8 - c9).toNat) = nn → (fS g a ≤ c9 ∧ c9 ≤ 8) → (at9 = am (lS g a r) (fS g a) (max (fS g a) (c9 - 1) - fS g a).toNat) → ∀ (wl179 : wa_W) (H : Heap) (locs : List Loc) (ls : Array Slot), XW G ad wl179 S A B P → Kp ad w wl179 → PX G ad wl179 (B 10) g → Lnk ad wl179 l sc a (foS g a) v (eS g a) (fS g a) → Kp ad w wl179 → SQ G ad w wl179 nq3 F → Kp ad wl10 wl179 → Lc ad wl179 nq128 (eI G 4 row) → wa_H G wl179 H → va_S (wa_A G) sS.heap H locs → lv_has ls 7 [(6, .int (zI c9)), (4, .int (zI at9)), (5, .int (zI r)), (3, .ref nq128), (2, .ref nq3), (0, .ref (ad 24)), (1, .ref l)] → W pP lL eE ({ frames := 2, cells := 7, slots := 49, locals := 47 } : Room) sS mM aA bB mT cC H locs (0 + 1 + 5 + 1) (0 + 5 + 5 * 8 + 4) (MQ bB (wa_Qr G fun r u => ∃ (q : Nat) (row : Int → Int), XW G ad u S A B P ∧ Kp ad w u ∧ (r = some q) ∧ (Lc ad u q (eI G 4 row)) ∧ (∀ i, 0 ≤ i → i ≤ 3 → row i = smS g a i)) aA sS 7 49 (wa_A G)) (F0 mM 179 ls []) := by
                    intro nn
                    induction nn using Nat.strongRecOn with
                    | ind nn ih179 =>
                      intro c9 at9 hmu179 i179_0 i179_1 wl179 H locs ls hX hK hPX fl0 hN3 hSQ hN128 n128 hH hS hl
                      refine lv_iload X.x X.b dX2_seam_179 (lv_at hl 0 rfl) ?_
                      refine wz_bipush X.x X.b dX2_seam_181 rfl ?_
                      refine wz_icmp_ge (tgt := 218) X.x X.b dX2_seam_183 (by decide) ⟨by omega, by omega⟩ ⟨by omega, by omega⟩ (fun c183 => ?_) (fun c183 => ?_)
                      · have hc8 : c9 = 8 := by omega
                        have hnew : at9 = smS g a r := by rw [i179_1, hc8, hse, ← htp, show t = -1 by omega]; unfold swl swh; rw [if_pos rfl, if_pos rfl, show max (fS g a) (8 - 1) = 7 by omega]
                        refine lv_goto (tgt := 232) X.x X.b dX2_seam_218 (by decide) ?_
                        refine lv_aload_n X.x X.b dX2_seam_232 rfl (lv_at hl 3 rfl) ?_
                        refine lv_iload X.x X.b dX2_seam_233 (lv_at hl 2 rfl) ?_
                        refine lv_iload X.x X.b dX2_seam_235 (lv_at hl 1 rfl) ?_
                        refine wa_iast (f := row) X hH hS n128.2 (by omega) (by omega) (by omega) dX2_seam_237 (fun w237 H locs ew hH hS => ?_)
                        have hOq : Off nq128 wl179 w237 := Off.rf.put ew
                        have hk := Kp.init hn128 hN128 hOq
                        have hX := hX_128.init hn128 hX hOq
                        have hPX := hPX_128.kp hk
                        have fl0 := fl0_128.kp hk
                        have hN3 := hN3_128.kp hk
                        have hSQ := hSQ_128.kp hk
                        have hK := hK_128.kp hk
                        have hN128 := hk
                        have n128 : Lc ad w237 nq128 (eI G 4 (fup row r at9)) := Lc.new hX_128 hn128 (by rw [ew]; exact wup_s)
                        clear ew
                        refine wz_iinc (k := 2) (lv' := [(5, .int (zI (r + 1))), (6, .int (zI c9)), (4, .int (zI at9)), (3, .ref nq128), (2, .ref nq3), (0, .ref (ad 24)), (1, .ref l)]) X.x X.b dX2_seam_238 hl rfl (by decide) rfl (fun ls hl => ?_)
                        refine lv_goto (tgt := 137) X.x X.b dX2_seam_241 (by decide) ?_
                        exact ih137 _ (by omega) (r + 1) at9 (fup row r at9) rfl (by omega) (by exact dwS.step (by omega) hr0 hnew) (by intro i i0 i1; by_cases z : i = r; (rw [z, fup_s]; exact hnew); (rw [fup_n z]; exact i137_2 i i0 (by omega))) _ _ _ _ hX hK hPX fl0 hN3 hSQ hN128 n128 hH hS (lv_sub hl [0, 2, 3, 4, 5, 6] rfl)
                      · have hai : fS g a ≤ at9 ∧ at9 ≤ 7 := by have h9 := am_in (lS g a r) (fS g a) (max (fS g a) (c9 - 1) - fS g a).toNat; rw [← i179_1] at h9; omega
                        have e1 : F r c9 = lS g a r c9 := (hrw c9 (by omega) (by omega)).trans (if_neg (by omega))
                        have e2 : F r at9 = lS g a r at9 := (hrw at9 (by omega) (by omega)).trans (if_neg (by omega))
                        have q1 := i10_2 r c9 (by omega) (by omega) (by omega) (by omega)
                        have q2 := i10_2 r at9 (by omega) (by omega) (by omega) (by omega)
                        refine lv_aload_n X.x X.b dX2_seam_186 rfl (lv_at hl 4 rfl) ?_
                        refine lv_iload X.x X.b dX2_seam_187 (lv_at hl 2 rfl) ?_
                        refine wa_aald (k := 7) (f := fun i => some (nq3 + 1 + i.toNat)) X hH hSQ.out.2 rfl rfl (by omega) (by omega) (by omega) dX2_seam_189 ?_
                        refine wz_opt (q := some (nq3 + 1 + Int.toNat r)) (by rfl) ?_
                        have fr : Lc ad wl179 (nq3 + 1 + Int.toNat r) (eI G 8 (F r)) := hSQ.row (by omega) (by omega)
                        refine lv_iload X.x X.b dX2_seam_190 (lv_at hl 0 rfl) ?_
                        refine wa_iald (f := F r) X hH fr.2 (by omega) (by omega) (by omega) dX2_seam_192 ?_
                        refine lv_aload_n X.x X.b dX2_seam_193 rfl (lv_at hl 4 rfl) ?_
                        refine lv_iload X.x X.b dX2_seam_194 (lv_at hl 2 rfl) ?_
                        refine wa_aald (k := 7) (f := fun i => some (nq3 + 1 + i.toNat)) X hH hSQ.out.2 rfl rfl (by omega) (by omega) (by omega) dX2_seam_196 ?_
                        refine wz_opt (q := some (nq3 + 1 + Int.toNat r)) (by rfl) ?_
                        refine lv_iload X.x X.b dX2_seam_197 (lv_at hl 1 rfl) ?_
                        refine wa_iald (f := F r) X hH fr.2 (by omega) (by omega) (by omega) dX2_seam_199 ?_
                        refine wz_icmp_ge (tgt := 208) X.x X.b dX2_seam_200 (by decide) ⟨by omega, by omega⟩ ⟨by omega, by omega⟩ (fun c200 => ?_) (fun c200 => ?_)
                        · refine lv_iload X.x X.b dX2_seam_208 (lv_at hl 1 rfl) ?_
                          refine lv_istore (lv' := [(4, .int (zI at9)), (6, .int (zI c9)), (5, .int (zI r)), (3, .ref nq128), (2, .ref nq3), (0, .ref (ad 24)), (1, .ref l)]) X.x X.b dX2_seam_210 hl (by decide) rfl (fun ls hl => ?_)
                          refine wz_iinc (k := 1) (lv' := [(6, .int (zI (c9 + 1))), (4, .int (zI at9)), (5, .int (zI r)), (3, .ref nq128), (2, .ref nq3), (0, .ref (ad 24)), (1, .ref l)]) X.x X.b dX2_seam_212 hl rfl (by decide) rfl (fun ls hl => ?_)
                          refine lv_goto (tgt := 179) X.x X.b dX2_seam_215 (by decide) ?_
                          exact ih179 _ (by omega) (c9 + 1) at9 rfl (by omega) (by rw [e1, e2] at c200; by_cases z : c9 = fS g a; (have z2 : at9 = fS g a := (by rw [i179_1, show (max (fS g a) (c9 - 1) - fS g a).toNat = 0 by omega]; rfl); rw [show (max (fS g a) (c9 + 1 - 1) - fS g a).toNat = 0 by omega]; show _ = fS g a; omega); (have z1 : max (fS g a) (c9 - 1) = c9 - 1 := (by omega); rw [z1] at i179_1; rw [show max (fS g a) (c9 + 1 - 1) = c9 by omega, am_s (by omega), ← i179_1]; first | rw [if_pos (by omega)] | rw [if_neg (by omega)])) _ _ _ _ hX hK hPX fl0 hN3 hSQ hN128 n128 hH hS (lv_sub hl [0, 1, 2, 3, 4, 5, 6] rfl)
                        · refine lv_iload X.x X.b dX2_seam_203 (lv_at hl 0 rfl) ?_
                          refine lv_goto (tgt := 210) X.x X.b dX2_seam_205 (by decide) ?_
                          refine lv_istore (lv' := [(4, .int (zI c9)), (6, .int (zI c9)), (5, .int (zI r)), (3, .ref nq128), (2, .ref nq3), (0, .ref (ad 24)), (1, .ref l)]) X.x X.b dX2_seam_210 hl (by decide) rfl (fun ls hl => ?_)
                          refine wz_iinc (k := 1) (lv' := [(6, .int (zI (c9 + 1))), (4, .int (zI c9)), (5, .int (zI r)), (3, .ref nq128), (2, .ref nq3), (0, .ref (ad 24)), (1, .ref l)]) X.x X.b dX2_seam_212 hl rfl (by decide) rfl (fun ls hl => ?_)
                          refine lv_goto (tgt := 179) X.x X.b dX2_seam_215 (by decide) ?_
                          exact ih179 _ (by omega) (c9 + 1) c9 rfl (by omega) (by rw [e1, e2] at c200; by_cases z : c9 = fS g a; (have z2 : at9 = fS g a := (by rw [i179_1, show (max (fS g a) (c9 - 1) - fS g a).toNat = 0 by omega]; rfl); rw [show (max (fS g a) (c9 + 1 - 1) - fS g a).toNat = 0 by omega]; show _ = fS g a; omega); (have z1 : max (fS g a) (c9 - 1) = c9 - 1 := (by omega); rw [z1] at i179_1; rw [show max (fS g a) (c9 + 1 - 1) = c9 by omega, am_s (by omega), ← i179_1]; first | rw [if_pos (by omega)] | rw [if_neg (by omega)])) _ _ _ _ hX hK hPX fl0 hN3 hSQ hN128 n128 hH hS (lv_sub hl [0, 1, 2, 3, 4, 5, 6] rfl)
                  exact L179 _ (fS g a) (fS g a) rfl (by omega) (by rw [show (max (fS g a) (fS g a - 1) - fS g a).toNat = 0 by omega]; rfl) _ _ _ _ hX hK hPX fl0 hN3 hSQ hN128 n128 hH hS (lv_sub hl [0, 1, 2, 3, 4, 5, 6] rfl)
              · have b146 : ¬ ((0 ≤ r - (eS g a) ∧ r - (eS g a) ≤ 3) ∧ 0 ≤ r ∧ r ≤ 3) := b146
                refine wz_ifne (tgt := 160) X.x X.b dX2_seam_149 (by decide) (by decide) (fun h => absurd h (by decide)) (fun _ => ?_)
                refine lv_aload_n X.x X.b dX2_seam_152 rfl (lv_at hl 2 rfl) ?_
                refine lv_iload X.x X.b dX2_seam_153 (lv_at hl 0 rfl) ?_
                refine wz_iconst X.x X.b dX2_seam_155 ?_
                refine wa_iast (f := row) X hH hS n128.2 (by omega) (by omega) (by omega) dX2_seam_156 (fun w156 H locs ew hH hS => ?_)
                have hOq : Off nq128 wl137 w156 := Off.rf.put ew
                have hk := Kp.init hn128 hN128 hOq
                have hX := hX_128.init hn128 hX hOq
                have hPX := hPX_128.kp hk
                have fl0 := fl0_128.kp hk
                have hN3 := hN3_128.kp hk
                have hSQ := hSQ_128.kp hk
                have hK := hK_128.kp hk
                have hN128 := hk
                have n128 : Lc ad w156 nq128 (eI G 4 (fup row r (-1))) := Lc.new hX_128 hn128 (by rw [ew]; exact wup_s)
                clear ew
                refine lv_goto (tgt := 238) X.x X.b dX2_seam_157 (by decide) ?_
                refine wz_iinc (k := 0) (lv' := [(5, .int (zI (r + 1))), (4, .int (zI t)), (3, .ref nq128), (2, .ref nq3), (0, .ref (ad 24)), (1, .ref l)]) X.x X.b dX2_seam_238 hl rfl (by decide) rfl (fun ls hl => ?_)
                refine lv_goto (tgt := 137) X.x X.b dX2_seam_241 (by decide) ?_
                exact ih137 _ (by omega) (r + 1) t (fup row r (-1)) rfl (by omega) (by exact i137_1.skip (by omega) (fun q => b146 ⟨q.2, q.1⟩)) (by intro i i0 i1; by_cases z : i = r; (rw [z, fup_s]; exact ((smS_hr (by omega)).mpr (fun q => b146 ⟨q.2, q.1⟩)).symm); (rw [fup_n z]; exact i137_2 i i0 (by omega))) _ _ _ _ hX hK hPX fl0 hN3 hSQ hN128 n128 hH hS (lv_sub hl [0, 1, 2, 3, 4, 5] rfl)
        exact L137 _ 0 (-1) (fun _ => 0) rfl (by omega) (by exact dwS.nil) (by intro i i0 i1; omega) _ _ _ _ hX hK hPX fl0 hN3 hSQ hN128 n128 hH hS (lv_sub hl [0, 1, 2, 3, 4, 5] rfl)
      · refine wz_iconst X.x X.b dX2_seam_14 ?_
        refine lv_istore (lv' := [(4, .int (zI 0)), (3, .int (zI r)), (2, .ref nq3), (0, .ref (ad 24)), (1, .ref l)]) X.x X.b dX2_seam_15 hl (by decide) rfl (fun ls hl => ?_)
        have L17 : ∀ (nn : Nat) (c : Int) (Fm : Int → Int → Int), ((8 - c).toNat) = nn → (0 ≤ c ∧ c ≤ 8) → (SUC g a r c Fm) → (∀ i d, 0 ≤ i → i ≤ 4 → 0 ≤ d → d ≤ 7 → 0 ≤ Fm i d ∧ Fm i d ≤ (if i = r then 1000063 + 63 * (3 - r) else 1000000 + 63 * (3 - r))) → ∀ (wl17 : wa_W) (H : Heap) (locs : List Loc) (ls : Array Slot), XW G ad wl17 S A B P → Kp ad w wl17 → PX G ad wl17 (B 10) g → Lnk ad wl17 l sc a (foS g a) v (eS g a) (fS g a) → Kp ad w wl17 → SQ G ad w wl17 nq3 Fm → wa_H G wl17 H → va_S (wa_A G) sS.heap H locs → lv_has ls 7 [(4, .int (zI c)), (3, .int (zI r)), (2, .ref nq3), (0, .ref (ad 24)), (1, .ref l)] → W pP lL eE ({ frames := 2, cells := 7, slots := 49, locals := 47 } : Room) sS mM aA bB mT cC H locs (0 + 1 + 5) (0 + 5 + 5 * 8) (MQ bB (wa_Qr G fun r u => ∃ (q : Nat) (row : Int → Int), XW G ad u S A B P ∧ Kp ad w u ∧ (r = some q) ∧ (Lc ad u q (eI G 4 row)) ∧ (∀ i, 0 ≤ i → i ≤ 3 → row i = smS g a i)) aA sS 7 49 (wa_A G)) (F0 mM 17 ls []) := by
          intro nn
          induction nn using Nat.strongRecOn with
          | ind nn ih17 =>
            intro c Fm hmu17 i17_0 i17_1 i17_2 wl17 H locs ls hX hK hPX fl0 hN3 hSQ hH hS hl
            refine lv_iload X.x X.b dX2_seam_17 (lv_at hl 0 rfl) ?_
            refine wz_bipush X.x X.b dX2_seam_19 rfl ?_
            refine wz_icmp_ge (tgt := 121) X.x X.b dX2_seam_21 (by decide) ⟨by omega, by omega⟩ ⟨by omega, by omega⟩ (fun c21 => ?_) (fun c21 => ?_)
            · refine wz_iinc (k := 1) (lv' := [(3, .int (zI (r + (-1)))), (4, .int (zI c)), (2, .ref nq3), (0, .ref (ad 24)), (1, .ref l)]) X.x X.b dX2_seam_121 hl rfl (by decide) rfl (fun ls hl => ?_)
              refine lv_goto (tgt := 10) X.x X.b dX2_seam_124 (by decide) ?_
              exact ih10 _ (by omega) (r + (-1)) Fm rfl (by omega) (by obtain rfl : c = 8 := (by omega); exact i17_1.all) (by intro i d e0 e1 d0 d1; have h9 := i17_2 i d e0 e1 d0 d1; split at h9 <;> omega) _ _ _ _ hX hK hPX fl0 hN3 hSQ hH hS (lv_sub hl [0, 2, 3, 4] rfl)
            · refine lv_aload_n X.x X.b dX2_seam_24 rfl (lv_at hl 4 rfl) ?_
              refine lv_iload_n X.x X.b dX2_seam_25 rfl (lv_at hl 1 rfl) ?_
              refine wa_ci hS (wa_rV (rest := []) X hH (mX11_isRow  (show At wl17 l (eO 11 [.int (zI a), .int (zI (foS g a)), .ref sc, .int (zI v)]) from fl0.1.2) (show At wl17 sc (eO 10 [.int (zI (eS g a)), .int (zI (fS g a))]) from fl0.2.2) r (show -100 ≤ r ∧ r ≤ 100 by first | assumption | omega) (show -100 ≤ (eS g a) ∧ (eS g a) ≤ 100 by first | assumption | omega)) (cwV 1 X.t (lw_V q1271 q1272 q1273 q141 q1274) rfl rfl rfl hdX11_isRow ⟨Nat.le_of_ble_eq_true rfl, Nat.le_of_ble_eq_true rfl⟩) rfl fl0.1.2 rfl rfl hl.1 rfl (Nat.le_of_ble_eq_true rfl) dX2_seam_26 ⟨Nat.le_of_ble_eq_true rfl, Nat.le_of_ble_eq_true rfl⟩) (fun z w26 H locs hp hH hS => ?_)
              obtain ⟨hb, hw⟩ := hp
              rw [← hw] at hH; clear hw
              rcases hb with ⟨b26, rfl⟩ | ⟨b26, rfl⟩
              · have b26 : ((0 ≤ r - (eS g a) ∧ r - (eS g a) ≤ 3) ∧ 0 ≤ r ∧ r ≤ 3) := b26
                refine wz_ifeq (tgt := 48) X.x X.b dX2_seam_29 (by decide) (by decide) (fun h => absurd h (by decide)) (fun _ => ?_)
                refine lv_iload X.x X.b dX2_seam_32 (lv_at hl 0 rfl) ?_
                refine lv_aload_n X.x X.b dX2_seam_34 rfl (lv_at hl 4 rfl) ?_
                refine wa_getN (v := .ref sc) X hH fl0.1.2 wcX11 2 (by decide) q1130 rfl (fun _ h9 => h9) rfl dX2_seam_35 ?_
                refine wa_getN (v := .int (zI (fS g a))) X hH fl0.2.2 wcX10 1 (by decide) q1060 rfl (fun _ h9 => h9) rfl dX2_seam_38 ?_
                refine wz_icmp_lt (tgt := 48) X.x X.b dX2_seam_41 (by decide) ⟨by omega, by omega⟩ ⟨by omega, by omega⟩ (fun c41 => ?_) (fun c41 => ?_)
                · refine wz_iconst X.x X.b dX2_seam_48 ?_
                  refine lv_istore (lv' := [(5, .int (zI 0)), (4, .int (zI c)), (3, .int (zI r)), (2, .ref nq3), (0, .ref (ad 24)), (1, .ref l)]) X.x X.b dX2_seam_49 hl (by decide) rfl (fun ls hl => ?_)
                  refine lv_iload_n X.x X.b dX2_seam_51 rfl (lv_at hl 2 rfl) ?_
                  refine wz_iconst X.x X.b dX2_seam_52 ?_
                  refine wz_icmp_eq (tgt := 66) X.x X.b dX2_seam_53 (by decide) ⟨by omega, by omega⟩ ⟨by omega, by omega⟩ (fun c53 => ?_) (fun c53 => ?_)
                  · refine wz_iconst X.x X.b dX2_seam_66 ?_
                    refine lv_goto (tgt := 86) X.x X.b dX2_seam_67 (by decide) ?_
                    refine lv_istore (lv' := [(6, .int (zI 0)), (5, .int (zI 0)), (4, .int (zI c)), (3, .int (zI r)), (2, .ref nq3), (0, .ref (ad 24)), (1, .ref l)]) X.x X.b dX2_seam_86 hl (by decide) rfl (fun ls hl => ?_)
                    refine lv_aload_n X.x X.b dX2_seam_88 rfl (lv_at hl 4 rfl) ?_
                    refine lv_iload_n X.x X.b dX2_seam_89 rfl (lv_at hl 3 rfl) ?_
                    refine wa_aald (k := 7) (f := fun i => some (nq3 + 1 + i.toNat)) X hH hSQ.out.2 rfl rfl (by omega) (by omega) (by omega) dX2_seam_90 ?_
                    refine wz_opt (q := some (nq3 + 1 + Int.toNat r)) (by rfl) ?_
                    refine lv_iload X.x X.b dX2_seam_91 (lv_at hl 2 rfl) ?_
                    refine lv_iload X.x X.b dX2_seam_93 (lv_at hl 1 rfl) ?_
                    refine wz_ifeq (tgt := 112) X.x X.b dX2_seam_95 (by decide) (by decide) (fun _ => ?_) (fun h => absurd h (by decide))
                    refine wz_ldc (n := 1000000) X.x X.b X.own (X.t _ q622) rfl dX2_seam_112 ?_
                    refine wa_iast (f := Fm r) X hH hS (hSQ.row (r := r) (by omega) (by omega)).2 (by omega) (by omega) (by omega) dX2_seam_114 (fun w114 H locs ew hH hS => ?_)
                    have hOq : Off (nq3 + 1 + r.toNat) wl17 w114 := Off.rf.put ew
                    have hSQ1 := hSQ.put (r := r) (by omega) (by omega) ew
                    have hnr := hSQ.no (r := r) (by omega) (by omega)
                    have hk := Kp.init hnr hN3 hOq
                    have hX := hX_3.init hnr hX hOq
                    have hPX := hPX_3.kp hk
                    have fl0 := fl0_3.kp hk
                    have hK := hK_3.kp hk
                    have hN3 := hk
                    have hSQ := hSQ1
                    clear ew
                    refine wz_iinc (k := 2) (lv' := [(4, .int (zI (c + 1))), (6, .int (zI 0)), (5, .int (zI 0)), (3, .int (zI r)), (2, .ref nq3), (0, .ref (ad 24)), (1, .ref l)]) X.x X.b dX2_seam_115 hl rfl (by decide) rfl (fun ls hl => ?_)
                    refine lv_goto (tgt := 17) X.x X.b dX2_seam_118 (by decide) ?_
                    exact ih17 _ (by omega) (c + 1) (rup Fm r c 1000000) rfl (by omega) (by exact i17_1.put (fun hr => by unfold rwS; first | exact (if_pos (by omega)).symm | (exact absurd (show _ from ⟨hr.2, hr.1⟩) b26))) (by intro i d e0 e1 d0 d1; unfold rup; by_cases z : i = r; (rw [if_pos z, if_pos z]; unfold fup; split; (first | omega | (have h9 := i17_2 (r + 1) _ (by omega) (by omega) hbi.1 hbi.2; rw [if_neg (by omega)] at h9; omega)); (have h9 := i17_2 r d (by omega) (by omega) d0 d1; rw [if_pos rfl] at h9; exact h9)); (rw [if_neg z]; exact i17_2 i d e0 e1 d0 d1)) _ _ _ _ hX hK hPX fl0 hN3 hSQ hH hS (lv_sub hl [0, 3, 4, 5, 6] rfl)
                  · refine lv_aload_n X.x X.b dX2_seam_56 rfl (lv_at hl 5 rfl) ?_
                    refine lv_iload_n X.x X.b dX2_seam_57 rfl (lv_at hl 2 rfl) ?_
                    refine wz_iconst X.x X.b dX2_seam_58 ?_
                    refine wz_iadd X.x X.b dX2_seam_59 ?_
                    refine wa_ci hS (wa_rV (rest := []) X hH (mX11_isRow  (show At wl17 l (eO 11 [.int (zI a), .int (zI (foS g a)), .ref sc, .int (zI v)]) from fl0.1.2) (show At wl17 sc (eO 10 [.int (zI (eS g a)), .int (zI (fS g a))]) from fl0.2.2) (r + 1) (show -100 ≤ (r + 1) ∧ (r + 1) ≤ 100 by first | assumption | omega) (show -100 ≤ (eS g a) ∧ (eS g a) ≤ 100 by first | assumption | omega)) (cwV 1 X.t (lw_V q1271 q1272 q1273 q141 q1274) rfl rfl rfl hdX11_isRow ⟨Nat.le_of_ble_eq_true rfl, Nat.le_of_ble_eq_true rfl⟩) rfl fl0.1.2 rfl rfl hl.1 rfl (Nat.le_of_ble_eq_true rfl) dX2_seam_60 ⟨Nat.le_of_ble_eq_true rfl, Nat.le_of_ble_eq_true rfl⟩) (fun z w60 H locs hp hH hS => ?_)
                    obtain ⟨hb, hw⟩ := hp
                    rw [← hw] at hH; clear hw
                    rcases hb with ⟨b60, rfl⟩ | ⟨b60, rfl⟩
                    · have b60 : ((0 ≤ (r + 1) - (eS g a) ∧ (r + 1) - (eS g a) ≤ 3) ∧ 0 ≤ (r + 1) ∧ (r + 1) ≤ 3) := b60
                      refine wz_ifne (tgt := 70) X.x X.b dX2_seam_63 (by decide) (by decide) (fun _ => ?_) (fun h => absurd h (by decide))
                      refine lv_aload_n X.x X.b dX2_seam_70 rfl (lv_at hl 3 rfl) ?_
                      refine lv_iload_n X.x X.b dX2_seam_71 rfl (lv_at hl 2 rfl) ?_
                      refine wz_iconst X.x X.b dX2_seam_72 ?_
                      refine wz_iadd X.x X.b dX2_seam_73 ?_
                      refine wa_aald (k := 7) (f := fun i => some (nq3 + 1 + i.toNat)) X hH hSQ.out.2 rfl rfl (by omega) (by omega) (by omega) dX2_seam_74 ?_
                      refine wz_opt (q := some (nq3 + 1 + Int.toNat (r + 1))) (by rfl) ?_
                      have fr : Lc ad wl17 (nq3 + 1 + Int.toNat (r + 1)) (eI G 8 (Fm (r + 1))) := hSQ.row (by omega) (by omega)
                      have hr1 : hrS g a (r + 1) := ⟨b60.2, b60.1⟩
                      have hbi := bwS_in (s := Fm (r + 1)) (c := c) (by omega)
                      have hfr : ∀ d, 0 ≤ d → d ≤ 7 → rI (Fm (r + 1) d) := fun d d0 d1 => by have h9 := i17_2 (r + 1) d (by omega) (by omega) d0 d1; rw [if_neg (by omega)] at h9; unfold rI; omega
                      refine lv_aload_n X.x X.b dX2_seam_75 rfl (lv_at hl 4 rfl) ?_
                      refine lv_aload_n X.x X.b dX2_seam_76 rfl (lv_at hl 3 rfl) ?_
                      refine lv_iload_n X.x X.b dX2_seam_77 rfl (lv_at hl 2 rfl) ?_
                      refine wz_iconst X.x X.b dX2_seam_78 ?_
                      refine wz_iadd X.x X.b dX2_seam_79 ?_
                      refine lv_iload X.x X.b dX2_seam_80 (lv_at hl 1 rfl) ?_
                      refine wa_ci hS (wa_rV (rest := [.ref (nq3 + 1 + Int.toNat (r + 1))]) X hH (mX2_below hX hSQ (r + 1) c (by omega) (by omega) hfr) (cwV 3 X.t (lw_V q1277 q1279 qs30 q112 q1280) rfl rfl rfl hdX2_below ⟨Nat.le_of_ble_eq_true rfl, Nat.le_of_ble_eq_true rfl⟩) rfl (have h9 := (XW.c24 hX); h9) rfl rfl hl.1 rfl (Nat.le_of_ble_eq_true rfl) dX2_seam_82 ⟨Nat.le_of_ble_eq_true rfl, Nat.le_of_ble_eq_true rfl⟩) (fun z w82 H locs hp hH hS => ?_)
                      obtain ⟨rfl, hw⟩ := hp
                      rw [← hw] at hH; clear hw
                      refine wa_iald (f := Fm (r + 1)) X hH fr.2 (by omega) (by omega) (by omega) dX2_seam_85 ?_
                      refine lv_istore (lv' := [(6, .int (zI ((Fm (r + 1)) (bwS (Fm (r + 1)) c)))), (5, .int (zI 0)), (4, .int (zI c)), (3, .int (zI r)), (2, .ref nq3), (0, .ref (ad 24)), (1, .ref l)]) X.x X.b dX2_seam_86 hl (by decide) rfl (fun ls hl => ?_)
                      refine lv_aload_n X.x X.b dX2_seam_88 rfl (lv_at hl 4 rfl) ?_
                      refine lv_iload_n X.x X.b dX2_seam_89 rfl (lv_at hl 3 rfl) ?_
                      refine wa_aald (k := 7) (f := fun i => some (nq3 + 1 + i.toNat)) X hH hSQ.out.2 rfl rfl (by omega) (by omega) (by omega) dX2_seam_90 ?_
                      refine wz_opt (q := some (nq3 + 1 + Int.toNat r)) (by rfl) ?_
                      refine lv_iload X.x X.b dX2_seam_91 (lv_at hl 2 rfl) ?_
                      refine lv_iload X.x X.b dX2_seam_93 (lv_at hl 1 rfl) ?_
                      refine wz_ifeq (tgt := 112) X.x X.b dX2_seam_95 (by decide) (by decide) (fun _ => ?_) (fun h => absurd h (by decide))
                      refine wz_ldc (n := 1000000) X.x X.b X.own (X.t _ q622) rfl dX2_seam_112 ?_
                      refine wa_iast (f := Fm r) X hH hS (hSQ.row (r := r) (by omega) (by omega)).2 (by omega) (by omega) (by omega) dX2_seam_114 (fun w114 H locs ew hH hS => ?_)
                      have hOq : Off (nq3 + 1 + r.toNat) wl17 w114 := Off.rf.put ew
                      have hSQ1 := hSQ.put (r := r) (by omega) (by omega) ew
                      have hnr := hSQ.no (r := r) (by omega) (by omega)
                      have hk := Kp.init hnr hN3 hOq
                      have hX := hX_3.init hnr hX hOq
                      have hPX := hPX_3.kp hk
                      have fl0 := fl0_3.kp hk
                      have hK := hK_3.kp hk
                      have hN3 := hk
                      have hSQ := hSQ1
                      clear ew
                      refine wz_iinc (k := 2) (lv' := [(4, .int (zI (c + 1))), (6, .int (zI ((Fm (r + 1)) (bwS (Fm (r + 1)) c)))), (5, .int (zI 0)), (3, .int (zI r)), (2, .ref nq3), (0, .ref (ad 24)), (1, .ref l)]) X.x X.b dX2_seam_115 hl rfl (by decide) rfl (fun ls hl => ?_)
                      refine lv_goto (tgt := 17) X.x X.b dX2_seam_118 (by decide) ?_
                      exact ih17 _ (by omega) (c + 1) (rup Fm r c 1000000) rfl (by omega) (by exact i17_1.put (fun hr => by unfold rwS; first | exact (if_pos (by omega)).symm | (exact absurd (show _ from ⟨hr.2, hr.1⟩) b26))) (by intro i d e0 e1 d0 d1; unfold rup; by_cases z : i = r; (rw [if_pos z, if_pos z]; unfold fup; split; (first | omega | (have h9 := i17_2 (r + 1) _ (by omega) (by omega) hbi.1 hbi.2; rw [if_neg (by omega)] at h9; omega)); (have h9 := i17_2 r d (by omega) (by omega) d0 d1; rw [if_pos rfl] at h9; exact h9)); (rw [if_neg z]; exact i17_2 i d e0 e1 d0 d1)) _ _ _ _ hX hK hPX fl0 hN3 hSQ hH hS (lv_sub hl [0, 3, 4, 5, 6] rfl)
                    · have b60 : ¬ ((0 ≤ (r + 1) - (eS g a) ∧ (r + 1) - (eS g a) ≤ 3) ∧ 0 ≤ (r + 1) ∧ (r + 1) ≤ 3) := b60
                      refine wz_ifne (tgt := 70) X.x X.b dX2_seam_63 (by decide) (by decide) (fun h => absurd h (by decide)) (fun _ => ?_)
                      refine wz_iconst X.x X.b dX2_seam_66 ?_
                      refine lv_goto (tgt := 86) X.x X.b dX2_seam_67 (by decide) ?_
                      refine lv_istore (lv' := [(6, .int (zI 0)), (5, .int (zI 0)), (4, .int (zI c)), (3, .int (zI r)), (2, .ref nq3), (0, .ref (ad 24)), (1, .ref l)]) X.x X.b dX2_seam_86 hl (by decide) rfl (fun ls hl => ?_)
                      refine lv_aload_n X.x X.b dX2_seam_88 rfl (lv_at hl 4 rfl) ?_
                      refine lv_iload_n X.x X.b dX2_seam_89 rfl (lv_at hl 3 rfl) ?_
                      refine wa_aald (k := 7) (f := fun i => some (nq3 + 1 + i.toNat)) X hH hSQ.out.2 rfl rfl (by omega) (by omega) (by omega) dX2_seam_90 ?_
                      refine wz_opt (q := some (nq3 + 1 + Int.toNat r)) (by rfl) ?_
                      refine lv_iload X.x X.b dX2_seam_91 (lv_at hl 2 rfl) ?_
                      refine lv_iload X.x X.b dX2_seam_93 (lv_at hl 1 rfl) ?_
                      refine wz_ifeq (tgt := 112) X.x X.b dX2_seam_95 (by decide) (by decide) (fun _ => ?_) (fun h => absurd h (by decide))
                      refine wz_ldc (n := 1000000) X.x X.b X.own (X.t _ q622) rfl dX2_seam_112 ?_
                      refine wa_iast (f := Fm r) X hH hS (hSQ.row (r := r) (by omega) (by omega)).2 (by omega) (by omega) (by omega) dX2_seam_114 (fun w114 H locs ew hH hS => ?_)
                      have hOq : Off (nq3 + 1 + r.toNat) wl17 w114 := Off.rf.put ew
                      have hSQ1 := hSQ.put (r := r) (by omega) (by omega) ew
                      have hnr := hSQ.no (r := r) (by omega) (by omega)
                      have hk := Kp.init hnr hN3 hOq
                      have hX := hX_3.init hnr hX hOq
                      have hPX := hPX_3.kp hk
                      have fl0 := fl0_3.kp hk
                      have hK := hK_3.kp hk
                      have hN3 := hk
                      have hSQ := hSQ1
                      clear ew
                      refine wz_iinc (k := 2) (lv' := [(4, .int (zI (c + 1))), (6, .int (zI 0)), (5, .int (zI 0)), (3, .int (zI r)), (2, .ref nq3), (0, .ref (ad 24)), (1, .ref l)]) X.x X.b dX2_seam_115 hl rfl (by decide) rfl (fun ls hl => ?_)
                      refine lv_goto (tgt := 17) X.x X.b dX2_seam_118 (by decide) ?_
                      exact ih17 _ (by omega) (c + 1) (rup Fm r c 1000000) rfl (by omega) (by exact i17_1.put (fun hr => by unfold rwS; first | exact (if_pos (by omega)).symm | (exact absurd (show _ from ⟨hr.2, hr.1⟩) b26))) (by intro i d e0 e1 d0 d1; unfold rup; by_cases z : i = r; (rw [if_pos z, if_pos z]; unfold fup; split; (first | omega | (have h9 := i17_2 (r + 1) _ (by omega) (by omega) hbi.1 hbi.2; rw [if_neg (by omega)] at h9; omega)); (have h9 := i17_2 r d (by omega) (by omega) d0 d1; rw [if_pos rfl] at h9; exact h9)); (rw [if_neg z]; exact i17_2 i d e0 e1 d0 d1)) _ _ _ _ hX hK hPX fl0 hN3 hSQ hH hS (lv_sub hl [0, 3, 4, 5, 6] rfl)
                · refine wz_iconst X.x X.b dX2_seam_44 ?_
                  refine lv_goto (tgt := 49) X.x X.b dX2_seam_45 (by decide) ?_
                  refine lv_istore (lv' := [(5, .int (zI 1)), (4, .int (zI c)), (3, .int (zI r)), (2, .ref nq3), (0, .ref (ad 24)), (1, .ref l)]) X.x X.b dX2_seam_49 hl (by decide) rfl (fun ls hl => ?_)
                  refine lv_iload_n X.x X.b dX2_seam_51 rfl (lv_at hl 2 rfl) ?_
                  refine wz_iconst X.x X.b dX2_seam_52 ?_
                  refine wz_icmp_eq (tgt := 66) X.x X.b dX2_seam_53 (by decide) ⟨by omega, by omega⟩ ⟨by omega, by omega⟩ (fun c53 => ?_) (fun c53 => ?_)
                  · refine wz_iconst X.x X.b dX2_seam_66 ?_
                    refine lv_goto (tgt := 86) X.x X.b dX2_seam_67 (by decide) ?_
                    refine lv_istore (lv' := [(6, .int (zI 0)), (5, .int (zI 1)), (4, .int (zI c)), (3, .int (zI r)), (2, .ref nq3), (0, .ref (ad 24)), (1, .ref l)]) X.x X.b dX2_seam_86 hl (by decide) rfl (fun ls hl => ?_)
                    refine lv_aload_n X.x X.b dX2_seam_88 rfl (lv_at hl 4 rfl) ?_
                    refine lv_iload_n X.x X.b dX2_seam_89 rfl (lv_at hl 3 rfl) ?_
                    refine wa_aald (k := 7) (f := fun i => some (nq3 + 1 + i.toNat)) X hH hSQ.out.2 rfl rfl (by omega) (by omega) (by omega) dX2_seam_90 ?_
                    refine wz_opt (q := some (nq3 + 1 + Int.toNat r)) (by rfl) ?_
                    refine lv_iload X.x X.b dX2_seam_91 (lv_at hl 2 rfl) ?_
                    refine lv_iload X.x X.b dX2_seam_93 (lv_at hl 1 rfl) ?_
                    refine wz_ifeq (tgt := 112) X.x X.b dX2_seam_95 (by decide) (by decide) (fun h => absurd h (by decide)) (fun _ => ?_)
                    refine lv_aload_n X.x X.b dX2_seam_98 rfl (lv_at hl 5 rfl) ?_
                    refine lv_aload_n X.x X.b dX2_seam_99 rfl (lv_at hl 6 rfl) ?_
                    refine lv_iload_n X.x X.b dX2_seam_100 rfl (lv_at hl 3 rfl) ?_
                    have hfoi := (foS_in ho ha.1 ha.2).resolve_left hfo
                    refine lv_iload X.x X.b dX2_seam_101 (lv_at hl 2 rfl) ?_
                    have hdif := dfS_in ho ha.1 ha.2 hfo ⟨b26.2, b26.1⟩ (show fS g a ≤ c by omega) (by omega : c ≤ 7)
                    unfold dfS at hdif
                    refine wa_ci hS (wa_rV (rest := [.int (zI c), .ref (nq3 + 1 + Int.toNat r)]) X hH (mX2_difference hX hPX fl0 r c ha ⟨hfoi.1, hfoi.2.1⟩ ⟨b26.2, b26.1⟩ ⟨by omega, by omega⟩ ho) (cwV 3 X.t (lw_V q1282 q1284 qs31 q112 q1285) rfl rfl rfl hdX2_difference ⟨Nat.le_of_ble_eq_true rfl, Nat.le_of_ble_eq_true rfl⟩) rfl (have h9 := (XW.c24 hX); h9) rfl rfl hl.1 rfl (Nat.le_of_ble_eq_true rfl) dX2_seam_103 ⟨Nat.le_of_ble_eq_true rfl, Nat.le_of_ble_eq_true rfl⟩) (fun z w103 H locs hp hH hS => ?_)
                    obtain ⟨rfl, hw⟩ := hp
                    rw [← hw] at hH; clear hw
                    refine lv_iload X.x X.b dX2_seam_106 (lv_at hl 0 rfl) ?_
                    refine wz_iadd X.x X.b dX2_seam_108 ?_
                    refine lv_goto (tgt := 114) X.x X.b dX2_seam_109 (by decide) ?_
                    refine wa_iast (f := Fm r) X hH hS (hSQ.row (r := r) (by omega) (by omega)).2 (by omega) (by omega) (by omega) dX2_seam_114 (fun w114 H locs ew hH hS => ?_)
                    have hOq : Off (nq3 + 1 + r.toNat) wl17 w114 := Off.rf.put ew
                    have hSQ1 := hSQ.put (r := r) (by omega) (by omega) ew
                    have hnr := hSQ.no (r := r) (by omega) (by omega)
                    have hk := Kp.init hnr hN3 hOq
                    have hX := hX_3.init hnr hX hOq
                    have hPX := hPX_3.kp hk
                    have fl0 := fl0_3.kp hk
                    have hK := hK_3.kp hk
                    have hN3 := hk
                    have hSQ := hSQ1
                    clear ew
                    refine wz_iinc (k := 2) (lv' := [(4, .int (zI (c + 1))), (6, .int (zI 0)), (5, .int (zI 1)), (3, .int (zI r)), (2, .ref nq3), (0, .ref (ad 24)), (1, .ref l)]) X.x X.b dX2_seam_115 hl rfl (by decide) rfl (fun ls hl => ?_)
                    refine lv_goto (tgt := 17) X.x X.b dX2_seam_118 (by decide) ?_
                    exact ih17 _ (by omega) (c + 1) (rup Fm r c ((Int.natAbs (pc g a r c - pc g (foS g a) (r - (eS g a)) (c - (fS g a))) : Int) + 0)) rfl (by omega) (by exact i17_1.put (fun hr => by rw [show rwS (fS g a) (lS g a r) c = lS g a r c from if_neg (by omega), lS_e hr.1.1 hr.1.2, if_neg (fun q => by first | exact b60 ⟨q.2, q.1⟩ | (have := q.1; omega))]; rfl)) (by intro i d e0 e1 d0 d1; unfold rup; by_cases z : i = r; (rw [if_pos z, if_pos z]; unfold fup; split; (first | omega | (have h9 := i17_2 (r + 1) _ (by omega) (by omega) hbi.1 hbi.2; rw [if_neg (by omega)] at h9; omega)); (have h9 := i17_2 r d (by omega) (by omega) d0 d1; rw [if_pos rfl] at h9; exact h9)); (rw [if_neg z]; exact i17_2 i d e0 e1 d0 d1)) _ _ _ _ hX hK hPX fl0 hN3 hSQ hH hS (lv_sub hl [0, 3, 4, 5, 6] rfl)
                  · refine lv_aload_n X.x X.b dX2_seam_56 rfl (lv_at hl 5 rfl) ?_
                    refine lv_iload_n X.x X.b dX2_seam_57 rfl (lv_at hl 2 rfl) ?_
                    refine wz_iconst X.x X.b dX2_seam_58 ?_
                    refine wz_iadd X.x X.b dX2_seam_59 ?_
                    refine wa_ci hS (wa_rV (rest := []) X hH (mX11_isRow  (show At wl17 l (eO 11 [.int (zI a), .int (zI (foS g a)), .ref sc, .int (zI v)]) from fl0.1.2) (show At wl17 sc (eO 10 [.int (zI (eS g a)), .int (zI (fS g a))]) from fl0.2.2) (r + 1) (show -100 ≤ (r + 1) ∧ (r + 1) ≤ 100 by first | assumption | omega) (show -100 ≤ (eS g a) ∧ (eS g a) ≤ 100 by first | assumption | omega)) (cwV 1 X.t (lw_V q1271 q1272 q1273 q141 q1274) rfl rfl rfl hdX11_isRow ⟨Nat.le_of_ble_eq_true rfl, Nat.le_of_ble_eq_true rfl⟩) rfl fl0.1.2 rfl rfl hl.1 rfl (Nat.le_of_ble_eq_true rfl) dX2_seam_60 ⟨Nat.le_of_ble_eq_true rfl, Nat.le_of_ble_eq_true rfl⟩) (fun z w60 H locs hp hH hS => ?_)
                    obtain ⟨hb, hw⟩ := hp
                    rw [← hw] at hH; clear hw
                    rcases hb with ⟨b60, rfl⟩ | ⟨b60, rfl⟩
                    · have b60 : ((0 ≤ (r + 1) - (eS g a) ∧ (r + 1) - (eS g a) ≤ 3) ∧ 0 ≤ (r + 1) ∧ (r + 1) ≤ 3) := b60
                      refine wz_ifne (tgt := 70) X.x X.b dX2_seam_63 (by decide) (by decide) (fun _ => ?_) (fun h => absurd h (by decide))
                      refine lv_aload_n X.x X.b dX2_seam_70 rfl (lv_at hl 3 rfl) ?_
                      refine lv_iload_n X.x X.b dX2_seam_71 rfl (lv_at hl 2 rfl) ?_
                      refine wz_iconst X.x X.b dX2_seam_72 ?_
                      refine wz_iadd X.x X.b dX2_seam_73 ?_
                      refine wa_aald (k := 7) (f := fun i => some (nq3 + 1 + i.toNat)) X hH hSQ.out.2 rfl rfl (by omega) (by omega) (by omega) dX2_seam_74 ?_
                      refine wz_opt (q := some (nq3 + 1 + Int.toNat (r + 1))) (by rfl) ?_
                      have fr : Lc ad wl17 (nq3 + 1 + Int.toNat (r + 1)) (eI G 8 (Fm (r + 1))) := hSQ.row (by omega) (by omega)
                      have hr1 : hrS g a (r + 1) := ⟨b60.2, b60.1⟩
                      have hbi := bwS_in (s := Fm (r + 1)) (c := c) (by omega)
                      have hfr : ∀ d, 0 ≤ d → d ≤ 7 → rI (Fm (r + 1) d) := fun d d0 d1 => by have h9 := i17_2 (r + 1) d (by omega) (by omega) d0 d1; rw [if_neg (by omega)] at h9; unfold rI; omega
                      refine lv_aload_n X.x X.b dX2_seam_75 rfl (lv_at hl 4 rfl) ?_
                      refine lv_aload_n X.x X.b dX2_seam_76 rfl (lv_at hl 3 rfl) ?_
                      refine lv_iload_n X.x X.b dX2_seam_77 rfl (lv_at hl 2 rfl) ?_
                      refine wz_iconst X.x X.b dX2_seam_78 ?_
                      refine wz_iadd X.x X.b dX2_seam_79 ?_
                      refine lv_iload X.x X.b dX2_seam_80 (lv_at hl 1 rfl) ?_
                      refine wa_ci hS (wa_rV (rest := [.ref (nq3 + 1 + Int.toNat (r + 1))]) X hH (mX2_below hX hSQ (r + 1) c (by omega) (by omega) hfr) (cwV 3 X.t (lw_V q1277 q1279 qs30 q112 q1280) rfl rfl rfl hdX2_below ⟨Nat.le_of_ble_eq_true rfl, Nat.le_of_ble_eq_true rfl⟩) rfl (have h9 := (XW.c24 hX); h9) rfl rfl hl.1 rfl (Nat.le_of_ble_eq_true rfl) dX2_seam_82 ⟨Nat.le_of_ble_eq_true rfl, Nat.le_of_ble_eq_true rfl⟩) (fun z w82 H locs hp hH hS => ?_)
                      obtain ⟨rfl, hw⟩ := hp
                      rw [← hw] at hH; clear hw
                      refine wa_iald (f := Fm (r + 1)) X hH fr.2 (by omega) (by omega) (by omega) dX2_seam_85 ?_
                      refine lv_istore (lv' := [(6, .int (zI ((Fm (r + 1)) (bwS (Fm (r + 1)) c)))), (5, .int (zI 1)), (4, .int (zI c)), (3, .int (zI r)), (2, .ref nq3), (0, .ref (ad 24)), (1, .ref l)]) X.x X.b dX2_seam_86 hl (by decide) rfl (fun ls hl => ?_)
                      refine lv_aload_n X.x X.b dX2_seam_88 rfl (lv_at hl 4 rfl) ?_
                      refine lv_iload_n X.x X.b dX2_seam_89 rfl (lv_at hl 3 rfl) ?_
                      refine wa_aald (k := 7) (f := fun i => some (nq3 + 1 + i.toNat)) X hH hSQ.out.2 rfl rfl (by omega) (by omega) (by omega) dX2_seam_90 ?_
                      refine wz_opt (q := some (nq3 + 1 + Int.toNat r)) (by rfl) ?_
                      refine lv_iload X.x X.b dX2_seam_91 (lv_at hl 2 rfl) ?_
                      refine lv_iload X.x X.b dX2_seam_93 (lv_at hl 1 rfl) ?_
                      refine wz_ifeq (tgt := 112) X.x X.b dX2_seam_95 (by decide) (by decide) (fun h => absurd h (by decide)) (fun _ => ?_)
                      refine lv_aload_n X.x X.b dX2_seam_98 rfl (lv_at hl 5 rfl) ?_
                      refine lv_aload_n X.x X.b dX2_seam_99 rfl (lv_at hl 6 rfl) ?_
                      refine lv_iload_n X.x X.b dX2_seam_100 rfl (lv_at hl 3 rfl) ?_
                      have hfoi := (foS_in ho ha.1 ha.2).resolve_left hfo
                      refine lv_iload X.x X.b dX2_seam_101 (lv_at hl 2 rfl) ?_
                      have hdif := dfS_in ho ha.1 ha.2 hfo ⟨b26.2, b26.1⟩ (show fS g a ≤ c by omega) (by omega : c ≤ 7)
                      unfold dfS at hdif
                      refine wa_ci hS (wa_rV (rest := [.int (zI c), .ref (nq3 + 1 + Int.toNat r)]) X hH (mX2_difference hX hPX fl0 r c ha ⟨hfoi.1, hfoi.2.1⟩ ⟨b26.2, b26.1⟩ ⟨by omega, by omega⟩ ho) (cwV 3 X.t (lw_V q1282 q1284 qs31 q112 q1285) rfl rfl rfl hdX2_difference ⟨Nat.le_of_ble_eq_true rfl, Nat.le_of_ble_eq_true rfl⟩) rfl (have h9 := (XW.c24 hX); h9) rfl rfl hl.1 rfl (Nat.le_of_ble_eq_true rfl) dX2_seam_103 ⟨Nat.le_of_ble_eq_true rfl, Nat.le_of_ble_eq_true rfl⟩) (fun z w103 H locs hp hH hS => ?_)
                      obtain ⟨rfl, hw⟩ := hp
                      rw [← hw] at hH; clear hw
                      refine lv_iload X.x X.b dX2_seam_106 (lv_at hl 0 rfl) ?_
                      refine wz_iadd X.x X.b dX2_seam_108 ?_
                      refine lv_goto (tgt := 114) X.x X.b dX2_seam_109 (by decide) ?_
                      refine wa_iast (f := Fm r) X hH hS (hSQ.row (r := r) (by omega) (by omega)).2 (by omega) (by omega) (by omega) dX2_seam_114 (fun w114 H locs ew hH hS => ?_)
                      have hOq : Off (nq3 + 1 + r.toNat) wl17 w114 := Off.rf.put ew
                      have hSQ1 := hSQ.put (r := r) (by omega) (by omega) ew
                      have hnr := hSQ.no (r := r) (by omega) (by omega)
                      have hk := Kp.init hnr hN3 hOq
                      have hX := hX_3.init hnr hX hOq
                      have hPX := hPX_3.kp hk
                      have fl0 := fl0_3.kp hk
                      have hK := hK_3.kp hk
                      have hN3 := hk
                      have hSQ := hSQ1
                      clear ew
                      refine wz_iinc (k := 2) (lv' := [(4, .int (zI (c + 1))), (6, .int (zI ((Fm (r + 1)) (bwS (Fm (r + 1)) c)))), (5, .int (zI 1)), (3, .int (zI r)), (2, .ref nq3), (0, .ref (ad 24)), (1, .ref l)]) X.x X.b dX2_seam_115 hl rfl (by decide) rfl (fun ls hl => ?_)
                      refine lv_goto (tgt := 17) X.x X.b dX2_seam_118 (by decide) ?_
                      exact ih17 _ (by omega) (c + 1) (rup Fm r c ((Int.natAbs (pc g a r c - pc g (foS g a) (r - (eS g a)) (c - (fS g a))) : Int) + ((Fm (r + 1)) (bwS (Fm (r + 1)) c)))) rfl (by omega) (by exact i17_1.put (fun hr => by rw [show rwS (fS g a) (lS g a r) c = lS g a r c from if_neg (by omega), lS_e hr.1.1 hr.1.2, if_pos hr1, ← i17_1.1.val ho ha hfo hpos ⟨by omega, by omega⟩ hr1 ⟨by omega, by omega⟩]; rfl)) (by intro i d e0 e1 d0 d1; unfold rup; by_cases z : i = r; (rw [if_pos z, if_pos z]; unfold fup; split; (first | omega | (have h9 := i17_2 (r + 1) _ (by omega) (by omega) hbi.1 hbi.2; rw [if_neg (by omega)] at h9; omega)); (have h9 := i17_2 r d (by omega) (by omega) d0 d1; rw [if_pos rfl] at h9; exact h9)); (rw [if_neg z]; exact i17_2 i d e0 e1 d0 d1)) _ _ _ _ hX hK hPX fl0 hN3 hSQ hH hS (lv_sub hl [0, 3, 4, 5, 6] rfl)
                    · have b60 : ¬ ((0 ≤ (r + 1) - (eS g a) ∧ (r + 1) - (eS g a) ≤ 3) ∧ 0 ≤ (r + 1) ∧ (r + 1) ≤ 3) := b60
                      refine wz_ifne (tgt := 70) X.x X.b dX2_seam_63 (by decide) (by decide) (fun h => absurd h (by decide)) (fun _ => ?_)
                      refine wz_iconst X.x X.b dX2_seam_66 ?_
                      refine lv_goto (tgt := 86) X.x X.b dX2_seam_67 (by decide) ?_
                      refine lv_istore (lv' := [(6, .int (zI 0)), (5, .int (zI 1)), (4, .int (zI c)), (3, .int (zI r)), (2, .ref nq3), (0, .ref (ad 24)), (1, .ref l)]) X.x X.b dX2_seam_86 hl (by decide) rfl (fun ls hl => ?_)
                      refine lv_aload_n X.x X.b dX2_seam_88 rfl (lv_at hl 4 rfl) ?_
                      refine lv_iload_n X.x X.b dX2_seam_89 rfl (lv_at hl 3 rfl) ?_
                      refine wa_aald (k := 7) (f := fun i => some (nq3 + 1 + i.toNat)) X hH hSQ.out.2 rfl rfl (by omega) (by omega) (by omega) dX2_seam_90 ?_
                      refine wz_opt (q := some (nq3 + 1 + Int.toNat r)) (by rfl) ?_
                      refine lv_iload X.x X.b dX2_seam_91 (lv_at hl 2 rfl) ?_
                      refine lv_iload X.x X.b dX2_seam_93 (lv_at hl 1 rfl) ?_
                      refine wz_ifeq (tgt := 112) X.x X.b dX2_seam_95 (by decide) (by decide) (fun h => absurd h (by decide)) (fun _ => ?_)
                      refine lv_aload_n X.x X.b dX2_seam_98 rfl (lv_at hl 5 rfl) ?_
                      refine lv_aload_n X.x X.b dX2_seam_99 rfl (lv_at hl 6 rfl) ?_
                      refine lv_iload_n X.x X.b dX2_seam_100 rfl (lv_at hl 3 rfl) ?_
                      have hfoi := (foS_in ho ha.1 ha.2).resolve_left hfo
                      refine lv_iload X.x X.b dX2_seam_101 (lv_at hl 2 rfl) ?_
                      have hdif := dfS_in ho ha.1 ha.2 hfo ⟨b26.2, b26.1⟩ (show fS g a ≤ c by omega) (by omega : c ≤ 7)
                      unfold dfS at hdif
                      refine wa_ci hS (wa_rV (rest := [.int (zI c), .ref (nq3 + 1 + Int.toNat r)]) X hH (mX2_difference hX hPX fl0 r c ha ⟨hfoi.1, hfoi.2.1⟩ ⟨b26.2, b26.1⟩ ⟨by omega, by omega⟩ ho) (cwV 3 X.t (lw_V q1282 q1284 qs31 q112 q1285) rfl rfl rfl hdX2_difference ⟨Nat.le_of_ble_eq_true rfl, Nat.le_of_ble_eq_true rfl⟩) rfl (have h9 := (XW.c24 hX); h9) rfl rfl hl.1 rfl (Nat.le_of_ble_eq_true rfl) dX2_seam_103 ⟨Nat.le_of_ble_eq_true rfl, Nat.le_of_ble_eq_true rfl⟩) (fun z w103 H locs hp hH hS => ?_)
                      obtain ⟨rfl, hw⟩ := hp
                      rw [← hw] at hH; clear hw
                      refine lv_iload X.x X.b dX2_seam_106 (lv_at hl 0 rfl) ?_
                      refine wz_iadd X.x X.b dX2_seam_108 ?_
                      refine lv_goto (tgt := 114) X.x X.b dX2_seam_109 (by decide) ?_
                      refine wa_iast (f := Fm r) X hH hS (hSQ.row (r := r) (by omega) (by omega)).2 (by omega) (by omega) (by omega) dX2_seam_114 (fun w114 H locs ew hH hS => ?_)
                      have hOq : Off (nq3 + 1 + r.toNat) wl17 w114 := Off.rf.put ew
                      have hSQ1 := hSQ.put (r := r) (by omega) (by omega) ew
                      have hnr := hSQ.no (r := r) (by omega) (by omega)
                      have hk := Kp.init hnr hN3 hOq
                      have hX := hX_3.init hnr hX hOq
                      have hPX := hPX_3.kp hk
                      have fl0 := fl0_3.kp hk
                      have hK := hK_3.kp hk
                      have hN3 := hk
                      have hSQ := hSQ1
                      clear ew
                      refine wz_iinc (k := 2) (lv' := [(4, .int (zI (c + 1))), (6, .int (zI 0)), (5, .int (zI 1)), (3, .int (zI r)), (2, .ref nq3), (0, .ref (ad 24)), (1, .ref l)]) X.x X.b dX2_seam_115 hl rfl (by decide) rfl (fun ls hl => ?_)
                      refine lv_goto (tgt := 17) X.x X.b dX2_seam_118 (by decide) ?_
                      exact ih17 _ (by omega) (c + 1) (rup Fm r c ((Int.natAbs (pc g a r c - pc g (foS g a) (r - (eS g a)) (c - (fS g a))) : Int) + 0)) rfl (by omega) (by exact i17_1.put (fun hr => by rw [show rwS (fS g a) (lS g a r) c = lS g a r c from if_neg (by omega), lS_e hr.1.1 hr.1.2, if_neg (fun q => by first | exact b60 ⟨q.2, q.1⟩ | (have := q.1; omega))]; rfl)) (by intro i d e0 e1 d0 d1; unfold rup; by_cases z : i = r; (rw [if_pos z, if_pos z]; unfold fup; split; (first | omega | (have h9 := i17_2 (r + 1) _ (by omega) (by omega) hbi.1 hbi.2; rw [if_neg (by omega)] at h9; omega)); (have h9 := i17_2 r d (by omega) (by omega) d0 d1; rw [if_pos rfl] at h9; exact h9)); (rw [if_neg z]; exact i17_2 i d e0 e1 d0 d1)) _ _ _ _ hX hK hPX fl0 hN3 hSQ hH hS (lv_sub hl [0, 3, 4, 5, 6] rfl)
              · have b26 : ¬ ((0 ≤ r - (eS g a) ∧ r - (eS g a) ≤ 3) ∧ 0 ≤ r ∧ r ≤ 3) := b26
                refine wz_ifeq (tgt := 48) X.x X.b dX2_seam_29 (by decide) (by decide) (fun _ => ?_) (fun h => absurd h (by decide))
                refine wz_iconst X.x X.b dX2_seam_48 ?_
                refine lv_istore (lv' := [(5, .int (zI 0)), (4, .int (zI c)), (3, .int (zI r)), (2, .ref nq3), (0, .ref (ad 24)), (1, .ref l)]) X.x X.b dX2_seam_49 hl (by decide) rfl (fun ls hl => ?_)
                refine lv_iload_n X.x X.b dX2_seam_51 rfl (lv_at hl 2 rfl) ?_
                refine wz_iconst X.x X.b dX2_seam_52 ?_
                refine wz_icmp_eq (tgt := 66) X.x X.b dX2_seam_53 (by decide) ⟨by omega, by omega⟩ ⟨by omega, by omega⟩ (fun c53 => ?_) (fun c53 => ?_)
                · refine wz_iconst X.x X.b dX2_seam_66 ?_
                  refine lv_goto (tgt := 86) X.x X.b dX2_seam_67 (by decide) ?_
                  refine lv_istore (lv' := [(6, .int (zI 0)), (5, .int (zI 0)), (4, .int (zI c)), (3, .int (zI r)), (2, .ref nq3), (0, .ref (ad 24)), (1, .ref l)]) X.x X.b dX2_seam_86 hl (by decide) rfl (fun ls hl => ?_)
                  refine lv_aload_n X.x X.b dX2_seam_88 rfl (lv_at hl 4 rfl) ?_
                  refine lv_iload_n X.x X.b dX2_seam_89 rfl (lv_at hl 3 rfl) ?_
                  refine wa_aald (k := 7) (f := fun i => some (nq3 + 1 + i.toNat)) X hH hSQ.out.2 rfl rfl (by omega) (by omega) (by omega) dX2_seam_90 ?_
                  refine wz_opt (q := some (nq3 + 1 + Int.toNat r)) (by rfl) ?_
                  refine lv_iload X.x X.b dX2_seam_91 (lv_at hl 2 rfl) ?_
                  refine lv_iload X.x X.b dX2_seam_93 (lv_at hl 1 rfl) ?_
                  refine wz_ifeq (tgt := 112) X.x X.b dX2_seam_95 (by decide) (by decide) (fun _ => ?_) (fun h => absurd h (by decide))
                  refine wz_ldc (n := 1000000) X.x X.b X.own (X.t _ q622) rfl dX2_seam_112 ?_
                  refine wa_iast (f := Fm r) X hH hS (hSQ.row (r := r) (by omega) (by omega)).2 (by omega) (by omega) (by omega) dX2_seam_114 (fun w114 H locs ew hH hS => ?_)
                  have hOq : Off (nq3 + 1 + r.toNat) wl17 w114 := Off.rf.put ew
                  have hSQ1 := hSQ.put (r := r) (by omega) (by omega) ew
                  have hnr := hSQ.no (r := r) (by omega) (by omega)
                  have hk := Kp.init hnr hN3 hOq
                  have hX := hX_3.init hnr hX hOq
                  have hPX := hPX_3.kp hk
                  have fl0 := fl0_3.kp hk
                  have hK := hK_3.kp hk
                  have hN3 := hk
                  have hSQ := hSQ1
                  clear ew
                  refine wz_iinc (k := 2) (lv' := [(4, .int (zI (c + 1))), (6, .int (zI 0)), (5, .int (zI 0)), (3, .int (zI r)), (2, .ref nq3), (0, .ref (ad 24)), (1, .ref l)]) X.x X.b dX2_seam_115 hl rfl (by decide) rfl (fun ls hl => ?_)
                  refine lv_goto (tgt := 17) X.x X.b dX2_seam_118 (by decide) ?_
                  exact ih17 _ (by omega) (c + 1) (rup Fm r c 1000000) rfl (by omega) (by exact i17_1.put (fun hr => by unfold rwS; first | exact (if_pos (by omega)).symm | (exact absurd (show _ from ⟨hr.2, hr.1⟩) b26))) (by intro i d e0 e1 d0 d1; unfold rup; by_cases z : i = r; (rw [if_pos z, if_pos z]; unfold fup; split; (first | omega | (have h9 := i17_2 (r + 1) _ (by omega) (by omega) hbi.1 hbi.2; rw [if_neg (by omega)] at h9; omega)); (have h9 := i17_2 r d (by omega) (by omega) d0 d1; rw [if_pos rfl] at h9; exact h9)); (rw [if_neg z]; exact i17_2 i d e0 e1 d0 d1)) _ _ _ _ hX hK hPX fl0 hN3 hSQ hH hS (lv_sub hl [0, 3, 4, 5, 6] rfl)
                · refine lv_aload_n X.x X.b dX2_seam_56 rfl (lv_at hl 5 rfl) ?_
                  refine lv_iload_n X.x X.b dX2_seam_57 rfl (lv_at hl 2 rfl) ?_
                  refine wz_iconst X.x X.b dX2_seam_58 ?_
                  refine wz_iadd X.x X.b dX2_seam_59 ?_
                  refine wa_ci hS (wa_rV (rest := []) X hH (mX11_isRow  (show At wl17 l (eO 11 [.int (zI a), .int (zI (foS g a)), .ref sc, .int (zI v)]) from fl0.1.2) (show At wl17 sc (eO 10 [.int (zI (eS g a)), .int (zI (fS g a))]) from fl0.2.2) (r + 1) (show -100 ≤ (r + 1) ∧ (r + 1) ≤ 100 by first | assumption | omega) (show -100 ≤ (eS g a) ∧ (eS g a) ≤ 100 by first | assumption | omega)) (cwV 1 X.t (lw_V q1271 q1272 q1273 q141 q1274) rfl rfl rfl hdX11_isRow ⟨Nat.le_of_ble_eq_true rfl, Nat.le_of_ble_eq_true rfl⟩) rfl fl0.1.2 rfl rfl hl.1 rfl (Nat.le_of_ble_eq_true rfl) dX2_seam_60 ⟨Nat.le_of_ble_eq_true rfl, Nat.le_of_ble_eq_true rfl⟩) (fun z w60 H locs hp hH hS => ?_)
                  obtain ⟨hb, hw⟩ := hp
                  rw [← hw] at hH; clear hw
                  rcases hb with ⟨b60, rfl⟩ | ⟨b60, rfl⟩
                  · have b60 : ((0 ≤ (r + 1) - (eS g a) ∧ (r + 1) - (eS g a) ≤ 3) ∧ 0 ≤ (r + 1) ∧ (r + 1) ≤ 3) := b60
                    refine wz_ifne (tgt := 70) X.x X.b dX2_seam_63 (by decide) (by decide) (fun _ => ?_) (fun h => absurd h (by decide))
                    refine lv_aload_n X.x X.b dX2_seam_70 rfl (lv_at hl 3 rfl) ?_
                    refine lv_iload_n X.x X.b dX2_seam_71 rfl (lv_at hl 2 rfl) ?_
                    refine wz_iconst X.x X.b dX2_seam_72 ?_
                    refine wz_iadd X.x X.b dX2_seam_73 ?_
                    refine wa_aald (k := 7) (f := fun i => some (nq3 + 1 + i.toNat)) X hH hSQ.out.2 rfl rfl (by omega) (by omega) (by omega) dX2_seam_74 ?_
                    refine wz_opt (q := some (nq3 + 1 + Int.toNat (r + 1))) (by rfl) ?_
                    have fr : Lc ad wl17 (nq3 + 1 + Int.toNat (r + 1)) (eI G 8 (Fm (r + 1))) := hSQ.row (by omega) (by omega)
                    have hr1 : hrS g a (r + 1) := ⟨b60.2, b60.1⟩
                    have hbi := bwS_in (s := Fm (r + 1)) (c := c) (by omega)
                    have hfr : ∀ d, 0 ≤ d → d ≤ 7 → rI (Fm (r + 1) d) := fun d d0 d1 => by have h9 := i17_2 (r + 1) d (by omega) (by omega) d0 d1; rw [if_neg (by omega)] at h9; unfold rI; omega
                    refine lv_aload_n X.x X.b dX2_seam_75 rfl (lv_at hl 4 rfl) ?_
                    refine lv_aload_n X.x X.b dX2_seam_76 rfl (lv_at hl 3 rfl) ?_
                    refine lv_iload_n X.x X.b dX2_seam_77 rfl (lv_at hl 2 rfl) ?_
                    refine wz_iconst X.x X.b dX2_seam_78 ?_
                    refine wz_iadd X.x X.b dX2_seam_79 ?_
                    refine lv_iload X.x X.b dX2_seam_80 (lv_at hl 1 rfl) ?_
                    refine wa_ci hS (wa_rV (rest := [.ref (nq3 + 1 + Int.toNat (r + 1))]) X hH (mX2_below hX hSQ (r + 1) c (by omega) (by omega) hfr) (cwV 3 X.t (lw_V q1277 q1279 qs30 q112 q1280) rfl rfl rfl hdX2_below ⟨Nat.le_of_ble_eq_true rfl, Nat.le_of_ble_eq_true rfl⟩) rfl (have h9 := (XW.c24 hX); h9) rfl rfl hl.1 rfl (Nat.le_of_ble_eq_true rfl) dX2_seam_82 ⟨Nat.le_of_ble_eq_true rfl, Nat.le_of_ble_eq_true rfl⟩) (fun z w82 H locs hp hH hS => ?_)
                    obtain ⟨rfl, hw⟩ := hp
                    rw [← hw] at hH; clear hw
                    refine wa_iald (f := Fm (r + 1)) X hH fr.2 (by omega) (by omega) (by omega) dX2_seam_85 ?_
                    refine lv_istore (lv' := [(6, .int (zI ((Fm (r + 1)) (bwS (Fm (r + 1)) c)))), (5, .int (zI 0)), (4, .int (zI c)), (3, .int (zI r)), (2, .ref nq3), (0, .ref (ad 24)), (1, .ref l)]) X.x X.b dX2_seam_86 hl (by decide) rfl (fun ls hl => ?_)
                    refine lv_aload_n X.x X.b dX2_seam_88 rfl (lv_at hl 4 rfl) ?_
                    refine lv_iload_n X.x X.b dX2_seam_89 rfl (lv_at hl 3 rfl) ?_
                    refine wa_aald (k := 7) (f := fun i => some (nq3 + 1 + i.toNat)) X hH hSQ.out.2 rfl rfl (by omega) (by omega) (by omega) dX2_seam_90 ?_
                    refine wz_opt (q := some (nq3 + 1 + Int.toNat r)) (by rfl) ?_
                    refine lv_iload X.x X.b dX2_seam_91 (lv_at hl 2 rfl) ?_
                    refine lv_iload X.x X.b dX2_seam_93 (lv_at hl 1 rfl) ?_
                    refine wz_ifeq (tgt := 112) X.x X.b dX2_seam_95 (by decide) (by decide) (fun _ => ?_) (fun h => absurd h (by decide))
                    refine wz_ldc (n := 1000000) X.x X.b X.own (X.t _ q622) rfl dX2_seam_112 ?_
                    refine wa_iast (f := Fm r) X hH hS (hSQ.row (r := r) (by omega) (by omega)).2 (by omega) (by omega) (by omega) dX2_seam_114 (fun w114 H locs ew hH hS => ?_)
                    have hOq : Off (nq3 + 1 + r.toNat) wl17 w114 := Off.rf.put ew
                    have hSQ1 := hSQ.put (r := r) (by omega) (by omega) ew
                    have hnr := hSQ.no (r := r) (by omega) (by omega)
                    have hk := Kp.init hnr hN3 hOq
                    have hX := hX_3.init hnr hX hOq
                    have hPX := hPX_3.kp hk
                    have fl0 := fl0_3.kp hk
                    have hK := hK_3.kp hk
                    have hN3 := hk
                    have hSQ := hSQ1
                    clear ew
                    refine wz_iinc (k := 2) (lv' := [(4, .int (zI (c + 1))), (6, .int (zI ((Fm (r + 1)) (bwS (Fm (r + 1)) c)))), (5, .int (zI 0)), (3, .int (zI r)), (2, .ref nq3), (0, .ref (ad 24)), (1, .ref l)]) X.x X.b dX2_seam_115 hl rfl (by decide) rfl (fun ls hl => ?_)
                    refine lv_goto (tgt := 17) X.x X.b dX2_seam_118 (by decide) ?_
                    exact ih17 _ (by omega) (c + 1) (rup Fm r c 1000000) rfl (by omega) (by exact i17_1.put (fun hr => by unfold rwS; first | exact (if_pos (by omega)).symm | (exact absurd (show _ from ⟨hr.2, hr.1⟩) b26))) (by intro i d e0 e1 d0 d1; unfold rup; by_cases z : i = r; (rw [if_pos z, if_pos z]; unfold fup; split; (first | omega | (have h9 := i17_2 (r + 1) _ (by omega) (by omega) hbi.1 hbi.2; rw [if_neg (by omega)] at h9; omega)); (have h9 := i17_2 r d (by omega) (by omega) d0 d1; rw [if_pos rfl] at h9; exact h9)); (rw [if_neg z]; exact i17_2 i d e0 e1 d0 d1)) _ _ _ _ hX hK hPX fl0 hN3 hSQ hH hS (lv_sub hl [0, 3, 4, 5, 6] rfl)
                  · have b60 : ¬ ((0 ≤ (r + 1) - (eS g a) ∧ (r + 1) - (eS g a) ≤ 3) ∧ 0 ≤ (r + 1) ∧ (r + 1) ≤ 3) := b60
                    refine wz_ifne (tgt := 70) X.x X.b dX2_seam_63 (by decide) (by decide) (fun h => absurd h (by decide)) (fun _ => ?_)
                    refine wz_iconst X.x X.b dX2_seam_66 ?_
                    refine lv_goto (tgt := 86) X.x X.b dX2_seam_67 (by decide) ?_
                    refine lv_istore (lv' := [(6, .int (zI 0)), (5, .int (zI 0)), (4, .int (zI c)), (3, .int (zI r)), (2, .ref nq3), (0, .ref (ad 24)), (1, .ref l)]) X.x X.b dX2_seam_86 hl (by decide) rfl (fun ls hl => ?_)
                    refine lv_aload_n X.x X.b dX2_seam_88 rfl (lv_at hl 4 rfl) ?_
                    refine lv_iload_n X.x X.b dX2_seam_89 rfl (lv_at hl 3 rfl) ?_
                    refine wa_aald (k := 7) (f := fun i => some (nq3 + 1 + i.toNat)) X hH hSQ.out.2 rfl rfl (by omega) (by omega) (by omega) dX2_seam_90 ?_
                    refine wz_opt (q := some (nq3 + 1 + Int.toNat r)) (by rfl) ?_
                    refine lv_iload X.x X.b dX2_seam_91 (lv_at hl 2 rfl) ?_
                    refine lv_iload X.x X.b dX2_seam_93 (lv_at hl 1 rfl) ?_
                    refine wz_ifeq (tgt := 112) X.x X.b dX2_seam_95 (by decide) (by decide) (fun _ => ?_) (fun h => absurd h (by decide))
                    refine wz_ldc (n := 1000000) X.x X.b X.own (X.t _ q622) rfl dX2_seam_112 ?_
                    refine wa_iast (f := Fm r) X hH hS (hSQ.row (r := r) (by omega) (by omega)).2 (by omega) (by omega) (by omega) dX2_seam_114 (fun w114 H locs ew hH hS => ?_)
                    have hOq : Off (nq3 + 1 + r.toNat) wl17 w114 := Off.rf.put ew
                    have hSQ1 := hSQ.put (r := r) (by omega) (by omega) ew
                    have hnr := hSQ.no (r := r) (by omega) (by omega)
                    have hk := Kp.init hnr hN3 hOq
                    have hX := hX_3.init hnr hX hOq
                    have hPX := hPX_3.kp hk
                    have fl0 := fl0_3.kp hk
                    have hK := hK_3.kp hk
                    have hN3 := hk
                    have hSQ := hSQ1
                    clear ew
                    refine wz_iinc (k := 2) (lv' := [(4, .int (zI (c + 1))), (6, .int (zI 0)), (5, .int (zI 0)), (3, .int (zI r)), (2, .ref nq3), (0, .ref (ad 24)), (1, .ref l)]) X.x X.b dX2_seam_115 hl rfl (by decide) rfl (fun ls hl => ?_)
                    refine lv_goto (tgt := 17) X.x X.b dX2_seam_118 (by decide) ?_
                    exact ih17 _ (by omega) (c + 1) (rup Fm r c 1000000) rfl (by omega) (by exact i17_1.put (fun hr => by unfold rwS; first | exact (if_pos (by omega)).symm | (exact absurd (show _ from ⟨hr.2, hr.1⟩) b26))) (by intro i d e0 e1 d0 d1; unfold rup; by_cases z : i = r; (rw [if_pos z, if_pos z]; unfold fup; split; (first | omega | (have h9 := i17_2 (r + 1) _ (by omega) (by omega) hbi.1 hbi.2; rw [if_neg (by omega)] at h9; omega)); (have h9 := i17_2 r d (by omega) (by omega) d0 d1; rw [if_pos rfl] at h9; exact h9)); (rw [if_neg z]; exact i17_2 i d e0 e1 d0 d1)) _ _ _ _ hX hK hPX fl0 hN3 hSQ hH hS (lv_sub hl [0, 3, 4, 5, 6] rfl)
        exact L17 _ 0 F rfl (by omega) (by exact SUC.nil i10_1) (by intro i d e0 e1 d0 d1; have h9 := i10_2 i d e0 e1 d0 d1; split <;> omega) _ _ _ _ hX hK hPX fl0 hN3 hSQ hH hS (lv_sub hl [0, 1, 2, 3, 4] rfl)
  exact L10 _ 3 (fun _ _ => 0) rfl (by omega) (by intro i h0 h1 hr d d0 d1; omega) (by intro i d _ _ _ _; decide) _ _ _ _ hX hK hPX fl0 hN3 hSQ hH hS (lv_sub hl [0, 1, 2, 3] rfl)

/-! TREEMAP: clear, add, the first entry, the next one -/
set_option maxRecDepth 100000 in
theorem mJ5_clear {lL : Launch} {G : wa_G} {w : wa_W} {m : Nat} {l : List Nat} {K : Nat → Nat} {V : Nat → Nat} {L : Nat → Option Nat} {R : Nat → Option Nat} {P : Nat → Option Nat} {C : Nat → Int} {ro : Option Nat} {si : Int} {mo : Int} {nv : Option Nat} (hX : TN w m l K V L R P C ro si mo nv)    : Met lL yJ5_clear (ws_ yJ5_clear cJ5_clear 1 (none : Option FieldType)) ({ frames := 0, cells := 0, slots := 0, locals := 0 } : Room) (wa_P G w [.ref m]) (wa_Qv G fun u => TN u m l K V L R P C none 0 (mo + 1) nv ∧ Fr m l w u) 0 0 (wa_A G) := by
  refine wa_met (by decide) (by exact Nat.le_of_ble_eq_true rfl) ?_
  intro pP eE sS mM aA bB mT cC ls X hl hH
  have hS : va_S (wa_A G) sS.heap sS.heap [] := va_S.rf
  have hl : lv_has ls 1 [(0, .ref m)] := hl
  have hK : Fr m l w w := Fr.rf
  refine lv_aload_n X.x X.b dJ5_clear_0 rfl (lv_at hl 0 rfl) ?_
  refine lv_dup X.x X.b dJ5_clear_1 rfl ?_
  refine wa_get (v := .int (zI mo)) X hH (have h9 := (hX.1); h9) wcJ5 5 (by decide) q239 rfl (fun _ h9 => h9) rfl dJ5_clear_2 ?_
  refine wz_iconst X.x X.b dJ5_clear_5 ?_
  refine wz_iadd X.x X.b dJ5_clear_6 ?_
  refine wa_put X hH hS (have h9 := (hX.1); h9) wcJ5 5 (by decide) q239 rfl (fun _ h9 => h9) rfl rfl rfl (Nat.le_of_ble_eq_true rfl) dJ5_clear_7 (fun w7 H locs ew hH hS => ?_)
  have hk : Fr m l w w7 := Fr.map ew
  have hX := hX.smap (ro2 := ro) (si2 := si) (mo2 := mo + 1) (nv2 := nv) ew
  have hK := hK.trans hk
  clear ew
  refine lv_aload_n X.x X.b dJ5_clear_10 rfl (lv_at hl 0 rfl) ?_
  refine wz_iconst X.x X.b dJ5_clear_11 ?_
  refine wa_put X hH hS (have h9 := (hX.1); h9) wcJ5 4 (by decide) q238 rfl (fun _ h9 => h9) rfl rfl rfl (Nat.le_of_ble_eq_true rfl) dJ5_clear_12 (fun w12 H locs ew hH hS => ?_)
  have hk : Fr m l w7 w12 := Fr.map ew
  have hX := hX.smap (ro2 := ro) (si2 := 0) (mo2 := mo + 1) (nv2 := nv) ew
  have hK := hK.trans hk
  clear ew
  refine lv_aload_n X.x X.b dJ5_clear_15 rfl (lv_at hl 0 rfl) ?_
  refine lv_null X.x X.b dJ5_clear_16 ?_
  refine wa_put X hH hS (have h9 := (hX.1); h9) wcJ5 3 (by decide) q237 rfl (fun _ h9 => h9) rfl rfl rfl (Nat.le_of_ble_eq_true rfl) dJ5_clear_17 (fun w17 H locs ew hH hS => ?_)
  have hk : Fr m l w12 w17 := Fr.map ew
  have hX := hX.smap (ro2 := none) (si2 := 0) (mo2 := mo + 1) (nv2 := nv) ew
  have hK := hK.trans hk
  clear ew
  exact wa_vret X hH hS dJ5_clear_20 ⟨hX, hK⟩
set_option maxRecDepth 100000 in
theorem mJ3_clear {lL : Launch} {G : wa_G} {w : wa_W} {m : Nat} {l : List Nat} {K : Nat → Nat} {V : Nat → Nat} {L : Nat → Option Nat} {R : Nat → Option Nat} {P : Nat → Option Nat} {C : Nat → Int} {ro : Option Nat} {si : Int} {mo : Int} {nv : Option Nat} (hX : TN w m l K V L R P C ro si mo nv) {ts : Nat} (fts : Lt m l w ts (eO 15 [.ref m]))  : Met lL yJ3_clear (ws_ yJ3_clear cJ3_clear 1 (none : Option FieldType)) ({ frames := 1, cells := 0, slots := 0, locals := 20 } : Room) (wa_P G w [.ref ts]) (wa_Qv G fun u => TN u m l K V L R P C none 0 (mo + 1) nv ∧ Fr m l w u) 0 0 (wa_A G) := by
  refine wa_met (by decide) (by exact Nat.le_of_ble_eq_true rfl) ?_
  intro pP eE sS mM aA bB mT cC ls X hl hH
  have hS : va_S (wa_A G) sS.heap sS.heap [] := va_S.rf
  have hl : lv_has ls 1 [(0, .ref ts)] := hl
  have hK : Fr m l w w := Fr.rf
  refine lv_aload_n X.x X.b dJ3_clear_0 rfl (lv_at hl 0 rfl) ?_
  refine wa_get (v := .ref m) X hH fts.2.2 wcJ3 0 (by decide) q271 rfl (fun _ h9 => h9) rfl dJ3_clear_1 ?_
  refine wa_c5v hS (wa_rG (x := ⟨"java/util/NavigableMap", "clea\x72", "()V"⟩) (rest := []) X hH (mJ5_clear hX   ) (J := "java/util/Map") (by decide) q673 q675 q118 q677 rfl rfl ⟨Nat.le_of_ble_eq_true rfl, Nat.le_of_ble_eq_true rfl⟩ (n := 0) (by decide +kernel) rfl (have h9 := (hX.1); h9) rfl rfl hl.1 rfl (Nat.le_of_ble_eq_true rfl) dJ3_clear_4 ⟨Nat.le_of_ble_eq_true rfl, Nat.le_of_ble_eq_true rfl⟩) (fun w4 H locs hp hH hS => ?_)
  obtain ⟨hX, hk⟩ := hp
  have fts := fts.fr hk
  have hK := hK.trans hk
  exact wa_vret X hH hS dJ3_clear_9 ⟨hX, hK⟩
set_option maxRecDepth 100000 in
theorem mJ3_add {lL : Launch} {G : wa_G} {w : wa_W} {m : Nat} {l : List Nat} {K : Nat → Nat} {V : Nat → Nat} {L : Nat → Option Nat} {R : Nat → Option Nat} {P : Nat → Option Nat} {C : Nat → Int} {ro : Option Nat} {si : Int} {mo : Int} {nv : Option Nat} (hX : TN w m l K V L R P C ro si mo nv) {ts : Nat} {q : Nat} {k0 : KT} {b0 : Bool} {κ : Nat → KT} (fts : Lt m l w ts (eO 15 [.ref m])) (hKS : KS m l w K κ b0) (fq : Lt m l w q (kE k0)) (ht : Tr L R P ro none l) (hn : l.Nodup) (hC : ∀ n, n ∈ l → C n = 0 ∨ C n = 1) (hroot : ∀ r, ro = some r → C r = 1) (hsi : si = (l.length : Int)) (hb : k0.1 = b0) (hk0 : kOK k0) (hfr : ∀ n, n ∈ l → kv (κ n) ≠ kv k0) (hso : l.Pairwise (fun x y => kv (κ x) < kv (κ y))) : Met lL yJ3_add (ws_ yJ3_add cJ3_add 2 (some FieldType.boolean)) ({ frames := 8, cells := 1, slots := 6, locals := 215 } : Room) (wa_P G w [.ref ts, .ref q]) (wa_Qz G fun z u => z = 1 ∧ ∃ (tv : Nat) (e : Nat) (a2 : List Nat) (b2 : List Nat) (L2 : Nat → Option Nat) (R2 : Nat → Option Nat) (P2 : Nat → Option Nat) (C2 : Nat → Int) (ro2 : Option Nat), TN u m (a2 ++ e :: b2) (nup K e q) (nup V e tv) L2 R2 P2 C2 ro2 (si + 1) (mo + 1) nv ∧ Fr m l w u ∧ (Tr L2 R2 P2 ro2 none (a2 ++ e :: b2)) ∧ (∀ r, ro2 = some r → C2 r = 1) ∧ (∀ n, n ∈ (a2 ++ e :: b2) → C2 n = 0 ∨ C2 n = 1) ∧ (l = a2 ++ b2) ∧ (∀ n, n ∈ a2 → kv (κ n) < kv k0) ∧ (∀ n, n ∈ b2 → kv k0 < kv (κ n)) ∧ (w e = none)) 1 6 (wa_A G) := by
  refine wa_met (by decide) (by exact Nat.le_of_ble_eq_true rfl) ?_
  intro pP eE sS mM aA bB mT cC ls X hl hH
  have hS : va_S (wa_A G) sS.heap sS.heap [] := va_S.rf
  have hl : lv_has ls 2 [(0, .ref ts), (1, .ref q)] := hl
  have hK : Fr m l w w := Fr.rf
  refine lv_aload_n X.x X.b dJ3_add_0 rfl (lv_at hl 0 rfl) ?_
  refine wa_get (v := .ref m) X hH fts.2.2 wcJ3 0 (by decide) q271 rfl (fun _ h9 => h9) rfl dJ3_add_1 ?_
  refine lv_aload_n X.x X.b dJ3_add_4 rfl (lv_at hl 1 rfl) ?_
  obtain ⟨t5, hZ5⟩ := X.k.2.2.2.2.2.2.1.1
  refine wa_gets X hH hZ5 rfl q703 (fun _ h9 => h9) dJ3_add_5 ?_
  refine wa_c5r hS (wa_rG (x := ⟨"java/util/NavigableMap", "put", "(Ljava/lang/Object;Ljava/lang/Object;)Ljava/lang/Object;"⟩) (rest := []) X hH (mJ5_put hX hKS fq  (show Tr L R P ro none l by first | assumption | omega) (show l.Nodup by first | assumption | omega) (show ∀ n, n ∈ l → C n = 0 ∨ C n = 1 by first | assumption | omega) (show ∀ r, ro = some r → C r = 1 by first | assumption | omega) (show si = (l.length : Int) by first | assumption | omega) (show k0.1 = b0 by first | assumption | omega) (show kOK k0 by first | assumption | omega) (show ∀ n, n ∈ l → kv (κ n) ≠ kv k0 by first | assumption | omega) (show l.Pairwise (fun x y => kv (κ x) < kv (κ y)) by first | assumption | omega)) (J := "java/util/Map") (by decide) q708 q710 q118 q712 rfl rfl ⟨Nat.le_of_ble_eq_true rfl, Nat.le_of_ble_eq_true rfl⟩ (n := 2) (by decide +kernel) rfl (have h9 := (hX.1); h9) rfl rfl hl.1 rfl (Nat.le_of_ble_eq_true rfl) dJ3_add_8 ⟨Nat.le_of_ble_eq_true rfl, Nat.le_of_ble_eq_true rfl⟩) (fun r8 w8 H locs hp hH hS => ?_)
  obtain ⟨rfl, ⟨e_8, a2_8, b2_8, L2_8, R2_8, P2_8, C2_8, ro2_8, hX, hk, hx8_0, hx8_1, hx8_2, hx8_3, hx8_4, hx8_5, hx8_6⟩⟩ := hp
  have fts := fts.fr hk
  have hKS := hKS.fr hk
  have fq := fq.fr hk
  have hK := hK.trans hk
  refine lv_ifnonnullN X.x X.b dJ3_add_13 ?_
  refine wz_iconst X.x X.b dJ3_add_16 ?_
  refine lv_goto (tgt := 21) X.x X.b dJ3_add_17 (by decide) ?_
  refine W.widen (k := 1) (n := 6) (by first | exact Nat.le_of_ble_eq_true rfl | omega) (by first | exact Nat.le_of_ble_eq_true rfl | omega) ?_
  exact wa_zret X hH hS dJ3_add_21 nb1 ⟨by first | rfl | omega | assumption, ⟨_, _, _, _, _, _, _, _, _, hX, hK, hx8_0, hx8_1, hx8_2, hx8_3, hx8_4, hx8_5, hx8_6⟩⟩
set_option maxRecDepth 100000 in
theorem mJ5_getFirstEntry {lL : Launch} {G : wa_G} {w : wa_W} {m : Nat} {l : List Nat} {K : Nat → Nat} {V : Nat → Nat} {L : Nat → Option Nat} {R : Nat → Option Nat} {P : Nat → Option Nat} {C : Nat → Int} {ro : Option Nat} {si : Int} {mo : Int} {nv : Option Nat} (hX : TN w m l K V L R P C ro si mo nv)   (ht : Tr L R P ro none l) : Met lL yJ5_getFirstEntry (ws_ yJ5_getFirstEntry cJ5_getFirstEntry 2 (some (FieldType.object "java/util/TreeMap$Entry"))) ({ frames := 0, cells := 0, slots := 0, locals := 0 } : Room) (wa_P G w [.ref m]) (wa_Qr G fun r u => r = l.head? ∧ w = u) 0 0 (wa_A G) := by
  refine wa_met (by decide) (by exact Nat.le_of_ble_eq_true rfl) ?_
  intro pP eE sS mM aA bB mT cC ls X hl hH
  have hS : va_S (wa_A G) sS.heap sS.heap [] := va_S.rf
  have hl : lv_has ls 2 [(0, .ref m)] := hl
  have hK : Fr m l w w := Fr.rf
  refine lv_aload_n X.x X.b dJ5_getFirstEntry_0 rfl (lv_at hl 0 rfl) ?_
  refine wa_get (v := va_rf ro) X hH (have h9 := (hX.1); h9) wcJ5 3 (by decide) q237 rfl (fun _ h9 => h9) rfl dJ5_getFirstEntry_1 ?_
  refine lv_astore_nO (lv' := [(1, va_rf ro), (0, .ref m)]) X.x X.b dJ5_getFirstEntry_4 rfl hl (by decide) rfl (fun ls hl => ?_)
  refine lv_aload_nO X.x X.b dJ5_getFirstEntry_5 rfl (lv_at hl 0 rfl) ?_
  rcases xo_cases (ro) with ho6 | ⟨a6, ho6⟩
  · refine wz_opt (q := none) ho6 ?_
    have hl : lv_has ls 2 [(1, .null), (0, .ref m)] := by rw [ho6] at hl; exact hl
    have hl0 : l = [] := by rw [ho6] at ht; exact ht.nil'
    refine lv_ifnullN (tgt := 24) X.x X.b dJ5_getFirstEntry_6 (by decide) ?_
    refine lv_aload_nN X.x X.b dJ5_getFirstEntry_24 rfl (lv_at hl 0 rfl) ?_
    exact wa_aret X (Or.inl ⟨_, rfl⟩) hH hS none dJ5_getFirstEntry_25 ⟨by first | (rw [hl0]; rfl) | (rw [← i9_1, hend]), rfl⟩
  · refine wz_opt (q := (some a6)) ho6 ?_
    have hl : lv_has ls 2 [(1, .ref a6), (0, .ref m)] := by rw [ho6] at hl; exact hl
    have htr := ht
    rw [ho6] at htr
    refine lv_ifnull X.x X.b dJ5_getFirstEntry_6 ?_
    have L9 : ∀ (nn : Nat) (t : Nat) (pt : Option Nat) (lt : List Nat), (lt.length) = nn → (Tr L R P (some t) pt lt) → (lt.head? = l.head?) → (∀ n, n ∈ lt → n ∈ l) → ∀ (H : Heap) (locs : List Loc) (ls : Array Slot), wa_H G w H → va_S (wa_A G) sS.heap H locs → lv_has ls 2 [(1, .ref t), (0, .ref m)] → W pP lL eE ({ frames := 0, cells := 0, slots := 0, locals := 0 } : Room) sS mM aA bB mT cC H locs 0 0 (MQ bB (wa_Qr G fun r u => r = l.head? ∧ w = u) aA sS 0 0 (wa_A G)) (F0 mM 9 ls []) := by
      intro nn
      induction nn using Nat.strongRecOn with
      | ind nn ih9 =>
        intro t pt lt hmu9 i9_0 i9_1 i9_2 H locs ls hH hS hl
        refine lv_aload_n X.x X.b dJ5_getFirstEntry_9 rfl (lv_at hl 0 rfl) ?_
        obtain ⟨l1, l2, elt, hpt, hl1, hl2⟩ := i9_0.inv
        have htl : t ∈ l := i9_2 t (by rw [elt]; simp)
        refine wa_get (v := va_rf (L t)) X hH (have h9 := (hX.nd htl); h9) wcJ10 2 (by decide) q793 rfl (fun _ h9 => h9) rfl dJ5_getFirstEntry_10 ?_
        rcases xo_cases (L t) with ho13 | ⟨a13, ho13⟩
        · refine wz_opt (q := none) ho13 ?_
          have hsub := hl1
          rw [ho13] at hsub
          have e1 := hsub.nil'
          have hend : lt.head? = some t := by rw [elt, e1]; rfl
          refine lv_ifnullN (tgt := 24) X.x X.b dJ5_getFirstEntry_13 (by decide) ?_
          refine lv_aload_n X.x X.b dJ5_getFirstEntry_24 rfl (lv_at hl 0 rfl) ?_
          exact wa_aret X (Or.inl ⟨_, rfl⟩) hH hS (some t) dJ5_getFirstEntry_25 ⟨by first | (rw [hl0]; rfl) | (rw [← i9_1, hend]), rfl⟩
        · refine wz_opt (q := (some a13)) ho13 ?_
          have hsub := hl1
          rw [ho13] at hsub
          refine lv_ifnull X.x X.b dJ5_getFirstEntry_13 ?_
          refine lv_aload_n X.x X.b dJ5_getFirstEntry_16 rfl (lv_at hl 0 rfl) ?_
          refine wa_get (v := va_rf (L t)) X hH (have h9 := (hX.nd htl); h9) wcJ10 2 (by decide) q793 rfl (fun _ h9 => h9) rfl dJ5_getFirstEntry_17 ?_
          refine wz_opt (q := some a13) (by exact ho13) ?_
          refine lv_astore_n (lv' := [(1, .ref a13), (0, .ref m)]) X.x X.b dJ5_getFirstEntry_20 rfl hl (by decide) rfl (fun ls hl => ?_)
          refine lv_goto (tgt := 9) X.x X.b dJ5_getFirstEntry_21 (by decide) ?_
          exact ih9 _ (by have h9 := hmu9; rw [elt] at h9; simp at h9; omega) a13 (some t) l1 rfl (by exact hsub) (by rw [← i9_1, elt]; obtain ⟨u, v, eu, -⟩ := hsub.inv; rw [eu]; simp) (by intro n h; exact i9_2 n (by rw [elt]; simp [h])) _ _ _ hH hS (lv_sub hl [0, 1] rfl)
    exact L9 _ a6 none l rfl (by exact htr) (by rfl) (by intro n h; exact h) _ _ _ hH hS (lv_sub hl [0, 1] rfl)
set_option maxRecDepth 100000 in
theorem mJ5_successor {lL : Launch} {G : wa_G} {w : wa_W} {m : Nat} {l : List Nat} {K : Nat → Nat} {V : Nat → Nat} {L : Nat → Option Nat} {R : Nat → Option Nat} {P : Nat → Option Nat} {C : Nat → Int} {ro : Option Nat} {si : Int} {mo : Int} {nv : Option Nat} (hX : TN w m l K V L R P C ro si mo nv) {n : Nat} {a : List Nat} {b : List Nat}  (ha : l = a ++ n :: b) (ht : Tr L R P ro none l) (hn : l.Nodup) : Met lL yJ5_successor (ws_ yJ5_successor cJ5_successor 3 (some (FieldType.object "java/util/TreeMap$Entry"))) ({ frames := 0, cells := 0, slots := 0, locals := 0 } : Room) (wa_P G w [.ref n]) (wa_Qr G fun r u => r = b.head? ∧ w = u) 0 0 (wa_A G) := by
  refine wa_met (by decide) (by exact Nat.le_of_ble_eq_true rfl) ?_
  intro pP eE sS mM aA bB mT cC ls X hl hH
  have hS : va_S (wa_A G) sS.heap sS.heap [] := va_S.rf
  have hl : lv_has ls 3 [(0, .ref n)] := hl
  have hK : Fr m l w w := Fr.rf
  have hnl : n ∈ l := by rw [ha]; simp
  obtain ⟨l3, b0, eb, htr, haf⟩ := ht.at hn ha
  obtain ⟨d, -, hd⟩ := ht.dep hn (fun q z => by cases z) 0
  refine lv_aload_n X.x X.b dJ5_successor_0 rfl (lv_at hl 0 rfl) ?_
  refine lv_ifnonnull (tgt := 6) X.x X.b dJ5_successor_1 (by decide) ?_
  refine lv_aload_n X.x X.b dJ5_successor_6 rfl (lv_at hl 0 rfl) ?_
  refine wa_get (v := va_rf (R n)) X hH (have h9 := (hX.nd hnl); h9) wcJ10 3 (by decide) q794 rfl (fun _ h9 => h9) rfl dJ5_successor_7 ?_
  rcases xo_cases (R n) with ho10 | ⟨a10, ho10⟩
  · refine wz_opt (q := none) ho10 ?_
    refine lv_ifnullN (tgt := 35) X.x X.b dJ5_successor_10 (by decide) ?_
    refine lv_aload_n X.x X.b dJ5_successor_35 rfl (lv_at hl 0 rfl) ?_
    refine wa_get (v := va_rf (P n)) X hH (have h9 := (hX.nd hnl); h9) wcJ10 4 (by decide) q796 rfl (fun _ h9 => h9) rfl dJ5_successor_36 ?_
    refine lv_astore_nO (lv' := [(1, va_rf (P n)), (0, .ref n)]) X.x X.b dJ5_successor_39 rfl hl (by decide) rfl (fun ls hl => ?_)
    refine lv_aload_n X.x X.b dJ5_successor_40 rfl (lv_at hl 1 rfl) ?_
    refine lv_astore_n (lv' := [(2, .ref n), (1, va_rf (P n)), (0, .ref n)]) X.x X.b dJ5_successor_41 rfl hl (by decide) (by first | rfl | (simp only [List.filter, va_cat]; rfl)) (fun ls hl => ?_)
    have L42 : ∀ (nn : Nat) (c : Nat) (pp : Option Nat), (d c) = nn → (c ∈ l) → (AF L R P l c b) → (pp = P c) → ∀ (H : Heap) (locs : List Loc) (ls : Array Slot), wa_H G w H → va_S (wa_A G) sS.heap H locs → lv_has ls 3 [(1, va_rf pp), (2, .ref c), (0, .ref n)] → W pP lL eE ({ frames := 0, cells := 0, slots := 0, locals := 0 } : Room) sS mM aA bB mT cC H locs 0 0 (MQ bB (wa_Qr G fun r u => r = b.head? ∧ w = u) aA sS 0 0 (wa_A G)) (F0 mM 42 ls []) := by
      intro nn
      induction nn using Nat.strongRecOn with
      | ind nn ih42 =>
        intro c pp hmu42 i42_0 i42_1 i42_2 H locs ls hH hS hl
        refine lv_aload_nO X.x X.b dJ5_successor_42 rfl (lv_at hl 0 rfl) ?_
        have hst := AF.step ht hn i42_1
        rcases xo_cases (pp) with ho43 | ⟨a43, ho43⟩
        · refine wz_opt (q := none) ho43 ?_
          have hl : lv_has ls 3 [(1, .null), (2, .ref c), (0, .ref n)] := by rw [ho43] at hl; exact hl
          have hb0 : b = [] := hst.1 (i42_2.symm.trans ho43)
          refine lv_ifnullN (tgt := 64) X.x X.b dJ5_successor_43 (by decide) ?_
          refine lv_aload_nN X.x X.b dJ5_successor_64 rfl (lv_at hl 0 rfl) ?_
          exact wa_aret X (Or.inl ⟨_, rfl⟩) hH hS none dJ5_successor_65 ⟨by first | (rw [hb0]; rfl) | exact (hq3 (fun e => c51 e.symm)).symm, rfl⟩
        · refine wz_opt (q := (some a43)) ho43 ?_
          have hl : lv_has ls 3 [(1, .ref a43), (2, .ref c), (0, .ref n)] := by rw [ho43] at hl; exact hl
          have hpc : P c = some a43 := i42_2.symm.trans ho43
          obtain ⟨hq1, hq2, hq3⟩ := hst.2 a43 hpc
          refine lv_ifnull X.x X.b dJ5_successor_43 ?_
          refine lv_aload_n X.x X.b dJ5_successor_46 rfl (lv_at hl 1 rfl) ?_
          refine lv_aload_n X.x X.b dJ5_successor_47 rfl (lv_at hl 0 rfl) ?_
          refine wa_get (v := va_rf (R a43)) X hH (have h9 := (hX.nd hq1); h9) wcJ10 3 (by decide) q794 rfl (fun _ h9 => h9) rfl dJ5_successor_48 ?_
          refine lv_acmp_ne (rx := some c) (ry := R a43) (tgt := 64) X.x X.b dJ5_successor_51 (by decide) (fun c51 => ?_) (fun c51 => ?_)
          · refine lv_aload_n X.x X.b dJ5_successor_64 rfl (lv_at hl 0 rfl) ?_
            exact wa_aret X (Or.inl ⟨_, rfl⟩) hH hS (some a43) dJ5_successor_65 ⟨by first | (rw [hb0]; rfl) | exact (hq3 (fun e => c51 e.symm)).symm, rfl⟩
          · refine lv_aload_n X.x X.b dJ5_successor_54 rfl (lv_at hl 0 rfl) ?_
            refine lv_astore_n (lv' := [(2, .ref a43), (1, .ref a43), (0, .ref n)]) X.x X.b dJ5_successor_55 rfl hl (by decide) rfl (fun ls hl => ?_)
            refine lv_aload_n X.x X.b dJ5_successor_56 rfl (lv_at hl 1 rfl) ?_
            refine wa_get (v := va_rf (P a43)) X hH (have h9 := (hX.nd hq1); h9) wcJ10 4 (by decide) q796 rfl (fun _ h9 => h9) rfl dJ5_successor_57 ?_
            refine lv_astore_nO (lv' := [(1, va_rf (P a43)), (2, .ref a43), (0, .ref n)]) X.x X.b dJ5_successor_60 rfl hl (by decide) rfl (fun ls hl => ?_)
            refine lv_goto (tgt := 42) X.x X.b dJ5_successor_61 (by decide) ?_
            exact ih42 _ (by have e1 := (hd c i42_0).2 a43 (by rw [← i42_2]; exact ho43) hq1; omega) a43 (P a43) rfl (by exact hq1) (by exact hq2 c51.symm) (by rfl) _ _ _ hH hS (lv_sub hl [0, 1, 2] rfl)
    exact L42 _ n (P n) rfl (by exact hnl) (by exact haf ho10) (by rfl) _ _ _ hH hS (lv_sub hl [1, 0, 2] rfl)
  · refine wz_opt (q := (some a10)) ho10 ?_
    rw [ho10] at htr
    refine lv_ifnull X.x X.b dJ5_successor_10 ?_
    refine lv_aload_n X.x X.b dJ5_successor_13 rfl (lv_at hl 0 rfl) ?_
    refine wa_get (v := va_rf (R n)) X hH (have h9 := (hX.nd hnl); h9) wcJ10 3 (by decide) q794 rfl (fun _ h9 => h9) rfl dJ5_successor_14 ?_
    refine wz_opt (q := some a10) (by exact ho10) ?_
    refine lv_astore_n (lv' := [(1, .ref a10), (0, .ref n)]) X.x X.b dJ5_successor_17 rfl hl (by decide) rfl (fun ls hl => ?_)
    have L18 : ∀ (nn : Nat) (t : Nat) (pt : Option Nat) (lt : List Nat), (lt.length) = nn → (Tr L R P (some t) pt lt) → (lt.head? = b.head?) → (∀ n, n ∈ lt → n ∈ l) → ∀ (H : Heap) (locs : List Loc) (ls : Array Slot), wa_H G w H → va_S (wa_A G) sS.heap H locs → lv_has ls 3 [(1, .ref t), (0, .ref n)] → W pP lL eE ({ frames := 0, cells := 0, slots := 0, locals := 0 } : Room) sS mM aA bB mT cC H locs 0 0 (MQ bB (wa_Qr G fun r u => r = b.head? ∧ w = u) aA sS 0 0 (wa_A G)) (F0 mM 18 ls []) := by
      intro nn
      induction nn using Nat.strongRecOn with
      | ind nn ih18 =>
        intro t pt lt hmu18 i18_0 i18_1 i18_2 H locs ls hH hS hl
        refine lv_aload_n X.x X.b dJ5_successor_18 rfl (lv_at hl 0 rfl) ?_
        obtain ⟨l1, l2, elt, hpt, hl1, hl2⟩ := i18_0.inv
        have htl : t ∈ l := i18_2 t (by rw [elt]; simp)
        refine wa_get (v := va_rf (L t)) X hH (have h9 := (hX.nd htl); h9) wcJ10 2 (by decide) q793 rfl (fun _ h9 => h9) rfl dJ5_successor_19 ?_
        rcases xo_cases (L t) with ho22 | ⟨a22, ho22⟩
        · refine wz_opt (q := none) ho22 ?_
          have hsub := hl1
          rw [ho22] at hsub
          have e1 := hsub.nil'
          have hend : lt.head? = some t := by rw [elt, e1]; rfl
          refine lv_ifnullN (tgt := 33) X.x X.b dJ5_successor_22 (by decide) ?_
          refine lv_aload_n X.x X.b dJ5_successor_33 rfl (lv_at hl 0 rfl) ?_
          exact wa_aret X (Or.inl ⟨_, rfl⟩) hH hS (some t) dJ5_successor_34 ⟨by rw [← i18_1, hend], rfl⟩
        · refine wz_opt (q := (some a22)) ho22 ?_
          have hsub := hl1
          rw [ho22] at hsub
          refine lv_ifnull X.x X.b dJ5_successor_22 ?_
          refine lv_aload_n X.x X.b dJ5_successor_25 rfl (lv_at hl 0 rfl) ?_
          refine wa_get (v := va_rf (L t)) X hH (have h9 := (hX.nd htl); h9) wcJ10 2 (by decide) q793 rfl (fun _ h9 => h9) rfl dJ5_successor_26 ?_
          refine wz_opt (q := some a22) (by exact ho22) ?_
          refine lv_astore_n (lv' := [(1, .ref a22), (0, .ref n)]) X.x X.b dJ5_successor_29 rfl hl (by decide) rfl (fun ls hl => ?_)
          refine lv_goto (tgt := 18) X.x X.b dJ5_successor_30 (by decide) ?_
          exact ih18 _ (by have h9 := hmu18; rw [elt] at h9; simp at h9; omega) a22 (some t) l1 rfl (by exact hsub) (by rw [← i18_1, elt]; obtain ⟨u, v, eu, -⟩ := hsub.inv; rw [eu]; simp) (by intro n h; exact i18_2 n (by rw [elt]; simp [h])) _ _ _ hH hS (lv_sub hl [0, 1] rfl)
    exact L18 _ a10 (some n) l3 rfl (by exact htr) (by rw [eb]; obtain ⟨u, v, eu, -⟩ := htr.inv; rw [eu]; simp) (by intro x h; rw [ha, eb]; simp [h]) _ _ _ hH hS (lv_sub hl [0, 1] rfl)

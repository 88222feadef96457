/-! TREEMAP: put -/
set_option maxRecDepth 100000 in
theorem mJ11_requireNonNull {lL : Launch} {G : wa_G} (w : wa_W)   (o : Nat)  : Met lL yJ11_requireNonNull (ws_ yJ11_requireNonNull cJ11_requireNonNull 1 (some (FieldType.object "java/lang/Object"))) ({ frames := 0, cells := 0, slots := 0, locals := 0 } : Room) (wa_P G w [.ref o]) (wa_Qr G fun r u => r = some o ∧ w = u) 0 0 (wa_A G) := by
  refine wa_met (by decide) (by exact Nat.le_of_ble_eq_true rfl) ?_
  intro pP eE sS mM aA bB mT cC ls X hl hH
  have hS : va_S (wa_A G) sS.heap sS.heap [] := va_S.rf
  have hl : lv_has ls 1 [(0, .ref o)] := hl
  have hK : Ext w w := Ext.rf
  refine lv_aload_n X.x X.b dJ11_requireNonNull_0 rfl (lv_at hl 0 rfl) ?_
  refine lv_ifnonnull (tgt := 12) X.x X.b dJ11_requireNonNull_1 (by decide) ?_
  refine lv_aload_n X.x X.b dJ11_requireNonNull_12 rfl (lv_at hl 0 rfl) ?_
  exact wa_aret X (Or.inl ⟨_, rfl⟩) hH hS (some o) dJ11_requireNonNull_13 ⟨by first | rfl | omega | assumption, rfl⟩
set_option maxRecDepth 100000 in
theorem mJ5_compare {lL : Launch} {G : wa_G} {w : wa_W} {m : Nat} {l : List Nat} {K : Nat → Nat} {V : Nat → Nat} {L : Nat → Option Nat} {R : Nat → Option Nat} {P : Nat → Option Nat} {C : Nat → Int} {ro : Option Nat} {si : Int} {mo : Int} {nv : Option Nat} (hX : TN w m l K V L R P C ro si mo nv) {q1 : Nat} {q2 : Nat} {k1 : KT} {k2 : KT} (f1 : Lt m l w q1 (kE k1)) (f2 : Lt m l w q2 (kE k2)) (hb : k1.1 = k2.1) (h1 : kOK k1) (h2 : kOK k2) : Met lL yJ5_compare (ws_ yJ5_compare cJ5_compare 3 (some FieldType.int)) ({ frames := 4, cells := 0, slots := 0, locals := 120 } : Room) (wa_P G w [.ref m, .ref q1, .ref q2]) (wa_Qz G fun z u => z = kcmp k1 k2 ∧ w = u) 0 0 (wa_A G) := by
  refine wa_met (by decide) (by exact Nat.le_of_ble_eq_true rfl) ?_
  intro pP eE sS mM aA bB mT cC ls X hl hH
  have hS : va_S (wa_A G) sS.heap sS.heap [] := va_S.rf
  have hl : lv_has ls 3 [(0, .ref m), (1, .ref q1), (2, .ref q2)] := hl
  have hK : Fr m l w w := Fr.rf
  refine lv_aload_n X.x X.b dJ5_compare_0 rfl (lv_at hl 0 rfl) ?_
  refine wa_get (v := .null) X hH (have h9 := (hX.1); h9) wcJ5 2 (by decide) q236 rfl (fun _ h9 => h9) rfl dJ5_compare_1 ?_
  refine lv_ifnonnullN X.x X.b dJ5_compare_4 ?_
  refine lv_aload_n X.x X.b dJ5_compare_7 rfl (lv_at hl 1 rfl) ?_
  refine wb_castK X hH f1.2.2 rfl q725 dJ5_compare_8 ?_
  refine lv_aload_n X.x X.b dJ5_compare_11 rfl (lv_at hl 2 rfl) ?_
  refine wb_cmp (x := k1) (z := k2) X hH hS f1.2.2 f2.2.2 hb h1 h2 q727 rfl hl.1 (Nat.le_of_ble_eq_true rfl) (Nat.le_of_ble_eq_true rfl) (Nat.le_of_ble_eq_true rfl) ⟨Nat.le_of_ble_eq_true rfl, Nat.le_of_ble_eq_true rfl⟩ dJ5_compare_12 (fun H locs hH hS => ?_)
  refine lv_goto (tgt := 31) X.x X.b dJ5_compare_17 (by decide) ?_
  exact wa_iret X hH hS dJ5_compare_31 ⟨by first | rfl | omega | assumption, rfl⟩
set_option maxRecDepth 100000 in
theorem mJ5_addEntryToEmptyMap {lL : Launch} {G : wa_G} {w : wa_W} {m : Nat} {l : List Nat} {K : Nat → Nat} {V : Nat → Nat} {L : Nat → Option Nat} {R : Nat → Option Nat} {P : Nat → Option Nat} {C : Nat → Int} {ro : Option Nat} {si : Int} {mo : Int} {nv : Option Nat} (hX : TN w m l K V L R P C ro si mo nv) {q : Nat} {v : Nat} {k0 : KT} {b0 : Bool} {κ : Nat → KT} (hKS : KS m l w K κ b0) (fq : Lt m l w q (kE k0)) (hl0 : l = [] ++ []) (hsi : si = 0) (hk0 : kOK k0) : Met lL yJ5_addEntryToEmptyMap (ws_ yJ5_addEntryToEmptyMap cJ5_addEntryToEmptyMap 3 (none : Option FieldType)) ({ frames := 5, cells := 1, slots := 6, locals := 142 } : Room) (wa_P G w [.ref m, .ref q, .ref v]) (wa_Qv G fun u => ∃ (e : Nat) (a2 : List Nat) (b2 : List Nat) (L2 : Nat → Option Nat) (R2 : Nat → Option Nat) (P2 : Nat → Option Nat) (C2 : Nat → Int) (ro2 : Option Nat), TN u m (a2 ++ e :: b2) (nup K e q) (nup V e v) L2 R2 P2 C2 ro2 (si + 1) (mo + 1) nv ∧ Fr m l w u ∧ (Tr L2 R2 P2 ro2 none (a2 ++ e :: b2)) ∧ (∀ r, ro2 = some r → C2 r = 1) ∧ (∀ n, n ∈ (a2 ++ e :: b2) → C2 n = 0 ∨ C2 n = 1) ∧ (l = a2 ++ b2) ∧ (∀ n, n ∈ a2 → kv (κ n) < kv k0) ∧ (∀ n, n ∈ b2 → kv k0 < kv (κ n)) ∧ (w e = none)) 1 6 (wa_A G) := by
  refine wa_met (by decide) (by exact Nat.le_of_ble_eq_true rfl) ?_
  intro pP eE sS mM aA bB mT cC ls X hl hH
  have hS : va_S (wa_A G) sS.heap sS.heap [] := va_S.rf
  have hl : lv_has ls 3 [(0, .ref m), (1, .ref q), (2, .ref v)] := hl
  have hK : Fr m l w w := Fr.rf
  refine lv_aload_n X.x X.b dJ5_addEntryToEmptyMap_0 rfl (lv_at hl 0 rfl) ?_
  refine lv_aload_n X.x X.b dJ5_addEntryToEmptyMap_1 rfl (lv_at hl 1 rfl) ?_
  refine lv_aload_n X.x X.b dJ5_addEntryToEmptyMap_2 rfl (lv_at hl 1 rfl) ?_
  refine wa_ci hS (wa_rV (rest := []) X hH (mJ5_compare hX fq fq  rfl hk0 hk0) (cwV 2 X.t (lw_V q721 q722 q723 q118 q724) rfl rfl rfl hdJ5_compare ⟨Nat.le_of_ble_eq_true rfl, Nat.le_of_ble_eq_true rfl⟩) rfl (have h9 := (hX.1); h9) rfl rfl hl.1 rfl (Nat.le_of_ble_eq_true rfl) dJ5_addEntryToEmptyMap_3 ⟨Nat.le_of_ble_eq_true rfl, Nat.le_of_ble_eq_true rfl⟩) (fun z w3 H locs hp hH hS => ?_)
  obtain ⟨rfl, hw⟩ := hp
  rw [← hw] at hH; clear hw
  refine lv_pop X.x X.b dJ5_addEntryToEmptyMap_6 rfl ?_
  refine lv_aload_n X.x X.b dJ5_addEntryToEmptyMap_7 rfl (lv_at hl 0 rfl) ?_
  have hX_8 := hX
  have hK_8 := hK
  have hKS_8 := hKS
  have fq_8 := fq
  refine wa_new X hH hS wcJ10 rfl q782 q783 q130 [.null, .null, .null, .null, .null, .int (zI 0)] (by decide) (Nat.le_of_ble_eq_true rfl) (Nat.le_of_ble_eq_true rfl) dJ5_addEntryToEmptyMap_8 (fun q8 w8 H hn8 ew hH hS => ?_)
  have hk0 := Ext.new hn8 ew
  have hX := hX.ext hk0
  have hk := hk0.f (m := m) (l := l)
  have hKS := hKS.fr hk
  have fq := fq.fr hk
  have hK := hK.trans hk
  have hN8 := hk
  have n8 : Lt m l w8 q8 (eO 19 [.null, .null, .null, .null, .null, .int (zI 0)]) := Lt.new hX_8 hn8 (by rw [ew]; exact wup_s)
  clear ew hk0
  refine lv_dup X.x X.b dJ5_addEntryToEmptyMap_11 rfl ?_
  refine lv_aload_n X.x X.b dJ5_addEntryToEmptyMap_12 rfl (lv_at hl 1 rfl) ?_
  refine lv_aload_n X.x X.b dJ5_addEntryToEmptyMap_13 rfl (lv_at hl 2 rfl) ?_
  refine lv_null X.x X.b dJ5_addEntryToEmptyMap_14 ?_
  refine wa_cv hS (wa_rI (rest := [.ref q8, .ref m]) X hH (mJ10_init  (show At w8 q8 (eO 19 [.null, .null, .null, .null, .null, .int (zI 0)]) from n8.2.2)  (p := none) ) (cwI 3 X.t (lw_meth q786) rfl rfl rfl (X.t _ q130) (X.t _ q784) (X.t _ q785) rfl hdJ10_init.2 ⟨Nat.le_of_ble_eq_true rfl, Nat.le_of_ble_eq_true rfl⟩) rfl rfl hl.1 rfl (Nat.le_of_ble_eq_true rfl) dJ5_addEntryToEmptyMap_15 ⟨Nat.le_of_ble_eq_true rfl, Nat.le_of_ble_eq_true rfl⟩) (fun w15 H locs hp hH hS => ?_)
  obtain ⟨hi, hO2⟩ := hp
  have hOq := hO2
  have hk := Fr.init hn8 hN8 hOq
  have hX := hX_8.init hn8 hX hOq
  have hKS := hKS_8.fr hk
  have fq := fq_8.fr hk
  have hK := hK_8.trans hk
  have hN8 := hk
  have n8 : Lt m l w15 q8 (eO 19 [.ref q, .ref v, va_rf none, va_rf none, va_rf none, .int (zI 1)]) := Lt.new hX_8 hn8 hi
  refine wa_put X hH hS (have h9 := (hX.1); h9) wcJ5 3 (by decide) q237 rfl (fun _ h9 => h9) rfl rfl rfl (Nat.le_of_ble_eq_true rfl) dJ5_addEntryToEmptyMap_18 (fun w18 H locs ew hH hS => ?_)
  have hk : Fr m l w15 w18 := Fr.map ew
  have hX := hX.smap (ro2 := some q8) (si2 := si) (mo2 := mo) (nv2 := nv) ew
  have hKS := hKS.fr hk
  have fq := fq.fr hk
  have hN8 := hN8.trans hk
  have n8 := n8.fr hk
  have hK := hK.trans hk
  clear ew
  refine lv_aload_n X.x X.b dJ5_addEntryToEmptyMap_21 rfl (lv_at hl 0 rfl) ?_
  refine wz_iconst X.x X.b dJ5_addEntryToEmptyMap_22 ?_
  refine wa_put X hH hS (have h9 := (hX.1); h9) wcJ5 4 (by decide) q238 rfl (fun _ h9 => h9) rfl rfl rfl (Nat.le_of_ble_eq_true rfl) dJ5_addEntryToEmptyMap_23 (fun w23 H locs ew hH hS => ?_)
  have hk : Fr m l w18 w23 := Fr.map ew
  have hX := hX.smap (ro2 := some q8) (si2 := 1) (mo2 := mo) (nv2 := nv) ew
  have hKS := hKS.fr hk
  have fq := fq.fr hk
  have hN8 := hN8.trans hk
  have n8 := n8.fr hk
  have hK := hK.trans hk
  clear ew
  refine lv_aload_n X.x X.b dJ5_addEntryToEmptyMap_26 rfl (lv_at hl 0 rfl) ?_
  refine lv_dup X.x X.b dJ5_addEntryToEmptyMap_27 rfl ?_
  refine wa_get (v := .int (zI mo)) X hH (have h9 := (hX.1); h9) wcJ5 5 (by decide) q239 rfl (fun _ h9 => h9) rfl dJ5_addEntryToEmptyMap_28 ?_
  refine wz_iconst X.x X.b dJ5_addEntryToEmptyMap_31 ?_
  refine wz_iadd X.x X.b dJ5_addEntryToEmptyMap_32 ?_
  refine wa_put X hH hS (have h9 := (hX.1); h9) wcJ5 5 (by decide) q239 rfl (fun _ h9 => h9) rfl rfl rfl (Nat.le_of_ble_eq_true rfl) dJ5_addEntryToEmptyMap_33 (fun w33 H locs ew hH hS => ?_)
  have hk : Fr m l w23 w33 := Fr.map ew
  have hX := hX.smap (ro2 := some q8) (si2 := 1) (mo2 := mo + 1) (nv2 := nv) ew
  have hKS := hKS.fr hk
  have fq := fq.fr hk
  have hN8 := hN8.trans hk
  have n8 := n8.fr hk
  have hK := hK.trans hk
  clear ew
  have hf0 : q8 ≠ m ∧ q8 ∉ l := ⟨n8.1, n8.2.1⟩
  have hXe := (hX.add hf0 n8.2.2).mem (l2 := [] ++ q8 :: []) (by intro n h; simp at h; simp [h])
  have hKe := hK
  have hTe : Tr (nup L q8 none) (nup R q8 none) (nup P q8 none) (some q8) none ([] ++ q8 :: []) := Tr.node nup_s (by rw [nup_s]; exact Tr.nil _) (by rw [nup_s]; exact Tr.nil _)
  have hre : ∀ r, some q8 = some r → nup C q8 1 r = 1 := fun r e => by cases e; exact nup_s
  have hCe : ∀ n, n ∈ [] ++ q8 :: [] → nup C q8 1 n = 0 ∨ nup C q8 1 n = 1 := fun n h => by simp at h; rw [h, nup_s]; exact Or.inr rfl
  refine W.widen (k := 1) (n := 6) (by first | exact Nat.le_of_ble_eq_true rfl | omega) (by first | exact Nat.le_of_ble_eq_true rfl | omega) ?_
  exact wa_vret X hH hS dJ5_addEntryToEmptyMap_36 ⟨_, [], [], _, _, _, _, _, by rw [hsi]; exact hXe, hKe, hTe, hre, hCe, hl0, (fun n h => by cases h), (fun n h => by cases h), hn8⟩
set_option maxRecDepth 100000 in
theorem mJ5_put_2 {lL : Launch} {G : wa_G} {w : wa_W} {m : Nat} {l : List Nat} {K : Nat → Nat} {V : Nat → Nat} {L : Nat → Option Nat} {R : Nat → Option Nat} {P : Nat → Option Nat} {C : Nat → Int} {ro : Option Nat} {si : Int} {mo : Int} {nv : Option Nat} (hX : TN w m l K V L R P C ro si mo nv) {q : Nat} {v : Nat} {k0 : KT} {b0 : Bool} {κ : Nat → KT} (hKS : KS m l w K κ b0) (fq : Lt m l w q (kE k0)) (ht : Tr L R P ro none l) (hn : l.Nodup) (hC : ∀ n, n ∈ l → C n = 0 ∨ C n = 1) (hroot : ∀ r, ro = some r → C r = 1) (hsi : si = (l.length : Int)) (hb : k0.1 = b0) (hk0 : kOK k0) (hfr : ∀ n, n ∈ l → kv (κ n) ≠ kv k0) (hso : l.Pairwise (fun x y => kv (κ x) < kv (κ y))) : Met lL yJ5_put_2 (ws_ yJ5_put_2 cJ5_put_2 10 (some (FieldType.object "java/lang/Object"))) ({ frames := 6, cells := 1, slots := 6, locals := 164 } : Room) (wa_P G w [.ref m, .ref q, .ref v, .int (zI 1)]) (wa_Qr G fun r u => r = none ∧ ∃ (e : Nat) (a2 : List Nat) (b2 : List Nat) (L2 : Nat → Option Nat) (R2 : Nat → Option Nat) (P2 : Nat → Option Nat) (C2 : Nat → Int) (ro2 : Option Nat), TN u m (a2 ++ e :: b2) (nup K e q) (nup V e v) L2 R2 P2 C2 ro2 (si + 1) (mo + 1) nv ∧ Fr m l w u ∧ (Tr L2 R2 P2 ro2 none (a2 ++ e :: b2)) ∧ (∀ r, ro2 = some r → C2 r = 1) ∧ (∀ n, n ∈ (a2 ++ e :: b2) → C2 n = 0 ∨ C2 n = 1) ∧ (l = a2 ++ b2) ∧ (∀ n, n ∈ a2 → kv (κ n) < kv k0) ∧ (∀ n, n ∈ b2 → kv k0 < kv (κ n)) ∧ (w e = none)) 1 6 (wa_A G) := by
  refine wa_met (by decide) (by exact Nat.le_of_ble_eq_true rfl) ?_
  intro pP eE sS mM aA bB mT cC ls X hl hH
  have hS : va_S (wa_A G) sS.heap sS.heap [] := va_S.rf
  have hl : lv_has ls 10 [(0, .ref m), (1, .ref q), (2, .ref v), (3, .int (zI 1))] := hl
  have hK : Fr m l w w := Fr.rf
  refine lv_aload_n X.x X.b dJ5_put_2_0 rfl (lv_at hl 0 rfl) ?_
  refine wa_get (v := va_rf ro) X hH (have h9 := (hX.1); h9) wcJ5 3 (by decide) q237 rfl (fun _ h9 => h9) rfl dJ5_put_2_1 ?_
  refine lv_astoreO (lv' := [(4, va_rf ro), (0, .ref m), (1, .ref q), (2, .ref v), (3, .int (zI 1))]) X.x X.b dJ5_put_2_4 hl (by decide) rfl (fun ls hl => ?_)
  refine lv_aloadO X.x X.b dJ5_put_2_6 (lv_at hl 0 rfl) ?_
  rcases xo_cases (ro) with ho8 | ⟨a8, ho8⟩
  · refine wz_opt (q := none) ho8 ?_
    have hl : lv_has ls 10 [(4, .null), (0, .ref m), (1, .ref q), (2, .ref v), (3, .int (zI 1))] := by rw [ho8] at hl; exact hl
    have hl0 : l = [] ++ [] := by rw [ho8] at ht; rw [ht.nil']; rfl
    refine lv_ifnonnullN X.x X.b dJ5_put_2_8 ?_
    refine lv_aload_n X.x X.b dJ5_put_2_11 rfl (lv_at hl 1 rfl) ?_
    refine lv_aload_n X.x X.b dJ5_put_2_12 rfl (lv_at hl 2 rfl) ?_
    refine lv_aload_n X.x X.b dJ5_put_2_13 rfl (lv_at hl 3 rfl) ?_
    refine wa_cv hS (wa_rV (rest := []) X hH (mJ5_addEntryToEmptyMap hX hKS fq  hl0 (by rw [hsi, hl0]; rfl) (show kOK k0 by first | assumption | omega)) (cwV 2 X.t (lw_V q717 q719 qs17 q118 q720) rfl rfl rfl hdJ5_addEntryToEmptyMap ⟨Nat.le_of_ble_eq_true rfl, Nat.le_of_ble_eq_true rfl⟩) rfl (have h9 := (hX.1); h9) rfl rfl hl.1 rfl (Nat.le_of_ble_eq_true rfl) dJ5_put_2_14 ⟨Nat.le_of_ble_eq_true rfl, Nat.le_of_ble_eq_true rfl⟩) (fun w14 H locs hp hH hS => ?_)
    obtain ⟨e_14, a2_14, b2_14, L2_14, R2_14, P2_14, C2_14, ro2_14, hX, hk, hx14_0, hx14_1, hx14_2, hx14_3, hx14_4, hx14_5, hx14_6⟩ := hp
    have hKS := hKS.fr hk
    have fq := fq.fr hk
    have hK := hK.trans hk
    refine lv_null X.x X.b dJ5_put_2_17 ?_
    refine W.widen (k := 1) (n := 6) (by first | exact Nat.le_of_ble_eq_true rfl | omega) (by first | exact Nat.le_of_ble_eq_true rfl | omega) ?_
    exact wa_aret X (Or.inl ⟨_, rfl⟩) hH hS none dJ5_put_2_18 ⟨by first | rfl | omega | assumption, ⟨_, _, _, _, _, _, _, _, hX, hK, hx14_0, hx14_1, hx14_2, hx14_3, hx14_4, hx14_5, hx14_6⟩⟩
  · refine wz_opt (q := (some a8)) ho8 ?_
    have hl : lv_has ls 10 [(4, .ref a8), (0, .ref m), (1, .ref q), (2, .ref v), (3, .int (zI 1))] := by rw [ho8] at hl; exact hl
    have htr : Tr L R P (some a8) none l := by rw [ho8] at ht; exact ht
    refine lv_ifnonnull (tgt := 19) X.x X.b dJ5_put_2_8 (by decide) ?_
    refine lv_aload_n X.x X.b dJ5_put_2_19 rfl (lv_at hl 1 rfl) ?_
    refine wa_get (v := .null) X hH (have h9 := (hX.1); h9) wcJ5 2 (by decide) q236 rfl (fun _ h9 => h9) rfl dJ5_put_2_20 ?_
    refine lv_astoreN (lv' := [(7, .null), (4, .ref a8), (0, .ref m), (1, .ref q), (2, .ref v), (3, .int (zI 1))]) X.x X.b dJ5_put_2_23 hl (by decide) rfl (fun ls hl => ?_)
    refine lv_aloadN X.x X.b dJ5_put_2_25 (lv_at hl 0 rfl) ?_
    refine lv_ifnullN (tgt := 112) X.x X.b dJ5_put_2_27 (by decide) ?_
    refine lv_aload_n X.x X.b dJ5_put_2_112 rfl (lv_at hl 3 rfl) ?_
    refine wa_cr hS (wa_rS (rest := []) X hH (mJ11_requireNonNull _  q ) (va_cwS 1 X.t (lw_S q812 q813 q131 q814) rfl rfl rfl hdJ11_requireNonNull.2 ⟨Nat.le_of_ble_eq_true rfl, Nat.le_of_ble_eq_true rfl⟩) rfl rfl hl.1 rfl (Nat.le_of_ble_eq_true rfl) dJ5_put_2_113 ⟨Nat.le_of_ble_eq_true rfl, Nat.le_of_ble_eq_true rfl⟩) (fun r113 w113 H locs hp hH hS => ?_)
    obtain ⟨rfl, hw⟩ := hp
    rw [← hw] at hH; clear hw
    refine lv_pop X.x X.b dJ5_put_2_116 rfl ?_
    refine lv_aload_n X.x X.b dJ5_put_2_117 rfl (lv_at hl 3 rfl) ?_
    refine wb_castK X hH fq.2.2 rfl q725 dJ5_put_2_118 ?_
    refine lv_astore (lv' := [(8, .ref q), (7, .null), (4, .ref a8), (0, .ref m), (1, .ref q), (2, .ref v), (3, .int (zI 1))]) X.x X.b dJ5_put_2_121 hl (by decide) rfl (fun ls hl => ?_)
    have L123 : ∀ (nn : Nat) (t : Nat) (pt : Option Nat) (lt : List Nat) (a1 : List Nat) (b1 : List Nat), (lt.length) = nn → (l = a1 ++ (lt ++ b1)) → (Tr L R P (some t) pt lt) → (∀ n, n ∈ a1 → kv (κ n) < kv k0) → (∀ n, n ∈ b1 → kv k0 < kv (κ n)) → ∀ (H : Heap) (locs : List Loc) (ls : Array Slot), wa_H G w H → va_S (wa_A G) sS.heap H locs → lv_has ls 10 [(4, .ref t), (8, .ref q), (7, .null), (0, .ref m), (1, .ref q), (2, .ref v), (3, .int (zI 1))] → W pP lL eE ({ frames := 6, cells := 1, slots := 6, locals := 164 } : Room) sS mM aA bB mT cC H locs 0 0 (MQ bB (wa_Qr G fun r u => r = none ∧ ∃ (e : Nat) (a2 : List Nat) (b2 : List Nat) (L2 : Nat → Option Nat) (R2 : Nat → Option Nat) (P2 : Nat → Option Nat) (C2 : Nat → Int) (ro2 : Option Nat), TN u m (a2 ++ e :: b2) (nup K e q) (nup V e v) L2 R2 P2 C2 ro2 (si + 1) (mo + 1) nv ∧ Fr m l w u ∧ (Tr L2 R2 P2 ro2 none (a2 ++ e :: b2)) ∧ (∀ r, ro2 = some r → C2 r = 1) ∧ (∀ n, n ∈ (a2 ++ e :: b2) → C2 n = 0 ∨ C2 n = 1) ∧ (l = a2 ++ b2) ∧ (∀ n, n ∈ a2 → kv (κ n) < kv k0) ∧ (∀ n, n ∈ b2 → kv k0 < kv (κ n)) ∧ (w e = none)) aA sS 1 6 (wa_A G)) (F0 mM 123 ls []) := by
      intro nn
      induction nn using Nat.strongRecOn with
      | ind nn ih123 =>
        intro t pt lt a1 b1 hmu123 i123_0 i123_1 i123_2 i123_3 H locs ls hH hS hl
        refine lv_aload X.x X.b dJ5_put_2_123 (lv_at hl 0 rfl) ?_
        obtain ⟨l1, l2, elt, hpt, hl1, hl2⟩ := i123_1.inv
        have htl : t ∈ l := by rw [i123_0, elt]; simp
        obtain ⟨hk1, hk2, hk3, hk4, hk5⟩ := hKS t htl
        have hkt : Lt m l w (K t) (kE (κ t)) := ⟨hk1, hk2, hk3⟩
        have hcs := kcmp_s (a := k0) (b := κ t) (by rw [hb, hk4]) hk0 hk5
        have hne := hfr t htl
        have hl3 : l = a1 ++ (l1 ++ t :: l2) ++ b1 := by rw [i123_0, elt]; simp
        refine lv_astore (lv' := [(6, .ref t), (4, .ref t), (8, .ref q), (7, .null), (0, .ref m), (1, .ref q), (2, .ref v), (3, .int (zI 1))]) X.x X.b dJ5_put_2_125 hl (by decide) rfl (fun ls hl => ?_)
        refine lv_aload X.x X.b dJ5_put_2_127 (lv_at hl 2 rfl) ?_
        refine lv_aload X.x X.b dJ5_put_2_129 (lv_at hl 1 rfl) ?_
        refine wa_get (v := .ref (K t)) X hH (have h9 := (hX.nd htl); h9) wcJ10 0 (by decide) q790 rfl (fun _ h9 => h9) rfl dJ5_put_2_131 ?_
        refine wb_cmp (x := k0) (z := (κ t)) X hH hS fq.2.2 hkt.2.2 (by rw [hb, hk4]) hk0 hk5 q727 rfl hl.1 (Nat.le_of_ble_eq_true rfl) (Nat.le_of_ble_eq_true rfl) (Nat.le_of_ble_eq_true rfl) ⟨Nat.le_of_ble_eq_true rfl, Nat.le_of_ble_eq_true rfl⟩ dJ5_put_2_134 (fun H locs hH hS => ?_)
        refine lv_istore (lv' := [(5, .int (zI (kcmp k0 (κ t)))), (6, .ref t), (4, .ref t), (8, .ref q), (7, .null), (0, .ref m), (1, .ref q), (2, .ref v), (3, .int (zI 1))]) X.x X.b dJ5_put_2_139 hl (by decide) rfl (fun ls hl => ?_)
        refine lv_iload X.x X.b dJ5_put_2_141 (lv_at hl 0 rfl) ?_
        refine wz_ifge (tgt := 156) X.x X.b dJ5_put_2_143 (by decide) ⟨by omega, by omega⟩ (fun c143 => ?_) (fun c143 => ?_)
        · refine lv_iload X.x X.b dJ5_put_2_156 (lv_at hl 0 rfl) ?_
          refine wz_ifle (tgt := 171) X.x X.b dJ5_put_2_158 (by decide) ⟨by omega, by omega⟩ (fun c158 => by exfalso; omega) (fun c158 => ?_)
          refine lv_aload X.x X.b dJ5_put_2_161 (lv_at hl 2 rfl) ?_
          refine wa_get (v := va_rf (R t)) X hH (have h9 := (hX.nd htl); h9) wcJ10 3 (by decide) q794 rfl (fun _ h9 => h9) rfl dJ5_put_2_163 ?_
          refine lv_astoreO (lv' := [(4, va_rf (R t)), (5, .int (zI (kcmp k0 (κ t)))), (6, .ref t), (8, .ref q), (7, .null), (0, .ref m), (1, .ref q), (2, .ref v), (3, .int (zI 1))]) X.x X.b dJ5_put_2_166 hl (by decide) rfl (fun ls hl => ?_)
          refine lv_goto (tgt := 196) X.x X.b dJ5_put_2_168 (by decide) ?_
          refine lv_aloadO X.x X.b dJ5_put_2_196 (lv_at hl 0 rfl) ?_
          rcases xo_cases (R t) with ho198 | ⟨a198, ho198⟩
          · refine wz_opt (q := none) ho198 ?_
            have hl : lv_has ls 10 [(4, .null), (5, .int (zI (kcmp k0 (κ t)))), (6, .ref t), (8, .ref q), (7, .null), (0, .ref m), (1, .ref q), (2, .ref v), (3, .int (zI 1))] := by rw [ho198] at hl; exact hl
            have hsub := hl2
            rw [ho198] at hsub
            have e1 := hsub.nil'
            have hal : l = (a1 ++ l1) ++ t :: b1 := by rw [i123_0, elt, e1]; simp
            have hlo : ∀ n, n ∈ (a1 ++ l1) ++ [t] → kv (κ n) < kv k0 := fun n h => by
              have hsp := hso; rw [hal, List.pairwise_append] at hsp
              have h4 := hcs.2.1.mp (by omega)
              rcases List.mem_append.mp h with h | h
              · have h3 := hsp.2.2 n h t (by simp); omega
              · simp at h; rw [h]; omega
            refine lv_ifnonnullN X.x X.b dJ5_put_2_198 ?_
            refine lv_aload_n X.x X.b dJ5_put_2_201 rfl (lv_at hl 5 rfl) ?_
            refine lv_aload_n X.x X.b dJ5_put_2_202 rfl (lv_at hl 6 rfl) ?_
            refine lv_aload_n X.x X.b dJ5_put_2_203 rfl (lv_at hl 7 rfl) ?_
            refine lv_aload X.x X.b dJ5_put_2_204 (lv_at hl 2 rfl) ?_
            refine lv_iload X.x X.b dJ5_put_2_206 (lv_at hl 1 rfl) ?_
            refine wz_ifge (tgt := 215) X.x X.b dJ5_put_2_208 (by decide) ⟨by omega, by omega⟩ (fun c208 => ?_) (fun c208 => by exfalso; omega)
            refine wz_iconst X.x X.b dJ5_put_2_215 ?_
            refine wa_cv hS (wa_rV (rest := []) X hH (mJ5_addEntry_R hX   htl ho198 hal (show Tr L R P ro none l by first | assumption | omega) (show l.Nodup by first | assumption | omega) (show ∀ n, n ∈ l → C n = 0 ∨ C n = 1 by first | assumption | omega) (show ∀ r, ro = some r → C r = 1 by first | assumption | omega)) (cwV 4 X.t (lw_V q897 q899 qs20 q118 q900) rfl rfl rfl hdJ5_addEntry ⟨Nat.le_of_ble_eq_true rfl, Nat.le_of_ble_eq_true rfl⟩) rfl (have h9 := (hX.1); h9) rfl rfl hl.1 rfl (Nat.le_of_ble_eq_true rfl) dJ5_put_2_216 ⟨Nat.le_of_ble_eq_true rfl, Nat.le_of_ble_eq_true rfl⟩) (fun w216 H locs hp hH hS => ?_)
            obtain ⟨e_216, L2_216, R2_216, P2_216, C2_216, ro2_216, hX, hk, hx216_0, hx216_1, hx216_2, hx216_3⟩ := hp
            have hKS := hKS.fr hk
            have fq := fq.fr hk
            have hkt := hkt.fr hk
            have hK := hK.trans hk
            have hEq : a1 ++ l1 ++ t :: e_216 :: b1 = (a1 ++ l1 ++ [t]) ++ e_216 :: b1 := by simp
            rw [hEq] at hX hx216_0 hx216_2
            have hal2 : l = (a1 ++ l1 ++ [t]) ++ b1 := by rw [hal]; simp
            refine lv_null X.x X.b dJ5_put_2_219 ?_
            refine W.widen (k := 1) (n := 6) (by first | exact Nat.le_of_ble_eq_true rfl | omega) (by first | exact Nat.le_of_ble_eq_true rfl | omega) ?_
            exact wa_aret X (Or.inl ⟨_, rfl⟩) hH hS none dJ5_put_2_220 ⟨by first | rfl | omega | assumption, ⟨_, (a1 ++ l1) ++ [t], b1, _, _, _, _, _, hX, hK, hx216_0, hx216_1, hx216_2, hal2, hlo, i123_3, hx216_3⟩⟩
          · refine wz_opt (q := (some a198)) ho198 ?_
            have hl : lv_has ls 10 [(4, .ref a198), (5, .int (zI (kcmp k0 (κ t)))), (6, .ref t), (8, .ref q), (7, .null), (0, .ref m), (1, .ref q), (2, .ref v), (3, .int (zI 1))] := by rw [ho198] at hl; exact hl
            have hsub := hl2
            rw [ho198] at hsub
            refine lv_ifnonnull (tgt := 123) X.x X.b dJ5_put_2_198 (by decide) ?_
            exact ih123 _ (by have h9 := hmu123; rw [elt] at h9; simp at h9; omega) a198 (some t) l2 (a1 ++ l1 ++ [t]) b1 rfl (by rw [i123_0, elt]; simp) (by exact hsub) (by intro n h; exact put_lo hso hl3 (hcs.2.1.mp (by omega)) i123_2 n h) (by exact i123_3) _ _ _ hH hS (lv_sub hl [0, 3, 4, 5, 6, 7, 8] rfl)
        · refine lv_aload X.x X.b dJ5_put_2_146 (lv_at hl 2 rfl) ?_
          refine wa_get (v := va_rf (L t)) X hH (have h9 := (hX.nd htl); h9) wcJ10 2 (by decide) q793 rfl (fun _ h9 => h9) rfl dJ5_put_2_148 ?_
          refine lv_astoreO (lv' := [(4, va_rf (L t)), (5, .int (zI (kcmp k0 (κ t)))), (6, .ref t), (8, .ref q), (7, .null), (0, .ref m), (1, .ref q), (2, .ref v), (3, .int (zI 1))]) X.x X.b dJ5_put_2_151 hl (by decide) rfl (fun ls hl => ?_)
          refine lv_goto (tgt := 196) X.x X.b dJ5_put_2_153 (by decide) ?_
          refine lv_aloadO X.x X.b dJ5_put_2_196 (lv_at hl 0 rfl) ?_
          rcases xo_cases (L t) with ho198 | ⟨a198, ho198⟩
          · refine wz_opt (q := none) ho198 ?_
            have hl : lv_has ls 10 [(4, .null), (5, .int (zI (kcmp k0 (κ t)))), (6, .ref t), (8, .ref q), (7, .null), (0, .ref m), (1, .ref q), (2, .ref v), (3, .int (zI 1))] := by rw [ho198] at hl; exact hl
            have hsub := hl1
            rw [ho198] at hsub
            have e1 := hsub.nil'
            have hal : l = a1 ++ t :: (l2 ++ b1) := by rw [i123_0, elt, e1]; simp
            have hlo : ∀ n, n ∈ l2 ++ b1 → kv k0 < kv (κ n) := fun n h => by
              have hsp := hso; rw [hal, List.pairwise_append] at hsp
              have h3 := (List.pairwise_cons.mp hsp.2.1).1 n h
              have h4 := hcs.1.mp (by omega)
              omega
            refine lv_ifnonnullN X.x X.b dJ5_put_2_198 ?_
            refine lv_aload_n X.x X.b dJ5_put_2_201 rfl (lv_at hl 5 rfl) ?_
            refine lv_aload_n X.x X.b dJ5_put_2_202 rfl (lv_at hl 6 rfl) ?_
            refine lv_aload_n X.x X.b dJ5_put_2_203 rfl (lv_at hl 7 rfl) ?_
            refine lv_aload X.x X.b dJ5_put_2_204 (lv_at hl 2 rfl) ?_
            refine lv_iload X.x X.b dJ5_put_2_206 (lv_at hl 1 rfl) ?_
            refine wz_ifge (tgt := 215) X.x X.b dJ5_put_2_208 (by decide) ⟨by omega, by omega⟩ (fun c208 => by exfalso; omega) (fun c208 => ?_)
            refine wz_iconst X.x X.b dJ5_put_2_211 ?_
            refine lv_goto (tgt := 216) X.x X.b dJ5_put_2_212 (by decide) ?_
            refine wa_cv hS (wa_rV (rest := []) X hH (mJ5_addEntry_L hX   htl ho198 hal (show Tr L R P ro none l by first | assumption | omega) (show l.Nodup by first | assumption | omega) (show ∀ n, n ∈ l → C n = 0 ∨ C n = 1 by first | assumption | omega) (show ∀ r, ro = some r → C r = 1 by first | assumption | omega)) (cwV 4 X.t (lw_V q897 q899 qs20 q118 q900) rfl rfl rfl hdJ5_addEntry ⟨Nat.le_of_ble_eq_true rfl, Nat.le_of_ble_eq_true rfl⟩) rfl (have h9 := (hX.1); h9) rfl rfl hl.1 rfl (Nat.le_of_ble_eq_true rfl) dJ5_put_2_216 ⟨Nat.le_of_ble_eq_true rfl, Nat.le_of_ble_eq_true rfl⟩) (fun w216 H locs hp hH hS => ?_)
            obtain ⟨e_216, L2_216, R2_216, P2_216, C2_216, ro2_216, hX, hk, hx216_0, hx216_1, hx216_2, hx216_3⟩ := hp
            have hKS := hKS.fr hk
            have fq := fq.fr hk
            have hkt := hkt.fr hk
            have hK := hK.trans hk
            refine lv_null X.x X.b dJ5_put_2_219 ?_
            refine W.widen (k := 1) (n := 6) (by first | exact Nat.le_of_ble_eq_true rfl | omega) (by first | exact Nat.le_of_ble_eq_true rfl | omega) ?_
            exact wa_aret X (Or.inl ⟨_, rfl⟩) hH hS none dJ5_put_2_220 ⟨by first | rfl | omega | assumption, ⟨_, a1, t :: (l2 ++ b1), _, _, _, _, _, hX, hK, hx216_0, hx216_1, hx216_2, hal, i123_2, (fun n h => by rcases List.mem_cons.mp h with h | h; (rw [h]; exact hcs.1.mp (by omega)); exact hlo n h), hx216_3⟩⟩
          · refine wz_opt (q := (some a198)) ho198 ?_
            have hl : lv_has ls 10 [(4, .ref a198), (5, .int (zI (kcmp k0 (κ t)))), (6, .ref t), (8, .ref q), (7, .null), (0, .ref m), (1, .ref q), (2, .ref v), (3, .int (zI 1))] := by rw [ho198] at hl; exact hl
            have hsub := hl1
            rw [ho198] at hsub
            refine lv_ifnonnull (tgt := 123) X.x X.b dJ5_put_2_198 (by decide) ?_
            exact ih123 _ (by have h9 := hmu123; rw [elt] at h9; simp at h9; omega) a198 (some t) l1 a1 (t :: l2 ++ b1) rfl (by rw [i123_0, elt]; simp) (by exact hsub) (by exact i123_2) (by intro n h; exact put_hi hso hl3 (hcs.1.mp (by omega)) i123_3 n h) _ _ _ hH hS (lv_sub hl [0, 3, 4, 5, 6, 7, 8] rfl)
    exact L123 _ a8 none l ([]) ([]) rfl (by simp) (by exact htr) (by intro n h; cases h) (by intro n h; cases h) _ _ _ hH hS (lv_sub hl [2, 0, 1, 3, 4, 5, 6] rfl)
set_option maxRecDepth 100000 in
theorem mJ5_put {lL : Launch} {G : wa_G} {w : wa_W} {m : Nat} {l : List Nat} {K : Nat → Nat} {V : Nat → Nat} {L : Nat → Option Nat} {R : Nat → Option Nat} {P : Nat → Option Nat} {C : Nat → Int} {ro : Option Nat} {si : Int} {mo : Int} {nv : Option Nat} (hX : TN w m l K V L R P C ro si mo nv) {q : Nat} {v : Nat} {k0 : KT} {b0 : Bool} {κ : Nat → KT} (hKS : KS m l w K κ b0) (fq : Lt m l w q (kE k0)) (ht : Tr L R P ro none l) (hn : l.Nodup) (hC : ∀ n, n ∈ l → C n = 0 ∨ C n = 1) (hroot : ∀ r, ro = some r → C r = 1) (hsi : si = (l.length : Int)) (hb : k0.1 = b0) (hk0 : kOK k0) (hfr : ∀ n, n ∈ l → kv (κ n) ≠ kv k0) (hso : l.Pairwise (fun x y => kv (κ x) < kv (κ y))) : Met lL yJ5_put (ws_ yJ5_put cJ5_put 3 (some (FieldType.object "java/lang/Object"))) ({ frames := 7, cells := 1, slots := 6, locals := 193 } : Room) (wa_P G w [.ref m, .ref q, .ref v]) (wa_Qr G fun r u => r = none ∧ ∃ (e : Nat) (a2 : List Nat) (b2 : List Nat) (L2 : Nat → Option Nat) (R2 : Nat → Option Nat) (P2 : Nat → Option Nat) (C2 : Nat → Int) (ro2 : Option Nat), TN u m (a2 ++ e :: b2) (nup K e q) (nup V e v) L2 R2 P2 C2 ro2 (si + 1) (mo + 1) nv ∧ Fr m l w u ∧ (Tr L2 R2 P2 ro2 none (a2 ++ e :: b2)) ∧ (∀ r, ro2 = some r → C2 r = 1) ∧ (∀ n, n ∈ (a2 ++ e :: b2) → C2 n = 0 ∨ C2 n = 1) ∧ (l = a2 ++ b2) ∧ (∀ n, n ∈ a2 → kv (κ n) < kv k0) ∧ (∀ n, n ∈ b2 → kv k0 < kv (κ n)) ∧ (w e = none)) 1 6 (wa_A G) := by
  refine wa_met (by decide) (by exact Nat.le_of_ble_eq_true rfl) ?_
  intro pP eE sS mM aA bB mT cC ls X hl hH
  have hS : va_S (wa_A G) sS.heap sS.heap [] := va_S.rf
  have hl : lv_has ls 3 [(0, .ref m), (1, .ref q), (2, .ref v)] := hl
  have hK : Fr m l w w := Fr.rf
  refine lv_aload_n X.x X.b dJ5_put_0 rfl (lv_at hl 0 rfl) ?_
  refine lv_aload_n X.x X.b dJ5_put_1 rfl (lv_at hl 1 rfl) ?_
  refine lv_aload_n X.x X.b dJ5_put_2 rfl (lv_at hl 2 rfl) ?_
  refine wz_iconst X.x X.b dJ5_put_3 ?_
  refine wa_cr hS (wa_rV (rest := []) X hH (mJ5_put_2 hX hKS fq  (show Tr L R P ro none l by first | assumption | omega) (show l.Nodup by first | assumption | omega) (show ∀ n, n ∈ l → C n = 0 ∨ C n = 1 by first | assumption | omega) (show ∀ r, ro = some r → C r = 1 by first | assumption | omega) (show si = (l.length : Int) by first | assumption | omega) (show k0.1 = b0 by first | assumption | omega) (show kOK k0 by first | assumption | omega) (show ∀ n, n ∈ l → kv (κ n) ≠ kv k0 by first | assumption | omega) (show l.Pairwise (fun x y => kv (κ x) < kv (κ y)) by first | assumption | omega)) (cwV 3 X.t (lw_V q713 q715 qs16 q118 q716) rfl rfl rfl hdJ5_put_2 ⟨Nat.le_of_ble_eq_true rfl, Nat.le_of_ble_eq_true rfl⟩) rfl (have h9 := (hX.1); h9) rfl rfl hl.1 rfl (Nat.le_of_ble_eq_true rfl) dJ5_put_4 ⟨Nat.le_of_ble_eq_true rfl, Nat.le_of_ble_eq_true rfl⟩) (fun r4 w4 H locs hp hH hS => ?_)
  obtain ⟨rfl, ⟨e_4, a2_4, b2_4, L2_4, R2_4, P2_4, C2_4, ro2_4, hX, hk, hx4_0, hx4_1, hx4_2, hx4_3, hx4_4, hx4_5, hx4_6⟩⟩ := hp
  have hKS := hKS.fr hk
  have fq := fq.fr hk
  have hK := hK.trans hk
  refine W.widen (k := 1) (n := 6) (by first | exact Nat.le_of_ble_eq_true rfl | omega) (by first | exact Nat.le_of_ble_eq_true rfl | omega) ?_
  exact wa_aret X (Or.inl ⟨_, rfl⟩) hH hS none dJ5_put_7 ⟨by first | rfl | omega | assumption, ⟨_, _, _, _, _, _, _, _, hX, hK, hx4_0, hx4_1, hx4_2, hx4_3, hx4_4, hx4_5, hx4_6⟩⟩

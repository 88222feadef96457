/-! A MAP OF SHIFTS, made in the call -/
/-- a loose map at m, its nodes l with keys κ and numbers ν -/
def LM (G : wa_G) (ad : Nat → Nat) (w : wa_W) (m : Nat) (l : List Nat) (κ : Nat → KT) (ν : Nat → Int) (nv : Option Nat) (mo : Int) : Prop := ∃ (K V : Nat → Nat) (L R Pt : Nat → Option Nat) (C : Nat → Int) (ro : Option Nat), TN w m l K V L R Pt C ro (l.length : Int) mo nv ∧ Tr L R Pt ro none l ∧ l.Nodup ∧ (∀ r, ro = some r → C r = 1) ∧ (∀ n, n ∈ l → C n = 0 ∨ C n = 1) ∧ (∀ n, n ∈ l → ∀ i, i < 55 → n ≠ ad i) ∧ (∀ n, n ∈ l → Lc ad w (K n) (kE (κ n)) ∧ (κ n).1 = false ∧ kOK (κ n)) ∧ l.Pairwise (fun x y => kv (κ x) < kv (κ y)) ∧ (∀ n, n ∈ l → wb_In G (V n) (ν n)) ∧ ∀ i, i < 55 → m ≠ ad i
section LMs
variable {G : wa_G} {ad : Nat → Nat} {w w0 u : wa_W} {S S2 : Nat → Int} {A : Nat → Int → Int} {B : Nat → Int → Option Nat} {P P2 : Nat → Option Nat} {m : Nat} {l l2 : List Nat} {κ : Nat → KT} {ν : Nat → Int} {lL : Launch} {nv : Option Nat} {mo : Int}
theorem LM.kp (h : LM G ad w m l κ ν nv mo) (k : Kp ad w u) : LM G ad u m l κ ν nv mo := by
  obtain ⟨K, V, L, R, Pt, C, ro, h1, h2, h3, h4, h5, h6, h7, h8, h9, h10⟩ := h
  exact ⟨K, V, L, R, Pt, C, ro, ⟨k _ _ h10 h1.1, fun n hn => k _ _ (h6 n hn) (h1.2 n hn)⟩, h2, h3, h4, h5, h6, fun n hn => ⟨(h7 n hn).1.kp k, (h7 n hn).2⟩, h8, h9, h10⟩
theorem LM.nil (h : Lc ad w m (eO 16 [.null, .null, .null, va_rf none, .int (zI 0), .int (zI 0), .null, va_rf none, .null])) : LM G ad w m [] κ ν none 0 :=
  ⟨fun _ => 0, fun _ => 0, fun _ => none, fun _ => none, fun _ => none, fun _ => 0, none, ⟨h.2, (fun n hn => by cases hn)⟩, Tr.nil _, List.nodup_nil, (fun r e => by cases e), (fun n hn => by cases hn), (fun n hn => by cases hn), (fun n hn => by cases hn), List.Pairwise.nil, (fun n hn => by cases hn), h.1⟩
theorem LM.at (h : LM G ad w m l κ ν nv mo) : ∃ fs, w m = some (eO 16 fs) := by
  obtain ⟨K, V, L, R, Pt, C, ro, h1, -⟩ := h
  exact ⟨_, h1.1⟩
theorem LM.so (h : LM G ad w m l κ ν nv mo) : (l.map κ).Pairwise (fun x y => kv x < kv y) := by
  obtain ⟨K, V, L, R, Pt, C, ro, h1, h2, h3, h4, h5, h6, h7, h8, h9, h10⟩ := h
  exact List.pairwise_map.mpr h8
theorem LM.key (h : LM G ad w m l κ ν nv mo) {n : Nat} (hn : n ∈ l) : (κ n).1 = false ∧ kOK (κ n) := by
  obtain ⟨K, V, L, R, Pt, C, ro, h1, h2, h3, h4, h5, h6, h7, h8, h9, h10⟩ := h
  exact (h7 n hn).2
theorem XW.fr (h : XW G ad w S A B P) (k : Fr m l w u) (h6 : ∀ n, n ∈ l → ∀ i, i < 55 → n ≠ ad i) (hm : ∀ i, i < 55 → m ≠ ad i) : XW G ad u S A B P :=
  ⟨h.1, fun i hi => k _ _ (fun e => hm i hi e.symm) (fun e => h6 _ e i hi rfl) (h.2 i hi)⟩
theorem Kp.no0 (k : Kp ad w0 w) (hX : XW G ad w S A B P) {q : Nat} (hn : w q = none) : w0 q = none := by
  cases e : w0 q with
  | none => rfl
  | some x =>
    have := k q x (hX.fresh hn) e
    rw [hn] at this; cases this
theorem Kp.old (h0 : Kp ad w0 w) (k : Fr m l w u) (hm : w0 m = none) (hl : ∀ n, n ∈ l → w0 n = none) : Kp ad w0 u := fun a x p e => k a x (fun q => by rw [q, hm] at e; cases e) (fun q => by rw [hl a q] at e; cases e) (h0 a x p e)
theorem TN.kE {K V : Nat → Nat} {L R Pt : Nat → Option Nat} {C : Nat → Int} {ro : Option Nat} {si : Int} (h : TN w m l K V L R Pt C ro si mo nv) {q : Nat} {k0 : KT} (hq : w q = some (kE k0)) : q ≠ m ∧ q ∉ l := by
  refine ⟨fun z => ?_, fun z => ?_⟩
  · rw [z, h.1] at hq
    exact kE_nm (Option.some.inj hq).symm
  · rw [h.2 q z] at hq
    exact kE_ne (Option.some.inj hq).symm
theorem NVX.fr {K V : Nat → Nat} {L R Pt : Nat → Option Nat} {C : Nat → Int} {ro : Option Nat} {si : Int} (h : NVX ad w P) (hT : TN w m l K V L R Pt C ro si mo nv) (k : Fr m l w u) : NVX ad u P := fun j hj ks e => by
  have h1 := h j hj ks e
  refine ⟨h1.1, k _ _ (fun z => ?_) (fun z => ?_) h1.2⟩
  · have := h1.2
    rw [z, hT.1] at this
    unfold tmO eO at this
    simp at this
  · have := h1.2
    rw [hT.2 ks z] at this
    unfold ndO eO at this
    simp at this
theorem mJ5_put_Y {q v : Nat} {n : Int} {k0 : KT} (hX : XW G ad w S A B P) (hLM : LM G ad w m l κ ν none mo) (hq : Lc ad w q (kE k0)) (hI : wb_In G v n) (hNV : NVX ad w P) (hb : k0.1 = false) (hk0 : kOK k0) (hfr : ∀ x, x ∈ l → kv (κ x) ≠ kv k0) (hK0 : Kp ad w0 w) (hm0 : w0 m = none) (hl0 : ∀ x, x ∈ l → w0 x = none) : Met lL yJ5_put (ws_ yJ5_put cJ5_put 3 (some (FieldType.object "java/lang/Object"))) ({ frames := 7, cells := 1, slots := 6, locals := 193 } : Room) (wa_P G w [.ref m, .ref q, .ref v]) (wa_Qr G fun r u => r = none ∧ ∃ (e : Nat) (a2 b2 : List Nat), XW G ad u S A B P ∧ Kp ad w0 u ∧ (w0 e = none ∧ e ∉ l ∧ l = a2 ++ b2) ∧ LM G ad u m (a2 ++ e :: b2) (nup κ e k0) (nup ν e n) none (mo + 1) ∧ NVX ad u P) 1 6 (wa_A G) := by
  obtain ⟨K, V, L, R, Pt, C, ro, h1, h2, h3, h4, h5, h6, h7, h8, h9, h10⟩ := hLM
  have kno : ∀ x, x ∈ l → K x ≠ m ∧ K x ∉ l := fun x hx => h1.kE (h7 x hx).1.2
  have hKS : KS m l w K κ false := fun x hx => ⟨(kno x hx).1, (kno x hx).2, (h7 x hx).1.2, (h7 x hx).2.1, (h7 x hx).2.2⟩
  have qno := h1.kE hq.2
  refine (mJ5_put h1 (v := v) hKS (q := q) (k0 := k0) ⟨qno.1, qno.2, hq.2⟩ h2 h3 h5 h4 rfl hb hk0 hfr h8).post (wa_Qr.mono fun r u hp => ?_)
  obtain ⟨hr, e, a2, b2, L2, R2, P3, C2, ro2, t1, t2, t3, t4, t5, t6, t7, t8, t9⟩ := hp
  have hK := Kp.old hK0 t2 hm0 hl0
  have hX2 := hX.fr t2 h6 h10
  have elo : ∀ i, i < 55 → e ≠ ad i := hX.fresh t9
  have enl : e ∉ l := fun h => by have := h1.2 e h; rw [t9] at this; cases this
  have e0 : w0 e = none := by
    cases q : w0 e with
    | none => rfl
    | some x =>
      have := hK0 e x elo q
      rw [t9] at this; cases this
  have nin : ∀ n, n ∈ a2 ++ e :: b2 → n = e ∨ n ∈ l := fun n hn => t6 ▸ mem_ins hn
  have knl : ∀ n, n ∈ l → nup κ e k0 n = κ n := fun n hn => nup_n (fun z => enl (z ▸ hn))
  refine ⟨hr, e, a2, b2, hX2, hK, ⟨e0, enl, t6⟩, ⟨nup K e q, nup V e v, L2, R2, P3, C2, ro2, ?_, t3, nd_ins (t6 ▸ h3) (t6 ▸ enl), t4, t5, fun n hn => ?_, fun n hn => ?_, ?_, fun n hn => ?_, h10⟩, hNV.fr h1 t2⟩
  · have hlen : ((a2 ++ e :: b2).length : Int) = (l.length : Int) + 1 := by rw [t6]; simp; omega
    rw [hlen]; exact t1
  · rcases nin n hn with h | h
    · rw [h]; exact elo
    · exact h6 n h
  · rcases nin n hn with h | h
    · subst h
      rw [nup_s, nup_s]
      exact ⟨⟨hq.1, t2 _ _ qno.1 qno.2 hq.2⟩, hb, hk0⟩
    · have nz : n ≠ e := fun z => enl (z ▸ h)
      rw [nup_n nz, knl n h]
      exact ⟨⟨(h7 n h).1.1, t2 _ _ (kno n h).1 (kno n h).2 (h7 n h).1.2⟩, (h7 n h).2⟩
  · rw [t6, List.pairwise_append] at h8
    rw [List.pairwise_append]
    have ka : ∀ n, n ∈ a2 → nup κ e k0 n = κ n := fun n hn => knl n (by rw [t6]; simp [hn])
    have kb : ∀ n, n ∈ b2 → nup κ e k0 n = κ n := fun n hn => knl n (by rw [t6]; simp [hn])
    refine ⟨h8.1.imp_of_mem (fun {x y} hx hy q => by rw [ka x hx, ka y hy]; exact q), List.pairwise_cons.mpr ⟨fun y hy => by rw [nup_s, kb y hy]; exact t8 y hy, h8.2.1.imp_of_mem (fun {x y} hx hy q => by rw [kb x hx, kb y hy]; exact q)⟩, fun x hx y hy => ?_⟩
    rcases List.mem_cons.mp hy with h | h
    · rw [h, nup_s, ka x hx]; exact t7 x hx
    · rw [ka x hx, kb y h]; exact h8.2.2 x hx y h
  · rcases nin n hn with h | h
    · subst h; rw [nup_s, nup_s]; exact hI
    · have nz : n ≠ e := fun z => enl (z ▸ h)
      rw [nup_n nz, nup_n nz]; exact h9 n h
theorem mJ5_keySet_Y (hX : XW G ad w S A B P) (hLM : LM G ad w m l κ ν none mo) (hNV : NVX ad w P) (hK0 : Kp ad w0 w) (hm0 : w0 m = none) (hl0 : ∀ x, x ∈ l → w0 x = none) : Met lL yJ5_keySet (ws_ yJ5_keySet cJ5_keySet 1 (some (FieldType.object "java/util/Set"))) ({ frames := 5, cells := 1, slots := 1, locals := 102 } : Room) (wa_P G w [.ref m]) (wa_Qr G fun r u => ∃ (ks : Nat), XW G ad u S A B P ∧ Kp ad w0 u ∧ (r = some ks) ∧ LM G ad u m l κ ν (some ks) mo ∧ Lc ad u ks (eO 20 [.ref m]) ∧ NVX ad u P) 1 1 (wa_A G) := by
  obtain ⟨K, V, L, R, Pt, C, ro, h1, h2, h3, h4, h5, h6, h7, h8, h9, h10⟩ := hLM
  have kno : ∀ x, x ∈ l → K x ≠ m ∧ K x ∉ l := fun x hx => h1.kE (h7 x hx).1.2
  refine (mJ5_keySet h1 (fun ks e => by cases e)).post (wa_Qr.mono fun r u hp => ?_)
  obtain ⟨ks, t1, t2, t3, t4⟩ := hp
  have hX2 := hX.fr t2 h6 h10
  refine ⟨ks, hX2, Kp.old hK0 t2 hm0 hl0, t3, ⟨K, V, L, R, Pt, C, ro, t1, h2, h3, h4, h5, h6, fun n hn => ⟨⟨(h7 n hn).1.1, t2 _ _ (kno n hn).1 (kno n hn).2 (h7 n hn).1.2⟩, (h7 n hn).2⟩, h8, h9, h10⟩, ⟨fun i hi z => ?_, t4.2.2⟩, hNV.fr h1 t2⟩
  have := hX2.2 i hi
  rw [← z, t4.2.2] at this
  exact xC_20 i (Option.some.inj this).symm
theorem mJ16_iterator_Y {ks : Nat} (hX : XW G ad w S A B P) (hLM : LM G ad w m l κ ν nv mo) (hks : Lc ad w ks (eO 20 [.ref m])) : Met lL yJ16_iterator (ws_ yJ16_iterator cJ16_iterator 1 (some (FieldType.object "java/util/Iterato\x72"))) ({ frames := 4, cells := 1, slots := 4, locals := 84 } : Room) (wa_P G w [.ref ks]) (wa_Qr G fun r u => ∃ (it : Nat), XW G ad u S A B P ∧ Kp ad w u ∧ (r = some it) ∧ (w it = none) ∧ LM G ad u m l κ ν nv mo ∧ Lc ad u it (eO 21 [va_rf l.head?, va_rf none, .int (zI mo), .ref m])) 1 4 (wa_A G) := by
  have hLM0 := hLM
  obtain ⟨K, V, L, R, Pt, C, ro, h1, h2, h3, h4, h5, h6, h7, h8, h9, h10⟩ := hLM
  have ksm : ks ≠ m := fun z => by
    have := hks.2
    rw [z, h1.1] at this
    unfold tmO eO at this
    simp at this
  have ksl : ks ∉ l := fun z => by
    have := hks.2
    rw [h1.2 ks z] at this
    unfold ndO eO at this
    simp at this
  refine (mJ16_iterator h1 (ks := ks) ⟨ksm, ksl, hks.2⟩ h2).post (wa_Qr.mono fun r u hp => ?_)
  obtain ⟨it, t1, t2, t3, t4, t5⟩ := hp
  have hX2 := hX.fr t2 h6 h10
  have hK : Kp ad w u := fun a x p e => by
    by_cases q : a ∈ l
    · rw [h1.2 a q] at e
      rw [t1.2 a q, ← e]
    · by_cases q2 : a = m
      · rw [q2, h1.1] at e
        rw [q2, t1.1, ← e]
      · exact t2 a x q2 q e
  exact ⟨it, hX2, hK, t3, t4, hLM0.kp hK, hX.fresh t4, t5⟩
theorem mJ18_next_Z {it n : Nat} {y : Option Nat} {a b : List Nat} (hX : XW G ad w S A B P) (hLM : LM G ad w m l κ ν nv mo) (hit : Lc ad w it (eO 21 [.ref n, va_rf y, .int (zI mo), .ref m])) (hNV : NVX ad w P) (ha : l = a ++ n :: b) (hK0 : Kp ad w0 w) (hi0 : w0 it = none) : Met lL yJ18_next (ws_ yJ18_next cJ18_next 1 (some (FieldType.object "java/lang/Object"))) ({ frames := 2, cells := 0, slots := 0, locals := 43 } : Room) (wa_P G w [.ref it]) (wa_Qr G fun r u => ∃ (q : Nat), XW G ad u S A B P ∧ Kp ad w0 u ∧ (r = some q) ∧ Lc ad u q (kE (κ n)) ∧ Lc ad u it (eO 21 [va_rf b.head?, va_rf (some n), .int (zI mo), .ref m]) ∧ LM G ad u m l κ ν nv mo ∧ NVX ad u P ∧ Off it w u) 0 0 (wa_A G) := by
  obtain ⟨K, V, L, R, Pt, C, ro, h1, h2, h3, h4, h5, h6, h7, h8, h9, h10⟩ := hLM
  have itm : it ≠ m := fun z => by
    have := hit.2
    rw [z, h1.1] at this
    unfold tmO eO at this
    simp at this
  have itl : it ∉ l := fun z => by
    have := hit.2
    rw [h1.2 it z] at this
    unfold ndO eO at this
    simp at this
  have hn : n ∈ l := by rw [ha]; simp
  refine (mJ18_next h1 (q0 := it) ⟨itm, itl, hit.2⟩ ha h2 h3).post (wa_Qr.mono fun r u hp => ?_)
  obtain ⟨t1, t2, t3⟩ := hp
  have hX2 : XW G ad u S A B P := ⟨hX.1, fun i hi => t3 _ _ (fun e => hit.1 i hi e.symm) (hX.2 i hi)⟩
  have kit : ∀ x, x ∈ l → K x ≠ it := fun x hx z => by
    have h11 := (h7 x hx).1.2
    rw [z, hit.2] at h11
    unfold kE eO at h11
    split at h11 <;> simp at h11
  refine ⟨K n, hX2, Kp.init hi0 hK0 t3, t1, ⟨(h7 n hn).1.1, t3 _ _ (kit n hn) (h7 n hn).1.2⟩, ⟨hit.1, t2⟩, ⟨K, V, L, R, Pt, C, ro, ⟨t3 _ _ (fun e => itm e.symm) h1.1, fun x hx => t3 _ _ (fun z => itl (z ▸ hx)) (h1.2 x hx)⟩, h2, h3, h4, h5, h6, fun x hx => ⟨⟨(h7 x hx).1.1, t3 _ _ (kit x hx) (h7 x hx).1.2⟩, (h7 x hx).2⟩, h8, h9, h10⟩, fun j hj ks e => ⟨(hNV j hj ks e).1, t3 _ _ (fun z => ?_) (hNV j hj ks e).2⟩, t3⟩
  have h11 := (hNV j hj ks e).2
  rw [z, hit.2] at h11
  unfold eO at h11
  simp at h11
theorem mJ5_get_Y {q n : Nat} (hX : XW G ad w S A B P) (hLM : LM G ad w m l κ ν nv mo) (hq : Lc ad w q (kE (κ n))) (hn : n ∈ l) : Met lL yJ5_get (ws_ yJ5_get cJ5_get 3 (some (FieldType.object "java/lang/Object"))) ({ frames := 5, cells := 0, slots := 0, locals := 144 } : Room) (wa_P G w [.ref m, .ref q]) (wa_Qr G fun r u => (∃ v, r = some v ∧ wb_In G v (ν n)) ∧ w = u) 0 0 (wa_A G) := by
  obtain ⟨K, V, L, R, Pt, C, ro, h1, h2, h3, h4, h5, h6, h7, h8, h9, h10⟩ := hLM
  have kno : ∀ x, x ∈ l → K x ≠ m ∧ K x ∉ l := fun x hx => h1.kE (h7 x hx).1.2
  have hKS : KS m l w K κ false := fun x hx => ⟨(kno x hx).1, (kno x hx).2, (h7 x hx).1.2, (h7 x hx).2.1, (h7 x hx).2.2⟩
  have qno := h1.kE hq.2
  refine (mJ5_get h1 hKS (q := q) (k0 := κ n) (n := n) ⟨qno.1, qno.2, hq.2⟩ h2 h3 (h7 n hn).2.1 (h7 n hn).2.2 h8 hn rfl).post (wa_Qr.mono fun r u hp => ?_)
  exact ⟨⟨_, hp.1, h9 n hn⟩, hp.2⟩
end LMs
-- links
def Lnk (ad : Nat → Nat) (w : wa_W) (lk s : Nat) (a b v e f : Int) : Prop := Lc ad w lk (eO 11 [.int (zI a), .int (zI b), .ref s, .int (zI v)]) ∧ Lc ad w s (eO 10 [.int (zI e), .int (zI f)])
theorem Lnk.kp {ad : Nat → Nat} {w u : wa_W} {lk s : Nat} {a b v e f : Int} (h : Lnk ad w lk s a b v e f) (k : Kp ad w u) : Lnk ad u lk s a b v e f := ⟨h.1.kp k, h.2.kp k⟩
/-- none yet, or the link of the best so far -/
def BL (ad : Nat → Nat) (w : wa_W) (bo : Option Nat) (a b : Int) (t : Int × Int × Int) : Prop := (bo = none ∧ t.1 = 0) ∨ 0 < t.1 ∧ ∃ lk s, bo = some lk ∧ Lnk ad w lk s a b t.1 t.2.1 t.2.2
theorem BL.kp {ad : Nat → Nat} {w u : wa_W} {bo : Option Nat} {a b : Int} {t : Int × Int × Int} (h : BL ad w bo a b t) (k : Kp ad w u) : BL ad u bo a b t := by
  rcases h with h | ⟨h, lk, s, h1, h2⟩
  · exact Or.inl h
  · exact Or.inr ⟨h, lk, s, h1, h2.kp k⟩
theorem BL.off {ad : Nat → Nat} {w u : wa_W} {bo : Option Nat} {a b : Int} {t : Int × Int × Int} {it : Nat} {fs : List Value} (h : BL ad w bo a b t) (hi : w it = some (eO 21 fs)) (k : Off it w u) : BL ad u bo a b t := by
  rcases h with h | ⟨h, lk, s, h1, h2, h3⟩
  · exact Or.inl h
  · refine Or.inr ⟨h, lk, s, h1, ⟨h2.1, k _ _ (fun z => ?_) h2.2⟩, ⟨h3.1, k _ _ (fun z => ?_) h3.2⟩⟩
    · have := h2.2
      rw [z, hi] at this
      unfold eO at this
      simp at this
    · have := h3.2
      rw [z, hi] at this
      unfold eO at this
      simp at this
-- the best of a list of shifts
def stB (h : KT → Int) (t : Int × Int × Int) (q : KT) : Int × Int × Int := if t.1 < h q then (h q, q.2.1, q.2.2.1) else t
def bestK (h : KT → Int) (t : Int × Int × Int) : List KT → Int × Int × Int
  | [] => t
  | q :: r => bestK h (stB h t q) r
theorem bestK_s (h : KT → Int) (t : Int × Int × Int) (a : List KT) (q : KT) : bestK h t (a ++ [q]) = stB h (bestK h t a) q := by
  induction a generalizing t with
  | nil => rfl
  | cons x a ih => exact ih (stB h t x)
def vK (g : Int → Int) (a b : Int) (q : KT) : Int := votesS g a b q.2.1 q.2.2.1
def shK (t : Nat) : KT := (false, cE t, cF t, 0)
def shL (g : Int → Int) (a b : Int) (n : Nat) : List Nat := (List.range n).filter (fun t => decide (0 < votesS g a b (cE t) (cF t)))
theorem shL_s (g : Int → Int) (a b : Int) (n : Nat) : shL g a b (n + 1) = shL g a b n ++ if 0 < votesS g a b (cE n) (cF n) then [n] else [] := by
  unfold shL
  rw [List.range_succ, List.filter_append]
  congr 1
  by_cases h : 0 < votesS g a b (cE n) (cF n)
  · rw [if_pos h, List.filter_cons_of_pos (p := fun t => decide (0 < votesS g a b (cE t) (cF t))) (decide_eq_true h)]; rfl
  · rw [if_neg h, List.filter_cons_of_neg (p := fun t => decide (0 < votesS g a b (cE t) (cF t))) (fun q => h (of_decide_eq_true q))]; rfl
theorem bestK_N (g : Int → Int) (a b : Int) (n : Nat) (hn : n ≤ 15) : bestK (vK g a b) (0, 0, 0) ((shL g a b n).map shK) = bestN g a b n := by
  induction n with
  | zero => rfl
  | succ n ih =>
    have ih := ih (by omega)
    rw [shL_s]
    unfold bestN
    by_cases h : 0 < votesS g a b (cE n) (cF n)
    · rw [if_pos h, List.map_append, show [n].map shK = [shK n] from rfl, bestK_s, ih]
      unfold stB
      rfl
    · have h2 := (bestN_in g a b n (by omega)).1.1
      rw [if_neg h, List.append_nil, ih, if_neg (by omega)]
theorem kv_shK {i j : Nat} (h : i < j) (hj : j < 15) : kv (shK i) < kv (shK j) := by
  have hd : ∀ j : Fin 15, ∀ i : Fin 15, i.val < j.val → kv (shK i.val) < kv (shK j.val) := by decide +kernel
  exact hd ⟨j, hj⟩ ⟨i, by omega⟩ h
/-- sorted lists of the same keys are the same -/
theorem so_eq : ∀ {a b : List KT}, a.Pairwise (fun x y => kv x < kv y) → b.Pairwise (fun x y => kv x < kv y) → (∀ x, x ∈ a ↔ x ∈ b) → a = b
  | [], [], _, _, _ => rfl
  | [], y :: b, _, _, h => absurd ((h y).mpr (by simp)) (by simp)
  | x :: a, [], _, _, h => absurd ((h x).mp (by simp)) (by simp)
  | x :: a, y :: b, h1, h2, h => by
    obtain ⟨p1, p2⟩ := List.pairwise_cons.mp h1
    obtain ⟨q1, q2⟩ := List.pairwise_cons.mp h2
    have e : x = y := by
      rcases List.mem_cons.mp ((h x).mp (by simp)) with e | e
      · exact e
      · rcases List.mem_cons.mp ((h y).mpr (by simp)) with e2 | e2
        · exact e2.symm
        · have := p1 y e2
          have := q1 x e
          omega
    subst e
    rw [so_eq p2 q2 fun z => ⟨fun hz => ?_, fun hz => ?_⟩]
    · rcases List.mem_cons.mp ((h z).mp (by simp [hz])) with e | e
      · have := p1 z hz; rw [e] at this; omega
      · exact e
    · rcases List.mem_cons.mp ((h z).mpr (by simp [hz])) with e | e
      · have := q1 z hz; rw [e] at this; omega
      · exact e
/-- the keys that stand in the map when the shifts ahead of e, f have been tried -/
def MK (g : Int → Int) (a b : Int) (e f : Int) (l : List Nat) (κ : Nat → KT) (ν : Nat → Int) : Prop := (∀ n, n ∈ l → ∃ e' f', κ n = (false, e', f', 0) ∧ (-1 ≤ e' ∧ e' ≤ 1) ∧ (1 ≤ f' ∧ f' ≤ 5) ∧ (e' < e ∨ e' = e ∧ f' < f) ∧ ν n = votesS g a b e' f' ∧ 0 < votesS g a b e' f') ∧ ∀ e' f', -1 ≤ e' → e' ≤ 1 → 1 ≤ f' → f' ≤ 5 → (e' < e ∨ e' = e ∧ f' < f) → 0 < votesS g a b e' f' → ∃ n, n ∈ l ∧ κ n = (false, e', f', 0)
theorem MK.nil {g : Int → Int} {a b : Int} {κ : Nat → KT} {ν : Nat → Int} : MK g a b (-1) 1 [] κ ν := ⟨(fun n hn => by cases hn), fun e' f' h1 h2 h3 h4 h5 _ => by omega⟩
theorem MK.row {g : Int → Int} {a b e : Int} {l : List Nat} {κ : Nat → KT} {ν : Nat → Int} (h : MK g a b e 6 l κ ν) : MK g a b (e + 1) 1 l κ ν := ⟨fun n hn => by
    obtain ⟨e', f', h1, h2, h3, h4, h5⟩ := h.1 n hn
    exact ⟨e', f', h1, h2, h3, by omega, h5⟩, fun e' f' h1 h2 h3 h4 h5 h6 => h.2 e' f' h1 h2 h3 h4 (by omega) h6⟩
theorem MK.skip {g : Int → Int} {a b e f : Int} {l : List Nat} {κ : Nat → KT} {ν : Nat → Int} (h : MK g a b e f l κ ν) (hz : ¬ 0 < votesS g a b e f) : MK g a b e (f + 1) l κ ν := ⟨fun n hn => by
    obtain ⟨e', f', h1, h2, h3, h4, h5⟩ := h.1 n hn
    exact ⟨e', f', h1, h2, h3, by omega, h5⟩, fun e' f' h1 h2 h3 h4 h5 h6 => by
    by_cases q : e' = e ∧ f' = f
    · rw [q.1, q.2] at h6; exact absurd h6 hz
    · exact h.2 e' f' h1 h2 h3 h4 (by omega) h6⟩
theorem MK.ne {g : Int → Int} {a b e f : Int} {l : List Nat} {κ : Nat → KT} {ν : Nat → Int} (h : MK g a b e f l κ ν) (he : -1 ≤ e ∧ e ≤ 1) (hf : 1 ≤ f ∧ f ≤ 5) : ∀ x, x ∈ l → kv (κ x) ≠ kv (false, e, f, 0) := fun x hx => by
  obtain ⟨e', f', h1, h2, h3, h4, h5⟩ := h.1 x hx
  rw [h1]
  show (Int.natAbs e' : Int) * 1000000 + f' * 1000 + e' ≠ (Int.natAbs e : Int) * 1000000 + f * 1000 + e
  omega
theorem MK.add {g : Int → Int} {a b e f v : Int} {l a2 b2 : List Nat} {κ : Nat → KT} {ν : Nat → Int} {x : Nat} (h : MK g a b e f l κ ν) (he : -1 ≤ e ∧ e ≤ 1) (hf : 1 ≤ f ∧ f ≤ 5) (hv : 0 < votesS g a b e f) (hve : v = votesS g a b e f) (hx : x ∉ l) (hl : l = a2 ++ b2) : MK g a b e (f + 1) (a2 ++ x :: b2) (nup κ x (false, e, f, 0)) (nup ν x v) := by
  refine ⟨fun n hn => ?_, fun e' f' h1 h2 h3 h4 h5 h6 => ?_⟩
  · rcases mem_ins hn with q | q
    · subst q
      rw [nup_s, nup_s]
      exact ⟨e, f, rfl, he, hf, by omega, hve, hv⟩
    · have hnl : n ∈ l := hl ▸ q
      have nz : n ≠ x := fun z => hx (z ▸ hnl)
      rw [nup_n nz, nup_n nz]
      obtain ⟨e', f', h1, h2, h3, h4, h5⟩ := h.1 n hnl
      exact ⟨e', f', h1, h2, h3, by omega, h5⟩
  · by_cases q : e' = e ∧ f' = f
    · obtain ⟨rfl, rfl⟩ := q
      exact ⟨x, by simp, nup_s⟩
    · obtain ⟨n, hn, e1⟩ := h.2 e' f' h1 h2 h3 h4 (by omega) h6
      have nz : n ≠ x := fun z => hx (z ▸ hn)
      refine ⟨n, ?_, by rw [nup_n nz]; exact e1⟩
      rw [hl] at hn
      simp at hn ⊢
      rcases hn with q | q <;> simp [q]
theorem sh_all : ∀ e f : Int, -1 ≤ e → e ≤ 1 → 1 ≤ f → f ≤ 5 → ∃ t, t < 15 ∧ cE t = e ∧ cF t = f := fun e f h1 h2 h3 h4 => by
  by_cases h : e = 0
  · refine ⟨(f - 1).toNat, by omega, ?_, ?_⟩
    · unfold cE; rw [if_pos (by omega)]; omega
    · unfold cF; rw [if_pos (by omega)]; omega
  · by_cases h5 : e = -1
    · refine ⟨(5 + 2 * (f - 1)).toNat, by omega, ?_, ?_⟩
      · unfold cE; rw [if_neg (by omega), if_pos (by omega)]; omega
      · unfold cF; rw [if_neg (by omega)]; omega
    · refine ⟨(5 + 2 * (f - 1) + 1).toNat, by omega, ?_, ?_⟩
      · unfold cE; rw [if_neg (by omega), if_neg (by omega)]; omega
      · unfold cF; rw [if_neg (by omega)]; omega
theorem sh_in {t : Nat} (h : t < 15) : (-1 ≤ cE t ∧ cE t ≤ 1) ∧ 1 ≤ cF t ∧ cF t ≤ 5 := by
  unfold cE cF
  constructor
  · split
    · omega
    · split <;> omega
  · split <;> omega
theorem MK.list {g : Int → Int} {a b : Int} {l : List Nat} {κ : Nat → KT} {ν : Nat → Int} (h : MK g a b 2 1 l κ ν) (hs : (l.map κ).Pairwise (fun x y => kv x < kv y)) : l.map κ = (shL g a b 15).map shK := by
  refine so_eq hs ?_ fun x => ⟨fun hx => ?_, fun hx => ?_⟩
  · refine List.pairwise_map.mpr ?_
    unfold shL
    refine List.Pairwise.imp_of_mem ?_ (List.Pairwise.filter _ List.pairwise_lt_range)
    intro i j hi hj hij
    exact kv_shK hij (List.mem_range.mp (List.mem_filter.mp hj).1)
  · obtain ⟨n, hn, rfl⟩ := List.mem_map.mp hx
    obtain ⟨e', f', h1, h2, h3, h4, h5, h6⟩ := h.1 n hn
    obtain ⟨t, t0, t1, t2⟩ := sh_all e' f' h2.1 h2.2 h3.1 h3.2
    refine List.mem_map.mpr ⟨t, List.mem_filter.mpr ⟨List.mem_range.mpr t0, decide_eq_true (by rw [t1, t2]; exact h6)⟩, ?_⟩
    rw [h1]; unfold shK; rw [t1, t2]
  · obtain ⟨t, ht, rfl⟩ := List.mem_map.mp hx
    obtain ⟨ht1, ht2⟩ := List.mem_filter.mp ht
    have h3 := sh_in (List.mem_range.mp ht1)
    obtain ⟨n, hn, e1⟩ := h.2 (cE t) (cF t) h3.1.1 h3.1.2 h3.2.1 h3.2.2 (by omega) (of_decide_eq_true ht2)
    exact List.mem_map.mpr ⟨n, hn, e1⟩
theorem bestK_in {h : KT → Int} (hh : ∀ q, 0 ≤ h q ∧ h q ≤ 12) (l : List KT) : ∀ t : Int × Int × Int, 0 ≤ t.1 ∧ t.1 ≤ 12 → 0 ≤ (bestK h t l).1 ∧ (bestK h t l).1 ≤ 12 := by
  induction l with
  | nil => intro t ht; exact ht
  | cons q r ih =>
    intro t ht
    refine ih _ ?_
    unfold stB
    split
    · exact hh q
    · exact ht
theorem shL_len (g : Int → Int) (a b : Int) : ((shL g a b 15).map shK).length ≤ 15 := by
  rw [List.length_map]
  unfold shL
  refine Nat.le_trans (List.length_filter_le _ _) ?_
  rw [List.length_range]
  exact Nat.le_refl 15

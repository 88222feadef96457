/-! THE CORNERS' TREES in the other side's world -/
theorem Met.post {l : Launch} {y : MethodName} {ws : List Cond} {rm : Room} {Pc : Array Value → State → Prop} {Qc Qd : Array Value → State → Outcome → State → Prop} {mc ms : Nat} {free : Addr → Prop} (h : Met l y ws rm Pc Qc mc ms free) (k : ∀ a st o t, Qc a st o t → Qd a st o t) : Met l y ws rm Pc Qd mc ms free := fun p e h1 h2 h3 s m args below a1 a2 a3 a4 => by
  obtain ⟨n, o, q1, q2, q3, q4⟩ := h p e h1 h2 h3 s m args below a1 a2 a3 a4
  exact ⟨n, o, q1, q2, q3, k _ _ _ _ q4.1, q4.2⟩
theorem wa_Qz.mono {G : wa_G} {f g : Int → wa_W → Prop} (h : ∀ z u, f z u → g z u) : ∀ a st o t, wa_Qz G f a st o t → wa_Qz G g a st o t := fun a st o t q => by
  obtain ⟨⟨r, u, e, ⟨z, ez, hp⟩, hB⟩, hF⟩ := q
  exact ⟨⟨r, u, e, ⟨z, ez, h z u hp⟩, hB⟩, hF⟩
theorem wa_Qv.mono {G : wa_G} {f g : wa_W → Prop} (h : ∀ u, f u → g u) : ∀ a st o t, wa_Qv G f a st o t → wa_Qv G g a st o t := fun a st o t q => by
  obtain ⟨⟨u, e, hp, hB⟩, hF⟩ := q
  exact ⟨⟨u, e, h u hp, hB⟩, hF⟩
theorem wa_Qr.mono {G : wa_G} {f g : Option Nat → wa_W → Prop} (h : ∀ r u, f r u → g r u) : ∀ a st o t, wa_Qr G f a st o t → wa_Qr G g a st o t := fun a st o t q => by
  obtain ⟨⟨r, u, e, hp, hB⟩, hF⟩ := q
  exact ⟨⟨r, u, e, h r u hp, hB⟩, hF⟩
/-- all loose cells but those of l are kept -/
def KpL (ad : Nat → Nat) (l : List Nat) (w u : wa_W) : Prop := ∀ a x, (∀ i, i < 55 → a ≠ ad i) → a ∉ l → w a = some x → u a = some x
section TREEX
variable {G : wa_G} {ad : Nat → Nat} {w w0 u : wa_W} {S S2 : Nat → Int} {A : Nat → Int → Int} {B : Nat → Int → Option Nat} {P P2 : Nat → Option Nat} {k : Nat} {l l2 : List Nat}
theorem Fr.kpL (hk : k < 6) (h : Fr (ad (42 + k)) l w u) : KpL ad l w u := fun a x p q e => h a x (p _ (by omega)) q e
theorem KpL.kp (h : KpL ad [] w u) : Kp ad w u := fun a x p e => h a x p (by simp) e
/-- what was there before the nodes were made is kept -/
theorem KpL.old (h0 : Kp ad w0 w) (h : KpL ad l w u) (hf : ∀ n, n ∈ l → w0 n = none) : Kp ad w0 u := fun a x p e => h a x p (fun q => by rw [hf a q] at e; cases e) (h0 a x p e)
theorem xC_tm (hk : k < 6) : xC G ad S A B P (42 + k) = eO 16 (xF16 S P k) := by
  unfold xC
  rw [if_neg (by omega), if_neg (by omega), if_neg (by omega), if_neg (by omega), if_neg (by omega), if_neg (by omega), if_neg (by omega), if_neg (by omega), if_neg (by omega), if_neg (by omega), if_neg (by omega), if_neg (by omega), if_pos (by omega), show 42 + k - 42 = k by omega]
theorem XW.ofT {K V : Nat → Nat} {L R Pt : Nat → Option Nat} {C : Nat → Int} {ro nv : Option Nat} {si mo : Int} (h : XW G ad w S A B P) (hk : k < 6) (hT : TN u (ad (42 + k)) l2 K V L R Pt C ro si mo nv) (hF : Fr (ad (42 + k)) l w u) (hl : ∀ n, n ∈ l → ∀ i, i < 55 → n ≠ ad i) : XW G ad u (sup (sup S (40 + k) si) (50 + k) mo) A B (pup (pup P (20 + k) ro) (30 + k) nv) := by
  have a1 := XW.sS (i := 42 + k) h (40 + k) (x := si) (by unfold oS; omega) rfl
  have a2 := XW.sS (i := 42 + k) a1 (50 + k) (x := mo) (by unfold oS; omega) rfl
  have a3 := XW.sP (i := 42 + k) a2 (20 + k) (x := ro) (by unfold oP; omega) rfl
  have a4 := XW.sP (i := 42 + k) a3 (30 + k) (x := nv) (by unfold oP; omega) rfl
  refine ⟨h.1, fun i hi => ?_⟩
  by_cases e : i = 42 + k
  · subst e
    rw [hT.1, xC_tm hk]
    unfold tmO xF16
    rw [pup_n (show 20 + k ≠ 30 + k by omega), pup_s, pup_s, sup_n (show 40 + k ≠ 50 + k by omega), sup_s, sup_s]
  · have hne : ad i ≠ ad (42 + k) := fun z => e (h.1 _ _ hi (by omega) z)
    have h1 := a4.2 i hi
    rw [wup_n hne, wup_n hne, wup_n hne, wup_n hne] at h1
    exact hF _ _ hne (fun z => hl _ z i hi rfl) h1
/-- tree k holds the keys κ of its nodes l -/
def TF (ad : Nat → Nat) (w : wa_W) (k : Nat) (l : List Nat) (κ : Nat → KT) (ro nv : Option Nat) (si : Int) : Prop := ∃ (K V : Nat → Nat) (L R Pt : Nat → Option Nat) (C : Nat → Int), (∀ n, n ∈ l → Lc ad w n (ndO (K n) (V n) (L n) (R n) (Pt n) (C n))) ∧ Tr L R Pt ro none l ∧ l.Nodup ∧ (∀ r, ro = some r → C r = 1) ∧ (∀ n, n ∈ l → C n = 0 ∨ C n = 1) ∧ si = (l.length : Int) ∧ (∀ n, n ∈ l → Lc ad w (K n) (kE (κ n)) ∧ (κ n).1 = true ∧ kOK (κ n)) ∧ l.Pairwise (fun x y => kv (κ x) < kv (κ y)) ∧ ∀ ks, nv = some ks → Lc ad w ks (eO 20 [.ref (ad (42 + k))])
theorem TF.kp {κ : Nat → KT} {ro nv : Option Nat} {si : Int} (h : TF ad w k l κ ro nv si) (q : Kp ad w u) : TF ad u k l κ ro nv si := by
  obtain ⟨K, V, L, R, Pt, C, h1, h2, h3, h4, h5, h6, h7, h8, h9⟩ := h
  exact ⟨K, V, L, R, Pt, C, fun n hn => (h1 n hn).kp q, h2, h3, h4, h5, h6, fun n hn => ⟨(h7 n hn).1.kp q, (h7 n hn).2⟩, h8, fun ks e => (h9 ks e).kp q⟩
theorem TF.nil {κ : Nat → KT} {nv : Option Nat} (h : ∀ ks, nv = some ks → Lc ad w ks (eO 20 [.ref (ad (42 + k))])) : TF ad w k [] κ none nv 0 :=
  ⟨fun _ => 0, fun _ => 0, fun _ => none, fun _ => none, fun _ => none, fun _ => 0, (fun n hn => by cases hn), Tr.nil _, List.nodup_nil, (fun r e => by cases e), (fun n hn => by cases hn), rfl, (fun n hn => by cases hn), List.Pairwise.nil, h⟩
/-- clear() of tree k's set -/
theorem mJ3_clear_X {lL : Launch} (hX : XW G ad w S A B P) (hk : k < 6) : Met lL yJ3_clear (ws_ yJ3_clear cJ3_clear 1 (none : Option FieldType)) ({ frames := 1, cells := 0, slots := 0, locals := 20 } : Room) (wa_P G w [.ref (ad (36 + k))]) (wa_Qv G fun u => XW G ad u (sup (sup S (40 + k) 0) (50 + k) (S (50 + k) + 1)) A B (pup (pup P (20 + k) none) (30 + k) (P (30 + k))) ∧ Kp ad w u) 0 0 (wa_A G) := by
  have hT : TN w (ad (42 + k)) [] (fun _ => 0) (fun _ => 0) (fun _ => none) (fun _ => none) (fun _ => none) (fun _ => 0) (P (20 + k)) (S (40 + k)) (S (50 + k)) (P (30 + k)) := ⟨hX.tm hk, fun n hn => by cases hn⟩
  have hne : ad (36 + k) ≠ ad (42 + k) := fun z => by have := hX.1 _ _ (by omega) (by omega) z; omega
  refine (mJ3_clear hT (ts := ad (36 + k)) ⟨hne, by simp, hX.ts hk⟩).post (wa_Qv.mono fun u hp => ?_)
  obtain ⟨h1, h2⟩ := hp
  exact ⟨hX.ofT hk h1 h2 (fun n hn => by cases hn), (h2.kpL hk).kp⟩
/-- add(q) to tree k's set, a new key -/
theorem mJ3_add_X {lL : Launch} {κ : Nat → KT} {q : Nat} {k0 : KT} (hX : XW G ad w S A B P) (hTF : TF ad w k l κ (P (20 + k)) (P (30 + k)) (S (40 + k))) (hq : Lc ad w q (kE k0)) (hk : k < 6) (hb : k0.1 = true) (hk0 : kOK k0) (hfr : ∀ n, n ∈ l → kv (κ n) ≠ kv k0) : Met lL yJ3_add (ws_ yJ3_add cJ3_add 2 (some FieldType.boolean)) ({ frames := 8, cells := 1, slots := 6, locals := 215 } : Room) (wa_P G w [.ref (ad (36 + k)), .ref q]) (wa_Qz G fun z u => z = 1 ∧ ∃ (e : Nat) (a2 b2 : List Nat) (ro : Option Nat), XW G ad u (sup (sup S (40 + k) (S (40 + k) + 1)) (50 + k) (S (50 + k) + 1)) A B (pup (pup P (20 + k) ro) (30 + k) (P (30 + k))) ∧ KpL ad l w u ∧ w e = none ∧ l = a2 ++ b2 ∧ (∀ n, n ∈ a2 → kv (κ n) < kv k0) ∧ (∀ n, n ∈ b2 → kv k0 < kv (κ n)) ∧ TF ad u k (a2 ++ e :: b2) (nup κ e k0) ro (P (30 + k)) (S (40 + k) + 1)) 1 6 (wa_A G) := by
  obtain ⟨K, V, L, R, Pt, C, h1, h2, h3, h4, h5, h6, h7, h8, h9⟩ := hTF
  have hT : TN w (ad (42 + k)) l K V L R Pt C (P (20 + k)) (S (40 + k)) (S (50 + k)) (P (30 + k)) := ⟨hX.tm hk, fun n hn => (h1 n hn).2⟩
  have hne : ad (36 + k) ≠ ad (42 + k) := fun z => by have := hX.1 _ _ (by omega) (by omega) z; omega
  have hloose : ∀ n, n ∈ l → ∀ i, i < 55 → n ≠ ad i := fun n hn => (h1 n hn).1
  have kno : ∀ x y, w x = some (kE y) → x ∉ l := fun x y hx hl => by
    rw [(h1 x hl).2] at hx
    exact kE_ne (Option.some.inj hx).symm
  have hKS : KS (ad (42 + k)) l w K κ true := fun n hn => ⟨(h7 n hn).1.1 _ (by omega), kno _ _ (h7 n hn).1.2, (h7 n hn).1.2, (h7 n hn).2.1, (h7 n hn).2.2⟩
  refine (mJ3_add hT (ts := ad (36 + k)) ⟨hne, fun z => hloose _ z (36 + k) (by omega) rfl, hX.ts hk⟩ hKS (q := q) (k0 := k0) ⟨hq.1 _ (by omega), kno _ _ hq.2, hq.2⟩ h2 h3 h5 h4 h6 hb hk0 hfr h8).post (wa_Qz.mono fun z u hp => ?_)
  obtain ⟨hz, tv, e, a2, b2, L2, R2, P3, C2, ro2, t1, t2, t3, t4, t5, t6, t7, t8, t9⟩ := hp
  have hkl := t2.kpL hk
  have hX2 := hX.ofT hk t1 t2 hloose
  have elo : ∀ i, i < 55 → e ≠ ad i := hX.fresh t9
  have eno : ∀ x, w x ≠ none → x ≠ e := fun x h z => h (z ▸ t9)
  have nin : ∀ n, n ∈ a2 ++ e :: b2 → n = e ∨ n ∈ l := fun n hn => by
    rw [t6]; simp at hn ⊢; rcases hn with h | h | h <;> simp [h]
  have enl : e ∉ l := fun h => by have := (h1 e h).2; rw [t9] at this; cases this
  have knl : ∀ n, n ∈ l → nup κ e k0 n = κ n := fun n hn => nup_n (fun z => enl (z ▸ hn))
  refine ⟨hz, e, a2, b2, ro2, hX2, hkl, t9, t6, t7, t8, nup K e q, nup V e tv, L2, R2, P3, C2, fun n hn => ⟨?_, t1.2 n hn⟩, t3, ?_, t4, t5, ?_, fun n hn => ?_, ?_, fun ks e2 => ?_⟩
  · rcases nin n hn with h | h
    · rw [h]; exact elo
    · exact hloose n h
  · exact nd_ins (t6 ▸ h3) (t6 ▸ enl)
  · rw [h6, t6]; simp; omega
  · rcases nin n hn with h | h
    · subst h
      rw [nup_s, nup_s]
      exact ⟨⟨hq.1, hkl _ _ hq.1 (kno _ _ hq.2) hq.2⟩, hb, hk0⟩
    · have nz : n ≠ e := fun z => enl (z ▸ h)
      rw [nup_n nz, knl n h]
      exact ⟨⟨(h7 n h).1.1, hkl _ _ (h7 n h).1.1 (kno _ _ (h7 n h).1.2) (h7 n h).1.2⟩, (h7 n h).2⟩
  · rw [t6, List.pairwise_append] at h8
    rw [List.pairwise_append]
    have ka : ∀ n, n ∈ a2 → nup κ e k0 n = κ n := fun n hn => knl n (by rw [t6]; simp [hn])
    have kb : ∀ n, n ∈ b2 → nup κ e k0 n = κ n := fun n hn => knl n (by rw [t6]; simp [hn])
    refine ⟨h8.1.imp_of_mem (fun {x y} hx hy q => by rw [ka x hx, ka y hy]; exact q), List.pairwise_cons.mpr ⟨fun y hy => by rw [nup_s, kb y hy]; exact t8 y hy, h8.2.1.imp_of_mem (fun {x y} hx hy q => by rw [kb x hx, kb y hy]; exact q)⟩, fun x hx y hy => ?_⟩
    rcases List.mem_cons.mp hy with h | h
    · rw [h, nup_s, ka x hx]; exact t7 x hx
    · rw [ka x hx, kb y h]; exact h8.2.2 x hx y h
  · have h10 := h9 ks e2
    refine ⟨h10.1, hkl _ _ h10.1 (fun z => ?_) h10.2⟩
    have h11 := (h1 ks z).2
    rw [h10.2] at h11
    unfold ndO eO at h11
    simp at h11
end TREEX

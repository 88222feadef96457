/-! THE WORLD OF A TREEMAP at m, its nodes l in order -/
def nup {α : Type} (f : Nat → α) (k : Nat) (v : α) : Nat → α := fun j => if j = k then v else f j
theorem nup_s {α : Type} {f : Nat → α} {k : Nat} {v : α} : nup f k v k = v := if_pos rfl
theorem nup_n {α : Type} {f : Nat → α} {k j : Nat} {v : α} (h : j ≠ k) : nup f k v j = f j := if_neg h
def ndO (k v : Nat) (l r p : Option Nat) (c : Int) : wa_E := eO 19 [.ref k, .ref v, va_rf l, va_rf r, va_rf p, .int (zI c)]
def tmO (ro : Option Nat) (si mo : Int) (nv : Option Nat) : wa_E := eO 16 [.null, .null, .null, va_rf ro, .int (zI si), .int (zI mo), .null, va_rf nv, .null]
def TN (w : wa_W) (m : Nat) (l : List Nat) (K V : Nat → Nat) (L R P : Nat → Option Nat) (C : Nat → Int) (ro : Option Nat) (si mo : Int) (nv : Option Nat) : Prop := w m = some (tmO ro si mo nv) ∧ ∀ n, n ∈ l → w n = some (ndO (K n) (V n) (L n) (R n) (P n) (C n))
/-- all but the map and its nodes is kept -/
def Fr (m : Nat) (l : List Nat) (w u : wa_W) : Prop := ∀ a x, a ≠ m → a ∉ l → w a = some x → u a = some x
def Lt (m : Nat) (l : List Nat) (w : wa_W) (a : Nat) (x : wa_E) : Prop := a ≠ m ∧ a ∉ l ∧ w a = some x
section TNs
variable {w u v w1 w2 : wa_W} {m n : Nat} {l : List Nat} {K V : Nat → Nat} {L R P L2 R2 P2 : Nat → Option Nat} {C C2 : Nat → Int} {ro ro2 : Option Nat} {si mo si2 mo2 : Int} {nv nv2 : Option Nat}
theorem Fr.rf : Fr m l w w := fun _ _ _ _ h => h
theorem Fr.trans (h : Fr m l w u) (k : Fr m l u v) : Fr m l w v := fun a x p q e => k a x p q (h a x p q e)
theorem Ext.f (h : Ext w u) : Fr m l w u := fun a x _ _ e => h a x e
theorem Lt.fr {a : Nat} {x : wa_E} (h : Lt m l w a x) (k : Fr m l w u) : Lt m l u a x := ⟨h.1, h.2.1, k a x h.1 h.2.1 h.2.2⟩
theorem TN.nd (h : TN w m l K V L R P C ro si mo nv) (hn : n ∈ l) : w n = some (ndO (K n) (V n) (L n) (R n) (P n) (C n)) := h.2 n hn
theorem TN.ne (h : TN w m l K V L R P C ro si mo nv) (hn : n ∈ l) : n ≠ m := fun e => by
  have h1 := h.1
  rw [← e, h.2 n hn] at h1
  unfold ndO tmO eO at h1
  simp at h1
theorem TN.ext (h : TN w m l K V L R P C ro si mo nv) (k : Ext w u) : TN u m l K V L R P C ro si mo nv := ⟨k _ _ h.1, fun n hn => k _ _ (h.2 n hn)⟩
theorem TN.fresh (h : TN w m l K V L R P C ro si mo nv) {q : Nat} (hn : w q = none) : q ≠ m ∧ q ∉ l := ⟨(fun e => by rw [e, h.1] at hn; cases hn), (fun e => by rw [h.2 q e] at hn; cases hn)⟩
theorem Lt.new (h : TN w m l K V L R P C ro si mo nv) {q : Nat} {x : wa_E} (hn : w q = none) (e : u q = some x) : Lt m l u q x := ⟨(h.fresh hn).1, (h.fresh hn).2, e⟩
theorem TN.init (h : TN w m l K V L R P C ro si mo nv) {q : Nat} (hn : w q = none) (h2 : TN w2 m l K V L2 R2 P2 C2 ro2 si2 mo2 nv2) (hO : Off q w2 u) : TN u m l K V L2 R2 P2 C2 ro2 si2 mo2 nv2 :=
  ⟨hO _ _ (fun e => (h.fresh hn).1 e.symm) h2.1, fun n q => hO _ _ (fun e => (h.fresh hn).2 (e ▸ q)) (h2.2 n q)⟩
theorem Fr.init {q : Nat} (hn : w q = none) (h : Fr m l w w2) (hO : Off q w2 u) : Fr m l w u := fun a x p1 p2 e => by
  exact hO a x (fun h => by rw [h, hn] at e; cases e) (h a x p1 p2 e)
theorem Fr.nd {x : wa_E} (hn : n ∈ l) (e : w1 = wup w n x) : Fr m l w w1 := fun a y p1 p2 h => by
  have q : a ≠ n := fun q => p2 (q ▸ hn)
  rw [e, wup_n q]; exact h
theorem Fr.map {x : wa_E} (e : w1 = wup w m x) : Fr m l w w1 := fun a y p1 p2 h => by rw [e, wup_n p1]; exact h
theorem Fr.add {e : Nat} (hn : w e = none) (h : Fr m l w w1) (k : Fr m (e :: l) w1 w2) : Fr m l w w2 := fun a x p1 p2 z => k a x p1 (fun q => by
  rcases List.mem_cons.mp q with q | q
  · rw [q, hn] at z; cases z
  · exact p2 q) (h a x p1 p2 z)
theorem TN.set (h : TN w m l K V L R P C ro si mo nv) (hn : n ∈ l) (e : w1 = wup w n (ndO (K n) (V n) (L2 n) (R2 n) (P2 n) (C2 n))) (o : ∀ j, j ≠ n → L2 j = L j ∧ R2 j = R j ∧ P2 j = P j ∧ C2 j = C j) : TN w1 m l K V L2 R2 P2 C2 ro si mo nv := by
  refine ⟨by rw [e, wup_n (fun q => h.ne hn q.symm)]; exact h.1, fun j hj => ?_⟩
  rw [e]
  by_cases q : j = n
  · subst q; exact wup_s
  · obtain ⟨q1, q2, q3, q4⟩ := o j q
    rw [wup_n q, q1, q2, q3, q4]; exact h.2 j hj
theorem TN.sL {x : Option Nat} (h : TN w m l K V L R P C ro si mo nv) (hn : n ∈ l) (e : w1 = wup w n (ndO (K n) (V n) x (R n) (P n) (C n))) : TN w1 m l K V (nup L n x) R P C ro si mo nv := h.set hn (by rw [nup_s]; exact e) fun j q => ⟨nup_n q, rfl, rfl, rfl⟩
theorem TN.sR {x : Option Nat} (h : TN w m l K V L R P C ro si mo nv) (hn : n ∈ l) (e : w1 = wup w n (ndO (K n) (V n) (L n) x (P n) (C n))) : TN w1 m l K V L (nup R n x) P C ro si mo nv := h.set hn (by rw [nup_s]; exact e) fun j q => ⟨rfl, nup_n q, rfl, rfl⟩
theorem TN.sP {x : Option Nat} (h : TN w m l K V L R P C ro si mo nv) (hn : n ∈ l) (e : w1 = wup w n (ndO (K n) (V n) (L n) (R n) x (C n))) : TN w1 m l K V L R (nup P n x) C ro si mo nv := h.set hn (by rw [nup_s]; exact e) fun j q => ⟨rfl, rfl, nup_n q, rfl⟩
theorem TN.sC {x : Int} (h : TN w m l K V L R P C ro si mo nv) (hn : n ∈ l) (e : w1 = wup w n (ndO (K n) (V n) (L n) (R n) (P n) x)) : TN w1 m l K V L R P (nup C n x) ro si mo nv := h.set hn (by rw [nup_s]; exact e) fun j q => ⟨rfl, rfl, rfl, nup_n q⟩
theorem TN.smap (h : TN w m l K V L R P C ro si mo nv) (e : w1 = wup w m (tmO ro2 si2 mo2 nv2)) : TN w1 m l K V L R P C ro2 si2 mo2 nv2 := ⟨by rw [e]; exact wup_s, fun n hn => by rw [e, wup_n (h.ne hn)]; exact h.2 n hn⟩
theorem TN.congr (h : TN w m l K V L R P C ro si mo nv) (e : ∀ n, n ∈ l → L2 n = L n ∧ R2 n = R n ∧ P2 n = P n ∧ C2 n = C n) : TN w m l K V L2 R2 P2 C2 ro si mo nv := ⟨h.1, fun n hn => by
  obtain ⟨q1, q2, q3, q4⟩ := e n hn
  rw [q1, q2, q3, q4]; exact h.2 n hn⟩
theorem TN.cR (h : TN w m l K V L R P C ro si mo nv) (e : ro = ro2) : TN w m l K V L R P C ro2 si mo nv := e ▸ h
/-- a new node e among the nodes -/
theorem TN.add {e k v0 : Nat} {x y z : Option Nat} {c : Int} (h : TN w m l K V L R P C ro si mo nv) (hf : e ≠ m ∧ e ∉ l) (hc : w e = some (ndO k v0 x y z c)) : TN w m (e :: l) (nup K e k) (nup V e v0) (nup L e x) (nup R e y) (nup P e z) (nup C e c) ro si mo nv := by
  refine ⟨h.1, fun n hn => ?_⟩
  rcases List.mem_cons.mp hn with q | q
  · subst q; rw [nup_s, nup_s, nup_s, nup_s, nup_s, nup_s]; exact hc
  · have qe : n ≠ e := fun z => hf.2 (z ▸ q)
    rw [nup_n qe, nup_n qe, nup_n qe, nup_n qe, nup_n qe, nup_n qe]; exact h.2 n q
end TNs
section RTs
variable {L R P : Nat → Option Nat} {ro : Option Nat} {l : List Nat} {p r q x n : Nat}
theorem Tr.irr (h : Tr L R P ro none l) (hn : l.Nodup) (hp : p ∈ l) : P p ≠ some p := fun e => by
  obtain ⟨d, -, f⟩ := h.dep hn (fun q z => by cases z) 0
  have := (f p hp).2 p e hp
  omega
theorem Tr.irr2 (h : Tr L R P ro none l) (hn : l.Nodup) (hp : p ∈ l) (hr : r ∈ l) (e : P p = some r) : P r ≠ some p := fun e2 => by
  obtain ⟨d, -, f⟩ := h.dep hn (fun q z => by cases z) 0
  have h1 := (f p hp).2 r e hr
  have h2 := (f r hr).2 p e2 hp
  omega
theorem Tr.top (h : Tr L R P ro none l) (hp : p ∈ l) : (P p = none → ro = some p) ∧ (∀ q, P p = some q → q ∈ l ∧ (L q = some p ∨ R q = some p) ∧ ro ≠ some p) := by
  refine ⟨fun e => ?_, fun q e => ?_⟩
  · rcases h.up p hp with ⟨z, -⟩ | ⟨z, z1, z2, z3⟩
    · exact z
    · rw [e] at z2; cases z2
  · rcases h.up p hp with ⟨z, z2⟩ | ⟨z, z1, z2, z3⟩
    · rw [e] at z2; cases z2
    · rw [e] at z2; cases z2
      refine ⟨z1, z3, fun z => ?_⟩
      rw [z] at h
      have := h.root.2
      rw [e] at this; cases this
theorem rt_root (h : P p = none) : rtL L P p r n = nup L r (some p) n ∧ rtR L R P p r n = nup R p (L r) n := by
  unfold rtL rtR nup
  rw [h, if_neg (c := none = some n ∧ L n = some p) (fun z => by cases z.1), if_neg (c := none = some n ∧ ¬ L n = some p) (fun z => by cases z.1)]
  exact ⟨rfl, rfl⟩
theorem rt_left (h : P p = some q) (hl : L q = some p) : rtL L P p r n = nup (nup L q (some r)) r (some p) n ∧ rtR L R P p r n = nup R p (L r) n := by
  unfold rtL rtR nup
  rw [h]
  refine ⟨?_, ?_⟩
  · by_cases e : n = r
    · rw [if_pos e, if_pos e]
    · rw [if_neg e, if_neg e]
      by_cases e2 : n = q
      · subst e2; rw [if_pos ⟨rfl, hl⟩, if_pos rfl]
      · rw [if_neg e2, if_neg (fun z => e2 (Option.some.inj z.1).symm)]
  · by_cases e : n = p
    · rw [if_pos e, if_pos e]
    · rw [if_neg e, if_neg e, if_neg]
      intro z
      have e3 := Option.some.inj z.1
      exact z.2 (e3 ▸ hl)
theorem rt_right (h : P p = some q) (hl : ¬ L q = some p) (hq : q ≠ p) : rtL L P p r n = nup L r (some p) n ∧ rtR L R P p r n = nup (nup R p (L r)) q (some r) n := by
  unfold rtL rtR nup
  rw [h]
  refine ⟨?_, ?_⟩
  · by_cases e : n = r
    · rw [if_pos e, if_pos e]
    · rw [if_neg e, if_neg e, if_neg]
      intro z
      have e3 := Option.some.inj z.1
      exact hl (e3 ▸ z.2)
  · by_cases e : n = p
    · have e4 : n ≠ q := fun z => hq (z.symm.trans e)
      rw [if_pos e, if_neg e4, if_pos e]
    · rw [if_neg e]
      by_cases e2 : n = q
      · subst e2; rw [if_pos ⟨rfl, hl⟩, if_pos rfl]
      · rw [if_neg e2, if_neg (fun z => e2 (Option.some.inj z.1).symm), if_neg e]
theorem rt_P0 (h : L r = none) : rtP L P p r n = nup (nup P r (P p)) p (some r) n := by
  unfold rtP nup
  rw [h, if_neg (c := none = some n) (fun z => by cases z)]
theorem rt_P1 (h : L r = some x) : rtP L P p r n = nup (nup (nup P x (some p)) r (P p)) p (some r) n := by
  unfold rtP nup
  rw [h]
  by_cases e : n = p
  · rw [if_pos e, if_pos e]
  · rw [if_neg e, if_neg e]
    by_cases e2 : n = r
    · rw [if_pos e2, if_pos e2]
    · rw [if_neg e2, if_neg e2]
      by_cases e3 : n = x
      · subst e3; rw [if_pos rfl, if_pos rfl]
      · rw [if_neg e3, if_neg (fun z => e3 (Option.some.inj z).symm)]
end RTs
section BITS01
theorem bI {c : Int} (h : c = 0 ∨ c = 1) : rI c := by unfold rI; omega
theorem bN {c : Int} (h : c = 0 ∨ c = 1) : narrow .boolean (.int (zI c)) = .int (zI c) := by
  rcases h with h | h
  · rw [h]; exact nb0
  · rw [h]; exact nb1
theorem bl {C : Nat → Int} {k n : Nat} (h : C n = 0 ∨ C n = 1) : nup C k 0 n = 0 ∨ nup C k 0 n = 1 := by
  by_cases e : n = k
  · rw [e, nup_s]; exact Or.inl rfl
  · rw [nup_n e]; exact h
theorem br {C : Nat → Int} {k n : Nat} (h : C n = 0 ∨ C n = 1) : nup C k 1 n = 0 ∨ nup C k 1 n = 1 := by
  by_cases e : n = k
  · rw [e, nup_s]; exact Or.inr rfl
  · rw [nup_n e]; exact h
theorem b1 {C : Nat → Int} {k n : Nat} (h : C n = 1) : nup C k 1 n = 1 := by
  by_cases e : n = k
  · rw [e, nup_s]
  · rw [nup_n e]; exact h
theorem Tr.hasRoot {L R P : Nat → Option Nat} {ro : Option Nat} {l : List Nat} {x : Nat} (h : Tr L R P ro none l) (hx : x ∈ l) : ∃ r, ro = some r ∧ r ∈ l := by
  cases ro with
  | none => rw [h.nil'] at hx; cases hx
  | some r => exact ⟨r, rfl, h.root.1⟩
end BITS01

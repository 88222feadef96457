/-! TREES: what follows a node -/
section AFT
variable {L R P : Nat → Option Nat} {o par : Option Nat} {l : List Nat}
theorem nd_uniq {x : Nat} : ∀ {a a' b b' : List Nat}, (a ++ x :: b).Nodup → a ++ x :: b = a' ++ x :: b' → a = a' ∧ b = b'
  | [], [], b, b', _, e => ⟨rfl, by simpa using e⟩
  | [], y :: a', b, b', h, e => by
    obtain ⟨e1, e2⟩ := List.cons.inj e
    subst e1
    have h2 := (List.nodup_cons.mp h).1
    rw [show b = a' ++ x :: b' from e2] at h2
    exact absurd (by simp) h2
  | y :: a, [], b, b', h, e => by
    obtain ⟨e1, e2⟩ := List.cons.inj e
    subst e1
    have h2 := (List.nodup_cons.mp h).1
    exact absurd (by simp) h2
  | y :: a, z :: a', b, b', h, e => by
    obtain ⟨e1, e2⟩ := List.cons.inj e
    obtain ⟨i1, i2⟩ := nd_uniq (List.nodup_cons.mp h).2 e2
    exact ⟨by rw [e1, i1], i2⟩
theorem Tr.aft (h : Tr L R P o par l) : ∀ c, c ∈ l → ∃ a lt b, l = a ++ (lt ++ b) ∧ Tr L R P (some c) (P c) lt ∧ ((o = some c ∧ b = [] ∧ P c = par) ∨ ∃ q, q ∈ l ∧ P c = some q ∧ ((L q = some c ∧ R q ≠ some c ∧ ∃ b', b = q :: b') ∨ (R q = some c ∧ ∃ aq lq, l = aq ++ (lq ++ b) ∧ Tr L R P (some q) (P q) lq))) ∨ ¬ l.Nodup := by
  induction h using Tr.ind with
  | nil _ => intro c hc; cases hc
  | @node n par l1 l2 hp h1 h2 i1 i2 =>
    intro c hc
    by_cases hnd : (l1 ++ n :: l2).Nodup
    · obtain ⟨n1, n2, a1, a2, d⟩ := nd_split hnd
      rcases List.mem_append.mp hc with hc | hc
      · obtain ⟨a, lt, b, hh⟩ := i1 c hc
        rcases hh with ⟨e, t, q⟩ | hh
        · refine ⟨a, lt, b ++ n :: l2, Or.inl ⟨by rw [e]; simp, t, ?_⟩⟩
          rcases q with ⟨q1, q2, q3⟩ | ⟨q, q1, q2, q3⟩
          · refine Or.inr ⟨n, by simp, q3, Or.inl ⟨q1, fun z => ?_, l2, by rw [q2]; rfl⟩⟩
            rw [z] at h2; exact d c hc h2.root.1
          · refine Or.inr ⟨q, by simp [q1], q2, ?_⟩
            rcases q3 with ⟨z1, z2, b', z3⟩ | ⟨z1, aq, lq, z2, z3⟩
            · exact Or.inl ⟨z1, z2, b' ++ n :: l2, by rw [z3]; rfl⟩
            · exact Or.inr ⟨z1, aq, lq, by rw [z2]; simp, z3⟩
        · exact absurd n1 hh
      · rcases List.mem_cons.mp hc with hc | hc
        · subst hc
          exact ⟨[], l1 ++ c :: l2, [], Or.inl ⟨by simp, by rw [hp]; exact Tr.node hp h1 h2, Or.inl ⟨rfl, rfl, hp⟩⟩⟩
        · obtain ⟨a, lt, b, hh⟩ := i2 c hc
          rcases hh with ⟨e, t, q⟩ | hh
          · refine ⟨l1 ++ n :: a, lt, b, Or.inl ⟨by rw [e]; simp, t, ?_⟩⟩
            rcases q with ⟨q1, q2, q3⟩ | ⟨q, q1, q2, q3⟩
            · refine Or.inr ⟨n, by simp, q3, Or.inr ⟨q1, [], l1 ++ n :: l2, by rw [q2]; simp, by rw [hp]; exact Tr.node hp h1 h2⟩⟩
            · refine Or.inr ⟨q, by simp [q1], q2, ?_⟩
              rcases q3 with ⟨z1, z2, b', z3⟩ | ⟨z1, aq, lq, z2, z3⟩
              · exact Or.inl ⟨z1, z2, b', z3⟩
              · exact Or.inr ⟨z1, l1 ++ n :: aq, lq, by rw [z2]; simp, z3⟩
          · exact absurd n2 hh
    · exact ⟨[], [], [], Or.inr hnd⟩
/-- b is what follows the nodes below c -/
def AF (L R P : Nat → Option Nat) (l : List Nat) (c : Nat) (b : List Nat) : Prop := ∃ a lt, l = a ++ (lt ++ b) ∧ Tr L R P (some c) (P c) lt
theorem AF.step {ro : Option Nat} {c : Nat} {b : List Nat} (h : Tr L R P ro none l) (hn : l.Nodup) (hA : AF L R P l c b) : (P c = none → b = []) ∧ ∀ q, P c = some q → q ∈ l ∧ (R q = some c → AF L R P l q b) ∧ (¬ R q = some c → b.head? = some q) := by
  obtain ⟨a, lt, e, t⟩ := hA
  obtain ⟨u, v, el, -, -, -⟩ := t.inv
  have hc : c ∈ l := by rw [e, el]; simp
  obtain ⟨a2, lt2, b2, hh⟩ := h.aft c hc
  rcases hh with ⟨e2, t2, q⟩ | hh
  · have ed : lt2 = lt := t.det t2
    subst ed
    have hb : b = b2 := by
      have h3 : (a ++ u) ++ c :: (v ++ b) = (a2 ++ u) ++ c :: (v ++ b2) := by
        have : a ++ (lt2 ++ b) = a2 ++ (lt2 ++ b2) := e ▸ e2
        rw [el] at this
        simpa using this
      have h4 : ((a ++ u) ++ c :: (v ++ b)).Nodup := by
        have : l = (a ++ u) ++ c :: (v ++ b) := by rw [e, el]; simp
        rw [← this]; exact hn
      have h5 := (nd_uniq h4 h3).2
      exact List.append_cancel_left h5
    subst hb
    rcases q with ⟨q1, q2, q3⟩ | ⟨q, q1, q2, q3⟩
    · exact ⟨fun _ => q2, (fun z hz => by rw [q3] at hz; cases hz)⟩
    · refine ⟨(fun z => by rw [z] at q2; cases q2), fun z hz => ?_⟩
      have ez : q = z := Option.some.inj (q2.symm.trans hz)
      subst ez
      refine ⟨q1, fun hr => ?_, fun hr => ?_⟩
      · rcases q3 with ⟨z1, z2, z3⟩ | ⟨z1, aq, lq, z2, z3⟩
        · exact absurd hr z2
        · exact ⟨aq, lq, z2, z3⟩
      · rcases q3 with ⟨z1, z2, b', z3⟩ | ⟨z1, -⟩
        · rw [z3]; rfl
        · exact absurd z1 hr
  · exact absurd hn hh
/-- a node with what lies below it at its right -/
theorem Tr.at {ro : Option Nat} {n : Nat} {a b : List Nat} (h : Tr L R P ro none l) (hn : l.Nodup) (e : l = a ++ n :: b) : ∃ l2 b0, b = l2 ++ b0 ∧ Tr L R P (R n) (some n) l2 ∧ (R n = none → AF L R P l n b) := by
  obtain ⟨a2, lt, b2, hh⟩ := h.aft n (by rw [e]; simp)
  rcases hh with ⟨e2, t, -⟩ | hh
  · obtain ⟨u, v, el, -, -, t2⟩ := t.inv
    have h3 : a ++ n :: b = (a2 ++ u) ++ n :: (v ++ b2) := by rw [← e, e2, el]; simp
    have hb := (nd_uniq (by rw [← e]; exact hn) h3).2
    refine ⟨v, b2, hb, t2, fun z => ?_⟩
    rw [z] at t2
    have ev := t2.nil'
    subst ev
    rw [hb]
    exact ⟨a2, lt, e2, t⟩
  · exact absurd hn hh
end AFT
def NV (m : Nat) (l : List Nat) (w : wa_W) (nv : Option Nat) : Prop := ∀ ks, nv = some ks → Lt m l w ks (eO 20 [.ref m])
theorem NV.fr {m : Nat} {l : List Nat} {w u : wa_W} {nv : Option Nat} (h : NV m l w nv) (k : Fr m l w u) : NV m l u nv := fun ks e => (h ks e).fr k
theorem At.off {w u : wa_W} {a q : Nat} {x : wa_E} (h : At w a x) (k : Off q w u) (ne : a ≠ q) : At u a x := k a x ne h
section TNo
variable {w u : wa_W} {m q : Nat} {l : List Nat} {K V : Nat → Nat} {L R P : Nat → Option Nat} {C : Nat → Int} {ro : Option Nat} {si mo : Int} {nv : Option Nat}
theorem TN.off (h : TN w m l K V L R P C ro si mo nv) (k : Off q w u) (h1 : q ≠ m) (h2 : q ∉ l) : TN u m l K V L R P C ro si mo nv := ⟨k _ _ (fun e => h1 e.symm) h.1, fun n hn => k _ _ (fun e => h2 (e ▸ hn)) (h.2 n hn)⟩
theorem Fr.no (k : Fr m l w u) (h : TN u m l K V L R P C ro si mo nv) (hn : u q = none) : w q = none := by
  cases e : w q with
  | none => rfl
  | some x =>
    have h2 := k q x (h.fresh hn).1 (h.fresh hn).2 e
    rw [hn] at h2; cases h2
end TNo
section GETs
variable {κ : Nat → KT} {k0 : KT} {l a1 b1 l1 l2 : List Nat} {t n : Nat}
theorem get_p (hso : l.Pairwise (fun x y => kv (κ x) < kv (κ y))) (hl : l = a1 ++ (l1 ++ t :: l2) ++ b1) : (∀ x, x ∈ l1 → kv (κ x) < kv (κ t)) ∧ ∀ x, x ∈ l2 → kv (κ t) < kv (κ x) := by
  rw [hl, List.append_assoc, List.pairwise_append] at hso
  have h2 := hso.2.1
  rw [List.append_assoc, List.pairwise_append] at h2
  exact ⟨fun x h => h2.2.2 x h t (by simp), fun x h => (List.pairwise_cons.mp h2.2.1).1 x (by simp [h])⟩
theorem get_l (hso : l.Pairwise (fun x y => kv (κ x) < kv (κ y))) (hl : l = a1 ++ (l1 ++ t :: l2) ++ b1) (hn : kv (κ n) = kv k0) (h : kv k0 < kv (κ t)) (hm : n ∈ l1 ++ t :: l2) : n ∈ l1 := by
  obtain ⟨p1, p2⟩ := get_p hso hl
  rcases List.mem_append.mp hm with q | q
  · exact q
  · rcases List.mem_cons.mp q with q | q
    · rw [q] at hn; omega
    · have := p2 n q; omega
theorem get_r (hso : l.Pairwise (fun x y => kv (κ x) < kv (κ y))) (hl : l = a1 ++ (l1 ++ t :: l2) ++ b1) (hn : kv (κ n) = kv k0) (h : kv (κ t) < kv k0) (hm : n ∈ l1 ++ t :: l2) : n ∈ l2 := by
  obtain ⟨p1, p2⟩ := get_p hso hl
  rcases List.mem_append.mp hm with q | q
  · have := p1 n q; omega
  · rcases List.mem_cons.mp q with q | q
    · rw [q] at hn; omega
    · exact q
theorem get_e (hso : l.Pairwise (fun x y => kv (κ x) < kv (κ y))) (hl : l = a1 ++ (l1 ++ t :: l2) ++ b1) (hn : kv (κ n) = kv k0) {z : Int} (hc : (z < 0 ↔ kv k0 < kv (κ t)) ∧ (0 < z ↔ kv (κ t) < kv k0) ∧ -10000 ≤ z ∧ z ≤ 10000) (h1 : 0 ≤ z) (h2 : z ≤ 0) (hm : n ∈ l1 ++ t :: l2) : t = n := by
  obtain ⟨p1, p2⟩ := get_p hso hl
  have e : kv k0 = kv (κ t) := by
    have c1 := hc.1
    have c2 := hc.2.1
    omega
  rcases List.mem_append.mp hm with q | q
  · have := p1 n q; omega
  · rcases List.mem_cons.mp q with q | q
    · exact q.symm
    · have := p2 n q; omega
end GETs

/-! TREES: what the nodes' links say; l is the nodes in order -/
def TrN (L R P : Nat → Option Nat) : Nat → Option Nat → Option Nat → List Nat → Prop
  | _, none, _, l => l = []
  | 0, some _, _, _ => False
  | k + 1, some n, par, l => ∃ l1 l2, l = l1 ++ n :: l2 ∧ P n = par ∧ TrN L R P k (L n) (some n) l1 ∧ TrN L R P k (R n) (some n) l2
theorem TrN.mono {L R P : Nat → Option Nat} : ∀ {k m : Nat} {o par : Option Nat} {l : List Nat}, k ≤ m → TrN L R P k o par l → TrN L R P m o par l
  | k, m, none, par, l, _, h => by
    have e : l = [] := by cases k <;> exact h
    cases m <;> exact e
  | 0, m, some n, par, l, _, h => h.elim
  | k + 1, 0, some n, par, l, q, h => absurd q (by omega)
  | k + 1, m + 1, some n, par, l, q, h => by
    obtain ⟨l1, l2, e, hp, h1, h2⟩ := h
    exact ⟨l1, l2, e, hp, TrN.mono (by omega) h1, TrN.mono (by omega) h2⟩
def Tr (L R P : Nat → Option Nat) (o par : Option Nat) (l : List Nat) : Prop := ∃ k, TrN L R P k o par l
theorem Tr.nil {L R P : Nat → Option Nat} (par : Option Nat) : Tr L R P none par [] := ⟨0, rfl⟩
theorem Tr.node {L R P : Nat → Option Nat} {n : Nat} {par : Option Nat} {l1 l2 : List Nat} (hp : P n = par) (h1 : Tr L R P (L n) (some n) l1) (h2 : Tr L R P (R n) (some n) l2) : Tr L R P (some n) par (l1 ++ n :: l2) := by
  obtain ⟨k1, h1⟩ := h1
  obtain ⟨k2, h2⟩ := h2
  exact ⟨max k1 k2 + 1, l1, l2, rfl, hp, h1.mono (by omega), h2.mono (by omega)⟩
theorem Tr.inv {L R P : Nat → Option Nat} {n : Nat} {par : Option Nat} {l : List Nat} (h : Tr L R P (some n) par l) : ∃ l1 l2, l = l1 ++ n :: l2 ∧ P n = par ∧ Tr L R P (L n) (some n) l1 ∧ Tr L R P (R n) (some n) l2 := by
  obtain ⟨k, h⟩ := h
  cases k with
  | zero => exact h.elim
  | succ k =>
    obtain ⟨l1, l2, e, hp, h1, h2⟩ := h
    exact ⟨l1, l2, e, hp, ⟨k, h1⟩, ⟨k, h2⟩⟩
theorem Tr.nil' {L R P : Nat → Option Nat} {par : Option Nat} {l : List Nat} (h : Tr L R P none par l) : l = [] := by
  obtain ⟨k, h⟩ := h
  cases k <;> exact h
theorem Tr.ind {L R P : Nat → Option Nat} {motive : (o par : Option Nat) → (l : List Nat) → Tr L R P o par l → Prop} (nil : ∀ par, motive none par [] (Tr.nil par)) (node : ∀ {n : Nat} {par : Option Nat} {l1 l2 : List Nat} (hp : P n = par) (h1 : Tr L R P (L n) (some n) l1) (h2 : Tr L R P (R n) (some n) l2), motive (L n) (some n) l1 h1 → motive (R n) (some n) l2 h2 → motive (some n) par (l1 ++ n :: l2) (Tr.node hp h1 h2)) {o par : Option Nat} {l : List Nat} (h : Tr L R P o par l) : motive o par l h := by
  obtain ⟨k, hk⟩ := h
  induction k generalizing o par l with
  | zero =>
    cases o with
    | none => cases hk; exact nil par
    | some n => exact hk.elim
  | succ k ih =>
    cases o with
    | none => cases hk; exact nil par
    | some n =>
      obtain ⟨l1, l2, e, hp, h1, h2⟩ := hk
      subst e
      exact node hp ⟨k, h1⟩ ⟨k, h2⟩ (ih h1) (ih h2)
theorem nd_split {l1 l2 : List Nat} {n : Nat} (h : (l1 ++ n :: l2).Nodup) : l1.Nodup ∧ l2.Nodup ∧ n ∉ l1 ∧ n ∉ l2 ∧ ∀ a, a ∈ l1 → a ∉ l2 := by
  rw [List.nodup_append] at h
  obtain ⟨h1, h2, h3⟩ := h
  rw [List.nodup_cons] at h2
  exact ⟨h1, h2.2, fun q => h3 n q n (List.mem_cons_self) rfl, h2.1, fun a q r => h3 a q a (List.mem_cons_of_mem _ r) rfl⟩
theorem nd_rev {l : List Nat} (h : l.Nodup) : l.reverse.Nodup := by
  unfold List.Nodup at *
  rw [List.pairwise_reverse]
  exact h.imp Ne.symm
section TREE
variable {L R P L' R' P' : Nat → Option Nat} {o par : Option Nat} {l : List Nat}
theorem Tr.congr (h : Tr L R P o par l) : (∀ n, n ∈ l → L' n = L n ∧ R' n = R n ∧ P' n = P n) → Tr L' R' P' o par l := by
  induction h using Tr.ind with
  | nil par => intro _; exact Tr.nil par
  | @node n par l1 l2 hp h1 h2 i1 i2 =>
    intro e
    have en := e n (by simp)
    refine Tr.node (by rw [en.2.2]; exact hp) ?_ ?_
    · rw [en.1]; exact i1 fun m hm => e m (by simp [hm])
    · rw [en.2.1]; exact i2 fun m hm => e m (by simp [hm])
theorem Tr.rep {par' : Option Nat} (h : Tr L R P o par l) (hn : l.Nodup) (eL : ∀ n, n ∈ l → L' n = L n ∧ R' n = R n) (eP : ∀ n, n ∈ l → o ≠ some n → P' n = P n) (eo : ∀ x, o = some x → P' x = par') : Tr L' R' P' o par' l := by
  cases o with
  | none => rw [h.nil']; exact Tr.nil par'
  | some n =>
    obtain ⟨l1, l2, el, hp, h1, h2⟩ := h.inv
    subst el
    obtain ⟨n1, n2, a1, a2, d⟩ := nd_split hn
    have en := eL n (by simp)
    refine Tr.node (eo n rfl) ?_ ?_
    · rw [en.1]; exact h1.congr fun m hm => ⟨(eL m (by simp [hm])).1, (eL m (by simp [hm])).2, eP m (by simp [hm]) fun q => a1 (by cases q; exact hm)⟩
    · rw [en.2]; exact h2.congr fun m hm => ⟨(eL m (by simp [hm])).1, (eL m (by simp [hm])).2, eP m (by simp [hm]) fun q => a2 (by cases q; exact hm)⟩
theorem Tr.root {x : Nat} (h : Tr L R P (some x) par l) : x ∈ l ∧ P x = par := by
  obtain ⟨l1, l2, el, hp, h1, h2⟩ := h.inv
  exact ⟨by rw [el]; simp, hp⟩
theorem Tr.kid (h : Tr L R P o par l) : ∀ p, p ∈ l → (∀ r, R p = some r → r ∈ l ∧ P r = some p) ∧ ∀ r, L p = some r → r ∈ l ∧ P r = some p := by
  induction h using Tr.ind with
  | nil _ => intro p hp; cases hp
  | @node n par l1 l2 hp h1 h2 i1 i2 =>
    intro p q
    rcases List.mem_append.mp q with q | q
    · exact ⟨fun r e => ⟨by simp [((i1 p q).1 r e).1], ((i1 p q).1 r e).2⟩, fun r e => ⟨by simp [((i1 p q).2 r e).1], ((i1 p q).2 r e).2⟩⟩
    · rcases List.mem_cons.mp q with q | q
      · subst q
        refine ⟨fun r e => ?_, fun r e => ?_⟩
        · rw [e] at h2; exact ⟨by simp [h2.root.1], h2.root.2⟩
        · rw [e] at h1; exact ⟨by simp [h1.root.1], h1.root.2⟩
      · exact ⟨fun r e => ⟨by simp [((i2 p q).1 r e).1], ((i2 p q).1 r e).2⟩, fun r e => ⟨by simp [((i2 p q).2 r e).1], ((i2 p q).2 r e).2⟩⟩
theorem Tr.up (h : Tr L R P o par l) : ∀ p, p ∈ l → (o = some p ∧ P p = par) ∨ ∃ q, q ∈ l ∧ P p = some q ∧ (L q = some p ∨ R q = some p) := by
  induction h using Tr.ind with
  | nil _ => intro p hp; cases hp
  | @node n par l1 l2 hp h1 h2 i1 i2 =>
    intro p q
    rcases List.mem_append.mp q with q | q
    · rcases i1 p q with ⟨e, f⟩ | ⟨z, z1, z2, z3⟩
      · exact Or.inr ⟨n, by simp, f, Or.inl e⟩
      · exact Or.inr ⟨z, by simp [z1], z2, z3⟩
    · rcases List.mem_cons.mp q with q | q
      · subst q; exact Or.inl ⟨rfl, hp⟩
      · rcases i2 p q with ⟨e, f⟩ | ⟨z, z1, z2, z3⟩
        · exact Or.inr ⟨n, by simp, f, Or.inr e⟩
        · exact Or.inr ⟨z, by simp [z1], z2, z3⟩
theorem Tr.det (h : Tr L R P o par l) : ∀ {par' : Option Nat} {l' : List Nat}, Tr L R P o par' l' → l' = l := by
  induction h using Tr.ind with
  | nil _ => intro _ _ h; exact h.nil'
  | @node n par l1 l2 hp h1 h2 i1 i2 =>
    intro _ _ h
    obtain ⟨m1, m2, el, hp', k1, k2⟩ := h.inv
    rw [el, i1 k1, i2 k2]
theorem Tr.mirror (h : Tr L R P o par l) : Tr R L P o par l.reverse := by
  induction h using Tr.ind with
  | nil par => exact Tr.nil par
  | @node n par l1 l2 hp h1 h2 i1 i2 =>
    have e : (l1 ++ n :: l2).reverse = l2.reverse ++ n :: l1.reverse := by simp
    rw [e]; exact Tr.node hp i2 i1
/-- what a turn to the left at p does to the links -/
def rtL (L P : Nat → Option Nat) (p r : Nat) : Nat → Option Nat := fun n => if n = r then some p else if P p = some n ∧ L n = some p then some r else L n
def rtR (L R P : Nat → Option Nat) (p r : Nat) : Nat → Option Nat := fun n => if n = p then L r else if P p = some n ∧ ¬ L n = some p then some r else R n
def rtP (L P : Nat → Option Nat) (p r : Nat) : Nat → Option Nat := fun n => if n = p then some r else if n = r then P p else if L r = some n then some p else P n
theorem Tr.rotL {p r : Nat} (hr : R p = some r) (h : Tr L R P o par l) : l.Nodup → p ∈ l → (∀ q, par = some q → q ∉ l) → (∀ n, n ∈ l → L' n = rtL L P p r n ∧ R' n = rtR L R P p r n ∧ P' n = rtP L P p r n) → Tr L' R' P' (if o = some p then some r else o) par l := by
  induction h using Tr.ind with
  | nil _ => intro _ hp; cases hp
  | @node n par l1 l2 hpn h1 h2 i1 i2 =>
    intro hn hp hpar e
    obtain ⟨n1, n2, a1, a2, d⟩ := nd_split hn
    by_cases hnp : n = p
    · subst hnp
      rw [if_pos rfl]
      rw [hr] at h2
      obtain ⟨m1, m2, el, hp2, k1, k2⟩ := h2.inv
      subst el
      · obtain ⟨c1, c2, b1, b2, d2⟩ := nd_split n2
        have hPn : ∀ m, m ∈ l1 ++ n :: (m1 ++ r :: m2) → P n ≠ some m := fun m hm q => hpar m (by rw [← hpn]; exact q) hm
        have nr : n ≠ r := fun q => a2 (by rw [q]; simp)
        have hLr : ∀ m, m ∉ m1 → L r ≠ some m := fun m hm q => hm (by rw [q] at k1; exact k1.root.1)
        have e0 : ∀ m, m ∈ l1 ++ n :: (m1 ++ r :: m2) → m ≠ n → m ≠ r → m ∉ m1 → L' m = L m ∧ R' m = R m ∧ P' m = P m := by
          intro m hm q1 q2 q3
          have em := e m hm
          unfold rtL rtR rtP at em
          rw [if_neg q2, if_neg (fun z => hPn m hm z.1), if_neg q1, if_neg (fun z => hPn m hm z.1), if_neg q1, if_neg q2, if_neg (hLr m q3)] at em
          exact em
        have er := e r (by simp)
        have en := e n (by simp)
        unfold rtL rtR rtP at er en
        rw [if_pos rfl, if_neg (Ne.symm nr), if_neg (fun z => hPn r (by simp) z.1), if_neg (Ne.symm nr), if_pos rfl] at er
        rw [if_neg nr, if_neg (fun z => hPn n (by simp) z.1), if_pos rfl, if_pos rfl] at en
        have es : l1 ++ n :: (m1 ++ r :: m2) = (l1 ++ n :: m1) ++ r :: m2 := by simp
        rw [es]
        refine Tr.node (by rw [er.2.2]; exact hpn) ?_ ?_
        · rw [er.1]
          refine Tr.node en.2.2 ?_ ?_
          · rw [en.1]
            exact h1.congr fun m hm => e0 m (by simp [hm]) (fun q => a1 (q ▸ hm)) (fun q => d r (q ▸ hm) (by simp)) (fun q => d m hm (by simp [q]))
          · rw [en.2.1]
            refine k1.rep c1 (fun m hm => ?_) (fun m hm q => ?_) (fun x hx => ?_)
            · have em := e m (by simp [hm])
              unfold rtL rtR at em
              have mr : m ≠ r := fun q => b1 (q ▸ hm)
              have mn : m ≠ n := fun q => a2 (by rw [← q]; simp [hm])
              have mp := hPn m (by simp [hm])
              rw [if_neg mr, if_neg (fun z => mp z.1), if_neg mn, if_neg (fun z => mp z.1)] at em
              exact ⟨em.1, em.2.1⟩
            · have em := (e m (by simp [hm])).2.2
              unfold rtP at em
              have mr : m ≠ r := fun q => b1 (q ▸ hm)
              have mn : m ≠ n := fun q => a2 (by rw [← q]; simp [hm])
              rw [if_neg mn, if_neg mr, if_neg q] at em
              exact em
            · have hm : x ∈ m1 := by rw [hx] at k1; exact k1.root.1
              have em := (e x (by simp [hm])).2.2
              unfold rtP at em
              have mr : x ≠ r := fun q => b1 (q ▸ hm)
              have mn : x ≠ n := fun q => a2 (by rw [← q]; simp [hm])
              rw [if_neg mn, if_neg mr, if_pos hx] at em
              exact em
        · rw [er.2.1]
          exact k2.congr fun m hm => e0 m (by simp [hm]) (fun q => a2 (by rw [← q]; simp [hm])) (fun q => b2 (q ▸ hm)) (fun q => d2 m q hm)
    · rw [if_neg (fun q => hnp (Option.some.inj q))]
      have hp' : p ∈ l1 ∨ p ∈ l2 := by
        rcases List.mem_append.mp hp with q | q
        · exact Or.inl q
        · rcases List.mem_cons.mp q with q | q
          · exact absurd q.symm hnp
          · exact Or.inr q
      have en := e n (by simp)
      unfold rtL rtR rtP at en
      rw [if_neg hnp, if_neg hnp] at en
      rcases hp' with hp' | hp'
      · have hrm : r ∈ l1 := ((h1.kid p hp').1 r hr).1
        have hx : ∀ x, L r = some x → x ∈ l1 := fun x q => ((h1.kid r hrm).2 x q).1
        have hup := h1.up p hp'
        have i := i1 n1 hp' (fun q z => by cases z; exact a1) (fun m hm => e m (by simp [hm]))
        have nr : n ≠ r := fun q => a1 (q ▸ hrm)
        rw [if_neg nr, if_neg nr, if_neg (fun q => a1 (hx n q))] at en
        refine Tr.node (by rw [en.2.2]; exact hpn) ?_ ?_
        · have el : L' n = (if L n = some p then some r else L n) := by
            rw [en.1]
            by_cases q : L n = some p
            · rw [if_pos q]
              rw [q] at h1
              rw [if_pos ⟨h1.root.2, q⟩]
            · rw [if_neg q, if_neg (fun z => q z.2)]
          rw [el]; exact i
        · have er : R' n = R n := by
            rw [en.2.1, if_neg]
            intro z
            rcases hup with ⟨q1, q2⟩ | ⟨q, q1, q2, q3⟩
            · exact z.2 q1
            · rw [z.1] at q2; cases q2; exact a1 q1
          rw [er]
          refine h2.congr fun m hm => ?_
          have em := e m (by simp [hm])
          have hPm : P p ≠ some m := fun z => by
            rcases hup with ⟨q1, q2⟩ | ⟨q, q1, q2, q3⟩
            · rw [z] at q2; cases q2; exact a2 hm
            · rw [z] at q2; cases q2; exact d m q1 hm
          unfold rtL rtR rtP at em
          have mr : m ≠ r := fun q => d r hrm (q ▸ hm)
          have mp : m ≠ p := fun q => d p hp' (q ▸ hm)
          have mx : L r ≠ some m := fun q => d m (hx m q) hm
          rw [if_neg mr, if_neg (fun z => hPm z.1), if_neg mp, if_neg (fun z => hPm z.1), if_neg mp, if_neg mr, if_neg mx] at em
          exact em
      · have hrm : r ∈ l2 := ((h2.kid p hp').1 r hr).1
        have hx : ∀ x, L r = some x → x ∈ l2 := fun x q => ((h2.kid r hrm).2 x q).1
        have hup := h2.up p hp'
        have i := i2 n2 hp' (fun q z => by cases z; exact a2) (fun m hm => e m (by simp [hm]))
        have nr : n ≠ r := fun q => a2 (q ▸ hrm)
        rw [if_neg nr, if_neg nr, if_neg (fun q => a2 (hx n q))] at en
        have hLn : L n ≠ some p := fun q => by rw [q] at h1; exact d p h1.root.1 hp'
        refine Tr.node (by rw [en.2.2]; exact hpn) ?_ ?_
        · have el : L' n = L n := by rw [en.1, if_neg (fun z => hLn z.2)]
          rw [el]
          refine h1.congr fun m hm => ?_
          have em := e m (by simp [hm])
          have hPm : P p ≠ some m := fun z => by
            rcases hup with ⟨q1, q2⟩ | ⟨q, q1, q2, q3⟩
            · rw [z] at q2; cases q2; exact a1 hm
            · rw [z] at q2; cases q2; exact d m hm q1
          unfold rtL rtR rtP at em
          have mr : m ≠ r := fun q => d m hm (q ▸ hrm)
          have mp : m ≠ p := fun q => d m hm (q ▸ hp')
          have mx : L r ≠ some m := fun q => d m hm (hx m q)
          rw [if_neg mr, if_neg (fun z => hPm z.1), if_neg mp, if_neg (fun z => hPm z.1), if_neg mp, if_neg mr, if_neg mx] at em
          exact em
        · have er : R' n = (if R n = some p then some r else R n) := by
            rw [en.2.1]
            by_cases q : R n = some p
            · rw [if_pos q]
              rw [q] at h2
              rw [if_pos ⟨h2.root.2, hLn⟩]
            · rw [if_neg q, if_neg]
              intro z
              rcases hup with ⟨q1, q2⟩ | ⟨q', q1, q2, q3⟩
              · exact q q1
              · rw [z.1] at q2; cases q2; exact a2 q1
          rw [er]; exact i
theorem Tr.rotR {p r : Nat} (hr : L p = some r) (h : Tr L R P o par l) (hn : l.Nodup) (hp : p ∈ l) (hpar : ∀ q, par = some q → q ∉ l) (e : ∀ n, n ∈ l → R' n = rtL R P p r n ∧ L' n = rtR R L P p r n ∧ P' n = rtP R P p r n) : Tr L' R' P' (if o = some p then some r else o) par l := by
  have h2 := Tr.rotL (L' := R') (R' := L') (P' := P') hr h.mirror (nd_rev hn) (by simpa using hp) (fun q z => by simpa using hpar q z) (fun n hm => e n (by simpa using hm))
  have h3 := h2.mirror
  rw [List.reverse_reverse] at h3
  exact h3
/-- a new node x at the left of n -/
theorem Tr.insL {n x : Nat} (hL : L n = none) (hx : L' x = none ∧ R' x = none ∧ P' x = some n) (h : Tr L R P o par l) : l.Nodup → (∀ m, m ∈ l → L' m = (if m = n then some x else L m) ∧ R' m = R m ∧ P' m = P m) → Tr L' R' P' o par (l.flatMap fun m => if m = n then [x, m] else [m]) := by
  induction h using Tr.ind with
  | nil par => intro _ _; exact Tr.nil par
  | @node k par l1 l2 hp h1 h2 i1 i2 =>
    intro hn e
    obtain ⟨n1, n2, a1, a2, d⟩ := nd_split hn
    have ek := e k (by simp)
    rw [List.flatMap_append, List.flatMap_cons]
    by_cases q : k = n
    · subst q
      rw [if_pos rfl]
      rw [hL] at h1
      have e1 := h1.nil'
      subst e1
      have er := i2 n2 (fun m hm => e m (by simp [hm]))
      rw [if_pos rfl] at ek
      show Tr L' R' P' (some k) par ([x] ++ k :: _)
      refine Tr.node (by rw [ek.2.2]; exact hp) ?_ (by rw [ek.2.1]; exact er)
      rw [ek.1]
      exact Tr.node (l1 := []) (l2 := []) hx.2.2 (by rw [hx.1]; exact Tr.nil _) (by rw [hx.2.1]; exact Tr.nil _)
    · rw [if_neg q]
      rw [if_neg q] at ek
      exact Tr.node (by rw [ek.2.2]; exact hp) (by rw [ek.1]; exact i1 n1 fun m hm => e m (by simp [hm])) (by rw [ek.2.1]; exact i2 n2 fun m hm => e m (by simp [hm]))
theorem fm_none {n x : Nat} {l : List Nat} (h : n ∉ l) : (l.flatMap fun m => if m = n then [x, m] else [m]) = l := by
  induction l with
  | nil => rfl
  | cons a l ih =>
    rw [List.flatMap_cons, if_neg (fun q => h (by rw [q]; simp)), ih (fun q => h (by simp [q]))]; rfl
theorem Tr.insL' {n x : Nat} {a b : List Nat} (hL : L n = none) (hx : L' x = none ∧ R' x = none ∧ P' x = some n) (h : Tr L R P o par (a ++ n :: b)) (hn : (a ++ n :: b).Nodup) (e : ∀ m, m ∈ a ++ n :: b → L' m = (if m = n then some x else L m) ∧ R' m = R m ∧ P' m = P m) : Tr L' R' P' o par (a ++ x :: n :: b) := by
  have h2 := Tr.insL hL hx h hn e
  obtain ⟨n1, n2, a1, a2, d⟩ := nd_split hn
  rw [List.flatMap_append, List.flatMap_cons, if_pos rfl, fm_none a1, fm_none a2] at h2
  exact h2
theorem Tr.insR' {n x : Nat} {a b : List Nat} (hR : R n = none) (hx : L' x = none ∧ R' x = none ∧ P' x = some n) (h : Tr L R P o par (a ++ n :: b)) (hn : (a ++ n :: b).Nodup) (e : ∀ m, m ∈ a ++ n :: b → R' m = (if m = n then some x else R m) ∧ L' m = L m ∧ P' m = P m) : Tr L' R' P' o par (a ++ n :: x :: b) := by
  have hm := h.mirror
  have es : (a ++ n :: b).reverse = b.reverse ++ n :: a.reverse := by simp
  rw [es] at hm
  have h2 := Tr.insL' (L' := R') (R' := L') (P' := P') hR ⟨hx.2.1, hx.1, hx.2.2⟩ hm (by rw [← es]; exact nd_rev hn) (fun m q => e m (by rw [← es] at q; exact List.mem_reverse.mp q))
  have h3 := h2.mirror
  have e3 : (b.reverse ++ x :: n :: a.reverse).reverse = a ++ n :: x :: b := by simp
  rw [e3] at h3
  exact h3
/-- depths -/
theorem Tr.dep (h : Tr L R P o par l) : l.Nodup → (∀ q, par = some q → q ∉ l) → ∀ k : Nat, ∃ d : Nat → Nat, (∀ x, o = some x → d x = k) ∧ ∀ n, n ∈ l → k ≤ d n ∧ ∀ p, P n = some p → p ∈ l → d n = d p + 1 := by
  induction h using Tr.ind with
  | nil _ => intro _ _ k; exact ⟨fun _ => 0, ⟨(fun x h => by cases h), (fun n h => by cases h)⟩⟩
  | @node n par l1 l2 hp h1 h2 i1 i2 =>
    intro hn hpar k
    obtain ⟨n1, n2, a1, a2, d⟩ := nd_split hn
    obtain ⟨d1, e1, f1⟩ := i1 n1 (fun q z => by cases z; exact a1) (k + 1)
    obtain ⟨d2, e2, f2⟩ := i2 n2 (fun q z => by cases z; exact a2) (k + 1)
    refine ⟨fun m => if m = n then k else if m ∈ l1 then d1 m else d2 m, fun x q => ?_, fun m hm => ?_⟩
    · cases q; exact if_pos rfl
    · rcases List.mem_append.mp hm with hm | hm
      · have mn : m ≠ n := fun q => a1 (q ▸ hm)
        dsimp only
        rw [if_neg mn, if_pos hm]
        refine ⟨by have := (f1 m hm).1; omega, fun p q hq => ?_⟩
        rcases h1.up m hm with ⟨z1, z2⟩ | ⟨z, z1, z2, z3⟩
        · rw [q] at z2; cases z2
          rw [if_pos rfl]; exact e1 m z1
        · rw [q] at z2; cases z2
          have zn : p ≠ n := fun q => a1 (q ▸ z1)
          rw [if_neg zn, if_pos z1]
          exact (f1 m hm).2 p q z1
      · rcases List.mem_cons.mp hm with hm | hm
        · subst hm
          dsimp only
          rw [if_pos rfl]
          exact ⟨Nat.le_refl _, fun p q hq => absurd hq (hpar p (by rw [← hp]; exact q))⟩
        · have mn : m ≠ n := fun q => a2 (q ▸ hm)
          have m1 : m ∉ l1 := fun q => d m q hm
          dsimp only
          rw [if_neg mn, if_neg m1]
          refine ⟨by have := (f2 m hm).1; omega, fun p q hq => ?_⟩
          rcases h2.up m hm with ⟨z1, z2⟩ | ⟨z, z1, z2, z3⟩
          · rw [q] at z2; cases z2
            rw [if_pos rfl]; exact e2 m z1
          · rw [q] at z2; cases z2
            have zn : p ≠ n := fun q => a2 (q ▸ z1)
            rw [if_neg zn, if_neg (fun q => d p q z1)]
            exact (f2 m hm).2 p q z1
end TREE

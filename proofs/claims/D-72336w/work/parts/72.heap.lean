/-! HEAPS: what the order of an array with one place free says; n is the last place -/
def hpA (v : Int → Int) (n : Int) : Prop := ∀ i, 0 < i → i ≤ n → v ((i - 1) / 2) ≤ v i
def hpU (v : Int → Int) (n k : Int) : Prop := (∀ i, 0 < i → i ≤ n → i ≠ k → v ((i - 1) / 2) ≤ v i) ∧ ∀ i, 0 < i → i ≤ n → (i - 1) / 2 = k → 0 < k → v ((k - 1) / 2) ≤ v i
def hpD (v : Int → Int) (n k : Int) : Prop := (∀ i, 0 < i → i ≤ n → (i - 1) / 2 ≠ k → v ((i - 1) / 2) ≤ v i) ∧ (0 < k → ∀ i, 0 < i → i ≤ n → (i - 1) / 2 = k → v ((k - 1) / 2) ≤ v i)
/-- the places i and j change their contents -/
def swp {α : Type} (h : Int → α) (i j : Int) : Int → α := fun q => if q = i then h j else if q = j then h i else h q
theorem swp_i {α : Type} {h : Int → α} {i j : Int} : swp h i j i = h j := if_pos rfl
theorem swp_j {α : Type} {h : Int → α} {i j : Int} : swp h i j j = h i := by
  unfold swp
  by_cases e : j = i
  · rw [if_pos e, e]
  · rw [if_neg e, if_pos rfl]
theorem swp_n {α : Type} {h : Int → α} {i j q : Int} (h1 : q ≠ i) (h2 : q ≠ j) : swp h i j q = h q := by
  unfold swp; rw [if_neg h1, if_neg h2]
theorem hpU.step {v : Int → Int} {n k p : Int} (h : hpU v n k) (hk : 0 < k ∧ k ≤ n) (hp : p = (k - 1) / 2) (hlt : v k < v p) : hpU (swp v k p) n p := by
  obtain ⟨h1, h2⟩ := h
  have pk : p ≠ k := by omega
  refine ⟨fun i i1 i2 i3 => ?_, fun i i1 i2 i3 i4 => ?_⟩
  · by_cases e : i = k
    · subst e
      rw [← hp, swp_j, swp_i]; omega
    · rw [swp_n (q := i) e i3]
      by_cases e2 : (i - 1) / 2 = k
      · rw [e2, swp_i]
        have := h2 i i1 i2 e2 hk.1
        rw [← hp] at this; exact this
      · by_cases e3 : (i - 1) / 2 = p
        · rw [e3, swp_j]
          have := h1 i i1 i2 e
          rw [e3] at this; omega
        · rw [swp_n e2 e3]; exact h1 i i1 i2 e
  · have q1 : (p - 1) / 2 ≠ k := by omega
    have q2 : (p - 1) / 2 ≠ p := by omega
    rw [swp_n q1 q2]
    have hpp := h1 p i4 (by omega) pk
    by_cases e : i = k
    · subst e; rw [swp_i]; exact hpp
    · have e5 : i ≠ p := by omega
      rw [swp_n e e5]
      have := h1 i i1 i2 e
      rw [i3] at this; omega
theorem hpU.done {v : Int → Int} {n k : Int} (h : hpU v n k) (hd : k ≤ 0 ∨ v ((k - 1) / 2) ≤ v k) : hpA v n := fun i i1 i2 => by
  by_cases e : i = k
  · subst e
    rcases hd with q | q
    · omega
    · exact q
  · exact h.1 i i1 i2 e
theorem hpD.step {v : Int → Int} {n k c : Int} (h : hpD v n k) (hc : 0 < c ∧ c ≤ n) (hk : 0 ≤ k) (hck : (c - 1) / 2 = k) (hlt : v c < v k) (hm : ∀ i, 0 < i → i ≤ n → (i - 1) / 2 = k → v c ≤ v i) : hpD (swp v k c) n c := by
  obtain ⟨h1, h2⟩ := h
  have kc : k ≠ c := by omega
  refine ⟨fun i i1 i2 i3 => ?_, fun _ i i1 i2 i3 => ?_⟩
  · by_cases e : i = c
    · subst e
      rw [hck, swp_i, swp_j]; omega
    · by_cases e2 : i = k
      · subst e2
        have q1 : (i - 1) / 2 ≠ i := by omega
        rw [swp_i, swp_n q1 i3]
        exact h2 i1 c hc.1 hc.2 hck
      · rw [swp_n (q := i) e2 e]
        by_cases e3 : (i - 1) / 2 = k
        · rw [e3, swp_i]; exact hm i i1 i2 e3
        · rw [swp_n e3 i3]; exact h1 i i1 i2 e3
  · have e1 : i ≠ k := by omega
    have e2 : i ≠ c := by omega
    rw [hck, swp_i, swp_n e1 e2]
    have := h1 i i1 i2 (by omega)
    rw [i3] at this; exact this
theorem hpD.done {v : Int → Int} {n k : Int} (h : hpD v n k) (hm : ∀ i, 0 < i → i ≤ n → (i - 1) / 2 = k → v k ≤ v i) : hpA v n := fun i i1 i2 => by
  by_cases e : (i - 1) / 2 = k
  · rw [e]; exact hm i i1 i2 e
  · exact h.1 i i1 i2 e
theorem hpA.min {v : Int → Int} {n : Int} (h : hpA v n) : ∀ (m : Nat) (i : Int), 0 ≤ i → i ≤ n → i.toNat ≤ m → v 0 ≤ v i
  | 0, i, h0, h1, h2 => by
    have : i = 0 := by omega
    rw [this]; exact Int.le_refl _
  | m + 1, i, h0, h1, h2 => by
    by_cases e : i = 0
    · rw [e]; exact Int.le_refl _
    · have h3 := hpA.min h m ((i - 1) / 2) (by omega) (by omega) (by omega)
      have h4 := h i (by omega) h1
      omega
/-- the same things at the places 0 .. n, and still apart -/
def PM (h g : Int → Nat) (n : Int) : Prop := (∀ a, (∃ i, 0 ≤ i ∧ i ≤ n ∧ g i = a) ↔ ∃ i, 0 ≤ i ∧ i ≤ n ∧ h i = a) ∧ ((∀ i j, 0 ≤ i → i ≤ n → 0 ≤ j → j ≤ n → h i = h j → i = j) → ∀ i j, 0 ≤ i → i ≤ n → 0 ≤ j → j ≤ n → g i = g j → i = j)
theorem PM.rf {h : Int → Nat} {n : Int} : PM h h n := ⟨fun _ => Iff.rfl, fun h => h⟩
theorem PM.trans {f g h : Int → Nat} {n : Int} (a : PM f g n) (b : PM g h n) : PM f h n := ⟨fun x => (b.1 x).trans (a.1 x), fun i => b.2 (a.2 i)⟩
theorem PM.sw {h : Int → Nat} {n i j : Int} (hi : 0 ≤ i ∧ i ≤ n) (hj : 0 ≤ j ∧ j ≤ n) : PM h (swp h i j) n := by
  refine ⟨fun a => ⟨fun q => ?_, fun q => ?_⟩, fun inj a b a1 a2 b1 b2 e => ?_⟩
  · obtain ⟨q, q1, q2, q3⟩ := q
    by_cases e : q = i
    · rw [e, swp_i] at q3; exact ⟨j, hj.1, hj.2, q3⟩
    · by_cases e2 : q = j
      · rw [e2, swp_j] at q3; exact ⟨i, hi.1, hi.2, q3⟩
      · rw [swp_n e e2] at q3; exact ⟨q, q1, q2, q3⟩
  · obtain ⟨q, q1, q2, q3⟩ := q
    by_cases e : q = i
    · exact ⟨j, hj.1, hj.2, by rw [swp_j, ← e]; exact q3⟩
    · by_cases e2 : q = j
      · exact ⟨i, hi.1, hi.2, by rw [swp_i, ← e2]; exact q3⟩
      · exact ⟨q, q1, q2, by rw [swp_n e e2]; exact q3⟩
  · have key : ∀ x, 0 ≤ x → x ≤ n → ∃ y, 0 ≤ y ∧ y ≤ n ∧ swp h i j x = h y ∧ ((x = i ∧ y = j) ∨ (x ≠ i ∧ x = j ∧ y = i) ∨ (x ≠ i ∧ x ≠ j ∧ y = x)) := by
      intro x x1 x2
      by_cases e : x = i
      · exact ⟨j, hj.1, hj.2, by rw [e, swp_i], Or.inl ⟨e, rfl⟩⟩
      · by_cases e2 : x = j
        · exact ⟨i, hi.1, hi.2, by rw [e2, swp_j], Or.inr (Or.inl ⟨e, e2, rfl⟩)⟩
        · exact ⟨x, x1, x2, by rw [swp_n e e2], Or.inr (Or.inr ⟨e, e2, rfl⟩)⟩
    obtain ⟨y1, p1, p2, p3, p4⟩ := key a a1 a2
    obtain ⟨y2, r1, r2, r3, r4⟩ := key b b1 b2
    have := inj y1 y2 p1 p2 r1 r2 (p3.symm.trans (e.trans r3))
    omega
abbrev LD : Type := Nat → Int × Int × Int × Nat
/-- the rank of a link: votes first -/
def rk (d : LD) (a : Nat) : Int := (100 - (d a).2.2.1) * 10000 + (d a).1 * 100 + (d a).2.1
def lkC (d : LD) (a : Nat) : wa_E := eO 11 [.int (zI (d a).1), .int (zI (d a).2.1), .ref (d a).2.2.2, .int (zI (d a).2.2.1)]
def lkB (d : LD) (a : Nat) : Prop := (0 ≤ (d a).1 ∧ (d a).1 ≤ 9) ∧ (0 ≤ (d a).2.1 ∧ (d a).2.1 ≤ 9) ∧ 0 ≤ (d a).2.2.1 ∧ (d a).2.2.1 ≤ 99
/-- the links of D -/
def LQ (ad : Nat → Nat) (w : wa_W) (D : Nat → Prop) (d : LD) : Prop := ∀ a, D a → Lc ad w a (lkC d a) ∧ lkB d a
theorem LQ.kp {ad : Nat → Nat} {w u : wa_W} {D : Nat → Prop} {d : LD} (h : LQ ad w D d) (k : Kp ad w u) : LQ ad u D d := fun a q => ⟨(h a q).1.kp k, (h a q).2⟩
theorem liC_rk {d : LD} {a b : Nat} (ha : lkB d a) (hb : lkB d b) : (liC (d a).1 (d a).2.1 (d a).2.2.1 (d b).1 (d b).2.1 (d b).2.2.1 < 0 ↔ rk d a < rk d b) ∧ (0 < liC (d a).1 (d a).2.1 (d a).2.2.1 (d b).1 (d b).2.1 (d b).2.2.1 ↔ rk d b < rk d a) ∧ rI (liC (d a).1 (d a).2.1 (d a).2.2.1 (d b).1 (d b).2.1 (d b).2.2.1) := by
  unfold lkB at ha hb
  unfold liC rk rI
  by_cases e1 : (d b).2.2.1 - (d a).2.2.1 = 0
  · rw [if_neg (fun q => q e1)]
    by_cases e2 : (d a).1 - (d b).1 = 0
    · rw [if_neg (fun q => q e2)]; omega
    · rw [if_pos e2]; omega
  · rw [if_pos e1]; omega
theorem shr1 {a : Int} (h : 0 ≤ a ∧ a < 1000) : ((zI a).toUInt32 >>> ((zI 1).toUInt32 &&& Int32.toUInt32 31)).toInt32 = zI (a / 2) := by
  obtain ⟨n, rfl⟩ : ∃ n : Nat, a = n := ⟨a.toNat, by omega⟩
  have hn : n < 1000 := by omega
  have key : ∀ n : Fin 1000, ((zI (n.val : Int)).toUInt32 >>> ((zI 1).toUInt32 &&& Int32.toUInt32 31)).toInt32 = zI ((n.val : Int) / 2) := by decide +kernel
  exact key ⟨n, hn⟩
theorem shl1 {a : Int} (h : 0 ≤ a ∧ a < 1000) : (zI a) <<< ((zI 1) &&& 31) = zI (2 * a) := by
  obtain ⟨n, rfl⟩ : ∃ n : Nat, a = n := ⟨a.toNat, by omega⟩
  have hn : n < 1000 := by omega
  have key : ∀ n : Fin 1000, (zI (n.val : Int)) <<< ((zI 1) &&& 31) = zI (2 * (n.val : Int)) := by decide +kernel
  exact key ⟨n, hn⟩
theorem swp_rk {d : LD} {h : Int → Nat} {i j n k : Int} (q : hpU (swp (fun i => rk d (h i)) i j) n k) : hpU (fun q => rk d (swp h i j q)) n k := by
  have e : (fun q => rk d (swp h i j q)) = swp (fun i => rk d (h i)) i j := by
    funext q; unfold swp; split; rfl; split <;> rfl
  rw [e]; exact q
theorem swp_rkD {d : LD} {h : Int → Nat} {i j n k : Int} (q : hpD (swp (fun i => rk d (h i)) i j) n k) : hpD (fun q => rk d (swp h i j q)) n k := by
  have e : (fun q => rk d (swp h i j q)) = swp (fun i => rk d (h i)) i j := by
    funext q; unfold swp; split; rfl; split <;> rfl
  rw [e]; exact q
theorem swp_D {D : Nat → Prop} {h : Int → Nat} {a b n : Int} (hd : ∀ i, 0 ≤ i → i ≤ n → D (h i)) (ha : 0 ≤ a ∧ a ≤ n) (hb : 0 ≤ b ∧ b ≤ n) : ∀ i, 0 ≤ i → i ≤ n → D (swp h a b i) := fun i i1 i2 => by
  unfold swp
  split
  · exact hd b hb.1 hb.2
  · split
    · exact hd a ha.1 ha.2
    · exact hd i i1 i2
/-- the queue's array f holds the n links of C, in heap order -/
def QI (f : Int → Option Nat) (n : Int) (d : LD) (C : Nat → Prop) : Prop := ∃ h : Int → Nat, (∀ i, 0 ≤ i → i ≤ n - 1 → f i = some (h i)) ∧ hpA (fun i => rk d (h i)) (n - 1) ∧ (∀ i j, 0 ≤ i → i ≤ n - 1 → 0 ≤ j → j ≤ n - 1 → h i = h j → i = j) ∧ ∀ a, C a ↔ ∃ i, 0 ≤ i ∧ i ≤ n - 1 ∧ h i = a
theorem QI.nil {f : Int → Option Nat} {d : LD} : QI f 0 d (fun _ => False) := ⟨fun _ => 0, fun i a b => by omega, fun i a b => by omega, fun i j a b => by omega, fun a => ⟨fun h => h.elim, fun ⟨i, a, b, _⟩ => by omega⟩⟩
theorem QI.congr {f : Int → Option Nat} {n : Int} {d : LD} {C C2 : Nat → Prop} (h : QI f n d C) (e : ∀ a, C2 a ↔ C a) : QI f n d C2 := by
  obtain ⟨h0, h1, h2, h3, h4⟩ := h
  exact ⟨h0, h1, h2, h3, fun a => (e a).trans (h4 a)⟩
/-- one more at the end -/
theorem QI.add {f : Int → Option Nat} {n : Int} {d : LD} {C : Nat → Prop} {x : Nat} (hn : 0 ≤ n) (h : QI f n d C) (hx : ¬ C x) : ∃ h : Int → Nat, (∀ i, 0 ≤ i → i ≤ n → i ≠ n → f i = some (h i)) ∧ h n = x ∧ hpU (fun i => rk d (h i)) n n ∧ (∀ i j, 0 ≤ i → i ≤ n → 0 ≤ j → j ≤ n → h i = h j → i = j) ∧ ∀ a, (C a ∨ a = x) ↔ ∃ i, 0 ≤ i ∧ i ≤ n ∧ h i = a := by
  obtain ⟨g, h1, h2, h3, h4⟩ := h
  have gx : ∀ i, 0 ≤ i → i ≤ n - 1 → g i ≠ x := fun i a b e => hx ((h4 x).mpr ⟨i, a, b, e⟩)
  refine ⟨fun i => if i = n then x else g i, fun i a b c => ?_, if_pos rfl, ⟨fun i a b c => ?_, fun i a b c => by omega⟩, fun i j a b c e q => ?_, fun a => ⟨fun q => ?_, fun q => ?_⟩⟩
  · dsimp only; rw [if_neg c]; exact h1 i a (by omega)
  · have e1 : (i - 1) / 2 ≠ n := by omega
    dsimp only; rw [if_neg c, if_neg e1]; exact h2 i a (by omega)
  · dsimp only at q
    by_cases e1 : i = n
    · by_cases e2 : j = n
      · omega
      · rw [if_pos e1, if_neg e2] at q; exact absurd q.symm (gx j c (by omega))
    · by_cases e2 : j = n
      · rw [if_neg e1, if_pos e2] at q; exact absurd q (gx i a (by omega))
      · rw [if_neg e1, if_neg e2] at q; exact h3 i j a (by omega) c (by omega) q
  · rcases q with q | q
    · obtain ⟨i, a1, a2, a3⟩ := (h4 a).mp q
      have e1 : i ≠ n := by omega
      exact ⟨i, a1, by omega, by dsimp only; rw [if_neg e1]; exact a3⟩
    · exact ⟨n, hn, Int.le_refl _, by dsimp only; rw [if_pos rfl]; exact q.symm⟩
  · obtain ⟨i, a1, a2, a3⟩ := q
    dsimp only at a3
    by_cases e1 : i = n
    · rw [if_pos e1] at a3; exact Or.inr a3.symm
    · rw [if_neg e1] at a3; exact Or.inl ((h4 a).mpr ⟨i, a1, by omega, a3⟩)
theorem QI.of {f : Int → Option Nat} {n : Int} {d : LD} {C : Nat → Prop} {h g : Int → Nat} (h1 : ∀ i, 0 ≤ i → i ≤ n - 1 → f i = some (g i)) (h2 : hpA (fun i => rk d (g i)) (n - 1)) (pm : PM h g (n - 1)) (inj : ∀ i j, 0 ≤ i → i ≤ n - 1 → 0 ≤ j → j ≤ n - 1 → h i = h j → i = j) (hc : ∀ a, C a ↔ ∃ i, 0 ≤ i ∧ i ≤ n - 1 ∧ h i = a) : QI f n d C :=
  ⟨g, h1, h2, pm.2 inj, fun a => (hc a).trans (pm.1 a).symm⟩
/-- the first one goes, the last one comes to its place -/
theorem QI.cut {f : Int → Option Nat} {n : Int} {d : LD} {C : Nat → Prop} {h : Int → Nat} (hn : 1 ≤ n) (h1 : ∀ i, 0 ≤ i → i ≤ n - 1 → f i = some (h i)) (h2 : hpA (fun i => rk d (h i)) (n - 1)) (h3 : ∀ i j, 0 ≤ i → i ≤ n - 1 → 0 ≤ j → j ≤ n - 1 → h i = h j → i = j) (h4 : ∀ a, C a ↔ ∃ i, 0 ≤ i ∧ i ≤ n - 1 ∧ h i = a) : C (h 0) ∧ (∀ a, C a → rk d (h 0) ≤ rk d a) ∧ ∃ g : Int → Nat, g 0 = h (n - 1) ∧ (∀ i, 0 ≤ i → i ≤ n - 2 → i ≠ 0 → g i = h i) ∧ (∀ i, 0 ≤ i → i ≤ n - 2 → C (g i)) ∧ hpD (fun i => rk d (g i)) (n - 2) 0 ∧ (∀ i j, 0 ≤ i → i ≤ n - 2 → 0 ≤ j → j ≤ n - 2 → g i = g j → i = j) ∧ ∀ a, (C a ∧ a ≠ h 0) ↔ ∃ i, 0 ≤ i ∧ i ≤ n - 2 ∧ g i = a := by
  refine ⟨(h4 _).mpr ⟨0, Int.le_refl _, by omega, rfl⟩, fun a q => ?_, fun i => if i = 0 then h (n - 1) else h i, if_pos rfl, fun i a b c => if_neg c, fun i a b => ?_, ⟨fun i a b c => ?_, fun q => by omega⟩, fun i j a b c e q => ?_, fun a => ⟨fun q => ?_, fun q => ?_⟩⟩
  · obtain ⟨i, a1, a2, a3⟩ := (h4 a).mp q
    rw [← a3]; exact h2.min i.toNat i a1 a2 (Nat.le_refl _)
  · dsimp only
    split
    · exact (h4 _).mpr ⟨n - 1, by omega, Int.le_refl _, rfl⟩
    · exact (h4 _).mpr ⟨i, a, by omega, rfl⟩
  · have e1 : i ≠ 0 := by omega
    dsimp only; rw [if_neg c, if_neg e1]; exact h2 i a (by omega)
  · dsimp only at q
    by_cases e1 : i = 0
    · by_cases e2 : j = 0
      · omega
      · rw [if_pos e1, if_neg e2] at q; have := h3 _ _ (by omega) (by omega) c (by omega) q; omega
    · by_cases e2 : j = 0
      · rw [if_neg e1, if_pos e2] at q; have := h3 _ _ a (by omega) (by omega) (by omega) q; omega
      · rw [if_neg e1, if_neg e2] at q; exact h3 _ _ a (by omega) c (by omega) q
  · obtain ⟨i, a1, a2, a3⟩ := (h4 a).mp q.1
    have e0 : i ≠ 0 := fun e => q.2 (by rw [← a3, e])
    by_cases e1 : i = n - 1
    · exact ⟨0, Int.le_refl _, by omega, by dsimp only; rw [if_pos rfl, ← e1]; exact a3⟩
    · exact ⟨i, a1, by omega, by dsimp only; rw [if_neg e0]; exact a3⟩
  · obtain ⟨i, a1, a2, a3⟩ := q
    dsimp only at a3
    by_cases e1 : i = 0
    · rw [if_pos e1] at a3
      refine ⟨(h4 a).mpr ⟨n - 1, by omega, Int.le_refl _, a3⟩, fun e => ?_⟩
      have := h3 (n - 1) 0 (by omega) (by omega) (by omega) (by omega) (a3.trans e)
      omega
    · rw [if_neg e1] at a3
      refine ⟨(h4 a).mpr ⟨i, a1, by omega, a3⟩, fun e => ?_⟩
      have := h3 i 0 a1 (by omega) (by omega) (by omega) (a3.trans e)
      omega

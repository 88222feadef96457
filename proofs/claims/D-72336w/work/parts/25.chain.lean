/-! SPEC: the chain: who follows whom; it is ways without a round, or one round of all -/
def stp (fo : Int → Int) (x : Int) : Int := if x = -1 then -1 else fo x
def stN (fo : Int → Int) : Nat → Int → Int
  | 0, x => x
  | n + 1, x => stN fo n (stp fo x)
theorem stN_s (fo : Int → Int) (n : Nat) (x : Int) : stN fo (n + 1) x = stp fo (stN fo n x) := by
  induction n generalizing x with
  | zero => rfl
  | succ n ih => exact ih (stp fo x)
theorem stN_add (fo : Int → Int) (i j : Nat) (x : Int) : stN fo (i + j) x = stN fo j (stN fo i x) := by
  induction i generalizing x with
  | zero => rw [Nat.zero_add]; rfl
  | succ i ih => rw [Nat.add_right_comm]; exact ih (stp fo x)
theorem stN_m1 (fo : Int → Int) (n : Nat) : stN fo n (-1) = -1 := by
  induction n with
  | zero => rfl
  | succ n ih => exact ih
theorem stN_back {fo : Int → Int} {i n : Nat} {x : Int} (h : stN fo n x ≠ -1) (hi : i ≤ n) : stN fo i x ≠ -1 := by
  intro q
  obtain ⟨d, rfl⟩ : ∃ d, n = i + d := ⟨n - i, by omega⟩
  rw [stN_add, q, stN_m1] at h
  exact h rfl
theorem php : ∀ (m : Nat) (f : Nat → Nat), (∀ i, i ≤ m → f i < m) → ∃ i j, i < j ∧ j ≤ m ∧ f i = f j
  | 0, f, h => absurd (h 0 (Nat.le_refl 0)) (by omega)
  | m + 1, f, h => by
    by_cases hv : ∃ i, i ≤ m ∧ f i = f (m + 1)
    · obtain ⟨i, hi, e⟩ := hv
      exact ⟨i, m + 1, by omega, by omega, e⟩
    · have hv' : ∀ i, i ≤ m → f i ≠ f (m + 1) := fun i hi e => hv ⟨i, hi, e⟩
      obtain ⟨i, j, h1, h2, h3⟩ := php m (fun i => if f i = m then f (m + 1) else f i) (fun i hi => by
        have a1 := h i (by omega)
        have a2 := h (m + 1) (by omega)
        have a3 := hv' i hi
        show (if f i = m then f (m + 1) else f i) < m
        split <;> omega)
      refine ⟨i, j, h1, by omega, ?_⟩
      have b1 := hv' i (by omega)
      have b2 := hv' j (by omega)
      have h3 : (if f i = m then f (m + 1) else f i) = (if f j = m then f (m + 1) else f j) := h3
      split at h3 <;> split at h3 <;> omega
theorem php_onto (m : Nat) (f : Nat → Nat) (h : ∀ i, i < m → f i < m) (hinj : ∀ i j, i < j → j < m → f i ≠ f j) (y : Nat) (hy : y < m) : ∃ i, i < m ∧ f i = y := by
  obtain ⟨i, j, h1, h2, h3⟩ := php m (fun i => if i < m then f i else y) (fun i hi => by
    show (if i < m then f i else y) < m
    split
    · exact h i (by omega)
    · exact hy)
  have h3 : (if i < m then f i else y) = (if j < m then f j else y) := h3
  rw [if_pos (by omega)] at h3
  by_cases hj : j < m
  · rw [if_pos hj] at h3
    exact absurd h3 (hinj i j h1 hj)
  · rw [if_neg hj] at h3
    exact ⟨i, by omega, h3⟩
/-- may a be followed by b -/
def mt (fo ah : Int → Int) (m a b : Int) : Prop := fo a = -1 ∧ ah b = -1 ∧ ((∀ n, stN fo n b ≠ a) ∨ ∃ n : Nat, (n : Int) + 1 = m ∧ stN fo n b = a ∧ ∀ j, j < n → stN fo j b ≠ a)
def inv2 (fo ah : Int → Int) (m : Int) : Prop := (∀ k, 0 ≤ k → k < m → fo k = -1 ∨ 0 ≤ fo k ∧ fo k < m ∧ ah (fo k) = k) ∧ (∀ k, 0 ≤ k → k < m → ah k = -1 ∨ 0 ≤ ah k ∧ ah k < m ∧ fo (ah k) = k) ∧ (∀ k, 0 ≤ k → k < m → fo k ≠ k) ∧ ∀ k, m ≤ k → k < 6 → fo k = -1 ∧ ah k = -1
def acy (fo : Int → Int) (m : Int) : Prop := ∃ d : Int → Nat, ∀ k, 0 ≤ k → k < m → fo k ≠ -1 → d (fo k) < d k
def ful (fo : Int → Int) (m : Int) : Prop := (∀ k, 0 ≤ k → k < m → fo k ≠ -1) ∧ ∀ a b, 0 ≤ a → a < m → 0 ≤ b → b < m → ∃ n : Nat, n < 12 ∧ stN fo n b = a
def CI (fo ah : Int → Int) (m : Int) : Prop := inv2 fo ah m ∧ (acy fo m ∨ ful fo m)
theorem st_in {fo ah : Int → Int} {m b : Int} (h : inv2 fo ah m) (h0 : 0 ≤ b) (h1 : b < m) (n : Nat) : stN fo n b = -1 ∨ 0 ≤ stN fo n b ∧ stN fo n b < m := by
  induction n with
  | zero => exact Or.inr ⟨h0, h1⟩
  | succ n ih =>
    rw [stN_s]
    rcases ih with e | ⟨e1, e2⟩
    · rw [e]; exact Or.inl rfl
    · unfold stp
      rw [if_neg (by omega)]
      rcases h.1 _ e1 e2 with q | q
      · exact Or.inl q
      · exact Or.inr ⟨q.1, q.2.1⟩
/-- on a way without a round the measure falls -/
theorem st_d {fo ah : Int → Int} {m b : Int} {d : Int → Nat} (h : inv2 fo ah m) (hd : ∀ k, 0 ≤ k → k < m → fo k ≠ -1 → d (fo k) < d k) (h0 : 0 ≤ b) (h1 : b < m) {i j : Nat} (hij : i < j) (hj : stN fo j b ≠ -1) : d (stN fo j b) < d (stN fo i b) := by
  induction j with
  | zero => omega
  | succ j ih =>
    have hb := stN_back hj (i := j) (by omega)
    have hr := (st_in h h0 h1 j).resolve_left hb
    rw [stN_s] at hj ⊢
    unfold stp at hj ⊢
    rw [if_neg hb] at hj ⊢
    have h2 := hd _ hr.1 hr.2 hj
    by_cases e : i = j
    · subst e; exact h2
    · exact Nat.lt_trans h2 (ih (by omega) hb)
theorem st_len {fo ah : Int → Int} {m b : Int} (h : inv2 fo ah m) (hd : acy fo m) (h0 : 0 ≤ b) (h1 : b < m) {n : Nat} (hn : stN fo n b ≠ -1) : (n : Int) < m := by
  obtain ⟨d, hd⟩ := hd
  by_cases hc : (n : Int) < m
  · exact hc
  · exfalso
    obtain ⟨i, j, a1, a2, a3⟩ := php m.toNat (fun i => (stN fo i b).toNat) (fun i hi => by
      have hb := stN_back hn (i := i) (by omega)
      have hr := (st_in h h0 h1 i).resolve_left hb
      show (stN fo i b).toNat < m.toNat
      omega)
    have a3 : (stN fo i b).toNat = (stN fo j b).toNat := a3
    have hi := (st_in h h0 h1 i).resolve_left (stN_back hn (by omega))
    have hj := (st_in h h0 h1 j).resolve_left (stN_back hn (by omega))
    have e : stN fo i b = stN fo j b := by omega
    have := st_d h hd h0 h1 a1 (stN_back hn (i := j) (by omega))
    rw [e] at this
    exact Nat.lt_irrefl _ this
theorem acy_link {fo ah : Int → Int} {m a b : Int} (h : inv2 fo ah m) (hd : acy fo m) (ha : fo a = -1) (hno : ∀ n, stN fo n b ≠ a) : acy (fup fo a b) m := by
  obtain ⟨d, hd⟩ := hd
  refine ⟨fun k => @ite _ (∃ n, stN fo n k = a) (Classical.propDecidable _) (d k + d b + 1) (d k), fun k k0 k1 hk => ?_⟩
  show @ite _ (∃ n, stN fo n (fup fo a b k) = a) (Classical.propDecidable _) (d (fup fo a b k) + d b + 1) (d (fup fo a b k)) < @ite _ (∃ n, stN fo n k = a) (Classical.propDecidable _) (d k + d b + 1) (d k)
  by_cases e : k = a
  · subst e
    rw [fup_s, if_neg (fun ⟨n, q⟩ => hno n q), if_pos ⟨0, rfl⟩]
    omega
  · rw [fup_n e] at hk ⊢
    have h2 := hd k k0 k1 hk
    have hs : stp fo k = fo k := by unfold stp; rw [if_neg (by omega)]
    by_cases hL : ∃ n, stN fo n (fo k) = a
    · rw [if_pos hL, if_pos (by obtain ⟨n, q⟩ := hL; exact ⟨n + 1, by show stN fo n (stp fo k) = a; rw [hs]; exact q⟩)]
      omega
    · rw [if_neg hL, if_neg (fun ⟨n, q⟩ => by
        cases n with
        | zero => exact e q
        | succ n => exact hL ⟨n, by rw [← hs]; exact q⟩)]
      exact h2
theorem ful_link {fo ah : Int → Int} {m a b : Int} (h : inv2 fo ah m) (hd : acy fo m) (hm : m ≤ 6) (hb0 : 0 ≤ b) (hb1 : b < m) (ha0 : 0 ≤ a) {n : Nat} (hn : (n : Int) + 1 = m) (hr : stN fo n b = a) (hf : ∀ j, j < n → stN fo j b ≠ a) : ful (fup fo a b) m := by
  obtain ⟨d, hd⟩ := hd
  have hne : stN fo n b ≠ -1 := by omega
  have hin : ∀ i, i ≤ n → 0 ≤ stN fo i b ∧ stN fo i b < m := fun i hi => (st_in h hb0 hb1 i).resolve_left (stN_back hne hi)
  have hx : ∀ i, i ≤ n → stN (fup fo a b) i b = stN fo i b := by
    intro i hi
    induction i with
    | zero => rfl
    | succ i ih =>
      rw [stN_s, stN_s, ih (by omega)]
      unfold stp
      rw [if_neg (by have := hin i (by omega); omega), if_neg (by have := hin i (by omega); omega), fup_n (hf i (by omega))]
  have hback : stN (fup fo a b) (n + 1) b = b := by
    rw [stN_s, hx n (Nat.le_refl n), hr]
    unfold stp
    rw [if_neg (by omega), fup_s]
  have honto : ∀ y, 0 ≤ y → y < m → ∃ i, i ≤ n ∧ stN fo i b = y := by
    intro y y0 y1
    obtain ⟨i, i1, i2⟩ := php_onto (n + 1) (fun i => (stN fo i b).toNat) (fun i hi => by
      have := hin i (by omega)
      show (stN fo i b).toNat < n + 1
      omega) (fun i j hij hj e => by
      have e : (stN fo i b).toNat = (stN fo j b).toNat := e
      have a1 := hin i (by omega)
      have a2 := hin j (by omega)
      have e2 : stN fo i b = stN fo j b := by omega
      have := st_d h hd hb0 hb1 hij (stN_back hne (by omega))
      rw [e2] at this
      exact Nat.lt_irrefl _ this) y.toNat (by omega)
    have i2 : (stN fo i b).toNat = y.toNat := i2
    have a1 := hin i (by omega)
    exact ⟨i, by omega, by omega⟩
  refine ⟨fun k k0 k1 => ?_, fun a' b' p0 p1 q0 q1 => ?_⟩
  · obtain ⟨i, i1, i2⟩ := honto k k0 k1
    by_cases e : k = a
    · rw [e, fup_s]; omega
    · rw [fup_n e]
      have hi : i < n := by
        rcases Nat.lt_or_ge i n with q | q
        · exact q
        · exfalso; apply e; rw [← i2, ← hr]; congr 1; omega
      have a1 := hin (i + 1) (by omega)
      rw [stN_s, i2] at a1
      unfold stp at a1
      rw [if_neg (by omega)] at a1
      omega
  · obtain ⟨i, i1, i2⟩ := honto b' q0 q1
    obtain ⟨j, j1, j2⟩ := honto a' p0 p1
    refine ⟨(n + 1 - i) + j, by omega, ?_⟩
    have e1 : stN (fup fo a b) (n + 1 - i) b' = b := by
      rw [← i2, ← hx i i1, ← stN_add, show i + (n + 1 - i) = n + 1 by omega]
      exact hback
    rw [stN_add, e1, hx j j1]
    exact j2
abbrev Cst : Type := (Int → Int) × (Int → Int)
noncomputable def tk (m : Int) (s : Cst) (a b : Int) : Cst := @ite _ (mt s.1 s.2 m a b) (Classical.propDecidable _) (fup s.1 a b, fup s.2 b a) s
theorem CI_tk {m a b : Int} {s : Cst} (h : CI s.1 s.2 m) (hm : m ≤ 6) (ha0 : 0 ≤ a) (ha1 : a < m) (hb0 : 0 ≤ b) (hb1 : b < m) (hab : a ≠ b) : CI (tk m s a b).1 (tk m s a b).2 m := by
  unfold tk
  by_cases hmt : mt s.1 s.2 m a b
  · rw [if_pos hmt]
    obtain ⟨h2, hc⟩ := h
    obtain ⟨m1, m2, m3⟩ := hmt
    have hd : acy s.1 m := by
      rcases hc with q | q
      · exact q
      · exact absurd m1 (q.1 a ha0 ha1)
    refine ⟨⟨fun k k0 k1 => ?_, fun k k0 k1 => ?_, fun k k0 k1 => ?_, fun k k0 k1 => ?_⟩, ?_⟩
    · show fup s.1 a b k = -1 ∨ 0 ≤ fup s.1 a b k ∧ fup s.1 a b k < m ∧ fup s.2 b a (fup s.1 a b k) = k
      by_cases e : k = a
      · subst e; rw [fup_s, fup_s]; exact Or.inr ⟨hb0, hb1, rfl⟩
      · rw [fup_n e]
        rcases h2.1 k k0 k1 with q | ⟨q1, q2, q3⟩
        · exact Or.inl q
        · refine Or.inr ⟨q1, q2, ?_⟩
          rw [fup_n (fun z => by rw [z, m2] at q3; omega)]
          exact q3
    · show fup s.2 b a k = -1 ∨ 0 ≤ fup s.2 b a k ∧ fup s.2 b a k < m ∧ fup s.1 a b (fup s.2 b a k) = k
      by_cases e : k = b
      · subst e; rw [fup_s, fup_s]; exact Or.inr ⟨ha0, ha1, rfl⟩
      · rw [fup_n e]
        rcases h2.2.1 k k0 k1 with q | ⟨q1, q2, q3⟩
        · exact Or.inl q
        · refine Or.inr ⟨q1, q2, ?_⟩
          rw [fup_n (fun z => by rw [z, m1] at q3; omega)]
          exact q3
    · show fup s.1 a b k ≠ k
      by_cases e : k = a
      · subst e; rw [fup_s]; exact fun z => hab z.symm
      · rw [fup_n e]; exact h2.2.2.1 k k0 k1
    · show fup s.1 a b k = -1 ∧ fup s.2 b a k = -1
      rw [fup_n (by omega), fup_n (by omega)]; exact h2.2.2.2 k k0 k1
    · rcases m3 with q | ⟨n, q1, q2, q3⟩
      · exact Or.inl (acy_link h2 hd m1 q)
      · exact Or.inr (ful_link h2 hd hm hb0 hb1 ha0 q1 q2 q3)
  · rw [if_neg hmt]; exact h
noncomputable def tkv (g : Int → Int) (v a b : Int) (s : Cst) : Cst := if a ≠ b ∧ (bestS g a b).1 = v then tk (g 3) s a b else s
noncomputable def rowC (g : Int → Int) (v a : Int) : Nat → Cst → Cst
  | 0, s => s
  | b + 1, s => tkv g v a b (rowC g v a b s)
noncomputable def colC (g : Int → Int) (v : Int) : Nat → Cst → Cst
  | 0, s => s
  | a + 1, s => rowC g v a (g 3).toNat (colC g v a s)
noncomputable def allC (g : Int → Int) : Nat → Cst
  | 0 => (fun _ => -1, fun _ => -1)
  | t + 1 => colC g (12 - (t : Int)) (g 3).toNat (allC g t)
noncomputable def foS (g : Int → Int) : Int → Int := (allC g 12).1
noncomputable def ahS (g : Int → Int) : Int → Int := (allC g 12).2
theorem CI_0 (m : Int) : CI (fun _ => -1) (fun _ => -1) m := ⟨⟨fun _ _ _ => Or.inl rfl, fun _ _ _ => Or.inl rfl, fun k k0 _ => by show (-1 : Int) ≠ k; omega, fun _ _ _ => ⟨rfl, rfl⟩⟩, Or.inl ⟨fun _ => 0, fun k _ _ h => absurd rfl h⟩⟩
theorem CI_tkv {g : Int → Int} {v a b : Int} {s : Cst} (h : CI s.1 s.2 (g 3)) (hm : g 3 ≤ 6) (ha0 : 0 ≤ a) (ha1 : a < g 3) (hb0 : 0 ≤ b) (hb1 : b < g 3) : CI (tkv g v a b s).1 (tkv g v a b s).2 (g 3) := by
  unfold tkv
  split
  · rename_i q; exact CI_tk h hm ha0 ha1 hb0 hb1 q.1
  · exact h
theorem CI_row {g : Int → Int} {v a : Int} {s : Cst} (h : CI s.1 s.2 (g 3)) (hm : g 3 ≤ 6) (ha0 : 0 ≤ a) (ha1 : a < g 3) (b : Nat) (hb : (b : Int) ≤ g 3) : CI (rowC g v a b s).1 (rowC g v a b s).2 (g 3) := by
  induction b with
  | zero => exact h
  | succ b ih => exact CI_tkv (ih (by omega)) hm ha0 ha1 (by omega) (by omega)
theorem CI_col {g : Int → Int} {v : Int} {s : Cst} (h : CI s.1 s.2 (g 3)) (hm : g 3 ≤ 6) (a : Nat) (ha : (a : Int) ≤ g 3) : CI (colC g v a s).1 (colC g v a s).2 (g 3) := by
  induction a with
  | zero => exact h
  | succ a ih => exact CI_row (ih (by omega)) hm (by omega) (by omega) _ (by omega)
theorem CI_all {g : Int → Int} (h0 : 0 ≤ g 3) (hm : g 3 ≤ 6) (t : Nat) : CI (allC g t).1 (allC g t).2 (g 3) := by
  induction t with
  | zero => exact CI_0 _
  | succ t ih => exact CI_col ih hm _ (by omega)
theorem CI_S {g : Int → Int} (h : okS g) : CI (foS g) (ahS g) (g 3) := CI_all h.many.1 h.many.2 12

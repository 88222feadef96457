/-! THE CHAIN out of the queue of links -/
noncomputable def posC (g : Int → Int) : Nat → Cst
  | 0 => (fun _ => -1, fun _ => -1)
  | p + 1 => if ((p % 36 / 6 : Nat) : Int) < g 3 ∧ ((p % 6 : Nat) : Int) < g 3 then tkv g (12 - ((p / 36 : Nat) : Int)) ((p % 36 / 6 : Nat) : Int) ((p % 6 : Nat) : Int) (posC g p) else posC g p
theorem posC_s {g : Int → Int} {t a b : Nat} (ha : a < 6) (hb : b < 6) : posC g (36 * t + 6 * a + b + 1) = if (a : Int) < g 3 ∧ (b : Int) < g 3 then tkv g (12 - (t : Int)) a b (posC g (36 * t + 6 * a + b)) else posC g (36 * t + 6 * a + b) := by
  show (if (((36 * t + 6 * a + b) % 36 / 6 : Nat) : Int) < g 3 ∧ (((36 * t + 6 * a + b) % 6 : Nat) : Int) < g 3 then tkv g (12 - (((36 * t + 6 * a + b) / 36 : Nat) : Int)) (((36 * t + 6 * a + b) % 36 / 6 : Nat) : Int) (((36 * t + 6 * a + b) % 6 : Nat) : Int) (posC g (36 * t + 6 * a + b)) else posC g (36 * t + 6 * a + b)) = _
  rw [show (36 * t + 6 * a + b) % 36 / 6 = a by omega, show (36 * t + 6 * a + b) % 6 = b by omega, show (36 * t + 6 * a + b) / 36 = t by omega]
theorem posC_row {g : Int → Int} (hm : 0 ≤ g 3) {t a : Nat} (ha : a < 6) (b : Nat) (hb : b ≤ 6) : posC g (36 * t + 6 * a + b) = if (a : Int) < g 3 then rowC g (12 - (t : Int)) a (min b (g 3).toNat) (posC g (36 * t + 6 * a)) else posC g (36 * t + 6 * a) := by
  induction b with
  | zero => rw [show min 0 (g 3).toNat = 0 by omega]; unfold rowC; split <;> rfl
  | succ b ih =>
    have ih := ih (by omega)
    rw [show 36 * t + 6 * a + (b + 1) = 36 * t + 6 * a + b + 1 by omega, posC_s ha (by omega), ih]
    by_cases h1 : (a : Int) < g 3
    · by_cases h2 : (b : Int) < g 3
      · rw [if_pos ⟨h1, h2⟩, if_pos h1, if_pos h1, show min (b + 1) (g 3).toNat = b + 1 by omega, show min b (g 3).toNat = b by omega]
        rfl
      · rw [if_neg (fun q => h2 q.2), if_pos h1, if_pos h1, show min (b + 1) (g 3).toNat = min b (g 3).toNat by omega]
    · rw [if_neg (fun q => h1 q.1), if_neg h1, if_neg h1]
theorem posC_col {g : Int → Int} (hm : 0 ≤ g 3 ∧ g 3 ≤ 6) {t : Nat} (a : Nat) (ha : a ≤ 6) : posC g (36 * t + 6 * a) = colC g (12 - (t : Int)) (min a (g 3).toNat) (posC g (36 * t)) := by
  induction a with
  | zero => rw [show min 0 (g 3).toNat = 0 by omega]; rfl
  | succ a ih =>
    have ih := ih (by omega)
    rw [show 36 * t + 6 * (a + 1) = 36 * t + 6 * a + 6 by omega, posC_row hm.1 (by omega) 6 (by omega), ih]
    by_cases h1 : (a : Int) < g 3
    · rw [if_pos h1, show min (a + 1) (g 3).toNat = a + 1 by omega, show min a (g 3).toNat = a by omega, show min 6 (g 3).toNat = (g 3).toNat by omega]
      rfl
    · rw [if_neg h1, show min (a + 1) (g 3).toNat = min a (g 3).toNat by omega]
theorem posC_all {g : Int → Int} (hm : 0 ≤ g 3 ∧ g 3 ≤ 6) (t : Nat) : posC g (36 * t) = allC g t := by
  induction t with
  | zero => rfl
  | succ t ih =>
    rw [show 36 * (t + 1) = 36 * t + 6 * 6 by omega, posC_col hm 6 (by omega), ih, show min 6 (g 3).toNat = (g 3).toNat by omega]
    rfl
/-- the place of a link in the order -/
def posL (v a b : Int) : Nat := (36 * (12 - v) + 6 * a + b).toNat
theorem posC_skip {g : Int → Int} {p q : Nat} (hpq : p ≤ q) (hn : ∀ r, p ≤ r → r < q → ∀ v a b : Int, 0 ≤ a → a < g 3 → 0 ≤ b → b < g 3 → a ≠ b → (bestS g a b).1 = v → posL v a b ≠ r) (hm : 0 ≤ g 3 ∧ g 3 ≤ 6) : posC g q = posC g p := by
  induction q with
  | zero => rw [show p = 0 by omega]
  | succ q ih =>
    by_cases e : p = q + 1
    · rw [e]
    · rw [← ih (by omega) (fun r r0 r1 => hn r r0 (by omega))]
      show (if ((q % 36 / 6 : Nat) : Int) < g 3 ∧ ((q % 6 : Nat) : Int) < g 3 then tkv g (12 - ((q / 36 : Nat) : Int)) ((q % 36 / 6 : Nat) : Int) ((q % 6 : Nat) : Int) (posC g q) else posC g q) = _
      by_cases h : ((q % 36 / 6 : Nat) : Int) < g 3 ∧ ((q % 6 : Nat) : Int) < g 3
      · rw [if_pos h]
        unfold tkv
        rw [if_neg (fun z => ?_)]
        have h2 := bestN_in g ((q % 36 / 6 : Nat) : Int) ((q % 6 : Nat) : Int) 15 (Nat.le_refl 15)
        refine hn q (by omega) (by omega) _ _ _ (by omega) h.1 (by omega) h.2 z.1 z.2 ?_
        unfold posL
        unfold bestS at z
        omega
      · rw [if_neg h]
theorem posC_take {g : Int → Int} {v a b : Int} (hm : 0 ≤ g 3 ∧ g 3 ≤ 6) (ha : 0 ≤ a ∧ a < g 3) (hb : 0 ≤ b ∧ b < g 3) (hab : a ≠ b) (hv : (bestS g a b).1 = v) : posC g (posL v a b + 1) = tk (g 3) (posC g (posL v a b)) a b := by
  have h2 := bestN_in g a b 15 (Nat.le_refl 15)
  unfold bestS at hv
  have e : posL v a b = 36 * (12 - v).toNat + 6 * a.toNat + b.toNat := by unfold posL; omega
  rw [e, posC_s (by omega) (by omega), show ((a.toNat : Nat) : Int) = a by omega, show ((b.toNat : Nat) : Int) = b by omega, if_pos ⟨ha.2, hb.2⟩]
  unfold tkv
  rw [if_pos ⟨hab, by unfold bestS; omega⟩]
theorem CI_pos {g : Int → Int} (hm : 0 ≤ g 3 ∧ g 3 ≤ 6) (p : Nat) : CI (posC g p).1 (posC g p).2 (g 3) := by
  induction p with
  | zero => exact CI_0 _
  | succ p ih =>
    show CI (if ((p % 36 / 6 : Nat) : Int) < g 3 ∧ ((p % 6 : Nat) : Int) < g 3 then tkv g (12 - ((p / 36 : Nat) : Int)) ((p % 36 / 6 : Nat) : Int) ((p % 6 : Nat) : Int) (posC g p) else posC g p).1 (if ((p % 36 / 6 : Nat) : Int) < g 3 ∧ ((p % 6 : Nat) : Int) < g 3 then tkv g (12 - ((p / 36 : Nat) : Int)) ((p % 36 / 6 : Nat) : Int) ((p % 6 : Nat) : Int) (posC g p) else posC g p).2 (g 3)
    by_cases h : ((p % 36 / 6 : Nat) : Int) < g 3 ∧ ((p % 6 : Nat) : Int) < g 3
    · rw [if_pos h]; exact CI_tkv ih hm.2 (by omega) h.1 (by omega) h.2
    · rw [if_neg h]; exact ih
-- sums over the links
def sumG (h : Int → Int → Int) (fo : Int → Int) : Nat → Int
  | 0 => 0
  | n + 1 => sumG h fo n + if fo n = -1 then 0 else h n (fo n)
theorem sumG_up {h : Int → Int → Int} {fo : Int → Int} {a b : Int} (ha : fo a = -1) (h0 : 0 ≤ a) (hb : b ≠ -1) (n : Nat) : sumG h (fup fo a b) n = sumG h fo n + if a < n then h a b else 0 := by
  induction n with
  | zero => rw [if_neg (by omega)]; rfl
  | succ n ih =>
    unfold sumG
    rw [ih]
    have e2 : (if a < ((n + 1 : Nat) : Int) then h a b else 0) = if (n : Int) = a ∨ a < n then h a b else 0 := by
      by_cases q : a < ((n + 1 : Nat) : Int)
      · rw [if_pos q, if_pos (by omega)]
      · rw [if_neg q, if_neg (by omega)]
    rw [e2]
    by_cases e : (n : Int) = a
    · have e1 : (if a < (n : Int) then h a b else 0) = 0 := if_neg (by omega)
      rw [e1, if_pos (Or.inl e), e, fup_s, if_neg hb, ha, if_pos rfl]
      all_goals omega
    · have e3 : (if (n : Int) = a ∨ a < n then h a b else 0) = if a < (n : Int) then h a b else 0 := by
        by_cases q : a < (n : Int)
        · rw [if_pos q, if_pos (Or.inr q)]
        · rw [if_neg q, if_neg (by omega)]
      rw [e3, fup_n e]
      omega
theorem sumG_m {h : Int → Int → Int} {fo : Int → Int} {m : Int} (hm : 0 ≤ m ∧ m ≤ 6) (hf : ∀ k, m ≤ k → k < 6 → fo k = -1) : sumG h fo 6 = sumG h fo m.toNat := by
  have : ∀ n : Nat, m.toNat ≤ n → n ≤ 6 → sumG h fo n = sumG h fo m.toNat := by
    intro n h1 h2
    induction n with
    | zero => rw [show m.toNat = 0 by omega]
    | succ n ih =>
      by_cases e : m.toNat = n + 1
      · rw [e]
      · rw [← ih (by omega) (by omega)]
        show sumG h fo n + (if fo n = -1 then 0 else h n (fo n)) = _
        rw [hf n (by omega) (by omega), if_pos rfl]; omega
  exact this 6 (by omega) (Nat.le_refl 6)
theorem sumG_taken (g : Int → Int) (n : Nat) : sumG (fun _ _ => 1) (foS g) n = takenN g n := by
  induction n with
  | zero => rfl
  | succ n ih => unfold sumG takenN; rw [ih]
theorem sumG_F {h : Int → Int → Int} {hh g : Int → Int} (e : ∀ a, h a (foS g a) = hh a) (n : Nat) : sumG h (foS g) n = sumF hh g n := by
  induction n with
  | zero => rfl
  | succ n ih => unfold sumG sumF; rw [ih, e]
-- the walk along the links
def LDs (fo : Int → Int) (x y z : Int) : Prop := (∃ n : Nat, n < 13 ∧ z = (n : Int) + 1 ∧ stN fo n x = y ∧ ∀ j, j < n → stN fo j x ≠ y) ∨ z = -1 ∧ ∀ n, stN fo n x ≠ y
theorem LDs_in {fo : Int → Int} {x y z : Int} (h : LDs fo x y z) : -1 ≤ z ∧ z ≤ 13 := by
  rcases h with ⟨n, h1, h2, -⟩ | ⟨h1, -⟩ <;> omega
theorem LDs_mt {fo ah : Int → Int} {m a b z : Int} (h : LDs fo b a z) : mt fo ah m a b ↔ fo a = -1 ∧ ah b = -1 ∧ (z = -1 ∨ z = m) := by
  unfold mt
  constructor
  · rintro ⟨h1, h2, h3⟩
    refine ⟨h1, h2, ?_⟩
    rcases h3 with q | ⟨n, q1, q2, q3⟩
    · rcases h with ⟨n, -, -, w, -⟩ | ⟨w, -⟩
      · exact absurd w (q n)
      · exact Or.inl w
    · rcases h with ⟨n', w0, w1, w2, w3⟩ | ⟨w, w2⟩
      · right
        have : n = n' := by
          rcases Nat.lt_trichotomy n n' with l | l | l
          · exact absurd q2 (w3 n l)
          · exact l
          · exact absurd w2 (q3 n' l)
        omega
      · exact absurd q2 (w2 n)
  · rintro ⟨h1, h2, h3⟩
    refine ⟨h1, h2, ?_⟩
    rcases h with ⟨n, w0, w1, w2, w3⟩ | ⟨w, w2⟩
    · rcases h3 with q | q
      · omega
      · exact Or.inr ⟨n, by omega, w2, w3⟩
    · exact Or.inl w2
/-- it ends -/
theorem LDs_end {fo ah : Int → Int} {m x y : Int} (h : CI fo ah m) (hm : 0 ≤ m ∧ m ≤ 6) (hx : 0 ≤ x ∧ x < m) (hy : 0 ≤ y ∧ y < m) : ∃ N, N < 12 ∧ (stN fo N x = y ∨ stN fo N x = -1) := by
  rcases h.2 with q | q
  · refine ⟨6, by omega, Or.inr ?_⟩
    by_cases e : stN fo 6 x = -1
    · exact e
    · have := st_len h.1 q hx.1 hx.2 e
      omega
  · obtain ⟨n, h1, h2⟩ := q.2 y x hy.1 hy.2 hx.1 hx.2
    exact ⟨n, h1, Or.inl h2⟩
theorem LDs_le {fo : Int → Int} {x y : Int} {N k : Nat} (hN : stN fo N x = y ∨ stN fo N x = -1) (h1 : ∀ j, j < k → stN fo j x ≠ y) (h2 : stN fo k x ≠ -1) : k ≤ N := by
  by_cases e : k ≤ N
  · exact e
  · exfalso
    rcases hN with q | q
    · exact h1 N (by omega) q
    · exact stN_back h2 (i := N) (by omega) q
-- the links in their array
def LA (ad : Nat → Nat) (w : wa_W) (b : Int → Option Nat) (fo g : Int → Int) : Prop := ∀ a : Int, 0 ≤ a → a < 6 → (fo a = -1 ∧ b a = none) ∨ (0 ≤ fo a ∧ fo a < g 3 ∧ a < g 3) ∧ a ≠ fo a ∧ 0 < (bestS g a (fo a)).1 ∧ ∃ lk s, b a = some lk ∧ Lnk ad w lk s a (fo a) (bestS g a (fo a)).1 (bestS g a (fo a)).2.1 (bestS g a (fo a)).2.2
theorem LA.kp {ad : Nat → Nat} {w u : wa_W} {b : Int → Option Nat} {fo g : Int → Int} (h : LA ad w b fo g) (k : Kp ad w u) : LA ad u b fo g := fun a h0 h1 => by
  rcases h a h0 h1 with q | ⟨q1, q2, q3, lk, s, q4, q5⟩
  · exact Or.inl q
  · exact Or.inr ⟨q1, q2, q3, lk, s, q4, q5.kp k⟩
theorem LA.nol {ad : Nat → Nat} {w : wa_W} {b : Int → Option Nat} {fo g : Int → Int} (h : LA ad w b fo g) {a : Int} (h0 : 0 ≤ a) (h1 : a < 6) (e : b a = none) : fo a = -1 := by
  rcases h a h0 h1 with q | ⟨q1, q2, q3, lk, s, q4, q5⟩
  · exact q.1
  · rw [e] at q4; cases q4
theorem LA.isl {ad : Nat → Nat} {w : wa_W} {b : Int → Option Nat} {fo g : Int → Int} (h : LA ad w b fo g) {a : Int} {lk : Nat} (h0 : 0 ≤ a) (h1 : a < 6) (e : b a = some lk) : (0 ≤ fo a ∧ fo a < g 3 ∧ a < g 3) ∧ a ≠ fo a ∧ 0 < (bestS g a (fo a)).1 ∧ ∃ s, Lnk ad w lk s a (fo a) (bestS g a (fo a)).1 (bestS g a (fo a)).2.1 (bestS g a (fo a)).2.2 := by
  rcases h a h0 h1 with q | ⟨q1, q2, q3, lk2, s, q4, q5⟩
  · rw [e] at q; cases q.2
  · obtain rfl : lk = lk2 := Option.some.inj (e.symm.trans q4)
    exact ⟨q1, q2, q3, s, q5⟩
theorem LA.put {ad : Nat → Nat} {w : wa_W} {b : Int → Option Nat} {fo g : Int → Int} {a c : Int} {lk s : Nat} (h : LA ad w b fo g) (ha : 0 ≤ a ∧ a < g 3) (hc : 0 ≤ c ∧ c < g 3) (hac : a ≠ c) (hv : 0 < (bestS g a c).1) (hl : Lnk ad w lk s a c (bestS g a c).1 (bestS g a c).2.1 (bestS g a c).2.2) : LA ad w (fupR b a (some lk)) (fup fo a c) g := fun x h0 h1 => by
  by_cases e : x = a
  · subst e
    rw [fup_s, fupR_s]
    exact Or.inr ⟨⟨hc.1, hc.2, ha.2⟩, hac, hv, lk, s, rfl, hl⟩
  · rw [fup_n e, fupR_n e]; exact h x h0 h1
/-- the chain so far -/
def CS (ad : Nat → Nat) (w : wa_W) (S : Nat → Int) (A : Nat → Int → Int) (B : Nat → Int → Option Nat) (g : Int → Int) (s : Cst) : Prop := LA ad w (B 1) s.1 g ∧ (∀ j, 0 ≤ j → j < 6 → A 3 j = s.2 j) ∧ S 5 = sumG (fun _ _ => 1) s.1 6 ∧ S 7 = sumG (fun a b => (bestS g a b).2.2) s.1 6 ∧ S 8 = sumG (fun a b => (bestS g a b).2.1) s.1 6
theorem CS.kp {ad : Nat → Nat} {w u : wa_W} {S : Nat → Int} {A : Nat → Int → Int} {B : Nat → Int → Option Nat} {g : Int → Int} {s : Cst} (h : CS ad w S A B g s) (k : Kp ad w u) : CS ad u S A B g s := ⟨h.1.kp k, h.2⟩
theorem CS.cg {ad : Nat → Nat} {w : wa_W} {S S2 : Nat → Int} {A A2 : Nat → Int → Int} {B B2 : Nat → Int → Option Nat} {g : Int → Int} {s : Cst} (h : CS ad w S A B g s) (e1 : B2 1 = B 1) (e2 : A2 3 = A 3) (e3 : S2 5 = S 5) (e4 : S2 7 = S 7) (e5 : S2 8 = S 8) : CS ad w S2 A2 B2 g s := by
  obtain ⟨h1, h2, h3, h4, h5⟩ := h
  exact ⟨by rw [e1]; exact h1, by rw [e2]; exact h2, e3.trans h3, e4.trans h4, e5.trans h5⟩
-- the links that were put into the queue
def QS (ad : Nat → Nat) (w : wa_W) (D : Nat → Prop) (d : LD) (g : Int → Int) : Prop := ∀ x, D x → Lnk ad w x (d x).2.2.2 (d x).1 (d x).2.1 (d x).2.2.1 (bestS g (d x).1 (d x).2.1).2.1 (bestS g (d x).1 (d x).2.1).2.2 ∧ (0 ≤ (d x).1 ∧ (d x).1 < g 3) ∧ (0 ≤ (d x).2.1 ∧ (d x).2.1 < g 3) ∧ (d x).1 ≠ (d x).2.1 ∧ (d x).2.2.1 = (bestS g (d x).1 (d x).2.1).1 ∧ 0 < (d x).2.2.1
theorem QS.kp {ad : Nat → Nat} {w u : wa_W} {D : Nat → Prop} {d : LD} {g : Int → Int} (h : QS ad w D d g) (k : Kp ad w u) : QS ad u D d g := fun x q => ⟨(h x q).1.kp k, (h x q).2⟩
theorem QS.lq {ad : Nat → Nat} {w : wa_W} {D : Nat → Prop} {d : LD} {g : Int → Int} (h : QS ad w D d g) (hm : g 3 ≤ 6) : LQ ad w D d := fun x q => by
  obtain ⟨h1, h2, h3, h4, h5, h6⟩ := h x q
  have := bestN_in g (d x).1 (d x).2.1 15 (Nat.le_refl 15)
  unfold bestS at h5
  exact ⟨h1.1, by unfold lkB; omega⟩
theorem QI.cg {f : Int → Option Nat} {n : Int} {d d2 : LD} {C : Nat → Prop} (h : QI f n d C) (e : ∀ x, C x → d2 x = d x) : QI f n d2 C := by
  obtain ⟨h0, h1, h2, h3, h4⟩ := h
  refine ⟨h0, h1, fun i i1 i2 => ?_, h3, h4⟩
  have e1 : rk d2 (h0 i) = rk d (h0 i) := by unfold rk; rw [e _ ((h4 _).mpr ⟨i, by omega, i2, rfl⟩)]
  have e2 : rk d2 (h0 ((i - 1) / 2)) = rk d (h0 ((i - 1) / 2)) := by unfold rk; rw [e _ ((h4 _).mpr ⟨(i - 1) / 2, by omega, by omega, rfl⟩)]
  show rk d2 (h0 ((i - 1) / 2)) ≤ rk d2 (h0 i)
  rw [e1, e2]
  exact h2 i i1 i2
/-- what stands in the queue when the first k pairs have been tried -/
def QK (D : Nat → Prop) (d : LD) (g : Int → Int) (k : Int) : Prop := (∀ x, D x → g 3 * (d x).1 + (d x).2.1 < k) ∧ (∀ a b, 0 ≤ a → a < g 3 → 0 ≤ b → b < g 3 → a ≠ b → 0 < (bestS g a b).1 → g 3 * a + b < k → ∃ x, D x ∧ (d x).1 = a ∧ (d x).2.1 = b) ∧ ∀ x y, D x → D y → (d x).1 = (d y).1 → (d x).2.1 = (d y).2.1 → x = y
theorem QK.nil {d : LD} {g : Int → Int} (hm : 0 ≤ g 3) : QK (fun _ => False) d g 0 := ⟨fun x q => q.elim, fun a b a0 a1 b0 b1 _ _ h => by
    have := Int.mul_nonneg hm a0
    omega, fun x y q => q.elim⟩
theorem pair_lt {m a b a' b' : Int} (hb : 0 ≤ b ∧ b < m) (hb' : 0 ≤ b' ∧ b' < m) (h : m * a + b = m * a' + b') : a = a' ∧ b = b' := by
  have h1 : (m * a + b) / m = a := by rw [Int.add_comm, Int.add_mul_ediv_left _ _ (by omega), Int.ediv_eq_zero_of_lt hb.1 hb.2]; omega
  have h2 : (m * a' + b') / m = a' := by rw [Int.add_comm, Int.add_mul_ediv_left _ _ (by omega), Int.ediv_eq_zero_of_lt hb'.1 hb'.2]; omega
  have e : a = a' := by rw [← h1, ← h2, h]
  subst e
  exact ⟨rfl, by omega⟩
theorem QK.skip {D : Nat → Prop} {d : LD} {g : Int → Int} {k a b : Int} (h : QK D d g k) (hk : k = g 3 * a + b) (hb : 0 ≤ b ∧ b < g 3) (hn : a = b ∨ (bestS g a b).1 = 0) : QK D d g (k + 1) := ⟨fun x q => by have := h.1 x q; omega, fun a' b' a0 a1 b0 b1 hab hv hlt => by
    by_cases e : g 3 * a' + b' < k
    · exact h.2.1 a' b' a0 a1 b0 b1 hab hv e
    · obtain ⟨rfl, rfl⟩ := pair_lt hb ⟨b0, b1⟩ (show g 3 * a + b = g 3 * a' + b' by omega)
      rcases hn with q | q
      · exact absurd q hab
      · omega, h.2.2⟩
theorem QK.add {D : Nat → Prop} {d : LD} {g : Int → Int} {k a b v : Int} {x s : Nat} (h : QK D d g k) (hk : k = g 3 * a + b) (hb : 0 ≤ b ∧ b < g 3) (hx : ¬ D x) (hD : ∀ y, D y → 0 ≤ (d y).2.1 ∧ (d y).2.1 < g 3) : QK (fun y => D y ∨ y = x) (nup d x (a, b, v, s)) g (k + 1) := by
  have hne : ∀ y, D y → y ≠ x := fun y hy e => hx (e ▸ hy)
  refine ⟨fun y q => ?_, fun a' b' a0 a1 b0 b1 hab hv hlt => ?_, fun y z hy hz e1 e2 => ?_⟩
  · rcases q with q | q
    · rw [nup_n (hne y q)]; have := h.1 y q; omega
    · rw [q, nup_s]; show g 3 * a + b < k + 1; omega
  · by_cases e : g 3 * a' + b' < k
    · obtain ⟨y, h1, h2, h3⟩ := h.2.1 a' b' a0 a1 b0 b1 hab hv e
      exact ⟨y, Or.inl h1, by rw [nup_n (hne y h1)]; exact h2, by rw [nup_n (hne y h1)]; exact h3⟩
    · obtain ⟨rfl, rfl⟩ := pair_lt hb ⟨b0, b1⟩ (show g 3 * a + b = g 3 * a' + b' by omega)
      exact ⟨x, Or.inr rfl, by rw [nup_s], by rw [nup_s]⟩
  · have key : ∀ y, D y → (nup d x (a, b, v, s) y).1 = a → (nup d x (a, b, v, s) y).2.1 = b → False := fun y hy e1 e2 => by
      rw [nup_n (hne y hy)] at e1 e2
      have h1 := h.1 y hy
      rw [e1, e2] at h1
      omega
    rcases hy with hy | hy <;> rcases hz with hz | hz
    · rw [nup_n (hne y hy), nup_n (hne z hz)] at e1 e2
      exact h.2.2 y z hy hz e1 e2
    · rw [hz, nup_s] at e1 e2; exact (key y hy e1 e2).elim
    · rw [hy, nup_s] at e1 e2; exact (key z hz e1.symm e2.symm).elim
    · rw [hy, hz]
theorem QS.add {ad : Nat → Nat} {w : wa_W} {D : Nat → Prop} {d : LD} {g : Int → Int} {a b : Int} {x s : Nat} (h : QS ad w D d g) (hx : ¬ D x) (ha : 0 ≤ a ∧ a < g 3) (hb : 0 ≤ b ∧ b < g 3) (hab : a ≠ b) (hv : 0 < (bestS g a b).1) (hl : Lnk ad w x s a b (bestS g a b).1 (bestS g a b).2.1 (bestS g a b).2.2) : QS ad w (fun y => D y ∨ y = x) (nup d x (a, b, (bestS g a b).1, s)) g := fun y q => by
  rcases q with q | q
  · have hne : y ≠ x := fun e => hx (e ▸ q)
    rw [nup_n hne]; exact h y q
  · subst q
    rw [nup_s]
    exact ⟨hl, ha, hb, hab, rfl, hv⟩
def posD (d : LD) (x : Nat) : Nat := posL (d x).2.2.1 (d x).1 (d x).2.1
/-- the least one in the queue comes next in the order -/
theorem poll_pos {ad : Nat → Nat} {w : wa_W} {D C : Nat → Prop} {d : LD} {g : Int → Int} {ρ m : Nat} {k : Int} (ho : okS g) (hQ : QS ad w D d g) (hK : QK D d g k) (hk : ∀ a b, 0 ≤ a → a < g 3 → 0 ≤ b → b < g 3 → g 3 * a + b < k) (hC : ∀ x, C x ↔ D x ∧ ρ ≤ posD d x) (hm : C m) (hmin : ∀ x, C x → rk d m ≤ rk d x) : posC g (posD d m) = posC g ρ ∧ ∀ x, (C x ∧ x ≠ m) ↔ D x ∧ posD d m + 1 ≤ posD d x := by
  have hmany := ho.many
  have hb : ∀ x, D x → (0 ≤ (d x).1 ∧ (d x).1 < g 3) ∧ (0 ≤ (d x).2.1 ∧ (d x).2.1 < g 3) ∧ 0 < (d x).2.2.1 ∧ (d x).2.2.1 ≤ 12 := fun x hx => by
    obtain ⟨h1, h2, h3, h4, h5, h6⟩ := hQ x hx
    have := bestN_in g (d x).1 (d x).2.1 15 (Nat.le_refl 15)
    unfold bestS at h5
    omega
  have hle : ∀ x, C x → posD d m ≤ posD d x := fun x hx => by
    have h1 := hmin x hx
    have h2 := hb x ((hC x).mp hx).1
    have h3 := hb m ((hC m).mp hm).1
    unfold rk at h1
    unfold posD posL
    omega
  refine ⟨posC_skip ((hC m).mp hm).2 (fun r r0 r1 v a b a0 a1 b0 b1 hab hv hp => ?_) hmany, fun x => ⟨fun ⟨h1, h2⟩ => ?_, fun ⟨h1, h2⟩ => ⟨(hC x).mpr ⟨h1, by have := ((hC m).mp hm).2; omega⟩, fun e => by rw [e] at h2; omega⟩⟩⟩
  · have hv12 := bestN_in g a b 15 (Nat.le_refl 15)
    have h3 := hb m ((hC m).mp hm).1
    by_cases hv0 : 0 < (bestS g a b).1
    · obtain ⟨x, x1, x2, x3⟩ := hK.2.1 a b a0 a1 b0 b1 hab hv0 (hk a b a0 a1 b0 b1)
      have h5 := (hQ x x1).2.2.2.2.1
      rw [x2, x3, hv] at h5
      have hpx : posD d x = r := by unfold posD; rw [x2, x3, h5]; exact hp
      have := hle x ((hC x).mpr ⟨x1, by omega⟩)
      omega
    · unfold bestS at hv hv0
      have : posD d m < 432 := by unfold posD posL; omega
      unfold posL at hp
      omega
  · have h4 := hle x h1
    refine ⟨((hC x).mp h1).1, ?_⟩
    by_cases e : posD d x = posD d m
    · exfalso
      have h5 := hb x ((hC x).mp h1).1
      have h6 := hb m ((hC m).mp hm).1
      unfold posD posL at e
      exact h2 (hK.2.2 x m ((hC x).mp h1).1 ((hC m).mp hm).1 (by omega) (by omega))
    · omega
theorem posD_lt {ad : Nat → Nat} {w : wa_W} {D : Nat → Prop} {d : LD} {g : Int → Int} (ho : okS g) (hQ : QS ad w D d g) {x : Nat} (hx : D x) : posD d x < 432 := by
  obtain ⟨h1, h2, h3, h4, h5, h6⟩ := hQ x hx
  have hmany := ho.many
  unfold posD posL
  omega
/-- nothing is left -/
theorem posC_end {ad : Nat → Nat} {w : wa_W} {D C : Nat → Prop} {d : LD} {g : Int → Int} {ρ : Nat} {k : Int} (ho : okS g) (hQ : QS ad w D d g) (hK : QK D d g k) (hk : ∀ a b, 0 ≤ a → a < g 3 → 0 ≤ b → b < g 3 → g 3 * a + b < k) (hC : ∀ x, C x ↔ D x ∧ ρ ≤ posD d x) (hn : ∀ x, ¬ C x) (hρ : ρ ≤ 432) : posC g ρ = allC g 12 := by
  have hmany := ho.many
  rw [← posC_all hmany 12, show 36 * 12 = 432 from rfl]
  refine (posC_skip hρ (fun r r0 r1 v a b a0 a1 b0 b1 hab hv hp => ?_) hmany).symm
  have hv12 := bestN_in g a b 15 (Nat.le_refl 15)
  by_cases hv0 : 0 < (bestS g a b).1
  · obtain ⟨x, x1, x2, x3⟩ := hK.2.1 a b a0 a1 b0 b1 hab hv0 (hk a b a0 a1 b0 b1)
    have h5 := (hQ x x1).2.2.2.2.1
    rw [x2, x3, hv] at h5
    have hpx : posD d x = r := by unfold posD; rw [x2, x3, h5]; exact hp
    exact hn x ((hC x).mpr ⟨x1, by omega⟩)
  · unfold bestS at hv hv0
    unfold posL at hp
    omega
theorem CS.take {ad : Nat → Nat} {w : wa_W} {S S2 : Nat → Int} {A A2 : Nat → Int → Int} {B B2 : Nat → Int → Option Nat} {g : Int → Int} {s : Cst} {a b : Int} {lk sc : Nat} (h : CS ad w S A B g s) (hmt : mt s.1 s.2 (g 3) a b) (ha : 0 ≤ a ∧ a < g 3) (hb : 0 ≤ b ∧ b < g 3) (hm : g 3 ≤ 6) (hab : a ≠ b) (hv : 0 < (bestS g a b).1) (hl : Lnk ad w lk sc a b (bestS g a b).1 (bestS g a b).2.1 (bestS g a b).2.2) (e1 : B2 1 = fupR (B 1) a (some lk)) (e2 : A2 3 = fup (A 3) b a) (e3 : S2 5 = S 5 + 1) (e4 : S2 7 = S 7 + (bestS g a b).2.2) (e5 : S2 8 = S 8 + (bestS g a b).2.1) : CS ad w S2 A2 B2 g (tk (g 3) s a b) := by
  obtain ⟨h1, h2, h3, h4, h5⟩ := h
  unfold tk
  rw [if_pos hmt]
  refine ⟨?_, fun j j0 j1 => ?_, ?_, ?_, ?_⟩
  · rw [e1]; exact h1.put ha hb hab hv hl
  · rw [e2]
    show fup (A 3) b a j = fup s.2 b a j
    unfold fup
    split
    · rfl
    · exact h2 j j0 j1
  · rw [e3, h3]
    show _ = sumG _ (fup s.1 a b) 6
    rw [sumG_up hmt.1 ha.1 (by omega) 6, if_pos (by omega)]
  · rw [e4, h4]
    show _ = sumG _ (fup s.1 a b) 6
    rw [sumG_up hmt.1 ha.1 (by omega) 6, if_pos (by omega)]
  · rw [e5, h5]
    show _ = sumG _ (fup s.1 a b) 6
    rw [sumG_up hmt.1 ha.1 (by omega) 6, if_pos (by omega)]
theorem CS.nt {ad : Nat → Nat} {w : wa_W} {S : Nat → Int} {A : Nat → Int → Int} {B : Nat → Int → Option Nat} {g : Int → Int} {s : Cst} {a b : Int} (h : CS ad w S A B g s) (hmt : ¬ mt s.1 s.2 (g 3) a b) : CS ad w S A B g (tk (g 3) s a b) := by
  unfold tk
  rw [if_neg hmt]; exact h
/-- what the chain leaves behind -/
def CH (ad : Nat → Nat) (w : wa_W) (S : Nat → Int) (A : Nat → Int → Int) (B : Nat → Int → Option Nat) (g : Int → Int) : Prop := LA ad w (B 1) (foS g) g ∧ (∀ j, 0 ≤ j → j < 6 → A 3 j = ahS g j) ∧ S 5 = takenS g ∧ (closedS g ∧ S 6 = 1 ∨ ¬ closedS g ∧ S 6 = 0) ∧ S 7 = sumFf g ∧ S 8 = sumE g
theorem CH.kp {ad : Nat → Nat} {w u : wa_W} {S : Nat → Int} {A : Nat → Int → Int} {B : Nat → Int → Option Nat} {g : Int → Int} (h : CH ad w S A B g) (k : Kp ad w u) : CH ad u S A B g := ⟨h.1.kp k, h.2⟩
theorem CH.cg {ad : Nat → Nat} {w : wa_W} {S S2 : Nat → Int} {A A2 : Nat → Int → Int} {B B2 : Nat → Int → Option Nat} {g : Int → Int} (h : CH ad w S A B g) (e1 : B2 1 = B 1) (e2 : A2 3 = A 3) (e3 : ∀ k, 5 ≤ k → k ≤ 8 → S2 k = S k) : CH ad w S2 A2 B2 g := by
  obtain ⟨h1, h2, h3, h4, h5, h6⟩ := h
  exact ⟨by rw [e1]; exact h1, by rw [e2]; exact h2, (e3 5 (by decide) (by decide)).trans h3, by rw [e3 6 (by decide) (by decide)]; exact h4, (e3 7 (by decide) (by decide)).trans h5, (e3 8 (by decide) (by decide)).trans h6⟩
theorem CS.ch {ad : Nat → Nat} {w : wa_W} {S : Nat → Int} {A : Nat → Int → Int} {B : Nat → Int → Option Nat} {g : Int → Int} (ho : okS g) (h : CS ad w S A B g (allC g 12)) (hc : closedS g ∧ S 6 = 1 ∨ ¬ closedS g ∧ S 6 = 0) : CH ad w S A B g := by
  obtain ⟨h1, h2, h3, h4, h5⟩ := h
  have hf : ∀ k, g 3 ≤ k → k < 6 → foS g k = -1 := fun k h0 h1 => ((CI_S ho).1.2.2.2 k h0 h1).1
  refine ⟨h1, h2, ?_, hc, ?_, ?_⟩
  · rw [h3]; exact (sumG_m ho.many hf).trans (sumG_taken g _)
  · rw [h4]; exact (sumG_m ho.many hf).trans (sumG_F (fun a => rfl) _)
  · rw [h5]; exact (sumG_m ho.many hf).trans (sumG_F (fun a => rfl) _)
theorem zI_eq9 {x z : Int} (h : zI x = zI z) (hx : -100 ≤ x ∧ x ≤ 100) (hz : -100 ≤ z ∧ z ≤ 100) : x = z := by
  have h1 := congrArg Int32.toInt h
  rwa [zI_toInt (by omega) (by omega), zI_toInt (by omega) (by omega)] at h1
theorem QS.nin {ad : Nat → Nat} {w : wa_W} {D : Nat → Prop} {d : LD} {g : Int → Int} {a b v e f k : Int} {x s : Nat} (h : QS ad w D d g) (hm : g 3 ≤ 6) (hK : QK D d g k) (hk : k = g 3 * a + b) (ha : 0 ≤ a ∧ a < g 3) (hb : 0 ≤ b ∧ b < g 3) (hl : Lnk ad w x s a b v e f) : ¬ D x := fun hx => by
  obtain ⟨h1, h2, h3, -⟩ := h x hx
  have e1 := h1.1.2
  rw [hl.1.2] at e1
  unfold eO at e1
  simp at e1
  have e2 := zI_eq9 e1.1 (by omega) (by omega)
  have e3 := zI_eq9 e1.2.1 (by omega) (by omega)
  have := hK.1 x hx
  rw [← e2, ← e3] at this
  omega
theorem pair_in {m a b : Int} (ha : 0 ≤ a ∧ a < m) (hb : 0 ≤ b ∧ b < m) : m * a + b < m * m := by
  have h1 : m * (a + 1) ≤ m * m := Int.mul_le_mul_of_nonneg_left (by omega) (by omega)
  rw [Int.mul_add, Int.mul_one] at h1
  omega
theorem sq_in9 {m : Int} (h : 0 ≤ m ∧ m ≤ 6) : 0 ≤ m * m ∧ m * m ≤ 36 := by
  have h1 : m * m ≤ 6 * m := Int.mul_le_mul_of_nonneg_right h.2 h.1
  have h2 := Int.mul_nonneg h.1 h.1
  omega
theorem sq_pos {m k : Int} (h : 0 ≤ m) (h1 : 0 ≤ k) (h2 : k < m * m) : 0 < m := by
  by_cases q : m = 0
  · rw [q] at h2; simp at h2; omega
  · omega
theorem pair_of {m k : Int} (hm : 0 < m) (h1 : 0 ≤ k) (h2 : k < m * m) : (0 ≤ k / m ∧ k / m < m) ∧ (0 ≤ k % m ∧ k % m < m) ∧ k = m * (k / m) + k % m :=
  ⟨⟨Int.ediv_nonneg h1 (by omega), Int.ediv_lt_of_lt_mul hm h2⟩, ⟨Int.emod_nonneg _ (by omega), Int.emod_lt_of_pos _ hm⟩, (Int.mul_ediv_add_emod k m).symm⟩
theorem CS.tkn {ad : Nat → Nat} {w : wa_W} {S : Nat → Int} {A : Nat → Int → Int} {B : Nat → Int → Option Nat} {g : Int → Int} (ho : okS g) (h : CS ad w S A B g (allC g 12)) : S 5 = takenS g ∧ 0 ≤ takenS g ∧ takenS g ≤ 6 := by
  have h9 := takenN_in g (g 3).toNat
  have hm := ho.many
  refine ⟨h.2.2.1.trans ((sumG_m ho.many fun k h0 h1 => ((CI_S ho).1.2.2.2 k h0 h1).1).trans (sumG_taken g _)), ?_⟩
  unfold takenS
  omega
theorem QI.emp {f : Int → Option Nat} {n : Int} {d : LD} {C : Nat → Prop} (h : QI f n d C) (hn : n = 0) : ∀ x, ¬ C x := fun x hx => by
  obtain ⟨h0, h1, h2, h3, h4⟩ := h
  obtain ⟨i, i1, i2, -⟩ := (h4 x).mp hx
  omega
theorem BL.is {ad : Nat → Nat} {w : wa_W} {lk : Nat} {a b : Int} {t : Int × Int × Int} (h : BL ad w (some lk) a b t) : 0 < t.1 ∧ ∃ s, Lnk ad w lk s a b t.1 t.2.1 t.2.2 := by
  rcases h with h | ⟨h, l2, s, h1, h2⟩
  · cases h.1
  · obtain rfl : lk = l2 := Option.some.inj h1
    exact ⟨h, s, h2⟩
theorem BL.no {ad : Nat → Nat} {w : wa_W} {a b : Int} {t : Int × Int × Int} (h : BL ad w none a b t) : t.1 = 0 := by
  rcases h with h | ⟨h, l2, s, h1, h2⟩
  · exact h.2
  · cases h1
theorem mul_ab {m k : Int} (ha : 0 ≤ k / m ∧ k / m < m) (hb : 0 ≤ k % m ∧ k % m < m) (h : ¬ k / m = k % m) : k ≠ 0 := fun e => by
  rw [e] at h
  simp at h

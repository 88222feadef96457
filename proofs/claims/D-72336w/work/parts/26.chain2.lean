/-! SPEC: the chain, more -/
theorem stN_congr {f fo ah : Int → Int} {m b : Int} (h : inv2 fo ah m) (hm : m ≤ 6) (hf : ∀ j, 0 ≤ j → j < 6 → f j = fo j) (h0 : 0 ≤ b) (h1 : b < m) (n : Nat) : stN f n b = stN fo n b := by
  induction n with
  | zero => rfl
  | succ n ih =>
    rw [stN_s, stN_s, ih]
    rcases st_in h h0 h1 n with e | e
    · rw [e]; rfl
    · unfold stp
      rw [if_neg (by omega), if_neg (by omega), hf _ e.1 (by omega)]
def AG (f h : Int → Int) (s : Cst) : Prop := ∀ j, 0 ≤ j → j < 6 → f j = s.1 j ∧ h j = s.2 j
theorem inv2_congr {f h : Int → Int} {s : Cst} {m : Int} (g : AG f h s) (hm0 : 0 ≤ m) (hm : m ≤ 6) (hI : inv2 s.1 s.2 m) : inv2 f h m := by
  refine ⟨fun k k0 k1 => ?_, fun k k0 k1 => ?_, fun k k0 k1 => ?_, fun k k0 k1 => ?_⟩
  · rw [(g k k0 (by omega)).1]
    rcases hI.1 k k0 k1 with q | q
    · exact Or.inl q
    · refine Or.inr ⟨q.1, q.2.1, ?_⟩
      rw [(g _ q.1 (by omega)).2]; exact q.2.2
  · rw [(g k k0 (by omega)).2]
    rcases hI.2.1 k k0 k1 with q | q
    · exact Or.inl q
    · refine Or.inr ⟨q.1, q.2.1, ?_⟩
      rw [(g _ q.1 (by omega)).1]; exact q.2.2
  · rw [(g k k0 (by omega)).1]; exact hI.2.2.1 k k0 k1
  · rw [(g k (by omega) k1).1, (g k (by omega) k1).2]; exact hI.2.2.2 k k0 k1
theorem CI_congr {f h : Int → Int} {s : Cst} {m : Int} (g : AG f h s) (h0 : 0 ≤ m) (hm : m ≤ 6) (hI : CI s.1 s.2 m) : CI f h m := by
  refine ⟨inv2_congr g h0 hm hI.1, ?_⟩
  rcases hI.2 with ⟨d, hd⟩ | ⟨q1, q2⟩
  · exact Or.inl ⟨d, fun k k0 k1 => by rw [(g k k0 (by omega)).1]; exact hd k k0 k1⟩
  · refine Or.inr ⟨fun k k0 k1 => by rw [(g k k0 (by omega)).1]; exact q1 k k0 k1, fun a b a0 a1 b0 b1 => ?_⟩
    obtain ⟨n, n1, n2⟩ := q2 a b a0 a1 b0 b1
    exact ⟨n, n1, by rw [stN_congr hI.1 hm (fun j j0 j1 => (g j j0 j1).1) b0 b1]; exact n2⟩
theorem mt_congr {f h : Int → Int} {s : Cst} {m a b : Int} (g : AG f h s) (hm : m ≤ 6) (hI : inv2 s.1 s.2 m) (ha : 0 ≤ a ∧ a < m) (hb : 0 ≤ b ∧ b < m) : mt f h m a b ↔ mt s.1 s.2 m a b := by
  have e : ∀ n, stN f n b = stN s.1 n b := stN_congr hI hm (fun j j0 j1 => (g j j0 j1).1) hb.1 hb.2
  unfold mt
  rw [(g a ha.1 (by omega)).1, (g b hb.1 (by omega)).2]
  simp only [e]
theorem AG_1 {f h g : Int → Int} {s : Cst} {v a b : Int} (k : AG f h s) (hm : g 3 ≤ 6) (hI : inv2 s.1 s.2 (g 3)) (ha : 0 ≤ a ∧ a < g 3) (hb : 0 ≤ b ∧ b < g 3) (hab : a ≠ b) (hv : (bestS g a b).1 = v) (hmt : mt f h (g 3) a b) : AG (fup f a b) (fup h b a) (tkv g v a b s) := by
  unfold tkv
  rw [if_pos ⟨hab, hv⟩]
  unfold tk
  rw [if_pos ((mt_congr k hm hI ha hb).mp hmt)]
  intro j j0 j1
  have := k j j0 j1
  show fup f a b j = fup s.1 a b j ∧ fup h b a j = fup s.2 b a j
  unfold fup
  constructor
  · split
    · rfl
    · exact this.1
  · split
    · rfl
    · exact this.2
theorem AG_0 {f h g : Int → Int} {s : Cst} {v a b : Int} (k : AG f h s) (hm : g 3 ≤ 6) (hI : inv2 s.1 s.2 (g 3)) (ha : 0 ≤ a ∧ a < g 3) (hb : 0 ≤ b ∧ b < g 3) (hn : ¬ (a ≠ b ∧ (bestS g a b).1 = v ∧ mt f h (g 3) a b)) : AG f h (tkv g v a b s) := by
  unfold tkv
  split
  · rename_i q
    unfold tk
    rw [if_neg (fun z => hn ⟨q.1, q.2, (mt_congr k hm hI ha hb).mpr z⟩)]
    exact k
  · exact k
/-- what the walk from b to a tells: how many lie on it, 0 if it doesn't lead there -/
def WY (fo : Int → Int) (m a b z : Int) : Prop := (∃ n : Nat, z = (n : Int) + 1 ∧ (n : Int) < m ∧ stN fo n b = a ∧ ∀ j, j < n → stN fo j b ≠ a) ∨ z = 0 ∧ ∀ n, stN fo n b ≠ a
theorem WY_in {fo : Int → Int} {m a b z : Int} (h : WY fo m a b z) (hm : 0 ≤ m) : 0 ≤ z ∧ z ≤ m := by
  rcases h with ⟨n, h1, h2, -⟩ | ⟨h1, -⟩ <;> omega
theorem WY_mt {fo ah : Int → Int} {m a b z : Int} (h : WY fo m a b z) (h1 : fo a = -1) (h2 : ah b = -1) : mt fo ah m a b ↔ z = 0 ∨ z = m := by
  constructor
  · rintro ⟨-, -, q | ⟨n, q1, q2, q3⟩⟩
    · rcases h with ⟨n, -, -, w, -⟩ | ⟨w, -⟩
      · exact absurd w (q n)
      · exact Or.inl w
    · rcases h with ⟨n', w1, w2, w3, w4⟩ | ⟨w, w2⟩
      · right
        have : n = n' := by
          rcases Nat.lt_trichotomy n n' with l | l | l
          · exact absurd q2 (w4 n l)
          · exact l
          · exact absurd w3 (q3 n' l)
        omega
      · exact Or.inl w
  · intro hz
    refine ⟨h1, h2, ?_⟩
    rcases h with ⟨n, w1, w2, w3, w4⟩ | ⟨w, w2⟩
    · right
      exact ⟨n, by omega, w3, w4⟩
    · exact Or.inl w2
theorem st_never {fo : Int → Int} {a b : Int} {k : Nat} (ha : 0 ≤ a) (h1 : ∀ j, j < k → stN fo j b ≠ a) (h2 : stN fo k b ≠ a) (h3 : stN fo (k + 1) b = -1) (n : Nat) : stN fo n b ≠ a := by
  rcases Nat.lt_trichotomy n k with l | l | l
  · exact h1 n l
  · rw [l]; exact h2
  · obtain ⟨d, rfl⟩ : ∃ d, n = k + 1 + d := ⟨n - (k + 1), by omega⟩
    rw [stN_add, h3, stN_m1]
    omega
theorem acy_of {fo ah : Int → Int} {m a : Int} (h : CI fo ah m) (h0 : 0 ≤ a) (h1 : a < m) (h2 : fo a = -1) : acy fo m := by
  rcases h.2 with q | q
  · exact q
  · exact absurd h2 (q.1 a h0 h1)
def LKp (g : Int → Int) (a b : Int) (f8 f9 f10 : Int → Int) : Prop := ∀ a' b', 0 ≤ a' → a' < g 3 → 0 ≤ b' → b' < g 3 → a' ≠ b' → (a' < a ∨ a' = a ∧ b' < b) → f8 (6 * a' + b') = (bestS g a' b').1 ∧ f9 (6 * a' + b') = (bestS g a' b').2.1 ∧ f10 (6 * a' + b') = (bestS g a' b').2.2
theorem LKp_1 {g f8 f9 f10 : Int → Int} {a b : Int} (hm : g 3 ≤ 6) (hb : 0 ≤ b ∧ b < 6) (h : LKp g a b f8 f9 f10) : LKp g a (b + 1) (fup f8 (6 * a + b) (bestS g a b).1) (fup f9 (6 * a + b) (bestS g a b).2.1) (fup f10 (6 * a + b) (bestS g a b).2.2) := by
  intro a' b' h1 h2 h3 h4 h5 h6
  by_cases e : a' = a ∧ b' = b
  · obtain ⟨rfl, rfl⟩ := e
    rw [fup_s, fup_s, fup_s]
    exact ⟨rfl, rfl, rfl⟩
  · have hn : 6 * a' + b' ≠ 6 * a + b := by omega
    rw [fup_n hn, fup_n hn, fup_n hn]
    exact h a' b' h1 h2 h3 h4 h5 (by omega)
def CHf (g f7 f8 f9 f10 f11 f12 : Int → Int) : Prop := (∀ k, 0 ≤ k → k < g 3 → f7 k = cset g k) ∧ LKs g f8 f9 f10 ∧ (∀ j, 0 ≤ j → j < 6 → f11 j = foS g j) ∧ ∀ j, 0 ≤ j → j < 6 → f12 j = ahS g j
noncomputable def eS (g : Int → Int) (a : Int) : Int := (bestS g a (foS g a)).2.1
noncomputable def fS (g : Int → Int) (a : Int) : Int := (bestS g a (foS g a)).2.2
theorem foS_in {g : Int → Int} (h : okS g) {a : Int} (h0 : 0 ≤ a) (h1 : a < g 3) : foS g a = -1 ∨ (0 ≤ foS g a ∧ foS g a < g 3 ∧ ahS g (foS g a) = a) := (CI_S h).1.1 a h0 h1
theorem ahS_in {g : Int → Int} (h : okS g) {a : Int} (h0 : 0 ≤ a) (h1 : a < g 3) : ahS g a = -1 ∨ (0 ≤ ahS g a ∧ ahS g a < g 3 ∧ foS g (ahS g a) = a) := (CI_S h).1.2.1 a h0 h1
theorem foS_ne {g : Int → Int} (h : okS g) {a : Int} (h0 : 0 ≤ a) (h1 : a < g 3) : foS g a ≠ a := (CI_S h).1.2.2.1 a h0 h1
theorem efS_in {g : Int → Int} (a : Int) : (-1 ≤ eS g a ∧ eS g a ≤ 1) ∧ 0 ≤ fS g a ∧ fS g a ≤ 5 := by
  have := bestN_in g a (foS g a) 15 (Nat.le_refl 15)
  unfold eS fS bestS
  omega
noncomputable def takenN (g : Int → Int) : Nat → Int
  | 0 => 0
  | n + 1 => takenN g n + if foS g n = -1 then 0 else 1
noncomputable def takenS (g : Int → Int) : Int := takenN g (g 3).toNat
theorem takenN_in (g : Int → Int) (n : Nat) : 0 ≤ takenN g n ∧ takenN g n ≤ n := by
  induction n with
  | zero => unfold takenN; omega
  | succ n ih => unfold takenN; split <;> omega
def closedS (g : Int → Int) : Prop := 2 ≤ g 3 ∧ takenS g = g 3
noncomputable def sumF (h : Int → Int) (g : Int → Int) : Nat → Int
  | 0 => 0
  | n + 1 => sumF h g n + if foS g n = -1 then 0 else h n
noncomputable def sumE (g : Int → Int) : Int := sumF (eS g) g (g 3).toNat
noncomputable def sumFf (g : Int → Int) : Int := sumF (fS g) g (g 3).toNat
def rightS (g : Int → Int) (a : Int) : Prop := sh g a 2 = sh g (foS g a) 2 ∧ (sh g a 0 + fS g a) % sh g a 2 = sh g (foS g a) 0 ∧ sh g a 1 + eS g a = sh g (foS g a) 1
noncomputable def cntN (P : Int → Prop) : Nat → Int
  | 0 => 0
  | n + 1 => cntN P n + @ite _ (P n) (Classical.propDecidable _) 1 0
theorem cntN_in (P : Int → Prop) (n : Nat) : 0 ≤ cntN P n ∧ cntN P n ≤ n := by
  induction n with
  | zero => unfold cntN; omega
  | succ n ih => unfold cntN; split <;> omega
theorem sumF_in {h g : Int → Int} {B : Int} (hh : ∀ a, -B ≤ h a ∧ h a ≤ B) (hB : 0 ≤ B) (n : Nat) : -(n * B) ≤ sumF h g n ∧ sumF h g n ≤ n * B := by
  induction n with
  | zero => unfold sumF; omega
  | succ n ih =>
    have h1 := hh n
    have e : ((n + 1 : Nat) : Int) * B = n * B + B := by rw [Int.natCast_add, Int.add_mul]; omega
    unfold sumF
    rw [e]
    split <;> omega
noncomputable def rightN (g : Int → Int) : Int := cntN (fun a => ¬ foS g a = -1 ∧ rightS g a) (g 3).toNat
noncomputable def firstN (g : Int → Int) : Int := cntN (fun a => ahS g a = -1) (g 3).toNat
noncomputable def allS (g : Int → Int) (what : Int) : Int := if what = 0 then takenS g else if what = 1 then (@ite _ (closedS g) (Classical.propDecidable _) 1 0) else if what = 2 then sumFf g else if what = 3 then sumE g + 6 else if what = 4 then rightN g else firstN g

/-! SPEC: texts -/
def skN (tx : Int → Int) (tl : Int) : Nat → Int → Int
  | 0, p => p
  | n + 1, p => if p < tl ∧ tx p = 32 then skN tx tl n (p + 1) else p
/-- behind the blanks -/
def skS (tx : Int → Int) (tl p : Int) : Int := skN tx tl (tl - p).toNat p
theorem skS_e (tx : Int → Int) (tl p : Int) : skS tx tl p = if p < tl ∧ tx p = 32 then skS tx tl (p + 1) else p := by
  unfold skS
  by_cases h : p < tl
  · rw [show (tl - p).toNat = (tl - (p + 1)).toNat + 1 by omega, skN]
  · rw [show (tl - p).toNat = 0 by omega, if_neg (fun q => h q.1)]
    rfl
theorem skN_in (tx : Int → Int) (tl : Int) (n : Nat) (p : Int) : p ≤ skN tx tl n p ∧ (skN tx tl n p ≤ tl ∨ skN tx tl n p = p) := by
  induction n generalizing p with
  | zero => exact ⟨Int.le_refl _, Or.inr rfl⟩
  | succ n ih =>
    unfold skN
    split
    · have := ih (p + 1)
      omega
    · exact ⟨Int.le_refl _, Or.inr rfl⟩
theorem skS_in (tx : Int → Int) (tl p : Int) : p ≤ skS tx tl p ∧ (skS tx tl p ≤ tl ∨ skS tx tl p = p) := skN_in _ _ _ _
theorem skN_end (tx : Int → Int) (tl : Int) (n : Nat) (p : Int) (hn : tl - p ≤ n) : ¬ (skN tx tl n p < tl ∧ tx (skN tx tl n p) = 32) := by
  induction n generalizing p with
  | zero => unfold skN; omega
  | succ n ih =>
    unfold skN
    split
    · exact ih (p + 1) (by omega)
    · assumption
theorem skS_end (tx : Int → Int) (tl p : Int) : ¬ (skS tx tl p < tl ∧ tx (skS tx tl p) = 32) := skN_end _ _ _ _ (by omega)
theorem skS_id {tx : Int → Int} {tl p : Int} (h : ¬ (p < tl ∧ tx p = 32)) : skS tx tl p = p := by
  rw [skS_e, if_neg h]
theorem skS_sk (tx : Int → Int) (tl p : Int) : skS tx tl (skS tx tl p) = skS tx tl p := skS_id (skS_end tx tl p)
/-- what stands at p; -1: nothing -/
def chA (tx : Int → Int) (tl p : Int) : Int := if p < tl then tx p else -1
abbrev fig (tx : Int → Int) (tl p : Int) : Prop := p < tl ∧ 48 ≤ tx p ∧ tx p ≤ 57
/-- at most n figures from p on: the place behind, the number -/
def digN (tx : Int → Int) (tl : Int) : Nat → Int → Int → Int × Int
  | 0, p, v => (p, v)
  | n + 1, p, v => if fig tx tl p then digN tx tl n (p + 1) (10 * v + tx p - 48) else (p, v)
/-- a number at p, perhaps with its sign (sg = 1): where its figures begin -/
def tk0 (tx : Int → Int) (tl sg p : Int) : Int := if chA tx tl (skS tx tl p) = 45 ∧ sg = 1 then skS tx tl p + 1 else skS tx tl p
def tkP (tx : Int → Int) (tl sg p : Int) : Int := (digN tx tl 6 (tk0 tx tl sg p) 0).1
def tkV (tx : Int → Int) (tl sg p : Int) : Int := if chA tx tl (skS tx tl p) = 45 ∧ sg = 1 then -(digN tx tl 6 (tk0 tx tl sg p) 0).2 else (digN tx tl 6 (tk0 tx tl sg p) 0).2
abbrev okT (tx : Int → Int) (tl sg p : Int) : Prop := tk0 tx tl sg p < tkP tx tl sg p ∧ ¬ fig tx tl (tkP tx tl sg p)
theorem digN_in (tx : Int → Int) (tl : Int) (n : Nat) (p v : Int) (hv : 0 ≤ v ∧ v < 10 ^ (6 - n)) (hn : n ≤ 6) : (p ≤ (digN tx tl n p v).1 ∧ (digN tx tl n p v).1 ≤ p + n ∧ ((digN tx tl n p v).1 ≤ tl ∨ (digN tx tl n p v).1 = p)) ∧ 0 ≤ (digN tx tl n p v).2 ∧ (digN tx tl n p v).2 < 1000000 := by
  induction n generalizing p v with
  | zero => unfold digN; exact ⟨⟨Int.le_refl _, by omega, Or.inr rfl⟩, hv.1, hv.2⟩
  | succ n ih =>
    unfold digN
    split
    · rename_i q
      have e : (10 : Int) ^ (6 - n) = 10 * 10 ^ (6 - (n + 1)) := by rw [show 6 - n = (6 - (n + 1)) + 1 by omega, Int.pow_succ]; omega
      have := ih (p + 1) (10 * v + tx p - 48) ⟨by omega, by omega⟩ (by omega)
      omega
    · have : (10 : Int) ^ (6 - (n + 1)) ≤ 1000000 := by
        rcases (show n = 0 ∨ n = 1 ∨ n = 2 ∨ n = 3 ∨ n = 4 ∨ n = 5 by omega) with rfl | rfl | rfl | rfl | rfl | rfl <;> decide
      exact ⟨⟨Int.le_refl _, by omega, Or.inr rfl⟩, hv.1, by omega⟩
theorem tk0_in (tx : Int → Int) (tl sg p : Int) : p ≤ tk0 tx tl sg p ∧ (tk0 tx tl sg p ≤ tl ∨ tk0 tx tl sg p = p) := by
  have h := skS_in tx tl p
  unfold tk0
  split
  · rename_i q
    have q1 := q.1
    unfold chA at q1
    split at q1
    · omega
    · omega
  · exact h
theorem tkP_in (tx : Int → Int) (tl sg p : Int) : p ≤ tkP tx tl sg p ∧ (tkP tx tl sg p ≤ tl ∨ tkP tx tl sg p = p) := by
  have h := tk0_in tx tl sg p
  have h2 := (digN_in tx tl 6 (tk0 tx tl sg p) 0 (by decide) (by omega)).1
  unfold tkP
  omega
theorem tkV_in (tx : Int → Int) (tl sg p : Int) : -1000000 < tkV tx tl sg p ∧ tkV tx tl sg p < 1000000 := by
  have h2 := (digN_in tx tl 6 (tk0 tx tl sg p) 0 (by decide) (by omega)).2
  unfold tkV
  split <;> omega
/-- n numbers from p on, the k-th of them the one with a sign where k = sg: are they all there; the place behind; where the j-th begins -/
abbrev sgn (k sg : Int) : Int := if k = sg then 1 else 0
def taO (tx : Int → Int) (tl sg : Int) : Nat → Int → Int → Prop
  | 0, _, _ => True
  | n + 1, k, p => okT tx tl (sgn k sg) p ∧ taO tx tl sg n (k + 1) (tkP tx tl (sgn k sg) p)
noncomputable def taP (tx : Int → Int) (tl sg : Int) : Nat → Int → Int → Int
  | 0, _, p => p
  | n + 1, k, p => @ite _ (okT tx tl (sgn k sg) p) (Classical.propDecidable _) (taP tx tl sg n (k + 1) (tkP tx tl (sgn k sg) p)) (tkP tx tl (sgn k sg) p)
def taB (tx : Int → Int) (tl sg : Int) : Nat → Int → Int
  | 0, p => p
  | j + 1, p => tkP tx tl (sgn j sg) (taB tx tl sg j p)
def taV (tx : Int → Int) (tl sg p j : Int) : Int := tkV tx tl (sgn j sg) (taB tx tl sg j.toNat p)
theorem taP_in (tx : Int → Int) (tl sg : Int) (n : Nat) (k p : Int) : p ≤ taP tx tl sg n k p ∧ (taP tx tl sg n k p ≤ tl ∨ taP tx tl sg n k p = p) := by
  induction n generalizing k p with
  | zero => exact ⟨Int.le_refl _, Or.inr rfl⟩
  | succ n ih =>
    have h := tkP_in tx tl (sgn k sg) p
    unfold taP
    split
    · have := ih (k + 1) (tkP tx tl (sgn k sg) p)
      omega
    · exact h
theorem taB_in (tx : Int → Int) (tl sg : Int) (j : Nat) (p : Int) : p ≤ taB tx tl sg j p ∧ (taB tx tl sg j p ≤ tl ∨ taB tx tl sg j p = p) := by
  induction j with
  | zero => exact ⟨Int.le_refl _, Or.inr rfl⟩
  | succ j ih =>
    have h := tkP_in tx tl (sgn j sg) (taB tx tl sg j p)
    unfold taB
    omega
/-- an order's letter; its numbers: how many, which has a sign -/
abbrev okC (c : Int) : Prop := c = 119 ∨ c = 115 ∨ c = 112 ∨ c = 99 ∨ c = 116 ∨ c = 97 ∨ c = 120
def nmO (c : Int) : Int := if c = 119 then 2 else if c = 115 ∨ c = 99 then 3 else if c = 112 then 4 else 1
def sgO (c : Int) : Int := if c = 115 then 2 else -1
/-- an order at p: its letter, the place where its numbers begin; is it one; where it is gone, or what stands wrong -/
def orC (tx : Int → Int) (tl p : Int) : Int := chA tx tl (skS tx tl p)
def orB (tx : Int → Int) (tl p : Int) : Int := skS tx tl p + 1
noncomputable def orT (tx : Int → Int) (tl p : Int) : Int := taP tx tl (sgO (orC tx tl p)) (nmO (orC tx tl p)).toNat 0 (orB tx tl p)
def orO (tx : Int → Int) (tl p : Int) : Prop := okC (orC tx tl p) ∧ taO tx tl (sgO (orC tx tl p)) (nmO (orC tx tl p)).toNat 0 (orB tx tl p) ∧ chA tx tl (skS tx tl (orT tx tl p)) = 59
noncomputable def orP (tx : Int → Int) (tl p : Int) : Int := if okC (orC tx tl p) then (@ite _ (taO tx tl (sgO (orC tx tl p)) (nmO (orC tx tl p)).toNat 0 (orB tx tl p)) (Classical.propDecidable _) (if chA tx tl (skS tx tl (orT tx tl p)) = 59 then skS tx tl (orT tx tl p) + 1 else skS tx tl (orT tx tl p)) (orT tx tl p)) else skS tx tl p
def orV (tx : Int → Int) (tl p j : Int) : Int := taV tx tl (sgO (orC tx tl p)) (orB tx tl p) j
theorem orV_in (tx : Int → Int) (tl p j : Int) : -1000000 < orV tx tl p j ∧ orV tx tl p j < 1000000 := tkV_in _ _ _ _
theorem orP_in {tx : Int → Int} {tl p : Int} (hp : p ≤ tl) : p ≤ orP tx tl p ∧ orP tx tl p ≤ tl ∧ (orO tx tl p → p < orP tx tl p) := by
  have h1 := skS_in tx tl p
  have hC : okC (orC tx tl p) → skS tx tl p < tl := by
    intro q
    unfold orC chA at q
    by_cases z : skS tx tl p < tl
    · exact z
    · rw [if_neg z] at q; omega
  have h2 := taP_in tx tl (sgO (orC tx tl p)) (nmO (orC tx tl p)).toNat 0 (orB tx tl p)
  have h3 := skS_in tx tl (orT tx tl p)
  have h4 : chA tx tl (skS tx tl (orT tx tl p)) = 59 → skS tx tl (orT tx tl p) < tl := by
    intro q
    unfold chA at q
    by_cases z : skS tx tl (orT tx tl p) < tl
    · exact z
    · rw [if_neg z] at q; omega
  have h5 : orT tx tl p = taP tx tl (sgO (orC tx tl p)) (nmO (orC tx tl p)).toNat 0 (orB tx tl p) := rfl
  have h6 : orB tx tl p = skS tx tl p + 1 := rfl
  unfold orP orO
  by_cases a1 : okC (orC tx tl p)
  · have h7 := hC a1
    rw [if_pos a1]
    by_cases a2 : taO tx tl (sgO (orC tx tl p)) (nmO (orC tx tl p)).toNat 0 (orB tx tl p)
    · rw [if_pos a2]
      split
      · rename_i a3
        have := h4 a3
        omega
      · refine ⟨by omega, by omega, fun q => by omega⟩
    · rw [if_neg a2]
      exact ⟨by omega, by omega, fun q => absurd q.2.1 a2⟩
  · rw [if_neg a1]
    exact ⟨by omega, by omega, fun q => absurd q.1 a1⟩
/-- may an order be done; what it does -/
def canO (g : Int → Int) (c a b d v : Int) : Int := if c = 119 then (if okWorld a b then 0 else -2) else if c = 115 then canS g a b d else if c = 112 then (if okPaint g a b d v then 0 else -2) else if c = 99 then (if okDots g a b d then 0 else -2) else if c = 116 then (if okSets 0 a then 0 else -2) else if c = 97 then (if okSets 1 a then 0 else -2) else if okPic g a then 0 else -2
def doO (g : Int → Int) (c a b d v : Int) : Int → Int := if c = 119 then worldS g a b else if c = 115 then shotS g a b d else if c = 120 then dropS g a else if c = 112 then fup g (196 + 35 * a + 8 * b + d) v else if c = 99 then fup g (4 + 32 * a + b) d else if c = 116 then fup g 1 a else fup g 2 a
theorem canO_in (g : Int → Int) (c a b d v : Int) : canO g c a b d v = 0 ∨ canO g c a b d v = -2 ∨ canO g c a b d v = -4 := by
  have := canS_in g a b d
  unfold canO
  (repeat' split) <;> omega
theorem taO_0 {tx : Int → Int} {tl sg k p : Int} : taO tx tl sg 0 k p := trivial
theorem digN_stop {tx : Int → Int} {tl : Int} {n : Nat} {p v : Int} (h : ¬ fig tx tl p) : digN tx tl n p v = (p, v) := by
  cases n with
  | zero => rfl
  | succ n => unfold digN; rw [if_neg h]
theorem digN_go {tx : Int → Int} {tl : Int} {n : Nat} {p v : Int} (h : fig tx tl p) : digN tx tl (n + 1) p v = digN tx tl n (p + 1) (10 * v + tx p - 48) := by
  rw [digN, if_pos h]

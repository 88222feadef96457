/-! THE PURE STATE: 406 numbers (how wide, two settings, how many; the world; six pictures), and what is done with them -/
def pc (g : Int → Int) (k r c : Int) : Int := g (196 + 35 * k + 8 * r + c)
/-- x (0), y (1), how wide (2) -/
def sh (g : Int → Int) (k what : Int) : Int := g (196 + 35 * k + 32 + what)
def okS (g : Int → Int) : Prop := (0 ≤ g 3 ∧ g 3 ≤ 6) ∧ (g 0 = 0 ∨ 12 ≤ g 0 ∧ g 0 ≤ 32) ∧ (1 ≤ g 1 ∧ g 1 ≤ 126) ∧ (0 ≤ g 2 ∧ g 2 ≤ 63) ∧ (∀ i, 4 ≤ i → i < 196 → 0 ≤ g i ∧ g i ≤ 63) ∧ (∀ k r c, 0 ≤ k → k ≤ 5 → 0 ≤ r → r ≤ 3 → 0 ≤ c → c ≤ 7 → 0 ≤ pc g k r c ∧ pc g k r c ≤ 63) ∧ ∀ k, 0 ≤ k → k < g 3 → (0 ≤ sh g k 0 ∧ sh g k 0 ≤ 31) ∧ (0 ≤ sh g k 1 ∧ sh g k 1 ≤ 2) ∧ 12 ≤ sh g k 2 ∧ sh g k 2 ≤ 32
theorem okS.many {g : Int → Int} (h : okS g) : 0 ≤ g 3 ∧ g 3 ≤ 6 := h.1
theorem okS.wide {g : Int → Int} (h : okS g) : g 0 = 0 ∨ 12 ≤ g 0 ∧ g 0 ≤ 32 := h.2.1
theorem okS.ch {g : Int → Int} (h : okS g) : 1 ≤ g 1 ∧ g 1 ≤ 126 := h.2.2.1
theorem okS.al {g : Int → Int} (h : okS g) : 0 ≤ g 2 ∧ g 2 ≤ 63 := h.2.2.2.1
theorem okS.wo {g : Int → Int} (h : okS g) (i : Int) (h1 : 4 ≤ i) (h2 : i < 196) : 0 ≤ g i ∧ g i ≤ 63 := h.2.2.2.2.1 i h1 h2
theorem okS.pc {g : Int → Int} (h : okS g) (k r c : Int) (h1 : 0 ≤ k) (h2 : k ≤ 5) (h3 : 0 ≤ r) (h4 : r ≤ 3) (h5 : 0 ≤ c) (h6 : c ≤ 7) : 0 ≤ pc g k r c ∧ pc g k r c ≤ 63 := h.2.2.2.2.2.1 k r c h1 h2 h3 h4 h5 h6
theorem okS.sh {g : Int → Int} (h : okS g) (k : Int) (h1 : 0 ≤ k) (h2 : k < g 3) : (0 ≤ sh g k 0 ∧ sh g k 0 ≤ 31) ∧ (0 ≤ sh g k 1 ∧ sh g k 1 ≤ 2) ∧ 12 ≤ sh g k 2 ∧ sh g k 2 ≤ 32 := h.2.2.2.2.2.2 k h1 h2
-- going back
def shiftP (f : Int → Int) : Int → Int := fun j => if 0 ≤ j ∧ j < 1624 then f (j + 406) else f j
def putP (f g : Int → Int) (n : Int) : Int → Int := fun j => if 406 * n ≤ j ∧ j < 406 * n + 406 then g (j - 406 * n) else f j
def keepP (f g : Int → Int) (n : Int) : Int → Int := if n = 5 then putP (shiftP f) g 4 else putP f g n
def keepN (n : Int) : Int := if n = 5 then 5 else n + 1
-- the world
def lcg (s : Int) : Nat → Int
  | 0 => s
  | n + 1 => (lcg s n * 1103515245 + 12345) % 2147483648
theorem lcg_in {s : Int} (h : 0 ≤ s ∧ s ≤ 999999) (n : Nat) : 0 ≤ lcg s n ∧ lcg s n < 2147483648 := by
  cases n with
  | zero => unfold lcg; omega
  | succ n => unfold lcg; omega
def wv (s t : Int) : Int := lcg s t.toNat / 65536 % 64
def worldS (g : Int → Int) (s p : Int) : Int → Int := fun j => if j = 0 then p else if 4 ≤ j ∧ j < 196 ∧ (j - 4) % 32 < p then wv s (6 * ((j - 4) % 32) + (j - 4) / 32 + 1) else g j
def heldS (v : Int) : Int := if v < 0 then 0 else if 63 < v then 63 else v
def shotC (g : Int → Int) (x y d o : Int) : Int := heldS (g (4 + 32 * (y + o / 8) + (x + o % 8) % g 0) + d)
def shotS (g : Int → Int) (x y d : Int) : Int → Int := fun j => if j = 3 then g 3 + 1 else if 196 + 35 * g 3 ≤ j ∧ j < 196 + 35 * g 3 + 32 then shotC g x y d (j - (196 + 35 * g 3)) else if j = 196 + 35 * g 3 + 32 then x else if j = 196 + 35 * g 3 + 33 then y else if j = 196 + 35 * g 3 + 34 then g 0 else g j
def dropS (g : Int → Int) (k : Int) : Int → Int := fun j => if j = 3 then g 3 - 1 else if 196 + 35 * k ≤ j ∧ j < 196 + 35 * (g 3 - 1) then g (j + 35) else g j
def canS (g : Int → Int) (x y d : Int) : Int := if ¬ ((0 ≤ x ∧ x ≤ g 0 - 1) ∧ (0 ≤ y ∧ y ≤ 2) ∧ -20 ≤ d ∧ d ≤ 20) then -2 else if g 3 = 6 then -4 else 0
theorem keepP_eq {p g f f2 : Int → Int} {n n1 : Int} (hn : n1 = if n = 5 then 4 else n) (hf : ∀ j, f j = if n = 5 then shiftP p j else p j) (hf2 : ∀ j, f2 j = if 406 * n1 ≤ j ∧ j < 406 * n1 + 406 then g (j - 406 * n1) else f j) : f2 = keepP p g n := by
  funext j
  unfold keepP
  rw [hf2 j, hf j]
  by_cases h : n = 5
  · rw [if_pos h] at hn ⊢
    subst hn
    unfold putP
    rw [if_pos h]
  · rw [if_neg h] at hn ⊢
    subst hn
    unfold putP
    rw [if_neg h]

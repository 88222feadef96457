/-! SPEC: what the calls answer, which count of refusals they raise (-1: none), what state they leave -/
def rfu (re : Int → Int) (i : Int) : Int → Int := if i = -1 then re else fup re i (re i + 1)
/-- the twin's lasting state -/
abbrev core (A : Nat → Int → Int) (S : Nat → Int) (g past re tx : Int → Int) (st ck co tl : Int) : Prop := A 1 = g ∧ A 2 = past ∧ A 4 = re ∧ A 5 = tx ∧ S 3 = st ∧ S 5 = ck ∧ S 6 = co ∧ S 18 = tl
abbrev okPic (g : Int → Int) (k : Int) : Prop := 0 ≤ k ∧ k ≤ g 3 - 1
abbrev okCell (r c : Int) : Prop := (0 ≤ r ∧ r ≤ 3) ∧ 0 ≤ c ∧ c ≤ 7
abbrev okDot (g : Int → Int) (r c : Int) : Prop := (0 ≤ r ∧ r ≤ 5) ∧ 0 ≤ c ∧ c ≤ g 0 - 1
abbrev okTwo (g : Int → Int) (a b : Int) : Prop := okPic g a ∧ okPic g b ∧ ¬ a = b
abbrev okWorld (s q : Int) : Prop := (0 ≤ s ∧ s ≤ 999999) ∧ 12 ≤ q ∧ q ≤ 32
abbrev okDots (g : Int → Int) (r c v : Int) : Prop := okDot g r c ∧ 0 ≤ v ∧ v ≤ 63
abbrev okPaint (g : Int → Int) (k r c v : Int) : Prop := okPic g k ∧ okCell r c ∧ 0 ≤ v ∧ v ≤ 63
abbrev okSets (what v : Int) : Prop := what = 0 ∧ (1 ≤ v ∧ v ≤ 126) ∨ what = 1 ∧ (0 ≤ v ∧ v ≤ 63)
abbrev bad (P : Prop) [Decidable P] : Int := if P then -1 else 0
def worldV (g : Int → Int) (s q : Int) : Int := if okWorld s q then g 0 else -2
def worldG (g : Int → Int) (s q : Int) : Int → Int := if okWorld s q then worldS g s q else g
def keepPo (P : Prop) [Decidable P] (past g : Int → Int) (st : Int) : Int → Int := if P then keepP past g st else past
def keepNo (P : Prop) [Decidable P] (st : Int) : Int := if P then keepN st else st
def dotsV (g : Int → Int) (r c v : Int) : Int := if okDots g r c v then g (4 + 32 * r + c) else -2
def dotsG (g : Int → Int) (r c v : Int) : Int → Int := if okDots g r c v then fup g (4 + 32 * r + c) v else g
def shotV (g : Int → Int) (x y d : Int) : Int := if canS g x y d < 0 then canS g x y d else g 3
def shotR (g : Int → Int) (x y d : Int) : Int := if canS g x y d < 0 then -2 - canS g x y d else -1
def shotG (g : Int → Int) (x y d : Int) : Int → Int := if canS g x y d < 0 then g else shotS g x y d
def paintV (g : Int → Int) (k r c v : Int) : Int := if okPaint g k r c v then pc g k r c else -2
def paintG (g : Int → Int) (k r c v : Int) : Int → Int := if okPaint g k r c v then fup g (196 + 35 * k + 8 * r + c) v else g
def dropsV (g : Int → Int) (k : Int) : Int := if okPic g k then g 3 - 1 else -2
def dropsG (g : Int → Int) (k : Int) : Int → Int := if okPic g k then dropS g k else g
def setsV (g : Int → Int) (what v : Int) : Int := if okSets what v then g (1 + what) else -2
def setsG (g : Int → Int) (what v : Int) : Int → Int := if okSets what v then fup g (1 + what) v else g
abbrev okValue (g : Int → Int) (k r c : Int) : Prop := k = -1 ∧ okDot g r c ∨ ¬ k = -1 ∧ okPic g k ∧ okCell r c
def valueV (g : Int → Int) (k r c : Int) : Int := if okValue g k r c then (if k = -1 then g (4 + 32 * r + c) else pc g k r c) else -2
abbrev okChange (g : Int → Int) (k r c : Int) : Prop := okPic g k ∧ inn r c
def changeV (g : Int → Int) (k r c : Int) : Int := if okChange g k r c then chS g k r c else -2
def cornersV (g : Int → Int) (k : Int) : Int := if okPic g k then cset g k else -2
abbrev okVotes (g : Int → Int) (a b e f : Int) : Prop := okTwo g a b ∧ (-1 ≤ e ∧ e ≤ 1) ∧ 1 ≤ f ∧ f ≤ 5
def votesV (g : Int → Int) (a b e f : Int) : Int := if okVotes g a b e f then votesS g a b e f else -2
abbrev okLink (g : Int → Int) (a b what : Int) : Prop := okTwo g a b ∧ 0 ≤ what ∧ what ≤ 2
def linkV (g : Int → Int) (a b what : Int) : Int := if okLink g a b what then (if what = 0 then (bestS g a b).1 else if (bestS g a b).1 = 0 then -1 else if what = 1 then (bestS g a b).2.1 + 1 else (bestS g a b).2.2) else -2
abbrev okK1 (g : Int → Int) (k what : Int) : Prop := okPic g k ∧ 0 ≤ what ∧ what ≤ 1
abbrev okK3 (g : Int → Int) (k what : Int) : Prop := okPic g k ∧ 0 ≤ what ∧ what ≤ 3
noncomputable def chainV (g : Int → Int) (k what : Int) : Int := if okK1 g k what then (if what = 0 then foS g k else ahS g k) else -2
noncomputable def allV (g : Int → Int) (what : Int) : Int := if 0 ≤ what ∧ what ≤ 5 then allS g what else -2
noncomputable def placeS (g : Int → Int) (k what : Int) : Int := if what = 0 then wkS (fS g) g k else wkS (eS g) g k - (2 * sumE g * wkS (fun _ => 1) g k + g 3) / (2 * g 3) + 20
noncomputable def placeV (g : Int → Int) (k what : Int) : Int := if okK1 g k what then (@ite _ (closedS g) (Classical.propDecidable _) (placeS g k what) (-3)) else -2
noncomputable def placeR (g : Int → Int) (k what : Int) : Int := if okK1 g k what then (@ite _ (closedS g) (Classical.propDecidable _) (-1) 1) else 0
noncomputable def overV (g : Int → Int) (k what : Int) : Int := if okK3 g k what then (if foS g k = -1 then -3 else if what = 0 then cellS g k else if what = 1 then diffS 0 g k else if what = 2 then scS g k else diffS 1 g k + 2000) else -2
noncomputable def overR (g : Int → Int) (k what : Int) : Int := if okK3 g k what then (if foS g k = -1 then 1 else -1) else 0
noncomputable def seamV (g : Int → Int) (k r : Int) : Int := if okK3 g k r then (if foS g k = -1 then -3 else smS g k r) else -2
noncomputable def levelV (g : Int → Int) (k what : Int) : Int := if okK1 g k what then (if what = 0 then lowA (levS g k) (levD g) else lowB (levS g k) (levD g)) else -999999
noncomputable def restA (g : Int → Int) : Int := @ite _ (closedS g) (Classical.propDecidable _) (lowA (lfD g * lfD g) (5040 * shW g)) 0
noncomputable def restB (g : Int → Int) : Int := @ite _ (closedS g) (Classical.propDecidable _) (lowB (lfD g * lfD g) (5040 * shW g)) 1
noncomputable def restV (g : Int → Int) (what : Int) : Int := if 0 ≤ what ∧ what ≤ 1 then (if what = 0 then restA g else restB g) else -2
/-- from which column a row of a picture shows, to which -/
noncomputable def shFrom (g : Int → Int) (k r : Int) : Int := if ahS g k = -1 then 0 else if hrS g (ahS g k) (r + eS g (ahS g k)) then smS g (ahS g k) (r + eS g (ahS g k)) - fS g (ahS g k) else 0
noncomputable def shTo (g : Int → Int) (k r : Int) : Int := if foS g k = -1 then 8 else if hrS g k r then smS g k r else 8
noncomputable def showS (g : Int → Int) (k r : Int) : Int := bset (fun j => decide (shFrom g k r ≤ (j : Int))) (shTo g k r).toNat
noncomputable def showsV (g : Int → Int) (k r : Int) : Int := if okK3 g k r then showS g k r else -2
noncomputable def seenS (g : Int → Int) (k r c : Int) : Int := heldS ((2 * (pc g k r c * lowB (levS g k) (levD g) + lowA (levS g k) (levD g)) + lowB (levS g k) (levD g)) / (2 * lowB (levS g k) (levD g)))
noncomputable def seenV (g : Int → Int) (k r c : Int) : Int := if okPic g k ∧ okCell r c then seenS g k r c else -2
def backG (g past : Int → Int) (st : Int) : Int → Int := if st = 0 then g else fun j => if 0 ≤ j ∧ j < 406 then past (406 * (st - 1) + j) else g j
def toldS (g re : Int → Int) (st tl what : Int) : Int := if what = 3 then tl else if what = 4 then g 0 else if what = 5 then g 3 else if what = 6 then g 1 else if what = 7 then g 2 else if what = 8 then st else re what
def toldV (g re : Int → Int) (st tl what : Int) : Int := if 0 ≤ what ∧ what ≤ 8 then toldS g re st tl what else -2
theorem shFrom_in {g : Int → Int} (k r : Int) (hr : 0 ≤ r) : 0 ≤ shFrom g k r ∧ shFrom g k r ≤ 7 := by
  unfold shFrom
  split
  · omega
  · split
    · rename_i q
      have h1 := smS_in g (ahS g k) (r + eS g (ahS g k))
      have h2 := (smS_hr (g := g) (a := ahS g k) (r := r + eS g (ahS g k)) (by omega))
      have h3 : ¬ smS g (ahS g k) (r + eS g (ahS g k)) = -1 := fun e => h2.mp e q
      have h4 := efS_in (g := g) (ahS g k)
      omega
    · omega
theorem shTo_in {g : Int → Int} (k r : Int) (hr : 0 ≤ r) : 0 ≤ shTo g k r ∧ shTo g k r ≤ 8 := by
  unfold shTo
  split
  · omega
  · split
    · rename_i q
      have h1 := smS_in g k r
      have h2 := (smS_hr (g := g) (a := k) (r := r) hr)
      have h3 : ¬ smS g k r = -1 := fun e => h2.mp e q
      have h4 := efS_in (g := g) k
      omega
    · omega
theorem bset_lo {P : Nat → Bool} {n : Nat} (h : ∀ j, j < n → P j = false) : bset P n = 0 := by
  induction n with
  | zero => rfl
  | succ n ih => unfold bset; rw [ih (fun j hj => h j (by omega)), h n (by omega)]; rfl
theorem canS_in (g : Int → Int) (x y d : Int) : canS g x y d = -2 ∨ canS g x y d = -4 ∨ canS g x y d = 0 := by
  unfold canS
  split
  · exact Or.inl rfl
  · split
    · exact Or.inr (Or.inl rfl)
    · exact Or.inr (Or.inr rfl)
theorem canS_0 {g : Int → Int} {x y d : Int} (h : ¬ canS g x y d < 0) : ((0 ≤ x ∧ x ≤ g 0 - 1) ∧ (0 ≤ y ∧ y ≤ 2) ∧ -20 ≤ d ∧ d ≤ 20) ∧ g 3 ≠ 6 := by
  unfold canS at h
  split at h
  · exact absurd h (by decide)
  · rename_i q
    split at h
    · exact absurd h (by decide)
    · exact ⟨Decidable.of_not_not q, by assumption⟩
abbrev okType (c : Int) : Prop := 0 ≤ c ∧ c ≤ 127
def typeV (tl c : Int) : Int := if okType c then (if tl = 120 then -4 else tl + 1) else -2
def typeR (tl c : Int) : Int := if okType c then (if tl = 120 then 2 else -1) else 0
def typeT (tx : Int → Int) (tl c : Int) : Int → Int := if okType c then (if tl = 120 then tx else fup tx tl c) else tx
def typeL (tl c : Int) : Int := if okType c then (if tl = 120 then tl else tl + 1) else tl
def whyV (ck co what : Int) : Int := if 0 ≤ what ∧ what ≤ 1 then (if what = 0 then ck else co) else -10
def backV (st : Int) : Int := if st = 0 then -3 else st - 1
def backN (st : Int) : Int := if st = 0 then 0 else st - 1
noncomputable def tolN (g re : Int → Int) (st tl : Int) : Nat → Int
  | 0 => 2269
  | n + 1 => 31 * tolN g re st tl n + toldS g re st tl n
def celN (g : Int → Int) (k h : Int) : Nat → Int
  | 0 => h
  | n + 1 => 31 * celN g k h n + pc g k ((n : Int) / 8) ((n : Int) % 8)
noncomputable def picN (g : Int → Int) (h : Int) : Nat → Int
  | 0 => h
  | k + 1 => 31 * (31 * celN g k (picN g h k) 32 + cset g k) + foS g k
noncomputable def alN (g : Int → Int) (h : Int) : Nat → Int
  | 0 => h
  | n + 1 => 31 * alN g h n + allS g n
noncomputable def digS (g re : Int → Int) (st ck co tl : Int) : Int := alN g (picN g (31 * (31 * tolN g re st tl 9 + ck) + co) (g 3).toNat) 6
theorem tolN_s {g re : Int → Int} {st tl i : Int} (h : 0 ≤ i) : tolN g re st tl (i + 1).toNat = 31 * tolN g re st tl i.toNat + toldS g re st tl i := by
  rw [show (i + 1).toNat = i.toNat + 1 by omega, tolN, show (i.toNat : Int) = i by omega]
theorem celN_s {g : Int → Int} {k h i : Int} (h0 : 0 ≤ i) : celN g k h (i + 1).toNat = 31 * celN g k h i.toNat + pc g k (i / 8) (i % 8) := by
  rw [show (i + 1).toNat = i.toNat + 1 by omega, celN, show (i.toNat : Int) = i by omega]
theorem picN_s {g : Int → Int} {h k : Int} (h0 : 0 ≤ k) : picN g h (k + 1).toNat = 31 * (31 * celN g k (picN g h k.toNat) 32 + cset g k) + foS g k := by
  rw [show (k + 1).toNat = k.toNat + 1 by omega, picN, show (k.toNat : Int) = k by omega]
theorem alN_s {g : Int → Int} {h i : Int} (h0 : 0 ≤ i) : alN g h (i + 1).toNat = 31 * alN g h i.toNat + allS g i := by
  rw [show (i + 1).toNat = i.toNat + 1 by omega, alN, show (i.toNat : Int) = i by omega]
theorem toldS_in {g re : Int → Int} {st tl what : Int} (h : okS g) (h1 : 0 ≤ st ∧ st ≤ 5) (h2 : 0 ≤ tl ∧ tl ≤ 120) (h3 : ∀ i, 0 ≤ i → i ≤ 2 → rI (re i)) (h4 : 0 ≤ what ∧ what ≤ 8) : rI (toldS g re st tl what) := by
  have a1 := h.many
  have a2 := h.wide
  have a3 := h.ch
  have a4 := h.al
  unfold toldS
  (repeat' split) <;> first | exact ⟨by omega, by omega⟩ | exact h3 what (by omega) (by omega)
theorem allS_in {g : Int → Int} (h : okS g) (what : Int) : -100 ≤ allS g what ∧ allS g what ≤ 100 := by
  have a1 := h.many
  have a2 := takenN_in g (g 3).toNat
  have a3 := sumF_in (h := fS g) (g := g) (B := 5) (fun a => by have := efS_in (g := g) a; omega) (by omega) (g 3).toNat
  have a4 := sumF_in (h := eS g) (g := g) (B := 5) (fun a => by have := efS_in (g := g) a; omega) (by omega) (g 3).toNat
  have a5 := cntN_in (fun a => ¬ foS g a = -1 ∧ rightS g a) (g 3).toNat
  have a6 := cntN_in (fun a => ahS g a = -1) (g 3).toNat
  unfold allS takenS sumFf sumE rightN firstN
  (repeat' split) <;> omega
theorem ediv_in {v b B : Int} (hb : 0 < b) (hB : 0 ≤ B) (hv : -B ≤ v ∧ v ≤ B) : -B ≤ v / b ∧ v / b ≤ B := by
  constructor
  · refine Int.le_trans ?_ (Int.ediv_le_ediv hb hv.1)
    obtain ⟨q, hq⟩ : ∃ q, q = -B / b := ⟨_, rfl⟩
    have e := Int.mul_ediv_add_emod (-B) b
    have e3 := Int.emod_lt_of_pos (-B) hb
    rw [← hq] at e ⊢
    by_cases hq0 : -B ≤ q
    · exact hq0
    · exfalso
      have e5 : 1 * (-B - 1 - q) ≤ b * (-B - 1 - q) := Int.mul_le_mul_of_nonneg_right (by omega) (by omega)
      have e6 : b * (-B - 1 - q) = b * (-B - 1) - b * q := Int.mul_sub _ _ _
      have e7 : b * (-B - 1) = -(b * (B + 1)) := by rw [show (-B - 1) = -(B + 1) by omega, Int.mul_neg]
      have e9 : b * (B + 1) = b * B + b := by rw [Int.mul_add, Int.mul_one]
      have e10 : 1 * B ≤ b * B := Int.mul_le_mul_of_nonneg_right (by omega) hB
      omega
  · exact Int.le_trans (Int.ediv_le_ediv hb hv.2) (Int.ediv_le_self _ hB)
theorem sq_in {x A : Int} (hA : 0 ≤ A) (h : -A ≤ x ∧ x ≤ A) : -(A * A) ≤ x * x ∧ x * x ≤ A * A := by
  rcases Int.le_total 0 x with q | q
  · exact mul_in h ⟨q, h.2⟩ hA
  · have h1 := mul_in (a := -x) (b := -x) (A := A) (B := A) ⟨by omega, by omega⟩ ⟨by omega, by omega⟩ hA
    rw [Int.neg_mul_neg] at h1
    exact h1
theorem lfD_in {g : Int → Int} (h : okS g) (hc : closedS g) : -6773760 ≤ lfD g ∧ lfD g ≤ 6773760 := by
  have hm := h.many
  have h3 := lfN_in h (g 3).toNat (by omega) (fun b b0 b1 => closed_all hc b0 b1)
  unfold lfD
  omega
theorem shW_in {g : Int → Int} (h : okS g) (hc : closedS g) : 2 ≤ shW g ∧ shW g ≤ 3360 := by
  have hm := h.many
  have h2 := shN_in g (g 3).toNat
  have h3 := hc.1
  unfold shW
  omega

/-! SPEC: corners, votes, links -/
def prS (g : Int → Int) (k r c dr dc : Int) : Int := (Int.natAbs (pc g k r c - pc g k (r + dr) (c + dc)) : Int) + (Int.natAbs (pc g k r c - pc g k (r - dr) (c - dc)) : Int)
def chS (g : Int → Int) (k r c : Int) : Int := min (min (min (prS g k r c 0 1) (prS g k r c 1 0)) (prS g k r c 1 1)) (prS g k r c 1 (-1))
abbrev inn (r c : Int) : Prop := (1 ≤ r ∧ r ≤ 2) ∧ 1 ≤ c ∧ c ≤ 6
abbrev isC (g : Int → Int) (k r c : Int) : Prop := inn r c ∧ g 1 ≤ chS g k r c
theorem prS_in {g : Int → Int} (h : okS g) {k r c dr dc : Int} (h1 : 0 ≤ k ∧ k ≤ 5) (h2 : 1 ≤ r ∧ r ≤ 2) (h3 : 1 ≤ c ∧ c ≤ 6) (h4 : -1 ≤ dr ∧ dr ≤ 1) (h5 : -1 ≤ dc ∧ dc ≤ 1) : 0 ≤ prS g k r c dr dc ∧ prS g k r c dr dc ≤ 126 := by
  have a1 := h.pc k r c (by omega) (by omega) (by omega) (by omega) (by omega) (by omega)
  have a2 := h.pc k (r + dr) (c + dc) (by omega) (by omega) (by omega) (by omega) (by omega) (by omega)
  have a3 := h.pc k (r - dr) (c - dc) (by omega) (by omega) (by omega) (by omega) (by omega) (by omega)
  unfold prS
  omega
theorem chS_in {g : Int → Int} (h : okS g) {k r c : Int} (h1 : 0 ≤ k ∧ k ≤ 5) (h2 : inn r c) : 0 ≤ chS g k r c ∧ chS g k r c ≤ 126 := by
  have a1 := prS_in h (dr := 0) (dc := 1) h1 h2.1 h2.2 (by omega) (by omega)
  have a2 := prS_in h (dr := 1) (dc := 0) h1 h2.1 h2.2 (by omega) (by omega)
  have a3 := prS_in h (dr := 1) (dc := 1) h1 h2.1 h2.2 (by omega) (by omega)
  have a4 := prS_in h (dr := 1) (dc := -1) h1 h2.1 h2.2 (by omega) (by omega)
  unfold chS
  omega
/-- a set of places below n, as a number -/
def bset (P : Nat → Bool) : Nat → Int
  | 0 => 0
  | n + 1 => bset P n + if P n then 2 ^ n else 0
theorem pow_s (n : Nat) : (2 : Int) ^ (n + 1) = 2 * 2 ^ n := by rw [Int.pow_succ]; omega
theorem pow_p (n : Nat) : (0 : Int) < 2 ^ n := Int.pow_pos (by omega)
theorem bset_in (P : Nat → Bool) (n : Nat) : 0 ≤ bset P n ∧ bset P n < 2 ^ n := by
  induction n with
  | zero => unfold bset; decide
  | succ n ih =>
    have h1 := pow_s n
    have h2 := pow_p n
    unfold bset
    split <;> omega
theorem bset_congr {P P' : Nat → Bool} {n : Nat} (h : ∀ j, j < n → P j = P' j) : bset P n = bset P' n := by
  induction n with
  | zero => rfl
  | succ n ih => unfold bset; rw [ih (fun j hj => h j (by omega)), h n (by omega)]
theorem bset_at (P : Nat → Bool) {n j : Nat} (h : j < n) : bset P n / 2 ^ j % 2 = if P j then 1 else 0 := by
  induction n with
  | zero => omega
  | succ n ih =>
    have h2 := pow_p j
    unfold bset
    by_cases hj : j = n
    · subst hj
      have h1 := bset_in P j
      split
      · rw [Int.add_ediv_of_dvd_right (Int.dvd_refl _), Int.ediv_self (by omega), Int.ediv_eq_zero_of_lt h1.1 h1.2]; decide
      · rw [Int.add_zero, Int.ediv_eq_zero_of_lt h1.1 h1.2]; decide
    · have ih := ih (by omega)
      obtain ⟨d, rfl⟩ : ∃ d, n = j + 1 + d := ⟨n - j - 1, by omega⟩
      split
      · have e : (2 : Int) ^ (j + 1 + d) = 2 ^ j * (2 * 2 ^ d) := by rw [show j + 1 + d = j + (1 + d) by omega, Int.pow_add, Int.pow_add]; simp
        rw [e, Int.add_mul_ediv_left _ _ (by omega)]
        omega
      · rw [Int.add_zero]; exact ih
theorem zI_n (n : Nat) : zI (n : Int) = nI n := Int32.ofInt_eq_ofNat
theorem zI_sh1 : ∀ n : Fin 31, zI 1 <<< (nI n.val &&& 31) = nI (2 ^ n.val) := by decide +kernel
theorem zI_sml : ∀ n : Fin 32, ((nI n.val &&& 31).toBitVec.smod 32).toNat = n.val := by decide +kernel
theorem nI_or (a b : Nat) : nI a ||| nI b = nI (a ||| b) := by
  apply Int32.toBitVec_inj.1
  show BitVec.ofNat 32 a ||| BitVec.ofNat 32 b = BitVec.ofNat 32 (a ||| b)
  apply BitVec.eq_of_getLsbD_eq
  intro i hi
  simp [hi]
theorem bv_or {x n : Nat} (hx : x < 2 ^ n) : x ||| 2 ^ n = x + 2 ^ n := by
  have h := Nat.two_pow_add_eq_or_of_lt hx 1
  simp only [Nat.mul_one] at h
  rw [Nat.or_comm, ← h, Nat.add_comm]
theorem zI_orb {x n : Int} {k : Nat} (hn : n = k) (hk : k < 31) (h0 : 0 ≤ x) (h1 : x < 2 ^ k) : zI x ||| (zI 1 <<< (zI n &&& 31)) = zI (x + 2 ^ k) := by
  subst hn
  obtain ⟨X, rfl⟩ := Int.eq_ofNat_of_zero_le h0
  have h2 : X < 2 ^ k := by exact_mod_cast h1
  rw [zI_n, zI_n, zI_sh1 ⟨k, hk⟩, nI_or, bv_or h2, ← zI_n]
  congr 1
theorem zI_or0 (x : Int) : zI x ||| zI 0 = zI x := by
  apply Int32.toBitVec_inj.1
  show (zI x).toBitVec ||| 0#32 = (zI x).toBitVec
  simp
theorem zI_tst {x n : Int} {k : Nat} (hn : n = k) (hk : k < 31) (h0 : 0 ≤ x) (h1 : x < 2147483648) : (zI x >>> (zI n &&& 31)) &&& zI 1 = zI (x / 2 ^ k % 2) := by
  subst hn
  obtain ⟨X, rfl⟩ := Int.eq_ofNat_of_zero_le h0
  have h2 : X / 2 ^ k ≤ X := Nat.div_le_self _ _
  rw [zI_n, zI_n, pk_shrN (by omega) _ k (zI_sml ⟨k, by omega⟩), pk_andN (by omega) 1 (by decide), ← zI_n]
  congr 1
abbrev cP (g : Int → Int) (k : Int) (j : Nat) : Bool := decide (isC g k (1 + (j : Int) / 6) (1 + (j : Int) % 6))
def csetN (g : Int → Int) (k : Int) (n : Nat) : Int := bset (cP g k) n
def cset (g : Int → Int) (k : Int) : Int := csetN g k 12
abbrev vtP (g : Int → Int) (a b e f r c : Int) : Prop := (isC g a r c ∧ isC g b (r - e) (c - f)) ∧ (Int.natAbs (pc g a r c - pc g b (r - e) (c - f)) : Int) ≤ g 2
def votesN (g : Int → Int) (a b e f : Int) : Nat → Int
  | 0 => 0
  | n + 1 => votesN g a b e f n + if vtP g a b e f (1 + (n : Int) / 6) (1 + (n : Int) % 6) then 1 else 0
def votesS (g : Int → Int) (a b e f : Int) : Int := votesN g a b e f 12
theorem votesN_in (g : Int → Int) (a b e f : Int) (n : Nat) : 0 ≤ votesN g a b e f n ∧ votesN g a b e f n ≤ n := by
  induction n with
  | zero => unfold votesN; omega
  | succ n ih => unfold votesN; split <;> omega
theorem votesS_in (g : Int → Int) (a b e f : Int) : 0 ≤ votesS g a b e f ∧ votesS g a b e f ≤ 12 := votesN_in g a b e f 12
/-- the t-th way that a shift is tried: its e, its f -/
def cE (t : Nat) : Int := if t < 5 then 0 else if (t - 5) % 2 = 0 then -1 else 1
def cF (t : Nat) : Int := if t < 5 then (t : Int) + 1 else ((t : Int) - 5) / 2 + 1
def bestN (g : Int → Int) (a b : Int) : Nat → Int × Int × Int
  | 0 => (0, 0, 0)
  | t + 1 => if (bestN g a b t).1 < votesS g a b (cE t) (cF t) then (votesS g a b (cE t) (cF t), cE t, cF t) else bestN g a b t
def bestS (g : Int → Int) (a b : Int) : Int × Int × Int := bestN g a b 15
theorem bestN_in (g : Int → Int) (a b : Int) (t : Nat) (ht : t ≤ 15) : (0 ≤ (bestN g a b t).1 ∧ (bestN g a b t).1 ≤ 12) ∧ ((bestN g a b t).1 = 0 ∧ (bestN g a b t).2.1 = 0 ∧ (bestN g a b t).2.2 = 0 ∨ (0 < (bestN g a b t).1 ∧ (-1 ≤ (bestN g a b t).2.1 ∧ (bestN g a b t).2.1 ≤ 1) ∧ 1 ≤ (bestN g a b t).2.2 ∧ (bestN g a b t).2.2 ≤ 5)) := by
  induction t with
  | zero => simp [bestN]
  | succ t ih =>
    have ih := ih (by omega)
    unfold bestN
    split
    · have h1 := votesS_in g a b (cE t) (cF t)
      have h2 : -1 ≤ cE t ∧ cE t ≤ 1 := by unfold cE; split <;> (try split) <;> omega
      have h3 : 1 ≤ cF t ∧ cF t ≤ 5 := by unfold cF; split <;> omega
      refine ⟨by simpa using h1, Or.inr ⟨?_, h2, h3⟩⟩
      show 0 < votesS g a b (cE t) (cF t)
      omega
    · exact ih
theorem cset_step {g : Int → Int} {k r c : Int} (h : inn r c) : csetN g k (6 * (r - 1) + (c + 1) - 1).toNat = csetN g k (6 * (r - 1) + c - 1).toNat + if isC g k r c then 2 ^ (6 * (r - 1) + c - 1).toNat else 0 := by
  obtain ⟨N, hN⟩ : ∃ N : Nat, 6 * (r - 1) + c - 1 = N := ⟨(6 * (r - 1) + c - 1).toNat, by omega⟩
  have e1 : (6 * (r - 1) + c - 1).toNat = N := by omega
  have e2 : (6 * (r - 1) + (c + 1) - 1).toNat = N + 1 := by omega
  have e3 : 1 + (N : Int) / 6 = r := by omega
  have e4 : 1 + (N : Int) % 6 = c := by omega
  rw [e1, e2]
  show csetN g k N + (if cP g k N = true then 2 ^ N else 0) = _
  unfold cP
  rw [e3, e4]
  by_cases q : isC g k r c
  · rw [if_pos q, if_pos (decide_eq_true q)]
  · rw [if_neg q, if_neg (by rw [decide_eq_false q]; decide)]
theorem cset_in (g : Int → Int) (k : Int) : 0 ≤ cset g k ∧ cset g k < 4096 := bset_in _ 12
theorem cset_tst {g : Int → Int} {k r c : Int} (h : inn r c) : cset g k / 2 ^ (6 * (r - 1) + c - 1).toNat % 2 = if isC g k r c then 1 else 0 := by
  obtain ⟨N, hN⟩ : ∃ N : Nat, 6 * (r - 1) + c - 1 = N := ⟨(6 * (r - 1) + c - 1).toNat, by omega⟩
  have e1 : (6 * (r - 1) + c - 1).toNat = N := by omega
  have e3 : 1 + (N : Int) / 6 = r := by omega
  have e4 : 1 + (N : Int) % 6 = c := by omega
  rw [e1]
  refine (bset_at (cP g k) (n := 12) (by omega)).trans ?_
  unfold cP
  rw [e3, e4]
  by_cases q : isC g k r c
  · rw [if_pos q, if_pos (decide_eq_true q)]
  · rw [if_neg q, if_neg (by rw [decide_eq_false q]; decide)]
theorem votes_step {g : Int → Int} {a b e f r c : Int} (h : inn r c) : votesN g a b e f (6 * (r - 1) + (c + 1) - 1).toNat = votesN g a b e f (6 * (r - 1) + c - 1).toNat + if vtP g a b e f r c then 1 else 0 := by
  obtain ⟨N, hN⟩ : ∃ N : Nat, 6 * (r - 1) + c - 1 = N := ⟨(6 * (r - 1) + c - 1).toNat, by omega⟩
  have e1 : (6 * (r - 1) + c - 1).toNat = N := by omega
  have e2 : (6 * (r - 1) + (c + 1) - 1).toNat = N + 1 := by omega
  have e3 : 1 + (N : Int) / 6 = r := by omega
  have e4 : 1 + (N : Int) % 6 = c := by omega
  rw [e1, e2]
  show votesN g a b e f N + (if vtP g a b e f (1 + (N : Int) / 6) (1 + (N : Int) % 6) then 1 else 0) = _
  rw [e3, e4]
def t0 (far : Int) : Nat := if far = 0 then 0 else if far = 1 then 5 else 15
def t1 (far f : Int) : Nat := if far = 0 then (f - 1).toNat else (5 + 2 * (f - 1)).toNat
def t2 (far f e : Int) : Nat := if far = 0 then (f - 1 + e).toNat else (5 + 2 * (f - 1) + (if e = -1 then 0 else if e = 2 then 2 else 1)).toNat
theorem t1_in {far : Int} (h : 0 ≤ far ∧ far ≤ 1) : t0 far = t1 far 1 := by unfold t0 t1; split <;> (try split) <;> omega
theorem t1_out {far : Int} (h : 0 ≤ far ∧ far ≤ 1) : t1 far 6 = t0 (far + 1) := by unfold t0 t1; split <;> split <;> (try split) <;> omega
theorem t2_in {far f : Int} (h : 0 ≤ far ∧ far ≤ 1) (hf : 1 ≤ f ∧ f ≤ 5) : t1 far f = t2 far f (-far) := by unfold t2 t1; split <;> (try split) <;> (try split) <;> omega
theorem t2_out {far f : Int} (h : 0 ≤ far ∧ far ≤ 1) (hf : 1 ≤ f ∧ f ≤ 5) : t2 far f (far + 1) = t1 far (f + 1) := by unfold t2 t1; split <;> (try split) <;> (try split) <;> omega
theorem t2_s {far f e : Int} (h : 0 ≤ far ∧ far ≤ 1) (hf : 1 ≤ f ∧ f ≤ 5) (he : (Int.natAbs e : Int) = far) : t2 far f (e + 1) = t2 far f e + 1 ∧ cE (t2 far f e) = e ∧ cF (t2 far f e) = f := by
  have h1 : t2 far f e = if far = 0 then (f - 1).toNat else if e = -1 then (5 + 2 * (f - 1)).toNat else (5 + 2 * (f - 1) + 1).toNat := by
    unfold t2
    split
    · omega
    · split
      · omega
      · split <;> omega
  refine ⟨?_, ?_, ?_⟩
  · rw [h1]; unfold t2; split <;> (try split) <;> (try split) <;> (try split) <;> omega
  · rw [h1]; unfold cE; split <;> (try split) <;> (try split) <;> (try split) <;> omega
  · rw [h1]; unfold cF; split <;> (try split) <;> (try split) <;> omega
theorem t2_n {far f e : Int} (h : 0 ≤ far ∧ far ≤ 1) (he : -far ≤ e ∧ e ≤ far) (hn : ¬ (Int.natAbs e : Int) = far) : t2 far f (e + 1) = t2 far f e := by
  obtain rfl : far = 1 := by omega
  obtain rfl : e = 0 := by omega
  rfl
theorem t2_le {far f e : Int} (h : 0 ≤ far ∧ far ≤ 1) (hf : 1 ≤ f ∧ f ≤ 5) (he : -far ≤ e ∧ e ≤ far) : t2 far f e ≤ 15 := by unfold t2; split <;> (try split) <;> (try split) <;> omega
theorem fup_fup {f : Int → Int} {k u v : Int} : fup (fup f k u) k v = fup f k v := by
  funext j; unfold fup; split <;> rfl
theorem fup_id {f : Int → Int} {k : Int} : fup f k (f k) = f := by
  funext j; unfold fup; split
  · rename_i h; rw [h]
  · rfl
def LK (g : Int → Int) (a b : Int) (t : Nat) (F8 F9 F10 f8 f9 f10 : Int → Int) : Prop := f8 = fup F8 (6 * a + b) (bestN g a b t).1 ∧ f9 = fup F9 (6 * a + b) (bestN g a b t).2.1 ∧ f10 = fup F10 (6 * a + b) (bestN g a b t).2.2
theorem LK_1 {g : Int → Int} {a b e f : Int} {t : Nat} {F8 F9 F10 f8 f9 f10 : Int → Int} (h : LK g a b t F8 F9 F10 f8 f9 f10) (hE : cE t = e) (hF : cF t = f) (hgt : (bestN g a b t).1 < votesS g a b e f) : LK g a b (t + 1) F8 F9 F10 (fup f8 (6 * a + b) (votesS g a b e f)) (fup f9 (6 * a + b) e) (fup f10 (6 * a + b) f) := by
  obtain ⟨rfl, rfl, rfl⟩ := h
  subst hE; subst hF
  unfold LK
  rw [bestN, if_pos hgt]
  exact ⟨fup_fup, fup_fup, fup_fup⟩
theorem LK_0 {g : Int → Int} {a b e f : Int} {t : Nat} {F8 F9 F10 f8 f9 f10 : Int → Int} (h : LK g a b t F8 F9 F10 f8 f9 f10) (hE : cE t = e) (hF : cF t = f) (hgt : ¬ (bestN g a b t).1 < votesS g a b e f) : LK g a b (t + 1) F8 F9 F10 f8 f9 f10 := by
  subst hE; subst hF
  unfold LK
  rw [bestN, if_neg hgt]
  exact h
def cornF (f g : Int → Int) : Int → Int := fun j => if 0 ≤ j ∧ j < g 3 then cset g j else f j
def LKs (g f8 f9 f10 : Int → Int) : Prop := ∀ a b, 0 ≤ a → a < g 3 → 0 ≤ b → b < g 3 → a ≠ b → f8 (6 * a + b) = (bestS g a b).1 ∧ f9 (6 * a + b) = (bestS g a b).2.1 ∧ f10 (6 * a + b) = (bestS g a b).2.2

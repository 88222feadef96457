/-! BITS, THE WAY TO A PICTURE -/
noncomputable def cb (Q : Prop) : Bool := @decide Q (Classical.propDecidable Q)
theorem cb_t {Q : Prop} (h : Q) : cb Q = true := by unfold cb; simp [h]
theorem cb_f {Q : Prop} (h : ¬ Q) : cb Q = false := by unfold cb; simp [h]
theorem cb_d {Q : Prop} [Decidable Q] : cb Q = decide Q := by
  by_cases h : Q
  · rw [cb_t h, decide_eq_true h]
  · rw [cb_f h, decide_eq_false h]
theorem bset_cb {P : Nat → Bool} {Q : Nat → Prop} {n : Nat} (h : ∀ j, j < n → (Q j ↔ P j = true)) : bset (fun j => cb (Q j)) n = bset P n := bset_congr fun j hj => by
  by_cases q : Q j
  · rw [cb_t q, (h j hj).mp q]
  · rw [cb_f q]
    cases e : P j with
    | false => rfl
    | true => exact absurd ((h j hj).mpr e) q
/-- the bits of v below the n-th -/
def pcS (v : Int) : Nat → Int
  | 0 => 0
  | n + 1 => pcS v n + v / 2 ^ n % 2
noncomputable def cnB (P : Nat → Bool) : Nat → Int
  | 0 => 0
  | n + 1 => cnB P n + if P n then 1 else 0
theorem pcS_a (P : Nat → Bool) (n m : Nat) (h : m ≤ n) : pcS (bset P n) m = cnB P m := by
  induction m with
  | zero => rfl
  | succ m ih =>
    unfold pcS cnB
    rw [ih (by omega), bset_at P (by omega : m < n)]
theorem pcS_b (P : Nat → Bool) (n d : Nat) : pcS (bset P n) (n + d) = cnB P n := by
  induction d with
  | zero => exact pcS_a P n n (Nat.le_refl n)
  | succ d ih =>
    show pcS (bset P n) (n + d) + bset P n / 2 ^ (n + d) % 2 = _
    have h := bset_in P n
    have h2 : (2 : Int) ^ n ≤ 2 ^ (n + d) := by
      have h3 : (2 : Nat) ^ n ≤ 2 ^ (n + d) := Nat.pow_le_pow_right (by decide) (by omega)
      have e1 : ((2 ^ n : Nat) : Int) = (2 : Int) ^ n := by rw [Int.natCast_pow]; rfl
      have e2 : ((2 ^ (n + d) : Nat) : Int) = (2 : Int) ^ (n + d) := by rw [Int.natCast_pow]; rfl
      rw [← e1, ← e2]; omega
    rw [ih, Int.ediv_eq_zero_of_lt h.1 (by omega)]
    show cnB P n + 0 = _
    omega
theorem cnB_cnt (Q : Int → Prop) (n : Nat) : cnB (fun j => cb (Q (j : Int))) n = cntN Q n := by
  induction n with
  | zero => rfl
  | succ n ih =>
    unfold cnB cntN
    rw [ih]
    by_cases h : Q (n : Int)
    · rw [cb_t h, if_pos h]; rfl
    · rw [cb_f h, if_neg h]; rfl
theorem pcS_cnt (Q : Int → Prop) {n : Nat} (hn : n ≤ 6) : pcS (bset (fun j => cb (Q (j : Int))) n) 6 = cntN Q n := by
  have h := pcS_b (fun j => cb (Q (j : Int))) n (6 - n)
  rw [show n + (6 - n) = 6 by omega] at h
  rw [h, cnB_cnt]
theorem bset_64 (P : Nat → Bool) {n : Nat} (hn : n ≤ 6) : 0 ≤ bset P n ∧ bset P n < 64 := by
  have h := bset_in P n
  have h3 : (2 : Nat) ^ n ≤ 2 ^ 6 := Nat.pow_le_pow_right (by decide) hn
  have e1 : ((2 ^ n : Nat) : Int) = (2 : Int) ^ n := by rw [Int.natCast_pow]; rfl
  have h4 : ((2 ^ n : Nat) : Int) ≤ 64 := by exact_mod_cast h3
  omega
theorem bset_or {P : Nat → Bool} {k : Int} (h0 : 0 ≤ k) (h1 : k < 31) : zI (bset P k.toNat) ||| (zI 1 <<< (zI k &&& 31)) = zI (bset P k.toNat + 2 ^ k.toNat) := zI_orb (k := k.toNat) (by omega) (by omega) (bset_in _ _).1 (bset_in _ _).2
theorem bset_n {P : Nat → Bool} {k : Int} (h0 : 0 ≤ k) : bset P (k + 1).toNat = bset P k.toNat + if P k.toNat then 2 ^ k.toNat else 0 := by
  rw [show (k + 1).toNat = k.toNat + 1 by omega, bset]
/-- the least -/
theorem least_n {p : Nat → Prop} (n : Nat) (h : p n) : ∃ m, m ≤ n ∧ p m ∧ ∀ j, j < m → ¬ p j := by
  induction n using Nat.strongRecOn with
  | ind n ih =>
    by_cases q : ∃ j, j < n ∧ p j
    · obtain ⟨j, j1, j2⟩ := q
      obtain ⟨m, m1, m2, m3⟩ := ih j j1 j2
      exact ⟨m, by omega, m2, m3⟩
    · exact ⟨n, Nat.le_refl n, h, fun j hj hp => q ⟨j, hj, hp⟩⟩
theorem pl_way {g : Int → Int} (h : okS g) (hc : closedS g) {k : Int} (h0 : 0 ≤ k) (h1 : k < g 3) : ∃ N, N < 12 ∧ stN (foS g) N 0 = k ∧ ∀ j, j < N → stN (foS g) j 0 ≠ k := by
  obtain ⟨n, n1, n2⟩ := (closed_ful h hc).2 k 0 h0 h1 (Int.le_refl 0) (by omega)
  obtain ⟨m, m1, m2, m3⟩ := least_n (p := fun n => stN (foS g) n 0 = k) n n2
  exact ⟨m, by omega, m2, m3⟩
theorem pl_step {g : Int → Int} (h : okS g) (hc : closedS g) {k t : Int} {N n : Nat} (hN : stN (foS g) N 0 = k) (hl : ∀ j, j < N → stN (foS g) j 0 ≠ k) (hn : n < N) (ht : t = stN (foS g) n 0) (t0 : 0 ≤ t ∧ t < g 3) : stN (foS g) (n + 1) 0 = foS g t ∧ (0 ≤ foS g t ∧ foS g t < g 3) ∧ ∀ T : Int → Int, wkS T g (foS g t) = T t + wkS T g t := by
  have hs : stN (foS g) (n + 1) 0 = foS g t := by rw [stN_s, ← ht]; unfold stp; rw [if_neg (by omega)]
  have hf := (foS_in h t0.1 t0.2).resolve_left (closed_all hc t0.1 t0.2)
  have hz : foS g t ≠ 0 := fun z => by
    have e0 : stN (foS g) (n + 1) 0 = 0 := hs.trans z
    have e1 : stN (foS g) (N - (n + 1)) 0 = k := by
      have e2 := stN_add (foS g) (n + 1) (N - (n + 1)) 0
      rw [show n + 1 + (N - (n + 1)) = N by omega, e0, hN] at e2
      exact e2.symm
    exact hl _ (by omega) e1
  refine ⟨hs, ⟨hf.1, hf.2.1⟩, fun T => ?_⟩
  have h2 := (wkS_step (T := T) h hf.1 hf.2.1 (fun q => by
    rcases q with ⟨-, q⟩ | ⟨q, -⟩
    · exact hz q
    · exact q hc)).2
  rw [hf.2.2] at h2
  exact h2
theorem pl_drift {g : Int → Int} {c : Int} (hm : 0 ≤ g 3 ∧ g 3 ≤ 6) (hc : 0 ≤ c ∧ c ≤ 12) : -300 ≤ 2 * c * sumE g ∧ 2 * c * sumE g ≤ 300 := by
  have h1 := sumF_in (g := g) (h := eS g) (B := 1) (fun a => by have := (efS_in (g := g) a).1; omega) (by decide) (g 3).toNat
  have h2 := mul_in (a := sumE g) (A := 6) (b := 2 * c) (B := 24) (by unfold sumE; omega) (by omega) (by decide)
  rw [Int.mul_comm (2 * c)]
  omega

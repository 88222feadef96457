/-! SPEC: levels -/
def gcI (n d : Int) : Int := (Int.gcd n d : Int)
def lowA (n d : Int) : Int := n / gcI n d
def lowB (n d : Int) : Int := d / gcI n d
theorem gcI_pos {n d : Int} (h : 0 < d) : 0 < gcI n d := by
  unfold gcI
  have : Int.gcd n d ≠ 0 := fun e => by
    have := (Int.gcd_eq_zero_iff.mp e).2
    omega
  omega
theorem gcI_le {n d : Int} (h : 0 < d) : gcI n d ≤ d := Int.le_of_dvd h (Int.gcd_dvd_right n d)
theorem gcI_step {a b : Int} (ha : 0 ≤ a) (hb : 0 < b) : Int.gcd b (a % b) = Int.gcd a b := by
  unfold Int.gcd
  rw [Int.natAbs_emod_of_nonneg ha, Nat.gcd_comm b.natAbs, ← Nat.gcd_rec, Nat.gcd_comm]
theorem tdiv_dvd {n d : Int} : n.tdiv (gcI n d) = n / gcI n d := Int.tdiv_eq_ediv_of_dvd (Int.gcd_dvd_left n d)
theorem lowB_in {n d : Int} (h : 0 < d) : 0 < lowB n d ∧ lowB n d ≤ d := by
  unfold lowB
  have h1 := gcI_pos (n := n) h
  have h2 := gcI_le (n := n) h
  refine ⟨Int.ediv_pos_of_pos_of_dvd h (by omega) (Int.gcd_dvd_right n d), ?_⟩
  exact Int.ediv_le_self _ (by omega)
theorem lowA_in {n d B : Int} (h : 0 < d) (hB : 0 ≤ B) (hn : -B ≤ n ∧ n ≤ B) : -B ≤ lowA n d ∧ lowA n d ≤ B := by
  unfold lowA
  have h1 := gcI_pos (n := n) h
  constructor
  · refine Int.le_trans ?_ (Int.ediv_le_ediv h1 hn.1)
    obtain ⟨q, hq⟩ : ∃ q, q = -B / gcI n d := ⟨_, rfl⟩
    have e := Int.mul_ediv_add_emod (-B) (gcI n d)
    have e2 := Int.emod_nonneg (-B) (b := gcI n d) (by omega)
    have e3 := Int.emod_lt_of_pos (-B) h1
    rw [← hq] at e ⊢
    by_cases hq0 : -B ≤ q
    · exact hq0
    · exfalso
      have e5 : 1 * (-B - 1 - q) ≤ gcI n d * (-B - 1 - q) := Int.mul_le_mul_of_nonneg_right (by omega) (by omega)
      have e6 : gcI n d * (-B - 1 - q) = gcI n d * (-B - 1) - gcI n d * q := Int.mul_sub _ _ _
      have e7 : gcI n d * (-B - 1) = -(gcI n d * (B + 1)) := by rw [show (-B - 1) = -(B + 1) by omega, Int.mul_neg]
      have e8 : 1 * (B + 1) ≤ gcI n d * (B + 1) := Int.mul_le_mul_of_nonneg_right (by omega) (by omega)
      have e9 : gcI n d * (B + 1) = gcI n d * B + gcI n d := by rw [Int.mul_add, Int.mul_one]
      have e10 : 1 * B ≤ gcI n d * B := Int.mul_le_mul_of_nonneg_right (by omega) hB
      omega
  · exact Int.le_trans (Int.ediv_le_ediv h1 hn.2) (Int.ediv_le_self _ hB)
noncomputable def wtS (g : Int → Int) (a : Int) : Int := 5040 / cellS g a
theorem cellS_in (g : Int → Int) (a : Int) : 9 ≤ cellS g a ∧ cellS g a ≤ 32 := by
  have he := efS_in (g := g) a
  unfold cellS
  have : ∀ x y : Int, (x = 3 ∨ x = 4) → 3 ≤ y → y ≤ 8 → 9 ≤ x * y ∧ x * y ≤ 32 := by
    intro x y hx h1 h2
    rcases hx with rfl | rfl <;> omega
  exact this _ _ (by omega) (by omega) (by omega)
theorem wtS_in (g : Int → Int) (a : Int) : 0 ≤ wtS g a ∧ wtS g a ≤ 560 := by
  have := cellS_in g a
  unfold wtS
  refine ⟨Int.ediv_nonneg (by omega) (by omega), ?_⟩
  have := Int.mul_ediv_add_emod 5040 (cellS g a)
  have e2 := Int.emod_nonneg 5040 (b := cellS g a) (by omega)
  by_cases q : 5040 / cellS g a ≤ 560
  · exact q
  · exfalso
    have : 9 * (5040 / cellS g a) ≤ cellS g a * (5040 / cellS g a) := Int.mul_le_mul_of_nonneg_right (by omega) (by omega)
    omega
noncomputable def shN (g : Int → Int) : Nat → Int
  | 0 => 0
  | n + 1 => shN g n + wtS g n
noncomputable def shW (g : Int → Int) : Int := shN g (g 3).toNat
noncomputable def lfN (g : Int → Int) : Nat → Int
  | 0 => 0
  | n + 1 => lfN g n + diffS 1 g n * wtS g n
noncomputable def lfD (g : Int → Int) : Int := lfN g (g 3).toNat
theorem shN_s {g : Int → Int} {i : Int} (h : 0 ≤ i) : shN g (i + 1).toNat = shN g i.toNat + wtS g i := by
  rw [show (i + 1).toNat = i.toNat + 1 by omega, shN, show (i.toNat : Int) = i by omega]
theorem lfN_s {g : Int → Int} {i : Int} (h : 0 ≤ i) : lfN g (i + 1).toNat = lfN g i.toNat + diffS 1 g i * wtS g i := by
  rw [show (i + 1).toNat = i.toNat + 1 by omega, lfN, show (i.toNat : Int) = i by omega]
theorem wtS_pos (g : Int → Int) (a : Int) : 1 ≤ wtS g a := by
  have h := cellS_in g a
  have h1 := wtS_in g a
  unfold wtS at *
  have e := Int.mul_ediv_add_emod 5040 (cellS g a)
  have e2 := Int.emod_lt_of_pos 5040 (b := cellS g a) (by omega)
  by_cases q : 1 ≤ 5040 / cellS g a
  · exact q
  · exfalso
    have q0 : 5040 / cellS g a = 0 := by omega
    rw [q0] at e
    omega
theorem shN_in (g : Int → Int) (n : Nat) : (n : Int) ≤ shN g n ∧ shN g n ≤ 560 * n := by
  induction n with
  | zero => unfold shN; omega
  | succ n ih =>
    have h1 := wtS_in g n
    have h2 := wtS_pos g n
    unfold shN
    omega
theorem mul_in {a b A B : Int} (ha : -A ≤ a ∧ a ≤ A) (hb : 0 ≤ b ∧ b ≤ B) (hA : 0 ≤ A) : -(A * B) ≤ a * b ∧ a * b ≤ A * B := by
  have h1 : a * b ≤ A * b := Int.mul_le_mul_of_nonneg_right ha.2 hb.1
  have h2 : A * b ≤ A * B := Int.mul_le_mul_of_nonneg_left hb.2 hA
  have h3 : -A * b ≤ a * b := Int.mul_le_mul_of_nonneg_right ha.1 hb.1
  have h4 : -A * b = -(A * b) := Int.neg_mul A b
  omega
theorem lfN_in {g : Int → Int} (h : okS g) (n : Nat) (hn : (n : Int) ≤ g 3) (hall : ∀ a, 0 ≤ a → a < g 3 → ¬ foS g a = -1) : -(1128960 * (n : Int)) ≤ lfN g n ∧ lfN g n ≤ 1128960 * n := by
  induction n with
  | zero => unfold lfN; omega
  | succ n ih =>
    have ih := ih (by omega)
    have h1 := mul_in (diffS_in (sg := 1) h (a := n) (by omega) (by omega) (hall n (by omega) (by omega))) (wtS_in g n) (by omega)
    unfold lfN
    omega
/-- the way back from k ends: at 0 where the chain is closed, at one that has none ahead else -/
def stopS (g : Int → Int) (k : Int) : Prop := closedS g ∧ k = 0 ∨ ¬ closedS g ∧ ahS g k = -1
/-- what the level rises by behind a, times 5040 (and times the sum of the parts) -/
noncomputable def stepT (g : Int → Int) (a : Int) : Int := @ite _ (closedS g) (Classical.propDecidable _) ((diffS 1 g a * shW g - lfD g) * wtS g a) (diffS 1 g a * wtS g a)
noncomputable def wkN (T g : Int → Int) : Nat → Int → Int
  | 0, _ => 0
  | n + 1, k => @ite _ (stopS g k) (Classical.propDecidable _) 0 (T (ahS g k) + wkN T g n (ahS g k))
/-- the sum of T over all that lie behind k on its way -/
noncomputable def wkS (T g : Int → Int) (k : Int) : Int := wkN T g 12 k
noncomputable def levS (g : Int → Int) (k : Int) : Int := wkS (stepT g) g k
noncomputable def levD (g : Int → Int) : Int := @ite _ (closedS g) (Classical.propDecidable _) (5040 * shW g) 5040
theorem taken_lt {g : Int → Int} {a : Int} (h0 : 0 ≤ a) (hf : foS g a = -1) (n : Nat) (hn : a < n) : takenN g n < n := by
  induction n with
  | zero => omega
  | succ n ih =>
    have := takenN_in g n
    unfold takenN
    by_cases e : a = n
    · subst e; rw [if_pos hf]; omega
    · have := ih (by omega)
      split <;> omega
theorem closed_all {g : Int → Int} (hc : closedS g) {a : Int} (h0 : 0 ≤ a) (h1 : a < g 3) : ¬ foS g a = -1 := by
  intro q
  have := taken_lt h0 q (g 3).toNat (by omega)
  have h2 := hc.2
  unfold takenS at h2
  omega
theorem all_taken {g : Int → Int} (n : Nat) (h : ∀ a, 0 ≤ a → a < (n : Int) → ¬ foS g a = -1) : takenN g n = n := by
  induction n with
  | zero => rfl
  | succ n ih =>
    unfold takenN
    rw [ih (fun a a0 a1 => h a a0 (by omega)), if_neg (h n (by omega) (by omega))]
    omega
theorem closed_ful {g : Int → Int} (h : okS g) (hc : closedS g) : ful (foS g) (g 3) := by
  obtain ⟨h2, q | q⟩ := CI_S h
  · exfalso
    have hn : ∀ n, stN (foS g) n 0 ≠ -1 ∧ 0 ≤ stN (foS g) n 0 ∧ stN (foS g) n 0 < g 3 := by
      intro n
      induction n with
      | zero => exact ⟨by show (0 : Int) ≠ -1; omega, by show (0 : Int) ≤ 0; omega, by show (0 : Int) < g 3; have := hc.1; omega⟩
      | succ n ih =>
        rw [stN_s]
        unfold stp
        rw [if_neg ih.1]
        have h3 := closed_all hc ih.2.1 ih.2.2
        have h4 := foS_in h ih.2.1 ih.2.2
        omega
    have := st_len h2 q (b := 0) (by omega) (by have := hc.1; omega) (hn 6).1
    have := h.many
    omega
  · exact q
theorem open_acy {g : Int → Int} (h : okS g) (hc : ¬ closedS g) : acy (foS g) (g 3) := by
  obtain ⟨h2, q | q⟩ := CI_S h
  · exact q
  · by_cases h3 : 2 ≤ g 3
    · exfalso
      apply hc
      refine ⟨h3, ?_⟩
      unfold takenS
      rw [all_taken _ (fun a a0 a1 => q.1 a a0 (by omega))]
      omega
    · refine ⟨fun _ => 0, fun k k0 k1 hk => ?_⟩
      exfalso
      have h4 := foS_in h k0 k1
      have h5 := foS_ne h k0 k1
      omega
theorem inv2_sw {fo ah : Int → Int} {m : Int} (h : inv2 fo ah m) : inv2 ah fo m := by
  refine ⟨h.2.1, h.1, fun k k0 k1 e => ?_, fun k k0 k1 => ⟨(h.2.2.2 k k0 k1).2, (h.2.2.2 k k0 k1).1⟩⟩
  rcases h.2.1 k k0 k1 with q | ⟨q1, q2, q3⟩
  · omega
  · rw [e] at q3
    exact h.2.2.1 k k0 k1 q3
def sumD (d : Int → Nat) : Nat → Nat
  | 0 => 0
  | n + 1 => sumD d n + d n
theorem sumD_le {d : Int → Nat} {k : Int} (h0 : 0 ≤ k) (n : Nat) (h1 : k < n) : d k ≤ sumD d n := by
  induction n with
  | zero => omega
  | succ n ih =>
    unfold sumD
    by_cases e : k = n
    · subst e; omega
    · have := ih (by omega); omega
theorem acy_sw {fo ah : Int → Int} {m : Int} (h : inv2 fo ah m) (hd : acy fo m) : acy ah m := by
  obtain ⟨d, hd⟩ := hd
  refine ⟨fun k => sumD d m.toNat - d k, fun k k0 k1 hk => ?_⟩
  have q := (h.2.1 k k0 k1).resolve_left hk
  have h1 := hd (ah k) q.1 q.2.1 (by rw [q.2.2]; omega)
  rw [q.2.2] at h1
  have h2 := sumD_le (d := d) q.1 m.toNat (by omega)
  show sumD d m.toNat - d (ah k) < sumD d m.toNat - d k
  omega
/-- from k the way back comes to its end in at most 11 steps -/
theorem stop_in {g : Int → Int} (h : okS g) {k : Int} (h0 : 0 ≤ k) (h1 : k < g 3) : ∃ n : Nat, n < 12 ∧ stopS g (stN (ahS g) n k) ∧ ∀ j, j ≤ n → 0 ≤ stN (ahS g) j k ∧ stN (ahS g) j k < g 3 := by
  have hm := h.many
  have h2 := (CI_S h).1
  have hs := inv2_sw h2
  by_cases hc : closedS g
  · obtain ⟨n, n1, n2⟩ := (closed_ful h hc).2 k 0 h0 h1 (by omega) (by have := hc.1; omega)
    have hx : ∀ j, j ≤ n → stN (ahS g) j k = stN (foS g) (n - j) 0 := by
      intro j hj
      induction j with
      | zero => exact n2.symm
      | succ j ih =>
        have ih := ih (by omega)
        have hr := (st_in h2 (b := 0) (by omega) (by have := hc.1; omega) (n - (j + 1))).resolve_left (stN_back (n := n) (by omega) (by omega))
        rw [stN_s, ih, show n - j = (n - (j + 1)) + 1 by omega, stN_s]
        have q := (h2.1 _ hr.1 hr.2).resolve_left (by
          intro e
          have := stN_s (foS g) (n - (j + 1)) 0
          unfold stp at this
          rw [if_neg (by omega), e, show n - (j + 1) + 1 = n - j by omega, ← ih] at this
          have h6 : stN (foS g) (n - j) 0 ≠ -1 := stN_back (n := n) (by omega) (by omega)
          omega)
        unfold stp
        rw [if_neg (by omega), if_neg (by omega)]
        exact q.2.2
    refine ⟨n, n1, Or.inl ⟨hc, by rw [hx n (Nat.le_refl n), Nat.sub_self]; rfl⟩, fun j hj => ?_⟩
    rw [hx j hj]
    exact (st_in h2 (b := 0) (by omega) (by have := hc.1; omega) (n - j)).resolve_left (stN_back (n := n) (by omega) (by omega))
  · have ha := acy_sw h2 (open_acy h hc)
    -- the first place with none ahead
    have hex : ∃ n : Nat, n < 7 ∧ stN (ahS g) (n + 1) k = -1 ∧ stN (ahS g) n k ≠ -1 := by
      by_cases q : ∃ n : Nat, n < 7 ∧ stN (ahS g) (n + 1) k = -1 ∧ stN (ahS g) n k ≠ -1
      · exact q
      · exfalso
        have hall : ∀ n : Nat, n ≤ 7 → stN (ahS g) n k ≠ -1 := by
          intro n hn
          induction n with
          | zero => show k ≠ -1; omega
          | succ n ih => exact fun e => q ⟨n, by omega, e, ih (by omega)⟩
        have := st_len hs ha h0 h1 (hall 7 (Nat.le_refl 7))
        omega
    obtain ⟨n, n1, n2, n3⟩ := hex
    have hr : ∀ j, j ≤ n → 0 ≤ stN (ahS g) j k ∧ stN (ahS g) j k < g 3 := fun j hj => (st_in hs h0 h1 j).resolve_left (stN_back n3 hj)
    refine ⟨n, by omega, Or.inr ⟨hc, ?_⟩, hr⟩
    rw [stN_s] at n2
    unfold stp at n2
    rw [if_neg n3] at n2
    exact n2
theorem wkN_st {T g : Int → Int} {i n n' : Nat} {k : Int} (hs : stopS g (stN (ahS g) i k)) (hne : ∀ j, j ≤ i → stN (ahS g) j k ≠ -1) (h1 : i ≤ n) (h2 : i ≤ n') : wkN T g n k = wkN T g n' k := by
  induction i generalizing k n n' with
  | zero =>
    have hs : stopS g k := hs
    cases n with
    | zero => cases n' with
      | zero => rfl
      | succ n' => unfold wkN; rw [if_pos hs]
    | succ n => cases n' with
      | zero => unfold wkN; rw [if_pos hs]
      | succ n' => unfold wkN; rw [if_pos hs, if_pos hs]
  | succ i ih =>
    cases n with
    | zero => omega
    | succ n =>
      cases n' with
      | zero => omega
      | succ n' =>
        unfold wkN
        by_cases q : stopS g k
        · rw [if_pos q, if_pos q]
        · rw [if_neg q, if_neg q]
          have e : stp (ahS g) k = ahS g k := by
            unfold stp
            rw [if_neg (show k ≠ -1 from hne 0 (Nat.zero_le _))]
          rw [ih (k := ahS g k) (n := n) (n' := n') (by rw [← e]; exact hs) (fun j hj => by rw [← e]; exact hne (j + 1) (by omega)) (by omega) (by omega)]
theorem wkS_stop {T g : Int → Int} {k : Int} (h : stopS g k) : wkS T g k = 0 := by
  unfold wkS wkN
  rw [if_pos h]
theorem wkS_step {T g : Int → Int} (h : okS g) {k : Int} (h0 : 0 ≤ k) (h1 : k < g 3) (hn : ¬ stopS g k) : (0 ≤ ahS g k ∧ ahS g k < g 3 ∧ foS g (ahS g k) = k) ∧ wkS T g k = T (ahS g k) + wkS T g (ahS g k) := by
  obtain ⟨i, i1, i2, i3⟩ := stop_in h h0 h1
  cases i with
  | zero => exact absurd i2 hn
  | succ i =>
    have e : stp (ahS g) k = ahS g k := by
      unfold stp
      rw [if_neg (by omega)]
    have h4 := i3 1 (by omega)
    have e1 : stN (ahS g) 1 k = ahS g k := e
    rw [e1] at h4
    have h5 := (ahS_in h h0 h1).resolve_left (by omega)
    refine ⟨h5, ?_⟩
    show wkN T g 12 k = _
    rw [wkN, if_neg hn]
    have : wkN T g 11 (ahS g k) = wkN T g 12 (ahS g k) := wkN_st (i := i) (by rw [← e]; exact i2) (fun j hj => by rw [← e]; have := i3 (j + 1) (by omega); show stN (ahS g) (j + 1) k ≠ -1; omega) (by omega) (by omega)
    rw [this]
    rfl
theorem levS_stop {g : Int → Int} {k : Int} (h : stopS g k) : levS g k = 0 := wkS_stop h
theorem levS_step {g : Int → Int} (h : okS g) {k : Int} (h0 : 0 ≤ k) (h1 : k < g 3) (hn : ¬ stopS g k) : (0 ≤ ahS g k ∧ ahS g k < g 3 ∧ foS g (ahS g k) = k) ∧ levS g k = stepT g (ahS g k) + levS g (ahS g k) := wkS_step h h0 h1 hn
theorem stepT_in {g : Int → Int} (h : okS g) {a : Int} (h0 : 0 ≤ a) (h1 : a < g 3) (hf : ¬ foS g a = -1) : -7586611200 ≤ stepT g a ∧ stepT g a ≤ 7586611200 := by
  have hm := h.many
  have hd := diffS_in (sg := 1) h h0 h1 hf
  have hw := wtS_in g a
  unfold stepT
  by_cases hc : closedS g
  · rw [if_pos hc]
    have h2 := shN_in g (g 3).toNat
    have h3 := lfN_in h (g 3).toNat (by omega) (fun b b0 b1 => closed_all hc b0 b1)
    have h4 := mul_in hd (b := shW g) (B := 3360) (by unfold shW; omega) (by omega)
    have h5 := mul_in (a := diffS 1 g a * shW g - lfD g) (A := 13547520) (by unfold lfD; omega) hw (by omega)
    omega
  · rw [if_neg hc]
    have h5 := mul_in hd hw (by omega)
    omega
theorem wkN_in {T g : Int → Int} (h : okS g) {B : Int} (hB : 0 ≤ B) (hT : ∀ a, 0 ≤ a → a < g 3 → ¬ foS g a = -1 → -B ≤ T a ∧ T a ≤ B) (n : Nat) {k : Int} (h0 : 0 ≤ k) (h1 : k < g 3) : -(B * (n : Int)) ≤ wkN T g n k ∧ wkN T g n k ≤ B * n := by
  induction n generalizing k with
  | zero => unfold wkN; omega
  | succ n ih =>
    have e : B * ((n + 1 : Nat) : Int) = B * n + B := by rw [Int.natCast_add, Int.mul_add]; omega
    have e0 : 0 ≤ B * (n : Int) := Int.mul_nonneg hB (by omega)
    unfold wkN
    rw [e]
    by_cases q : stopS g k
    · rw [if_pos q]; omega
    · rw [if_neg q]
      have h5 := (wkS_step (T := T) h h0 h1 q).1
      have ih := ih h5.1 h5.2.1
      have := hT _ h5.1 h5.2.1 (by omega)
      omega
theorem levS_in {g : Int → Int} (h : okS g) {k : Int} (h0 : 0 ≤ k) (h1 : k < g 3) : -91039334400 ≤ levS g k ∧ levS g k ≤ 91039334400 := by
  have := wkN_in (T := stepT g) h (B := 7586611200) (by omega) (fun a a0 a1 hf => stepT_in h a0 a1 hf) 12 h0 h1
  unfold levS wkS
  omega
theorem levD_in {g : Int → Int} (h : okS g) : 0 < levD g ∧ levD g ≤ 16934400 := by
  have hm := h.many
  unfold levD
  by_cases hc : closedS g
  · rw [if_pos hc]
    have h2 := shN_in g (g 3).toNat
    have h3 := hc.1
    unfold shW
    omega
  · rw [if_neg hc]; omega

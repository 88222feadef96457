/-! FRACTIONS in lowest terms -/
theorem gcI_mul {c n d : Int} (hc : 0 < c) : gcI (c * n) (c * d) = c * gcI n d := by
  unfold gcI
  rw [Int.gcd_mul_left, Int.natCast_mul]
  congr 1
  omega
theorem low_scale {c n d : Int} (hc : 0 < c) : lowA (c * n) (c * d) = lowA n d ∧ lowB (c * n) (c * d) = lowB n d := by
  unfold lowA lowB
  rw [gcI_mul hc]
  exact ⟨Int.mul_ediv_mul_of_pos _ _ hc, Int.mul_ediv_mul_of_pos _ _ hc⟩
theorem low_eq {n d n' d' : Int} (h : n * d' = n' * d) (hd : 0 < d) (hd' : 0 < d') : lowA n d = lowA n' d' ∧ lowB n d = lowB n' d' := by
  have h1 := low_scale (n := n) (d := d) hd'
  have h2 := low_scale (n := n') (d := d') hd
  have e1 : d' * n = d * n' := by rw [Int.mul_comm d' n, h, Int.mul_comm]
  have e2 : d' * d = d * d' := Int.mul_comm _ _
  rw [e1, e2] at h1
  exact ⟨h1.1.symm.trans h2.1, h1.2.symm.trans h2.2⟩
theorem low_cross {n d : Int} (hd : 0 < d) : lowA n d * d = n * lowB n d := by
  unfold lowA lowB
  have h1 := gcI_pos (n := n) hd
  obtain ⟨a, ha⟩ : gcI n d ∣ n := Int.gcd_dvd_left n d
  obtain ⟨b, hb⟩ : gcI n d ∣ d := Int.gcd_dvd_right n d
  have e1 : n / gcI n d = a := by
    rw [show n / gcI n d = gcI n d * a / gcI n d by rw [← ha]]
    exact Int.mul_ediv_cancel_left _ (by omega)
  have e2 : d / gcI n d = b := by
    rw [show d / gcI n d = gcI n d * b / gcI n d by rw [← hb]]
    exact Int.mul_ediv_cancel_left _ (by omega)
  rw [e1, e2]
  have h3 : a * d = a * (gcI n d * b) := by rw [← hb]
  have h4 : n * b = gcI n d * a * b := by rw [← ha]
  rw [h3, h4, ← Int.mul_assoc, Int.mul_comm a]
theorem cross_and {a1 b1 a2 b2 n1 d1 n2 d2 : Int} (h1 : a1 * d1 = n1 * b1) (h2 : a2 * d2 = n2 * b2) : (a1 * b2 + a2 * b1) * (d1 * d2) = (n1 * d2 + n2 * d1) * (b1 * b2) := by grind
theorem cross_mul {a1 b1 a2 b2 n1 d1 n2 d2 : Int} (h1 : a1 * d1 = n1 * b1) (h2 : a2 * d2 = n2 * b2) : (a1 * a2) * (d1 * d2) = (n1 * n2) * (b1 * b2) := by grind
theorem cross_by {a1 b1 a2 b2 n1 d1 n2 d2 : Int} (h1 : a1 * d1 = n1 * b1) (h2 : a2 * d2 = n2 * b2) : (a1 * b2) * (d1 * n2) = (n1 * d2) * (b1 * a2) := by grind
theorem cross_tr {a b c d e f : Int} (hd : 0 < d) (h1 : a * d = c * b) (h2 : c * f = e * d) : a * f = e * b := by
  have h3 : d * (a * f) = d * (e * b) := by grind
  exact Int.eq_of_mul_eq_mul_left (by omega) h3
theorem low_and {n1 d1 n2 d2 n d : Int} (h1 : 0 < d1) (h2 : 0 < d2) (hd : 0 < d) (e : (n1 * d2 + n2 * d1) * d = n * (d1 * d2)) : lowA (lowA n1 d1 * lowB n2 d2 + lowA n2 d2 * lowB n1 d1) (lowB n1 d1 * lowB n2 d2) = lowA n d ∧ lowB (lowA n1 d1 * lowB n2 d2 + lowA n2 d2 * lowB n1 d1) (lowB n1 d1 * lowB n2 d2) = lowB n d :=
  low_eq (cross_tr (Int.mul_pos h1 h2) (cross_and (low_cross h1) (low_cross h2)) e) (Int.mul_pos (lowB_in h1).1 (lowB_in h2).1) hd
theorem low_mul {n1 d1 n2 d2 n d : Int} (h1 : 0 < d1) (h2 : 0 < d2) (hd : 0 < d) (e : (n1 * n2) * d = n * (d1 * d2)) : lowA (lowA n1 d1 * lowA n2 d2) (lowB n1 d1 * lowB n2 d2) = lowA n d ∧ lowB (lowA n1 d1 * lowA n2 d2) (lowB n1 d1 * lowB n2 d2) = lowB n d :=
  low_eq (cross_tr (Int.mul_pos h1 h2) (cross_mul (low_cross h1) (low_cross h2)) e) (Int.mul_pos (lowB_in h1).1 (lowB_in h2).1) hd
theorem lowA_pos {n d : Int} (hn : 0 < n) (hd : 0 < d) : 0 < lowA n d := by
  have h1 := low_cross (n := n) hd
  have h2 := Int.mul_pos hn (lowB_in (n := n) hd).1
  rw [← h1] at h2
  rw [Int.mul_comm] at h2
  exact Int.pos_of_mul_pos_right h2 hd
theorem low_by {n1 d1 n2 d2 n d : Int} (h1 : 0 < d1) (h2 : 0 < d2) (hn2 : 0 < n2) (hd : 0 < d) (e : (n1 * d2) * d = n * (d1 * n2)) : lowA (lowA n1 d1 * lowB n2 d2) (lowB n1 d1 * lowA n2 d2) = lowA n d ∧ lowB (lowA n1 d1 * lowB n2 d2) (lowB n1 d1 * lowA n2 d2) = lowB n d :=
  low_eq (cross_tr (Int.mul_pos h1 hn2) (cross_by (low_cross h1) (low_cross h2)) e) (Int.mul_pos (lowB_in h1).1 (lowA_pos hn2 h2)) hd
theorem low_neg {n d : Int} (hd : 0 < d) : lowA (-lowA n d) (lowB n d) = lowA (-n) d ∧ lowB (-lowA n d) (lowB n d) = lowB (-n) d :=
  low_eq (by rw [Int.neg_mul, Int.neg_mul, low_cross hd]) (lowB_in hd).1 hd
theorem low_0 {d : Int} (hd : 0 < d) : lowA 0 d = 0 ∧ lowB 0 d = 1 := by
  have h := low_eq (n := 0) (d := d) (n' := 0) (d' := 1) (by omega) hd (by decide)
  rw [h.1, h.2]
  exact ⟨by decide, by decide⟩
theorem fr_in {n d B C : Int} (hd : 0 < d ∧ d ≤ C) (hn : -B ≤ n ∧ n ≤ B) (hB : 0 ≤ B) : (-B ≤ lowA n d ∧ lowA n d ≤ B) ∧ 0 < lowB n d ∧ lowB n d ≤ C := by
  have h1 := lowA_in (n := n) hd.1 hB hn
  have h2 := lowB_in (n := n) hd.1
  exact ⟨h1, h2.1, by omega⟩
theorem and_in {a1 b1 a2 b2 A1 B1 A2 B2 : Int} (h1 : (-A1 ≤ a1 ∧ a1 ≤ A1) ∧ 0 < b1 ∧ b1 ≤ B1) (h2 : (-A2 ≤ a2 ∧ a2 ≤ A2) ∧ 0 < b2 ∧ b2 ≤ B2) (p1 : 0 ≤ A1) (p2 : 0 ≤ A2) (q1 : A1 * B2 + A2 * B1 ≤ 4000000000000000000) (q2 : B1 * B2 ≤ 4000000000000000000) : (-9223372036854775807 ≤ a1 * b2 + a2 * b1 ∧ a1 * b2 + a2 * b1 < 9223372036854775808) ∧ 0 < b1 * b2 ∧ b1 * b2 < 9223372036854775808 := by
  have e1 := mul_in h1.1 (b := b2) (B := B2) ⟨by omega, h2.2.2⟩ p1
  have e2 := mul_in h2.1 (b := b1) (B := B1) ⟨by omega, h1.2.2⟩ p2
  have e3 := Int.mul_pos h1.2.1 h2.2.1
  have e4 := mul_in (a := b1) (A := B1) ⟨by omega, h1.2.2⟩ (b := b2) (B := B2) ⟨by omega, h2.2.2⟩ (by omega)
  exact ⟨⟨by omega, by omega⟩, e3, by omega⟩
theorem mulf_in {a1 b1 a2 b2 A1 B1 A2 B2 : Int} (h1 : (-A1 ≤ a1 ∧ a1 ≤ A1) ∧ 0 < b1 ∧ b1 ≤ B1) (h2 : (-A2 ≤ a2 ∧ a2 ≤ A2) ∧ 0 < b2 ∧ b2 ≤ B2) (p1 : 0 ≤ A1) (p2 : 0 ≤ A2) (q1 : A1 * A2 ≤ 4000000000000000000) (q2 : B1 * B2 ≤ 4000000000000000000) : (-9223372036854775807 ≤ a1 * a2 ∧ a1 * a2 < 9223372036854775808) ∧ 0 < b1 * b2 ∧ b1 * b2 < 9223372036854775808 := by
  have e1 : -(A1 * A2) ≤ a1 * a2 ∧ a1 * a2 ≤ A1 * A2 := by
    rcases Int.le_total 0 a2 with q | q
    · exact mul_in h1.1 ⟨q, h2.1.2⟩ p1
    · have := mul_in h1.1 (b := -a2) (B := A2) ⟨by omega, by omega⟩ p1
      rw [Int.mul_neg] at this
      omega
  have e3 := Int.mul_pos h1.2.1 h2.2.1
  have e4 := mul_in (a := b1) (A := B1) ⟨by omega, h1.2.2⟩ (b := b2) (B := B2) ⟨by omega, h2.2.2⟩ (by omega)
  exact ⟨⟨by omega, by omega⟩, e3, by omega⟩
-- the parts
theorem fS_pos {g : Int → Int} {a : Int} (h : 0 < (bestS g a (foS g a)).1) : 1 ≤ fS g a ∧ fS g a ≤ 5 := by
  have h2 := bestN_in g a (foS g a) 15 (Nat.le_refl 15)
  unfold fS bestS at *
  omega
theorem cell_wt {g : Int → Int} {a : Int} (hf : 1 ≤ fS g a ∧ fS g a ≤ 5) : cellS g a * wtS g a = 5040 := by
  have he := efS_in (g := g) a
  unfold wtS cellS
  have key : ∀ x y : Int, (x = 3 ∨ x = 4) → 3 ≤ y → y ≤ 7 → x * y * (5040 / (x * y)) = 5040 := by
    intro x y hx h1 h2
    rcases hx with rfl | rfl <;> rcases (show y = 3 ∨ y = 4 ∨ y = 5 ∨ y = 6 ∨ y = 7 by omega) with rfl | rfl | rfl | rfl | rfl <;> decide
  exact key _ _ (by omega) (by omega) (by omega)
theorem sum_step {c w n m : Int} {d : Int} (h : c * w = 5040) (hm : m = n + d * w) : (n * c + d * 5040) * 5040 = m * (5040 * c) := by
  subst hm
  have : 5040 = c * w := h.symm
  grind
/-- a level behind a, the chain open -/
theorem lev_open {L d c w : Int} (h : c * w = 5040) : (L * c + d * 5040) * 5040 = (d * w + L) * (5040 * c) := by grind
theorem lev_closed {L d c w s f : Int} (h : c * w = 5040) (D : Int) (hD : D = 5040 * s) : ((L * c + d * D) * (s * c) + -(f * 1) * (D * c)) * D = ((d * s - f) * w + L) * (D * c * (s * c)) := by
  subst hD; grind
/-! LEVELS in their array -/
abbrev frO (n d : Int) : wa_E := eO 5 [.long (lI (lowA n d)), .long (lI (lowB n d))]
def LV (ad : Nat → Nat) (w : wa_W) (b : Int → Option Nat) (g : Int → Int) (U : Int → Prop) : Prop := ∀ x : Int, 0 ≤ x → x < g 3 → U x → ∃ q, b x = some q ∧ Lc ad w q (frO (levS g x) (levD g))
theorem LV.kp {ad : Nat → Nat} {w u : wa_W} {b : Int → Option Nat} {g : Int → Int} {U : Int → Prop} (h : LV ad w b g U) (k : Kp ad w u) : LV ad u b g U := fun x h0 h1 hU => by
  obtain ⟨q, e, h2⟩ := h x h0 h1 hU
  exact ⟨q, e, h2.kp k⟩
theorem LV.mono {ad : Nat → Nat} {w : wa_W} {b : Int → Option Nat} {g : Int → Int} {U V : Int → Prop} (h : LV ad w b g U) (e : ∀ x, 0 ≤ x → x < g 3 → V x → U x) : LV ad w b g V := fun x h0 h1 hV => h x h0 h1 (e x h0 h1 hV)
theorem LV.put {ad : Nat → Nat} {w : wa_W} {b : Int → Option Nat} {g : Int → Int} {U : Int → Prop} {t : Int} {q : Nat} (h : LV ad w b g U) (hq : Lc ad w q (frO (levS g t) (levD g))) : LV ad w (fupR b t (some q)) g (fun x => U x ∨ x = t) := fun x h0 h1 hU => by
  by_cases e : x = t
  · subst e; rw [fupR_s]; exact ⟨q, rfl, hq⟩
  · rw [fupR_n e]; exact h x h0 h1 (hU.resolve_right e)
/-- x lies on the way from r, that does not come back to r -/
def onW (fo : Int → Int) (r x : Int) : Prop := ∃ n, stN fo n r = x ∧ ∀ j, 1 ≤ j → j ≤ n → stN fo j r ≠ r ∧ stN fo j r ≠ -1
theorem onW_0 {fo : Int → Int} {r : Int} : onW fo r r := ⟨0, rfl, fun j h1 h2 => by omega⟩
/-- the way from a place that ends it -/
theorem lv_way {g : Int → Int} (h : okS g) {r : Int} (h0 : 0 ≤ r) (h1 : r < g 3) (hs : closedS g → r = 0) : ∃ N, N < 13 ∧ (stN (foS g) (N + 1) r = r ∨ stN (foS g) (N + 1) r = -1) := by
  have hm := h.many
  rcases foS_in h h0 h1 with q | q
  · refine ⟨0, by omega, Or.inr ?_⟩
    show stN (foS g) 0 (stp (foS g) r) = -1
    unfold stp
    rw [if_neg (by omega), q]; rfl
  · obtain ⟨N, n1, n2⟩ := LDs_end (x := foS g r) (y := r) (CI_S h) hm ⟨q.1, q.2.1⟩ ⟨h0, h1⟩
    refine ⟨N, by omega, ?_⟩
    have e : stN (foS g) (N + 1) r = stN (foS g) N (foS g r) := by
      show stN (foS g) N (stp (foS g) r) = _
      unfold stp
      rw [if_neg (by omega)]
    rw [e]; exact n2
theorem lv_le {fo : Int → Int} {r : Int} {N k : Nat} (hN : stN fo (N + 1) r = r ∨ stN fo (N + 1) r = -1) (h : ∀ j, 1 ≤ j → j ≤ k → stN fo j r ≠ r ∧ stN fo j r ≠ -1) : k ≤ N := by
  by_cases e : k ≤ N
  · exact e
  · exfalso
    have h1 := h (N + 1) (by omega) (by omega)
    rcases hN with q | q
    · exact h1.1 q
    · exact h1.2 q
/-- each place lies on the way from one that ends -/
theorem lv_root {g : Int → Int} (h : okS g) {x : Int} (h0 : 0 ≤ x) (h1 : x < g 3) : ∃ r, 0 ≤ r ∧ r < g 3 ∧ stopS g r ∧ onW (foS g) r x := by
  obtain ⟨n, n1, n2, n3⟩ := stop_in h h0 h1
  have key : ∀ n : Nat, stopS g (stN (ahS g) n x) → (∀ j, j ≤ n → 0 ≤ stN (ahS g) j x ∧ stN (ahS g) j x < g 3) → ∃ m, m ≤ n ∧ stopS g (stN (ahS g) m x) ∧ ∀ j, j < m → ¬ stopS g (stN (ahS g) j x) := by
    intro n
    induction n with
    | zero => exact fun a _ => ⟨0, Nat.le_refl 0, a, fun j hj => by omega⟩
    | succ n ih =>
      intro a b
      by_cases q : ∃ m, m ≤ n ∧ stopS g (stN (ahS g) m x)
      · obtain ⟨m, m1, m2⟩ := q
        have key2 : ∀ m, m ≤ n → stopS g (stN (ahS g) m x) → ∃ m, m ≤ n ∧ stopS g (stN (ahS g) m x) ∧ ∀ j, j < m → ¬ stopS g (stN (ahS g) j x) := by
          intro m
          induction m using Nat.strongRecOn with
          | ind m ihm =>
            intro a1 a2
            by_cases z : ∃ j, j < m ∧ stopS g (stN (ahS g) j x)
            · obtain ⟨j, j1, j2⟩ := z
              exact ihm j j1 (by omega) j2
            · exact ⟨m, a1, a2, fun j hj z2 => z ⟨j, hj, z2⟩⟩
        obtain ⟨m', b1, b2, b3⟩ := key2 m m1 m2
        exact ⟨m', by omega, b2, b3⟩
      · exact ⟨n + 1, Nat.le_refl _, a, fun j hj z => q ⟨j, by omega, z⟩⟩
  obtain ⟨m, m1, m2, m3⟩ := key n n2 n3
  have hr := n3 m m1
  have hx : ∀ j, j ≤ m → stN (foS g) j (stN (ahS g) m x) = stN (ahS g) (m - j) x := by
    intro j hj
    induction j with
    | zero => rfl
    | succ j ih =>
      rw [stN_s, ih (by omega)]
      have e : m - j = (m - (j + 1)) + 1 := by omega
      have h2 := n3 (m - (j + 1)) (by omega)
      have h3 := n3 (m - j) (by omega)
      have h4 : stN (ahS g) (m - j) x = ahS g (stN (ahS g) (m - (j + 1)) x) := by
        rw [e, stN_s]
        unfold stp
        rw [if_neg (by omega)]
      have h5 := (ahS_in h h2.1 h2.2).resolve_left (by rw [← h4]; omega)
      unfold stp
      rw [if_neg (by omega), h4]
      exact h5.2.2
  refine ⟨_, hr.1, hr.2, m2, m, ?_, fun j j1 j2 => ?_⟩
  · rw [hx m (Nat.le_refl m), Nat.sub_self]; rfl
  · rw [hx j j2]
    have h6 := n3 (m - j) (by omega)
    exact ⟨fun e => m3 (m - j) (by omega) (by rw [e]; exact m2), by omega⟩
theorem stop_fo {g : Int → Int} (h : okS g) {t : Int} (h0 : 0 ≤ t) (h1 : t < g 3) (hf : ¬ foS g t = -1) {r : Int} (hs : closedS g → r = 0) (hr : foS g t ≠ r) : ¬ stopS g (foS g t) := by
  have q := (foS_in h h0 h1).resolve_left hf
  rintro (⟨a, b⟩ | ⟨a, b⟩)
  · rw [hs a] at hr; exact hr b
  · rw [q.2.2] at b; omega
theorem lev_next {g : Int → Int} (h : okS g) {t : Int} (h0 : 0 ≤ t) (h1 : t < g 3) (hf : ¬ foS g t = -1) {r : Int} (hs : closedS g → r = 0) (hr : foS g t ≠ r) : levS g (foS g t) = stepT g t + levS g t := by
  have q := (foS_in h h0 h1).resolve_left hf
  have h2 := levS_step h q.1 q.2.1 (stop_fo h h0 h1 hf hs hr)
  rw [q.2.2] at h2
  exact h2.2
/-- the share: of the closed chain, else none -/
noncomputable def shrN (g : Int → Int) : Int := @ite _ (closedS g) (Classical.propDecidable _) (lfD g) 0
noncomputable def shrD (g : Int → Int) : Int := @ite _ (closedS g) (Classical.propDecidable _) (shW g) 1
theorem shr_in {g : Int → Int} (h : okS g) : (-6773760 ≤ shrN g ∧ shrN g ≤ 6773760) ∧ 0 < shrD g ∧ shrD g ≤ 3360 := by
  unfold shrN shrD
  by_cases hc : closedS g
  · rw [if_pos hc, if_pos hc]
    have h1 := lfD_in h hc
    have h2 := shW_in h hc
    omega
  · rw [if_neg hc, if_neg hc]; omega
/-- what is reckoned for the next level is the next level -/
theorem lev_eq {g : Int → Int} (h : okS g) {t : Int} (h0 : 0 ≤ t) (h1 : t < g 3) (hf : ¬ foS g t = -1) (hp : 1 ≤ fS g t ∧ fS g t ≤ 5) {r : Int} (hs : closedS g → r = 0) (hr : foS g t ≠ r) :
    ((levS g t * cellS g t + diffS 1 g t * levD g) * (shrD g * cellS g t) + -(shrN g * 1) * (levD g * cellS g t)) * levD g = levS g (foS g t) * (levD g * cellS g t * (shrD g * cellS g t)) := by
  rw [lev_next h h0 h1 hf hs hr]
  have hw := cell_wt hp
  unfold stepT shrN shrD levD
  by_cases hc : closedS g
  · simp only [if_pos hc]
    exact lev_closed hw _ rfl
  · simp only [if_neg hc]
    have := lev_open (L := levS g t) (d := diffS 1 g t) hw
    grind
def L0 (ad : Nat → Nat) (w : wa_W) (b : Int → Option Nat) (k : Int) : Prop := ∀ x : Int, 0 ≤ x → x < k → ∃ q, b x = some q ∧ Lc ad w q (eO 5 [.long (lI 0), .long (lI 1)])
theorem L0.kp {ad : Nat → Nat} {w u : wa_W} {b : Int → Option Nat} {k : Int} (h : L0 ad w b k) (q : Kp ad w u) : L0 ad u b k := fun x h0 h1 => by
  obtain ⟨a, e, h2⟩ := h x h0 h1
  exact ⟨a, e, h2.kp q⟩
theorem L0.put {ad : Nat → Nat} {w : wa_W} {b : Int → Option Nat} {k : Int} {q : Nat} (h : L0 ad w b k) (hq : Lc ad w q (eO 5 [.long (lI 0), .long (lI 1)])) : L0 ad w (fupR b k (some q)) (k + 1) := fun x h0 h1 => by
  by_cases e : x = k
  · subst e; rw [fupR_s]; exact ⟨q, rfl, hq⟩
  · rw [fupR_n e]; exact h x h0 (by omega)
theorem fr0 {n d : Int} (hn : n = 0) (hd : 0 < d) : frO n d = eO 5 [.long (lI 0), .long (lI 1)] := by
  subst hn
  have h := low_0 hd
  show eO 5 [.long (lI (lowA 0 d)), .long (lI (lowB 0 d))] = _
  rw [h.1, h.2]
theorem L0.lv {ad : Nat → Nat} {w : wa_W} {b : Int → Option Nat} {g : Int → Int} (ho : okS g) (h : L0 ad w b (g 3)) : LV ad w b g (stopS g) := fun x h0 h1 hU => by
  obtain ⟨q, e, h2⟩ := h x h0 h1
  exact ⟨q, e, by rw [fr0 (levS_stop hU) (levD_in ho).1]; exact h2⟩
def RS (ad : Nat → Nat) (w : wa_W) (P : Nat → Option Nat) (g : Int → Int) : Prop := ∃ q, P 0 = some q ∧ Lc ad w q (eO 5 [.long (lI (restA g)), .long (lI (restB g))])
theorem RS.kp {ad : Nat → Nat} {w u : wa_W} {P : Nat → Option Nat} {g : Int → Int} (h : RS ad w P g) (k : Kp ad w u) : RS ad u P g := by
  obtain ⟨q, e, h2⟩ := h
  exact ⟨q, e, h2.kp k⟩
theorem RS.cg {ad : Nat → Nat} {w : wa_W} {P P2 : Nat → Option Nat} {g : Int → Int} (h : RS ad w P g) (e : P2 0 = P 0) : RS ad w P2 g := by
  obtain ⟨q, e1, h2⟩ := h
  exact ⟨q, e.trans e1, h2⟩

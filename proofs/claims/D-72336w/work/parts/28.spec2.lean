/-! SPEC: counts, sums, overlaps -/
theorem taken_s {g : Int → Int} {i : Int} (h : 0 ≤ i) : takenN g (i + 1).toNat = takenN g i.toNat + if foS g i = -1 then 0 else 1 := by
  rw [show (i + 1).toNat = i.toNat + 1 by omega, takenN, show (i.toNat : Int) = i by omega]
theorem sumF_s {h g : Int → Int} {i : Int} (h0 : 0 ≤ i) : sumF h g (i + 1).toNat = sumF h g i.toNat + if foS g i = -1 then 0 else h i := by
  rw [show (i + 1).toNat = i.toNat + 1 by omega, sumF, show (i.toNat : Int) = i by omega]
theorem cntN_p {P : Int → Prop} {i : Int} (h0 : 0 ≤ i) (hp : P i) : cntN P (i + 1).toNat = cntN P i.toNat + 1 := by
  rw [show (i + 1).toNat = i.toNat + 1 by omega, cntN, show (i.toNat : Int) = i by omega, if_pos hp]
theorem cntN_n {P : Int → Prop} {i : Int} (h0 : 0 ≤ i) (hp : ¬ P i) : cntN P (i + 1).toNat = cntN P i.toNat + 0 := by
  rw [show (i + 1).toNat = i.toNat + 1 by omega, cntN, show (i.toNat : Int) = i by omega, if_neg hp]
theorem tdiv_fl {v b : Int} (hb : 0 < b) (h : v.tmod b < 0) : v.tdiv b - 1 = v / b := by
  have h1 := Int.mul_tdiv_add_tmod v b
  have h2 := Int.lt_tmod_of_pos v hb
  have e1 := Int.mul_comm (v.tdiv b) b
  have e2 : (v.tdiv b - 1) * b = v.tdiv b * b - b := by rw [Int.sub_mul, Int.one_mul]
  have e3 : (v.tdiv b - 1 + 1) * b = (v.tdiv b - 1) * b + b := by rw [Int.add_mul, Int.one_mul]
  refine ((Int.ediv_eq_iff_of_pos hb).mpr ?_).symm
  constructor <;> omega
theorem tdiv_fl0 {v b : Int} (hb : 0 < b) (h : 0 ≤ v.tmod b) : v.tdiv b = v / b := by
  have h1 := Int.mul_tdiv_add_tmod v b
  have h2 := Int.tmod_lt_of_pos v hb
  have e1 := Int.mul_comm (v.tdiv b) b
  have e3 : (v.tdiv b + 1) * b = v.tdiv b * b + b := by rw [Int.add_mul, Int.one_mul]
  refine ((Int.ediv_eq_iff_of_pos hb).mpr ?_).symm
  constructor <;> omega
noncomputable def dfS (g : Int → Int) (a r c : Int) : Int := pc g a r c - pc g (foS g a) (r - eS g a) (c - fS g a)
abbrev hrS (g : Int → Int) (a r : Int) : Prop := (0 ≤ r ∧ r ≤ 3) ∧ 0 ≤ r - eS g a ∧ r - eS g a ≤ 3
noncomputable def cellS (g : Int → Int) (a : Int) : Int := (4 - (Int.natAbs (eS g a) : Int)) * (8 - fS g a)
noncomputable def FdS (sg : Int) (g : Int → Int) (a r c : Int) : Int := if sg = 0 then (Int.natAbs (dfS g a r c) : Int) else dfS g a r c
noncomputable def rowD (sg : Int) (g : Int → Int) (a r : Int) : Nat → Int
  | 0 => 0
  | n + 1 => rowD sg g a r n + FdS sg g a r (fS g a + n)
noncomputable def allD (sg : Int) (g : Int → Int) (a : Int) : Nat → Int
  | 0 => 0
  | r + 1 => allD sg g a r + if hrS g a r then rowD sg g a r (8 - fS g a).toNat else 0
noncomputable def diffS (sg : Int) (g : Int → Int) (a : Int) : Int := allD sg g a 4
theorem rowD_s {sg : Int} {g : Int → Int} {a r v : Int} (h : fS g a ≤ v) : rowD sg g a r (v + 1 - fS g a).toNat = rowD sg g a r (v - fS g a).toNat + FdS sg g a r v := by
  rw [show (v + 1 - fS g a).toNat = (v - fS g a).toNat + 1 by omega, rowD, show fS g a + ((v - fS g a).toNat : Int) = v by omega]
theorem allD_s {sg : Int} {g : Int → Int} {a r : Int} (h : 0 ≤ r) : allD sg g a (r + 1).toNat = allD sg g a r.toNat + if hrS g a r then rowD sg g a r (8 - fS g a).toNat else 0 := by
  rw [show (r + 1).toNat = r.toNat + 1 by omega, allD, show (r.toNat : Int) = r by omega]
theorem dfS_in {g : Int → Int} (h : okS g) {a r c : Int} (h0 : 0 ≤ a) (h1 : a < g 3) (hf : ¬ foS g a = -1) (hr : hrS g a r) (h2 : fS g a ≤ c) (h3 : c ≤ 7) : -63 ≤ dfS g a r c ∧ dfS g a r c ≤ 63 := by
  have hm := h.many
  have hx := foS_in h h0 h1
  have he := efS_in (g := g) a
  have a1 := h.pc a r c (by omega) (by omega) (by omega) (by omega) (by omega) (by omega)
  have a2 := h.pc (foS g a) (r - eS g a) (c - fS g a) (by omega) (by omega) (by omega) (by omega) (by omega) (by omega)
  unfold dfS
  omega
theorem FdS_in {sg : Int} {g : Int → Int} (h : okS g) {a r c : Int} (h0 : 0 ≤ a) (h1 : a < g 3) (hf : ¬ foS g a = -1) (hr : hrS g a r) (h2 : fS g a ≤ c) (h3 : c ≤ 7) : -63 ≤ FdS sg g a r c ∧ FdS sg g a r c ≤ 63 := by
  have := dfS_in h h0 h1 hf hr h2 h3
  unfold FdS
  split <;> omega
theorem rowD_in {sg : Int} {g : Int → Int} (h : okS g) {a r : Int} (h0 : 0 ≤ a) (h1 : a < g 3) (hf : ¬ foS g a = -1) (hr : hrS g a r) (n : Nat) (hn : fS g a + n ≤ 8) : -(63 * (n : Int)) ≤ rowD sg g a r n ∧ rowD sg g a r n ≤ 63 * n := by
  induction n with
  | zero => unfold rowD; omega
  | succ n ih =>
    have ih := ih (by omega)
    have := FdS_in (sg := sg) h h0 h1 hf hr (c := fS g a + n) (by omega) (by omega)
    unfold rowD
    omega
theorem allD_in {sg : Int} {g : Int → Int} (h : okS g) {a : Int} (h0 : 0 ≤ a) (h1 : a < g 3) (hf : ¬ foS g a = -1) (n : Nat) : -(504 * (n : Int)) ≤ allD sg g a n ∧ allD sg g a n ≤ 504 * n := by
  induction n with
  | zero => unfold allD; omega
  | succ n ih =>
    have he := efS_in (g := g) a
    unfold allD
    split
    · rename_i hr
      have := rowD_in (sg := sg) h h0 h1 hf hr (8 - fS g a).toNat (by omega)
      omega
    · omega
theorem diffS_in {sg : Int} {g : Int → Int} (h : okS g) {a : Int} (h0 : 0 ≤ a) (h1 : a < g 3) (hf : ¬ foS g a = -1) : -2016 ≤ diffS sg g a ∧ diffS sg g a ≤ 2016 := by
  have := allD_in (sg := sg) h h0 h1 hf 4
  unfold diffS
  omega

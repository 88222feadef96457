/-! small laws for the other side -/
theorem zxor_lt (x y : Int32) : (x ^^^ y) < 0 ↔ ¬ (x < 0 ↔ y < 0) := by
  rw [Int32.lt_iff_toInt_lt, Int32.lt_iff_toInt_lt, Int32.lt_iff_toInt_lt]
  have h : ∀ z : Int32, (z.toInt < (0 : Int32).toInt) ↔ z.toBitVec.msb = true := by
    intro z
    show z.toBitVec.toInt < 0 ↔ _
    rw [BitVec.msb_eq_toInt]; simp
  rw [h, h, h, Int32.toBitVec_xor, BitVec.msb_xor]
  cases x.toBitVec.msb <;> cases y.toBitVec.msb <;> simp
theorem lxor_lt (x y : Int64) : (x ^^^ y) < 0 ↔ ¬ (x < 0 ↔ y < 0) := by
  rw [Int64.lt_iff_toInt_lt, Int64.lt_iff_toInt_lt, Int64.lt_iff_toInt_lt]
  have h : ∀ z : Int64, (z.toInt < (0 : Int64).toInt) ↔ z.toBitVec.msb = true := by
    intro z
    show z.toBitVec.toInt < 0 ↔ _
    rw [BitVec.msb_eq_toInt]; simp
  rw [h, h, h, Int64.toBitVec_xor, BitVec.msb_xor]
  cases x.toBitVec.msb <;> cases y.toBitVec.msb <;> simp
theorem zxor_z {x y : Int} (hx : rI x) (hy : 0 < y ∧ y < 2147483648) : ∃ e : Int, zI x ^^^ zI y = zI e ∧ rI e ∧ (e < 0 ↔ x < 0) := by
  refine ⟨(zI x ^^^ zI y).toInt, zI_of _, rI_of _, ?_⟩
  have h := zxor_lt (zI x) (zI y)
  rw [zI_of (zI x ^^^ zI y), zI_lt0 (rI_of _), zI_lt0 hx, zI_lt0 (show rI y from ⟨by omega, hy.2⟩)] at h
  rw [h]; omega
theorem lxor_z {x y : Int} (hx : rL x) (hy : 0 < y ∧ y < 9223372036854775808) : ∃ e : Int, lI x ^^^ lI y = lI e ∧ rL e ∧ (e < 0 ↔ x < 0) := by
  refine ⟨(lI x ^^^ lI y).toInt, lI_of _, rL_of _, ?_⟩
  have h := lxor_lt (lI x) (lI y)
  have lt0 : ∀ {a : Int}, rL a → (lI a < 0 ↔ a < 0) := fun ha => by rw [← lI_0]; exact lI_lt ha (by decide)
  rw [lI_of (lI x ^^^ lI y), lt0 (rL_of _), lt0 hx, lt0 (show rL y from ⟨by omega, hy.2⟩)] at h
  rw [h]; omega
theorem fdiv_t {x y : Int} (hy : 0 < y) : (¬ x < 0 → x.tdiv y = x / y) ∧ (x < 0 → x.tdiv y * y = x → x.tdiv y = x / y) ∧ (x < 0 → x.tdiv y * y ≠ x → x.tdiv y - 1 = x / y) := by
  have e1 := Int.mul_tdiv_add_tmod x y
  have hb1 : x < 0 → -y < x.tmod y ∧ x.tmod y ≤ 0 := fun h => by
    have := Int.tmod_lt_of_pos x hy
    have h2 : (-x).tmod y = -(x.tmod y) := Int.neg_tmod ..
    have h3 := Int.tmod_lt_of_pos (-x) hy
    have h4 : 0 ≤ (-x).tmod y := Int.tmod_nonneg y (by omega)
    omega
  have key : ∀ q r : Int, x = y * q + r → 0 ≤ r → r < y → x / y = q := fun q r h h1 h2 => by
    rw [h, Int.mul_add_ediv_left _ _ (by omega), Int.ediv_eq_zero_of_lt h1 h2]; omega
  refine ⟨fun h => Int.tdiv_eq_ediv_of_nonneg (by omega), fun h q => ?_, fun h q => ?_⟩
  · exact (key _ 0 (by rw [Int.mul_comm]; omega) (by omega) hy).symm
  · have h5 := hb1 h
    have hr : x.tmod y ≠ 0 := fun z => q (by rw [Int.mul_comm]; omega)
    exact (key (x.tdiv y - 1) (x.tmod y + y) (by rw [Int.mul_sub]; omega) (by omega) (by omega)).symm
theorem tdm_n {x y : Int} (hx : 0 ≤ x) (hy : 0 < y) : 0 ≤ x.tdiv y * y ∧ x.tdiv y * y ≤ x := by
  have e1 := Int.mul_tdiv_add_tmod x y
  have h2 : 0 ≤ x.tmod y := Int.tmod_nonneg y hx
  have h3 : 0 ≤ x.tdiv y := Int.tdiv_nonneg hx (by omega)
  have h4 := Int.mul_nonneg h3 (show 0 ≤ y by omega)
  rw [Int.mul_comm] at e1
  omega
theorem tdm_i {x y : Int} (hy : 0 < y) : (0 ≤ x → 0 ≤ x.tdiv y * y ∧ x.tdiv y * y ≤ x) ∧ (x < 0 → x ≤ x.tdiv y * y ∧ x.tdiv y * y ≤ 0) := by
  refine ⟨fun h => tdm_n h hy, fun h => ?_⟩
  have h1 := tdm_n (x := -x) (y := y) (by omega) hy
  rw [Int.neg_tdiv, Int.neg_mul] at h1
  omega
theorem tdm_r {x y : Int} (hx : rI x) (hy : 0 < y) : rI (x.tdiv y * y) := by
  have h := tdm_i (x := x) hy
  unfold rI at hx ⊢
  omega
theorem tdm_l {x y : Int} (hx : rL x) (hy : 0 < y) : rL (x.tdiv y * y) := by
  have h := tdm_i (x := x) hy
  unfold rL at hx ⊢
  omega
theorem lowA_t {n d : Int} : n.tdiv (gcI n d) = lowA n d := tdiv_dvd
/-- the order of shifts -/
def shC (l1 r1 l2 r2 : Int) : Int := if ¬ (Int.natAbs l1 : Int) - (Int.natAbs l2 : Int) = 0 then (Int.natAbs l1 : Int) - (Int.natAbs l2 : Int) else if ¬ r1 - r2 = 0 then r1 - r2 else l1 - l2
/-- the order of links -/
def liC (f1 t1 v1 f2 t2 v2 : Int) : Int := if ¬ v2 - v1 = 0 then v2 - v1 else if ¬ f1 - f2 = 0 then f1 - f2 else t1 - t2

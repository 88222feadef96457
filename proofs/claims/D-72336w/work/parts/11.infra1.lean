/-! INFRA 1: whole numbers as ints and longs; rows over them -/
def zI (n : Int) : Int32 := Int32.ofInt n
def lI (n : Int) : Int64 := Int64.ofInt n
theorem zI_add (a b : Int) : zI a + zI b = zI (a + b) := (Int32.ofInt_add a b).symm
theorem zI_sub (a b : Int) : zI a - zI b = zI (a - b) := (Int32.ofInt_sub a b).symm
theorem zI_mul (a b : Int) : zI a * zI b = zI (a * b) := (Int32.ofInt_mul a b).symm
theorem zI_neg (a : Int) : -zI a = zI (-a) := (Int32.ofInt_neg a).symm
theorem lI_add (a b : Int) : lI a + lI b = lI (a + b) := (Int64.ofInt_add a b).symm
theorem lI_sub (a b : Int) : lI a - lI b = lI (a - b) := (Int64.ofInt_sub a b).symm
theorem lI_mul (a b : Int) : lI a * lI b = lI (a * b) := (Int64.ofInt_mul a b).symm
theorem lI_neg (a : Int) : -lI a = lI (-a) := (Int64.ofInt_neg a).symm
theorem zI_toInt {n : Int} (h1 : -2147483648 ≤ n) (h2 : n < 2147483648) : (zI n).toInt = n := Int32.toInt_ofInt_of_le (by omega) (by omega)
theorem lI_toInt {n : Int} (h1 : -9223372036854775808 ≤ n) (h2 : n < 9223372036854775808) : (lI n).toInt = n := Int64.toInt_ofInt_of_le (by omega) (by omega)
theorem zI_of (x : Int32) : x = zI x.toInt := (Int32.ofInt_toInt x).symm
theorem lI_of (x : Int64) : x = lI x.toInt := (Int64.ofInt_toInt x).symm
abbrev rI (n : Int) : Prop := -2147483648 ≤ n ∧ n < 2147483648
abbrev rL (n : Int) : Prop := -9223372036854775808 ≤ n ∧ n < 9223372036854775808
theorem rI_of (x : Int32) : rI x.toInt := ⟨by have := Int32.le_toInt x; omega, by have := Int32.toInt_lt x; omega⟩
theorem rL_of (x : Int64) : rL x.toInt := ⟨by have := Int64.le_toInt x; omega, by have := Int64.toInt_lt x; omega⟩
theorem zI_lt {a b : Int} (ha : rI a) (hb : rI b) : zI a < zI b ↔ a < b := by rw [Int32.lt_iff_toInt_lt, zI_toInt ha.1 ha.2, zI_toInt hb.1 hb.2]
theorem zI_le {a b : Int} (ha : rI a) (hb : rI b) : zI a ≤ zI b ↔ a ≤ b := by rw [Int32.le_iff_toInt_le, zI_toInt ha.1 ha.2, zI_toInt hb.1 hb.2]
theorem zI_eq {a b : Int} (ha : rI a) (hb : rI b) : zI a = zI b ↔ a = b := by rw [← Int32.toInt_inj, zI_toInt ha.1 ha.2, zI_toInt hb.1 hb.2]
theorem lI_lt {a b : Int} (ha : rL a) (hb : rL b) : lI a < lI b ↔ a < b := by rw [Int64.lt_iff_toInt_lt, lI_toInt ha.1 ha.2, lI_toInt hb.1 hb.2]
theorem lI_le {a b : Int} (ha : rL a) (hb : rL b) : lI a ≤ lI b ↔ a ≤ b := by rw [Int64.le_iff_toInt_le, lI_toInt ha.1 ha.2, lI_toInt hb.1 hb.2]
theorem lI_eq {a b : Int} (ha : rL a) (hb : rL b) : lI a = lI b ↔ a = b := by rw [← Int64.toInt_inj, lI_toInt ha.1 ha.2, lI_toInt hb.1 hb.2]
theorem zI_0 : zI 0 = 0 := rfl
theorem lI_0 : lI 0 = 0 := rfl
theorem zI_lt0 {a : Int} (ha : rI a) : zI a < 0 ↔ a < 0 := by rw [← zI_0]; exact zI_lt ha (by decide)
theorem zI_le0 {a : Int} (ha : rI a) : zI a ≤ 0 ↔ a ≤ 0 := by rw [← zI_0]; exact zI_le ha (by decide)
theorem zI_0le {a : Int} (ha : rI a) : 0 ≤ zI a ↔ 0 ≤ a := by rw [← zI_0]; exact zI_le (by decide) ha
theorem zI_0lt {a : Int} (ha : rI a) : 0 < zI a ↔ 0 < a := by rw [← zI_0]; exact zI_lt (by decide) ha
theorem zI_eq0 {a : Int} (ha : rI a) : zI a = 0 ↔ a = 0 := by rw [← zI_0]; exact zI_eq ha (by decide)
theorem lI_eq0 {a : Int} (ha : rL a) : lI a = 0 ↔ a = 0 := by rw [← lI_0]; exact lI_eq ha (by decide)
theorem zI_div {a b : Int} (ha : rI a) (hb : rI b) : zI a / zI b = zI (a.tdiv b) := (Int32.ofInt_tdiv (by have := ha.1; exact this) (by have := ha.2; show a ≤ 2147483647; omega) (by have := hb.1; exact this) (by have := hb.2; show b ≤ 2147483647; omega)).symm
theorem lI_div {a b : Int} (ha : rL a) (hb : rL b) : lI a / lI b = lI (a.tdiv b) := (Int64.ofInt_tdiv (by have := ha.1; exact this) (by have := ha.2; show a ≤ 9223372036854775807; omega) (by have := hb.1; exact this) (by have := hb.2; show b ≤ 9223372036854775807; omega)).symm
theorem t_mod (a b : Int) : a - a.tdiv b * b = a.tmod b := by have := Int.mul_tdiv_add_tmod a b; rw [Int.mul_comm] at this; omega
theorem zI_rem {a b : Int} (ha : rI a) (hb : rI b) : zI a - zI a / zI b * zI b = zI (a.tmod b) := by rw [zI_div ha hb, zI_mul, zI_sub, t_mod]
theorem lI_rem {a b : Int} (ha : rL a) (hb : rL b) : lI a - lI a / lI b * lI b = lI (a.tmod b) := by rw [lI_div ha hb, lI_mul, lI_sub, t_mod]
theorem zI_l {a : Int} (ha : rI a) : (zI a).toInt64 = lI a := Int32.toInt64_ofInt (by have := ha.1; exact this) (by have := ha.2; show a ≤ 2147483647; omega)
theorem lI_i (a : Int) : (lI a).toInt32 = zI a := Int64.toInt32_ofInt
theorem zI_cl {a : Int} (ha : rI a) : (zI a).toNatClampNeg = a.toNat := Int32.toNatClampNeg_ofInt_of_le (by have := ha.1; omega) (by have := ha.2; omega)
theorem zI_in {a : Int} {n : Nat} (h0 : 0 ≤ a) (h1 : a < n) (h2 : a < 2147483648) : vp_in (zI a) n := by
  rw [vp_in_iff, zI_toInt (by omega) h2]
  exact ⟨h0, h1⟩
theorem zI_nat (n : Nat) : Int32.ofNat n = zI (n : Int) := Int32.ofInt_eq_ofNat.symm
theorem lcmp_lt {a b : Int} (ha : rL a) (hb : rL b) : lg_cmp (lI a) (lI b) < 0 ↔ a < b := by
  unfold lg_cmp
  by_cases h : lI a > lI b
  · rw [if_pos h]
    have h' := (lI_lt hb ha).mp h
    constructor
    · intro q; exact absurd q (by decide)
    · intro q; omega
  · rw [if_neg h]
    have h' : ¬ b < a := fun q => h ((lI_lt hb ha).mpr q)
    by_cases e : lI a = lI b
    · rw [if_pos e]
      have e' := (lI_eq ha hb).mp e
      constructor
      · intro q; exact absurd q (by decide)
      · intro q; omega
    · rw [if_neg e]
      have e' : ¬ a = b := fun q => e ((lI_eq ha hb).mpr q)
      constructor
      · intro q; omega
      · intro q; decide
theorem lcmp_eq {a b : Int} (ha : rL a) (hb : rL b) : lg_cmp (lI a) (lI b) = 0 ↔ a = b := by
  unfold lg_cmp
  by_cases h : lI a > lI b
  · rw [if_pos h]
    have h' := (lI_lt hb ha).mp h
    constructor
    · intro q; exact absurd q (by decide)
    · intro q; omega
  · rw [if_neg h]
    by_cases e : lI a = lI b
    · rw [if_pos e]
      have e' := (lI_eq ha hb).mp e
      constructor
      · intro q; exact e'
      · intro q; rfl
    · rw [if_neg e]
      have e' : ¬ a = b := fun q => e ((lI_eq ha hb).mpr q)
      constructor
      · intro q; exact absurd q (by decide)
      · intro q; exact absurd q e'
theorem lcmp_le {a b : Int} (ha : rL a) (hb : rL b) : lg_cmp (lI a) (lI b) ≤ 0 ↔ a ≤ b := by
  unfold lg_cmp
  by_cases h : lI a > lI b
  · rw [if_pos h]
    have h' := (lI_lt hb ha).mp h
    constructor
    · intro q; exact absurd q (by decide)
    · intro q; omega
  · rw [if_neg h]
    have h' : ¬ b < a := fun q => h ((lI_lt hb ha).mpr q)
    by_cases e : lI a = lI b
    · rw [if_pos e]
      constructor
      · intro q; omega
      · intro q; decide
    · rw [if_neg e]
      constructor
      · intro q; omega
      · intro q; decide
/-- functions on whole numbers, set at one place -/
def fup (f : Int → Int) (k v : Int) : Int → Int := fun j => if j = k then v else f j
theorem fup_s {f : Int → Int} {k v : Int} : fup f k v k = v := if_pos rfl
theorem fup_n {f : Int → Int} {k v j : Int} (h : j ≠ k) : fup f k v j = f j := if_neg h
def fupR (f : Int → Option Nat) (k : Int) (v : Option Nat) : Int → Option Nat := fun j => if j = k then v else f j
theorem fupR_s {f : Int → Option Nat} {k : Int} {v : Option Nat} : fupR f k v k = v := if_pos rfl
theorem fupR_n {f : Int → Option Nat} {k : Int} {v : Option Nat} {j : Int} (h : j ≠ k) : fupR f k v j = f j := if_neg h
theorem upd_fup (f : Int → Int) {i : Int} (h0 : 0 ≤ i) (v : Int) : upd (fun j => zI (f j)) i.toNat (zI v) = fun j : Nat => zI (fup f i v j) := by
  funext j
  unfold upd fup
  by_cases h : j = i.toNat
  · rw [if_pos h, if_pos (by omega)]
  · rw [if_neg h, if_neg (by omega)]
section WZ
variable {p : Program} {l : Launch} {e : Env} {R : Room} {s : State} {m : MethodId} {args : Array Value} {below : List Frame} {meth : Method} {c : Code} {H : Heap} {locs : List Loc} {cells slots : Nat} {Q : State → Prop}
variable {cc : ByteArray} {pc : Nat} {ls : Array Slot} {rest : List Value}
theorem wz_iconst (hx : p.tables.exec = Jvm.exec) (hb : c.code = cc) {n : Int} (d : decode cc pc = .ok (.iconst n, 1)) (k : W p l e R s m args below meth c H locs cells slots Q (F0 m (pc + 1) ls (.int (zI n) :: rest))) : W p l e R s m args below meth c H locs cells slots Q (F0 m pc ls rest) := lv_iconst hx hb d rfl k
theorem wz_bipush (hx : p.tables.exec = Jvm.exec) (hb : c.code = cc) {n : Int} (d : decode cc pc = .ok (.bipush n, 2)) (hn : (Int8.ofInt n).toInt32 = zI n) (k : W p l e R s m args below meth c H locs cells slots Q (F0 m (pc + 2) ls (.int (zI n) :: rest))) : W p l e R s m args below meth c H locs cells slots Q (F0 m pc ls rest) := lv_bipush hx hb d hn k
theorem wz_sipush (hx : p.tables.exec = Jvm.exec) (hb : c.code = cc) {n : Int} (d : decode cc pc = .ok (.sipush n, 3)) (hn : (Int16.ofInt n).toInt32 = zI n) (k : W p l e R s m args below meth c H locs cells slots Q (F0 m (pc + 3) ls (.int (zI n) :: rest))) : W p l e R s m args below meth c H locs cells slots Q (F0 m pc ls rest) := lv_sipush hx hb d hn k
theorem wz_iadd (hx : p.tables.exec = Jvm.exec) (hb : c.code = cc) {x y : Int} (d : decode cc pc = .ok (.iadd, 1)) (k : W p l e R s m args below meth c H locs cells slots Q (F0 m (pc + 1) ls (.int (zI (x + y)) :: rest))) : W p l e R s m args below meth c H locs cells slots Q (F0 m pc ls (.int (zI y) :: .int (zI x) :: rest)) := lv_iadd hx hb d (by rw [zI_add]; exact k)
theorem wz_isub (hx : p.tables.exec = Jvm.exec) (hb : c.code = cc) {x y : Int} (d : decode cc pc = .ok (.isub, 1)) (k : W p l e R s m args below meth c H locs cells slots Q (F0 m (pc + 1) ls (.int (zI (x - y)) :: rest))) : W p l e R s m args below meth c H locs cells slots Q (F0 m pc ls (.int (zI y) :: .int (zI x) :: rest)) := lv_isub hx hb d (by rw [zI_sub]; exact k)
theorem wz_imul (hx : p.tables.exec = Jvm.exec) (hb : c.code = cc) {x y : Int} (d : decode cc pc = .ok (.imul, 1)) (k : W p l e R s m args below meth c H locs cells slots Q (F0 m (pc + 1) ls (.int (zI (x * y)) :: rest))) : W p l e R s m args below meth c H locs cells slots Q (F0 m pc ls (.int (zI y) :: .int (zI x) :: rest)) := lv_imul hx hb d (by rw [zI_mul]; exact k)
theorem wz_ineg (hx : p.tables.exec = Jvm.exec) (hb : c.code = cc) {x : Int} (d : decode cc pc = .ok (.ineg, 1)) (k : W p l e R s m args below meth c H locs cells slots Q (F0 m (pc + 1) ls (.int (zI (-x)) :: rest))) : W p l e R s m args below meth c H locs cells slots Q (F0 m pc ls (.int (zI x) :: rest)) := lv_ineg hx hb d (by rw [zI_neg]; exact k)
theorem wz_idiv (hx : p.tables.exec = Jvm.exec) (hb : c.code = cc) {x y : Int} (d : decode cc pc = .ok (.idiv, 1)) (ry : rI y) (hy : y ≠ 0) (rx : rI x) (k : W p l e R s m args below meth c H locs cells slots Q (F0 m (pc + 1) ls (.int (zI (x.tdiv y)) :: rest))) : W p l e R s m args below meth c H locs cells slots Q (F0 m pc ls (.int (zI y) :: .int (zI x) :: rest)) := lv_idiv hx hb d (fun h => hy ((zI_eq0 ry).mp h)) (by rw [zI_div rx ry]; exact k)
theorem wz_irem (hx : p.tables.exec = Jvm.exec) (hb : c.code = cc) {x y : Int} (d : decode cc pc = .ok (.irem, 1)) (ry : rI y) (hy : y ≠ 0) (rx : rI x) (k : W p l e R s m args below meth c H locs cells slots Q (F0 m (pc + 1) ls (.int (zI (x.tmod y)) :: rest))) : W p l e R s m args below meth c H locs cells slots Q (F0 m pc ls (.int (zI y) :: .int (zI x) :: rest)) := lv_irem hx hb d (fun h => hy ((zI_eq0 ry).mp h)) (by rw [zI_rem rx ry]; exact k)
theorem wz_ladd (hx : p.tables.exec = Jvm.exec) (hb : c.code = cc) {x y : Int} (d : decode cc pc = .ok (.ladd, 1)) (k : W p l e R s m args below meth c H locs cells slots Q (F0 m (pc + 1) ls (.long (lI (x + y)) :: rest))) : W p l e R s m args below meth c H locs cells slots Q (F0 m pc ls (.long (lI y) :: .long (lI x) :: rest)) := lv_ladd hx hb d (by rw [lI_add]; exact k)
theorem wz_lsub (hx : p.tables.exec = Jvm.exec) (hb : c.code = cc) {x y : Int} (d : decode cc pc = .ok (.lsub, 1)) (k : W p l e R s m args below meth c H locs cells slots Q (F0 m (pc + 1) ls (.long (lI (x - y)) :: rest))) : W p l e R s m args below meth c H locs cells slots Q (F0 m pc ls (.long (lI y) :: .long (lI x) :: rest)) := lv_lsub hx hb d (by rw [lI_sub]; exact k)
theorem wz_lmul (hx : p.tables.exec = Jvm.exec) (hb : c.code = cc) {x y : Int} (d : decode cc pc = .ok (.lmul, 1)) (k : W p l e R s m args below meth c H locs cells slots Q (F0 m (pc + 1) ls (.long (lI (x * y)) :: rest))) : W p l e R s m args below meth c H locs cells slots Q (F0 m pc ls (.long (lI y) :: .long (lI x) :: rest)) := lv_lmul hx hb d (by rw [lI_mul]; exact k)
theorem wz_lneg (hx : p.tables.exec = Jvm.exec) (hb : c.code = cc) {x : Int} (d : decode cc pc = .ok (.lneg, 1)) (k : W p l e R s m args below meth c H locs cells slots Q (F0 m (pc + 1) ls (.long (lI (-x)) :: rest))) : W p l e R s m args below meth c H locs cells slots Q (F0 m pc ls (.long (lI x) :: rest)) := lv_lneg hx hb d (by rw [lI_neg]; exact k)
theorem wz_ldiv (hx : p.tables.exec = Jvm.exec) (hb : c.code = cc) {x y : Int} (d : decode cc pc = .ok (.ldiv, 1)) (ry : rL y) (hy : y ≠ 0) (rx : rL x) (k : W p l e R s m args below meth c H locs cells slots Q (F0 m (pc + 1) ls (.long (lI (x.tdiv y)) :: rest))) : W p l e R s m args below meth c H locs cells slots Q (F0 m pc ls (.long (lI y) :: .long (lI x) :: rest)) := lv_ldiv hx hb d (fun h => hy ((lI_eq0 ry).mp h)) (by rw [lI_div rx ry]; exact k)
theorem wz_lrem (hx : p.tables.exec = Jvm.exec) (hb : c.code = cc) {x y : Int} (d : decode cc pc = .ok (.lrem, 1)) (ry : rL y) (hy : y ≠ 0) (rx : rL x) (k : W p l e R s m args below meth c H locs cells slots Q (F0 m (pc + 1) ls (.long (lI (x.tmod y)) :: rest))) : W p l e R s m args below meth c H locs cells slots Q (F0 m pc ls (.long (lI y) :: .long (lI x) :: rest)) := lv_lrem hx hb d (fun h => hy ((lI_eq0 ry).mp h)) (by rw [lI_rem rx ry]; exact k)
theorem wz_i2l (hx : p.tables.exec = Jvm.exec) (hb : c.code = cc) {x : Int} (d : decode cc pc = .ok (.i2l, 1)) (rx : rI x) (k : W p l e R s m args below meth c H locs cells slots Q (F0 m (pc + 1) ls (.long (lI x) :: rest))) : W p l e R s m args below meth c H locs cells slots Q (F0 m pc ls (.int (zI x) :: rest)) := lv_i2l hx hb d (zI_l rx) k
theorem wz_l2i (hx : p.tables.exec = Jvm.exec) (hb : c.code = cc) {x : Int} (d : decode cc pc = .ok (.l2i, 1)) (k : W p l e R s m args below meth c H locs cells slots Q (F0 m (pc + 1) ls (.int (zI x) :: rest))) : W p l e R s m args below meth c H locs cells slots Q (F0 m pc ls (.long (lI x) :: rest)) := lv_l2i hx hb d (lI_i x) k
theorem wz_iinc (hx : p.tables.exec = Jvm.exec) (hb : c.code = cc) {i nL k : Nat} {n x : Int} {lv lv' : List (Nat × Value)} (d : decode cc pc = .ok (.iinc i n, 3)) (h : lv_has ls nL lv) (hk : lv[k]? = some (i, .int (zI x))) (hn : i < nL) (hl : (i, Value.int (zI (x + n))) :: lv.filter (fun q => !(q.1 == i) && !(q.1 + 1 == i && q.2.category == 2)) = lv')
    (kk : ∀ ls' : Array Slot, lv_has ls' nL lv' → W p l e R s m args below meth c H locs cells slots Q (F0 m (pc + 3) ls' rest)) : W p l e R s m args below meth c H locs cells slots Q (F0 m pc ls rest) := lv_iinc hx hb d h hk (zI_add x n) hn hl kk
theorem wz_iflt (hx : p.tables.exec = Jvm.exec) (hb : c.code = cc) {x : Int} {off : Int} {tgt : Nat} (d : decode cc pc = .ok (.ifCond .lt off, 3)) (ht : (pc : Int) + off = (tgt : Int)) (r : rI x) (kt : x < 0 → W p l e R s m args below meth c H locs cells slots Q (F0 m tgt ls rest)) (kf : ¬ x < 0 → W p l e R s m args below meth c H locs cells slots Q (F0 m (pc + 3) ls rest)) : W p l e R s m args below meth c H locs cells slots Q (F0 m pc ls (.int (zI x) :: rest)) := lv_if_lt hx hb d ht (fun h => kt ((zI_lt0 r).mp h)) (fun h => kf fun q => h ((zI_lt0 r).mpr q))
theorem wz_ifle (hx : p.tables.exec = Jvm.exec) (hb : c.code = cc) {x : Int} {off : Int} {tgt : Nat} (d : decode cc pc = .ok (.ifCond .le off, 3)) (ht : (pc : Int) + off = (tgt : Int)) (r : rI x) (kt : x ≤ 0 → W p l e R s m args below meth c H locs cells slots Q (F0 m tgt ls rest)) (kf : ¬ x ≤ 0 → W p l e R s m args below meth c H locs cells slots Q (F0 m (pc + 3) ls rest)) : W p l e R s m args below meth c H locs cells slots Q (F0 m pc ls (.int (zI x) :: rest)) := lv_if_le hx hb d ht (fun h => kt ((zI_le0 r).mp h)) (fun h => kf fun q => h ((zI_le0 r).mpr q))
theorem wz_ifeq (hx : p.tables.exec = Jvm.exec) (hb : c.code = cc) {x : Int} {off : Int} {tgt : Nat} (d : decode cc pc = .ok (.ifCond .eq off, 3)) (ht : (pc : Int) + off = (tgt : Int)) (r : rI x) (kt : x = 0 → W p l e R s m args below meth c H locs cells slots Q (F0 m tgt ls rest)) (kf : ¬ x = 0 → W p l e R s m args below meth c H locs cells slots Q (F0 m (pc + 3) ls rest)) : W p l e R s m args below meth c H locs cells slots Q (F0 m pc ls (.int (zI x) :: rest)) := lv_if_eq hx hb d ht (fun h => kt ((zI_eq0 r).mp h)) (fun h => kf fun q => h ((zI_eq0 r).mpr q))
theorem wz_ifge (hx : p.tables.exec = Jvm.exec) (hb : c.code = cc) {x : Int} {off : Int} {tgt : Nat} (d : decode cc pc = .ok (.ifCond .ge off, 3)) (ht : (pc : Int) + off = (tgt : Int)) (r : rI x) (kt : 0 ≤ x → W p l e R s m args below meth c H locs cells slots Q (F0 m tgt ls rest)) (kf : ¬ (0 ≤ x) → W p l e R s m args below meth c H locs cells slots Q (F0 m (pc + 3) ls rest)) : W p l e R s m args below meth c H locs cells slots Q (F0 m pc ls (.int (zI x) :: rest)) := lv_if_ge hx hb d ht (fun h => kt ((zI_0le r).mp h)) (fun h => kf fun q => h ((zI_0le r).mpr q))
theorem wz_ifgt (hx : p.tables.exec = Jvm.exec) (hb : c.code = cc) {x : Int} {off : Int} {tgt : Nat} (d : decode cc pc = .ok (.ifCond .gt off, 3)) (ht : (pc : Int) + off = (tgt : Int)) (r : rI x) (kt : 0 < x → W p l e R s m args below meth c H locs cells slots Q (F0 m tgt ls rest)) (kf : ¬ (0 < x) → W p l e R s m args below meth c H locs cells slots Q (F0 m (pc + 3) ls rest)) : W p l e R s m args below meth c H locs cells slots Q (F0 m pc ls (.int (zI x) :: rest)) := lv_if_gt hx hb d ht (fun h => kt ((zI_0lt r).mp h)) (fun h => kf fun q => h ((zI_0lt r).mpr q))
theorem wz_ifne (hx : p.tables.exec = Jvm.exec) (hb : c.code = cc) {x : Int} {off : Int} {tgt : Nat} (d : decode cc pc = .ok (.ifCond .ne off, 3)) (ht : (pc : Int) + off = (tgt : Int)) (r : rI x) (kt : ¬ x = 0 → W p l e R s m args below meth c H locs cells slots Q (F0 m tgt ls rest)) (kf : x = 0 → W p l e R s m args below meth c H locs cells slots Q (F0 m (pc + 3) ls rest)) : W p l e R s m args below meth c H locs cells slots Q (F0 m pc ls (.int (zI x) :: rest)) := lv_if_ne hx hb d ht (fun h => kt fun q => h ((zI_eq0 r).mpr q)) (fun h => kf ((zI_eq0 r).mp h))
theorem wz_icmp_lt (hx : p.tables.exec = Jvm.exec) (hb : c.code = cc) {x y : Int} {off : Int} {tgt : Nat} (d : decode cc pc = .ok (.if_icmp .lt off, 3)) (ht : (pc : Int) + off = (tgt : Int)) (rx : rI x) (ry : rI y) (kt : x < y → W p l e R s m args below meth c H locs cells slots Q (F0 m tgt ls rest)) (kf : ¬ (x < y) → W p l e R s m args below meth c H locs cells slots Q (F0 m (pc + 3) ls rest)) : W p l e R s m args below meth c H locs cells slots Q (F0 m pc ls (.int (zI y) :: .int (zI x) :: rest)) := lv_icmp_lt hx hb d ht (fun h => kt ((zI_lt rx ry).mp h)) (fun h => kf fun q => h ((zI_lt rx ry).mpr q))
theorem wz_icmp_ge (hx : p.tables.exec = Jvm.exec) (hb : c.code = cc) {x y : Int} {off : Int} {tgt : Nat} (d : decode cc pc = .ok (.if_icmp .ge off, 3)) (ht : (pc : Int) + off = (tgt : Int)) (rx : rI x) (ry : rI y) (kt : y ≤ x → W p l e R s m args below meth c H locs cells slots Q (F0 m tgt ls rest)) (kf : ¬ (y ≤ x) → W p l e R s m args below meth c H locs cells slots Q (F0 m (pc + 3) ls rest)) : W p l e R s m args below meth c H locs cells slots Q (F0 m pc ls (.int (zI y) :: .int (zI x) :: rest)) := lv_icmp_ge hx hb d ht (fun h => kt ((zI_le ry rx).mp h)) (fun h => kf fun q => h ((zI_le ry rx).mpr q))
theorem wz_icmp_gt (hx : p.tables.exec = Jvm.exec) (hb : c.code = cc) {x y : Int} {off : Int} {tgt : Nat} (d : decode cc pc = .ok (.if_icmp .gt off, 3)) (ht : (pc : Int) + off = (tgt : Int)) (rx : rI x) (ry : rI y) (kt : y < x → W p l e R s m args below meth c H locs cells slots Q (F0 m tgt ls rest)) (kf : ¬ (y < x) → W p l e R s m args below meth c H locs cells slots Q (F0 m (pc + 3) ls rest)) : W p l e R s m args below meth c H locs cells slots Q (F0 m pc ls (.int (zI y) :: .int (zI x) :: rest)) := lv_icmp_gt hx hb d ht (fun h => kt ((zI_lt ry rx).mp h)) (fun h => kf fun q => h ((zI_lt ry rx).mpr q))
theorem wz_icmp_le (hx : p.tables.exec = Jvm.exec) (hb : c.code = cc) {x y : Int} {off : Int} {tgt : Nat} (d : decode cc pc = .ok (.if_icmp .le off, 3)) (ht : (pc : Int) + off = (tgt : Int)) (rx : rI x) (ry : rI y) (kt : x ≤ y → W p l e R s m args below meth c H locs cells slots Q (F0 m tgt ls rest)) (kf : ¬ (x ≤ y) → W p l e R s m args below meth c H locs cells slots Q (F0 m (pc + 3) ls rest)) : W p l e R s m args below meth c H locs cells slots Q (F0 m pc ls (.int (zI y) :: .int (zI x) :: rest)) := lv_icmp_le hx hb d ht (fun h => kt ((zI_le rx ry).mp h)) (fun h => kf fun q => h ((zI_le rx ry).mpr q))
theorem wz_icmp_eq (hx : p.tables.exec = Jvm.exec) (hb : c.code = cc) {x y : Int} {off : Int} {tgt : Nat} (d : decode cc pc = .ok (.if_icmp .eq off, 3)) (ht : (pc : Int) + off = (tgt : Int)) (rx : rI x) (ry : rI y) (kt : x = y → W p l e R s m args below meth c H locs cells slots Q (F0 m tgt ls rest)) (kf : ¬ (x = y) → W p l e R s m args below meth c H locs cells slots Q (F0 m (pc + 3) ls rest)) : W p l e R s m args below meth c H locs cells slots Q (F0 m pc ls (.int (zI y) :: .int (zI x) :: rest)) := lv_icmp_eq hx hb d ht (fun h => kt ((zI_eq rx ry).mp h)) (fun h => kf fun q => h ((zI_eq rx ry).mpr q))
theorem wz_icmp_ne (hx : p.tables.exec = Jvm.exec) (hb : c.code = cc) {x y : Int} {off : Int} {tgt : Nat} (d : decode cc pc = .ok (.if_icmp .ne off, 3)) (ht : (pc : Int) + off = (tgt : Int)) (rx : rI x) (ry : rI y) (kt : ¬ x = y → W p l e R s m args below meth c H locs cells slots Q (F0 m tgt ls rest)) (kf : x = y → W p l e R s m args below meth c H locs cells slots Q (F0 m (pc + 3) ls rest)) : W p l e R s m args below meth c H locs cells slots Q (F0 m pc ls (.int (zI y) :: .int (zI x) :: rest)) := lv_icmp_ne hx hb d ht (fun h => kt fun q => h ((zI_eq rx ry).mpr q)) (fun h => kf ((zI_eq rx ry).mp h))
theorem wz_lcmp_lt (hx : p.tables.exec = Jvm.exec) (hb : c.code = cc) {x y : Int} {off : Int} {tgt : Nat} (d1 : decode cc pc = .ok (.lcmp, 1)) (d : decode cc (pc + 1) = .ok (.ifCond .lt off, 3)) (ht : ((pc + 1 : Nat) : Int) + off = (tgt : Int)) (rx : rL x) (ry : rL y) (kt : x < y → W p l e R s m args below meth c H locs cells slots Q (F0 m tgt ls rest)) (kf : ¬ x < y → W p l e R s m args below meth c H locs cells slots Q (F0 m (pc + 4) ls rest)) : W p l e R s m args below meth c H locs cells slots Q (F0 m pc ls (.long (lI y) :: .long (lI x) :: rest)) := W.lcmp hx hb d1 (lv_if_lt hx hb d ht (fun h => kt ((lcmp_lt rx ry).mp h)) (fun h => kf fun q => h ((lcmp_lt rx ry).mpr q)))
theorem wz_lcmp_le (hx : p.tables.exec = Jvm.exec) (hb : c.code = cc) {x y : Int} {off : Int} {tgt : Nat} (d1 : decode cc pc = .ok (.lcmp, 1)) (d : decode cc (pc + 1) = .ok (.ifCond .le off, 3)) (ht : ((pc + 1 : Nat) : Int) + off = (tgt : Int)) (rx : rL x) (ry : rL y) (kt : x ≤ y → W p l e R s m args below meth c H locs cells slots Q (F0 m tgt ls rest)) (kf : ¬ x ≤ y → W p l e R s m args below meth c H locs cells slots Q (F0 m (pc + 4) ls rest)) : W p l e R s m args below meth c H locs cells slots Q (F0 m pc ls (.long (lI y) :: .long (lI x) :: rest)) := W.lcmp hx hb d1 (lv_if_le hx hb d ht (fun h => kt ((lcmp_le rx ry).mp h)) (fun h => kf fun q => h ((lcmp_le rx ry).mpr q)))
theorem wz_lcmp_eq (hx : p.tables.exec = Jvm.exec) (hb : c.code = cc) {x y : Int} {off : Int} {tgt : Nat} (d1 : decode cc pc = .ok (.lcmp, 1)) (d : decode cc (pc + 1) = .ok (.ifCond .eq off, 3)) (ht : ((pc + 1 : Nat) : Int) + off = (tgt : Int)) (rx : rL x) (ry : rL y) (kt : x = y → W p l e R s m args below meth c H locs cells slots Q (F0 m tgt ls rest)) (kf : ¬ x = y → W p l e R s m args below meth c H locs cells slots Q (F0 m (pc + 4) ls rest)) : W p l e R s m args below meth c H locs cells slots Q (F0 m pc ls (.long (lI y) :: .long (lI x) :: rest)) := W.lcmp hx hb d1 (lv_if_eq hx hb d ht (fun h => kt ((lcmp_eq rx ry).mp h)) (fun h => kf fun q => h ((lcmp_eq rx ry).mpr q)))
theorem wz_lcmp_ne (hx : p.tables.exec = Jvm.exec) (hb : c.code = cc) {x y : Int} {off : Int} {tgt : Nat} (d1 : decode cc pc = .ok (.lcmp, 1)) (d : decode cc (pc + 1) = .ok (.ifCond .ne off, 3)) (ht : ((pc + 1 : Nat) : Int) + off = (tgt : Int)) (rx : rL x) (ry : rL y) (kt : ¬ x = y → W p l e R s m args below meth c H locs cells slots Q (F0 m tgt ls rest)) (kf : x = y → W p l e R s m args below meth c H locs cells slots Q (F0 m (pc + 4) ls rest)) : W p l e R s m args below meth c H locs cells slots Q (F0 m pc ls (.long (lI y) :: .long (lI x) :: rest)) := W.lcmp hx hb d1 (lv_if_ne hx hb d ht (fun h => kt fun q => h ((lcmp_eq rx ry).mpr q)) (fun h => kf ((lcmp_eq rx ry).mp h)))
theorem wz_lcmp_ge (hx : p.tables.exec = Jvm.exec) (hb : c.code = cc) {x y : Int} {off : Int} {tgt : Nat} (d1 : decode cc pc = .ok (.lcmp, 1)) (d : decode cc (pc + 1) = .ok (.ifCond .ge off, 3)) (ht : ((pc + 1 : Nat) : Int) + off = (tgt : Int)) (rx : rL x) (ry : rL y) (kt : ¬ x < y → W p l e R s m args below meth c H locs cells slots Q (F0 m tgt ls rest)) (kf : x < y → W p l e R s m args below meth c H locs cells slots Q (F0 m (pc + 4) ls rest)) : W p l e R s m args below meth c H locs cells slots Q (F0 m pc ls (.long (lI y) :: .long (lI x) :: rest)) := W.lcmp hx hb d1 (lv_if_ge hx hb d ht (fun h => kt fun q => Int32.not_lt.mpr h ((lcmp_lt rx ry).mpr q)) (fun h => kf ((lcmp_lt rx ry).mp (Int32.not_le.mp h))))
theorem wz_lcmp_gt (hx : p.tables.exec = Jvm.exec) (hb : c.code = cc) {x y : Int} {off : Int} {tgt : Nat} (d1 : decode cc pc = .ok (.lcmp, 1)) (d : decode cc (pc + 1) = .ok (.ifCond .gt off, 3)) (ht : ((pc + 1 : Nat) : Int) + off = (tgt : Int)) (rx : rL x) (ry : rL y) (kt : ¬ x ≤ y → W p l e R s m args below meth c H locs cells slots Q (F0 m tgt ls rest)) (kf : x ≤ y → W p l e R s m args below meth c H locs cells slots Q (F0 m (pc + 4) ls rest)) : W p l e R s m args below meth c H locs cells slots Q (F0 m pc ls (.long (lI y) :: .long (lI x) :: rest)) := W.lcmp hx hb d1 (lv_if_gt hx hb d ht (fun h => kt fun q => Int32.not_le.mpr h ((lcmp_le rx ry).mpr q)) (fun h => kf ((lcmp_le rx ry).mp (Int32.not_lt.mp h))))
end WZ

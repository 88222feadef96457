/-! SPEC: seams -/
def mnI (h : Int → Int) (lo : Int) : Nat → Int
  | 0 => h lo
  | n + 1 => min (mnI h lo n) (h (lo + n + 1))
def am (h : Int → Int) (lo : Int) : Nat → Int
  | 0 => lo
  | n + 1 => if h (lo + n + 1) < h (am h lo n) then lo + n + 1 else am h lo n
theorem am_in (h : Int → Int) (lo : Int) (n : Nat) : lo ≤ am h lo n ∧ am h lo n ≤ lo + n := by
  induction n with
  | zero => unfold am; omega
  | succ n ih => unfold am; split <;> omega
theorem mnI_in {h : Int → Int} {lo B : Int} (n : Nat) (hb : ∀ d, lo ≤ d → d ≤ lo + n → 0 ≤ h d ∧ h d ≤ B) : 0 ≤ mnI h lo n ∧ mnI h lo n ≤ B := by
  induction n with
  | zero => exact hb lo (by omega) (by omega)
  | succ n ih =>
    have ih := ih (fun d d0 d1 => hb d d0 (by omega))
    have := hb (lo + n + 1) (by omega) (by omega)
    unfold mnI
    omega
def swl (f p : Int) : Int := if p = -1 then f else max f (p - 1)
def swh (p : Int) : Int := if p = -1 then 7 else min 7 (p + 1)
def mn3 (f : Int) (h : Int → Int) (c : Int) : Int := mnI h (max f (c - 1)) (min 7 (c + 1) - max f (c - 1)).toNat
noncomputable def LSn (g : Int → Int) (a : Int) : Nat → Int → Int
  | 0, c => (Int.natAbs (dfS g a 3 c) : Int)
  | n + 1, c => (Int.natAbs (dfS g a (2 - (n : Int)) c) : Int) + if hrS g a (3 - (n : Int)) then mn3 (fS g a) (LSn g a n) c else 0
noncomputable def lS (g : Int → Int) (a r c : Int) : Int := LSn g a (3 - r).toNat c
theorem lS_e {g : Int → Int} {a r c : Int} (h0 : 0 ≤ r) (h1 : r ≤ 3) : lS g a r c = (Int.natAbs (dfS g a r c) : Int) + if hrS g a (r + 1) then mn3 (fS g a) (lS g a (r + 1)) c else 0 := by
  by_cases h : r = 3
  · subst h
    rw [if_neg (fun q : hrS g a (3 + 1) => by have := q.1; omega), Int.add_zero]
    rfl
  · unfold lS
    rw [show (3 - r).toNat = (3 - (r + 1)).toNat + 1 by omega, LSn]
    rw [show (2 - ((3 - (r + 1)).toNat : Int)) = r by omega, show (3 - ((3 - (r + 1)).toNat : Int)) = r + 1 by omega]
theorem LSn_in {g : Int → Int} (h : okS g) {a : Int} (h0 : 0 ≤ a) (h1 : a < g 3) (hf : ¬ foS g a = -1) (n : Nat) (hn : n ≤ 3) (hr : hrS g a (3 - (n : Int))) (c : Int) (c0 : fS g a ≤ c) (c1 : c ≤ 7) : 0 ≤ LSn g a n c ∧ LSn g a n c ≤ 63 * ((n : Int) + 1) := by
  induction n generalizing c with
  | zero =>
    have := dfS_in h h0 h1 hf hr c0 c1
    unfold LSn
    have e : (3 : Int) - ((0 : Nat) : Int) = 3 := by omega
    rw [e] at this
    omega
  | succ n ih =>
    have hd := dfS_in h h0 h1 hf hr c0 c1
    have e : (3 : Int) - ((n + 1 : Nat) : Int) = 2 - (n : Int) := by omega
    rw [e] at hd
    unfold LSn
    split
    · rename_i q
      have := mnI_in (h := LSn g a n) (lo := max (fS g a) (c - 1)) (B := 63 * ((n : Int) + 1)) (min 7 (c + 1) - max (fS g a) (c - 1)).toNat (fun d d0 d1 => ih (by omega) q d (by omega) (by omega))
      unfold mn3
      omega
    · omega
theorem lS_in {g : Int → Int} (h : okS g) {a r c : Int} (h0 : 0 ≤ a) (h1 : a < g 3) (hf : ¬ foS g a = -1) (hr : hrS g a r) (c0 : fS g a ≤ c) (c1 : c ≤ 7) : 0 ≤ lS g a r c ∧ lS g a r c ≤ 252 := by
  have e : (3 : Int) - ((3 - r).toNat : Int) = r := by omega
  have := LSn_in h h0 h1 hf (3 - r).toNat (by omega) (by rw [e]; exact hr) c c0 c1
  unfold lS
  omega
noncomputable def smN (g : Int → Int) (a : Int) : Nat → Int
  | 0 => if hrS g a 0 then am (lS g a 0) (swl (fS g a) (-1)) (swh (-1) - swl (fS g a) (-1)).toNat else -1
  | n + 1 => if hrS g a ((n : Int) + 1) then am (lS g a ((n : Int) + 1)) (swl (fS g a) (smN g a n)) (swh (smN g a n) - swl (fS g a) (smN g a n)).toNat else -1
noncomputable def smS (g : Int → Int) (a r : Int) : Int := smN g a r.toNat
noncomputable def pvS (g : Int → Int) (a r : Int) : Int := if r = 0 then -1 else smS g a (r - 1)
theorem smS_e {g : Int → Int} {a r : Int} (h0 : 0 ≤ r) : smS g a r = if hrS g a r then am (lS g a r) (swl (fS g a) (pvS g a r)) (swh (pvS g a r) - swl (fS g a) (pvS g a r)).toNat else -1 := by
  unfold smS pvS
  by_cases h : r = 0
  · subst h; rfl
  · rw [if_neg h, show r.toNat = (r - 1).toNat + 1 by omega, smN, show (((r - 1).toNat : Int) + 1) = r by omega]
    rfl
theorem smN_in {g : Int → Int} {a : Int} (n : Nat) : smN g a n = -1 ∨ fS g a ≤ smN g a n ∧ smN g a n ≤ 7 := by
  have he := efS_in (g := g) a
  have key : ∀ p : Int, (p = -1 ∨ fS g a ≤ p ∧ p ≤ 7) → fS g a ≤ swl (fS g a) p ∧ swl (fS g a) p ≤ swh p ∧ swh p ≤ 7 := by
    intro p hp
    unfold swl swh
    split <;> omega
  induction n with
  | zero =>
    unfold smN
    split
    · have k := key (-1) (Or.inl rfl)
      have := am_in (lS g a 0) (swl (fS g a) (-1)) (swh (-1) - swl (fS g a) (-1)).toNat
      omega
    · exact Or.inl rfl
  | succ n ih =>
    unfold smN
    split
    · have k := key _ ih
      have := am_in (lS g a ((n : Int) + 1)) (swl (fS g a) (smN g a n)) (swh (smN g a n) - swl (fS g a) (smN g a n)).toNat
      omega
    · exact Or.inl rfl
theorem smS_in (g : Int → Int) (a r : Int) : smS g a r = -1 ∨ fS g a ≤ smS g a r ∧ smS g a r ≤ 7 := smN_in _
theorem pvS_in (g : Int → Int) (a r : Int) : pvS g a r = -1 ∨ fS g a ≤ pvS g a r ∧ pvS g a r ≤ 7 := by
  unfold pvS
  split
  · exact Or.inl rfl
  · exact smS_in _ _ _
theorem smS_hr {g : Int → Int} {a r : Int} (h0 : 0 ≤ r) : smS g a r = -1 ↔ ¬ hrS g a r := by
  rw [smS_e h0]
  split
  · rename_i q
    have he := efS_in (g := g) a
    have hp := pvS_in g a r
    have := am_in (lS g a r) (swl (fS g a) (pvS g a r)) (swh (pvS g a r) - swl (fS g a) (pvS g a r)).toNat
    have hl : fS g a ≤ swl (fS g a) (pvS g a r) := by unfold swl; split <;> omega
    constructor
    · intro z; omega
    · intro z; exact absurd q z
  · rename_i q
    exact ⟨fun _ => q, fun _ => rfl⟩
noncomputable def scN (g : Int → Int) (a : Int) : Nat → Int
  | 0 => 0
  | r + 1 => scN g a r + if smS g a r = -1 then 0 else (Int.natAbs (dfS g a r (smS g a r)) : Int)
noncomputable def scS (g : Int → Int) (a : Int) : Int := scN g a 4
theorem scN_s {g : Int → Int} {a r : Int} (h : 0 ≤ r) : scN g a (r + 1).toNat = scN g a r.toNat + if smS g a r = -1 then 0 else (Int.natAbs (dfS g a r (smS g a r)) : Int) := by
  rw [show (r + 1).toNat = r.toNat + 1 by omega, scN, show (r.toNat : Int) = r by omega]
theorem mnI_s {h : Int → Int} {lo d : Int} (hd : lo < d) : mnI h lo (d - lo).toNat = min (mnI h lo (d - 1 - lo).toNat) (h d) := by
  rw [show (d - lo).toNat = (d - 1 - lo).toNat + 1 by omega, mnI, show lo + ((d - 1 - lo).toNat : Int) + 1 = d by omega]
theorem am_s {h : Int → Int} {lo d : Int} (hd : lo < d) : am h lo (d - lo).toNat = if h d < h (am h lo (d - 1 - lo).toNat) then d else am h lo (d - 1 - lo).toNat := by
  rw [show (d - lo).toNat = (d - 1 - lo).toNat + 1 by omega, am, show lo + ((d - 1 - lo).toNat : Int) + 1 = d by omega]
theorem am_keep {h : Int → Int} {lo c wh x : Int} (hx : x = am h lo (min (c - 1) wh - lo).toNat) (h1 : lo < c) (h2 : c ≤ wh) (h3 : ¬ h c < h x) : x = am h lo (min (c + 1 - 1) wh - lo).toNat := by
  rw [show min (c - 1) wh = c - 1 by omega] at hx
  rw [show min (c + 1 - 1) wh = c by omega, am_s h1, ← hx, if_neg h3]
theorem am_new {h : Int → Int} {lo c wh x : Int} (hx : x = am h lo (min (c - 1) wh - lo).toNat) (h1 : lo < c) (h2 : c ≤ wh) (h3 : h c < h x) : c = am h lo (min (c + 1 - 1) wh - lo).toNat := by
  rw [show min (c - 1) wh = c - 1 by omega] at hx
  rw [show min (c + 1 - 1) wh = c by omega, am_s h1, ← hx, if_pos h3]
theorem am_first {h : Int → Int} {lo c wh : Int} (h1 : c = lo) : c = am h lo (min (c + 1 - 1) wh - lo).toNat := by
  rw [show (min (c + 1 - 1) wh - lo).toNat = 0 by omega, h1]
  rfl
theorem am_past {h : Int → Int} {lo c wh x : Int} (hx : x = am h lo (min (c - 1) wh - lo).toNat) (h2 : ¬ c ≤ wh) : x = am h lo (min (c + 1 - 1) wh - lo).toNat := by
  rw [show min (c - 1) wh = wh by omega] at hx
  rw [show min (c + 1 - 1) wh = wh by omega]
  exact hx

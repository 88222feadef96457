/-! PICTURES: how much changes on a way across a cell -/
def prF (f : Int → Int) (r c dr dc : Int) : Int := (Int.natAbs (f (8 * r + c) - f (8 * (r - dr) + (c - dc))) : Int) + (Int.natAbs (f (8 * r + c) - f (8 * (r + dr) + (c + dc))) : Int)
def chF (f : Int → Int) (r c : Int) : Int := min (min (min (prF f r c 0 1) (prF f r c 1 0)) (prF f r c 1 1)) (prF f r c 1 (-1))
def wdr (k : Int) : Int := if k = 0 then 0 else 1
def wdc (k : Int) : Int := if k = 0 then 1 else if k = 1 then 0 else if k = 2 then 1 else -1
def chN (f : Int → Int) (r c : Int) : Nat → Int
  | 0 => 1000000
  | n + 1 => min (chN f r c n) (prF f r c (wdr n) (wdc n))
abbrev cB (f : Int → Int) : Prop := ∀ i, 0 ≤ i → i < 32 → 0 ≤ f i ∧ f i ≤ 63
theorem prF_in {f : Int → Int} (h : cB f) {r c dr dc : Int} (hr : 1 ≤ r ∧ r ≤ 2) (hc : 1 ≤ c ∧ c ≤ 6) (hdr : -1 ≤ dr ∧ dr ≤ 1) (hdc : -1 ≤ dc ∧ dc ≤ 1) : 0 ≤ prF f r c dr dc ∧ prF f r c dr dc ≤ 126 := by
  have h1 := h (8 * r + c) (by omega) (by omega)
  have h2 := h (8 * (r - dr) + (c - dc)) (by omega) (by omega)
  have h3 := h (8 * (r + dr) + (c + dc)) (by omega) (by omega)
  unfold prF; omega
theorem chN_4 {f : Int → Int} (h : cB f) {r c : Int} (hr : 1 ≤ r ∧ r ≤ 2) (hc : 1 ≤ c ∧ c ≤ 6) : chN f r c 4 = chF f r c := by
  have h1 := prF_in h hr hc (dr := 0) (dc := 1) (by omega) (by omega)
  have e0 : prF f r c (wdr ((0 : Nat) : Int)) (wdc ((0 : Nat) : Int)) = prF f r c 0 1 := rfl
  have e1 : prF f r c (wdr ((1 : Nat) : Int)) (wdc ((1 : Nat) : Int)) = prF f r c 1 0 := rfl
  have e2 : prF f r c (wdr ((2 : Nat) : Int)) (wdc ((2 : Nat) : Int)) = prF f r c 1 1 := rfl
  have e3 : prF f r c (wdr ((3 : Nat) : Int)) (wdc ((3 : Nat) : Int)) = prF f r c 1 (-1) := rfl
  unfold chN chN chN chN chN chF
  rw [e0, e1, e2, e3]
  omega
theorem chN_in {f : Int → Int} (h : cB f) {r c : Int} (hr : 1 ≤ r ∧ r ≤ 2) (hc : 1 ≤ c ∧ c ≤ 6) : ∀ n : Nat, n ≤ 4 → 0 ≤ chN f r c n ∧ chN f r c n ≤ 1000000
  | 0, _ => by unfold chN; omega
  | n + 1, q => by
    have i := chN_in h hr hc n (by omega)
    have hw : (-1 ≤ wdr n ∧ wdr n ≤ 1) ∧ -1 ≤ wdc n ∧ wdc n ≤ 1 := by unfold wdr wdc; constructor <;> (repeat' split) <;> omega
    have h1 := prF_in h hr hc hw.1 hw.2
    unfold chN; omega
def WAYS (G : wa_G) (ad : Nat → Nat) (w : wa_W) (b : Int → Option Nat) : Prop := ∀ k, 0 ≤ k → k < 4 → ∃ a, b k = some a ∧ Lc ad w a (.inr { cls := G.2.1 17, slots := #[.int (zI (wdr k)), .int (zI (wdc k))], vm := .none })
theorem WAYS.kp {G : wa_G} {ad : Nat → Nat} {w u : wa_W} {b : Int → Option Nat} (h : WAYS G ad w b) (k : Kp ad w u) : WAYS G ad u b := fun i a c => by
  obtain ⟨q, h1, h2⟩ := h i a c
  exact ⟨q, h1, h2.kp k⟩
/-- only pictures stand there -/
def PCS (ad : Nat → Nat) (w : wa_W) (b : Int → Option Nat) : Prop := ∀ i z, b i = some z → ∃ fs, Lc ad w z (eO 8 fs)
theorem PCS.kp {ad : Nat → Nat} {w u : wa_W} {b : Int → Option Nat} (h : PCS ad w b) (k : Kp ad w u) : PCS ad u b := fun i z e => by
  obtain ⟨fs, h1⟩ := h i z e
  exact ⟨fs, h1.kp k⟩
section XWst
variable {G : wa_G} {ad : Nat → Nat} {w w1 : wa_W} {S : Nat → Int} {A : Nat → Int → Int} {B : Nat → Int → Option Nat} {P : Nat → Option Nat} {s : Nat}
theorem xC_st (hs : s < 7) : xC G ad S A B P (1 + 3 * s) = eO 1 (xF1 ad S P s) := by
  unfold xC
  rw [if_neg (by omega), if_pos (by omega), if_pos (by omega), show (1 + 3 * s) / 3 = s by omega]
theorem xC_pa (hs : s < 7) : xC G ad S A B P (2 + 3 * s) = eR G 2 6 (B (10 + s)) := by
  unfold xC
  rw [if_neg (by omega), if_pos (by omega), if_neg (by omega), if_pos (by omega), show (2 + 3 * s) / 3 = s by omega]
theorem xC_se (hs : s < 7) : xC G ad S A B P (3 + 3 * s) = eI G 2 (A (10 + s)) := by
  unfold xC
  rw [if_neg (by omega), if_pos (by omega), if_neg (by omega), if_neg (by omega), show (3 + 3 * s - 1) / 3 = s by omega]
theorem XW.stP {v : Option Nat} (h : XW G ad w S A B P) (hs : s < 7) (e : w1 = wup w (ad (1 + 3 * s)) (eO 1 ((xF1 ad S P s).set 0 (va_rf v)))) : XW G ad w1 S A B (pup P (10 + s) v) :=
  h.sP (i := 1 + 3 * s) (10 + s) (by unfold oP; omega) (by rw [e, xC_st hs]; unfold xF1; rw [pup_s]; rfl)
theorem XW.stS20 {v : Int} (h : XW G ad w S A B P) (hs : s < 7) (e : w1 = wup w (ad (1 + 3 * s)) (eO 1 ((xF1 ad S P s).set 1 (.int (zI v))))) : XW G ad w1 (sup S (20 + s) v) A B P :=
  h.sS (i := 1 + 3 * s) (20 + s) (by unfold oS; omega) (by rw [e, xC_st hs]; unfold xF1; rw [sup_s, sup_n (show 30 + s ≠ 20 + s by omega)]; rfl)
theorem XW.stS30 {v : Int} (h : XW G ad w S A B P) (hs : s < 7) (e : w1 = wup w (ad (1 + 3 * s)) (eO 1 ((xF1 ad S P s).set 3 (.int (zI v))))) : XW G ad w1 (sup S (30 + s) v) A B P :=
  h.sS (i := 1 + 3 * s) (30 + s) (by unfold oS; omega) (by rw [e, xC_st hs]; unfold xF1; rw [sup_s, sup_n (show 20 + s ≠ 30 + s by omega)]; rfl)
theorem XW.paB {f : Int → Option Nat} (h : XW G ad w S A B P) (hs : s < 7) (e : w1 = wup w (ad (2 + 3 * s)) (eR G 2 6 f)) : XW G ad w1 S A (bup B (10 + s) f) P :=
  h.sB (i := 2 + 3 * s) (10 + s) (by unfold oB; omega) (by rw [e, xC_pa hs, bup_s])
theorem XW.seA {f : Int → Int} (h : XW G ad w S A B P) (hs : s < 7) (e : w1 = wup w (ad (3 + 3 * s)) (eI G 2 f)) : XW G ad w1 S (aup A (10 + s) f) B P :=
  h.sA (i := 3 + 3 * s) (10 + s) (by unfold oA; omega) (by rw [e, xC_se hs, aup_s])
end XWst

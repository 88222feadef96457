/-! THE WORLD OF THE OTHER SIDE -/
def Ext (w u : wa_W) : Prop := ∀ a x, w a = some x → u a = some x
theorem Ext.rf {w : wa_W} : Ext w w := fun _ _ h => h
theorem Ext.trans {w u v : wa_W} (h : Ext w u) (k : Ext u v) : Ext w v := fun a x e => k a x (h a x e)
theorem Ext.new {w w1 : wa_W} {q : Nat} {x : wa_E} (hn : w q = none) (e : w1 = wup w q x) : Ext w w1 := by
  intro a y h
  subst e
  rw [wup_n (fun e => by rw [e, hn] at h; cases h)]; exact h
/-- all but the cell a is as before -/
def Off (a : Nat) (w u : wa_W) : Prop := ∀ b x, b ≠ a → w b = some x → u b = some x
theorem Off.rf {a : Nat} {w : wa_W} : Off a w w := fun _ _ _ h => h
theorem Off.put {a : Nat} {w u v : wa_W} {x : wa_E} (h : Off a w u) (e : v = wup u a x) : Off a w v := fun b y hb hy => by rw [e, wup_n hb]; exact h b y hb hy
theorem Off.trans {a : Nat} {w u v : wa_W} (h : Off a w u) (k : Off a u v) : Off a w v := fun b y hb hy => k b y hb (h b y hb hy)
theorem Off.ext {a : Nat} {w u v : wa_W} (h : Off a w u) (k : Ext u v) : Off a w v := fun b y hb hy => k b y (h b y hb hy)
theorem Ext.no {w u : wa_W} {q : Nat} (h : Ext w u) (hn : u q = none) : w q = none := by
  cases e : w q with
  | none => rfl
  | some x => rw [h q x e] at hn; cases hn
theorem Ext.init {w w2 u : wa_W} {q : Nat} (hn : w q = none) (h : Ext w w2) (hO : Off q w2 u) : Ext w u := fun a x e => by
  exact hO a x (fun h => by rw [h, hn] at e; cases e) (h a x e)
def At (w : wa_W) (a : Nat) (x : wa_E) : Prop := w a = some x
theorem At.ex {w u : wa_W} {a : Nat} {x : wa_E} (h : At w a x) (k : Ext w u) : At u a x := k a x h
def bup (B : Nat → Int → Option Nat) (k : Nat) (f : Int → Option Nat) : Nat → Int → Option Nat := fun j => if j = k then f else B j
def pup (P : Nat → Option Nat) (k : Nat) (v : Option Nat) : Nat → Option Nat := fun j => if j = k then v else P j
theorem bup_s {B : Nat → Int → Option Nat} {k : Nat} {f : Int → Option Nat} : bup B k f k = f := if_pos rfl
theorem bup_n {B : Nat → Int → Option Nat} {k j : Nat} {f : Int → Option Nat} (h : j ≠ k) : bup B k f j = B j := if_neg h
theorem pup_s {P : Nat → Option Nat} {k : Nat} {v : Option Nat} : pup P k v k = v := if_pos rfl
theorem pup_n {P : Nat → Option Nat} {k j : Nat} {v : Option Nat} (h : j ≠ k) : pup P k v j = P j := if_neg h
theorem bup_bup {B : Nat → Int → Option Nat} {k : Nat} {f g : Int → Option Nat} : bup (bup B k f) k g = bup B k g := by
  funext j; unfold bup; split <;> rfl
theorem bup_id {B : Nat → Int → Option Nat} {k : Nat} : bup B k (B k) = B := by
  funext j; unfold bup; split; (subst_vars; rfl); rfl
theorem pup_pup {P : Nat → Option Nat} {k : Nat} {f g : Option Nat} : pup (pup P k f) k g = pup P k g := by
  funext j; unfold pup; split <;> rfl
theorem pup_id {P : Nat → Option Nat} {k : Nat} : pup P k (P k) = P := by
  funext j; unfold pup; split; (subst_vars; rfl); rfl
def xF0 (ad : Nat → Nat) (S : Nat → Int) : List Value := [.ref (ad 1), .ref (ad 4), .ref (ad 22), .int (zI (S 0)), .int (zI (S 1)), .ref (ad 23), .ref (ad 24), .ref (ad 25), .ref (ad 26), .int (zI (S 2)), .ref (ad 27), .ref (ad 28)]
def xF1 (ad : Nat → Nat) (S : Nat → Int) (P : Nat → Option Nat) (s : Nat) : List Value := [va_rf (P (10 + s)), .int (zI (S (20 + s))), .ref (ad (2 + 3 * s)), .int (zI (S (30 + s))), .ref (ad (3 + 3 * s))]
def xF2 (ad : Nat → Nat) (S : Nat → Int) (P : Nat → Option Nat) : List Value := [.int (zI (S 4)), .ref (ad 29), .ref (ad 48), .ref (ad 51), .ref (ad 52), .int (zI (S 5)), .int (zI (S 6)), .int (zI (S 7)), .int (zI (S 8)), .ref (ad 53), .ref (ad 54), va_rf (P 0), .int (zI (S 9)), .int (zI (S 10)), .int (zI (S 11)), .ref (ad 0)]
def xF16 (S : Nat → Int) (P : Nat → Option Nat) (k : Nat) : List Value := [.null, .null, .null, va_rf (P (20 + k)), .int (zI (S (40 + k))), .int (zI (S (50 + k))), .null, va_rf (P (30 + k)), .null]
def xF17 (ad : Nat → Nat) (S : Nat → Int) : List Value := [.ref (ad 49), .int (zI (S 12)), .ref (ad 50), .int (zI (S 13))]
theorem xF0_c {ad : Nat → Nat} {S2 S : Nat → Int} (h : ∀ k, k < 3 → S2 k = S k) : xF0 ad S2 = xF0 ad S := by
  unfold xF0; rw [h 0 (by decide), h 1 (by decide), h 2 (by decide)]
theorem xF1_c {ad : Nat → Nat} {S2 S : Nat → Int} {P2 P : Nat → Option Nat} {s : Nat} (h : S2 (20 + s) = S (20 + s)) (h2 : S2 (30 + s) = S (30 + s)) (h3 : P2 (10 + s) = P (10 + s)) : xF1 ad S2 P2 s = xF1 ad S P s := by
  unfold xF1; rw [h, h2, h3]
theorem xF2_c {ad : Nat → Nat} {S2 S : Nat → Int} {P2 P : Nat → Option Nat} (h : ∀ k, 4 ≤ k → k < 12 → S2 k = S k) (h3 : P2 0 = P 0) : xF2 ad S2 P2 = xF2 ad S P := by
  unfold xF2; rw [h 4 (by decide) (by decide), h 5 (by decide) (by decide), h 6 (by decide) (by decide), h 7 (by decide) (by decide), h 8 (by decide) (by decide), h 9 (by decide) (by decide), h 10 (by decide) (by decide), h 11 (by decide) (by decide), h3]
theorem xF16_c {S2 S : Nat → Int} {P2 P : Nat → Option Nat} {s : Nat} (h : S2 (40 + s) = S (40 + s)) (h2 : S2 (50 + s) = S (50 + s)) (h3 : P2 (20 + s) = P (20 + s)) (h4 : P2 (30 + s) = P (30 + s)) : xF16 S2 P2 s = xF16 S P s := by
  unfold xF16; rw [h, h2, h3, h4]
theorem xF17_c {ad : Nat → Nat} {S2 S : Nat → Int} (h : S2 12 = S 12) (h2 : S2 13 = S 13) : xF17 ad S2 = xF17 ad S := by
  unfold xF17; rw [h, h2]
def xcs (ad : Nat → Nat) : Int → Option Nat := fun k => some (ad (30 + k.toNat))
/-- what the fixed cell i holds -/
def xC (G : wa_G) (ad : Nat → Nat) (S : Nat → Int) (A : Nat → Int → Int) (B : Nat → Int → Option Nat) (P : Nat → Option Nat) (i : Nat) : wa_E :=
  if i = 0 then eO 0 (xF0 ad S)
  else if i < 22 then (if i % 3 = 1 then eO 1 (xF1 ad S P (i / 3)) else if i % 3 = 2 then eR G 2 6 (B (10 + i / 3)) else eI G 2 (A (10 + (i - 1) / 3)))
  else if i = 22 then eR G 3 5 (B 0) else if i = 23 then eR G 4 4 (B 5) else if i = 24 then eO 2 (xF2 ad S P) else if i = 25 then eI G 2 (A 0)
  else if i = 26 then eB G 120 (A 1) else if i = 27 then eI G 3 (A 2) else if i = 28 then eO 6 [.int (zI (S 3)), .ref (ad 0)]
  else if i = 29 then eR G 5 6 (xcs ad) else if i < 36 then eO 3 [.ref (ad (i + 6))] else if i < 42 then eO 15 [.ref (ad (i + 6))]
  else if i < 48 then eO 16 (xF16 S P (i - 42)) else if i = 48 then eO 17 (xF17 ad S) else if i = 49 then eR G 9 36 (B 2) else if i = 50 then eO 4 []
  else if i = 51 then eR G 6 6 (B 1) else if i = 52 then eI G 6 (A 3) else if i = 53 then eR G 7 6 (B 3) else eR G 8 6 (B 4)
def XW (G : wa_G) (ad : Nat → Nat) (w : wa_W) (S : Nat → Int) (A : Nat → Int → Int) (B : Nat → Int → Option Nat) (P : Nat → Option Nat) : Prop := (∀ i j, i < 55 → j < 55 → ad i = ad j → i = j) ∧ ∀ i, i < 55 → w (ad i) = some (xC G ad S A B P i)
/-- the cells but the fixed ones are kept -/
def Kp (ad : Nat → Nat) (w u : wa_W) : Prop := ∀ a x, (∀ i, i < 55 → a ≠ ad i) → w a = some x → u a = some x
section XWs
variable {G : wa_G} {ad : Nat → Nat} {w u v w1 w2 : wa_W} {S S2 : Nat → Int} {A A2 : Nat → Int → Int} {B B2 : Nat → Int → Option Nat} {P P2 : Nat → Option Nat}
theorem Kp.rf : Kp ad w w := fun _ _ _ h => h
theorem Kp.kp (h : Kp ad w u) (k : Kp ad u v) : Kp ad w v := fun a x l e => k a x l (h a x l e)
theorem Ext.k (h : Ext w u) : Kp ad w u := fun a x _ e => h a x e
theorem Kp.set {i : Nat} (hi : i < 55) {x : wa_E} (e : w1 = wup w (ad i) x) : Kp ad w w1 := fun a y l h => by rw [e, wup_n (l i hi)]; exact h
/-- a loose cell -/
def Lc (ad : Nat → Nat) (w : wa_W) (a : Nat) (x : wa_E) : Prop := (∀ i, i < 55 → a ≠ ad i) ∧ w a = some x
theorem Lc.kp {a : Nat} {x : wa_E} (h : Lc ad w a x) (k : Kp ad w u) : Lc ad u a x := ⟨h.1, k a x h.1 h.2⟩
theorem XW.ext (h : XW G ad w S A B P) (k : Ext w u) : XW G ad u S A B P := ⟨h.1, fun i hi => k _ _ (h.2 i hi)⟩
theorem XW.fresh (h : XW G ad w S A B P) {q : Nat} (hn : w q = none) : ∀ i, i < 55 → q ≠ ad i := fun i hi e => by
  have := h.2 i hi; rw [← e, hn] at this; cases this
theorem Lc.new (h : XW G ad w S A B P) {q : Nat} {x : wa_E} (hn : w q = none) (e : u q = some x) : Lc ad u q x := ⟨h.fresh hn, e⟩
theorem XW.init (h : XW G ad w S A B P) {q : Nat} (hn : w q = none) (h2 : XW G ad w2 S2 A2 B2 P2) (hO : Off q w2 u) : XW G ad u S2 A2 B2 P2 := ⟨h2.1, fun i hi => hO _ _ (fun e => h.fresh hn i hi e.symm) (h2.2 i hi)⟩
theorem Kp.init {q : Nat} (hn : w q = none) (h : Kp ad w w2) (hO : Off q w2 u) : Kp ad w u := fun a x l e => by
  exact hO a x (fun h => by rw [h, hn] at e; cases e) (h a x l e)
theorem XW.set (h : XW G ad w S A B P) {i : Nat} (hi : i < 55) (e : w1 = wup w (ad i) (xC G ad S2 A2 B2 P2 i)) (hn : ∀ j, j < 55 → j ≠ i → xC G ad S2 A2 B2 P2 j = xC G ad S A B P j) : XW G ad w1 S2 A2 B2 P2 := by
  refine ⟨h.1, fun j hj => ?_⟩
  rw [e]
  by_cases q : j = i
  · subst q; exact wup_s
  · rw [wup_n (fun z => q (h.1 j i hj hi z)), hn j hj q]; exact h.2 j hj
def oS (n i : Nat) : Prop := (n < 3 ∧ i = 0) ∨ (n = 3 ∧ i = 28) ∨ (4 ≤ n ∧ n < 12 ∧ i = 24) ∨ (12 ≤ n ∧ n < 20 ∧ i = 48) ∨ (20 ≤ n ∧ n < 27 ∧ i = 1 + 3 * (n - 20)) ∨ (30 ≤ n ∧ n < 37 ∧ i = 1 + 3 * (n - 30)) ∨ (40 ≤ n ∧ n < 46 ∧ i = n + 2) ∨ (50 ≤ n ∧ n < 56 ∧ i = n - 8)
def oA (n i : Nat) : Prop := (n = 0 ∧ i = 25) ∨ (n = 1 ∧ i = 26) ∨ (n = 2 ∧ i = 27) ∨ (n = 3 ∧ i = 52) ∨ (10 ≤ n ∧ n < 17 ∧ i = 3 + 3 * (n - 10))
def oB (n i : Nat) : Prop := (n = 0 ∧ i = 22) ∨ (n = 1 ∧ i = 51) ∨ (n = 2 ∧ i = 49) ∨ (n = 3 ∧ i = 53) ∨ (n = 4 ∧ i = 54) ∨ (n = 5 ∧ i = 23) ∨ (10 ≤ n ∧ n < 17 ∧ i = 2 + 3 * (n - 10))
def oP (n i : Nat) : Prop := (n = 0 ∧ i = 24) ∨ (10 ≤ n ∧ n < 17 ∧ i = 1 + 3 * (n - 10)) ∨ (20 ≤ n ∧ n < 26 ∧ i = n + 22) ∨ (30 ≤ n ∧ n < 36 ∧ i = n + 12)
theorem XW.sS (h : XW G ad w S A B P) {i : Nat} (n : Nat) {x : Int} (ho : oS n i) (e : w1 = wup w (ad i) (xC G ad (sup S n x) A B P i)) : XW G ad w1 (sup S n x) A B P := by
  unfold oS at ho
  refine h.set (by omega) e fun j hj hne => ?_
  unfold xC
  by_cases h1 : j = 0
  · refine (if_pos h1).trans (Eq.trans ?_ (if_pos h1).symm); (first | rfl | (exfalso; omega) | exact congrArg (eO 0) (xF0_c fun k hk => sup_n (by omega)) | exact congrArg (eO 1) (xF1_c (sup_n (by omega)) (sup_n (by omega)) rfl) | exact congrArg (eO 2) (xF2_c (fun k h1 h2 => sup_n (by omega)) rfl) | exact congrArg (eO 16) (xF16_c (sup_n (by omega)) (sup_n (by omega)) rfl rfl) | exact congrArg (eO 17) (xF17_c (sup_n (by omega)) (sup_n (by omega))) | exact congrArg (fun q => eO 6 [.int (zI q), .ref (ad 0)]) (sup_n (by omega)))
  refine (if_neg h1).trans (Eq.trans ?_ (if_neg h1).symm)
  by_cases h2 : j < 22
  · refine (if_pos h2).trans (Eq.trans ?_ (if_pos h2).symm)
    by_cases g1 : j % 3 = 1
    · refine (if_pos g1).trans (Eq.trans ?_ (if_pos g1).symm); (first | rfl | (exfalso; omega) | exact congrArg (eO 0) (xF0_c fun k hk => sup_n (by omega)) | exact congrArg (eO 1) (xF1_c (sup_n (by omega)) (sup_n (by omega)) rfl) | exact congrArg (eO 2) (xF2_c (fun k h1 h2 => sup_n (by omega)) rfl) | exact congrArg (eO 16) (xF16_c (sup_n (by omega)) (sup_n (by omega)) rfl rfl) | exact congrArg (eO 17) (xF17_c (sup_n (by omega)) (sup_n (by omega))) | exact congrArg (fun q => eO 6 [.int (zI q), .ref (ad 0)]) (sup_n (by omega)))
    refine (if_neg g1).trans (Eq.trans ?_ (if_neg g1).symm)
    by_cases g2 : j % 3 = 2
    · refine (if_pos g2).trans (Eq.trans ?_ (if_pos g2).symm); (first | rfl | (exfalso; omega) | exact congrArg (eO 0) (xF0_c fun k hk => sup_n (by omega)) | exact congrArg (eO 1) (xF1_c (sup_n (by omega)) (sup_n (by omega)) rfl) | exact congrArg (eO 2) (xF2_c (fun k h1 h2 => sup_n (by omega)) rfl) | exact congrArg (eO 16) (xF16_c (sup_n (by omega)) (sup_n (by omega)) rfl rfl) | exact congrArg (eO 17) (xF17_c (sup_n (by omega)) (sup_n (by omega))) | exact congrArg (fun q => eO 6 [.int (zI q), .ref (ad 0)]) (sup_n (by omega)))
    refine (if_neg g2).trans (Eq.trans ?_ (if_neg g2).symm); (first | rfl | (exfalso; omega) | exact congrArg (eO 0) (xF0_c fun k hk => sup_n (by omega)) | exact congrArg (eO 1) (xF1_c (sup_n (by omega)) (sup_n (by omega)) rfl) | exact congrArg (eO 2) (xF2_c (fun k h1 h2 => sup_n (by omega)) rfl) | exact congrArg (eO 16) (xF16_c (sup_n (by omega)) (sup_n (by omega)) rfl rfl) | exact congrArg (eO 17) (xF17_c (sup_n (by omega)) (sup_n (by omega))) | exact congrArg (fun q => eO 6 [.int (zI q), .ref (ad 0)]) (sup_n (by omega)))
  refine (if_neg h2).trans (Eq.trans ?_ (if_neg h2).symm)
  by_cases h3 : j = 22
  · refine (if_pos h3).trans (Eq.trans ?_ (if_pos h3).symm); (first | rfl | (exfalso; omega) | exact congrArg (eO 0) (xF0_c fun k hk => sup_n (by omega)) | exact congrArg (eO 1) (xF1_c (sup_n (by omega)) (sup_n (by omega)) rfl) | exact congrArg (eO 2) (xF2_c (fun k h1 h2 => sup_n (by omega)) rfl) | exact congrArg (eO 16) (xF16_c (sup_n (by omega)) (sup_n (by omega)) rfl rfl) | exact congrArg (eO 17) (xF17_c (sup_n (by omega)) (sup_n (by omega))) | exact congrArg (fun q => eO 6 [.int (zI q), .ref (ad 0)]) (sup_n (by omega)))
  refine (if_neg h3).trans (Eq.trans ?_ (if_neg h3).symm)
  by_cases h4 : j = 23
  · refine (if_pos h4).trans (Eq.trans ?_ (if_pos h4).symm); (first | rfl | (exfalso; omega) | exact congrArg (eO 0) (xF0_c fun k hk => sup_n (by omega)) | exact congrArg (eO 1) (xF1_c (sup_n (by omega)) (sup_n (by omega)) rfl) | exact congrArg (eO 2) (xF2_c (fun k h1 h2 => sup_n (by omega)) rfl) | exact congrArg (eO 16) (xF16_c (sup_n (by omega)) (sup_n (by omega)) rfl rfl) | exact congrArg (eO 17) (xF17_c (sup_n (by omega)) (sup_n (by omega))) | exact congrArg (fun q => eO 6 [.int (zI q), .ref (ad 0)]) (sup_n (by omega)))
  refine (if_neg h4).trans (Eq.trans ?_ (if_neg h4).symm)
  by_cases h5 : j = 24
  · refine (if_pos h5).trans (Eq.trans ?_ (if_pos h5).symm); (first | rfl | (exfalso; omega) | exact congrArg (eO 0) (xF0_c fun k hk => sup_n (by omega)) | exact congrArg (eO 1) (xF1_c (sup_n (by omega)) (sup_n (by omega)) rfl) | exact congrArg (eO 2) (xF2_c (fun k h1 h2 => sup_n (by omega)) rfl) | exact congrArg (eO 16) (xF16_c (sup_n (by omega)) (sup_n (by omega)) rfl rfl) | exact congrArg (eO 17) (xF17_c (sup_n (by omega)) (sup_n (by omega))) | exact congrArg (fun q => eO 6 [.int (zI q), .ref (ad 0)]) (sup_n (by omega)))
  refine (if_neg h5).trans (Eq.trans ?_ (if_neg h5).symm)
  by_cases h6 : j = 25
  · refine (if_pos h6).trans (Eq.trans ?_ (if_pos h6).symm); (first | rfl | (exfalso; omega) | exact congrArg (eO 0) (xF0_c fun k hk => sup_n (by omega)) | exact congrArg (eO 1) (xF1_c (sup_n (by omega)) (sup_n (by omega)) rfl) | exact congrArg (eO 2) (xF2_c (fun k h1 h2 => sup_n (by omega)) rfl) | exact congrArg (eO 16) (xF16_c (sup_n (by omega)) (sup_n (by omega)) rfl rfl) | exact congrArg (eO 17) (xF17_c (sup_n (by omega)) (sup_n (by omega))) | exact congrArg (fun q => eO 6 [.int (zI q), .ref (ad 0)]) (sup_n (by omega)))
  refine (if_neg h6).trans (Eq.trans ?_ (if_neg h6).symm)
  by_cases h7 : j = 26
  · refine (if_pos h7).trans (Eq.trans ?_ (if_pos h7).symm); (first | rfl | (exfalso; omega) | exact congrArg (eO 0) (xF0_c fun k hk => sup_n (by omega)) | exact congrArg (eO 1) (xF1_c (sup_n (by omega)) (sup_n (by omega)) rfl) | exact congrArg (eO 2) (xF2_c (fun k h1 h2 => sup_n (by omega)) rfl) | exact congrArg (eO 16) (xF16_c (sup_n (by omega)) (sup_n (by omega)) rfl rfl) | exact congrArg (eO 17) (xF17_c (sup_n (by omega)) (sup_n (by omega))) | exact congrArg (fun q => eO 6 [.int (zI q), .ref (ad 0)]) (sup_n (by omega)))
  refine (if_neg h7).trans (Eq.trans ?_ (if_neg h7).symm)
  by_cases h8 : j = 27
  · refine (if_pos h8).trans (Eq.trans ?_ (if_pos h8).symm); (first | rfl | (exfalso; omega) | exact congrArg (eO 0) (xF0_c fun k hk => sup_n (by omega)) | exact congrArg (eO 1) (xF1_c (sup_n (by omega)) (sup_n (by omega)) rfl) | exact congrArg (eO 2) (xF2_c (fun k h1 h2 => sup_n (by omega)) rfl) | exact congrArg (eO 16) (xF16_c (sup_n (by omega)) (sup_n (by omega)) rfl rfl) | exact congrArg (eO 17) (xF17_c (sup_n (by omega)) (sup_n (by omega))) | exact congrArg (fun q => eO 6 [.int (zI q), .ref (ad 0)]) (sup_n (by omega)))
  refine (if_neg h8).trans (Eq.trans ?_ (if_neg h8).symm)
  by_cases h9 : j = 28
  · refine (if_pos h9).trans (Eq.trans ?_ (if_pos h9).symm); (first | rfl | (exfalso; omega) | exact congrArg (eO 0) (xF0_c fun k hk => sup_n (by omega)) | exact congrArg (eO 1) (xF1_c (sup_n (by omega)) (sup_n (by omega)) rfl) | exact congrArg (eO 2) (xF2_c (fun k h1 h2 => sup_n (by omega)) rfl) | exact congrArg (eO 16) (xF16_c (sup_n (by omega)) (sup_n (by omega)) rfl rfl) | exact congrArg (eO 17) (xF17_c (sup_n (by omega)) (sup_n (by omega))) | exact congrArg (fun q => eO 6 [.int (zI q), .ref (ad 0)]) (sup_n (by omega)))
  refine (if_neg h9).trans (Eq.trans ?_ (if_neg h9).symm)
  by_cases h10 : j = 29
  · refine (if_pos h10).trans (Eq.trans ?_ (if_pos h10).symm); (first | rfl | (exfalso; omega) | exact congrArg (eO 0) (xF0_c fun k hk => sup_n (by omega)) | exact congrArg (eO 1) (xF1_c (sup_n (by omega)) (sup_n (by omega)) rfl) | exact congrArg (eO 2) (xF2_c (fun k h1 h2 => sup_n (by omega)) rfl) | exact congrArg (eO 16) (xF16_c (sup_n (by omega)) (sup_n (by omega)) rfl rfl) | exact congrArg (eO 17) (xF17_c (sup_n (by omega)) (sup_n (by omega))) | exact congrArg (fun q => eO 6 [.int (zI q), .ref (ad 0)]) (sup_n (by omega)))
  refine (if_neg h10).trans (Eq.trans ?_ (if_neg h10).symm)
  by_cases h11 : j < 36
  · refine (if_pos h11).trans (Eq.trans ?_ (if_pos h11).symm); (first | rfl | (exfalso; omega) | exact congrArg (eO 0) (xF0_c fun k hk => sup_n (by omega)) | exact congrArg (eO 1) (xF1_c (sup_n (by omega)) (sup_n (by omega)) rfl) | exact congrArg (eO 2) (xF2_c (fun k h1 h2 => sup_n (by omega)) rfl) | exact congrArg (eO 16) (xF16_c (sup_n (by omega)) (sup_n (by omega)) rfl rfl) | exact congrArg (eO 17) (xF17_c (sup_n (by omega)) (sup_n (by omega))) | exact congrArg (fun q => eO 6 [.int (zI q), .ref (ad 0)]) (sup_n (by omega)))
  refine (if_neg h11).trans (Eq.trans ?_ (if_neg h11).symm)
  by_cases h12 : j < 42
  · refine (if_pos h12).trans (Eq.trans ?_ (if_pos h12).symm); (first | rfl | (exfalso; omega) | exact congrArg (eO 0) (xF0_c fun k hk => sup_n (by omega)) | exact congrArg (eO 1) (xF1_c (sup_n (by omega)) (sup_n (by omega)) rfl) | exact congrArg (eO 2) (xF2_c (fun k h1 h2 => sup_n (by omega)) rfl) | exact congrArg (eO 16) (xF16_c (sup_n (by omega)) (sup_n (by omega)) rfl rfl) | exact congrArg (eO 17) (xF17_c (sup_n (by omega)) (sup_n (by omega))) | exact congrArg (fun q => eO 6 [.int (zI q), .ref (ad 0)]) (sup_n (by omega)))
  refine (if_neg h12).trans (Eq.trans ?_ (if_neg h12).symm)
  by_cases h13 : j < 48
  · refine (if_pos h13).trans (Eq.trans ?_ (if_pos h13).symm); (first | rfl | (exfalso; omega) | exact congrArg (eO 0) (xF0_c fun k hk => sup_n (by omega)) | exact congrArg (eO 1) (xF1_c (sup_n (by omega)) (sup_n (by omega)) rfl) | exact congrArg (eO 2) (xF2_c (fun k h1 h2 => sup_n (by omega)) rfl) | exact congrArg (eO 16) (xF16_c (sup_n (by omega)) (sup_n (by omega)) rfl rfl) | exact congrArg (eO 17) (xF17_c (sup_n (by omega)) (sup_n (by omega))) | exact congrArg (fun q => eO 6 [.int (zI q), .ref (ad 0)]) (sup_n (by omega)))
  refine (if_neg h13).trans (Eq.trans ?_ (if_neg h13).symm)
  by_cases h14 : j = 48
  · refine (if_pos h14).trans (Eq.trans ?_ (if_pos h14).symm); (first | rfl | (exfalso; omega) | exact congrArg (eO 0) (xF0_c fun k hk => sup_n (by omega)) | exact congrArg (eO 1) (xF1_c (sup_n (by omega)) (sup_n (by omega)) rfl) | exact congrArg (eO 2) (xF2_c (fun k h1 h2 => sup_n (by omega)) rfl) | exact congrArg (eO 16) (xF16_c (sup_n (by omega)) (sup_n (by omega)) rfl rfl) | exact congrArg (eO 17) (xF17_c (sup_n (by omega)) (sup_n (by omega))) | exact congrArg (fun q => eO 6 [.int (zI q), .ref (ad 0)]) (sup_n (by omega)))
  refine (if_neg h14).trans (Eq.trans ?_ (if_neg h14).symm)
  by_cases h15 : j = 49
  · refine (if_pos h15).trans (Eq.trans ?_ (if_pos h15).symm); (first | rfl | (exfalso; omega) | exact congrArg (eO 0) (xF0_c fun k hk => sup_n (by omega)) | exact congrArg (eO 1) (xF1_c (sup_n (by omega)) (sup_n (by omega)) rfl) | exact congrArg (eO 2) (xF2_c (fun k h1 h2 => sup_n (by omega)) rfl) | exact congrArg (eO 16) (xF16_c (sup_n (by omega)) (sup_n (by omega)) rfl rfl) | exact congrArg (eO 17) (xF17_c (sup_n (by omega)) (sup_n (by omega))) | exact congrArg (fun q => eO 6 [.int (zI q), .ref (ad 0)]) (sup_n (by omega)))
  refine (if_neg h15).trans (Eq.trans ?_ (if_neg h15).symm)
  by_cases h16 : j = 50
  · refine (if_pos h16).trans (Eq.trans ?_ (if_pos h16).symm); (first | rfl | (exfalso; omega) | exact congrArg (eO 0) (xF0_c fun k hk => sup_n (by omega)) | exact congrArg (eO 1) (xF1_c (sup_n (by omega)) (sup_n (by omega)) rfl) | exact congrArg (eO 2) (xF2_c (fun k h1 h2 => sup_n (by omega)) rfl) | exact congrArg (eO 16) (xF16_c (sup_n (by omega)) (sup_n (by omega)) rfl rfl) | exact congrArg (eO 17) (xF17_c (sup_n (by omega)) (sup_n (by omega))) | exact congrArg (fun q => eO 6 [.int (zI q), .ref (ad 0)]) (sup_n (by omega)))
  refine (if_neg h16).trans (Eq.trans ?_ (if_neg h16).symm)
  by_cases h17 : j = 51
  · refine (if_pos h17).trans (Eq.trans ?_ (if_pos h17).symm); (first | rfl | (exfalso; omega) | exact congrArg (eO 0) (xF0_c fun k hk => sup_n (by omega)) | exact congrArg (eO 1) (xF1_c (sup_n (by omega)) (sup_n (by omega)) rfl) | exact congrArg (eO 2) (xF2_c (fun k h1 h2 => sup_n (by omega)) rfl) | exact congrArg (eO 16) (xF16_c (sup_n (by omega)) (sup_n (by omega)) rfl rfl) | exact congrArg (eO 17) (xF17_c (sup_n (by omega)) (sup_n (by omega))) | exact congrArg (fun q => eO 6 [.int (zI q), .ref (ad 0)]) (sup_n (by omega)))
  refine (if_neg h17).trans (Eq.trans ?_ (if_neg h17).symm)
  by_cases h18 : j = 52
  · refine (if_pos h18).trans (Eq.trans ?_ (if_pos h18).symm); (first | rfl | (exfalso; omega) | exact congrArg (eO 0) (xF0_c fun k hk => sup_n (by omega)) | exact congrArg (eO 1) (xF1_c (sup_n (by omega)) (sup_n (by omega)) rfl) | exact congrArg (eO 2) (xF2_c (fun k h1 h2 => sup_n (by omega)) rfl) | exact congrArg (eO 16) (xF16_c (sup_n (by omega)) (sup_n (by omega)) rfl rfl) | exact congrArg (eO 17) (xF17_c (sup_n (by omega)) (sup_n (by omega))) | exact congrArg (fun q => eO 6 [.int (zI q), .ref (ad 0)]) (sup_n (by omega)))
  refine (if_neg h18).trans (Eq.trans ?_ (if_neg h18).symm)
  by_cases h19 : j = 53
  · refine (if_pos h19).trans (Eq.trans ?_ (if_pos h19).symm); (first | rfl | (exfalso; omega) | exact congrArg (eO 0) (xF0_c fun k hk => sup_n (by omega)) | exact congrArg (eO 1) (xF1_c (sup_n (by omega)) (sup_n (by omega)) rfl) | exact congrArg (eO 2) (xF2_c (fun k h1 h2 => sup_n (by omega)) rfl) | exact congrArg (eO 16) (xF16_c (sup_n (by omega)) (sup_n (by omega)) rfl rfl) | exact congrArg (eO 17) (xF17_c (sup_n (by omega)) (sup_n (by omega))) | exact congrArg (fun q => eO 6 [.int (zI q), .ref (ad 0)]) (sup_n (by omega)))
  refine (if_neg h19).trans (Eq.trans ?_ (if_neg h19).symm)
  (first | rfl | (exfalso; omega) | exact congrArg (eO 0) (xF0_c fun k hk => sup_n (by omega)) | exact congrArg (eO 1) (xF1_c (sup_n (by omega)) (sup_n (by omega)) rfl) | exact congrArg (eO 2) (xF2_c (fun k h1 h2 => sup_n (by omega)) rfl) | exact congrArg (eO 16) (xF16_c (sup_n (by omega)) (sup_n (by omega)) rfl rfl) | exact congrArg (eO 17) (xF17_c (sup_n (by omega)) (sup_n (by omega))) | exact congrArg (fun q => eO 6 [.int (zI q), .ref (ad 0)]) (sup_n (by omega)))
theorem XW.sA (h : XW G ad w S A B P) {i : Nat} (n : Nat) {x : Int → Int} (ho : oA n i) (e : w1 = wup w (ad i) (xC G ad S (aup A n x) B P i)) : XW G ad w1 S (aup A n x) B P := by
  unfold oA at ho
  refine h.set (by omega) e fun j hj hne => ?_
  unfold xC
  by_cases h1 : j = 0
  · refine (if_pos h1).trans (Eq.trans ?_ (if_pos h1).symm); (first | rfl | (exfalso; omega) | exact congrArg (eI G 2) (aup_n (by omega)) | exact congrArg (eI G 3) (aup_n (by omega)) | exact congrArg (eI G 6) (aup_n (by omega)) | exact congrArg (eB G 120) (aup_n (by omega)))
  refine (if_neg h1).trans (Eq.trans ?_ (if_neg h1).symm)
  by_cases h2 : j < 22
  · refine (if_pos h2).trans (Eq.trans ?_ (if_pos h2).symm)
    by_cases g1 : j % 3 = 1
    · refine (if_pos g1).trans (Eq.trans ?_ (if_pos g1).symm); (first | rfl | (exfalso; omega) | exact congrArg (eI G 2) (aup_n (by omega)) | exact congrArg (eI G 3) (aup_n (by omega)) | exact congrArg (eI G 6) (aup_n (by omega)) | exact congrArg (eB G 120) (aup_n (by omega)))
    refine (if_neg g1).trans (Eq.trans ?_ (if_neg g1).symm)
    by_cases g2 : j % 3 = 2
    · refine (if_pos g2).trans (Eq.trans ?_ (if_pos g2).symm); (first | rfl | (exfalso; omega) | exact congrArg (eI G 2) (aup_n (by omega)) | exact congrArg (eI G 3) (aup_n (by omega)) | exact congrArg (eI G 6) (aup_n (by omega)) | exact congrArg (eB G 120) (aup_n (by omega)))
    refine (if_neg g2).trans (Eq.trans ?_ (if_neg g2).symm); (first | rfl | (exfalso; omega) | exact congrArg (eI G 2) (aup_n (by omega)) | exact congrArg (eI G 3) (aup_n (by omega)) | exact congrArg (eI G 6) (aup_n (by omega)) | exact congrArg (eB G 120) (aup_n (by omega)))
  refine (if_neg h2).trans (Eq.trans ?_ (if_neg h2).symm)
  by_cases h3 : j = 22
  · refine (if_pos h3).trans (Eq.trans ?_ (if_pos h3).symm); (first | rfl | (exfalso; omega) | exact congrArg (eI G 2) (aup_n (by omega)) | exact congrArg (eI G 3) (aup_n (by omega)) | exact congrArg (eI G 6) (aup_n (by omega)) | exact congrArg (eB G 120) (aup_n (by omega)))
  refine (if_neg h3).trans (Eq.trans ?_ (if_neg h3).symm)
  by_cases h4 : j = 23
  · refine (if_pos h4).trans (Eq.trans ?_ (if_pos h4).symm); (first | rfl | (exfalso; omega) | exact congrArg (eI G 2) (aup_n (by omega)) | exact congrArg (eI G 3) (aup_n (by omega)) | exact congrArg (eI G 6) (aup_n (by omega)) | exact congrArg (eB G 120) (aup_n (by omega)))
  refine (if_neg h4).trans (Eq.trans ?_ (if_neg h4).symm)
  by_cases h5 : j = 24
  · refine (if_pos h5).trans (Eq.trans ?_ (if_pos h5).symm); (first | rfl | (exfalso; omega) | exact congrArg (eI G 2) (aup_n (by omega)) | exact congrArg (eI G 3) (aup_n (by omega)) | exact congrArg (eI G 6) (aup_n (by omega)) | exact congrArg (eB G 120) (aup_n (by omega)))
  refine (if_neg h5).trans (Eq.trans ?_ (if_neg h5).symm)
  by_cases h6 : j = 25
  · refine (if_pos h6).trans (Eq.trans ?_ (if_pos h6).symm); (first | rfl | (exfalso; omega) | exact congrArg (eI G 2) (aup_n (by omega)) | exact congrArg (eI G 3) (aup_n (by omega)) | exact congrArg (eI G 6) (aup_n (by omega)) | exact congrArg (eB G 120) (aup_n (by omega)))
  refine (if_neg h6).trans (Eq.trans ?_ (if_neg h6).symm)
  by_cases h7 : j = 26
  · refine (if_pos h7).trans (Eq.trans ?_ (if_pos h7).symm); (first | rfl | (exfalso; omega) | exact congrArg (eI G 2) (aup_n (by omega)) | exact congrArg (eI G 3) (aup_n (by omega)) | exact congrArg (eI G 6) (aup_n (by omega)) | exact congrArg (eB G 120) (aup_n (by omega)))
  refine (if_neg h7).trans (Eq.trans ?_ (if_neg h7).symm)
  by_cases h8 : j = 27
  · refine (if_pos h8).trans (Eq.trans ?_ (if_pos h8).symm); (first | rfl | (exfalso; omega) | exact congrArg (eI G 2) (aup_n (by omega)) | exact congrArg (eI G 3) (aup_n (by omega)) | exact congrArg (eI G 6) (aup_n (by omega)) | exact congrArg (eB G 120) (aup_n (by omega)))
  refine (if_neg h8).trans (Eq.trans ?_ (if_neg h8).symm)
  by_cases h9 : j = 28
  · refine (if_pos h9).trans (Eq.trans ?_ (if_pos h9).symm); (first | rfl | (exfalso; omega) | exact congrArg (eI G 2) (aup_n (by omega)) | exact congrArg (eI G 3) (aup_n (by omega)) | exact congrArg (eI G 6) (aup_n (by omega)) | exact congrArg (eB G 120) (aup_n (by omega)))
  refine (if_neg h9).trans (Eq.trans ?_ (if_neg h9).symm)
  by_cases h10 : j = 29
  · refine (if_pos h10).trans (Eq.trans ?_ (if_pos h10).symm); (first | rfl | (exfalso; omega) | exact congrArg (eI G 2) (aup_n (by omega)) | exact congrArg (eI G 3) (aup_n (by omega)) | exact congrArg (eI G 6) (aup_n (by omega)) | exact congrArg (eB G 120) (aup_n (by omega)))
  refine (if_neg h10).trans (Eq.trans ?_ (if_neg h10).symm)
  by_cases h11 : j < 36
  · refine (if_pos h11).trans (Eq.trans ?_ (if_pos h11).symm); (first | rfl | (exfalso; omega) | exact congrArg (eI G 2) (aup_n (by omega)) | exact congrArg (eI G 3) (aup_n (by omega)) | exact congrArg (eI G 6) (aup_n (by omega)) | exact congrArg (eB G 120) (aup_n (by omega)))
  refine (if_neg h11).trans (Eq.trans ?_ (if_neg h11).symm)
  by_cases h12 : j < 42
  · refine (if_pos h12).trans (Eq.trans ?_ (if_pos h12).symm); (first | rfl | (exfalso; omega) | exact congrArg (eI G 2) (aup_n (by omega)) | exact congrArg (eI G 3) (aup_n (by omega)) | exact congrArg (eI G 6) (aup_n (by omega)) | exact congrArg (eB G 120) (aup_n (by omega)))
  refine (if_neg h12).trans (Eq.trans ?_ (if_neg h12).symm)
  by_cases h13 : j < 48
  · refine (if_pos h13).trans (Eq.trans ?_ (if_pos h13).symm); (first | rfl | (exfalso; omega) | exact congrArg (eI G 2) (aup_n (by omega)) | exact congrArg (eI G 3) (aup_n (by omega)) | exact congrArg (eI G 6) (aup_n (by omega)) | exact congrArg (eB G 120) (aup_n (by omega)))
  refine (if_neg h13).trans (Eq.trans ?_ (if_neg h13).symm)
  by_cases h14 : j = 48
  · refine (if_pos h14).trans (Eq.trans ?_ (if_pos h14).symm); (first | rfl | (exfalso; omega) | exact congrArg (eI G 2) (aup_n (by omega)) | exact congrArg (eI G 3) (aup_n (by omega)) | exact congrArg (eI G 6) (aup_n (by omega)) | exact congrArg (eB G 120) (aup_n (by omega)))
  refine (if_neg h14).trans (Eq.trans ?_ (if_neg h14).symm)
  by_cases h15 : j = 49
  · refine (if_pos h15).trans (Eq.trans ?_ (if_pos h15).symm); (first | rfl | (exfalso; omega) | exact congrArg (eI G 2) (aup_n (by omega)) | exact congrArg (eI G 3) (aup_n (by omega)) | exact congrArg (eI G 6) (aup_n (by omega)) | exact congrArg (eB G 120) (aup_n (by omega)))
  refine (if_neg h15).trans (Eq.trans ?_ (if_neg h15).symm)
  by_cases h16 : j = 50
  · refine (if_pos h16).trans (Eq.trans ?_ (if_pos h16).symm); (first | rfl | (exfalso; omega) | exact congrArg (eI G 2) (aup_n (by omega)) | exact congrArg (eI G 3) (aup_n (by omega)) | exact congrArg (eI G 6) (aup_n (by omega)) | exact congrArg (eB G 120) (aup_n (by omega)))
  refine (if_neg h16).trans (Eq.trans ?_ (if_neg h16).symm)
  by_cases h17 : j = 51
  · refine (if_pos h17).trans (Eq.trans ?_ (if_pos h17).symm); (first | rfl | (exfalso; omega) | exact congrArg (eI G 2) (aup_n (by omega)) | exact congrArg (eI G 3) (aup_n (by omega)) | exact congrArg (eI G 6) (aup_n (by omega)) | exact congrArg (eB G 120) (aup_n (by omega)))
  refine (if_neg h17).trans (Eq.trans ?_ (if_neg h17).symm)
  by_cases h18 : j = 52
  · refine (if_pos h18).trans (Eq.trans ?_ (if_pos h18).symm); (first | rfl | (exfalso; omega) | exact congrArg (eI G 2) (aup_n (by omega)) | exact congrArg (eI G 3) (aup_n (by omega)) | exact congrArg (eI G 6) (aup_n (by omega)) | exact congrArg (eB G 120) (aup_n (by omega)))
  refine (if_neg h18).trans (Eq.trans ?_ (if_neg h18).symm)
  by_cases h19 : j = 53
  · refine (if_pos h19).trans (Eq.trans ?_ (if_pos h19).symm); (first | rfl | (exfalso; omega) | exact congrArg (eI G 2) (aup_n (by omega)) | exact congrArg (eI G 3) (aup_n (by omega)) | exact congrArg (eI G 6) (aup_n (by omega)) | exact congrArg (eB G 120) (aup_n (by omega)))
  refine (if_neg h19).trans (Eq.trans ?_ (if_neg h19).symm)
  (first | rfl | (exfalso; omega) | exact congrArg (eI G 2) (aup_n (by omega)) | exact congrArg (eI G 3) (aup_n (by omega)) | exact congrArg (eI G 6) (aup_n (by omega)) | exact congrArg (eB G 120) (aup_n (by omega)))
theorem XW.sB (h : XW G ad w S A B P) {i : Nat} (n : Nat) {x : Int → Option Nat} (ho : oB n i) (e : w1 = wup w (ad i) (xC G ad S A (bup B n x) P i)) : XW G ad w1 S A (bup B n x) P := by
  unfold oB at ho
  refine h.set (by omega) e fun j hj hne => ?_
  unfold xC
  by_cases h1 : j = 0
  · refine (if_pos h1).trans (Eq.trans ?_ (if_pos h1).symm); (first | rfl | (exfalso; omega) | exact congrArg (eR G _ _) (bup_n (by omega)))
  refine (if_neg h1).trans (Eq.trans ?_ (if_neg h1).symm)
  by_cases h2 : j < 22
  · refine (if_pos h2).trans (Eq.trans ?_ (if_pos h2).symm)
    by_cases g1 : j % 3 = 1
    · refine (if_pos g1).trans (Eq.trans ?_ (if_pos g1).symm); (first | rfl | (exfalso; omega) | exact congrArg (eR G _ _) (bup_n (by omega)))
    refine (if_neg g1).trans (Eq.trans ?_ (if_neg g1).symm)
    by_cases g2 : j % 3 = 2
    · refine (if_pos g2).trans (Eq.trans ?_ (if_pos g2).symm); (first | rfl | (exfalso; omega) | exact congrArg (eR G _ _) (bup_n (by omega)))
    refine (if_neg g2).trans (Eq.trans ?_ (if_neg g2).symm); (first | rfl | (exfalso; omega) | exact congrArg (eR G _ _) (bup_n (by omega)))
  refine (if_neg h2).trans (Eq.trans ?_ (if_neg h2).symm)
  by_cases h3 : j = 22
  · refine (if_pos h3).trans (Eq.trans ?_ (if_pos h3).symm); (first | rfl | (exfalso; omega) | exact congrArg (eR G _ _) (bup_n (by omega)))
  refine (if_neg h3).trans (Eq.trans ?_ (if_neg h3).symm)
  by_cases h4 : j = 23
  · refine (if_pos h4).trans (Eq.trans ?_ (if_pos h4).symm); (first | rfl | (exfalso; omega) | exact congrArg (eR G _ _) (bup_n (by omega)))
  refine (if_neg h4).trans (Eq.trans ?_ (if_neg h4).symm)
  by_cases h5 : j = 24
  · refine (if_pos h5).trans (Eq.trans ?_ (if_pos h5).symm); (first | rfl | (exfalso; omega) | exact congrArg (eR G _ _) (bup_n (by omega)))
  refine (if_neg h5).trans (Eq.trans ?_ (if_neg h5).symm)
  by_cases h6 : j = 25
  · refine (if_pos h6).trans (Eq.trans ?_ (if_pos h6).symm); (first | rfl | (exfalso; omega) | exact congrArg (eR G _ _) (bup_n (by omega)))
  refine (if_neg h6).trans (Eq.trans ?_ (if_neg h6).symm)
  by_cases h7 : j = 26
  · refine (if_pos h7).trans (Eq.trans ?_ (if_pos h7).symm); (first | rfl | (exfalso; omega) | exact congrArg (eR G _ _) (bup_n (by omega)))
  refine (if_neg h7).trans (Eq.trans ?_ (if_neg h7).symm)
  by_cases h8 : j = 27
  · refine (if_pos h8).trans (Eq.trans ?_ (if_pos h8).symm); (first | rfl | (exfalso; omega) | exact congrArg (eR G _ _) (bup_n (by omega)))
  refine (if_neg h8).trans (Eq.trans ?_ (if_neg h8).symm)
  by_cases h9 : j = 28
  · refine (if_pos h9).trans (Eq.trans ?_ (if_pos h9).symm); (first | rfl | (exfalso; omega) | exact congrArg (eR G _ _) (bup_n (by omega)))
  refine (if_neg h9).trans (Eq.trans ?_ (if_neg h9).symm)
  by_cases h10 : j = 29
  · refine (if_pos h10).trans (Eq.trans ?_ (if_pos h10).symm); (first | rfl | (exfalso; omega) | exact congrArg (eR G _ _) (bup_n (by omega)))
  refine (if_neg h10).trans (Eq.trans ?_ (if_neg h10).symm)
  by_cases h11 : j < 36
  · refine (if_pos h11).trans (Eq.trans ?_ (if_pos h11).symm); (first | rfl | (exfalso; omega) | exact congrArg (eR G _ _) (bup_n (by omega)))
  refine (if_neg h11).trans (Eq.trans ?_ (if_neg h11).symm)
  by_cases h12 : j < 42
  · refine (if_pos h12).trans (Eq.trans ?_ (if_pos h12).symm); (first | rfl | (exfalso; omega) | exact congrArg (eR G _ _) (bup_n (by omega)))
  refine (if_neg h12).trans (Eq.trans ?_ (if_neg h12).symm)
  by_cases h13 : j < 48
  · refine (if_pos h13).trans (Eq.trans ?_ (if_pos h13).symm); (first | rfl | (exfalso; omega) | exact congrArg (eR G _ _) (bup_n (by omega)))
  refine (if_neg h13).trans (Eq.trans ?_ (if_neg h13).symm)
  by_cases h14 : j = 48
  · refine (if_pos h14).trans (Eq.trans ?_ (if_pos h14).symm); (first | rfl | (exfalso; omega) | exact congrArg (eR G _ _) (bup_n (by omega)))
  refine (if_neg h14).trans (Eq.trans ?_ (if_neg h14).symm)
  by_cases h15 : j = 49
  · refine (if_pos h15).trans (Eq.trans ?_ (if_pos h15).symm); (first | rfl | (exfalso; omega) | exact congrArg (eR G _ _) (bup_n (by omega)))
  refine (if_neg h15).trans (Eq.trans ?_ (if_neg h15).symm)
  by_cases h16 : j = 50
  · refine (if_pos h16).trans (Eq.trans ?_ (if_pos h16).symm); (first | rfl | (exfalso; omega) | exact congrArg (eR G _ _) (bup_n (by omega)))
  refine (if_neg h16).trans (Eq.trans ?_ (if_neg h16).symm)
  by_cases h17 : j = 51
  · refine (if_pos h17).trans (Eq.trans ?_ (if_pos h17).symm); (first | rfl | (exfalso; omega) | exact congrArg (eR G _ _) (bup_n (by omega)))
  refine (if_neg h17).trans (Eq.trans ?_ (if_neg h17).symm)
  by_cases h18 : j = 52
  · refine (if_pos h18).trans (Eq.trans ?_ (if_pos h18).symm); (first | rfl | (exfalso; omega) | exact congrArg (eR G _ _) (bup_n (by omega)))
  refine (if_neg h18).trans (Eq.trans ?_ (if_neg h18).symm)
  by_cases h19 : j = 53
  · refine (if_pos h19).trans (Eq.trans ?_ (if_pos h19).symm); (first | rfl | (exfalso; omega) | exact congrArg (eR G _ _) (bup_n (by omega)))
  refine (if_neg h19).trans (Eq.trans ?_ (if_neg h19).symm)
  (first | rfl | (exfalso; omega) | exact congrArg (eR G _ _) (bup_n (by omega)))
theorem XW.sP (h : XW G ad w S A B P) {i : Nat} (n : Nat) {x : Option Nat} (ho : oP n i) (e : w1 = wup w (ad i) (xC G ad S A B (pup P n x) i)) : XW G ad w1 S A B (pup P n x) := by
  unfold oP at ho
  refine h.set (by omega) e fun j hj hne => ?_
  unfold xC
  by_cases h1 : j = 0
  · refine (if_pos h1).trans (Eq.trans ?_ (if_pos h1).symm); (first | rfl | (exfalso; omega) | exact congrArg (eO 1) (xF1_c rfl rfl (pup_n (by omega))) | exact congrArg (eO 2) (xF2_c (fun _ _ _ => rfl) (pup_n (by omega))) | exact congrArg (eO 16) (xF16_c rfl rfl (pup_n (by omega)) (pup_n (by omega))))
  refine (if_neg h1).trans (Eq.trans ?_ (if_neg h1).symm)
  by_cases h2 : j < 22
  · refine (if_pos h2).trans (Eq.trans ?_ (if_pos h2).symm)
    by_cases g1 : j % 3 = 1
    · refine (if_pos g1).trans (Eq.trans ?_ (if_pos g1).symm); (first | rfl | (exfalso; omega) | exact congrArg (eO 1) (xF1_c rfl rfl (pup_n (by omega))) | exact congrArg (eO 2) (xF2_c (fun _ _ _ => rfl) (pup_n (by omega))) | exact congrArg (eO 16) (xF16_c rfl rfl (pup_n (by omega)) (pup_n (by omega))))
    refine (if_neg g1).trans (Eq.trans ?_ (if_neg g1).symm)
    by_cases g2 : j % 3 = 2
    · refine (if_pos g2).trans (Eq.trans ?_ (if_pos g2).symm); (first | rfl | (exfalso; omega) | exact congrArg (eO 1) (xF1_c rfl rfl (pup_n (by omega))) | exact congrArg (eO 2) (xF2_c (fun _ _ _ => rfl) (pup_n (by omega))) | exact congrArg (eO 16) (xF16_c rfl rfl (pup_n (by omega)) (pup_n (by omega))))
    refine (if_neg g2).trans (Eq.trans ?_ (if_neg g2).symm); (first | rfl | (exfalso; omega) | exact congrArg (eO 1) (xF1_c rfl rfl (pup_n (by omega))) | exact congrArg (eO 2) (xF2_c (fun _ _ _ => rfl) (pup_n (by omega))) | exact congrArg (eO 16) (xF16_c rfl rfl (pup_n (by omega)) (pup_n (by omega))))
  refine (if_neg h2).trans (Eq.trans ?_ (if_neg h2).symm)
  by_cases h3 : j = 22
  · refine (if_pos h3).trans (Eq.trans ?_ (if_pos h3).symm); (first | rfl | (exfalso; omega) | exact congrArg (eO 1) (xF1_c rfl rfl (pup_n (by omega))) | exact congrArg (eO 2) (xF2_c (fun _ _ _ => rfl) (pup_n (by omega))) | exact congrArg (eO 16) (xF16_c rfl rfl (pup_n (by omega)) (pup_n (by omega))))
  refine (if_neg h3).trans (Eq.trans ?_ (if_neg h3).symm)
  by_cases h4 : j = 23
  · refine (if_pos h4).trans (Eq.trans ?_ (if_pos h4).symm); (first | rfl | (exfalso; omega) | exact congrArg (eO 1) (xF1_c rfl rfl (pup_n (by omega))) | exact congrArg (eO 2) (xF2_c (fun _ _ _ => rfl) (pup_n (by omega))) | exact congrArg (eO 16) (xF16_c rfl rfl (pup_n (by omega)) (pup_n (by omega))))
  refine (if_neg h4).trans (Eq.trans ?_ (if_neg h4).symm)
  by_cases h5 : j = 24
  · refine (if_pos h5).trans (Eq.trans ?_ (if_pos h5).symm); (first | rfl | (exfalso; omega) | exact congrArg (eO 1) (xF1_c rfl rfl (pup_n (by omega))) | exact congrArg (eO 2) (xF2_c (fun _ _ _ => rfl) (pup_n (by omega))) | exact congrArg (eO 16) (xF16_c rfl rfl (pup_n (by omega)) (pup_n (by omega))))
  refine (if_neg h5).trans (Eq.trans ?_ (if_neg h5).symm)
  by_cases h6 : j = 25
  · refine (if_pos h6).trans (Eq.trans ?_ (if_pos h6).symm); (first | rfl | (exfalso; omega) | exact congrArg (eO 1) (xF1_c rfl rfl (pup_n (by omega))) | exact congrArg (eO 2) (xF2_c (fun _ _ _ => rfl) (pup_n (by omega))) | exact congrArg (eO 16) (xF16_c rfl rfl (pup_n (by omega)) (pup_n (by omega))))
  refine (if_neg h6).trans (Eq.trans ?_ (if_neg h6).symm)
  by_cases h7 : j = 26
  · refine (if_pos h7).trans (Eq.trans ?_ (if_pos h7).symm); (first | rfl | (exfalso; omega) | exact congrArg (eO 1) (xF1_c rfl rfl (pup_n (by omega))) | exact congrArg (eO 2) (xF2_c (fun _ _ _ => rfl) (pup_n (by omega))) | exact congrArg (eO 16) (xF16_c rfl rfl (pup_n (by omega)) (pup_n (by omega))))
  refine (if_neg h7).trans (Eq.trans ?_ (if_neg h7).symm)
  by_cases h8 : j = 27
  · refine (if_pos h8).trans (Eq.trans ?_ (if_pos h8).symm); (first | rfl | (exfalso; omega) | exact congrArg (eO 1) (xF1_c rfl rfl (pup_n (by omega))) | exact congrArg (eO 2) (xF2_c (fun _ _ _ => rfl) (pup_n (by omega))) | exact congrArg (eO 16) (xF16_c rfl rfl (pup_n (by omega)) (pup_n (by omega))))
  refine (if_neg h8).trans (Eq.trans ?_ (if_neg h8).symm)
  by_cases h9 : j = 28
  · refine (if_pos h9).trans (Eq.trans ?_ (if_pos h9).symm); (first | rfl | (exfalso; omega) | exact congrArg (eO 1) (xF1_c rfl rfl (pup_n (by omega))) | exact congrArg (eO 2) (xF2_c (fun _ _ _ => rfl) (pup_n (by omega))) | exact congrArg (eO 16) (xF16_c rfl rfl (pup_n (by omega)) (pup_n (by omega))))
  refine (if_neg h9).trans (Eq.trans ?_ (if_neg h9).symm)
  by_cases h10 : j = 29
  · refine (if_pos h10).trans (Eq.trans ?_ (if_pos h10).symm); (first | rfl | (exfalso; omega) | exact congrArg (eO 1) (xF1_c rfl rfl (pup_n (by omega))) | exact congrArg (eO 2) (xF2_c (fun _ _ _ => rfl) (pup_n (by omega))) | exact congrArg (eO 16) (xF16_c rfl rfl (pup_n (by omega)) (pup_n (by omega))))
  refine (if_neg h10).trans (Eq.trans ?_ (if_neg h10).symm)
  by_cases h11 : j < 36
  · refine (if_pos h11).trans (Eq.trans ?_ (if_pos h11).symm); (first | rfl | (exfalso; omega) | exact congrArg (eO 1) (xF1_c rfl rfl (pup_n (by omega))) | exact congrArg (eO 2) (xF2_c (fun _ _ _ => rfl) (pup_n (by omega))) | exact congrArg (eO 16) (xF16_c rfl rfl (pup_n (by omega)) (pup_n (by omega))))
  refine (if_neg h11).trans (Eq.trans ?_ (if_neg h11).symm)
  by_cases h12 : j < 42
  · refine (if_pos h12).trans (Eq.trans ?_ (if_pos h12).symm); (first | rfl | (exfalso; omega) | exact congrArg (eO 1) (xF1_c rfl rfl (pup_n (by omega))) | exact congrArg (eO 2) (xF2_c (fun _ _ _ => rfl) (pup_n (by omega))) | exact congrArg (eO 16) (xF16_c rfl rfl (pup_n (by omega)) (pup_n (by omega))))
  refine (if_neg h12).trans (Eq.trans ?_ (if_neg h12).symm)
  by_cases h13 : j < 48
  · refine (if_pos h13).trans (Eq.trans ?_ (if_pos h13).symm); (first | rfl | (exfalso; omega) | exact congrArg (eO 1) (xF1_c rfl rfl (pup_n (by omega))) | exact congrArg (eO 2) (xF2_c (fun _ _ _ => rfl) (pup_n (by omega))) | exact congrArg (eO 16) (xF16_c rfl rfl (pup_n (by omega)) (pup_n (by omega))))
  refine (if_neg h13).trans (Eq.trans ?_ (if_neg h13).symm)
  by_cases h14 : j = 48
  · refine (if_pos h14).trans (Eq.trans ?_ (if_pos h14).symm); (first | rfl | (exfalso; omega) | exact congrArg (eO 1) (xF1_c rfl rfl (pup_n (by omega))) | exact congrArg (eO 2) (xF2_c (fun _ _ _ => rfl) (pup_n (by omega))) | exact congrArg (eO 16) (xF16_c rfl rfl (pup_n (by omega)) (pup_n (by omega))))
  refine (if_neg h14).trans (Eq.trans ?_ (if_neg h14).symm)
  by_cases h15 : j = 49
  · refine (if_pos h15).trans (Eq.trans ?_ (if_pos h15).symm); (first | rfl | (exfalso; omega) | exact congrArg (eO 1) (xF1_c rfl rfl (pup_n (by omega))) | exact congrArg (eO 2) (xF2_c (fun _ _ _ => rfl) (pup_n (by omega))) | exact congrArg (eO 16) (xF16_c rfl rfl (pup_n (by omega)) (pup_n (by omega))))
  refine (if_neg h15).trans (Eq.trans ?_ (if_neg h15).symm)
  by_cases h16 : j = 50
  · refine (if_pos h16).trans (Eq.trans ?_ (if_pos h16).symm); (first | rfl | (exfalso; omega) | exact congrArg (eO 1) (xF1_c rfl rfl (pup_n (by omega))) | exact congrArg (eO 2) (xF2_c (fun _ _ _ => rfl) (pup_n (by omega))) | exact congrArg (eO 16) (xF16_c rfl rfl (pup_n (by omega)) (pup_n (by omega))))
  refine (if_neg h16).trans (Eq.trans ?_ (if_neg h16).symm)
  by_cases h17 : j = 51
  · refine (if_pos h17).trans (Eq.trans ?_ (if_pos h17).symm); (first | rfl | (exfalso; omega) | exact congrArg (eO 1) (xF1_c rfl rfl (pup_n (by omega))) | exact congrArg (eO 2) (xF2_c (fun _ _ _ => rfl) (pup_n (by omega))) | exact congrArg (eO 16) (xF16_c rfl rfl (pup_n (by omega)) (pup_n (by omega))))
  refine (if_neg h17).trans (Eq.trans ?_ (if_neg h17).symm)
  by_cases h18 : j = 52
  · refine (if_pos h18).trans (Eq.trans ?_ (if_pos h18).symm); (first | rfl | (exfalso; omega) | exact congrArg (eO 1) (xF1_c rfl rfl (pup_n (by omega))) | exact congrArg (eO 2) (xF2_c (fun _ _ _ => rfl) (pup_n (by omega))) | exact congrArg (eO 16) (xF16_c rfl rfl (pup_n (by omega)) (pup_n (by omega))))
  refine (if_neg h18).trans (Eq.trans ?_ (if_neg h18).symm)
  by_cases h19 : j = 53
  · refine (if_pos h19).trans (Eq.trans ?_ (if_pos h19).symm); (first | rfl | (exfalso; omega) | exact congrArg (eO 1) (xF1_c rfl rfl (pup_n (by omega))) | exact congrArg (eO 2) (xF2_c (fun _ _ _ => rfl) (pup_n (by omega))) | exact congrArg (eO 16) (xF16_c rfl rfl (pup_n (by omega)) (pup_n (by omega))))
  refine (if_neg h19).trans (Eq.trans ?_ (if_neg h19).symm)
  (first | rfl | (exfalso; omega) | exact congrArg (eO 1) (xF1_c rfl rfl (pup_n (by omega))) | exact congrArg (eO 2) (xF2_c (fun _ _ _ => rfl) (pup_n (by omega))) | exact congrArg (eO 16) (xF16_c rfl rfl (pup_n (by omega)) (pup_n (by omega))))
theorem XW.cS (h : XW G ad w S A B P) (e : S = S2) : XW G ad w S2 A B P := e ▸ h
theorem XW.cA (h : XW G ad w S A B P) (e : A = A2) : XW G ad w S A2 B P := e ▸ h
theorem XW.cB (h : XW G ad w S A B P) (e : B = B2) : XW G ad w S A B2 P := e ▸ h
theorem XW.cP (h : XW G ad w S A B P) (e : P = P2) : XW G ad w S A B P2 := e ▸ h
theorem XW.c0 (h : XW G ad w S A B P) : w (ad 0) = some (eO 0 (xF0 ad S)) := h.2 0 (by decide)
theorem XW.c1 (h : XW G ad w S A B P) : w (ad 1) = some (eO 1 (xF1 ad S P 0)) := h.2 1 (by decide)
theorem XW.c2 (h : XW G ad w S A B P) : w (ad 2) = some (eR G 2 6 (B 10)) := h.2 2 (by decide)
theorem XW.c3 (h : XW G ad w S A B P) : w (ad 3) = some (eI G 2 (A 10)) := h.2 3 (by decide)
theorem XW.c4 (h : XW G ad w S A B P) : w (ad 4) = some (eO 1 (xF1 ad S P 1)) := h.2 4 (by decide)
theorem XW.c22 (h : XW G ad w S A B P) : w (ad 22) = some (eR G 3 5 (B 0)) := h.2 22 (by decide)
theorem XW.c23 (h : XW G ad w S A B P) : w (ad 23) = some (eR G 4 4 (B 5)) := h.2 23 (by decide)
theorem XW.c24 (h : XW G ad w S A B P) : w (ad 24) = some (eO 2 (xF2 ad S P)) := h.2 24 (by decide)
theorem XW.c25 (h : XW G ad w S A B P) : w (ad 25) = some (eI G 2 (A 0)) := h.2 25 (by decide)
theorem XW.c26 (h : XW G ad w S A B P) : w (ad 26) = some (eB G 120 (A 1)) := h.2 26 (by decide)
theorem XW.c27 (h : XW G ad w S A B P) : w (ad 27) = some (eI G 3 (A 2)) := h.2 27 (by decide)
theorem XW.c28 (h : XW G ad w S A B P) : w (ad 28) = some (eO 6 [.int (zI (S 3)), .ref (ad 0)]) := h.2 28 (by decide)
theorem XW.c29 (h : XW G ad w S A B P) : w (ad 29) = some (eR G 5 6 (xcs ad)) := h.2 29 (by decide)
theorem XW.c48 (h : XW G ad w S A B P) : w (ad 48) = some (eO 17 (xF17 ad S)) := h.2 48 (by decide)
theorem XW.c49 (h : XW G ad w S A B P) : w (ad 49) = some (eR G 9 36 (B 2)) := h.2 49 (by decide)
theorem XW.c50 (h : XW G ad w S A B P) : w (ad 50) = some (eO 4 []) := h.2 50 (by decide)
theorem XW.c51 (h : XW G ad w S A B P) : w (ad 51) = some (eR G 6 6 (B 1)) := h.2 51 (by decide)
theorem XW.c52 (h : XW G ad w S A B P) : w (ad 52) = some (eI G 6 (A 3)) := h.2 52 (by decide)
theorem XW.c53 (h : XW G ad w S A B P) : w (ad 53) = some (eR G 7 6 (B 3)) := h.2 53 (by decide)
theorem XW.c54 (h : XW G ad w S A B P) : w (ad 54) = some (eR G 8 6 (B 4)) := h.2 54 (by decide)
theorem XW.st (h : XW G ad w S A B P) {s : Nat} (hs : s < 7) : w (ad (1 + 3 * s)) = some (eO 1 (xF1 ad S P s)) := by
  have e := h.2 (1 + 3 * s) (by omega)
  rw [e]; unfold xC
  rw [if_neg (by omega), if_pos (by omega), if_pos (by omega), show (1 + 3 * s) / 3 = s by omega]
theorem XW.pa (h : XW G ad w S A B P) {s : Nat} (hs : s < 7) : w (ad (2 + 3 * s)) = some (eR G 2 6 (B (10 + s))) := by
  have e := h.2 (2 + 3 * s) (by omega)
  rw [e]; unfold xC
  rw [if_neg (by omega), if_pos (by omega), if_neg (by omega), if_pos (by omega), show (2 + 3 * s) / 3 = s by omega]
theorem XW.se (h : XW G ad w S A B P) {s : Nat} (hs : s < 7) : w (ad (3 + 3 * s)) = some (eI G 2 (A (10 + s))) := by
  have e := h.2 (3 + 3 * s) (by omega)
  rw [e]; unfold xC
  rw [if_neg (by omega), if_pos (by omega), if_neg (by omega), if_neg (by omega), show (3 + 3 * s - 1) / 3 = s by omega]
theorem XW.co (h : XW G ad w S A B P) {k : Nat} (hk : k < 6) : w (ad (30 + k)) = some (eO 3 [.ref (ad (36 + k))]) := by
  have e := h.2 (30 + k) (by omega)
  rw [e]; unfold xC
  rw [if_neg (by omega), if_neg (by omega), if_neg (by omega), if_neg (by omega), if_neg (by omega), if_neg (by omega), if_neg (by omega), if_neg (by omega), if_neg (by omega), if_neg (by omega), if_pos (by omega), show 30 + k + 6 = 36 + k by omega]
theorem XW.ts (h : XW G ad w S A B P) {k : Nat} (hk : k < 6) : w (ad (36 + k)) = some (eO 15 [.ref (ad (42 + k))]) := by
  have e := h.2 (36 + k) (by omega)
  rw [e]; unfold xC
  rw [if_neg (by omega), if_neg (by omega), if_neg (by omega), if_neg (by omega), if_neg (by omega), if_neg (by omega), if_neg (by omega), if_neg (by omega), if_neg (by omega), if_neg (by omega), if_neg (by omega), if_pos (by omega), show 36 + k + 6 = 42 + k by omega]
theorem XW.tm (h : XW G ad w S A B P) {k : Nat} (hk : k < 6) : w (ad (42 + k)) = some (eO 16 (xF16 S P k)) := by
  have e := h.2 (42 + k) (by omega)
  rw [e]; unfold xC
  rw [if_neg (by omega), if_neg (by omega), if_neg (by omega), if_neg (by omega), if_neg (by omega), if_neg (by omega), if_neg (by omega), if_neg (by omega), if_neg (by omega), if_neg (by omega), if_neg (by omega), if_neg (by omega), if_pos (by omega), show 42 + k - 42 = k by omega]
end XWs
/-- a picture, its cells, where it was shot, the columns of its world -/
def Pic (G : wa_G) (ad : Nat → Nat) (w : wa_W) (p b : Nat) (f : Int → Int) (x y n : Int) : Prop := Lc ad w p (eO 8 [.ref b, .int (zI x), .int (zI y), .int (zI n)]) ∧ Lc ad w b (eI G 32 f)
theorem Pic.kp {G : wa_G} {ad : Nat → Nat} {w u : wa_W} {p b : Nat} {f : Int → Int} {x y n : Int} (h : Pic G ad w p b f x y n) (k : Kp ad w u) : Pic G ad u p b f x y n := ⟨h.1.kp k, h.2.kp k⟩

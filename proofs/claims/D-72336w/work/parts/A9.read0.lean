/-! READING: lemmas -/
theorem tk0_0 (tx : Int → Int) (tl p : Int) : tk0 tx tl 0 p = skS tx tl p := by unfold tk0; rw [if_neg (fun q => absurd q.2 (by decide))]
theorem tkP_0 (tx : Int → Int) (tl p : Int) : tkP tx tl 0 p = (digN tx tl 6 (skS tx tl p) 0).1 := by unfold tkP; rw [tk0_0]
theorem tkV_0 (tx : Int → Int) (tl p : Int) : tkV tx tl 0 p = (digN tx tl 6 (skS tx tl p) 0).2 := by unfold tkV; rw [if_neg (fun q => absurd q.2 (by decide)), tk0_0]
theorem okT_0 {tx : Int → Int} {tl p : Int} : okT tx tl 0 p ↔ skS tx tl p < (digN tx tl 6 (skS tx tl p) 0).1 ∧ ¬ fig tx tl (digN tx tl 6 (skS tx tl p) 0).1 := by unfold okT; rw [tkP_0, tk0_0]
theorem dig_n {tx : Int → Int} {tl p v : Int} {n : Nat} (h : ¬ fig tx tl p) : digN tx tl n p v = (p, v) := by
  cases n with
  | zero => rfl
  | succ n => unfold digN; exact if_neg h
theorem dig_y {tx : Int → Int} {tl p v n : Int} (hn : 0 ≤ n ∧ n < 6) (h : fig tx tl p) : digN tx tl (6 - n).toNat p v = digN tx tl (6 - (n + 1)).toNat (p + 1) (10 * v + tx p - 48) := by
  rw [show (6 - n).toNat = (6 - (n + 1)).toNat + 1 by omega, digN, if_pos h]
theorem dig_in {tx : Int → Int} {tl p : Int} (h : p ≤ tl) : p ≤ (digN tx tl 6 p 0).1 ∧ (digN tx tl 6 p 0).1 ≤ tl := by
  have h2 := (digN_in tx tl 6 p 0 (by decide) (by omega)).1
  omega
/-- a deed: what was read of an order -/
def Dd (G : wa_G) (ad : Nat → Nat) (w : wa_W) (q : Nat) (c : Int) (V : Int → Int) : Prop :=
  (c = 119 → Lc ad w q (.inr { cls := G.2.1 26, slots := #[.ref (ad 28), .int (zI (V 0)), .int (zI (V 1))], vm := .none })) ∧
  (c = 115 → Lc ad w q (.inr { cls := G.2.1 27, slots := #[.ref (ad 28), .int (zI (V 0)), .int (zI (V 1)), .int (zI (V 2))], vm := .none })) ∧
  (c = 99 → Lc ad w q (.inr { cls := G.2.1 28, slots := #[.ref (ad 28), .int (zI (V 0)), .int (zI (V 1)), .int (zI (V 2))], vm := .none })) ∧
  (c = 112 → Lc ad w q (.inr { cls := G.2.1 29, slots := #[.ref (ad 28), .int (zI (V 0)), .int (zI (V 1)), .int (zI (V 2)), .int (zI (V 3))], vm := .none })) ∧
  (c = 116 → Lc ad w q (.inr { cls := G.2.1 23, slots := #[.ref (ad 28), .int (zI (V 0))], vm := .none })) ∧
  (c = 97 → Lc ad w q (.inr { cls := G.2.1 24, slots := #[.ref (ad 28), .int (zI (V 0))], vm := .none })) ∧
  (c = 120 → Lc ad w q (.inr { cls := G.2.1 25, slots := #[.ref (ad 28), .int (zI (V 0))], vm := .none }))
theorem Dd.kp {G : wa_G} {ad : Nat → Nat} {w u : wa_W} {q : Nat} {c : Int} {V : Int → Int} (h : Dd G ad w q c V) (k : Kp ad w u) : Dd G ad u q c V := by
  obtain ⟨h1, h2, h3, h4, h5, h6, h7⟩ := h
  exact ⟨fun e => (h1 e).kp k, fun e => (h2 e).kp k, fun e => (h3 e).kp k, fun e => (h4 e).kp k, fun e => (h5 e).kp k, fun e => (h6 e).kp k, fun e => (h7 e).kp k⟩
theorem taV_0 (tx : Int → Int) (tl sg p : Int) (h : sg ≠ 0) : taV tx tl sg p 0 = tkV tx tl 0 p := by
  unfold taV; rw [show sgn 0 sg = 0 from if_neg (by omega)]; rfl
theorem taV_1 (tx : Int → Int) (tl sg p : Int) (h0 : sg ≠ 0) (h : sg ≠ 1) : taV tx tl sg p 1 = tkV tx tl 0 (tkP tx tl 0 p) := by
  unfold taV; rw [show sgn 1 sg = 0 from if_neg (by omega)]
  show tkV tx tl 0 (tkP tx tl (sgn ((0 : Nat) : Int) sg) p) = _
  rw [show sgn ((0 : Nat) : Int) sg = 0 from if_neg (by omega)]
theorem taV_2 (tx : Int → Int) (tl sg p : Int) (h0 : sg ≠ 0) (h : sg ≠ 1) : taV tx tl sg p 2 = tkV tx tl (sgn 2 sg) (tkP tx tl 0 (tkP tx tl 0 p)) := by
  unfold taV
  show tkV tx tl (sgn 2 sg) (tkP tx tl (sgn ((1 : Nat) : Int) sg) (tkP tx tl (sgn ((0 : Nat) : Int) sg) p)) = _
  rw [show sgn ((0 : Nat) : Int) sg = 0 from if_neg (by omega), show sgn ((1 : Nat) : Int) sg = 0 from if_neg (by omega)]
theorem taV_3 (tx : Int → Int) (tl sg p : Int) (h : sg = -1) : taV tx tl sg p 3 = tkV tx tl 0 (tkP tx tl 0 (tkP tx tl 0 (tkP tx tl 0 p))) := by
  subst h
  rfl
theorem sup_sup9 {S : Nat → Int} {k : Nat} {a b : Int} : sup (sup S k a) k b = sup S k b := by
  funext j; unfold sup; split <;> rfl

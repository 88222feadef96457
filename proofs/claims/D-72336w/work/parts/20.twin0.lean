/-! THE TWIN's WORLD: one object, fourteen arrays; their contents: A by the array's number, S by the field's number -/
/-- the fields of the object, the arrays at ad 1 .. ad 14 -/
def tF (ad : Nat → Nat) (S : Nat → Int) : List Value := [.ref (ad 1), .ref (ad 2), .ref (ad 3), .int (zI (S 3)), .ref (ad 4), .int (zI (S 5)), .int (zI (S 6)), .ref (ad 7), .ref (ad 8), .ref (ad 9), .ref (ad 10), .ref (ad 11), .ref (ad 12), .ref (ad 13), .ref (ad 14), .long (lI (S 15)), .long (lI (S 16)), .ref (ad 5), .int (zI (S 18)), .int (zI (S 19)), .int (zI (S 20)), .ref (ad 6), .int (zI (S 22))]
/-- how long the arrays are: all, past, aside, refused, text, numbers, corner, linkVotes, linkE, linkF, follower, ahead, least, seam -/
def tL : Nat → Nat
  | 1 => 406 | 2 => 2030 | 3 => 406 | 4 => 3 | 5 => 120 | 6 => 4 | 7 => 6 | 8 => 36 | 9 => 36 | 10 => 36 | 11 => 6 | 12 => 6 | 13 => 32 | _ => 4
def aup (A : Nat → Int → Int) (k : Nat) (f : Int → Int) : Nat → Int → Int := fun j => if j = k then f else A j
def sup (S : Nat → Int) (k : Nat) (v : Int) : Nat → Int := fun j => if j = k then v else S j
theorem aup_s {A : Nat → Int → Int} {k : Nat} {f : Int → Int} : aup A k f k = f := if_pos rfl
theorem aup_n {A : Nat → Int → Int} {k j : Nat} {f : Int → Int} (h : j ≠ k) : aup A k f j = A j := if_neg h
theorem sup_s {S : Nat → Int} {k : Nat} {v : Int} : sup S k v k = v := if_pos rfl
theorem sup_n {S : Nat → Int} {k j : Nat} {v : Int} (h : j ≠ k) : sup S k v j = S j := if_neg h
/-- the world w is the world w0 but for the twin's cells, and they hold A and S -/
def TW (G : wa_G) (ad : Nat → Nat) (w0 w : wa_W) (A : Nat → Int → Int) (S : Nat → Int) : Prop := (∀ i j, i < 15 → j < 15 → ad i = ad j → i = j) ∧ w (ad 0) = some (eO 7 (tF ad S)) ∧ (∀ k, 1 ≤ k → k < 15 → w (ad k) = some (eI G (tL k) (A k))) ∧ ∀ a, (∀ k, k < 15 → a ≠ ad k) → w a = w0 a
section TW
variable {G : wa_G} {ad : Nat → Nat} {w0 w w1 : wa_W} {A : Nat → Int → Int} {S : Nat → Int}
theorem TW.o (h : TW G ad w0 w A S) : w (ad 0) = some (eO 7 (tF ad S)) := h.2.1
theorem TW.a1 (h : TW G ad w0 w A S) : w (ad 1) = some (eI G 406 (A 1)) := h.2.2.1 1 (by decide) (by decide)
theorem TW.a2 (h : TW G ad w0 w A S) : w (ad 2) = some (eI G 2030 (A 2)) := h.2.2.1 2 (by decide) (by decide)
theorem TW.a3 (h : TW G ad w0 w A S) : w (ad 3) = some (eI G 406 (A 3)) := h.2.2.1 3 (by decide) (by decide)
theorem TW.a4 (h : TW G ad w0 w A S) : w (ad 4) = some (eI G 3 (A 4)) := h.2.2.1 4 (by decide) (by decide)
theorem TW.a5 (h : TW G ad w0 w A S) : w (ad 5) = some (eI G 120 (A 5)) := h.2.2.1 5 (by decide) (by decide)
theorem TW.a6 (h : TW G ad w0 w A S) : w (ad 6) = some (eI G 4 (A 6)) := h.2.2.1 6 (by decide) (by decide)
theorem TW.a7 (h : TW G ad w0 w A S) : w (ad 7) = some (eI G 6 (A 7)) := h.2.2.1 7 (by decide) (by decide)
theorem TW.a8 (h : TW G ad w0 w A S) : w (ad 8) = some (eI G 36 (A 8)) := h.2.2.1 8 (by decide) (by decide)
theorem TW.a9 (h : TW G ad w0 w A S) : w (ad 9) = some (eI G 36 (A 9)) := h.2.2.1 9 (by decide) (by decide)
theorem TW.a10 (h : TW G ad w0 w A S) : w (ad 10) = some (eI G 36 (A 10)) := h.2.2.1 10 (by decide) (by decide)
theorem TW.a11 (h : TW G ad w0 w A S) : w (ad 11) = some (eI G 6 (A 11)) := h.2.2.1 11 (by decide) (by decide)
theorem TW.a12 (h : TW G ad w0 w A S) : w (ad 12) = some (eI G 6 (A 12)) := h.2.2.1 12 (by decide) (by decide)
theorem TW.a13 (h : TW G ad w0 w A S) : w (ad 13) = some (eI G 32 (A 13)) := h.2.2.1 13 (by decide) (by decide)
theorem TW.a14 (h : TW G ad w0 w A S) : w (ad 14) = some (eI G 4 (A 14)) := h.2.2.1 14 (by decide) (by decide)
theorem TW.setA (h : TW G ad w0 w A S) {k : Nat} (k1 : 1 ≤ k) (k2 : k < 15) {f : Int → Int} (e : w1 = wup w (ad k) (eI G (tL k) f)) : TW G ad w0 w1 (aup A k f) S := by
  subst e
  refine ⟨h.1, ?_, fun j j1 j2 => ?_, fun a ha => ?_⟩
  · rw [wup_n (fun q => absurd (h.1 0 k (by decide) k2 q) (by omega))]; exact h.2.1
  · by_cases hj : j = k
    · subst hj; rw [wup_s, aup_s]
    · rw [wup_n (fun q => hj (h.1 j k j2 k2 q)), aup_n hj]; exact h.2.2.1 j j1 j2
  · rw [wup_n (ha k k2)]; exact h.2.2.2 a ha
theorem TW.setO (h : TW G ad w0 w A S) {S1 : Nat → Int} {fs : List Value} (hf : fs = tF ad S1) (e : w1 = wup w (ad 0) (eO 7 fs)) : TW G ad w0 w1 A S1 := by
  subst e; subst hf
  refine ⟨h.1, wup_s, fun j j1 j2 => ?_, fun a ha => ?_⟩
  · rw [wup_n (fun q => absurd (h.1 j 0 j2 (by decide) q) (by omega))]; exact h.2.2.1 j j1 j2
  · rw [wup_n (ha 0 (by decide))]; exact h.2.2.2 a ha
theorem TW.s3 (h : TW G ad w0 w A S) {v : Int} (e : w1 = wup w (ad 0) (eO 7 ((tF ad S).set 3 (.int (zI v))))) : TW G ad w0 w1 A (sup S 3 v) := h.setO rfl e
theorem TW.s5 (h : TW G ad w0 w A S) {v : Int} (e : w1 = wup w (ad 0) (eO 7 ((tF ad S).set 5 (.int (zI v))))) : TW G ad w0 w1 A (sup S 5 v) := h.setO rfl e
theorem TW.s6 (h : TW G ad w0 w A S) {v : Int} (e : w1 = wup w (ad 0) (eO 7 ((tF ad S).set 6 (.int (zI v))))) : TW G ad w0 w1 A (sup S 6 v) := h.setO rfl e
theorem TW.s15 (h : TW G ad w0 w A S) {v : Int} (e : w1 = wup w (ad 0) (eO 7 ((tF ad S).set 15 (.long (lI v))))) : TW G ad w0 w1 A (sup S 15 v) := h.setO rfl e
theorem TW.s16 (h : TW G ad w0 w A S) {v : Int} (e : w1 = wup w (ad 0) (eO 7 ((tF ad S).set 16 (.long (lI v))))) : TW G ad w0 w1 A (sup S 16 v) := h.setO rfl e
theorem TW.s18 (h : TW G ad w0 w A S) {v : Int} (e : w1 = wup w (ad 0) (eO 7 ((tF ad S).set 18 (.int (zI v))))) : TW G ad w0 w1 A (sup S 18 v) := h.setO rfl e
theorem TW.s19 (h : TW G ad w0 w A S) {v : Int} (e : w1 = wup w (ad 0) (eO 7 ((tF ad S).set 19 (.int (zI v))))) : TW G ad w0 w1 A (sup S 19 v) := h.setO rfl e
theorem TW.s20 (h : TW G ad w0 w A S) {v : Int} (e : w1 = wup w (ad 0) (eO 7 ((tF ad S).set 20 (.int (zI v))))) : TW G ad w0 w1 A (sup S 20 v) := h.setO rfl e
theorem TW.s22 (h : TW G ad w0 w A S) {v : Int} (e : w1 = wup w (ad 0) (eO 7 ((tF ad S).set 22 (.int (zI v))))) : TW G ad w0 w1 A (sup S 22 v) := h.setO rfl e
end TW
section TW2
variable {G : wa_G} {ad : Nat → Nat} {w0 w w1 : wa_W} {A : Nat → Int → Int} {S : Nat → Int}
theorem aup_aup {A : Nat → Int → Int} {k : Nat} {f g : Int → Int} : aup (aup A k f) k g = aup A k g := by
  funext j; unfold aup; split <;> rfl
theorem aup_id {A : Nat → Int → Int} {k : Nat} : aup A k (A k) = A := by
  funext j; unfold aup; split
  · rename_i h; rw [h]
  · rfl
theorem sup_id {S : Nat → Int} {k : Nat} : sup S k (S k) = S := by
  funext j; unfold sup; split
  · rename_i h; rw [h]
  · rfl
theorem aup_cm {A : Nat → Int → Int} {j k : Nat} {f g : Int → Int} (h : j ≠ k) : aup (aup A j f) k g = aup (aup A k g) j f := by
  funext i; unfold aup; split
  · rename_i e; rw [if_neg (by omega)]
  · rfl
theorem sup_cm {S : Nat → Int} {j k : Nat} {f g : Int} (h : j ≠ k) : sup (sup S j f) k g = sup (sup S k g) j f := by
  funext i; unfold sup; split
  · rename_i e; rw [if_neg (by omega)]
  · rfl
theorem sup_sup {S : Nat → Int} {k : Nat} {f g : Int} : sup (sup S k f) k g = sup S k g := by
  funext j; unfold sup; split <;> rfl
theorem TW.uA {k : Nat} {f : Int → Int} (h : TW G ad w0 w (aup A k f) S) {g : Int → Int} (k1 : 1 ≤ k) (k2 : k < 15) (e : w1 = wup w (ad k) (eI G (tL k) g)) : TW G ad w0 w1 (aup A k g) S := aup_aup ▸ h.setA k1 k2 e
theorem TW.iA (h : TW G ad w0 w A S) (k : Nat) : TW G ad w0 w (aup A k (A k)) S := by rw [aup_id]; exact h
theorem TW.iS (h : TW G ad w0 w A S) (k : Nat) : TW G ad w0 w A (sup S k (S k)) := by rw [sup_id]; exact h
theorem TW.cA (h : TW G ad w0 w A S) {A1 : Nat → Int → Int} (e : A = A1) : TW G ad w0 w A1 S := e ▸ h
theorem TW.cS (h : TW G ad w0 w A S) {S1 : Nat → Int} (e : S = S1) : TW G ad w0 w A S1 := e ▸ h
end TW2

/-! LAMBDA SITES: what is captured fits -/
def lamOK (ts : List FieldType) (vs : List Value) : Prop := ∀ (i : Nat) (v : Value) (t : FieldType), vs[i]? = some v → ts[i]? = some t → narrow t v = v ∧ fits t v = true
theorem lamOK.nil : lamOK [] [] := fun i v t a _ => by simp at a
theorem lamOK.cons {t : FieldType} {v : Value} {ts : List FieldType} {vs : List Value} (h : narrow t v = v ∧ fits t v = true) (h2 : lamOK ts vs) : lamOK (t :: ts) (v :: vs) := fun i v2 t2 a b => by
  match i, a, b with
  | 0, a, b => cases a; cases b; exact h
  | i + 1, a, b => exact h2 i v2 t2 a b
theorem wbC1 : wbS1.captured = [.int, .int] := by decide +kernel
theorem wbC2 : wbS2.captured = [.object "PictureRing", .object "PictureRing$Picture"] := by decide +kernel
theorem wbC3 : wbS3.captured = [.object "PictureRing$Joine\x72", .object "PictureRing$Link"] := by decide +kernel
theorem wbC4 : wbS4.captured = [.object "PictureRing$Joine\x72"] := by decide +kernel
theorem wbC5 : wbS5.captured = [.object "PictureRing$Joine\x72"] := by decide +kernel
theorem wbC6 : wbS6.captured = [.int] := by decide +kernel
theorem wbC7 : wbS7.captured = [.object "PictureRing$Reade\x72", .int] := by decide +kernel
theorem wbC8 : wbS8.captured = [.object "PictureRing$Reade\x72", .int] := by decide +kernel
theorem wbC9 : wbS9.captured = [.object "PictureRing$Reade\x72", .int] := by decide +kernel
theorem wbC10 : wbS10.captured = [.object "PictureRing$Reade\x72", .int, .int] := by decide +kernel
theorem wbC11 : wbS11.captured = [.object "PictureRing$Reade\x72", .int, .int, .int] := by decide +kernel
theorem wbC12 : wbS12.captured = [.object "PictureRing$Reade\x72", .int, .int, .int] := by decide +kernel
theorem wbC13 : wbS13.captured = [.object "PictureRing$Reade\x72", .int, .int, .int, .int] := by decide +kernel
/-! SPEC: how many cells an overlap has -/
noncomputable def cntD (g : Int → Int) (a : Int) : Nat → Int
  | 0 => 0
  | r + 1 => cntD g a r + if hrS g a r then 8 - fS g a else 0
theorem cntD_s {g : Int → Int} {a r : Int} (h : 0 ≤ r) : cntD g a (r + 1).toNat = cntD g a r.toNat + if hrS g a r then 8 - fS g a else 0 := by
  rw [show (r + 1).toNat = r.toNat + 1 by omega, cntD, show (r.toNat : Int) = r by omega]
theorem cntD_4 (g : Int → Int) (a : Int) : cntD g a 4 = cellS g a := by
  have he := efS_in (g := g) a
  unfold cellS cntD cntD cntD cntD cntD hrS
  obtain ⟨e, ee⟩ : ∃ e, e = eS g a := ⟨_, rfl⟩
  rw [← ee] at he ⊢
  rcases (show e = -1 ∨ e = 0 ∨ e = 1 by omega) with q | q | q <;> subst q <;> simp <;> omega
theorem cntD_in (g : Int → Int) (a : Int) (n : Nat) : 0 ≤ cntD g a n ∧ cntD g a n ≤ 8 * n := by
  have he := efS_in (g := g) a
  induction n with
  | zero => unfold cntD; omega
  | succ n ih => unfold cntD; split <;> omega

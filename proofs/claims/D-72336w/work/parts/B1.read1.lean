/-! READING: orders, lemmas -/
theorem taO_s {tx : Int → Int} {tl sg : Int} {n : Nat} {k p : Int} : taO tx tl sg (n + 1) k p ↔ okT tx tl (sgn k sg) p ∧ taO tx tl sg n (k + 1) (tkP tx tl (sgn k sg) p) := Iff.rfl
theorem taP_y {tx : Int → Int} {tl sg : Int} {n : Nat} {k p : Int} (h : okT tx tl (sgn k sg) p) : taP tx tl sg (n + 1) k p = taP tx tl sg n (k + 1) (tkP tx tl (sgn k sg) p) := by
  show @ite _ _ _ _ _ = _
  exact if_pos h
theorem taP_n {tx : Int → Int} {tl sg : Int} {n : Nat} {k p : Int} (h : ¬ okT tx tl (sgn k sg) p) : taP tx tl sg (n + 1) k p = tkP tx tl (sgn k sg) p := by
  show @ite _ _ _ _ _ = _
  exact if_neg h
theorem on_ok {tx : Int → Int} {tl c p : Int} (hc : c = 116 ∨ c = 97 ∨ c = 120) : sgO c = -1 ∧ (taO tx tl (sgO c) (nmO c).toNat 0 p ↔ okT tx tl 0 p) ∧ taP tx tl (sgO c) (nmO c).toNat 0 p = tkP tx tl 0 p := by
  have e1 : sgO c = -1 := by unfold sgO; rw [if_neg (by omega)]
  have e2 : (nmO c).toNat = 1 := by unfold nmO; rw [if_neg (by omega), if_neg (by omega), if_neg (by omega)]; rfl
  rw [e1, e2]
  refine ⟨rfl, ⟨fun h => h.1, fun h => ⟨h, trivial⟩⟩, ?_⟩
  by_cases h : okT tx tl 0 p
  · exact taP_y (sg := -1) (k := 0) h
  · exact taP_n (sg := -1) (k := 0) h
theorem mo_w {tx : Int → Int} {tl c p : Int} (hc : c = 119) : sgO c = -1 ∧ (taO tx tl (sgO c) (nmO c).toNat 0 p ↔ okT tx tl 0 p ∧ okT tx tl 0 (tkP tx tl 0 p)) ∧ taP tx tl (sgO c) (nmO c).toNat 0 p = if okT tx tl 0 p then tkP tx tl 0 (tkP tx tl 0 p) else tkP tx tl 0 p := by
  subst hc
  refine ⟨rfl, ⟨fun h => ⟨h.1, h.2.1⟩, fun h => ⟨h.1, h.2, trivial⟩⟩, ?_⟩
  show taP tx tl (-1) 2 0 p = _
  by_cases h : okT tx tl 0 p
  · rw [if_pos h, taP_y (sg := -1) (k := 0) h]
    by_cases h1 : okT tx tl 0 (tkP tx tl 0 p)
    · exact taP_y (sg := -1) (k := 0 + 1) h1
    · exact taP_n (sg := -1) (k := 0 + 1) h1
  · rw [if_neg h]; exact taP_n (sg := -1) (k := 0) h
theorem mo_3 {tx : Int → Int} {tl c p : Int} (hc : c = 115 ∨ c = 99) {s : Int} (hs : s = if c = 115 then 1 else 0) : (sgO c ≠ 0 ∧ sgO c ≠ 1 ∧ sgn 2 (sgO c) = s) ∧ (taO tx tl (sgO c) (nmO c).toNat 0 p ↔ okT tx tl 0 p ∧ okT tx tl 0 (tkP tx tl 0 p) ∧ okT tx tl s (tkP tx tl 0 (tkP tx tl 0 p))) ∧
    taP tx tl (sgO c) (nmO c).toNat 0 p = if okT tx tl 0 p then (if okT tx tl 0 (tkP tx tl 0 p) then tkP tx tl s (tkP tx tl 0 (tkP tx tl 0 p)) else tkP tx tl 0 (tkP tx tl 0 p)) else tkP tx tl 0 p := by
  have key : ∀ sg : Int, sg ≠ 0 → sg ≠ 1 → sgn 2 sg = s → (taO tx tl sg 3 0 p ↔ okT tx tl 0 p ∧ okT tx tl 0 (tkP tx tl 0 p) ∧ okT tx tl s (tkP tx tl 0 (tkP tx tl 0 p))) ∧
      taP tx tl sg 3 0 p = if okT tx tl 0 p then (if okT tx tl 0 (tkP tx tl 0 p) then tkP tx tl s (tkP tx tl 0 (tkP tx tl 0 p)) else tkP tx tl 0 (tkP tx tl 0 p)) else tkP tx tl 0 p := by
    intro sg h0 h1 h2
    have e0 : sgn 0 sg = 0 := if_neg (by omega)
    have e1 : sgn (0 + 1) sg = 0 := if_neg (by omega)
    have e2 : sgn (0 + 1 + 1) sg = s := h2
    constructor
    · rw [taO_s, taO_s, taO_s, e0, e1, e2]
      exact ⟨fun h => ⟨h.1, h.2.1, h.2.2.1⟩, fun h => ⟨h.1, h.2.1, h.2.2, trivial⟩⟩
    · by_cases a : okT tx tl 0 p
      · rw [if_pos a, taP_y (by rw [e0]; exact a), e0]
        by_cases b : okT tx tl 0 (tkP tx tl 0 p)
        · rw [if_pos b, taP_y (by rw [e1]; exact b), e1]
          by_cases d : okT tx tl s (tkP tx tl 0 (tkP tx tl 0 p))
          · rw [taP_y (by rw [e2]; exact d), e2]; rfl
          · rw [taP_n (by rw [e2]; exact d), e2]
        · rw [if_neg b, taP_n (by rw [e1]; exact b), e1]
      · rw [if_neg a, taP_n (by rw [e0]; exact a), e0]
  subst hs
  rcases hc with rfl | rfl
  · exact ⟨⟨by decide, by decide, rfl⟩, key 2 (by decide) (by decide) rfl⟩
  · exact ⟨⟨by decide, by decide, rfl⟩, key (-1) (by decide) (by decide) rfl⟩
theorem mo_p {tx : Int → Int} {tl c p : Int} (hc : c = 112) : sgO c = -1 ∧ (taO tx tl (sgO c) (nmO c).toNat 0 p ↔ okT tx tl 0 p ∧ okT tx tl 0 (tkP tx tl 0 p) ∧ okT tx tl 0 (tkP tx tl 0 (tkP tx tl 0 p)) ∧ okT tx tl 0 (tkP tx tl 0 (tkP tx tl 0 (tkP tx tl 0 p)))) ∧
    taP tx tl (sgO c) (nmO c).toNat 0 p = if okT tx tl 0 p then (if okT tx tl 0 (tkP tx tl 0 p) then (if okT tx tl 0 (tkP tx tl 0 (tkP tx tl 0 p)) then tkP tx tl 0 (tkP tx tl 0 (tkP tx tl 0 (tkP tx tl 0 p))) else tkP tx tl 0 (tkP tx tl 0 (tkP tx tl 0 p))) else tkP tx tl 0 (tkP tx tl 0 p)) else tkP tx tl 0 p := by
  subst hc
  refine ⟨rfl, ⟨fun h => ⟨h.1, h.2.1, h.2.2.1, h.2.2.2.1⟩, fun h => ⟨h.1, h.2.1, h.2.2.1, h.2.2.2, trivial⟩⟩, ?_⟩
  show taP tx tl (-1) 4 0 p = _
  by_cases a : okT tx tl 0 p
  · rw [if_pos a, taP_y (sg := -1) (k := 0) a]
    show taP tx tl (-1) 3 (0 + 1) (tkP tx tl 0 p) = _
    by_cases b : okT tx tl 0 (tkP tx tl 0 p)
    · rw [if_pos b, taP_y (sg := -1) (k := 0 + 1) b]
      show taP tx tl (-1) 2 (0 + 1 + 1) (tkP tx tl 0 (tkP tx tl 0 p)) = _
      by_cases d : okT tx tl 0 (tkP tx tl 0 (tkP tx tl 0 p))
      · rw [if_pos d, taP_y (sg := -1) (k := 0 + 1 + 1) d]
        show taP tx tl (-1) 1 (0 + 1 + 1 + 1) (tkP tx tl 0 (tkP tx tl 0 (tkP tx tl 0 p))) = _
        by_cases f : okT tx tl 0 (tkP tx tl 0 (tkP tx tl 0 (tkP tx tl 0 p)))
        · exact taP_y (sg := -1) (k := 0 + 1 + 1 + 1) f
        · exact taP_n (sg := -1) (k := 0 + 1 + 1 + 1) f
      · rw [if_neg d]; exact taP_n (sg := -1) (k := 0 + 1 + 1) d
    · rw [if_neg b]; exact taP_n (sg := -1) (k := 0 + 1) b
  · rw [if_neg a]; exact taP_n (sg := -1) (k := 0) a
theorem or_at {tx : Int → Int} {tl p : Int} (h : skS tx tl p = p) : orB tx tl p = p + 1 ∧ orC tx tl p = chA tx tl p := by
  unfold orB orC; rw [h]; exact ⟨rfl, rfl⟩

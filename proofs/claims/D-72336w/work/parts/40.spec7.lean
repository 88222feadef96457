/-! SPEC: the state stays in order; reading orders -/
theorem okS_mk {g : Int → Int} (h3 : 0 ≤ g 3 ∧ g 3 ≤ 6) (h0 : g 0 = 0 ∨ 12 ≤ g 0 ∧ g 0 ≤ 32) (h1 : 1 ≤ g 1 ∧ g 1 ≤ 126) (h2 : 0 ≤ g 2 ∧ g 2 ≤ 63) (hw : ∀ i, 4 ≤ i → i < 196 → 0 ≤ g i ∧ g i ≤ 63) (hp : ∀ k o, 0 ≤ k → k ≤ 5 → 0 ≤ o → o < 32 → 0 ≤ g (196 + 35 * k + o) ∧ g (196 + 35 * k + o) ≤ 63) (hs : ∀ k, 0 ≤ k → k < g 3 → (0 ≤ sh g k 0 ∧ sh g k 0 ≤ 31) ∧ (0 ≤ sh g k 1 ∧ sh g k 1 ≤ 2) ∧ 12 ≤ sh g k 2 ∧ sh g k 2 ≤ 32) : okS g := by
  refine ⟨h3, h0, h1, h2, hw, fun k r c a1 a2 a3 a4 a5 a6 => ?_, hs⟩
  have := hp k (8 * r + c) a1 a2 (by omega) (by omega)
  unfold pc
  rw [show 196 + 35 * k + 8 * r + c = 196 + 35 * k + (8 * r + c) by omega]
  exact this
theorem okS_po {g : Int → Int} (h : okS g) (k o : Int) (h1 : 0 ≤ k) (h2 : k ≤ 5) (h3 : 0 ≤ o) (h4 : o < 32) : 0 ≤ g (196 + 35 * k + o) ∧ g (196 + 35 * k + o) ≤ 63 := by
  have := h.pc k (o / 8) (o % 8) h1 h2 (by omega) (by omega) (by omega) (by omega)
  unfold pc at this
  rw [show 196 + 35 * k + 8 * (o / 8) + o % 8 = 196 + 35 * k + o by omega] at this
  exact this
theorem wv_in {s t : Int} (h : 0 ≤ s ∧ s ≤ 999999) : 0 ≤ wv s t ∧ wv s t ≤ 63 := by
  have := lcg_in h t.toNat
  unfold wv
  omega
theorem heldS_in (v : Int) : 0 ≤ heldS v ∧ heldS v ≤ 63 := by
  unfold heldS; (repeat' split) <;> omega
theorem okS_up {g : Int → Int} (h : okS g) {i v : Int} (hi : 4 ≤ i) (hi2 : i < 196 ∨ 196 ≤ i ∧ i < 406 ∧ (i - 196) % 35 < 32) (hv : 0 ≤ v ∧ v ≤ 63) : okS (fup g i v) := by
  have e : ∀ j, j < 4 → fup g i v j = g j := fun j hj => fup_n (by omega)
  refine okS_mk (by rw [e 3 (by omega)]; exact h.many) (by rw [e 0 (by omega)]; exact h.wide) (by rw [e 1 (by omega)]; exact h.ch) (by rw [e 2 (by omega)]; exact h.al) (fun j j1 j2 => ?_) (fun k o k1 k2 o1 o2 => ?_) (fun k k1 k2 => ?_)
  · unfold fup; split; exact hv; exact h.wo j j1 j2
  · unfold fup; split; exact hv; exact okS_po h k o k1 k2 o1 o2
  · rw [e 3 (by omega)] at k2
    have hm := h.many
    have a := h.sh k k1 k2
    unfold sh at a ⊢
    rw [fup_n (by omega), fup_n (by omega), fup_n (by omega)]
    exact a
theorem okS_set {g : Int → Int} (h : okS g) {i v : Int} (hi : i = 1 ∧ (1 ≤ v ∧ v ≤ 126) ∨ i = 2 ∧ (0 ≤ v ∧ v ≤ 63)) : okS (fup g i v) := by
  have e : ∀ j, j ≠ i → fup g i v j = g j := fun j hj => fup_n (by omega)
  refine okS_mk (by rw [e 3 (by omega)]; exact h.many) (by rw [e 0 (by omega)]; exact h.wide) (by unfold fup; split; omega; exact h.ch) (by unfold fup; split; omega; exact h.al) (fun j j1 j2 => ?_) (fun k o k1 k2 o1 o2 => ?_) (fun k k1 k2 => ?_)
  · rw [e j (by omega)]; exact h.wo j j1 j2
  · rw [e _ (by omega)]; exact okS_po h k o k1 k2 o1 o2
  · rw [e 3 (by omega)] at k2
    have a := h.sh k k1 k2
    unfold sh at a ⊢
    rw [e _ (by omega), e _ (by omega), e _ (by omega)]
    exact a
theorem okS_world {g : Int → Int} (h : okS g) {s q : Int} (hs : okWorld s q) : okS (worldS g s q) := by
  have e : ∀ j, j ≠ 0 → (j < 4 ∨ 196 ≤ j) → worldS g s q j = g j := fun j hj h2 => by unfold worldS; rw [if_neg hj, if_neg (by omega)]
  refine okS_mk (by rw [e 3 (by omega) (by omega)]; exact h.many) (by unfold worldS; rw [if_pos rfl]; omega) (by rw [e 1 (by omega) (by omega)]; exact h.ch) (by rw [e 2 (by omega) (by omega)]; exact h.al) (fun j j1 j2 => ?_) (fun k o k1 k2 o1 o2 => ?_) (fun k k1 k2 => ?_)
  · unfold worldS; rw [if_neg (by omega)]; split; exact wv_in hs.1; exact h.wo j j1 j2
  · rw [e _ (by omega) (by omega)]; exact okS_po h k o k1 k2 o1 o2
  · rw [e 3 (by omega) (by omega)] at k2
    have a := h.sh k k1 k2
    unfold sh at a ⊢
    rw [e _ (by omega) (by omega), e _ (by omega) (by omega), e _ (by omega) (by omega)]
    exact a
theorem okS_shot {g : Int → Int} (h : okS g) {x y d : Int} (hs : canS g x y d = 0) : okS (shotS g x y d) := by
  have hm := h.many
  have hw := h.wide
  have hc : ((0 ≤ x ∧ x ≤ g 0 - 1) ∧ (0 ≤ y ∧ y ≤ 2) ∧ -20 ≤ d ∧ d ≤ 20) ∧ g 3 ≠ 6 := by
    unfold canS at hs
    split at hs
    · omega
    · split at hs
      · omega
      · exact ⟨by omega, by assumption⟩
  have e : ∀ j, j ≠ 3 → (j < 196 + 35 * g 3 ∨ 196 + 35 * g 3 + 35 ≤ j) → shotS g x y d j = g j := fun j hj h2 => by
    unfold shotS; rw [if_neg hj, if_neg (by omega), if_neg (by omega), if_neg (by omega), if_neg (by omega)]
  have e3 : shotS g x y d 3 = g 3 + 1 := by unfold shotS; rw [if_pos rfl]
  refine okS_mk (by rw [e3]; omega) (by rw [e 0 (by omega) (by omega)]; exact h.wide) (by rw [e 1 (by omega) (by omega)]; exact h.ch) (by rw [e 2 (by omega) (by omega)]; exact h.al) (fun j j1 j2 => ?_) (fun k o k1 k2 o1 o2 => ?_) (fun k k1 k2 => ?_)
  · rw [e j (by omega) (by omega)]; exact h.wo j j1 j2
  · by_cases hk : k = g 3
    · unfold shotS; rw [if_neg (by omega), if_pos (by omega)]; exact heldS_in _
    · rw [e _ (by omega) (by omega)]; exact okS_po h k o k1 k2 o1 o2
  · rw [e3] at k2
    by_cases hk : k = g 3
    · subst hk
      unfold sh shotS
      rw [if_neg (by omega), if_neg (by omega), if_pos (by omega), if_neg (by omega), if_neg (by omega), if_neg (by omega), if_pos (by omega), if_neg (by omega), if_neg (by omega), if_neg (by omega), if_neg (by omega), if_pos (by omega)]
      omega
    · have a := h.sh k k1 (by omega)
      unfold sh at a ⊢
      rw [e _ (by omega) (by omega), e _ (by omega) (by omega), e _ (by omega) (by omega)]
      exact a
theorem okS_drop {g : Int → Int} (h : okS g) {k0 : Int} (hs : okPic g k0) : okS (dropS g k0) := by
  have hm := h.many
  have e : ∀ j, j ≠ 3 → j < 196 → dropS g k0 j = g j := fun j hj h2 => by
    unfold dropS; rw [if_neg hj, if_neg (by omega)]
  have e3 : dropS g k0 3 = g 3 - 1 := by unfold dropS; rw [if_pos rfl]
  have ek : ∀ k o, 0 ≤ k → k ≤ 5 → 0 ≤ o → o < 35 → dropS g k0 (196 + 35 * k + o) = if k0 ≤ k ∧ k < g 3 - 1 then g (196 + 35 * (k + 1) + o) else g (196 + 35 * k + o) := by
    intro k o k1 k2 o1 o2
    unfold dropS
    rw [if_neg (by omega)]
    by_cases c : k0 ≤ k ∧ k < g 3 - 1
    · rw [if_pos (by omega), if_pos c]; congr 1; omega
    · rw [if_neg (by omega), if_neg c]
  refine okS_mk (by rw [e3]; omega) (by rw [e 0 (by omega) (by omega)]; exact h.wide) (by rw [e 1 (by omega) (by omega)]; exact h.ch) (by rw [e 2 (by omega) (by omega)]; exact h.al) (fun j j1 j2 => ?_) (fun k o k1 k2 o1 o2 => ?_) (fun k k1 k2 => ?_)
  · rw [e j (by omega) (by omega)]; exact h.wo j j1 j2
  · rw [ek k o k1 k2 o1 (by omega)]
    split
    · exact okS_po h _ _ (by omega) (by omega) o1 o2
    · exact okS_po h k o k1 k2 o1 o2
  · rw [e3] at k2
    have a := h.sh k k1 (by omega)
    have a2 := h.sh (k + 1)
    unfold sh at a a2 ⊢
    rw [show ∀ w, 196 + 35 * k + 32 + w = 196 + 35 * k + (32 + w) by intro w; omega] at a ⊢
    rw [show ∀ w, 196 + 35 * (k + 1) + 32 + w = 196 + 35 * (k + 1) + (32 + w) by intro w; omega] at a2
    rw [show 196 + 35 * k + 32 + 1 = 196 + 35 * k + (32 + 1) by omega, show 196 + 35 * k + 32 + 2 = 196 + 35 * k + (32 + 2) by omega] at a ⊢
    rw [show 196 + 35 * (k + 1) + 32 + 1 = 196 + 35 * (k + 1) + (32 + 1) by omega, show 196 + 35 * (k + 1) + 32 + 2 = 196 + 35 * (k + 1) + (32 + 2) by omega] at a2
    rw [ek _ _ k1 (by omega) (by omega) (by omega), ek _ _ k1 (by omega) (by omega) (by omega), ek _ _ k1 (by omega) (by omega) (by omega)]
    split
    · exact a2 (by omega) (by omega)
    · exact a
theorem okS_do {g : Int → Int} (h : okS g) {c a b d v : Int} (hc : okC c) (h0 : canO g c a b d v = 0) : okS (doO g c a b d v) := by
  have hm := h.many
  have hw := h.wide
  unfold canO at h0
  unfold doO
  split at h0
  · rename_i q; rw [if_pos q]
    split at h0
    · rename_i z; exact okS_world h z
    · omega
  · rename_i q0; rw [if_neg q0]
    split at h0
    · rename_i q; rw [if_pos q]; exact okS_shot h h0
    · rename_i q1; rw [if_neg q1]
      split at h0
      · rename_i q; rw [if_neg (by omega), if_pos q]
        split at h0
        · rename_i z; have q5 : 0 ≤ 8 * b + d ∧ 8 * b + d < 32 := by omega
          have q6 : (196 + 35 * a + 8 * b + d - 196) % 35 < 32 := by
            rw [show 196 + 35 * a + 8 * b + d - 196 = (8 * b + d) + 35 * a by omega, Int.add_mul_emod_self_left]
            generalize 8 * b + d = o at q5 ⊢
            omega
          exact okS_up h (by omega) (Or.inr ⟨by omega, by omega, q6⟩) z.2.2
        · omega
      · rename_i q2
        split at h0
        · rename_i q; rw [if_neg (by omega), if_neg q2, if_pos q]
          split at h0
          · rename_i z; exact okS_up h (by omega) (by omega) z.2
          · omega
        · rename_i q3
          split at h0
          · rename_i q; rw [if_neg (by omega), if_neg q2, if_neg q3, if_pos q]
            split at h0
            · exact okS_set h (by omega)
            · omega
          · rename_i q4
            split at h0
            · rename_i q; rw [if_neg (by omega), if_neg q2, if_neg q3, if_neg q4]
              split at h0
              · exact okS_set h (by omega)
              · omega
            · split at h0
              · rename_i z; rw [if_pos (by omega)]; exact okS_drop h z
              · omega
/-- the orders, read: where one stands wrong, or -1 -/
noncomputable def psF (tx : Int → Int) (tl p : Int) : Int := @dite _ (orO tx tl p ∧ p < orP tx tl p ∧ orP tx tl p ≤ tl) (Classical.propDecidable _) (fun _ => if chA tx tl (skS tx tl (orP tx tl p)) = -1 then -1 else psF tx tl (orP tx tl p)) (fun _ => orP tx tl p)
termination_by (tl - p).toNat
decreasing_by rename_i h; omega
/-- the orders, done: how many were, the refusal that stopped them or 0, the state behind -/
noncomputable def exF (tx : Int → Int) (tl p : Int) (g : Int → Int) (k : Int) : Int × Int × (Int → Int) := if chA tx tl (skS tx tl p) = -1 then (k, 0, g) else if canO g (orC tx tl p) (orV tx tl p 0) (orV tx tl p 1) (orV tx tl p 2) (orV tx tl p 3) = 0 then (@dite _ (p < orP tx tl p ∧ orP tx tl p ≤ tl) (Classical.propDecidable _) (fun _ => exF tx tl (orP tx tl p) (doO g (orC tx tl p) (orV tx tl p 0) (orV tx tl p 1) (orV tx tl p 2) (orV tx tl p 3)) (k + 1)) (fun _ => (k, 0, g))) else (k, canO g (orC tx tl p) (orV tx tl p 0) (orV tx tl p 1) (orV tx tl p 2) (orV tx tl p 3), g)
termination_by (tl - p).toNat
decreasing_by rename_i h; omega
theorem psF_y {tx : Int → Int} {tl p : Int} (hp : p ≤ tl) (h : orO tx tl p) : psF tx tl p = if chA tx tl (skS tx tl (orP tx tl p)) = -1 then -1 else psF tx tl (orP tx tl p) := by
  have := orP_in (tx := tx) hp
  rw [psF, dif_pos ⟨h, this.2.2 h, this.2.1⟩]
theorem psF_n {tx : Int → Int} {tl p : Int} (h : ¬ orO tx tl p) : psF tx tl p = orP tx tl p := by
  rw [psF, dif_neg (fun q => h q.1)]
theorem exF_0 {tx : Int → Int} {tl p : Int} {g : Int → Int} {k : Int} (h : chA tx tl (skS tx tl p) = -1) : exF tx tl p g k = (k, 0, g) := by
  rw [exF, if_pos h]
theorem exF_y {tx : Int → Int} {tl p : Int} {g : Int → Int} {k : Int} (h : ¬ chA tx tl (skS tx tl p) = -1) (hp : p ≤ tl) (ho : orO tx tl p) (hc : canO g (orC tx tl p) (orV tx tl p 0) (orV tx tl p 1) (orV tx tl p 2) (orV tx tl p 3) = 0) : exF tx tl p g k = exF tx tl (orP tx tl p) (doO g (orC tx tl p) (orV tx tl p 0) (orV tx tl p 1) (orV tx tl p 2) (orV tx tl p 3)) (k + 1) := by
  have := orP_in (tx := tx) hp
  rw [exF, if_neg h, if_pos hc, dif_pos ⟨this.2.2 ho, this.2.1⟩]
theorem exF_n {tx : Int → Int} {tl p : Int} {g : Int → Int} {k : Int} (h : ¬ chA tx tl (skS tx tl p) = -1) (hc : ¬ canO g (orC tx tl p) (orV tx tl p 0) (orV tx tl p 1) (orV tx tl p 2) (orV tx tl p 3) = 0) : exF tx tl p g k = (k, canO g (orC tx tl p) (orV tx tl p 0) (orV tx tl p 1) (orV tx tl p 2) (orV tx tl p 3), g) := by
  rw [exF, if_neg h, if_neg hc]
theorem orC_sk (tx : Int → Int) (tl p : Int) : orC tx tl (skS tx tl p) = orC tx tl p := by unfold orC; rw [skS_sk]
theorem orB_sk (tx : Int → Int) (tl p : Int) : orB tx tl (skS tx tl p) = orB tx tl p := by unfold orB; rw [skS_sk]
theorem orT_sk (tx : Int → Int) (tl p : Int) : orT tx tl (skS tx tl p) = orT tx tl p := by unfold orT; rw [orC_sk, orB_sk]
theorem orO_sk (tx : Int → Int) (tl p : Int) : orO tx tl (skS tx tl p) = orO tx tl p := by unfold orO; rw [orT_sk, orC_sk, orB_sk]
theorem orP_sk (tx : Int → Int) (tl p : Int) : orP tx tl (skS tx tl p) = orP tx tl p := by unfold orP; rw [orT_sk, orC_sk, orB_sk, skS_sk]
theorem orV_sk (tx : Int → Int) (tl p j : Int) : orV tx tl (skS tx tl p) j = orV tx tl p j := by unfold orV; rw [orC_sk, orB_sk]
theorem psF_sk (tx : Int → Int) (tl p : Int) (hp : p ≤ tl) : psF tx tl (skS tx tl p) = psF tx tl p := by
  have := skS_in tx tl p
  by_cases h : orO tx tl p
  · rw [psF_y hp h, psF_y (by omega) (by rw [orO_sk]; exact h), orP_sk]
  · rw [psF_n h, psF_n (by rw [orO_sk]; exact h), orP_sk]
theorem exF_sk (tx : Int → Int) (tl p : Int) (g : Int → Int) (k : Int) : (chA tx tl (skS tx tl (skS tx tl p)) = -1) = (chA tx tl (skS tx tl p) = -1) := by rw [skS_sk]
/-- only its own numbers matter to an order -/
theorem canO_e {g : Int → Int} {c : Int} {f f2 : Int → Int} (h : ∀ j, 0 ≤ j → j < nmO c → f j = f2 j) : canO g c (f 0) (f 1) (f 2) (f 3) = canO g c (f2 0) (f2 1) (f2 2) (f2 3) := by
  unfold nmO at h
  unfold canO
  by_cases q1 : c = 119
  · rw [if_pos q1, if_pos q1, h 0 (by omega) (by rw [if_pos q1]; omega), h 1 (by omega) (by rw [if_pos q1]; omega)]
  · rw [if_neg q1, if_neg q1]
    by_cases q2 : c = 115
    · have e : ∀ j, 0 ≤ j → j < 3 → f j = f2 j := fun j a b => h j a (by rw [if_neg q1, if_pos (by omega)]; exact b)
      rw [if_pos q2, if_pos q2, e 0 (by omega) (by omega), e 1 (by omega) (by omega), e 2 (by omega) (by omega)]
    · rw [if_neg q2, if_neg q2]
      by_cases q3 : c = 112
      · have e : ∀ j, 0 ≤ j → j < 4 → f j = f2 j := fun j a b => h j a (by rw [if_neg q1, if_neg (by omega), if_pos q3]; exact b)
        rw [if_pos q3, if_pos q3, e 0 (by omega) (by omega), e 1 (by omega) (by omega), e 2 (by omega) (by omega), e 3 (by omega) (by omega)]
      · rw [if_neg q3, if_neg q3]
        by_cases q4 : c = 99
        · have e : ∀ j, 0 ≤ j → j < 3 → f j = f2 j := fun j a b => h j a (by rw [if_neg q1, if_pos (by omega)]; exact b)
          rw [if_pos q4, if_pos q4, e 0 (by omega) (by omega), e 1 (by omega) (by omega), e 2 (by omega) (by omega)]
        · rw [if_neg q4, if_neg q4, h 0 (by omega) (by rw [if_neg q1, if_neg (by omega), if_neg q3]; omega)]
theorem doO_e {g : Int → Int} {c : Int} {f f2 : Int → Int} (h : ∀ j, 0 ≤ j → j < nmO c → f j = f2 j) : doO g c (f 0) (f 1) (f 2) (f 3) = doO g c (f2 0) (f2 1) (f2 2) (f2 3) := by
  unfold nmO at h
  unfold doO
  by_cases q1 : c = 119
  · rw [if_pos q1, if_pos q1, h 0 (by omega) (by rw [if_pos q1]; omega), h 1 (by omega) (by rw [if_pos q1]; omega)]
  · rw [if_neg q1, if_neg q1]
    by_cases q2 : c = 115
    · have e : ∀ j, 0 ≤ j → j < 3 → f j = f2 j := fun j a b => h j a (by rw [if_neg q1, if_pos (by omega)]; exact b)
      rw [if_pos q2, if_pos q2, e 0 (by omega) (by omega), e 1 (by omega) (by omega), e 2 (by omega) (by omega)]
    · rw [if_neg q2, if_neg q2]
      have e0 : f 0 = f2 0 := h 0 (by omega) (by (repeat' split) <;> omega)
      by_cases q3 : c = 112
      · have e : ∀ j, 0 ≤ j → j < 4 → f j = f2 j := fun j a b => h j a (by rw [if_neg q1, if_neg (by omega), if_pos q3]; exact b)
        rw [e0, e 1 (by omega) (by omega), e 2 (by omega) (by omega), e 3 (by omega) (by omega)]
      · by_cases q4 : c = 99
        · have e : ∀ j, 0 ≤ j → j < 3 → f j = f2 j := fun j a b => h j a (by rw [if_neg q1, if_pos (by omega)]; exact b)
          rw [e0, if_neg q3, if_neg q3, e 1 (by omega) (by omega), e 2 (by omega) (by omega)]
        · rw [e0, if_neg q3, if_neg q3, if_neg q4, if_neg q4]
noncomputable def readsV (g tx : Int → Int) (tl : Int) : Int := if psF tx tl 0 = -1 then (if (exF tx tl 0 g 0).2.1 = 0 then (exF tx tl 0 g 0).1 else -1000 - (exF tx tl 0 g 0).1) else -10 - psF tx tl 0
noncomputable def readsG (g tx : Int → Int) (tl : Int) : Int → Int := if psF tx tl 0 = -1 ∧ (exF tx tl 0 g 0).2.1 = 0 then (exF tx tl 0 g 0).2.2 else g
noncomputable def readsK (g tx : Int → Int) (tl ck : Int) : Int := if psF tx tl 0 = -1 ∧ ¬ (exF tx tl 0 g 0).2.1 = 0 then -(exF tx tl 0 g 0).2.1 else ck
noncomputable def readsO (g tx : Int → Int) (tl co : Int) : Int := if psF tx tl 0 = -1 ∧ ¬ (exF tx tl 0 g 0).2.1 = 0 then (exF tx tl 0 g 0).1 else co
theorem orT_in {tx : Int → Int} {tl p : Int} (hC : okC (orC tx tl p)) : skS tx tl p < tl ∧ orB tx tl p ≤ tl ∧ 0 ≤ p → True := fun _ => trivial
theorem orC_lt {tx : Int → Int} {tl p : Int} (q : okC (orC tx tl p)) : skS tx tl p < tl := by
  unfold orC chA at q
  by_cases z : skS tx tl p < tl
  · exact z
  · rw [if_neg z] at q; omega
theorem nmO_in (c : Int) : (1 ≤ nmO c ∧ nmO c ≤ 4) ∧ (c = 119 → nmO c = 2) ∧ (c = 115 → nmO c = 3) ∧ (c = 99 → nmO c = 3) ∧ (c = 112 → nmO c = 4) := by
  unfold nmO
  (repeat' split) <;> omega
theorem sgO_in (c : Int) : sgO c = 2 ∨ sgO c = -1 := by
  unfold sgO; split <;> omega
theorem chA_in {tx : Int → Int} {tl p : Int} (h : ∀ i, 0 ≤ i → i < tl → 0 ≤ tx i ∧ tx i ≤ 127) (hp : 0 ≤ p) : -1 ≤ chA tx tl p ∧ chA tx tl p ≤ 127 := by
  unfold chA
  split
  · have := h p hp (by assumption); omega
  · omega
theorem orP_n1 {tx : Int → Int} {tl p : Int} (h : ¬ okC (orC tx tl p)) : orP tx tl p = skS tx tl p := by unfold orP; rw [if_neg h]
theorem orP_n2 {tx : Int → Int} {tl p : Int} (h : okC (orC tx tl p)) (h2 : ¬ taO tx tl (sgO (orC tx tl p)) (nmO (orC tx tl p)).toNat 0 (orB tx tl p)) : orP tx tl p = orT tx tl p := by unfold orP; rw [if_pos h, if_neg h2]
theorem orP_n3 {tx : Int → Int} {tl p : Int} (h : okC (orC tx tl p)) (h2 : taO tx tl (sgO (orC tx tl p)) (nmO (orC tx tl p)).toNat 0 (orB tx tl p)) (h3 : ¬ chA tx tl (skS tx tl (orT tx tl p)) = 59) : orP tx tl p = skS tx tl (orT tx tl p) := by unfold orP; rw [if_pos h, if_pos h2, if_neg h3]
theorem orP_y {tx : Int → Int} {tl p : Int} (h : okC (orC tx tl p)) (h2 : taO tx tl (sgO (orC tx tl p)) (nmO (orC tx tl p)).toNat 0 (orB tx tl p)) (h3 : chA tx tl (skS tx tl (orT tx tl p)) = 59) : orP tx tl p = skS tx tl (orT tx tl p) + 1 := by unfold orP; rw [if_pos h, if_pos h2, if_pos h3]
theorem exF_in {tx : Int → Int} {tl : Int} (n : Nat) : ∀ (p : Int) (g : Int → Int) (k : Int), (tl - p).toNat ≤ n → 0 ≤ k → k ≤ p → p ≤ tl → 0 ≤ (exF tx tl p g k).1 ∧ (exF tx tl p g k).1 ≤ tl ∧ ((exF tx tl p g k).2.1 = 0 ∨ (exF tx tl p g k).2.1 = -2 ∨ (exF tx tl p g k).2.1 = -4) := by
  induction n with
  | zero =>
    intro p g k hn h1 h2 h3
    rw [exF]
    split
    · exact ⟨h1, by show k ≤ tl; omega, Or.inl rfl⟩
    · split
      · rw [dif_neg (by omega)]; exact ⟨h1, by show k ≤ tl; omega, Or.inl rfl⟩
      · exact ⟨h1, by show k ≤ tl; omega, canO_in _ _ _ _ _ _⟩
  | succ n ih =>
    intro p g k hn h1 h2 h3
    rw [exF]
    split
    · exact ⟨h1, by show k ≤ tl; omega, Or.inl rfl⟩
    · split
      · by_cases q : p < orP tx tl p ∧ orP tx tl p ≤ tl
        · rw [dif_pos q]; exact ih _ _ _ (by omega) (by omega) (by omega) q.2
        · rw [dif_neg q]; exact ⟨h1, by show k ≤ tl; omega, Or.inl rfl⟩
      · exact ⟨h1, by show k ≤ tl; omega, canO_in _ _ _ _ _ _⟩
theorem psF_in {tx : Int → Int} {tl : Int} (n : Nat) : ∀ (p : Int), (tl - p).toNat ≤ n → 0 ≤ p → p ≤ tl → psF tx tl p = -1 ∨ 0 ≤ psF tx tl p ∧ psF tx tl p ≤ tl := by
  induction n with
  | zero =>
    intro p hn h1 h2
    have h3 := orP_in (tx := tx) h2
    rw [psF, dif_neg (by omega)]
    omega
  | succ n ih =>
    intro p hn h1 h2
    have h3 := orP_in (tx := tx) h2
    rw [psF]
    by_cases q : orO tx tl p ∧ p < orP tx tl p ∧ orP tx tl p ≤ tl
    · rw [dif_pos q]
      split
      · exact Or.inl rfl
      · exact ih _ (by omega) (by omega) (by omega)
    · rw [dif_neg q]
      omega
theorem doO_out {g : Int → Int} (h : okS g) {c a b d v : Int} (hc : okC c) (h0 : canO g c a b d v = 0) (j : Int) (hj : ¬ (0 ≤ j ∧ j < 406)) : doO g c a b d v j = g j := by
  have hm := h.many
  have hw := h.wide
  unfold canO at h0
  unfold doO
  by_cases q1 : c = 119
  · rw [if_pos q1]; unfold worldS; rw [if_neg (by omega), if_neg (by omega)]
  · rw [if_neg q1] at h0 ⊢
    by_cases q2 : c = 115
    · rw [if_pos q2] at h0 ⊢
      have h6 : ¬ g 3 = 6 := by
        intro e; unfold canS at h0; (repeat' split at h0) <;> omega
      unfold shotS; rw [if_neg (by omega), if_neg (by omega), if_neg (by omega), if_neg (by omega), if_neg (by omega)]
    · rw [if_neg q2] at h0 ⊢
      by_cases q3 : c = 120
      · rw [if_pos q3]
        rw [if_neg (by omega), if_neg (by omega), if_neg (by omega), if_neg (by omega)] at h0
        split at h0
        · unfold dropS; rw [if_neg (by omega), if_neg (by omega)]
        · omega
      · rw [if_neg q3]
        by_cases q4 : c = 112
        · rw [if_pos q4] at h0 ⊢
          split at h0
          · exact fup_n (by omega)
          · omega
        · rw [if_neg q4] at h0 ⊢
          by_cases q5 : c = 99
          · rw [if_pos q5] at h0 ⊢
            split at h0
            · exact fup_n (by omega)
            · omega
          · rw [if_neg q5]
            split <;> exact fup_n (by omega)
theorem keepP_e {f g g2 : Int → Int} {n : Int} (h : ∀ j, 0 ≤ j → j < 406 → g j = g2 j) : keepP f g n = keepP f g2 n := by
  have e5 : ∀ (P : Int → Int) n, putP P g n = putP P g2 n := by
    intro P n; funext j; unfold putP; split
    · exact h _ (by omega) (by omega)
    · rfl
  unfold keepP; rw [e5, e5]

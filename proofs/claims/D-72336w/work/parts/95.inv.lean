/-! THE OTHER SIDE's STATE -/
section INV
variable {G : wa_G} {ad : Nat → Nat} {w u : wa_W} {S S2 : Nat → Int} {A A2 : Nat → Int → Int} {B B2 : Nat → Int → Option Nat} {P P2 : Nat → Option Nat} {g g2 : Int → Int}
/-- the seams of the first m pictures -/
def SM (G : wa_G) (ad : Nat → Nat) (w : wa_W) (b : Int → Option Nat) (g : Int → Int) (m : Int) : Prop := ∀ x : Int, 0 ≤ x → x < m → (foS g x = -1 ∧ b x = none) ∨ (¬ foS g x = -1 ∧ ∃ (q : Nat) (row : Int → Int), b x = some q ∧ Lc ad w q (eI G 4 row) ∧ ∀ i, 0 ≤ i → i ≤ 3 → row i = smS g x i)
theorem SM.kp {b : Int → Option Nat} {m : Int} (h : SM G ad w b g m) (k : Kp ad w u) : SM G ad u b g m := fun x h0 h1 => by
  rcases h x h0 h1 with q | ⟨q1, q, row, q2, q3, q4⟩
  · exact Or.inl q
  · exact Or.inr ⟨q1, q, row, q2, q3.kp k, q4⟩
theorem SM.nil {b : Int → Option Nat} : SM G ad w b g 0 := fun x h0 h1 => by omega
theorem SM.put {b : Int → Option Nat} {m : Int} {q : Nat} {row : Int → Int} (h : SM G ad w b g m) (hf : ¬ foS g m = -1) (hq : Lc ad w q (eI G 4 row)) (hr : ∀ i, 0 ≤ i → i ≤ 3 → row i = smS g m i) : SM G ad w (fupR b m (some q)) g (m + 1) := fun x h0 h1 => by
  by_cases e : x = m
  · subst e; rw [fupR_s]; exact Or.inr ⟨hf, q, row, rfl, hq, hr⟩
  · rw [fupR_n e]; exact h x h0 (by omega)
theorem SM.putN {b : Int → Option Nat} {m : Int} (h : SM G ad w b g m) (hf : foS g m = -1) : SM G ad w (fupR b m none) g (m + 1) := fun x h0 h1 => by
  by_cases e : x = m
  · subst e; rw [fupR_s]; exact Or.inl ⟨hf, rfl⟩
  · rw [fupR_n e]; exact h x h0 (by omega)
theorem SM.is {b : Int → Option Nat} {m x : Int} (h : SM G ad w b g m) (h0 : 0 ≤ x) (h1 : x < m) (hf : ¬ foS g x = -1) : ∃ (q : Nat) (row : Int → Int), b x = some q ∧ Lc ad w q (eI G 4 row) ∧ ∀ i, 0 ≤ i → i ≤ 3 → row i = smS g x i :=
  ((h x h0 h1).resolve_left fun q => hf q.1).2
theorem SM.no {b : Int → Option Nat} {m x : Int} (h : SM G ad w b g m) (h0 : 0 ≤ x) (h1 : x < m) (hf : foS g x = -1) : b x = none := by
  rcases h x h0 h1 with q | q
  · exact q.2
  · exact absurd hf q.1
/-- what the joiner has found -/
def JR (G : wa_G) (ad : Nat → Nat) (w : wa_W) (S : Nat → Int) (A : Nat → Int → Int) (B : Nat → Int → Option Nat) (P : Nat → Option Nat) (g : Int → Int) : Prop := JC ad w S P g (g 3) ∧ CH ad w S A B g ∧ SM G ad w (B 3) g 6 ∧ LV ad w (B 4) g (fun _ => True) ∧ RS ad w P g
theorem JR.kp (h : JR G ad w S A B P g) (k : Kp ad w u) : JR G ad u S A B P g := ⟨h.1.kp k, h.2.1.kp k, h.2.2.1.kp k, h.2.2.2.1.kp k, h.2.2.2.2.kp k⟩
theorem JR.cg (h : JR G ad w S A B P g) (hg : 0 ≤ g 3 ∧ g 3 ≤ 6) (eS : ∀ j, (5 ≤ j ∧ j ≤ 8) ∨ (40 ≤ j ∧ j < 46) → S2 j = S j) (eA : A2 3 = A 3) (eB : ∀ j, j = 1 ∨ j = 3 ∨ j = 4 → B2 j = B j) (eP : ∀ j, j = 0 ∨ (20 ≤ j ∧ j < 26) → P2 j = P j) : JR G ad w S2 A2 B2 P2 g :=
  ⟨h.1.cg fun k h0 h1 => ⟨eS _ (by omega), eP _ (by omega)⟩, h.2.1.cg (eB 1 (by omega)) eA (fun k h0 h1 => eS k (by omega)), by rw [eB 3 (by omega)]; exact h.2.2.1, by rw [eB 4 (by omega)]; exact h.2.2.2.1, h.2.2.2.2.cg (eP 0 (by omega))⟩
/-- old, or found -/
def XJ (G : wa_G) (ad : Nat → Nat) (w : wa_W) (S : Nat → Int) (A : Nat → Int → Int) (B : Nat → Int → Option Nat) (P : Nat → Option Nat) (g : Int → Int) : Prop := (S 4 = 0 ∨ S 4 = 1) ∧ (S 4 = 0 → JR G ad w S A B P g)
theorem XJ.kp (h : XJ G ad w S A B P g) (k : Kp ad w u) : XJ G ad u S A B P g := ⟨h.1, fun e => (h.2 e).kp k⟩
theorem XJ.cg (h : XJ G ad w S A B P g) (hg : 0 ≤ g 3 ∧ g 3 ≤ 6) (eS : ∀ j, (4 ≤ j ∧ j ≤ 8) ∨ (40 ≤ j ∧ j < 46) → S2 j = S j) (eA : A2 3 = A 3) (eB : ∀ j, j = 1 ∨ j = 3 ∨ j = 4 → B2 j = B j) (eP : ∀ j, j = 0 ∨ (20 ≤ j ∧ j < 26) → P2 j = P j) : XJ G ad w S2 A2 B2 P2 g :=
  ⟨by rw [eS 4 (by omega)]; exact h.1, fun e => (h.2 (by rw [← eS 4 (by omega)]; exact e)).cg hg (fun j q => eS j (by omega)) eA eB eP⟩
theorem XJ.old (h : S 4 = 1) : XJ G ad w S A B P g := ⟨Or.inr h, fun e => by omega⟩
/-- state s is g -/
def ST (G : wa_G) (ad : Nat → Nat) (w : wa_W) (S : Nat → Int) (A : Nat → Int → Int) (B : Nat → Int → Option Nat) (P : Nat → Option Nat) (s : Nat) (g : Int → Int) : Prop := (S (20 + s) = g 0 ∧ S (30 + s) = g 3) ∧ (A (10 + s) 0 = g 1 ∧ A (10 + s) 1 = g 2) ∧ PX G ad w (B (10 + s)) g ∧ PCS ad w (B (10 + s)) ∧ (g 0 = 0 ∨ ∃ (a : Nat) (f : Int → Int), P (10 + s) = some a ∧ Lc ad w a (eI G (6 * g 0).toNat f) ∧ ∀ r c, 0 ≤ r → r ≤ 5 → 0 ≤ c → c < g 0 → f (6 * c + r) = g (4 + 32 * r + c))
theorem ST.kp {s : Nat} (h : ST G ad w S A B P s g) (k : Kp ad w u) : ST G ad u S A B P s g := by
  obtain ⟨h1, h2, h3, h4, h5⟩ := h
  exact ⟨h1, h2, h3.kp k, h4.kp k, h5.elim Or.inl fun ⟨a, f, e1, e2, e3⟩ => Or.inr ⟨a, f, e1, e2.kp k, e3⟩⟩
theorem ST.cg {s s2 : Nat} (h : ST G ad w S A B P s g) (e1 : S2 (20 + s2) = S (20 + s)) (e2 : S2 (30 + s2) = S (30 + s)) (e3 : ∀ i, 0 ≤ i → i ≤ 1 → A2 (10 + s2) i = A (10 + s) i) (e4 : ∀ i, 0 ≤ i → i < 6 → B2 (10 + s2) i = B (10 + s) i) (e4' : PCS ad w (B2 (10 + s2))) (e5 : P2 (10 + s2) = P (10 + s)) (hm : g 3 ≤ 6) : ST G ad w S2 A2 B2 P2 s2 g := by
  obtain ⟨h1, h2, h3, h4, h5⟩ := h
  refine ⟨⟨e1.trans h1.1, e2.trans h1.2⟩, ⟨(e3 0 (by decide) (by decide)).trans h2.1, (e3 1 (by decide) (by decide)).trans h2.2⟩, fun k k0 k1 => ?_, e4', by rw [e5]; exact h5⟩
  rw [e4 k k0 (by omega)]; exact h3 k k0 k1
theorem ST.cg0 {s : Nat} (h : ST G ad w S A B P s g) (e1 : S2 (20 + s) = S (20 + s)) (e2 : S2 (30 + s) = S (30 + s)) (e3 : A2 (10 + s) = A (10 + s)) (e4 : B2 (10 + s) = B (10 + s)) (e5 : P2 (10 + s) = P (10 + s)) : ST G ad w S2 A2 B2 P2 s g := by
  obtain ⟨h1, h2, h3, h4, h5⟩ := h
  exact ⟨⟨e1.trans h1.1, e2.trans h1.2⟩, by rw [e3]; exact h2, by rw [e4]; exact h3, by rw [e4]; exact h4, by rw [e5]; exact h5⟩
theorem PX.gx {b : Int → Option Nat} (h : PX G ad w b g) (e : ∀ i, 0 ≤ i → i < 406 → g2 i = g i) (hm : g 3 ≤ 6) : PX G ad w b g2 := fun k k0 k1 => by
  rw [e 3 (by decide) (by decide)] at k1
  obtain ⟨p, c, f, h1, h2, h3⟩ := h k k0 k1
  have es : ∀ j, 0 ≤ j → j ≤ 2 → sh g2 k j = sh g k j := fun j j0 j1 => e _ (by omega) (by omega)
  exact ⟨p, c, f, h1, by rw [es 0 (by decide) (by decide), es 1 (by decide) (by decide), es 2 (by decide) (by decide)]; exact h2, fun r d r0 r1 d0 d1 => (h3 r d r0 r1 d0 d1).trans (e _ (by omega) (by omega)).symm⟩
theorem ST.gx {s : Nat} (h : ST G ad w S A B P s g) (e : ∀ i, 0 ≤ i → i < 406 → g2 i = g i) (hm : g 3 ≤ 6) (hw : g 0 ≤ 32) : ST G ad w S A B P s g2 := by
  obtain ⟨h1, h2, h3, h4, h5⟩ := h
  have e0 := e 0 (by decide) (by decide)
  refine ⟨⟨h1.1.trans e0.symm, h1.2.trans (e 3 (by decide) (by decide)).symm⟩, ⟨h2.1.trans (e 1 (by decide) (by decide)).symm, h2.2.trans (e 2 (by decide) (by decide)).symm⟩, h3.gx e hm, h4, ?_⟩
  rcases h5 with q | ⟨a, f, q1, q2, q3⟩
  · exact Or.inl (e0.trans q)
  · refine Or.inr ⟨a, f, q1, by rw [e0]; exact q2, fun r c r0 r1 c0 c1 => ?_⟩
    rw [e0] at c1
    exact (q3 r c r0 r1 c0 c1).trans (e _ (by omega) (by omega)).symm
theorem okS_gx (h : okS g) (e : ∀ i, 0 ≤ i → i < 406 → g2 i = g i) : okS g2 := by
  have e3 := e 3 (by decide) (by decide)
  have hm := h.many
  refine ⟨by rw [e3]; exact h.many, by rw [e 0 (by decide) (by decide)]; exact h.wide, by rw [e 1 (by decide) (by decide)]; exact h.ch, by rw [e 2 (by decide) (by decide)]; exact h.al, fun i i0 i1 => by rw [e i (by omega) (by omega)]; exact h.wo i i0 i1, fun k r c k0 k1 r0 r1 c0 c1 => ?_, fun k k0 k1 => ?_⟩
  · have h9 : pc g2 k r c = pc g k r c := e _ (by omega) (by omega)
    rw [h9]; exact h.pc k r c k0 k1 r0 r1 c0 c1
  · rw [e3] at k1
    have es : ∀ j, 0 ≤ j → j ≤ 2 → sh g2 k j = sh g k j := fun j j0 j1 => e _ (by omega) (by omega)
    rw [es 0 (by decide) (by decide), es 1 (by decide) (by decide), es 2 (by decide) (by decide)]; exact h.sh k k0 k1
theorem okS.gx (h : okS g) (e : ∀ i, 0 ≤ i → i < 406 → g2 i = g i) : okS g2 := okS_gx h e
/-- the states that can be gone back to -/
def PA (G : wa_G) (ad : Nat → Nat) (w : wa_W) (S : Nat → Int) (A : Nat → Int → Int) (B : Nat → Int → Option Nat) (P : Nat → Option Nat) (past : Int → Int) (st : Int) : Prop := ∃ π : Nat → Nat, (∀ j : Nat, j < 5 → 2 ≤ π j ∧ π j < 7 ∧ B 0 j = some (ad (1 + 3 * π j)) ∧ PCS ad w (B (10 + π j))) ∧ (∀ i j : Nat, i < 5 → j < 5 → π i = π j → i = j) ∧ ∀ j : Nat, j < 5 → (j : Int) < st → okS (fun i => past (406 * j + i)) ∧ ST G ad w S A B P (π j) (fun i => past (406 * j + i))
theorem PA.kp {past : Int → Int} {st : Int} (h : PA G ad w S A B P past st) (k : Kp ad w u) : PA G ad u S A B P past st := by
  obtain ⟨π, h1, h2, h3⟩ := h
  exact ⟨π, fun j hj => ⟨(h1 j hj).1, (h1 j hj).2.1, (h1 j hj).2.2.1, (h1 j hj).2.2.2.kp k⟩, h2, fun j j0 j1 => ⟨(h3 j j0 j1).1, (h3 j j0 j1).2.kp k⟩⟩
theorem PA.cg {past : Int → Int} {st : Int} (h : PA G ad w S A B P past st) (eS : ∀ j, (22 ≤ j ∧ j < 27) ∨ (32 ≤ j ∧ j < 37) → S2 j = S j) (eA : ∀ j, 12 ≤ j → j < 17 → A2 j = A j) (eB : ∀ j, j = 0 ∨ (12 ≤ j ∧ j < 17) → B2 j = B j) (eP : ∀ j, 12 ≤ j → j < 17 → P2 j = P j) : PA G ad w S2 A2 B2 P2 past st := by
  obtain ⟨π, h1, h2, h3⟩ := h
  refine ⟨π, fun j hj => ⟨(h1 j hj).1, (h1 j hj).2.1, by rw [eB 0 (by omega)]; exact (h1 j hj).2.2.1, by have hp := h1 j hj; rw [eB (10 + π j) (by omega)]; exact hp.2.2.2⟩, h2, fun j j0 j1 => ⟨(h3 j j0 j1).1, ?_⟩⟩
  have hp := h1 j j0
  exact (h3 j j0 j1).2.cg0 (eS _ (by omega)) (eS _ (by omega)) (eA _ (by omega) (by omega)) (eB _ (by omega)) (eP _ (by omega) (by omega))
/-- all but what is now -/
def RX (G : wa_G) (ad : Nat → Nat) (w : wa_W) (S : Nat → Int) (A : Nat → Int → Int) (B : Nat → Int → Option Nat) (P : Nat → Option Nat) (past re tx : Int → Int) (st ck co tl qt : Int) : Prop := WAYS G ad w (B 5) ∧ NVX ad w P ∧ PA G ad w S A B P past st ∧ (S 0 = st ∧ S 1 = qt ∧ S 2 = tl ∧ S 12 = 0) ∧ (A 0 0 = ck ∧ A 0 1 = co) ∧ (∀ i, 0 ≤ i → i < tl → A 1 i = tx i ∧ 0 ≤ tx i ∧ tx i ≤ 127) ∧ (∀ i, 0 ≤ i → i ≤ 2 → A 2 i = re i) ∧ (0 ≤ st ∧ st ≤ 5) ∧ (0 ≤ tl ∧ tl ≤ 120) ∧ (qt = 0 ∨ qt = 1) ∧ PCS ad w (B 11)
section RXs
variable {past re tx : Int → Int} {st ck co tl qt : Int}
theorem RX.kp (h : RX G ad w S A B P past re tx st ck co tl qt) (k : Kp ad w u) : RX G ad u S A B P past re tx st ck co tl qt := by
  obtain ⟨h1, h2, h3, h4, h5, h6, h7, h8, h9, h10, h11⟩ := h
  exact ⟨h1.kp k, h2.kp k, h3.kp k, h4, h5, h6, h7, h8, h9, h10, h11.kp k⟩
theorem RX.cg (h : RX G ad w S A B P past re tx st ck co tl qt) (eS : ∀ j, j ≤ 2 ∨ j = 12 ∨ (22 ≤ j ∧ j < 27) ∨ (32 ≤ j ∧ j < 37) → S2 j = S j) (eA : ∀ j, j ≤ 2 ∨ (12 ≤ j ∧ j < 17) → A2 j = A j) (eB : ∀ j, j = 0 ∨ j = 5 ∨ (11 ≤ j ∧ j < 17) → B2 j = B j) (eP : ∀ j, 12 ≤ j → j < 17 → P2 j = P j) (hN : NVX ad w P2) : RX G ad w S2 A2 B2 P2 past re tx st ck co tl qt := by
  obtain ⟨h1, h2, h3, h4, h5, h6, h7, h8, h9, h10, h11⟩ := h
  refine ⟨by rw [eB 5 (by omega)]; exact h1, hN, h3.cg (fun j q => eS j (by omega)) (fun j q0 q1 => eA j (by omega)) (fun j q => eB j (by omega)) eP, ⟨(eS 0 (by omega)).trans h4.1, (eS 1 (by omega)).trans h4.2.1, (eS 2 (by omega)).trans h4.2.2.1, (eS 12 (by omega)).trans h4.2.2.2⟩, by rw [eA 0 (by omega)]; exact h5, by rw [eA 1 (by omega)]; exact h6, by rw [eA 2 (by omega)]; exact h7, h8, h9, h10, by rw [eB 11 (by omega)]; exact h11⟩
/-- all of it -/
def XI (G : wa_G) (ad : Nat → Nat) (w : wa_W) (S : Nat → Int) (A : Nat → Int → Int) (B : Nat → Int → Option Nat) (P : Nat → Option Nat) (g past re tx : Int → Int) (st ck co tl qt : Int) : Prop := okS g ∧ ST G ad w S A B P 0 g ∧ XJ G ad w S A B P g ∧ RX G ad w S A B P past re tx st ck co tl qt
theorem XI.kp (h : XI G ad w S A B P g past re tx st ck co tl qt) (k : Kp ad w u) : XI G ad u S A B P g past re tx st ck co tl qt := ⟨h.1, h.2.1.kp k, h.2.2.1.kp k, h.2.2.2.kp k⟩
theorem XI.cg (h : XI G ad w S A B P g past re tx st ck co tl qt) (eS : ∀ j, j ≤ 2 ∨ j = 12 ∨ (20 ≤ j ∧ j < 27 ∧ j ≠ 21) ∨ (30 ≤ j ∧ j < 37 ∧ j ≠ 31) ∨ (4 ≤ j ∧ j ≤ 8) ∨ (40 ≤ j ∧ j < 46) → S2 j = S j) (eA : ∀ j, j ≤ 3 ∨ j = 10 ∨ (12 ≤ j ∧ j < 17) → A2 j = A j) (eB : ∀ j, j = 0 ∨ j = 1 ∨ j = 3 ∨ j = 4 ∨ j = 5 ∨ (10 ≤ j ∧ j < 17) → B2 j = B j) (eP : ∀ j, j = 0 ∨ j = 10 ∨ (12 ≤ j ∧ j < 17) ∨ (20 ≤ j ∧ j < 26) → P2 j = P j) (hN : NVX ad w P2) : XI G ad w S2 A2 B2 P2 g past re tx st ck co tl qt :=
  ⟨h.1, h.2.1.cg0 (eS _ (by omega)) (eS _ (by omega)) (eA _ (by omega)) (eB _ (by omega)) (eP _ (by omega)), h.2.2.1.cg h.1.many (fun j q => eS j (by omega)) (eA 3 (by omega)) (fun j q => eB j (by omega)) (fun j q => eP j (by omega)), h.2.2.2.cg (fun j q => eS j (by omega)) (fun j q => eA j (by omega)) (fun j q => eB j (by omega)) (fun j q0 q1 => eP j (by omega)) hN⟩
/-- behind a refusal -/
theorem XI.ref (h : XI G ad w S A B P g past re tx st ck co tl qt) {i : Int} : XI G ad w S (aup A 2 (fup (A 2) i (A 2 i + 1))) B P g past (fup re i (re i + 1)) tx st ck co tl qt := by
  obtain ⟨h1, h2, h3, h4⟩ := h
  refine ⟨h1, h2.cg0 rfl rfl rfl rfl rfl, h3.cg h1.many (fun _ _ => rfl) rfl (fun _ _ => rfl) (fun _ _ => rfl), ?_⟩
  obtain ⟨a1, a2, a3, a4, a5, a6, a7, a8⟩ := h4
  refine ⟨a1, a2, a3.cg (fun _ _ => rfl) (fun j j0 j1 => aup_n (by omega)) (fun _ _ => rfl) (fun _ _ _ => rfl), a4, a5, a6, fun j j0 j1 => ?_, a8⟩
  rw [aup_s]
  unfold fup
  by_cases e : j = i
  · subst e; rw [if_pos rfl, if_pos rfl, a7 j j0 j1]
  · rw [if_neg e, if_neg e, a7 j j0 j1]
end RXs
end INV

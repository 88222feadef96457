/-! THE OTHER SIDE's STATE: changes -/
section INV3
variable {G : wa_G} {ad : Nat → Nat} {w u : wa_W} {S S2 : Nat → Int} {A A2 : Nat → Int → Int} {B B2 : Nat → Int → Option Nat} {P P2 : Nat → Option Nat} {g g2 past past2 re re2 tx tx2 : Int → Int} {st st2 ck ck2 co co2 tl tl2 qt qt2 : Int}
theorem PCS.cp {f h : Int → Option Nat} {sp dp n : Int} (h1 : PCS ad w f) (h2 : PCS ad w h) : PCS ad w (cpR f h sp dp n) := fun i z e => by
  unfold cpR at e
  split at e
  · exact h1 _ _ e
  · exact h2 _ _ e
theorem PCS.up {f : Int → Option Nat} {k : Int} {v : Nat} {fs : List Value} (h1 : PCS ad w f) (h2 : Lc ad w v (eO 8 fs)) : PCS ad w (fupR f k (some v)) := fun i z e => by
  by_cases q : i = k
  · subst q; rw [fupR_s] at e; cases e; exact ⟨fs, h2⟩
  · rw [fupR_n q] at e; exact h1 _ _ e
/-- a new state now -/
theorem XI.now (h : XI G ad w S A B P g past re tx st ck co tl qt) (h4 : S2 4 = 1) (hok : okS g2) (hST : ST G ad w S2 A2 B2 P2 0 g2) (eS : ∀ j, j ≤ 2 ∨ j = 12 ∨ (22 ≤ j ∧ j < 27) ∨ (32 ≤ j ∧ j < 37) → S2 j = S j) (eA : ∀ j, j ≤ 2 ∨ (12 ≤ j ∧ j < 17) → A2 j = A j) (eB : ∀ j, j = 0 ∨ j = 5 ∨ (11 ≤ j ∧ j < 17) → B2 j = B j) (eP : ∀ j, 12 ≤ j → j < 17 → P2 j = P j) (hN : NVX ad w P2) : XI G ad w S2 A2 B2 P2 g2 past re tx st ck co tl qt :=
  ⟨hok, hST, XJ.old h4, h.2.2.2.cg eS eA eB eP hN⟩
theorem PA.le (h : PA G ad w S A B P past st) (e : st2 ≤ st) : PA G ad w S A B P past st2 := by
  obtain ⟨π, h1, h2, h3⟩ := h
  exact ⟨π, h1, h2, fun j j0 j1 => h3 j j0 (by omega)⟩
theorem PA.gx (h : PA G ad w S A B P past st) (e : ∀ i, 0 ≤ i → i < 406 * st → past2 i = past i) : PA G ad w S A B P past2 st := by
  obtain ⟨π, h1, h2, h3⟩ := h
  refine ⟨π, h1, h2, fun j j0 j1 => ?_⟩
  obtain ⟨a, b⟩ := h3 j j0 j1
  have e2 : ∀ i, 0 ≤ i → i < 406 → past2 (406 * (j : Int) + i) = past (406 * (j : Int) + i) := fun i i0 i1 => e _ (by omega) (by omega)
  have hm := a.many
  have hw := a.wide
  exact ⟨a.gx e2, b.gx e2 hm.2 (by omega)⟩
/-- the place that is next -/
theorem PA.pl (h : PA G ad w S A B P past st) {j : Int} (h0 : 0 ≤ j) (h1 : j < 5) : ∃ s : Nat, 2 ≤ s ∧ s < 7 ∧ B 0 j = some (ad (1 + 3 * s)) ∧ PCS ad w (B (10 + s)) ∧ (j < st → okS (fun i => past (406 * j + i)) ∧ ST G ad w S A B P s (fun i => past (406 * j + i))) := by
  obtain ⟨π, a1, a2, a3⟩ := h
  have ej : ((j.toNat : Nat) : Int) = j := by omega
  obtain ⟨b1, b2, b3, b4⟩ := a1 j.toNat (by omega)
  rw [ej] at b3
  refine ⟨π j.toNat, b1, b2, b3, b4, fun hj => ?_⟩
  have h5 := a3 j.toNat (by omega) (by omega)
  rw [ej] at h5
  exact h5
/-- one more is laid at its place -/
theorem PA.push (h : PA G ad w S A B P past st) (hst : 0 ≤ st ∧ st < 5) {s : Nat} (hs : B 0 st = some (ad (1 + 3 * s))) (had : ∀ i j, i < 55 → j < 55 → ad i = ad j → i = j) (hs7 : 2 ≤ s ∧ s < 7) (hok : okS g) (hST : ST G ad w S2 A2 B2 P2 s g) (eS : ∀ j, ((22 ≤ j ∧ j < 27) ∧ j ≠ 20 + s) ∨ ((32 ≤ j ∧ j < 37) ∧ j ≠ 30 + s) → S2 j = S j) (eA : ∀ j, 12 ≤ j → j < 17 → j ≠ 10 + s → A2 j = A j) (eB : ∀ j, j = 0 ∨ ((12 ≤ j ∧ j < 17) ∧ j ≠ 10 + s) → B2 j = B j) (eP : ∀ j, 12 ≤ j → j < 17 → j ≠ 10 + s → P2 j = P j) : PA G ad w S2 A2 B2 P2 (putP past g st) (st + 1) := by
  obtain ⟨π, h1, h2, h3⟩ := h
  have ej : ((st.toNat : Nat) : Int) = st := by omega
  have hp : π st.toNat = s := by
    have b := h1 st.toNat (by omega)
    rw [ej, hs] at b
    have e := had _ _ (by omega) (by omega) (Option.some.inj b.2.2.1)
    omega
  refine ⟨π, fun j hj => ?_, h2, fun j j0 j1 => ?_⟩
  · obtain ⟨b1, b2, b3, b4⟩ := h1 j hj
    refine ⟨b1, b2, by rw [eB 0 (Or.inl rfl)]; exact b3, ?_⟩
    by_cases q : π j = s
    · rw [q]; exact hST.2.2.2.1
    · rw [eB _ (Or.inr ⟨by omega, by omega⟩)]; exact b4
  · by_cases q : (j : Int) = st
    · have e : ∀ i, 0 ≤ i → i < 406 → putP past g st (406 * (j : Int) + i) = g i := fun i i0 i1 => by
        unfold putP; rw [if_pos (by omega)]; congr 1; omega
      have hm := hok.many
      have hw := hok.wide
      have hj : j = st.toNat := by omega
      rw [hj, hp, ← hj]
      exact ⟨hok.gx e, hST.gx e hm.2 (by omega)⟩
    · have e : ∀ i, 0 ≤ i → i < 406 → putP past g st (406 * (j : Int) + i) = past (406 * (j : Int) + i) := fun i i0 i1 => by
        unfold putP; rw [if_neg (by omega)]
      obtain ⟨a, b⟩ := h3 j j0 (by omega)
      obtain ⟨b1, b2, b3, b4⟩ := h1 j j0
      have hne : π j ≠ s := fun z => by
        have := h2 j st.toNat j0 (by omega) (z.trans hp.symm)
        omega
      have hm := a.many
      have hw := a.wide
      exact ⟨a.gx e, (b.cg0 (eS _ (by omega)) (eS _ (by omega)) (eA _ (by omega) (by omega) (by omega)) (eB _ (Or.inr ⟨by omega, by omega⟩)) (eP _ (by omega) (by omega) (by omega))).gx e hm.2 (by omega)⟩
/-- the first goes behind -/
theorem PA.rot (h : PA G ad w S A B P past 5) {b : Int → Option Nat} (h0 : ∀ i, 0 ≤ i → i < 4 → b i = B 0 (i + 1)) (h4 : b 4 = B 0 0) : PA G ad w S A (bup B 0 b) P (shiftP past) 4 := by
  obtain ⟨π, h1, h2, h3⟩ := h
  refine ⟨fun j => if j = 4 then π 0 else π (j + 1), fun j hj => ?_, fun i j hi hj e => ?_, fun j j0 j1 => ?_⟩
  · by_cases q : j = 4
    · subst q
      obtain ⟨b1, b2, b3, b4⟩ := h1 0 (by omega)
      exact ⟨b1, b2, h4.trans b3, by rw [bup_n (by omega)]; exact b4⟩
    · obtain ⟨b1, b2, b3, b4⟩ := h1 (j + 1) (by omega)
      simp only [if_neg q]
      exact ⟨b1, b2, (h0 j (by omega) (by omega)).trans (by rw [← b3]; congr 1), by rw [bup_n (by omega)]; exact b4⟩
  · by_cases q : i = 4
    · by_cases q2 : j = 4
      · omega
      · simp only [if_pos q, if_neg q2] at e
        have := h2 0 (j + 1) (by omega) (by omega) e
        omega
    · by_cases q2 : j = 4
      · simp only [if_neg q, if_pos q2] at e
        have := h2 (i + 1) 0 (by omega) (by omega) e
        omega
      · simp only [if_neg q, if_neg q2] at e
        have := h2 (i + 1) (j + 1) (by omega) (by omega) e
        omega
  · have q : j ≠ 4 := by omega
    simp only [if_neg q]
    obtain ⟨a, c⟩ := h3 (j + 1) (by omega) (by omega)
    obtain ⟨b1, b2, b3, b4⟩ := h1 (j + 1) (by omega)
    have e : ∀ i, 0 ≤ i → i < 406 → shiftP past (406 * (j : Int) + i) = past (406 * ((j + 1 : Nat) : Int) + i) := fun i i0 i1 => by
      unfold shiftP; rw [if_pos (by omega)]; congr 1; omega
    have hm := a.many
    have hw := a.wide
    exact ⟨a.gx e, (c.cg0 rfl rfl rfl (bup_n (by omega)) rfl).gx e hm.2 (by omega)⟩
def keepQ (qt : Int) (past g : Int → Int) (st : Int) : Int → Int := if qt = 0 then keepP past g st else past
def keepM (qt st : Int) : Int := if qt = 0 then keepN st else st
/-- the chain of all there is, but the states, at other scalars -/
theorem RX.mk (h : RX G ad w S A B P past re tx st ck co tl qt) (hP : PA G ad w S2 A2 B2 P2 past2 st2) (eS : S2 0 = st2 ∧ S2 1 = S 1 ∧ S2 2 = S 2 ∧ S2 12 = S 12) (eA : ∀ j, j ≤ 2 → A2 j = A j) (eB : B2 5 = B 5) (h11 : PCS ad w (B2 11)) (hN : NVX ad w P2) (hst : 0 ≤ st2 ∧ st2 ≤ 5) : RX G ad w S2 A2 B2 P2 past2 re tx st2 ck co tl qt := by
  obtain ⟨h1, h2, h3, h4, h5, h6, h7, h8, h9, h10, -⟩ := h
  exact ⟨by rw [eB]; exact h1, hN, hP, ⟨eS.1, eS.2.1.trans h4.2.1, eS.2.2.1.trans h4.2.2.1, eS.2.2.2.trans h4.2.2.2⟩, by rw [eA 0 (by omega)]; exact h5, by rw [eA 1 (by omega)]; exact h6, by rw [eA 2 (by omega)]; exact h7, hst, h9, h10, h11⟩
theorem XI.txt (h : XI G ad w S A B P g past re tx st ck co tl qt) (hT : ∀ i, 0 ≤ i → i < tl2 → A2 1 i = tx2 i ∧ 0 ≤ tx2 i ∧ tx2 i ≤ 127) (h2 : 0 ≤ tl2 ∧ tl2 ≤ 120) (eA : ∀ j, j ≠ 1 → A2 j = A j) : XI G ad w (sup S 2 tl2) A2 B P g past re tx2 st ck co tl2 qt := by
  obtain ⟨a1, a2, a3, a4⟩ := h
  refine ⟨a1, a2.cg0 (sup_n (by omega)) (sup_n (by omega)) (eA _ (by omega)) rfl rfl, a3.cg a1.many (fun j q => sup_n (by omega)) (eA 3 (by omega)) (fun _ _ => rfl) (fun _ _ => rfl), ?_⟩
  obtain ⟨h1, hn, h3, h4, h5, h6, h7, h8, h9, h10, h11⟩ := a4
  exact ⟨h1, hn, h3.cg (fun j q => sup_n (by omega)) (fun j q0 q1 => eA j (by omega)) (fun _ _ => rfl) (fun _ _ _ => rfl), ⟨(sup_n (by decide)).trans h4.1, (sup_n (by decide)).trans h4.2.1, sup_s, (sup_n (by decide)).trans h4.2.2.2⟩, by rw [eA 0 (by omega)]; exact h5, hT, by rw [eA 2 (by omega)]; exact h7, h8, h2, h10, h11⟩
/-- the state s is copied to t -/
theorem ST.tk {s t : Nat} (h : ST G ad w S A B P s g) (hd : PCS ad w (B (10 + t))) (hst : s ≠ t) (hs : s < 7) (ht : t < 7) (hm : g 3 ≤ 6) : ST G ad w (sup (sup S (20 + t) (S (20 + s))) (30 + t) (S (30 + s))) (aup A (10 + t) (fup (fup (A (10 + t)) 0 (A (10 + s) 0)) 1 (A (10 + s) 1))) (bup B (10 + t) (cpR (B (10 + s)) (B (10 + t)) 0 0 6)) (pup P (10 + t) (P (10 + s))) t g := by
  obtain ⟨h1, h2, h3, h4, h5⟩ := h
  refine ⟨⟨by rw [sup_n (by omega), sup_s]; exact h1.1, by rw [sup_s]; exact h1.2⟩, ⟨by rw [aup_s, fup_n (by decide), fup_s]; exact h2.1, by rw [aup_s, fup_s]; exact h2.2⟩, ?_, by rw [bup_s]; exact h4.cp hd, by rw [pup_s]; exact h5⟩
  rw [bup_s]
  intro k k0 k1
  obtain ⟨p, c, f, e1, e2, e3⟩ := h3 k k0 k1
  exact ⟨p, c, f, by unfold cpR; rw [if_pos (by omega), ← e1]; congr 1; omega, e2, e3⟩
/-- behind leaves -/
theorem XI.lv (h : XI G ad w S A B P g past re tx st ck co tl qt) (hx : ∀ i j, i < 55 → j < 55 → ad i = ad j → i = j) {b0 : Int → Option Nat} {past1 : Int → Int} {n : Int} {s : Nat} (hP : PA G ad w S A (bup B 0 b0) P past1 n) (hn : 0 ≤ n ∧ n < 5) (hs : b0 n = some (ad (1 + 3 * s))) (hs7 : 2 ≤ s ∧ s < 7) (hd : PCS ad w (B (10 + s))) (hS : S2 0 = n + 1 ∧ S2 1 = S 1 ∧ S2 2 = S 2 ∧ S2 12 = S 12 ∧ S2 4 = 1) (eS : ∀ j, 20 ≤ j → j < 37 → S2 j = sup (sup S (20 + s) (S (20 + 0))) (30 + s) (S (30 + 0)) j) (eA : A2 = aup A (10 + s) (fup (fup (A (10 + s)) 0 (A (10 + 0) 0)) 1 (A (10 + 0) 1))) (eB : B2 = bup (bup B 0 b0) (10 + s) (cpR (B (10 + 0)) (B (10 + s)) 0 0 6)) (eP : P2 = pup P (10 + s) (P (10 + 0))) : XI G ad w S2 A2 B2 P2 g (putP past1 g n) re tx (n + 1) ck co tl qt := by
  obtain ⟨a1, a2, a3, a4⟩ := h
  subst eA eB eP
  have hN := a4.2.1
  have hT := a2.tk (t := s) hd (by omega) (by omega) (by omega) a1.many.2
  have hT2 : ST G ad w S2 (aup A (10 + s) (fup (fup (A (10 + s)) 0 (A (10 + 0) 0)) 1 (A (10 + 0) 1))) (bup (bup B 0 b0) (10 + s) (cpR (B (10 + 0)) (B (10 + s)) 0 0 6)) (pup P (10 + s) (P (10 + 0))) s g := hT.cg0 (eS _ (by omega) (by omega)) (eS _ (by omega) (by omega)) rfl (by rw [bup_s, bup_s]) rfl
  refine ⟨a1, a2.cg0 ((eS _ (by omega) (by omega)).trans (by rw [sup_n (by omega), sup_n (by omega)])) ((eS _ (by omega) (by omega)).trans (by rw [sup_n (by omega), sup_n (by omega)])) (aup_n (by omega)) (by rw [bup_n (by omega), bup_n (by omega)]) (pup_n (by omega)), XJ.old hS.2.2.2.2, ?_⟩
  refine a4.mk (hP.push hn (by rw [bup_s]; exact hs) hx hs7 a1 hT2 (fun j q => ?_) (fun j q0 q1 q2 => aup_n q2) (fun j q => ?_) (fun j q0 q1 q2 => pup_n q2)) ⟨hS.1, hS.2.1, hS.2.2.1, hS.2.2.2.1⟩ (fun j q => aup_n (by omega)) (by rw [bup_n (by omega), bup_n (by omega)]) (by rw [bup_n (by omega), bup_n (by omega)]; exact a4.2.2.2.2.2.2.2.2.2.2) (hN.cg fun k hk => pup_n (by omega)) (by omega)
  · rw [eS j (by omega) (by omega), sup_n (by omega), sup_n (by omega)]
  · rw [bup_n (by omega)]
/-- gone back to -/
theorem XI.bk (h : XI G ad w S A B P g past re tx st ck co tl qt) {s : Nat} (hok : okS g2) (hSs : ST G ad w S A B P s g2) (hs : 0 < s ∧ s < 7) (hst : 0 ≤ st2 ∧ st2 ≤ st) (hS : S2 0 = st2 ∧ S2 1 = S 1 ∧ S2 2 = S 2 ∧ S2 12 = S 12 ∧ S2 4 = 1) (eS : ∀ j, 20 ≤ j → j < 37 → S2 j = sup (sup S (20 + 0) (S (20 + s))) (30 + 0) (S (30 + s)) j) (eA : A2 = aup A (10 + 0) (fup (fup (A (10 + 0)) 0 (A (10 + s) 0)) 1 (A (10 + s) 1))) (eB : B2 = bup B (10 + 0) (cpR (B (10 + s)) (B (10 + 0)) 0 0 6)) (eP : P2 = pup P (10 + 0) (P (10 + s))) : XI G ad w S2 A2 B2 P2 g2 past re tx st2 ck co tl qt := by
  obtain ⟨a1, a2, a3, a4⟩ := h
  subst eA eB eP
  have hN := a4.2.1
  have h5 := a4.2.2.2.2.2.2.2.1
  have hT := hSs.tk (t := 0) a2.2.2.2.1 (by omega) (by omega) (by omega) hok.many.2
  refine ⟨hok, hT.cg0 (eS _ (by omega) (by omega)) (eS _ (by omega) (by omega)) rfl rfl rfl, XJ.old hS.2.2.2.2, ?_⟩
  refine a4.mk ((a4.2.2.1.cg (fun j q => ?_) (fun j q0 q1 => aup_n (by omega)) (fun j q => bup_n (by omega)) (fun j q0 q1 => pup_n (by omega))).le hst.2) ⟨hS.1, hS.2.1, hS.2.2.1, hS.2.2.2.1⟩ (fun j q => aup_n (by omega)) (bup_n (by omega)) (by rw [bup_n (by omega)]; exact a4.2.2.2.2.2.2.2.2.2.2) (hN.cg fun k hk => pup_n (by omega)) (by omega)
  rw [eS j (by omega) (by omega), sup_n (by omega), sup_n (by omega)]
def qP (ok : Prop) [Decidable ok] (qt : Int) (past g : Int → Int) (st : Int) : Int → Int := if ok then keepQ qt past g st else past
def qN (ok : Prop) [Decidable ok] (qt st : Int) : Int := if ok then keepM qt st else st
def cntA (v : Int) : Int := if v = -2 then 0 else if v = -4 then 2 else -1
/-- only the world's dots are others -/
theorem PX.cgp {b : Int → Option Nat} (h : PX G ad w b g) (e3 : g2 3 = g 3) (e : ∀ i, 196 ≤ i → i < 406 → g2 i = g i) (hm : g 3 ≤ 6) : PX G ad w b g2 := fun k k0 k1 => by
  rw [e3] at k1
  obtain ⟨p, c, f, h1, h2, h3⟩ := h k k0 k1
  have es : ∀ j, 0 ≤ j → j ≤ 2 → sh g2 k j = sh g k j := fun j j0 j1 => e _ (by omega) (by omega)
  exact ⟨p, c, f, h1, by rw [es 0 (by decide) (by decide), es 1 (by decide) (by decide), es 2 (by decide) (by decide)]; exact h2, fun r d r0 r1 d0 d1 => (h3 r d r0 r1 d0 d1).trans (e _ (by omega) (by omega)).symm⟩
/-- a world laid anew -/
theorem XI.wo (h : XI G ad w S A B P g past re tx st ck co tl qt) (h4 : S 4 = 1) (hok : okS g2) {a : Nat} {n : Nat} {f : Int → Int} {q : Int} (hq : g2 0 = q) (hn : n = (6 * q).toNat) (ha : Lc ad w a (eI G n f)) (hf : ∀ r c, 0 ≤ r → r ≤ 5 → 0 ≤ c → c < q → f (6 * c + r) = g2 (4 + 32 * r + c)) (e : ∀ i, i = 1 ∨ i = 2 ∨ i = 3 ∨ (196 ≤ i ∧ i < 406) → g2 i = g i) : XI G ad w (sup S 20 q) A B (pup P 10 (some a)) g2 past re tx st ck co tl qt := by
  have hm := h.1.many
  subst hq hn
  refine h.now ((sup_n (by decide)).trans h4) hok ?_ (fun j q => sup_n (by omega)) (fun _ _ => rfl) (fun _ _ => rfl) (fun j q0 q1 => pup_n (by omega)) (h.2.2.2.2.1.cg fun k hk => pup_n (by omega))
  obtain ⟨h1, h2, h3, h4, h5⟩ := h.2.1
  exact ⟨⟨sup_s, (sup_n (by decide)).trans (h1.2.trans (e 3 (by omega)).symm)⟩, ⟨h2.1.trans (e 1 (by omega)).symm, h2.2.trans (e 2 (by omega)).symm⟩, h3.cgp (e 3 (by omega)) (fun i i0 i1 => e i (by omega)) hm.2, h4, Or.inr ⟨a, f, pup_s, ha, hf⟩⟩
/-- pictures laid anew -/
theorem XI.px (h : XI G ad w S A B P g past re tx st ck co tl qt) (h4 : S 4 = 1) (hok : okS g2) {b : Int → Option Nat} {m : Int} (hm : g2 3 = m) (hb : PX G ad w b g2) (hc : PCS ad w b) (e : ∀ i, 0 ≤ i → i < 196 → i ≠ 3 → g2 i = g i) : XI G ad w (sup S 30 m) A (bup B 10 b) P g2 past re tx st ck co tl qt := by
  have hw := h.1.wide
  have e0 := e 0 (by decide) (by decide) (by decide)
  refine h.now ((sup_n (by decide)).trans h4) hok ?_ (fun j q => sup_n (by omega)) (fun _ _ => rfl) (fun j q => bup_n (by omega)) (fun _ _ _ => rfl) h.2.2.2.2.1
  obtain ⟨h1, h2, h3, h4, h5⟩ := h.2.1
  refine ⟨⟨(sup_n (by decide)).trans (h1.1.trans e0.symm), sup_s.trans hm.symm⟩, ⟨h2.1.trans (e 1 (by decide) (by decide) (by decide)).symm, h2.2.trans (e 2 (by decide) (by decide) (by decide)).symm⟩, by rw [bup_s]; exact hb, by rw [bup_s]; exact hc, ?_⟩
  rcases h5 with q | ⟨a, f, q1, q2, q3⟩
  · exact Or.inl (e0.trans q)
  · refine Or.inr ⟨a, f, q1, by rw [e0]; exact q2, fun r c r0 r1 c0 c1 => ?_⟩
    rw [e0] at c1
    exact (q3 r c r0 r1 c0 c1).trans (e _ (by omega) (by omega) (by omega)).symm
theorem XI.se (h : XI G ad w S A B P g past re tx st ck co tl qt) (h4 : S 4 = 1) {i v : Int} (hi : i = 0 ∨ i = 1) (hok : okS (fup g (1 + i) v)) : XI G ad w S (aup A 10 (fup (A 10) i v)) B P (fup g (1 + i) v) past re tx st ck co tl qt := by
  have hm := h.1.many
  have en : ∀ j, j ≠ 1 → j ≠ 2 → fup g (1 + i) v j = g j := fun j h1 h2 => fup_n (by omega)
  refine h.now h4 hok ?_ (fun _ _ => rfl) (fun j q => aup_n (by omega)) (fun _ _ => rfl) (fun _ _ _ => rfl) h.2.2.2.2.1
  obtain ⟨h1, h2, h3, h4, h5⟩ := h.2.1
  refine ⟨⟨h1.1.trans (en 0 (by decide) (by decide)).symm, h1.2.trans (en 3 (by decide) (by decide)).symm⟩, ?_, h3.cgp (en 3 (by decide) (by decide)) (fun j j0 j1 => en j (by omega) (by omega)) hm.2, h4, ?_⟩
  · rw [aup_s]
    rcases hi with rfl | rfl
    · exact ⟨by rw [fup_s]; exact (fup_s (f := g)).symm, by rw [fup_n (by decide), fup_n (by decide)]; exact h2.2⟩
    · exact ⟨by rw [fup_n (by decide), fup_n (by decide)]; exact h2.1, by rw [fup_s]; exact (fup_s (f := g)).symm⟩
  · rw [en 0 (by decide) (by decide)]
    rcases h5 with q | ⟨a, f, q1, q2, q3⟩
    · exact Or.inl q
    · exact Or.inr ⟨a, f, q1, q2, fun r c r0 r1 c0 c1 => (q3 r c r0 r1 c0 c1).trans (en _ (by omega) (by omega)).symm⟩
theorem XI.s20 {v : Int} (h : XI G ad w (sup S 20 v) A B P g past re tx st ck co tl qt) (e : S 20 = v) : XI G ad w S A B P g past re tx st ck co tl qt := by
  have e2 : sup S 20 v = S := by subst e; funext j; unfold sup; split; (subst_vars; rfl); rfl
  rw [e2] at h; exact h
theorem XI.s30 {v : Int} (h : XI G ad w (sup S 30 v) A B P g past re tx st ck co tl qt) (e : S 30 = v) : XI G ad w S A B P g past re tx st ck co tl qt := by
  have e2 : sup S 30 v = S := by subst e; funext j; unfold sup; split; (subst_vars; rfl); rfl
  rw [e2] at h; exact h
theorem XI.tll {tl3 : Int} (h : XI G ad w S A B P g past re tx st ck co tl qt) (e : tl3 = tl) (e2 : tx2 = tx) : XI G ad w S A B P g past re tx2 st ck co tl3 qt := e ▸ e2 ▸ h
theorem px_shot {b : Int → Option Nat} {p c : Nat} {f : Int → Int} {x y d : Int} (hm : 0 ≤ g 3 ∧ g 3 ≤ 5) (h : PX G ad w b g) (hf : ∀ o, 0 ≤ o → o < 32 → f o = shotC g x y d o) (hp : Pic G ad w p c f x y (g 0)) : PX G ad w (fupR b (g 3) (some p)) (shotS g x y d) := fun k k0 k1 => by
  have e3 : shotS g x y d 3 = g 3 + 1 := if_pos rfl
  rw [e3] at k1
  by_cases z : k = g 3
  · subst z
    have es : ∀ j, 32 ≤ j → j ≤ 34 → shotS g x y d (196 + 35 * g 3 + j) = if j = 32 then x else if j = 33 then y else g 0 := fun j j0 j1 => by
      unfold shotS
      rw [if_neg (by omega), if_neg (by omega)]
      by_cases q : j = 32
      · rw [if_pos (by omega), if_pos q]
      · rw [if_neg (by omega), if_neg q]
        by_cases q2 : j = 33
        · rw [if_pos (by omega), if_pos q2]
        · rw [if_neg (by omega), if_pos (by omega), if_neg q2]
    have s0 : sh (shotS g x y d) (g 3) 0 = x := by
      have := es 32 (by decide) (by decide)
      unfold sh; rw [show 196 + 35 * g 3 + 32 + 0 = 196 + 35 * g 3 + 32 by omega]; exact this
    have s1 : sh (shotS g x y d) (g 3) 1 = y := by
      have := es 33 (by decide) (by decide)
      unfold sh; rw [show 196 + 35 * g 3 + 32 + 1 = 196 + 35 * g 3 + 33 by omega]; exact this
    have s2 : sh (shotS g x y d) (g 3) 2 = g 0 := by
      have := es 34 (by decide) (by decide)
      unfold sh; rw [show 196 + 35 * g 3 + 32 + 2 = 196 + 35 * g 3 + 34 by omega]; exact this
    refine ⟨p, c, f, by rw [fupR_s], by rw [s0, s1, s2]; exact hp, fun r d0 r0 r1 d1 d2 => ?_⟩
    rw [hf _ (by omega) (by omega)]
    unfold pc shotS
    rw [if_neg (by omega), if_pos (by omega)]
    congr 1; omega
  · obtain ⟨q, a, f0, h1, h2, h3⟩ := h k k0 (by omega)
    have e : ∀ i, i < 196 + 35 * g 3 → i ≠ 3 → shotS g x y d i = g i := fun i i0 i1 => by
      unfold shotS
      rw [if_neg i1, if_neg (by omega), if_neg (by omega), if_neg (by omega), if_neg (by omega)]
    have es : ∀ j, 0 ≤ j → j ≤ 2 → sh (shotS g x y d) k j = sh g k j := fun j j0 j1 => e _ (by omega) (by omega)
    exact ⟨q, a, f0, by rw [fupR_n z]; exact h1, by rw [es 0 (by decide) (by decide), es 1 (by decide) (by decide), es 2 (by decide) (by decide)]; exact h2, fun r d r0 r1 d0 d1 => (h3 r d r0 r1 d0 d1).trans (e _ (by omega) (by omega)).symm⟩
theorem px_paint {b : Int → Option Nat} {p c0 : Nat} {f : Int → Int} {k r c v : Int} (h : PX G ad w b g) (hk : 0 ≤ k ∧ k < g 3) (hrc : (0 ≤ r ∧ r ≤ 3) ∧ 0 ≤ c ∧ c ≤ 7) (hf : ∀ r d, 0 ≤ r → r ≤ 3 → 0 ≤ d → d ≤ 7 → f (8 * r + d) = pc g k r d) (hp : Pic G ad w p c0 (fup f (8 * r + c) v) (sh g k 0) (sh g k 1) (sh g k 2)) : PX G ad w (fupR b k (some p)) (fup g (196 + 35 * k + 8 * r + c) v) := fun j j0 j1 => by
  rw [fup_n (by omega)] at j1
  have es : ∀ i, 0 ≤ i → i ≤ 2 → sh (fup g (196 + 35 * k + 8 * r + c) v) j i = sh g j i := fun i i0 i1 => fup_n (by rcases (show j = k ∨ j ≤ k - 1 ∨ k + 1 ≤ j by omega) with q | q | q <;> omega)
  by_cases z : j = k
  · subst z
    refine ⟨p, c0, _, by rw [fupR_s], by rw [es 0 (by decide) (by decide), es 1 (by decide) (by decide), es 2 (by decide) (by decide)]; exact hp, fun r9 d r0 r1 d0 d1 => ?_⟩
    unfold pc
    by_cases q : 8 * r9 + d = 8 * r + c
    · rw [q, fup_s, show 196 + 35 * j + 8 * r9 + d = 196 + 35 * j + 8 * r + c by omega, fup_s]
    · rw [fup_n q, fup_n (by omega)]; exact hf r9 d r0 r1 d0 d1
  · obtain ⟨q, a, f0, h1, h2, h3⟩ := h j j0 j1
    exact ⟨q, a, f0, by rw [fupR_n z]; exact h1, by rw [es 0 (by decide) (by decide), es 1 (by decide) (by decide), es 2 (by decide) (by decide)]; exact h2, fun r9 d r0 r1 d0 d1 => (h3 r9 d r0 r1 d0 d1).trans (show pc (fup g (196 + 35 * k + 8 * r + c) v) j r9 d = pc g j r9 d from fup_n (by rcases (show j ≤ k - 1 ∨ k + 1 ≤ j by omega) with q | q <;> omega)).symm⟩
theorem px_drop {b : Int → Option Nat} {k : Int} (h : PX G ad w b g) (hk : 0 ≤ k ∧ k < g 3) : PX G ad w (cpR b b (k + 1) k (g 3 - 1 - k)) (dropS g k) := fun j j0 j1 => by
  have e3 : dropS g k 3 = g 3 - 1 := if_pos rfl
  rw [e3] at j1
  by_cases z : j < k
  · obtain ⟨q, a, f0, h1, h2, h3⟩ := h j j0 (by omega)
    have e : ∀ i, 4 ≤ i → i < 196 + 35 * k → dropS g k i = g i := fun i i0 i1 => by
      unfold dropS; rw [if_neg (by omega), if_neg (by omega)]
    have es : ∀ i, 0 ≤ i → i ≤ 2 → sh (dropS g k) j i = sh g j i := fun i i0 i1 => e _ (by omega) (by omega)
    exact ⟨q, a, f0, by unfold cpR; rw [if_neg (by omega)]; exact h1, by rw [es 0 (by decide) (by decide), es 1 (by decide) (by decide), es 2 (by decide) (by decide)]; exact h2, fun r9 d r0 r1 d0 d1 => (h3 r9 d r0 r1 d0 d1).trans (e _ (by omega) (by omega)).symm⟩
  · obtain ⟨q, a, f0, h1, h2, h3⟩ := h (j + 1) (by omega) (by omega)
    have e : ∀ i, 0 ≤ i → i < 35 → dropS g k (196 + 35 * j + i) = g (196 + 35 * (j + 1) + i) := fun i i0 i1 => by
      unfold dropS; rw [if_neg (by omega), if_pos (by omega)]; congr 1; omega
    have es : ∀ i, 0 ≤ i → i ≤ 2 → sh (dropS g k) j i = sh g (j + 1) i := fun i i0 i1 => by
      have := e (32 + i) (by omega) (by omega)
      unfold sh
      rw [show 196 + 35 * j + 32 + i = 196 + 35 * j + (32 + i) by omega, this]; congr 1; omega
    refine ⟨q, a, f0, by unfold cpR; rw [if_pos (by omega), ← h1]; congr 1; omega, by rw [es 0 (by decide) (by decide), es 1 (by decide) (by decide), es 2 (by decide) (by decide)]; exact h2, fun r9 d r0 r1 d0 d1 => ?_⟩
    rw [h3 r9 d r0 r1 d0 d1]
    have := e (8 * r9 + d) (by omega) (by omega)
    unfold pc
    rw [show 196 + 35 * j + 8 * r9 + d = 196 + 35 * j + (8 * r9 + d) by omega, this]; congr 1; omega
theorem qP0 {ok : Prop} [Decidable ok] (h : qt = 0) : keepPo ok past g st = qP ok qt past g st := by
  unfold keepPo qP keepQ
  rw [if_pos h]
theorem qN0 {ok : Prop} [Decidable ok] (h : qt = 0) : keepNo ok st = qN ok qt st := by
  unfold keepNo qN keepM
  rw [if_pos h]
end INV3

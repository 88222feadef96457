/-! JOINER: pictures, corners' lists, trees -/
def PX (G : wa_G) (ad : Nat → Nat) (w : wa_W) (b : Int → Option Nat) (g : Int → Int) : Prop := ∀ k : Int, 0 ≤ k → k < g 3 → ∃ (p c : Nat) (f : Int → Int), b k = some p ∧ Pic G ad w p c f (sh g k 0) (sh g k 1) (sh g k 2) ∧ ∀ r d, 0 ≤ r → r ≤ 3 → 0 ≤ d → d ≤ 7 → f (8 * r + d) = pc g k r d
theorem PX.kp {G : wa_G} {ad : Nat → Nat} {w u : wa_W} {b : Int → Option Nat} {g : Int → Int} (h : PX G ad w b g) (q : Kp ad w u) : PX G ad u b g := fun k h0 h1 => by
  obtain ⟨p, c, f, e, h2, h3⟩ := h k h0 h1
  exact ⟨p, c, f, e, h2.kp q, h3⟩
abbrev pcA (f g : Int → Int) (k : Int) : Prop := ∀ r d, 0 ≤ r → r ≤ 3 → 0 ≤ d → d ≤ 7 → f (8 * r + d) = pc g k r d
theorem pcA.cB {f g : Int → Int} {k : Int} (h : pcA f g k) (ho : okS g) (h0 : 0 ≤ k ∧ k ≤ 5) : cB f := fun i i0 i1 => by
  have h1 := h (i / 8) (i % 8) (by omega) (by omega) (by omega) (by omega)
  rw [show 8 * (i / 8) + i % 8 = i by omega] at h1
  rw [h1]
  exact ho.pc k _ _ h0.1 h0.2 (by omega) (by omega) (by omega) (by omega)
theorem pcA.pr {f g : Int → Int} {k r c dr dc : Int} (h : pcA f g k) (hr : 1 ≤ r ∧ r ≤ 2) (hc : 1 ≤ c ∧ c ≤ 6) (h4 : -1 ≤ dr ∧ dr ≤ 1) (h5 : -1 ≤ dc ∧ dc ≤ 1) : prF f r c dr dc = prS g k r c dr dc := by
  unfold prF prS
  rw [h r c (by omega) (by omega) (by omega) (by omega), h (r - dr) (c - dc) (by omega) (by omega) (by omega) (by omega), h (r + dr) (c + dc) (by omega) (by omega) (by omega) (by omega)]
  omega
theorem pcA.ch {f g : Int → Int} {k r c : Int} (h : pcA f g k) (hr : 1 ≤ r ∧ r ≤ 2) (hc : 1 ≤ c ∧ c ≤ 6) : chF f r c = chS g k r c := by
  unfold chF chS
  rw [h.pr hr hc (by omega) (by omega), h.pr hr hc (by omega) (by omega), h.pr hr hc (by omega) (by omega), h.pr hr hc (by omega) (by omega)]
/-- the j-th inner cell as a corner -/
def kC (g : Int → Int) (k : Int) (j : Nat) : KT := (true, 1 + (j : Int) / 6, 1 + (j : Int) % 6, pc g k (1 + (j : Int) / 6) (1 + (j : Int) % 6))
def cL (g : Int → Int) (k : Int) (n : Nat) : List Nat := (List.range n).filter (cP g k)
theorem cL_s (g : Int → Int) (k : Int) (n : Nat) : cL g k (n + 1) = cL g k n ++ if cP g k n = true then [n] else [] := by
  unfold cL
  rw [List.range_succ, List.filter_append]
  congr 1
  by_cases h : cP g k n = true
  · rw [if_pos h, List.filter_cons_of_pos h]; rfl
  · rw [if_neg h, List.filter_cons_of_neg h]; rfl
theorem cL_lt {g : Int → Int} {k : Int} {n j : Nat} (h : j ∈ cL g k n) : j < n := by
  unfold cL at h
  exact List.mem_range.mp (List.mem_filter.mp h).1
theorem kC_lt {g : Int → Int} {k : Int} {i j : Nat} (h : i < j) : kv (kC g k i) < kv (kC g k j) := by
  unfold kv kC
  rw [if_pos rfl, if_pos rfl]
  show 8 * (1 + (i : Int) / 6) + (1 + (i : Int) % 6) < 8 * (1 + (j : Int) / 6) + (1 + (j : Int) % 6)
  omega
theorem kC_ok {g : Int → Int} {k : Int} {j : Nat} (h : j < 12) : kOK (kC g k j) := by
  unfold kOK kC
  show (-100 ≤ 1 + (j : Int) / 6 ∧ 1 + (j : Int) / 6 ≤ 100) ∧ -100 ≤ 1 + (j : Int) % 6 ∧ 1 + (j : Int) % 6 ≤ 100
  omega
theorem kC_at {g : Int → Int} {k r c : Int} {n : Nat} (h : (n : Int) = 6 * (r - 1) + (c - 1)) (hr : 1 ≤ r ∧ r ≤ 2) (hc : 1 ≤ c ∧ c ≤ 6) : kC g k n = (true, r, c, pc g k r c) := by
  unfold kC
  rw [show 1 + (n : Int) / 6 = r by omega, show 1 + (n : Int) % 6 = c by omega]
theorem cP_at {g : Int → Int} {k r c : Int} {n : Nat} (h : (n : Int) = 6 * (r - 1) + (c - 1)) (hr : 1 ≤ r ∧ r ≤ 2) (hc : 1 ≤ c ∧ c ≤ 6) : cP g k n = true ↔ g 1 ≤ chS g k r c := by
  unfold cP
  rw [show 1 + (n : Int) / 6 = r by omega, show 1 + (n : Int) % 6 = c by omega, decide_eq_true_iff]
  exact ⟨fun q => q.2, fun q => ⟨⟨hr, hc⟩, q⟩⟩
/-- the nodes l with keys κ are the corners of picture k among the first n inner cells -/
def CLn (g : Int → Int) (k : Int) (n : Nat) (l : List Nat) (κ : Nat → KT) : Prop := l.map κ = (cL g k n).map (kC g k)
theorem CLn.nil {g : Int → Int} {k : Int} {κ : Nat → KT} : CLn g k 0 [] κ := rfl
theorem CLn.lt {g : Int → Int} {k : Int} {n : Nat} {l : List Nat} {κ : Nat → KT} (h : CLn g k n l κ) : ∀ x, x ∈ l → ∃ j, j < n ∧ κ x = kC g k j := fun x hx => by
  have h1 : κ x ∈ l.map κ := List.mem_map_of_mem hx
  rw [h] at h1
  obtain ⟨j, hj, e⟩ := List.mem_map.mp h1
  exact ⟨j, cL_lt hj, e.symm⟩
theorem CLn.ne {g : Int → Int} {k : Int} {n : Nat} {l : List Nat} {κ : Nat → KT} (h : CLn g k n l κ) : ∀ x, x ∈ l → kv (κ x) ≠ kv (kC g k n) := fun x hx => by
  obtain ⟨j, hj, e⟩ := h.lt x hx
  have := kC_lt (g := g) (k := k) hj
  rw [e]; omega
theorem CLn.skip {g : Int → Int} {k : Int} {n : Nat} {l : List Nat} {κ : Nat → KT} (h : CLn g k n l κ) (hn : ¬ cP g k n = true) : CLn g k (n + 1) l κ := by
  unfold CLn
  rw [cL_s, if_neg hn, List.append_nil]; exact h
theorem CLn.add {g : Int → Int} {k : Int} {n : Nat} {l a b : List Nat} {κ : Nat → KT} {e : Nat} (h : CLn g k n l κ) (hn : cP g k n = true) (hl : l = a ++ b) (hb : ∀ x, x ∈ b → kv (kC g k n) < kv (κ x)) (he : e ∉ l) : CLn g k (n + 1) (a ++ e :: b) (nup κ e (kC g k n)) := by
  have eb : b = [] := by
    cases b with
    | nil => rfl
    | cons x b' =>
      exfalso
      have h1 := hb x (by simp)
      obtain ⟨j, hj, e1⟩ := h.lt x (by rw [hl]; simp)
      have := kC_lt (g := g) (k := k) hj
      rw [e1] at h1; omega
  subst eb
  rw [List.append_nil] at hl
  subst hl
  unfold CLn
  rw [cL_s, if_pos hn, List.map_append, List.map_append, ← h]
  congr 1
  · exact List.map_congr_left fun x hx => nup_n (fun z => he (z ▸ hx))
  · show [nup κ e (kC g k n) e] = [kC g k n]
    rw [nup_s]
-- votes
def vtK (g : Int → Int) (b e f : Int) (q : KT) : Int := if inn (q.2.1 - e) (q.2.2.1 - f) ∧ g 1 ≤ chS g b (q.2.1 - e) (q.2.2.1 - f) ∧ (Int.natAbs (pc g b (q.2.1 - e) (q.2.2.1 - f) - q.2.2.2) : Int) ≤ g 2 then 1 else 0
def sumK (h : KT → Int) : List KT → Int
  | [] => 0
  | x :: r => h x + sumK h r
theorem sumK_app (h : KT → Int) (a b : List KT) : sumK h (a ++ b) = sumK h a + sumK h b := by
  induction a with
  | nil => show sumK h b = 0 + sumK h b; omega
  | cons x a ih => show h x + sumK h (a ++ b) = h x + sumK h a + sumK h b; omega
theorem sumK_cL (g : Int → Int) (a b e f : Int) (n : Nat) : sumK (vtK g b e f) ((cL g a n).map (kC g a)) = votesN g a b e f n := by
  induction n with
  | zero => rfl
  | succ n ih =>
    rw [cL_s, List.map_append, sumK_app, ih]
    show _ = votesN g a b e f n + _
    congr 1
    by_cases h : cP g a n = true
    · rw [if_pos h]
      show vtK g b e f (kC g a n) + 0 = _
      have h2 := of_decide_eq_true h
      unfold vtK kC vtP
      show (if inn (1 + (n : Int) / 6 - e) (1 + (n : Int) % 6 - f) ∧ g 1 ≤ chS g b (1 + (n : Int) / 6 - e) (1 + (n : Int) % 6 - f) ∧ (Int.natAbs (pc g b (1 + (n : Int) / 6 - e) (1 + (n : Int) % 6 - f) - pc g a (1 + (n : Int) / 6) (1 + (n : Int) % 6)) : Int) ≤ g 2 then (1 : Int) else 0) + 0 = _
      rw [Int.add_zero]
      have hc : (Int.natAbs (pc g b (1 + (n : Int) / 6 - e) (1 + (n : Int) % 6 - f) - pc g a (1 + (n : Int) / 6) (1 + (n : Int) % 6)) : Int) = (Int.natAbs (pc g a (1 + (n : Int) / 6) (1 + (n : Int) % 6) - pc g b (1 + (n : Int) / 6 - e) (1 + (n : Int) % 6 - f)) : Int) := by omega
      rw [hc]
      by_cases q : inn (1 + (n : Int) / 6 - e) (1 + (n : Int) % 6 - f) ∧ g 1 ≤ chS g b (1 + (n : Int) / 6 - e) (1 + (n : Int) % 6 - f) ∧ (Int.natAbs (pc g a (1 + (n : Int) / 6) (1 + (n : Int) % 6) - pc g b (1 + (n : Int) / 6 - e) (1 + (n : Int) % 6 - f)) : Int) ≤ g 2
      · rw [if_pos q, if_pos ⟨⟨h2, q.1, q.2.1⟩, q.2.2⟩]
      · rw [if_neg q, if_neg (fun z => q ⟨z.1.2.1, z.1.2.2, z.2⟩)]
    · rw [if_neg h]
      show (0 : Int) = _
      rw [if_neg (fun q => h (decide_eq_true q.1.1))]
theorem CLn.votes {g : Int → Int} {a b e f : Int} {l : List Nat} {κ : Nat → KT} (h : CLn g a 12 l κ) : sumK (vtK g b e f) (l.map κ) = votesS g a b e f := by
  rw [h]; exact sumK_cL g a b e f 12
-- trees in the world
def TFk (ad : Nat → Nat) (w : wa_W) (S : Nat → Int) (P : Nat → Option Nat) (k : Nat) (l : List Nat) (κ : Nat → KT) : Prop := TF ad w k l κ (P (20 + k)) (P (30 + k)) (S (40 + k))
theorem TFk.kp {ad : Nat → Nat} {w u : wa_W} {S : Nat → Int} {P : Nat → Option Nat} {k : Nat} {l : List Nat} {κ : Nat → KT} (h : TFk ad w S P k l κ) (q : Kp ad w u) : TFk ad u S P k l κ := TF.kp h q
theorem TFk.cg {ad : Nat → Nat} {w : wa_W} {S S2 : Nat → Int} {P P2 : Nat → Option Nat} {k : Nat} {l : List Nat} {κ : Nat → KT} (h : TFk ad w S P k l κ) (h1 : S2 (40 + k) = S (40 + k)) (h2 : P2 (20 + k) = P (20 + k)) (h3 : P2 (30 + k) = P (30 + k)) : TFk ad w S2 P2 k l κ := by
  unfold TFk
  rw [h1, h2, h3]; exact h
def NVX (ad : Nat → Nat) (w : wa_W) (P : Nat → Option Nat) : Prop := ∀ k, k < 6 → ∀ ks, P (30 + k) = some ks → Lc ad w ks (eO 20 [.ref (ad (42 + k))])
theorem NVX.kp {ad : Nat → Nat} {w u : wa_W} {P : Nat → Option Nat} (h : NVX ad w P) (q : Kp ad w u) : NVX ad u P := fun k hk ks e => (h k hk ks e).kp q
theorem NVX.cg {ad : Nat → Nat} {w : wa_W} {P P2 : Nat → Option Nat} (h : NVX ad w P) (e : ∀ k, k < 6 → P2 (30 + k) = P (30 + k)) : NVX ad w P2 := fun k hk ks z => h k hk ks (by rw [← e k hk]; exact z)
/-- the trees of the first m pictures hold their corners -/
def JC (ad : Nat → Nat) (w : wa_W) (S : Nat → Int) (P : Nat → Option Nat) (g : Int → Int) (m : Int) : Prop := ∀ k : Nat, k < 6 → (k : Int) < m → ∃ l κ, TF ad w k l κ (P (20 + k)) none (S (40 + k)) ∧ CLn g k 12 l κ
theorem JC.kp {ad : Nat → Nat} {w u : wa_W} {S : Nat → Int} {P : Nat → Option Nat} {g : Int → Int} {m : Int} (h : JC ad w S P g m) (q : Kp ad w u) : JC ad u S P g m := fun k hk hm => by
  obtain ⟨l, κ, h1, h2⟩ := h k hk hm
  exact ⟨l, κ, h1.kp q, h2⟩
theorem JC.cg {ad : Nat → Nat} {w : wa_W} {S S2 : Nat → Int} {P P2 : Nat → Option Nat} {g : Int → Int} {m : Int} (h : JC ad w S P g m) (e : ∀ k : Nat, k < 6 → (k : Int) < m → S2 (40 + k) = S (40 + k) ∧ P2 (20 + k) = P (20 + k)) : JC ad w S2 P2 g m := fun k hk hm => by
  obtain ⟨l, κ, h1, h2⟩ := h k hk hm
  obtain ⟨e1, e2⟩ := e k hk hm
  exact ⟨l, κ, by rw [e1, e2]; exact h1, h2⟩
theorem TF.nv {ad : Nat → Nat} {w : wa_W} {k : Nat} {l : List Nat} {κ : Nat → KT} {ro nv nv2 : Option Nat} {si : Int} (h : TF ad w k l κ ro nv si) (e : ∀ ks, nv2 = some ks → Lc ad w ks (eO 20 [.ref (ad (42 + k))])) : TF ad w k l κ ro nv2 si := by
  obtain ⟨K, V, L, R, Pt, C, h1, h2, h3, h4, h5, h6, h7, h8, h9⟩ := h
  exact ⟨K, V, L, R, Pt, C, h1, h2, h3, h4, h5, h6, h7, h8, e⟩
theorem JC.tf {ad : Nat → Nat} {w : wa_W} {S : Nat → Int} {P : Nat → Option Nat} {g : Int → Int} {m : Int} (h : JC ad w S P g m) (hNV : NVX ad w P) (k : Nat) (hk : k < 6) (hm : (k : Int) < m) : ∃ l κ, TFk ad w S P k l κ ∧ CLn g k 12 l κ := by
  obtain ⟨l, κ, h1, h2⟩ := h k hk hm
  exact ⟨l, κ, h1.nv (hNV k hk), h2⟩
theorem JC.add {ad : Nat → Nat} {w : wa_W} {S : Nat → Int} {P : Nat → Option Nat} {g : Int → Int} {k : Nat} {l : List Nat} {κ : Nat → KT} (h : JC ad w S P g k) (hT : TFk ad w S P k l κ) (hC : CLn g k 12 l κ) : JC ad w S P g ((k : Int) + 1) := fun j hj hm => by
  by_cases q : j = k
  · subst q; exact ⟨l, κ, TF.nv hT (fun ks e => by cases e), hC⟩
  · exact h j hj (by omega)
section TREEY
variable {G : wa_G} {ad : Nat → Nat} {w w0 u : wa_W} {S S2 : Nat → Int} {A : Nat → Int → Int} {B : Nat → Int → Option Nat} {P P2 : Nat → Option Nat} {k : Nat} {l l2 : List Nat} {κ : Nat → KT} {lL : Launch}
theorem NVX.tree {κ : Nat → KT} {ro nv : Option Nat} {si : Int} (h : NVX ad w P) (hk : k < 6) (hT : TF ad w k l κ ro nv si) (e : ∀ j, j < 6 → j ≠ k → P2 (30 + j) = P (30 + j)) (e2 : P2 (30 + k) = nv) : NVX ad w P2 := fun j hj ks z => by
  by_cases q : j = k
  · subst q
    obtain ⟨K, V, L, R, Pt, C, h1, h2, h3, h4, h5, h6, h7, h8, h9⟩ := hT
    exact h9 ks (e2 ▸ z)
  · exact h j hj ks (by rw [← e j hj q]; exact z)
theorem mJ3_clear_Y (hX : XW G ad w S A B P) (hNV : NVX ad w P) (hk : k < 6) : Met lL yJ3_clear (ws_ yJ3_clear cJ3_clear 1 (none : Option FieldType)) ({ frames := 1, cells := 0, slots := 0, locals := 20 } : Room) (wa_P G w [.ref (ad (36 + k))]) (wa_Qv G fun u => ∃ (S2 : Nat → Int) (P2 : Nat → Option Nat), XW G ad u S2 A B P2 ∧ Kp ad w u ∧ ((∀ j, j ≠ 40 + k → j ≠ 50 + k → S2 j = S j) ∧ ∀ j, j ≠ 20 + k → P2 j = P j) ∧ TFk ad u S2 P2 k [] (fun _ => (true, 0, 0, 0)) ∧ NVX ad u P2) 0 0 (wa_A G) := by
  refine (mJ3_clear_X hX hk).post (wa_Qv.mono fun u hp => ?_)
  obtain ⟨h1, h2⟩ := hp
  refine ⟨_, _, h1, h2, ⟨fun j e1 e2 => by rw [sup_n e2, sup_n e1], fun j e => ?_⟩, ?_, ?_⟩
  · by_cases q : j = 30 + k
    · rw [q, pup_s]
    · rw [pup_n q, pup_n e]
  · unfold TFk
    rw [pup_n (show 20 + k ≠ 30 + k by omega), pup_s, pup_s, sup_n (show 40 + k ≠ 50 + k by omega), sup_s]
    exact TF.nil (fun ks e => (hNV k hk ks e).kp h2)
  · refine (hNV.kp h2).cg fun j hj => ?_
    by_cases q : j = k
    · subst q; rw [pup_s]
    · rw [pup_n (by omega), pup_n (by omega)]
theorem mJ3_add_Y {q : Nat} {k0 : KT} (hX : XW G ad w S A B P) (hTF : TFk ad w S P k l κ) (hq : Lc ad w q (kE k0)) (hNV : NVX ad w P) (hk : k < 6) (hb : k0.1 = true) (hk0 : kOK k0) (hfr : ∀ n, n ∈ l → kv (κ n) ≠ kv k0) (hK0 : Kp ad w0 w) (hl0 : ∀ n, n ∈ l → w0 n = none) : Met lL yJ3_add (ws_ yJ3_add cJ3_add 2 (some FieldType.boolean)) ({ frames := 8, cells := 1, slots := 6, locals := 215 } : Room) (wa_P G w [.ref (ad (36 + k)), .ref q]) (wa_Qz G fun z u => z = 1 ∧ ∃ (S2 : Nat → Int) (P2 : Nat → Option Nat) (e : Nat) (a2 b2 : List Nat), XW G ad u S2 A B P2 ∧ Kp ad w0 u ∧ ((∀ j, j ≠ 40 + k → j ≠ 50 + k → S2 j = S j) ∧ ∀ j, j ≠ 20 + k → P2 j = P j) ∧ (w0 e = none ∧ e ∉ l ∧ l = a2 ++ b2 ∧ ∀ n, n ∈ b2 → kv k0 < kv (κ n)) ∧ TFk ad u S2 P2 k (a2 ++ e :: b2) (nup κ e k0) ∧ NVX ad u P2) 1 6 (wa_A G) := by
  have hnl : ∀ n, n ∈ l → ∃ x, w n = some x := fun n hn => by
    obtain ⟨K, V, L, R, Pt, C, h1, -⟩ := hTF
    exact ⟨_, (h1 n hn).2⟩
  refine (mJ3_add_X hX hTF hq hk hb hk0 hfr).post (wa_Qz.mono fun z u hp => ?_)
  obtain ⟨hz, e, a2, b2, ro, h1, h2, h3, h4, h5, h6, h7⟩ := hp
  have hK := KpL.old hK0 h2 hl0
  have e0 : w0 e = none := by
    cases q : w0 e with
    | none => rfl
    | some x =>
      have hne : ∀ i, i < 55 → e ≠ ad i := hX.fresh h3
      have := hK0 e x hne q
      rw [h3] at this; cases this
  have enl : e ∉ l := fun z => by
    obtain ⟨x, hx⟩ := hnl e z
    rw [h3] at hx; cases hx
  have hP : ∀ j, j ≠ 20 + k → pup (pup P (20 + k) ro) (30 + k) (P (30 + k)) j = P j := fun j e => by
    by_cases q : j = 30 + k
    · rw [q, pup_s]
    · rw [pup_n q, pup_n e]
  have hT : TFk ad u (sup (sup S (40 + k) (S (40 + k) + 1)) (50 + k) (S (50 + k) + 1)) (pup (pup P (20 + k) ro) (30 + k) (P (30 + k))) k (a2 ++ e :: b2) (nup κ e k0) := by
    unfold TFk
    rw [pup_n (show 20 + k ≠ 30 + k by omega), pup_s, pup_s, sup_n (show 40 + k ≠ 50 + k by omega), sup_s]
    exact h7
  refine ⟨hz, _, _, e, a2, b2, h1, hK, ⟨fun j e1 e2 => by rw [sup_n e2, sup_n e1], hP⟩, ⟨e0, enl, h4, h6⟩, hT, fun j hj ks z => ?_⟩
  by_cases q : j = k
  · subst q
    obtain ⟨K, V, L, R, Pt, C, t1, t2, t3, t4, t5, t6, t7, t8, t9⟩ := hT
    exact t9 ks z
  · rw [hP _ (by omega)] at z
    have hks := hNV j hj ks z
    refine ⟨hks.1, h2 _ _ hks.1 (fun hin => ?_) hks.2⟩
    obtain ⟨K, V, L, R, Pt, C, t1, -⟩ := hTF
    have := (t1 ks hin).2
    rw [hks.2] at this
    unfold ndO eO at this
    simp at this
theorem eO_inj {a b : Nat} {f h : List Value} (e : eO a f = eO b h) : a = b := by
  unfold eO at e
  injection e with e
  injection e with e
  injection e
theorem eI_eO {n a : Nat} {f : Int → Int} {h : List Value} : eI G n f ≠ eO a h := fun e => by unfold eI eO at e; injection e with e; cases e
theorem eB_eO {n a : Nat} {f : Int → Int} {h : List Value} : eB G n f ≠ eO a h := fun e => by unfold eB eO at e; injection e with e; cases e
theorem eR_eO {k n a : Nat} {f : Int → Option Nat} {h : List Value} : eR G k n f ≠ eO a h := fun e => by unfold eR eO at e; injection e with e; cases e
theorem ite_ne {c : Prop} [Decidable c] {a b x : wa_E} (h1 : a ≠ x) (h2 : b ≠ x) : (if c then a else b) ≠ x := by
  by_cases q : c
  · rw [if_pos q]; exact h1
  · rw [if_neg q]; exact h2
theorem xC_20 {fs : List Value} (i : Nat) : xC G ad S A B P i ≠ eO 20 fs := by
  unfold xC
  (repeat' refine ite_ne ?_ ?_) <;> first | exact fun h => absurd (eO_inj h) (by decide) | exact eI_eO | exact eB_eO | exact eR_eO
theorem mJ3_iterator_Y (hX : XW G ad w S A B P) (hTF : TFk ad w S P k l κ) (hNV : NVX ad w P) (hk : k < 6) : Met lL yJ3_iterator (ws_ yJ3_iterator cJ3_iterator 1 (some (FieldType.object "java/util/Iterato\x72"))) ({ frames := 5, cells := 2, slots := 5, locals := 104 } : Room) (wa_P G w [.ref (ad (36 + k))]) (wa_Qr G fun r u => ∃ (P2 : Nat → Option Nat) (it : Nat), XW G ad u S A B P2 ∧ Kp ad w u ∧ (r = some it) ∧ (w it = none) ∧ (∀ j, j ≠ 30 + k → P2 j = P j) ∧ Lc ad u it (eO 21 [va_rf l.head?, va_rf none, .int (zI (S (50 + k))), .ref (ad (42 + k))]) ∧ TFk ad u S P2 k l κ ∧ NVX ad u P2) 2 5 (wa_A G) := by
  obtain ⟨K, V, L, R, Pt, C, h1, h2, h3, h4, h5, h6, h7, h8, h9⟩ := hTF
  have hT : TN w (ad (42 + k)) l K V L R Pt C (P (20 + k)) (S (40 + k)) (S (50 + k)) (P (30 + k)) := ⟨hX.tm hk, fun n hn => (h1 n hn).2⟩
  have hne : ad (36 + k) ≠ ad (42 + k) := fun z => by have := hX.1 _ _ (by omega) (by omega) z; omega
  have hloose : ∀ n, n ∈ l → ∀ i, i < 55 → n ≠ ad i := fun n hn => (h1 n hn).1
  have hNV2 : NV (ad (42 + k)) l w (P (30 + k)) := fun ks e => by
    have h10 := h9 ks e
    refine ⟨h10.1 _ (by omega), fun z => ?_, h10.2⟩
    have h11 := (h1 ks z).2
    rw [h10.2] at h11
    unfold ndO eO at h11
    simp at h11
  refine (mJ3_iterator hT (ts := ad (36 + k)) ⟨hne, fun z => hloose _ z (36 + k) (by omega) rfl, hX.ts hk⟩ hNV2 h2).post (wa_Qr.mono fun r u hp => ?_)
  obtain ⟨ks, it, t1, t2, t3, t4, t5, t6⟩ := hp
  have hX2 := hX.ofT hk t1 t2 hloose
  have hK : Kp ad w u := fun a x p e => by
    by_cases q : a ∈ l
    · rw [(h1 a q).2] at e
      rw [t1.2 a q, ← e]
    · exact t2 a x (p _ (by omega)) q e
  have hX3 : XW G ad u S A B (pup P (30 + k) (some ks)) := by
    refine XW.cP (XW.cS hX2 ?_) ?_
    · funext j
      by_cases q : j = 50 + k
      · rw [q, sup_s]
      · rw [sup_n q]
        by_cases q : j = 40 + k
        · rw [q, sup_s]
        · rw [sup_n q]
    · funext j
      by_cases q : j = 30 + k
      · rw [q, pup_s, pup_s]
      · rw [pup_n q, pup_n q]
        by_cases q : j = 20 + k
        · rw [q, pup_s]
        · rw [pup_n q]
  have hlks : Lc ad u ks (eO 20 [.ref (ad (42 + k))]) := by
    refine ⟨fun i hi z => ?_, t6.2.2⟩
    by_cases q : i = 42 + k
    · subst q; exact t6.1 z
    · cases e : w ks with
      | none => exact hX.fresh e i hi z
      | some x =>
        have h10 := t2 _ _ t6.1 t6.2.1 e
        rw [t6.2.2] at h10
        have h11 := hX.2 i hi
        rw [← z, e, ← Option.some.inj h10] at h11
        exact xC_20 i (Option.some.inj h11).symm
  refine ⟨pup P (30 + k) (some ks), it, hX3, hK, t3, t4, fun j e => pup_n e, ⟨hX.fresh t4, t5⟩, ?_, ?_⟩
  · unfold TFk
    rw [pup_n (show 20 + k ≠ 30 + k by omega), pup_s]
    exact ⟨K, V, L, R, Pt, C, fun n hn => (h1 n hn).kp hK, h2, h3, h4, h5, h6, fun n hn => ⟨(h7 n hn).1.kp hK, (h7 n hn).2⟩, h8, fun ks' e => by cases e; exact hlks⟩
  · intro j hj ks' e
    by_cases q : j = k
    · subst q; rw [pup_s] at e; cases e; exact hlks
    · rw [pup_n (by omega)] at e; exact (hNV j hj ks' e).kp hK
/-- a step of an iterator over tree k, made behind w0 -/
theorem mJ18_next_Y {it n : Nat} {y : Option Nat} {a b : List Nat} {mo : Int} (hX : XW G ad w S A B P) (hTF : TFk ad w S P k l κ) (hit : Lc ad w it (eO 21 [.ref n, va_rf y, .int (zI mo), .ref (ad (42 + k))])) (hNV : NVX ad w P) (hk : k < 6) (hmo : mo = S (50 + k)) (ha : l = a ++ n :: b) (hK0 : Kp ad w0 w) (hi0 : w0 it = none) : Met lL yJ18_next (ws_ yJ18_next cJ18_next 1 (some (FieldType.object "java/lang/Object"))) ({ frames := 2, cells := 0, slots := 0, locals := 43 } : Room) (wa_P G w [.ref it]) (wa_Qr G fun r u => ∃ (q : Nat), XW G ad u S A B P ∧ Kp ad w0 u ∧ (r = some q) ∧ Lc ad u q (kE (κ n)) ∧ (κ n).1 = true ∧ Lc ad u it (eO 21 [va_rf b.head?, va_rf (some n), .int (zI mo), .ref (ad (42 + k))]) ∧ TFk ad u S P k l κ ∧ NVX ad u P) 0 0 (wa_A G) := by
  subst hmo
  obtain ⟨K, V, L, R, Pt, C, h1, h2, h3, h4, h5, h6, h7, h8, h9⟩ := hTF
  have hT : TN w (ad (42 + k)) l K V L R Pt C (P (20 + k)) (S (40 + k)) (S (50 + k)) (P (30 + k)) := ⟨hX.tm hk, fun n hn => (h1 n hn).2⟩
  have itl : it ∉ l := fun z => by
    have h11 := (h1 it z).2
    rw [hit.2] at h11
    unfold ndO eO at h11
    simp at h11
  have hn : n ∈ l := by rw [ha]; simp
  refine (mJ18_next hT (q0 := it) ⟨hit.1 _ (by omega), itl, hit.2⟩ ha h2 h3).post (wa_Qr.mono fun r u hp => ?_)
  obtain ⟨t1, t2, t3⟩ := hp
  have hX2 : XW G ad u S A B P := ⟨hX.1, fun i hi => t3 _ _ (fun e => hit.1 i hi e.symm) (hX.2 i hi)⟩
  have kit : ∀ x, x ∈ l → K x ≠ it := fun x hx z => by
    have h11 := (h7 x hx).1.2
    rw [z, hit.2] at h11
    unfold kE eO at h11
    split at h11 <;> simp at h11
  have ksit : ∀ j, j < 6 → ∀ ks, P (30 + j) = some ks → ks ≠ it := fun j hj ks e z => by
    have h11 := (hNV j hj ks e).2
    rw [z, hit.2] at h11
    unfold eO at h11
    simp at h11
  refine ⟨K n, hX2, Kp.init hi0 hK0 t3, t1, ⟨(h7 n hn).1.1, t3 _ _ (kit n hn) (h7 n hn).1.2⟩, (h7 n hn).2.1, ⟨hit.1, t2⟩, ?_, fun j hj ks e => ⟨(hNV j hj ks e).1, t3 _ _ (ksit j hj ks e) (hNV j hj ks e).2⟩⟩
  exact ⟨K, V, L, R, Pt, C, fun x hx => ⟨(h1 x hx).1, t3 _ _ (fun z => itl (z ▸ hx)) (h1 x hx).2⟩, h2, h3, h4, h5, h6, fun x hx => ⟨⟨(h7 x hx).1.1, t3 _ _ (kit x hx) (h7 x hx).1.2⟩, (h7 x hx).2⟩, h8, fun ks e => ⟨(h9 ks e).1, t3 _ _ (ksit k hk ks e) (h9 ks e).2⟩⟩
end TREEY
theorem kE_c {ad : Nat → Nat} {w : wa_W} {q : Nat} {g : Int → Int} {k r c v : Int} {n : Nat} (h : Lc ad w q (eO 9 [.int (zI r), .int (zI c), .int (zI v)])) (hn : (n : Int) = 6 * (r - 1) + (c - 1)) (hr : 1 ≤ r ∧ r ≤ 2) (hc : 1 ≤ c ∧ c ≤ 6) (hv : v = pc g k r c) : Lc ad w q (kE (kC g k n)) := by
  rw [kC_at hn hr hc, ← hv]; exact h
theorem mem_ins {α : Type} {a b : List α} {e x : α} (h : x ∈ a ++ e :: b) : x = e ∨ x ∈ a ++ b := by
  simp at h ⊢
  rcases h with h | h | h <;> simp [h]
theorem kE_t {ad : Nat → Nat} {w : wa_W} {q : Nat} {k : KT} (h : Lc ad w q (kE k)) (e : k.1 = true) : Lc ad w q (eO 9 [.int (zI k.2.1), .int (zI k.2.2.1), .int (zI k.2.2.2)]) := by
  unfold kE at h; rw [if_pos e] at h; exact h
theorem CLn.val {g : Int → Int} {k : Int} {l : List Nat} {κ : Nat → KT} (h : CLn g k 12 l κ) (ho : okS g) (hk : 0 ≤ k ∧ k ≤ 5) {x : Nat} (hx : x ∈ l) : ((-100 ≤ (κ x).2.1 ∧ (κ x).2.1 ≤ 100) ∧ -100 ≤ (κ x).2.2.1 ∧ (κ x).2.2.1 ≤ 100) ∧ 0 ≤ (κ x).2.2.2 ∧ (κ x).2.2.2 ≤ 63 := by
  obtain ⟨j, hj, e⟩ := h.lt x hx
  rw [e]
  exact ⟨kC_ok hj, ho.pc k _ _ hk.1 hk.2 (by omega) (by omega) (by omega) (by omega)⟩
theorem head_some {α : Type} {l : List α} (h : ¬ l.head? = none) : ∃ x r, l = x :: r := by
  cases l with
  | nil => exact absurd rfl h
  | cons x r => exact ⟨x, r, rfl⟩
theorem head_none {α : Type} {l : List α} (h : ¬ ¬ l.head? = none) : l = [] := by
  cases l with
  | nil => rfl
  | cons x r => exact absurd (fun q => by cases q) h

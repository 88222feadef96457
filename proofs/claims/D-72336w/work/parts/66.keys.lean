/-! KEYS of the trees: corners (true) and shifts (false) -/
abbrev KT : Type := Bool × Int × Int × Int
def kE (k : KT) : wa_E := if k.1 = true then eO 9 [.int (zI k.2.1), .int (zI k.2.2.1), .int (zI k.2.2.2)] else eO 10 [.int (zI k.2.1), .int (zI k.2.2.1)]
def kcmp (a b : KT) : Int := if a.1 = true then 8 * a.2.1 + a.2.2.1 - 8 * b.2.1 - b.2.2.1 else shC a.2.1 a.2.2.1 b.2.1 b.2.2.1
def kOK (k : KT) : Prop := (-100 ≤ k.2.1 ∧ k.2.1 ≤ 100) ∧ -100 ≤ k.2.2.1 ∧ k.2.2.1 ≤ 100
def kv (k : KT) : Int := if k.1 = true then 8 * k.2.1 + k.2.2.1 else (Int.natAbs k.2.1 : Int) * 1000000 + k.2.2.1 * 1000 + k.2.1
theorem kcmp_s {a b : KT} (h : a.1 = b.1) (ha : kOK a) (hb : kOK b) : (kcmp a b < 0 ↔ kv a < kv b) ∧ (0 < kcmp a b ↔ kv b < kv a) ∧ -10000 ≤ kcmp a b ∧ kcmp a b ≤ 10000 := by
  unfold kOK at ha hb
  unfold kcmp kv
  by_cases e : a.1 = true
  · rw [if_pos e, if_pos e, if_pos (h ▸ e)]; omega
  · rw [if_neg e, if_neg e, if_neg (h ▸ e)]
    unfold shC
    by_cases e1 : (Int.natAbs a.2.1 : Int) - (Int.natAbs b.2.1 : Int) = 0
    · rw [if_neg (fun q => q e1)]
      by_cases e2 : a.2.2.1 - b.2.2.1 = 0
      · rw [if_neg (fun q => q e2)]; omega
      · rw [if_pos e2]; omega
    · rw [if_pos e1]; omega
theorem kE_ne {k : KT} {x y : Nat} {a b c : Option Nat} {i : Int} : kE k ≠ ndO x y a b c i := by
  unfold kE ndO eO
  split <;> simp
theorem kE_nm {k : KT} {a : Option Nat} {i j : Int} {b : Option Nat} : kE k ≠ tmO a i j b := by
  unfold kE tmO eO
  split <;> simp
/-- the nodes' keys -/
def KS (m : Nat) (l : List Nat) (w : wa_W) (K : Nat → Nat) (κ : Nat → KT) (b : Bool) : Prop := ∀ n, n ∈ l → K n ≠ m ∧ K n ∉ l ∧ w (K n) = some (kE (κ n)) ∧ (κ n).1 = b ∧ kOK (κ n)
theorem KS.fr {m : Nat} {l : List Nat} {w u : wa_W} {K : Nat → Nat} {κ : Nat → KT} {b : Bool} (h : KS m l w K κ b) (k : Fr m l w u) : KS m l u K κ b := fun n hn => by
  obtain ⟨h1, h2, h3, h4⟩ := h n hn
  exact ⟨h1, h2, k _ _ h1 h2 h3, h4⟩
section WK
variable {p : Program} {l : Launch} {e : Env} {R : Room} {s : State} {m : MethodId} {args : Array Value} {below : List Frame} {meth : Method} {c : Code} {H H0 : Heap} {locs : List Loc} {cells slots : Nat} {Q : State → Prop}
variable {cc : ByteArray} {pc : Nat} {ls : Array Slot} {rest st0 : List Value} {a q1 q2 : Nat} {G : wa_G} {y : MethodName} {nL : Nat} {ret : Option FieldType} {w : wa_W}
/-- compareTo of two keys of one kind -/
theorem wb_cmp (X : wa_X G y cc nL ret p s m args meth c) (hH : wa_H G w H) (hS : va_S (wa_A G) H0 H locs) {x z : KT} (hx : w q1 = some (kE x)) (hz : w q2 = some (kE z)) (hb : x.1 = z.1) (hxo : kOK x) (hzo : kOK z) {own : String} {index count : Nat} (hq : Cond.methodLink own index ⟨"java/lang/Comparable", "compareTo", "(Ljava/lang/Object;)I"⟩ ∈ lw_all) (ho : y.cls = own) (hsz : ls.size = nL) (hW : (rest.map fun v => v.category).sum ≤ 8) (hf : 4 ≤ R.frames) (hl : 120 ≤ R.locals) (hcs : cells ≤ R.cells ∧ slots ≤ R.slots) (d : decode cc pc = .ok (.invokeinterface index count, 5))
    (kk : ∀ (H1 : Heap) (locs1 : List Loc), wa_H G w H1 → va_S (wa_A G) H0 H1 locs1 → W p l e R s m args below meth c H1 locs1 cells slots Q (F0 m (pc + 5) ls (.int (zI (kcmp x z)) :: rest))) : W p l e R s m args below meth c H locs cells slots Q (F0 m pc ls (.ref q2 :: .ref q1 :: rest)) := by
  unfold kOK at hxo hzo
  by_cases e : x.1 = true
  · have h1 : w q1 = some (eO 9 [.int (zI x.2.1), .int (zI x.2.2.1), .int (zI x.2.2.2)]) := by rw [hx]; unfold kE; rw [if_pos e]
    have h2 : w q2 = some (eO 9 [.int (zI z.2.1), .int (zI z.2.2.1), .int (zI z.2.2.2)]) := by rw [hz]; unfold kE; rw [if_pos (hb ▸ e)]
    refine wa_c5i hS (wa_rF (rest := rest) X hH (mX9_compareTo h1 h2) (va_cwF 1 X.t (lw_F hq q731 q733 q127 q735) rfl rfl rfl (X.k.2.2.2.1 ("PictureRing$Corne\x72", ⟨"java/lang/Comparable", "compareTo", "(Ljava/lang/Object;)I"⟩, ⟨"PictureRing$Corne\x72", "compareTo", "(Ljava/lang/Object;)I"⟩) (by decide)) ⟨by decide, by decide, by decide +kernel⟩ ⟨by dsimp only; omega, by dsimp only; omega⟩) ho h1 rfl rfl hsz rfl hW d ⟨by simpa using hcs.1, by simpa using hcs.2⟩) (fun r u H1 locs1 hp hH1 hS1 => ?_)
    obtain ⟨hr, hu⟩ := hp
    rw [← hu] at hH1
    have e2 : kcmp x z = r := by unfold kcmp; rw [if_pos e]; exact hr.symm
    rw [← e2]; exact kk H1 locs1 hH1 hS1
  · have h1 : w q1 = some (eO 10 [.int (zI x.2.1), .int (zI x.2.2.1)]) := by rw [hx]; unfold kE; rw [if_neg e]
    have h2 : w q2 = some (eO 10 [.int (zI z.2.1), .int (zI z.2.2.1)]) := by rw [hz]; unfold kE; rw [if_neg (hb ▸ e)]
    refine wa_c5i hS (wa_rF (rest := rest) X hH (mX10_compareTo h1 h2 (by omega) (by omega) (by omega) (by omega)) (va_cwF 1 X.t (lw_F hq q742 q744 q139 q746) rfl rfl rfl (X.k.2.2.2.1 ("PictureRing$Shift", ⟨"java/lang/Comparable", "compareTo", "(Ljava/lang/Object;)I"⟩, ⟨"PictureRing$Shift", "compareTo", "(Ljava/lang/Object;)I"⟩) (by decide)) ⟨by decide, by decide, by decide +kernel⟩ ⟨by dsimp only; omega, by dsimp only; omega⟩) ho h1 rfl rfl hsz rfl hW d ⟨by simpa using hcs.1, by simpa using hcs.2⟩) (fun r u H1 locs1 hp hH1 hS1 => ?_)
    obtain ⟨hr, hu⟩ := hp
    rw [← hu] at hH1
    have e2 : kcmp x z = r := by unfold kcmp; rw [if_neg e]; exact hr.symm
    rw [← e2]; exact kk H1 locs1 hH1 hS1
/-- a key is a Comparable -/
theorem wb_castK (X : wa_X G y cc nL ret p s m args meth c) (hH : wa_H G w H) {x : KT} (hx : w a = some (kE x)) {own : String} {index : Nat} (ho : y.cls = own) (hq : Cond.classLink own index "java/lang/Comparable" ∈ lw_all) (d : decode cc pc = .ok (.checkcast index, 3))
    (kk : W p l e R s m args below meth c H locs cells slots Q (F0 m (pc + 3) ls (.ref a :: rest))) : W p l e R s m args below meth c H locs cells slots Q (F0 m pc ls (.ref a :: rest)) := by
  by_cases e : x.1 = true
  · exact wa_cast X hH (show w a = some (eO 9 [.int (zI x.2.1), .int (zI x.2.2.1), .int (zI x.2.2.2)]) by rw [hx]; unfold kE; rw [if_pos e]) rfl ho hq q730 d kk
  · exact wa_cast X hH (show w a = some (eO 10 [.int (zI x.2.1), .int (zI x.2.2.1)]) by rw [hx]; unfold kE; rw [if_neg e]) rfl ho hq q741 d kk
end WK
section TNm
variable {w : wa_W} {m : Nat} {l l2 : List Nat} {K V : Nat → Nat} {L R P : Nat → Option Nat} {C : Nat → Int} {ro : Option Nat} {si mo : Int} {nv : Option Nat}
theorem TN.mem (h : TN w m l K V L R P C ro si mo nv) (e : ∀ n, n ∈ l2 → n ∈ l) : TN w m l2 K V L R P C ro si mo nv := ⟨h.1, fun n hn => h.2 n (e n hn)⟩
theorem Fr.sub {w u : wa_W} {m : Nat} {l l2 : List Nat} (h : Fr m l w u) (e : ∀ n, n ∈ l → n ∈ l2) : Fr m l2 w u := fun a x p q z => h a x p (fun y => q (e a y)) z
theorem nd_ins {a b : List Nat} {x : Nat} (h : (a ++ b).Nodup) (hx : x ∉ a ++ b) : (a ++ x :: b).Nodup := by
  rw [List.nodup_append] at h ⊢
  obtain ⟨h1, h2, h3⟩ := h
  have xa : x ∉ a := fun q => hx (by simp [q])
  have xb : x ∉ b := fun q => hx (by simp [q])
  refine ⟨h1, by rw [List.nodup_cons]; exact ⟨xb, h2⟩, fun u hu v hv => ?_⟩
  rcases List.mem_cons.mp hv with q | q
  · rw [q]; exact fun z => xa (z ▸ hu)
  · exact h3 u hu v q
end TNm
section PUTs
variable {κ : Nat → KT} {k0 : KT} {l a1 b1 l1 l2 : List Nat} {t : Nat}
theorem put_lo (hso : l.Pairwise (fun x y => kv (κ x) < kv (κ y))) (hl : l = a1 ++ (l1 ++ t :: l2) ++ b1) (ht : kv (κ t) < kv k0) (h1 : ∀ n, n ∈ a1 → kv (κ n) < kv k0) : ∀ n, n ∈ a1 ++ l1 ++ [t] → kv (κ n) < kv k0 := by
  intro n h
  rw [hl, List.append_assoc, List.pairwise_append] at hso
  rcases List.mem_append.mp h with h | h
  · rcases List.mem_append.mp h with h | h
    · exact h1 n h
    · have h2 := hso.2.1
      rw [List.append_assoc, List.pairwise_append] at h2
      have h3 := h2.2.2 n h t (by simp)
      omega
  · simp at h; rw [h]; exact ht
theorem put_hi (hso : l.Pairwise (fun x y => kv (κ x) < kv (κ y))) (hl : l = a1 ++ (l1 ++ t :: l2) ++ b1) (ht : kv k0 < kv (κ t)) (h1 : ∀ n, n ∈ b1 → kv k0 < kv (κ n)) : ∀ n, n ∈ t :: l2 ++ b1 → kv k0 < kv (κ n) := by
  intro n h
  rw [hl, List.append_assoc, List.pairwise_append] at hso
  have h2 := hso.2.1
  rw [List.append_assoc, List.pairwise_append] at h2
  rcases List.mem_append.mp h with h | h
  · rcases List.mem_cons.mp h with h | h
    · rw [h]; exact ht
    · have h3 := (List.pairwise_cons.mp h2.2.1).1 n (by simp [h])
      omega
  · exact h1 n h
end PUTs

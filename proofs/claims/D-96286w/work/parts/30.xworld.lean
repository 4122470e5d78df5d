/-! the class's world: four houses, shelves, a reader, a Broken that was caught; glasses by what they are -/
/-- a house: its glasses (kind, figure), its arrays, its int fields -/
abbrev HS : Type := (Nat → Option (Nat × Int32)) × (Nat → Nat → Int32) × (Nat → Int32)
/-- what a shelf holds: nothing, a glass, a row (sort, length, contents) -/
abbrev SV : Type := Option ((Nat × Int32) ⊕ (Nat × Nat × (Nat → Int32)))
/-- a reader: its text's shelf, its int fields, its arrays -/
abbrev RS : Type := Nat × (Nat → Int32) × (Nat → Nat → Int32)
abbrev XS : Type := (Nat → HS) × (Nat → Int32) × (Nat → SV) × Option RS × Option (Int32 × Int32)
def GE (g : Nat × Int32) : va_E := .inr (5 + g.1, [.int g.2])
def hB (r k : Nat) : Nat := 100 + 30 * r + k
def hLen (k : Nat) : Nat := if k < 6 then 12 else 6
def hI (k : Nat) : Bool := (decide (1 ≤ k) && decide (k < 5)) || (decide (6 ≤ k) && decide (k < 14))
def hF (k : Nat) : Bool := decide (14 ≤ k) && decide (k < 22)
def hC (k : Nat) : Bool := decide (k < 14) || k == 22
def hfv (ad : Nat → Nat) (r : Nat) (h : HS) (k : Nat) : Value := if k < 14 then .ref (ad (hB r k)) else .int (h.2.2 k)
def hfs (ad : Nat → Nat) (r : Nat) (h : HS) : List Value := (List.range 22).map (hfv ad r h)
def EH (dA : Nat → ClassId) (ad : Nat → Nat) (g : Nat → Option Nat) (r : Nat) (h : HS) (k : Nat) : va_E :=
  if k = 22 then .inr (1, hfs ad r h) else if k = 0 then .inl (dA 5, 12, .inr (.inr (.inr (.inr g)))) else if k = 5 then .inl (dA 2, 12, .inl (h.2.1 5)) else .inl (dA 0, hLen k, .inl (h.2.1 k))
def shRef (ad gsh : Nat → Nat) (d : Nat) (v : SV) : Option Nat := match v with
  | none => none
  | some (.inl _) => some (gsh d)
  | some (.inr _) => some (ad (70 + d))
def shIs (v : SV) : Bool := match v with
  | some (.inr _) => true
  | _ => false
/-- byte, short, int -/
def shTy (s : Nat) : Nat := if s = 0 then 3 else if s = 1 then 4 else 0
def shArr (dA : Nat → ClassId) (v : SV) : va_E := match v with
  | some (.inr (s, n, f)) => .inl (dA (shTy s), n, .inl f)
  | _ => .inr (3, [])
def rC (k : Nat) : Bool := k == 300 || k == 302 || k == 303 || k == 304 || (decide (310 ≤ k) && decide (k < 360))
def ER (dA : Nat → ClassId) (ad : Nat → Nat) (r : RS) (k : Nat) : va_E :=
  if k = 300 then .inr (4, [.ref (ad (70 + r.1)), .int (r.2.1 1), .ref (ad 302), .ref (ad 303), .ref (ad 304), .int (r.2.1 5)])
  else if k = 304 then .inl (dA 7, 50, .inr (.inr (.inr (.inr (fun i => some (ad (310 + i)))))))
  else if k < 304 then .inl (dA 0, 50, .inl (r.2.2 k))
  else .inl (dA 0, 5, .inl (r.2.2 k))
def xfs (ad : Nat → Nat) (x : XS) : List Value := [.ref (ad 122), .ref (ad 152), .ref (ad 182), .ref (ad 212), .int (x.2.1 4), .int (x.2.1 5), .ref (ad 1)]
def EX (dA : Nat → ClassId) (ad : Nat → Nat) (ga : Nat → Nat → Option Nat) (gsh : Nat → Nat) (bf : List Value) (x : XS) (k : Nat) : va_E :=
  if k = 0 then .inr (2, xfs ad x)
  else if k = 1 then .inl (dA 6, 8, .inr (.inr (.inr (.inr (fun d => some (ad (2 + d)))))))
  else if k < 10 then .inr (3, [va_rf (shRef ad gsh (k - 2) (x.2.2.1 (k - 2)))])
  else if k < 78 then shArr dA (x.2.2.1 (k - 70))
  else if k < 250 then EH dA ad (ga ((k - 100) / 30)) ((k - 100) / 30) (x.1 ((k - 100) / 30)) ((k - 100) % 30)
  else if k < 400 then (match x.2.2.2.1 with | some r => ER dA ad r k | none => .inr (3, []))
  else (match x.2.2.2.2 with | some q => .inr (13, bf ++ [.int q.1, .int q.2]) | none => .inr (3, []))
def xC (x : XS) (k : Nat) : Bool := decide (k < 10) || (decide (70 ≤ k) && decide (k < 78) && shIs (x.2.2.1 (k - 70))) || (decide (100 ≤ k) && decide (k < 220) && hC ((k - 100) % 30)) || (x.2.2.2.1.isSome && rC k) || (x.2.2.2.2.isSome && k == 400)
/-- o is a reference to the glass v -/
def gRel (L : List Nat) (f : Nat → va_E) (o : Option Nat) (v : Option (Nat × Int32)) : Prop := match v with
  | none => o = none
  | some g => g.1 < 8 ∧ ∃ y, o = some y ∧ y ∈ L ∧ f y = GE g
def XR (dA : Nat → ClassId) (ad : Nat → Nat) (P : Nat → Prop) (F : Nat → va_E) (gs : List (Nat × (Nat × Int32))) (x : XS) (ga : Nat → Nat → Option Nat) (gsh : Nat → Nat) (bf : List Value) (L : List Nat) (f : Nat → va_E) : Prop :=
  (∀ k, xC x k = true → ad k ∈ L ∧ f (ad k) = EX dA ad ga gsh bf x k) ∧ (∀ i j, xC x i = true → xC x j = true → ad i = ad j → i = j) ∧ (∀ a, P a → a ∈ L ∧ f a = F a ∧ ∀ k, xC x k = true → ad k ≠ a) ∧
  (∀ r, r < 4 → ∀ j, j < 12 → gRel L f (ga r j) ((x.1 r).1 j)) ∧ (∀ d, d < 8 → ∀ g, x.2.2.1 d = some (.inl g) → gRel L f (some (gsh d)) (some g)) ∧ (∀ q ∈ gs, gRel L f (some q.1) (some q.2)) ∧ bf.length = 6
def XW (D : va_G) (dA : Nat → ClassId) (b : Nat) (ad : Nat → Nat) (P : Nat → Prop) (F : Nat → va_E) (gs : List (Nat × (Nat × Int32))) (x : XS) (H : Heap) : Prop :=
  ∃ (L : List Nat) (f : Nat → va_E) (ga : Nat → Nat → Option Nat) (gsh : Nat → Nat) (bf : List Value), va_P D CL (va_pl L f) H ∧ va_D (fun q => b ≤ q) (va_pl L f) ∧ XR dA ad P F gs x ga gsh bf L f
theorem GE_arr {g : Nat × Int32} {z : ClassId × vp_A} : ¬ (Sum.inl z : va_E) = GE g := fun h => by cases h
theorem GE_obj {g : Nat × Int32} {c : Nat} {fs : List Value} (hg : g.1 < 8) (hc : c < 5 ∨ 13 ≤ c) : ¬ (Sum.inr (c, fs) : va_E) = GE g := by
  intro h
  unfold GE at h
  have h2 := congrArg Prod.fst (Sum.inr.inj h)
  have h2 : c = 5 + g.1 := h2
  omega
theorem ER_ng {dA : Nat → ClassId} {ad : Nat → Nat} {r : RS} {k : Nat} {g : Nat × Int32} (hg : g.1 < 8) : ¬ ER dA ad r k = GE g := by
  unfold ER
  split
  · exact GE_obj hg (by omega)
  · split
    · exact GE_arr
    · split <;> exact GE_arr
theorem EH_ng {dA : Nat → ClassId} {ad : Nat → Nat} {a : Nat → Option Nat} {r : Nat} {h : HS} {k : Nat} {g : Nat × Int32} (hg : g.1 < 8) : ¬ EH dA ad a r h k = GE g := by
  unfold EH
  split
  · exact GE_obj hg (by omega)
  · split
    · exact GE_arr
    · split <;> exact GE_arr
theorem shArr_ng {dA : Nat → ClassId} {v : SV} {g : Nat × Int32} (hg : g.1 < 8) : ¬ shArr dA v = GE g := by
  unfold shArr
  split
  · exact GE_arr
  · exact GE_obj hg (by omega)
theorem EX_ng {dA : Nat → ClassId} {ad : Nat → Nat} {ga : Nat → Nat → Option Nat} {gsh : Nat → Nat} {bf : List Value} {x : XS} {k : Nat} {g : Nat × Int32} (hg : g.1 < 8) : ¬ EX dA ad ga gsh bf x k = GE g := by
  unfold EX
  split
  · exact GE_obj hg (by omega)
  split
  · exact GE_arr
  split
  · exact GE_obj hg (by omega)
  split
  · exact shArr_ng hg
  split
  · exact EH_ng hg
  split
  · split
    · exact ER_ng hg
    · exact GE_obj hg (by omega)
  · split
    · exact GE_obj hg (by omega)
    · exact GE_obj hg (by omega)
theorem gRel.up {L : List Nat} {f : Nat → va_E} {o : Option Nat} {v : Option (Nat × Int32)} (h : gRel L f o v) {a : Nat} {e : va_E} (ha : ∀ g, g.1 < 8 → ¬ f a = GE g) : gRel L (va_up f a e) o v := by
  cases v with
  | none => exact h
  | some g =>
    obtain ⟨h1, y, h2, h3, h4⟩ := h
    refine ⟨h1, y, h2, h3, ?_⟩
    rw [va_up_ne _ _ (fun q => ha g h1 (by rw [← q]; exact h4))]
    exact h4
theorem gRel.mono {L L' : List Nat} {f f' : Nat → va_E} {o : Option Nat} {v : Option (Nat × Int32)} (h : gRel L f o v) (hm : ∀ y, y ∈ L → y ∈ L' ∧ f' y = f y) : gRel L' f' o v := by
  cases v with
  | none => exact h
  | some g =>
    obtain ⟨h1, y, h2, h3, h4⟩ := h
    exact ⟨h1, y, h2, (hm y h3).1, by rw [(hm y h3).2]; exact h4⟩
/-- one cell of the world is written -/
theorem XR.up {dA : Nat → ClassId} {ad : Nat → Nat} {P : Nat → Prop} {F : Nat → va_E} {gs : List (Nat × (Nat × Int32))} {x x' : XS} {ga : Nat → Nat → Option Nat} {gsh : Nat → Nat} {bf : List Value} {L : List Nat} {f : Nat → va_E} (h : XR dA ad P F gs x ga gsh bf L f) {k : Nat} (hk : xC x k = true) (hCC : ∀ j, xC x' j = xC x j)
    (hE : ∀ j, xC x j = true → j ≠ k → EX dA ad ga gsh bf x' j = EX dA ad ga gsh bf x j) (hG : ∀ r, r < 4 → ∀ j, j < 12 → (x'.1 r).1 j = (x.1 r).1 j) (hSg : ∀ d, d < 8 → ∀ g, x'.2.2.1 d = some (.inl g) → x.2.2.1 d = some (.inl g)) : XR dA ad P F gs x' ga gsh bf L (va_up f (ad k) (EX dA ad ga gsh bf x' k)) := by
  obtain ⟨h1, h2, h3, h4, h5, h6, h7⟩ := h
  have hng : ∀ g : Nat × Int32, g.1 < 8 → ¬ f (ad k) = GE g := fun g hg q => EX_ng hg ((h1 k hk).2 ▸ q)
  refine ⟨fun j hj => ?_, fun i j hi hj => h2 i j (by rw [← hCC]; exact hi) (by rw [← hCC]; exact hj), fun a ha => ?_, fun r hr j hj => ?_, fun d hd g hg => (h5 d hd g (hSg d hd g hg)).up hng, fun q hq => (h6 q hq).up hng, h7⟩
  · rw [hCC] at hj
    by_cases e : j = k
    · subst e; exact ⟨(h1 j hj).1, va_up_self _ _ _⟩
    · refine ⟨(h1 j hj).1, ?_⟩
      rw [va_up_ne _ _ (fun q => e (h2 j k hj hk q)), (h1 j hj).2, hE j hj e]
  · obtain ⟨a1, a2, a3⟩ := h3 a ha
    exact ⟨a1, by rw [va_up_ne _ _ (fun q => a3 k hk q.symm)]; exact a2, fun j hj => a3 j (by rw [← hCC]; exact hj)⟩
  · rw [hG r hr j hj]
    exact (h4 r hr j hj).up hng
/-! one house of the four -/
def xh (x : XS) (r : Nat) (h : HS) : XS := (va_up x.1 r h, x.2)
theorem xh_self (x : XS) (r : Nat) : xh x r (x.1 r) = x := by
  unfold xh
  have e : va_up x.1 r (x.1 r) = x.1 := by
    funext j
    by_cases q : j = r
    · subst q; exact va_up_self _ _ _
    · exact va_up_ne _ _ q
  rw [e]
theorem xh_xh (x : XS) (r : Nat) (h h' : HS) : xh (xh x r h) r h' = xh x r h' := by
  unfold xh
  rw [bx_uu]
theorem xh_at (x : XS) (r : Nat) (h : HS) : (xh x r h).1 r = h := va_up_self _ _ _
theorem xh_ne (x : XS) {r j : Nat} (h : HS) (q : j ≠ r) : (xh x r h).1 j = x.1 j := va_up_ne _ _ q
theorem xC_xh (x : XS) (r : Nat) (h : HS) (k : Nat) : xC (xh x r h) k = xC x k := rfl
theorem xC_h {x : XS} {r k : Nat} (hr : r < 4) (hk : hC k = true) : xC x (hB r k) = true := by
  have hk30 : k < 30 := by
    simp only [hC, Bool.or_eq_true, decide_eq_true_eq, beq_iff_eq] at hk
    omega
  have e1 : (hB r k - 100) % 30 = k := by unfold hB; omega
  have e2 : 100 ≤ hB r k := by unfold hB; omega
  have e3 : hB r k < 220 := by unfold hB; omega
  simp only [xC, e1, hk, e2, e3, decide_true, Bool.and_true, Bool.or_true, Bool.true_or]
theorem EX_h {dA : Nat → ClassId} {ad : Nat → Nat} {ga : Nat → Nat → Option Nat} {gsh : Nat → Nat} {bf : List Value} {x : XS} {r k : Nat} (hr : r < 4) (hk : k < 30) : EX dA ad ga gsh bf x (hB r k) = EH dA ad (ga r) r (x.1 r) k := by
  have e1 : (hB r k - 100) % 30 = k := by unfold hB; omega
  have e2 : (hB r k - 100) / 30 = r := by unfold hB; omega
  have e3 : 100 ≤ hB r k := by unfold hB; omega
  have e4 : hB r k < 250 := by unfold hB; omega
  unfold EX
  rw [if_neg (by omega), if_neg (by omega), if_neg (by omega), if_neg (by omega), if_pos e4, e1, e2]
theorem xC_rng {x : XS} {j : Nat} (h : xC x j = true) : j < 78 ∨ 100 ≤ j := by
  by_cases q : j < 78
  · exact Or.inl q
  · by_cases z : 100 ≤ j
    · exact Or.inr z
    · have e1 : decide (j < 10) = false := by simp; omega
      have e2 : decide (j < 78) = false := by simp; omega
      have e3 : decide (100 ≤ j) = false := by simp; omega
      have e4 : rC j = false := by
        simp only [rC, Bool.or_eq_false_iff, Bool.and_eq_false_iff, beq_eq_false_iff_ne, decide_eq_false_iff_not]
        omega
      have e5 : (j == 400) = false := by simp; omega
      simp [xC, e1, e2, e3, e4, e5] at h
/-- what stands elsewhere doesn't ask what this house holds -/
theorem EX_xh {dA : Nat → ClassId} {ad : Nat → Nat} {ga : Nat → Nat → Option Nat} {gsh : Nat → Nat} {bf : List Value} {x : XS} {r k : Nat} {h h' : HS} (hE : ∀ i, i ≠ k → EH dA ad (ga r) r h' i = EH dA ad (ga r) r h i) (j : Nat) (hx : xC x j = true) (hj : j ≠ hB r k) : EX dA ad ga gsh bf (xh x r h') j = EX dA ad ga gsh bf (xh x r h) j := by
  have hq := xC_rng hx
  unfold EX
  split; · rfl
  split; · rfl
  split; · rfl
  split; · rfl
  split
  · by_cases e : (j - 100) / 30 = r
    · have e2 : (j - 100) % 30 ≠ k := by
        intro z
        apply hj
        unfold hB
        have := Nat.div_add_mod (j - 100) 30
        omega
      rw [e, xh_at, xh_at]
      exact hE _ e2
    · rw [xh_ne _ _ e, xh_ne _ _ e]
  · split; · rfl
    rfl

/-! small things for the class's walks -/
theorem g_xs {Γ : GX} {D : va_G} {dA : Nat → ClassId} {b : Nat} {ad : Nat → Nat} {P : Nat → Prop} {F : Nat → va_E} {gs : List (Nat × (Nat × Int32))} {x : XS} {r : Nat} {cells slots pc : Nat} {lv : List (Nat × Value)} {st : List Value} (kk : WG Γ (XW D dA b ad P F gs x) cells slots pc lv st) : WG Γ (XW D dA b ad P F gs (xh x r (x.1 r))) cells slots pc lv st := by rw [xh_self]; exact kk
/-- what a shelf holds is asked: nothing, a glass, a row -/
def shD {α : Type} (v : SV) (a : Option α) (g : Nat × Int32 → Option α) (c : Nat → Nat → (Nat → Int32) → Option α) : Option α := match v with
  | none => a
  | some (.inl u) => g u
  | some (.inr (s, n, f)) => if s < 3 then c s n f else none
theorem shD_split {α : Type} {v : SV} {a : Option α} {g : Nat × Int32 → Option α} {c : Nat → Nat → (Nat → Int32) → Option α} {o : α} (h : shD v a g c = some o) : (v = none ∧ a = some o) ∨ (∃ u, v = some (.inl u) ∧ g u = some o) ∨ (∃ s n f, v = some (.inr (s, n, f)) ∧ s < 3 ∧ c s n f = some o) := by
  match v, h with
  | none, h => exact Or.inl ⟨rfl, h⟩
  | some (.inl u), h => exact Or.inr (Or.inl ⟨u, rfl, h⟩)
  | some (.inr (s, n, f)), h =>
    have h : (if s < 3 then c s n f else none) = some o := h
    by_cases e0 : s < 3
    · rw [if_pos e0] at h; exact Or.inr (Or.inr ⟨s, n, f, rfl, e0, h⟩)
    · rw [if_neg e0] at h; cases h
theorem qX_aretF {Γ : GX} {own : String} {cc : ByteArray} {nL : Nat} {rm : Room} {D : va_G} {dA : Nat → ClassId} {pc : Nat} {lv : List (Nat × Value)} {b : Nat} {ad : Nat → Nat} {P : Nat → Prop} {F : Nat → va_E} {x : XS} {gs : List (Nat × (Nat × Int32))} {a : Nat} {g g' : Nat × Int32} {C : String} (hΓ : GOK Γ own cc nL (some (.object C)) (xQr D dA b ad P F gs g x) (fun q => b ≤ q) rm) (hf : some g' = some g) (hdg : decode cc pc = .ok (.areturn, 1)) : WG Γ (XW D dA b ad P F ((a, g') :: gs) x) rm.cells rm.slots pc lv [.ref a] := by
  cases hf
  exact qX_aret hΓ hdg

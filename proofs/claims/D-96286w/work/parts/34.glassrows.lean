/-! a row of a reader -/
/-- a row of a reader, five places -/
def vR (v : Nat → Int32) (i : Int32) : Option Int32 := if i < 0 ∨ 5 ≤ i.toNatClampNeg then none else some (v i.toNatClampNeg)
theorem qx_rald {Γ : GX} {own : String} {cc : ByteArray} {nL : Nat} {ret : Option FieldType} {Qc : Array Value → State → Outcome → State → Prop} {A : Nat → Prop} {rm : Room} {D : va_G} {dA : Nat → ClassId} {cells slots pc : Nat} {lv : List (Nat × Value)} {st : List Value} {b : Nat} {ad : Nat → Nat} {P : Nat → Prop} {F : Nat → va_E} {x : XS} {gs : List (Nat × (Nat × Int32))} (hΓ : GOK Γ own cc nL ret Qc A rm) (hK : GKX Γ D dA b) {ρ : RS} (hρ : x.2.2.2.1 = some ρ) {k : Nat} (hk : k < 50) {i v : Int32} (hx : vR (ρ.2.2 (310 + k)) i = some v) (hdg : decode cc pc = .ok (.iaload, 1)) (kk : WG Γ (XW D dA b ad P F gs x) cells slots (pc + 1) lv (.int v :: st)) : WG Γ (XW D dA b ad P F gs x) cells slots pc lv (.int i :: .ref (ad (310 + k)) :: st) := by
  intro H locs ls hw hS hl2
  have hc : xC x (310 + k) = true := by
    have e1 : rC (310 + k) = true := by
      have h1 : decide (310 ≤ 310 + k) = true := by simp
      have h2 : decide (310 + k < 360) = true := by simp; omega
      simp only [rC, h1, h2, Bool.and_true, Bool.or_true]
    simp only [xC, hρ, e1, Option.isSome_some, Bool.and_true, Bool.or_true, Bool.true_or]
  obtain ⟨L, f, ga, gsh, bf, q0, hP, hD, hRr, hin, hq, hq2⟩ := hw.cell hc
  have e2 : EX dA ad ga gsh bf x (310 + k) = .inl (dA 0, 5, .inl (ρ.2.2 (310 + k))) := by
    unfold EX
    rw [if_neg (by omega), if_neg (by omega), if_neg (by omega), if_neg (by omega), if_neg (by omega), if_pos (by omega), hρ]
    show ER dA ad ρ (310 + k) = _
    unfold ER
    rw [if_neg (by omega), if_neg (by omega), if_neg (by omega)]
  rw [e2] at hq2
  unfold vR at hx
  split at hx
  next => cases hx
  next hi =>
    cases hx
    exact va_iald (n := 5) hΓ.1.1 hΓ.1.2.1 hK.1 hP q0 0 hq2 rfl hi hdg (kk H locs ls hw hS hl2)

/-! THE WORLDS: a typed heap (addresses L, what stands at each: f), the classes, the pure words -/
abbrev CL : List vw_C := [(RX4, TX4, 46), (RX2, TX2, 22), (RX1, TX1, 7), (RX3, TX3, 1), (RX5, TX5, 6), (RX7, TX7, 1), (RX8, TX8, 1), (RX9, TX9, 1), (RX10, TX10, 1), (RX11, TX11, 1), (RX12, TX12, 1), (RX13, TX13, 1), (RX14, TX14, 1), (RX6, TX6, 8), (RX15, TX15, 7)]
abbrev TYS (dA : Nat → ClassId) : List (ClassId × FieldType) := [(dA 0, .int), (dA 1, .long), (dA 2, .boolean), (dA 3, .byte), (dA 4, .short), (dA 5, .object "WhoseGlass$Glass"), (dA 6, .object "WhoseGlass$Shelf"), (dA 7, .array .int)]
/-- a step of a pure function that has answered -/
theorem bindE {α β : Type} {a : Option α} {f : α → Option β} {o : β} (h : a.bind f = some o) : ∃ x, a = some x ∧ f x = some o := by
  cases a with
  | none => cases h
  | some x => exact ⟨x, rfl, h⟩
theorem ifP {α : Type} {c : Prop} {h : Decidable c} {a b o : α} (e : @ite α c h a b = o) (hc : c) : a = o := by rw [if_pos hc] at e; exact e
theorem ifN {α : Type} {c : Prop} {h : Decidable c} {a b o : α} (e : @ite α c h a b = o) (hc : ¬ c) : b = o := by rw [if_neg hc] at e; exact e
/-- the words at hand in a method -/
def CX (p : Program) (s : State) (m : MethodId) (args : Array Value) (c : Code) (cc : ByteArray) (nL : Nat) (own : String) (D : va_G) (dA : Nat → ClassId) : Prop := CallFix p m c cc nL s args lw_all own ∧ va_K D CL (TYS dA) s
theorem map_set_range {α : Type} (n k : Nat) (g : Nat → α) (v : α) : ((List.range n).map g).set k v = (List.range n).map (va_up g k v) := by
  apply List.ext_getElem?
  intro j
  by_cases hj : j < n
  · by_cases e : k = j
    · subst e
      rw [List.getElem?_set_self (by simpa using hj)]
      simp [hj, va_up]
    · rw [List.getElem?_set_ne e]
      have e2 : ¬ j = k := fun q => e q.symm
      simp [hj, va_up, e2]
  · rw [List.getElem?_eq_none (by simp; omega), List.getElem?_eq_none (by simp; omega)]
/-! the reference's world -/
/-- int and boolean fields, int arrays, long arrays; 46: the object -/
abbrev MS : Type := (Nat → Int32) × (Nat → Nat → Int32) × (Nat → Nat → Int64) × Option Nat
def mF (k : Nat) : Bool := decide (k < 4) || (decide (20 ≤ k) && decide (k < 24)) || k == 26 || k == 27 || k == 28 || (decide (30 ≤ k) && decide (k < 35)) || k == 38
def mZ (k : Nat) : Bool := k == 26 || k == 28 || k == 33
def mI (k : Nat) : Bool := (decide (4 ≤ k) && decide (k < 20)) || k == 24 || k == 25 || (decide (35 ≤ k) && decide (k < 38)) || (decide (39 ≤ k) && decide (k < 44))
def mJ (k : Nat) : Bool := k == 44 || k == 45
def mC (k : Nat) : Bool := mI k || mJ k || k == 46
def mLen (k : Nat) : Nat := if k < 11 then 12 else if k < 20 then 6 else if k < 26 then 142 else if k < 37 then 51 else if k < 38 then 255 else if k < 44 then 8 else if k < 45 then 800 else 100
def mfv (ad : Nat → Nat) (m : MS) (k : Nat) : Value := if mF k = true then .int (m.1 k) else if k = 29 then va_rf (m.2.2.2.map ad) else .ref (ad k)
def mfs (ad : Nat → Nat) (m : MS) : List Value := (List.range 46).map (mfv ad m)
def EM (dA : Nat → ClassId) (ad : Nat → Nat) (m : MS) (k : Nat) : va_E := if k = 46 then .inr (0, mfs ad m) else if mJ k = true then .inl (dA 1, mLen k, .inr (.inl (m.2.2.1 k))) else .inl (dA 0, mLen k, .inl (m.2.1 k))
/-- reads and writes of the pure state -/
def mR (m : MS) (k : Nat) (i : Int32) : Option Int32 := if i < 0 ∨ mLen k ≤ i.toNatClampNeg then none else some (m.2.1 k i.toNatClampNeg)
def mW (m : MS) (k : Nat) (i v : Int32) : Option MS := if i < 0 ∨ mLen k ≤ i.toNatClampNeg then none else some (m.1, (fun j => if j = k then upd (m.2.1 k) i.toNatClampNeg v else m.2.1 j), m.2.2)
def mLR (m : MS) (k : Nat) (i : Int32) : Option Int64 := if i < 0 ∨ mLen k ≤ i.toNatClampNeg then none else some (m.2.2.1 k i.toNatClampNeg)
def mLW (m : MS) (k : Nat) (i : Int32) (v : Int64) : Option MS := if i < 0 ∨ mLen k ≤ i.toNatClampNeg then none else some (m.1, m.2.1, (fun j => if j = k then vp_updL (m.2.2.1 k) i.toNatClampNeg v else m.2.2.1 j), m.2.2.2)
def mS (m : MS) (k : Nat) (v : Int32) : MS := ((fun j => if j = k then v else m.1 j), m.2)
def mSZ (m : MS) (k : Nat) (v : Int32) : Option MS := if v = 0 ∨ v = 1 then some (mS m k v) else none
def mKs (m : MS) (k : Nat) : MS := (m.1, m.2.1, m.2.2.1, some k)
def mKg (m : MS) : Option Nat := m.2.2.2.bind (fun k => if mI k = true then some k else none)
/-- the frame: what stands at the addresses of P is F -/
def MR (dA : Nat → ClassId) (ad : Nat → Nat) (P : Nat → Prop) (F : Nat → va_E) (m : MS) (L : List Nat) (f : Nat → va_E) : Prop :=
  (∀ k, mC k = true → ad k ∈ L ∧ f (ad k) = EM dA ad m k) ∧ (∀ i j, mC i = true → mC j = true → ad i = ad j → i = j) ∧ (∀ a, P a → a ∈ L ∧ f a = F a ∧ ∀ k, mC k = true → ad k ≠ a)
def MW (D : va_G) (dA : Nat → ClassId) (b : Nat) (ad : Nat → Nat) (P : Nat → Prop) (F : Nat → va_E) (m : MS) (H : Heap) : Prop :=
  ∃ (L : List Nat) (f : Nat → va_E), va_P D CL (va_pl L f) H ∧ va_D (fun q => b ≤ q) (va_pl L f) ∧ MR dA ad P F m L f
theorem MR.up {dA : Nat → ClassId} {ad : Nat → Nat} {P : Nat → Prop} {F : Nat → va_E} {m m' : MS} {L : List Nat} {f : Nat → va_E} (h : MR dA ad P F m L f) {k : Nat} (hk : mC k = true) (hE : ∀ j, mC j = true → j ≠ k → EM dA ad m' j = EM dA ad m j) : MR dA ad P F m' L (va_up f (ad k) (EM dA ad m' k)) := by
  obtain ⟨h1, h2, h3⟩ := h
  refine ⟨fun j hj => ?_, h2, fun a ha => ?_⟩
  · by_cases e : j = k
    · subst e; exact ⟨(h1 j hj).1, va_up_self _ _ _⟩
    · refine ⟨(h1 j hj).1, ?_⟩
      rw [va_up_ne _ _ (fun q => e (h2 j k hj hk q)), (h1 j hj).2, hE j hj e]
  · obtain ⟨a1, a2, a3⟩ := h3 a ha
    exact ⟨a1, by rw [va_up_ne _ _ (fun q => a3 k hk q.symm)]; exact a2, a3⟩
theorem TX4_cls (k : Nat) : (TX4 k).1 = RX4 := by unfold TX4; split <;> rfl
theorem mF_lt : ∀ k, mF k = true → k < 46 := by
  intro k h
  by_cases hk : k < 46
  · exact hk
  · simp only [mF, Bool.or_eq_true, Bool.and_eq_true, decide_eq_true_eq, beq_iff_eq] at h
    omega
theorem mI_lt : ∀ k, mI k = true → k < 46 := by
  intro k h
  by_cases hk : k < 46
  · exact hk
  · simp only [mI, Bool.or_eq_true, Bool.and_eq_true, decide_eq_true_eq, beq_iff_eq] at h
    omega
theorem mI_c {k : Nat} (h : mI k = true) : mC k = true := by simp [mC, h]
theorem mJ_c {k : Nat} (h : mJ k = true) : mC k = true := by simp [mC, h]
theorem mI_46 {k : Nat} (h : mI k = true) : ¬ k = 46 := fun e => by have := mI_lt k h; omega
theorem mI_J {k : Nat} (h : mI k = true) : ¬ mJ k = true := by
  intro e
  simp only [mI, mJ, Bool.or_eq_true, Bool.and_eq_true, decide_eq_true_eq, beq_iff_eq] at h e
  omega
theorem mI_F {k : Nat} (h : mI k = true) : ¬ mF k = true := by
  intro e
  simp only [mI, mF, Bool.or_eq_true, Bool.and_eq_true, decide_eq_true_eq, beq_iff_eq] at h e
  omega
theorem mI_29 {k : Nat} (h : mI k = true) : ¬ k = 29 := by
  intro e
  simp only [mI, Bool.or_eq_true, Bool.and_eq_true, decide_eq_true_eq, beq_iff_eq] at h
  omega
theorem mJ_46 {k : Nat} (h : mJ k = true) : ¬ k = 46 := by
  simp only [mJ, Bool.or_eq_true, beq_iff_eq] at h
  omega
theorem mJ_lt {k : Nat} (h : mJ k = true) : k < 46 := by
  simp only [mJ, Bool.or_eq_true, beq_iff_eq] at h
  omega
theorem mJ_F {k : Nat} (h : mJ k = true) : ¬ mF k = true := by
  intro e
  simp only [mJ, mF, Bool.or_eq_true, Bool.and_eq_true, decide_eq_true_eq, beq_iff_eq] at h e
  omega
theorem mF_fin : ∀ k, k < 46 → mF k = true → (TX4 k).2.2.2 = false := by decide +kernel
theorem mF_ty : ∀ k, k < 46 → mF k = true → mZ k = false → tyX4 k = .int := by decide +kernel
theorem mZ_ty : ∀ k, k < 46 → mZ k = true → tyX4 k = .boolean := by decide +kernel
theorem mfs_get {ad : Nat → Nat} {m : MS} {k : Nat} (h : k < 46) : (mfs ad m)[k]? = some (mfv ad m k) := by
  simp [mfs, h]
theorem mfs_len (ad : Nat → Nat) (m : MS) : (mfs ad m).length = 46 := by simp [mfs]
theorem mfs_set {ad : Nat → Nat} {m : MS} {k : Nat} {v : Int32} (hk : mF k = true) : (mfs ad m).set k (.int v) = mfs ad (mS m k v) := by
  unfold mfs
  rw [map_set_range]
  refine List.map_congr_left (fun j _ => ?_)
  by_cases e : j = k
  · subst e; simp [va_up, mfv, mS, hk]
  · simp [va_up, mfv, mS, e]
theorem mfs_setK {ad : Nat → Nat} {m : MS} {k : Nat} : (mfs ad m).set 29 (.ref (ad k)) = mfs ad (mKs m k) := by
  unfold mfs
  rw [map_set_range]
  refine List.map_congr_left (fun j _ => ?_)
  by_cases e : j = 29
  · subst e; simp [va_up, mfv, mKs, mF, va_rf]
  · simp [va_up, mfv, mKs, e]

/-! rows over the class's own object, its shelves -/
theorem TX1_cls (k : Nat) : (TX1 k).1 = RX1 := by unfold TX1; split <;> rfl
theorem xC_lo {x : XS} {k : Nat} (hk : k < 10) : xC x k = true := by simp [xC, hk]
theorem g_xeq {Γ : GX} {D : va_G} {dA : Nat → ClassId} {b : Nat} {ad : Nat → Nat} {P : Nat → Prop} {F : Nat → va_E} {gs : List (Nat × (Nat × Int32))} {x x' : XS} {cells slots pc : Nat} {lv : List (Nat × Value)} {st : List Value} (h : some x = some x') (kk : WG Γ (XW D dA b ad P F gs x') cells slots pc lv st) : WG Γ (XW D dA b ad P F gs x) cells slots pc lv st := by cases h; exact kk
/-! reads and writes -/
def xhW (x : XS) (r k : Nat) (i v : Int32) : Option XS := (hWr (x.1 r) k i v).bind fun h => some (xh x r h)
def xhZ (x : XS) (r k : Nat) (i v : Int32) : Option XS := (hWz (x.1 r) k i v).bind fun h => some (xh x r h)
def xhS (x : XS) (r k : Nat) (v : Int32) : Option XS := some (xh x r (hS (x.1 r) k v))
def xhGw (x : XS) (r : Nat) (i : Int32) (g : Nat × Int32) : Option XS := (hGw (x.1 r) i g).bind fun h => some (xh x r h)
def xS (x : XS) (k : Nat) (v : Int32) : XS := (x.1, (fun j => if j = k then v else x.2.1 j), x.2.2)
def xSI (x : XS) (k : Nat) (v : Int32) : Option XS := some (xS x k v)
def xSZ (x : XS) (k : Nat) (v : Int32) : Option XS := if v = 0 ∨ v = 1 then some (xS x k v) else none
/-- a shelf's number -/
def shI (i : Int32) : Option Nat := if i < 0 ∨ 8 ≤ i.toNatClampNeg then none else some i.toNatClampNeg
/-- what a shelf holds is asked -/
def shC {α : Type} (v : SV) (a : Option α) (g : Nat × Int32 → Option α) (c0 c1 c2 : Nat → (Nat → Int32) → Option α) : Option α := match v with
  | none => a
  | some (.inl u) => g u
  | some (.inr (s, n, f)) => if s = 0 then c0 n f else if s = 1 then c1 n f else if s = 2 then c2 n f else none
theorem shC_split {α : Type} {v : SV} {a : Option α} {g : Nat × Int32 → Option α} {c0 c1 c2 : Nat → (Nat → Int32) → Option α} {o : α} (h : shC v a g c0 c1 c2 = some o) : (v = none ∧ a = some o) ∨ (∃ u, v = some (.inl u) ∧ g u = some o) ∨ (∃ n f, v = some (.inr (0, n, f)) ∧ c0 n f = some o) ∨ (∃ n f, v = some (.inr (1, n, f)) ∧ c1 n f = some o) ∨ (∃ n f, v = some (.inr (2, n, f)) ∧ c2 n f = some o) := by
  match v, h with
  | none, h => exact Or.inl ⟨rfl, h⟩
  | some (.inl u), h => exact Or.inr (Or.inl ⟨u, rfl, h⟩)
  | some (.inr (s, n, f)), h =>
    have h : (if s = 0 then c0 n f else if s = 1 then c1 n f else if s = 2 then c2 n f else none) = some o := h
    by_cases e0 : s = 0
    · subst e0; exact Or.inr (Or.inr (Or.inl ⟨n, f, rfl, h⟩))
    · rw [if_neg e0] at h
      by_cases e1 : s = 1
      · subst e1; exact Or.inr (Or.inr (Or.inr (Or.inl ⟨n, f, rfl, h⟩)))
      · rw [if_neg e1] at h
        by_cases e2 : s = 2
        · subst e2; exact Or.inr (Or.inr (Or.inr (Or.inr ⟨n, f, rfl, h⟩)))
        · rw [if_neg e2] at h; cases h
section XRW
variable {Γ : GX} {own : String} {cc : ByteArray} {nL : Nat} {ret ret' : Option FieldType} {Qc : Array Value → State → Outcome → State → Prop} {A : Nat → Prop} {rm rm' : Room} {D : va_G} {dA : Nat → ClassId}
variable {cells slots pc mc ms : Nat} {lv lv' : List (Nat × Value)} {st st0 : List Value} {b : Nat} {ad : Nat → Nat} {P : Nat → Prop} {F : Nat → va_E} {x x' : XS} {r : Nat} {h h' : HS} {gs : List (Nat × (Nat × Int32))}
theorem XW.xobj {H : Heap} (hM : XW D dA b ad P F gs x H) : ∃ (L : List Nat) (f : Nat → va_E) (ga : Nat → Nat → Option Nat) (gsh : Nat → Nat) (bf : List Value) (q0 : Nat), va_P D CL (va_pl L f) H ∧ va_D (fun q => b ≤ q) (va_pl L f) ∧ XR dA ad P F gs x ga gsh bf L f ∧ ad 0 ∈ L ∧ (va_pl L f)[q0]? = some (ad 0, f (ad 0)) ∧ (va_pl L f)[q0]? = some (ad 0, .inr (2, xfs ad x)) := hM.cell (xC_lo (k := 0) (by omega))
/-- one of the four houses -/
theorem qX_house (hΓ : GOK Γ RX1 cc nL ret Qc A rm) (hK : GKX Γ D dA b) (k : Nat) (hk : k < 4) {index : Nat} (hl : Cond.fieldLink RX1 index RX1 (TX1 k).2.1 (TX1 k).2.2.1 ∈ lw_all) (hdg : decode cc pc = .ok (.getfield index, 3)) (kk : WG Γ (XW D dA b ad P F gs x) cells slots (pc + 3) lv (.ref (ad (hB k 22)) :: st)) : WG Γ (XW D dA b ad P F gs x) cells slots pc lv (.ref (ad 0) :: st) := by
  intro H locs ls hw hS hl2
  obtain ⟨hx, hb, -, hown, hts⟩ := hΓ.1
  obtain ⟨L, f, ga, gsh, bf, q0, hP, hD, hR, hin, hq, hq2⟩ := hw.xobj
  refine va_get hx hb hts in_X1 hown hK.1 hP q0 hq2 rfl k (by omega) (hts _ hl) (fun x h => by rw [TX1_cls] at h; exact h) ?_ hdg (kk H locs ls hw hS hl2)
  rcases (by omega : k = 0 ∨ k = 1 ∨ k = 2 ∨ k = 3) with rfl | rfl | rfl | rfl <;> rfl
theorem qX_shelves (hΓ : GOK Γ RX1 cc nL ret Qc A rm) (hK : GKX Γ D dA b) {index : Nat} (hl : Cond.fieldLink RX1 index RX1 (TX1 6).2.1 (TX1 6).2.2.1 ∈ lw_all) (hdg : decode cc pc = .ok (.getfield index, 3)) (kk : WG Γ (XW D dA b ad P F gs x) cells slots (pc + 3) lv (.ref (ad 1) :: st)) : WG Γ (XW D dA b ad P F gs x) cells slots pc lv (.ref (ad 0) :: st) := by
  intro H locs ls hw hS hl2
  obtain ⟨hx, hb, -, hown, hts⟩ := hΓ.1
  obtain ⟨L, f, ga, gsh, bf, q0, hP, hD, hR, hin, hq, hq2⟩ := hw.xobj
  exact va_get hx hb hts in_X1 hown hK.1 hP q0 hq2 rfl 6 (by omega) (hts _ hl) (fun x h => by rw [TX1_cls] at h; exact h) rfl hdg (kk H locs ls hw hS hl2)
/-- hasImage, lots -/
theorem qX_get (hΓ : GOK Γ RX1 cc nL ret Qc A rm) (hK : GKX Γ D dA b) (k : Nat) (hk : k = 4 ∨ k = 5) {index : Nat} (hl : Cond.fieldLink RX1 index RX1 (TX1 k).2.1 (TX1 k).2.2.1 ∈ lw_all) (hdg : decode cc pc = .ok (.getfield index, 3)) (kk : WG Γ (XW D dA b ad P F gs x) cells slots (pc + 3) lv (.int (x.2.1 k) :: st)) : WG Γ (XW D dA b ad P F gs x) cells slots pc lv (.ref (ad 0) :: st) := by
  intro H locs ls hw hS hl2
  obtain ⟨hx, hb, -, hown, hts⟩ := hΓ.1
  obtain ⟨L, f, ga, gsh, bf, q0, hP, hD, hR, hin, hq, hq2⟩ := hw.xobj
  refine va_get hx hb hts in_X1 hown hK.1 hP q0 hq2 rfl k (by omega) (hts _ hl) (fun x h => by rw [TX1_cls] at h; exact h) ?_ hdg (kk H locs ls hw hS hl2)
  rcases hk with rfl | rfl <;> rfl
theorem qX_put0 (hΓ : GOK Γ RX1 cc nL ret Qc (fun q => b ≤ q) rm) (hK : GKX Γ D dA b) (k : Nat) (hk : k = 4 ∨ k = 5) {v : Int32} (hn : narrow (tyX1 k) (.int v) = .int v) (hft : fits (tyX1 k) (.int v) = true) {index : Nat} (hl : Cond.fieldLink RX1 index RX1 (TX1 k).2.1 (TX1 k).2.2.1 ∈ lw_all) (hdg : decode cc pc = .ok (.putfield index, 3)) (kk : WG Γ (XW D dA b ad P F gs (xS x k v)) cells slots (pc + 3) lv st) : WG Γ (XW D dA b ad P F gs x) cells slots pc lv (.int v :: .ref (ad 0) :: st) := by
  intro H locs ls hw hS0 hl2
  obtain ⟨hx, hb, -, hown, hts⟩ := hΓ.1
  obtain ⟨L, f, ga, gsh, bf, q0, hP, hD, hR, hin, hq, hq2⟩ := hw.xobj
  refine va_put hx hb hts in_X1 tyX1 tyX1_ok nmX1 hown hK.1 hP hD (gSto hΓ hS0) q0 hq2 rfl k (by omega) (hts _ hl) (fun x h => by rw [TX1_cls] at h; exact h) (by rcases hk with rfl | rfl <;> rfl) (tyX1_ok k (by omega)) hn hft (by show k < 7; omega) hdg (fun H1 locs1 hP1 hD1 hS1 => ?_)
  have e2 : EX dA ad ga gsh bf (xS x k v) 0 = .inr (2, (xfs ad x).set k (.int v)) := by
    rcases hk with rfl | rfl <;> rfl
  have e1 : ∀ e, (va_pl L f).set q0 (ad 0, e) = va_pl L (va_up f (ad 0) e) := fun e => va_pl_set (X := []) hD hin hq
  rw [← e2, e1] at hP1 hD1
  refine kk H1 locs1 ls ⟨L, _, ga, gsh, bf, hP1, hD1, hR.up (xC_lo (k := 0) (by omega)) (fun j => rfl) (fun j hj hne => ?_) (fun r' hr' j hj => rfl) (fun d hd g hg => hg)⟩ (gSof hΓ hS1) hl2
  unfold EX
  rw [if_neg hne, if_neg hne]
  rfl
theorem qX_put (hΓ : GOK Γ RX1 cc nL ret Qc (fun q => b ≤ q) rm) (hK : GKX Γ D dA b) {v : Int32} (hx : xSI x 5 v = some x') {index : Nat} (hl : Cond.fieldLink RX1 index RX1 (TX1 5).2.1 (TX1 5).2.2.1 ∈ lw_all) (hdg : decode cc pc = .ok (.putfield index, 3)) (kk : WG Γ (XW D dA b ad P F gs x') cells slots (pc + 3) lv st) : WG Γ (XW D dA b ad P F gs x) cells slots pc lv (.int v :: .ref (ad 0) :: st) := by
  cases hx
  exact qX_put0 hΓ hK 5 (Or.inr rfl) rfl rfl hl hdg kk
theorem qX_putz (hΓ : GOK Γ RX1 cc nL ret Qc (fun q => b ≤ q) rm) (hK : GKX Γ D dA b) {v : Int32} (hx : xSZ x 4 v = some x') {index : Nat} (hl : Cond.fieldLink RX1 index RX1 (TX1 4).2.1 (TX1 4).2.2.1 ∈ lw_all) (hdg : decode cc pc = .ok (.putfield index, 3)) (kk : WG Γ (XW D dA b ad P F gs x') cells slots (pc + 3) lv st) : WG Γ (XW D dA b ad P F gs x) cells slots pc lv (.int v :: .ref (ad 0) :: st) := by
  unfold xSZ at hx
  split at hx
  next hv =>
    cases hx
    rcases hv with rfl | rfl
    · exact qX_put0 hΓ hK 4 (Or.inl rfl) rfl rfl hl hdg kk
    · exact qX_put0 hΓ hK 4 (Or.inl rfl) rfl rfl hl hdg kk
  next => cases hx
/-- a house's field, array, glass, seen from the class -/
theorem qX_hput (hΓ : GOK Γ own cc nL ret Qc (fun q => b ≤ q) rm) (hK : GKX Γ D dA b) (hr : r < 4) {k : Nat} (hk : hF k = true) {v : Int32} (hx : xhS x r k v = some x') {index : Nat} (hl : Cond.fieldLink own index RX2 (TX2 k).2.1 (TX2 k).2.2.1 ∈ lw_all) (hdg : decode cc pc = .ok (.putfield index, 3)) (kk : WG Γ (XW D dA b ad P F gs x') cells slots (pc + 3) lv st) : WG Γ (XW D dA b ad P F gs x) cells slots pc lv (.int v :: .ref (ad (hB r 22)) :: st) :=
  qx_hput hΓ hK hr rfl hk (h' := hS (x.1 r) k v) rfl (Option.some.inj hx) hl hdg kk
theorem qX_iast (hΓ : GOK Γ own cc nL ret Qc (fun q => b ≤ q) rm) (hK : GKX Γ D dA b) (hr : r < 4) {k : Nat} (hk : hI k = true) {i v : Int32} (hx : xhW x r k i v = some x') (hdg : decode cc pc = .ok (.iastore, 1)) (kk : WG Γ (XW D dA b ad P F gs x') cells slots (pc + 1) lv st) : WG Γ (XW D dA b ad P F gs x) cells slots pc lv (.int v :: .int i :: .ref (ad (hB r k)) :: st) := by
  obtain ⟨h, hh, hx⟩ := bindE hx
  exact qx_iast hΓ hK hr rfl hk hh (Option.some.inj hx) hdg kk
theorem qX_zast (hΓ : GOK Γ own cc nL ret Qc (fun q => b ≤ q) rm) (hK : GKX Γ D dA b) (hr : r < 4) {i v : Int32} (hx : xhZ x r 5 i v = some x') (hdg : decode cc pc = .ok (.bastore, 1)) (kk : WG Γ (XW D dA b ad P F gs x') cells slots (pc + 1) lv st) : WG Γ (XW D dA b ad P F gs x) cells slots pc lv (.int v :: .int i :: .ref (ad (hB r 5)) :: st) := by
  obtain ⟨h, hh, hx⟩ := bindE hx
  exact qx_zast hΓ hK hr rfl hh (Option.some.inj hx) hdg kk
theorem qX_gast (hΓ : GOK Γ own cc nL ret Qc (fun q => b ≤ q) rm) (hK : GKX Γ D dA b) (hr : r < 4) {i : Int32} {a : Nat} {g : Nat × Int32} (hy : (a, g) ∈ gs) (hx : xhGw x r i g = some x') (hdg : decode cc pc = .ok (.aastore, 1)) (kk : WG Γ (XW D dA b ad P F gs x') cells slots (pc + 1) lv st) : WG Γ (XW D dA b ad P F gs x) cells slots pc lv (.ref a :: .int i :: .ref (ad (hB r 0)) :: st) := by
  obtain ⟨h, hh, hx⟩ := bindE hx
  exact qx_gast hΓ hK hr rfl hy hh (Option.some.inj hx) hdg kk
/-- a shelf out of the row of shelves -/
theorem qX_sald (hΓ : GOK Γ own cc nL ret Qc A rm) (hK : GKX Γ D dA b) {i : Int32} {d : Nat} (hx : shI i = some d) (hdg : decode cc pc = .ok (.aaload, 1)) (kk : d < 8 → WG Γ (XW D dA b ad P F gs x) cells slots (pc + 1) lv (.ref (ad (2 + d)) :: st)) : WG Γ (XW D dA b ad P F gs x) cells slots pc lv (.int i :: .ref (ad 1) :: st) := by
  intro H locs ls hw hS hl2
  obtain ⟨L, f, ga, gsh, bf, q0, hP, hD, hRr, hin, hq, hq2⟩ := hw.cell (xC_lo (x := x) (k := 1) (by omega))
  unfold shI at hx
  split at hx
  next => cases hx
  next hi =>
    cases hx
    refine va_aldq (n := 8) (f := fun d => some (ad (2 + d))) hΓ.1.1 hΓ.1.2.1 hK.1 hP q0 6 hq2 rfl hi hdg ?_
    exact kk (by omega) H locs ls hw hS hl2
theorem XW.shelf {H : Heap} (hM : XW D dA b ad P F gs x H) {d : Nat} (hd : d < 8) : ∃ (L : List Nat) (f : Nat → va_E) (ga : Nat → Nat → Option Nat) (gsh : Nat → Nat) (bf : List Value) (q0 : Nat), va_P D CL (va_pl L f) H ∧ va_D (fun q => b ≤ q) (va_pl L f) ∧ XR dA ad P F gs x ga gsh bf L f ∧ ad (2 + d) ∈ L ∧ (va_pl L f)[q0]? = some (ad (2 + d), f (ad (2 + d))) ∧ (va_pl L f)[q0]? = some (ad (2 + d), .inr (3, [va_rf (shRef ad gsh d (x.2.2.1 d))])) := by
  obtain ⟨L, f, ga, gsh, bf, q0, h1, h2, h3, h4, h5, h6⟩ := hM.cell (xC_lo (x := x) (k := 2 + d) (by omega))
  refine ⟨L, f, ga, gsh, bf, q0, h1, h2, h3, h4, h5, ?_⟩
  rw [h6]
  unfold EX
  rw [if_neg (by omega), if_neg (by omega), if_pos (by omega), Nat.add_sub_cancel_left]
/-- what a shelf holds: nothing -/
theorem qX_heldN (hΓ : GOK Γ own cc nL ret Qc A rm) (hK : GKX Γ D dA b) {d : Nat} (hd : d < 8) (hv : x.2.2.1 d = none) {index : Nat} (hl : Cond.fieldLink own index RX3 "held" "Ljava/lang/Object;" ∈ lw_all) (hdg : decode cc pc = .ok (.getfield index, 3)) (kk : WG Γ (XW D dA b ad P F gs x) cells slots (pc + 3) lv (.null :: st)) : WG Γ (XW D dA b ad P F gs x) cells slots pc lv (.ref (ad (2 + d)) :: st) := by
  intro H locs ls hw hS hl2
  obtain ⟨hx, hb, -, hown, hts⟩ := hΓ.1
  obtain ⟨L, f, ga, gsh, bf, q0, hP, hD, hR, hin, hq, hq2⟩ := hw.shelf hd
  rw [hv] at hq2
  exact va_get hx hb hts in_X3 hown hK.1 hP q0 hq2 rfl 0 (by omega) (hts _ hl) (fun x h => h) rfl hdg (kk H locs ls hw hS hl2)
/-- .. a glass -/
theorem qX_heldG (hΓ : GOK Γ own cc nL ret Qc A rm) (hK : GKX Γ D dA b) {d : Nat} (hd : d < 8) {g : Nat × Int32} (hv : x.2.2.1 d = some (.inl g)) {index : Nat} (hl : Cond.fieldLink own index RX3 "held" "Ljava/lang/Object;" ∈ lw_all) (hdg : decode cc pc = .ok (.getfield index, 3)) (kk : ∀ y : Nat, WG Γ (XW D dA b ad P F ((y, g) :: gs) x) cells slots (pc + 3) lv (.ref y :: st)) : WG Γ (XW D dA b ad P F gs x) cells slots pc lv (.ref (ad (2 + d)) :: st) := by
  intro H locs ls hw hS hl2
  obtain ⟨hx, hb, -, hown, hts⟩ := hΓ.1
  obtain ⟨L, f, ga, gsh, bf, q0, hP, hD, hR, hin, hq, hq2⟩ := hw.shelf hd
  rw [hv] at hq2
  refine va_get hx hb hts in_X3 hown hK.1 hP q0 hq2 rfl 0 (by omega) (hts _ hl) (fun x h => h) (v := .ref (gsh d)) rfl hdg (kk (gsh d) H locs ls ⟨L, f, ga, gsh, bf, hP, hD, hR.1, hR.2.1, hR.2.2.1, hR.2.2.2.1, hR.2.2.2.2.1, fun q hq => ?_, hR.2.2.2.2.2.2⟩ hS hl2)
  rcases List.mem_cons.mp hq with e | e
  · rw [e]; exact hR.2.2.2.2.1 d hd g hv
  · exact hR.2.2.2.2.2.1 q e
/-- .. a row -/
theorem qX_heldA (hΓ : GOK Γ own cc nL ret Qc A rm) (hK : GKX Γ D dA b) {d : Nat} (hd : d < 8) {u : Nat × Nat × (Nat → Int32)} (hv : x.2.2.1 d = some (.inr u)) {index : Nat} (hl : Cond.fieldLink own index RX3 "held" "Ljava/lang/Object;" ∈ lw_all) (hdg : decode cc pc = .ok (.getfield index, 3)) (kk : WG Γ (XW D dA b ad P F gs x) cells slots (pc + 3) lv (.ref (ad (70 + d)) :: st)) : WG Γ (XW D dA b ad P F gs x) cells slots pc lv (.ref (ad (2 + d)) :: st) := by
  intro H locs ls hw hS hl2
  obtain ⟨hx, hb, -, hown, hts⟩ := hΓ.1
  obtain ⟨L, f, ga, gsh, bf, q0, hP, hD, hR, hin, hq, hq2⟩ := hw.shelf hd
  rw [hv] at hq2
  exact va_get hx hb hts in_X3 hown hK.1 hP q0 hq2 rfl 0 (by omega) (hts _ hl) (fun x h => h) rfl hdg (kk H locs ls hw hS hl2)
/-! null -/
theorem g_null (hΓ : GOK Γ own cc nL ret Qc A rm) {w : Heap → Prop} (hdg : decode cc pc = .ok (.aconst_null, 1)) (kk : WG Γ w cells slots (pc + 1) lv (.null :: st)) : WG Γ w cells slots pc lv st := fun H locs ls hw hS hl => lv_null hΓ.1.1 hΓ.1.2.1 hdg (kk H locs ls hw hS hl)
theorem g_ifnonnullN (hΓ : GOK Γ own cc nL ret Qc A rm) {w : Heap → Prop} {off : Int} (hdg : decode cc pc = .ok (.ifnonnull off, 3)) (kk : WG Γ w cells slots (pc + 3) lv st) : WG Γ w cells slots pc lv (.null :: st) := fun H locs ls hw hS hl => lv_ifnonnullN hΓ.1.1 hΓ.1.2.1 hdg (kk H locs ls hw hS hl)
theorem g_ifnonnull (hΓ : GOK Γ own cc nL ret Qc A rm) {w : Heap → Prop} {off : Int} {tgt a : Nat} (hdg : decode cc pc = .ok (.ifnonnull off, 3)) (ht : (pc : Int) + off = (tgt : Int)) (kk : WG Γ w cells slots tgt lv st) : WG Γ w cells slots pc lv (.ref a :: st) := fun H locs ls hw hS hl => lv_ifnonnull hΓ.1.1 hΓ.1.2.1 hdg ht (kk H locs ls hw hS hl)
theorem g_ifnullN (hΓ : GOK Γ own cc nL ret Qc A rm) {w : Heap → Prop} {off : Int} {tgt : Nat} (hdg : decode cc pc = .ok (.ifnull off, 3)) (ht : (pc : Int) + off = (tgt : Int)) (kk : WG Γ w cells slots tgt lv st) : WG Γ w cells slots pc lv (.null :: st) := fun H locs ls hw hS hl => lv_ifnullN hΓ.1.1 hΓ.1.2.1 hdg ht (kk H locs ls hw hS hl)
theorem g_ifnull (hΓ : GOK Γ own cc nL ret Qc A rm) {w : Heap → Prop} {off : Int} {a : Nat} (hdg : decode cc pc = .ok (.ifnull off, 3)) (kk : WG Γ w cells slots (pc + 3) lv st) : WG Γ w cells slots pc lv (.ref a :: st) := fun H locs ls hw hS hl => lv_ifnull hΓ.1.1 hΓ.1.2.1 hdg (kk H locs ls hw hS hl)
theorem g_instN (hΓ : GOK Γ own cc nL ret Qc A rm) {w : Heap → Prop} {index : Nat} (hdg : decode cc pc = .ok (.instanceof index, 3)) (kk : WG Γ w cells slots (pc + 3) lv (.int 0 :: st)) : WG Γ w cells slots pc lv (.null :: st) := fun H locs ls hw hS hl => lv_instN hΓ.1.1 hΓ.1.2.1 hdg (kk H locs ls hw hS hl)
theorem g_castN (hΓ : GOK Γ own cc nL ret Qc A rm) {w : Heap → Prop} {index : Nat} (hdg : decode cc pc = .ok (.checkcast index, 3)) (kk : WG Γ w cells slots (pc + 3) lv (.null :: st)) : WG Γ w cells slots pc lv (.null :: st) := fun H locs ls hw hS hl => lv_castN hΓ.1.1 hΓ.1.2.1 hdg (kk H locs ls hw hS hl)
theorem g_astore_nN (hΓ : GOK Γ own cc nL ret Qc A rm) {w : Heap → Prop} {k : Fin 4} {i : Nat} (hdg : decode cc pc = .ok (.astore_n k, 1)) (hi : (k : Nat) = i) (hn : i < nL) (hq : (i, Value.null) :: lv.filter (fun q => !(q.1 == i) && !(q.1 + 1 == i && q.2.category == 2)) = lv') (kk : WG Γ w cells slots (pc + 1) lv' st) : WG Γ w cells slots pc lv (.null :: st) :=
  fun H locs ls hw hS hl => lv_astore_nN hΓ.1.1 hΓ.1.2.1 hdg hi hl (by rw [hΓ.2.1]; exact hn) hq (fun ls hl => kk H locs ls hw hS hl)
theorem g_astoreN (hΓ : GOK Γ own cc nL ret Qc A rm) {w : Heap → Prop} {i : Nat} (hdg : decode cc pc = .ok (.astore i, 2)) (hn : i < nL) (hq : (i, Value.null) :: lv.filter (fun q => !(q.1 == i) && !(q.1 + 1 == i && q.2.category == 2)) = lv') (kk : WG Γ w cells slots (pc + 2) lv' st) : WG Γ w cells slots pc lv (.null :: st) :=
  fun H locs ls hw hS hl => lv_astoreN hΓ.1.1 hΓ.1.2.1 hdg hl (by rw [hΓ.2.1]; exact hn) hq (fun ls hl => kk H locs ls hw hS hl)
theorem g_aload_nN (hΓ : GOK Γ own cc nL ret Qc A rm) {w : Heap → Prop} (q : Nat) {k : Fin 4} {i : Nat} (hdg : decode cc pc = .ok (.aload_n k, 1)) (hi : (k : Nat) = i) (hq : lv[q]? = some (i, .null)) (kk : WG Γ w cells slots (pc + 1) lv (.null :: st)) : WG Γ w cells slots pc lv st :=
  fun H locs ls hw hS hl => lv_aload_nN hΓ.1.1 hΓ.1.2.1 hdg hi (lv_at hl q hq) (kk H locs ls hw hS hl)
theorem g_aloadN (hΓ : GOK Γ own cc nL ret Qc A rm) {w : Heap → Prop} (q : Nat) {i : Nat} (hdg : decode cc pc = .ok (.aload i, 2)) (hq : lv[q]? = some (i, .null)) (kk : WG Γ w cells slots (pc + 2) lv (.null :: st)) : WG Γ w cells slots pc lv st :=
  fun H locs ls hw hS hl => lv_aloadN hΓ.1.1 hΓ.1.2.1 hdg (lv_at hl q hq) (kk H locs ls hw hS hl)
/-! what a glass or a row is an instance of -/
/-- a glass is a Glass -/
theorem gIs {s : State} (hX : XN s) {k : Nat} (hk : k < 8) {q : vw_C} (hq : CL[5 + k]? = some q) : q.1 = "WhoseGlass$Glass" ∨ va_Nw (.castable q.1 "WhoseGlass$Glass") s := by
  rcases (by omega : k = 0 ∨ k = 1 ∨ k = 2 ∨ k = 3 ∨ k = 4 ∨ k = 5 ∨ k = 6 ∨ k = 7) with rfl | rfl | rfl | rfl | rfl | rfl | rfl | rfl <;> cases hq
  · exact Or.inl rfl
  all_goals exact Or.inr (hX.1 (_, _) (by decide +kernel))
/-- .. and no array -/
theorem gIsNot {s : State} (hX : XN s) {k : Nat} (hk : k < 8) {q : vw_C} (hq : CL[5 + k]? = some q) {nm : String} (hn : nm = "[B" ∨ nm = "[S" ∨ nm = "[I") : va_Nc q.1 nm s := by
  rcases (by omega : k = 0 ∨ k = 1 ∨ k = 2 ∨ k = 3 ∨ k = 4 ∨ k = 5 ∨ k = 6 ∨ k = 7) with rfl | rfl | rfl | rfl | rfl | rfl | rfl | rfl <;> cases hq <;> rcases hn with rfl | rfl | rfl <;> exact hX.2.2.1 (_, _) (by decide +kernel)
theorem qX_instG (hΓ : GOK Γ own cc nL ret Qc A rm) (hK : GKX Γ D dA b) {a : Nat} {g : Nat × Int32} (hg : (a, g) ∈ gs) {index : Nat} (hl : Cond.classLink own index "WhoseGlass$Glass" ∈ lw_all) (hdg : decode cc pc = .ok (.instanceof index, 3)) (kk : WG Γ (XW D dA b ad P F gs x) cells slots (pc + 3) lv (.int 1 :: st)) : WG Γ (XW D dA b ad P F gs x) cells slots pc lv (.ref a :: st) := by
  intro H locs ls hw hS hl2
  obtain ⟨hg8, q, hq, hr⟩ := hw.glassR hg hK.1
  rcases gIs hK.2.1 hg8 hq with e | e
  · rw [e] at hr
    exact va_instE hΓ.1.1 hΓ.1.2.1 hΓ.1.2.2.2.1 (hΓ.1.2.2.2.2 _ hl) hr hdg (kk H locs ls hw hS hl2)
  · exact va_instY hΓ.1.1 hΓ.1.2.1 hΓ.1.2.2.2.1 (hΓ.1.2.2.2.2 _ hl) e hr hdg (kk H locs ls hw hS hl2)
theorem qX_castG (hΓ : GOK Γ own cc nL ret Qc A rm) (hK : GKX Γ D dA b) {a : Nat} {g : Nat × Int32} (hg : (a, g) ∈ gs) {index : Nat} (hl : Cond.classLink own index "WhoseGlass$Glass" ∈ lw_all) (hdg : decode cc pc = .ok (.checkcast index, 3)) (kk : WG Γ (XW D dA b ad P F gs x) cells slots (pc + 3) lv (.ref a :: st)) : WG Γ (XW D dA b ad P F gs x) cells slots pc lv (.ref a :: st) := by
  intro H locs ls hw hS hl2
  obtain ⟨hg8, q, hq, hr⟩ := hw.glassR hg hK.1
  rcases gIs hK.2.1 hg8 hq with e | e
  · rw [e] at hr
    exact va_castE hΓ.1.1 hΓ.1.2.1 hΓ.1.2.2.2.1 (hΓ.1.2.2.2.2 _ hl) hr hdg (kk H locs ls hw hS hl2)
  · exact va_castY hΓ.1.1 hΓ.1.2.1 hΓ.1.2.2.2.1 (hΓ.1.2.2.2.2 _ hl) e hr hdg (kk H locs ls hw hS hl2)
theorem qX_instGA (hΓ : GOK Γ own cc nL ret Qc A rm) (hK : GKX Γ D dA b) {a : Nat} {g : Nat × Int32} (hg : (a, g) ∈ gs) {index : Nat} {nm : String} (hn : nm = "[B" ∨ nm = "[S" ∨ nm = "[I") (hl : Cond.classLink own index nm ∈ lw_all) (hdg : decode cc pc = .ok (.instanceof index, 3)) (kk : WG Γ (XW D dA b ad P F gs x) cells slots (pc + 3) lv (.int 0 :: st)) : WG Γ (XW D dA b ad P F gs x) cells slots pc lv (.ref a :: st) := by
  intro H locs ls hw hS hl2
  obtain ⟨hg8, q, hq, hr⟩ := hw.glassR hg hK.1
  exact va_instNo hΓ.1.1 hΓ.1.2.1 hΓ.1.2.2.2.1 (hΓ.1.2.2.2.2 _ hl) (gIsNot hK.2.1 hg8 hq hn) hr hdg (kk H locs ls hw hS hl2)
end XRW

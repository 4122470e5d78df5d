/-! rows over the class's world: fields and arrays of one of the four houses -/
/-- words of the tables that don't ride in lw_all -/
def xnC : List (String × String) := [("WhoseGlass$Marked", "WhoseGlass$Glass"), ("WhoseGlass$Tall", "WhoseGlass$Glass"), ("WhoseGlass$Red", "WhoseGlass$Glass"), ("WhoseGlass$Water", "WhoseGlass$Glass"), ("WhoseGlass$Owl", "WhoseGlass$Glass"), ("WhoseGlass$Chipped", "WhoseGlass$Glass"), ("WhoseGlass$Poured", "WhoseGlass$Glass")]
def xnN : List (String × Nat × MethodName × String) := [("WhoseGlass$House", 89, ⟨"WhoseGlass", "isIn", "(III)Z"⟩, "WhoseGlass"), ("WhoseGlass$House", 118, ⟨"WhoseGlass", "has", "(II)Z"⟩, "WhoseGlass"), ("WhoseGlass$Reader", 35, ⟨"WhoseGlass", "isIn", "(III)Z"⟩, "WhoseGlass")]
/-- pairs of classes of which the first is not the second -/
def xnX : List (String × String) := (["WhoseGlass$Glass", "WhoseGlass$Marked", "WhoseGlass$Tall", "WhoseGlass$Red", "WhoseGlass$Water", "WhoseGlass$Owl", "WhoseGlass$Chipped", "WhoseGlass$Poured"].flatMap (fun c => [(c, "[B"), (c, "[S"), (c, "[I")])) ++ [("[B", "[S"), ("[B", "[I"), ("[B", "WhoseGlass$Glass"), ("[S", "[B"), ("[S", "[I"), ("[S", "WhoseGlass$Glass"), ("[I", "[B"), ("[I", "[S"), ("[I", "WhoseGlass$Glass")]
/-- links and sameness through which defaults are called -/
def xnW : List Cond := [.methodLink "WhoseGlass$Red" 11 ⟨"WhoseGlass$Glass", "isRed", "()Z"⟩, .sameMethod "WhoseGlass$Glass" "WhoseGlass$Looks" "isRed" "()Z", .methodLink "WhoseGlass$Tall" 11 ⟨"WhoseGlass$Glass", "isTall", "()Z"⟩, .sameMethod "WhoseGlass$Glass" "WhoseGlass$Looks" "isTall" "()Z", .methodLink "WhoseGlass$House" 115 ⟨"WhoseGlass$Glass", "strength", "(I)I"⟩, .sameMethod "WhoseGlass$Glass" "WhoseGlass$Sips" "strength" "(I)I", .methodLink "WhoseGlass$Red" 15 ⟨"WhoseGlass$Glass", "strength", "(I)I"⟩, .methodLink "WhoseGlass$Tall" 15 ⟨"WhoseGlass$Glass", "strength", "(I)I"⟩, .methodLink "WhoseGlass" 319 ⟨"WhoseGlass$Glass", "cost", "()I"⟩, .sameMethod "WhoseGlass$Glass" "WhoseGlass$Costs" "cost" "()I", .methodLink "WhoseGlass$Red" 25 ⟨"WhoseGlass$Glass", "cost", "()I"⟩, .methodLink "WhoseGlass$Marked" 7 ⟨"WhoseGlass$Glass", "cost", "()I"⟩, .methodLink "WhoseGlass$Tall" 19 ⟨"WhoseGlass$Glass", "cost", "()I"⟩]
/-- classes for which a default runs -/
def xnD : List (String × MethodName) := [("WhoseGlass$Glass", ⟨"WhoseGlass$Looks", "isRed", "()Z"⟩), ("WhoseGlass$Marked", ⟨"WhoseGlass$Looks", "isRed", "()Z"⟩), ("WhoseGlass$Owl", ⟨"WhoseGlass$Looks", "isRed", "()Z"⟩), ("WhoseGlass$Tall", ⟨"WhoseGlass$Looks", "isRed", "()Z"⟩), ("WhoseGlass$Water", ⟨"WhoseGlass$Looks", "isRed", "()Z"⟩), ("WhoseGlass$Chipped", ⟨"WhoseGlass$Looks", "isTall", "()Z"⟩), ("WhoseGlass$Glass", ⟨"WhoseGlass$Looks", "isTall", "()Z"⟩), ("WhoseGlass$Marked", ⟨"WhoseGlass$Looks", "isTall", "()Z"⟩), ("WhoseGlass$Owl", ⟨"WhoseGlass$Looks", "isTall", "()Z"⟩), ("WhoseGlass$Poured", ⟨"WhoseGlass$Looks", "isTall", "()Z"⟩), ("WhoseGlass$Red", ⟨"WhoseGlass$Looks", "isTall", "()Z"⟩), ("WhoseGlass$Glass", ⟨"WhoseGlass$Sips", "strength", "(I)I"⟩), ("WhoseGlass$Marked", ⟨"WhoseGlass$Sips", "strength", "(I)I"⟩), ("WhoseGlass$Owl", ⟨"WhoseGlass$Sips", "strength", "(I)I"⟩), ("WhoseGlass$Glass", ⟨"WhoseGlass$Costs", "cost", "()I"⟩)]
def XN (U : State) : Prop := (∀ q ∈ xnC, va_Nw (.castable q.1 q.2) U) ∧ (∀ q ∈ xnN, va_Nw (.methodLinkNest q.1 q.2.1 q.2.2.1 q.2.2.2) U) ∧ (∀ q ∈ xnX, va_Nc q.1 q.2 U) ∧ (∀ w ∈ xnW, va_Nw w U) ∧ (∀ q ∈ xnD, LDf q.1 q.2 U) ∧ (va_AO "WhoseGlass$Glass" U ∧ va_AO "WhoseGlass$Shelf" U)
theorem xnW_ok : ∀ w ∈ xnW, w.onTables = true ∧ (w.onTables && w.keeps) = true := by
  intro w hw
  simp only [xnW, List.mem_cons, List.not_mem_nil, or_false] at hw
  rcases hw with rfl | rfl | rfl | rfl | rfl | rfl | rfl | rfl | rfl | rfl | rfl | rfl | rfl <;> exact ⟨rfl, rfl⟩
theorem XN.warm {s U : State} (hW : s.WarmedH U.vm) (h : XN s) : XN U := ⟨fun q hq => va_Nw.warmC hW (h.1 q hq), fun q hq => va_Nw.warmM hW (h.2.1 q hq), fun q hq => va_Nc.moved hW.alike (h.2.2.1 q hq), fun w hw => word_at hW (Or.inl (xnW_ok w hw).2) (h.2.2.2.1 w hw), fun q hq => (h.2.2.2.2.1 q hq).moved hW.alike, h.2.2.2.2.2.1.moved hW.alike, h.2.2.2.2.2.2.moved hW.alike⟩
theorem XN.same {s U : State} (hW : s.vm = U.vm) (h : XN s) : XN U := ⟨fun q hq => va_Nw.same rfl hW (h.1 q hq), fun q hq => va_Nw.same rfl hW (h.2.1 q hq), fun q hq => va_Nc.moved (by rw [hW]; exact Vm.Alike.refl _) (h.2.2.1 q hq), fun w hw => va_Nw.same (xnW_ok w hw).1 hW (h.2.2.2.1 w hw), fun q hq => (h.2.2.2.2.1 q hq).moved (by rw [hW]; exact Vm.Alike.refl _), h.2.2.2.2.2.1.moved (by rw [hW]; exact Vm.Alike.refl _), h.2.2.2.2.2.2.moved (by rw [hW]; exact Vm.Alike.refl _)⟩
def XK (D : va_G) (dA : Nat → ClassId) (b : Nat) (U : State) : Prop := va_K D CL (TYS dA) U ∧ XN U ∧ b ≤ U.heap.size
abbrev GKX (Γ : GX) (D : va_G) (dA : Nat → ClassId) (b : Nat) : Prop := XK D dA b Γ.2.2.2.2.1
/-! reads and writes of a house -/
def hR (h : HS) (k : Nat) (i : Int32) : Option Int32 := if i < 0 ∨ hLen k ≤ i.toNatClampNeg then none else some (h.2.1 k i.toNatClampNeg)
def hWr (h : HS) (k : Nat) (i v : Int32) : Option HS := if i < 0 ∨ hLen k ≤ i.toNatClampNeg then none else some (h.1, (fun j => if j = k then upd (h.2.1 k) i.toNatClampNeg v else h.2.1 j), h.2.2)
def hWz (h : HS) (k : Nat) (i v : Int32) : Option HS := if v = 0 ∨ v = 1 then hWr h k i v else none
def hS (h : HS) (k : Nat) (v : Int32) : HS := (h.1, h.2.1, (fun j => if j = k then v else h.2.2 j))
def hSI (h : HS) (k : Nat) (v : Int32) : Option HS := some (hS h k v)
def hG (h : HS) (i : Int32) : Option (Nat × Int32) := if i < 0 ∨ 12 ≤ i.toNatClampNeg then none else h.1 i.toNatClampNeg
def hGw (h : HS) (i : Int32) (g : Nat × Int32) : Option HS := if i < 0 ∨ 12 ≤ i.toNatClampNeg then none else some (va_up h.1 i.toNatClampNeg (some g), h.2)
theorem TX2_cls (k : Nat) : (TX2 k).1 = RX2 := by unfold TX2; split <;> rfl
theorem hF_lt {k : Nat} (h : hF k = true) : 14 ≤ k ∧ k < 22 := by
  simpa [hF] using h
theorem hF_fin : ∀ k, k < 22 → hF k = true → (TX2 k).2.2.2 = false := by decide +kernel
theorem hF_ty : ∀ k, k < 22 → hF k = true → tyX2 k = .int := by decide +kernel
theorem hI_lt {k : Nat} (h : hI k = true) : 1 ≤ k ∧ k < 14 ∧ k ≠ 5 := by
  simp only [hI, Bool.or_eq_true, Bool.and_eq_true, decide_eq_true_eq] at h
  omega
theorem hI_C {k : Nat} (h : hI k = true) : hC k = true := by
  have := hI_lt h
  simp [hC, this.2.1]
theorem hfs_get {ad : Nat → Nat} {r k : Nat} {h : HS} (hk : k < 22) : (hfs ad r h)[k]? = some (hfv ad r h k) := by simp [hfs, hk]
theorem hfs_len (ad : Nat → Nat) (r : Nat) (h : HS) : (hfs ad r h).length = 22 := by simp [hfs]
theorem hfs_set {ad : Nat → Nat} {r k : Nat} {h : HS} {v : Int32} (hk : 14 ≤ k) : (hfs ad r h).set k (.int v) = hfs ad r (hS h k v) := by
  unfold hfs
  rw [map_set_range]
  refine List.map_congr_left (fun j _ => ?_)
  by_cases e : j = k
  · subst e
    have : ¬ j < 14 := by omega
    simp [va_up, hfv, hS, this]
  · simp [va_up, hfv, hS, e]
theorem EH_i {dA : Nat → ClassId} {ad : Nat → Nat} {a : Nat → Option Nat} {r : Nat} {h : HS} {k : Nat} (hk : hI k = true) : EH dA ad a r h k = .inl (dA 0, hLen k, .inl (h.2.1 k)) := by
  have := hI_lt hk
  unfold EH
  rw [if_neg (by omega), if_neg (by omega), if_neg (by omega)]
theorem EH_ar {dA : Nat → ClassId} {ad : Nat → Nat} {a : Nat → Option Nat} {r : Nat} {h : HS} {k j : Nat} {g : Nat → Int32} (hj : j ≠ k) : EH dA ad a r (h.1, (fun i => if i = k then g else h.2.1 i), h.2.2) j = EH dA ad a r h j := by
  unfold EH
  split; · rfl
  split; · rfl
  split
  · rename_i e
    subst e
    simp only [if_neg hj]
  · simp only [if_neg hj]
section HG
variable {Γ : GX} {own : String} {cc : ByteArray} {nL : Nat} {ret ret' : Option FieldType} {Qc : Array Value → State → Outcome → State → Prop} {A : Nat → Prop} {rm rm' : Room} {D : va_G} {dA : Nat → ClassId}
variable {cells slots pc : Nat} {lv lv' : List (Nat × Value)} {st st0 : List Value} {b : Nat} {ad : Nat → Nat} {P : Nat → Prop} {F : Nat → va_E} {x x' : XS} {r : Nat} {h h' : HS} {gs : List (Nat × (Nat × Int32))}
theorem XW.cell {H : Heap} (hM : XW D dA b ad P F gs x H) {k : Nat} (hk : xC x k = true) : ∃ (L : List Nat) (f : Nat → va_E) (ga : Nat → Nat → Option Nat) (gsh : Nat → Nat) (bf : List Value) (q0 : Nat), va_P D CL (va_pl L f) H ∧ va_D (fun q => b ≤ q) (va_pl L f) ∧ XR dA ad P F gs x ga gsh bf L f ∧ ad k ∈ L ∧ (va_pl L f)[q0]? = some (ad k, f (ad k)) ∧ (va_pl L f)[q0]? = some (ad k, EX dA ad ga gsh bf x k) := by
  obtain ⟨L, f, ga, gsh, bf, hP, hD, hR⟩ := hM
  obtain ⟨hin, hf⟩ := hR.1 k hk
  obtain ⟨q0, hq⟩ := va_pl_get (X := []) (f := f) hin
  have hq : (va_pl L f)[q0]? = some (ad k, f (ad k)) := hq
  exact ⟨L, f, ga, gsh, bf, q0, hP, hD, hR, hin, hq, by rw [hq, hf]⟩
theorem XW.hobj {H : Heap} (hM : XW D dA b ad P F gs x H) (hr : r < 4) (hh : x.1 r = h) : ∃ (L : List Nat) (f : Nat → va_E) (ga : Nat → Nat → Option Nat) (gsh : Nat → Nat) (bf : List Value) (q0 : Nat), va_P D CL (va_pl L f) H ∧ va_D (fun q => b ≤ q) (va_pl L f) ∧ XR dA ad P F gs x ga gsh bf L f ∧ ad (hB r 22) ∈ L ∧ (va_pl L f)[q0]? = some (ad (hB r 22), f (ad (hB r 22))) ∧ (va_pl L f)[q0]? = some (ad (hB r 22), .inr (1, hfs ad r h)) := by
  obtain ⟨L, f, ga, gsh, bf, q0, h1, h2, h3, h4, h5, h6⟩ := hM.cell (xC_h hr (show hC 22 = true from rfl))
  refine ⟨L, f, ga, gsh, bf, q0, h1, h2, h3, h4, h5, ?_⟩
  rw [h6, EX_h hr (by omega), hh]
  rfl
theorem qx_hget (hΓ : GOK Γ own cc nL ret Qc A rm) (hK : GKX Γ D dA b) (hr : r < 4) (hh : x.1 r = h) {k : Nat} (hk : hF k = true) {index : Nat} (hl : Cond.fieldLink own index RX2 (TX2 k).2.1 (TX2 k).2.2.1 ∈ lw_all) (hdg : decode cc pc = .ok (.getfield index, 3)) (kk : WG Γ (XW D dA b ad P F gs x) cells slots (pc + 3) lv (.int (h.2.2 k) :: st)) : WG Γ (XW D dA b ad P F gs x) cells slots pc lv (.ref (ad (hB r 22)) :: st) := by
  intro H locs ls hw hS hl2
  obtain ⟨hx, hb, -, hown, hts⟩ := hΓ.1
  obtain ⟨L, f, ga, gsh, bf, q0, hP, hD, hR, hin, hq, hq2⟩ := hw.hobj hr hh
  have hlt := hF_lt hk
  exact va_get hx hb hts in_X2 hown hK.1 hP q0 hq2 rfl k hlt.2 (hts _ hl) (fun x h => by rw [TX2_cls] at h; exact h) (by rw [hfs_get hlt.2, hfv, if_neg (by omega)]) hdg (kk H locs ls hw hS hl2)
theorem qx_hgeta (hΓ : GOK Γ own cc nL ret Qc A rm) (hK : GKX Γ D dA b) (hr : r < 4) {k : Nat} (hk : decide (k < 14) = true) {index : Nat} (hl : Cond.fieldLink own index RX2 (TX2 k).2.1 (TX2 k).2.2.1 ∈ lw_all) (hdg : decode cc pc = .ok (.getfield index, 3)) (kk : WG Γ (XW D dA b ad P F gs x) cells slots (pc + 3) lv (.ref (ad (hB r k)) :: st)) : WG Γ (XW D dA b ad P F gs x) cells slots pc lv (.ref (ad (hB r 22)) :: st) := by
  intro H locs ls hw hS hl2
  obtain ⟨hx, hb, -, hown, hts⟩ := hΓ.1
  obtain ⟨L, f, ga, gsh, bf, q0, hP, hD, hR, hin, hq, hq2⟩ := hw.hobj hr rfl
  have hk : k < 14 := of_decide_eq_true hk
  exact va_get hx hb hts in_X2 hown hK.1 hP q0 hq2 rfl k (by omega) (hts _ hl) (fun x h => by rw [TX2_cls] at h; exact h) (by rw [hfs_get (by omega), hfv, if_pos hk]) hdg (kk H locs ls hw hS hl2)
theorem qx_hput (hΓ : GOK Γ own cc nL ret Qc (fun q => b ≤ q) rm) (hK : GKX Γ D dA b) (hr : r < 4) (hh : x.1 r = h) {k : Nat} (hk : hF k = true) {v : Int32} (hx : hSI h k v = some h') (hx' : xh x r h' = x') {index : Nat} (hl : Cond.fieldLink own index RX2 (TX2 k).2.1 (TX2 k).2.2.1 ∈ lw_all) (hdg : decode cc pc = .ok (.putfield index, 3)) (kk : WG Γ (XW D dA b ad P F gs x') cells slots (pc + 3) lv st) : WG Γ (XW D dA b ad P F gs x) cells slots pc lv (.int v :: .ref (ad (hB r 22)) :: st) := by
  cases hx
  intro H locs ls hw hS0 hl2
  obtain ⟨hx, hb, -, hown, hts⟩ := hΓ.1
  obtain ⟨L, f, ga, gsh, bf, q0, hP, hD, hR, hin, hq, hq2⟩ := hw.hobj hr hh
  have hlt := hF_lt hk
  have ht := hF_ty k hlt.2 hk
  refine va_put hx hb hts in_X2 tyX2 tyX2_ok nmX2 hown hK.1 hP hD (gSto hΓ hS0) q0 hq2 rfl k hlt.2 (hts _ hl) (fun x h => by rw [TX2_cls] at h; exact h) (hF_fin k hlt.2 hk) (tyX2_ok k hlt.2) (by rw [ht]; rfl) (by rw [ht]; rfl) (by rw [hfs_len]; exact hlt.2) hdg (fun H1 locs1 hP1 hD1 hS1 => ?_)
  have e2 : EX dA ad ga gsh bf (xh x r (hS h k v)) (hB r 22) = .inr (1, (hfs ad r h).set k (.int v)) := by
    rw [EX_h hr (by omega), xh_at, hfs_set hlt.1]
    rfl
  have e1 : ∀ e, (va_pl L f).set q0 (ad (hB r 22), e) = va_pl L (va_up f (ad (hB r 22)) e) := fun e => va_pl_set (X := []) hD hin hq
  rw [← e2, e1] at hP1 hD1
  subst hx'
  refine kk H1 locs1 ls ⟨L, _, ga, gsh, bf, hP1, hD1, hR.up (xC_h hr rfl) (fun j => rfl) (fun j hj hne => ?_) (fun r' hr' j hj => ?_) (fun d hd g hg => hg)⟩ (gSof hΓ hS1) hl2
  · rw [EX_xh (h := h) (h' := hS h k v) (k := 22) (fun i hi => ?_) j hj hne, ← hh, xh_self]
    unfold EH
    rw [if_neg hi, if_neg hi]
    rfl
  · by_cases e : r' = r
    · subst e
      rw [xh_at, hh]
      rfl
    · rw [xh_ne _ _ e]
theorem XW.hcell {H : Heap} (hM : XW D dA b ad P F gs x H) (hr : r < 4) (hh : x.1 r = h) {k : Nat} (hk : hC k = true) : ∃ (L : List Nat) (f : Nat → va_E) (ga : Nat → Nat → Option Nat) (gsh : Nat → Nat) (bf : List Value) (q0 : Nat), va_P D CL (va_pl L f) H ∧ va_D (fun q => b ≤ q) (va_pl L f) ∧ XR dA ad P F gs x ga gsh bf L f ∧ ad (hB r k) ∈ L ∧ (va_pl L f)[q0]? = some (ad (hB r k), f (ad (hB r k))) ∧ (va_pl L f)[q0]? = some (ad (hB r k), EH dA ad (ga r) r h k) := by
  obtain ⟨L, f, ga, gsh, bf, q0, h1, h2, h3, h4, h5, h6⟩ := hM.cell (xC_h hr hk)
  refine ⟨L, f, ga, gsh, bf, q0, h1, h2, h3, h4, h5, ?_⟩
  have hk30 : k < 30 := by
    simp only [hC, Bool.or_eq_true, decide_eq_true_eq, beq_iff_eq] at hk
    omega
  rw [h6, EX_h hr hk30, hh]
theorem qx_iald (hΓ : GOK Γ own cc nL ret Qc A rm) (hK : GKX Γ D dA b) (hr : r < 4) (hh : x.1 r = h) {k : Nat} (hk : hI k = true) {i v : Int32} (hx : hR h k i = some v) (hdg : decode cc pc = .ok (.iaload, 1)) (kk : WG Γ (XW D dA b ad P F gs x) cells slots (pc + 1) lv (.int v :: st)) : WG Γ (XW D dA b ad P F gs x) cells slots pc lv (.int i :: .ref (ad (hB r k)) :: st) := by
  intro H locs ls hw hS hl2
  obtain ⟨L, f, ga, gsh, bf, q0, hP, hD, hRr, hin, hq, hq2⟩ := hw.hcell hr hh (hI_C hk)
  rw [EH_i hk] at hq2
  unfold hR at hx
  split at hx
  next => cases hx
  next hi =>
    cases hx
    exact va_iald hΓ.1.1 hΓ.1.2.1 hK.1 hP q0 0 hq2 rfl hi hdg (kk H locs ls hw hS hl2)
theorem qx_zald (hΓ : GOK Γ own cc nL ret Qc A rm) (hK : GKX Γ D dA b) (hr : r < 4) (hh : x.1 r = h) {i v : Int32} (hx : hR h 5 i = some v) (hdg : decode cc pc = .ok (.baload, 1)) (kk : WG Γ (XW D dA b ad P F gs x) cells slots (pc + 1) lv (.int v :: st)) : WG Γ (XW D dA b ad P F gs x) cells slots pc lv (.int i :: .ref (ad (hB r 5)) :: st) := by
  intro H locs ls hw hS hl2
  obtain ⟨L, f, ga, gsh, bf, q0, hP, hD, hRr, hin, hq, hq2⟩ := hw.hcell hr hh (show hC 5 = true from rfl)
  unfold hR at hx
  split at hx
  next => cases hx
  next hi =>
    cases hx
    exact va_zald (n := 12) hΓ.1.1 hΓ.1.2.1 hK.1 hP q0 2 hq2 rfl hi hdg (kk H locs ls hw hS hl2)
/-- an int array of a house is written: the world behind it -/
theorem hst_up {H : Heap} {L : List Nat} {f : Nat → va_E} {ga : Nat → Nat → Option Nat} {gsh : Nat → Nat} {bf : List Value} {k : Nat} {w : Nat → Int32} {e : va_E} (hr : r < 4) (hh : x.1 r = h) (hk : hC k = true) (hR : XR dA ad P F gs x ga gsh bf L f) (he : EH dA ad (ga r) r (h.1, (fun j => if j = k then w else h.2.1 j), h.2.2) k = e) (hP : va_P D CL (va_pl L (va_up f (ad (hB r k)) e)) H) (hD : va_D (fun q => b ≤ q) (va_pl L (va_up f (ad (hB r k)) e))) : XW D dA b ad P F gs (xh x r (h.1, (fun j => if j = k then w else h.2.1 j), h.2.2)) H := by
  have hk30 : k < 30 := by
    simp only [hC, Bool.or_eq_true, decide_eq_true_eq, beq_iff_eq] at hk
    omega
  have e2 : EX dA ad ga gsh bf (xh x r (h.1, (fun j => if j = k then w else h.2.1 j), h.2.2)) (hB r k) = e := by
    rw [EX_h hr hk30, xh_at, he]
  rw [← e2] at hP hD
  refine ⟨L, _, ga, gsh, bf, hP, hD, hR.up (xC_h hr hk) (fun j => rfl) (fun j hj hne => ?_) (fun r' hr' j hj => ?_) (fun d hd g hg => hg)⟩
  · rw [EX_xh (h := h) (k := k) (fun i hi => EH_ar hi) j hj hne, ← hh, xh_self]
  · by_cases e : r' = r
    · subst e
      rw [xh_at, hh]
    · rw [xh_ne _ _ e]
theorem qx_iast (hΓ : GOK Γ own cc nL ret Qc (fun q => b ≤ q) rm) (hK : GKX Γ D dA b) (hr : r < 4) (hh : x.1 r = h) {k : Nat} (hk : hI k = true) {i v : Int32} (hx : hWr h k i v = some h') (hx' : xh x r h' = x') (hdg : decode cc pc = .ok (.iastore, 1)) (kk : WG Γ (XW D dA b ad P F gs x') cells slots (pc + 1) lv st) : WG Γ (XW D dA b ad P F gs x) cells slots pc lv (.int v :: .int i :: .ref (ad (hB r k)) :: st) := by
  intro H locs ls hw hS0 hl2
  obtain ⟨L, f, ga, gsh, bf, q0, hP, hD, hRr, hin, hq, hq2⟩ := hw.hcell hr hh (hI_C hk)
  rw [EH_i hk] at hq2
  unfold hWr at hx
  split at hx
  next => cases hx
  next hi =>
    cases hx
    subst hx'
    refine va_iast hΓ.1.1 hΓ.1.2.1 hK.1 hP hD (gSto hΓ hS0) q0 0 hq2 rfl hi hdg (fun H1 locs1 hP1 hD1 hS1 => ?_)
    have e1 : ∀ e, (va_pl L f).set q0 (ad (hB r k), e) = va_pl L (va_up f (ad (hB r k)) e) := fun e => va_pl_set (X := []) hD hin hq
    rw [e1] at hP1 hD1
    refine kk H1 locs1 ls (hst_up hr hh (hI_C hk) hRr ?_ hP1 hD1) (gSof hΓ hS1) hl2
    rw [EH_i hk]
    simp only [if_true]
theorem qx_zast (hΓ : GOK Γ own cc nL ret Qc (fun q => b ≤ q) rm) (hK : GKX Γ D dA b) (hr : r < 4) (hh : x.1 r = h) {i v : Int32} (hx : hWz h 5 i v = some h') (hx' : xh x r h' = x') (hdg : decode cc pc = .ok (.bastore, 1)) (kk : WG Γ (XW D dA b ad P F gs x') cells slots (pc + 1) lv st) : WG Γ (XW D dA b ad P F gs x) cells slots pc lv (.int v :: .int i :: .ref (ad (hB r 5)) :: st) := by
  intro H locs ls hw hS0 hl2
  obtain ⟨L, f, ga, gsh, bf, q0, hP, hD, hRr, hin, hq, hq2⟩ := hw.hcell hr hh (show hC 5 = true from rfl)
  unfold hWz at hx
  split at hx
  next hv =>
    unfold hWr at hx
    split at hx
    next => cases hx
    next hi =>
      cases hx
      subst hx'
      have hn : vp_nar .boolean v = v := by rcases hv with rfl | rfl <;> rfl
      refine va_zast (n := 12) hΓ.1.1 hΓ.1.2.1 hK.1 hP hD (gSto hΓ hS0) q0 2 hq2 rfl hi hdg (fun H1 locs1 hP1 hD1 hS1 => ?_)
      have e1 : ∀ e, (va_pl L f).set q0 (ad (hB r 5), e) = va_pl L (va_up f (ad (hB r 5)) e) := fun e => va_pl_set (X := []) hD hin hq
      rw [e1, hn] at hP1 hD1
      exact kk H1 locs1 ls (hst_up hr hh rfl hRr rfl hP1 hD1) (gSof hΓ hS1) hl2
  next => cases hx
/-- a glass out of a house's row -/
theorem qx_gald (hΓ : GOK Γ own cc nL ret Qc A rm) (hK : GKX Γ D dA b) (hr : r < 4) (hh : x.1 r = h) {i : Int32} {g : Nat × Int32} (hx : hG h i = some g) (hdg : decode cc pc = .ok (.aaload, 1)) (kk : ∀ y : Nat, WG Γ (XW D dA b ad P F ((y, g) :: gs) x) cells slots (pc + 1) lv (.ref y :: st)) : WG Γ (XW D dA b ad P F gs x) cells slots pc lv (.int i :: .ref (ad (hB r 0)) :: st) := by
  intro H locs ls hw hS hl2
  obtain ⟨L, f, ga, gsh, bf, q0, hP, hD, hRr, hin, hq, hq2⟩ := hw.hcell hr hh (show hC 0 = true from rfl)
  unfold hG at hx
  split at hx
  next => cases hx
  next hi =>
    have hi2 : i.toNatClampNeg < 12 := by omega
    have hg := hRr.2.2.2.1 r hr i.toNatClampNeg hi2
    rw [hh, hx] at hg
    obtain ⟨g1, y, g2, g3, g4⟩ := hg
    refine va_aldq (n := 12) (f := ga r) hΓ.1.1 hΓ.1.2.1 hK.1 hP q0 5 hq2 rfl hi hdg ?_
    rw [g2]
    exact kk y H locs ls ⟨L, f, ga, gsh, bf, hP, hD, hRr.1, hRr.2.1, hRr.2.2.1, hRr.2.2.2.1, hRr.2.2.2.2.1, fun q hq => by
      rcases List.mem_cons.mp hq with e | e
      · rw [e]; exact ⟨g1, y, rfl, g3, g4⟩
      · exact hRr.2.2.2.2.2.1 q e, hRr.2.2.2.2.2.2⟩ hS hl2
end HG

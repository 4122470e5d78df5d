/-! rows on shelves asked while the state goes on; the reader's arrays -/
def rowAt (x : XS) (d : Nat) : Option (Nat × Nat × (Nat → Int32)) := if d < 8 then (match x.2.2.1 d with | some (.inr w) => if w.1 < 3 then some w else none | _ => none) else none
def rowI (x : XS) (d t : Nat) : Option Int32 := (rowAt x d).bind fun w => some (if w.1 = t then 1 else 0)
def rowIs (x : XS) (d t : Nat) : Option Unit := (rowAt x d).bind fun w => if w.1 = t then some () else none
def rowN (x : XS) (d : Nat) : Option Int32 := (rowAt x d).bind fun w => some (Int32.ofNat w.2.1)
def rowR (x : XS) (d t : Nat) (i : Int32) : Option Int32 := (rowAt x d).bind fun w => if w.1 = t then aR w.2.1 w.2.2 i else none
def rdO (x : XS) : Option RS := x.2.2.2.1
def rdW (x : XS) (K : Nat) : Option (Nat → Int32) := if K < 50 then x.2.2.2.1.map (fun ρ => ρ.2.2 (310 + K)) else none
def rdV (x : XS) (K : Nat) (i : Int32) : Option Int32 := (rdW x K).bind fun v => vR v i
def rdI (x : XS) (i : Int32) : Option RS := if i < 0 ∨ 50 ≤ i.toNatClampNeg then none else x.2.2.2.1
def rdL (x : XS) (k : Nat) (i : Int32) : Option Int32 := x.2.2.2.1.bind fun ρ => if i < 0 ∨ 50 ≤ i.toNatClampNeg then none else some (ρ.2.2 k i.toNatClampNeg)
theorem rowAt_inv {x : XS} {d : Nat} {w : Nat × Nat × (Nat → Int32)} (h : rowAt x d = some w) : d < 8 ∧ w.1 < 3 ∧ x.2.2.1 d = some (.inr w) := by
  unfold rowAt at h
  split at h
  next hd =>
    split at h
    next w' hv =>
      split at h
      next h3 => cases h; exact ⟨hd, h3, hv⟩
      next => cases h
    next => cases h
  next => cases h
theorem rdW_inv {x : XS} {K : Nat} {v : Nat → Int32} (h : rdW x K = some v) : ∃ ρ : RS, x.2.2.2.1 = some ρ ∧ K < 50 ∧ v = ρ.2.2 (310 + K) := by
  unfold rdW at h
  split at h
  next hk =>
    cases e : x.2.2.2.1 with
    | none => rw [e] at h; cases h
    | some ρ => rw [e] at h; cases h; exact ⟨ρ, rfl, hk, rfl⟩
  next => cases h
theorem aldArr {p : Program} {l : Launch} {e : Env} {R : Room} {s : State} {mm : MethodId} {args : Array Value} {below : List Frame} {meth : Method} {c : Code} {H : Heap} {locs : List Loc} {Q : State → Prop} {ls : Array Slot} {cl : List vw_C} {tys : List (ClassId × FieldType)} {ws : List (Nat × va_E)} {D : va_G} {cc : ByteArray} {cells slots pc a : Nat} {rest : List Value} (hexec : p.tables.exec = Jvm.exec) (hb : c.code = cc) (hK : va_K D cl tys s) (hP : va_P D cl ws H) (q0 t0 : Nat) {cA : ClassId} {T : FieldType} {n : Nat} {f : Nat → Option Nat} (ha : ws[q0]? = some (a, .inl (cA, n, .inr (.inr (.inr (.inr f)))))) (ht : tys[t0]? = some (cA, .array T)) {i : Int32} (hin : vp_in i n) (hdg : decode cc pc = .ok (.aaload, 1))
    (kk : W p l e R s mm args below meth c H locs cells slots Q (F0 mm (pc + 1) ls (va_rf (f i.toNatClampNeg) :: rest))) : W p l e R s mm args below meth c H locs cells slots Q (F0 mm pc ls (.int i :: .ref a :: rest)) := by
  have hlt : i.toNatClampNeg < n := Nat.not_le.mp fun q => hin (Or.inr q)
  exact W.aald (v := va_rf (f i.toNatClampNeg)) (ty := .array T) hexec hb (hP q0 _ ha) ((hK.2 t0 _ ht).1 n (fun j => va_rf (f j))) rfl (fun q => by cases q) (by show ¬ (i < 0 ∨ (arrV _ _ _).slots.size ≤ _); rw [arrV_size]; exact hin) (by show (arrV _ _ _).slots[_]? = _; rw [arrV_read _ _ hlt]) rfl rfl hdg kk
section XRO
variable {Γ : GX} {own : String} {cc : ByteArray} {nL : Nat} {ret ret' : Option FieldType} {Qc : Array Value → State → Outcome → State → Prop} {A : Nat → Prop} {rm rm' : Room} {D : va_G} {dA : Nat → ClassId}
variable {cells slots pc mc ms : Nat} {lv lv' : List (Nat × Value)} {st st0 : List Value} {b : Nat} {ad : Nat → Nat} {P : Nat → Prop} {F : Nat → va_E} {x x' : XS} {r : Nat} {h h' : HS} {gs : List (Nat × (Nat × Int32))}
theorem qX_instR (hΓ : GOK Γ own cc nL ret Qc A rm) (hK : GKX Γ D dA b) {d t : Nat} (ht : t < 3) {v : Int32} (hx : rowI x d t = some v) {index : Nat} (hl : Cond.classLink own index (shNm t) ∈ lw_all) (hdg : decode cc pc = .ok (.instanceof index, 3)) (kk : WG Γ (XW D dA b ad P F gs x) cells slots (pc + 3) lv (.int v :: st)) : WG Γ (XW D dA b ad P F gs x) cells slots pc lv (.ref (ad (70 + d)) :: st) := by
  obtain ⟨w, hw, hx⟩ := bindE hx
  obtain ⟨hd, h3, hv⟩ := rowAt_inv hw
  cases hx
  by_cases e : w.1 = t
  · rw [if_pos e] at kk
    exact qX_instA hΓ hK hd h3 hv (e ▸ hl) hdg kk
  · rw [if_neg e] at kk
    refine qX_instAn hΓ hK hd h3 hv ?_ hl hdg kk
    rcases (by omega : w.1 = 0 ∨ w.1 = 1 ∨ w.1 = 2) with q | q | q <;> rcases (by omega : t = 0 ∨ t = 1 ∨ t = 2) with z | z | z <;> subst z <;> first | exact absurd q e | (rw [q]; decide +kernel)
theorem qX_instRG (hΓ : GOK Γ own cc nL ret Qc A rm) (hK : GKX Γ D dA b) {d : Nat} {w : Nat × Nat × (Nat → Int32)} (hx : rowAt x d = some w) {index : Nat} (hl : Cond.classLink own index "WhoseGlass$Glass" ∈ lw_all) (hdg : decode cc pc = .ok (.instanceof index, 3)) (kk : WG Γ (XW D dA b ad P F gs x) cells slots (pc + 3) lv (.int 0 :: st)) : WG Γ (XW D dA b ad P F gs x) cells slots pc lv (.ref (ad (70 + d)) :: st) := by
  obtain ⟨hd, h3, hv⟩ := rowAt_inv hx
  refine qX_instAn hΓ hK hd h3 hv ?_ hl hdg kk
  rcases (by omega : w.1 = 0 ∨ w.1 = 1 ∨ w.1 = 2) with q | q | q <;> (rw [q]; decide +kernel)
theorem qX_castR (hΓ : GOK Γ own cc nL ret Qc A rm) (hK : GKX Γ D dA b) {d t : Nat} (ht : t < 3) {u : Unit} (hx : rowIs x d t = some u) {index : Nat} (hl : Cond.classLink own index (shNm t) ∈ lw_all) (hdg : decode cc pc = .ok (.checkcast index, 3)) (kk : WG Γ (XW D dA b ad P F gs x) cells slots (pc + 3) lv (.ref (ad (70 + d)) :: st)) : WG Γ (XW D dA b ad P F gs x) cells slots pc lv (.ref (ad (70 + d)) :: st) := by
  obtain ⟨w, hw, hx⟩ := bindE hx
  obtain ⟨hd, h3, hv⟩ := rowAt_inv hw
  split at hx
  next e => exact qX_castA hΓ hK hd h3 hv (e ▸ hl) hdg kk
  next => cases hx
theorem qX_lenR (hΓ : GOK Γ own cc nL ret Qc A rm) (hK : GKX Γ D dA b) {d : Nat} {v : Int32} (hx : rowN x d = some v) (hdg : decode cc pc = .ok (.arraylength, 1)) (kk : WG Γ (XW D dA b ad P F gs x) cells slots (pc + 1) lv (.int v :: st)) : WG Γ (XW D dA b ad P F gs x) cells slots pc lv (.ref (ad (70 + d)) :: st) := by
  obtain ⟨w, hw, hx⟩ := bindE hx
  obtain ⟨hd, h3, hv⟩ := rowAt_inv hw
  cases hx
  exact qX_alen hΓ hK hd h3 hv hdg kk
theorem rowR_inv {x : XS} {d t : Nat} {i v : Int32} (h : rowR x d t i = some v) : ∃ n f, d < 8 ∧ x.2.2.1 d = some (.inr (t, n, f)) ∧ aR n f i = some v := by
  obtain ⟨⟨s, n, f⟩, hw, hx⟩ := bindE h
  obtain ⟨hd, h3, hv⟩ := rowAt_inv hw
  split at hx
  next e =>
    have e : s = t := e
    subst e
    exact ⟨n, f, hd, hv, hx⟩
  next => cases hx
theorem qX_aldR0 (hΓ : GOK Γ own cc nL ret Qc A rm) (hK : GKX Γ D dA b) {d : Nat} {i v : Int32} (hx : rowR x d 0 i = some v) (hdg : decode cc pc = .ok (.baload, 1)) (kk : WG Γ (XW D dA b ad P F gs x) cells slots (pc + 1) lv (.int v :: st)) : WG Γ (XW D dA b ad P F gs x) cells slots pc lv (.int i :: .ref (ad (70 + d)) :: st) := by
  obtain ⟨n, f, hd, hv, ha⟩ := rowR_inv hx
  exact qX_bald hΓ hK hd hv ha hdg kk
theorem qX_aldR1 (hΓ : GOK Γ own cc nL ret Qc A rm) (hK : GKX Γ D dA b) {d : Nat} {i v : Int32} (hx : rowR x d 1 i = some v) (hdg : decode cc pc = .ok (.saload, 1)) (kk : WG Γ (XW D dA b ad P F gs x) cells slots (pc + 1) lv (.int v :: st)) : WG Γ (XW D dA b ad P F gs x) cells slots pc lv (.int i :: .ref (ad (70 + d)) :: st) := by
  obtain ⟨n, f, hd, hv, ha⟩ := rowR_inv hx
  exact qX_sald2 hΓ hK hd hv ha hdg kk
theorem qX_aldR2 (hΓ : GOK Γ own cc nL ret Qc A rm) (hK : GKX Γ D dA b) {d : Nat} {i v : Int32} (hx : rowR x d 2 i = some v) (hdg : decode cc pc = .ok (.iaload, 1)) (kk : WG Γ (XW D dA b ad P F gs x) cells slots (pc + 1) lv (.int v :: st)) : WG Γ (XW D dA b ad P F gs x) cells slots pc lv (.int i :: .ref (ad (70 + d)) :: st) := by
  obtain ⟨n, f, hd, hv, ha⟩ := rowR_inv hx
  exact qX_iald2 hΓ hK hd hv ha hdg kk
theorem shI_inv {i : Int32} {d : Nat} (h : shI i = some d) : d = i.toNatClampNeg := by
  unfold shI at h
  split at h
  next => cases h
  next => cases h; rfl
theorem qX_saldT (hΓ : GOK Γ own cc nL ret Qc A rm) (hK : GKX Γ D dA b) {i : Int32} {d : Nat} (hx : shI i = some d) (hdg : decode cc pc = .ok (.aaload, 1)) (kk : i.toNatClampNeg < 8 → WG Γ (XW D dA b ad P F gs x) cells slots (pc + 1) lv (.ref (ad (2 + i.toNatClampNeg)) :: st)) : WG Γ (XW D dA b ad P F gs x) cells slots pc lv (.int i :: .ref (ad 1) :: st) := by
  have := shI_inv hx
  subst this
  exact qX_sald hΓ hK hx hdg kk
/-! the reader -/
theorem xC_r {x : XS} {ρ : RS} (hρ : x.2.2.2.1 = some ρ) {k : Nat} (hk : rC k = true) : xC x k = true := by
  simp [xC, hρ, hk]
theorem XW.rcell {H : Heap} (hM : XW D dA b ad P F gs x H) {ρ : RS} (hρ : x.2.2.2.1 = some ρ) {k : Nat} (hk : rC k = true) : ∃ (L : List Nat) (f : Nat → va_E) (ga : Nat → Nat → Option Nat) (gsh : Nat → Nat) (bf : List Value) (q0 : Nat), va_P D CL (va_pl L f) H ∧ va_D (fun q => b ≤ q) (va_pl L f) ∧ XR dA ad P F gs x ga gsh bf L f ∧ ad k ∈ L ∧ (va_pl L f)[q0]? = some (ad k, f (ad k)) ∧ (va_pl L f)[q0]? = some (ad k, ER dA ad ρ k) := by
  obtain ⟨L, f, ga, gsh, bf, q0, h1, h2, h3, h4, h5, h6⟩ := hM.cell (xC_r hρ hk)
  refine ⟨L, f, ga, gsh, bf, q0, h1, h2, h3, h4, h5, ?_⟩
  have hk2 : 300 ≤ k ∧ k < 360 := by
    simp only [rC, Bool.or_eq_true, Bool.and_eq_true, decide_eq_true_eq, beq_iff_eq] at hk
    omega
  rw [h6]
  unfold EX
  rw [if_neg (by omega), if_neg (by omega), if_neg (by omega), if_neg (by omega), if_neg (by omega), if_pos (by omega), hρ]
theorem TX5_cls (k : Nat) : (TX5 k).1 = RX5 := by unfold TX5; split <;> rfl
theorem qX_rget (hΓ : GOK Γ own cc nL ret Qc A rm) (hK : GKX Γ D dA b) (k j : Nat) (hk : k = 302 ∧ j = 2 ∨ k = 303 ∧ j = 3 ∨ k = 304 ∧ j = 4) {ρ : RS} (hρ : rdO x = some ρ) {index : Nat} (hl : Cond.fieldLink own index RX5 (TX5 j).2.1 (TX5 j).2.2.1 ∈ lw_all) (hdg : decode cc pc = .ok (.getfield index, 3)) (kk : WG Γ (XW D dA b ad P F gs x) cells slots (pc + 3) lv (.ref (ad k) :: st)) : WG Γ (XW D dA b ad P F gs x) cells slots pc lv (.ref (ad 300) :: st) := by
  intro H locs ls hw hS hl2
  obtain ⟨hx, hb, -, hown, hts⟩ := hΓ.1
  obtain ⟨L, f, ga, gsh, bf, q0, hP, hD, hR, hin, hq, hq2⟩ := hw.rcell hρ (k := 300) rfl
  refine va_get hx hb hts in_X5 hown hK.1 hP q0 hq2 rfl j (by omega) (hts _ hl) (fun x h => by rw [TX5_cls] at h; exact h) ?_ hdg (kk H locs ls hw hS hl2)
  rcases hk with ⟨rfl, rfl⟩ | ⟨rfl, rfl⟩ | ⟨rfl, rfl⟩ <;> rfl
theorem qX_rdI (hΓ : GOK Γ own cc nL ret Qc A rm) (hK : GKX Γ D dA b) {i : Int32} {ρ : RS} (hx : rdI x i = some ρ) (hdg : decode cc pc = .ok (.aaload, 1)) (kk : WG Γ (XW D dA b ad P F gs x) cells slots (pc + 1) lv (.ref (ad (310 + i.toNatClampNeg)) :: st)) : WG Γ (XW D dA b ad P F gs x) cells slots pc lv (.int i :: .ref (ad 304) :: st) := by
  unfold rdI at hx
  split at hx
  next => cases hx
  next hi =>
    intro H locs ls hw hS hl2
    obtain ⟨L, f, ga, gsh, bf, q0, hP, hD, hR, hin, hq, hq2⟩ := hw.rcell hx (k := 304) rfl
    exact aldArr (n := 50) (f := fun i => some (ad (310 + i))) hΓ.1.1 hΓ.1.2.1 hK.1 hP q0 7 hq2 rfl hi hdg (kk H locs ls hw hS hl2)
theorem qX_rdV (hΓ : GOK Γ own cc nL ret Qc A rm) (hK : GKX Γ D dA b) {K : Nat} {i v : Int32} (hx : rdV x K i = some v) (hdg : decode cc pc = .ok (.iaload, 1)) (kk : WG Γ (XW D dA b ad P F gs x) cells slots (pc + 1) lv (.int v :: st)) : WG Γ (XW D dA b ad P F gs x) cells slots pc lv (.int i :: .ref (ad (310 + K)) :: st) := by
  obtain ⟨w, hw, hx⟩ := bindE hx
  obtain ⟨ρ, hρ, hk, rfl⟩ := rdW_inv hw
  exact qx_rald hΓ hK hρ hk hx hdg kk
theorem qX_rdL (hΓ : GOK Γ own cc nL ret Qc A rm) (hK : GKX Γ D dA b) {k : Nat} (hk : k = 302 ∨ k = 303) {i v : Int32} (hx : rdL x k i = some v) (hdg : decode cc pc = .ok (.iaload, 1)) (kk : WG Γ (XW D dA b ad P F gs x) cells slots (pc + 1) lv (.int v :: st)) : WG Γ (XW D dA b ad P F gs x) cells slots pc lv (.int i :: .ref (ad k) :: st) := by
  obtain ⟨ρ, hρ, hx⟩ := bindE hx
  split at hx
  next => cases hx
  next hi =>
    cases hx
    intro H locs ls hw hS hl2
    rcases hk with rfl | rfl
    · obtain ⟨L, f, ga, gsh, bf, q0, hP, hD, hR, hin, hq, hq2⟩ := hw.rcell hρ (k := 302) rfl
      exact va_iald (n := 50) (f := ρ.2.2 302) hΓ.1.1 hΓ.1.2.1 hK.1 hP q0 0 hq2 rfl hi hdg (kk H locs ls hw hS hl2)
    · obtain ⟨L, f, ga, gsh, bf, q0, hP, hD, hR, hin, hq, hq2⟩ := hw.rcell hρ (k := 303) rfl
      exact va_iald (n := 50) (f := ρ.2.2 303) hΓ.1.1 hΓ.1.2.1 hK.1 hP q0 0 hq2 rfl hi hdg (kk H locs ls hw hS hl2)
end XRO
/-- sortOf a glass -/
theorem metX_sortOfG (l : Launch) {D : va_G} {dA : Nat → ClassId} {b : Nat} {ad : Nat → Nat} {P : Nat → Prop} {F : Nat → va_E} {gs : List (Nat × (Nat × Int32))} {x : XS} {a : Nat} {g : Nat × Int32} (hg : (a, g) ∈ gs) : Met l yX1_sortOf (ws_ yX1_sortOf cX1_sortOf 1 (some .int)) (rmx_ 0 0 0 0) (xP D dA b ad P F gs [.ref a] x) (xQ D dA b ad P F gs (some (.int (-1))) x) 0 0 (fun q => b ≤ q) := by
  refine qx_met (by decide) RX1 rfl (Nat.le_of_ble_eq_true rfl) (fun Γ hΓ hK => ?_)
  refine g_sub [0] (lv' := [(0, .ref a)]) rfl ?_
  refine g_aload_n hΓ (pc := 0) 0 (i := 0) dX1_sortOf_0 rfl rfl ?_
  refine qX_instGA hΓ (pc := 1) hK hg (nm := "[B") (by decide) q92 dX1_sortOf_1 ?_
  refine g_if_eq hΓ (pc := 4) (tgt := 11) dX1_sortOf_4 (by decide) (fun c => ?_) (fun c => ?_)
  · refine g_aload_n hΓ (pc := 11) 0 (i := 0) dX1_sortOf_11 rfl rfl ?_
    refine qX_instGA hΓ (pc := 12) hK hg (nm := "[S") (by decide) q676 dX1_sortOf_12 ?_
    refine g_if_eq hΓ (pc := 15) (tgt := 22) dX1_sortOf_15 (by decide) (fun c => ?_) (fun c => ?_)
    · refine g_aload_n hΓ (pc := 22) 0 (i := 0) dX1_sortOf_22 rfl rfl ?_
      refine qX_instGA hΓ (pc := 23) hK hg (nm := "[I") (by decide) q677 dX1_sortOf_23 ?_
      refine g_if_eq hΓ (pc := 26) (tgt := 33) dX1_sortOf_26 (by decide) (fun c => ?_) (fun c => ?_)
      · refine g_iconst hΓ (pc := 33) (v := -1) dX1_sortOf_33 (by decide) ?_
        exact qX_iretR hΓ rfl dX1_sortOf_34
      · exact absurd rfl c
    · exact absurd rfl c
  · exact absurd rfl c

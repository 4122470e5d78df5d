/-! the reference's rows: one an instruction, over its world -/
section QM
variable {p : Program} {l : Launch} {e : Env} {R : Room} {s : State} {mm : MethodId} {args : Array Value} {below : List Frame} {meth : Method} {c : Code} {H : Heap} {locs : List Loc} {cells slots : Nat} {Q : State → Prop}
variable {cc : ByteArray} {pc : Nat} {ls : Array Slot} {rest : List Value} {D : va_G} {dA : Nat → ClassId} {b : Nat} {ad : Nat → Nat} {P : Nat → Prop} {F : Nat → va_E} {m m' : MS} {nL : Nat}
theorem MW.obj (hM : MW D dA b ad P F m H) : ∃ (L : List Nat) (f : Nat → va_E) (q0 : Nat), va_P D CL (va_pl L f) H ∧ va_D (fun q => b ≤ q) (va_pl L f) ∧ MR dA ad P F m L f ∧ ad 46 ∈ L ∧ (va_pl L f)[q0]? = some (ad 46, f (ad 46)) ∧ (va_pl L f)[q0]? = some (ad 46, .inr (0, mfs ad m)) := by
  obtain ⟨L, f, hP, hD, hR⟩ := hM
  obtain ⟨hin, hf⟩ := hR.1 46 rfl
  have hf : f (ad 46) = .inr (0, mfs ad m) := hf
  obtain ⟨q0, hq⟩ := va_pl_get (X := []) (f := f) hin
  have hq : (va_pl L f)[q0]? = some (ad 46, f (ad 46)) := hq
  exact ⟨L, f, q0, hP, hD, hR, hin, hq, by rw [hq, hf]⟩
theorem MW.arr (hM : MW D dA b ad P F m H) {k : Nat} (hk : mI k = true) : ∃ (L : List Nat) (f : Nat → va_E) (q0 : Nat), va_P D CL (va_pl L f) H ∧ va_D (fun q => b ≤ q) (va_pl L f) ∧ MR dA ad P F m L f ∧ ad k ∈ L ∧ (va_pl L f)[q0]? = some (ad k, f (ad k)) ∧ (va_pl L f)[q0]? = some (ad k, .inl (dA 0, mLen k, .inl (m.2.1 k))) := by
  obtain ⟨L, f, hP, hD, hR⟩ := hM
  obtain ⟨hin, hf⟩ := hR.1 k (mI_c hk)
  rw [EM, if_neg (mI_46 hk), if_neg (mI_J hk)] at hf
  obtain ⟨q0, hq⟩ := va_pl_get (X := []) (f := f) hin
  have hq : (va_pl L f)[q0]? = some (ad k, f (ad k)) := hq
  exact ⟨L, f, q0, hP, hD, hR, hin, hq, by rw [hq, hf]⟩
theorem MW.larr (hM : MW D dA b ad P F m H) {k : Nat} (hk : mJ k = true) : ∃ (L : List Nat) (f : Nat → va_E) (q0 : Nat), va_P D CL (va_pl L f) H ∧ va_D (fun q => b ≤ q) (va_pl L f) ∧ MR dA ad P F m L f ∧ ad k ∈ L ∧ (va_pl L f)[q0]? = some (ad k, f (ad k)) ∧ (va_pl L f)[q0]? = some (ad k, .inl (dA 1, mLen k, .inr (.inl (m.2.2.1 k)))) := by
  obtain ⟨L, f, hP, hD, hR⟩ := hM
  obtain ⟨hin, hf⟩ := hR.1 k (mJ_c hk)
  rw [EM, if_neg (mJ_46 hk), if_pos hk] at hf
  obtain ⟨q0, hq⟩ := va_pl_get (X := []) (f := f) hin
  have hq : (va_pl L f)[q0]? = some (ad k, f (ad k)) := hq
  exact ⟨L, f, q0, hP, hD, hR, hin, hq, by rw [hq, hf]⟩
theorem qm_get (hC : CX p s mm args c cc nL RX4 D dA) (hM : MW D dA b ad P F m H) {k : Nat} (hk : mF k = true) {index : Nat} (hl : Cond.fieldLink RX4 index RX4 (TX4 k).2.1 (TX4 k).2.2.1 ∈ lw_all) (hdg : decode cc pc = .ok (.getfield index, 3))
    (kk : W p l e R s mm args below meth c H locs cells slots Q (F0 mm (pc + 3) ls (.int (m.1 k) :: rest))) : W p l e R s mm args below meth c H locs cells slots Q (F0 mm pc ls (.ref (ad 46) :: rest)) := by
  obtain ⟨⟨hx, hb, -, hown, hts⟩, hK⟩ := hC
  obtain ⟨L, f, q0, hP, hD, hR, hin, hq, hq2⟩ := hM.obj
  exact va_get hx hb hts in_X4 hown hK hP q0 hq2 rfl k (mF_lt k hk) (hts _ hl) (fun x h => by rw [TX4_cls] at h; exact h) (by rw [mfs_get (mF_lt k hk), mfv, if_pos hk]) hdg kk
theorem qm_geta (hC : CX p s mm args c cc nL RX4 D dA) (hM : MW D dA b ad P F m H) {k : Nat} (hk : (mI k || mJ k) = true) {index : Nat} (hl : Cond.fieldLink RX4 index RX4 (TX4 k).2.1 (TX4 k).2.2.1 ∈ lw_all) (hdg : decode cc pc = .ok (.getfield index, 3))
    (kk : W p l e R s mm args below meth c H locs cells slots Q (F0 mm (pc + 3) ls (.ref (ad k) :: rest))) : W p l e R s mm args below meth c H locs cells slots Q (F0 mm pc ls (.ref (ad 46) :: rest)) := by
  obtain ⟨⟨hx, hb, -, hown, hts⟩, hK⟩ := hC
  obtain ⟨L, f, q0, hP, hD, hR, hin, hq, hq2⟩ := hM.obj
  have hlt : k < 46 := by
    rcases Bool.or_eq_true _ _ ▸ hk with h | h
    · exact mI_lt k h
    · exact mJ_lt h
  have hnf : ¬ mF k = true := by
    rcases Bool.or_eq_true _ _ ▸ hk with h | h
    · exact mI_F h
    · exact mJ_F h
  have h29 : ¬ k = 29 := by
    intro q; subst q; exact absurd hk (by decide)
  exact va_get hx hb hts in_X4 hown hK hP q0 hq2 rfl k hlt (hts _ hl) (fun x h => by rw [TX4_cls] at h; exact h) (by rw [mfs_get hlt, mfv, if_neg hnf, if_neg h29]) hdg kk
/-- keptIn -/
theorem qm_getk (hC : CX p s mm args c cc nL RX4 D dA) (hM : MW D dA b ad P F m H) {k : Nat} (hk : mKg m = some k) {index : Nat} (hl : Cond.fieldLink RX4 index RX4 (TX4 29).2.1 (TX4 29).2.2.1 ∈ lw_all) (hdg : decode cc pc = .ok (.getfield index, 3))
    (kk : mI k = true → W p l e R s mm args below meth c H locs cells slots Q (F0 mm (pc + 3) ls (.ref (ad k) :: rest))) : W p l e R s mm args below meth c H locs cells slots Q (F0 mm pc ls (.ref (ad 46) :: rest)) := by
  obtain ⟨⟨hx, hb, -, hown, hts⟩, hK⟩ := hC
  obtain ⟨L, f, q0, hP, hD, hR, hin, hq, hq2⟩ := hM.obj
  obtain ⟨k1, h1, h2⟩ := bindE hk
  have hI : mI k1 = true := by
    by_cases h : mI k1 = true
    · exact h
    · rw [if_neg h] at h2; cases h2
  rw [if_pos hI] at h2
  cases h2
  exact va_get hx hb hts in_X4 hown hK hP q0 hq2 rfl 29 (by decide) (hts _ hl) (fun x h => by rw [TX4_cls] at h; exact h) (v := .ref (ad k)) (by rw [mfs_get (by decide), mfv, if_neg (by decide), if_pos rfl, h1]; rfl) hdg (kk hI)
theorem qm_put0 (hC : CX p s mm args c cc nL RX4 D dA) (hM : MW D dA b ad P F m H) (hS : va_S (fun q => b ≤ q) s.heap H locs) {k : Nat} (hk : mF k = true) {v : Int32} (hn : narrow (tyX4 k) (.int v) = .int v) (hft : fits (tyX4 k) (.int v) = true) {index : Nat} (hl : Cond.fieldLink RX4 index RX4 (TX4 k).2.1 (TX4 k).2.2.1 ∈ lw_all) (hdg : decode cc pc = .ok (.putfield index, 3))
    (kk : ∀ (H : Heap) (locs : List Loc), MW D dA b ad P F (mS m k v) H → va_S (fun q => b ≤ q) s.heap H locs → W p l e R s mm args below meth c H locs cells slots Q (F0 mm (pc + 3) ls rest)) : W p l e R s mm args below meth c H locs cells slots Q (F0 mm pc ls (.int v :: .ref (ad 46) :: rest)) := by
  obtain ⟨⟨hx, hb, -, hown, hts⟩, hK⟩ := hC
  obtain ⟨L, f, q0, hP, hD, hR, hin, hq, hq2⟩ := hM.obj
  refine va_put hx hb hts in_X4 tyX4 tyX4_ok nmX4 hown hK hP hD hS q0 hq2 rfl k (mF_lt k hk) (hts _ hl) (fun x h => by rw [TX4_cls] at h; exact h) (mF_fin k (mF_lt k hk) hk) (tyX4_ok k (mF_lt k hk)) hn hft (by rw [mfs_len]; exact mF_lt k hk) hdg (fun H1 locs1 hP1 hD1 hS1 => ?_)
  have e1 : (va_pl L f).set q0 (ad 46, .inr (0, (mfs ad m).set k (.int v))) = va_pl L (va_up f (ad 46) (EM dA ad (mS m k v) 46)) := by
    rw [mfs_set hk]
    exact va_pl_set (X := []) hD hin hq
  rw [e1] at hP1 hD1
  refine kk H1 locs1 ⟨L, _, hP1, hD1, hR.up rfl (fun j hj hne => ?_)⟩ hS1
  simp only [EM, if_neg hne, mS]
theorem qm_put (hC : CX p s mm args c cc nL RX4 D dA) (hM : MW D dA b ad P F m H) (hS : va_S (fun q => b ≤ q) s.heap H locs) {k : Nat} (hk : (mF k && !mZ k) = true) {v : Int32} {index : Nat} (hl : Cond.fieldLink RX4 index RX4 (TX4 k).2.1 (TX4 k).2.2.1 ∈ lw_all) (hdg : decode cc pc = .ok (.putfield index, 3))
    (kk : ∀ (H : Heap) (locs : List Loc), MW D dA b ad P F (mS m k v) H → va_S (fun q => b ≤ q) s.heap H locs → W p l e R s mm args below meth c H locs cells slots Q (F0 mm (pc + 3) ls rest)) : W p l e R s mm args below meth c H locs cells slots Q (F0 mm pc ls (.int v :: .ref (ad 46) :: rest)) := by
  have h := Bool.and_eq_true _ _ ▸ hk
  have hz : mZ k = false := by
    have := h.2
    simpa using this
  have ht := mF_ty k (mF_lt k h.1) h.1 hz
  exact qm_put0 hC hM hS h.1 (by rw [ht]; rfl) (by rw [ht]; rfl) hl hdg kk
theorem qm_putz (hC : CX p s mm args c cc nL RX4 D dA) (hM : MW D dA b ad P F m H) (hS : va_S (fun q => b ≤ q) s.heap H locs) {k : Nat} (hk : (mF k && mZ k) = true) {v : Int32} (hx : mSZ m k v = some m') {index : Nat} (hl : Cond.fieldLink RX4 index RX4 (TX4 k).2.1 (TX4 k).2.2.1 ∈ lw_all) (hdg : decode cc pc = .ok (.putfield index, 3))
    (kk : ∀ (H : Heap) (locs : List Loc), MW D dA b ad P F m' H → va_S (fun q => b ≤ q) s.heap H locs → W p l e R s mm args below meth c H locs cells slots Q (F0 mm (pc + 3) ls rest)) : W p l e R s mm args below meth c H locs cells slots Q (F0 mm pc ls (.int v :: .ref (ad 46) :: rest)) := by
  have h := Bool.and_eq_true _ _ ▸ hk
  have ht := mZ_ty k (mF_lt k h.1) h.2
  unfold mSZ at hx
  split at hx
  next hv =>
    cases hx
    rcases hv with rfl | rfl
    · exact qm_put0 hC hM hS h.1 (by rw [ht]; rfl) (by rw [ht]; rfl) hl hdg kk
    · exact qm_put0 hC hM hS h.1 (by rw [ht]; rfl) (by rw [ht]; rfl) hl hdg kk
  next => cases hx
theorem qm_putk (hC : CX p s mm args c cc nL RX4 D dA) (hM : MW D dA b ad P F m H) (hS : va_S (fun q => b ≤ q) s.heap H locs) {k : Nat} {index : Nat} (hl : Cond.fieldLink RX4 index RX4 (TX4 29).2.1 (TX4 29).2.2.1 ∈ lw_all) (hdg : decode cc pc = .ok (.putfield index, 3))
    (kk : ∀ (H : Heap) (locs : List Loc), MW D dA b ad P F (mKs m k) H → va_S (fun q => b ≤ q) s.heap H locs → W p l e R s mm args below meth c H locs cells slots Q (F0 mm (pc + 3) ls rest)) : W p l e R s mm args below meth c H locs cells slots Q (F0 mm pc ls (.ref (ad k) :: .ref (ad 46) :: rest)) := by
  obtain ⟨⟨hx, hb, -, hown, hts⟩, hK⟩ := hC
  obtain ⟨L, f, q0, hP, hD, hR, hin, hq, hq2⟩ := hM.obj
  refine va_put hx hb hts in_X4 tyX4 tyX4_ok nmX4 hown hK hP hD hS q0 hq2 rfl 29 (by decide) (hts _ hl) (fun x h => by rw [TX4_cls] at h; exact h) rfl (tyX4_ok 29 (by decide)) rfl rfl (by rw [mfs_len]; decide) hdg (fun H1 locs1 hP1 hD1 hS1 => ?_)
  have e1 : (va_pl L f).set q0 (ad 46, .inr (0, (mfs ad m).set 29 (.ref (ad k)))) = va_pl L (va_up f (ad 46) (EM dA ad (mKs m k) 46)) := by
    rw [mfs_setK]
    exact va_pl_set (X := []) hD hin hq
  rw [e1] at hP1 hD1
  refine kk H1 locs1 ⟨L, _, hP1, hD1, hR.up rfl (fun j hj hne => ?_)⟩ hS1
  simp only [EM, if_neg hne, mKs]
theorem qm_iald (hC : CX p s mm args c cc nL RX4 D dA) (hM : MW D dA b ad P F m H) {k : Nat} (hk : mI k = true) {i v : Int32} (hx : mR m k i = some v) (hdg : decode cc pc = .ok (.iaload, 1))
    (kk : W p l e R s mm args below meth c H locs cells slots Q (F0 mm (pc + 1) ls (.int v :: rest))) : W p l e R s mm args below meth c H locs cells slots Q (F0 mm pc ls (.int i :: .ref (ad k) :: rest)) := by
  obtain ⟨⟨he, hb, -, hown, hts⟩, hK⟩ := hC
  obtain ⟨L, f, q0, hP, hD, hR, hin, hq, hq2⟩ := hM.arr hk
  unfold mR at hx
  split at hx
  next => cases hx
  next hi =>
    cases hx
    exact va_iald he hb hK hP q0 0 hq2 rfl hi hdg kk
theorem qm_iast (hC : CX p s mm args c cc nL RX4 D dA) (hM : MW D dA b ad P F m H) (hS : va_S (fun q => b ≤ q) s.heap H locs) {k : Nat} (hk : mI k = true) {i v : Int32} (hx : mW m k i v = some m') (hdg : decode cc pc = .ok (.iastore, 1))
    (kk : ∀ (H : Heap) (locs : List Loc), MW D dA b ad P F m' H → va_S (fun q => b ≤ q) s.heap H locs → W p l e R s mm args below meth c H locs cells slots Q (F0 mm (pc + 1) ls rest)) : W p l e R s mm args below meth c H locs cells slots Q (F0 mm pc ls (.int v :: .int i :: .ref (ad k) :: rest)) := by
  obtain ⟨⟨he, hb, -, hown, hts⟩, hK⟩ := hC
  obtain ⟨L, f, q0, hP, hD, hR, hin, hq, hq2⟩ := hM.arr hk
  unfold mW at hx
  split at hx
  next => cases hx
  next hi =>
    cases hx
    refine va_iast he hb hK hP hD hS q0 0 hq2 rfl hi hdg (fun H1 locs1 hP1 hD1 hS1 => ?_)
    have e0 : EM dA ad (m.1, (fun j => if j = k then upd (m.2.1 k) i.toNatClampNeg v else m.2.1 j), m.2.2) k = .inl (dA 0, mLen k, .inl (upd (m.2.1 k) i.toNatClampNeg v)) := by
      simp only [EM, if_neg (mI_46 hk), if_neg (mI_J hk), if_true]
    have e1 : ∀ e, (va_pl L f).set q0 (ad k, e) = va_pl L (va_up f (ad k) e) := fun e => va_pl_set (X := []) hD hin hq
    rw [← e0, e1] at hP1 hD1
    refine kk H1 locs1 ⟨L, _, hP1, hD1, hR.up (mI_c hk) (fun j hj hne => ?_)⟩ hS1
    simp only [EM, if_neg hne, mfs]
    rfl
theorem qm_lald (hC : CX p s mm args c cc nL RX4 D dA) (hM : MW D dA b ad P F m H) {k : Nat} (hk : mJ k = true) {i : Int32} {v : Int64} (hx : mLR m k i = some v) (hdg : decode cc pc = .ok (.laload, 1))
    (kk : W p l e R s mm args below meth c H locs cells slots Q (F0 mm (pc + 1) ls (.long v :: rest))) : W p l e R s mm args below meth c H locs cells slots Q (F0 mm pc ls (.int i :: .ref (ad k) :: rest)) := by
  obtain ⟨⟨he, hb, -, hown, hts⟩, hK⟩ := hC
  obtain ⟨L, f, q0, hP, hD, hR, hin, hq, hq2⟩ := hM.larr hk
  unfold mLR at hx
  split at hx
  next => cases hx
  next hi =>
    cases hx
    exact va_lald he hb hK hP q0 1 hq2 rfl hi hdg kk
theorem qm_last (hC : CX p s mm args c cc nL RX4 D dA) (hM : MW D dA b ad P F m H) (hS : va_S (fun q => b ≤ q) s.heap H locs) {k : Nat} (hk : mJ k = true) {i : Int32} {v : Int64} (hx : mLW m k i v = some m') (hdg : decode cc pc = .ok (.lastore, 1))
    (kk : ∀ (H : Heap) (locs : List Loc), MW D dA b ad P F m' H → va_S (fun q => b ≤ q) s.heap H locs → W p l e R s mm args below meth c H locs cells slots Q (F0 mm (pc + 1) ls rest)) : W p l e R s mm args below meth c H locs cells slots Q (F0 mm pc ls (.long v :: .int i :: .ref (ad k) :: rest)) := by
  obtain ⟨⟨he, hb, -, hown, hts⟩, hK⟩ := hC
  obtain ⟨L, f, q0, hP, hD, hR, hin, hq, hq2⟩ := hM.larr hk
  unfold mLW at hx
  split at hx
  next => cases hx
  next hi =>
    cases hx
    refine va_last he hb hK hP hD hS q0 1 hq2 rfl hi hdg (fun H1 locs1 hP1 hD1 hS1 => ?_)
    have e0 : EM dA ad (m.1, m.2.1, (fun j => if j = k then vp_updL (m.2.2.1 k) i.toNatClampNeg v else m.2.2.1 j), m.2.2.2) k = .inl (dA 1, mLen k, .inr (.inl (vp_updL (m.2.2.1 k) i.toNatClampNeg v))) := by
      simp only [EM, if_neg (mJ_46 hk), if_pos hk, if_true]
    have e1 : ∀ e, (va_pl L f).set q0 (ad k, e) = va_pl L (va_up f (ad k) e) := fun e => va_pl_set (X := []) hD hin hq
    rw [← e0, e1] at hP1 hD1
    refine kk H1 locs1 ⟨L, _, hP1, hD1, hR.up (mJ_c hk) (fun j hj hne => ?_)⟩ hS1
    simp only [EM, if_neg hne, mfs]
    rfl
end QM
/-! contracts -/
def mP (D : va_G) (dA : Nat → ClassId) (b : Nat) (ad : Nat → Nat) (P : Nat → Prop) (F : Nat → va_E) (av : List Value) (m : MS) : Array Value → State → Prop := fun v U => v = av.toArray ∧ MW D dA b ad P F m U.heap ∧ va_K D CL (TYS dA) U
def mQ (D : va_G) (dA : Nat → ClassId) (b : Nat) (ad : Nat → Nat) (P : Nat → Prop) (F : Nat → va_E) (rv : Option Value) (m' : MS) : Array Value → State → Outcome → State → Prop := fun _ st o t => o = .returned rv ∧ MW D dA b ad P F m' t.heap ∧ va_F (fun q => b ≤ q) st t
/-- a method that touches no cell -/
def sP (av : List Value) : Array Value → State → Prop := fun v _ => v = av.toArray
def sQ (rv : Option Value) : Array Value → State → Outcome → State → Prop := fun _ st o t => o = .returned rv ∧ t.heap = st.heap
abbrev rm0_ (f lo : Nat) : Room := { frames := f, cells := 0, slots := 0, locals := lo }
theorem mP_blind {D : va_G} {dA : Nat → ClassId} {b : Nat} {ad : Nat → Nat} {P : Nat → Prop} {F : Nat → va_E} {av : List Value} {m : MS} : FrameBlind (mP D dA b ad P F av m) := fun a U g mk q => by
  obtain ⟨q0, q1, q2⟩ := q
  exact ⟨q0, q1, va_K.moved (u := U) (U := U.calling g mk a) (Vm.Alike.refl U.vm) q2⟩
theorem sP_blind {av : List Value} : FrameBlind (sP av) := fun _ _ _ _ q => q
section QC
variable {p : Program} {l : Launch} {e : Env} {R : Room} {s : State} {mm : MethodId} {args : Array Value} {below : List Frame} {meth : Method} {c : Code} {H : Heap} {locs : List Loc} {cells slots : Nat} {Q : State → Prop}
variable {cc : ByteArray} {pc : Nat} {ls : Array Slot} {rest st0 : List Value} {D : va_G} {dA : Nat → ClassId} {b : Nat} {ad : Nat → Nat} {P : Nat → Prop} {F : Nat → va_E} {m m' : MS} {nL : Nat}
variable {y : MethodName} {bytes : ByteArray} {maxL idx : Nat} {ret : Option FieldType} {rm : Room} {As : List Value} {rv : Option Value} {own : String}
theorem qm_run {a : Array Value} (hr : va_Run p l e R s mm args below meth c H locs cells slots 0 0 (F0 mm pc ls st0) rest (mQ D dA b ad P F rv m' a) (fun q => b ≤ q)) (hS : va_S (fun q => b ≤ q) s.heap H locs)
    (kk : ∀ (H : Heap) (locs : List Loc), MW D dA b ad P F m' H → va_S (fun q => b ≤ q) s.heap H locs → W p l e R s mm args below meth c H locs cells slots Q (F0 mm (pc + 3) ls (rv.toList ++ rest))) : W p l e R s mm args below meth c H locs cells slots Q (F0 mm pc ls st0) := by
  intro T hT X
  obtain ⟨v, st₀, t, T', L, h0, X', hL, e1, e2, ⟨hv, hw, hz, hk⟩, st⟩ := hr T hT X
  cases hv
  rw [h0] at hz hk
  obtain ⟨t2, a1, b1⟩ := kk T'.heap (locs ++ L) (by rw [e1]; exact hw)
    ⟨Nat.le_trans hS.1 (by rw [e1]; exact hz), fun q h1 h2 => by rw [e1, hk q (Nat.lt_of_lt_of_le h1 hS.1) h2]; exact hS.2.1 q h1 h2, fun q hq => by
      rcases List.mem_append.mp hq with h | h
      · exact hS.2.2 q h
      · exact hL q h⟩ T' rfl X'
  exact ⟨t2, st t2 a1, b1⟩
/-- a call of the reference's own method on itself -/
theorem qm_callV (hC : CX p s mm args c cc nL RX4 D dA) (hM : MW D dA b ad P F m H) (hS : va_S (fun q => b ≤ q) s.heap H locs) (n : Nat) (hMet : Met l y (ws_ y bytes maxL ret) rm (mP D dA b ad P F (.ref (ad 46) :: As) m) (mQ D dA b ad P F rv m') 0 0 (fun q => b ≤ q)) (hG : GoodIn lw_all (wsV RX4 idx RX4 y (ws_ y bytes maxL ret)))
    (hd : y.cls = RX4 ∧ y.cls ≠ "java/lang/invoke/MethodHandle" ∧ y.cls ≠ "java/lang/invoke/VarHandle" ∧ (parseMethodDescriptor y.desc).map (fun d => d.parameters.length) = some n) (hR : rm.cells = 0 ∧ rm.slots = 0 ∧ rm.frames + 1 ≤ R.frames ∧ 8 + (maxL + 11) + rm.locals ≤ R.locals) (hn : As.length = n) (hs0 : st0 = As.reverse ++ .ref (ad 46) :: rest) (hsz : ls.size = nL) (hW : (rest.map fun v => v.category).sum ≤ 8) (hdg : decode cc pc = .ok (.invokevirtual idx, 3)) (hcs : cells ≤ R.cells ∧ slots ≤ R.slots)
    (kk : ∀ (H : Heap) (locs : List Loc), MW D dA b ad P F m' H → va_S (fun q => b ≤ q) s.heap H locs → W p l e R s mm args below meth c H locs cells slots Q (F0 mm (pc + 3) ls (rv.toList ++ rest))) : W p l e R s mm args below meth c H locs cells slots Q (F0 mm pc ls st0) := by
  obtain ⟨S, hK⟩ := hC
  obtain ⟨L, f, q0, hP, hD, hRR, hin, hq, hq2⟩ := hM.obj
  exact qm_run (va_runV (As := As) (rest := rest) S hMet (cwV n S.2.2.2.2 hG rfl hR.1 hR.2.1 hd hR.2.2) ⟨mP_blind, va_recv hK hP (ci := 0) rfl hq2, fun U hU hWm => ⟨rfl, by rw [hU]; exact hM, va_K.moved hWm.alike hK⟩⟩ rfl hn hsz hs0 (lv_room hW) hdg hcs) hS kk
/-- a call of a static method that touches no cell -/
theorem q_callS (S : CallFix p mm c cc nL s args lw_all own) (n : Nat) (hMet : Met l y (ws_ y bytes maxL ret) rm (sP As) (sQ rv) 0 0 (fun _ => False)) (hG : GoodIn lw_all (va_wsS own idx y (ws_ y bytes maxL ret)))
    (hd : y.cls ≠ "java/lang/invoke/MethodHandle" ∧ y.cls ≠ "java/lang/invoke/VarHandle" ∧ (parseMethodDescriptor y.desc).map (fun d => d.parameters.length) = some n) (hR : rm.cells = 0 ∧ rm.slots = 0 ∧ rm.frames + 1 ≤ R.frames ∧ 8 + (maxL + 11) + rm.locals ≤ R.locals) (hn : As.length = n) (hs0 : st0 = As.reverse ++ rest) (hsz : ls.size = nL) (hW : (rest.map fun v => v.category).sum ≤ 8) (hdg : decode cc pc = .ok (.invokestatic idx, 3)) (hcs : cells ≤ R.cells ∧ slots ≤ R.slots)
    (kk : W p l e R s mm args below meth c H locs cells slots Q (F0 mm (pc + 3) ls (rv.toList ++ rest))) : W p l e R s mm args below meth c H locs cells slots Q (F0 mm pc ls st0) := by
  have hr := va_runS (p := p) (l := l) (e := e) (R := R) (below := below) (meth := meth) (H := H) (locs := locs) (cells := cells) (slots := slots) (g := F0 mm pc ls st0) (As := As) (rest := rest) S hMet (va_cwS n S.2.2.2.2 hG rfl hR.1 hR.2.1 hd hR.2.2) ⟨sP_blind, fun U hU hWm => rfl⟩ rfl hn hsz hs0 (lv_room hW) hdg hcs
  intro T hT X
  obtain ⟨v, st₀, t, T', L, h0, X', hL, e1, e2, ⟨hv, hz⟩, st⟩ := hr T hT X
  cases hv
  have hL0 : L = [] := List.eq_nil_iff_forall_not_mem.mpr (fun q h => hL q h)
  subst hL0
  rw [List.append_nil] at X'
  obtain ⟨t2, a1, b1⟩ := kk T' (by rw [e1, hz, h0]) X'
  exact ⟨t2, st t2 a1, b1⟩
/-! ends -/
theorem qm_vret (hC : CX p s mm args c cc nL own D dA) (hr : meth.sig.returnType = none) (hlocks : meth.locks = false) (hM : MW D dA b ad P F m H) (hS : va_S (fun q => b ≤ q) s.heap H locs) (hdg : decode cc pc = .ok (.return_, 1)) : W p l e R s mm args below meth c H locs cells slots (MQ below (mQ D dA b ad P F none m) args s cells slots (fun q => b ≤ q)) (F0 mm pc ls []) :=
  W.vret hC.1.1 hC.1.2.1 hr (fun t ht _ => ⟨rfl, by rw [ht]; exact hM, hS.F ht⟩) hS.2.2 hdg hlocks
theorem qm_iret {v : Int32} (hC : CX p s mm args c cc nL own D dA) (hr : meth.sig.returnType = some .int) (hlocks : meth.locks = false) (hM : MW D dA b ad P F m H) (hS : va_S (fun q => b ≤ q) s.heap H locs) (hdg : decode cc pc = .ok (.ireturn, 1)) : W p l e R s mm args below meth c H locs cells slots (MQ below (mQ D dA b ad P F (some (.int v)) m) args s cells slots (fun q => b ≤ q)) (F0 mm pc ls [.int v]) :=
  W.iret hC.1.1 hC.1.2.1 hr (fun t ht _ => ⟨rfl, by rw [ht]; exact hM, hS.F ht⟩) hS.2.2 hdg hlocks
theorem qm_lret {v : Int64} (hC : CX p s mm args c cc nL own D dA) (hr : meth.sig.returnType = some .long) (hlocks : meth.locks = false) (hM : MW D dA b ad P F m H) (hS : va_S (fun q => b ≤ q) s.heap H locs) (hdg : decode cc pc = .ok (.lreturn, 1)) : W p l e R s mm args below meth c H locs cells slots (MQ below (mQ D dA b ad P F (some (.long v)) m) args s cells slots (fun q => b ≤ q)) (F0 mm pc ls [.long v]) :=
  W.lret hC.1.1 hC.1.2.1 hr (fun t ht _ => ⟨rfl, by rw [ht]; exact hM, hS.F ht⟩) hS.2.2 hdg hlocks
/-- a boolean answer: the pure function's end says that it is 0 or 1 -/
def zOk (v : Int32) : Option Int32 := if v = 0 ∨ v = 1 then some v else none
theorem zOk_n {v r : Int32} (h : zOk v = some r) : v = r ∧ narrow .boolean (.int v) = .int v := by
  unfold zOk at h
  split at h
  next hv =>
    cases h
    rcases hv with rfl | rfl
    · exact ⟨rfl, narrow_b0⟩
    · exact ⟨rfl, narrow_b1⟩
  next => cases h
theorem qm_zret {v r : Int32} (hC : CX p s mm args c cc nL own D dA) (hr : meth.sig.returnType = some .boolean) (hlocks : meth.locks = false) (hM : MW D dA b ad P F m H) (hS : va_S (fun q => b ≤ q) s.heap H locs) (hv : zOk v = some r) (hdg : decode cc pc = .ok (.ireturn, 1)) : W p l e R s mm args below meth c H locs cells slots (MQ below (mQ D dA b ad P F (some (.int r)) m) args s cells slots (fun q => b ≤ q)) (F0 mm pc ls [.int v]) := by
  obtain ⟨rfl, hn⟩ := zOk_n hv
  exact W.zret hC.1.1 hC.1.2.1 hr hn (fun t ht _ => ⟨rfl, by rw [ht]; exact hM, hS.F ht⟩) hS.2.2 hdg hlocks
theorem q_iret {v : Int32} (hx : p.tables.exec = Jvm.exec) (hb : c.code = cc) (hr : meth.sig.returnType = some .int) (hlocks : meth.locks = false) (hdg : decode cc pc = .ok (.ireturn, 1)) : W p l e R s mm args below meth c s.heap [] cells slots (MQ below (sQ (some (.int v))) args s cells slots (fun _ => False)) (F0 mm pc ls [.int v]) :=
  W.iret hx hb hr (fun t ht _ => ⟨rfl, ht⟩) (fun q h => by cases h) hdg hlocks
theorem q_lret {v : Int64} (hx : p.tables.exec = Jvm.exec) (hb : c.code = cc) (hr : meth.sig.returnType = some .long) (hlocks : meth.locks = false) (hdg : decode cc pc = .ok (.lreturn, 1)) : W p l e R s mm args below meth c s.heap [] cells slots (MQ below (sQ (some (.long v))) args s cells slots (fun _ => False)) (F0 mm pc ls [.long v]) :=
  W.lret hx hb hr (fun t ht _ => ⟨rfl, ht⟩) (fun q h => by cases h) hdg hlocks
theorem q_zret {v r : Int32} (hx : p.tables.exec = Jvm.exec) (hb : c.code = cc) (hr : meth.sig.returnType = some .boolean) (hlocks : meth.locks = false) (hv : zOk v = some r) (hdg : decode cc pc = .ok (.ireturn, 1)) : W p l e R s mm args below meth c s.heap [] cells slots (MQ below (sQ (some (.int r))) args s cells slots (fun _ => False)) (F0 mm pc ls [.int v]) := by
  obtain ⟨rfl, hn⟩ := zOk_n hv
  exact W.zret hx hb hr hn (fun t ht _ => ⟨rfl, ht⟩) (fun q h => by cases h) hdg hlocks
/-- the entry: locals by their places -/
theorem q_entry (vs : List Value) {n : Nat} (h : (lg_sl vs).length ≤ n) (kk : ∀ ls : Array Slot, lv_has ls n (lv_args 0 vs) → W p l e R s mm args below meth c H locs cells slots Q (F0 mm 0 ls [])) : W p l e R s mm args below meth c H locs cells slots Q (entryFrame mm vs.toArray n) := by
  rw [lg_entry_eq]
  exact kk _ (lv_entry vs h)
end QC

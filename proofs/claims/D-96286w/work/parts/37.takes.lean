/-! House.takes: the other house's arrays and fields are laid over this one's -/
/-- an array's contents behind its length don't matter -/
theorem arrV_congr {cA : ClassId} {n : Nat} {F G : Nat → Value} (h : ∀ j, j < n → F j = G j) : arrV cA n F = arrV cA n G := by
  unfold arrV
  congr 1
  apply Array.ext
  · simp
  · intro i h1 h2
    simp at h1 h2 ⊢
    exact h i h1
theorem va_P_alike {D : va_G} {L : List Nat} {f : Nat → va_E} {a : Nat} {e e' : va_E} {H : Heap} (h : va_P D CL (va_pl L (va_up f a e)) H) (he : ∀ q, va_at D CL (q, e) H → va_at D CL (q, e') H) : va_P D CL (va_pl L (va_up f a e')) H := by
  intro k q hq
  unfold va_pl at hq
  rw [List.getElem?_map] at hq
  cases hL : L[k]? with
  | none => rw [hL] at hq; cases hq
  | some z =>
    rw [hL] at hq
    cases hq
    have h1 := h k (z, va_up f a e z) (by unfold va_pl; rw [List.getElem?_map, hL]; rfl)
    by_cases e2 : z = a
    · subst e2
      show va_at D CL (z, va_up f z e' z) H
      rw [va_up_self] at h1 ⊢
      exact he z h1
    · show va_at D CL (z, va_up f a e' z) H
      rw [va_up_ne _ _ e2] at h1 ⊢
      exact h1
theorem va_D_alike {A : Nat → Prop} {L : List Nat} {f g : Nat → va_E} (h : va_D A (va_pl L f)) : va_D A (va_pl L g) := by
  have key : ∀ (k : Nat) (q : Nat × va_E), (va_pl L g)[k]? = some q → (va_pl L f)[k]? = some (q.1, f q.1) := by
    intro k q hq
    unfold va_pl at hq ⊢
    rw [List.getElem?_map] at hq ⊢
    cases hL : L[k]? with
    | none => rw [hL] at hq; cases hq
    | some z => rw [hL] at hq; cases hq; rfl
  exact ⟨fun i j p q hi hj e => h.1 i j _ _ (key i p hi) (key j q hj) e, fun k q hq => h.2 k (q.1, f q.1) (key k q hq)⟩
/-- every germ is 0 or 1 -/
def gOk (h : HS) : Bool := (List.range 12).all (fun j => decide (h.2.1 5 j = 0 ∨ h.2.1 5 j = 1))
theorem gOk_at {h : HS} (hg : gOk h = true) {j : Nat} (hj : j < 12) : h.2.1 5 j = 0 ∨ h.2.1 5 j = 1 := by
  unfold gOk at hg
  exact of_decide_eq_true (List.all_eq_true.mp hg j (List.mem_range.mpr hj))
def hTk (h2 : HS) : HS := (h2.1, h2.2.1, fun k => if k < 19 then h2.2.2 k else if k = 19 then -1 else 0)
def H_takes (h2 : HS) : Option HS := if gOk h2 = true then some (hTk h2) else none
/-- array k of h2 laid over array k of h -/
def hcp (h h2 : HS) (k : Nat) : HS := ((if k = 0 then h2.1 else h.1), (fun j => if j = k then h2.2.1 k else h.2.1 j), h.2.2)
section TK
variable {Γ : GX} {own : String} {cc : ByteArray} {nL : Nat} {ret ret' : Option FieldType} {Qc : Array Value → State → Outcome → State → Prop} {A : Nat → Prop} {rm rm' : Room} {D : va_G} {dA : Nat → ClassId}
variable {cells slots pc mc ms : Nat} {lv lv' : List (Nat × Value)} {st st0 : List Value} {b : Nat} {ad : Nat → Nat} {P : Nat → Prop} {F : Nat → va_E} {x x' : XS} {r r2 : Nat} {h h' h2 : HS} {gs : List (Nat × (Nat × Int32))}
theorem qt_copyi (hΓ : GOK Γ own cc nL ret Qc (fun q => b ≤ q) rm) (hK : GKX Γ D dA b) (hr : r < 4) (hr2 : r2 < 4) (hh : x.1 r = h) (hh2 : x.1 r2 = h2) {k t0 : Nat} {ty : FieldType} (hk : (hI k || k == 5) = true) (ht : (TYS dA)[t0]? = some (dA t0, ty)) (hkt : (hI k = true ∧ t0 = 0) ∨ (k = 5 ∧ t0 = 2)) (hpr : refKind ty = false) (hfit : ∀ j, j < hLen k → fits ty (.int (h2.2.1 k j)) = true) {n : Int32} (hn : ¬ n < 0 ∧ n.toNatClampNeg = hLen k) {index : Nat} (hl : Cond.methodLink own index arraycopyName ∈ lw_all) (hx' : xh x r (hcp h h2 k) = x') (hR : 1 ≤ rm.frames ∧ (st.map fun v => v.category).sum + (nativeFrameWords "java/lang/System" "arraycopy" 5 + 11) ≤ rm.locals) (hdg : decode cc pc = .ok (.invokestatic index, 3))
    (kk : WG Γ (XW D dA b ad P F gs x') cells slots (pc + 3) lv st) : WG Γ (XW D dA b ad P F gs x) cells slots pc lv (.int n :: .int 0 :: .ref (ad (hB r k)) :: .int 0 :: .ref (ad (hB r2 k)) :: st) := by
  intro H locs ls hw hS0 hl2
  have hts := hΓ.1.2.2.2.2
  have hkC : hC k = true := by
    rcases hkt with h | h
    · exact hI_C h.1
    · rw [h.1]; rfl
  have hk0 : ¬ k = 0 := by
    rcases hkt with h | h
    · have := hI_lt h.1; omega
    · omega
  have hk14 : k < 14 := by
    rcases hkt with h | h
    · exact (hI_lt h.1).2.1
    · omega
  have hEt : ∀ (a : Nat → Option Nat) (r : Nat) (h : HS), EH dA ad a r h k = .inl (dA t0, hLen k, .inl (h.2.1 k)) := by
    intro a r h
    rcases hkt with ⟨e1, e2⟩ | ⟨e1, e2⟩
    · rw [EH_i e1, e2]
    · subst e1; subst e2; rfl
  obtain ⟨L, f, ga, gsh, bf, q1, hP, hD, hRr, hin, hq, hq2⟩ := hw.hcell hr hh hkC
  obtain ⟨hin2, hf2⟩ := hRr.1 _ (xC_h hr2 hkC)
  obtain ⟨q0, hq0⟩ := va_pl_get (X := []) (f := f) hin2
  have hq0 : (va_pl L f)[q0]? = some (ad (hB r2 k), .inl (dA t0, hLen k, .inl (h2.2.1 k))) := by
    rw [show (va_pl L f)[q0]? = some (ad (hB r2 k), f (ad (hB r2 k))) from hq0, hf2, EX_h hr2 (by omega), hh2, hEt]
  rw [hEt] at hq2
  have h00 : (0 : Int32).toNatClampNeg = 0 := by decide
  refine va_copyi hΓ.1.1 hΓ.1.2.1 (by rw [hΓ.1.2.2.1]; rw [hl2.1, hΓ.2.1]) hΓ.1.2.2.2.1 (hts _ hl) (hts _ q99) (hts _ q98) (hts _ q58) hK.1 hP hD (gSto hΓ hS0) q0 q1 t0 t0 hq0 hq2 ht ht hpr (by decide) (by decide) hn.1 (by rw [h00, hn.2]; omega) (by rw [h00, hn.2]; omega) (fun i hi => by rw [h00, Nat.zero_add]; exact hfit i (by rw [← hn.2]; exact hi)) (by rw [hΓ.2.2.2.2.2.1]; exact hR.1) (by rw [hΓ.2.2.2.2.2.1]; exact hR.2) hdg (fun H1 locs1 hP1 hD1 hS1 => ?_)
  have e1 : ∀ e, (va_pl L f).set q1 (ad (hB r k), e) = va_pl L (va_up f (ad (hB r k)) e) := fun e => va_pl_set (X := []) hD hin hq
  rw [e1] at hP1 hD1
  rw [h00, hn.2] at hP1
  have hP2 := va_P_alike (e' := .inl (dA t0, hLen k, .inl (h2.2.1 k))) hP1 (fun q hq => by
    have hq : H1[q]? = some (vp_cell (dA t0) (hLen k, .inl (va_cpy (h2.2.1 k) (h.2.1 k) 0 0 (hLen k)))) := hq
    show H1[q]? = some (vp_cell (dA t0) (hLen k, .inl (h2.2.1 k)))
    rw [hq, vp_cell_i, vp_cell_i, arrV_congr]
    intro j hj
    rw [pk_cpy_in (by omega) (by omega)]
    simp)
  have hD2 : va_D (fun q => b ≤ q) (va_pl L (va_up f (ad (hB r k)) (.inl (dA t0, hLen k, .inl (h2.2.1 k))))) := va_D_alike hD1
  subst hx'
  have eh : hcp h h2 k = (h.1, (fun j => if j = k then h2.2.1 k else h.2.1 j), h.2.2) := by
    unfold hcp; rw [if_neg hk0]
  rw [eh] at kk
  refine kk H1 locs1 ls (hst_up hr hh hkC hRr ?_ hP2 hD2) (gSof hΓ hS1) hl2
  rw [hEt]
  simp only [if_true]
/-- the row of glasses -/
theorem qt_copyg (hΓ : GOK Γ own cc nL ret Qc (fun q => b ≤ q) rm) (hK : GKX Γ D dA b) (hr : r < 4) (hr2 : r2 < 4) (hne : r2 ≠ r) (hh : x.1 r = h) (hh2 : x.1 r2 = h2) {index : Nat} (hl : Cond.methodLink own index arraycopyName ∈ lw_all) (hx' : xh x r (hcp h h2 0) = x') (hR : 1 ≤ rm.frames ∧ (st.map fun v => v.category).sum + (nativeFrameWords "java/lang/System" "arraycopy" 5 + 11) ≤ rm.locals) (hdg : decode cc pc = .ok (.invokestatic index, 3))
    (kk : WG Γ (XW D dA b ad P F gs x') cells slots (pc + 3) lv st) : WG Γ (XW D dA b ad P F gs x) cells slots pc lv (.int 12 :: .int 0 :: .ref (ad (hB r 0)) :: .int 0 :: .ref (ad (hB r2 0)) :: st) := by
  intro H locs ls hw hS0 hl2
  have hts := hΓ.1.2.2.2.2
  obtain ⟨L, f, ga, gsh, bf, q1, hP, hD, hRr, hin, hq, hq2⟩ := hw.hcell hr hh (show hC 0 = true from rfl)
  obtain ⟨hin2, hf2⟩ := hRr.1 _ (xC_h (k := 0) hr2 rfl)
  obtain ⟨q0, hq0⟩ := va_pl_get (X := []) (f := f) hin2
  have hq0 : (va_pl L f)[q0]? = some (ad (hB r2 0), .inl (dA 5, 12, .inr (.inr (.inr (.inr (ga r2)))))) := by
    rw [show (va_pl L f)[q0]? = some (ad (hB r2 0), f (ad (hB r2 0))) from hq0, hf2, EX_h hr2 (by omega)]
    rfl
  have hq2 : (va_pl L f)[q1]? = some (ad (hB r 0), .inl (dA 5, 12, .inr (.inr (.inr (.inr (ga r)))))) := hq2
  have h00 : (0 : Int32).toNatClampNeg = 0 := by decide
  have h12 : (12 : Int32).toNatClampNeg = 12 := by decide
  refine va_copyM hΓ.1.1 hΓ.1.2.1 (by rw [hΓ.1.2.2.1]; rw [hl2.1, hΓ.2.1]) hΓ.1.2.2.2.1 (hts _ hl) (hts _ q99) (hts _ q98) (hts _ q58) hK.1 hP hD (gSto hΓ hS0) q0 q1 5 5 hq0 hq2 rfl rfl (by decide) (by decide) (by decide) (by rw [h00, h12]; omega) (by rw [h00, h12]; omega) (fun i hi y hy => ?_) (by rw [hΓ.2.2.2.2.2.1]; exact hR.1) (by rw [hΓ.2.2.2.2.2.1]; exact hR.2) hdg (fun H1 locs1 hP1 hD1 hS1 => ?_)
  · rw [h00, Nat.zero_add] at hy
    have hg := hRr.2.2.2.1 r2 hr2 i (by rw [← h12]; exact hi)
    cases hv : (x.1 r2).1 i with
    | none =>
      rw [hv] at hg
      rw [show ga r2 i = none from hg] at hy
      cases hy
    | some v =>
      rw [hv] at hg
      obtain ⟨g1, z, g2, g3, g4⟩ := hg
      rw [g2] at hy
      cases hy
      obtain ⟨qz, hqz⟩ := va_pl_get (X := []) (f := f) g3
      have hqz : (va_pl L f)[qz]? = some (y, .inr (5 + v.1, [.int v.2])) := by rw [show (va_pl L f)[qz]? = some (y, f y) from hqz, g4]; rfl
      obtain ⟨C, hC1, hC2⟩ := gAny hK.2.1 g1
      exact va_rAny hK.1 hP hqz hC1 hC2
  have e1 : ∀ e, (va_pl L f).set q1 (ad (hB r 0), e) = va_pl L (va_up f (ad (hB r 0)) e) := fun e => va_pl_set (X := []) hD hin hq
  rw [e1] at hP1 hD1
  rw [h00, h12] at hP1
  have hP2 := va_P_alike (e' := .inl (dA 5, 12, .inr (.inr (.inr (.inr (ga r2)))))) hP1 (fun q hq => by
    have hq : H1[q]? = some (vp_cell (dA 5) (12, .inr (.inr (.inr (.inr (va_cpy (ga r2) (ga r) 0 0 12)))))) := hq
    show H1[q]? = some (vp_cell (dA 5) (12, .inr (.inr (.inr (.inr (ga r2))))))
    rw [hq, vp_cell_q, vp_cell_q, arrV_congr]
    intro j hj
    rw [pk_cpy_in (by omega) (by omega)]
    simp)
  have hD2 : va_D (fun q => b ≤ q) (va_pl L (va_up f (ad (hB r 0)) (.inl (dA 5, 12, .inr (.inr (.inr (.inr (ga r2)))))))) := va_D_alike hD1
  subst hx'
  have hng : ∀ z : Nat × Int32, z.1 < 8 → ¬ f (ad (hB r 0)) = GE z := fun z hz q => EX_ng hz ((hRr.1 (hB r 0) (xC_h (k := 0) hr rfl)).2 ▸ q)
  have hEo : ∀ j, xC x j = true → j ≠ hB r 0 → EX dA ad (va_up ga r (ga r2)) gsh bf (xh x r (hcp h h2 0)) j = EX dA ad ga gsh bf x j := by
    intro j hj hne
    have hq := xC_rng hj
    unfold EX
    split; · rfl
    split; · rfl
    split; · rfl
    split; · rfl
    split
    · by_cases e : (j - 100) / 30 = r
      · have e2 : (j - 100) % 30 ≠ 0 := by
          intro z
          apply hne
          unfold hB
          have := Nat.div_add_mod (j - 100) 30
          omega
        rw [e, xh_at, va_up_self, hh]
        unfold EH hcp
        split; · rfl
        simp only [if_neg e2]
        split
        · rename_i e5
          simp
        · rfl
      · rw [xh_ne _ _ e, va_up_ne _ _ e]
    · split; · rfl
      rfl
  have hEk : EX dA ad (va_up ga r (ga r2)) gsh bf (xh x r (hcp h h2 0)) (hB r 0) = .inl (dA 5, 12, .inr (.inr (.inr (.inr (ga r2))))) := by
    rw [EX_h hr (by omega), xh_at, va_up_self]
    rfl
  obtain ⟨h1, h2', h3, h4, h5, h6, h7⟩ := hRr
  refine kk H1 locs1 ls ⟨L, _, va_up ga r (ga r2), gsh, bf, hP2, hD2, fun j hj => ?_, h2', fun z hz => ?_, fun r' hr' j hj => ?_, fun d hd z hz => (h5 d hd z hz).up hng, fun q hq => (h6 q hq).up hng, h7⟩ (gSof hΓ hS1) hl2
  · by_cases e : j = hB r 0
    · subst e; exact ⟨(h1 _ hj).1, by rw [va_up_self, hEk]⟩
    · refine ⟨(h1 j hj).1, ?_⟩
      rw [va_up_ne _ _ (fun q => e (h2' j (hB r 0) hj (xC_h (k := 0) hr rfl) q)), (h1 j hj).2, hEo j hj e]
  · obtain ⟨a1, a2, a3⟩ := h3 z hz
    exact ⟨a1, by rw [va_up_ne _ _ (fun q => a3 (hB r 0) (xC_h (k := 0) hr rfl) q.symm)]; exact a2, a3⟩
  · by_cases e : r' = r
    · subst e
      rw [xh_at, va_up_self]
      have := (h4 r2 hr2 j hj).up (e := Sum.inl (dA 5, 12, .inr (.inr (.inr (.inr (ga r2)))))) hng
      rw [hh2] at this
      exact this
    · rw [xh_ne _ _ e, va_up_ne _ _ e]
      exact (h4 r' hr' j hj).up hng
end TK
/-- what the world says of a house it says of any that has the same arrays and fields -/
theorem XW.hsame {D : va_G} {dA : Nat → ClassId} {b : Nat} {ad : Nat → Nat} {P : Nat → Prop} {F : Nat → va_E} {gs : List (Nat × (Nat × Int32))} {x : XS} {r : Nat} {h h' : HS} {H : Heap} (hw : XW D dA b ad P F gs (xh x r h) H) (h1 : ∀ j, j < 12 → h'.1 j = h.1 j) (h2 : ∀ k, 1 ≤ k → k < 14 → h'.2.1 k = h.2.1 k) (h3 : ∀ k, 14 ≤ k → k < 22 → h'.2.2 k = h.2.2 k) : XW D dA b ad P F gs (xh x r h') H := by
  obtain ⟨L, f, ga, gsh, bf, hP, hD, a1, a2, a3, a4, a5, a6, a7⟩ := hw
  refine ⟨L, f, ga, gsh, bf, hP, hD, fun k hk => ?_, a2, a3, fun r' hr' j hj => ?_, a5, a6, a7⟩
  · refine ⟨(a1 k hk).1, ?_⟩
    rw [(a1 k hk).2]
    have hq := xC_rng hk
    have hkx := hk
    unfold EX
    split; · rfl
    split; · rfl
    split; · rfl
    split; · rfl
    split
    · by_cases e : (k - 100) / 30 = r
      · rw [e, xh_at, xh_at]
        unfold EH
        split
        · congr 2
          unfold hfs
          refine List.map_congr_left (fun j hj => ?_)
          have hj := List.mem_range.mp hj
          unfold hfv
          split
          · rfl
          · rw [h3 j (by omega) hj]
        · split
          · rfl
          · split
            · rw [h2 5 (by omega) (by omega)]
            · have hc : hC ((k - 100) % 30) = true := by
                have q1 : decide (k < 10) = false := by simp; omega
                have q2 : decide (k < 78) = false := by simp; omega
                have q4 : rC k = false := by
                  simp only [rC, Bool.or_eq_false_iff, Bool.and_eq_false_iff, beq_eq_false_iff_ne, decide_eq_false_iff_not]
                  omega
                have q5 : (k == 400) = false := by simp; omega
                simp [xC, q1, q2, q4, q5] at hkx
                exact hkx.2
              have hc2 : (k - 100) % 30 < 14 := by
                simp only [hC, Bool.or_eq_true, decide_eq_true_eq, beq_iff_eq] at hc
                omega
              rw [h2 _ (by omega) hc2]
      · rw [xh_ne _ _ e, xh_ne _ _ e]
    · split; · rfl
      rfl
  · have := a4 r' hr' j hj
    by_cases e : r' = r
    · subst e
      rw [xh_at] at this ⊢
      rw [h1 j hj]
      exact this
    · rw [xh_ne _ _ e] at this ⊢
      exact this

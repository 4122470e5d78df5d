/-! figure of a glass; a shelf is laid; glasses are made -/
def xSh (x : XS) (d : Nat) (v : SV) : XS := (x.1, x.2.1, va_up x.2.2.1 d v, x.2.2.2)
section XMO
variable {Γ : GX} {own : String} {cc : ByteArray} {nL : Nat} {ret ret' : Option FieldType} {Qc : Array Value → State → Outcome → State → Prop} {A : Nat → Prop} {rm rm' : Room} {D : va_G} {dA : Nat → ClassId}
variable {cells slots pc mc ms : Nat} {lv lv' : List (Nat × Value)} {st st0 : List Value} {b : Nat} {ad : Nat → Nat} {P : Nat → Prop} {F : Nat → va_E} {x x' : XS} {r : Nat} {h h' : HS} {gs : List (Nat × (Nat × Int32))}
/-- .. while a glass is being made -/
theorem qx_fign (hΓ : GOK Γ own cc nL ret Qc A rm) (hK : GKX Γ D dA b) {a a2 index : Nat} {g g2 : Nat × Int32} (hg : (a, g) ∈ gs) (hl : Cond.fieldLink own index "WhoseGlass$Glass" "figure" "I" ∈ lw_all) (hdg : decode cc pc = .ok (.getfield index, 3)) (kk : WG Γ (XWn D dA b ad P F gs x a2 g2) cells slots (pc + 3) lv (.int g.2 :: st)) : WG Γ (XWn D dA b ad P F gs x a2 g2) cells slots pc lv (.ref a :: st) := by
  intro H locs ls hw hS hl2
  obtain ⟨hg8, L, f, q0, hP, hq⟩ := hw.toXW.glassC (List.mem_cons_of_mem _ hg)
  exact qx_fig0 hΓ.1 hK.1 hg8 hP hq hl (fun y h => h) hdg (kk H locs ls hw hS hl2)
/-- rows of a house read while a glass is being made -/
theorem qx_hgetan (hΓ : GOK Γ own cc nL ret Qc A rm) (hK : GKX Γ D dA b) {a2 : Nat} {g2 : Nat × Int32} (hr : r < 4) {k : Nat} (hk : decide (k < 14) = true) {index : Nat} (hl : Cond.fieldLink own index RX2 (TX2 k).2.1 (TX2 k).2.2.1 ∈ lw_all) (hdg : decode cc pc = .ok (.getfield index, 3)) (kk : WG Γ (XWn D dA b ad P F gs x a2 g2) cells slots (pc + 3) lv (.ref (ad (hB r k)) :: st)) : WG Γ (XWn D dA b ad P F gs x a2 g2) cells slots pc lv (.ref (ad (hB r 22)) :: st) := by
  intro H locs ls hw hS hl2
  obtain ⟨hx, hb, -, hown, hts⟩ := hΓ.1
  obtain ⟨L, f, ga, gsh, bf, q0, hP, hD, hR, hin, hq, hq2⟩ := hw.toXW.hobj hr rfl
  have hk : k < 14 := of_decide_eq_true hk
  exact va_get hx hb hts in_X2 hown hK.1 hP q0 hq2 rfl k (by omega) (hts _ hl) (fun x h => by rw [TX2_cls] at h; exact h) (by rw [hfs_get (by omega), hfv, if_pos hk]) hdg (kk H locs ls hw hS hl2)
theorem qX_housen (hΓ : GOK Γ RX1 cc nL ret Qc A rm) (hK : GKX Γ D dA b) {a2 : Nat} {g2 : Nat × Int32} (k : Nat) (hk : k < 4) {index : Nat} (hl : Cond.fieldLink RX1 index RX1 (TX1 k).2.1 (TX1 k).2.2.1 ∈ lw_all) (hdg : decode cc pc = .ok (.getfield index, 3)) (kk : WG Γ (XWn D dA b ad P F gs x a2 g2) cells slots (pc + 3) lv (.ref (ad (hB k 22)) :: st)) : WG Γ (XWn D dA b ad P F gs x a2 g2) cells slots pc lv (.ref (ad 0) :: st) := by
  intro H locs ls hw hS hl2
  obtain ⟨hx, hb, -, hown, hts⟩ := hΓ.1
  obtain ⟨L, f, ga, gsh, bf, q0, hP, hD, hR, hin, hq, hq2⟩ := hw.toXW.xobj
  refine va_get hx hb hts in_X1 hown hK.1 hP q0 hq2 rfl k (by omega) (hts _ hl) (fun x h => by rw [TX1_cls] at h; exact h) ?_ hdg (kk H locs ls hw hS hl2)
  rcases (by omega : k = 0 ∨ k = 1 ∨ k = 2 ∨ k = 3) with rfl | rfl | rfl | rfl <;> rfl
theorem qx_galdn (hΓ : GOK Γ own cc nL ret Qc A rm) (hK : GKX Γ D dA b) {a2 : Nat} {g2 : Nat × Int32} (hr : r < 4) (hh : x.1 r = h) {i : Int32} {g : Nat × Int32} (hx : hG h i = some g) (hdg : decode cc pc = .ok (.aaload, 1)) (kk : ∀ y : Nat, WG Γ (XWn D dA b ad P F ((y, g) :: gs) x a2 g2) cells slots (pc + 1) lv (.ref y :: st)) : WG Γ (XWn D dA b ad P F gs x a2 g2) cells slots pc lv (.int i :: .ref (ad (hB r 0)) :: st) := by
  intro H locs ls hw hS hl2
  obtain ⟨L, f, ga, gsh, bf, hP, hD, hRr, ha, hfa, hg8, hn1, hn2, hn3, hn4⟩ := hw
  obtain ⟨hin, hf⟩ := hRr.1 _ (xC_h (k := 0) hr rfl)
  obtain ⟨q0, hq⟩ := va_pl_get (X := []) (f := f) hin
  have hq2 : (va_pl L f)[q0]? = some (ad (hB r 0), .inl (dA 5, 12, .inr (.inr (.inr (.inr (ga r)))))) := by
    rw [show (va_pl L f)[q0]? = some (ad (hB r 0), f (ad (hB r 0))) from hq, hf, EX_h hr (by omega)]
    rfl
  unfold hG at hx
  split at hx
  next => cases hx
  next hi =>
    have hi2 : i.toNatClampNeg < 12 := by omega
    have hg := hRr.2.2.2.1 r hr i.toNatClampNeg hi2
    rw [hh, hx] at hg
    obtain ⟨g1, y, g2', g3, g4⟩ := hg
    have hny : y ≠ a2 := fun q => hn1 r hr _ hi2 (by rw [g2', q])
    refine va_aldq (n := 12) (f := ga r) hΓ.1.1 hΓ.1.2.1 hK.1 hP q0 5 hq2 rfl hi hdg ?_
    rw [g2']
    exact kk y H locs ls ⟨L, f, ga, gsh, bf, hP, hD, ⟨hRr.1, hRr.2.1, hRr.2.2.1, hRr.2.2.2.1, hRr.2.2.2.2.1, fun q hq => by
      rcases List.mem_cons.mp hq with e | e
      · rw [e]; exact ⟨g1, y, rfl, g3, g4⟩
      · exact hRr.2.2.2.2.2.1 q e, hRr.2.2.2.2.2.2⟩, ha, hfa, hg8, hn1, hn2, fun q hq => by
      rcases List.mem_cons.mp hq with e | e
      · rw [e]; exact hny
      · exact hn3 q e, hn4⟩ hS hl2
/-- a shelf is laid: nothing, or a glass -/
theorem held_up {L : List Nat} {f : Nat → va_E} {ga : Nat → Nat → Option Nat} {gsh : Nat → Nat} {bf : List Value} {d y : Nat} {v : SV} {o : Option Nat} {H : Heap} (hd : d < 8) (hR : XR dA ad P F gs x ga gsh bf L f) (hv : (v = none ∧ o = none) ∨ ∃ g, v = some (.inl g) ∧ o = some y ∧ gRel L f (some y) (some g)) (hP : va_P D CL (va_pl L (va_up f (ad (2 + d)) (.inr (3, [va_rf o])))) H) (hD : va_D (fun q => b ≤ q) (va_pl L (va_up f (ad (2 + d)) (.inr (3, [va_rf o]))))) : XW D dA b ad P F gs (xSh x d v) H := by
  obtain ⟨h1, h2, h3, h4, h5, h6, h7⟩ := hR
  have hk : xC x (2 + d) = true := xC_lo (by omega)
  have hng : ∀ z : Nat × Int32, z.1 < 8 → ¬ f (ad (2 + d)) = GE z := fun z hz q => EX_ng hz ((h1 _ hk).2 ▸ q)
  have hCC : ∀ j, xC (xSh x d v) j = true → xC x j = true := by
    intro j hj
    by_cases e : j = 70 + d
    · subst e
      have e1 : shIs ((xSh x d v).2.2.1 (70 + d - 70)) = false := by
        rw [Nat.add_sub_cancel_left]
        show shIs (va_up x.2.2.1 d v d) = false
        rw [va_up_self]
        rcases hv with ⟨rfl, -⟩ | ⟨g, rfl, -⟩ <;> rfl
      simp only [xC, e1, Bool.and_false, Bool.or_false] at hj
      simp only [xC]
      simp only [Bool.or_eq_true] at hj ⊢
      rcases hj with ((hj | hj) | hj) | hj
      · exact Or.inl (Or.inl (Or.inl (Or.inl hj)))
      · exact Or.inl (Or.inl (Or.inr hj))
      · exact Or.inl (Or.inr hj)
      · exact Or.inr hj
    · have e1 : ¬ (70 ≤ j ∧ j < 78 ∧ j - 70 = d) := by omega
      by_cases q : 70 ≤ j ∧ j < 78
      · have e2 : (xSh x d v).2.2.1 (j - 70) = x.2.2.1 (j - 70) := va_up_ne _ _ (by omega)
        simp only [xC, e2] at hj ⊢
        exact hj
      · have e3 : (decide (70 ≤ j) && decide (j < 78)) = false := by
          simp only [Bool.and_eq_false_iff, decide_eq_false_iff_not]
          omega
        simp only [xC, e3, Bool.false_and] at hj ⊢
        exact hj
  have hEo : ∀ j, xC (xSh x d v) j = true → j ≠ 2 + d → EX dA ad ga (va_up gsh d y) bf (xSh x d v) j = EX dA ad ga gsh bf x j := by
    intro j hj hne
    have hq := xC_rng hj
    unfold EX
    split; · rfl
    split; · rfl
    split
    · have e : j - 2 ≠ d := by omega
      show Sum.inr (3, [va_rf (shRef ad (va_up gsh d y) (j - 2) (va_up x.2.2.1 d v (j - 2)))]) = _
      rw [va_up_ne _ _ e]
      unfold shRef
      split
      · rfl
      · rw [va_up_ne _ _ e]
      · rfl
    split
    · have e : j - 70 ≠ d := by
        intro z
        have h70 : 70 ≤ j := by
          have := hj
          by_cases q : 70 ≤ j
          · exact q
          · exfalso
            have q1 : decide (j < 10) = false := by simp; omega
            have q2 : decide (70 ≤ j) = false := by simp; omega
            have q3 : decide (100 ≤ j) = false := by simp; omega
            have q4 : rC j = false := by
              simp only [rC, Bool.or_eq_false_iff, Bool.and_eq_false_iff, beq_eq_false_iff_ne, decide_eq_false_iff_not]
              omega
            have q5 : (j == 400) = false := by simp; omega
            simp [xC, q1, q2, q3, q4, q5] at this
        have e1 : shIs ((xSh x d v).2.2.1 (j - 70)) = false := by
          show shIs (va_up x.2.2.1 d v (j - 70)) = false
          rw [z, va_up_self]
          rcases hv with ⟨rfl, -⟩ | ⟨g, rfl, -⟩ <;> rfl
        have q1 : decide (j < 10) = false := by simp; omega
        have q3 : decide (100 ≤ j) = false := by simp; omega
        have q4 : rC j = false := by
          simp only [rC, Bool.or_eq_false_iff, Bool.and_eq_false_iff, beq_eq_false_iff_ne, decide_eq_false_iff_not]
          omega
        have q5 : (j == 400) = false := by simp; omega
        simp [xC, q1, q3, q4, q5, e1] at hj
      show shArr dA (va_up x.2.2.1 d v (j - 70)) = _
      rw [va_up_ne _ _ e]
    split; · rfl
    split; · rfl
    rfl
  have hEk : EX dA ad ga (va_up gsh d y) bf (xSh x d v) (2 + d) = .inr (3, [va_rf o]) := by
    unfold EX
    rw [if_neg (by omega), if_neg (by omega), if_pos (by omega), Nat.add_sub_cancel_left]
    show Sum.inr (3, [va_rf (shRef ad (va_up gsh d y) d (va_up x.2.2.1 d v d))]) = _
    rw [va_up_self]
    rcases hv with ⟨rfl, rfl⟩ | ⟨g, rfl, rfl, -⟩
    · rfl
    · show Sum.inr (3, [va_rf (some (va_up gsh d y d))]) = _
      rw [va_up_self]
  refine ⟨L, _, ga, va_up gsh d y, bf, hP, hD, fun j hj => ?_, fun i j hi hj => h2 i j (hCC i hi) (hCC j hj), fun z hz => ?_, fun r hr j hj => (h4 r hr j hj).up hng, fun d' hd' g hg => ?_, fun q hq => (h6 q hq).up hng, h7⟩
  · have hx := hCC j hj
    by_cases e : j = 2 + d
    · subst e; exact ⟨(h1 _ hx).1, by rw [va_up_self, hEk]⟩
    · refine ⟨(h1 j hx).1, ?_⟩
      rw [va_up_ne _ _ (fun q => e (h2 j (2 + d) hx hk q)), (h1 j hx).2, hEo j hj e]
  · obtain ⟨a1, a2, a3⟩ := h3 z hz
    exact ⟨a1, by rw [va_up_ne _ _ (fun q => a3 (2 + d) hk q.symm)]; exact a2, fun j hj => a3 j (hCC j hj)⟩
  · by_cases e : d' = d
    · subst e
      have hg : va_up x.2.2.1 d' v d' = some (.inl g) := hg
      rw [va_up_self] at hg ⊢
      rcases hv with ⟨rfl, -⟩ | ⟨g', rfl, -, hr⟩
      · cases hg
      · cases hg
        exact hr.up hng
    · have hg : va_up x.2.2.1 d v d' = some (.inl g) := hg
      rw [va_up_ne _ _ e] at hg ⊢
      exact (h5 d' hd' g hg).up hng
theorem qX_putN (hΓ : GOK Γ own cc nL ret Qc (fun q => b ≤ q) rm) (hK : GKX Γ D dA b) {d : Nat} (hd : d < 8) {index : Nat} (hl : Cond.fieldLink own index RX3 "held" "Ljava/lang/Object;" ∈ lw_all) (hdg : decode cc pc = .ok (.putfield index, 3)) (kk : WG Γ (XW D dA b ad P F gs (xSh x d none)) cells slots (pc + 3) lv st) : WG Γ (XW D dA b ad P F gs x) cells slots pc lv (.null :: .ref (ad (2 + d)) :: st) := by
  intro H locs ls hw hS0 hl2
  obtain ⟨hx, hb, -, hown, hts⟩ := hΓ.1
  obtain ⟨L, f, ga, gsh, bf, q0, hP, hD, hR, hin, hq, hq2⟩ := hw.shelf hd
  refine va_put hx hb hts in_X3 tyX3 tyX3_ok nmX3 hown hK.1 hP hD (gSto hΓ hS0) q0 hq2 rfl 0 (by decide) (hts _ hl) (fun x h => h) rfl (tyX3_ok 0 (by decide)) rfl rfl Nat.zero_lt_one hdg (fun H1 locs1 hP1 hD1 hS1 => ?_)
  have e1 : ∀ e, (va_pl L f).set q0 (ad (2 + d), e) = va_pl L (va_up f (ad (2 + d)) e) := fun e => va_pl_set (X := []) hD hin hq
  rw [e1] at hP1 hD1
  exact kk H1 locs1 ls (held_up (y := 0) (o := none) hd hR (Or.inl ⟨rfl, rfl⟩) hP1 hD1) (gSof hΓ hS1) hl2
theorem qX_putG (hΓ : GOK Γ own cc nL ret Qc (fun q => b ≤ q) rm) (hK : GKX Γ D dA b) {d a : Nat} (hd : d < 8) {g : Nat × Int32} (hg : (a, g) ∈ gs) {index : Nat} (hl : Cond.fieldLink own index RX3 "held" "Ljava/lang/Object;" ∈ lw_all) (hdg : decode cc pc = .ok (.putfield index, 3)) (kk : WG Γ (XW D dA b ad P F gs (xSh x d (some (.inl g)))) cells slots (pc + 3) lv st) : WG Γ (XW D dA b ad P F gs x) cells slots pc lv (.ref a :: .ref (ad (2 + d)) :: st) := by
  intro H locs ls hw hS0 hl2
  obtain ⟨hx, hb, -, hown, hts⟩ := hΓ.1
  obtain ⟨L, f, ga, gsh, bf, q0, hP, hD, hR, hin, hq, hq2⟩ := hw.shelf hd
  refine va_put hx hb hts in_X3 tyX3 tyX3_ok nmX3 hown hK.1 hP hD (gSto hΓ hS0) q0 hq2 rfl 0 (by decide) (hts _ hl) (fun x h => h) rfl (tyX3_ok 0 (by decide)) rfl rfl Nat.zero_lt_one hdg (fun H1 locs1 hP1 hD1 hS1 => ?_)
  have e1 : ∀ e, (va_pl L f).set q0 (ad (2 + d), e) = va_pl L (va_up f (ad (2 + d)) e) := fun e => va_pl_set (X := []) hD hin hq
  rw [e1] at hP1 hD1
  exact kk H1 locs1 ls (held_up (y := a) (o := some a) hd hR (Or.inr ⟨g, rfl, rfl, hR.2.2.2.2.2.1 (a, g) hg⟩) hP1 hD1) (gSof hΓ hS1) hl2
end XMO
/-- a method that answers a glass -/
def xQr (D : va_G) (dA : Nat → ClassId) (b : Nat) (ad : Nat → Nat) (P : Nat → Prop) (F : Nat → va_E) (gs : List (Nat × (Nat × Int32))) (g : Nat × Int32) (x' : XS) : Array Value → State → Outcome → State → Prop := fun _ st o t => ∃ y : Nat, o = .returned (some (.ref y)) ∧ XW D dA b ad P F ((y, g) :: gs) x' t.heap ∧ va_F (fun q => b ≤ q) st t
section XQR
variable {Γ : GX} {own : String} {cc : ByteArray} {nL : Nat} {ret ret' : Option FieldType} {Qc : Array Value → State → Outcome → State → Prop} {A : Nat → Prop} {rm rm' : Room} {D : va_G} {dA : Nat → ClassId}
variable {cells slots pc mc ms : Nat} {lv lv' : List (Nat × Value)} {st st0 : List Value} {b : Nat} {ad : Nat → Nat} {P : Nat → Prop} {F : Nat → va_E} {x x' : XS} {gs : List (Nat × (Nat × Int32))}
theorem qX_callSr {y : MethodName} {bytes : ByteArray} {maxL idx : Nat} {As : List Value} {g : Nat × Int32} (hΓ : GOK Γ own cc nL ret Qc (fun q => b ≤ q) rm) (hK : GKX Γ D dA b) (n : Nat) (hMet : Met Γ.2.1 y (ws_ y bytes maxL ret') rm' (xP D dA b ad P F gs As x) (xQr D dA b ad P F gs g x') mc ms (fun q => b ≤ q)) (hG : GoodIn lw_all (va_wsS own idx y (ws_ y bytes maxL ret')))
    (hd : y.cls ≠ "java/lang/invoke/MethodHandle" ∧ y.cls ≠ "java/lang/invoke/VarHandle" ∧ (parseMethodDescriptor y.desc).map (fun d => d.parameters.length) = some n) (hR : (rm'.cells = mc ∧ rm'.slots = ms) ∧ (rm'.frames + 1 ≤ rm.frames ∧ 8 + (maxL + 11) + rm'.locals ≤ rm.locals)) (hcs : cells + mc ≤ rm.cells ∧ slots + ms ≤ rm.slots) (hn : As.length = n) (hs0 : As.reverse ++ st = st0) (hW : (st.map fun v => v.category).sum ≤ 8) (hdg : decode cc pc = .ok (.invokestatic idx, 3))
    (kk : ∀ a : Nat, WG Γ (XW D dA b ad P F ((a, g) :: gs) x') (cells + mc) (slots + ms) (pc + 3) lv (.ref a :: st)) : WG Γ (XW D dA b ad P F gs x) cells slots pc lv st0 := by
  intro H locs ls hw hS hl2
  have hr := va_runS (p := Γ.1) (l := Γ.2.1) (e := Γ.2.2.1) (R := Γ.2.2.2.1) (below := Γ.2.2.2.2.2.2.2.1) (meth := Γ.2.2.2.2.2.2.2.2.1) (H := H) (locs := locs) (cells := cells) (slots := slots) (g := F0 Γ.2.2.2.2.2.1 pc ls st0) (As := As) (rest := st) hΓ.1 hMet (va_cwS n hΓ.1.2.2.2.2 hG rfl hR.1.1 hR.1.2 hd (by rw [hΓ.2.2.2.2.2.1]; exact hR.2)) ⟨xP_blind, fun U hU hWm => ⟨rfl, by rw [hU]; exact hw, va_K.moved hWm.alike hK.1, hK.2.1.warm hWm, by rw [hU]; exact Nat.le_trans hK.2.2 hS.1⟩⟩ rfl hn (by rw [hl2.1, hΓ.2.1]) hs0.symm (lv_room hW) hdg (by rw [hΓ.2.2.2.2.2.1]; exact hcs)
  have hS := gSto hΓ hS
  intro T hT X
  obtain ⟨v, st₀, t, T', L, h0, X', hL, e1, e2, ⟨a, hv, hw2, hz, hk⟩, stp⟩ := hr T hT X
  cases hv
  rw [h0] at hz hk
  obtain ⟨t2, a1, b1⟩ := kk a T'.heap (locs ++ L) ls (by rw [e1]; exact hw2)
    (gSof hΓ ⟨Nat.le_trans hS.1 (by rw [e1]; exact hz), fun q h1 h2 => by rw [e1, hk q (Nat.lt_of_lt_of_le h1 hS.1) h2]; exact hS.2.1 q h1 h2, fun q hq => by
      rcases List.mem_append.mp hq with h | h
      · exact hS.2.2 q h
      · exact hL q h⟩) hl2 T' rfl X'
  exact ⟨t2, stp t2 a1, b1⟩
theorem qX_aret {a : Nat} {g : Nat × Int32} {C : String} (hΓ : GOK Γ own cc nL (some (.object C)) (xQr D dA b ad P F gs g x) (fun q => b ≤ q) rm) (hdg : decode cc pc = .ok (.areturn, 1)) : WG Γ (XW D dA b ad P F ((a, g) :: gs) x) rm.cells rm.slots pc lv [.ref a] := by
  intro H locs ls hw hS hl2
  rw [hΓ.2.2.2.2.2.2]
  exact W.aret hΓ.1.1 hΓ.1.2.1 hΓ.2.2.1 (Or.inl ⟨C, rfl⟩) (Or.inr ⟨a, rfl⟩) (fun t ht _ => ⟨a, rfl, by rw [ht]; exact hw, (gSto hΓ hS).F ht⟩) (gSto hΓ hS).2.2 hdg hΓ.2.2.2.1
end XQR
theorem qX_met {l : Launch} {y : MethodName} {cc : ByteArray} {maxL : Nat} {ret : Option FieldType} {rm : Room} {D : va_G} {dA : Nat → ClassId} {b : Nat} {ad : Nat → Nat} {P : Nat → Prop} {F : Nat → va_E} {gs : List (Nat × (Nat × Int32))} {x : XS} {av : List Value} {Qc : Array Value → State → Outcome → State → Prop} (hy : plainName y.cls = true) (own : String) (ho : y.cls = own) (hlen : (lg_sl av).length ≤ maxL)
    (body : ∀ Γ : GX, GOK Γ own cc maxL ret Qc (fun q => b ≤ q) rm → GKX Γ D dA b → WG Γ (XW D dA b ad P F gs x) 0 0 0 (lv_args 0 av) []) : Met l y (ws_ y cc maxL ret) rm (xP D dA b ad P F gs av x) Qc rm.cells rm.slots (fun q => b ≤ q) := by
  subst ho
  refine Met.ofW (cc := cc) (maxL := maxL) (ret := ret) hy rfl ?_
  intro p e s mm args below meth c s₁ B hml hv
  obtain ⟨rfl, hM, hK⟩ := hv
  have hts := atoms_spec (ws := ws_ y cc maxL ret) B.pre
  refine q_entry av hlen (fun ls hl => ?_)
  exact body (p, l, e, rm, s, mm, av.toArray, below, meth, c, MQ below Qc av.toArray s rm.cells rm.slots (fun q => b ≤ q), (fun q => b ≤ q), maxL) ⟨⟨B.exec, B.bytes, hml, findClass_of_methodNamed B.named, fun w h => hts w (List.mem_cons_of_mem _ h)⟩, rfl, B.returns, B.notSynchronized, rfl, rfl, rfl⟩ hK s.heap [] ls hM va_S.rf hl

/-! a glass laid into a house's row; calls and ends over the class's world -/
theorem g_w {Γ : GX} {w w' : Heap → Prop} {cells slots pc : Nat} {lv : List (Nat × Value)} {st : List Value} (hw : ∀ H, w' H → w H) (kk : WG Γ w cells slots pc lv st) : WG Γ w' cells slots pc lv st := fun H locs ls h hS hl => kk H locs ls (hw H h) hS hl
theorem XW.drop {D : va_G} {dA : Nat → ClassId} {b : Nat} {ad : Nat → Nat} {P : Nat → Prop} {F : Nat → va_E} {gs gs' : List (Nat × (Nat × Int32))} {x : XS} {H : Heap} (h : XW D dA b ad P F gs' x H) (hs : ∀ q ∈ gs, q ∈ gs') : XW D dA b ad P F gs x H := by
  obtain ⟨L, f, ga, gsh, bf, hP, hD, h1, h2, h3, h4, h5, h6, h7⟩ := h
  exact ⟨L, f, ga, gsh, bf, hP, hD, h1, h2, h3, h4, h5, fun q hq => h6 q (hs q hq), h7⟩
/-- what kind a glass may be: its class among the classes; it may lie in a row of glasses -/
theorem gAny {s : State} (hX : XN s) {k : Nat} (hk : k < 8) : ∃ q : vw_C, CL[5 + k]? = some q ∧ ∀ comp c0 : ClassId, s.vm.findClass "WhoseGlass$Glass" = some comp → s.vm.findClass q.1 = some c0 → s.vm.assignable c0 comp = true := by
  have hc : ∀ C : String, (C, "WhoseGlass$Glass") ∈ xnC → ∀ comp c0 : ClassId, s.vm.findClass "WhoseGlass$Glass" = some comp → s.vm.findClass C = some c0 → s.vm.assignable c0 comp = true := fun C h comp c0 h1 h2 => vb_asgC (hX.1 _ h) comp c0 h1 h2
  rcases (by omega : k = 0 ∨ k = 1 ∨ k = 2 ∨ k = 3 ∨ k = 4 ∨ k = 5 ∨ k = 6 ∨ k = 7) with rfl | rfl | rfl | rfl | rfl | rfl | rfl | rfl
  · exact ⟨_, rfl, fun comp c0 h1 h2 => vb_asgS comp c0 h1 h2⟩
  · exact ⟨_, rfl, hc _ (by decide +kernel)⟩
  · exact ⟨_, rfl, hc _ (by decide +kernel)⟩
  · exact ⟨_, rfl, hc _ (by decide +kernel)⟩
  · exact ⟨_, rfl, hc _ (by decide +kernel)⟩
  · exact ⟨_, rfl, hc _ (by decide +kernel)⟩
  · exact ⟨_, rfl, hc _ (by decide +kernel)⟩
  · exact ⟨_, rfl, hc _ (by decide +kernel)⟩
def xP (D : va_G) (dA : Nat → ClassId) (b : Nat) (ad : Nat → Nat) (P : Nat → Prop) (F : Nat → va_E) (gs : List (Nat × (Nat × Int32))) (av : List Value) (x : XS) : Array Value → State → Prop := fun v U => v = av.toArray ∧ XW D dA b ad P F gs x U.heap ∧ XK D dA b U
def xQ (D : va_G) (dA : Nat → ClassId) (b : Nat) (ad : Nat → Nat) (P : Nat → Prop) (F : Nat → va_E) (gs : List (Nat × (Nat × Int32))) (rv : Option Value) (x' : XS) : Array Value → State → Outcome → State → Prop := fun _ st o t => o = .returned rv ∧ XW D dA b ad P F gs x' t.heap ∧ va_F (fun q => b ≤ q) st t
theorem xP_blind {D : va_G} {dA : Nat → ClassId} {b : Nat} {ad : Nat → Nat} {P : Nat → Prop} {F : Nat → va_E} {gs : List (Nat × (Nat × Int32))} {av : List Value} {x : XS} : FrameBlind (xP D dA b ad P F gs av x) := fun a U g mk q => by
  obtain ⟨q0, q1, q2, q3, q4⟩ := q
  exact ⟨q0, q1, va_K.moved (u := U) (U := U.calling g mk a) (Vm.Alike.refl U.vm) q2, XN.same (s := U) (U := U.calling g mk a) rfl q3, q4⟩
abbrev rmx_ (f lo c sl : Nat) : Room := { frames := f, cells := c, slots := sl, locals := lo }
section HC
variable {Γ : GX} {own : String} {cc : ByteArray} {nL : Nat} {ret ret' : Option FieldType} {Qc : Array Value → State → Outcome → State → Prop} {A : Nat → Prop} {rm rm' : Room} {D : va_G} {dA : Nat → ClassId}
variable {cells slots pc mc ms : Nat} {lv lv' : List (Nat × Value)} {st st0 : List Value} {b : Nat} {ad : Nat → Nat} {P : Nat → Prop} {F : Nat → va_E} {x x' : XS} {r : Nat} {h h' : HS} {gs : List (Nat × (Nat × Int32))}
variable {y : MethodName} {bytes : ByteArray} {maxL idx : Nat} {As : List Value} {rv : Option Value} {w : Heap → Prop}
theorem qx_gast (hΓ : GOK Γ own cc nL ret Qc (fun q => b ≤ q) rm) (hK : GKX Γ D dA b) (hr : r < 4) (hh : x.1 r = h) {i : Int32} {a : Nat} {g : Nat × Int32} (hy : (a, g) ∈ gs) (hx : hGw h i g = some h') (hx' : xh x r h' = x') (hdg : decode cc pc = .ok (.aastore, 1)) (kk : WG Γ (XW D dA b ad P F gs x') cells slots (pc + 1) lv st) : WG Γ (XW D dA b ad P F gs x) cells slots pc lv (.ref a :: .int i :: .ref (ad (hB r 0)) :: st) := by
  intro H locs ls hw hS0 hl2
  obtain ⟨L, f, ga, gsh, bf, q0, hP, hD, hRr, hin, hq, hq2⟩ := hw.hcell hr hh (show hC 0 = true from rfl)
  unfold hGw at hx
  split at hx
  next => cases hx
  next hi =>
    cases hx
    subst hx'
    obtain ⟨hg8, a', ea, haL, hfa⟩ := hRr.2.2.2.2.2.1 (a, g) hy
    cases ea
    obtain ⟨q1, hq1⟩ := va_pl_get (X := []) (f := f) haL
    have hq1 : (va_pl L f)[q1]? = some (a, .inr (5 + g.1, [.int g.2])) := by rw [show (va_pl L f)[q1]? = some (a, f a) from hq1, hfa]; rfl
    obtain ⟨C, hC1, hC2⟩ := gAny hK.2.1 hg8
    have hi2 : i.toNatClampNeg < 12 := by omega
    refine va_astqM (n := 12) (f := ga r) hΓ.1.1 hΓ.1.2.1 hK.1 hP hD (gSto hΓ hS0) q0 5 hq2 rfl (va_rAny hK.1 hP hq1 hC1 hC2) hi hdg (fun H1 locs1 hP1 hD1 hS1 => ?_)
    have e1 : ∀ e, (va_pl L f).set q0 (ad (hB r 0), e) = va_pl L (va_up f (ad (hB r 0)) e) := fun e => va_pl_set (X := []) hD hin hq
    rw [e1] at hP1 hD1
    have hng : ∀ z : Nat × Int32, z.1 < 8 → ¬ f (ad (hB r 0)) = GE z := fun z hz q => EX_ng hz ((hRr.1 (hB r 0) (xC_h (k := 0) hr rfl)).2 ▸ q)
    have hEo : ∀ j, xC x j = true → j ≠ hB r 0 → EX dA ad (va_up ga r (va_up (ga r) i.toNatClampNeg (some a))) gsh bf (xh x r (va_up h.1 i.toNatClampNeg (some g), h.2)) j = EX dA ad ga gsh bf x j := by
      intro j hj hne
      have hq := xC_rng hj
      unfold EX
      split; · rfl
      split; · rfl
      split; · rfl
      split; · rfl
      split
      · by_cases e : (j - 100) / 30 = r
        · have e2 : (j - 100) % 30 ≠ 0 := by
            intro z
            apply hne
            unfold hB
            have := Nat.div_add_mod (j - 100) 30
            omega
          rw [e, xh_at, va_up_self, hh]
          unfold EH
          split; · rfl
          simp only [if_neg e2]
        · rw [xh_ne _ _ e, va_up_ne _ _ e]
      · split; · rfl
        rfl
    have hEk : EX dA ad (va_up ga r (va_up (ga r) i.toNatClampNeg (some a))) gsh bf (xh x r (va_up h.1 i.toNatClampNeg (some g), h.2)) (hB r 0) = .inl (dA 5, 12, .inr (.inr (.inr (.inr (va_up (ga r) i.toNatClampNeg (some a)))))) := by
      rw [EX_h hr (by omega), xh_at, va_up_self]
      rfl
    obtain ⟨h1, h2, h3, h4, h5, h6, h7⟩ := hRr
    refine kk H1 locs1 ls ⟨L, _, va_up ga r (va_up (ga r) i.toNatClampNeg (some a)), gsh, bf, hP1, hD1, fun j hj => ?_, h2, fun z hz => ?_, fun r' hr' j hj => ?_, fun d hd z hz => (h5 d hd z hz).up hng, fun q hq => (h6 q hq).up hng, h7⟩ (gSof hΓ hS1) hl2
    · by_cases e : j = hB r 0
      · subst e; exact ⟨(h1 _ hj).1, by rw [va_up_self, hEk]⟩
      · refine ⟨(h1 j hj).1, ?_⟩
        rw [va_up_ne _ _ (fun q => e (h2 j (hB r 0) hj (xC_h (k := 0) hr rfl) q)), (h1 j hj).2, hEo j hj e]
    · obtain ⟨a1, a2, a3⟩ := h3 z hz
      exact ⟨a1, by rw [va_up_ne _ _ (fun q => a3 (hB r 0) (xC_h (k := 0) hr rfl) q.symm)]; exact a2, a3⟩
    · by_cases e : r' = r
      · subst e
        rw [xh_at, va_up_self]
        dsimp only
        by_cases e2 : j = i.toNatClampNeg
        · subst e2
          rw [va_up_self, va_up_self]
          exact ⟨hg8, a, rfl, haL, by rw [va_up_ne _ _ (fun q => hng g hg8 (by rw [← q]; exact hfa))]; exact hfa⟩
        · rw [va_up_ne _ _ e2, va_up_ne _ _ e2]
          have := h4 r' hr' j hj
          rw [hh] at this
          exact this.up hng
      · rw [xh_ne _ _ e, va_up_ne _ _ e]
        exact (h4 r' hr' j hj).up hng
/-- what a call did: its answer, the world behind it -/
theorem qx_run {p : Program} {l : Launch} {e : Env} {R : Room} {s : State} {mm : MethodId} {args : Array Value} {below : List Frame} {meth : Method} {c : Code} {H : Heap} {locs : List Loc} {Q : State → Prop} {ls : Array Slot} {a : Array Value} (hr : va_Run p l e R s mm args below meth c H locs cells slots mc ms (F0 mm pc ls st0) st (xQ D dA b ad P F gs rv x' a) (fun q => b ≤ q)) (hS : va_S (fun q => b ≤ q) s.heap H locs)
    (kk : ∀ (H : Heap) (locs : List Loc), XW D dA b ad P F gs x' H → va_S (fun q => b ≤ q) s.heap H locs → W p l e R s mm args below meth c H locs (cells + mc) (slots + ms) Q (F0 mm (pc + 3) ls (rv.toList ++ st))) : W p l e R s mm args below meth c H locs cells slots Q (F0 mm pc ls st0) := by
  intro T hT X
  obtain ⟨v, st₀, t, T', L, h0, X', hL, e1, e2, ⟨hv, hw, hz, hk⟩, stp⟩ := hr T hT X
  cases hv
  rw [h0] at hz hk
  obtain ⟨t2, a1, b1⟩ := kk T'.heap (locs ++ L) (by rw [e1]; exact hw)
    ⟨Nat.le_trans hS.1 (by rw [e1]; exact hz), fun q h1 h2 => by rw [e1, hk q (Nat.lt_of_lt_of_le h1 hS.1) h2]; exact hS.2.1 q h1 h2, fun q hq => by
      rcases List.mem_append.mp hq with h | h
      · exact hS.2.2 q h
      · exact hL q h⟩ T' rfl X'
  exact ⟨t2, stp t2 a1, b1⟩
/-- a call of a house's method -/
theorem qx_callH (hΓ : GOK Γ own cc nL ret Qc (fun q => b ≤ q) rm) (hK : GKX Γ D dA b) (hr : r < 4) (n : Nat) (hMet : Met Γ.2.1 y (ws_ y bytes maxL ret') rm' (xP D dA b ad P F gs (.ref (ad (hB r 22)) :: As) x) (xQ D dA b ad P F gs rv x') mc ms (fun q => b ≤ q)) (hG : GoodIn lw_all (wsV own idx RX2 y (ws_ y bytes maxL ret')))
    (hd : y.cls = RX2 ∧ y.cls ≠ "java/lang/invoke/MethodHandle" ∧ y.cls ≠ "java/lang/invoke/VarHandle" ∧ (parseMethodDescriptor y.desc).map (fun d => d.parameters.length) = some n) (hR : (rm'.cells = mc ∧ rm'.slots = ms) ∧ (rm'.frames + 1 ≤ rm.frames ∧ 8 + (maxL + 11) + rm'.locals ≤ rm.locals)) (hcs : cells + mc ≤ rm.cells ∧ slots + ms ≤ rm.slots) (hn : As.length = n) (hs0 : As.reverse ++ .ref (ad (hB r 22)) :: st = st0) (hW : (st.map fun v => v.category).sum ≤ 8) (hdg : decode cc pc = .ok (.invokevirtual idx, 3))
    (kk : WG Γ (XW D dA b ad P F gs x') (cells + mc) (slots + ms) (pc + 3) lv (rv.toList ++ st)) : WG Γ (XW D dA b ad P F gs x) cells slots pc lv st0 := by
  intro H locs ls hw hS hl2
  obtain ⟨L, f, ga, gsh, bf, q0, hP, hD, hRr, hin, hq, hq2⟩ := hw.hobj hr rfl
  exact qx_run (va_runV (As := As) (rest := st) hΓ.1 hMet (cwV n hΓ.1.2.2.2.2 hG rfl hR.1.1 hR.1.2 hd (by rw [hΓ.2.2.2.2.2.1]; exact hR.2)) ⟨xP_blind, va_recv hK.1 hP (ci := 1) rfl hq2, fun U hU hWm => ⟨rfl, by rw [hU]; exact hw, va_K.moved hWm.alike hK.1, hK.2.1.warm hWm, by rw [hU]; exact Nat.le_trans hK.2.2 hS.1⟩⟩ rfl hn (by rw [hl2.1, hΓ.2.1]) hs0.symm (lv_room hW) hdg (by rw [hΓ.2.2.2.2.2.1]; exact hcs)) (gSto hΓ hS) (fun H locs hw hS => kk H locs ls hw (gSof hΓ hS) hl2)
/-- a call of a nest mate's private static method that touches no cell -/
theorem qx_callSN {host : String} (hΓ : GOK Γ own cc nL ret Qc A rm) (n : Nat) (hN : va_Nw (.methodLinkNest own idx y host) Γ.2.2.2.2.1) (hMet : Met Γ.2.1 y (ws_ y bytes maxL ret') rm' (sP As) (sQ rv) 0 0 (fun _ => False)) (h1 : Cond.static y ∈ lw_all) (h2 : Cond.initialized y.cls ∈ lw_all) (h3 : Cond.code y bytes maxL ret' ∈ lw_all)
    (hd : y.cls ≠ "java/lang/invoke/MethodHandle" ∧ y.cls ≠ "java/lang/invoke/VarHandle" ∧ (parseMethodDescriptor y.desc).map (fun d => d.parameters.length) = some n) (hR : (rm'.cells = 0 ∧ rm'.slots = 0) ∧ (rm'.frames + 1 ≤ rm.frames ∧ 8 + (maxL + 11) + rm'.locals ≤ rm.locals)) (hcs : cells ≤ rm.cells ∧ slots ≤ rm.slots) (hn : As.length = n) (hs0 : As.reverse ++ st = st0) (hW : (st.map fun v => v.category).sum ≤ 8) (hdg : decode cc pc = .ok (.invokestatic idx, 3))
    (kk : WG Γ w cells slots (pc + 3) lv (rv.toList ++ st)) : WG Γ w cells slots pc lv st0 := by
  intro H locs ls hw hS hl2
  have hts := hΓ.1.2.2.2.2
  have hr := va_runSN (p := Γ.1) (l := Γ.2.1) (e := Γ.2.2.1) (R := Γ.2.2.2.1) (below := Γ.2.2.2.2.2.2.2.1) (meth := Γ.2.2.2.2.2.2.2.2.1) (H := H) (locs := locs) (cells := cells) (slots := slots) (g := F0 Γ.2.2.2.2.2.1 pc ls st0) (As := As) (rest := st) hΓ.1 hMet ⟨va_cnB n hts (lw_meth h3) rfl hR.1.1 hR.1.2 hN (hts _ h2) hd (by rw [hΓ.2.2.2.2.2.1]; exact hR.2), hts _ h1, trivial⟩ ⟨sP_blind, fun U hU hWm => rfl⟩ rfl hn (by rw [hl2.1, hΓ.2.1]) hs0.symm (lv_room hW) hdg (by rw [hΓ.2.2.2.2.2.1]; exact hcs)
  intro T hT X
  obtain ⟨v, st₀, t, T', L, h0, X', hL, e1, e2, ⟨hv, hz⟩, stp⟩ := hr T hT X
  cases hv
  have hL0 : L = [] := List.eq_nil_iff_forall_not_mem.mpr (fun q h => hL q h)
  subst hL0
  rw [List.append_nil] at X'
  obtain ⟨t2, a1, b1⟩ := kk H locs ls hw hS hl2 T' (by rw [e1, hz, h0]) X'
  exact ⟨t2, stp t2 a1, b1⟩
/-! ends -/
theorem qx_vret (hΓ : GOK Γ own cc nL none (xQ D dA b ad P F gs none x') (fun q => b ≤ q) rm) (hf : x = x') (hdg : decode cc pc = .ok (.return_, 1)) : WG Γ (XW D dA b ad P F gs x) rm.cells rm.slots pc lv [] := by
  subst hf
  intro H locs ls hw hS hl2
  rw [hΓ.2.2.2.2.2.2]
  exact W.vret hΓ.1.1 hΓ.1.2.1 hΓ.2.2.1 (fun t ht _ => ⟨rfl, by rw [ht]; exact hw, (gSto hΓ hS).F ht⟩) (gSto hΓ hS).2.2 hdg hΓ.2.2.2.1
theorem qx_iret {v z : Int32} (hΓ : GOK Γ own cc nL (some .int) (xQ D dA b ad P F gs (some (.int z)) x') (fun q => b ≤ q) rm) (hv : v = z) (hf : x = x') (hdg : decode cc pc = .ok (.ireturn, 1)) : WG Γ (XW D dA b ad P F gs x) rm.cells rm.slots pc lv [.int v] := by
  subst hf hv
  intro H locs ls hw hS hl2
  rw [hΓ.2.2.2.2.2.2]
  exact W.iret hΓ.1.1 hΓ.1.2.1 hΓ.2.2.1 (fun t ht _ => ⟨rfl, by rw [ht]; exact hw, (gSto hΓ hS).F ht⟩) (gSto hΓ hS).2.2 hdg hΓ.2.2.2.1
theorem qx_zret {v z : Int32} (hΓ : GOK Γ own cc nL (some .boolean) (xQ D dA b ad P F gs (some (.int z)) x') (fun q => b ≤ q) rm) (hv : zOk v = some z) (hf : x = x') (hdg : decode cc pc = .ok (.ireturn, 1)) : WG Γ (XW D dA b ad P F gs x) rm.cells rm.slots pc lv [.int v] := by
  obtain ⟨rfl, hn⟩ := zOk_n hv
  subst hf
  intro H locs ls hw hS hl2
  rw [hΓ.2.2.2.2.2.2]
  exact W.zret hΓ.1.1 hΓ.1.2.1 hΓ.2.2.1 hn (fun t ht _ => ⟨rfl, by rw [ht]; exact hw, (gSto hΓ hS).F ht⟩) (gSto hΓ hS).2.2 hdg hΓ.2.2.2.1
/-! .. of a house's method: the pure function's end -/
theorem qh_vret (hΓ : GOK Γ own cc nL none (xQ D dA b ad P F gs none (xh x r h')) (fun q => b ≤ q) rm) (hf : some h = some h') (hdg : decode cc pc = .ok (.return_, 1)) : WG Γ (XW D dA b ad P F gs (xh x r h)) rm.cells rm.slots pc lv [] := by
  cases hf
  exact qx_vret hΓ rfl hdg
theorem qh_iret {v z : Int32} (hΓ : GOK Γ own cc nL (some .int) (xQ D dA b ad P F gs (some (.int z)) (xh x r h')) (fun q => b ≤ q) rm) (hf : some (v, h) = some (z, h')) (hdg : decode cc pc = .ok (.ireturn, 1)) : WG Γ (XW D dA b ad P F gs (xh x r h)) rm.cells rm.slots pc lv [.int v] := by
  cases hf
  exact qx_iret hΓ rfl rfl hdg
theorem qh_zret {v z : Int32} (hΓ : GOK Γ own cc nL (some .boolean) (xQ D dA b ad P F gs (some (.int z)) (xh x r h')) (fun q => b ≤ q) rm) (hf : (zOk v).bind (fun u => some (u, h)) = some (z, h')) (hdg : decode cc pc = .ok (.ireturn, 1)) : WG Γ (XW D dA b ad P F gs (xh x r h)) rm.cells rm.slots pc lv [.int v] := by
  obtain ⟨u, hu, hf⟩ := bindE hf
  cases hf
  exact qx_zret hΓ hu rfl hdg
theorem qh_iretR {v z : Int32} (hΓ : GOK Γ own cc nL (some .int) (xQ D dA b ad P F gs (some (.int z)) (xh x r h)) (fun q => b ≤ q) rm) (hf : some v = some z) (hdg : decode cc pc = .ok (.ireturn, 1)) : WG Γ (XW D dA b ad P F gs (xh x r h)) rm.cells rm.slots pc lv [.int v] := by
  cases hf
  exact qx_iret hΓ rfl rfl hdg
theorem qh_zretR {v z : Int32} (hΓ : GOK Γ own cc nL (some .boolean) (xQ D dA b ad P F gs (some (.int z)) (xh x r h)) (fun q => b ≤ q) rm) (hf : zOk v = some z) (hdg : decode cc pc = .ok (.ireturn, 1)) : WG Γ (XW D dA b ad P F gs (xh x r h)) rm.cells rm.slots pc lv [.int v] :=
  qx_zret hΓ hf rfl hdg
end HC
theorem qx_met {l : Launch} {y : MethodName} {cc : ByteArray} {maxL : Nat} {ret : Option FieldType} {rm : Room} {D : va_G} {dA : Nat → ClassId} {b : Nat} {ad : Nat → Nat} {P : Nat → Prop} {F : Nat → va_E} {gs : List (Nat × (Nat × Int32))} {x x' : XS} {av : List Value} {rv : Option Value} (hy : plainName y.cls = true) (own : String) (ho : y.cls = own) (hlen : (lg_sl av).length ≤ maxL)
    (body : ∀ Γ : GX, GOK Γ own cc maxL ret (xQ D dA b ad P F gs rv x') (fun q => b ≤ q) rm → GKX Γ D dA b → WG Γ (XW D dA b ad P F gs x) 0 0 0 (lv_args 0 av) []) : Met l y (ws_ y cc maxL ret) rm (xP D dA b ad P F gs av x) (xQ D dA b ad P F gs rv x') rm.cells rm.slots (fun q => b ≤ q) := by
  subst ho
  refine Met.ofW (cc := cc) (maxL := maxL) (ret := ret) hy rfl ?_
  intro p e s mm args below meth c s₁ B hml hv
  obtain ⟨rfl, hM, hK⟩ := hv
  have hts := atoms_spec (ws := ws_ y cc maxL ret) B.pre
  refine q_entry av hlen (fun ls hl => ?_)
  exact body (p, l, e, rm, s, mm, av.toArray, below, meth, c, MQ below (xQ D dA b ad P F gs rv x') av.toArray s rm.cells rm.slots (fun q => b ≤ q), (fun q => b ≤ q), maxL) ⟨⟨B.exec, B.bytes, hml, findClass_of_methodNamed B.named, fun w h => hts w (List.mem_cons_of_mem _ h)⟩, rfl, B.returns, B.notSynchronized, rfl, rfl, rfl⟩ hK s.heap [] ls hM va_S.rf hl

/-! calls of glasses -/
theorem nwL {p : Program} {m : MethodId} {c : Code} {cc : ByteArray} {nL : Nat} {s : State} {args : Array Value} {own : String} (S : CallFix p m c cc nL s args lw_all own) {w : Cond} (h : w ∈ lw_all) : w.before args s = true := S.2.2.2.2 _ h
section GCL0
variable {Γ : GX} {own : String} {cc : ByteArray} {nL : Nat} {ret ret' : Option FieldType} {Qc : Array Value → State → Outcome → State → Prop} {A : Nat → Prop} {rm rm' : Room} {D : va_G} {dA : Nat → ClassId}
variable {cells slots pc mc ms : Nat} {lv lv' : List (Nat × Value)} {st st0 : List Value} {b : Nat} {ad : Nat → Nat} {P : Nat → Prop} {F : Nat → va_E} {x x' : XS} {r : Nat} {h h' : HS} {gs : List (Nat × (Nat × Int32))}
theorem qX_vret (hΓ : GOK Γ own cc nL none (xQ D dA b ad P F gs none x') (fun q => b ≤ q) rm) (hf : some x = some x') (hdg : decode cc pc = .ok (.return_, 1)) : WG Γ (XW D dA b ad P F gs x) rm.cells rm.slots pc lv [] := qx_vret hΓ (Option.some.inj hf) hdg
theorem qX_iret {v z : Int32} (hΓ : GOK Γ own cc nL (some .int) (xQ D dA b ad P F gs (some (.int z)) x') (fun q => b ≤ q) rm) (hf : some (v, x) = some (z, x')) (hdg : decode cc pc = .ok (.ireturn, 1)) : WG Γ (XW D dA b ad P F gs x) rm.cells rm.slots pc lv [.int v] := by
  cases hf
  exact qx_iret hΓ rfl rfl hdg
theorem qX_zret {v z : Int32} (hΓ : GOK Γ own cc nL (some .boolean) (xQ D dA b ad P F gs (some (.int z)) x') (fun q => b ≤ q) rm) (hf : (zOk v).bind (fun u => some (u, x)) = some (z, x')) (hdg : decode cc pc = .ok (.ireturn, 1)) : WG Γ (XW D dA b ad P F gs x) rm.cells rm.slots pc lv [.int v] := by
  obtain ⟨u, hu, hf⟩ := bindE hf
  cases hf
  exact qx_zret hΓ hu rfl hdg
theorem qX_iretR {v z : Int32} (hΓ : GOK Γ own cc nL (some .int) (xQ D dA b ad P F gs (some (.int z)) x) (fun q => b ≤ q) rm) (hf : some v = some z) (hdg : decode cc pc = .ok (.ireturn, 1)) : WG Γ (XW D dA b ad P F gs x) rm.cells rm.slots pc lv [.int v] := by
  cases hf
  exact qx_iret hΓ rfl rfl hdg
theorem qX_zretR {v z : Int32} (hΓ : GOK Γ own cc nL (some .boolean) (xQ D dA b ad P F gs (some (.int z)) x) (fun q => b ≤ q) rm) (hf : zOk v = some z) (hdg : decode cc pc = .ok (.ireturn, 1)) : WG Γ (XW D dA b ad P F gs x) rm.cells rm.slots pc lv [.int v] :=
  qx_zret hΓ hf rfl hdg
end GCL0
section GCL
variable {Γ : GX} {own : String} {cc : ByteArray} {nL : Nat} {ret ret' : Option FieldType} {Qc : Array Value → State → Outcome → State → Prop} {A : Nat → Prop} {rm rm' : Room} {D : va_G} {dA : Nat → ClassId}
variable {cells slots pc mc ms : Nat} {lv lv' : List (Nat × Value)} {st st0 : List Value} {b : Nat} {ad : Nat → Nat} {P : Nat → Prop} {F : Nat → va_E} {x x' : XS} {r : Nat} {h h' : HS} {gs : List (Nat × (Nat × Int32))}
theorem XW.glassR {H : Heap} (hM : XW D dA b ad P F gs x H) {a : Nat} {g : Nat × Int32} (hg : (a, g) ∈ gs) {s : State} (hK : va_K D CL (TYS dA) s) : g.1 < 8 ∧ ∃ q : vw_C, CL[5 + g.1]? = some q ∧ ∃ cell : Cell, H[a]? = some cell ∧ cell.vm.isStatics = false ∧ s.vm.findClass q.1 = some cell.cls := by
  obtain ⟨L, f, ga, gsh, bf, hP, hD, hR⟩ := hM
  obtain ⟨hg8, a', ea, haL, hfa⟩ := hR.2.2.2.2.2.1 (a, g) hg
  cases ea
  obtain ⟨q1, hq1⟩ := va_pl_get (X := []) (f := f) haL
  have hq1 : (va_pl L f)[q1]? = some (a, .inr (5 + g.1, [.int g.2])) := by rw [show (va_pl L f)[q1]? = some (a, f a) from hq1, hfa]; rfl
  have hg8 : g.1 < 8 := hg8
  have hc : ∃ q : vw_C, CL[5 + g.1]? = some q := by
    rcases (by omega : g.1 = 0 ∨ g.1 = 1 ∨ g.1 = 2 ∨ g.1 = 3 ∨ g.1 = 4 ∨ g.1 = 5 ∨ g.1 = 6 ∨ g.1 = 7) with e | e | e | e | e | e | e | e <;> (rw [e]; exact ⟨_, rfl⟩)
  obtain ⟨q, hq⟩ := hc
  exact ⟨hg8, q, hq, va_recv hK hP hq hq1⟩
theorem XW.glassC {H : Heap} (hM : XW D dA b ad P F gs x H) {a : Nat} {g : Nat × Int32} (hg : (a, g) ∈ gs) : g.1 < 8 ∧ ∃ (L : List Nat) (f : Nat → va_E) (q0 : Nat), va_P D CL (va_pl L f) H ∧ (va_pl L f)[q0]? = some (a, .inr (5 + g.1, [.int g.2])) := by
  obtain ⟨L, f, ga, gsh, bf, hP, hD, hR⟩ := hM
  obtain ⟨hg8, a', ea, haL, hfa⟩ := hR.2.2.2.2.2.1 (a, g) hg
  cases ea
  obtain ⟨q1, hq1⟩ := va_pl_get (X := []) (f := f) haL
  exact ⟨hg8, L, f, q1, hP, by rw [show (va_pl L f)[q1]? = some (a, f a) from hq1, hfa]; rfl⟩
/-- figure, named through Glass -/
theorem qx_fig0 {p : Program} {l : Launch} {e : Env} {R : Room} {s : State} {mm : MethodId} {args : Array Value} {below : List Frame} {meth : Method} {c : Code} {H : Heap} {locs : List Loc} {Q : State → Prop} {ls : Array Slot} {L : List Nat} {f : Nat → va_E} {q0 a index : Nat} {g : Nat × Int32} (S : CallFix p mm c cc nL s args lw_all own) (hK : va_K D CL (TYS dA) s) (hg8 : g.1 < 8) (hP : va_P D CL (va_pl L f) H) (hq : (va_pl L f)[q0]? = some (a, .inr (5 + g.1, [.int g.2]))) {ref : String} (hl : Cond.fieldLink own index ref "figure" "I" ∈ lw_all) (hsm : ∀ y, s.fieldFound? "WhoseGlass$Glass" "figure" "I" = some y → s.fieldFound? ref "figure" "I" = some y) (hdg : decode cc pc = .ok (.getfield index, 3)) (kk : W p l e R s mm args below meth c H locs cells slots Q (F0 mm (pc + 3) ls (.int g.2 :: st))) : W p l e R s mm args below meth c H locs cells slots Q (F0 mm pc ls (.ref a :: st)) := by
  obtain ⟨hx, hb, -, hown, hts⟩ := S
  rcases (by omega : g.1 = 0 ∨ g.1 = 1 ∨ g.1 = 2 ∨ g.1 = 3 ∨ g.1 = 4 ∨ g.1 = 5 ∨ g.1 = 6 ∨ g.1 = 7) with e | e | e | e | e | e | e | e
  · rw [e] at hq; exact va_get hx hb hts in_X7 hown hK hP q0 hq rfl 0 (by decide) (hts _ hl) hsm rfl hdg kk
  · rw [e] at hq; exact va_get hx hb hts in_X8 hown hK hP q0 hq rfl 0 (by decide) (hts _ hl) hsm rfl hdg kk
  · rw [e] at hq; exact va_get hx hb hts in_X9 hown hK hP q0 hq rfl 0 (by decide) (hts _ hl) hsm rfl hdg kk
  · rw [e] at hq; exact va_get hx hb hts in_X10 hown hK hP q0 hq rfl 0 (by decide) (hts _ hl) hsm rfl hdg kk
  · rw [e] at hq; exact va_get hx hb hts in_X11 hown hK hP q0 hq rfl 0 (by decide) (hts _ hl) hsm rfl hdg kk
  · rw [e] at hq; exact va_get hx hb hts in_X12 hown hK hP q0 hq rfl 0 (by decide) (hts _ hl) hsm rfl hdg kk
  · rw [e] at hq; exact va_get hx hb hts in_X13 hown hK hP q0 hq rfl 0 (by decide) (hts _ hl) hsm rfl hdg kk
  · rw [e] at hq; exact va_get hx hb hts in_X14 hown hK hP q0 hq rfl 0 (by decide) (hts _ hl) hsm rfl hdg kk
theorem qx_fig (hΓ : GOK Γ own cc nL ret Qc A rm) (hK : GKX Γ D dA b) {a index : Nat} {g : Nat × Int32} (hg : (a, g) ∈ gs) (hl : Cond.fieldLink own index "WhoseGlass$Glass" "figure" "I" ∈ lw_all) (hdg : decode cc pc = .ok (.getfield index, 3)) (kk : WG Γ (XW D dA b ad P F gs x) cells slots (pc + 3) lv (.int g.2 :: st)) : WG Γ (XW D dA b ad P F gs x) cells slots pc lv (.ref a :: st) := by
  intro H locs ls hw hS hl2
  obtain ⟨hg8, L, f, q0, hP, hq⟩ := hw.glassC hg
  exact qx_fig0 hΓ.1 hK.1 hg8 hP hq hl (fun y h => h) hdg (kk H locs ls hw hS hl2)
variable {y z0 : MethodName} {bytes : ByteArray} {maxL idx : Nat} {As : List Value} {rv : Option Value} {a : Nat} {g : Nat × Int32} {C : String} {T : u_T}
/-- a call that lands in a class's method, chosen by the glass's kind -/
theorem qG_callU {owner : String} {b0 : ByteArray} {m0 : Nat} {r0 : Option FieldType} (hΓ : GOK Γ own cc nL ret Qc (fun q => b ≤ q) rm) (hK : GKX Γ D dA b) (hg : (a, g) ∈ gs) (hC : CL[5 + g.1]? = some (C, T, 1)) (n : Nat) (hMet : Met Γ.2.1 y (ws_ y bytes maxL ret') rm' (xP D dA b ad P F gs (.ref a :: As) x) (xQ D dA b ad P F gs rv x') mc ms (fun q => b ≤ q))
    (h1 : (Cond.methodLink own idx z0).before Γ.2.2.2.2.2.2.1 Γ.2.2.2.2.1 = true) (h2 : (Cond.sameMethod z0.cls owner z0.name z0.desc).before Γ.2.2.2.2.2.2.1 Γ.2.2.2.2.1 = true) (h3 : Cond.instanceMethod ⟨owner, z0.name, z0.desc⟩ ∈ lw_all) (h3c : Cond.code ⟨owner, z0.name, z0.desc⟩ b0 m0 r0 ∈ lw_all) (h4 : (Cond.selects C z0 y).before Γ.2.2.2.2.2.2.1 Γ.2.2.2.2.1 = true) (h5 : Cond.instanceMethod y ∈ lw_all) (h6 : Cond.initialized y.cls ∈ lw_all) (h7 : Cond.code y bytes maxL ret' ∈ lw_all)
    (hd : owner ≠ "java/lang/invoke/MethodHandle" ∧ owner ≠ "java/lang/invoke/VarHandle" ∧ (parseMethodDescriptor z0.desc).map (fun d => d.parameters.length) = some n) (hR : (rm'.cells = mc ∧ rm'.slots = ms) ∧ (rm'.frames + 1 ≤ rm.frames ∧ 8 + (maxL + 11) + rm'.locals ≤ rm.locals)) (hcs : cells + mc ≤ rm.cells ∧ slots + ms ≤ rm.slots) (hn : As.length = n) (hs0 : As.reverse ++ .ref a :: st = st0) (hW : (st.map fun v => v.category).sum ≤ 8) (hdg : decode cc pc = .ok (.invokevirtual idx, 3))
    (kk : WG Γ (XW D dA b ad P F gs x') (cells + mc) (slots + ms) (pc + 3) lv (rv.toList ++ st)) : WG Γ (XW D dA b ad P F gs x) cells slots pc lv st0 := by
  intro H locs ls hw hS hl2
  obtain ⟨hg8, q, hq, hr⟩ := hw.glassR hg hK.1
  cases hC.symm.trans hq
  have hts := hΓ.1.2.2.2.2
  have cw : va_CU Γ.2.2.2.1 Γ.2.2.2.2.1 Γ.2.2.2.2.2.2.1 own C owner idx z0 y bytes maxL ret' (ws_ y bytes maxL ret') rm' mc ms n :=
    ⟨⟨hR.1.1, hR.1.2, by rw [hΓ.2.2.2.2.2.1]; exact hR.2.1, by rw [hΓ.2.2.2.2.2.1]; exact hR.2.2, pay_in hts (lw_meth h7), List.mem_cons_self⟩, hts _ h7, hts _ h6, ⟨hd.1, hd.2.1⟩, fun sig h => by have h2 := hd.2.2; rw [h] at h2; exact (Option.some.inj h2).symm, h1, h2, va_Decl.of (hts _ h3) (hts _ h3c), h4, hts _ h5⟩
  exact qx_run (va_runU (As := As) (rest := st) hΓ.1 hMet cw ⟨xP_blind, hr, fun U hU hWm => ⟨rfl, by rw [hU]; exact hw, va_K.moved hWm.alike hK.1, hK.2.1.warm hWm, by rw [hU]; exact Nat.le_trans hK.2.2 hS.1⟩⟩ rfl hn (by rw [hl2.1, hΓ.2.1]) hs0.symm (lv_room hW) hdg (by rw [hΓ.2.2.2.2.2.1]; exact hcs)) (gSto hΓ hS) (fun H locs hw hS => kk H locs ls hw (gSof hΓ hS) hl2)
/-- behind a call that leaves the heap as it is -/
theorem leaf_run {p : Program} {l : Launch} {e : Env} {R : Room} {s : State} {mm : MethodId} {args : Array Value} {below : List Frame} {meth : Method} {c : Code} {H : Heap} {locs : List Loc} {Q : State → Prop} {ls : Array Slot} {v : Int32} (hr : va_Run p l e R s mm args below meth c H locs cells slots 0 0 (F0 mm pc ls st0) st (leafQ v) (fun q => b ≤ q))
    (kk : ∀ L : List Loc, (∀ q ∈ L, b ≤ q.base) → W p l e R s mm args below meth c H (locs ++ L) cells slots Q (F0 mm (pc + 3) ls (.int v :: st))) : W p l e R s mm args below meth c H locs cells slots Q (F0 mm pc ls st0) := by
  intro T hT X
  obtain ⟨v', st₀, t, T', L, h0, X', hL, e1, e2, ⟨hv, hh⟩, stp⟩ := hr T hT X
  cases hv
  obtain ⟨t2, a1, b1⟩ := kk L hL T' (by rw [e1, hh, h0]) X'
  exact ⟨t2, stp t2 a1, b1⟩
theorem gS_app (hΓ : GOK Γ own cc nL ret Qc (fun q => b ≤ q) rm) {H : Heap} {locs L : List Loc} (hS : va_S (fun q => b ≤ q) Γ.2.2.2.2.1.heap H locs) (hL : ∀ q ∈ L, b ≤ q.base) : va_S (fun q => b ≤ q) Γ.2.2.2.2.1.heap H (locs ++ L) :=
  ⟨hS.1, hS.2.1, fun q hq => by
    rcases List.mem_append.mp hq with h | h
    · exact hS.2.2 q h
    · exact hL q h⟩
/-- .. that ends at a default that says a number -/
theorem qG_callD {ty : FieldType} {k : Int} {v : Int32} (hΓ : GOK Γ own cc nL ret Qc (fun q => b ≤ q) rm) (hK : GKX Γ D dA b) (hg : (a, g) ∈ gs) (hC : CL[5 + g.1]? = some (C, T, 1)) (n : Nat)
    (h1 : Cond.methodLink own idx z0 ∈ xnW) (h2 : Cond.sameMethod z0.cls y.cls z0.name z0.desc ∈ xnW) (hxy : ⟨y.cls, z0.name, z0.desc⟩ = y) (h4 : (C, y) ∈ xnD) (h5 : Cond.instanceMethod y ∈ lw_all) (h7 : Cond.code y bytes maxL (some ty) ∈ lw_all)
    (hpn : plainName y.cls = true) (hty : ty = .int ∨ ty = .boolean) (hnar : narrow ty (.int v) = .int v) (hv : Int32.ofInt k = v) (hd0 : decode bytes 0 = .ok (.iconst k, 1)) (hd1 : decode bytes 1 = .ok (.ireturn, 1))
    (hd : y.cls ≠ "java/lang/invoke/MethodHandle" ∧ y.cls ≠ "java/lang/invoke/VarHandle" ∧ (parseMethodDescriptor y.desc).map (fun d => d.parameters.length) = some n) (hR : 1 ≤ rm.frames ∧ 8 + (maxL + 11) ≤ rm.locals) (hn : As.length = n) (hs0 : As.reverse ++ .ref a :: st = st0) (hW : (st.map fun v => v.category).sum ≤ 8) (hdg : decode cc pc = .ok (.invokevirtual idx, 3))
    (kk : WG Γ (XW D dA b ad P F gs x) cells slots (pc + 3) lv (.int v :: st)) : WG Γ (XW D dA b ad P F gs x) cells slots pc lv st0 := by
  intro H locs ls hw hS hl2
  obtain ⟨hg8, q, hq, hr⟩ := hw.glassR hg hK.1
  cases hC.symm.trans hq
  have hts := hΓ.1.2.2.2.2
  exact leaf_run (runVD (As := As) (rest := st) hΓ.1 (by rw [hΓ.2.2.2.2.2.1]; exact hR) hpn hty hnar hv hd0 hd1 (hts _ h7) (hts _ h5) (va_Nw.use (xnW_ok _ h1).1 (hK.2.1.2.2.2.1 _ h1)) (va_Nw.use (xnW_ok _ h2).1 (hK.2.1.2.2.2.1 _ h2)) hxy ⟨hd.1, hd.2.1⟩ hd.2.2 (hK.2.1.2.2.2.2.1 _ h4) hr rfl hn (by rw [hl2.1, hΓ.2.1]) hs0.symm (lv_room hW) hdg) (fun L hL => kk H (locs ++ L) ls hw (gSof hΓ (gS_app hΓ (gSto hΓ hS) hL)) hl2)
/-- super's own method -/
theorem qG_supU (hΓ : GOK Γ own cc nL ret Qc (fun q => b ≤ q) rm) (hK : GKX Γ D dA b) (hg : (a, g) ∈ gs) (n : Nat) (hMet : Met Γ.2.1 y (ws_ y bytes maxL ret') rm' (xP D dA b ad P F gs (.ref a :: As) x) (xQ D dA b ad P F gs rv x') mc ms (fun q => b ≤ q))
    (h1 : Cond.methodLink own idx y ∈ lw_all) (h2 : Cond.sameMethod y.cls y.cls y.name y.desc ∈ lw_all) (h4 : Cond.superclass own y.cls ∈ lw_all) (h5 : Cond.instanceMethod y ∈ lw_all) (h6 : Cond.initialized y.cls ∈ lw_all) (h7 : Cond.code y bytes maxL ret' ∈ lw_all)
    (hd : y.name ≠ "<init>" ∧ (parseMethodDescriptor y.desc).map (fun d => d.parameters.length) = some n) (hR : (rm'.cells = mc ∧ rm'.slots = ms) ∧ (rm'.frames + 1 ≤ rm.frames ∧ 8 + (maxL + 11) + rm'.locals ≤ rm.locals)) (hcs : cells + mc ≤ rm.cells ∧ slots + ms ≤ rm.slots) (hn : As.length = n) (hs0 : As.reverse ++ .ref a :: st = st0) (hW : (st.map fun v => v.category).sum ≤ 8) (hdg : decode cc pc = .ok (.invokespecial idx, 3))
    (kk : WG Γ (XW D dA b ad P F gs x') (cells + mc) (slots + ms) (pc + 3) lv (rv.toList ++ st)) : WG Γ (XW D dA b ad P F gs x) cells slots pc lv st0 := by
  intro H locs ls hw hS hl2
  obtain ⟨hg8, q, hq, hr⟩ := hw.glassR hg hK.1
  have hts := hΓ.1.2.2.2.2
  have cw : va_CS Γ.2.2.2.1 Γ.2.2.2.2.1 Γ.2.2.2.2.2.2.1 own idx y bytes maxL ret' (ws_ y bytes maxL ret') rm' mc ms n :=
    ⟨⟨hR.1.1, hR.1.2, by rw [hΓ.2.2.2.2.2.1]; exact hR.2.1, by rw [hΓ.2.2.2.2.2.1]; exact hR.2.2, pay_in hts (lw_meth h7), List.mem_cons_self⟩, hts _ h1, hts _ h2, hts _ h4, hts _ h5, hts _ h6, hts _ h7, hd.1, fun sig h => by have h2 := hd.2; rw [h] at h2; exact (Option.some.inj h2).symm⟩
  exact qx_run (va_runSU (As := As) (rest := st) (hK.1.1 _ _ hq).2 hΓ.1 hMet cw ⟨xP_blind, hr, fun U hU hWm => ⟨rfl, by rw [hU]; exact hw, va_K.moved hWm.alike hK.1, hK.2.1.warm hWm, by rw [hU]; exact Nat.le_trans hK.2.2 hS.1⟩⟩ rfl hn (by rw [hl2.1, hΓ.2.1]) hs0.symm (lv_room hW) hdg (by rw [hΓ.2.2.2.2.2.1]; exact hcs)) (gSto hΓ hS) (fun H locs hw hS => kk H locs ls hw (gSof hΓ hS) hl2)
/-- super's default -/
theorem qG_supD {ty : FieldType} {k : Int} {v : Int32} (hΓ : GOK Γ own cc nL ret Qc (fun q => b ≤ q) rm) (hK : GKX Γ D dA b) (hg : (a, g) ∈ gs) (n : Nat)
    (h1 : Cond.methodLink own idx z0 ∈ xnW) (h2 : Cond.sameMethod z0.cls y.cls z0.name z0.desc ∈ xnW) (hxy : ⟨y.cls, z0.name, z0.desc⟩ = y) (h4 : (z0.cls, y) ∈ xnD) (hsu : Cond.superclass own z0.cls ∈ lw_all) (h5 : Cond.instanceMethod y ∈ lw_all) (h7 : Cond.code y bytes maxL (some ty) ∈ lw_all)
    (hpn : plainName y.cls = true) (hty : ty = .int ∨ ty = .boolean) (hnar : narrow ty (.int v) = .int v) (hv : Int32.ofInt k = v) (hd0 : decode bytes 0 = .ok (.iconst k, 1)) (hd1 : decode bytes 1 = .ok (.ireturn, 1))
    (hd : z0.name ≠ "<init>" ∧ (parseMethodDescriptor y.desc).map (fun d => d.parameters.length) = some n) (hR : 1 ≤ rm.frames ∧ 8 + (maxL + 11) ≤ rm.locals) (hn : As.length = n) (hs0 : As.reverse ++ .ref a :: st = st0) (hW : (st.map fun v => v.category).sum ≤ 8) (hdg : decode cc pc = .ok (.invokespecial idx, 3))
    (kk : WG Γ (XW D dA b ad P F gs x) cells slots (pc + 3) lv (.int v :: st)) : WG Γ (XW D dA b ad P F gs x) cells slots pc lv st0 := by
  intro H locs ls hw hS hl2
  obtain ⟨hg8, q, hq, hr⟩ := hw.glassR hg hK.1
  have hts := hΓ.1.2.2.2.2
  exact leaf_run (runSD (As := As) (rest := st) (hK.1.1 _ _ hq).2 hΓ.1 (by rw [hΓ.2.2.2.2.2.1]; exact hR) hpn hty hnar hv hd0 hd1 (hts _ h7) (hts _ h5) (hts _ hsu) (va_Nw.use (xnW_ok _ h1).1 (hK.2.1.2.2.2.1 _ h1)) (va_Nw.use (xnW_ok _ h2).1 (hK.2.1.2.2.2.1 _ h2)) hxy hd.1 hd.2 (hK.2.1.2.2.2.2.1 _ h4) hr rfl hn (by rw [hl2.1, hΓ.2.1]) hs0.symm (lv_room hW) hdg) (fun L hL => kk H (locs ++ L) ls hw (gSof hΓ (gS_app hΓ (gSto hΓ hS) hL)) hl2)
/-- a method of the glass's own class, named through it -/
theorem qG_callW (hΓ : GOK Γ own cc nL ret Qc (fun q => b ≤ q) rm) (hK : GKX Γ D dA b) (hg : (a, g) ∈ gs) (hC : CL[5 + g.1]? = some (C, T, 1)) (n : Nat) (hMet : Met Γ.2.1 y (ws_ y bytes maxL ret') rm' (xP D dA b ad P F gs (.ref a :: As) x) (xQ D dA b ad P F gs rv x') mc ms (fun q => b ≤ q)) (hG : GoodIn lw_all (wsV own idx C y (ws_ y bytes maxL ret')))
    (hd : y.cls = C ∧ y.cls ≠ "java/lang/invoke/MethodHandle" ∧ y.cls ≠ "java/lang/invoke/VarHandle" ∧ (parseMethodDescriptor y.desc).map (fun d => d.parameters.length) = some n) (hR : (rm'.cells = mc ∧ rm'.slots = ms) ∧ (rm'.frames + 1 ≤ rm.frames ∧ 8 + (maxL + 11) + rm'.locals ≤ rm.locals)) (hcs : cells + mc ≤ rm.cells ∧ slots + ms ≤ rm.slots) (hn : As.length = n) (hs0 : As.reverse ++ .ref a :: st = st0) (hW : (st.map fun v => v.category).sum ≤ 8) (hdg : decode cc pc = .ok (.invokevirtual idx, 3))
    (kk : WG Γ (XW D dA b ad P F gs x') (cells + mc) (slots + ms) (pc + 3) lv (rv.toList ++ st)) : WG Γ (XW D dA b ad P F gs x) cells slots pc lv st0 := by
  intro H locs ls hw hS hl2
  obtain ⟨hg8, q, hq, hr⟩ := hw.glassR hg hK.1
  cases hC.symm.trans hq
  exact qx_run (va_runV (As := As) (rest := st) hΓ.1 hMet (cwV n hΓ.1.2.2.2.2 hG rfl hR.1.1 hR.1.2 hd (by rw [hΓ.2.2.2.2.2.1]; exact hR.2)) ⟨xP_blind, hr, fun U hU hWm => ⟨rfl, by rw [hU]; exact hw, va_K.moved hWm.alike hK.1, hK.2.1.warm hWm, by rw [hU]; exact Nat.le_trans hK.2.2 hS.1⟩⟩ rfl hn (by rw [hl2.1, hΓ.2.1]) hs0.symm (lv_room hW) hdg (by rw [hΓ.2.2.2.2.2.1]; exact hcs)) (gSto hΓ hS) (fun H locs hw hS => kk H locs ls hw (gSof hΓ hS) hl2)
/-- a glass's figure, named through a class below Glass -/
theorem qG_fig (hΓ : GOK Γ own cc nL ret Qc A rm) (hK : GKX Γ D dA b) {ref : String} {index : Nat} (hg : (a, g) ∈ gs) (hl : Cond.fieldLink own index ref "figure" "I" ∈ lw_all) (hsm : ref = "WhoseGlass$Glass" ∨ Cond.sameField ref "WhoseGlass$Glass" "figure" "I" ∈ lw_all) (hdg : decode cc pc = .ok (.getfield index, 3)) (kk : WG Γ (XW D dA b ad P F gs x) cells slots (pc + 3) lv (.int g.2 :: st)) : WG Γ (XW D dA b ad P F gs x) cells slots pc lv (.ref a :: st) := by
  intro H locs ls hw hS hl2
  obtain ⟨hg8, L, f, q0, hP, hq⟩ := hw.glassC hg
  refine qx_fig0 hΓ.1 hK.1 hg8 hP hq hl (fun y h => ?_) hdg (kk H locs ls hw hS hl2)
  rcases hsm with e | e
  · rw [e]; exact h
  · exact u_same (hΓ.1.2.2.2.2 _ e) y h
/-- the glass's class -/
theorem gCls {s : State} (hK : XK D dA b s) {H : Heap} (hw : XW D dA b ad P F gs x H) (hg : (a, g) ∈ gs) : g.1 < 8 := (hw.glassR hg hK.1).1
/-- what is known of the world may be looked at before a step -/
theorem g_ask {Γ : GX} {w : Heap → Prop} {Z : Prop} (hz : ∀ H, w H → Z) (kk : Z → WG Γ w cells slots pc lv st) : WG Γ w cells slots pc lv st := fun H locs ls hw hS hl => kk (hz H hw) H locs ls hw hS hl
end GCL

/-! a glass that is being made -/
def XWn (D : va_G) (dA : Nat → ClassId) (b : Nat) (ad : Nat → Nat) (P : Nat → Prop) (F : Nat → va_E) (gs : List (Nat × (Nat × Int32))) (x : XS) (a : Nat) (g : Nat × Int32) (H : Heap) : Prop :=
  ∃ (L : List Nat) (f : Nat → va_E) (ga : Nat → Nat → Option Nat) (gsh : Nat → Nat) (bf : List Value), va_P D CL (va_pl L f) H ∧ va_D (fun q => b ≤ q) (va_pl L f) ∧ XR dA ad P F gs x ga gsh bf L f ∧ a ∈ L ∧ f a = GE g ∧ g.1 < 8 ∧
    (∀ r, r < 4 → ∀ j, j < 12 → ga r j ≠ some a) ∧ (∀ d, d < 8 → ∀ v, x.2.2.1 d = some (.inl v) → gsh d ≠ a) ∧ (∀ q ∈ gs, q.1 ≠ a) ∧ ¬ P a
theorem XWn.toXW {D : va_G} {dA : Nat → ClassId} {b : Nat} {ad : Nat → Nat} {P : Nat → Prop} {F : Nat → va_E} {gs : List (Nat × (Nat × Int32))} {x : XS} {a : Nat} {g : Nat × Int32} {H : Heap} (h : XWn D dA b ad P F gs x a g H) : XW D dA b ad P F ((a, g) :: gs) x H := by
  obtain ⟨L, f, ga, gsh, bf, hP, hD, ⟨h1, h2, h3, h4, h5, h6, h7⟩, ha, hfa, hg, -⟩ := h
  exact ⟨L, f, ga, gsh, bf, hP, hD, h1, h2, h3, h4, h5, fun q hq => by
    rcases List.mem_cons.mp hq with e | e
    · rw [e]; exact ⟨hg, a, rfl, ha, hfa⟩
    · exact h6 q e, h7⟩
theorem gRel.push {L : List Nat} {f : Nat → va_E} {o : Option Nat} {v : Option (Nat × Int32)} (h : gRel L f o v) {a : Nat} {e : va_E} (ha : a ∉ L) : gRel (L ++ [a]) (va_up f a e) o v :=
  h.mono (fun y hy => ⟨List.mem_append_left _ hy, va_up_ne _ _ (fun q => ha (by rw [← q]; exact hy))⟩)
theorem gRel.ne {L : List Nat} {f : Nat → va_E} {o : Option Nat} {v : Option (Nat × Int32)} (h : gRel L f o v) {a : Nat} (ha : a ∉ L) : o ≠ some a := by
  cases v with
  | none => rw [show o = none from h]; exact fun q => by cases q
  | some g =>
    obtain ⟨h1, y, h2, h3, h4⟩ := h
    rw [h2]
    intro q
    cases q
    exact ha h3
/-- a cell is added to the typed heap -/
theorem XR.push {dA : Nat → ClassId} {ad : Nat → Nat} {P : Nat → Prop} {F : Nat → va_E} {gs : List (Nat × (Nat × Int32))} {x : XS} {ga : Nat → Nat → Option Nat} {gsh : Nat → Nat} {bf : List Value} {L : List Nat} {f : Nat → va_E} (h : XR dA ad P F gs x ga gsh bf L f) {a : Nat} {e : va_E} (ha : a ∉ L) : XR dA ad P F gs x ga gsh bf (L ++ [a]) (va_up f a e) := by
  obtain ⟨h1, h2, h3, h4, h5, h6, h7⟩ := h
  have hk : ∀ y, y ∈ L → y ∈ L ++ [a] ∧ va_up f a e y = f y := fun y hy => ⟨List.mem_append_left _ hy, va_up_ne _ _ (fun q => ha (by rw [← q]; exact hy))⟩
  refine ⟨fun k hx => ?_, h2, fun z hz => ?_, fun r hr j hj => (h4 r hr j hj).push ha, fun d hd g hg => (h5 d hd g hg).push ha, fun q hq => (h6 q hq).push ha, h7⟩
  · exact ⟨(hk _ (h1 k hx).1).1, by rw [(hk _ (h1 k hx).1).2]; exact (h1 k hx).2⟩
  · exact ⟨(hk _ (h3 z hz).1).1, by rw [(hk _ (h3 z hz).1).2]; exact (h3 z hz).2.1, (h3 z hz).2.2⟩
section NG
variable {Γ : GX} {own : String} {cc : ByteArray} {nL : Nat} {ret ret' : Option FieldType} {Qc : Array Value → State → Outcome → State → Prop} {A : Nat → Prop} {rm rm' : Room} {D : va_G} {dA : Nat → ClassId}
variable {cells slots pc mc ms : Nat} {lv lv' : List (Nat × Value)} {st st0 : List Value} {b : Nat} {ad : Nat → Nat} {P : Nat → Prop} {F : Nat → va_E} {x x' : XS} {r : Nat} {h h' : HS} {gs : List (Nat × (Nat × Int32))}
variable {y : MethodName} {bytes : ByteArray} {maxL idx : Nat} {As : List Value} {rv : Option Value} {w : Heap → Prop} {a : Nat} {g : Nat × Int32}
theorem qx_new (hΓ : GOK Γ own cc nL ret Qc (fun q => b ≤ q) rm) (hK : GKX Γ D dA b) {k : Nat} (hk : k < 8) {C : String} {T : u_T} {index : Nat} (hc : CL[5 + k]? = some (C, T, 1)) (hin : ∀ w ∈ u_ws C T 1, w ∈ lw_all) (ty : Nat → FieldType) (hty : ∀ j, j < 1 → parseFieldDescriptor (T j).2.2.1 = some (ty j)) (ht0 : ty 0 = .int) (hcl : Cond.classLink own index C ∈ lw_all) (hinst : Cond.instantiable C 1 ∈ lw_all) (hini : Cond.initialized C ∈ lw_all) (hcs : cells + 1 ≤ rm.cells ∧ slots + 1 ≤ rm.slots) (hdg : decode cc pc = .ok (.new index, 3))
    (kk : ∀ a : Nat, WG Γ (XWn D dA b ad P F gs x a (k, 0)) (cells + 1) (slots + 1) (pc + 3) lv (.ref a :: st)) : WG Γ (XW D dA b ad P F gs x) cells slots pc lv st := by
  intro H locs ls hw hS hl2
  obtain ⟨hx, hb, -, hown, hts⟩ := hΓ.1
  obtain ⟨L, f, ga, gsh, bf, hP, hD, hR⟩ := hw
  refine va_new (fs := [.int 0]) hx hb hts hin ty hty hown (hts _ hcl) (hts _ hinst) (hts _ hini) hK.1 hP hD (gSto hΓ hS) (fun q hq => Nat.le_trans hK.2.2 hq) hc (fun j hj => by
    have : j = 0 := by omega
    subst this
    rw [ht0]; rfl) (by rw [hΓ.2.2.2.2.2.1]; exact hcs.1) (by rw [hΓ.2.2.2.2.2.1]; exact hcs.2) hdg (fun q H1 hP1 hD1 hS1 => ?_)
  have hq : q ∉ L := va_pl_fresh2 (X := []) hD1
  rw [va_pl_push hq] at hP1 hD1
  refine kk q H1 locs ls ⟨L ++ [q], _, ga, gsh, bf, hP1, hD1, hR.push hq, List.mem_append_right _ List.mem_cons_self, va_up_self _ _ _, hk, fun r hr j hj => (hR.2.2.2.1 r hr j hj).ne hq, fun d hd v hv e => ?_, fun z hz e => ?_, fun hp => hq (hR.2.2.1 q hp).1⟩ (gSof hΓ hS1) hl2
  · exact (hR.2.2.2.2.1 d hd v hv).ne hq (by rw [e])
  · exact (hR.2.2.2.2.2.1 z hz).ne hq (by rw [e])
/-- a field of a house is read while a glass is being made -/
theorem qx_hgetn (hΓ : GOK Γ own cc nL ret Qc A rm) (hK : GKX Γ D dA b) (hr : r < 4) (hh : x.1 r = h) {k : Nat} (hk : hF k = true) {index : Nat} (hl : Cond.fieldLink own index RX2 (TX2 k).2.1 (TX2 k).2.2.1 ∈ lw_all) (hdg : decode cc pc = .ok (.getfield index, 3)) (kk : WG Γ (XWn D dA b ad P F gs x a g) cells slots (pc + 3) lv (.int (h.2.2 k) :: st)) : WG Γ (XWn D dA b ad P F gs x a g) cells slots pc lv (.ref (ad (hB r 22)) :: st) := by
  intro H locs ls hw hS hl2
  obtain ⟨hx, hb, -, hown, hts⟩ := hΓ.1
  obtain ⟨L, f, ga, gsh, bf, q0, hP, hD, hR, hin, hq, hq2⟩ := hw.toXW.hobj hr hh
  have hlt := hF_lt hk
  exact va_get hx hb hts in_X2 hown hK.1 hP q0 hq2 rfl k hlt.2 (hts _ hl) (fun x h => by rw [TX2_cls] at h; exact h) (by rw [hfs_get hlt.2, hfv, if_neg (by omega)]) hdg (kk H locs ls hw hS hl2)
end NG
def nP (D : va_G) (dA : Nat → ClassId) (b : Nat) (ad : Nat → Nat) (P : Nat → Prop) (F : Nat → va_E) (gs : List (Nat × (Nat × Int32))) (av : List Value) (x : XS) (a : Nat) (g : Nat × Int32) : Array Value → State → Prop := fun v U => v = av.toArray ∧ XWn D dA b ad P F gs x a g U.heap ∧ XK D dA b U
def nQ (D : va_G) (dA : Nat → ClassId) (b : Nat) (ad : Nat → Nat) (P : Nat → Prop) (F : Nat → va_E) (gs : List (Nat × (Nat × Int32))) (x : XS) (a : Nat) (g : Nat × Int32) : Array Value → State → Outcome → State → Prop := fun _ st o t => o = .returned none ∧ XWn D dA b ad P F gs x a g t.heap ∧ va_F (fun q => b ≤ q) st t
theorem nP_blind {D : va_G} {dA : Nat → ClassId} {b : Nat} {ad : Nat → Nat} {P : Nat → Prop} {F : Nat → va_E} {gs : List (Nat × (Nat × Int32))} {av : List Value} {x : XS} {a : Nat} {g : Nat × Int32} : FrameBlind (nP D dA b ad P F gs av x a g) := fun z U j mk q => by
  obtain ⟨q0, q1, q2, q3, q4⟩ := q
  exact ⟨q0, q1, va_K.moved (u := U) (U := U.calling j mk z) (Vm.Alike.refl U.vm) q2, XN.same (s := U) (U := U.calling j mk z) rfl q3, q4⟩
section NI
variable {Γ : GX} {own : String} {cc : ByteArray} {nL : Nat} {ret ret' : Option FieldType} {Qc : Array Value → State → Outcome → State → Prop} {A : Nat → Prop} {rm rm' : Room} {D : va_G} {dA : Nat → ClassId}
variable {cells slots pc mc ms : Nat} {lv lv' : List (Nat × Value)} {st st0 : List Value} {b : Nat} {ad : Nat → Nat} {P : Nat → Prop} {F : Nat → va_E} {x x' : XS} {r : Nat} {h h' : HS} {gs : List (Nat × (Nat × Int32))}
variable {y : MethodName} {bytes : ByteArray} {maxL idx : Nat} {As : List Value} {rv : Option Value} {w : Heap → Prop} {a : Nat} {g g' : Nat × Int32}
/-- a glass's constructor is called -/
theorem qx_callI (hΓ : GOK Γ own cc nL ret Qc (fun q => b ≤ q) rm) (hK : GKX Γ D dA b) (n : Nat) (hMet : Met Γ.2.1 y (ws_ y bytes maxL none) rm' (nP D dA b ad P F gs (.ref a :: As) x a g) (nQ D dA b ad P F gs x a g') 0 0 (fun q => b ≤ q)) (h1 : Cond.methodLink own idx y ∈ lw_all) (h2 : Cond.instanceMethod y ∈ lw_all) (h3 : Cond.initialized y.cls ∈ lw_all) (h4 : Cond.code y bytes maxL none ∈ lw_all) (hy : y.name = "<init>")
    (hd : y.cls ≠ "java/lang/invoke/MethodHandle" ∧ y.cls ≠ "java/lang/invoke/VarHandle" ∧ (parseMethodDescriptor y.desc).map (fun d => d.parameters.length) = some n) (hR : (rm'.cells = 0 ∧ rm'.slots = 0) ∧ (rm'.frames + 1 ≤ rm.frames ∧ 8 + (maxL + 11) + rm'.locals ≤ rm.locals)) (hcs : cells ≤ rm.cells ∧ slots ≤ rm.slots) (hn : As.length = n) (hs0 : As.reverse ++ .ref a :: st = st0) (hW : (st.map fun v => v.category).sum ≤ 8) (hdg : decode cc pc = .ok (.invokespecial idx, 3))
    (kk : WG Γ (XWn D dA b ad P F gs x a g') cells slots (pc + 3) lv st) : WG Γ (XWn D dA b ad P F gs x a g) cells slots pc lv st0 := by
  intro H locs ls hw hS hl2
  have hts := hΓ.1.2.2.2.2
  have hr := va_runI (p := Γ.1) (l := Γ.2.1) (e := Γ.2.2.1) (R := Γ.2.2.2.1) (below := Γ.2.2.2.2.2.2.2.1) (meth := Γ.2.2.2.2.2.2.2.2.1) (H := H) (locs := locs) (cells := cells) (slots := slots) (g := F0 Γ.2.2.2.2.2.1 pc ls st0) (As := As) (rest := st) (b := a) hΓ.1 hMet ⟨callB_of n hts (lw_meth h4) rfl hR.1.1 hR.1.2 (hts _ h3) (hts _ h1) hd (by rw [hΓ.2.2.2.2.2.1]; exact hR.2), hy, hts _ h2⟩ ⟨nP_blind, fun U hU hWm => ⟨rfl, by rw [hU]; exact hw, va_K.moved hWm.alike hK.1, hK.2.1.warm hWm, by rw [hU]; exact Nat.le_trans hK.2.2 hS.1⟩⟩ rfl hn (by rw [hl2.1, hΓ.2.1]) hs0.symm (lv_room hW) hdg (by rw [hΓ.2.2.2.2.2.1]; exact hcs)
  have hS := gSto hΓ hS
  intro T hT X
  obtain ⟨v, st₀, t, T', L, h0, X', hL, e1, e2, ⟨hv, hw2, hz, hk⟩, stp⟩ := hr T hT X
  cases hv
  rw [h0] at hz hk
  obtain ⟨t2, a1, b1⟩ := kk T'.heap (locs ++ L) ls (by rw [e1]; exact hw2)
    (gSof hΓ ⟨Nat.le_trans hS.1 (by rw [e1]; exact hz), fun q h1 h2 => by rw [e1, hk q (Nat.lt_of_lt_of_le h1 hS.1) h2]; exact hS.2.1 q h1 h2, fun q hq => by
      rcases List.mem_append.mp hq with h | h
      · exact hS.2.2 q h
      · exact hL q h⟩) hl2 T' rfl X'
  exact ⟨t2, stp t2 a1, b1⟩
theorem qn_vret (hΓ : GOK Γ own cc nL none (nQ D dA b ad P F gs x a g) (fun q => b ≤ q) rm) (hdg : decode cc pc = .ok (.return_, 1)) : WG Γ (XWn D dA b ad P F gs x a g) rm.cells rm.slots pc lv [] := by
  intro H locs ls hw hS hl2
  rw [hΓ.2.2.2.2.2.2]
  exact W.vret hΓ.1.1 hΓ.1.2.1 hΓ.2.2.1 (fun t ht _ => ⟨rfl, by rw [ht]; exact hw, (gSto hΓ hS).F ht⟩) (gSto hΓ hS).2.2 hdg hΓ.2.2.2.1
/-- Object's constructor -/
theorem g_objI (hΓ : GOK Γ own cc nL ret Qc A rm) (hl : Cond.methodLink own idx Lib.objectInit ∈ lw_all) (hdg : decode cc pc = .ok (.invokespecial idx, 3)) (hf : 1 ≤ rm.frames) (hlo : (st.map fun v => v.category).sum + 12 ≤ rm.locals) (kk : WG Γ w cells slots (pc + 3) lv st) : WG Γ w cells slots pc lv (.ref a :: st) := by
  intro H locs ls hw hS hl2
  have hts := hΓ.1.2.2.2.2
  exact W.objInit hΓ.1.1 hΓ.1.2.1 hΓ.1.2.2.2.1 (hts _ hl) (hts _ q106) (hts _ q107) rfl (by rw [hΓ.1.2.2.1]; show ls.size = _; rw [hl2.1, hΓ.2.1]) rfl hdg (by rw [hΓ.2.2.2.2.2.1]; exact hf) (by rw [hΓ.2.2.2.2.2.1]; show 2 * (F0 Γ.2.2.2.2.2.1 pc ls (.ref a :: st)).monitorRoom + _ + 12 ≤ _; rw [show (F0 Γ.2.2.2.2.2.1 pc ls (.ref a :: st)).monitorRoom = 0 from rfl]; omega) (kk H locs ls hw hS hl2)
end NI
theorem qn_met {l : Launch} {y : MethodName} {cc : ByteArray} {maxL : Nat} {rm : Room} {D : va_G} {dA : Nat → ClassId} {b : Nat} {ad : Nat → Nat} {P : Nat → Prop} {F : Nat → va_E} {gs : List (Nat × (Nat × Int32))} {x : XS} {av : List Value} {a : Nat} {g g' : Nat × Int32} (hy : plainName y.cls = true) (own : String) (ho : y.cls = own) (hlen : (lg_sl av).length ≤ maxL)
    (body : ∀ Γ : GX, GOK Γ own cc maxL none (nQ D dA b ad P F gs x a g') (fun q => b ≤ q) rm → GKX Γ D dA b → (y.name = "<init>" → Γ.2.2.2.2.2.2.2.2.1.name = "<init>") → WG Γ (XWn D dA b ad P F gs x a g) 0 0 0 (lv_args 0 av) []) : Met l y (ws_ y cc maxL none) rm (nP D dA b ad P F gs av x a g) (nQ D dA b ad P F gs x a g') rm.cells rm.slots (fun q => b ≤ q) := by
  subst ho
  refine Met.ofW (cc := cc) (maxL := maxL) (ret := none) hy rfl ?_
  intro p e s mm args below meth c s₁ B hml hv
  obtain ⟨rfl, hM, hK⟩ := hv
  have hts := atoms_spec (ws := ws_ y cc maxL none) B.pre
  refine q_entry av hlen (fun ls hl => ?_)
  exact body (p, l, e, rm, s, mm, av.toArray, below, meth, c, MQ below (nQ D dA b ad P F gs x a g') av.toArray s rm.cells rm.slots (fun q => b ≤ q), (fun q => b ≤ q), maxL) ⟨⟨B.exec, B.bytes, hml, findClass_of_methodNamed B.named, fun w h => hts w (List.mem_cons_of_mem _ h)⟩, rfl, B.returns, B.notSynchronized, rfl, rfl, rfl⟩ hK (fun h => (name_of_methodNamed B.named B.method).1.trans h) s.heap [] ls hM va_S.rf hl
/-- figure is laid, in Glass's constructor, of a glass of any kind -/
theorem qn_putF {Γ : GX} {cc : ByteArray} {nL : Nat} {ret : Option FieldType} {Qc : Array Value → State → Outcome → State → Prop} {rm : Room} {D : va_G} {dA : Nat → ClassId} {cells slots pc : Nat} {lv : List (Nat × Value)} {st : List Value} {b : Nat} {ad : Nat → Nat} {P : Nat → Prop} {F : Nat → va_E} {x : XS} {gs : List (Nat × (Nat × Int32))} {a : Nat} {g : Nat × Int32} {v : Int32} (hΓ : GOK Γ RX7 cc nL ret Qc (fun q => b ≤ q) rm) (hK : GKX Γ D dA b) (hin : Γ.2.2.2.2.2.2.2.2.1.name = "<init>") (hdg : decode cc pc = .ok (.putfield 7, 3))
    (kk : WG Γ (XWn D dA b ad P F gs x a (g.1, v)) cells slots (pc + 3) lv st) : WG Γ (XWn D dA b ad P F gs x a g) cells slots pc lv (.int v :: .ref a :: st) := by
  intro H locs ls hw hS0 hl2
  obtain ⟨hx, hb, -, hown, hts⟩ := hΓ.1
  obtain ⟨L, f, ga, gsh, bf, hP, hD, hR, ha, hfa, hg, hn1, hn2, hn3, hn4⟩ := hw
  obtain ⟨q0, hq⟩ := va_pl_get (X := []) (f := f) ha
  have hq : (va_pl L f)[q0]? = some (a, f a) := hq
  have hq2 : (va_pl L f)[q0]? = some (a, .inr (5 + g.1, [.int g.2])) := by rw [hq, hfa]; rfl
  have key : ∀ (H1 : Heap) (locs1 : List Loc), va_P D CL ((va_pl L f).set q0 (a, .inr (5 + g.1, [.int g.2].set 0 (.int v)))) H1 → va_D (fun q => b ≤ q) ((va_pl L f).set q0 (a, .inr (5 + g.1, [.int g.2].set 0 (.int v)))) → va_S (fun q => b ≤ q) Γ.2.2.2.2.1.heap H1 locs1 → W Γ.1 Γ.2.1 Γ.2.2.1 Γ.2.2.2.1 Γ.2.2.2.2.1 Γ.2.2.2.2.2.1 Γ.2.2.2.2.2.2.1 Γ.2.2.2.2.2.2.2.1 Γ.2.2.2.2.2.2.2.2.1 Γ.2.2.2.2.2.2.2.2.2.1 H1 locs1 cells slots Γ.2.2.2.2.2.2.2.2.2.2.1 (F0 Γ.2.2.2.2.2.1 (pc + 3) ls st) := by
    intro H1 locs1 hP1 hD1 hS1
    have e1 : ∀ e, (va_pl L f).set q0 (a, e) = va_pl L (va_up f a e) := fun e => va_pl_set (X := []) hD ha hq
    rw [e1] at hP1 hD1
    obtain ⟨h1, h2, h3, h4, h5, h6, h7⟩ := hR
    have hne : ∀ z, f z ≠ GE g ∨ z ≠ a → z ≠ a := fun z h q => by
      rcases h with h | h
      · exact h (by rw [q]; exact hfa)
      · exact h q
    have hgk : ∀ {o : Option Nat} {u : Option (Nat × Int32)}, gRel L f o u → o ≠ some a → gRel L (va_up f a (.inr (5 + g.1, [.int v]))) o u := by
      intro o u h hno
      cases u with
      | none => exact h
      | some u =>
        obtain ⟨k1, z, k2, k3, k4⟩ := h
        exact ⟨k1, z, k2, k3, by rw [va_up_ne _ _ (fun q => hno (by rw [k2, q]))]; exact k4⟩
    refine kk H1 locs1 ls ⟨L, _, ga, gsh, bf, hP1, hD1, ⟨fun k hk => ?_, h2, fun z hz => ?_, fun r hr j hj => hgk (h4 r hr j hj) (hn1 r hr j hj), fun d hd u hu => hgk (h5 d hd u hu) (fun q => hn2 d hd u hu (Option.some.inj q)), fun q hq => hgk (h6 q hq) (fun z => hn3 q hq (Option.some.inj z)), h7⟩, ha, va_up_self _ _ _, hg, hn1, hn2, hn3, hn4⟩ (gSof hΓ hS1) hl2
    · refine ⟨(h1 k hk).1, ?_⟩
      rw [va_up_ne _ _ (fun q => EX_ng hg (by rw [← (h1 k hk).2, q]; exact hfa))]
      exact (h1 k hk).2
    · obtain ⟨a1, a2, a3⟩ := h3 z hz
      exact ⟨a1, by rw [va_up_ne _ _ (fun q => hn4 (by rw [← q]; exact hz))]; exact a2, a3⟩
  have hl : (Cond.fieldLink RX7 7 RX7 "figure" "I").before Γ.2.2.2.2.2.2.1 Γ.2.2.2.2.1 = true := hts _ q266
  have hS1 := gSto hΓ hS0
  rcases (by omega : g.1 = 0 ∨ g.1 = 1 ∨ g.1 = 2 ∨ g.1 = 3 ∨ g.1 = 4 ∨ g.1 = 5 ∨ g.1 = 6 ∨ g.1 = 7) with e | e | e | e | e | e | e | e
  · rw [e] at hq2 key
    exact va_putF hx hb hts in_X7 tyX7 tyX7_ok nmX7 hown hK.1 hP hD hS1 q0 hq2 rfl 0 (by decide) hl (fun x h => h) rfl hin rfl rfl rfl rfl Nat.zero_lt_one hdg key
  · rw [e] at hq2 key
    exact va_putF hx hb hts in_X8 tyX8 tyX8_ok nmX8 hown hK.1 hP hD hS1 q0 hq2 rfl 0 (by decide) hl (fun x h => h) rfl hin rfl rfl rfl rfl Nat.zero_lt_one hdg key
  · rw [e] at hq2 key
    exact va_putF hx hb hts in_X9 tyX9 tyX9_ok nmX9 hown hK.1 hP hD hS1 q0 hq2 rfl 0 (by decide) hl (fun x h => h) rfl hin rfl rfl rfl rfl Nat.zero_lt_one hdg key
  · rw [e] at hq2 key
    exact va_putF hx hb hts in_X10 tyX10 tyX10_ok nmX10 hown hK.1 hP hD hS1 q0 hq2 rfl 0 (by decide) hl (fun x h => h) rfl hin rfl rfl rfl rfl Nat.zero_lt_one hdg key
  · rw [e] at hq2 key
    exact va_putF hx hb hts in_X11 tyX11 tyX11_ok nmX11 hown hK.1 hP hD hS1 q0 hq2 rfl 0 (by decide) hl (fun x h => h) rfl hin rfl rfl rfl rfl Nat.zero_lt_one hdg key
  · rw [e] at hq2 key
    exact va_putF hx hb hts in_X12 tyX12 tyX12_ok nmX12 hown hK.1 hP hD hS1 q0 hq2 rfl 0 (by decide) hl (fun x h => h) rfl hin rfl rfl rfl rfl Nat.zero_lt_one hdg key
  · rw [e] at hq2 key
    exact va_putF hx hb hts in_X13 tyX13 tyX13_ok nmX13 hown hK.1 hP hD hS1 q0 hq2 rfl 0 (by decide) hl (fun x h => h) rfl hin rfl rfl rfl rfl Nat.zero_lt_one hdg key
  · rw [e] at hq2 key
    exact va_putF hx hb hts in_X14 tyX14 tyX14_ok nmX14 hown hK.1 hP hD hS1 q0 hq2 rfl 0 (by decide) hl (fun x h => h) rfl hin rfl rfl rfl rfl Nat.zero_lt_one hdg key
/-- Glass(figure), of a glass of any kind -/
theorem metG_init7 (l : Launch) {D : va_G} {dA : Nat → ClassId} {b : Nat} {ad : Nat → Nat} {P : Nat → Prop} {F : Nat → va_E} {gs : List (Nat × (Nat × Int32))} {x : XS} {a : Nat} {g : Nat × Int32} {v : Int32} : Met l yX7_init (ws_ yX7_init cX7_init 2 none) (rm0_ 1 12) (nP D dA b ad P F gs [.ref a, .int v] x a g) (nQ D dA b ad P F gs x a (g.1, v)) 0 0 (fun q => b ≤ q) := by
  refine qn_met (by decide) RX7 rfl (Nat.le_of_ble_eq_true rfl) (fun Γ hΓ hK hin => ?_)
  refine g_sub [0, 1] (lv' := [(0, .ref a), (1, .int v)]) rfl ?_
  refine g_aload_n hΓ (pc := 0) 0 (i := 0) dX7_init_0 rfl rfl ?_
  refine g_objI hΓ (pc := 1) q265 dX7_init_1 (by decide) (Nat.le_of_ble_eq_true rfl) ?_
  refine g_aload_n hΓ (pc := 4) 0 (i := 0) dX7_init_4 rfl rfl ?_
  refine g_iload_n hΓ (pc := 5) 1 (i := 1) dX7_init_5 rfl rfl ?_
  refine qn_putF hΓ (pc := 6) hK (hin rfl) dX7_init_6 ?_
  exact qn_vret hΓ dX7_init_9

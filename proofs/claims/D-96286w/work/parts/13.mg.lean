/-! the reference's rows with their context in one word; methods that touch no cell -/
section MG
variable {Γ : GX} {own : String} {cc : ByteArray} {nL : Nat} {ret ret' : Option FieldType} {Qc : Array Value → State → Outcome → State → Prop} {A : Nat → Prop} {rm rm' : Room} {D : va_G} {dA : Nat → ClassId}
variable {cells slots pc : Nat} {lv lv' : List (Nat × Value)} {st st0 : List Value} {b : Nat} {ad : Nat → Nat} {P : Nat → Prop} {F : Nat → va_E} {m m' : MS}
variable {y : MethodName} {bytes : ByteArray} {maxL idx : Nat} {As : List Value} {rv : Option Value} {w : Heap → Prop}
abbrev GK (Γ : GX) (D : va_G) (dA : Nat → ClassId) : Prop := va_K D CL (TYS dA) Γ.2.2.2.2.1
theorem gSto (hΓ : GOK Γ own cc nL ret Qc A rm) {H : Heap} {locs : List Loc} (h : va_S Γ.2.2.2.2.2.2.2.2.2.2.2.1 Γ.2.2.2.2.1.heap H locs) : va_S A Γ.2.2.2.2.1.heap H locs := by rw [← hΓ.2.2.2.2.1]; exact h
theorem gSof (hΓ : GOK Γ own cc nL ret Qc A rm) {H : Heap} {locs : List Loc} (h : va_S A Γ.2.2.2.2.1.heap H locs) : va_S Γ.2.2.2.2.2.2.2.2.2.2.2.1 Γ.2.2.2.2.1.heap H locs := by rw [hΓ.2.2.2.2.1]; exact h
theorem qg_get (hΓ : GOK Γ RX4 cc nL ret Qc A rm) (hK : GK Γ D dA) {k : Nat} (hk : mF k = true) {index : Nat} (hl : Cond.fieldLink RX4 index RX4 (TX4 k).2.1 (TX4 k).2.2.1 ∈ lw_all) (hdg : decode cc pc = .ok (.getfield index, 3)) (kk : WG Γ (MW D dA b ad P F m) cells slots (pc + 3) lv (.int (m.1 k) :: st)) : WG Γ (MW D dA b ad P F m) cells slots pc lv (.ref (ad 46) :: st) :=
  fun H locs ls hw hS hl2 => qm_get ⟨hΓ.1, hK⟩ hw hk hl hdg (kk H locs ls hw hS hl2)
theorem qg_geta (hΓ : GOK Γ RX4 cc nL ret Qc A rm) (hK : GK Γ D dA) {k : Nat} (hk : (mI k || mJ k) = true) {index : Nat} (hl : Cond.fieldLink RX4 index RX4 (TX4 k).2.1 (TX4 k).2.2.1 ∈ lw_all) (hdg : decode cc pc = .ok (.getfield index, 3)) (kk : WG Γ (MW D dA b ad P F m) cells slots (pc + 3) lv (.ref (ad k) :: st)) : WG Γ (MW D dA b ad P F m) cells slots pc lv (.ref (ad 46) :: st) :=
  fun H locs ls hw hS hl2 => qm_geta ⟨hΓ.1, hK⟩ hw hk hl hdg (kk H locs ls hw hS hl2)
theorem qg_getk (hΓ : GOK Γ RX4 cc nL ret Qc A rm) (hK : GK Γ D dA) {k : Nat} (hk : mKg m = some k) {index : Nat} (hl : Cond.fieldLink RX4 index RX4 (TX4 29).2.1 (TX4 29).2.2.1 ∈ lw_all) (hdg : decode cc pc = .ok (.getfield index, 3)) (kk : mI k = true → WG Γ (MW D dA b ad P F m) cells slots (pc + 3) lv (.ref (ad k) :: st)) : WG Γ (MW D dA b ad P F m) cells slots pc lv (.ref (ad 46) :: st) :=
  fun H locs ls hw hS hl2 => qm_getk ⟨hΓ.1, hK⟩ hw hk hl hdg (fun h => kk h H locs ls hw hS hl2)
/-- a store that cannot fail -/
def mSI (m : MS) (k : Nat) (v : Int32) : Option MS := some (mS m k v)
def mKI (m : MS) (k : Nat) : Option MS := some (mKs m k)
theorem qg_put (hΓ : GOK Γ RX4 cc nL ret Qc (fun q => b ≤ q) rm) (hK : GK Γ D dA) {k : Nat} (hk : (mF k && !mZ k) = true) {v : Int32} (hx : mSI m k v = some m') {index : Nat} (hl : Cond.fieldLink RX4 index RX4 (TX4 k).2.1 (TX4 k).2.2.1 ∈ lw_all) (hdg : decode cc pc = .ok (.putfield index, 3)) (kk : WG Γ (MW D dA b ad P F m') cells slots (pc + 3) lv st) : WG Γ (MW D dA b ad P F m) cells slots pc lv (.int v :: .ref (ad 46) :: st) := by
  cases hx
  exact fun H locs ls hw hS hl2 => qm_put ⟨hΓ.1, hK⟩ hw (gSto hΓ hS) hk hl hdg (fun H locs hw hS => kk H locs ls hw (gSof hΓ hS) hl2)
theorem qg_putz (hΓ : GOK Γ RX4 cc nL ret Qc (fun q => b ≤ q) rm) (hK : GK Γ D dA) {k : Nat} (hk : (mF k && mZ k) = true) {v : Int32} (hx : mSZ m k v = some m') {index : Nat} (hl : Cond.fieldLink RX4 index RX4 (TX4 k).2.1 (TX4 k).2.2.1 ∈ lw_all) (hdg : decode cc pc = .ok (.putfield index, 3)) (kk : WG Γ (MW D dA b ad P F m') cells slots (pc + 3) lv st) : WG Γ (MW D dA b ad P F m) cells slots pc lv (.int v :: .ref (ad 46) :: st) :=
  fun H locs ls hw hS hl2 => qm_putz ⟨hΓ.1, hK⟩ hw (gSto hΓ hS) hk hx hl hdg (fun H locs hw hS => kk H locs ls hw (gSof hΓ hS) hl2)
theorem qg_putk (hΓ : GOK Γ RX4 cc nL ret Qc (fun q => b ≤ q) rm) (hK : GK Γ D dA) {k : Nat} (hx : mKI m k = some m') {index : Nat} (hl : Cond.fieldLink RX4 index RX4 (TX4 29).2.1 (TX4 29).2.2.1 ∈ lw_all) (hdg : decode cc pc = .ok (.putfield index, 3)) (kk : WG Γ (MW D dA b ad P F m') cells slots (pc + 3) lv st) : WG Γ (MW D dA b ad P F m) cells slots pc lv (.ref (ad k) :: .ref (ad 46) :: st) := by
  cases hx
  exact fun H locs ls hw hS hl2 => qm_putk ⟨hΓ.1, hK⟩ hw (gSto hΓ hS) hl hdg (fun H locs hw hS => kk H locs ls hw (gSof hΓ hS) hl2)
theorem qg_iald (hΓ : GOK Γ own cc nL ret Qc A rm) (hK : GK Γ D dA) {k : Nat} (hk : mI k = true) {i v : Int32} (hx : mR m k i = some v) (hdg : decode cc pc = .ok (.iaload, 1)) (ho : own = RX4) (kk : WG Γ (MW D dA b ad P F m) cells slots (pc + 1) lv (.int v :: st)) : WG Γ (MW D dA b ad P F m) cells slots pc lv (.int i :: .ref (ad k) :: st) := by
  subst ho
  exact fun H locs ls hw hS hl2 => qm_iald ⟨hΓ.1, hK⟩ hw hk hx hdg (kk H locs ls hw hS hl2)
theorem qg_lald (hΓ : GOK Γ own cc nL ret Qc A rm) (hK : GK Γ D dA) {k : Nat} (hk : mJ k = true) {i : Int32} {v : Int64} (hx : mLR m k i = some v) (hdg : decode cc pc = .ok (.laload, 1)) (ho : own = RX4) (kk : WG Γ (MW D dA b ad P F m) cells slots (pc + 1) lv (.long v :: st)) : WG Γ (MW D dA b ad P F m) cells slots pc lv (.int i :: .ref (ad k) :: st) := by
  subst ho
  exact fun H locs ls hw hS hl2 => qm_lald ⟨hΓ.1, hK⟩ hw hk hx hdg (kk H locs ls hw hS hl2)
theorem qg_iast (hΓ : GOK Γ own cc nL ret Qc (fun q => b ≤ q) rm) (hK : GK Γ D dA) {k : Nat} (hk : mI k = true) {i v : Int32} (hx : mW m k i v = some m') (hdg : decode cc pc = .ok (.iastore, 1)) (ho : own = RX4) (kk : WG Γ (MW D dA b ad P F m') cells slots (pc + 1) lv st) : WG Γ (MW D dA b ad P F m) cells slots pc lv (.int v :: .int i :: .ref (ad k) :: st) := by
  subst ho
  exact fun H locs ls hw hS hl2 => qm_iast ⟨hΓ.1, hK⟩ hw (gSto hΓ hS) hk hx hdg (fun H locs hw hS => kk H locs ls hw (gSof hΓ hS) hl2)
theorem qg_last (hΓ : GOK Γ own cc nL ret Qc (fun q => b ≤ q) rm) (hK : GK Γ D dA) {k : Nat} (hk : mJ k = true) {i : Int32} {v : Int64} (hx : mLW m k i v = some m') (hdg : decode cc pc = .ok (.lastore, 1)) (ho : own = RX4) (kk : WG Γ (MW D dA b ad P F m') cells slots (pc + 1) lv st) : WG Γ (MW D dA b ad P F m) cells slots pc lv (.long v :: .int i :: .ref (ad k) :: st) := by
  subst ho
  exact fun H locs ls hw hS hl2 => qm_last ⟨hΓ.1, hK⟩ hw (gSto hΓ hS) hk hx hdg (fun H locs hw hS => kk H locs ls hw (gSof hΓ hS) hl2)
/-- a call of the reference's own method -/
theorem qg_callV (hΓ : GOK Γ RX4 cc nL ret Qc (fun q => b ≤ q) rm) (hK : GK Γ D dA) (n : Nat) (hMet : Met Γ.2.1 y (ws_ y bytes maxL ret') rm' (mP D dA b ad P F (.ref (ad 46) :: As) m) (mQ D dA b ad P F rv m') 0 0 (fun q => b ≤ q)) (hG : GoodIn lw_all (wsV RX4 idx RX4 y (ws_ y bytes maxL ret')))
    (hd : y.cls = RX4 ∧ y.cls ≠ "java/lang/invoke/MethodHandle" ∧ y.cls ≠ "java/lang/invoke/VarHandle" ∧ (parseMethodDescriptor y.desc).map (fun d => d.parameters.length) = some n) (hR : (rm'.cells = 0 ∧ rm'.slots = 0) ∧ (rm'.frames + 1 ≤ rm.frames ∧ 8 + (maxL + 11) + rm'.locals ≤ rm.locals) ∧ cells ≤ rm.cells ∧ slots ≤ rm.slots) (hn : As.length = n) (hs0 : As.reverse ++ .ref (ad 46) :: st = st0) (hW : (st.map fun v => v.category).sum ≤ 8) (hdg : decode cc pc = .ok (.invokevirtual idx, 3))
    (kk : WG Γ (MW D dA b ad P F m') cells slots (pc + 3) lv (rv.toList ++ st)) : WG Γ (MW D dA b ad P F m) cells slots pc lv st0 :=
  fun H locs ls hw hS hl2 => qm_callV ⟨hΓ.1, hK⟩ hw (gSto hΓ hS) n hMet hG hd (by rw [hΓ.2.2.2.2.2.1]; exact ⟨hR.1.1, hR.1.2, hR.2.1⟩) hn hs0.symm (by rw [hl2.1, hΓ.2.1]) hW hdg (by rw [hΓ.2.2.2.2.2.1]; exact hR.2.2) (fun H locs hw hS => kk H locs ls hw (gSof hΓ hS) hl2)
/-- a call of a static method that touches no cell -/
theorem qg_callS (hΓ : GOK Γ own cc nL ret Qc A rm) (n : Nat) (hMet : Met Γ.2.1 y (ws_ y bytes maxL ret') rm' (sP As) (sQ rv) 0 0 (fun _ => False)) (hG : GoodIn lw_all (va_wsS own idx y (ws_ y bytes maxL ret')))
    (hd : y.cls ≠ "java/lang/invoke/MethodHandle" ∧ y.cls ≠ "java/lang/invoke/VarHandle" ∧ (parseMethodDescriptor y.desc).map (fun d => d.parameters.length) = some n) (hR : (rm'.cells = 0 ∧ rm'.slots = 0) ∧ (rm'.frames + 1 ≤ rm.frames ∧ 8 + (maxL + 11) + rm'.locals ≤ rm.locals) ∧ cells ≤ rm.cells ∧ slots ≤ rm.slots) (hn : As.length = n) (hs0 : As.reverse ++ st = st0) (hW : (st.map fun v => v.category).sum ≤ 8) (hdg : decode cc pc = .ok (.invokestatic idx, 3))
    (kk : WG Γ w cells slots (pc + 3) lv (rv.toList ++ st)) : WG Γ w cells slots pc lv st0 :=
  fun H locs ls hw hS hl2 => q_callS hΓ.1 n hMet hG hd (by rw [hΓ.2.2.2.2.2.1]; exact ⟨hR.1.1, hR.1.2, hR.2.1⟩) hn hs0.symm (by rw [hl2.1, hΓ.2.1]) hW hdg (by rw [hΓ.2.2.2.2.2.1]; exact hR.2.2) (kk H locs ls hw hS hl2)
/-! ends -/
theorem qg_vret (hΓ : GOK Γ own cc nL none (mQ D dA b ad P F none m') (fun q => b ≤ q) rm) (hK : GK Γ D dA) (hf : some m = some m') (hdg : decode cc pc = .ok (.return_, 1)) : WG Γ (MW D dA b ad P F m) rm.cells rm.slots pc lv [] := by
  cases hf
  intro H locs ls hw hS hl2
  rw [hΓ.2.2.2.2.2.2]
  exact qm_vret ⟨hΓ.1, hK⟩ hΓ.2.2.1 hΓ.2.2.2.1 hw (gSto hΓ hS) hdg
theorem qg_iret {v r : Int32} (hΓ : GOK Γ own cc nL (some .int) (mQ D dA b ad P F (some (.int r)) m') (fun q => b ≤ q) rm) (hK : GK Γ D dA) (hf : some (v, m) = some (r, m')) (hdg : decode cc pc = .ok (.ireturn, 1)) : WG Γ (MW D dA b ad P F m) rm.cells rm.slots pc lv [.int v] := by
  cases hf
  intro H locs ls hw hS hl2
  rw [hΓ.2.2.2.2.2.2]
  exact qm_iret ⟨hΓ.1, hK⟩ hΓ.2.2.1 hΓ.2.2.2.1 hw (gSto hΓ hS) hdg
theorem qg_lret {v r : Int64} (hΓ : GOK Γ own cc nL (some .long) (mQ D dA b ad P F (some (.long r)) m') (fun q => b ≤ q) rm) (hK : GK Γ D dA) (hf : some (v, m) = some (r, m')) (hdg : decode cc pc = .ok (.lreturn, 1)) : WG Γ (MW D dA b ad P F m) rm.cells rm.slots pc lv [.long v] := by
  cases hf
  intro H locs ls hw hS hl2
  rw [hΓ.2.2.2.2.2.2]
  exact qm_lret ⟨hΓ.1, hK⟩ hΓ.2.2.1 hΓ.2.2.2.1 hw (gSto hΓ hS) hdg
theorem qg_zret {v r : Int32} (hΓ : GOK Γ own cc nL (some .boolean) (mQ D dA b ad P F (some (.int r)) m') (fun q => b ≤ q) rm) (hK : GK Γ D dA) (hf : (zOk v).bind (fun z => some (z, m)) = some (r, m')) (hdg : decode cc pc = .ok (.ireturn, 1)) : WG Γ (MW D dA b ad P F m) rm.cells rm.slots pc lv [.int v] := by
  obtain ⟨z, hz, hf⟩ := bindE hf
  cases hf
  intro H locs ls hw hS hl2
  rw [hΓ.2.2.2.2.2.2]
  exact qm_zret ⟨hΓ.1, hK⟩ hΓ.2.2.1 hΓ.2.2.2.1 hw (gSto hΓ hS) hz hdg
/-- .. of a method that only reads: its pure function answers the value alone -/
theorem qg_iretR {v r : Int32} (hΓ : GOK Γ own cc nL (some .int) (mQ D dA b ad P F (some (.int r)) m) (fun q => b ≤ q) rm) (hK : GK Γ D dA) (hf : some v = some r) (hdg : decode cc pc = .ok (.ireturn, 1)) : WG Γ (MW D dA b ad P F m) rm.cells rm.slots pc lv [.int v] := by
  cases hf
  exact qg_iret hΓ hK rfl hdg
theorem qg_lretR {v r : Int64} (hΓ : GOK Γ own cc nL (some .long) (mQ D dA b ad P F (some (.long r)) m) (fun q => b ≤ q) rm) (hK : GK Γ D dA) (hf : some v = some r) (hdg : decode cc pc = .ok (.lreturn, 1)) : WG Γ (MW D dA b ad P F m) rm.cells rm.slots pc lv [.long v] := by
  cases hf
  exact qg_lret hΓ hK rfl hdg
theorem qg_zretR {v r : Int32} (hΓ : GOK Γ own cc nL (some .boolean) (mQ D dA b ad P F (some (.int r)) m) (fun q => b ≤ q) rm) (hK : GK Γ D dA) (hf : zOk v = some r) (hdg : decode cc pc = .ok (.ireturn, 1)) : WG Γ (MW D dA b ad P F m) rm.cells rm.slots pc lv [.int v] :=
  qg_zret hΓ hK (by rw [hf]; rfl) hdg
/-- the world of a method that touches no cell: the heap that it found -/
def same (Γ : GX) : Heap → Prop := fun H => H = Γ.2.2.2.2.1.heap
theorem same_end (hΓ : GOK Γ own cc nL ret Qc (fun _ => False) rm) {H : Heap} {locs : List Loc} (hS : va_S Γ.2.2.2.2.2.2.2.2.2.2.2.1 Γ.2.2.2.2.1.heap H locs) : locs = [] :=
  List.eq_nil_iff_forall_not_mem.mpr (fun q h => (gSto hΓ hS).2.2 q h)
theorem qs_iret {v r : Int32} (hΓ : GOK Γ own cc nL (some .int) (sQ (some (.int r))) (fun _ => False) rm) (hf : some v = some r) (hdg : decode cc pc = .ok (.ireturn, 1)) : WG Γ (same Γ) rm.cells rm.slots pc lv [.int v] := by
  cases hf
  intro H locs ls hw hS hl2
  rw [hΓ.2.2.2.2.2.2, same_end hΓ hS, show H = _ from hw]
  exact q_iret hΓ.1.1 hΓ.1.2.1 hΓ.2.2.1 hΓ.2.2.2.1 hdg
theorem qs_lret {v r : Int64} (hΓ : GOK Γ own cc nL (some .long) (sQ (some (.long r))) (fun _ => False) rm) (hf : some v = some r) (hdg : decode cc pc = .ok (.lreturn, 1)) : WG Γ (same Γ) rm.cells rm.slots pc lv [.long v] := by
  cases hf
  intro H locs ls hw hS hl2
  rw [hΓ.2.2.2.2.2.2, same_end hΓ hS, show H = _ from hw]
  exact q_lret hΓ.1.1 hΓ.1.2.1 hΓ.2.2.1 hΓ.2.2.2.1 hdg
theorem qs_zret {v r : Int32} (hΓ : GOK Γ own cc nL (some .boolean) (sQ (some (.int r))) (fun _ => False) rm) (hf : zOk v = some r) (hdg : decode cc pc = .ok (.ireturn, 1)) : WG Γ (same Γ) rm.cells rm.slots pc lv [.int v] := by
  intro H locs ls hw hS hl2
  rw [hΓ.2.2.2.2.2.2, same_end hΓ hS, show H = _ from hw]
  exact q_zret hΓ.1.1 hΓ.1.2.1 hΓ.2.2.1 hΓ.2.2.2.1 hf hdg
end MG
/-! a contract out of its walk -/
theorem qg_met {l : Launch} {y : MethodName} {cc : ByteArray} {maxL : Nat} {ret : Option FieldType} {rm : Room} {D : va_G} {dA : Nat → ClassId} {b : Nat} {ad : Nat → Nat} {P : Nat → Prop} {F : Nat → va_E} {m m' : MS} {av : List Value} {rv : Option Value} (hy : plainName y.cls = true) (own : String) (ho : y.cls = own) (hlen : (lg_sl av).length ≤ maxL)
    (body : ∀ Γ : GX, GOK Γ own cc maxL ret (mQ D dA b ad P F rv m') (fun q => b ≤ q) rm → GK Γ D dA → WG Γ (MW D dA b ad P F m) 0 0 0 (lv_args 0 av) []) : Met l y (ws_ y cc maxL ret) rm (mP D dA b ad P F av m) (mQ D dA b ad P F rv m') rm.cells rm.slots (fun q => b ≤ q) := by
  subst ho
  refine Met.ofW (cc := cc) (maxL := maxL) (ret := ret) hy rfl ?_
  intro p e s mm args below meth c s₁ B hml hv
  obtain ⟨rfl, hM, hK⟩ := hv
  have hts := atoms_spec (ws := ws_ y cc maxL ret) B.pre
  refine q_entry av hlen (fun ls hl => ?_)
  exact body (p, l, e, rm, s, mm, av.toArray, below, meth, c, MQ below (mQ D dA b ad P F rv m') av.toArray s rm.cells rm.slots (fun q => b ≤ q), (fun q => b ≤ q), maxL) ⟨⟨B.exec, B.bytes, hml, findClass_of_methodNamed B.named, fun w h => hts w (List.mem_cons_of_mem _ h)⟩, rfl, B.returns, B.notSynchronized, rfl, rfl, rfl⟩ hK s.heap [] ls hM va_S.rf hl
theorem qs_met {l : Launch} {y : MethodName} {cc : ByteArray} {maxL : Nat} {ret : Option FieldType} {rm : Room} {av : List Value} {rv : Option Value} (hy : plainName y.cls = true) (own : String) (ho : y.cls = own) (hlen : (lg_sl av).length ≤ maxL)
    (body : ∀ Γ : GX, GOK Γ own cc maxL ret (sQ rv) (fun _ => False) rm → WG Γ (same Γ) 0 0 0 (lv_args 0 av) []) : Met l y (ws_ y cc maxL ret) rm (sP av) (sQ rv) rm.cells rm.slots (fun _ => False) := by
  subst ho
  refine Met.ofW (cc := cc) (maxL := maxL) (ret := ret) hy rfl ?_
  intro p e s mm args below meth c s₁ B hml hv
  cases (show args = av.toArray from hv)
  have hts := atoms_spec (ws := ws_ y cc maxL ret) B.pre
  refine q_entry av hlen (fun ls hl => ?_)
  exact body (p, l, e, rm, s, mm, av.toArray, below, meth, c, MQ below (sQ rv) av.toArray s rm.cells rm.slots (fun _ => False), (fun _ => False), maxL) ⟨⟨B.exec, B.bytes, hml, findClass_of_methodNamed B.named, fun w h => hts w (List.mem_cons_of_mem _ h)⟩, rfl, B.returns, B.notSynchronized, rfl, rfl, rfl⟩ s.heap [] ls rfl va_S.rf hl

/-! rows that lie on shelves -/
/-- a row's place -/
def aR (n : Nat) (f : Nat → Int32) (i : Int32) : Option Int32 := if i < 0 ∨ n ≤ i.toNatClampNeg then none else some (f i.toNatClampNeg)
/-- an array class's name -/
def shNm (s : Nat) : String := if s = 0 then "[B" else if s = 1 then "[S" else "[I"
section XAR
variable {Γ : GX} {own : String} {cc : ByteArray} {nL : Nat} {ret ret' : Option FieldType} {Qc : Array Value → State → Outcome → State → Prop} {A : Nat → Prop} {rm rm' : Room} {D : va_G} {dA : Nat → ClassId}
variable {cells slots pc mc ms : Nat} {lv lv' : List (Nat × Value)} {st st0 : List Value} {b : Nat} {ad : Nat → Nat} {P : Nat → Prop} {F : Nat → va_E} {x x' : XS} {r : Nat} {h h' : HS} {gs : List (Nat × (Nat × Int32))}
theorem xC_arr {x : XS} {d : Nat} (hd : d < 8) {u : Nat × Nat × (Nat → Int32)} (hv : x.2.2.1 d = some (.inr u)) : xC x (70 + d) = true := by
  have e1 : decide (70 ≤ 70 + d) = true := by simp
  have e2 : decide (70 + d < 78) = true := by simp; omega
  simp only [xC, e1, e2, Nat.add_sub_cancel_left, hv, shIs, Bool.and_true, Bool.or_true, Bool.true_or]
theorem XW.arrc {H : Heap} (hM : XW D dA b ad P F gs x H) {d s n : Nat} {f : Nat → Int32} (hd : d < 8) (hv : x.2.2.1 d = some (.inr (s, n, f))) : ∃ (L : List Nat) (f' : Nat → va_E) (ga : Nat → Nat → Option Nat) (gsh : Nat → Nat) (bf : List Value) (q0 : Nat), va_P D CL (va_pl L f') H ∧ va_D (fun q => b ≤ q) (va_pl L f') ∧ XR dA ad P F gs x ga gsh bf L f' ∧ ad (70 + d) ∈ L ∧ (va_pl L f')[q0]? = some (ad (70 + d), f' (ad (70 + d))) ∧ (va_pl L f')[q0]? = some (ad (70 + d), .inl (dA (shTy s), n, .inl f)) := by
  obtain ⟨L, f', ga, gsh, bf, q0, h1, h2, h3, h4, h5, h6⟩ := hM.cell (xC_arr hd hv)
  refine ⟨L, f', ga, gsh, bf, q0, h1, h2, h3, h4, h5, ?_⟩
  rw [h6]
  unfold EX
  rw [if_neg (by omega), if_neg (by omega), if_neg (by omega), if_pos (by omega), Nat.add_sub_cancel_left, hv]
  rfl
theorem XW.arrR {H : Heap} (hM : XW D dA b ad P F gs x H) {d s n : Nat} {f : Nat → Int32} (hd : d < 8) (hs : s < 3) (hv : x.2.2.1 d = some (.inr (s, n, f))) {z : State} (hK : va_K D CL (TYS dA) z) : ∃ cell : Cell, H[ad (70 + d)]? = some cell ∧ cell.vm.isStatics = false ∧ z.vm.findClass (shNm s) = some cell.cls := by
  obtain ⟨L, f', ga, gsh, bf, q0, hP, hD, hR, hin, hq, hq2⟩ := hM.arrc hd hv
  have hc : H[ad (70 + d)]? = some (vp_cell (dA (shTy s)) (n, .inl f)) := hP q0 _ hq2
  refine ⟨_, hc, rfl, ?_⟩
  rcases (by omega : s = 0 ∨ s = 1 ∨ s = 2) with rfl | rfl | rfl
  · exact va_nm_byte (hK.2 3 _ rfl).2
  · exact va_nm_short (hK.2 4 _ rfl).2
  · exact va_nm_int (hK.2 0 _ rfl).2
theorem qX_instA (hΓ : GOK Γ own cc nL ret Qc A rm) (hK : GKX Γ D dA b) {d s n : Nat} {f : Nat → Int32} (hd : d < 8) (hs : s < 3) (hv : x.2.2.1 d = some (.inr (s, n, f))) {index : Nat} (hl : Cond.classLink own index (shNm s) ∈ lw_all) (hdg : decode cc pc = .ok (.instanceof index, 3)) (kk : WG Γ (XW D dA b ad P F gs x) cells slots (pc + 3) lv (.int 1 :: st)) : WG Γ (XW D dA b ad P F gs x) cells slots pc lv (.ref (ad (70 + d)) :: st) := by
  intro H locs ls hw hS hl2
  exact va_instE hΓ.1.1 hΓ.1.2.1 hΓ.1.2.2.2.1 (hΓ.1.2.2.2.2 _ hl) (hw.arrR hd hs hv hK.1) hdg (kk H locs ls hw hS hl2)
theorem qX_instAn (hΓ : GOK Γ own cc nL ret Qc A rm) (hK : GKX Γ D dA b) {d s n : Nat} {f : Nat → Int32} (hd : d < 8) (hs : s < 3) (hv : x.2.2.1 d = some (.inr (s, n, f))) {index : Nat} {nm : String} (hn : (shNm s, nm) ∈ xnX) (hl : Cond.classLink own index nm ∈ lw_all) (hdg : decode cc pc = .ok (.instanceof index, 3)) (kk : WG Γ (XW D dA b ad P F gs x) cells slots (pc + 3) lv (.int 0 :: st)) : WG Γ (XW D dA b ad P F gs x) cells slots pc lv (.ref (ad (70 + d)) :: st) := by
  intro H locs ls hw hS hl2
  exact va_instNo hΓ.1.1 hΓ.1.2.1 hΓ.1.2.2.2.1 (hΓ.1.2.2.2.2 _ hl) (hK.2.1.2.2.1 _ hn) (hw.arrR hd hs hv hK.1) hdg (kk H locs ls hw hS hl2)
theorem qX_castA (hΓ : GOK Γ own cc nL ret Qc A rm) (hK : GKX Γ D dA b) {d s n : Nat} {f : Nat → Int32} (hd : d < 8) (hs : s < 3) (hv : x.2.2.1 d = some (.inr (s, n, f))) {index : Nat} (hl : Cond.classLink own index (shNm s) ∈ lw_all) (hdg : decode cc pc = .ok (.checkcast index, 3)) (kk : WG Γ (XW D dA b ad P F gs x) cells slots (pc + 3) lv (.ref (ad (70 + d)) :: st)) : WG Γ (XW D dA b ad P F gs x) cells slots pc lv (.ref (ad (70 + d)) :: st) := by
  intro H locs ls hw hS hl2
  exact va_castE hΓ.1.1 hΓ.1.2.1 hΓ.1.2.2.2.1 (hΓ.1.2.2.2.2 _ hl) (hw.arrR hd hs hv hK.1) hdg (kk H locs ls hw hS hl2)
theorem qX_alen (hΓ : GOK Γ own cc nL ret Qc A rm) (hK : GKX Γ D dA b) {d s n : Nat} {f : Nat → Int32} (hd : d < 8) (hs : s < 3) (hv : x.2.2.1 d = some (.inr (s, n, f))) (hdg : decode cc pc = .ok (.arraylength, 1)) (kk : WG Γ (XW D dA b ad P F gs x) cells slots (pc + 1) lv (.int (Int32.ofNat n) :: st)) : WG Γ (XW D dA b ad P F gs x) cells slots pc lv (.ref (ad (70 + d)) :: st) := by
  intro H locs ls hw hS hl2
  obtain ⟨L, f', ga, gsh, bf, q0, hP, hD, hR, hin, hq, hq2⟩ := hw.arrc hd hv
  rcases (by omega : s = 0 ∨ s = 1 ∨ s = 2) with rfl | rfl | rfl
  · exact va_alen hΓ.1.1 hΓ.1.2.1 hK.1 hP q0 3 hq2 rfl rfl hdg (kk H locs ls hw hS hl2)
  · exact va_alen hΓ.1.1 hΓ.1.2.1 hK.1 hP q0 4 hq2 rfl rfl hdg (kk H locs ls hw hS hl2)
  · exact va_alen hΓ.1.1 hΓ.1.2.1 hK.1 hP q0 0 hq2 rfl rfl hdg (kk H locs ls hw hS hl2)
theorem aR_in {n : Nat} {f : Nat → Int32} {i v : Int32} (h : aR n f i = some v) : vp_in i n ∧ v = f i.toNatClampNeg := by
  unfold aR at h
  split at h
  next => cases h
  next hi => cases h; exact ⟨hi, rfl⟩
theorem qX_bald (hΓ : GOK Γ own cc nL ret Qc A rm) (hK : GKX Γ D dA b) {d n : Nat} {f : Nat → Int32} (hd : d < 8) (hv : x.2.2.1 d = some (.inr (0, n, f))) {i v : Int32} (hx : aR n f i = some v) (hdg : decode cc pc = .ok (.baload, 1)) (kk : WG Γ (XW D dA b ad P F gs x) cells slots (pc + 1) lv (.int v :: st)) : WG Γ (XW D dA b ad P F gs x) cells slots pc lv (.int i :: .ref (ad (70 + d)) :: st) := by
  intro H locs ls hw hS hl2
  obtain ⟨L, f', ga, gsh, bf, q0, hP, hD, hR, hin, hq, hq2⟩ := hw.arrc hd hv
  obtain ⟨hi, rfl⟩ := aR_in hx
  exact va_bald hΓ.1.1 hΓ.1.2.1 hK.1 hP q0 3 hq2 rfl hi hdg (kk H locs ls hw hS hl2)
theorem qX_sald2 (hΓ : GOK Γ own cc nL ret Qc A rm) (hK : GKX Γ D dA b) {d n : Nat} {f : Nat → Int32} (hd : d < 8) (hv : x.2.2.1 d = some (.inr (1, n, f))) {i v : Int32} (hx : aR n f i = some v) (hdg : decode cc pc = .ok (.saload, 1)) (kk : WG Γ (XW D dA b ad P F gs x) cells slots (pc + 1) lv (.int v :: st)) : WG Γ (XW D dA b ad P F gs x) cells slots pc lv (.int i :: .ref (ad (70 + d)) :: st) := by
  intro H locs ls hw hS hl2
  obtain ⟨L, f', ga, gsh, bf, q0, hP, hD, hR, hin, hq, hq2⟩ := hw.arrc hd hv
  obtain ⟨hi, rfl⟩ := aR_in hx
  exact va_sald hΓ.1.1 hΓ.1.2.1 hK.1 hP q0 4 hq2 rfl hi hdg (kk H locs ls hw hS hl2)
theorem qX_iald2 (hΓ : GOK Γ own cc nL ret Qc A rm) (hK : GKX Γ D dA b) {d n : Nat} {f : Nat → Int32} (hd : d < 8) (hv : x.2.2.1 d = some (.inr (2, n, f))) {i v : Int32} (hx : aR n f i = some v) (hdg : decode cc pc = .ok (.iaload, 1)) (kk : WG Γ (XW D dA b ad P F gs x) cells slots (pc + 1) lv (.int v :: st)) : WG Γ (XW D dA b ad P F gs x) cells slots pc lv (.int i :: .ref (ad (70 + d)) :: st) := by
  intro H locs ls hw hS hl2
  obtain ⟨L, f', ga, gsh, bf, q0, hP, hD, hR, hin, hq, hq2⟩ := hw.arrc hd hv
  obtain ⟨hi, rfl⟩ := aR_in hx
  exact va_iald hΓ.1.1 hΓ.1.2.1 hK.1 hP q0 0 hq2 rfl hi hdg (kk H locs ls hw hS hl2)
/-- a static method that reads the world -/
theorem qX_callS {y : MethodName} {bytes : ByteArray} {maxL idx : Nat} {As : List Value} {rv : Option Value} (hΓ : GOK Γ own cc nL ret Qc (fun q => b ≤ q) rm) (hK : GKX Γ D dA b) (n : Nat) (hMet : Met Γ.2.1 y (ws_ y bytes maxL ret') rm' (xP D dA b ad P F gs As x) (xQ D dA b ad P F gs rv x') mc ms (fun q => b ≤ q)) (hG : GoodIn lw_all (va_wsS own idx y (ws_ y bytes maxL ret')))
    (hd : y.cls ≠ "java/lang/invoke/MethodHandle" ∧ y.cls ≠ "java/lang/invoke/VarHandle" ∧ (parseMethodDescriptor y.desc).map (fun d => d.parameters.length) = some n) (hR : (rm'.cells = mc ∧ rm'.slots = ms) ∧ (rm'.frames + 1 ≤ rm.frames ∧ 8 + (maxL + 11) + rm'.locals ≤ rm.locals)) (hcs : cells + mc ≤ rm.cells ∧ slots + ms ≤ rm.slots) (hn : As.length = n) (hs0 : As.reverse ++ st = st0) (hW : (st.map fun v => v.category).sum ≤ 8) (hdg : decode cc pc = .ok (.invokestatic idx, 3))
    (kk : WG Γ (XW D dA b ad P F gs x') (cells + mc) (slots + ms) (pc + 3) lv (rv.toList ++ st)) : WG Γ (XW D dA b ad P F gs x) cells slots pc lv st0 := by
  intro H locs ls hw hS hl2
  exact qx_run (va_runS (As := As) (rest := st) hΓ.1 hMet (va_cwS n hΓ.1.2.2.2.2 hG rfl hR.1.1 hR.1.2 hd (by rw [hΓ.2.2.2.2.2.1]; exact hR.2)) ⟨xP_blind, fun U hU hWm => ⟨rfl, by rw [hU]; exact hw, va_K.moved hWm.alike hK.1, hK.2.1.warm hWm, by rw [hU]; exact Nat.le_trans hK.2.2 hS.1⟩⟩ rfl hn (by rw [hl2.1, hΓ.2.1]) hs0.symm (lv_room hW) hdg (by rw [hΓ.2.2.2.2.2.1]; exact hcs)) (gSto hΓ hS) (fun H locs hw hS => kk H locs ls hw (gSof hΓ hS) hl2)
/-- a method of the class itself -/
theorem qX_callV {y : MethodName} {bytes : ByteArray} {maxL idx : Nat} {As : List Value} {rv : Option Value} (hΓ : GOK Γ own cc nL ret Qc (fun q => b ≤ q) rm) (hK : GKX Γ D dA b) (n : Nat) (hMet : Met Γ.2.1 y (ws_ y bytes maxL ret') rm' (xP D dA b ad P F gs (.ref (ad 0) :: As) x) (xQ D dA b ad P F gs rv x') mc ms (fun q => b ≤ q)) (hG : GoodIn lw_all (wsV own idx RX1 y (ws_ y bytes maxL ret')))
    (hd : y.cls = RX1 ∧ y.cls ≠ "java/lang/invoke/MethodHandle" ∧ y.cls ≠ "java/lang/invoke/VarHandle" ∧ (parseMethodDescriptor y.desc).map (fun d => d.parameters.length) = some n) (hR : (rm'.cells = mc ∧ rm'.slots = ms) ∧ (rm'.frames + 1 ≤ rm.frames ∧ 8 + (maxL + 11) + rm'.locals ≤ rm.locals)) (hcs : cells + mc ≤ rm.cells ∧ slots + ms ≤ rm.slots) (hn : As.length = n) (hs0 : As.reverse ++ .ref (ad 0) :: st = st0) (hW : (st.map fun v => v.category).sum ≤ 8) (hdg : decode cc pc = .ok (.invokevirtual idx, 3))
    (kk : WG Γ (XW D dA b ad P F gs x') (cells + mc) (slots + ms) (pc + 3) lv (rv.toList ++ st)) : WG Γ (XW D dA b ad P F gs x) cells slots pc lv st0 := by
  intro H locs ls hw hS hl2
  obtain ⟨L, f, ga, gsh, bf, q0, hP, hD, hRr, hin, hq, hq2⟩ := hw.xobj
  exact qx_run (va_runV (As := As) (rest := st) hΓ.1 hMet (cwV n hΓ.1.2.2.2.2 hG rfl hR.1.1 hR.1.2 hd (by rw [hΓ.2.2.2.2.2.1]; exact hR.2)) ⟨xP_blind, va_recv hK.1 hP (ci := 2) rfl hq2, fun U hU hWm => ⟨rfl, by rw [hU]; exact hw, va_K.moved hWm.alike hK.1, hK.2.1.warm hWm, by rw [hU]; exact Nat.le_trans hK.2.2 hS.1⟩⟩ rfl hn (by rw [hl2.1, hΓ.2.1]) hs0.symm (lv_room hW) hdg (by rw [hΓ.2.2.2.2.2.1]; exact hcs)) (gSto hΓ hS) (fun H locs hw hS => kk H locs ls hw (gSof hΓ hS) hl2)
/-- a house's method, called from the class: one of the four -/
theorem qX_callH {y : MethodName} {bytes : ByteArray} {maxL idx : Nat} {As : List Value} {rv : Option Value} (hΓ : GOK Γ own cc nL ret Qc (fun q => b ≤ q) rm) (hK : GKX Γ D dA b) (hr : r < 4) (n : Nat) (hMet : Met Γ.2.1 y (ws_ y bytes maxL ret') rm' (xP D dA b ad P F gs (.ref (ad (hB r 22)) :: As) (xh x r (x.1 r))) (xQ D dA b ad P F gs rv x') mc ms (fun q => b ≤ q)) (hG : GoodIn lw_all (wsV own idx RX2 y (ws_ y bytes maxL ret')))
    (hd : y.cls = RX2 ∧ y.cls ≠ "java/lang/invoke/MethodHandle" ∧ y.cls ≠ "java/lang/invoke/VarHandle" ∧ (parseMethodDescriptor y.desc).map (fun d => d.parameters.length) = some n) (hR : (rm'.cells = mc ∧ rm'.slots = ms) ∧ (rm'.frames + 1 ≤ rm.frames ∧ 8 + (maxL + 11) + rm'.locals ≤ rm.locals)) (hcs : cells + mc ≤ rm.cells ∧ slots + ms ≤ rm.slots) (hn : As.length = n) (hs0 : As.reverse ++ .ref (ad (hB r 22)) :: st = st0) (hW : (st.map fun v => v.category).sum ≤ 8) (hdg : decode cc pc = .ok (.invokevirtual idx, 3))
    (kk : WG Γ (XW D dA b ad P F gs x') (cells + mc) (slots + ms) (pc + 3) lv (rv.toList ++ st)) : WG Γ (XW D dA b ad P F gs x) cells slots pc lv st0 := by
  rw [xh_self] at hMet
  exact qx_callH hΓ hK hr n hMet hG hd hR hcs hn hs0 hW hdg kk
end XAR

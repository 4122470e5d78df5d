/-! constructors: the object under construction stands behind what was there; what it makes stands behind it -/
def IW (D : va_G) (b : Nat) (ws : va_W) (a ci : Nat) (fs : List Value) (arrs : va_W) (H : Heap) : Prop := va_P D CL (ws ++ (a, .inr (ci, fs)) :: arrs) H ∧ va_D (fun q => b ≤ q) (ws ++ (a, .inr (ci, fs)) :: arrs)
theorem IW.at {D : va_G} {b : Nat} {ws : va_W} {a ci : Nat} {fs : List Value} {arrs : va_W} : (ws ++ (a, (Sum.inr (ci, fs) : va_E)) :: arrs)[ws.length]? = some (a, .inr (ci, fs)) := by
  rw [List.getElem?_append_right (Nat.le_refl _), Nat.sub_self]
  rfl
theorem IW.set {ws : va_W} {a ci : Nat} {fs : List Value} {arrs : va_W} {e : Nat × va_E} : (ws ++ (a, (Sum.inr (ci, fs) : va_E)) :: arrs).set ws.length e = ws ++ e :: arrs := by
  rw [List.set_append_right _ _ (Nat.le_refl _), Nat.sub_self]
  rfl
/-- an array class's id, by its name -/
theorem ra_eq {s : State} {c c' : ClassId} {ty : FieldType} (h : va_RA s c ty) (h' : va_RA s c' ty) : c = c' := by
  cases ty with
  | object C =>
    obtain ⟨_, _, _, _, _, h1⟩ := h
    obtain ⟨_, _, _, _, _, h2⟩ := h'
    exact Option.some.inj (h1.symm.trans h2)
  | _ => exact Option.some.inj ((show s.vm.findClass _ = some c from h).symm.trans h')
section INI
variable {Γ : GX} {own : String} {cc : ByteArray} {nL : Nat} {ret ret' : Option FieldType} {Qc : Array Value → State → Outcome → State → Prop} {A : Nat → Prop} {rm rm' : Room} {D : va_G} {dA : Nat → ClassId}
variable {cells slots pc mc ms : Nat} {lv lv' : List (Nat × Value)} {st st0 : List Value} {b : Nat} {ws : va_W} {a ci : Nat} {fs : List Value} {arrs : va_W}
theorem qi_newa {atype : ArrayType} {ty : FieldType} (hΓ : GOK Γ own cc nL ret Qc (fun q => b ≤ q) rm) (hK : GKX Γ D dA b) (harr : Cond.arrayClass (newarray.typeOf atype) ∈ lw_all) (hty : newarray.typeOf atype = ty) (t : Nat) (ht : (TYS dA)[t]? = some (dA t, ty)) {a0 : vp_A} {n : Int32} {N : Nat} (ha : ∀ cA : ClassId, vp_cell cA a0 = arrV cA N (fun _ => defaultValue ty)) (hn : ¬ n < 0) (hN : n.toNatClampNeg = N) (hbytes : N * componentBytes ty ≤ 536870912) (hcs : cells + 1 ≤ rm.cells ∧ slots + N ≤ rm.slots) (hdg : decode cc pc = .ok (.newarray atype, 2))
    (kk : ∀ q : Nat, WG Γ (IW D b ws a ci fs (arrs ++ [(q, .inl (dA t, a0))])) (cells + 1) (slots + N) (pc + 2) lv (.ref q :: st)) : WG Γ (IW D b ws a ci fs arrs) cells slots pc lv (.int n :: st) := by
  intro H locs ls hw hS hl2
  refine va_newa hΓ.1.1 hΓ.1.2.1 (hΓ.1.2.2.2.2 _ harr) hty hK.1 hw.1 hw.2 (gSto hΓ hS) (fun q hq => Nat.le_trans hK.2.2 hq) ha hn hN hbytes (by rw [hΓ.2.2.2.2.2.1]; exact hcs.1) (by rw [hΓ.2.2.2.2.2.1]; exact hcs.2) hdg (fun q cA H1 hK1 hP1 hD1 hS1 => ?_)
  have e : cA = dA t := ra_eq (hK1.2 8 (cA, ty) rfl).2 (hK.1.2 t _ ht).2
  subst e
  rw [List.append_assoc, List.cons_append] at hP1 hD1
  exact kk q H1 locs ls ⟨hP1, hD1⟩ (gSof hΓ hS1) hl2
theorem qi_newq {C : String} {index : Nat} (hΓ : GOK Γ own cc nL ret Qc (fun q => b ≤ q) rm) (hK : GKX Γ D dA b) (hcl : Cond.classLink own index C ∈ lw_all) (hao : va_AO C Γ.2.2.2.2.1) (t : Nat) (ht : (TYS dA)[t]? = some (dA t, .object C)) {n : Int32} {N : Nat} (hn : ¬ n < 0) (hN : n.toNatClampNeg = N) (hbytes : N * 4 ≤ 536870912) (hcs : cells + 1 ≤ rm.cells ∧ slots + N ≤ rm.slots) (hdg : decode cc pc = .ok (.anewarray index, 3))
    (kk : ∀ q : Nat, WG Γ (IW D b ws a ci fs (arrs ++ [(q, .inl (dA t, N, .inr (.inr (.inr (.inr (fun _ => none))))))])) (cells + 1) (slots + N) (pc + 3) lv (.ref q :: st)) : WG Γ (IW D b ws a ci fs arrs) cells slots pc lv (.int n :: st) := by
  intro H locs ls hw hS hl2
  refine va_newq hΓ.1.1 hΓ.1.2.1 hΓ.1.2.2.2.1 (hΓ.1.2.2.2.2 _ hcl) hao hK.1 hw.1 hw.2 (gSto hΓ hS) (fun q hq => Nat.le_trans hK.2.2 hq) hn hN hbytes (by rw [hΓ.2.2.2.2.2.1]; exact hcs.1) (by rw [hΓ.2.2.2.2.2.1]; exact hcs.2) hdg (fun q cA H1 hK1 hP1 hD1 hS1 => ?_)
  have e : cA = dA t := ra_eq (hK1.2 8 (cA, .object C) rfl).2 (hK.1.2 t _ ht).2
  subst e
  rw [List.append_assoc, List.cons_append] at hP1 hD1
  exact kk q H1 locs ls ⟨hP1, hD1⟩ (gSof hΓ hS1) hl2
theorem qi_putF {C : String} {T : u_T} {N index : Nat} (hΓ : GOK Γ C cc nL ret Qc (fun q => b ≤ q) rm) (hK : GKX Γ D dA b) (hin : ∀ w ∈ u_ws C T N, w ∈ lw_all) (ty0 : Nat → FieldType) (hty : ∀ k, k < N → parseFieldDescriptor (T k).2.2.1 = some (ty0 k)) (hnm : ∀ a, a < N → ∀ b, b < N → a ≠ b → (T a).2.1 ≠ (T b).2.1) (hc : CL[ci]? = some (C, T, N)) (hme : Γ.2.2.2.2.2.2.2.2.1.name = "<init>") (k : Nat) (hk : k < N) {v : Value} (hT1 : (T k).1 = C) (hl : Cond.fieldLink C index C (T k).2.1 (T k).2.2.1 ∈ lw_all) (hfin : (T k).2.2.2 = true) (hn : narrow (ty0 k) v = v) (hft : fits (ty0 k) v = true) (hlen : k < fs.length) (hdg : decode cc pc = .ok (.putfield index, 3))
    (kk : WG Γ (IW D b ws a ci (fs.set k v) arrs) cells slots (pc + 3) lv st) : WG Γ (IW D b ws a ci fs arrs) cells slots pc lv (v :: .ref a :: st) := by
  intro H locs ls hw hS hl2
  have hts := hΓ.1.2.2.2.2
  refine va_putF hΓ.1.1 hΓ.1.2.1 hts hin ty0 hty hnm hΓ.1.2.2.2.1 hK.1 hw.1 hw.2 (gSto hΓ hS) ws.length (IW.at (D := D) (b := b)) hc k hk (hts _ hl) (fun x h => by rw [hT1] at h; exact h) hfin hme hT1 (hty k hk) hn hft hlen hdg (fun H1 locs1 hP1 hD1 hS1 => ?_)
  rw [IW.set] at hP1 hD1
  exact kk H1 locs1 ls ⟨hP1, hD1⟩ (gSof hΓ hS1) hl2
theorem qi_put {C : String} {T : u_T} {N index : Nat} (hΓ : GOK Γ C cc nL ret Qc (fun q => b ≤ q) rm) (hK : GKX Γ D dA b) (hin : ∀ w ∈ u_ws C T N, w ∈ lw_all) (ty0 : Nat → FieldType) (hty : ∀ k, k < N → parseFieldDescriptor (T k).2.2.1 = some (ty0 k)) (hnm : ∀ a, a < N → ∀ b, b < N → a ≠ b → (T a).2.1 ≠ (T b).2.1) (hc : CL[ci]? = some (C, T, N)) (k : Nat) (hk : k < N) {v : Value} (hT1 : (T k).1 = C) (hl : Cond.fieldLink C index C (T k).2.1 (T k).2.2.1 ∈ lw_all) (hfin : (T k).2.2.2 = false) (hn : narrow (ty0 k) v = v) (hft : fits (ty0 k) v = true) (hlen : k < fs.length) (hdg : decode cc pc = .ok (.putfield index, 3))
    (kk : WG Γ (IW D b ws a ci (fs.set k v) arrs) cells slots (pc + 3) lv st) : WG Γ (IW D b ws a ci fs arrs) cells slots pc lv (v :: .ref a :: st) := by
  intro H locs ls hw hS hl2
  have hts := hΓ.1.2.2.2.2
  refine va_put hΓ.1.1 hΓ.1.2.1 hts hin ty0 hty hnm hΓ.1.2.2.2.1 hK.1 hw.1 hw.2 (gSto hΓ hS) ws.length (IW.at (D := D) (b := b)) hc k hk (hts _ hl) (fun x h => by rw [hT1] at h; exact h) hfin (hty k hk) hn hft hlen hdg (fun H1 locs1 hP1 hD1 hS1 => ?_)
  rw [IW.set] at hP1 hD1
  exact kk H1 locs1 ls ⟨hP1, hD1⟩ (gSof hΓ hS1) hl2
/-- the same rows with what stands behind them written out -/
theorem qi_newaI (hΓ : GOK Γ own cc nL ret Qc (fun q => b ≤ q) rm) (hK : GKX Γ D dA b) {arrs' : Nat → va_W} {n : Int32} {N : Nat} (hn : ¬ n < 0) (hN : n.toNatClampNeg = N) (hbytes : N * 4 ≤ 536870912) (hcs : cells + 1 ≤ rm.cells ∧ slots + N ≤ rm.slots) {c2 s2 : Nat} (hc2 : cells + 1 = c2) (hs2 : slots + N = s2) (ha : ∀ q, arrs ++ [(q, .inl (dA 0, N, .inl (fun _ => 0)))] = arrs' q) (hdg : decode cc pc = .ok (.newarray .int, 2))
    (kk : ∀ q : Nat, WG Γ (IW D b ws a ci fs (arrs' q)) c2 s2 (pc + 2) lv (.ref q :: st)) : WG Γ (IW D b ws a ci fs arrs) cells slots pc lv (.int n :: st) := by
  subst hc2; subst hs2
  exact qi_newa hΓ hK q133 rfl 0 rfl (a0 := (N, .inl (fun _ => 0))) (fun cA => rfl) hn hN hbytes hcs hdg (fun q => by rw [ha q]; exact kk q)
theorem qi_newaZ (hΓ : GOK Γ own cc nL ret Qc (fun q => b ≤ q) rm) (hK : GKX Γ D dA b) {arrs' : Nat → va_W} {n : Int32} {N : Nat} (hn : ¬ n < 0) (hN : n.toNatClampNeg = N) (hbytes : N * 1 ≤ 536870912) (hcs : cells + 1 ≤ rm.cells ∧ slots + N ≤ rm.slots) {c2 s2 : Nat} (hc2 : cells + 1 = c2) (hs2 : slots + N = s2) (ha : ∀ q, arrs ++ [(q, .inl (dA 2, N, .inl (fun _ => 0)))] = arrs' q) (hdg : decode cc pc = .ok (.newarray .boolean, 2))
    (kk : ∀ q : Nat, WG Γ (IW D b ws a ci fs (arrs' q)) c2 s2 (pc + 2) lv (.ref q :: st)) : WG Γ (IW D b ws a ci fs arrs) cells slots pc lv (.int n :: st) := by
  subst hc2; subst hs2
  exact qi_newa hΓ hK q800 rfl 2 rfl (a0 := (N, .inl (fun _ => 0))) (fun cA => rfl) hn hN hbytes hcs hdg (fun q => by rw [ha q]; exact kk q)
theorem qi_newaJ (hΓ : GOK Γ own cc nL ret Qc (fun q => b ≤ q) rm) (hK : GKX Γ D dA b) {arrs' : Nat → va_W} {n : Int32} {N : Nat} (hn : ¬ n < 0) (hN : n.toNatClampNeg = N) (hbytes : N * 8 ≤ 536870912) (hcs : cells + 1 ≤ rm.cells ∧ slots + N ≤ rm.slots) {c2 s2 : Nat} (hc2 : cells + 1 = c2) (hs2 : slots + N = s2) (ha : ∀ q, arrs ++ [(q, .inl (dA 1, N, .inr (.inl (fun _ => 0))))] = arrs' q) (hdg : decode cc pc = .ok (.newarray .long, 2))
    (kk : ∀ q : Nat, WG Γ (IW D b ws a ci fs (arrs' q)) c2 s2 (pc + 2) lv (.ref q :: st)) : WG Γ (IW D b ws a ci fs arrs) cells slots pc lv (.int n :: st) := by
  subst hc2; subst hs2
  exact qi_newa hΓ hK q1211 rfl 1 rfl (a0 := (N, .inr (.inl (fun _ => 0)))) (fun cA => rfl) hn hN hbytes hcs hdg (fun q => by rw [ha q]; exact kk q)
theorem g_ieq {fs' : List Value} (h : fs = fs') (kk : WG Γ (IW D b ws a ci fs' arrs) cells slots pc lv st) : WG Γ (IW D b ws a ci fs arrs) cells slots pc lv st := by rw [h]; exact kk
theorem g_iaq {arrs' : va_W} {c2 s2 : Nat} (h : arrs = arrs') (hc : cells = c2) (hs : slots = s2) (kk : WG Γ (IW D b ws a ci fs arrs') c2 s2 pc lv st) : WG Γ (IW D b ws a ci fs arrs) cells slots pc lv st := by rw [h, hc, hs]; exact kk
end INI
/-! contracts of constructors -/
def iP (D : va_G) (dA : Nat → ClassId) (b : Nat) (ws : va_W) (a ci : Nat) (fs : List Value) : Array Value → State → Prop := fun v U => v = #[.ref a] ∧ IW D b ws a ci fs [] U.heap ∧ XK D dA b U
def iQ (D : va_G) (b : Nat) (ws : va_W) (a ci : Nat) (R : List Value → va_W → Prop) : Array Value → State → Outcome → State → Prop := fun _ st o t => o = .returned none ∧ (∃ fs arrs, R fs arrs ∧ IW D b ws a ci fs arrs t.heap) ∧ va_F (fun q => b ≤ q) st t
theorem iP_blind {D : va_G} {dA : Nat → ClassId} {b : Nat} {ws : va_W} {a ci : Nat} {fs : List Value} : FrameBlind (iP D dA b ws a ci fs) := fun z U j mk q => by
  obtain ⟨q0, q1, q2, q3, q4⟩ := q
  exact ⟨q0, q1, va_K.moved (u := U) (U := U.calling j mk z) (Vm.Alike.refl U.vm) q2, XN.same (s := U) (U := U.calling j mk z) rfl q3, q4⟩
theorem qi_met {l : Launch} {y : MethodName} {cc : ByteArray} {maxL : Nat} {rm : Room} {D : va_G} {dA : Nat → ClassId} {b : Nat} {ws : va_W} {a ci : Nat} {fs : List Value} {R : List Value → va_W → Prop} (hy : plainName y.cls = true) (own : String) (ho : y.cls = own) (hlen : 1 ≤ maxL)
    (body : ∀ Γ : GX, GOK Γ own cc maxL none (iQ D b ws a ci R) (fun q => b ≤ q) rm → GKX Γ D dA b → (y.name = "<init>" → Γ.2.2.2.2.2.2.2.2.1.name = "<init>") → WG Γ (IW D b ws a ci fs []) 0 0 0 [(0, .ref a)] []) : Met l y (ws_ y cc maxL none) rm (iP D dA b ws a ci fs) (iQ D b ws a ci R) rm.cells rm.slots (fun q => b ≤ q) := by
  subst ho
  refine Met.ofW (cc := cc) (maxL := maxL) (ret := none) hy rfl ?_
  intro p e s mm args below meth c s₁ B hml hv
  obtain ⟨rfl, hM, hK⟩ := hv
  have hts := atoms_spec (ws := ws_ y cc maxL none) B.pre
  refine q_entry [.ref a] hlen (fun ls hl => ?_)
  exact body (p, l, e, rm, s, mm, #[.ref a], below, meth, c, MQ below (iQ D b ws a ci R) #[.ref a] s rm.cells rm.slots (fun q => b ≤ q), (fun q => b ≤ q), maxL) ⟨⟨B.exec, B.bytes, hml, findClass_of_methodNamed B.named, fun w h => hts w (List.mem_cons_of_mem _ h)⟩, rfl, B.returns, B.notSynchronized, rfl, rfl, rfl⟩ hK (fun h => (name_of_methodNamed B.named B.method).1.trans h) s.heap [] ls hM va_S.rf hl
theorem qi_vret {Γ : GX} {own : String} {cc : ByteArray} {nL : Nat} {rm : Room} {D : va_G} {pc : Nat} {lv : List (Nat × Value)} {b : Nat} {ws : va_W} {a ci : Nat} {fs : List Value} {arrs : va_W} {R : List Value → va_W → Prop} (hΓ : GOK Γ own cc nL none (iQ D b ws a ci R) (fun q => b ≤ q) rm) (hR : R fs arrs) (hdg : decode cc pc = .ok (.return_, 1)) : WG Γ (IW D b ws a ci fs arrs) rm.cells rm.slots pc lv [] := by
  intro H locs ls hw hS hl2
  rw [hΓ.2.2.2.2.2.2]
  exact W.vret hΓ.1.1 hΓ.1.2.1 hΓ.2.2.1 (fun t ht _ => ⟨rfl, ⟨fs, arrs, hR, by rw [ht]; exact hw⟩, (gSto hΓ hS).F ht⟩) (gSto hΓ hS).2.2 hdg hΓ.2.2.2.1

/-! calls that end at an interface's default method: own proofs -/
/-- more numbers than places -/
theorem pigeon : ∀ (N : Nat) (f : Nat → Nat), (∀ k, k ≤ N → f k < N) → ∃ i j, i < j ∧ j ≤ N ∧ f i = f j := by
  intro N
  induction N with
  | zero => intro f h; exact absurd (h 0 (Nat.le_refl 0)) (Nat.not_lt_zero _)
  | succ N ih =>
    intro f h
    by_cases q : ∃ k, k ≤ N ∧ f k = f (N + 1)
    · obtain ⟨k, hk, e⟩ := q
      exact ⟨k, N + 1, by omega, Nat.le_refl _, e⟩
    · have q : ∀ k, k ≤ N → f k ≠ f (N + 1) := fun k hk e => q ⟨k, hk, e⟩
      have hv := h (N + 1) (Nat.le_refl _)
      obtain ⟨i, j, h1, h2, h3⟩ := ih (fun k => if f k = N then f (N + 1) else f k) (fun k hk => by
        have a := h k (by omega)
        have b := q k hk
        show (if f k = N then f (N + 1) else f k) < N
        split
        · rename_i e; rw [e] at b; omega
        · omega)
      have h3 : (if f i = N then f (N + 1) else f i) = (if f j = N then f (N + 1) else f j) := h3
      refine ⟨i, j, h1, by omega, ?_⟩
      have qi := q i (by omega)
      have qj := q j h2
      split at h3 <;> split at h3
      · rename_i a b; rw [a, b]
      · exact absurd h3.symm qj
      · exact absurd h3 qi
      · exact h3
def supIt (vm : Vm) (c : ClassId) : Nat → Option ClassId
  | 0 => some c
  | k + 1 => (supIt vm c k).bind fun p => vm.classes[p]?.bind (·.super)
theorem supIt_cons {vm : Vm} {c q : ClassId} (h : vm.classes[c]?.bind (·.super) = some q) (k : Nat) : supIt vm c (k + 1) = supIt vm q k := by
  induction k with
  | zero => exact h
  | succ k ih => show (supIt vm c (k + 1)).bind _ = _; rw [ih]; rfl
theorem supIt_shift {vm : Vm} {c : ClassId} {i j : Nat} (h : supIt vm c i = supIt vm c j) (t : Nat) : supIt vm c (i + t) = supIt vm c (j + t) := by
  induction t with
  | zero => exact h
  | succ t ih => show (supIt vm c (i + t)).bind _ = (supIt vm c (j + t)).bind _; rw [ih]
theorem supIt_below {vm : Vm} {c p : ClassId} {k j : Nat} (h : supIt vm c k = some p) (hj : j ≤ k) : ∃ q, supIt vm c j = some q := by
  induction k generalizing p with
  | zero => exact ⟨p, by rw [show j = 0 by omega]; exact h⟩
  | succ k ih =>
    by_cases e : j = k + 1
    · exact ⟨p, by rw [e]; exact h⟩
    · cases hq : supIt vm c k with
      | none => rw [show supIt vm c (k + 1) = (supIt vm c k).bind _ from rfl, hq] at h; cases h
      | some q => exact ih hq (by omega)
theorem supAux_mem {vm : Vm} {p : ClassId} : ∀ (n : Nat) (c : ClassId), p ∈ vm.superclassesAux n c → ∃ k, k < n ∧ supIt vm c (k + 1) = some p := by
  intro n
  induction n with
  | zero => intro c h; cases h
  | succ n ih =>
    intro c h
    unfold Vm.superclassesAux at h
    cases hq : vm.classes[c]?.bind (·.super) with
    | none => rw [hq] at h; cases h
    | some q =>
      rw [hq] at h
      rcases List.mem_cons.mp h with e | e
      · exact ⟨0, by omega, by rw [supIt_cons hq, e]; rfl⟩
      · obtain ⟨k, h1, h2⟩ := ih q e
        exact ⟨k + 1, by omega, by rw [supIt_cons hq]; exact h2⟩
theorem lis_none {vm : Vm} {name desc : String} : ∀ (n : Nat) (c : ClassId), lookupInSuperclasses vm name desc n c = none → ∀ k p, k < n → supIt vm c k = some p → ownMethod vm name desc p = none := by
  intro n
  induction n with
  | zero => intro c h k p hk; exact absurd hk (Nat.not_lt_zero _)
  | succ n ih =>
    intro c h k p hk hp
    unfold lookupInSuperclasses at h
    cases hc : vm.classes[c]? with
    | none =>
      cases k with
      | zero => cases hp; simp [ownMethod, hc]
      | succ k =>
        obtain ⟨q, hq⟩ := supIt_below hp (j := 1) (by omega)
        rw [show supIt vm c 1 = vm.classes[c]?.bind (·.super) from rfl, hc] at hq
        cases hq
    | some kc =>
      simp only [hc, Option.bind_eq_bind, Option.bind_some] at h
      cases hf : kc.findMethod name desc with
      | some i => simp [hf] at h
      | none =>
        simp only [hf] at h
        cases k with
        | zero => cases hp; simp [ownMethod, hc, hf]
        | succ k =>
          cases hs : kc.super with
          | none =>
            obtain ⟨q, hq⟩ := supIt_below hp (j := 1) (by omega)
            rw [show supIt vm c 1 = vm.classes[c]?.bind (·.super) from rfl, hc] at hq
            rw [Option.bind_some, hs] at hq
            cases hq
          | some q =>
            simp only [hs, Option.bind_some] at h
            rw [supIt_cons (q := q) (by rw [hc, Option.bind_some, hs])] at hp
            exact ih q h k p (by omega) hp
theorem sis_none {vm : Vm} {mR : MethodId} {name desc : String} : ∀ (n : Nat) (c : ClassId), lookupInSuperclasses vm name desc n c = none → selectInSuperclasses vm mR name desc n c = none := by
  intro n
  induction n with
  | zero => intro c h; rfl
  | succ n ih =>
    intro c h
    unfold lookupInSuperclasses at h
    unfold selectInSuperclasses
    cases hc : vm.classes[c]? with
    | none => rfl
    | some kc =>
      simp only [hc, Option.bind_eq_bind, Option.bind_some] at h ⊢
      cases hf : kc.findMethod name desc with
      | some i => simp [hf] at h
      | none =>
        simp only [hf] at h
        cases hs : kc.super with
        | none => rfl
        | some q =>
          simp only [hs, Option.bind_some] at h
          simpa [hs] using ih q h
/-- a super call that resolution brings to an interface's default -/
theorem lookSpecial_def {vm : Vm} {c : ClassId} {k mk : Class} {name desc : String} {m : MethodId} {meth : Method} (hk : vm.classes[c]? = some k) (hni : k.isInterface = false) (hl : vm.lookupUp c name desc = some m) (hm : vm.method? m = some meth) (hst : meth.isStatic = false) (hnm : meth.name = name ∧ meth.desc = desc) (hnp : meth.isPrivate = false) (hmk : vm.classes[m.cls]? = some mk) (hi : mk.isInterface = true) (hsel : selectMethod {} vm c m = .method m) : lookupSpecial vm c name desc = .method m := by
  cases hL : lookupInSuperclasses vm name desc (vm.classes.size + 1) c with
  | some x => exact lookupSpecial_of_lookupUp hk hni hl (by rw [hL]; rfl) hm hst
  | none =>
    have hsz : ∀ p : ClassId, (∃ q, vm.classes[p]?.bind (·.super) = some q) → p < vm.classes.size := by
      intro p ⟨q, hq⟩
      by_cases e : p < vm.classes.size
      · exact e
      · rw [Array.getElem?_eq_none (Nat.not_lt.mp e)] at hq; cases hq
    have hall : ∀ p ∈ vm.superclasses c, ownMethod vm name desc p = none := by
      intro p hp
      obtain ⟨j, hj, hj2⟩ := supAux_mem _ _ hp
      by_cases e : j + 1 < vm.classes.size + 1
      · exact lis_none _ c hL (j + 1) p e hj2
      · have ej : j = vm.classes.size := by omega
        subst ej
        have hlt : ∀ i, i ≤ vm.classes.size → (supIt vm c i).getD 0 < vm.classes.size := by
          intro i hi'
          obtain ⟨a, ha⟩ := supIt_below hj2 (j := i) (by omega)
          obtain ⟨b, hb⟩ := supIt_below hj2 (j := i + 1) (by omega)
          rw [ha]
          rw [show supIt vm c (i + 1) = (supIt vm c i).bind _ from rfl, ha] at hb
          exact hsz a ⟨b, hb⟩
        obtain ⟨i, i', h1, h2, h3⟩ := pigeon vm.classes.size (fun i => (supIt vm c i).getD 0) hlt
        obtain ⟨a, ha⟩ := supIt_below hj2 (j := i) (by omega)
        obtain ⟨b, hb⟩ := supIt_below hj2 (j := i') (by omega)
        have h3 : (supIt vm c i).getD 0 = (supIt vm c i').getD 0 := h3
        have hab : supIt vm c i = supIt vm c i' := by
          rw [ha, hb] at h3 ⊢
          exact congrArg some h3
        have hsh := supIt_shift hab (vm.classes.size + 1 - i')
        rw [show i' + (vm.classes.size + 1 - i') = vm.classes.size + 1 by omega, hj2] at hsh
        exact lis_none _ c hL _ p (by omega) hsh
    have hown : ownMethod vm name desc c = none := lis_none _ c hL 0 c (by omega) rfl
    have hab : superclassMethods vm c name desc = [] := by
      unfold superclassMethods
      rw [List.filterMap_eq_nil_iff]
      exact hall
    have hsel2 := hsel
    unfold selectMethod at hsel2
    rw [hm] at hsel2
    simp only [hnp, hnm.1, hnm.2, Bool.false_eq_true, if_false, sis_none _ c hL, hmk, Option.any_some, hi, Bool.not_true, Bool.and_false] at hsel2
    unfold lookupSpecial
    have hown2 : (vm.classes[c]?.bind (·.findMethod name desc)).map (fun i => (⟨c, i⟩ : MethodId)) = none := hown
    simp only [hown2, hab, List.filter_nil, Option.toList_none, List.append_nil, List.find?_nil]
    split at hsel2
    · cases hsel2
    · exact hsel2
/-! what stands in the tables doesn't ask what is resolved -/
theorem nearestHeld_bare (vm : Vm) (c : ClassId) (name desc : String) : nearestHeld vm.bare c name desc = nearestHeld vm c name desc := by
  have hd : ∀ k, declaredIn vm.bare name desc k = declaredIn vm name desc k := by
    intro k
    unfold declaredIn
    simp only [Vm.classes_bare, Vm.method?_bare]
    cases vm.classes[k]? <;> rfl
  have ha : ∀ (g : Class → Bool), (∀ k : Class, g k.bare = g k) → ∀ k : ClassId, (vm.bare.classes[k]?).any g = (vm.classes[k]?).any g := by
    intro g hg k
    rw [Vm.classes_bare]
    cases vm.classes[k]? with
    | none => rfl
    | some x => exact hg x
  have hsup : vm.bare.superclasses c = vm.superclasses c := Vm.superclasses_bare vm c
  unfold nearestHeld held
  rw [hsup]
  simp only [hd, superinterfaceMethods_bare, maximallySpecific_bare, Vm.superinterfaces_bare, Vm.method?_bare]
  have e1 := ha (·.isInterface) (fun _ => rfl)
  have e2 := ha (fun x => x.methods.any fun m => !m.isAbstract && !m.isStatic) (fun _ => rfl)
  have e3 : ∀ (g : ClassId → Bool) (k : ClassId), (vm.bare.classes[k]?).any (·.interfaces.any g) = (vm.classes[k]?).any (·.interfaces.any g) := fun g => ha _ (fun _ => rfl)
  simp only [e1, e2, e3]
/-- what stands in c's table for it is that default, or nothing -/
def NearD (vm : Vm) (c : ClassId) (name desc : String) (m : MethodId) : Prop := match nearestHeld vm c name desc with
  | some (_, .default d) => d = m
  | some (_, .thrower _) => False
  | _ => True
/-- a call of y that is itself a default, on an object of the class C, runs y -/
def LDf (C : String) (y : MethodName) (U : State) : Prop := ∃ (c : ClassId) (m : MethodId) (rm : Method) (mk : Class), U.vm.findClass C = some c ∧ U.methodNamed? y = some m ∧ U.vm.method? m = some rm ∧ rm.isPrivate = false ∧ selectMethod {} U.vm c m = .method m ∧ U.vm.classes[m.cls]? = some mk ∧ mk.isInterface = true ∧ NearD U.vm c rm.name rm.desc m
theorem LDf.moved {C : String} {y : MethodName} {u U : State} (hv : u.vm.Alike U.vm) (h : LDf C y u) : LDf C y U := by
  obtain ⟨c, m, rm, mk, h1, h2, h3, h4, h5, h6, h7, h8⟩ := h
  obtain ⟨mk', h6', he⟩ := hv.2.2 _ _ h6
  refine ⟨c, m, rm, mk', by rw [hv.findClass]; exact h1, ?_, by rw [hv.method?]; exact h3, h4, by rw [hv.selectMethod]; exact h5, h6', by rw [he]; exact h7, ?_⟩
  · have e : (u.setVm U.vm).methodNamed? y = u.methodNamed? y := State.methodNamed?_setVm hv y
    rw [h2] at e
    exact e
  · unfold NearD at h8 ⊢
    rw [← nearestHeld_bare U.vm, hv.bare_eq, nearestHeld_bare]
    exact h8
theorem LDf.of {args : Array Value} {s : State} {C : String} {x y : MethodName} (hw : (Cond.landsInDefault C x y).before args s = true) (hsame : (Cond.sameMethod x.cls y.cls x.name x.desc).before args s = true) (hxy : y = ⟨y.cls, x.name, x.desc⟩) : LDf C y s := by
  obtain ⟨cn, ck, r1, hcn, hck, hni, hf, hn1⟩ := Cond.sameMethod_found hsame
  rw [← hxy] at hn1
  simp only [Cond.before, Cond.holds, Cond.value, hf, hn1] at hw
  cases hc : s.vm.findClass C with
  | none => simp [hc] at hw
  | some c =>
    cases hrm : s.vm.method? r1 with
    | none => simp [hc, hrm] at hw
    | some rm =>
      simp only [hc, hrm, Option.map_some, beq_iff_eq, Option.some.injEq] at hw
      split at hw
      next m' hsel =>
        simp only [Bool.and_eq_true, decide_eq_true_eq, Bool.not_eq_true', Option.any_eq_true] at hw
        obtain ⟨⟨⟨⟨e, mk, hmk, hi⟩, hp⟩, -⟩, hnear⟩ := hw
        subst e
        refine ⟨c, m', rm, mk, hc, hn1, hrm, hp, hsel, hmk, hi, ?_⟩
        unfold NearD
        split at hnear
        next k d hd => rw [hd]; exact of_decide_eq_true hnear
        next k b hd => cases hnear
        next h1 h2 =>
          split
          next k d hd => exact absurd hd (h1 k d)
          next k b hd => exact absurd hd (h2 k b)
          next => trivial
      next => cases hw
/-! invokevirtual that ends at a default -/
theorem selV_def {Q : Selection → Pre} {E : CtlPost} {e : Env} {d : Bool} {acts : List Action} {s : State} {c : ClassId} {m : MethodId} {meth : Method} {mk : Class} (hsel : selectMethod e.platform s.vm c m = .method m) (hm : s.vm.method? m = some meth) (hmk : s.vm.classes[m.cls]? = some mk) (hi : mk.isInterface = true) (hn : NearD s.vm c meth.name meth.desc m) : Sem.wp (Op.invokeinterface.selectVirtual c m) Q E e d acts s ↔ Q (.method m) d acts s := by
  have hS := fun {Q' : Selection → Pre} => Op.selectFor_method (Q := Q') (E := E) (e := e) (d := d) (acts := acts) (s := s) hsel hm
  unfold NearD at hn
  by_cases hp : e.platform.privateHidesDefault = true
  · cases hh : nearestHeld s.vm c meth.name meth.desc with
    | none => simp [Op.invokeinterface.selectVirtual, hm, hS, hmk, hi, hp, hh]
    | some kh =>
      rw [hh] at hn
      match kh, hh, hn with
      | (k, .nothing), hh, _ => simp [Op.invokeinterface.selectVirtual, hm, hS, hmk, hi, hp, hh]
      | (k, .default d'), hh, hn =>
        have hn : d' = m := hn
        subst hn
        simp [Op.invokeinterface.selectVirtual, hm, hS, hmk, hi, hp, hh]
      | (k, .thrower b), hh, hn => exact absurd hn id
  · simp [Op.invokeinterface.selectVirtual, hm, hS, hmk, hi, hp]
section VDF
variable {p : Program} {l : Launch} {e : Env} {R : Room} {s : State} {m : MethodId} {args : Array Value} {below : List Frame} {meth : Method} {c : Code}
theorem wp_defl {Q : Unit → Pre} {E : CtlPost} {e : Env} {d : Bool} {acts : List Action} {s : State} {f : JFrame} {index a : Nat} {m : MethodId} {c' : ClassId} {k k' : Class} {meth : Method} {args rest : List Value} {cell : Cell}
    (hs : s.topJava?.isSome) (hnamed : Op.namesResolved s.vm f.method.cls index c') (hk' : s.vm.classes[c']? = some k') (hclass : k'.isInterface = false)
    (hr : s.vm.methodReady f.method.cls index m) (hk : s.vm.classes[m.cls]? = some k) (hm : s.vm.method? m = some meth) (hpoly : signaturePolymorphic k meth = false)
    (hstatic : meth.isStatic = false) (hlen : args.length = meth.sig.parameters.length) (hstack : f.stack = args.reverse ++ .ref a :: rest)
    (hcell : s.heap[a]? = some cell) (hobj : ∀ c, cell.vm ≠ .statics c)
    (hsel : selectMethod e.platform s.vm cell.cls m = .method m) (habs : meth.isAbstract = false) (hi : k.isInterface = true) (hn : NearD s.vm cell.cls meth.name meth.desc m) :
    Sem.wp (Op.invokevirtual.sem index) Q E e d acts (s.setTop f) ↔ E (.invoke m (.ref a :: args).toArray) acts (s.setTop { f with stack := rest }) := by
  obtain ⟨kc, cf, ci, n, h1, h2, h3, h4⟩ := hnamed
  have hpre : ∀ {Q' : ClassId → Pre}, Sem.wp (Jvm.refClassAt index) Q' E e d acts (s.setTop f) ↔ Q' c' d acts (s.setTop f) := by
    intro Q'
    rcases h3 with h3 | h3 <;>
      simp [Jvm.refClassAt, Jvm.constantAt, State.method?_setTop f hs, h1, h2, h3, Jvm.W.resolveClassAt_ready (State.method?_setTop f hs) h4]
  simp only [Op.invokevirtual.sem, Sem.wp_bind', hpre, Jvm.W.theClass, State.vm_setTop, hk', Option.some.injEq, exists_eq_left', Jvm.W.ite, hclass, Bool.false_eq_true, if_false, Sem.wp_pure',
    Jvm.W.resolveMethodAt_ready (State.method?_setTop f hs) hr]
  simp only [Jvm.W.theMethod, State.vm_setTop, hm, Option.some.injEq, exists_eq_left', Seam.isPolymorphic, Sem.wp_bind', Jvm.W.theClass, hk, Sem.wp_pure', hpoly,
    Jvm.W.ite, Bool.false_eq_true, if_false, hstatic, Jvm.popArgs, ← hlen, Op.popN_top hs hstack]
  simp [hs, hcell, hobj, selV_def (s := s.setTop _) (show selectMethod e.platform (s.setTop _).vm cell.cls m = .method m from hsel) hm hk hi hn, hm, habs]
/-- the step of such a call -/
theorem stepVD {T : State} {locs : List Loc} {cells slots : Nat} (X : Stand p l e R s m args below meth c T locs cells slots) (hexec : p.tables.exec = Jvm.exec) {own owner : String} {index : Nat} {x : MethodName} (hown : s.vm.findClass own = some m.cls) (hlink : (Cond.methodLink own index x).before args s = true)
    (hsame : (Cond.sameMethod x.cls owner x.name x.desc).before args s = true) (howner : owner ≠ "java/lang/invoke/MethodHandle" ∧ owner ≠ "java/lang/invoke/VarHandle")
    {r0 : MethodId} {r : Method} (hn : s.methodNamed? ⟨owner, x.name, x.desc⟩ = some r0) (hrm : s.vm.method? r0 = some r) (hstatic : r.isStatic = false) (habs : r.isAbstract = false)
    {a : Addr} {cell : Cell} (hcell : T.heap[a]? = some cell) (hobj : ∀ c, cell.vm ≠ .statics c) {mk : Class} (hsel : selectMethod e.platform s.vm cell.cls r0 = .method r0) (hmk : s.vm.classes[r0.cls]? = some mk) (hi : mk.isInterface = true) (hnear : NearD s.vm cell.cls r.name r.desc r0)
    {g : JFrame} (hg : g.method = m) {argsL rest : List Value} (hlen : argsL.length = r.sig.parameters.length) (hstack : g.stack = argsL.reverse ++ .ref a :: rest) (hdg : decode c.code g.pc = .ok (.invokevirtual index, 3)) :
    ∃ vm', Stand p l e R s m args below meth c (T.setVm vm') locs cells slots ∧ ∀ target, (∀ acts, Steps p.tables e below (doInvoke e ((T.setVm vm').setTop { g with stack := rest }) acts r0 (.ref a :: argsL).toArray).1 target) → Steps p.tables e below (T.setTop g) target := by
  have hpl : e.platform.magicAccessors = ({} : Platform).magicAccessors := by rw [X.admits.platform]
  obtain ⟨cn, ck, r1, hcn, hck, hni, hf, hn1⟩ := Cond.sameMethod_found hsame
  cases hn.symm.trans hn1
  obtain ⟨ci, hl, hright⟩ := Cond.methodLink_specUp hown hcn hck hni hf hlink e.platform hpl (by rw [X.admits.platform])
  have hE : s.MethodEntryUp e T.vm m.cls index cn r0 ci := State.methodEntryUp X.warmed hl hright
  obtain ⟨kr, hkr, hnr⟩ := className_of_methodNamed hn
  cases hkr.symm.trans hmk
  obtain ⟨dk, cfile, nt, _, _, _, _, _, hd, hcf, hcp, -⟩ := hl.here
  have al := hE.warmed.alike
  obtain ⟨dk₂, hdk₂, hres⟩ := hE.classReady
  obtain ⟨dk₃, hdk₃, hed⟩ := al.2.2 _ _ hd
  cases hdk₂.symm.trans hdk₃
  obtain ⟨kr₂, hkr₂, her⟩ := al.2.2 _ _ hkr
  obtain ⟨ck₂, hck₂, hec⟩ := al.2.2 _ _ hck
  refine ⟨T.vm.calledUp m.cls ci index cn r0, X.noted hE.warmed, fun target hrest => ?_⟩
  subst hg
  have hw := fun {Q : Unit → Pre} {E : CtlPost} {d : Bool} {acts : List Action} => wp_defl (Q := Q) (E := E) (d := d) (acts := acts) (e := e) (s := T.setVm (T.vm.calledUp g.method.cls ci index cn r0)) (f := g) (m := r0) (c' := cn) (k := kr₂) (k' := ck₂) (meth := r) (a := a) (args := argsL) (rest := rest) (cell := cell) (index := index)
    X.here.top ⟨dk₂, cfile, ci, nt, hdk₂, by rw [hed]; exact hcf, Or.inl hcp, dk₂, hdk₂, hres⟩ hck₂ (by rw [hec]; exact hni) hE.ready hkr₂
    (by show (T.vm.calledUp g.method.cls ci index cn r0).method? r0 = some r; rw [al.method?]; exact hrm)
    (by rw [her]; show signaturePolymorphic mk r = false; simp [signaturePolymorphic, hnr, howner.1, howner.2]) hstatic hlen hstack hcell hobj
    (by show selectMethod e.platform (T.vm.calledUp g.method.cls ci index cn r0) cell.cls r0 = .method r0; rw [al.selectMethod]; exact hsel) habs (by rw [her]; exact hi)
    (by show NearD (T.vm.calledUp g.method.cls ci index cn r0) cell.cls r.name r.desc r0; unfold NearD; rw [← nearestHeld_bare, al.bare_eq, nearestHeld_bare]; exact hnear)
  jvm_step X.here [hexec, hdg, invokevirtual.wp_coldUp (e := e) (s := T) (s₀ := s) (f := g) X.here.top X.warmed hE hd hcf (Or.inl hcp) hck hni, hw]
  exact hrest
/-- a callee that says a number: its two instructions, walked through within the caller's walk (its class needn't be known as initialised) -/
theorem leafSteps {T : State} {locs : List Loc} {cells slots : Nat} (X : Stand p l e R s m args below meth c T locs cells slots) (hexec : p.tables.exec = Jvm.exec) {y : MethodName} {mk : MethodId} {methY : Method} {cY : Code} {bytes : ByteArray} {a : Array Value} {ty : FieldType} {k : Int} {v : Int32}
    (hx : plainName y.cls = true) (hnamed : T.methodNamed? y = some mk) (hm : T.vm.method? mk = some methY) (hc : methY.code = some cY) (hb : cY.code = bytes) (hl : methY.locks = false) (hret : methY.sig.returnType = some ty) (hty : ty = .int ∨ ty = .boolean) (hnar : narrow ty (.int v) = .int v) (hv : Int32.ofInt k = v) (hd0 : decode bytes 0 = .ok (.iconst k, 1)) (hd1 : decode bytes 1 = .ok (.ireturn, 1))
    {g : JFrame} {ig : Instr} {len : Nat} (hg : g.method = m) (hsize : g.locals.size = c.maxLocals) (hdg : decode c.code g.pc = .ok (ig, len)) (hfr : 1 ≤ R.frames) (hlo : 2 * g.monitorRoom + (g.stack.map fun v => v.category).sum + (cY.maxLocals + 11) ≤ R.locals) :
    Steps p.tables e below (doInvoke e (T.setTop g) [] mk a).1 (T.setTop { g with pc := g.pc + len, stack := .int v :: g.stack }) := by
  subst hg
  rw [doInvoke_enter X.here.top [] hm hc hl (X.notFull hsize hfr hlo)]
  have hpl : T.plainMethod mk := State.plainMethod.of_named (s := T) (plainFor_of_name hx) hnamed hm
  have hA := At.enter (g := g) X.here a hm hc hpl
  have hfE := frames_entered (g := g) X.here.top (.java (entryFrame mk a cY.maxLocals))
  have hmE : ((T.setTop g).pushFrame (.java (entryFrame mk a cY.maxLocals))).vm.method? mk = some methY := by simpa [State.pushFrame, State.setFrames] using hm
  have hcE : ((T.setTop g).pushFrame (.java (entryFrame mk a cY.maxLocals))).code? g.method = some c := by
    have := X.here.code
    rw [State.code?_eq] at this ⊢
    simpa [State.pushFrame, State.setFrames] using this
  have hend : (((T.setTop g).pushFrame (.java (entryFrame mk a cY.maxLocals))).setFrames (.java g :: T.frames.tail)).setTop { g with pc := g.pc + len, stack := .int v :: g.stack } = T.setTop { g with pc := g.pc + len, stack := .int v :: g.stack } := by
    obtain ⟨g₀, hg0⟩ := Option.isSome_iff_exists.mp X.here.top
    obtain ⟨r, hr⟩ := State.topJava?_eq_some.mp hg0
    have hcur : T.cur < T.threads.size := State.cur_lt_of_frames hr
    rw [State.setTop_of_frames _ hr, State.setTop_of_frames _ hr, State.pushFrame, State.setFrames_setFrames, State.setFrames_setFrames, hr, List.tail_cons, State.setTop_of_frames _ (State.frames_setFrames _ hcur), State.setFrames_setFrames]
  generalize hu : (T.setTop g).pushFrame (.java (entryFrame mk a cY.maxLocals)) = u at hA hfE hmE hcE hend ⊢
  unfold entryFrame
  jvm_step hA [hexec, hb, hd0]
  have hgo : ∀ acts : List Action, (doReturn e (u.setTop { method := mk, pc := 1, locals := argsToLocals a cY.maxLocals, stack := [], locked := none }) acts (some (.int v))).1 = T.setTop { g with pc := g.pc + len, stack := .int v :: g.stack } := by
    intro acts
    rw [doReturn_leave (u := u) acts hfE hmE hl rfl rfl hcE hdg]
    exact hend
  subst hv
  rcases hty with rfl | rfl
  · jvm_step hA [hA.top, hexec, hb, hd1, hmE, hret, hnar]
    intro acts
    rw [hgo]
    exact Steps.refl _
  · jvm_step hA [hA.top, hexec, hb, hd1, hmE, hret, hnar]
    intro acts
    rw [hgo]
    exact Steps.refl _
/-- the heap stands as it stood; that number is answered -/
def leafQ (v : Int32) : State → Outcome → State → Prop := fun st o t => o = .returned (some (.int v)) ∧ t.heap = st.heap
/-- a call that ends at a default that says a number -/
theorem runVD {H : Heap} {locs : List Loc} {cells slots : Nat} {x y : MethodName} {bytes cc : ByteArray} {maxL nL n index : Nat} {ty : FieldType} {free : Addr → Prop} {Ts : List Cond} {own C : String} {b : Addr} {As rest : List Value} {g : JFrame} {k : Int} {v : Int32}
    (S : CallFix p m c cc nL s args Ts own) (hR : 1 ≤ R.frames ∧ 8 + (maxL + 11) ≤ R.locals) (hpn : plainName y.cls = true) (hty : ty = .int ∨ ty = .boolean) (hnar : narrow ty (.int v) = .int v) (hv : Int32.ofInt k = v) (hd0 : decode bytes 0 = .ok (.iconst k, 1)) (hd1 : decode bytes 1 = .ok (.ireturn, 1))
    (hcode : (Cond.code y bytes maxL (some ty)).before args s = true) (hinst : (Cond.instanceMethod y).before args s = true)
    (hlink : (Cond.methodLink own index x).before args s = true) (hsame : (Cond.sameMethod x.cls y.cls x.name x.desc).before args s = true) (hxy : ⟨y.cls, x.name, x.desc⟩ = y) (howner : y.cls ≠ "java/lang/invoke/MethodHandle" ∧ y.cls ≠ "java/lang/invoke/VarHandle")
    (hln : (parseMethodDescriptor y.desc).map (fun d => d.parameters.length) = some n) (hLD : LDf C y s) (hp : ∃ cell : Cell, H[b]? = some cell ∧ cell.vm.isStatics = false ∧ s.vm.findClass C = some cell.cls)
    (hg : g.method = m) (hn : As.length = n) (hsize : g.locals.size = nL) (hstack : g.stack = As.reverse ++ .ref b :: rest) (hW : 2 * g.monitorRoom + (rest.map fun v => v.category).sum ≤ 8) (hdg : decode cc g.pc = .ok (.invokevirtual index, 3)) :
    va_Run p l e R s m args below meth c H locs cells slots 0 0 g rest (leafQ v) free := by
  obtain ⟨hx, hb, hml, ho, -⟩ := S
  obtain ⟨cellB, hcB, hoB, hclB⟩ := hp
  obtain ⟨cL, mL, rmL, mkL, l1, l2, l3, l4, l5, l6, l7, l8⟩ := hLD
  obtain ⟨mk, methM, hnamed, hmethM, hstM, habM⟩ := Cond.instanceMethod_spec hinst
  obtain ⟨methM', cM, hmethM', hcM, hbM, hlM, hrM, hlkM, -, hsigM⟩ := Cond.code_spec hnamed hcode
  cases hmethM.symm.trans hmethM'
  cases hnamed.symm.trans l2
  cases hmethM.symm.trans l3
  cases hclB.symm.trans l1
  intro T hT X
  obtain ⟨vm₁, X₁, hstep₁⟩ := stepVD X hx ho hlink hsame howner (by rw [hxy]; exact hnamed) hmethM hstM habM (a := b) (cell := cellB) (by rw [hT]; exact hcB) (fun z h => by rw [h] at hoB; cases hoB) (by rw [Launch.admits_selectMethod X.admits]; exact l5) l6 l7 l8 (g := g) hg (argsL := As) (rest := rest)
    (by rw [hn]; rw [hsigM] at hln; exact (Option.some.inj hln).symm) hstack (by rw [hb]; exact hdg)
  have hst := leafSteps X₁ hx (a := (Value.ref b :: As).toArray) hpn (X₁.named hnamed) (by rw [X₁.warmed.alike.method?]; exact hmethM) hcM hbM hlkM hrM hty hnar hv hd0 hd1 (g := { g with stack := rest }) (len := 3) (ig := .invokevirtual index) hg (hsize.trans hml.symm) (by rw [hb]; exact hdg) hR.1 (by rw [hlM]; exact Nat.le_trans (Nat.add_le_add_right hW _) hR.2)
  exact ⟨some (.int v), T, T.setVm vm₁, T.setVm vm₁, [], hT, by rw [List.append_nil]; exact X₁, fun q hq => absurd hq List.not_mem_nil, rfl, rfl, ⟨rfl, rfl⟩, fun target h => hstep₁ _ fun acts => by rw [doInvoke_state]; exact hst.trans h⟩
/-- super.y() where y is a default that says a number -/
theorem runSD {H : Heap} {locs : List Loc} {cells slots : Nat} {x y : MethodName} {bytes cc : ByteArray} {maxL nL n index : Nat} {ty : FieldType} {free : Addr → Prop} {Ts : List Cond} {own C : String} {cC : ClassId} {b : Addr} {As rest : List Value} {g : JFrame} {k : Int} {v : Int32}
    (hat : ClassAt s C cC) (S : CallFix p m c cc nL s args Ts own) (hR : 1 ≤ R.frames ∧ 8 + (maxL + 11) ≤ R.locals) (hpn : plainName y.cls = true) (hty : ty = .int ∨ ty = .boolean) (hnar : narrow ty (.int v) = .int v) (hv : Int32.ofInt k = v) (hd0 : decode bytes 0 = .ok (.iconst k, 1)) (hd1 : decode bytes 1 = .ok (.ireturn, 1))
    (hcode : (Cond.code y bytes maxL (some ty)).before args s = true) (hinst : (Cond.instanceMethod y).before args s = true) (hsup : (Cond.superclass own x.cls).before args s = true)
    (hlink : (Cond.methodLink own index x).before args s = true) (hsame : (Cond.sameMethod x.cls y.cls x.name x.desc).before args s = true) (hxy : ⟨y.cls, x.name, x.desc⟩ = y) (hno : x.name ≠ "<init>")
    (hln : (parseMethodDescriptor y.desc).map (fun d => d.parameters.length) = some n) (hLD : LDf x.cls y s) (hp : ∃ cell : Cell, H[b]? = some cell ∧ cell.vm.isStatics = false ∧ s.vm.findClass C = some cell.cls)
    (hg : g.method = m) (hn : As.length = n) (hsize : g.locals.size = nL) (hstack : g.stack = As.reverse ++ .ref b :: rest) (hW : 2 * g.monitorRoom + (rest.map fun v => v.category).sum ≤ 8) (hdg : decode cc g.pc = .ok (.invokespecial index, 3)) :
    va_Run p l e R s m args below meth c H locs cells slots 0 0 g rest (leafQ v) free := by
  obtain ⟨hx, hb, hml, ho, -⟩ := S
  obtain ⟨cellB, hcB, hoB, hclB⟩ := hp
  obtain ⟨hfc, kB, hkB, -⟩ := hat
  cases hfc.symm.trans hclB
  obtain ⟨cL, mL, rmL, mkL, l1, l2, l3, l4, l5, l6, l7, l8⟩ := hLD
  obtain ⟨mk, methM, hnamed, hmethM, hstM, habM⟩ := Cond.instanceMethod_spec hinst
  obtain ⟨methM', cM, hmethM', hcM, hbM, hlM, hrM, hlkM, -, hsigM⟩ := Cond.code_spec hnamed hcode
  cases hmethM.symm.trans hmethM'
  cases hnamed.symm.trans l2
  cases hmethM.symm.trans l3
  obtain ⟨ps, dk, kp, hps, hdk, hkp, hsuper, -, -, hnid⟩ := Cond.superclass_spec ho hsup
  cases hps.symm.trans l1
  obtain ⟨cn', ck, r1, hcn', hck, hni, hfd, hn1⟩ := Cond.sameMethod_found hsame
  rw [hxy] at hn1
  cases hnamed.symm.trans hn1
  cases hps.symm.trans hcn'
  intro T hT X
  have hpl : e.platform.magicAccessors = ({} : Platform).magicAccessors := by rw [X.admits.platform]
  obtain ⟨ci, hl, hright⟩ := Cond.methodLink_specUp ho hps hck hni hfd hlink e.platform hpl (by rw [X.admits.platform])
  obtain ⟨hrn, hrd⟩ := name_of_methodNamed hnamed hmethM
  have hxn : x.name = y.name ∧ x.desc = y.desc := by rw [← hxy]; exact ⟨rfl, rfl⟩
  obtain ⟨dk₀, cfile, nt, _, _, ck₀, _, _, hd₀, hcf, hcp, -, -, -, hc₀, -, hpoly, -⟩ := hl.here
  cases hdk.symm.trans hd₀
  cases hck.symm.trans hc₀
  have hup : s.vm.lookupUp cL x.name x.desc = some mL := ((State.methodFound?_class hps hck hni hpoly mL).mp hfd).1
  have hfound0 : lookupSpecial s.vm cL x.name x.desc = .method mL := lookSpecial_def hck hni hup hmethM hstM ⟨hrn.trans hxn.1.symm, hrd.trans hxn.2.symm⟩ l4 l6 l7 l5
  subst hg
  obtain ⟨vm₁, hW', hstep₁⟩ := Steps.invokeSuperColdArgs (tb := p.tables) (e := e) (s₀ := s) (U := T) (f := g) (args := As) (rest := rest) (a := b) (cell := cellB) (m := mL) X.here hx (by rw [hb]; exact hdg) X.warmed hl hright hdk hcf hcp hmethM hck
    (by rw [hrn, ← hxn.1]; simp [hno]) hstM (by rw [hrn, hrd, hsuper, ← hxn.1, ← hxn.2]; simpa using hfound0) hnid l6 habM (by rw [hn]; rw [hsigM] at hln; exact (Option.some.inj hln).symm) hstack (by rw [hT]; exact hcB) (fun z h => by rw [h] at hoB; cases hoB) hkB
  have X₁ := X.noted hW'
  have hst := leafSteps X₁ hx (a := (Value.ref b :: As).toArray) hpn (X₁.named hnamed) (by rw [X₁.warmed.alike.method?]; exact hmethM) hcM hbM hlkM hrM hty hnar hv hd0 hd1 (g := { g with stack := rest }) (len := 3) (ig := .invokespecial index) rfl (hsize.trans hml.symm) (by rw [hb]; exact hdg) hR.1 (by rw [hlM]; exact Nat.le_trans (Nat.add_le_add_right hW _) hR.2)
  exact ⟨some (.int v), T, T.setVm vm₁, T.setVm vm₁, [], hT, by rw [List.append_nil]; exact X₁, fun q hq => absurd hq List.not_mem_nil, rfl, rfl, ⟨rfl, rfl⟩, fun target h => hstep₁ _ (by rw [doInvoke_state]; exact hst.trans h)⟩
/-- a word of selection, told of the default that resolution finds, holds of the reference -/
theorem selects_same {C owner : String} {x y : MethodName} (hsame : (Cond.sameMethod x.cls owner x.name x.desc).before args s = true) (hx : owner ≠ "java/lang/invoke/MethodHandle" ∧ owner ≠ "java/lang/invoke/VarHandle") (h : (Cond.selects C ⟨owner, x.name, x.desc⟩ y).before args s = true) : (Cond.selects C x y).before args s = true := by
  obtain ⟨cn', ck, r1, hcn', hck, hni, hfd, hn1⟩ := Cond.sameMethod_found hsame
  have hfd2 := State.methodFound?_of_named hn1 hx
  simp only [Cond.before, Cond.holds, Cond.value, hfd] at h ⊢
  rw [hfd2] at h
  exact h
end VDF

set_option maxRecDepth 100000
/-! what glasses answer -/
def gKind (g : Nat × Int32) : Int32 := Int32.ofNat g.1
def gTall (g : Nat × Int32) : Int32 := if g.1 = 2 ∨ g.1 = 4 then 1 else 0
def gRed (g : Nat × Int32) : Int32 := if g.1 = 3 ∨ g.1 = 6 ∨ g.1 = 7 then 1 else 0
def gPl (g o : Nat × Int32) : Int32 := if o.2 = g.2 then 3 else 1
def gTl (g o : Nat × Int32) : Int32 := gPl g o + (if gTall o = 0 then 0 else 3)
def gRl (g o : Nat × Int32) : Int32 := gPl g o + (if gRed o = 0 then 0 else 4)
def gLike (g o : Nat × Int32) (self fill : Int32) : Int32 :=
  if g.1 = 0 then gPl g o else if g.1 = 1 then (if self = 0 then 0 else 20) else if g.1 = 2 then gTl g o else if g.1 = 3 then gRl g o
  else if g.1 = 4 then gTl g o + (if gKind o = 4 then 1 else 0) else if g.1 = 5 then (if self = 0 then (if gKind o = 5 then 5 else 0) else 20)
  else if g.1 = 6 then (if self = 0 then gRl g o else 2 * gRl g o) else if fill = 0 then 0 else gRl g o
def gStr (g : Nat × Int32) (fill : Int32) : Int32 :=
  if g.1 = 2 then 2 - 1 else if g.1 = 3 then 2 + g.2 else if g.1 = 4 then 0 else if g.1 = 6 then (if fill - fill / 2 * 2 = 1 then 0 else 2 + g.2) else if g.1 = 7 then 2 + g.2 + 1 else 2

def G_kind7 (x : XS) (g : Nat × Int32) : Option (Int32) :=
  some (0 : Int32)
set_option maxHeartbeats 4000000 in
theorem metG_kind7 (l : Launch) {D : va_G} {dA : Nat → ClassId} {b : Nat} {ad : Nat → Nat} {P : Nat → Prop} {F : Nat → va_E} {gs : List (Nat × (Nat × Int32))} {x : XS} {g : Nat × Int32} {a : Nat} {z : Int32} (hg : (a, g) ∈ gs) (hf : G_kind7 x g = some z) : Met l yX7_kind (ws_ yX7_kind cX7_kind 1 (some .int)) (rmx_ 0 0 0 0) (xP D dA b ad P F gs [.ref (a)] x) (xQ D dA b ad P F gs (some (.int z)) x) 0 0 (fun q => b ≤ q) := by
  refine qx_met (by decide) RX7 rfl (Nat.le_of_ble_eq_true rfl) (fun Γ hΓ hK => ?_)
  refine g_sub [0] (lv' := [(0, .ref (a))]) rfl ?_
  refine g_iconst hΓ (pc := 0) (v := 0) dX7_kind_0 (by decide) ?_
  exact qX_iretR hΓ hf dX7_kind_1
def G_kind8 (x : XS) (g : Nat × Int32) : Option (Int32) :=
  some (1 : Int32)
set_option maxHeartbeats 4000000 in
theorem metG_kind8 (l : Launch) {D : va_G} {dA : Nat → ClassId} {b : Nat} {ad : Nat → Nat} {P : Nat → Prop} {F : Nat → va_E} {gs : List (Nat × (Nat × Int32))} {x : XS} {g : Nat × Int32} {a : Nat} {z : Int32} (hg : (a, g) ∈ gs) (hf : G_kind8 x g = some z) : Met l yX8_kind (ws_ yX8_kind cX8_kind 1 (some .int)) (rmx_ 0 0 0 0) (xP D dA b ad P F gs [.ref (a)] x) (xQ D dA b ad P F gs (some (.int z)) x) 0 0 (fun q => b ≤ q) := by
  refine qx_met (by decide) RX8 rfl (Nat.le_of_ble_eq_true rfl) (fun Γ hΓ hK => ?_)
  refine g_sub [0] (lv' := [(0, .ref (a))]) rfl ?_
  refine g_iconst hΓ (pc := 0) (v := 1) dX8_kind_0 (by decide) ?_
  exact qX_iretR hΓ hf dX8_kind_1
def G_kind9 (x : XS) (g : Nat × Int32) : Option (Int32) :=
  some (2 : Int32)
set_option maxHeartbeats 4000000 in
theorem metG_kind9 (l : Launch) {D : va_G} {dA : Nat → ClassId} {b : Nat} {ad : Nat → Nat} {P : Nat → Prop} {F : Nat → va_E} {gs : List (Nat × (Nat × Int32))} {x : XS} {g : Nat × Int32} {a : Nat} {z : Int32} (hg : (a, g) ∈ gs) (hf : G_kind9 x g = some z) : Met l yX9_kind (ws_ yX9_kind cX9_kind 1 (some .int)) (rmx_ 0 0 0 0) (xP D dA b ad P F gs [.ref (a)] x) (xQ D dA b ad P F gs (some (.int z)) x) 0 0 (fun q => b ≤ q) := by
  refine qx_met (by decide) RX9 rfl (Nat.le_of_ble_eq_true rfl) (fun Γ hΓ hK => ?_)
  refine g_sub [0] (lv' := [(0, .ref (a))]) rfl ?_
  refine g_iconst hΓ (pc := 0) (v := 2) dX9_kind_0 (by decide) ?_
  exact qX_iretR hΓ hf dX9_kind_1
def G_kind10 (x : XS) (g : Nat × Int32) : Option (Int32) :=
  some (3 : Int32)
set_option maxHeartbeats 4000000 in
theorem metG_kind10 (l : Launch) {D : va_G} {dA : Nat → ClassId} {b : Nat} {ad : Nat → Nat} {P : Nat → Prop} {F : Nat → va_E} {gs : List (Nat × (Nat × Int32))} {x : XS} {g : Nat × Int32} {a : Nat} {z : Int32} (hg : (a, g) ∈ gs) (hf : G_kind10 x g = some z) : Met l yX10_kind (ws_ yX10_kind cX10_kind 1 (some .int)) (rmx_ 0 0 0 0) (xP D dA b ad P F gs [.ref (a)] x) (xQ D dA b ad P F gs (some (.int z)) x) 0 0 (fun q => b ≤ q) := by
  refine qx_met (by decide) RX10 rfl (Nat.le_of_ble_eq_true rfl) (fun Γ hΓ hK => ?_)
  refine g_sub [0] (lv' := [(0, .ref (a))]) rfl ?_
  refine g_iconst hΓ (pc := 0) (v := 3) dX10_kind_0 (by decide) ?_
  exact qX_iretR hΓ hf dX10_kind_1
def G_kind11 (x : XS) (g : Nat × Int32) : Option (Int32) :=
  some (4 : Int32)
set_option maxHeartbeats 4000000 in
theorem metG_kind11 (l : Launch) {D : va_G} {dA : Nat → ClassId} {b : Nat} {ad : Nat → Nat} {P : Nat → Prop} {F : Nat → va_E} {gs : List (Nat × (Nat × Int32))} {x : XS} {g : Nat × Int32} {a : Nat} {z : Int32} (hg : (a, g) ∈ gs) (hf : G_kind11 x g = some z) : Met l yX11_kind (ws_ yX11_kind cX11_kind 1 (some .int)) (rmx_ 0 0 0 0) (xP D dA b ad P F gs [.ref (a)] x) (xQ D dA b ad P F gs (some (.int z)) x) 0 0 (fun q => b ≤ q) := by
  refine qx_met (by decide) RX11 rfl (Nat.le_of_ble_eq_true rfl) (fun Γ hΓ hK => ?_)
  refine g_sub [0] (lv' := [(0, .ref (a))]) rfl ?_
  refine g_iconst hΓ (pc := 0) (v := 4) dX11_kind_0 (by decide) ?_
  exact qX_iretR hΓ hf dX11_kind_1
def G_kind12 (x : XS) (g : Nat × Int32) : Option (Int32) :=
  some (5 : Int32)
set_option maxHeartbeats 4000000 in
theorem metG_kind12 (l : Launch) {D : va_G} {dA : Nat → ClassId} {b : Nat} {ad : Nat → Nat} {P : Nat → Prop} {F : Nat → va_E} {gs : List (Nat × (Nat × Int32))} {x : XS} {g : Nat × Int32} {a : Nat} {z : Int32} (hg : (a, g) ∈ gs) (hf : G_kind12 x g = some z) : Met l yX12_kind (ws_ yX12_kind cX12_kind 1 (some .int)) (rmx_ 0 0 0 0) (xP D dA b ad P F gs [.ref (a)] x) (xQ D dA b ad P F gs (some (.int z)) x) 0 0 (fun q => b ≤ q) := by
  refine qx_met (by decide) RX12 rfl (Nat.le_of_ble_eq_true rfl) (fun Γ hΓ hK => ?_)
  refine g_sub [0] (lv' := [(0, .ref (a))]) rfl ?_
  refine g_iconst hΓ (pc := 0) (v := 5) dX12_kind_0 (by decide) ?_
  exact qX_iretR hΓ hf dX12_kind_1
def G_kind13 (x : XS) (g : Nat × Int32) : Option (Int32) :=
  some (6 : Int32)
set_option maxHeartbeats 4000000 in
theorem metG_kind13 (l : Launch) {D : va_G} {dA : Nat → ClassId} {b : Nat} {ad : Nat → Nat} {P : Nat → Prop} {F : Nat → va_E} {gs : List (Nat × (Nat × Int32))} {x : XS} {g : Nat × Int32} {a : Nat} {z : Int32} (hg : (a, g) ∈ gs) (hf : G_kind13 x g = some z) : Met l yX13_kind (ws_ yX13_kind cX13_kind 1 (some .int)) (rmx_ 0 0 0 0) (xP D dA b ad P F gs [.ref (a)] x) (xQ D dA b ad P F gs (some (.int z)) x) 0 0 (fun q => b ≤ q) := by
  refine qx_met (by decide) RX13 rfl (Nat.le_of_ble_eq_true rfl) (fun Γ hΓ hK => ?_)
  refine g_sub [0] (lv' := [(0, .ref (a))]) rfl ?_
  refine g_bipush hΓ (pc := 0) (v := 6) dX13_kind_0 (by decide) ?_
  exact qX_iretR hΓ hf dX13_kind_2
def G_kind14 (x : XS) (g : Nat × Int32) : Option (Int32) :=
  some (7 : Int32)
set_option maxHeartbeats 4000000 in
theorem metG_kind14 (l : Launch) {D : va_G} {dA : Nat → ClassId} {b : Nat} {ad : Nat → Nat} {P : Nat → Prop} {F : Nat → va_E} {gs : List (Nat × (Nat × Int32))} {x : XS} {g : Nat × Int32} {a : Nat} {z : Int32} (hg : (a, g) ∈ gs) (hf : G_kind14 x g = some z) : Met l yX14_kind (ws_ yX14_kind cX14_kind 1 (some .int)) (rmx_ 0 0 0 0) (xP D dA b ad P F gs [.ref (a)] x) (xQ D dA b ad P F gs (some (.int z)) x) 0 0 (fun q => b ≤ q) := by
  refine qx_met (by decide) RX14 rfl (Nat.le_of_ble_eq_true rfl) (fun Γ hΓ hK => ?_)
  refine g_sub [0] (lv' := [(0, .ref (a))]) rfl ?_
  refine g_bipush hΓ (pc := 0) (v := 7) dX14_kind_0 (by decide) ?_
  exact qX_iretR hΓ hf dX14_kind_2
def G_isTall9 (x : XS) (g : Nat × Int32) : Option (Int32) :=
  zOk (1 : Int32)
set_option maxHeartbeats 4000000 in
theorem metG_isTall9 (l : Launch) {D : va_G} {dA : Nat → ClassId} {b : Nat} {ad : Nat → Nat} {P : Nat → Prop} {F : Nat → va_E} {gs : List (Nat × (Nat × Int32))} {x : XS} {g : Nat × Int32} {a : Nat} {z : Int32} (hg : (a, g) ∈ gs) (hf : G_isTall9 x g = some z) : Met l yX9_isTall (ws_ yX9_isTall cX9_isTall 1 (some .boolean)) (rmx_ 0 0 0 0) (xP D dA b ad P F gs [.ref (a)] x) (xQ D dA b ad P F gs (some (.int z)) x) 0 0 (fun q => b ≤ q) := by
  refine qx_met (by decide) RX9 rfl (Nat.le_of_ble_eq_true rfl) (fun Γ hΓ hK => ?_)
  refine g_sub [0] (lv' := [(0, .ref (a))]) rfl ?_
  refine g_iconst hΓ (pc := 0) (v := 1) dX9_isTall_0 (by decide) ?_
  exact qX_zretR hΓ hf dX9_isTall_1
def G_isRed10 (x : XS) (g : Nat × Int32) : Option (Int32) :=
  zOk (1 : Int32)
set_option maxHeartbeats 4000000 in
theorem metG_isRed10 (l : Launch) {D : va_G} {dA : Nat → ClassId} {b : Nat} {ad : Nat → Nat} {P : Nat → Prop} {F : Nat → va_E} {gs : List (Nat × (Nat × Int32))} {x : XS} {g : Nat × Int32} {a : Nat} {z : Int32} (hg : (a, g) ∈ gs) (hf : G_isRed10 x g = some z) : Met l yX10_isRed (ws_ yX10_isRed cX10_isRed 1 (some .boolean)) (rmx_ 0 0 0 0) (xP D dA b ad P F gs [.ref (a)] x) (xQ D dA b ad P F gs (some (.int z)) x) 0 0 (fun q => b ≤ q) := by
  refine qx_met (by decide) RX10 rfl (Nat.le_of_ble_eq_true rfl) (fun Γ hΓ hK => ?_)
  refine g_sub [0] (lv' := [(0, .ref (a))]) rfl ?_
  refine g_iconst hΓ (pc := 0) (v := 1) dX10_isRed_0 (by decide) ?_
  exact qX_zretR hΓ hf dX10_isRed_1
section GW1
variable {Γ : GX} {own : String} {cc : ByteArray} {nL : Nat} {ret ret' : Option FieldType} {Qc : Array Value → State → Outcome → State → Prop} {A : Nat → Prop} {rm rm' : Room} {D : va_G} {dA : Nat → ClassId}
variable {cells slots pc mc ms : Nat} {lv lv' : List (Nat × Value)} {st st0 : List Value} {b : Nat} {ad : Nat → Nat} {P : Nat → Prop} {F : Nat → va_E} {x x' : XS} {r : Nat} {h h' : HS} {gs : List (Nat × (Nat × Int32))}

theorem qx_kind (hΓ : GOK Γ RX1 cc nL ret Qc (fun q => b ≤ q) rm) (hK : GKX Γ D dA b) {a : Nat} {g : Nat × Int32}  (hg : (a, g) ∈ gs) (hR : 1 ≤ rm.frames ∧ 20 ≤ rm.locals) (hcs : cells ≤ rm.cells ∧ slots ≤ rm.slots) (hW : (st.map fun v => v.category).sum ≤ 8) (hdg : decode cc pc = .ok (.invokevirtual 145, 3))
    (kk : WG Γ (XW D dA b ad P F gs x) cells slots (pc + 3) lv (.int (gKind g) :: st)) : WG Γ (XW D dA b ad P F gs x) cells slots pc lv (.ref a :: st) := by
  refine g_ask (fun H hw => (hw.glassR hg hK.1).1) (fun hg8 => ?_)
  obtain ⟨k, fg⟩ := g
  have hg8 : k < 8 := hg8
  rcases (by omega : k = 0 ∨ k = 1 ∨ k = 2 ∨ k = 3 ∨ k = 4 ∨ k = 5 ∨ k = 6 ∨ k = 7) with rfl | rfl | rfl | rfl | rfl | rfl | rfl | rfl
  · exact qG_callU (owner := "WhoseGlass$Glass") (z0 := ⟨"WhoseGlass$Glass", "kind", "()I"⟩) hΓ hK hg rfl 0 (As := []) (metG_kind7 _ hg (x := x) (z := gKind (0, fg)) rfl) (hΓ.1.2.2.2.2 _ q522) (hΓ.1.2.2.2.2 _ q423) q421 q445 (hΓ.1.2.2.2.2 _ q422) q421 q64 q445 (by decide +kernel) ⟨by decide, by show _ ≤ rm.frames ∧ _ ≤ rm.locals; exact ⟨Nat.le_trans (by decide) hR.1, Nat.le_trans (by decide) hR.2⟩⟩ hcs rfl rfl hW hdg kk
  · exact qG_callU (owner := "WhoseGlass$Glass") (z0 := ⟨"WhoseGlass$Glass", "kind", "()I"⟩) hΓ hK hg rfl 0 (As := []) (metG_kind8 _ hg (x := x) (z := gKind (1, fg)) rfl) (hΓ.1.2.2.2.2 _ q522) (hΓ.1.2.2.2.2 _ q423) q421 q445 (hΓ.1.2.2.2.2 _ q427) q428 q65 q429 (by decide +kernel) ⟨by decide, by show _ ≤ rm.frames ∧ _ ≤ rm.locals; exact ⟨Nat.le_trans (by decide) hR.1, Nat.le_trans (by decide) hR.2⟩⟩ hcs rfl rfl hW hdg kk
  · exact qG_callU (owner := "WhoseGlass$Glass") (z0 := ⟨"WhoseGlass$Glass", "kind", "()I"⟩) hΓ hK hg rfl 0 (As := []) (metG_kind9 _ hg (x := x) (z := gKind (2, fg)) rfl) (hΓ.1.2.2.2.2 _ q522) (hΓ.1.2.2.2.2 _ q423) q421 q445 (hΓ.1.2.2.2.2 _ q439) q440 q66 q441 (by decide +kernel) ⟨by decide, by show _ ≤ rm.frames ∧ _ ≤ rm.locals; exact ⟨Nat.le_trans (by decide) hR.1, Nat.le_trans (by decide) hR.2⟩⟩ hcs rfl rfl hW hdg kk
  · exact qG_callU (owner := "WhoseGlass$Glass") (z0 := ⟨"WhoseGlass$Glass", "kind", "()I"⟩) hΓ hK hg rfl 0 (As := []) (metG_kind10 _ hg (x := x) (z := gKind (3, fg)) rfl) (hΓ.1.2.2.2.2 _ q522) (hΓ.1.2.2.2.2 _ q423) q421 q445 (hΓ.1.2.2.2.2 _ q436) q437 q67 q438 (by decide +kernel) ⟨by decide, by show _ ≤ rm.frames ∧ _ ≤ rm.locals; exact ⟨Nat.le_trans (by decide) hR.1, Nat.le_trans (by decide) hR.2⟩⟩ hcs rfl rfl hW hdg kk
  · exact qG_callU (owner := "WhoseGlass$Glass") (z0 := ⟨"WhoseGlass$Glass", "kind", "()I"⟩) hΓ hK hg rfl 0 (As := []) (metG_kind11 _ hg (x := x) (z := gKind (4, fg)) rfl) (hΓ.1.2.2.2.2 _ q522) (hΓ.1.2.2.2.2 _ q423) q421 q445 (hΓ.1.2.2.2.2 _ q442) q443 q68 q444 (by decide +kernel) ⟨by decide, by show _ ≤ rm.frames ∧ _ ≤ rm.locals; exact ⟨Nat.le_trans (by decide) hR.1, Nat.le_trans (by decide) hR.2⟩⟩ hcs rfl rfl hW hdg kk
  · exact qG_callU (owner := "WhoseGlass$Glass") (z0 := ⟨"WhoseGlass$Glass", "kind", "()I"⟩) hΓ hK hg rfl 0 (As := []) (metG_kind12 _ hg (x := x) (z := gKind (5, fg)) rfl) (hΓ.1.2.2.2.2 _ q522) (hΓ.1.2.2.2.2 _ q423) q421 q445 (hΓ.1.2.2.2.2 _ q430) q431 q69 q432 (by decide +kernel) ⟨by decide, by show _ ≤ rm.frames ∧ _ ≤ rm.locals; exact ⟨Nat.le_trans (by decide) hR.1, Nat.le_trans (by decide) hR.2⟩⟩ hcs rfl rfl hW hdg kk
  · exact qG_callU (owner := "WhoseGlass$Glass") (z0 := ⟨"WhoseGlass$Glass", "kind", "()I"⟩) hΓ hK hg rfl 0 (As := []) (metG_kind13 _ hg (x := x) (z := gKind (6, fg)) rfl) (hΓ.1.2.2.2.2 _ q522) (hΓ.1.2.2.2.2 _ q423) q421 q445 (hΓ.1.2.2.2.2 _ q424) q425 q70 q426 (by decide +kernel) ⟨by decide, by show _ ≤ rm.frames ∧ _ ≤ rm.locals; exact ⟨Nat.le_trans (by decide) hR.1, Nat.le_trans (by decide) hR.2⟩⟩ hcs rfl rfl hW hdg kk
  · exact qG_callU (owner := "WhoseGlass$Glass") (z0 := ⟨"WhoseGlass$Glass", "kind", "()I"⟩) hΓ hK hg rfl 0 (As := []) (metG_kind14 _ hg (x := x) (z := gKind (7, fg)) rfl) (hΓ.1.2.2.2.2 _ q522) (hΓ.1.2.2.2.2 _ q423) q421 q445 (hΓ.1.2.2.2.2 _ q433) q434 q71 q435 (by decide +kernel) ⟨by decide, by show _ ≤ rm.frames ∧ _ ≤ rm.locals; exact ⟨Nat.le_trans (by decide) hR.1, Nat.le_trans (by decide) hR.2⟩⟩ hcs rfl rfl hW hdg kk
theorem qx_kindWater (hΓ : GOK Γ RX11 cc nL ret Qc (fun q => b ≤ q) rm) (hK : GKX Γ D dA b) {a : Nat} {g : Nat × Int32}  (hg : (a, g) ∈ gs) (hR : 1 ≤ rm.frames ∧ 20 ≤ rm.locals) (hcs : cells ≤ rm.cells ∧ slots ≤ rm.slots) (hW : (st.map fun v => v.category).sum ≤ 8) (hdg : decode cc pc = .ok (.invokevirtual 11, 3))
    (kk : WG Γ (XW D dA b ad P F gs x) cells slots (pc + 3) lv (.int (gKind g) :: st)) : WG Γ (XW D dA b ad P F gs x) cells slots pc lv (.ref a :: st) := by
  refine g_ask (fun H hw => (hw.glassR hg hK.1).1) (fun hg8 => ?_)
  obtain ⟨k, fg⟩ := g
  have hg8 : k < 8 := hg8
  rcases (by omega : k = 0 ∨ k = 1 ∨ k = 2 ∨ k = 3 ∨ k = 4 ∨ k = 5 ∨ k = 6 ∨ k = 7) with rfl | rfl | rfl | rfl | rfl | rfl | rfl | rfl
  · exact qG_callU (owner := "WhoseGlass$Glass") (z0 := ⟨"WhoseGlass$Glass", "kind", "()I"⟩) hΓ hK hg rfl 0 (As := []) (metG_kind7 _ hg (x := x) (z := gKind (0, fg)) rfl) (hΓ.1.2.2.2.2 _ q475) (hΓ.1.2.2.2.2 _ q423) q421 q445 (hΓ.1.2.2.2.2 _ q422) q421 q64 q445 (by decide +kernel) ⟨by decide, by show _ ≤ rm.frames ∧ _ ≤ rm.locals; exact ⟨Nat.le_trans (by decide) hR.1, Nat.le_trans (by decide) hR.2⟩⟩ hcs rfl rfl hW hdg kk
  · exact qG_callU (owner := "WhoseGlass$Glass") (z0 := ⟨"WhoseGlass$Glass", "kind", "()I"⟩) hΓ hK hg rfl 0 (As := []) (metG_kind8 _ hg (x := x) (z := gKind (1, fg)) rfl) (hΓ.1.2.2.2.2 _ q475) (hΓ.1.2.2.2.2 _ q423) q421 q445 (hΓ.1.2.2.2.2 _ q427) q428 q65 q429 (by decide +kernel) ⟨by decide, by show _ ≤ rm.frames ∧ _ ≤ rm.locals; exact ⟨Nat.le_trans (by decide) hR.1, Nat.le_trans (by decide) hR.2⟩⟩ hcs rfl rfl hW hdg kk
  · exact qG_callU (owner := "WhoseGlass$Glass") (z0 := ⟨"WhoseGlass$Glass", "kind", "()I"⟩) hΓ hK hg rfl 0 (As := []) (metG_kind9 _ hg (x := x) (z := gKind (2, fg)) rfl) (hΓ.1.2.2.2.2 _ q475) (hΓ.1.2.2.2.2 _ q423) q421 q445 (hΓ.1.2.2.2.2 _ q439) q440 q66 q441 (by decide +kernel) ⟨by decide, by show _ ≤ rm.frames ∧ _ ≤ rm.locals; exact ⟨Nat.le_trans (by decide) hR.1, Nat.le_trans (by decide) hR.2⟩⟩ hcs rfl rfl hW hdg kk
  · exact qG_callU (owner := "WhoseGlass$Glass") (z0 := ⟨"WhoseGlass$Glass", "kind", "()I"⟩) hΓ hK hg rfl 0 (As := []) (metG_kind10 _ hg (x := x) (z := gKind (3, fg)) rfl) (hΓ.1.2.2.2.2 _ q475) (hΓ.1.2.2.2.2 _ q423) q421 q445 (hΓ.1.2.2.2.2 _ q436) q437 q67 q438 (by decide +kernel) ⟨by decide, by show _ ≤ rm.frames ∧ _ ≤ rm.locals; exact ⟨Nat.le_trans (by decide) hR.1, Nat.le_trans (by decide) hR.2⟩⟩ hcs rfl rfl hW hdg kk
  · exact qG_callU (owner := "WhoseGlass$Glass") (z0 := ⟨"WhoseGlass$Glass", "kind", "()I"⟩) hΓ hK hg rfl 0 (As := []) (metG_kind11 _ hg (x := x) (z := gKind (4, fg)) rfl) (hΓ.1.2.2.2.2 _ q475) (hΓ.1.2.2.2.2 _ q423) q421 q445 (hΓ.1.2.2.2.2 _ q442) q443 q68 q444 (by decide +kernel) ⟨by decide, by show _ ≤ rm.frames ∧ _ ≤ rm.locals; exact ⟨Nat.le_trans (by decide) hR.1, Nat.le_trans (by decide) hR.2⟩⟩ hcs rfl rfl hW hdg kk
  · exact qG_callU (owner := "WhoseGlass$Glass") (z0 := ⟨"WhoseGlass$Glass", "kind", "()I"⟩) hΓ hK hg rfl 0 (As := []) (metG_kind12 _ hg (x := x) (z := gKind (5, fg)) rfl) (hΓ.1.2.2.2.2 _ q475) (hΓ.1.2.2.2.2 _ q423) q421 q445 (hΓ.1.2.2.2.2 _ q430) q431 q69 q432 (by decide +kernel) ⟨by decide, by show _ ≤ rm.frames ∧ _ ≤ rm.locals; exact ⟨Nat.le_trans (by decide) hR.1, Nat.le_trans (by decide) hR.2⟩⟩ hcs rfl rfl hW hdg kk
  · exact qG_callU (owner := "WhoseGlass$Glass") (z0 := ⟨"WhoseGlass$Glass", "kind", "()I"⟩) hΓ hK hg rfl 0 (As := []) (metG_kind13 _ hg (x := x) (z := gKind (6, fg)) rfl) (hΓ.1.2.2.2.2 _ q475) (hΓ.1.2.2.2.2 _ q423) q421 q445 (hΓ.1.2.2.2.2 _ q424) q425 q70 q426 (by decide +kernel) ⟨by decide, by show _ ≤ rm.frames ∧ _ ≤ rm.locals; exact ⟨Nat.le_trans (by decide) hR.1, Nat.le_trans (by decide) hR.2⟩⟩ hcs rfl rfl hW hdg kk
  · exact qG_callU (owner := "WhoseGlass$Glass") (z0 := ⟨"WhoseGlass$Glass", "kind", "()I"⟩) hΓ hK hg rfl 0 (As := []) (metG_kind14 _ hg (x := x) (z := gKind (7, fg)) rfl) (hΓ.1.2.2.2.2 _ q475) (hΓ.1.2.2.2.2 _ q423) q421 q445 (hΓ.1.2.2.2.2 _ q433) q434 q71 q435 (by decide +kernel) ⟨by decide, by show _ ≤ rm.frames ∧ _ ≤ rm.locals; exact ⟨Nat.le_trans (by decide) hR.1, Nat.le_trans (by decide) hR.2⟩⟩ hcs rfl rfl hW hdg kk
theorem qx_kindOwl (hΓ : GOK Γ RX12 cc nL ret Qc (fun q => b ≤ q) rm) (hK : GKX Γ D dA b) {a : Nat} {g : Nat × Int32}  (hg : (a, g) ∈ gs) (hR : 1 ≤ rm.frames ∧ 20 ≤ rm.locals) (hcs : cells ≤ rm.cells ∧ slots ≤ rm.slots) (hW : (st.map fun v => v.category).sum ≤ 8) (hdg : decode cc pc = .ok (.invokevirtual 7, 3))
    (kk : WG Γ (XW D dA b ad P F gs x) cells slots (pc + 3) lv (.int (gKind g) :: st)) : WG Γ (XW D dA b ad P F gs x) cells slots pc lv (.ref a :: st) := by
  refine g_ask (fun H hw => (hw.glassR hg hK.1).1) (fun hg8 => ?_)
  obtain ⟨k, fg⟩ := g
  have hg8 : k < 8 := hg8
  rcases (by omega : k = 0 ∨ k = 1 ∨ k = 2 ∨ k = 3 ∨ k = 4 ∨ k = 5 ∨ k = 6 ∨ k = 7) with rfl | rfl | rfl | rfl | rfl | rfl | rfl | rfl
  · exact qG_callU (owner := "WhoseGlass$Glass") (z0 := ⟨"WhoseGlass$Glass", "kind", "()I"⟩) hΓ hK hg rfl 0 (As := []) (metG_kind7 _ hg (x := x) (z := gKind (0, fg)) rfl) (hΓ.1.2.2.2.2 _ q420) (hΓ.1.2.2.2.2 _ q423) q421 q445 (hΓ.1.2.2.2.2 _ q422) q421 q64 q445 (by decide +kernel) ⟨by decide, by show _ ≤ rm.frames ∧ _ ≤ rm.locals; exact ⟨Nat.le_trans (by decide) hR.1, Nat.le_trans (by decide) hR.2⟩⟩ hcs rfl rfl hW hdg kk
  · exact qG_callU (owner := "WhoseGlass$Glass") (z0 := ⟨"WhoseGlass$Glass", "kind", "()I"⟩) hΓ hK hg rfl 0 (As := []) (metG_kind8 _ hg (x := x) (z := gKind (1, fg)) rfl) (hΓ.1.2.2.2.2 _ q420) (hΓ.1.2.2.2.2 _ q423) q421 q445 (hΓ.1.2.2.2.2 _ q427) q428 q65 q429 (by decide +kernel) ⟨by decide, by show _ ≤ rm.frames ∧ _ ≤ rm.locals; exact ⟨Nat.le_trans (by decide) hR.1, Nat.le_trans (by decide) hR.2⟩⟩ hcs rfl rfl hW hdg kk
  · exact qG_callU (owner := "WhoseGlass$Glass") (z0 := ⟨"WhoseGlass$Glass", "kind", "()I"⟩) hΓ hK hg rfl 0 (As := []) (metG_kind9 _ hg (x := x) (z := gKind (2, fg)) rfl) (hΓ.1.2.2.2.2 _ q420) (hΓ.1.2.2.2.2 _ q423) q421 q445 (hΓ.1.2.2.2.2 _ q439) q440 q66 q441 (by decide +kernel) ⟨by decide, by show _ ≤ rm.frames ∧ _ ≤ rm.locals; exact ⟨Nat.le_trans (by decide) hR.1, Nat.le_trans (by decide) hR.2⟩⟩ hcs rfl rfl hW hdg kk
  · exact qG_callU (owner := "WhoseGlass$Glass") (z0 := ⟨"WhoseGlass$Glass", "kind", "()I"⟩) hΓ hK hg rfl 0 (As := []) (metG_kind10 _ hg (x := x) (z := gKind (3, fg)) rfl) (hΓ.1.2.2.2.2 _ q420) (hΓ.1.2.2.2.2 _ q423) q421 q445 (hΓ.1.2.2.2.2 _ q436) q437 q67 q438 (by decide +kernel) ⟨by decide, by show _ ≤ rm.frames ∧ _ ≤ rm.locals; exact ⟨Nat.le_trans (by decide) hR.1, Nat.le_trans (by decide) hR.2⟩⟩ hcs rfl rfl hW hdg kk
  · exact qG_callU (owner := "WhoseGlass$Glass") (z0 := ⟨"WhoseGlass$Glass", "kind", "()I"⟩) hΓ hK hg rfl 0 (As := []) (metG_kind11 _ hg (x := x) (z := gKind (4, fg)) rfl) (hΓ.1.2.2.2.2 _ q420) (hΓ.1.2.2.2.2 _ q423) q421 q445 (hΓ.1.2.2.2.2 _ q442) q443 q68 q444 (by decide +kernel) ⟨by decide, by show _ ≤ rm.frames ∧ _ ≤ rm.locals; exact ⟨Nat.le_trans (by decide) hR.1, Nat.le_trans (by decide) hR.2⟩⟩ hcs rfl rfl hW hdg kk
  · exact qG_callU (owner := "WhoseGlass$Glass") (z0 := ⟨"WhoseGlass$Glass", "kind", "()I"⟩) hΓ hK hg rfl 0 (As := []) (metG_kind12 _ hg (x := x) (z := gKind (5, fg)) rfl) (hΓ.1.2.2.2.2 _ q420) (hΓ.1.2.2.2.2 _ q423) q421 q445 (hΓ.1.2.2.2.2 _ q430) q431 q69 q432 (by decide +kernel) ⟨by decide, by show _ ≤ rm.frames ∧ _ ≤ rm.locals; exact ⟨Nat.le_trans (by decide) hR.1, Nat.le_trans (by decide) hR.2⟩⟩ hcs rfl rfl hW hdg kk
  · exact qG_callU (owner := "WhoseGlass$Glass") (z0 := ⟨"WhoseGlass$Glass", "kind", "()I"⟩) hΓ hK hg rfl 0 (As := []) (metG_kind13 _ hg (x := x) (z := gKind (6, fg)) rfl) (hΓ.1.2.2.2.2 _ q420) (hΓ.1.2.2.2.2 _ q423) q421 q445 (hΓ.1.2.2.2.2 _ q424) q425 q70 q426 (by decide +kernel) ⟨by decide, by show _ ≤ rm.frames ∧ _ ≤ rm.locals; exact ⟨Nat.le_trans (by decide) hR.1, Nat.le_trans (by decide) hR.2⟩⟩ hcs rfl rfl hW hdg kk
  · exact qG_callU (owner := "WhoseGlass$Glass") (z0 := ⟨"WhoseGlass$Glass", "kind", "()I"⟩) hΓ hK hg rfl 0 (As := []) (metG_kind14 _ hg (x := x) (z := gKind (7, fg)) rfl) (hΓ.1.2.2.2.2 _ q420) (hΓ.1.2.2.2.2 _ q423) q421 q445 (hΓ.1.2.2.2.2 _ q433) q434 q71 q435 (by decide +kernel) ⟨by decide, by show _ ≤ rm.frames ∧ _ ≤ rm.locals; exact ⟨Nat.le_trans (by decide) hR.1, Nat.le_trans (by decide) hR.2⟩⟩ hcs rfl rfl hW hdg kk
theorem qx_isTallTall (hΓ : GOK Γ RX9 cc nL ret Qc (fun q => b ≤ q) rm) (hK : GKX Γ D dA b) {a : Nat} {g : Nat × Int32}  (hg : (a, g) ∈ gs) (hR : 1 ≤ rm.frames ∧ 20 ≤ rm.locals) (hcs : cells ≤ rm.cells ∧ slots ≤ rm.slots) (hW : (st.map fun v => v.category).sum ≤ 8) (hdg : decode cc pc = .ok (.invokevirtual 11, 3))
    (kk : WG Γ (XW D dA b ad P F gs x) cells slots (pc + 3) lv (.int (gTall g) :: st)) : WG Γ (XW D dA b ad P F gs x) cells slots pc lv (.ref a :: st) := by
  refine g_ask (fun H hw => (hw.glassR hg hK.1).1) (fun hg8 => ?_)
  obtain ⟨k, fg⟩ := g
  have hg8 : k < 8 := hg8
  rcases (by omega : k = 0 ∨ k = 1 ∨ k = 2 ∨ k = 3 ∨ k = 4 ∨ k = 5 ∨ k = 6 ∨ k = 7) with rfl | rfl | rfl | rfl | rfl | rfl | rfl | rfl
  · exact qG_callD hΓ hK hg rfl 0 (As := []) (y := yX16_isTall) (z0 := ⟨"WhoseGlass$Glass", "isTall", "()Z"⟩) (List.mem_of_getElem? (i := 2) rfl) (List.mem_of_getElem? (i := 3) rfl) rfl (List.mem_of_getElem? (i := 6) rfl) q468 q470 (by decide) (by decide) rfl rfl dX16_isTall_0 dX16_isTall_1 (by decide +kernel) ⟨by omega, by omega⟩ rfl rfl hW hdg kk
  · exact qG_callD hΓ hK hg rfl 0 (As := []) (y := yX16_isTall) (z0 := ⟨"WhoseGlass$Glass", "isTall", "()Z"⟩) (List.mem_of_getElem? (i := 2) rfl) (List.mem_of_getElem? (i := 3) rfl) rfl (List.mem_of_getElem? (i := 7) rfl) q468 q470 (by decide) (by decide) rfl rfl dX16_isTall_0 dX16_isTall_1 (by decide +kernel) ⟨by omega, by omega⟩ rfl rfl hW hdg kk
  · exact qG_callU (owner := "WhoseGlass$Looks") (z0 := ⟨"WhoseGlass$Glass", "isTall", "()Z"⟩) hΓ hK hg rfl 0 (As := []) (metG_isTall9 _ hg (x := x) (z := gTall (2, fg)) rfl) (va_Nw.use (xnW_ok _ (List.mem_of_getElem? (i := 2) rfl)).1 (hK.2.1.2.2.2.1 _ (List.mem_of_getElem? (i := 2) rfl))) (va_Nw.use (xnW_ok _ (List.mem_of_getElem? (i := 3) rfl)).1 (hK.2.1.2.2.2.1 _ (List.mem_of_getElem? (i := 3) rfl))) q468 q470 (selects_same (x := ⟨"WhoseGlass$Glass", "isTall", "()Z"⟩) (va_Nw.use (xnW_ok _ (List.mem_of_getElem? (i := 3) rfl)).1 (hK.2.1.2.2.2.1 _ (List.mem_of_getElem? (i := 3) rfl))) (by decide) (hΓ.1.2.2.2.2 _ q464)) q465 q66 q466 (by decide +kernel) ⟨by decide, by show _ ≤ rm.frames ∧ _ ≤ rm.locals; exact ⟨Nat.le_trans (by decide) hR.1, Nat.le_trans (by decide) hR.2⟩⟩ hcs rfl rfl hW hdg kk
  · exact qG_callD hΓ hK hg rfl 0 (As := []) (y := yX16_isTall) (z0 := ⟨"WhoseGlass$Glass", "isTall", "()Z"⟩) (List.mem_of_getElem? (i := 2) rfl) (List.mem_of_getElem? (i := 3) rfl) rfl (List.mem_of_getElem? (i := 10) rfl) q468 q470 (by decide) (by decide) rfl rfl dX16_isTall_0 dX16_isTall_1 (by decide +kernel) ⟨by omega, by omega⟩ rfl rfl hW hdg kk
  · exact qG_callU (owner := "WhoseGlass$Looks") (z0 := ⟨"WhoseGlass$Glass", "isTall", "()Z"⟩) hΓ hK hg rfl 0 (As := []) (metG_isTall9 _ hg (x := x) (z := gTall (4, fg)) rfl) (va_Nw.use (xnW_ok _ (List.mem_of_getElem? (i := 2) rfl)).1 (hK.2.1.2.2.2.1 _ (List.mem_of_getElem? (i := 2) rfl))) (va_Nw.use (xnW_ok _ (List.mem_of_getElem? (i := 3) rfl)).1 (hK.2.1.2.2.2.1 _ (List.mem_of_getElem? (i := 3) rfl))) q468 q470 (selects_same (x := ⟨"WhoseGlass$Glass", "isTall", "()Z"⟩) (va_Nw.use (xnW_ok _ (List.mem_of_getElem? (i := 3) rfl)).1 (hK.2.1.2.2.2.1 _ (List.mem_of_getElem? (i := 3) rfl))) (by decide) (hΓ.1.2.2.2.2 _ q467)) q465 q66 q466 (by decide +kernel) ⟨by decide, by show _ ≤ rm.frames ∧ _ ≤ rm.locals; exact ⟨Nat.le_trans (by decide) hR.1, Nat.le_trans (by decide) hR.2⟩⟩ hcs rfl rfl hW hdg kk
  · exact qG_callD hΓ hK hg rfl 0 (As := []) (y := yX16_isTall) (z0 := ⟨"WhoseGlass$Glass", "isTall", "()Z"⟩) (List.mem_of_getElem? (i := 2) rfl) (List.mem_of_getElem? (i := 3) rfl) rfl (List.mem_of_getElem? (i := 8) rfl) q468 q470 (by decide) (by decide) rfl rfl dX16_isTall_0 dX16_isTall_1 (by decide +kernel) ⟨by omega, by omega⟩ rfl rfl hW hdg kk
  · exact qG_callD hΓ hK hg rfl 0 (As := []) (y := yX16_isTall) (z0 := ⟨"WhoseGlass$Glass", "isTall", "()Z"⟩) (List.mem_of_getElem? (i := 2) rfl) (List.mem_of_getElem? (i := 3) rfl) rfl (List.mem_of_getElem? (i := 5) rfl) q468 q470 (by decide) (by decide) rfl rfl dX16_isTall_0 dX16_isTall_1 (by decide +kernel) ⟨by omega, by omega⟩ rfl rfl hW hdg kk
  · exact qG_callD hΓ hK hg rfl 0 (As := []) (y := yX16_isTall) (z0 := ⟨"WhoseGlass$Glass", "isTall", "()Z"⟩) (List.mem_of_getElem? (i := 2) rfl) (List.mem_of_getElem? (i := 3) rfl) rfl (List.mem_of_getElem? (i := 9) rfl) q468 q470 (by decide) (by decide) rfl rfl dX16_isTall_0 dX16_isTall_1 (by decide +kernel) ⟨by omega, by omega⟩ rfl rfl hW hdg kk
theorem qx_isRedRed (hΓ : GOK Γ RX10 cc nL ret Qc (fun q => b ≤ q) rm) (hK : GKX Γ D dA b) {a : Nat} {g : Nat × Int32}  (hg : (a, g) ∈ gs) (hR : 1 ≤ rm.frames ∧ 20 ≤ rm.locals) (hcs : cells ≤ rm.cells ∧ slots ≤ rm.slots) (hW : (st.map fun v => v.category).sum ≤ 8) (hdg : decode cc pc = .ok (.invokevirtual 11, 3))
    (kk : WG Γ (XW D dA b ad P F gs x) cells slots (pc + 3) lv (.int (gRed g) :: st)) : WG Γ (XW D dA b ad P F gs x) cells slots pc lv (.ref a :: st) := by
  refine g_ask (fun H hw => (hw.glassR hg hK.1).1) (fun hg8 => ?_)
  obtain ⟨k, fg⟩ := g
  have hg8 : k < 8 := hg8
  rcases (by omega : k = 0 ∨ k = 1 ∨ k = 2 ∨ k = 3 ∨ k = 4 ∨ k = 5 ∨ k = 6 ∨ k = 7) with rfl | rfl | rfl | rfl | rfl | rfl | rfl | rfl
  · exact qG_callD hΓ hK hg rfl 0 (As := []) (y := yX16_isRed) (z0 := ⟨"WhoseGlass$Glass", "isRed", "()Z"⟩) (List.mem_of_getElem? (i := 0) rfl) (List.mem_of_getElem? (i := 1) rfl) rfl (List.mem_of_getElem? (i := 0) rfl) q411 q413 (by decide) (by decide) rfl rfl dX16_isRed_0 dX16_isRed_1 (by decide +kernel) ⟨by omega, by omega⟩ rfl rfl hW hdg kk
  · exact qG_callD hΓ hK hg rfl 0 (As := []) (y := yX16_isRed) (z0 := ⟨"WhoseGlass$Glass", "isRed", "()Z"⟩) (List.mem_of_getElem? (i := 0) rfl) (List.mem_of_getElem? (i := 1) rfl) rfl (List.mem_of_getElem? (i := 1) rfl) q411 q413 (by decide) (by decide) rfl rfl dX16_isRed_0 dX16_isRed_1 (by decide +kernel) ⟨by omega, by omega⟩ rfl rfl hW hdg kk
  · exact qG_callD hΓ hK hg rfl 0 (As := []) (y := yX16_isRed) (z0 := ⟨"WhoseGlass$Glass", "isRed", "()Z"⟩) (List.mem_of_getElem? (i := 0) rfl) (List.mem_of_getElem? (i := 1) rfl) rfl (List.mem_of_getElem? (i := 3) rfl) q411 q413 (by decide) (by decide) rfl rfl dX16_isRed_0 dX16_isRed_1 (by decide +kernel) ⟨by omega, by omega⟩ rfl rfl hW hdg kk
  · exact qG_callU (owner := "WhoseGlass$Looks") (z0 := ⟨"WhoseGlass$Glass", "isRed", "()Z"⟩) hΓ hK hg rfl 0 (As := []) (metG_isRed10 _ hg (x := x) (z := gRed (3, fg)) rfl) (va_Nw.use (xnW_ok _ (List.mem_of_getElem? (i := 0) rfl)).1 (hK.2.1.2.2.2.1 _ (List.mem_of_getElem? (i := 0) rfl))) (va_Nw.use (xnW_ok _ (List.mem_of_getElem? (i := 1) rfl)).1 (hK.2.1.2.2.2.1 _ (List.mem_of_getElem? (i := 1) rfl))) q411 q413 (selects_same (x := ⟨"WhoseGlass$Glass", "isRed", "()Z"⟩) (va_Nw.use (xnW_ok _ (List.mem_of_getElem? (i := 1) rfl)).1 (hK.2.1.2.2.2.1 _ (List.mem_of_getElem? (i := 1) rfl))) (by decide) (hΓ.1.2.2.2.2 _ q408)) q402 q67 q403 (by decide +kernel) ⟨by decide, by show _ ≤ rm.frames ∧ _ ≤ rm.locals; exact ⟨Nat.le_trans (by decide) hR.1, Nat.le_trans (by decide) hR.2⟩⟩ hcs rfl rfl hW hdg kk
  · exact qG_callD hΓ hK hg rfl 0 (As := []) (y := yX16_isRed) (z0 := ⟨"WhoseGlass$Glass", "isRed", "()Z"⟩) (List.mem_of_getElem? (i := 0) rfl) (List.mem_of_getElem? (i := 1) rfl) rfl (List.mem_of_getElem? (i := 4) rfl) q411 q413 (by decide) (by decide) rfl rfl dX16_isRed_0 dX16_isRed_1 (by decide +kernel) ⟨by omega, by omega⟩ rfl rfl hW hdg kk
  · exact qG_callD hΓ hK hg rfl 0 (As := []) (y := yX16_isRed) (z0 := ⟨"WhoseGlass$Glass", "isRed", "()Z"⟩) (List.mem_of_getElem? (i := 0) rfl) (List.mem_of_getElem? (i := 1) rfl) rfl (List.mem_of_getElem? (i := 2) rfl) q411 q413 (by decide) (by decide) rfl rfl dX16_isRed_0 dX16_isRed_1 (by decide +kernel) ⟨by omega, by omega⟩ rfl rfl hW hdg kk
  · exact qG_callU (owner := "WhoseGlass$Looks") (z0 := ⟨"WhoseGlass$Glass", "isRed", "()Z"⟩) hΓ hK hg rfl 0 (As := []) (metG_isRed10 _ hg (x := x) (z := gRed (6, fg)) rfl) (va_Nw.use (xnW_ok _ (List.mem_of_getElem? (i := 0) rfl)).1 (hK.2.1.2.2.2.1 _ (List.mem_of_getElem? (i := 0) rfl))) (va_Nw.use (xnW_ok _ (List.mem_of_getElem? (i := 1) rfl)).1 (hK.2.1.2.2.2.1 _ (List.mem_of_getElem? (i := 1) rfl))) q411 q413 (selects_same (x := ⟨"WhoseGlass$Glass", "isRed", "()Z"⟩) (va_Nw.use (xnW_ok _ (List.mem_of_getElem? (i := 1) rfl)).1 (hK.2.1.2.2.2.1 _ (List.mem_of_getElem? (i := 1) rfl))) (by decide) (hΓ.1.2.2.2.2 _ q401)) q402 q67 q403 (by decide +kernel) ⟨by decide, by show _ ≤ rm.frames ∧ _ ≤ rm.locals; exact ⟨Nat.le_trans (by decide) hR.1, Nat.le_trans (by decide) hR.2⟩⟩ hcs rfl rfl hW hdg kk
  · exact qG_callU (owner := "WhoseGlass$Looks") (z0 := ⟨"WhoseGlass$Glass", "isRed", "()Z"⟩) hΓ hK hg rfl 0 (As := []) (metG_isRed10 _ hg (x := x) (z := gRed (7, fg)) rfl) (va_Nw.use (xnW_ok _ (List.mem_of_getElem? (i := 0) rfl)).1 (hK.2.1.2.2.2.1 _ (List.mem_of_getElem? (i := 0) rfl))) (va_Nw.use (xnW_ok _ (List.mem_of_getElem? (i := 1) rfl)).1 (hK.2.1.2.2.2.1 _ (List.mem_of_getElem? (i := 1) rfl))) q411 q413 (selects_same (x := ⟨"WhoseGlass$Glass", "isRed", "()Z"⟩) (va_Nw.use (xnW_ok _ (List.mem_of_getElem? (i := 1) rfl)).1 (hK.2.1.2.2.2.1 _ (List.mem_of_getElem? (i := 1) rfl))) (by decide) (hΓ.1.2.2.2.2 _ q407)) q402 q67 q403 (by decide +kernel) ⟨by decide, by show _ ≤ rm.frames ∧ _ ≤ rm.locals; exact ⟨Nat.le_trans (by decide) hR.1, Nat.le_trans (by decide) hR.2⟩⟩ hcs rfl rfl hW hdg kk
end GW1
def G_like7 (x : XS) (g : Nat × Int32) (g0 : Nat × Int32) (a1 : Int32) (a2 : Int32) : Option (Int32) :=
  if g0.2 = g.2 then (
    some (3 : Int32)
  ) else (
    some (1 : Int32)
  )
set_option maxHeartbeats 4000000 in
theorem metG_like7 (l : Launch) {D : va_G} {dA : Nat → ClassId} {b : Nat} {ad : Nat → Nat} {P : Nat → Prop} {F : Nat → va_E} {gs : List (Nat × (Nat × Int32))} {x : XS} {g : Nat × Int32} {g0 : Nat × Int32} {a1 : Int32} {a2 : Int32} {a : Nat} {a0 : Nat} {z : Int32} (hg : (a, g) ∈ gs) (hg0 : (a0, g0) ∈ gs) (hf : G_like7 x g g0 a1 a2 = some z) : Met l yX7_like (ws_ yX7_like cX7_like 4 (some .int)) (rmx_ 0 0 0 0) (xP D dA b ad P F gs [.ref (a), .ref (a0), .int a1, .int a2] x) (xQ D dA b ad P F gs (some (.int z)) x) 0 0 (fun q => b ≤ q) := by
  refine qx_met (by decide) RX7 rfl (Nat.le_of_ble_eq_true rfl) (fun Γ hΓ hK => ?_)
  refine g_sub [0, 1, 2, 3] (lv' := [(0, .ref (a)), (1, .ref (a0)), (2, .int a1), (3, .int a2)]) rfl ?_
  refine g_aload_n hΓ (pc := 0) 1 (i := 1) dX7_like_0 rfl rfl ?_
  refine qG_fig hΓ (pc := 1) hK hg0 q266 (Or.inl rfl) dX7_like_1 ?_
  refine g_aload_n hΓ (pc := 4) 0 (i := 0) dX7_like_4 rfl rfl ?_
  refine qG_fig hΓ (pc := 5) hK hg q266 (Or.inl rfl) dX7_like_5 ?_
  refine g_icmp_ne hΓ (pc := 8) (tgt := 15) dX7_like_8 (by decide) (fun c1 => ?_) (fun c1 => ?_)
  · have hf := ifN hf c1
    refine g_iconst hΓ (pc := 15) (v := 1) dX7_like_15 (by decide) ?_
    exact qX_iretR hΓ hf dX7_like_16
  · have hf := ifP hf c1
    refine g_iconst hΓ (pc := 11) (v := 3) dX7_like_11 (by decide) ?_
    refine g_goto hΓ (pc := 12) (tgt := 16) dX7_like_12 (by decide) ?_
    exact qX_iretR hΓ hf dX7_like_16
def G_like8 (x : XS) (g : Nat × Int32) (g0 : Nat × Int32) (a1 : Int32) (a2 : Int32) : Option (Int32) :=
  if a1 = 0 then (
    some (0 : Int32)
  ) else (
    some (20 : Int32)
  )
set_option maxHeartbeats 4000000 in
theorem metG_like8 (l : Launch) {D : va_G} {dA : Nat → ClassId} {b : Nat} {ad : Nat → Nat} {P : Nat → Prop} {F : Nat → va_E} {gs : List (Nat × (Nat × Int32))} {x : XS} {g : Nat × Int32} {g0 : Nat × Int32} {a1 : Int32} {a2 : Int32} {a : Nat} {a0 : Nat} {z : Int32} (hg : (a, g) ∈ gs) (hg0 : (a0, g0) ∈ gs) (hf : G_like8 x g g0 a1 a2 = some z) : Met l yX8_like (ws_ yX8_like cX8_like 4 (some .int)) (rmx_ 0 0 0 0) (xP D dA b ad P F gs [.ref (a), .ref (a0), .int a1, .int a2] x) (xQ D dA b ad P F gs (some (.int z)) x) 0 0 (fun q => b ≤ q) := by
  refine qx_met (by decide) RX8 rfl (Nat.le_of_ble_eq_true rfl) (fun Γ hΓ hK => ?_)
  refine g_sub [0, 1, 2, 3] (lv' := [(0, .ref (a)), (1, .ref (a0)), (2, .int a1), (3, .int a2)]) rfl ?_
  refine g_iload_n hΓ (pc := 0) 2 (i := 2) dX8_like_0 rfl rfl ?_
  refine g_if_eq hΓ (pc := 1) (tgt := 9) dX8_like_1 (by decide) (fun c1 => ?_) (fun c1 => ?_)
  · have hf := ifP hf c1
    refine g_iconst hΓ (pc := 9) (v := 0) dX8_like_9 (by decide) ?_
    exact qX_iretR hΓ hf dX8_like_10
  · have hf := ifN hf c1
    refine g_bipush hΓ (pc := 4) (v := 20) dX8_like_4 (by decide) ?_
    refine g_goto hΓ (pc := 6) (tgt := 10) dX8_like_6 (by decide) ?_
    exact qX_iretR hΓ hf dX8_like_10
def G_like9 (x : XS) (g : Nat × Int32) (g0 : Nat × Int32) (a1 : Int32) (a2 : Int32) : Option (Int32) :=
  (G_like7 x g g0 a1 a2).bind fun x1 =>
  if (gTall g0) = 0 then (
    some (x1 + (0 : Int32))
  ) else (
    some (x1 + (3 : Int32))
  )
set_option maxHeartbeats 4000000 in
theorem metG_like9 (l : Launch) {D : va_G} {dA : Nat → ClassId} {b : Nat} {ad : Nat → Nat} {P : Nat → Prop} {F : Nat → va_E} {gs : List (Nat × (Nat × Int32))} {x : XS} {g : Nat × Int32} {g0 : Nat × Int32} {a1 : Int32} {a2 : Int32} {a : Nat} {a0 : Nat} {z : Int32} (hg : (a, g) ∈ gs) (hg0 : (a0, g0) ∈ gs) (hf : G_like9 x g g0 a1 a2 = some z) : Met l yX9_like (ws_ yX9_like cX9_like 4 (some .int)) (rmx_ 1 40 0 0) (xP D dA b ad P F gs [.ref (a), .ref (a0), .int a1, .int a2] x) (xQ D dA b ad P F gs (some (.int z)) x) 0 0 (fun q => b ≤ q) := by
  refine qx_met (by decide) RX9 rfl (Nat.le_of_ble_eq_true rfl) (fun Γ hΓ hK => ?_)
  refine g_sub [0, 1, 2, 3] (lv' := [(0, .ref (a)), (1, .ref (a0)), (2, .int a1), (3, .int a2)]) rfl ?_
  refine g_aload_n hΓ (pc := 0) 0 (i := 0) dX9_like_0 rfl rfl ?_
  refine g_aload_n hΓ (pc := 1) 1 (i := 1) dX9_like_1 rfl rfl ?_
  refine g_iload_n hΓ (pc := 2) 2 (i := 2) dX9_like_2 rfl rfl ?_
  refine g_iload_n hΓ (pc := 3) 3 (i := 3) dX9_like_3 rfl rfl ?_
  obtain ⟨x1, hx1, hf⟩ := bindE hf
  refine qG_supU hΓ (pc := 4) hK hg 3 (As := [.ref (a0), .int a1, .int a2]) (metG_like7 _ hg hg0 hx1) q456 q392 q294 q390 q64 q477 (by decide +kernel) (by decide) ⟨by show 0 + 0 ≤ 0; omega, by show 0 + 0 ≤ 0; omega⟩ rfl rfl (Nat.le_of_ble_eq_true rfl) dX9_like_4 ?_
  refine g_aload_n hΓ (pc := 7) 1 (i := 1) dX9_like_7 rfl rfl ?_
  refine qx_isTallTall hΓ (pc := 8) hK hg0 (by decide) ⟨by show 0 ≤ 0; omega, by show 0 ≤ 0; omega⟩ (Nat.le_of_ble_eq_true rfl) dX9_like_8 ?_
  refine g_if_eq hΓ (pc := 11) (tgt := 18) dX9_like_11 (by decide) (fun c2 => ?_) (fun c2 => ?_)
  · have hf := ifP hf c2
    refine g_iconst hΓ (pc := 18) (v := 0) dX9_like_18 (by decide) ?_
    refine g_iadd hΓ (pc := 19) dX9_like_19 ?_
    exact qX_iretR hΓ hf dX9_like_20
  · have hf := ifN hf c2
    refine g_iconst hΓ (pc := 14) (v := 3) dX9_like_14 (by decide) ?_
    refine g_goto hΓ (pc := 15) (tgt := 19) dX9_like_15 (by decide) ?_
    refine g_iadd hΓ (pc := 19) dX9_like_19 ?_
    exact qX_iretR hΓ hf dX9_like_20
def G_like10 (x : XS) (g : Nat × Int32) (g0 : Nat × Int32) (a1 : Int32) (a2 : Int32) : Option (Int32) :=
  (G_like7 x g g0 a1 a2).bind fun x1 =>
  if (gRed g0) = 0 then (
    some (x1 + (0 : Int32))
  ) else (
    some (x1 + (4 : Int32))
  )
set_option maxHeartbeats 4000000 in
theorem metG_like10 (l : Launch) {D : va_G} {dA : Nat → ClassId} {b : Nat} {ad : Nat → Nat} {P : Nat → Prop} {F : Nat → va_E} {gs : List (Nat × (Nat × Int32))} {x : XS} {g : Nat × Int32} {g0 : Nat × Int32} {a1 : Int32} {a2 : Int32} {a : Nat} {a0 : Nat} {z : Int32} (hg : (a, g) ∈ gs) (hg0 : (a0, g0) ∈ gs) (hf : G_like10 x g g0 a1 a2 = some z) : Met l yX10_like (ws_ yX10_like cX10_like 4 (some .int)) (rmx_ 1 40 0 0) (xP D dA b ad P F gs [.ref (a), .ref (a0), .int a1, .int a2] x) (xQ D dA b ad P F gs (some (.int z)) x) 0 0 (fun q => b ≤ q) := by
  refine qx_met (by decide) RX10 rfl (Nat.le_of_ble_eq_true rfl) (fun Γ hΓ hK => ?_)
  refine g_sub [0, 1, 2, 3] (lv' := [(0, .ref (a)), (1, .ref (a0)), (2, .int a1), (3, .int a2)]) rfl ?_
  refine g_aload_n hΓ (pc := 0) 0 (i := 0) dX10_like_0 rfl rfl ?_
  refine g_aload_n hΓ (pc := 1) 1 (i := 1) dX10_like_1 rfl rfl ?_
  refine g_iload_n hΓ (pc := 2) 2 (i := 2) dX10_like_2 rfl rfl ?_
  refine g_iload_n hΓ (pc := 3) 3 (i := 3) dX10_like_3 rfl rfl ?_
  obtain ⟨x1, hx1, hf⟩ := bindE hf
  refine qG_supU hΓ (pc := 4) hK hg 3 (As := [.ref (a0), .int a1, .int a2]) (metG_like7 _ hg hg0 hx1) q399 q392 q302 q390 q64 q477 (by decide +kernel) (by decide) ⟨by show 0 + 0 ≤ 0; omega, by show 0 + 0 ≤ 0; omega⟩ rfl rfl (Nat.le_of_ble_eq_true rfl) dX10_like_4 ?_
  refine g_aload_n hΓ (pc := 7) 1 (i := 1) dX10_like_7 rfl rfl ?_
  refine qx_isRedRed hΓ (pc := 8) hK hg0 (by decide) ⟨by show 0 ≤ 0; omega, by show 0 ≤ 0; omega⟩ (Nat.le_of_ble_eq_true rfl) dX10_like_8 ?_
  refine g_if_eq hΓ (pc := 11) (tgt := 18) dX10_like_11 (by decide) (fun c2 => ?_) (fun c2 => ?_)
  · have hf := ifP hf c2
    refine g_iconst hΓ (pc := 18) (v := 0) dX10_like_18 (by decide) ?_
    refine g_iadd hΓ (pc := 19) dX10_like_19 ?_
    exact qX_iretR hΓ hf dX10_like_20
  · have hf := ifN hf c2
    refine g_iconst hΓ (pc := 14) (v := 4) dX10_like_14 (by decide) ?_
    refine g_goto hΓ (pc := 15) (tgt := 19) dX10_like_15 (by decide) ?_
    refine g_iadd hΓ (pc := 19) dX10_like_19 ?_
    exact qX_iretR hΓ hf dX10_like_20
def G_like11 (x : XS) (g : Nat × Int32) (g0 : Nat × Int32) (a1 : Int32) (a2 : Int32) : Option (Int32) :=
  (G_like9 x g g0 a1 a2).bind fun x1 =>
  if (gKind g0) = (4 : Int32) then (
    some (x1 + (1 : Int32))
  ) else (
    some (x1 + (0 : Int32))
  )
set_option maxHeartbeats 4000000 in
theorem metG_like11 (l : Launch) {D : va_G} {dA : Nat → ClassId} {b : Nat} {ad : Nat → Nat} {P : Nat → Prop} {F : Nat → va_E} {gs : List (Nat × (Nat × Int32))} {x : XS} {g : Nat × Int32} {g0 : Nat × Int32} {a1 : Int32} {a2 : Int32} {a : Nat} {a0 : Nat} {z : Int32} (hg : (a, g) ∈ gs) (hg0 : (a0, g0) ∈ gs) (hk : g.1 = 4) (hf : G_like11 x g g0 a1 a2 = some z) : Met l yX11_like (ws_ yX11_like cX11_like 4 (some .int)) (rmx_ 2 63 0 0) (xP D dA b ad P F gs [.ref (a), .ref (a0), .int a1, .int a2] x) (xQ D dA b ad P F gs (some (.int z)) x) 0 0 (fun q => b ≤ q) := by
  refine qx_met (by decide) RX11 rfl (Nat.le_of_ble_eq_true rfl) (fun Γ hΓ hK => ?_)
  refine g_sub [0, 1, 2, 3] (lv' := [(0, .ref (a)), (1, .ref (a0)), (2, .int a1), (3, .int a2)]) rfl ?_
  refine g_aload_n hΓ (pc := 0) 0 (i := 0) dX11_like_0 rfl rfl ?_
  refine g_aload_n hΓ (pc := 1) 1 (i := 1) dX11_like_1 rfl rfl ?_
  refine g_iload_n hΓ (pc := 2) 2 (i := 2) dX11_like_2 rfl rfl ?_
  refine g_iload_n hΓ (pc := 3) 3 (i := 3) dX11_like_3 rfl rfl ?_
  obtain ⟨x1, hx1, hf⟩ := bindE hf
  refine qG_supU hΓ (pc := 4) hK hg 3 (As := [.ref (a0), .int a1, .int a2]) (metG_like9 _ hg hg0 hx1) q474 q1567 q310 q454 q66 q455 (by decide +kernel) (by decide) ⟨by show 0 + 0 ≤ 0; omega, by show 0 + 0 ≤ 0; omega⟩ rfl rfl (Nat.le_of_ble_eq_true rfl) dX11_like_4 ?_
  refine g_aload_n hΓ (pc := 7) 1 (i := 1) dX11_like_7 rfl rfl ?_
  refine qx_kindWater hΓ (pc := 8) hK hg0 (by decide) ⟨by show 0 ≤ 0; omega, by show 0 ≤ 0; omega⟩ (Nat.le_of_ble_eq_true rfl) dX11_like_8 ?_
  refine g_aload_n hΓ (pc := 11) 0 (i := 0) dX11_like_11 rfl rfl ?_
  refine qG_callW hΓ (pc := 12) hK hg (by rw [hk]; rfl) 0 (As := []) (metG_kind11 _ hg (x := x) rfl) (lw_V q476 q443 q1568 q68 q444) (by decide +kernel) (by decide) ⟨by show 0 + 0 ≤ 0; omega, by show 0 + 0 ≤ 0; omega⟩ rfl rfl (Nat.le_of_ble_eq_true rfl) dX11_like_12 ?_
  refine g_icmp_ne hΓ (pc := 15) (tgt := 22) dX11_like_15 (by decide) (fun c2 => ?_) (fun c2 => ?_)
  · have hf := ifN hf c2
    refine g_iconst hΓ (pc := 22) (v := 0) dX11_like_22 (by decide) ?_
    refine g_iadd hΓ (pc := 23) dX11_like_23 ?_
    exact qX_iretR hΓ hf dX11_like_24
  · have hf := ifP hf c2
    refine g_iconst hΓ (pc := 18) (v := 1) dX11_like_18 (by decide) ?_
    refine g_goto hΓ (pc := 19) (tgt := 23) dX11_like_19 (by decide) ?_
    refine g_iadd hΓ (pc := 23) dX11_like_23 ?_
    exact qX_iretR hΓ hf dX11_like_24
def G_like12_19 (x : XS) (g : Nat × Int32) (g0 : Nat × Int32) (y2 : Int32) (y3 : Int32) : Option (Int32) :=
  (G_like8 x g g0 y2 y3).bind fun x1 =>
  some x1
def G_like12 (x : XS) (g : Nat × Int32) (g0 : Nat × Int32) (a1 : Int32) (a2 : Int32) : Option (Int32) :=
  if a1 = 0 then (
    if (gKind g0) = (5 : Int32) then (
      some (5 : Int32)
    ) else (
      G_like12_19 x g g0 a1 a2
    )
  ) else (
    G_like12_19 x g g0 a1 a2
  )
set_option maxHeartbeats 4000000 in
theorem metG_like12 (l : Launch) {D : va_G} {dA : Nat → ClassId} {b : Nat} {ad : Nat → Nat} {P : Nat → Prop} {F : Nat → va_E} {gs : List (Nat × (Nat × Int32))} {x : XS} {g : Nat × Int32} {g0 : Nat × Int32} {a1 : Int32} {a2 : Int32} {a : Nat} {a0 : Nat} {z : Int32} (hg : (a, g) ∈ gs) (hg0 : (a0, g0) ∈ gs) (hk : g.1 = 5) (hf : G_like12 x g g0 a1 a2 = some z) : Met l yX12_like (ws_ yX12_like cX12_like 4 (some .int)) (rmx_ 1 40 0 0) (xP D dA b ad P F gs [.ref (a), .ref (a0), .int a1, .int a2] x) (xQ D dA b ad P F gs (some (.int z)) x) 0 0 (fun q => b ≤ q) := by
  refine qx_met (by decide) RX12 rfl (Nat.le_of_ble_eq_true rfl) (fun Γ hΓ hK => ?_)
  refine g_sub [0, 1, 2, 3] (lv' := [(0, .ref (a)), (1, .ref (a0)), (2, .int a1), (3, .int a2)]) rfl ?_
  have J19 : ∀ (y2 : Int32) (y3 : Int32) (hf : G_like12_19 x g g0  y2 y3 = some z), WG Γ (XW D dA b ad P F gs x) 0 0 19 [(0, .ref (a)), (1, .ref (a0)), (2, .int y2), (3, .int y3)] [] := by
    intro  y2 y3 hf
    refine g_aload_n hΓ (pc := 19) 0 (i := 0) dX12_like_19 rfl rfl ?_
    refine g_aload_n hΓ (pc := 20) 1 (i := 1) dX12_like_20 rfl rfl ?_
    refine g_iload_n hΓ (pc := 21) 2 (i := 2) dX12_like_21 rfl rfl ?_
    refine g_iload_n hΓ (pc := 22) 3 (i := 3) dX12_like_22 rfl rfl ?_
    obtain ⟨x1, hx1, hf⟩ := bindE hf
    refine qG_supU hΓ (pc := 23) hK hg 3 (As := [.ref (a0), .int y2, .int y3]) (metG_like8 _ hg hg0 hx1) q447 q1566 q318 q415 q65 q416 (by decide +kernel) (by decide) ⟨by show 0 + 0 ≤ 0; omega, by show 0 + 0 ≤ 0; omega⟩ rfl rfl (Nat.le_of_ble_eq_true rfl) dX12_like_23 ?_
    exact qX_iretR hΓ hf dX12_like_26
  refine g_iload_n hΓ (pc := 0) 2 (i := 2) dX12_like_0 rfl rfl ?_
  refine g_if_ne hΓ (pc := 1) (tgt := 19) dX12_like_1 (by decide) (fun c2 => ?_) (fun c2 => ?_)
  · have hf := ifN hf c2
    exact g_sub [0, 1, 2, 3] rfl (J19  _ _ hf)
  · have hf := ifP hf c2
    refine g_aload_n hΓ (pc := 4) 1 (i := 1) dX12_like_4 rfl rfl ?_
    refine qx_kindOwl hΓ (pc := 5) hK hg0 (by decide) ⟨by show 0 ≤ 0; omega, by show 0 ≤ 0; omega⟩ (Nat.le_of_ble_eq_true rfl) dX12_like_5 ?_
    refine g_aload_n hΓ (pc := 8) 0 (i := 0) dX12_like_8 rfl rfl ?_
    refine qG_callW hΓ (pc := 9) hK hg (by rw [hk]; rfl) 0 (As := []) (metG_kind12 _ hg (x := x) rfl) (lw_V q446 q431 q1565 q69 q432) (by decide +kernel) (by decide) ⟨by show 0 + 0 ≤ 0; omega, by show 0 + 0 ≤ 0; omega⟩ rfl rfl (Nat.le_of_ble_eq_true rfl) dX12_like_9 ?_
    refine g_icmp_ne hΓ (pc := 12) (tgt := 19) dX12_like_12 (by decide) (fun c3 => ?_) (fun c3 => ?_)
    · have hf := ifN hf c3
      exact g_sub [0, 1, 2, 3] rfl (J19  _ _ hf)
    · have hf := ifP hf c3
      refine g_iconst hΓ (pc := 15) (v := 5) dX12_like_15 (by decide) ?_
      refine g_goto hΓ (pc := 16) (tgt := 26) dX12_like_16 (by decide) ?_
      exact qX_iretR hΓ hf dX12_like_26
def G_like13 (x : XS) (g : Nat × Int32) (g0 : Nat × Int32) (a1 : Int32) (a2 : Int32) : Option (Int32) :=
  if a1 = 0 then (
    (G_like10 x g g0 (0 : Int32) a2).bind fun x2 =>
    some x2
  ) else (
    (G_like10 x g g0 (1 : Int32) a2).bind fun x3 =>
    some ((2 : Int32) * x3)
  )
set_option maxHeartbeats 4000000 in
theorem metG_like13 (l : Launch) {D : va_G} {dA : Nat → ClassId} {b : Nat} {ad : Nat → Nat} {P : Nat → Prop} {F : Nat → va_E} {gs : List (Nat × (Nat × Int32))} {x : XS} {g : Nat × Int32} {g0 : Nat × Int32} {a1 : Int32} {a2 : Int32} {a : Nat} {a0 : Nat} {z : Int32} (hg : (a, g) ∈ gs) (hg0 : (a0, g0) ∈ gs) (hf : G_like13 x g g0 a1 a2 = some z) : Met l yX13_like (ws_ yX13_like cX13_like 4 (some .int)) (rmx_ 2 63 0 0) (xP D dA b ad P F gs [.ref (a), .ref (a0), .int a1, .int a2] x) (xQ D dA b ad P F gs (some (.int z)) x) 0 0 (fun q => b ≤ q) := by
  refine qx_met (by decide) RX13 rfl (Nat.le_of_ble_eq_true rfl) (fun Γ hΓ hK => ?_)
  refine g_sub [0, 1, 2, 3] (lv' := [(0, .ref (a)), (1, .ref (a0)), (2, .int a1), (3, .int a2)]) rfl ?_
  refine g_iload_n hΓ (pc := 0) 2 (i := 2) dX13_like_0 rfl rfl ?_
  refine g_if_eq hΓ (pc := 1) (tgt := 16) dX13_like_1 (by decide) (fun c1 => ?_) (fun c1 => ?_)
  · have hf := ifP hf c1
    refine g_aload_n hΓ (pc := 16) 0 (i := 0) dX13_like_16 rfl rfl ?_
    refine g_aload_n hΓ (pc := 17) 1 (i := 1) dX13_like_17 rfl rfl ?_
    refine g_iconst hΓ (pc := 18) (v := 0) dX13_like_18 (by decide) ?_
    refine g_iload_n hΓ (pc := 19) 3 (i := 3) dX13_like_19 rfl rfl ?_
    obtain ⟨x2, hx2, hf⟩ := bindE hf
    refine qG_supU hΓ (pc := 20) hK hg 3 (As := [.ref (a0), .int (0 : Int32), .int a2]) (metG_like10 _ hg hg0 hx2) q396 q1564 q326 q397 q67 q398 (by decide +kernel) (by decide) ⟨by show 0 + 0 ≤ 0; omega, by show 0 + 0 ≤ 0; omega⟩ rfl rfl (Nat.le_of_ble_eq_true rfl) dX13_like_20 ?_
    exact qX_iretR hΓ hf dX13_like_23
  · have hf := ifN hf c1
    refine g_iconst hΓ (pc := 4) (v := 2) dX13_like_4 (by decide) ?_
    refine g_aload_n hΓ (pc := 5) 0 (i := 0) dX13_like_5 rfl rfl ?_
    refine g_aload_n hΓ (pc := 6) 1 (i := 1) dX13_like_6 rfl rfl ?_
    refine g_iconst hΓ (pc := 7) (v := 1) dX13_like_7 (by decide) ?_
    refine g_iload_n hΓ (pc := 8) 3 (i := 3) dX13_like_8 rfl rfl ?_
    obtain ⟨x3, hx3, hf⟩ := bindE hf
    refine qG_supU hΓ (pc := 9) hK hg 3 (As := [.ref (a0), .int (1 : Int32), .int a2]) (metG_like10 _ hg hg0 hx3) q396 q1564 q326 q397 q67 q398 (by decide +kernel) (by decide) ⟨by show 0 + 0 ≤ 0; omega, by show 0 + 0 ≤ 0; omega⟩ rfl rfl (Nat.le_of_ble_eq_true rfl) dX13_like_9 ?_
    refine g_imul hΓ (pc := 12) dX13_like_12 ?_
    refine g_goto hΓ (pc := 13) (tgt := 23) dX13_like_13 (by decide) ?_
    exact qX_iretR hΓ hf dX13_like_23
def G_like14 (x : XS) (g : Nat × Int32) (g0 : Nat × Int32) (a1 : Int32) (a2 : Int32) : Option (Int32) :=
  if a2 = 0 then (
    some (0 : Int32)
  ) else (
    (G_like10 x g g0 a1 a2).bind fun x2 =>
    some x2
  )
set_option maxHeartbeats 4000000 in
theorem metG_like14 (l : Launch) {D : va_G} {dA : Nat → ClassId} {b : Nat} {ad : Nat → Nat} {P : Nat → Prop} {F : Nat → va_E} {gs : List (Nat × (Nat × Int32))} {x : XS} {g : Nat × Int32} {g0 : Nat × Int32} {a1 : Int32} {a2 : Int32} {a : Nat} {a0 : Nat} {z : Int32} (hg : (a, g) ∈ gs) (hg0 : (a0, g0) ∈ gs) (hf : G_like14 x g g0 a1 a2 = some z) : Met l yX14_like (ws_ yX14_like cX14_like 4 (some .int)) (rmx_ 2 63 0 0) (xP D dA b ad P F gs [.ref (a), .ref (a0), .int a1, .int a2] x) (xQ D dA b ad P F gs (some (.int z)) x) 0 0 (fun q => b ≤ q) := by
  refine qx_met (by decide) RX14 rfl (Nat.le_of_ble_eq_true rfl) (fun Γ hΓ hK => ?_)
  refine g_sub [0, 1, 2, 3] (lv' := [(0, .ref (a)), (1, .ref (a0)), (2, .int a1), (3, .int a2)]) rfl ?_
  refine g_iload_n hΓ (pc := 0) 3 (i := 3) dX14_like_0 rfl rfl ?_
  refine g_if_ne hΓ (pc := 1) (tgt := 8) dX14_like_1 (by decide) (fun c1 => ?_) (fun c1 => ?_)
  · have hf := ifN hf c1
    refine g_aload_n hΓ (pc := 8) 0 (i := 0) dX14_like_8 rfl rfl ?_
    refine g_aload_n hΓ (pc := 9) 1 (i := 1) dX14_like_9 rfl rfl ?_
    refine g_iload_n hΓ (pc := 10) 2 (i := 2) dX14_like_10 rfl rfl ?_
    refine g_iload_n hΓ (pc := 11) 3 (i := 3) dX14_like_11 rfl rfl ?_
    obtain ⟨x2, hx2, hf⟩ := bindE hf
    refine qG_supU hΓ (pc := 12) hK hg 3 (As := [.ref (a0), .int a1, .int a2]) (metG_like10 _ hg hg0 hx2) q451 q1564 q334 q397 q67 q398 (by decide +kernel) (by decide) ⟨by show 0 + 0 ≤ 0; omega, by show 0 + 0 ≤ 0; omega⟩ rfl rfl (Nat.le_of_ble_eq_true rfl) dX14_like_12 ?_
    exact qX_iretR hΓ hf dX14_like_15
  · have hf := ifP hf c1
    refine g_iconst hΓ (pc := 4) (v := 0) dX14_like_4 (by decide) ?_
    refine g_goto hΓ (pc := 5) (tgt := 15) dX14_like_5 (by decide) ?_
    exact qX_iretR hΓ hf dX14_like_15
def G_strength9 (x : XS) (g : Nat × Int32) (a0 : Int32) : Option (Int32) :=
  some ((2 : Int32) - (1 : Int32))
set_option maxHeartbeats 4000000 in
theorem metG_strength9 (l : Launch) {D : va_G} {dA : Nat → ClassId} {b : Nat} {ad : Nat → Nat} {P : Nat → Prop} {F : Nat → va_E} {gs : List (Nat × (Nat × Int32))} {x : XS} {g : Nat × Int32} {a0 : Int32} {a : Nat} {z : Int32} (hg : (a, g) ∈ gs) (hf : G_strength9 x g a0 = some z) : Met l yX9_strength (ws_ yX9_strength cX9_strength 2 (some .int)) (rmx_ 1 21 0 0) (xP D dA b ad P F gs [.ref (a), .int a0] x) (xQ D dA b ad P F gs (some (.int z)) x) 0 0 (fun q => b ≤ q) := by
  refine qx_met (by decide) RX9 rfl (Nat.le_of_ble_eq_true rfl) (fun Γ hΓ hK => ?_)
  refine g_sub [0, 1] (lv' := [(0, .ref (a)), (1, .int a0)]) rfl ?_
  refine g_aload_n hΓ (pc := 0) 0 (i := 0) dX9_strength_0 rfl rfl ?_
  refine g_iload_n hΓ (pc := 1) 1 (i := 1) dX9_strength_1 rfl rfl ?_
  refine qG_supD hΓ (pc := 2) hK hg 1 (As := [.int a0]) (y := yX17_strength) (z0 := ⟨"WhoseGlass$Glass", "strength", "(I)I"⟩) (List.mem_of_getElem? (i := 7) rfl) (List.mem_of_getElem? (i := 5) rfl) rfl (List.mem_of_getElem? (i := 11) rfl) q294 q493 q494 (by decide) (by decide) rfl rfl dX17_strength_0 dX17_strength_1 (by decide +kernel) (by decide) rfl rfl (Nat.le_of_ble_eq_true rfl) dX9_strength_2 ?_
  refine g_iconst hΓ (pc := 5) (v := 1) dX9_strength_5 (by decide) ?_
  refine g_isub hΓ (pc := 6) dX9_strength_6 ?_
  exact qX_iretR hΓ hf dX9_strength_7
def G_strength10 (x : XS) (g : Nat × Int32) (a0 : Int32) : Option (Int32) :=
  some ((2 : Int32) + g.2)
set_option maxHeartbeats 4000000 in
theorem metG_strength10 (l : Launch) {D : va_G} {dA : Nat → ClassId} {b : Nat} {ad : Nat → Nat} {P : Nat → Prop} {F : Nat → va_E} {gs : List (Nat × (Nat × Int32))} {x : XS} {g : Nat × Int32} {a0 : Int32} {a : Nat} {z : Int32} (hg : (a, g) ∈ gs) (hf : G_strength10 x g a0 = some z) : Met l yX10_strength (ws_ yX10_strength cX10_strength 2 (some .int)) (rmx_ 1 21 0 0) (xP D dA b ad P F gs [.ref (a), .int a0] x) (xQ D dA b ad P F gs (some (.int z)) x) 0 0 (fun q => b ≤ q) := by
  refine qx_met (by decide) RX10 rfl (Nat.le_of_ble_eq_true rfl) (fun Γ hΓ hK => ?_)
  refine g_sub [0, 1] (lv' := [(0, .ref (a)), (1, .int a0)]) rfl ?_
  refine g_aload_n hΓ (pc := 0) 0 (i := 0) dX10_strength_0 rfl rfl ?_
  refine g_iload_n hΓ (pc := 1) 1 (i := 1) dX10_strength_1 rfl rfl ?_
  refine qG_supD hΓ (pc := 2) hK hg 1 (As := [.int a0]) (y := yX17_strength) (z0 := ⟨"WhoseGlass$Glass", "strength", "(I)I"⟩) (List.mem_of_getElem? (i := 6) rfl) (List.mem_of_getElem? (i := 5) rfl) rfl (List.mem_of_getElem? (i := 11) rfl) q302 q493 q494 (by decide) (by decide) rfl rfl dX17_strength_0 dX17_strength_1 (by decide +kernel) (by decide) rfl rfl (Nat.le_of_ble_eq_true rfl) dX10_strength_2 ?_
  refine g_aload_n hΓ (pc := 5) 0 (i := 0) dX10_strength_5 rfl rfl ?_
  refine qG_fig hΓ (pc := 6) hK hg q271 (Or.inr q272) dX10_strength_6 ?_
  refine g_iadd hΓ (pc := 9) dX10_strength_9 ?_
  exact qX_iretR hΓ hf dX10_strength_10
def G_strength11 (x : XS) (g : Nat × Int32) (a0 : Int32) : Option (Int32) :=
  some (0 : Int32)
set_option maxHeartbeats 4000000 in
theorem metG_strength11 (l : Launch) {D : va_G} {dA : Nat → ClassId} {b : Nat} {ad : Nat → Nat} {P : Nat → Prop} {F : Nat → va_E} {gs : List (Nat × (Nat × Int32))} {x : XS} {g : Nat × Int32} {a0 : Int32} {a : Nat} {z : Int32} (hg : (a, g) ∈ gs) (hf : G_strength11 x g a0 = some z) : Met l yX11_strength (ws_ yX11_strength cX11_strength 2 (some .int)) (rmx_ 0 0 0 0) (xP D dA b ad P F gs [.ref (a), .int a0] x) (xQ D dA b ad P F gs (some (.int z)) x) 0 0 (fun q => b ≤ q) := by
  refine qx_met (by decide) RX11 rfl (Nat.le_of_ble_eq_true rfl) (fun Γ hΓ hK => ?_)
  refine g_sub [0, 1] (lv' := [(0, .ref (a)), (1, .int a0)]) rfl ?_
  refine g_iconst hΓ (pc := 0) (v := 0) dX11_strength_0 (by decide) ?_
  exact qX_iretR hΓ hf dX11_strength_1
def G_strength13 (x : XS) (g : Nat × Int32) (a0 : Int32) : Option (Int32) :=
  if (a0 - a0 / (2 : Int32) * (2 : Int32)) = (1 : Int32) then (
    some (0 : Int32)
  ) else (
    (G_strength10 x g a0).bind fun x2 =>
    some x2
  )
set_option maxHeartbeats 4000000 in
theorem metG_strength13 (l : Launch) {D : va_G} {dA : Nat → ClassId} {b : Nat} {ad : Nat → Nat} {P : Nat → Prop} {F : Nat → va_E} {gs : List (Nat × (Nat × Int32))} {x : XS} {g : Nat × Int32} {a0 : Int32} {a : Nat} {z : Int32} (hg : (a, g) ∈ gs) (hf : G_strength13 x g a0 = some z) : Met l yX13_strength (ws_ yX13_strength cX13_strength 2 (some .int)) (rmx_ 2 42 0 0) (xP D dA b ad P F gs [.ref (a), .int a0] x) (xQ D dA b ad P F gs (some (.int z)) x) 0 0 (fun q => b ≤ q) := by
  refine qx_met (by decide) RX13 rfl (Nat.le_of_ble_eq_true rfl) (fun Γ hΓ hK => ?_)
  refine g_sub [0, 1] (lv' := [(0, .ref (a)), (1, .int a0)]) rfl ?_
  refine g_iload_n hΓ (pc := 0) 1 (i := 1) dX13_strength_0 rfl rfl ?_
  refine g_iconst hΓ (pc := 1) (v := 2) dX13_strength_1 (by decide) ?_
  refine g_irem hΓ (pc := 2) dX13_strength_2 (by decide) ?_
  refine g_iconst hΓ (pc := 3) (v := 1) dX13_strength_3 (by decide) ?_
  refine g_icmp_ne hΓ (pc := 4) (tgt := 11) dX13_strength_4 (by decide) (fun c1 => ?_) (fun c1 => ?_)
  · have hf := ifN hf c1
    refine g_aload_n hΓ (pc := 11) 0 (i := 0) dX13_strength_11 rfl rfl ?_
    refine g_iload_n hΓ (pc := 12) 1 (i := 1) dX13_strength_12 rfl rfl ?_
    obtain ⟨x2, hx2, hf⟩ := bindE hf
    refine qG_supU hΓ (pc := 13) hK hg 1 (As := [.int a0]) (metG_strength10 _ hg hx2) q490 q1569 q326 q491 q67 q492 (by decide +kernel) (by decide) ⟨by show 0 + 0 ≤ 0; omega, by show 0 + 0 ≤ 0; omega⟩ rfl rfl (Nat.le_of_ble_eq_true rfl) dX13_strength_13 ?_
    exact qX_iretR hΓ hf dX13_strength_16
  · have hf := ifP hf c1
    refine g_iconst hΓ (pc := 7) (v := 0) dX13_strength_7 (by decide) ?_
    refine g_goto hΓ (pc := 8) (tgt := 16) dX13_strength_8 (by decide) ?_
    exact qX_iretR hΓ hf dX13_strength_16
def G_strength14 (x : XS) (g : Nat × Int32) (a0 : Int32) : Option (Int32) :=
  (G_strength10 x g a0).bind fun x1 =>
  some (x1 + (1 : Int32))
set_option maxHeartbeats 4000000 in
theorem metG_strength14 (l : Launch) {D : va_G} {dA : Nat → ClassId} {b : Nat} {ad : Nat → Nat} {P : Nat → Prop} {F : Nat → va_E} {gs : List (Nat × (Nat × Int32))} {x : XS} {g : Nat × Int32} {a0 : Int32} {a : Nat} {z : Int32} (hg : (a, g) ∈ gs) (hf : G_strength14 x g a0 = some z) : Met l yX14_strength (ws_ yX14_strength cX14_strength 2 (some .int)) (rmx_ 2 42 0 0) (xP D dA b ad P F gs [.ref (a), .int a0] x) (xQ D dA b ad P F gs (some (.int z)) x) 0 0 (fun q => b ≤ q) := by
  refine qx_met (by decide) RX14 rfl (Nat.le_of_ble_eq_true rfl) (fun Γ hΓ hK => ?_)
  refine g_sub [0, 1] (lv' := [(0, .ref (a)), (1, .int a0)]) rfl ?_
  refine g_aload_n hΓ (pc := 0) 0 (i := 0) dX14_strength_0 rfl rfl ?_
  refine g_iload_n hΓ (pc := 1) 1 (i := 1) dX14_strength_1 rfl rfl ?_
  obtain ⟨x1, hx1, hf⟩ := bindE hf
  refine qG_supU hΓ (pc := 2) hK hg 1 (As := [.int a0]) (metG_strength10 _ hg hx1) q501 q1569 q334 q491 q67 q492 (by decide +kernel) (by decide) ⟨by show 0 + 0 ≤ 0; omega, by show 0 + 0 ≤ 0; omega⟩ rfl rfl (Nat.le_of_ble_eq_true rfl) dX14_strength_2 ?_
  refine g_iconst hΓ (pc := 5) (v := 1) dX14_strength_5 (by decide) ?_
  refine g_iadd hΓ (pc := 6) dX14_strength_6 ?_
  exact qX_iretR hΓ hf dX14_strength_7
def G_cost8 (x : XS) (g : Nat × Int32) : Option (Int32) :=
  some ((2 : Int32) + g.2)
set_option maxHeartbeats 4000000 in
theorem metG_cost8 (l : Launch) {D : va_G} {dA : Nat → ClassId} {b : Nat} {ad : Nat → Nat} {P : Nat → Prop} {F : Nat → va_E} {gs : List (Nat × (Nat × Int32))} {x : XS} {g : Nat × Int32} {a : Nat} {z : Int32} (hg : (a, g) ∈ gs) (hf : G_cost8 x g = some z) : Met l yX8_cost (ws_ yX8_cost cX8_cost 1 (some .int)) (rmx_ 1 20 0 0) (xP D dA b ad P F gs [.ref (a)] x) (xQ D dA b ad P F gs (some (.int z)) x) 0 0 (fun q => b ≤ q) := by
  refine qx_met (by decide) RX8 rfl (Nat.le_of_ble_eq_true rfl) (fun Γ hΓ hK => ?_)
  refine g_sub [0] (lv' := [(0, .ref (a))]) rfl ?_
  refine g_aload_n hΓ (pc := 0) 0 (i := 0) dX8_cost_0 rfl rfl ?_
  refine qG_supD hΓ (pc := 1) hK hg 0 (As := []) (y := yX18_cost) (z0 := ⟨"WhoseGlass$Glass", "cost", "()I"⟩) (List.mem_of_getElem? (i := 11) rfl) (List.mem_of_getElem? (i := 9) rfl) rfl (List.mem_of_getElem? (i := 14) rfl) q286 q944 q945 (by decide) (by decide) rfl rfl dX18_cost_0 dX18_cost_1 (by decide +kernel) (by decide) rfl rfl (Nat.le_of_ble_eq_true rfl) dX8_cost_1 ?_
  refine g_aload_n hΓ (pc := 4) 0 (i := 0) dX8_cost_4 rfl rfl ?_
  refine qG_fig hΓ (pc := 5) hK hg q267 (Or.inr q268) dX8_cost_5 ?_
  refine g_iadd hΓ (pc := 8) dX8_cost_8 ?_
  exact qX_iretR hΓ hf dX8_cost_9
def G_cost9 (x : XS) (g : Nat × Int32) : Option (Int32) :=
  some ((2 : Int32) + (1 : Int32))
set_option maxHeartbeats 4000000 in
theorem metG_cost9 (l : Launch) {D : va_G} {dA : Nat → ClassId} {b : Nat} {ad : Nat → Nat} {P : Nat → Prop} {F : Nat → va_E} {gs : List (Nat × (Nat × Int32))} {x : XS} {g : Nat × Int32} {a : Nat} {z : Int32} (hg : (a, g) ∈ gs) (hf : G_cost9 x g = some z) : Met l yX9_cost (ws_ yX9_cost cX9_cost 1 (some .int)) (rmx_ 1 20 0 0) (xP D dA b ad P F gs [.ref (a)] x) (xQ D dA b ad P F gs (some (.int z)) x) 0 0 (fun q => b ≤ q) := by
  refine qx_met (by decide) RX9 rfl (Nat.le_of_ble_eq_true rfl) (fun Γ hΓ hK => ?_)
  refine g_sub [0] (lv' := [(0, .ref (a))]) rfl ?_
  refine g_aload_n hΓ (pc := 0) 0 (i := 0) dX9_cost_0 rfl rfl ?_
  refine qG_supD hΓ (pc := 1) hK hg 0 (As := []) (y := yX18_cost) (z0 := ⟨"WhoseGlass$Glass", "cost", "()I"⟩) (List.mem_of_getElem? (i := 12) rfl) (List.mem_of_getElem? (i := 9) rfl) rfl (List.mem_of_getElem? (i := 14) rfl) q294 q944 q945 (by decide) (by decide) rfl rfl dX18_cost_0 dX18_cost_1 (by decide +kernel) (by decide) rfl rfl (Nat.le_of_ble_eq_true rfl) dX9_cost_1 ?_
  refine g_iconst hΓ (pc := 4) (v := 1) dX9_cost_4 (by decide) ?_
  refine g_iadd hΓ (pc := 5) dX9_cost_5 ?_
  exact qX_iretR hΓ hf dX9_cost_6
def G_cost10 (x : XS) (g : Nat × Int32) : Option (Int32) :=
  some ((2 : Int32) * (2 : Int32))
set_option maxHeartbeats 4000000 in
theorem metG_cost10 (l : Launch) {D : va_G} {dA : Nat → ClassId} {b : Nat} {ad : Nat → Nat} {P : Nat → Prop} {F : Nat → va_E} {gs : List (Nat × (Nat × Int32))} {x : XS} {g : Nat × Int32} {a : Nat} {z : Int32} (hg : (a, g) ∈ gs) (hf : G_cost10 x g = some z) : Met l yX10_cost (ws_ yX10_cost cX10_cost 1 (some .int)) (rmx_ 1 20 0 0) (xP D dA b ad P F gs [.ref (a)] x) (xQ D dA b ad P F gs (some (.int z)) x) 0 0 (fun q => b ≤ q) := by
  refine qx_met (by decide) RX10 rfl (Nat.le_of_ble_eq_true rfl) (fun Γ hΓ hK => ?_)
  refine g_sub [0] (lv' := [(0, .ref (a))]) rfl ?_
  refine g_aload_n hΓ (pc := 0) 0 (i := 0) dX10_cost_0 rfl rfl ?_
  refine qG_supD hΓ (pc := 1) hK hg 0 (As := []) (y := yX18_cost) (z0 := ⟨"WhoseGlass$Glass", "cost", "()I"⟩) (List.mem_of_getElem? (i := 10) rfl) (List.mem_of_getElem? (i := 9) rfl) rfl (List.mem_of_getElem? (i := 14) rfl) q302 q944 q945 (by decide) (by decide) rfl rfl dX18_cost_0 dX18_cost_1 (by decide +kernel) (by decide) rfl rfl (Nat.le_of_ble_eq_true rfl) dX10_cost_1 ?_
  refine g_iconst hΓ (pc := 4) (v := 2) dX10_cost_4 (by decide) ?_
  refine g_imul hΓ (pc := 5) dX10_cost_5 ?_
  exact qX_iretR hΓ hf dX10_cost_6
def G_cost11 (x : XS) (g : Nat × Int32) : Option (Int32) :=
  (G_cost9 x g ).bind fun x1 =>
  some (x1 + (3 : Int32))
set_option maxHeartbeats 4000000 in
theorem metG_cost11 (l : Launch) {D : va_G} {dA : Nat → ClassId} {b : Nat} {ad : Nat → Nat} {P : Nat → Prop} {F : Nat → va_E} {gs : List (Nat × (Nat × Int32))} {x : XS} {g : Nat × Int32} {a : Nat} {z : Int32} (hg : (a, g) ∈ gs) (hf : G_cost11 x g = some z) : Met l yX11_cost (ws_ yX11_cost cX11_cost 1 (some .int)) (rmx_ 2 40 0 0) (xP D dA b ad P F gs [.ref (a)] x) (xQ D dA b ad P F gs (some (.int z)) x) 0 0 (fun q => b ≤ q) := by
  refine qx_met (by decide) RX11 rfl (Nat.le_of_ble_eq_true rfl) (fun Γ hΓ hK => ?_)
  refine g_sub [0] (lv' := [(0, .ref (a))]) rfl ?_
  refine g_aload_n hΓ (pc := 0) 0 (i := 0) dX11_cost_0 rfl rfl ?_
  obtain ⟨x1, hx1, hf⟩ := bindE hf
  refine qG_supU hΓ (pc := 1) hK hg 0 (As := []) (metG_cost9 _ hg hx1) q965 q1572 q310 q960 q66 q961 (by decide +kernel) (by decide) ⟨by show 0 + 0 ≤ 0; omega, by show 0 + 0 ≤ 0; omega⟩ rfl rfl (Nat.le_of_ble_eq_true rfl) dX11_cost_1 ?_
  refine g_iconst hΓ (pc := 4) (v := 3) dX11_cost_4 (by decide) ?_
  refine g_iadd hΓ (pc := 5) dX11_cost_5 ?_
  exact qX_iretR hΓ hf dX11_cost_6
def G_cost12 (x : XS) (g : Nat × Int32) : Option (Int32) :=
  (G_cost8 x g ).bind fun x1 =>
  some (x1 + (9 : Int32))
set_option maxHeartbeats 4000000 in
theorem metG_cost12 (l : Launch) {D : va_G} {dA : Nat → ClassId} {b : Nat} {ad : Nat → Nat} {P : Nat → Prop} {F : Nat → va_E} {gs : List (Nat × (Nat × Int32))} {x : XS} {g : Nat × Int32} {a : Nat} {z : Int32} (hg : (a, g) ∈ gs) (hf : G_cost12 x g = some z) : Met l yX12_cost (ws_ yX12_cost cX12_cost 1 (some .int)) (rmx_ 2 40 0 0) (xP D dA b ad P F gs [.ref (a)] x) (xQ D dA b ad P F gs (some (.int z)) x) 0 0 (fun q => b ≤ q) := by
  refine qx_met (by decide) RX12 rfl (Nat.le_of_ble_eq_true rfl) (fun Γ hΓ hK => ?_)
  refine g_sub [0] (lv' := [(0, .ref (a))]) rfl ?_
  refine g_aload_n hΓ (pc := 0) 0 (i := 0) dX12_cost_0 rfl rfl ?_
  obtain ⟨x1, hx1, hf⟩ := bindE hf
  refine qG_supU hΓ (pc := 1) hK hg 0 (As := []) (metG_cost8 _ hg hx1) q953 q1571 q318 q948 q65 q949 (by decide +kernel) (by decide) ⟨by show 0 + 0 ≤ 0; omega, by show 0 + 0 ≤ 0; omega⟩ rfl rfl (Nat.le_of_ble_eq_true rfl) dX12_cost_1 ?_
  refine g_bipush hΓ (pc := 4) (v := 9) dX12_cost_4 (by decide) ?_
  refine g_iadd hΓ (pc := 6) dX12_cost_6 ?_
  exact qX_iretR hΓ hf dX12_cost_7
def G_cost13 (x : XS) (g : Nat × Int32) : Option (Int32) :=
  (G_cost10 x g ).bind fun x1 =>
  some (x1 - (1 : Int32))
set_option maxHeartbeats 4000000 in
theorem metG_cost13 (l : Launch) {D : va_G} {dA : Nat → ClassId} {b : Nat} {ad : Nat → Nat} {P : Nat → Prop} {F : Nat → va_E} {gs : List (Nat × (Nat × Int32))} {x : XS} {g : Nat × Int32} {a : Nat} {z : Int32} (hg : (a, g) ∈ gs) (hf : G_cost13 x g = some z) : Met l yX13_cost (ws_ yX13_cost cX13_cost 1 (some .int)) (rmx_ 2 40 0 0) (xP D dA b ad P F gs [.ref (a)] x) (xQ D dA b ad P F gs (some (.int z)) x) 0 0 (fun q => b ≤ q) := by
  refine qx_met (by decide) RX13 rfl (Nat.le_of_ble_eq_true rfl) (fun Γ hΓ hK => ?_)
  refine g_sub [0] (lv' := [(0, .ref (a))]) rfl ?_
  refine g_aload_n hΓ (pc := 0) 0 (i := 0) dX13_cost_0 rfl rfl ?_
  obtain ⟨x1, hx1, hf⟩ := bindE hf
  refine qG_supU hΓ (pc := 1) hK hg 0 (As := []) (metG_cost10 _ hg hx1) q941 q1570 q326 q942 q67 q943 (by decide +kernel) (by decide) ⟨by show 0 + 0 ≤ 0; omega, by show 0 + 0 ≤ 0; omega⟩ rfl rfl (Nat.le_of_ble_eq_true rfl) dX13_cost_1 ?_
  refine g_iconst hΓ (pc := 4) (v := 1) dX13_cost_4 (by decide) ?_
  refine g_isub hΓ (pc := 5) dX13_cost_5 ?_
  exact qX_iretR hΓ hf dX13_cost_6
def G_cost14 (x : XS) (g : Nat × Int32) : Option (Int32) :=
  (G_cost10 x g ).bind fun x1 =>
  some (x1 * (g.2 + (1 : Int32)))
set_option maxHeartbeats 4000000 in
theorem metG_cost14 (l : Launch) {D : va_G} {dA : Nat → ClassId} {b : Nat} {ad : Nat → Nat} {P : Nat → Prop} {F : Nat → va_E} {gs : List (Nat × (Nat × Int32))} {x : XS} {g : Nat × Int32} {a : Nat} {z : Int32} (hg : (a, g) ∈ gs) (hf : G_cost14 x g = some z) : Met l yX14_cost (ws_ yX14_cost cX14_cost 1 (some .int)) (rmx_ 2 40 0 0) (xP D dA b ad P F gs [.ref (a)] x) (xQ D dA b ad P F gs (some (.int z)) x) 0 0 (fun q => b ≤ q) := by
  refine qx_met (by decide) RX14 rfl (Nat.le_of_ble_eq_true rfl) (fun Γ hΓ hK => ?_)
  refine g_sub [0] (lv' := [(0, .ref (a))]) rfl ?_
  refine g_aload_n hΓ (pc := 0) 0 (i := 0) dX14_cost_0 rfl rfl ?_
  obtain ⟨x1, hx1, hf⟩ := bindE hf
  refine qG_supU hΓ (pc := 1) hK hg 0 (As := []) (metG_cost10 _ hg hx1) q957 q1570 q334 q942 q67 q943 (by decide +kernel) (by decide) ⟨by show 0 + 0 ≤ 0; omega, by show 0 + 0 ≤ 0; omega⟩ rfl rfl (Nat.le_of_ble_eq_true rfl) dX14_cost_1 ?_
  refine g_aload_n hΓ (pc := 4) 0 (i := 0) dX14_cost_4 rfl rfl ?_
  refine qG_fig hΓ (pc := 5) hK hg q269 (Or.inr q270) dX14_cost_5 ?_
  refine g_iconst hΓ (pc := 8) (v := 1) dX14_cost_8 (by decide) ?_
  refine g_iadd hΓ (pc := 9) dX14_cost_9 ?_
  refine g_imul hΓ (pc := 10) dX14_cost_10 ?_
  exact qX_iretR hΓ hf dX14_cost_11
section GW2
variable {Γ : GX} {own : String} {cc : ByteArray} {nL : Nat} {ret ret' : Option FieldType} {Qc : Array Value → State → Outcome → State → Prop} {A : Nat → Prop} {rm rm' : Room} {D : va_G} {dA : Nat → ClassId}
variable {cells slots pc mc ms : Nat} {lv lv' : List (Nat × Value)} {st st0 : List Value} {b : Nat} {ad : Nat → Nat} {P : Nat → Prop} {F : Nat → va_E} {x x' : XS} {r : Nat} {h h' : HS} {gs : List (Nat × (Nat × Int32))}

theorem gl_like0 (x : XS) (fg : Int32) (o : Nat × Int32) (self fill : Int32) : G_like7 x (0, fg) o self fill = some (gLike (0, fg) o self fill) := by
  simp [G_like7, gLike, gTl, gRl, gPl]
  try (repeat' split)
  all_goals (first | with_reducible rfl | contradiction | simp_all)
theorem gl_like1 (x : XS) (fg : Int32) (o : Nat × Int32) (self fill : Int32) : G_like8 x (1, fg) o self fill = some (gLike (1, fg) o self fill) := by
  simp [G_like8, gLike, gTl, gRl, gPl]
  try (repeat' split)
  all_goals (first | with_reducible rfl | contradiction | simp_all)
theorem gl_like2 (x : XS) (fg : Int32) (o : Nat × Int32) (self fill : Int32) : G_like9 x (2, fg) o self fill = some (gLike (2, fg) o self fill) := by
  simp [G_like9, G_like7, gLike, gTl, gRl, gPl]
  try (repeat' split)
  all_goals (first | with_reducible rfl | contradiction | simp_all)
theorem gl_like3 (x : XS) (fg : Int32) (o : Nat × Int32) (self fill : Int32) : G_like10 x (3, fg) o self fill = some (gLike (3, fg) o self fill) := by
  simp [G_like10, G_like7, gLike, gTl, gRl, gPl]
  try (repeat' split)
  all_goals (first | with_reducible rfl | contradiction | simp_all)
theorem gl_like4 (x : XS) (fg : Int32) (o : Nat × Int32) (self fill : Int32) : G_like11 x (4, fg) o self fill = some (gLike (4, fg) o self fill) := by
  simp [G_like11, G_like9, G_like7, gLike, gTl, gRl, gPl]
  try (repeat' split)
  all_goals (first | with_reducible rfl | contradiction | simp_all)
theorem gl_like5 (x : XS) (fg : Int32) (o : Nat × Int32) (self fill : Int32) : G_like12 x (5, fg) o self fill = some (gLike (5, fg) o self fill) := by
  by_cases h1 : self = 0
  · by_cases h2 : gKind o = 5
    · simp [G_like12, G_like12_19, G_like8, gLike, h1, h2]
    · simp [G_like12, G_like12_19, G_like8, gLike, h1, h2]
  · simp [G_like12, G_like12_19, G_like8, gLike, h1]
theorem gl_like6 (x : XS) (fg : Int32) (o : Nat × Int32) (self fill : Int32) : G_like13 x (6, fg) o self fill = some (gLike (6, fg) o self fill) := by
  simp [G_like13, G_like10, G_like7, gLike, gTl, gRl, gPl]
  try (repeat' split)
  all_goals (first | with_reducible rfl | contradiction | simp_all)
theorem gl_like7 (x : XS) (fg : Int32) (o : Nat × Int32) (self fill : Int32) : G_like14 x (7, fg) o self fill = some (gLike (7, fg) o self fill) := by
  simp [G_like14, G_like10, G_like7, gLike, gTl, gRl, gPl]
  try (repeat' split)
  all_goals (first | with_reducible rfl | contradiction | simp_all)
theorem gl_str2 (x : XS) (fg fill : Int32) : G_strength9 x (2, fg) fill = some (gStr (2, fg) fill) := by
  simp [G_strength9, G_strength10, G_strength11, G_strength13, G_strength14, gStr]
  try (repeat' split)
  all_goals (first | with_reducible rfl | contradiction | simp_all)
theorem gl_str3 (x : XS) (fg fill : Int32) : G_strength10 x (3, fg) fill = some (gStr (3, fg) fill) := by
  simp [G_strength9, G_strength10, G_strength11, G_strength13, G_strength14, gStr]
  try (repeat' split)
  all_goals (first | with_reducible rfl | contradiction | simp_all)
theorem gl_str4 (x : XS) (fg fill : Int32) : G_strength11 x (4, fg) fill = some (gStr (4, fg) fill) := by
  simp [G_strength9, G_strength10, G_strength11, G_strength13, G_strength14, gStr]
  try (repeat' split)
  all_goals (first | with_reducible rfl | contradiction | simp_all)
theorem gl_str6 (x : XS) (fg fill : Int32) : G_strength13 x (6, fg) fill = some (gStr (6, fg) fill) := by
  simp [G_strength9, G_strength10, G_strength11, G_strength13, G_strength14, gStr]
  try (repeat' split)
  all_goals (first | with_reducible rfl | contradiction | simp_all)
theorem gl_str7 (x : XS) (fg fill : Int32) : G_strength14 x (7, fg) fill = some (gStr (7, fg) fill) := by
  simp [G_strength9, G_strength10, G_strength11, G_strength13, G_strength14, gStr]
  try (repeat' split)
  all_goals (first | with_reducible rfl | contradiction | simp_all)
theorem qx_like (hΓ : GOK Γ RX2 cc nL ret Qc (fun q => b ≤ q) rm) (hK : GKX Γ D dA b) {a : Nat} {g : Nat × Int32} {a2 : Nat} {o : Nat × Int32} {self : Int32} {fill : Int32} (hg : (a, g) ∈ gs) (ho : (a2, o) ∈ gs) (hR : 3 ≤ rm.frames ∧ 86 ≤ rm.locals) (hcs : cells ≤ rm.cells ∧ slots ≤ rm.slots) (hW : (st.map fun v => v.category).sum ≤ 8) (hdg : decode cc pc = .ok (.invokevirtual 93, 3))
    (kk : WG Γ (XW D dA b ad P F gs x) cells slots (pc + 3) lv (.int (gLike g o self fill) :: st)) : WG Γ (XW D dA b ad P F gs x) cells slots pc lv (.int fill :: .int self :: .ref a2 :: .ref a :: st) := by
  refine g_ask (fun H hw => (hw.glassR hg hK.1).1) (fun hg8 => ?_)
  obtain ⟨k, fg⟩ := g
  have hg8 : k < 8 := hg8
  rcases (by omega : k = 0 ∨ k = 1 ∨ k = 2 ∨ k = 3 ∨ k = 4 ∨ k = 5 ∨ k = 6 ∨ k = 7) with rfl | rfl | rfl | rfl | rfl | rfl | rfl | rfl
  · exact qG_callU (owner := "WhoseGlass$Glass") (z0 := ⟨"WhoseGlass$Glass", "like", "(LWhoseGlass$Glass;ZI)I"⟩) hΓ hK hg rfl 3 (As := [.ref a2, .int self, .int fill]) (metG_like7 _ hg ho (x := x) (z := gLike (0, fg) o self fill) (gl_like0 _ _ _ _ _)) (hΓ.1.2.2.2.2 _ q389) (hΓ.1.2.2.2.2 _ q392) q390 q477 (hΓ.1.2.2.2.2 _ q391) q390 q64 q477 (by decide +kernel) ⟨by decide, by show _ ≤ rm.frames ∧ _ ≤ rm.locals; exact ⟨Nat.le_trans (by decide) hR.1, Nat.le_trans (by decide) hR.2⟩⟩ hcs rfl rfl hW hdg kk
  · exact qG_callU (owner := "WhoseGlass$Glass") (z0 := ⟨"WhoseGlass$Glass", "like", "(LWhoseGlass$Glass;ZI)I"⟩) hΓ hK hg rfl 3 (As := [.ref a2, .int self, .int fill]) (metG_like8 _ hg ho (x := x) (z := gLike (1, fg) o self fill) (gl_like1 _ _ _ _ _)) (hΓ.1.2.2.2.2 _ q389) (hΓ.1.2.2.2.2 _ q392) q390 q477 (hΓ.1.2.2.2.2 _ q414) q415 q65 q416 (by decide +kernel) ⟨by decide, by show _ ≤ rm.frames ∧ _ ≤ rm.locals; exact ⟨Nat.le_trans (by decide) hR.1, Nat.le_trans (by decide) hR.2⟩⟩ hcs rfl rfl hW hdg kk
  · exact qG_callU (owner := "WhoseGlass$Glass") (z0 := ⟨"WhoseGlass$Glass", "like", "(LWhoseGlass$Glass;ZI)I"⟩) hΓ hK hg rfl 3 (As := [.ref a2, .int self, .int fill]) (metG_like9 _ hg ho (x := x) (z := gLike (2, fg) o self fill) (gl_like2 _ _ _ _ _)) (hΓ.1.2.2.2.2 _ q389) (hΓ.1.2.2.2.2 _ q392) q390 q477 (hΓ.1.2.2.2.2 _ q453) q454 q66 q455 (by decide +kernel) ⟨by decide, by show _ ≤ rm.frames ∧ _ ≤ rm.locals; exact ⟨Nat.le_trans (by decide) hR.1, Nat.le_trans (by decide) hR.2⟩⟩ hcs rfl rfl hW hdg kk
  · exact qG_callU (owner := "WhoseGlass$Glass") (z0 := ⟨"WhoseGlass$Glass", "like", "(LWhoseGlass$Glass;ZI)I"⟩) hΓ hK hg rfl 3 (As := [.ref a2, .int self, .int fill]) (metG_like10 _ hg ho (x := x) (z := gLike (3, fg) o self fill) (gl_like3 _ _ _ _ _)) (hΓ.1.2.2.2.2 _ q389) (hΓ.1.2.2.2.2 _ q392) q390 q477 (hΓ.1.2.2.2.2 _ q452) q397 q67 q398 (by decide +kernel) ⟨by decide, by show _ ≤ rm.frames ∧ _ ≤ rm.locals; exact ⟨Nat.le_trans (by decide) hR.1, Nat.le_trans (by decide) hR.2⟩⟩ hcs rfl rfl hW hdg kk
  · exact qG_callU (owner := "WhoseGlass$Glass") (z0 := ⟨"WhoseGlass$Glass", "like", "(LWhoseGlass$Glass;ZI)I"⟩) hΓ hK hg rfl 3 (As := [.ref a2, .int self, .int fill]) (metG_like11 _ hg ho rfl (x := x) (z := gLike (4, fg) o self fill) (gl_like4 _ _ _ _ _)) (hΓ.1.2.2.2.2 _ q389) (hΓ.1.2.2.2.2 _ q392) q390 q477 (hΓ.1.2.2.2.2 _ q471) q472 q68 q473 (by decide +kernel) ⟨by decide, by show _ ≤ rm.frames ∧ _ ≤ rm.locals; exact ⟨Nat.le_trans (by decide) hR.1, Nat.le_trans (by decide) hR.2⟩⟩ hcs rfl rfl hW hdg kk
  · exact qG_callU (owner := "WhoseGlass$Glass") (z0 := ⟨"WhoseGlass$Glass", "like", "(LWhoseGlass$Glass;ZI)I"⟩) hΓ hK hg rfl 3 (As := [.ref a2, .int self, .int fill]) (metG_like12 _ hg ho rfl (x := x) (z := gLike (5, fg) o self fill) (gl_like5 _ _ _ _ _)) (hΓ.1.2.2.2.2 _ q389) (hΓ.1.2.2.2.2 _ q392) q390 q477 (hΓ.1.2.2.2.2 _ q417) q418 q69 q419 (by decide +kernel) ⟨by decide, by show _ ≤ rm.frames ∧ _ ≤ rm.locals; exact ⟨Nat.le_trans (by decide) hR.1, Nat.le_trans (by decide) hR.2⟩⟩ hcs rfl rfl hW hdg kk
  · exact qG_callU (owner := "WhoseGlass$Glass") (z0 := ⟨"WhoseGlass$Glass", "like", "(LWhoseGlass$Glass;ZI)I"⟩) hΓ hK hg rfl 3 (As := [.ref a2, .int self, .int fill]) (metG_like13 _ hg ho (x := x) (z := gLike (6, fg) o self fill) (gl_like6 _ _ _ _ _)) (hΓ.1.2.2.2.2 _ q389) (hΓ.1.2.2.2.2 _ q392) q390 q477 (hΓ.1.2.2.2.2 _ q393) q394 q70 q395 (by decide +kernel) ⟨by decide, by show _ ≤ rm.frames ∧ _ ≤ rm.locals; exact ⟨Nat.le_trans (by decide) hR.1, Nat.le_trans (by decide) hR.2⟩⟩ hcs rfl rfl hW hdg kk
  · exact qG_callU (owner := "WhoseGlass$Glass") (z0 := ⟨"WhoseGlass$Glass", "like", "(LWhoseGlass$Glass;ZI)I"⟩) hΓ hK hg rfl 3 (As := [.ref a2, .int self, .int fill]) (metG_like14 _ hg ho (x := x) (z := gLike (7, fg) o self fill) (gl_like7 _ _ _ _ _)) (hΓ.1.2.2.2.2 _ q389) (hΓ.1.2.2.2.2 _ q392) q390 q477 (hΓ.1.2.2.2.2 _ q448) q449 q71 q450 (by decide +kernel) ⟨by decide, by show _ ≤ rm.frames ∧ _ ≤ rm.locals; exact ⟨Nat.le_trans (by decide) hR.1, Nat.le_trans (by decide) hR.2⟩⟩ hcs rfl rfl hW hdg kk
theorem qx_strength (hΓ : GOK Γ RX2 cc nL ret Qc (fun q => b ≤ q) rm) (hK : GKX Γ D dA b) {a : Nat} {g : Nat × Int32} {fill : Int32} (hg : (a, g) ∈ gs) (hR : 3 ≤ rm.frames ∧ 63 ≤ rm.locals) (hcs : cells ≤ rm.cells ∧ slots ≤ rm.slots) (hW : (st.map fun v => v.category).sum ≤ 8) (hdg : decode cc pc = .ok (.invokevirtual 115, 3))
    (kk : WG Γ (XW D dA b ad P F gs x) cells slots (pc + 3) lv (.int (gStr g fill) :: st)) : WG Γ (XW D dA b ad P F gs x) cells slots pc lv (.int fill :: .ref a :: st) := by
  refine g_ask (fun H hw => (hw.glassR hg hK.1).1) (fun hg8 => ?_)
  obtain ⟨k, fg⟩ := g
  have hg8 : k < 8 := hg8
  rcases (by omega : k = 0 ∨ k = 1 ∨ k = 2 ∨ k = 3 ∨ k = 4 ∨ k = 5 ∨ k = 6 ∨ k = 7) with rfl | rfl | rfl | rfl | rfl | rfl | rfl | rfl
  · exact qG_callD hΓ hK hg rfl 1 (As := [.int fill]) (y := yX17_strength) (z0 := ⟨"WhoseGlass$Glass", "strength", "(I)I"⟩) (List.mem_of_getElem? (i := 4) rfl) (List.mem_of_getElem? (i := 5) rfl) rfl (List.mem_of_getElem? (i := 11) rfl) q493 q494 (by decide) (by decide) rfl rfl dX17_strength_0 dX17_strength_1 (by decide +kernel) ⟨by omega, by omega⟩ rfl rfl hW hdg kk
  · exact qG_callD hΓ hK hg rfl 1 (As := [.int fill]) (y := yX17_strength) (z0 := ⟨"WhoseGlass$Glass", "strength", "(I)I"⟩) (List.mem_of_getElem? (i := 4) rfl) (List.mem_of_getElem? (i := 5) rfl) rfl (List.mem_of_getElem? (i := 12) rfl) q493 q494 (by decide) (by decide) rfl rfl dX17_strength_0 dX17_strength_1 (by decide +kernel) ⟨by omega, by omega⟩ rfl rfl hW hdg kk
  · exact qG_callU (owner := "WhoseGlass$Sips") (z0 := ⟨"WhoseGlass$Glass", "strength", "(I)I"⟩) hΓ hK hg rfl 1 (As := [.int fill]) (metG_strength9 _ hg (x := x) (z := gStr (2, fg) fill) (gl_str2 _ _ _)) (va_Nw.use (xnW_ok _ (List.mem_of_getElem? (i := 4) rfl)).1 (hK.2.1.2.2.2.1 _ (List.mem_of_getElem? (i := 4) rfl))) (va_Nw.use (xnW_ok _ (List.mem_of_getElem? (i := 5) rfl)).1 (hK.2.1.2.2.2.1 _ (List.mem_of_getElem? (i := 5) rfl))) q493 q494 (selects_same (x := ⟨"WhoseGlass$Glass", "strength", "(I)I"⟩) (va_Nw.use (xnW_ok _ (List.mem_of_getElem? (i := 5) rfl)).1 (hK.2.1.2.2.2.1 _ (List.mem_of_getElem? (i := 5) rfl))) (by decide) (hΓ.1.2.2.2.2 _ q503)) q504 q66 q505 (by decide +kernel) ⟨by decide, by show _ ≤ rm.frames ∧ _ ≤ rm.locals; exact ⟨Nat.le_trans (by decide) hR.1, Nat.le_trans (by decide) hR.2⟩⟩ hcs rfl rfl hW hdg kk
  · exact qG_callU (owner := "WhoseGlass$Sips") (z0 := ⟨"WhoseGlass$Glass", "strength", "(I)I"⟩) hΓ hK hg rfl 1 (As := [.int fill]) (metG_strength10 _ hg (x := x) (z := gStr (3, fg) fill) (gl_str3 _ _ _)) (va_Nw.use (xnW_ok _ (List.mem_of_getElem? (i := 4) rfl)).1 (hK.2.1.2.2.2.1 _ (List.mem_of_getElem? (i := 4) rfl))) (va_Nw.use (xnW_ok _ (List.mem_of_getElem? (i := 5) rfl)).1 (hK.2.1.2.2.2.1 _ (List.mem_of_getElem? (i := 5) rfl))) q493 q494 (selects_same (x := ⟨"WhoseGlass$Glass", "strength", "(I)I"⟩) (va_Nw.use (xnW_ok _ (List.mem_of_getElem? (i := 5) rfl)).1 (hK.2.1.2.2.2.1 _ (List.mem_of_getElem? (i := 5) rfl))) (by decide) (hΓ.1.2.2.2.2 _ q502)) q491 q67 q492 (by decide +kernel) ⟨by decide, by show _ ≤ rm.frames ∧ _ ≤ rm.locals; exact ⟨Nat.le_trans (by decide) hR.1, Nat.le_trans (by decide) hR.2⟩⟩ hcs rfl rfl hW hdg kk
  · exact qG_callU (owner := "WhoseGlass$Sips") (z0 := ⟨"WhoseGlass$Glass", "strength", "(I)I"⟩) hΓ hK hg rfl 1 (As := [.int fill]) (metG_strength11 _ hg (x := x) (z := gStr (4, fg) fill) (gl_str4 _ _ _)) (va_Nw.use (xnW_ok _ (List.mem_of_getElem? (i := 4) rfl)).1 (hK.2.1.2.2.2.1 _ (List.mem_of_getElem? (i := 4) rfl))) (va_Nw.use (xnW_ok _ (List.mem_of_getElem? (i := 5) rfl)).1 (hK.2.1.2.2.2.1 _ (List.mem_of_getElem? (i := 5) rfl))) q493 q494 (selects_same (x := ⟨"WhoseGlass$Glass", "strength", "(I)I"⟩) (va_Nw.use (xnW_ok _ (List.mem_of_getElem? (i := 5) rfl)).1 (hK.2.1.2.2.2.1 _ (List.mem_of_getElem? (i := 5) rfl))) (by decide) (hΓ.1.2.2.2.2 _ q506)) q507 q68 q508 (by decide +kernel) ⟨by decide, by show _ ≤ rm.frames ∧ _ ≤ rm.locals; exact ⟨Nat.le_trans (by decide) hR.1, Nat.le_trans (by decide) hR.2⟩⟩ hcs rfl rfl hW hdg kk
  · exact qG_callD hΓ hK hg rfl 1 (As := [.int fill]) (y := yX17_strength) (z0 := ⟨"WhoseGlass$Glass", "strength", "(I)I"⟩) (List.mem_of_getElem? (i := 4) rfl) (List.mem_of_getElem? (i := 5) rfl) rfl (List.mem_of_getElem? (i := 13) rfl) q493 q494 (by decide) (by decide) rfl rfl dX17_strength_0 dX17_strength_1 (by decide +kernel) ⟨by omega, by omega⟩ rfl rfl hW hdg kk
  · exact qG_callU (owner := "WhoseGlass$Sips") (z0 := ⟨"WhoseGlass$Glass", "strength", "(I)I"⟩) hΓ hK hg rfl 1 (As := [.int fill]) (metG_strength13 _ hg (x := x) (z := gStr (6, fg) fill) (gl_str6 _ _ _)) (va_Nw.use (xnW_ok _ (List.mem_of_getElem? (i := 4) rfl)).1 (hK.2.1.2.2.2.1 _ (List.mem_of_getElem? (i := 4) rfl))) (va_Nw.use (xnW_ok _ (List.mem_of_getElem? (i := 5) rfl)).1 (hK.2.1.2.2.2.1 _ (List.mem_of_getElem? (i := 5) rfl))) q493 q494 (selects_same (x := ⟨"WhoseGlass$Glass", "strength", "(I)I"⟩) (va_Nw.use (xnW_ok _ (List.mem_of_getElem? (i := 5) rfl)).1 (hK.2.1.2.2.2.1 _ (List.mem_of_getElem? (i := 5) rfl))) (by decide) (hΓ.1.2.2.2.2 _ q487)) q488 q70 q489 (by decide +kernel) ⟨by decide, by show _ ≤ rm.frames ∧ _ ≤ rm.locals; exact ⟨Nat.le_trans (by decide) hR.1, Nat.le_trans (by decide) hR.2⟩⟩ hcs rfl rfl hW hdg kk
  · exact qG_callU (owner := "WhoseGlass$Sips") (z0 := ⟨"WhoseGlass$Glass", "strength", "(I)I"⟩) hΓ hK hg rfl 1 (As := [.int fill]) (metG_strength14 _ hg (x := x) (z := gStr (7, fg) fill) (gl_str7 _ _ _)) (va_Nw.use (xnW_ok _ (List.mem_of_getElem? (i := 4) rfl)).1 (hK.2.1.2.2.2.1 _ (List.mem_of_getElem? (i := 4) rfl))) (va_Nw.use (xnW_ok _ (List.mem_of_getElem? (i := 5) rfl)).1 (hK.2.1.2.2.2.1 _ (List.mem_of_getElem? (i := 5) rfl))) q493 q494 (selects_same (x := ⟨"WhoseGlass$Glass", "strength", "(I)I"⟩) (va_Nw.use (xnW_ok _ (List.mem_of_getElem? (i := 5) rfl)).1 (hK.2.1.2.2.2.1 _ (List.mem_of_getElem? (i := 5) rfl))) (by decide) (hΓ.1.2.2.2.2 _ q498)) q499 q71 q500 (by decide +kernel) ⟨by decide, by show _ ≤ rm.frames ∧ _ ≤ rm.locals; exact ⟨Nat.le_trans (by decide) hR.1, Nat.le_trans (by decide) hR.2⟩⟩ hcs rfl rfl hW hdg kk
end GW2

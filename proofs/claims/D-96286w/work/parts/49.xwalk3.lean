set_option maxRecDepth 100000
def X_sortOfR (x : XS) (d : Nat) : Option (Int32) :=
  (rowI x (d) 0).bind fun x1 =>
  if x1 = 0 then (
    (rowI x (d) 1).bind fun x3 =>
    if x3 = 0 then (
      (rowI x (d) 2).bind fun x5 =>
      if x5 = 0 then (
        some (-1 : Int32)
      ) else (
        some (2 : Int32)
      )
    ) else (
      some (1 : Int32)
    )
  ) else (
    some (0 : Int32)
  )
set_option maxHeartbeats 4000000 in
set_option maxRecDepth 100000 in
theorem metX_sortOfR (l : Launch) {D : va_G} {dA : Nat → ClassId} {b : Nat} {ad : Nat → Nat} {P : Nat → Prop} {F : Nat → va_E} {gs : List (Nat × (Nat × Int32))} {x : XS} {d : Nat} {z : Int32} (hf : X_sortOfR x d = some z) : Met l yX1_sortOf (ws_ yX1_sortOf cX1_sortOf 1 (some .int)) (rmx_ 0 0 0 0) (xP D dA b ad P F gs [.ref (ad (70 + d))] x) (xQ D dA b ad P F gs (some (.int z)) x) 0 0 (fun q => b ≤ q) := by
  refine qx_met (by decide) RX1 rfl (Nat.le_of_ble_eq_true rfl) (fun Γ hΓ hK => ?_)
  refine g_sub [0] (lv' := [(0, .ref (ad (70 + d)))]) rfl ?_
  refine g_aload_n hΓ (pc := 0) 0 (i := 0) dX1_sortOf_0 rfl rfl ?_
  obtain ⟨x1, hx1, hf⟩ := bindE hf
  refine qX_instR hΓ (pc := 1) hK (t := 0) (by decide) hx1 q92 dX1_sortOf_1 ?_
  refine g_if_eq hΓ (pc := 4) (tgt := 11) dX1_sortOf_4 (by decide) (fun c2 => ?_) (fun c2 => ?_)
  · have hf := ifP hf c2
    refine g_aload_n hΓ (pc := 11) 0 (i := 0) dX1_sortOf_11 rfl rfl ?_
    obtain ⟨x3, hx3, hf⟩ := bindE hf
    refine qX_instR hΓ (pc := 12) hK (t := 1) (by decide) hx3 q676 dX1_sortOf_12 ?_
    refine g_if_eq hΓ (pc := 15) (tgt := 22) dX1_sortOf_15 (by decide) (fun c4 => ?_) (fun c4 => ?_)
    · have hf := ifP hf c4
      refine g_aload_n hΓ (pc := 22) 0 (i := 0) dX1_sortOf_22 rfl rfl ?_
      obtain ⟨x5, hx5, hf⟩ := bindE hf
      refine qX_instR hΓ (pc := 23) hK (t := 2) (by decide) hx5 q677 dX1_sortOf_23 ?_
      refine g_if_eq hΓ (pc := 26) (tgt := 33) dX1_sortOf_26 (by decide) (fun c6 => ?_) (fun c6 => ?_)
      · have hf := ifP hf c6
        refine g_iconst hΓ (pc := 33) (v := -1) dX1_sortOf_33 (by decide) ?_
        exact qX_iretR hΓ hf dX1_sortOf_34
      · have hf := ifN hf c6
        refine g_iconst hΓ (pc := 29) (v := 2) dX1_sortOf_29 (by decide) ?_
        refine g_goto hΓ (pc := 30) (tgt := 34) dX1_sortOf_30 (by decide) ?_
        exact qX_iretR hΓ hf dX1_sortOf_34
    · have hf := ifN hf c4
      refine g_iconst hΓ (pc := 18) (v := 1) dX1_sortOf_18 (by decide) ?_
      refine g_goto hΓ (pc := 19) (tgt := 34) dX1_sortOf_19 (by decide) ?_
      exact qX_iretR hΓ hf dX1_sortOf_34
  · have hf := ifN hf c2
    refine g_iconst hΓ (pc := 7) (v := 0) dX1_sortOf_7 (by decide) ?_
    refine g_goto hΓ (pc := 8) (tgt := 34) dX1_sortOf_8 (by decide) ?_
    exact qX_iretR hΓ hf dX1_sortOf_34
def X_sizeOfR (x : XS) (d : Nat) : Option (Int32) :=
  (rowI x (d) 0).bind fun x1 =>
  if x1 = 0 then (
    (rowI x (d) 1).bind fun x3 =>
    if x3 = 0 then (
      (rowIs x (d) 2).bind fun u5 =>
      (rowN x (d)).bind fun x6 =>
      some x6
    ) else (
      (rowIs x (d) 1).bind fun u7 =>
      (rowN x (d)).bind fun x8 =>
      some x8
    )
  ) else (
    (rowIs x (d) 0).bind fun u9 =>
    (rowN x (d)).bind fun x10 =>
    some x10
  )
set_option maxHeartbeats 4000000 in
set_option maxRecDepth 100000 in
theorem metX_sizeOfR (l : Launch) {D : va_G} {dA : Nat → ClassId} {b : Nat} {ad : Nat → Nat} {P : Nat → Prop} {F : Nat → va_E} {gs : List (Nat × (Nat × Int32))} {x : XS} {d : Nat} {z : Int32} (hf : X_sizeOfR x d = some z) : Met l yX1_sizeOf (ws_ yX1_sizeOf cX1_sizeOf 1 (some .int)) (rmx_ 0 0 0 0) (xP D dA b ad P F gs [.ref (ad (70 + d))] x) (xQ D dA b ad P F gs (some (.int z)) x) 0 0 (fun q => b ≤ q) := by
  refine qx_met (by decide) RX1 rfl (Nat.le_of_ble_eq_true rfl) (fun Γ hΓ hK => ?_)
  refine g_sub [0] (lv' := [(0, .ref (ad (70 + d)))]) rfl ?_
  refine g_aload_n hΓ (pc := 0) 0 (i := 0) dX1_sizeOf_0 rfl rfl ?_
  obtain ⟨x1, hx1, hf⟩ := bindE hf
  refine qX_instR hΓ (pc := 1) hK (t := 0) (by decide) hx1 q92 dX1_sizeOf_1 ?_
  refine g_if_eq hΓ (pc := 4) (tgt := 15) dX1_sizeOf_4 (by decide) (fun c2 => ?_) (fun c2 => ?_)
  · have hf := ifP hf c2
    refine g_aload_n hΓ (pc := 15) 0 (i := 0) dX1_sizeOf_15 rfl rfl ?_
    obtain ⟨x3, hx3, hf⟩ := bindE hf
    refine qX_instR hΓ (pc := 16) hK (t := 1) (by decide) hx3 q676 dX1_sizeOf_16 ?_
    refine g_if_eq hΓ (pc := 19) (tgt := 30) dX1_sizeOf_19 (by decide) (fun c4 => ?_) (fun c4 => ?_)
    · have hf := ifP hf c4
      refine g_aload_n hΓ (pc := 30) 0 (i := 0) dX1_sizeOf_30 rfl rfl ?_
      obtain ⟨u5, hu5, hf⟩ := bindE hf
      refine qX_castR hΓ (pc := 31) hK (t := 2) (by decide) hu5 q677 dX1_sizeOf_31 ?_
      obtain ⟨x6, hx6, hf⟩ := bindE hf
      refine qX_lenR hΓ (pc := 34) hK hx6 dX1_sizeOf_34 ?_
      exact qX_iretR hΓ hf dX1_sizeOf_35
    · have hf := ifN hf c4
      refine g_aload_n hΓ (pc := 22) 0 (i := 0) dX1_sizeOf_22 rfl rfl ?_
      obtain ⟨u7, hu7, hf⟩ := bindE hf
      refine qX_castR hΓ (pc := 23) hK (t := 1) (by decide) hu7 q676 dX1_sizeOf_23 ?_
      obtain ⟨x8, hx8, hf⟩ := bindE hf
      refine qX_lenR hΓ (pc := 26) hK hx8 dX1_sizeOf_26 ?_
      refine g_goto hΓ (pc := 27) (tgt := 35) dX1_sizeOf_27 (by decide) ?_
      exact qX_iretR hΓ hf dX1_sizeOf_35
  · have hf := ifN hf c2
    refine g_aload_n hΓ (pc := 7) 0 (i := 0) dX1_sizeOf_7 rfl rfl ?_
    obtain ⟨u9, hu9, hf⟩ := bindE hf
    refine qX_castR hΓ (pc := 8) hK (t := 0) (by decide) hu9 q92 dX1_sizeOf_8 ?_
    obtain ⟨x10, hx10, hf⟩ := bindE hf
    refine qX_lenR hΓ (pc := 11) hK hx10 dX1_sizeOf_11 ?_
    refine g_goto hΓ (pc := 12) (tgt := 35) dX1_sizeOf_12 (by decide) ?_
    exact qX_iretR hΓ hf dX1_sizeOf_35
def X_elementOfR (x : XS) (d : Nat) (a1 : Int32) : Option (Int32) :=
  (rowI x (d) 0).bind fun x1 =>
  if x1 = 0 then (
    (rowI x (d) 1).bind fun x3 =>
    if x3 = 0 then (
      (rowIs x (d) 2).bind fun u5 =>
      (rowR x (d) 2 a1).bind fun x6 =>
      some x6
    ) else (
      (rowIs x (d) 1).bind fun u7 =>
      (rowR x (d) 1 a1).bind fun x8 =>
      some x8
    )
  ) else (
    (rowIs x (d) 0).bind fun u9 =>
    (rowR x (d) 0 a1).bind fun x10 =>
    some x10
  )
set_option maxHeartbeats 4000000 in
set_option maxRecDepth 100000 in
theorem metX_elementOfR (l : Launch) {D : va_G} {dA : Nat → ClassId} {b : Nat} {ad : Nat → Nat} {P : Nat → Prop} {F : Nat → va_E} {gs : List (Nat × (Nat × Int32))} {x : XS} {d : Nat} {a1 : Int32} {z : Int32} (hf : X_elementOfR x d a1 = some z) : Met l yX1_elementOf (ws_ yX1_elementOf cX1_elementOf 2 (some .int)) (rmx_ 0 0 0 0) (xP D dA b ad P F gs [.ref (ad (70 + d)), .int a1] x) (xQ D dA b ad P F gs (some (.int z)) x) 0 0 (fun q => b ≤ q) := by
  refine qx_met (by decide) RX1 rfl (Nat.le_of_ble_eq_true rfl) (fun Γ hΓ hK => ?_)
  refine g_sub [0, 1] (lv' := [(0, .ref (ad (70 + d))), (1, .int a1)]) rfl ?_
  refine g_aload_n hΓ (pc := 0) 0 (i := 0) dX1_elementOf_0 rfl rfl ?_
  obtain ⟨x1, hx1, hf⟩ := bindE hf
  refine qX_instR hΓ (pc := 1) hK (t := 0) (by decide) hx1 q92 dX1_elementOf_1 ?_
  refine g_if_eq hΓ (pc := 4) (tgt := 16) dX1_elementOf_4 (by decide) (fun c2 => ?_) (fun c2 => ?_)
  · have hf := ifP hf c2
    refine g_aload_n hΓ (pc := 16) 0 (i := 0) dX1_elementOf_16 rfl rfl ?_
    obtain ⟨x3, hx3, hf⟩ := bindE hf
    refine qX_instR hΓ (pc := 17) hK (t := 1) (by decide) hx3 q676 dX1_elementOf_17 ?_
    refine g_if_eq hΓ (pc := 20) (tgt := 32) dX1_elementOf_20 (by decide) (fun c4 => ?_) (fun c4 => ?_)
    · have hf := ifP hf c4
      refine g_aload_n hΓ (pc := 32) 0 (i := 0) dX1_elementOf_32 rfl rfl ?_
      obtain ⟨u5, hu5, hf⟩ := bindE hf
      refine qX_castR hΓ (pc := 33) hK (t := 2) (by decide) hu5 q677 dX1_elementOf_33 ?_
      refine g_iload_n hΓ (pc := 36) 1 (i := 1) dX1_elementOf_36 rfl rfl ?_
      obtain ⟨x6, hx6, hf⟩ := bindE hf
      refine qX_aldR2 hΓ (pc := 37) hK hx6 dX1_elementOf_37 ?_
      exact qX_iretR hΓ hf dX1_elementOf_38
    · have hf := ifN hf c4
      refine g_aload_n hΓ (pc := 23) 0 (i := 0) dX1_elementOf_23 rfl rfl ?_
      obtain ⟨u7, hu7, hf⟩ := bindE hf
      refine qX_castR hΓ (pc := 24) hK (t := 1) (by decide) hu7 q676 dX1_elementOf_24 ?_
      refine g_iload_n hΓ (pc := 27) 1 (i := 1) dX1_elementOf_27 rfl rfl ?_
      obtain ⟨x8, hx8, hf⟩ := bindE hf
      refine qX_aldR1 hΓ (pc := 28) hK hx8 dX1_elementOf_28 ?_
      refine g_goto hΓ (pc := 29) (tgt := 38) dX1_elementOf_29 (by decide) ?_
      exact qX_iretR hΓ hf dX1_elementOf_38
  · have hf := ifN hf c2
    refine g_aload_n hΓ (pc := 7) 0 (i := 0) dX1_elementOf_7 rfl rfl ?_
    obtain ⟨u9, hu9, hf⟩ := bindE hf
    refine qX_castR hΓ (pc := 8) hK (t := 0) (by decide) hu9 q92 dX1_elementOf_8 ?_
    refine g_iload_n hΓ (pc := 11) 1 (i := 1) dX1_elementOf_11 rfl rfl ?_
    obtain ⟨x10, hx10, hf⟩ := bindE hf
    refine qX_aldR0 hΓ (pc := 12) hK hx10 dX1_elementOf_12 ?_
    refine g_goto hΓ (pc := 13) (tgt := 38) dX1_elementOf_13 (by decide) ?_
    exact qX_iretR hΓ hf dX1_elementOf_38
def X_leastOfR (x : XS) (d : Nat) : Option (Int32) :=
  (rowI x (d) 0).bind fun x1 =>
  if x1 = 0 then (
    (rowI x (d) 1).bind fun x3 =>
    if x3 = 0 then (
      some (-2147483648 : Int32)
    ) else (
      some (-32768 : Int32)
    )
  ) else (
    some (-128 : Int32)
  )
set_option maxHeartbeats 4000000 in
set_option maxRecDepth 100000 in
theorem metX_leastOfR (l : Launch) {D : va_G} {dA : Nat → ClassId} {b : Nat} {ad : Nat → Nat} {P : Nat → Prop} {F : Nat → va_E} {gs : List (Nat × (Nat × Int32))} {x : XS} {d : Nat} {z : Int32} (hf : X_leastOfR x d = some z) : Met l yX1_leastOf (ws_ yX1_leastOf cX1_leastOf 1 (some .int)) (rmx_ 0 0 0 0) (xP D dA b ad P F gs [.ref (ad (70 + d))] x) (xQ D dA b ad P F gs (some (.int z)) x) 0 0 (fun q => b ≤ q) := by
  refine qx_met (by decide) RX1 rfl (Nat.le_of_ble_eq_true rfl) (fun Γ hΓ hK => ?_)
  refine g_sub [0] (lv' := [(0, .ref (ad (70 + d)))]) rfl ?_
  refine g_aload_n hΓ (pc := 0) 0 (i := 0) dX1_leastOf_0 rfl rfl ?_
  obtain ⟨x1, hx1, hf⟩ := bindE hf
  refine qX_instR hΓ (pc := 1) hK (t := 0) (by decide) hx1 q92 dX1_leastOf_1 ?_
  refine g_if_eq hΓ (pc := 4) (tgt := 12) dX1_leastOf_4 (by decide) (fun c2 => ?_) (fun c2 => ?_)
  · have hf := ifP hf c2
    refine g_aload_n hΓ (pc := 12) 0 (i := 0) dX1_leastOf_12 rfl rfl ?_
    obtain ⟨x3, hx3, hf⟩ := bindE hf
    refine qX_instR hΓ (pc := 13) hK (t := 1) (by decide) hx3 q676 dX1_leastOf_13 ?_
    refine g_if_eq hΓ (pc := 16) (tgt := 25) dX1_leastOf_16 (by decide) (fun c4 => ?_) (fun c4 => ?_)
    · have hf := ifP hf c4
      refine g_ldcw hΓ (pc := 25) q687 dX1_leastOf_25 ?_
      exact qX_iretR hΓ hf dX1_leastOf_28
    · have hf := ifN hf c4
      refine g_sipush hΓ (pc := 19) (v := -32768) dX1_leastOf_19 (by decide) ?_
      refine g_goto hΓ (pc := 22) (tgt := 28) dX1_leastOf_22 (by decide) ?_
      exact qX_iretR hΓ hf dX1_leastOf_28
  · have hf := ifN hf c2
    refine g_bipush hΓ (pc := 7) (v := -128) dX1_leastOf_7 (by decide) ?_
    refine g_goto hΓ (pc := 9) (tgt := 28) dX1_leastOf_9 (by decide) ?_
    exact qX_iretR hΓ hf dX1_leastOf_28
def X_comes (x : XS) (a0 : Int32) (a1 : Int32) : Option (Int32 × XS) :=
  (S_isShelf a0).bind fun x1 =>
  if x1 = 0 then (
    some ((-1 : Int32), x)
  ) else (
    (S_isPlace a1).bind fun x3 =>
    if x3 = 0 then (
      some ((-1 : Int32), x)
    ) else (
      (shI a0).bind fun d5 =>
      shD (x.2.2.1 (a0.toNatClampNeg)) (
        some ((-11 : Int32), x)
      ) (fun g6 =>
        (H_comes (x.1 0) g6 (9 : Int32) a1).bind fun q13 =>
        (some (xh x 0 q13.2)).bind fun x14 =>
        if q13.1 = 0 then (
          some ((-2 : Int32), x14)
        ) else (
          some (((x14.1 0).2.2 14) - (1 : Int32), x14)
        )
      ) (fun s7 n8 f9 =>
        (rowAt x (a0.toNatClampNeg)).bind fun w16 =>
        some ((-12 : Int32), x)
      )
    )
  )
set_option maxHeartbeats 4000000 in
set_option maxRecDepth 100000 in
theorem metX_comes (l : Launch) {D : va_G} {dA : Nat → ClassId} {b : Nat} {ad : Nat → Nat} {P : Nat → Prop} {F : Nat → va_E} {gs : List (Nat × (Nat × Int32))} {x x' : XS} {a0 : Int32} {a1 : Int32} {z : Int32} (hf : X_comes x a0 a1 = some (z, x')) : Met l yX1_comes (ws_ yX1_comes cX1_comes 4 (some .int)) (rmx_ 2 42 0 0) (xP D dA b ad P F gs [.ref (ad 0), .int a0, .int a1] x) (xQ D dA b ad P F gs (some (.int z)) x') 0 0 (fun q => b ≤ q) := by
  refine qx_met (by decide) RX1 rfl (Nat.le_of_ble_eq_true rfl) (fun Γ hΓ hK => ?_)
  refine g_sub [0, 1, 2] (lv' := [(0, .ref (ad 0)), (1, .int a0), (2, .int a1)]) rfl ?_
  refine g_iload_n hΓ (pc := 0) 1 (i := 1) dX1_comes_0 rfl rfl ?_
  obtain ⟨x1, hx1, hf⟩ := bindE hf
  refine qg_callS hΓ (pc := 1) 1 (As := [.int a0]) (metS_isShelf _ hx1) (lw_S q86 q87 q54 q88) (by decide +kernel) ⟨by decide, by decide, ⟨by show 0 ≤ 0; omega, by show 0 ≤ 0; omega⟩⟩ rfl rfl (Nat.le_of_ble_eq_true rfl) dX1_comes_1 ?_
  refine g_if_eq hΓ (pc := 4) (tgt := 14) dX1_comes_4 (by decide) (fun c2 => ?_) (fun c2 => ?_)
  · have hf := ifP hf c2
    refine g_iconst hΓ (pc := 14) (v := -1) dX1_comes_14 (by decide) ?_
    exact qX_iret hΓ hf dX1_comes_15
  · have hf := ifN hf c2
    refine g_iload_n hΓ (pc := 7) 2 (i := 2) dX1_comes_7 rfl rfl ?_
    obtain ⟨x3, hx3, hf⟩ := bindE hf
    refine qg_callS hΓ (pc := 8) 1 (As := [.int a1]) (metS_isPlace _ hx3) (lw_S q254 q255 q54 q256) (by decide +kernel) ⟨by decide, by decide, ⟨by show 0 ≤ 0; omega, by show 0 ≤ 0; omega⟩⟩ rfl rfl (Nat.le_of_ble_eq_true rfl) dX1_comes_8 ?_
    refine g_if_ne hΓ (pc := 11) (tgt := 16) dX1_comes_11 (by decide) (fun c4 => ?_) (fun c4 => ?_)
    · have hf := ifN hf c4
      refine g_aload_n hΓ (pc := 16) 0 (i := 0) dX1_comes_16 rfl rfl ?_
      refine qX_shelves hΓ (pc := 17) hK q818 dX1_comes_17 ?_
      refine g_iload_n hΓ (pc := 20) 1 (i := 1) dX1_comes_20 rfl rfl ?_
      obtain ⟨d5, hd5, hf⟩ := bindE hf
      refine qX_saldT hΓ (pc := 21) hK hd5 dX1_comes_21 (fun ld5 => ?_)
      rcases shD_split hf with ⟨hv11, hf⟩ | ⟨g6, hv11, hf⟩ | ⟨s7, n8, f9, hv11, hv11s, hf⟩
      · refine qX_heldN hΓ (pc := 22) hK ld5 hv11 q808 dX1_comes_22 ?_
        refine g_astore_nN hΓ (pc := 25) (i := 3) (lv' := [(3, .null), (0, .ref (ad 0)), (1, .int a0), (2, .int a1)]) dX1_comes_25 rfl (by decide) rfl ?_
        refine g_aload_nN hΓ (pc := 26) 0 (i := 3) dX1_comes_26 rfl rfl ?_
        refine g_ifnonnullN hΓ (pc := 27) dX1_comes_27 ?_
        refine g_bipush hΓ (pc := 30) (v := -11) dX1_comes_30 (by decide) ?_
        exact qX_iret hΓ hf dX1_comes_32
      · refine qX_heldG hΓ (pc := 22) hK ld5 hv11 q808 dX1_comes_22 (fun ya10 => ?_)
        refine g_astore_n hΓ (pc := 25) (i := 3) (lv' := [(3, .ref (ya10)), (0, .ref (ad 0)), (1, .int a0), (2, .int a1)]) dX1_comes_25 rfl (by decide) rfl ?_
        refine g_aload_n hΓ (pc := 26) 0 (i := 3) dX1_comes_26 rfl rfl ?_
        refine g_ifnonnull hΓ (pc := 27) (tgt := 33) dX1_comes_27 (by decide) ?_
        refine g_aload_n hΓ (pc := 33) 0 (i := 3) dX1_comes_33 rfl rfl ?_
        refine qX_instG hΓ (pc := 34) hK List.mem_cons_self q260 dX1_comes_34 ?_
        refine g_if_ne hΓ (pc := 37) (tgt := 43) dX1_comes_37 (by decide) (fun c12 => ?_) (fun c12 => ?_)
        · skip
          refine g_aload_n hΓ (pc := 43) 1 (i := 0) dX1_comes_43 rfl rfl ?_
          refine qX_house hΓ (pc := 44) hK 0 (by decide) q812 dX1_comes_44 ?_
          refine g_aload_n hΓ (pc := 47) 0 (i := 3) dX1_comes_47 rfl rfl ?_
          refine qX_castG hΓ (pc := 48) hK List.mem_cons_self q260 dX1_comes_48 ?_
          refine g_bipush hΓ (pc := 51) (v := 9) dX1_comes_51 (by decide) ?_
          refine g_iload_n hΓ (pc := 53) 3 (i := 2) dX1_comes_53 rfl rfl ?_
          obtain ⟨q13, hq13, hf⟩ := bindE hf
          refine qX_callH hΓ (pc := 54) hK (r := 0) (by decide) 3 (As := [.ref (ya10), .int (9 : Int32), .int a1]) (metH_comes _ (r := 0) (by decide) List.mem_cons_self (z := q13.1) (h' := q13.2) hq13) (lw_V q335 q336 q337 q55 q338) (by decide +kernel) (by decide) ⟨by show 0 + 0 ≤ 0; omega, by show 0 + 0 ≤ 0; omega⟩ rfl rfl (Nat.le_of_ble_eq_true rfl) dX1_comes_54 ?_
          refine g_wid (by omega) (by omega) (c2 := 0) (s2 := 0) ?_
          obtain ⟨x14, hx14, hf⟩ := bindE hf
          refine g_xeq hx14 ?_
          refine g_if_eq hΓ (pc := 57) (tgt := 72) dX1_comes_57 (by decide) (fun c15 => ?_) (fun c15 => ?_)
          · have hf := ifP hf c15
            refine g_bipush hΓ (pc := 72) (v := -2) dX1_comes_72 (by decide) ?_
            refine g_w (fun H h => XW.drop (gs := gs) h (fun q hq => List.mem_cons_of_mem _ (hq))) ?_
            exact qX_iret hΓ hf dX1_comes_74
          · have hf := ifN hf c15
            refine g_aload_n hΓ (pc := 60) 1 (i := 0) dX1_comes_60 rfl rfl ?_
            refine qX_house hΓ (pc := 61) hK 0 (by decide) q812 dX1_comes_61 ?_
            refine qx_hget hΓ (pc := 64) hK (r := 0) (by decide) rfl (k := 14) rfl q740 dX1_comes_64 ?_
            refine g_iconst hΓ (pc := 67) (v := 1) dX1_comes_67 (by decide) ?_
            refine g_isub hΓ (pc := 68) dX1_comes_68 ?_
            refine g_goto hΓ (pc := 69) (tgt := 74) dX1_comes_69 (by decide) ?_
            refine g_w (fun H h => XW.drop (gs := gs) h (fun q hq => List.mem_cons_of_mem _ (hq))) ?_
            exact qX_iret hΓ hf dX1_comes_74
        · exact absurd c12 (by decide)
      · refine qX_heldA hΓ (pc := 22) hK ld5 hv11 q808 dX1_comes_22 ?_
        refine g_astore_n hΓ (pc := 25) (i := 3) (lv' := [(3, .ref (ad (70 + a0.toNatClampNeg))), (0, .ref (ad 0)), (1, .int a0), (2, .int a1)]) dX1_comes_25 rfl (by decide) rfl ?_
        refine g_aload_n hΓ (pc := 26) 0 (i := 3) dX1_comes_26 rfl rfl ?_
        refine g_ifnonnull hΓ (pc := 27) (tgt := 33) dX1_comes_27 (by decide) ?_
        refine g_aload_n hΓ (pc := 33) 0 (i := 3) dX1_comes_33 rfl rfl ?_
        obtain ⟨w16, hw16, hf⟩ := bindE hf
        refine qX_instRG hΓ (pc := 34) hK hw16 q260 dX1_comes_34 ?_
        refine g_if_ne hΓ (pc := 37) (tgt := 43) dX1_comes_37 (by decide) (fun c17 => ?_) (fun c17 => ?_)
        · exact absurd c17 (by decide)
        · skip
          refine g_bipush hΓ (pc := 40) (v := -12) dX1_comes_40 (by decide) ?_
          exact qX_iret hΓ hf dX1_comes_42
    · have hf := ifP hf c4
      refine g_iconst hΓ (pc := 14) (v := -1) dX1_comes_14 (by decide) ?_
      exact qX_iret hΓ hf dX1_comes_15
def X_keep_44 (x : XS) (y1 : Int32) (y2 : Int32) (y3 : Int32) (y4 : Int32) : Option (Int32 × XS) :=
  (shI y1).bind fun d1 =>
  if y2 = 0 then (
    (some (xSh x (y1.toNatClampNeg) none)).bind fun x6 =>
    some ((0 : Int32), x6)
  ) else (
    (X_glassOf y3 y4).bind fun g3 =>
    (some (xSh x (y1.toNatClampNeg) (some (.inl g3)))).bind fun x5 =>
    some ((0 : Int32), x5)
  )
def X_keep (x : XS) (a0 : Int32) (a1 : Int32) (a2 : Int32) (a3 : Int32) : Option (Int32 × XS) :=
  (S_isShelf a0).bind fun x7 =>
  if x7 = 0 then (
    some ((-1 : Int32), x)
  ) else (
    (S_isIn a1 (0 : Int32) (1 : Int32)).bind fun x9 =>
    if x9 = 0 then (
      some ((-1 : Int32), x)
    ) else (
      if a1 = (1 : Int32) then (
        (S_isIn a2 (0 : Int32) (7 : Int32)).bind fun x12 =>
        if x12 = 0 then (
          some ((-1 : Int32), x)
        ) else (
          (S_isIn a3 (0 : Int32) (9 : Int32)).bind fun x14 =>
          if x14 = 0 then (
            some ((-1 : Int32), x)
          ) else (
            X_keep_44 x a0 a1 a2 a3
          )
        )
      ) else (
        X_keep_44 x a0 a1 a2 a3
      )
    )
  )
set_option maxHeartbeats 4000000 in
set_option maxRecDepth 100000 in
theorem metX_keep (l : Launch) {D : va_G} {dA : Nat → ClassId} {b : Nat} {ad : Nat → Nat} {P : Nat → Prop} {F : Nat → va_E} {gs : List (Nat × (Nat × Int32))} {x x' : XS} {a0 : Int32} {a1 : Int32} {a2 : Int32} {a3 : Int32} {z : Int32} (hf : X_keep x a0 a1 a2 a3 = some (z, x')) : Met l yX1_keep (ws_ yX1_keep cX1_keep 5 (some .int)) (rmx_ 5 96 1 1) (xP D dA b ad P F gs [.ref (ad 0), .int a0, .int a1, .int a2, .int a3] x) (xQ D dA b ad P F gs (some (.int z)) x') 1 1 (fun q => b ≤ q) := by
  refine qx_met (by decide) RX1 rfl (Nat.le_of_ble_eq_true rfl) (fun Γ hΓ hK => ?_)
  refine g_sub [0, 1, 2, 3, 4] (lv' := [(0, .ref (ad 0)), (1, .int a0), (2, .int a1), (3, .int a2), (4, .int a3)]) rfl ?_
  have J44 : ∀ (x : XS) (y1 : Int32) (y2 : Int32) (y3 : Int32) (y4 : Int32) (hf : X_keep_44   x y1 y2 y3 y4 = some (z, x')), WG Γ (XW D dA b ad P F gs x) 0 0 44 [(0, .ref (ad 0)), (1, .int y1), (2, .int y2), (3, .int y3), (4, .int y4)] [] := by
    intro  x y1 y2 y3 y4 hf
    refine g_aload_n hΓ (pc := 44) 0 (i := 0) dX1_keep_44 rfl rfl ?_
    refine qX_shelves hΓ (pc := 45) hK q818 dX1_keep_45 ?_
    refine g_iload_n hΓ (pc := 48) 1 (i := 1) dX1_keep_48 rfl rfl ?_
    obtain ⟨d1, hd1, hf⟩ := bindE hf
    refine qX_saldT hΓ (pc := 49) hK hd1 dX1_keep_49 (fun ld1 => ?_)
    refine g_iload_n hΓ (pc := 50) 2 (i := 2) dX1_keep_50 rfl rfl ?_
    refine g_if_ne hΓ (pc := 51) (tgt := 58) dX1_keep_51 (by decide) (fun c2 => ?_) (fun c2 => ?_)
    · have hf := ifN hf c2
      refine g_iload_n hΓ (pc := 58) 3 (i := 3) dX1_keep_58 rfl rfl ?_
      refine g_iload hΓ (pc := 59) 4 (i := 4) dX1_keep_59 rfl ?_
      obtain ⟨g3, hg3, hf⟩ := bindE hf
      refine qX_callSr hΓ (pc := 61) hK 2 (As := [.int y3, .int y4]) (metX_glassOf _ hg3) (lw_S q257 q258 q54 q259) (by decide +kernel) (by decide) ⟨by show 0 + 1 ≤ 1; omega, by show 0 + 1 ≤ 1; omega⟩ rfl rfl (Nat.le_of_ble_eq_true rfl) dX1_keep_61 (fun ya4 => ?_)
      refine qX_putG hΓ (pc := 64) hK ld1 List.mem_cons_self q808 dX1_keep_64 ?_
      obtain ⟨x5, hx5, hf⟩ := bindE hf
      refine g_xeq hx5 ?_
      refine g_iconst hΓ (pc := 67) (v := 0) dX1_keep_67 (by decide) ?_
      refine g_w (fun H h => XW.drop (gs := gs) h (fun q hq => List.mem_cons_of_mem _ (hq))) ?_
      exact qX_iret hΓ hf dX1_keep_68
    · have hf := ifP hf c2
      refine g_null hΓ (pc := 54) dX1_keep_54 ?_
      refine g_goto hΓ (pc := 55) (tgt := 64) dX1_keep_55 (by decide) ?_
      refine qX_putN hΓ (pc := 64) hK ld1 q808 dX1_keep_64 ?_
      obtain ⟨x6, hx6, hf⟩ := bindE hf
      refine g_xeq hx6 ?_
      refine g_iconst hΓ (pc := 67) (v := 0) dX1_keep_67 (by decide) ?_
      refine g_wid (by omega) (by omega) (c2 := 1) (s2 := 1) ?_
      exact qX_iret hΓ hf dX1_keep_68
  refine g_iload_n hΓ (pc := 0) 1 (i := 1) dX1_keep_0 rfl rfl ?_
  obtain ⟨x7, hx7, hf⟩ := bindE hf
  refine qg_callS hΓ (pc := 1) 1 (As := [.int a0]) (metS_isShelf _ hx7) (lw_S q86 q87 q54 q88) (by decide +kernel) ⟨by decide, by decide, ⟨by show 0 ≤ 1; omega, by show 0 ≤ 1; omega⟩⟩ rfl rfl (Nat.le_of_ble_eq_true rfl) dX1_keep_1 ?_
  refine g_if_eq hΓ (pc := 4) (tgt := 42) dX1_keep_4 (by decide) (fun c8 => ?_) (fun c8 => ?_)
  · have hf := ifP hf c8
    refine g_iconst hΓ (pc := 42) (v := -1) dX1_keep_42 (by decide) ?_
    refine g_wid (by omega) (by omega) (c2 := 1) (s2 := 1) ?_
    exact qX_iret hΓ hf dX1_keep_43
  · have hf := ifN hf c8
    refine g_iload_n hΓ (pc := 7) 2 (i := 2) dX1_keep_7 rfl rfl ?_
    refine g_iconst hΓ (pc := 8) (v := 0) dX1_keep_8 (by decide) ?_
    refine g_iconst hΓ (pc := 9) (v := 1) dX1_keep_9 (by decide) ?_
    obtain ⟨x9, hx9, hf⟩ := bindE hf
    refine qg_callS hΓ (pc := 10) 3 (As := [.int a1, .int (0 : Int32), .int (1 : Int32)]) (metS_isIn _ hx9) (lw_S q89 q90 q54 q91) (by decide +kernel) ⟨by decide, by decide, ⟨by show 0 ≤ 1; omega, by show 0 ≤ 1; omega⟩⟩ rfl rfl (Nat.le_of_ble_eq_true rfl) dX1_keep_10 ?_
    refine g_if_eq hΓ (pc := 13) (tgt := 42) dX1_keep_13 (by decide) (fun c10 => ?_) (fun c10 => ?_)
    · have hf := ifP hf c10
      refine g_iconst hΓ (pc := 42) (v := -1) dX1_keep_42 (by decide) ?_
      refine g_wid (by omega) (by omega) (c2 := 1) (s2 := 1) ?_
      exact qX_iret hΓ hf dX1_keep_43
    · have hf := ifN hf c10
      refine g_iload_n hΓ (pc := 16) 2 (i := 2) dX1_keep_16 rfl rfl ?_
      refine g_iconst hΓ (pc := 17) (v := 1) dX1_keep_17 (by decide) ?_
      refine g_icmp_ne hΓ (pc := 18) (tgt := 44) dX1_keep_18 (by decide) (fun c11 => ?_) (fun c11 => ?_)
      · have hf := ifN hf c11
        exact g_sub [0, 1, 2, 3, 4] rfl (J44  _ _ _ _ _ hf)
      · have hf := ifP hf c11
        refine g_iload_n hΓ (pc := 21) 3 (i := 3) dX1_keep_21 rfl rfl ?_
        refine g_iconst hΓ (pc := 22) (v := 0) dX1_keep_22 (by decide) ?_
        refine g_bipush hΓ (pc := 23) (v := 7) dX1_keep_23 (by decide) ?_
        obtain ⟨x12, hx12, hf⟩ := bindE hf
        refine qg_callS hΓ (pc := 25) 3 (As := [.int a2, .int (0 : Int32), .int (7 : Int32)]) (metS_isIn _ hx12) (lw_S q89 q90 q54 q91) (by decide +kernel) ⟨by decide, by decide, ⟨by show 0 ≤ 1; omega, by show 0 ≤ 1; omega⟩⟩ rfl rfl (Nat.le_of_ble_eq_true rfl) dX1_keep_25 ?_
        refine g_if_eq hΓ (pc := 28) (tgt := 42) dX1_keep_28 (by decide) (fun c13 => ?_) (fun c13 => ?_)
        · have hf := ifP hf c13
          refine g_iconst hΓ (pc := 42) (v := -1) dX1_keep_42 (by decide) ?_
          refine g_wid (by omega) (by omega) (c2 := 1) (s2 := 1) ?_
          exact qX_iret hΓ hf dX1_keep_43
        · have hf := ifN hf c13
          refine g_iload hΓ (pc := 31) 4 (i := 4) dX1_keep_31 rfl ?_
          refine g_iconst hΓ (pc := 33) (v := 0) dX1_keep_33 (by decide) ?_
          refine g_bipush hΓ (pc := 34) (v := 9) dX1_keep_34 (by decide) ?_
          obtain ⟨x14, hx14, hf⟩ := bindE hf
          refine qg_callS hΓ (pc := 36) 3 (As := [.int a3, .int (0 : Int32), .int (9 : Int32)]) (metS_isIn _ hx14) (lw_S q89 q90 q54 q91) (by decide +kernel) ⟨by decide, by decide, ⟨by show 0 ≤ 1; omega, by show 0 ≤ 1; omega⟩⟩ rfl rfl (Nat.le_of_ble_eq_true rfl) dX1_keep_36 ?_
          refine g_if_ne hΓ (pc := 39) (tgt := 44) dX1_keep_39 (by decide) (fun c15 => ?_) (fun c15 => ?_)
          · have hf := ifN hf c15
            exact g_sub [0, 1, 2, 3, 4] rfl (J44  _ _ _ _ _ hf)
          · have hf := ifP hf c15
            refine g_iconst hΓ (pc := 42) (v := -1) dX1_keep_42 (by decide) ?_
            refine g_wid (by omega) (by omega) (c2 := 1) (s2 := 1) ?_
            exact qX_iret hΓ hf dX1_keep_43
def X_judge_105 (a1 : Int32) (k62 : XS → Int32 → Int32 → Option (Int32 × XS)) (x : XS) (y1 : Int32) (y4 : Int32) : Option (Int32 × XS) :=
  (H_goesFreely (x.1 3)).bind fun h1 =>
  (some (xh x 3 h1)).bind fun x2 =>
  (some (y4 + 1)).bind fun x3 =>
  k62 x2 y1 x3
def X_judge_62s (a1 : Int32) (k62 : XS → Int32 → Int32 → Option (Int32 × XS)) (x : XS) (y1 : Int32) (y4 : Int32) : Option (Int32 × XS) :=
  (X_sizeOfR x (a1.toNatClampNeg) ).bind fun x4 =>
  if x4 ≤ y4 then (
    some ((-4 : Int32), x)
  ) else (
    (X_elementOfR x (a1.toNatClampNeg) y4).bind fun x6 =>
    (X_leastOfR x (a1.toNatClampNeg) ).bind fun x7 =>
    if x6 = x7 then (
      X_judge_105 a1 k62 x y1 y4
    ) else (
      (hR (x.1 3) 2 y1).bind fun x9 =>
      if x6 = x9 then (
        X_judge_105 a1 k62 x y1 y4
      ) else (
        some (y4, x)
      )
    )
  )
def X_judge_62 (a1 : Int32) : Nat → XS → Int32 → Int32 → Option (Int32 × XS)
  | 0 => fun _ _ _ => none
  | n + 1 => X_judge_62s a1  (X_judge_62 a1  n)
def X_judge (x : XS) (a0 : Int32) (a1 : Int32) : Option (Int32 × XS) :=
  (H_isGlass (x.1 0) a0).bind fun x11 =>
  if x11 = 0 then (
    some ((-1 : Int32), x)
  ) else (
    (S_isShelf a1).bind fun x13 =>
    if x13 = 0 then (
      some ((-1 : Int32), x)
    ) else (
      (shI a1).bind fun d15 =>
      shD (x.2.2.1 (a1.toNatClampNeg)) (
        some ((-11 : Int32), x)
      ) (fun g16 =>
        some ((-12 : Int32), x)
      ) (fun s17 n18 f19 =>
        (X_sortOfR x (a1.toNatClampNeg) ).bind fun x23 =>
        if x23 = (-1 : Int32) then (
          some ((-12 : Int32), x)
        ) else (
          (H_takes (x.1 0)).bind fun h25 =>
          (some (xh x 3 h25)).bind fun x26 =>
          X_judge_62 a1 101 x26 a0 (0 : Int32)
        )
      )
    )
  )
set_option maxHeartbeats 4000000 in
set_option maxRecDepth 100000 in
theorem metX_judge (l : Launch) {D : va_G} {dA : Nat → ClassId} {b : Nat} {ad : Nat → Nat} {P : Nat → Prop} {F : Nat → va_E} {gs : List (Nat × (Nat × Int32))} {x x' : XS} {a0 : Int32} {a1 : Int32} {z : Int32} (hf : X_judge x a0 a1 = some (z, x')) : Met l yX1_judge (ws_ yX1_judge cX1_judge 6 (some .int)) (rmx_ 9 264 707 707) (xP D dA b ad P F gs [.ref (ad 0), .int a0, .int a1] x) (xQ D dA b ad P F gs (some (.int z)) x') 707 707 (fun q => b ≤ q) := by
  refine qx_met (by decide) RX1 rfl (Nat.le_of_ble_eq_true rfl) (fun Γ hΓ hK => ?_)
  refine g_sub [0, 1, 2] (lv' := [(0, .ref (ad 0)), (1, .int a0), (2, .int a1)]) rfl ?_
  have J105 : ∀ (n62 : Nat) (hn62 : n62 + 1 ≤ 101) (k62 : XS → Int32 → Int32 → Option (Int32 × XS)) (hk62 : ∀ (x : XS) (y1 : Int32) (y4 : Int32), k62 x y1 y4 = some (z, x') → WG Γ (XW D dA b ad P F gs x) (0 + (101 - n62) * 7) (0 + (101 - n62) * 7) 62 [(0, .ref (ad 0)), (1, .int y1), (3, .ref (ad (70 + a1.toNatClampNeg))), (4, .int y4)] []) (x : XS) (y1 : Int32) (y4 : Int32) (hf : X_judge_105 a1 k62 x y1 y4 = some (z, x')), WG Γ (XW D dA b ad P F gs x) (0 + (101 - (n62 + 1)) * 7) (0 + (101 - (n62 + 1)) * 7) 105 [(0, .ref (ad 0)), (1, .int y1), (3, .ref (ad (70 + a1.toNatClampNeg))), (4, .int y4)] [] := by
    intro n62 hn62 k62 hk62 x y1 y4 hf
    refine g_aload_n hΓ (pc := 105) 0 (i := 0) dX1_judge_105 rfl rfl ?_
    refine qX_house hΓ (pc := 106) hK 3 (by decide) q815 dX1_judge_106 ?_
    obtain ⟨h1, hh1, hf⟩ := bindE hf
    refine qX_callH hΓ (pc := 109) hK (r := 3) (by decide) 0 (As := []) (metH_goesFreely _ (r := 3) (by decide) hh1) (lw_V q610 q365 q366 q55 q367) (by decide +kernel) (by decide) ⟨by show (0 + (101 - (n62 + 1)) * 7) + 7 ≤ 707; omega, by show (0 + (101 - (n62 + 1)) * 7) + 7 ≤ 707; omega⟩ rfl rfl (Nat.le_of_ble_eq_true rfl) dX1_judge_109 ?_
    refine g_wid (by omega) (by omega) (c2 := (7 + (101 - (n62 + 1)) * 7)) (s2 := (7 + (101 - (n62 + 1)) * 7)) ?_
    obtain ⟨x2, hx2, hf⟩ := bindE hf
    refine g_xeq hx2 ?_
    obtain ⟨x3, hx3, hf⟩ := bindE hf
    refine g_iinc hΓ (pc := 112) 3 (i := 4) (v := x3) (lv' := [(4, .int x3), (0, .ref (ad 0)), (1, .int y1), (3, .ref (ad (70 + a1.toNatClampNeg)))]) dX1_judge_112 rfl (Option.some.inj hx3) (by decide) rfl ?_
    refine g_goto hΓ (pc := 115) (tgt := 62) dX1_judge_115 (by decide) ?_
    refine g_wid (by omega) (by omega) (c2 := (0 + (101 - n62) * 7)) (s2 := (0 + (101 - n62) * 7)) ?_
    exact g_sub [1, 2, 3, 0] rfl (hk62 _ _ _ hf)
  have S62 : ∀ (n62 : Nat) (hn62 : n62 + 1 ≤ 101) (k62 : XS → Int32 → Int32 → Option (Int32 × XS)) (hk62 : ∀ (x : XS) (y1 : Int32) (y4 : Int32), k62 x y1 y4 = some (z, x') → WG Γ (XW D dA b ad P F gs x) (0 + (101 - n62) * 7) (0 + (101 - n62) * 7) 62 [(0, .ref (ad 0)), (1, .int y1), (3, .ref (ad (70 + a1.toNatClampNeg))), (4, .int y4)] []) (x : XS) (y1 : Int32) (y4 : Int32) (hf : X_judge_62s a1 k62 x y1 y4 = some (z, x')), WG Γ (XW D dA b ad P F gs x) (0 + (101 - (n62 + 1)) * 7) (0 + (101 - (n62 + 1)) * 7) 62 [(0, .ref (ad 0)), (1, .int y1), (3, .ref (ad (70 + a1.toNatClampNeg))), (4, .int y4)] [] := by
    intro n62 hn62 k62 hk62 x y1 y4 hf
    refine g_iload hΓ (pc := 62) 3 (i := 4) dX1_judge_62 rfl ?_
    refine g_aload_n hΓ (pc := 64) 2 (i := 3) dX1_judge_64 rfl rfl ?_
    obtain ⟨x4, hx4, hf⟩ := bindE hf
    refine qX_callS hΓ (pc := 65) hK 1 (As := [.ref (ad (70 + a1.toNatClampNeg))]) (metX_sizeOfR _ hx4) (lw_S q678 q679 q54 q680) (by decide +kernel) (by decide) ⟨by show (0 + (101 - (n62 + 1)) * 7) + 0 ≤ 707; omega, by show (0 + (101 - (n62 + 1)) * 7) + 0 ≤ 707; omega⟩ rfl rfl (Nat.le_of_ble_eq_true rfl) dX1_judge_65 ?_
    refine g_icmp_ge hΓ (pc := 68) (tgt := 118) dX1_judge_68 (by decide) (fun c5 => ?_) (fun c5 => ?_)
    · have hf := ifP hf c5
      refine g_bipush hΓ (pc := 118) (v := -4) dX1_judge_118 (by decide) ?_
      refine g_wid (by omega) (by omega) (c2 := 707) (s2 := 707) ?_
      exact qX_iret hΓ hf dX1_judge_120
    · have hf := ifN hf c5
      refine g_aload_n hΓ (pc := 71) 2 (i := 3) dX1_judge_71 rfl rfl ?_
      refine g_iload hΓ (pc := 72) 3 (i := 4) dX1_judge_72 rfl ?_
      obtain ⟨x6, hx6, hf⟩ := bindE hf
      refine qX_callS hΓ (pc := 74) hK 2 (As := [.ref (ad (70 + a1.toNatClampNeg)), .int y4]) (metX_elementOfR _ hx6) (lw_S q681 q682 q54 q683) (by decide +kernel) (by decide) ⟨by show (0 + (101 - (n62 + 1)) * 7) + 0 ≤ 707; omega, by show (0 + (101 - (n62 + 1)) * 7) + 0 ≤ 707; omega⟩ rfl rfl (Nat.le_of_ble_eq_true rfl) dX1_judge_74 ?_
      refine g_istore hΓ (pc := 77) (i := 5) (lv' := [(5, .int x6), (0, .ref (ad 0)), (1, .int y1), (3, .ref (ad (70 + a1.toNatClampNeg))), (4, .int y4)]) dX1_judge_77 (by decide) rfl ?_
      refine g_iload hΓ (pc := 79) 0 (i := 5) dX1_judge_79 rfl ?_
      refine g_aload_n hΓ (pc := 81) 3 (i := 3) dX1_judge_81 rfl rfl ?_
      obtain ⟨x7, hx7, hf⟩ := bindE hf
      refine qX_callS hΓ (pc := 82) hK 1 (As := [.ref (ad (70 + a1.toNatClampNeg))]) (metX_leastOfR _ hx7) (lw_S q684 q685 q54 q686) (by decide +kernel) (by decide) ⟨by show (0 + (101 - (n62 + 1)) * 7) + 0 ≤ 707; omega, by show (0 + (101 - (n62 + 1)) * 7) + 0 ≤ 707; omega⟩ rfl rfl (Nat.le_of_ble_eq_true rfl) dX1_judge_82 ?_
      refine g_icmp_eq hΓ (pc := 85) (tgt := 105) dX1_judge_85 (by decide) (fun c8 => ?_) (fun c8 => ?_)
      · have hf := ifP hf c8
        exact g_sub [1, 2, 3, 4] rfl (J105 n62 hn62 k62 hk62 _ _ _ hf)
      · have hf := ifN hf c8
        refine g_iload hΓ (pc := 88) 0 (i := 5) dX1_judge_88 rfl ?_
        refine g_aload_n hΓ (pc := 90) 1 (i := 0) dX1_judge_90 rfl rfl ?_
        refine qX_house hΓ (pc := 91) hK 3 (by decide) q815 dX1_judge_91 ?_
        refine qx_hgeta hΓ (pc := 94) hK (r := 3) (by decide) (k := 2) rfl q716 dX1_judge_94 ?_
        refine g_iload_n hΓ (pc := 97) 2 (i := 1) dX1_judge_97 rfl rfl ?_
        obtain ⟨x9, hx9, hf⟩ := bindE hf
        refine qx_iald hΓ (pc := 98) hK (r := 3) (by decide) rfl rfl hx9 dX1_judge_98 ?_
        refine g_icmp_eq hΓ (pc := 99) (tgt := 105) dX1_judge_99 (by decide) (fun c10 => ?_) (fun c10 => ?_)
        · have hf := ifP hf c10
          exact g_sub [1, 2, 3, 4] rfl (J105 n62 hn62 k62 hk62 _ _ _ hf)
        · have hf := ifN hf c10
          refine g_iload hΓ (pc := 102) 4 (i := 4) dX1_judge_102 rfl ?_
          refine g_wid (by omega) (by omega) (c2 := 707) (s2 := 707) ?_
          exact qX_iret hΓ hf dX1_judge_104
  have L62 : ∀ (n62 : Nat) (hn : n62 ≤ 101) (x : XS) (y1 : Int32) (y4 : Int32) (hf : X_judge_62 a1  n62 x y1 y4 = some (z, x')), WG Γ (XW D dA b ad P F gs x) (0 + (101 - n62) * 7) (0 + (101 - n62) * 7) 62 [(0, .ref (ad 0)), (1, .int y1), (3, .ref (ad (70 + a1.toNatClampNeg))), (4, .int y4)] [] := by
    intro  n62
    induction n62 with
    | zero => intro hn x y1 y4 hf; exact nomatch (show (none : Option (Int32 × XS)) = some _ from hf)
    | succ n62 ih => intro hn; exact S62  n62 hn _ (ih (by omega))
  refine g_aload_n hΓ (pc := 0) 0 (i := 0) dX1_judge_0 rfl rfl ?_
  refine qX_house hΓ (pc := 1) hK 0 (by decide) q812 dX1_judge_1 ?_
  refine g_iload_n hΓ (pc := 4) 1 (i := 1) dX1_judge_4 rfl rfl ?_
  obtain ⟨x11, hx11, hf⟩ := bindE hf
  refine qX_callH hΓ (pc := 5) hK (r := 0) (by decide) 1 (As := [.int a0]) (metH_isGlass _ (r := 0) (by decide) hx11) (lw_V q348 q349 q350 q55 q351) (by decide +kernel) (by decide) ⟨by show 0 + 0 ≤ 707; omega, by show 0 + 0 ≤ 707; omega⟩ rfl rfl (Nat.le_of_ble_eq_true rfl) dX1_judge_5 ?_
  refine g_xs ?_
  refine g_if_eq hΓ (pc := 8) (tgt := 18) dX1_judge_8 (by decide) (fun c12 => ?_) (fun c12 => ?_)
  · have hf := ifP hf c12
    refine g_iconst hΓ (pc := 18) (v := -1) dX1_judge_18 (by decide) ?_
    refine g_wid (by omega) (by omega) (c2 := 707) (s2 := 707) ?_
    exact qX_iret hΓ hf dX1_judge_19
  · have hf := ifN hf c12
    refine g_iload_n hΓ (pc := 11) 2 (i := 2) dX1_judge_11 rfl rfl ?_
    obtain ⟨x13, hx13, hf⟩ := bindE hf
    refine qg_callS hΓ (pc := 12) 1 (As := [.int a1]) (metS_isShelf _ hx13) (lw_S q86 q87 q54 q88) (by decide +kernel) ⟨by decide, by decide, ⟨by show 0 ≤ 707; omega, by show 0 ≤ 707; omega⟩⟩ rfl rfl (Nat.le_of_ble_eq_true rfl) dX1_judge_12 ?_
    refine g_if_ne hΓ (pc := 15) (tgt := 20) dX1_judge_15 (by decide) (fun c14 => ?_) (fun c14 => ?_)
    · have hf := ifN hf c14
      refine g_aload_n hΓ (pc := 20) 0 (i := 0) dX1_judge_20 rfl rfl ?_
      refine qX_shelves hΓ (pc := 21) hK q818 dX1_judge_21 ?_
      refine g_iload_n hΓ (pc := 24) 2 (i := 2) dX1_judge_24 rfl rfl ?_
      obtain ⟨d15, hd15, hf⟩ := bindE hf
      refine qX_saldT hΓ (pc := 25) hK hd15 dX1_judge_25 (fun ld15 => ?_)
      rcases shD_split hf with ⟨hv21, hf⟩ | ⟨g16, hv21, hf⟩ | ⟨s17, n18, f19, hv21, hv21s, hf⟩
      · refine qX_heldN hΓ (pc := 26) hK ld15 hv21 q808 dX1_judge_26 ?_
        refine g_astore_nN hΓ (pc := 29) (i := 3) (lv' := [(3, .null), (0, .ref (ad 0)), (1, .int a0), (2, .int a1)]) dX1_judge_29 rfl (by decide) rfl ?_
        refine g_aload_nN hΓ (pc := 30) 0 (i := 3) dX1_judge_30 rfl rfl ?_
        refine g_ifnonnullN hΓ (pc := 31) dX1_judge_31 ?_
        refine g_bipush hΓ (pc := 34) (v := -11) dX1_judge_34 (by decide) ?_
        refine g_wid (by omega) (by omega) (c2 := 707) (s2 := 707) ?_
        exact qX_iret hΓ hf dX1_judge_36
      · refine qX_heldG hΓ (pc := 26) hK ld15 hv21 q808 dX1_judge_26 (fun ya20 => ?_)
        refine g_astore_n hΓ (pc := 29) (i := 3) (lv' := [(3, .ref (ya20)), (0, .ref (ad 0)), (1, .int a0), (2, .int a1)]) dX1_judge_29 rfl (by decide) rfl ?_
        refine g_aload_n hΓ (pc := 30) 0 (i := 3) dX1_judge_30 rfl rfl ?_
        refine g_ifnonnull hΓ (pc := 31) (tgt := 37) dX1_judge_31 (by decide) ?_
        refine g_aload_n hΓ (pc := 37) 0 (i := 3) dX1_judge_37 rfl rfl ?_
        refine qX_callS hΓ (pc := 38) hK 1 (As := [.ref (ya20)]) (metX_sortOfG _ List.mem_cons_self) (lw_S q673 q674 q54 q675) (by decide +kernel) (by decide) ⟨by show 0 + 0 ≤ 707; omega, by show 0 + 0 ≤ 707; omega⟩ rfl rfl (Nat.le_of_ble_eq_true rfl) dX1_judge_38 ?_
        refine g_iconst hΓ (pc := 41) (v := -1) dX1_judge_41 (by decide) ?_
        refine g_icmp_ne hΓ (pc := 42) (tgt := 48) dX1_judge_42 (by decide) (fun c22 => ?_) (fun c22 => ?_)
        · exact absurd c22 (by decide)
        · skip
          refine g_bipush hΓ (pc := 45) (v := -12) dX1_judge_45 (by decide) ?_
          refine g_w (fun H h => XW.drop (gs := gs) h (fun q hq => List.mem_cons_of_mem _ (hq))) ?_
          refine g_wid (by omega) (by omega) (c2 := 707) (s2 := 707) ?_
          exact qX_iret hΓ hf dX1_judge_47
      · refine qX_heldA hΓ (pc := 26) hK ld15 hv21 q808 dX1_judge_26 ?_
        refine g_astore_n hΓ (pc := 29) (i := 3) (lv' := [(3, .ref (ad (70 + a1.toNatClampNeg))), (0, .ref (ad 0)), (1, .int a0), (2, .int a1)]) dX1_judge_29 rfl (by decide) rfl ?_
        refine g_aload_n hΓ (pc := 30) 0 (i := 3) dX1_judge_30 rfl rfl ?_
        refine g_ifnonnull hΓ (pc := 31) (tgt := 37) dX1_judge_31 (by decide) ?_
        refine g_aload_n hΓ (pc := 37) 0 (i := 3) dX1_judge_37 rfl rfl ?_
        obtain ⟨x23, hx23, hf⟩ := bindE hf
        refine qX_callS hΓ (pc := 38) hK 1 (As := [.ref (ad (70 + a1.toNatClampNeg))]) (metX_sortOfR _ hx23) (lw_S q673 q674 q54 q675) (by decide +kernel) (by decide) ⟨by show 0 + 0 ≤ 707; omega, by show 0 + 0 ≤ 707; omega⟩ rfl rfl (Nat.le_of_ble_eq_true rfl) dX1_judge_38 ?_
        refine g_iconst hΓ (pc := 41) (v := -1) dX1_judge_41 (by decide) ?_
        refine g_icmp_ne hΓ (pc := 42) (tgt := 48) dX1_judge_42 (by decide) (fun c24 => ?_) (fun c24 => ?_)
        · have hf := ifN hf c24
          refine g_aload_n hΓ (pc := 48) 1 (i := 0) dX1_judge_48 rfl rfl ?_
          refine qX_house hΓ (pc := 49) hK 3 (by decide) q815 dX1_judge_49 ?_
          refine g_aload_n hΓ (pc := 52) 1 (i := 0) dX1_judge_52 rfl rfl ?_
          refine qX_house hΓ (pc := 53) hK 0 (by decide) q812 dX1_judge_53 ?_
          obtain ⟨h25, hh25, hf⟩ := bindE hf
          refine qX_callH hΓ (pc := 56) hK (r := 3) (by decide) 1 (As := [.ref (ad (hB 0 22))]) (metH_takes _ (r := 3) (r2 := 0) (by decide) (by decide) (by decide) hh25) (lw_V q93 q94 q95 q55 q96) (by decide +kernel) (by decide) ⟨by show 0 + 0 ≤ 707; omega, by show 0 + 0 ≤ 707; omega⟩ rfl rfl (Nat.le_of_ble_eq_true rfl) dX1_judge_56 ?_
          obtain ⟨x26, hx26, hf⟩ := bindE hf
          refine g_xeq hx26 ?_
          refine g_iconst hΓ (pc := 59) (v := 0) dX1_judge_59 (by decide) ?_
          refine g_istore hΓ (pc := 60) (i := 4) (lv' := [(4, .int (0 : Int32)), (3, .ref (ad (70 + a1.toNatClampNeg))), (0, .ref (ad 0)), (1, .int a0), (2, .int a1)]) dX1_judge_60 (by decide) rfl ?_
          exact g_sub [2, 3, 1, 0] rfl (L62  101 (Nat.le_refl 101) _ _ _ hf)
        · have hf := ifP hf c24
          refine g_bipush hΓ (pc := 45) (v := -12) dX1_judge_45 (by decide) ?_
          refine g_wid (by omega) (by omega) (c2 := 707) (s2 := 707) ?_
          exact qX_iret hΓ hf dX1_judge_47
    · have hf := ifP hf c14
      refine g_iconst hΓ (pc := 18) (v := -1) dX1_judge_18 (by decide) ?_
      refine g_wid (by omega) (by omega) (c2 := 707) (s2 := 707) ?_
      exact qX_iret hΓ hf dX1_judge_19
def X_comesAs (x : XS) (a1 : Int32) : Option (Int32 × XS) :=
  (rdO x).bind fun u1 =>
  (rdI x a1).bind fun u2 =>
  (rdO x).bind fun u3 =>
  (rdL x 302 a1).bind fun x4 =>
  if x4 = (99 : Int32) then (
    (rdV x (a1.toNatClampNeg) (0 : Int32)).bind fun x6 =>
    (H_isGuest (x.1 0) x6).bind fun x7 =>
    if x7 = 0 then (
      (zOk (0 : Int32)).bind fun u => some (u, x)
    ) else (
      (rdV x (a1.toNatClampNeg) (0 : Int32)).bind fun x9 =>
      (xhS x 0 18 (((x.1 0).2.2 18) ^^^ ((1 : Int32) <<< (x9 &&& 31)))).bind fun x10 =>
      (zOk (1 : Int32)).bind fun u => some (u, x10)
    )
  ) else (
  if x4 = (103 : Int32) then (
    (rdV x (a1.toNatClampNeg) (0 : Int32)).bind fun x12 =>
    if (8 : Int32) ≤ x12 then (
      (zOk (0 : Int32)).bind fun u => some (u, x)
    ) else (
      (rdV x (a1.toNatClampNeg) (3 : Int32)).bind fun x14 =>
      (S_isPlace x14).bind fun x15 =>
      if x15 = 0 then (
        (zOk (0 : Int32)).bind fun u => some (u, x)
      ) else (
        (rdV x (a1.toNatClampNeg) (0 : Int32)).bind fun x17 =>
        (rdV x (a1.toNatClampNeg) (1 : Int32)).bind fun x18 =>
        (X_glassOf x17 x18).bind fun g19 =>
        (rdV x (a1.toNatClampNeg) (2 : Int32)).bind fun x21 =>
        (rdV x (a1.toNatClampNeg) (3 : Int32)).bind fun x22 =>
        (H_comes (x.1 0) g19 x21 x22).bind fun q23 =>
        (some (xh x 0 q23.2)).bind fun x24 =>
        if q23.1 = 0 then (
          (zOk (0 : Int32)).bind fun u => some (u, x24)
        ) else (
          (zOk (1 : Int32)).bind fun u => some (u, x24)
        )
      )
    )
  ) else (
  if x4 = (104 : Int32) then (
    (rdV x (a1.toNatClampNeg) (0 : Int32)).bind fun x27 =>
    (H_isGuest (x.1 0) x27).bind fun x28 =>
    if x28 = 0 then (
      (zOk (0 : Int32)).bind fun u => some (u, x)
    ) else (
      (rdV x (a1.toNatClampNeg) (1 : Int32)).bind fun x30 =>
      (H_isGlass (x.1 0) x30).bind fun x31 =>
      if x31 = 0 then (
        (zOk (0 : Int32)).bind fun u => some (u, x)
      ) else (
        (rdV x (a1.toNatClampNeg) (0 : Int32)).bind fun x33 =>
        (hR (x.1 0) 11 x33).bind fun x34 =>
        if x34 = (-4 : Int32) then (
          (rdV x (a1.toNatClampNeg) (1 : Int32)).bind fun x36 =>
          (H_isLaid (x.1 0) x36).bind fun x37 =>
          if x37 = 0 then (
            (zOk (0 : Int32)).bind fun u => some (u, x)
          ) else (
            (rdV x (a1.toNatClampNeg) (0 : Int32)).bind fun x39 =>
            (rdV x (a1.toNatClampNeg) (1 : Int32)).bind fun x40 =>
            (H_isHeld (x.1 0) x39 x40).bind fun h41 =>
            (some (xh x 0 h41)).bind fun x42 =>
            (zOk (1 : Int32)).bind fun u => some (u, x42)
          )
        ) else (
          (zOk (0 : Int32)).bind fun u => some (u, x)
        )
      )
    )
  ) else (
  if x4 = (112 : Int32) then (
    (rdV x (a1.toNatClampNeg) (0 : Int32)).bind fun x44 =>
    if x44 ≤ 0 then (
      (zOk (0 : Int32)).bind fun u => some (u, x)
    ) else (
      (rdV x (a1.toNatClampNeg) (1 : Int32)).bind fun x46 =>
      if x46 ≤ 0 then (
        (zOk (0 : Int32)).bind fun u => some (u, x)
      ) else (
        (rdV x (a1.toNatClampNeg) (4 : Int32)).bind fun x48 =>
        (S_isPlace x48).bind fun x49 =>
        if x49 = 0 then (
          (zOk (0 : Int32)).bind fun u => some (u, x)
        ) else (
          (rdW x (a1.toNatClampNeg)).bind fun w51 =>
          (H_comesGuest (x.1 0) w51).bind fun q52 =>
          (some (xh x 0 q52.2)).bind fun x53 =>
          if q52.1 = 0 then (
            (zOk (0 : Int32)).bind fun u => some (u, x53)
          ) else (
            (zOk (1 : Int32)).bind fun u => some (u, x53)
          )
        )
      )
    )
  ) else (
  if x4 = (116 : Int32) then (
    (rdV x (a1.toNatClampNeg) (0 : Int32)).bind fun x56 =>
    (xhS x 0 16 x56).bind fun x57 =>
    (zOk (1 : Int32)).bind fun u => some (u, x57)
  ) else (
  (H_goesMinute (x.1 0)).bind fun q58 =>
  (some (xh x 0 q58.2)).bind fun x59 =>
  (zOk q58.1).bind fun u => some (u, x59)
  )
  )
  )
  )
  )
set_option maxHeartbeats 4000000 in
set_option maxRecDepth 100000 in
theorem metX_comesAs (l : Launch) {D : va_G} {dA : Nat → ClassId} {b : Nat} {ad : Nat → Nat} {P : Nat → Prop} {F : Nat → va_E} {gs : List (Nat × (Nat × Int32))} {x x' : XS} {a1 : Int32} {z : Int32} (hf : X_comesAs x a1 = some (z, x')) : Met l yX1_comesAs (ws_ yX1_comesAs cX1_comesAs 4 (some .boolean)) (rmx_ 10 284 7 7) (xP D dA b ad P F gs [.ref (ad 0), .ref (ad 300), .int a1] x) (xQ D dA b ad P F gs (some (.int z)) x') 7 7 (fun q => b ≤ q) := by
  refine qx_met (by decide) RX1 rfl (Nat.le_of_ble_eq_true rfl) (fun Γ hΓ hK => ?_)
  refine g_sub [0, 1, 2] (lv' := [(0, .ref (ad 0)), (1, .ref (ad 300)), (2, .int a1)]) rfl ?_
  refine g_aload_n hΓ (pc := 0) 1 (i := 1) dX1_comesAs_0 rfl rfl ?_
  obtain ⟨u1, hu1, hf⟩ := bindE hf
  refine qX_rget hΓ (pc := 1) hK 304 4 (by decide) hu1 q117 dX1_comesAs_1 ?_
  refine g_iload_n hΓ (pc := 4) 2 (i := 2) dX1_comesAs_4 rfl rfl ?_
  obtain ⟨u2, hu2, hf⟩ := bindE hf
  refine qX_rdI hΓ (pc := 5) hK hu2 dX1_comesAs_5 ?_
  refine g_astore_n hΓ (pc := 6) (i := 3) (lv' := [(3, .ref (ad (310 + a1.toNatClampNeg))), (0, .ref (ad 0)), (1, .ref (ad 300)), (2, .int a1)]) dX1_comesAs_6 rfl (by decide) rfl ?_
  refine g_aload_n hΓ (pc := 7) 2 (i := 1) dX1_comesAs_7 rfl rfl ?_
  obtain ⟨u3, hu3, hf⟩ := bindE hf
  refine qX_rget hΓ (pc := 8) hK 302 2 (by decide) hu3 q113 dX1_comesAs_8 ?_
  refine g_iload_n hΓ (pc := 11) 3 (i := 2) dX1_comesAs_11 rfl rfl ?_
  obtain ⟨x4, hx4, hf⟩ := bindE hf
  refine qX_rdL hΓ (pc := 12) hK (by decide) hx4 dX1_comesAs_12 ?_
  by_cases c5 : x4 = (99 : Int32)
  · have hf := ifP hf c5
    refine g_lsw hΓ (pc := 13) (tgt := 222) (off := 209) dX1_comesAs_13 (by decide) (by rw [c5]; decide) (by decide) ?_
    refine g_aload_n hΓ (pc := 222) 1 (i := 0) dX1_comesAs_222 rfl rfl ?_
    refine qX_house hΓ (pc := 223) hK 0 (by decide) q812 dX1_comesAs_223 ?_
    refine g_aload_n hΓ (pc := 226) 0 (i := 3) dX1_comesAs_226 rfl rfl ?_
    refine g_iconst hΓ (pc := 227) (v := 0) dX1_comesAs_227 (by decide) ?_
    obtain ⟨x6, hx6, hf⟩ := bindE hf
    refine qX_rdV hΓ (pc := 228) hK hx6 dX1_comesAs_228 ?_
    obtain ⟨x7, hx7, hf⟩ := bindE hf
    refine qX_callH hΓ (pc := 229) hK (r := 0) (by decide) 1 (As := [.int x6]) (metH_isGuest _ (r := 0) (by decide) hx7) (lw_V q343 q344 q345 q55 q346) (by decide +kernel) (by decide) ⟨by show 0 + 0 ≤ 7; omega, by show 0 + 0 ≤ 7; omega⟩ rfl rfl (Nat.le_of_ble_eq_true rfl) dX1_comesAs_229 ?_
    refine g_xs ?_
    refine g_if_ne hΓ (pc := 232) (tgt := 237) dX1_comesAs_232 (by decide) (fun c8 => ?_) (fun c8 => ?_)
    · have hf := ifN hf c8
      refine g_aload_n hΓ (pc := 237) 1 (i := 0) dX1_comesAs_237 rfl rfl ?_
      refine qX_house hΓ (pc := 238) hK 0 (by decide) q812 dX1_comesAs_238 ?_
      refine g_dup hΓ (pc := 241) dX1_comesAs_241 rfl ?_
      refine qx_hget hΓ (pc := 242) hK (r := 0) (by decide) rfl (k := 18) rfl q748 dX1_comesAs_242 ?_
      refine g_iconst hΓ (pc := 245) (v := 1) dX1_comesAs_245 (by decide) ?_
      refine g_aload_n hΓ (pc := 246) 0 (i := 3) dX1_comesAs_246 rfl rfl ?_
      refine g_iconst hΓ (pc := 247) (v := 0) dX1_comesAs_247 (by decide) ?_
      obtain ⟨x9, hx9, hf⟩ := bindE hf
      refine qX_rdV hΓ (pc := 248) hK hx9 dX1_comesAs_248 ?_
      refine g_ishl hΓ (pc := 249) dX1_comesAs_249 ?_
      refine g_ixor hΓ (pc := 250) dX1_comesAs_250 ?_
      obtain ⟨x10, hx10, hf⟩ := bindE hf
      refine qX_hput hΓ (pc := 251) hK (r := 0) (by decide) rfl hx10 q748 dX1_comesAs_251 ?_
      refine g_iconst hΓ (pc := 254) (v := 1) dX1_comesAs_254 (by decide) ?_
      refine g_wid (by omega) (by omega) (c2 := 7) (s2 := 7) ?_
      exact qX_zret hΓ hf dX1_comesAs_255
    · have hf := ifP hf c8
      refine g_iconst hΓ (pc := 235) (v := 0) dX1_comesAs_235 (by decide) ?_
      refine g_wid (by omega) (by omega) (c2 := 7) (s2 := 7) ?_
      exact qX_zret hΓ hf dX1_comesAs_236
  · have hf := ifN hf c5
    by_cases c11 : x4 = (103 : Int32)
    · have hf := ifP hf c11
      refine g_lsw hΓ (pc := 13) (tgt := 64) (off := 51) dX1_comesAs_13 (by decide) (by rw [c11]; decide) (by decide) ?_
      refine g_aload_n hΓ (pc := 64) 0 (i := 3) dX1_comesAs_64 rfl rfl ?_
      refine g_iconst hΓ (pc := 65) (v := 0) dX1_comesAs_65 (by decide) ?_
      obtain ⟨x12, hx12, hf⟩ := bindE hf
      refine qX_rdV hΓ (pc := 66) hK hx12 dX1_comesAs_66 ?_
      refine g_bipush hΓ (pc := 67) (v := 8) dX1_comesAs_67 (by decide) ?_
      refine g_icmp_ge hΓ (pc := 69) (tgt := 110) dX1_comesAs_69 (by decide) (fun c13 => ?_) (fun c13 => ?_)
      · have hf := ifP hf c13
        refine g_iconst hΓ (pc := 110) (v := 0) dX1_comesAs_110 (by decide) ?_
        refine g_wid (by omega) (by omega) (c2 := 7) (s2 := 7) ?_
        exact qX_zret hΓ hf dX1_comesAs_111
      · have hf := ifN hf c13
        refine g_aload_n hΓ (pc := 72) 0 (i := 3) dX1_comesAs_72 rfl rfl ?_
        refine g_iconst hΓ (pc := 73) (v := 3) dX1_comesAs_73 (by decide) ?_
        obtain ⟨x14, hx14, hf⟩ := bindE hf
        refine qX_rdV hΓ (pc := 74) hK hx14 dX1_comesAs_74 ?_
        obtain ⟨x15, hx15, hf⟩ := bindE hf
        refine qg_callS hΓ (pc := 75) 1 (As := [.int x14]) (metS_isPlace _ hx15) (lw_S q254 q255 q54 q256) (by decide +kernel) ⟨by decide, by decide, ⟨by show 0 ≤ 7; omega, by show 0 ≤ 7; omega⟩⟩ rfl rfl (Nat.le_of_ble_eq_true rfl) dX1_comesAs_75 ?_
        refine g_if_eq hΓ (pc := 78) (tgt := 110) dX1_comesAs_78 (by decide) (fun c16 => ?_) (fun c16 => ?_)
        · have hf := ifP hf c16
          refine g_iconst hΓ (pc := 110) (v := 0) dX1_comesAs_110 (by decide) ?_
          refine g_wid (by omega) (by omega) (c2 := 7) (s2 := 7) ?_
          exact qX_zret hΓ hf dX1_comesAs_111
        · have hf := ifN hf c16
          refine g_aload_n hΓ (pc := 81) 1 (i := 0) dX1_comesAs_81 rfl rfl ?_
          refine qX_house hΓ (pc := 82) hK 0 (by decide) q812 dX1_comesAs_82 ?_
          refine g_aload_n hΓ (pc := 85) 0 (i := 3) dX1_comesAs_85 rfl rfl ?_
          refine g_iconst hΓ (pc := 86) (v := 0) dX1_comesAs_86 (by decide) ?_
          obtain ⟨x17, hx17, hf⟩ := bindE hf
          refine qX_rdV hΓ (pc := 87) hK hx17 dX1_comesAs_87 ?_
          refine g_aload_n hΓ (pc := 88) 0 (i := 3) dX1_comesAs_88 rfl rfl ?_
          refine g_iconst hΓ (pc := 89) (v := 1) dX1_comesAs_89 (by decide) ?_
          obtain ⟨x18, hx18, hf⟩ := bindE hf
          refine qX_rdV hΓ (pc := 90) hK hx18 dX1_comesAs_90 ?_
          obtain ⟨g19, hg19, hf⟩ := bindE hf
          refine qX_callSr hΓ (pc := 91) hK 2 (As := [.int x17, .int x18]) (metX_glassOf _ hg19) (lw_S q257 q258 q54 q259) (by decide +kernel) (by decide) ⟨by show 0 + 1 ≤ 7; omega, by show 0 + 1 ≤ 7; omega⟩ rfl rfl (Nat.le_of_ble_eq_true rfl) dX1_comesAs_91 (fun ya20 => ?_)
          refine g_aload_n hΓ (pc := 94) 0 (i := 3) dX1_comesAs_94 rfl rfl ?_
          refine g_iconst hΓ (pc := 95) (v := 2) dX1_comesAs_95 (by decide) ?_
          obtain ⟨x21, hx21, hf⟩ := bindE hf
          refine qX_rdV hΓ (pc := 96) hK hx21 dX1_comesAs_96 ?_
          refine g_aload_n hΓ (pc := 97) 0 (i := 3) dX1_comesAs_97 rfl rfl ?_
          refine g_iconst hΓ (pc := 98) (v := 3) dX1_comesAs_98 (by decide) ?_
          obtain ⟨x22, hx22, hf⟩ := bindE hf
          refine qX_rdV hΓ (pc := 99) hK hx22 dX1_comesAs_99 ?_
          obtain ⟨q23, hq23, hf⟩ := bindE hf
          refine qX_callH hΓ (pc := 100) hK (r := 0) (by decide) 3 (As := [.ref (ya20), .int x21, .int x22]) (metH_comes _ (r := 0) (by decide) List.mem_cons_self (z := q23.1) (h' := q23.2) hq23) (lw_V q335 q336 q337 q55 q338) (by decide +kernel) (by decide) ⟨by show 1 + 0 ≤ 7; omega, by show 1 + 0 ≤ 7; omega⟩ rfl rfl (Nat.le_of_ble_eq_true rfl) dX1_comesAs_100 ?_
          refine g_wid (by omega) (by omega) (c2 := 1) (s2 := 1) ?_
          obtain ⟨x24, hx24, hf⟩ := bindE hf
          refine g_xeq hx24 ?_
          refine g_if_eq hΓ (pc := 103) (tgt := 110) dX1_comesAs_103 (by decide) (fun c25 => ?_) (fun c25 => ?_)
          · have hf := ifP hf c25
            refine g_iconst hΓ (pc := 110) (v := 0) dX1_comesAs_110 (by decide) ?_
            refine g_w (fun H h => XW.drop (gs := gs) h (fun q hq => List.mem_cons_of_mem _ (hq))) ?_
            refine g_wid (by omega) (by omega) (c2 := 7) (s2 := 7) ?_
            exact qX_zret hΓ hf dX1_comesAs_111
          · have hf := ifN hf c25
            refine g_iconst hΓ (pc := 106) (v := 1) dX1_comesAs_106 (by decide) ?_
            refine g_goto hΓ (pc := 107) (tgt := 111) dX1_comesAs_107 (by decide) ?_
            refine g_w (fun H h => XW.drop (gs := gs) h (fun q hq => List.mem_cons_of_mem _ (hq))) ?_
            refine g_wid (by omega) (by omega) (c2 := 7) (s2 := 7) ?_
            exact qX_zret hΓ hf dX1_comesAs_111
    · have hf := ifN hf c11
      by_cases c26 : x4 = (104 : Int32)
      · have hf := ifP hf c26
        refine g_lsw hΓ (pc := 13) (tgt := 150) (off := 137) dX1_comesAs_13 (by decide) (by rw [c26]; decide) (by decide) ?_
        refine g_aload_n hΓ (pc := 150) 1 (i := 0) dX1_comesAs_150 rfl rfl ?_
        refine qX_house hΓ (pc := 151) hK 0 (by decide) q812 dX1_comesAs_151 ?_
        refine g_aload_n hΓ (pc := 154) 0 (i := 3) dX1_comesAs_154 rfl rfl ?_
        refine g_iconst hΓ (pc := 155) (v := 0) dX1_comesAs_155 (by decide) ?_
        obtain ⟨x27, hx27, hf⟩ := bindE hf
        refine qX_rdV hΓ (pc := 156) hK hx27 dX1_comesAs_156 ?_
        obtain ⟨x28, hx28, hf⟩ := bindE hf
        refine qX_callH hΓ (pc := 157) hK (r := 0) (by decide) 1 (As := [.int x27]) (metH_isGuest _ (r := 0) (by decide) hx28) (lw_V q343 q344 q345 q55 q346) (by decide +kernel) (by decide) ⟨by show 0 + 0 ≤ 7; omega, by show 0 + 0 ≤ 7; omega⟩ rfl rfl (Nat.le_of_ble_eq_true rfl) dX1_comesAs_157 ?_
        refine g_xs ?_
        refine g_if_eq hΓ (pc := 160) (tgt := 205) dX1_comesAs_160 (by decide) (fun c29 => ?_) (fun c29 => ?_)
        · have hf := ifP hf c29
          refine g_iconst hΓ (pc := 205) (v := 0) dX1_comesAs_205 (by decide) ?_
          refine g_wid (by omega) (by omega) (c2 := 7) (s2 := 7) ?_
          exact qX_zret hΓ hf dX1_comesAs_206
        · have hf := ifN hf c29
          refine g_aload_n hΓ (pc := 163) 1 (i := 0) dX1_comesAs_163 rfl rfl ?_
          refine qX_house hΓ (pc := 164) hK 0 (by decide) q812 dX1_comesAs_164 ?_
          refine g_aload_n hΓ (pc := 167) 0 (i := 3) dX1_comesAs_167 rfl rfl ?_
          refine g_iconst hΓ (pc := 168) (v := 1) dX1_comesAs_168 (by decide) ?_
          obtain ⟨x30, hx30, hf⟩ := bindE hf
          refine qX_rdV hΓ (pc := 169) hK hx30 dX1_comesAs_169 ?_
          obtain ⟨x31, hx31, hf⟩ := bindE hf
          refine qX_callH hΓ (pc := 170) hK (r := 0) (by decide) 1 (As := [.int x30]) (metH_isGlass _ (r := 0) (by decide) hx31) (lw_V q348 q349 q350 q55 q351) (by decide +kernel) (by decide) ⟨by show 0 + 0 ≤ 7; omega, by show 0 + 0 ≤ 7; omega⟩ rfl rfl (Nat.le_of_ble_eq_true rfl) dX1_comesAs_170 ?_
          refine g_xs ?_
          refine g_if_eq hΓ (pc := 173) (tgt := 205) dX1_comesAs_173 (by decide) (fun c32 => ?_) (fun c32 => ?_)
          · have hf := ifP hf c32
            refine g_iconst hΓ (pc := 205) (v := 0) dX1_comesAs_205 (by decide) ?_
            refine g_wid (by omega) (by omega) (c2 := 7) (s2 := 7) ?_
            exact qX_zret hΓ hf dX1_comesAs_206
          · have hf := ifN hf c32
            refine g_aload_n hΓ (pc := 176) 1 (i := 0) dX1_comesAs_176 rfl rfl ?_
            refine qX_house hΓ (pc := 177) hK 0 (by decide) q812 dX1_comesAs_177 ?_
            refine qx_hgeta hΓ (pc := 180) hK (r := 0) (by decide) (k := 11) rfl q734 dX1_comesAs_180 ?_
            refine g_aload_n hΓ (pc := 183) 0 (i := 3) dX1_comesAs_183 rfl rfl ?_
            refine g_iconst hΓ (pc := 184) (v := 0) dX1_comesAs_184 (by decide) ?_
            obtain ⟨x33, hx33, hf⟩ := bindE hf
            refine qX_rdV hΓ (pc := 185) hK hx33 dX1_comesAs_185 ?_
            obtain ⟨x34, hx34, hf⟩ := bindE hf
            refine qx_iald hΓ (pc := 186) hK (r := 0) (by decide) rfl rfl hx34 dX1_comesAs_186 ?_
            refine g_bipush hΓ (pc := 187) (v := -4) dX1_comesAs_187 (by decide) ?_
            refine g_icmp_ne hΓ (pc := 189) (tgt := 205) dX1_comesAs_189 (by decide) (fun c35 => ?_) (fun c35 => ?_)
            · have hf := ifN hf c35
              refine g_iconst hΓ (pc := 205) (v := 0) dX1_comesAs_205 (by decide) ?_
              refine g_wid (by omega) (by omega) (c2 := 7) (s2 := 7) ?_
              exact qX_zret hΓ hf dX1_comesAs_206
            · have hf := ifP hf c35
              refine g_aload_n hΓ (pc := 192) 1 (i := 0) dX1_comesAs_192 rfl rfl ?_
              refine qX_house hΓ (pc := 193) hK 0 (by decide) q812 dX1_comesAs_193 ?_
              refine g_aload_n hΓ (pc := 196) 0 (i := 3) dX1_comesAs_196 rfl rfl ?_
              refine g_iconst hΓ (pc := 197) (v := 1) dX1_comesAs_197 (by decide) ?_
              obtain ⟨x36, hx36, hf⟩ := bindE hf
              refine qX_rdV hΓ (pc := 198) hK hx36 dX1_comesAs_198 ?_
              obtain ⟨x37, hx37, hf⟩ := bindE hf
              refine qX_callH hΓ (pc := 199) hK (r := 0) (by decide) 1 (As := [.int x36]) (metH_isLaid _ (r := 0) (by decide) hx37) (lw_V q352 q353 q354 q55 q355) (by decide +kernel) (by decide) ⟨by show 0 + 0 ≤ 7; omega, by show 0 + 0 ≤ 7; omega⟩ rfl rfl (Nat.le_of_ble_eq_true rfl) dX1_comesAs_199 ?_
              refine g_xs ?_
              refine g_if_ne hΓ (pc := 202) (tgt := 207) dX1_comesAs_202 (by decide) (fun c38 => ?_) (fun c38 => ?_)
              · have hf := ifN hf c38
                refine g_aload_n hΓ (pc := 207) 1 (i := 0) dX1_comesAs_207 rfl rfl ?_
                refine qX_house hΓ (pc := 208) hK 0 (by decide) q812 dX1_comesAs_208 ?_
                refine g_aload_n hΓ (pc := 211) 0 (i := 3) dX1_comesAs_211 rfl rfl ?_
                refine g_iconst hΓ (pc := 212) (v := 0) dX1_comesAs_212 (by decide) ?_
                obtain ⟨x39, hx39, hf⟩ := bindE hf
                refine qX_rdV hΓ (pc := 213) hK hx39 dX1_comesAs_213 ?_
                refine g_aload_n hΓ (pc := 214) 0 (i := 3) dX1_comesAs_214 rfl rfl ?_
                refine g_iconst hΓ (pc := 215) (v := 1) dX1_comesAs_215 (by decide) ?_
                obtain ⟨x40, hx40, hf⟩ := bindE hf
                refine qX_rdV hΓ (pc := 216) hK hx40 dX1_comesAs_216 ?_
                obtain ⟨h41, hh41, hf⟩ := bindE hf
                refine qX_callH hΓ (pc := 217) hK (r := 0) (by decide) 2 (As := [.int x39, .int x40]) (metH_isHeld _ (r := 0) (by decide) hh41) (lw_V q356 q357 q358 q55 q359) (by decide +kernel) (by decide) ⟨by show 0 + 0 ≤ 7; omega, by show 0 + 0 ≤ 7; omega⟩ rfl rfl (Nat.le_of_ble_eq_true rfl) dX1_comesAs_217 ?_
                refine g_wid (by omega) (by omega) (c2 := 0) (s2 := 0) ?_
                obtain ⟨x42, hx42, hf⟩ := bindE hf
                refine g_xeq hx42 ?_
                refine g_iconst hΓ (pc := 220) (v := 1) dX1_comesAs_220 (by decide) ?_
                refine g_wid (by omega) (by omega) (c2 := 7) (s2 := 7) ?_
                exact qX_zret hΓ hf dX1_comesAs_221
              · have hf := ifP hf c38
                refine g_iconst hΓ (pc := 205) (v := 0) dX1_comesAs_205 (by decide) ?_
                refine g_wid (by omega) (by omega) (c2 := 7) (s2 := 7) ?_
                exact qX_zret hΓ hf dX1_comesAs_206
      · have hf := ifN hf c26
        by_cases c43 : x4 = (112 : Int32)
        · have hf := ifP hf c43
          refine g_lsw hΓ (pc := 13) (tgt := 112) (off := 99) dX1_comesAs_13 (by decide) (by rw [c43]; decide) (by decide) ?_
          refine g_aload_n hΓ (pc := 112) 0 (i := 3) dX1_comesAs_112 rfl rfl ?_
          refine g_iconst hΓ (pc := 113) (v := 0) dX1_comesAs_113 (by decide) ?_
          obtain ⟨x44, hx44, hf⟩ := bindE hf
          refine qX_rdV hΓ (pc := 114) hK hx44 dX1_comesAs_114 ?_
          refine g_if_le hΓ (pc := 115) (tgt := 148) dX1_comesAs_115 (by decide) (fun c45 => ?_) (fun c45 => ?_)
          · have hf := ifP hf c45
            refine g_iconst hΓ (pc := 148) (v := 0) dX1_comesAs_148 (by decide) ?_
            refine g_wid (by omega) (by omega) (c2 := 7) (s2 := 7) ?_
            exact qX_zret hΓ hf dX1_comesAs_149
          · have hf := ifN hf c45
            refine g_aload_n hΓ (pc := 118) 0 (i := 3) dX1_comesAs_118 rfl rfl ?_
            refine g_iconst hΓ (pc := 119) (v := 1) dX1_comesAs_119 (by decide) ?_
            obtain ⟨x46, hx46, hf⟩ := bindE hf
            refine qX_rdV hΓ (pc := 120) hK hx46 dX1_comesAs_120 ?_
            refine g_if_le hΓ (pc := 121) (tgt := 148) dX1_comesAs_121 (by decide) (fun c47 => ?_) (fun c47 => ?_)
            · have hf := ifP hf c47
              refine g_iconst hΓ (pc := 148) (v := 0) dX1_comesAs_148 (by decide) ?_
              refine g_wid (by omega) (by omega) (c2 := 7) (s2 := 7) ?_
              exact qX_zret hΓ hf dX1_comesAs_149
            · have hf := ifN hf c47
              refine g_aload_n hΓ (pc := 124) 0 (i := 3) dX1_comesAs_124 rfl rfl ?_
              refine g_iconst hΓ (pc := 125) (v := 4) dX1_comesAs_125 (by decide) ?_
              obtain ⟨x48, hx48, hf⟩ := bindE hf
              refine qX_rdV hΓ (pc := 126) hK hx48 dX1_comesAs_126 ?_
              obtain ⟨x49, hx49, hf⟩ := bindE hf
              refine qg_callS hΓ (pc := 127) 1 (As := [.int x48]) (metS_isPlace _ hx49) (lw_S q254 q255 q54 q256) (by decide +kernel) ⟨by decide, by decide, ⟨by show 0 ≤ 7; omega, by show 0 ≤ 7; omega⟩⟩ rfl rfl (Nat.le_of_ble_eq_true rfl) dX1_comesAs_127 ?_
              refine g_if_eq hΓ (pc := 130) (tgt := 148) dX1_comesAs_130 (by decide) (fun c50 => ?_) (fun c50 => ?_)
              · have hf := ifP hf c50
                refine g_iconst hΓ (pc := 148) (v := 0) dX1_comesAs_148 (by decide) ?_
                refine g_wid (by omega) (by omega) (c2 := 7) (s2 := 7) ?_
                exact qX_zret hΓ hf dX1_comesAs_149
              · have hf := ifN hf c50
                refine g_aload_n hΓ (pc := 133) 1 (i := 0) dX1_comesAs_133 rfl rfl ?_
                refine qX_house hΓ (pc := 134) hK 0 (by decide) q812 dX1_comesAs_134 ?_
                refine g_aload_n hΓ (pc := 137) 0 (i := 3) dX1_comesAs_137 rfl rfl ?_
                obtain ⟨w51, hw51, hf⟩ := bindE hf
                obtain ⟨ρ, hρ, hkr, rfl⟩ := rdW_inv hw51
                obtain ⟨q52, hq52, hf⟩ := bindE hf
                refine qX_callH hΓ (pc := 138) hK (r := 0) (by decide) 1 (As := [.ref (ad (310 + a1.toNatClampNeg))]) (metH_comesGuest _ (r := 0) (by decide) hkr hρ (z := q52.1) (h' := q52.2) hq52) (lw_V q339 q340 q341 q55 q342) (by decide +kernel) (by decide) ⟨by show 0 + 0 ≤ 7; omega, by show 0 + 0 ≤ 7; omega⟩ rfl rfl (Nat.le_of_ble_eq_true rfl) dX1_comesAs_138 ?_
                refine g_wid (by omega) (by omega) (c2 := 0) (s2 := 0) ?_
                obtain ⟨x53, hx53, hf⟩ := bindE hf
                refine g_xeq hx53 ?_
                refine g_if_eq hΓ (pc := 141) (tgt := 148) dX1_comesAs_141 (by decide) (fun c54 => ?_) (fun c54 => ?_)
                · have hf := ifP hf c54
                  refine g_iconst hΓ (pc := 148) (v := 0) dX1_comesAs_148 (by decide) ?_
                  refine g_wid (by omega) (by omega) (c2 := 7) (s2 := 7) ?_
                  exact qX_zret hΓ hf dX1_comesAs_149
                · have hf := ifN hf c54
                  refine g_iconst hΓ (pc := 144) (v := 1) dX1_comesAs_144 (by decide) ?_
                  refine g_goto hΓ (pc := 145) (tgt := 149) dX1_comesAs_145 (by decide) ?_
                  refine g_wid (by omega) (by omega) (c2 := 7) (s2 := 7) ?_
                  exact qX_zret hΓ hf dX1_comesAs_149
        · have hf := ifN hf c43
          by_cases c55 : x4 = (116 : Int32)
          · have hf := ifP hf c55
            refine g_lsw hΓ (pc := 13) (tgt := 256) (off := 243) dX1_comesAs_13 (by decide) (by rw [c55]; decide) (by decide) ?_
            refine g_aload_n hΓ (pc := 256) 1 (i := 0) dX1_comesAs_256 rfl rfl ?_
            refine qX_house hΓ (pc := 257) hK 0 (by decide) q812 dX1_comesAs_257 ?_
            refine g_aload_n hΓ (pc := 260) 0 (i := 3) dX1_comesAs_260 rfl rfl ?_
            refine g_iconst hΓ (pc := 261) (v := 0) dX1_comesAs_261 (by decide) ?_
            obtain ⟨x56, hx56, hf⟩ := bindE hf
            refine qX_rdV hΓ (pc := 262) hK hx56 dX1_comesAs_262 ?_
            obtain ⟨x57, hx57, hf⟩ := bindE hf
            refine qX_hput hΓ (pc := 263) hK (r := 0) (by decide) rfl hx57 q744 dX1_comesAs_263 ?_
            refine g_iconst hΓ (pc := 266) (v := 1) dX1_comesAs_266 (by decide) ?_
            refine g_wid (by omega) (by omega) (c2 := 7) (s2 := 7) ?_
            exact qX_zret hΓ hf dX1_comesAs_267
          · have hf := ifN hf c55
            refine g_lsw hΓ (pc := 13) (tgt := 268) (off := 255) dX1_comesAs_13 (by decide) (by show Op.lookupswitch.offset [(99, 209), (103, 51), (104, 137), (112, 99), (116, 243)] _ _ = _; rw [lv_osw c5 (by decide), lv_osw c11 (by decide), lv_osw c26 (by decide), lv_osw c43 (by decide), lv_osw c55 (by decide)]; rfl) (by decide) ?_
            refine g_aload_n hΓ (pc := 268) 1 (i := 0) dX1_comesAs_268 rfl rfl ?_
            refine qX_house hΓ (pc := 269) hK 0 (by decide) q812 dX1_comesAs_269 ?_
            obtain ⟨q58, hq58, hf⟩ := bindE hf
            refine qX_callH hΓ (pc := 272) hK (r := 0) (by decide) 0 (As := []) (metH_goesMinute _ (r := 0) (by decide) (z := q58.1) (h' := q58.2) hq58) (lw_V q360 q361 q362 q55 q363) (by decide +kernel) (by decide) ⟨by show 0 + 7 ≤ 7; omega, by show 0 + 7 ≤ 7; omega⟩ rfl rfl (Nat.le_of_ble_eq_true rfl) dX1_comesAs_272 ?_
            refine g_wid (by omega) (by omega) (c2 := 7) (s2 := 7) ?_
            obtain ⟨x59, hx59, hf⟩ := bindE hf
            refine g_xeq hx59 ?_
            exact qX_zret hΓ hf dX1_comesAs_275

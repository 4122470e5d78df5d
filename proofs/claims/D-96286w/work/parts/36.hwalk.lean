set_option maxRecDepth 100000
def H_isGlass (h : HS) (a0 : Int32) : Option (Int32) :=
  (S_isIn a0 (0 : Int32) ((h.2.2 14) - (1 : Int32))).bind fun x1 =>
  zOk x1
set_option maxHeartbeats 4000000 in
set_option maxRecDepth 100000 in
theorem metH_isGlass (l : Launch) {D : va_G} {dA : Nat → ClassId} {b : Nat} {ad : Nat → Nat} {P : Nat → Prop} {F : Nat → va_E} {gs : List (Nat × (Nat × Int32))} {x : XS} {r : Nat} (hr : r < 4) {h : HS} {a0 : Int32} {z : Int32} (hf : H_isGlass h a0 = some z) : Met l yX2_isGlass (ws_ yX2_isGlass cX2_isGlass 2 (some .boolean)) (rmx_ 1 22 0 0) (xP D dA b ad P F gs [.ref (ad (hB r 22)), .int a0] (xh x r h)) (xQ D dA b ad P F gs (some (.int z)) (xh x r h)) 0 0 (fun q => b ≤ q) := by
  refine qx_met (by decide) RX2 rfl (Nat.le_of_ble_eq_true rfl) (fun Γ hΓ hK => ?_)
  refine g_sub [0, 1] (lv' := [(0, .ref (ad (hB r 22))), (1, .int a0)]) rfl ?_
  refine g_iload_n hΓ (pc := 0) 1 (i := 1) dX2_isGlass_0 rfl rfl ?_
  refine g_iconst hΓ (pc := 1) (v := 0) dX2_isGlass_1 (by decide) ?_
  refine g_aload_n hΓ (pc := 2) 0 (i := 0) dX2_isGlass_2 rfl rfl ?_
  refine qx_hget hΓ (pc := 3) hK hr (xh_at _ _ _) (k := 14) rfl q739 dX2_isGlass_3 ?_
  refine g_iconst hΓ (pc := 6) (v := 1) dX2_isGlass_6 (by decide) ?_
  refine g_isub hΓ (pc := 7) dX2_isGlass_7 ?_
  obtain ⟨x1, hx1, hf⟩ := bindE hf
  refine qx_callSN hΓ (pc := 8) 3 (As := [.int a0, .int (0 : Int32), .int ((h.2.2 14) - (1 : Int32))]) (hK.2.1.2.1 ("WhoseGlass$House", 89, ⟨"WhoseGlass", "isIn", "(III)Z"⟩, "WhoseGlass") (by decide +kernel)) (metS_isIn _ hx1) q90 q54 q91 (by decide +kernel) (by decide) ⟨by show 0 ≤ 0; omega, by show 0 ≤ 0; omega⟩ rfl rfl (Nat.le_of_ble_eq_true rfl) dX2_isGlass_8 ?_
  exact qh_zretR hΓ hf dX2_isGlass_11
def H_isGuest (h : HS) (a0 : Int32) : Option (Int32) :=
  (S_isIn a0 (0 : Int32) ((h.2.2 15) - (1 : Int32))).bind fun x1 =>
  zOk x1
set_option maxHeartbeats 4000000 in
set_option maxRecDepth 100000 in
theorem metH_isGuest (l : Launch) {D : va_G} {dA : Nat → ClassId} {b : Nat} {ad : Nat → Nat} {P : Nat → Prop} {F : Nat → va_E} {gs : List (Nat × (Nat × Int32))} {x : XS} {r : Nat} (hr : r < 4) {h : HS} {a0 : Int32} {z : Int32} (hf : H_isGuest h a0 = some z) : Met l yX2_isGuest (ws_ yX2_isGuest cX2_isGuest 2 (some .boolean)) (rmx_ 1 22 0 0) (xP D dA b ad P F gs [.ref (ad (hB r 22)), .int a0] (xh x r h)) (xQ D dA b ad P F gs (some (.int z)) (xh x r h)) 0 0 (fun q => b ≤ q) := by
  refine qx_met (by decide) RX2 rfl (Nat.le_of_ble_eq_true rfl) (fun Γ hΓ hK => ?_)
  refine g_sub [0, 1] (lv' := [(0, .ref (ad (hB r 22))), (1, .int a0)]) rfl ?_
  refine g_iload_n hΓ (pc := 0) 1 (i := 1) dX2_isGuest_0 rfl rfl ?_
  refine g_iconst hΓ (pc := 1) (v := 0) dX2_isGuest_1 (by decide) ?_
  refine g_aload_n hΓ (pc := 2) 0 (i := 0) dX2_isGuest_2 rfl rfl ?_
  refine qx_hget hΓ (pc := 3) hK hr (xh_at _ _ _) (k := 15) rfl q741 dX2_isGuest_3 ?_
  refine g_iconst hΓ (pc := 6) (v := 1) dX2_isGuest_6 (by decide) ?_
  refine g_isub hΓ (pc := 7) dX2_isGuest_7 ?_
  obtain ⟨x1, hx1, hf⟩ := bindE hf
  refine qx_callSN hΓ (pc := 8) 3 (As := [.int a0, .int (0 : Int32), .int ((h.2.2 15) - (1 : Int32))]) (hK.2.1.2.1 ("WhoseGlass$House", 89, ⟨"WhoseGlass", "isIn", "(III)Z"⟩, "WhoseGlass") (by decide +kernel)) (metS_isIn _ hx1) q90 q54 q91 (by decide +kernel) (by decide) ⟨by show 0 ≤ 0; omega, by show 0 ≤ 0; omega⟩ rfl rfl (Nat.le_of_ble_eq_true rfl) dX2_isGuest_8 ?_
  exact qh_zretR hΓ hf dX2_isGuest_11
def H_isLaid (h : HS) (a0 : Int32) : Option (Int32) :=
  (hR h 2 a0).bind fun x1 =>
  if (6 : Int32) ≤ x1 then (
    zOk (0 : Int32)
  ) else (
    zOk (1 : Int32)
  )
set_option maxHeartbeats 4000000 in
set_option maxRecDepth 100000 in
theorem metH_isLaid (l : Launch) {D : va_G} {dA : Nat → ClassId} {b : Nat} {ad : Nat → Nat} {P : Nat → Prop} {F : Nat → va_E} {gs : List (Nat × (Nat × Int32))} {x : XS} {r : Nat} (hr : r < 4) {h : HS} {a0 : Int32} {z : Int32} (hf : H_isLaid h a0 = some z) : Met l yX2_isLaid (ws_ yX2_isLaid cX2_isLaid 2 (some .boolean)) (rmx_ 0 0 0 0) (xP D dA b ad P F gs [.ref (ad (hB r 22)), .int a0] (xh x r h)) (xQ D dA b ad P F gs (some (.int z)) (xh x r h)) 0 0 (fun q => b ≤ q) := by
  refine qx_met (by decide) RX2 rfl (Nat.le_of_ble_eq_true rfl) (fun Γ hΓ hK => ?_)
  refine g_sub [0, 1] (lv' := [(0, .ref (ad (hB r 22))), (1, .int a0)]) rfl ?_
  refine g_aload_n hΓ (pc := 0) 0 (i := 0) dX2_isLaid_0 rfl rfl ?_
  refine qx_hgeta hΓ (pc := 1) hK hr (k := 2) rfl q715 dX2_isLaid_1 ?_
  refine g_iload_n hΓ (pc := 4) 1 (i := 1) dX2_isLaid_4 rfl rfl ?_
  obtain ⟨x1, hx1, hf⟩ := bindE hf
  refine qx_iald hΓ (pc := 5) hK hr (xh_at _ _ _) rfl hx1 dX2_isLaid_5 ?_
  refine g_bipush hΓ (pc := 6) (v := 6) dX2_isLaid_6 (by decide) ?_
  refine g_icmp_ge hΓ (pc := 8) (tgt := 15) dX2_isLaid_8 (by decide) (fun c2 => ?_) (fun c2 => ?_)
  · have hf := ifP hf c2
    refine g_iconst hΓ (pc := 15) (v := 0) dX2_isLaid_15 (by decide) ?_
    exact qh_zretR hΓ hf dX2_isLaid_16
  · have hf := ifN hf c2
    refine g_iconst hΓ (pc := 11) (v := 1) dX2_isLaid_11 (by decide) ?_
    refine g_goto hΓ (pc := 12) (tgt := 16) dX2_isLaid_12 (by decide) ?_
    exact qh_zretR hΓ hf dX2_isLaid_16
def H_comes_64 (g0 : Nat × Int32) (h : HS) (z0 : Int32) (z1 : Int32) : Option (Int32 × HS) :=
  (hWr h 3 z1 z0).bind fun h1 =>
  (hWr h1 4 (h1.2.2 14) (0 : Int32)).bind fun h2 =>
  (hWz h2 5 (h2.2.2 14) (0 : Int32)).bind fun h3 =>
  (hSI h3 14 ((h3.2.2 14) + (1 : Int32))).bind fun h4 =>
  (zOk (1 : Int32)).bind fun u => some (u, h4)
def H_comes (h : HS) (g0 : Nat × Int32) (a1 : Int32) (a2 : Int32) : Option (Int32 × HS) :=
  if (h.2.2 14) = (12 : Int32) then (
    (zOk (0 : Int32)).bind fun u => some (u, h)
  ) else (
    (hGw h (h.2.2 14) g0).bind fun h6 =>
    (hWr h6 1 (h6.2.2 14) a1).bind fun h7 =>
    (hWr h7 2 (h7.2.2 14) a2).bind fun h8 =>
    if (6 : Int32) ≤ a2 then (
      H_comes_64 g0 h8 (-4 : Int32) (h8.2.2 14)
    ) else (
      H_comes_64 g0 h8 (h8.2.2 17) (h8.2.2 14)
    )
  )
set_option maxHeartbeats 4000000 in
set_option maxRecDepth 100000 in
theorem metH_comes (l : Launch) {D : va_G} {dA : Nat → ClassId} {b : Nat} {ad : Nat → Nat} {P : Nat → Prop} {F : Nat → va_E} {gs : List (Nat × (Nat × Int32))} {x : XS} {r : Nat} (hr : r < 4) {h h' : HS} {g0 : Nat × Int32} {a1 : Int32} {a2 : Int32} {a0 : Nat} {z : Int32} (hg0 : (a0, g0) ∈ gs) (hf : H_comes h g0 a1 a2 = some (z, h')) : Met l yX2_comes (ws_ yX2_comes cX2_comes 4 (some .boolean)) (rmx_ 0 0 0 0) (xP D dA b ad P F gs [.ref (ad (hB r 22)), .ref (a0), .int a1, .int a2] (xh x r h)) (xQ D dA b ad P F gs (some (.int z)) (xh x r h')) 0 0 (fun q => b ≤ q) := by
  refine qx_met (by decide) RX2 rfl (Nat.le_of_ble_eq_true rfl) (fun Γ hΓ hK => ?_)
  refine g_sub [0, 1, 2, 3] (lv' := [(0, .ref (ad (hB r 22))), (1, .ref (a0)), (2, .int a1), (3, .int a2)]) rfl ?_
  have J64 : ∀ (h : HS) (z0 : Int32) (z1 : Int32) (hf : H_comes_64 g0  h z0 z1 = some (z, h')), WG Γ (XW D dA b ad P F gs (xh x r h)) 0 0 64 [(0, .ref (ad (hB r 22)))] [.int z0, .int z1, .ref (ad (hB r 3))] := by
    intro  h z0 z1 hf
    obtain ⟨h1, hh1, hf⟩ := bindE hf
    refine qx_iast hΓ (pc := 64) hK hr (xh_at _ _ _) rfl hh1 (xh_xh _ _ _ _) dX2_comes_64 ?_
    refine g_aload_n hΓ (pc := 65) 0 (i := 0) dX2_comes_65 rfl rfl ?_
    refine qx_hgeta hΓ (pc := 66) hK hr (k := 4) rfl q719 dX2_comes_66 ?_
    refine g_aload_n hΓ (pc := 69) 0 (i := 0) dX2_comes_69 rfl rfl ?_
    refine qx_hget hΓ (pc := 70) hK hr (xh_at _ _ _) (k := 14) rfl q739 dX2_comes_70 ?_
    refine g_iconst hΓ (pc := 73) (v := 0) dX2_comes_73 (by decide) ?_
    obtain ⟨h2, hh2, hf⟩ := bindE hf
    refine qx_iast hΓ (pc := 74) hK hr (xh_at _ _ _) rfl hh2 (xh_xh _ _ _ _) dX2_comes_74 ?_
    refine g_aload_n hΓ (pc := 75) 0 (i := 0) dX2_comes_75 rfl rfl ?_
    refine qx_hgeta hΓ (pc := 76) hK hr (k := 5) rfl q721 dX2_comes_76 ?_
    refine g_aload_n hΓ (pc := 79) 0 (i := 0) dX2_comes_79 rfl rfl ?_
    refine qx_hget hΓ (pc := 80) hK hr (xh_at _ _ _) (k := 14) rfl q739 dX2_comes_80 ?_
    refine g_iconst hΓ (pc := 83) (v := 0) dX2_comes_83 (by decide) ?_
    obtain ⟨h3, hh3, hf⟩ := bindE hf
    refine qx_zast hΓ (pc := 84) hK hr (xh_at _ _ _) hh3 (xh_xh _ _ _ _) dX2_comes_84 ?_
    refine g_aload_n hΓ (pc := 85) 0 (i := 0) dX2_comes_85 rfl rfl ?_
    refine g_dup hΓ (pc := 86) dX2_comes_86 rfl ?_
    refine qx_hget hΓ (pc := 87) hK hr (xh_at _ _ _) (k := 14) rfl q739 dX2_comes_87 ?_
    refine g_iconst hΓ (pc := 90) (v := 1) dX2_comes_90 (by decide) ?_
    refine g_iadd hΓ (pc := 91) dX2_comes_91 ?_
    obtain ⟨h4, hh4, hf⟩ := bindE hf
    refine qx_hput hΓ (pc := 92) hK hr (xh_at _ _ _) rfl hh4 (xh_xh _ _ _ _) q739 dX2_comes_92 ?_
    refine g_iconst hΓ (pc := 95) (v := 1) dX2_comes_95 (by decide) ?_
    exact qh_zret hΓ hf dX2_comes_96
  refine g_aload_n hΓ (pc := 0) 0 (i := 0) dX2_comes_0 rfl rfl ?_
  refine qx_hget hΓ (pc := 1) hK hr (xh_at _ _ _) (k := 14) rfl q739 dX2_comes_1 ?_
  refine g_bipush hΓ (pc := 4) (v := 12) dX2_comes_4 (by decide) ?_
  refine g_icmp_ne hΓ (pc := 6) (tgt := 11) dX2_comes_6 (by decide) (fun c5 => ?_) (fun c5 => ?_)
  · have hf := ifN hf c5
    refine g_aload_n hΓ (pc := 11) 0 (i := 0) dX2_comes_11 rfl rfl ?_
    refine qx_hgeta hΓ (pc := 12) hK hr (k := 0) rfl q711 dX2_comes_12 ?_
    refine g_aload_n hΓ (pc := 15) 0 (i := 0) dX2_comes_15 rfl rfl ?_
    refine qx_hget hΓ (pc := 16) hK hr (xh_at _ _ _) (k := 14) rfl q739 dX2_comes_16 ?_
    refine g_aload_n hΓ (pc := 19) 1 (i := 1) dX2_comes_19 rfl rfl ?_
    obtain ⟨h6, hh6, hf⟩ := bindE hf
    refine qx_gast hΓ (pc := 20) hK hr (xh_at _ _ _) hg0 hh6 (xh_xh _ _ _ _) dX2_comes_20 ?_
    refine g_aload_n hΓ (pc := 21) 0 (i := 0) dX2_comes_21 rfl rfl ?_
    refine qx_hgeta hΓ (pc := 22) hK hr (k := 1) rfl q713 dX2_comes_22 ?_
    refine g_aload_n hΓ (pc := 25) 0 (i := 0) dX2_comes_25 rfl rfl ?_
    refine qx_hget hΓ (pc := 26) hK hr (xh_at _ _ _) (k := 14) rfl q739 dX2_comes_26 ?_
    refine g_iload_n hΓ (pc := 29) 2 (i := 2) dX2_comes_29 rfl rfl ?_
    obtain ⟨h7, hh7, hf⟩ := bindE hf
    refine qx_iast hΓ (pc := 30) hK hr (xh_at _ _ _) rfl hh7 (xh_xh _ _ _ _) dX2_comes_30 ?_
    refine g_aload_n hΓ (pc := 31) 0 (i := 0) dX2_comes_31 rfl rfl ?_
    refine qx_hgeta hΓ (pc := 32) hK hr (k := 2) rfl q715 dX2_comes_32 ?_
    refine g_aload_n hΓ (pc := 35) 0 (i := 0) dX2_comes_35 rfl rfl ?_
    refine qx_hget hΓ (pc := 36) hK hr (xh_at _ _ _) (k := 14) rfl q739 dX2_comes_36 ?_
    refine g_iload_n hΓ (pc := 39) 3 (i := 3) dX2_comes_39 rfl rfl ?_
    obtain ⟨h8, hh8, hf⟩ := bindE hf
    refine qx_iast hΓ (pc := 40) hK hr (xh_at _ _ _) rfl hh8 (xh_xh _ _ _ _) dX2_comes_40 ?_
    refine g_aload_n hΓ (pc := 41) 0 (i := 0) dX2_comes_41 rfl rfl ?_
    refine qx_hgeta hΓ (pc := 42) hK hr (k := 3) rfl q717 dX2_comes_42 ?_
    refine g_aload_n hΓ (pc := 45) 0 (i := 0) dX2_comes_45 rfl rfl ?_
    refine qx_hget hΓ (pc := 46) hK hr (xh_at _ _ _) (k := 14) rfl q739 dX2_comes_46 ?_
    refine g_iload_n hΓ (pc := 49) 3 (i := 3) dX2_comes_49 rfl rfl ?_
    refine g_bipush hΓ (pc := 50) (v := 6) dX2_comes_50 (by decide) ?_
    refine g_icmp_ge hΓ (pc := 52) (tgt := 62) dX2_comes_52 (by decide) (fun c9 => ?_) (fun c9 => ?_)
    · have hf := ifP hf c9
      refine g_bipush hΓ (pc := 62) (v := -4) dX2_comes_62 (by decide) ?_
      exact g_sub [0] rfl (J64  _ _ _ hf)
    · have hf := ifN hf c9
      refine g_aload_n hΓ (pc := 55) 0 (i := 0) dX2_comes_55 rfl rfl ?_
      refine qx_hget hΓ (pc := 56) hK hr (xh_at _ _ _) (k := 17) rfl q745 dX2_comes_56 ?_
      refine g_goto hΓ (pc := 59) (tgt := 64) dX2_comes_59 (by decide) ?_
      exact g_sub [0] rfl (J64  _ _ _ hf)
  · have hf := ifP hf c5
    refine g_iconst hΓ (pc := 9) (v := 0) dX2_comes_9 (by decide) ?_
    exact qh_zret hΓ hf dX2_comes_10
def H_comesGuest (h : HS) (v : Nat → Int32) : Option (Int32 × HS) :=
  if (h.2.2 15) = (6 : Int32) then (
    (zOk (0 : Int32)).bind fun u => some (u, h)
  ) else (
    (vR v (0 : Int32)).bind fun x2 =>
    (hWr h 6 (h.2.2 15) x2).bind fun h3 =>
    (vR v (1 : Int32)).bind fun x4 =>
    (hWr h3 7 (h3.2.2 15) x4).bind fun h5 =>
    (vR v (2 : Int32)).bind fun x6 =>
    (hWr h5 8 (h5.2.2 15) x6).bind fun h7 =>
    (vR v (3 : Int32)).bind fun x8 =>
    (hWr h7 9 (h7.2.2 15) x8).bind fun h9 =>
    (vR v (4 : Int32)).bind fun x10 =>
    (hWr h9 10 (h9.2.2 15) x10).bind fun h11 =>
    (hWr h11 11 (h11.2.2 15) (-4 : Int32)).bind fun h12 =>
    (hWr h12 12 (h12.2.2 15) (-4 : Int32)).bind fun h13 =>
    (hWr h13 13 (h13.2.2 15) (0 : Int32)).bind fun h14 =>
    (hSI h14 15 ((h14.2.2 15) + (1 : Int32))).bind fun h15 =>
    (zOk (1 : Int32)).bind fun u => some (u, h15)
  )
set_option maxHeartbeats 4000000 in
set_option maxRecDepth 100000 in
theorem metH_comesGuest (l : Launch) {D : va_G} {dA : Nat → ClassId} {b : Nat} {ad : Nat → Nat} {P : Nat → Prop} {F : Nat → va_E} {gs : List (Nat × (Nat × Int32))} {x : XS} {r : Nat} (hr : r < 4) {h h' : HS} {ρ : RS} {kr : Nat} {z : Int32} (hkr : kr < 50) (hρ : x.2.2.2.1 = some ρ) (hf : H_comesGuest h (ρ.2.2 (310 + kr)) = some (z, h')) : Met l yX2_comesGuest (ws_ yX2_comesGuest cX2_comesGuest 2 (some .boolean)) (rmx_ 0 0 0 0) (xP D dA b ad P F gs [.ref (ad (hB r 22)), .ref (ad (310 + kr))] (xh x r h)) (xQ D dA b ad P F gs (some (.int z)) (xh x r h')) 0 0 (fun q => b ≤ q) := by
  refine qx_met (by decide) RX2 rfl (Nat.le_of_ble_eq_true rfl) (fun Γ hΓ hK => ?_)
  refine g_sub [0, 1] (lv' := [(0, .ref (ad (hB r 22))), (1, .ref (ad (310 + kr)))]) rfl ?_
  refine g_aload_n hΓ (pc := 0) 0 (i := 0) dX2_comesGuest_0 rfl rfl ?_
  refine qx_hget hΓ (pc := 1) hK hr (xh_at _ _ _) (k := 15) rfl q741 dX2_comesGuest_1 ?_
  refine g_bipush hΓ (pc := 4) (v := 6) dX2_comesGuest_4 (by decide) ?_
  refine g_icmp_ne hΓ (pc := 6) (tgt := 11) dX2_comesGuest_6 (by decide) (fun c1 => ?_) (fun c1 => ?_)
  · have hf := ifN hf c1
    refine g_aload_n hΓ (pc := 11) 0 (i := 0) dX2_comesGuest_11 rfl rfl ?_
    refine qx_hgeta hΓ (pc := 12) hK hr (k := 6) rfl q723 dX2_comesGuest_12 ?_
    refine g_aload_n hΓ (pc := 15) 0 (i := 0) dX2_comesGuest_15 rfl rfl ?_
    refine qx_hget hΓ (pc := 16) hK hr (xh_at _ _ _) (k := 15) rfl q741 dX2_comesGuest_16 ?_
    refine g_aload_n hΓ (pc := 19) 1 (i := 1) dX2_comesGuest_19 rfl rfl ?_
    refine g_iconst hΓ (pc := 20) (v := 0) dX2_comesGuest_20 (by decide) ?_
    obtain ⟨x2, hx2, hf⟩ := bindE hf
    refine qx_rald hΓ (pc := 21) (x := xh x r h) hK hρ hkr hx2 dX2_comesGuest_21 ?_
    obtain ⟨h3, hh3, hf⟩ := bindE hf
    refine qx_iast hΓ (pc := 22) hK hr (xh_at _ _ _) rfl hh3 (xh_xh _ _ _ _) dX2_comesGuest_22 ?_
    refine g_aload_n hΓ (pc := 23) 0 (i := 0) dX2_comesGuest_23 rfl rfl ?_
    refine qx_hgeta hΓ (pc := 24) hK hr (k := 7) rfl q725 dX2_comesGuest_24 ?_
    refine g_aload_n hΓ (pc := 27) 0 (i := 0) dX2_comesGuest_27 rfl rfl ?_
    refine qx_hget hΓ (pc := 28) hK hr (xh_at _ _ _) (k := 15) rfl q741 dX2_comesGuest_28 ?_
    refine g_aload_n hΓ (pc := 31) 1 (i := 1) dX2_comesGuest_31 rfl rfl ?_
    refine g_iconst hΓ (pc := 32) (v := 1) dX2_comesGuest_32 (by decide) ?_
    obtain ⟨x4, hx4, hf⟩ := bindE hf
    refine qx_rald hΓ (pc := 33) (x := xh x r h3) hK hρ hkr hx4 dX2_comesGuest_33 ?_
    obtain ⟨h5, hh5, hf⟩ := bindE hf
    refine qx_iast hΓ (pc := 34) hK hr (xh_at _ _ _) rfl hh5 (xh_xh _ _ _ _) dX2_comesGuest_34 ?_
    refine g_aload_n hΓ (pc := 35) 0 (i := 0) dX2_comesGuest_35 rfl rfl ?_
    refine qx_hgeta hΓ (pc := 36) hK hr (k := 8) rfl q727 dX2_comesGuest_36 ?_
    refine g_aload_n hΓ (pc := 39) 0 (i := 0) dX2_comesGuest_39 rfl rfl ?_
    refine qx_hget hΓ (pc := 40) hK hr (xh_at _ _ _) (k := 15) rfl q741 dX2_comesGuest_40 ?_
    refine g_aload_n hΓ (pc := 43) 1 (i := 1) dX2_comesGuest_43 rfl rfl ?_
    refine g_iconst hΓ (pc := 44) (v := 2) dX2_comesGuest_44 (by decide) ?_
    obtain ⟨x6, hx6, hf⟩ := bindE hf
    refine qx_rald hΓ (pc := 45) (x := xh x r h5) hK hρ hkr hx6 dX2_comesGuest_45 ?_
    obtain ⟨h7, hh7, hf⟩ := bindE hf
    refine qx_iast hΓ (pc := 46) hK hr (xh_at _ _ _) rfl hh7 (xh_xh _ _ _ _) dX2_comesGuest_46 ?_
    refine g_aload_n hΓ (pc := 47) 0 (i := 0) dX2_comesGuest_47 rfl rfl ?_
    refine qx_hgeta hΓ (pc := 48) hK hr (k := 9) rfl q729 dX2_comesGuest_48 ?_
    refine g_aload_n hΓ (pc := 51) 0 (i := 0) dX2_comesGuest_51 rfl rfl ?_
    refine qx_hget hΓ (pc := 52) hK hr (xh_at _ _ _) (k := 15) rfl q741 dX2_comesGuest_52 ?_
    refine g_aload_n hΓ (pc := 55) 1 (i := 1) dX2_comesGuest_55 rfl rfl ?_
    refine g_iconst hΓ (pc := 56) (v := 3) dX2_comesGuest_56 (by decide) ?_
    obtain ⟨x8, hx8, hf⟩ := bindE hf
    refine qx_rald hΓ (pc := 57) (x := xh x r h7) hK hρ hkr hx8 dX2_comesGuest_57 ?_
    obtain ⟨h9, hh9, hf⟩ := bindE hf
    refine qx_iast hΓ (pc := 58) hK hr (xh_at _ _ _) rfl hh9 (xh_xh _ _ _ _) dX2_comesGuest_58 ?_
    refine g_aload_n hΓ (pc := 59) 0 (i := 0) dX2_comesGuest_59 rfl rfl ?_
    refine qx_hgeta hΓ (pc := 60) hK hr (k := 10) rfl q731 dX2_comesGuest_60 ?_
    refine g_aload_n hΓ (pc := 63) 0 (i := 0) dX2_comesGuest_63 rfl rfl ?_
    refine qx_hget hΓ (pc := 64) hK hr (xh_at _ _ _) (k := 15) rfl q741 dX2_comesGuest_64 ?_
    refine g_aload_n hΓ (pc := 67) 1 (i := 1) dX2_comesGuest_67 rfl rfl ?_
    refine g_iconst hΓ (pc := 68) (v := 4) dX2_comesGuest_68 (by decide) ?_
    obtain ⟨x10, hx10, hf⟩ := bindE hf
    refine qx_rald hΓ (pc := 69) (x := xh x r h9) hK hρ hkr hx10 dX2_comesGuest_69 ?_
    obtain ⟨h11, hh11, hf⟩ := bindE hf
    refine qx_iast hΓ (pc := 70) hK hr (xh_at _ _ _) rfl hh11 (xh_xh _ _ _ _) dX2_comesGuest_70 ?_
    refine g_aload_n hΓ (pc := 71) 0 (i := 0) dX2_comesGuest_71 rfl rfl ?_
    refine qx_hgeta hΓ (pc := 72) hK hr (k := 11) rfl q733 dX2_comesGuest_72 ?_
    refine g_aload_n hΓ (pc := 75) 0 (i := 0) dX2_comesGuest_75 rfl rfl ?_
    refine qx_hget hΓ (pc := 76) hK hr (xh_at _ _ _) (k := 15) rfl q741 dX2_comesGuest_76 ?_
    refine g_bipush hΓ (pc := 79) (v := -4) dX2_comesGuest_79 (by decide) ?_
    obtain ⟨h12, hh12, hf⟩ := bindE hf
    refine qx_iast hΓ (pc := 81) hK hr (xh_at _ _ _) rfl hh12 (xh_xh _ _ _ _) dX2_comesGuest_81 ?_
    refine g_aload_n hΓ (pc := 82) 0 (i := 0) dX2_comesGuest_82 rfl rfl ?_
    refine qx_hgeta hΓ (pc := 83) hK hr (k := 12) rfl q735 dX2_comesGuest_83 ?_
    refine g_aload_n hΓ (pc := 86) 0 (i := 0) dX2_comesGuest_86 rfl rfl ?_
    refine qx_hget hΓ (pc := 87) hK hr (xh_at _ _ _) (k := 15) rfl q741 dX2_comesGuest_87 ?_
    refine g_bipush hΓ (pc := 90) (v := -4) dX2_comesGuest_90 (by decide) ?_
    obtain ⟨h13, hh13, hf⟩ := bindE hf
    refine qx_iast hΓ (pc := 92) hK hr (xh_at _ _ _) rfl hh13 (xh_xh _ _ _ _) dX2_comesGuest_92 ?_
    refine g_aload_n hΓ (pc := 93) 0 (i := 0) dX2_comesGuest_93 rfl rfl ?_
    refine qx_hgeta hΓ (pc := 94) hK hr (k := 13) rfl q737 dX2_comesGuest_94 ?_
    refine g_aload_n hΓ (pc := 97) 0 (i := 0) dX2_comesGuest_97 rfl rfl ?_
    refine qx_hget hΓ (pc := 98) hK hr (xh_at _ _ _) (k := 15) rfl q741 dX2_comesGuest_98 ?_
    refine g_iconst hΓ (pc := 101) (v := 0) dX2_comesGuest_101 (by decide) ?_
    obtain ⟨h14, hh14, hf⟩ := bindE hf
    refine qx_iast hΓ (pc := 102) hK hr (xh_at _ _ _) rfl hh14 (xh_xh _ _ _ _) dX2_comesGuest_102 ?_
    refine g_aload_n hΓ (pc := 103) 0 (i := 0) dX2_comesGuest_103 rfl rfl ?_
    refine g_dup hΓ (pc := 104) dX2_comesGuest_104 rfl ?_
    refine qx_hget hΓ (pc := 105) hK hr (xh_at _ _ _) (k := 15) rfl q741 dX2_comesGuest_105 ?_
    refine g_iconst hΓ (pc := 108) (v := 1) dX2_comesGuest_108 (by decide) ?_
    refine g_iadd hΓ (pc := 109) dX2_comesGuest_109 ?_
    obtain ⟨h15, hh15, hf⟩ := bindE hf
    refine qx_hput hΓ (pc := 110) hK hr (xh_at _ _ _) rfl hh15 (xh_xh _ _ _ _) q741 dX2_comesGuest_110 ?_
    refine g_iconst hΓ (pc := 113) (v := 1) dX2_comesGuest_113 (by decide) ?_
    exact qh_zret hΓ hf dX2_comesGuest_114
  · have hf := ifP hf c1
    refine g_iconst hΓ (pc := 9) (v := 0) dX2_comesGuest_9 (by decide) ?_
    exact qh_zret hΓ hf dX2_comesGuest_10
def H_like (h : HS) (a0 : Int32) (a1 : Int32) : Option (Int32) :=
  (hG h a0).bind fun g1 =>
  (hG h a1).bind fun g3 =>
  if a0 = a1 then (
    (hR h 1 a1).bind fun x7 =>
    some (gLike g1 g3 (1 : Int32) x7)
  ) else (
    (hR h 1 a1).bind fun x6 =>
    some (gLike g1 g3 (0 : Int32) x6)
  )
set_option maxHeartbeats 4000000 in
set_option maxRecDepth 100000 in
theorem metH_like (l : Launch) {D : va_G} {dA : Nat → ClassId} {b : Nat} {ad : Nat → Nat} {P : Nat → Prop} {F : Nat → va_E} {gs : List (Nat × (Nat × Int32))} {x : XS} {r : Nat} (hr : r < 4) {h : HS} {a0 : Int32} {a1 : Int32} {z : Int32} (hf : H_like h a0 a1 = some z) : Met l yX2_like (ws_ yX2_like cX2_like 3 (some .int)) (rmx_ 4 153 0 0) (xP D dA b ad P F gs [.ref (ad (hB r 22)), .int a0, .int a1] (xh x r h)) (xQ D dA b ad P F gs (some (.int z)) (xh x r h)) 0 0 (fun q => b ≤ q) := by
  refine qx_met (by decide) RX2 rfl (Nat.le_of_ble_eq_true rfl) (fun Γ hΓ hK => ?_)
  refine g_sub [0, 1, 2] (lv' := [(0, .ref (ad (hB r 22))), (1, .int a0), (2, .int a1)]) rfl ?_
  refine g_aload_n hΓ (pc := 0) 0 (i := 0) dX2_like_0 rfl rfl ?_
  refine qx_hgeta hΓ (pc := 1) hK hr (k := 0) rfl q711 dX2_like_1 ?_
  refine g_iload_n hΓ (pc := 4) 1 (i := 1) dX2_like_4 rfl rfl ?_
  obtain ⟨g1, hg1, hf⟩ := bindE hf
  refine qx_gald hΓ (pc := 5) hK hr (xh_at _ _ _) hg1 dX2_like_5 (fun ya2 => ?_)
  refine g_aload_n hΓ (pc := 6) 0 (i := 0) dX2_like_6 rfl rfl ?_
  refine qx_hgeta hΓ (pc := 7) hK hr (k := 0) rfl q711 dX2_like_7 ?_
  refine g_iload_n hΓ (pc := 10) 2 (i := 2) dX2_like_10 rfl rfl ?_
  obtain ⟨g3, hg3, hf⟩ := bindE hf
  refine qx_gald hΓ (pc := 11) hK hr (xh_at _ _ _) hg3 dX2_like_11 (fun ya4 => ?_)
  refine g_iload_n hΓ (pc := 12) 1 (i := 1) dX2_like_12 rfl rfl ?_
  refine g_iload_n hΓ (pc := 13) 2 (i := 2) dX2_like_13 rfl rfl ?_
  refine g_icmp_ne hΓ (pc := 14) (tgt := 21) dX2_like_14 (by decide) (fun c5 => ?_) (fun c5 => ?_)
  · have hf := ifN hf c5
    refine g_iconst hΓ (pc := 21) (v := 0) dX2_like_21 (by decide) ?_
    refine g_aload_n hΓ (pc := 22) 0 (i := 0) dX2_like_22 rfl rfl ?_
    refine qx_hgeta hΓ (pc := 23) hK hr (k := 1) rfl q713 dX2_like_23 ?_
    refine g_iload_n hΓ (pc := 26) 2 (i := 2) dX2_like_26 rfl rfl ?_
    obtain ⟨x6, hx6, hf⟩ := bindE hf
    refine qx_iald hΓ (pc := 27) hK hr (xh_at _ _ _) rfl hx6 dX2_like_27 ?_
    refine qx_like hΓ (pc := 28) hK (List.mem_cons_of_mem _ List.mem_cons_self) List.mem_cons_self (by decide) ⟨by show 0 ≤ 0; omega, by show 0 ≤ 0; omega⟩ (Nat.le_of_ble_eq_true rfl) dX2_like_28 ?_
    refine g_w (fun H h => XW.drop (gs := gs) h (fun q hq => List.mem_cons_of_mem _ (List.mem_cons_of_mem _ (hq)))) ?_
    exact qh_iretR hΓ hf dX2_like_31
  · have hf := ifP hf c5
    refine g_iconst hΓ (pc := 17) (v := 1) dX2_like_17 (by decide) ?_
    refine g_goto hΓ (pc := 18) (tgt := 22) dX2_like_18 (by decide) ?_
    refine g_aload_n hΓ (pc := 22) 0 (i := 0) dX2_like_22 rfl rfl ?_
    refine qx_hgeta hΓ (pc := 23) hK hr (k := 1) rfl q713 dX2_like_23 ?_
    refine g_iload_n hΓ (pc := 26) 2 (i := 2) dX2_like_26 rfl rfl ?_
    obtain ⟨x7, hx7, hf⟩ := bindE hf
    refine qx_iald hΓ (pc := 27) hK hr (xh_at _ _ _) rfl hx7 dX2_like_27 ?_
    refine qx_like hΓ (pc := 28) hK (List.mem_cons_of_mem _ List.mem_cons_self) List.mem_cons_self (by decide) ⟨by show 0 ≤ 0; omega, by show 0 ≤ 0; omega⟩ (Nat.le_of_ble_eq_true rfl) dX2_like_28 ?_
    refine g_w (fun H h => XW.drop (gs := gs) h (fun q hq => List.mem_cons_of_mem _ (List.mem_cons_of_mem _ (hq)))) ?_
    exact qh_iretR hΓ hf dX2_like_31
def H_isHeld (h : HS) (a0 : Int32) (a1 : Int32) : Option (HS) :=
  (hWr h 2 a1 ((10 : Int32) + a0)).bind fun h1 =>
  (hWr h1 3 a1 (-4 : Int32)).bind fun h2 =>
  (hWr h2 11 a0 a1).bind fun h3 =>
  (hWr h3 12 a0 a1).bind fun h4 =>
  some h4
set_option maxHeartbeats 4000000 in
set_option maxRecDepth 100000 in
theorem metH_isHeld (l : Launch) {D : va_G} {dA : Nat → ClassId} {b : Nat} {ad : Nat → Nat} {P : Nat → Prop} {F : Nat → va_E} {gs : List (Nat × (Nat × Int32))} {x : XS} {r : Nat} (hr : r < 4) {h h' : HS} {a0 : Int32} {a1 : Int32} (hf : H_isHeld h a0 a1 = some h') : Met l yX2_isHeld (ws_ yX2_isHeld cX2_isHeld 3 none) (rmx_ 0 0 0 0) (xP D dA b ad P F gs [.ref (ad (hB r 22)), .int a0, .int a1] (xh x r h)) (xQ D dA b ad P F gs none (xh x r h')) 0 0 (fun q => b ≤ q) := by
  refine qx_met (by decide) RX2 rfl (Nat.le_of_ble_eq_true rfl) (fun Γ hΓ hK => ?_)
  refine g_sub [0, 1, 2] (lv' := [(0, .ref (ad (hB r 22))), (1, .int a0), (2, .int a1)]) rfl ?_
  refine g_aload_n hΓ (pc := 0) 0 (i := 0) dX2_isHeld_0 rfl rfl ?_
  refine qx_hgeta hΓ (pc := 1) hK hr (k := 2) rfl q715 dX2_isHeld_1 ?_
  refine g_iload_n hΓ (pc := 4) 2 (i := 2) dX2_isHeld_4 rfl rfl ?_
  refine g_bipush hΓ (pc := 5) (v := 10) dX2_isHeld_5 (by decide) ?_
  refine g_iload_n hΓ (pc := 7) 1 (i := 1) dX2_isHeld_7 rfl rfl ?_
  refine g_iadd hΓ (pc := 8) dX2_isHeld_8 ?_
  obtain ⟨h1, hh1, hf⟩ := bindE hf
  refine qx_iast hΓ (pc := 9) hK hr (xh_at _ _ _) rfl hh1 (xh_xh _ _ _ _) dX2_isHeld_9 ?_
  refine g_aload_n hΓ (pc := 10) 0 (i := 0) dX2_isHeld_10 rfl rfl ?_
  refine qx_hgeta hΓ (pc := 11) hK hr (k := 3) rfl q717 dX2_isHeld_11 ?_
  refine g_iload_n hΓ (pc := 14) 2 (i := 2) dX2_isHeld_14 rfl rfl ?_
  refine g_bipush hΓ (pc := 15) (v := -4) dX2_isHeld_15 (by decide) ?_
  obtain ⟨h2, hh2, hf⟩ := bindE hf
  refine qx_iast hΓ (pc := 17) hK hr (xh_at _ _ _) rfl hh2 (xh_xh _ _ _ _) dX2_isHeld_17 ?_
  refine g_aload_n hΓ (pc := 18) 0 (i := 0) dX2_isHeld_18 rfl rfl ?_
  refine qx_hgeta hΓ (pc := 19) hK hr (k := 11) rfl q733 dX2_isHeld_19 ?_
  refine g_iload_n hΓ (pc := 22) 1 (i := 1) dX2_isHeld_22 rfl rfl ?_
  refine g_iload_n hΓ (pc := 23) 2 (i := 2) dX2_isHeld_23 rfl rfl ?_
  obtain ⟨h3, hh3, hf⟩ := bindE hf
  refine qx_iast hΓ (pc := 24) hK hr (xh_at _ _ _) rfl hh3 (xh_xh _ _ _ _) dX2_isHeld_24 ?_
  refine g_aload_n hΓ (pc := 25) 0 (i := 0) dX2_isHeld_25 rfl rfl ?_
  refine qx_hgeta hΓ (pc := 26) hK hr (k := 12) rfl q735 dX2_isHeld_26 ?_
  refine g_iload_n hΓ (pc := 29) 1 (i := 1) dX2_isHeld_29 rfl rfl ?_
  refine g_iload_n hΓ (pc := 30) 2 (i := 2) dX2_isHeld_30 rfl rfl ?_
  obtain ⟨h4, hh4, hf⟩ := bindE hf
  refine qx_iast hΓ (pc := 31) hK hr (xh_at _ _ _) rfl hh4 (xh_xh _ _ _ _) dX2_isHeld_31 ?_
  exact qh_vret hΓ hf dX2_isHeld_32
def H_mine_115 (h : HS) (k35 : Int32 → Int32 → Int32 → Option (Int32)) (y1 : Int32) (y2 : Int32) (y3 : Int32) (y4 : Int32) (z0 : Int32) : Option (Int32) :=
  if z0 < y4 then (
    (some (y3 + 1)).bind fun x2 =>
    k35 y1 y3 x2
  ) else (
    if y4 = z0 then (
      (hR h 3 y3).bind fun x5 =>
      (hR h 3 y2).bind fun x6 =>
      if x5 ≤ x6 then (
        (some (y3 + 1)).bind fun x8 =>
        k35 y1 y2 x8
      ) else (
        (some (y3 + 1)).bind fun x9 =>
        k35 y1 y3 x9
      )
    ) else (
      (some (y3 + 1)).bind fun x4 =>
      k35 y1 y2 x4
    )
  )
def H_mine_73 (h : HS) (k35 : Int32 → Int32 → Int32 → Option (Int32)) (y1 : Int32) (y2 : Int32) (y3 : Int32) (z0 : Int32) : Option (Int32) :=
  if z0 = 0 then (
    (some (y3 + 1)).bind fun x11 =>
    k35 y1 y2 x11
  ) else (
    (hR h 9 y1).bind fun x12 =>
    if x12 ≤ z0 then (
      if y2 = (-4 : Int32) then (
        H_mine_115 h k35 y1 y2 y3 z0 (0 : Int32)
      ) else (
        (hR h 12 y1).bind fun x15 =>
        (H_like h x15 y2).bind fun x16 =>
        H_mine_115 h k35 y1 y2 y3 z0 x16
      )
    ) else (
      (some (y3 + 1)).bind fun x17 =>
      k35 y1 y2 x17
    )
  )
def H_mine_35s (h : HS) (k35 : Int32 → Int32 → Int32 → Option (Int32)) (y1 : Int32) (y2 : Int32) (y3 : Int32) : Option (Int32) :=
  if (h.2.2 14) ≤ y3 then (
    some y2
  ) else (
    (hR h 2 y3).bind fun x19 =>
    (hR h 10 y1).bind fun x20 =>
    if x19 = x20 then (
      (hR h 12 y1).bind fun x22 =>
      (H_like h x22 y3).bind fun x23 =>
      H_mine_73 h k35 y1 y2 y3 x23
    ) else (
      H_mine_73 h k35 y1 y2 y3 (0 : Int32)
    )
  )
def H_mine_35 (h : HS) : Nat → Int32 → Int32 → Int32 → Option (Int32)
  | 0 => fun _ _ _ => none
  | n + 1 => H_mine_35s h  (H_mine_35 h  n)
def H_mine (h : HS) (a0 : Int32) : Option (Int32) :=
  (hR h 12 a0).bind fun x24 =>
  if x24 = (-4 : Int32) then (
    some (-4 : Int32)
  ) else (
    (hR h 12 a0).bind fun x26 =>
    (hR h 2 x26).bind fun x27 =>
    if x27 = (20 : Int32) then (
      some (-4 : Int32)
    ) else (
      H_mine_35 h 13 a0 (-4 : Int32) (0 : Int32)
    )
  )
set_option maxHeartbeats 4000000 in
set_option maxRecDepth 100000 in
theorem metH_mine (l : Launch) {D : va_G} {dA : Nat → ClassId} {b : Nat} {ad : Nat → Nat} {P : Nat → Prop} {F : Nat → va_E} {gs : List (Nat × (Nat × Int32))} {x : XS} {r : Nat} (hr : r < 4) {h : HS} {a0 : Int32} {z : Int32} (hf : H_mine h a0 = some z) : Met l yX2_mine (ws_ yX2_mine cX2_mine 6 (some .int)) (rmx_ 5 175 0 0) (xP D dA b ad P F gs [.ref (ad (hB r 22)), .int a0] (xh x r h)) (xQ D dA b ad P F gs (some (.int z)) (xh x r h)) 0 0 (fun q => b ≤ q) := by
  refine qx_met (by decide) RX2 rfl (Nat.le_of_ble_eq_true rfl) (fun Γ hΓ hK => ?_)
  refine g_sub [0, 1] (lv' := [(0, .ref (ad (hB r 22))), (1, .int a0)]) rfl ?_
  have J115 : ∀ (k35 : Int32 → Int32 → Int32 → Option (Int32)) (hk35 : ∀ (y1 : Int32) (y2 : Int32) (y3 : Int32), k35 y1 y2 y3 = some z → WG Γ (XW D dA b ad P F gs (xh x r h)) 0 0 35 [(0, .ref (ad (hB r 22))), (1, .int y1), (2, .int y2), (3, .int y3)] []) (y1 : Int32) (y2 : Int32) (y3 : Int32) (y4 : Int32) (z0 : Int32) (hf : H_mine_115 h k35 y1 y2 y3 y4 z0 = some z), WG Γ (XW D dA b ad P F gs (xh x r h)) 0 0 115 [(0, .ref (ad (hB r 22))), (1, .int y1), (2, .int y2), (3, .int y3), (4, .int y4)] [.int z0] := by
    intro k35 hk35 y1 y2 y3 y4 z0 hf
    refine g_istore hΓ (pc := 115) (i := 5) (lv' := [(5, .int z0), (0, .ref (ad (hB r 22))), (1, .int y1), (2, .int y2), (3, .int y3), (4, .int y4)]) dX2_mine_115 (by decide) rfl ?_
    refine g_iload hΓ (pc := 117) 5 (i := 4) dX2_mine_117 rfl ?_
    refine g_iload hΓ (pc := 119) 0 (i := 5) dX2_mine_119 rfl ?_
    refine g_icmp_gt hΓ (pc := 121) (tgt := 146) dX2_mine_121 (by decide) (fun c1 => ?_) (fun c1 => ?_)
    · have hf := ifP hf c1
      refine g_iload_n hΓ (pc := 146) 4 (i := 3) dX2_mine_146 rfl rfl ?_
      refine g_istore_n hΓ (pc := 147) (i := 2) (lv' := [(2, .int y3), (5, .int z0), (0, .ref (ad (hB r 22))), (1, .int y1), (3, .int y3), (4, .int y4)]) dX2_mine_147 rfl (by decide) rfl ?_
      obtain ⟨x2, hx2, hf⟩ := bindE hf
      refine g_iinc hΓ (pc := 148) 4 (i := 3) (v := x2) (lv' := [(3, .int x2), (2, .int y3), (5, .int z0), (0, .ref (ad (hB r 22))), (1, .int y1), (4, .int y4)]) dX2_mine_148 rfl (Option.some.inj hx2) (by decide) rfl ?_
      refine g_goto hΓ (pc := 151) (tgt := 35) dX2_mine_151 (by decide) ?_
      exact g_sub [3, 4, 1, 0] rfl (hk35 _ _ _ hf)
    · have hf := ifN hf c1
      refine g_iload hΓ (pc := 124) 5 (i := 4) dX2_mine_124 rfl ?_
      refine g_iload hΓ (pc := 126) 0 (i := 5) dX2_mine_126 rfl ?_
      refine g_icmp_ne hΓ (pc := 128) (tgt := 148) dX2_mine_128 (by decide) (fun c3 => ?_) (fun c3 => ?_)
      · have hf := ifN hf c3
        obtain ⟨x4, hx4, hf⟩ := bindE hf
        refine g_iinc hΓ (pc := 148) 4 (i := 3) (v := x4) (lv' := [(3, .int x4), (5, .int z0), (0, .ref (ad (hB r 22))), (1, .int y1), (2, .int y2), (4, .int y4)]) dX2_mine_148 rfl (Option.some.inj hx4) (by decide) rfl ?_
        refine g_goto hΓ (pc := 151) (tgt := 35) dX2_mine_151 (by decide) ?_
        exact g_sub [2, 3, 4, 0] rfl (hk35 _ _ _ hf)
      · have hf := ifP hf c3
        refine g_aload_n hΓ (pc := 131) 1 (i := 0) dX2_mine_131 rfl rfl ?_
        refine qx_hgeta hΓ (pc := 132) hK hr (k := 3) rfl q717 dX2_mine_132 ?_
        refine g_iload_n hΓ (pc := 135) 4 (i := 3) dX2_mine_135 rfl rfl ?_
        obtain ⟨x5, hx5, hf⟩ := bindE hf
        refine qx_iald hΓ (pc := 136) hK hr (xh_at _ _ _) rfl hx5 dX2_mine_136 ?_
        refine g_aload_n hΓ (pc := 137) 1 (i := 0) dX2_mine_137 rfl rfl ?_
        refine qx_hgeta hΓ (pc := 138) hK hr (k := 3) rfl q717 dX2_mine_138 ?_
        refine g_iload_n hΓ (pc := 141) 3 (i := 2) dX2_mine_141 rfl rfl ?_
        obtain ⟨x6, hx6, hf⟩ := bindE hf
        refine qx_iald hΓ (pc := 142) hK hr (xh_at _ _ _) rfl hx6 dX2_mine_142 ?_
        refine g_icmp_le hΓ (pc := 143) (tgt := 148) dX2_mine_143 (by decide) (fun c7 => ?_) (fun c7 => ?_)
        · have hf := ifP hf c7
          obtain ⟨x8, hx8, hf⟩ := bindE hf
          refine g_iinc hΓ (pc := 148) 4 (i := 3) (v := x8) (lv' := [(3, .int x8), (5, .int z0), (0, .ref (ad (hB r 22))), (1, .int y1), (2, .int y2), (4, .int y4)]) dX2_mine_148 rfl (Option.some.inj hx8) (by decide) rfl ?_
          refine g_goto hΓ (pc := 151) (tgt := 35) dX2_mine_151 (by decide) ?_
          exact g_sub [2, 3, 4, 0] rfl (hk35 _ _ _ hf)
        · have hf := ifN hf c7
          refine g_iload_n hΓ (pc := 146) 4 (i := 3) dX2_mine_146 rfl rfl ?_
          refine g_istore_n hΓ (pc := 147) (i := 2) (lv' := [(2, .int y3), (5, .int z0), (0, .ref (ad (hB r 22))), (1, .int y1), (3, .int y3), (4, .int y4)]) dX2_mine_147 rfl (by decide) rfl ?_
          obtain ⟨x9, hx9, hf⟩ := bindE hf
          refine g_iinc hΓ (pc := 148) 4 (i := 3) (v := x9) (lv' := [(3, .int x9), (2, .int y3), (5, .int z0), (0, .ref (ad (hB r 22))), (1, .int y1), (4, .int y4)]) dX2_mine_148 rfl (Option.some.inj hx9) (by decide) rfl ?_
          refine g_goto hΓ (pc := 151) (tgt := 35) dX2_mine_151 (by decide) ?_
          exact g_sub [3, 4, 1, 0] rfl (hk35 _ _ _ hf)
  have J73 : ∀ (k35 : Int32 → Int32 → Int32 → Option (Int32)) (hk35 : ∀ (y1 : Int32) (y2 : Int32) (y3 : Int32), k35 y1 y2 y3 = some z → WG Γ (XW D dA b ad P F gs (xh x r h)) 0 0 35 [(0, .ref (ad (hB r 22))), (1, .int y1), (2, .int y2), (3, .int y3)] []) (y1 : Int32) (y2 : Int32) (y3 : Int32) (z0 : Int32) (hf : H_mine_73 h k35 y1 y2 y3 z0 = some z), WG Γ (XW D dA b ad P F gs (xh x r h)) 0 0 73 [(0, .ref (ad (hB r 22))), (1, .int y1), (2, .int y2), (3, .int y3)] [.int z0] := by
    intro k35 hk35 y1 y2 y3 z0 hf
    refine g_istore hΓ (pc := 73) (i := 4) (lv' := [(4, .int z0), (0, .ref (ad (hB r 22))), (1, .int y1), (2, .int y2), (3, .int y3)]) dX2_mine_73 (by decide) rfl ?_
    refine g_iload hΓ (pc := 75) 0 (i := 4) dX2_mine_75 rfl ?_
    refine g_if_eq hΓ (pc := 77) (tgt := 148) dX2_mine_77 (by decide) (fun c10 => ?_) (fun c10 => ?_)
    · have hf := ifP hf c10
      obtain ⟨x11, hx11, hf⟩ := bindE hf
      refine g_iinc hΓ (pc := 148) 4 (i := 3) (v := x11) (lv' := [(3, .int x11), (4, .int z0), (0, .ref (ad (hB r 22))), (1, .int y1), (2, .int y2)]) dX2_mine_148 rfl (Option.some.inj hx11) (by decide) rfl ?_
      refine g_goto hΓ (pc := 151) (tgt := 35) dX2_mine_151 (by decide) ?_
      exact g_sub [2, 3, 4, 0] rfl (hk35 _ _ _ hf)
    · have hf := ifN hf c10
      refine g_iload hΓ (pc := 80) 0 (i := 4) dX2_mine_80 rfl ?_
      refine g_aload_n hΓ (pc := 82) 1 (i := 0) dX2_mine_82 rfl rfl ?_
      refine qx_hgeta hΓ (pc := 83) hK hr (k := 9) rfl q729 dX2_mine_83 ?_
      refine g_iload_n hΓ (pc := 86) 2 (i := 1) dX2_mine_86 rfl rfl ?_
      obtain ⟨x12, hx12, hf⟩ := bindE hf
      refine qx_iald hΓ (pc := 87) hK hr (xh_at _ _ _) rfl hx12 dX2_mine_87 ?_
      refine g_icmp_ge hΓ (pc := 88) (tgt := 94) dX2_mine_88 (by decide) (fun c13 => ?_) (fun c13 => ?_)
      · have hf := ifP hf c13
        refine g_iload_n hΓ (pc := 94) 3 (i := 2) dX2_mine_94 rfl rfl ?_
        refine g_bipush hΓ (pc := 95) (v := -4) dX2_mine_95 (by decide) ?_
        refine g_icmp_ne hΓ (pc := 97) (tgt := 104) dX2_mine_97 (by decide) (fun c14 => ?_) (fun c14 => ?_)
        · have hf := ifN hf c14
          refine g_aload_n hΓ (pc := 104) 1 (i := 0) dX2_mine_104 rfl rfl ?_
          refine g_aload_n hΓ (pc := 105) 1 (i := 0) dX2_mine_105 rfl rfl ?_
          refine qx_hgeta hΓ (pc := 106) hK hr (k := 12) rfl q735 dX2_mine_106 ?_
          refine g_iload_n hΓ (pc := 109) 2 (i := 1) dX2_mine_109 rfl rfl ?_
          obtain ⟨x15, hx15, hf⟩ := bindE hf
          refine qx_iald hΓ (pc := 110) hK hr (xh_at _ _ _) rfl hx15 dX2_mine_110 ?_
          refine g_iload_n hΓ (pc := 111) 3 (i := 2) dX2_mine_111 rfl rfl ?_
          obtain ⟨x16, hx16, hf⟩ := bindE hf
          refine qx_callH hΓ (pc := 112) hK hr 2 (As := [.int x15, .int y2]) (metH_like _ hr hx16) (lw_V q385 q386 q387 q55 q388) (by decide +kernel) (by decide) ⟨by show 0 + 0 ≤ 0; omega, by show 0 + 0 ≤ 0; omega⟩ rfl rfl (Nat.le_of_ble_eq_true rfl) dX2_mine_112 ?_
          exact g_sub [1, 2, 3, 4, 0] rfl (J115 k35 hk35 _ _ _ _ _ hf)
        · have hf := ifP hf c14
          refine g_iconst hΓ (pc := 100) (v := 0) dX2_mine_100 (by decide) ?_
          refine g_goto hΓ (pc := 101) (tgt := 115) dX2_mine_101 (by decide) ?_
          exact g_sub [1, 2, 3, 4, 0] rfl (J115 k35 hk35 _ _ _ _ _ hf)
      · have hf := ifN hf c13
        refine g_goto hΓ (pc := 91) (tgt := 148) dX2_mine_91 (by decide) ?_
        obtain ⟨x17, hx17, hf⟩ := bindE hf
        refine g_iinc hΓ (pc := 148) 4 (i := 3) (v := x17) (lv' := [(3, .int x17), (4, .int z0), (0, .ref (ad (hB r 22))), (1, .int y1), (2, .int y2)]) dX2_mine_148 rfl (Option.some.inj hx17) (by decide) rfl ?_
        refine g_goto hΓ (pc := 151) (tgt := 35) dX2_mine_151 (by decide) ?_
        exact g_sub [2, 3, 4, 0] rfl (hk35 _ _ _ hf)
  have S35 : ∀ (k35 : Int32 → Int32 → Int32 → Option (Int32)) (hk35 : ∀ (y1 : Int32) (y2 : Int32) (y3 : Int32), k35 y1 y2 y3 = some z → WG Γ (XW D dA b ad P F gs (xh x r h)) 0 0 35 [(0, .ref (ad (hB r 22))), (1, .int y1), (2, .int y2), (3, .int y3)] []) (y1 : Int32) (y2 : Int32) (y3 : Int32) (hf : H_mine_35s h k35 y1 y2 y3 = some z), WG Γ (XW D dA b ad P F gs (xh x r h)) 0 0 35 [(0, .ref (ad (hB r 22))), (1, .int y1), (2, .int y2), (3, .int y3)] [] := by
    intro k35 hk35 y1 y2 y3 hf
    refine g_iload_n hΓ (pc := 35) 3 (i := 3) dX2_mine_35 rfl rfl ?_
    refine g_aload_n hΓ (pc := 36) 0 (i := 0) dX2_mine_36 rfl rfl ?_
    refine qx_hget hΓ (pc := 37) hK hr (xh_at _ _ _) (k := 14) rfl q739 dX2_mine_37 ?_
    refine g_icmp_ge hΓ (pc := 40) (tgt := 154) dX2_mine_40 (by decide) (fun c18 => ?_) (fun c18 => ?_)
    · have hf := ifP hf c18
      refine g_iload_n hΓ (pc := 154) 2 (i := 2) dX2_mine_154 rfl rfl ?_
      exact qh_iretR hΓ hf dX2_mine_155
    · have hf := ifN hf c18
      refine g_aload_n hΓ (pc := 43) 0 (i := 0) dX2_mine_43 rfl rfl ?_
      refine qx_hgeta hΓ (pc := 44) hK hr (k := 2) rfl q715 dX2_mine_44 ?_
      refine g_iload_n hΓ (pc := 47) 3 (i := 3) dX2_mine_47 rfl rfl ?_
      obtain ⟨x19, hx19, hf⟩ := bindE hf
      refine qx_iald hΓ (pc := 48) hK hr (xh_at _ _ _) rfl hx19 dX2_mine_48 ?_
      refine g_aload_n hΓ (pc := 49) 0 (i := 0) dX2_mine_49 rfl rfl ?_
      refine qx_hgeta hΓ (pc := 50) hK hr (k := 10) rfl q731 dX2_mine_50 ?_
      refine g_iload_n hΓ (pc := 53) 1 (i := 1) dX2_mine_53 rfl rfl ?_
      obtain ⟨x20, hx20, hf⟩ := bindE hf
      refine qx_iald hΓ (pc := 54) hK hr (xh_at _ _ _) rfl hx20 dX2_mine_54 ?_
      refine g_icmp_ne hΓ (pc := 55) (tgt := 72) dX2_mine_55 (by decide) (fun c21 => ?_) (fun c21 => ?_)
      · have hf := ifN hf c21
        refine g_iconst hΓ (pc := 72) (v := 0) dX2_mine_72 (by decide) ?_
        exact g_sub [0, 1, 2, 3] rfl (J73 k35 hk35 _ _ _ _ hf)
      · have hf := ifP hf c21
        refine g_aload_n hΓ (pc := 58) 0 (i := 0) dX2_mine_58 rfl rfl ?_
        refine g_aload_n hΓ (pc := 59) 0 (i := 0) dX2_mine_59 rfl rfl ?_
        refine qx_hgeta hΓ (pc := 60) hK hr (k := 12) rfl q735 dX2_mine_60 ?_
        refine g_iload_n hΓ (pc := 63) 1 (i := 1) dX2_mine_63 rfl rfl ?_
        obtain ⟨x22, hx22, hf⟩ := bindE hf
        refine qx_iald hΓ (pc := 64) hK hr (xh_at _ _ _) rfl hx22 dX2_mine_64 ?_
        refine g_iload_n hΓ (pc := 65) 3 (i := 3) dX2_mine_65 rfl rfl ?_
        obtain ⟨x23, hx23, hf⟩ := bindE hf
        refine qx_callH hΓ (pc := 66) hK hr 2 (As := [.int x22, .int y3]) (metH_like _ hr hx23) (lw_V q385 q386 q387 q55 q388) (by decide +kernel) (by decide) ⟨by show 0 + 0 ≤ 0; omega, by show 0 + 0 ≤ 0; omega⟩ rfl rfl (Nat.le_of_ble_eq_true rfl) dX2_mine_66 ?_
        refine g_goto hΓ (pc := 69) (tgt := 73) dX2_mine_69 (by decide) ?_
        exact g_sub [0, 1, 2, 3] rfl (J73 k35 hk35 _ _ _ _ hf)
  have L35 : ∀ (n : Nat) (y1 : Int32) (y2 : Int32) (y3 : Int32) (hf : H_mine_35 h  n y1 y2 y3 = some z), WG Γ (XW D dA b ad P F gs (xh x r h)) 0 0 35 [(0, .ref (ad (hB r 22))), (1, .int y1), (2, .int y2), (3, .int y3)] [] := by
    intro  n
    induction n with
    | zero => intro y1 y2 y3 hf; exact nomatch (show (none : Option (Int32)) = some _ from hf)
    | succ n ih => exact S35  _ ih
  refine g_aload_n hΓ (pc := 0) 0 (i := 0) dX2_mine_0 rfl rfl ?_
  refine qx_hgeta hΓ (pc := 1) hK hr (k := 12) rfl q735 dX2_mine_1 ?_
  refine g_iload_n hΓ (pc := 4) 1 (i := 1) dX2_mine_4 rfl rfl ?_
  obtain ⟨x24, hx24, hf⟩ := bindE hf
  refine qx_iald hΓ (pc := 5) hK hr (xh_at _ _ _) rfl hx24 dX2_mine_5 ?_
  refine g_bipush hΓ (pc := 6) (v := -4) dX2_mine_6 (by decide) ?_
  refine g_icmp_eq hΓ (pc := 8) (tgt := 27) dX2_mine_8 (by decide) (fun c25 => ?_) (fun c25 => ?_)
  · have hf := ifP hf c25
    refine g_bipush hΓ (pc := 27) (v := -4) dX2_mine_27 (by decide) ?_
    exact qh_iretR hΓ hf dX2_mine_29
  · have hf := ifN hf c25
    refine g_aload_n hΓ (pc := 11) 0 (i := 0) dX2_mine_11 rfl rfl ?_
    refine qx_hgeta hΓ (pc := 12) hK hr (k := 2) rfl q715 dX2_mine_12 ?_
    refine g_aload_n hΓ (pc := 15) 0 (i := 0) dX2_mine_15 rfl rfl ?_
    refine qx_hgeta hΓ (pc := 16) hK hr (k := 12) rfl q735 dX2_mine_16 ?_
    refine g_iload_n hΓ (pc := 19) 1 (i := 1) dX2_mine_19 rfl rfl ?_
    obtain ⟨x26, hx26, hf⟩ := bindE hf
    refine qx_iald hΓ (pc := 20) hK hr (xh_at _ _ _) rfl hx26 dX2_mine_20 ?_
    obtain ⟨x27, hx27, hf⟩ := bindE hf
    refine qx_iald hΓ (pc := 21) hK hr (xh_at _ _ _) rfl hx27 dX2_mine_21 ?_
    refine g_bipush hΓ (pc := 22) (v := 20) dX2_mine_22 (by decide) ?_
    refine g_icmp_ne hΓ (pc := 24) (tgt := 30) dX2_mine_24 (by decide) (fun c28 => ?_) (fun c28 => ?_)
    · have hf := ifN hf c28
      refine g_bipush hΓ (pc := 30) (v := -4) dX2_mine_30 (by decide) ?_
      refine g_istore_n hΓ (pc := 32) (i := 2) (lv' := [(2, .int (-4 : Int32)), (0, .ref (ad (hB r 22))), (1, .int a0)]) dX2_mine_32 rfl (by decide) rfl ?_
      refine g_iconst hΓ (pc := 33) (v := 0) dX2_mine_33 (by decide) ?_
      refine g_istore_n hΓ (pc := 34) (i := 3) (lv' := [(3, .int (0 : Int32)), (2, .int (-4 : Int32)), (0, .ref (ad (hB r 22))), (1, .int a0)]) dX2_mine_34 rfl (by decide) rfl ?_
      exact g_sub [2, 3, 1, 0] rfl (L35  13 _ _ _ hf)
    · have hf := ifP hf c28
      refine g_bipush hΓ (pc := 27) (v := -4) dX2_mine_27 (by decide) ?_
      exact qh_iretR hΓ hf dX2_mine_29
def H_take_106 (h : HS) (y1 : Int32) (y2 : Int32) : Option (Int32 × HS) :=
  (H_isHeld h y1 y2).bind fun h1 =>
  some (y2, h1)
def H_take (h : HS) (a0 : Int32) : Option (Int32 × HS) :=
  (H_mine h a0).bind fun x2 =>
  if x2 = (-4 : Int32) then (
    if (h.2.2 16) = 0 then (
      some ((-4 : Int32), h)
    ) else (
      if (h.2.2 14) = (12 : Int32) then (
        some ((-4 : Int32), h)
      ) else (
        (hSI h 16 ((h.2.2 16) - (1 : Int32))).bind fun h9 =>
        (hSI h9 21 ((h9.2.2 21) + (1 : Int32))).bind fun h10 =>
        (H_comes h10 (0, (h10.2.2 16) - (h10.2.2 16) / (10 : Int32) * (10 : Int32)) (9 : Int32) ((10 : Int32) + a0)).bind fun q12 =>
        H_take_106 q12.2 a0 ((q12.2.2.2 14) - (1 : Int32))
      )
    )
  ) else (
    (hR h 12 a0).bind fun x4 =>
    if x2 = x4 then (
      H_take_106 h a0 x2
    ) else (
      (hSI h 20 ((h.2.2 20) + (1 : Int32))).bind fun h6 =>
      H_take_106 h6 a0 x2
    )
  )
set_option maxHeartbeats 4000000 in
set_option maxRecDepth 100000 in
theorem metH_take (l : Launch) {D : va_G} {dA : Nat → ClassId} {b : Nat} {ad : Nat → Nat} {P : Nat → Prop} {F : Nat → va_E} {gs : List (Nat × (Nat × Int32))} {x : XS} {r : Nat} (hr : r < 4) {h h' : HS} {a0 : Int32} {z : Int32} (hf : H_take h a0 = some (z, h')) : Met l yX2_take (ws_ yX2_take cX2_take 3 (some .int)) (rmx_ 6 200 1 1) (xP D dA b ad P F gs [.ref (ad (hB r 22)), .int a0] (xh x r h)) (xQ D dA b ad P F gs (some (.int z)) (xh x r h')) 1 1 (fun q => b ≤ q) := by
  refine qx_met (by decide) RX2 rfl (Nat.le_of_ble_eq_true rfl) (fun Γ hΓ hK => ?_)
  refine g_sub [0, 1] (lv' := [(0, .ref (ad (hB r 22))), (1, .int a0)]) rfl ?_
  have J106 : ∀ (h : HS) (y1 : Int32) (y2 : Int32) (hf : H_take_106   h y1 y2 = some (z, h')), WG Γ (XW D dA b ad P F gs (xh x r h)) 1 1 106 [(0, .ref (ad (hB r 22))), (1, .int y1), (2, .int y2)] [] := by
    intro  h y1 y2 hf
    refine g_aload_n hΓ (pc := 106) 0 (i := 0) dX2_take_106 rfl rfl ?_
    refine g_iload_n hΓ (pc := 107) 1 (i := 1) dX2_take_107 rfl rfl ?_
    refine g_iload_n hΓ (pc := 108) 2 (i := 2) dX2_take_108 rfl rfl ?_
    obtain ⟨h1, hh1, hf⟩ := bindE hf
    refine qx_callH hΓ (pc := 109) hK hr 2 (As := [.int y1, .int y2]) (metH_isHeld _ hr hh1) (lw_V q481 q357 q358 q55 q359) (by decide +kernel) (by decide) ⟨by show 1 + 0 ≤ 1; omega, by show 1 + 0 ≤ 1; omega⟩ rfl rfl (Nat.le_of_ble_eq_true rfl) dX2_take_109 ?_
    refine g_wid (by omega) (by omega) (c2 := 1) (s2 := 1) ?_
    refine g_iload_n hΓ (pc := 112) 2 (i := 2) dX2_take_112 rfl rfl ?_
    exact qh_iret hΓ hf dX2_take_113
  refine g_aload_n hΓ (pc := 0) 0 (i := 0) dX2_take_0 rfl rfl ?_
  refine g_iload_n hΓ (pc := 1) 1 (i := 1) dX2_take_1 rfl rfl ?_
  obtain ⟨x2, hx2, hf⟩ := bindE hf
  refine qx_callH hΓ (pc := 2) hK hr 1 (As := [.int a0]) (metH_mine _ hr hx2) (lw_V q381 q382 q383 q55 q384) (by decide +kernel) (by decide) ⟨by show 0 + 0 ≤ 1; omega, by show 0 + 0 ≤ 1; omega⟩ rfl rfl (Nat.le_of_ble_eq_true rfl) dX2_take_2 ?_
  refine g_istore_n hΓ (pc := 5) (i := 2) (lv' := [(2, .int x2), (0, .ref (ad (hB r 22))), (1, .int a0)]) dX2_take_5 rfl (by decide) rfl ?_
  refine g_iload_n hΓ (pc := 6) 0 (i := 2) dX2_take_6 rfl rfl ?_
  refine g_bipush hΓ (pc := 7) (v := -4) dX2_take_7 (by decide) ?_
  refine g_icmp_ne hΓ (pc := 9) (tgt := 86) dX2_take_9 (by decide) (fun c3 => ?_) (fun c3 => ?_)
  · have hf := ifN hf c3
    refine g_iload_n hΓ (pc := 86) 0 (i := 2) dX2_take_86 rfl rfl ?_
    refine g_aload_n hΓ (pc := 87) 1 (i := 0) dX2_take_87 rfl rfl ?_
    refine qx_hgeta hΓ (pc := 88) hK hr (k := 12) rfl q735 dX2_take_88 ?_
    refine g_iload_n hΓ (pc := 91) 2 (i := 1) dX2_take_91 rfl rfl ?_
    obtain ⟨x4, hx4, hf⟩ := bindE hf
    refine qx_iald hΓ (pc := 92) hK hr (xh_at _ _ _) rfl hx4 dX2_take_92 ?_
    refine g_icmp_eq hΓ (pc := 93) (tgt := 106) dX2_take_93 (by decide) (fun c5 => ?_) (fun c5 => ?_)
    · have hf := ifP hf c5
      refine g_wid (by omega) (by omega) (c2 := 1) (s2 := 1) ?_
      exact g_sub [1, 2, 0] rfl (J106  _ _ _ hf)
    · have hf := ifN hf c5
      refine g_aload_n hΓ (pc := 96) 1 (i := 0) dX2_take_96 rfl rfl ?_
      refine g_dup hΓ (pc := 97) dX2_take_97 rfl ?_
      refine qx_hget hΓ (pc := 98) hK hr (xh_at _ _ _) (k := 20) rfl q751 dX2_take_98 ?_
      refine g_iconst hΓ (pc := 101) (v := 1) dX2_take_101 (by decide) ?_
      refine g_iadd hΓ (pc := 102) dX2_take_102 ?_
      obtain ⟨h6, hh6, hf⟩ := bindE hf
      refine qx_hput hΓ (pc := 103) hK hr (xh_at _ _ _) rfl hh6 (xh_xh _ _ _ _) q751 dX2_take_103 ?_
      refine g_wid (by omega) (by omega) (c2 := 1) (s2 := 1) ?_
      exact g_sub [1, 2, 0] rfl (J106  _ _ _ hf)
  · have hf := ifP hf c3
    refine g_aload_n hΓ (pc := 12) 1 (i := 0) dX2_take_12 rfl rfl ?_
    refine qx_hget hΓ (pc := 13) hK hr (xh_at _ _ _) (k := 16) rfl q743 dX2_take_13 ?_
    refine g_if_eq hΓ (pc := 16) (tgt := 28) dX2_take_16 (by decide) (fun c7 => ?_) (fun c7 => ?_)
    · have hf := ifP hf c7
      refine g_bipush hΓ (pc := 28) (v := -4) dX2_take_28 (by decide) ?_
      refine g_wid (by omega) (by omega) (c2 := 1) (s2 := 1) ?_
      exact qh_iret hΓ hf dX2_take_30
    · have hf := ifN hf c7
      refine g_aload_n hΓ (pc := 19) 1 (i := 0) dX2_take_19 rfl rfl ?_
      refine qx_hget hΓ (pc := 20) hK hr (xh_at _ _ _) (k := 14) rfl q739 dX2_take_20 ?_
      refine g_bipush hΓ (pc := 23) (v := 12) dX2_take_23 (by decide) ?_
      refine g_icmp_ne hΓ (pc := 25) (tgt := 31) dX2_take_25 (by decide) (fun c8 => ?_) (fun c8 => ?_)
      · have hf := ifN hf c8
        refine g_aload_n hΓ (pc := 31) 1 (i := 0) dX2_take_31 rfl rfl ?_
        refine g_dup hΓ (pc := 32) dX2_take_32 rfl ?_
        refine qx_hget hΓ (pc := 33) hK hr (xh_at _ _ _) (k := 16) rfl q743 dX2_take_33 ?_
        refine g_iconst hΓ (pc := 36) (v := 1) dX2_take_36 (by decide) ?_
        refine g_isub hΓ (pc := 37) dX2_take_37 ?_
        obtain ⟨h9, hh9, hf⟩ := bindE hf
        refine qx_hput hΓ (pc := 38) hK hr (xh_at _ _ _) rfl hh9 (xh_xh _ _ _ _) q743 dX2_take_38 ?_
        refine g_aload_n hΓ (pc := 41) 1 (i := 0) dX2_take_41 rfl rfl ?_
        refine g_dup hΓ (pc := 42) dX2_take_42 rfl ?_
        refine qx_hget hΓ (pc := 43) hK hr (xh_at _ _ _) (k := 21) rfl q753 dX2_take_43 ?_
        refine g_iconst hΓ (pc := 46) (v := 1) dX2_take_46 (by decide) ?_
        refine g_iadd hΓ (pc := 47) dX2_take_47 ?_
        obtain ⟨h10, hh10, hf⟩ := bindE hf
        refine qx_hput hΓ (pc := 48) hK hr (xh_at _ _ _) rfl hh10 (xh_xh _ _ _ _) q753 dX2_take_48 ?_
        refine g_aload_n hΓ (pc := 51) 1 (i := 0) dX2_take_51 rfl rfl ?_
        refine qx_new hΓ (pc := 52) hK (k := 0) (by decide) rfl in_X7 tyX7 tyX7_ok rfl q478 q261 q64 ⟨by show 0 + 1 ≤ 1; omega, by show 0 + 1 ≤ 1; omega⟩ dX2_take_52 (fun ya11 => ?_)
        refine g_dup hΓ (pc := 55) dX2_take_55 rfl ?_
        refine g_aload_n hΓ (pc := 56) 1 (i := 0) dX2_take_56 rfl rfl ?_
        refine qx_hgetn hΓ (pc := 57) hK hr (xh_at _ _ _) (k := 16) rfl q743 dX2_take_57 ?_
        refine g_bipush hΓ (pc := 60) (v := 10) dX2_take_60 (by decide) ?_
        refine g_irem hΓ (pc := 62) dX2_take_62 (by decide) ?_
        refine qx_callI hΓ (pc := 63) hK 1 (As := [.int ((h10.2.2 16) - (h10.2.2 16) / (10 : Int32) * (10 : Int32))]) (metG_init7 _) q479 q263 q64 q264 rfl (by decide +kernel) (by decide) ⟨by show 1 ≤ 1; omega, by show 1 ≤ 1; omega⟩ rfl rfl (Nat.le_of_ble_eq_true rfl) dX2_take_63 ?_
        refine g_w (fun H h => XWn.toXW h) ?_
        refine g_bipush hΓ (pc := 66) (v := 9) dX2_take_66 (by decide) ?_
        refine g_bipush hΓ (pc := 68) (v := 10) dX2_take_68 (by decide) ?_
        refine g_iload_n hΓ (pc := 70) 2 (i := 1) dX2_take_70 rfl rfl ?_
        refine g_iadd hΓ (pc := 71) dX2_take_71 ?_
        obtain ⟨q12, hq12, hf⟩ := bindE hf
        refine qx_callH hΓ (pc := 72) hK hr 3 (As := [.ref (ya11), .int (9 : Int32), .int ((10 : Int32) + a0)]) (metH_comes _ hr List.mem_cons_self (z := q12.1) (h' := q12.2) hq12) (lw_V q480 q336 q337 q55 q338) (by decide +kernel) (by decide) ⟨by show 1 + 0 ≤ 1; omega, by show 1 + 0 ≤ 1; omega⟩ rfl rfl (Nat.le_of_ble_eq_true rfl) dX2_take_72 ?_
        refine g_wid (by omega) (by omega) (c2 := 1) (s2 := 1) ?_
        refine g_pop hΓ (pc := 75) dX2_take_75 rfl ?_
        refine g_aload_n hΓ (pc := 76) 1 (i := 0) dX2_take_76 rfl rfl ?_
        refine qx_hget hΓ (pc := 77) hK hr (xh_at _ _ _) (k := 14) rfl q739 dX2_take_77 ?_
        refine g_iconst hΓ (pc := 80) (v := 1) dX2_take_80 (by decide) ?_
        refine g_isub hΓ (pc := 81) dX2_take_81 ?_
        refine g_istore_n hΓ (pc := 82) (i := 2) (lv' := [(2, .int ((q12.2.2.2 14) - (1 : Int32))), (0, .ref (ad (hB r 22))), (1, .int a0)]) dX2_take_82 rfl (by decide) rfl ?_
        refine g_goto hΓ (pc := 83) (tgt := 106) dX2_take_83 (by decide) ?_
        refine g_w (fun H h => XW.drop (gs := gs) h (fun q hq => List.mem_cons_of_mem _ (hq))) ?_
        exact g_sub [1, 2, 0] rfl (J106  _ _ _ hf)
      · have hf := ifP hf c8
        refine g_bipush hΓ (pc := 28) (v := -4) dX2_take_28 (by decide) ?_
        refine g_wid (by omega) (by omega) (c2 := 1) (s2 := 1) ?_
        exact qh_iret hΓ hf dX2_take_30
def H_sip_76 (h : HS) (y1 : Int32) (y2 : Int32) (y3 : Int32) : Option (Int32 × HS) :=
  (hR h 5 y2).bind fun x1 =>
  (S_has (h.2.2 18) y1).bind fun x2 =>
  (hWz h 5 y2 (x1 ||| x2)).bind fun h3 =>
  some (y3, h3)
def H_sip (h : HS) (a0 : Int32) : Option (Int32 × HS) :=
  (hR h 11 a0).bind fun x4 =>
  (hG h x4).bind fun g5 =>
  (hR h 1 x4).bind fun x7 =>
  (some (gStr g5 x7)).bind fun x8 =>
  (hR h 1 x4).bind fun x9 =>
  (hWr h 1 x4 (x9 - (1 : Int32))).bind fun h10 =>
  (hR h10 13 a0).bind fun x11 =>
  (hWr h10 13 a0 (x11 + x8)).bind fun h12 =>
  (hR h12 4 x4).bind fun x13 =>
  (hWr h12 4 x4 (x13 ||| ((1 : Int32) <<< (a0 &&& 31)))).bind fun h14 =>
  (hR h14 5 x4).bind fun x15 =>
  if x15 = 0 then (
    H_sip_76 h14 a0 x4 x8
  ) else (
    (hSI h14 18 ((h14.2.2 18) ||| ((1 : Int32) <<< (a0 &&& 31)))).bind fun h17 =>
    H_sip_76 h17 a0 x4 x8
  )
set_option maxHeartbeats 4000000 in
set_option maxRecDepth 100000 in
theorem metH_sip (l : Launch) {D : va_G} {dA : Nat → ClassId} {b : Nat} {ad : Nat → Nat} {P : Nat → Prop} {F : Nat → va_E} {gs : List (Nat × (Nat × Int32))} {x : XS} {r : Nat} (hr : r < 4) {h h' : HS} {a0 : Int32} {z : Int32} (hf : H_sip h a0 = some (z, h')) : Met l yX2_sip (ws_ yX2_sip cX2_sip 4 (some .int)) (rmx_ 4 153 0 0) (xP D dA b ad P F gs [.ref (ad (hB r 22)), .int a0] (xh x r h)) (xQ D dA b ad P F gs (some (.int z)) (xh x r h')) 0 0 (fun q => b ≤ q) := by
  refine qx_met (by decide) RX2 rfl (Nat.le_of_ble_eq_true rfl) (fun Γ hΓ hK => ?_)
  refine g_sub [0, 1] (lv' := [(0, .ref (ad (hB r 22))), (1, .int a0)]) rfl ?_
  have J76 : ∀ (h : HS) (y1 : Int32) (y2 : Int32) (y3 : Int32) (hf : H_sip_76   h y1 y2 y3 = some (z, h')), WG Γ (XW D dA b ad P F gs (xh x r h)) 0 0 76 [(0, .ref (ad (hB r 22))), (1, .int y1), (2, .int y2), (3, .int y3)] [] := by
    intro  h y1 y2 y3 hf
    refine g_aload_n hΓ (pc := 76) 0 (i := 0) dX2_sip_76 rfl rfl ?_
    refine qx_hgeta hΓ (pc := 77) hK hr (k := 5) rfl q721 dX2_sip_77 ?_
    refine g_iload_n hΓ (pc := 80) 2 (i := 2) dX2_sip_80 rfl rfl ?_
    refine g_dup2 hΓ (pc := 81) dX2_sip_81 rfl rfl ?_
    obtain ⟨x1, hx1, hf⟩ := bindE hf
    refine qx_zald hΓ (pc := 82) hK hr (xh_at _ _ _) hx1 dX2_sip_82 ?_
    refine g_aload_n hΓ (pc := 83) 0 (i := 0) dX2_sip_83 rfl rfl ?_
    refine qx_hget hΓ (pc := 84) hK hr (xh_at _ _ _) (k := 18) rfl q747 dX2_sip_84 ?_
    refine g_iload_n hΓ (pc := 87) 1 (i := 1) dX2_sip_87 rfl rfl ?_
    obtain ⟨x2, hx2, hf⟩ := bindE hf
    refine qx_callSN hΓ (pc := 88) 2 (As := [.int (h.2.2 18), .int y1]) (hK.2.1.2.1 ("WhoseGlass$House", 118, ⟨"WhoseGlass", "has", "(II)Z"⟩, "WhoseGlass") (by decide +kernel)) (metS_has _ hx2) q511 q54 q512 (by decide +kernel) (by decide) ⟨by show 0 ≤ 0; omega, by show 0 ≤ 0; omega⟩ rfl rfl (Nat.le_of_ble_eq_true rfl) dX2_sip_88 ?_
    refine g_ior hΓ (pc := 91) dX2_sip_91 ?_
    obtain ⟨h3, hh3, hf⟩ := bindE hf
    refine qx_zast hΓ (pc := 92) hK hr (xh_at _ _ _) hh3 (xh_xh _ _ _ _) dX2_sip_92 ?_
    refine g_iload_n hΓ (pc := 93) 3 (i := 3) dX2_sip_93 rfl rfl ?_
    exact qh_iret hΓ hf dX2_sip_94
  refine g_aload_n hΓ (pc := 0) 0 (i := 0) dX2_sip_0 rfl rfl ?_
  refine qx_hgeta hΓ (pc := 1) hK hr (k := 11) rfl q733 dX2_sip_1 ?_
  refine g_iload_n hΓ (pc := 4) 1 (i := 1) dX2_sip_4 rfl rfl ?_
  obtain ⟨x4, hx4, hf⟩ := bindE hf
  refine qx_iald hΓ (pc := 5) hK hr (xh_at _ _ _) rfl hx4 dX2_sip_5 ?_
  refine g_istore_n hΓ (pc := 6) (i := 2) (lv' := [(2, .int x4), (0, .ref (ad (hB r 22))), (1, .int a0)]) dX2_sip_6 rfl (by decide) rfl ?_
  refine g_aload_n hΓ (pc := 7) 1 (i := 0) dX2_sip_7 rfl rfl ?_
  refine qx_hgeta hΓ (pc := 8) hK hr (k := 0) rfl q711 dX2_sip_8 ?_
  refine g_iload_n hΓ (pc := 11) 0 (i := 2) dX2_sip_11 rfl rfl ?_
  obtain ⟨g5, hg5, hf⟩ := bindE hf
  refine qx_gald hΓ (pc := 12) hK hr (xh_at _ _ _) hg5 dX2_sip_12 (fun ya6 => ?_)
  refine g_aload_n hΓ (pc := 13) 1 (i := 0) dX2_sip_13 rfl rfl ?_
  refine qx_hgeta hΓ (pc := 14) hK hr (k := 1) rfl q713 dX2_sip_14 ?_
  refine g_iload_n hΓ (pc := 17) 0 (i := 2) dX2_sip_17 rfl rfl ?_
  obtain ⟨x7, hx7, hf⟩ := bindE hf
  refine qx_iald hΓ (pc := 18) hK hr (xh_at _ _ _) rfl hx7 dX2_sip_18 ?_
  refine qx_strength hΓ (pc := 19) hK List.mem_cons_self (by decide) ⟨by show 0 ≤ 0; omega, by show 0 ≤ 0; omega⟩ (Nat.le_of_ble_eq_true rfl) dX2_sip_19 ?_
  obtain ⟨x8, hx8, hf⟩ := bindE hf
  refine g_topi hx8 ?_
  refine g_istore_n hΓ (pc := 22) (i := 3) (lv' := [(3, .int x8), (2, .int x4), (0, .ref (ad (hB r 22))), (1, .int a0)]) dX2_sip_22 rfl (by decide) rfl ?_
  refine g_aload_n hΓ (pc := 23) 2 (i := 0) dX2_sip_23 rfl rfl ?_
  refine qx_hgeta hΓ (pc := 24) hK hr (k := 1) rfl q713 dX2_sip_24 ?_
  refine g_iload_n hΓ (pc := 27) 1 (i := 2) dX2_sip_27 rfl rfl ?_
  refine g_dup2 hΓ (pc := 28) dX2_sip_28 rfl rfl ?_
  obtain ⟨x9, hx9, hf⟩ := bindE hf
  refine qx_iald hΓ (pc := 29) hK hr (xh_at _ _ _) rfl hx9 dX2_sip_29 ?_
  refine g_iconst hΓ (pc := 30) (v := 1) dX2_sip_30 (by decide) ?_
  refine g_isub hΓ (pc := 31) dX2_sip_31 ?_
  obtain ⟨h10, hh10, hf⟩ := bindE hf
  refine qx_iast hΓ (pc := 32) hK hr (xh_at _ _ _) rfl hh10 (xh_xh _ _ _ _) dX2_sip_32 ?_
  refine g_aload_n hΓ (pc := 33) 2 (i := 0) dX2_sip_33 rfl rfl ?_
  refine qx_hgeta hΓ (pc := 34) hK hr (k := 13) rfl q737 dX2_sip_34 ?_
  refine g_iload_n hΓ (pc := 37) 3 (i := 1) dX2_sip_37 rfl rfl ?_
  refine g_dup2 hΓ (pc := 38) dX2_sip_38 rfl rfl ?_
  obtain ⟨x11, hx11, hf⟩ := bindE hf
  refine qx_iald hΓ (pc := 39) hK hr (xh_at _ _ _) rfl hx11 dX2_sip_39 ?_
  refine g_iload_n hΓ (pc := 40) 0 (i := 3) dX2_sip_40 rfl rfl ?_
  refine g_iadd hΓ (pc := 41) dX2_sip_41 ?_
  obtain ⟨h12, hh12, hf⟩ := bindE hf
  refine qx_iast hΓ (pc := 42) hK hr (xh_at _ _ _) rfl hh12 (xh_xh _ _ _ _) dX2_sip_42 ?_
  refine g_aload_n hΓ (pc := 43) 2 (i := 0) dX2_sip_43 rfl rfl ?_
  refine qx_hgeta hΓ (pc := 44) hK hr (k := 4) rfl q719 dX2_sip_44 ?_
  refine g_iload_n hΓ (pc := 47) 1 (i := 2) dX2_sip_47 rfl rfl ?_
  refine g_dup2 hΓ (pc := 48) dX2_sip_48 rfl rfl ?_
  obtain ⟨x13, hx13, hf⟩ := bindE hf
  refine qx_iald hΓ (pc := 49) hK hr (xh_at _ _ _) rfl hx13 dX2_sip_49 ?_
  refine g_iconst hΓ (pc := 50) (v := 1) dX2_sip_50 (by decide) ?_
  refine g_iload_n hΓ (pc := 51) 3 (i := 1) dX2_sip_51 rfl rfl ?_
  refine g_ishl hΓ (pc := 52) dX2_sip_52 ?_
  refine g_ior hΓ (pc := 53) dX2_sip_53 ?_
  obtain ⟨h14, hh14, hf⟩ := bindE hf
  refine qx_iast hΓ (pc := 54) hK hr (xh_at _ _ _) rfl hh14 (xh_xh _ _ _ _) dX2_sip_54 ?_
  refine g_aload_n hΓ (pc := 55) 2 (i := 0) dX2_sip_55 rfl rfl ?_
  refine qx_hgeta hΓ (pc := 56) hK hr (k := 5) rfl q721 dX2_sip_56 ?_
  refine g_iload_n hΓ (pc := 59) 1 (i := 2) dX2_sip_59 rfl rfl ?_
  obtain ⟨x15, hx15, hf⟩ := bindE hf
  refine qx_zald hΓ (pc := 60) hK hr (xh_at _ _ _) hx15 dX2_sip_60 ?_
  refine g_if_eq hΓ (pc := 61) (tgt := 76) dX2_sip_61 (by decide) (fun c16 => ?_) (fun c16 => ?_)
  · have hf := ifP hf c16
    refine g_w (fun H h => XW.drop (gs := gs) h (fun q hq => List.mem_cons_of_mem _ (hq))) ?_
    exact g_sub [2, 3, 1, 0] rfl (J76  _ _ _ _ hf)
  · have hf := ifN hf c16
    refine g_aload_n hΓ (pc := 64) 2 (i := 0) dX2_sip_64 rfl rfl ?_
    refine g_dup hΓ (pc := 65) dX2_sip_65 rfl ?_
    refine qx_hget hΓ (pc := 66) hK hr (xh_at _ _ _) (k := 18) rfl q747 dX2_sip_66 ?_
    refine g_iconst hΓ (pc := 69) (v := 1) dX2_sip_69 (by decide) ?_
    refine g_iload_n hΓ (pc := 70) 3 (i := 1) dX2_sip_70 rfl rfl ?_
    refine g_ishl hΓ (pc := 71) dX2_sip_71 ?_
    refine g_ior hΓ (pc := 72) dX2_sip_72 ?_
    obtain ⟨h17, hh17, hf⟩ := bindE hf
    refine qx_hput hΓ (pc := 73) hK hr (xh_at _ _ _) rfl hh17 (xh_xh _ _ _ _) q747 dX2_sip_73 ?_
    refine g_w (fun H h => XW.drop (gs := gs) h (fun q hq => List.mem_cons_of_mem _ (hq))) ?_
    exact g_sub [2, 3, 1, 0] rfl (J76  _ _ _ _ hf)
def H_lay (h : HS) (a0 : Int32) : Option (Int32 × HS) :=
  (hR h 11 a0).bind fun x1 =>
  (hR h 10 a0).bind fun x2 =>
  (hWr h 2 x1 x2).bind fun h3 =>
  (hWr h3 3 x1 (h3.2.2 17)).bind fun h4 =>
  (hWr h4 11 a0 (-4 : Int32)).bind fun h5 =>
  some (x1, h5)
set_option maxHeartbeats 4000000 in
set_option maxRecDepth 100000 in
theorem metH_lay (l : Launch) {D : va_G} {dA : Nat → ClassId} {b : Nat} {ad : Nat → Nat} {P : Nat → Prop} {F : Nat → va_E} {gs : List (Nat × (Nat × Int32))} {x : XS} {r : Nat} (hr : r < 4) {h h' : HS} {a0 : Int32} {z : Int32} (hf : H_lay h a0 = some (z, h')) : Met l yX2_lay (ws_ yX2_lay cX2_lay 3 (some .int)) (rmx_ 0 0 0 0) (xP D dA b ad P F gs [.ref (ad (hB r 22)), .int a0] (xh x r h)) (xQ D dA b ad P F gs (some (.int z)) (xh x r h')) 0 0 (fun q => b ≤ q) := by
  refine qx_met (by decide) RX2 rfl (Nat.le_of_ble_eq_true rfl) (fun Γ hΓ hK => ?_)
  refine g_sub [0, 1] (lv' := [(0, .ref (ad (hB r 22))), (1, .int a0)]) rfl ?_
  refine g_aload_n hΓ (pc := 0) 0 (i := 0) dX2_lay_0 rfl rfl ?_
  refine qx_hgeta hΓ (pc := 1) hK hr (k := 11) rfl q733 dX2_lay_1 ?_
  refine g_iload_n hΓ (pc := 4) 1 (i := 1) dX2_lay_4 rfl rfl ?_
  obtain ⟨x1, hx1, hf⟩ := bindE hf
  refine qx_iald hΓ (pc := 5) hK hr (xh_at _ _ _) rfl hx1 dX2_lay_5 ?_
  refine g_istore_n hΓ (pc := 6) (i := 2) (lv' := [(2, .int x1), (0, .ref (ad (hB r 22))), (1, .int a0)]) dX2_lay_6 rfl (by decide) rfl ?_
  refine g_aload_n hΓ (pc := 7) 1 (i := 0) dX2_lay_7 rfl rfl ?_
  refine qx_hgeta hΓ (pc := 8) hK hr (k := 2) rfl q715 dX2_lay_8 ?_
  refine g_iload_n hΓ (pc := 11) 0 (i := 2) dX2_lay_11 rfl rfl ?_
  refine g_aload_n hΓ (pc := 12) 1 (i := 0) dX2_lay_12 rfl rfl ?_
  refine qx_hgeta hΓ (pc := 13) hK hr (k := 10) rfl q731 dX2_lay_13 ?_
  refine g_iload_n hΓ (pc := 16) 2 (i := 1) dX2_lay_16 rfl rfl ?_
  obtain ⟨x2, hx2, hf⟩ := bindE hf
  refine qx_iald hΓ (pc := 17) hK hr (xh_at _ _ _) rfl hx2 dX2_lay_17 ?_
  obtain ⟨h3, hh3, hf⟩ := bindE hf
  refine qx_iast hΓ (pc := 18) hK hr (xh_at _ _ _) rfl hh3 (xh_xh _ _ _ _) dX2_lay_18 ?_
  refine g_aload_n hΓ (pc := 19) 1 (i := 0) dX2_lay_19 rfl rfl ?_
  refine qx_hgeta hΓ (pc := 20) hK hr (k := 3) rfl q717 dX2_lay_20 ?_
  refine g_iload_n hΓ (pc := 23) 0 (i := 2) dX2_lay_23 rfl rfl ?_
  refine g_aload_n hΓ (pc := 24) 1 (i := 0) dX2_lay_24 rfl rfl ?_
  refine qx_hget hΓ (pc := 25) hK hr (xh_at _ _ _) (k := 17) rfl q745 dX2_lay_25 ?_
  obtain ⟨h4, hh4, hf⟩ := bindE hf
  refine qx_iast hΓ (pc := 28) hK hr (xh_at _ _ _) rfl hh4 (xh_xh _ _ _ _) dX2_lay_28 ?_
  refine g_aload_n hΓ (pc := 29) 1 (i := 0) dX2_lay_29 rfl rfl ?_
  refine qx_hgeta hΓ (pc := 30) hK hr (k := 11) rfl q733 dX2_lay_30 ?_
  refine g_iload_n hΓ (pc := 33) 2 (i := 1) dX2_lay_33 rfl rfl ?_
  refine g_bipush hΓ (pc := 34) (v := -4) dX2_lay_34 (by decide) ?_
  obtain ⟨h5, hh5, hf⟩ := bindE hf
  refine qx_iast hΓ (pc := 36) hK hr (xh_at _ _ _) rfl hh5 (xh_xh _ _ _ _) dX2_lay_36 ?_
  refine g_iload_n hΓ (pc := 37) 0 (i := 2) dX2_lay_37 rfl rfl ?_
  exact qh_iret hΓ hf dX2_lay_38
def H_sinks (h : HS) (a0 : Int32) : Option (HS) :=
  (hWr h 2 a0 (20 : Int32)).bind fun h1 =>
  (hWr h1 3 a0 (-4 : Int32)).bind fun h2 =>
  (hWr h2 1 a0 (0 : Int32)).bind fun h3 =>
  (hWr h3 4 a0 (0 : Int32)).bind fun h4 =>
  (hWz h4 5 a0 (0 : Int32)).bind fun h5 =>
  some h5
set_option maxHeartbeats 4000000 in
set_option maxRecDepth 100000 in
theorem metH_sinks (l : Launch) {D : va_G} {dA : Nat → ClassId} {b : Nat} {ad : Nat → Nat} {P : Nat → Prop} {F : Nat → va_E} {gs : List (Nat × (Nat × Int32))} {x : XS} {r : Nat} (hr : r < 4) {h h' : HS} {a0 : Int32} (hf : H_sinks h a0 = some h') : Met l yX2_sinks (ws_ yX2_sinks cX2_sinks 2 none) (rmx_ 0 0 0 0) (xP D dA b ad P F gs [.ref (ad (hB r 22)), .int a0] (xh x r h)) (xQ D dA b ad P F gs none (xh x r h')) 0 0 (fun q => b ≤ q) := by
  refine qx_met (by decide) RX2 rfl (Nat.le_of_ble_eq_true rfl) (fun Γ hΓ hK => ?_)
  refine g_sub [0, 1] (lv' := [(0, .ref (ad (hB r 22))), (1, .int a0)]) rfl ?_
  refine g_aload_n hΓ (pc := 0) 0 (i := 0) dX2_sinks_0 rfl rfl ?_
  refine qx_hgeta hΓ (pc := 1) hK hr (k := 2) rfl q715 dX2_sinks_1 ?_
  refine g_iload_n hΓ (pc := 4) 1 (i := 1) dX2_sinks_4 rfl rfl ?_
  refine g_bipush hΓ (pc := 5) (v := 20) dX2_sinks_5 (by decide) ?_
  obtain ⟨h1, hh1, hf⟩ := bindE hf
  refine qx_iast hΓ (pc := 7) hK hr (xh_at _ _ _) rfl hh1 (xh_xh _ _ _ _) dX2_sinks_7 ?_
  refine g_aload_n hΓ (pc := 8) 0 (i := 0) dX2_sinks_8 rfl rfl ?_
  refine qx_hgeta hΓ (pc := 9) hK hr (k := 3) rfl q717 dX2_sinks_9 ?_
  refine g_iload_n hΓ (pc := 12) 1 (i := 1) dX2_sinks_12 rfl rfl ?_
  refine g_bipush hΓ (pc := 13) (v := -4) dX2_sinks_13 (by decide) ?_
  obtain ⟨h2, hh2, hf⟩ := bindE hf
  refine qx_iast hΓ (pc := 15) hK hr (xh_at _ _ _) rfl hh2 (xh_xh _ _ _ _) dX2_sinks_15 ?_
  refine g_aload_n hΓ (pc := 16) 0 (i := 0) dX2_sinks_16 rfl rfl ?_
  refine qx_hgeta hΓ (pc := 17) hK hr (k := 1) rfl q713 dX2_sinks_17 ?_
  refine g_iload_n hΓ (pc := 20) 1 (i := 1) dX2_sinks_20 rfl rfl ?_
  refine g_iconst hΓ (pc := 21) (v := 0) dX2_sinks_21 (by decide) ?_
  obtain ⟨h3, hh3, hf⟩ := bindE hf
  refine qx_iast hΓ (pc := 22) hK hr (xh_at _ _ _) rfl hh3 (xh_xh _ _ _ _) dX2_sinks_22 ?_
  refine g_aload_n hΓ (pc := 23) 0 (i := 0) dX2_sinks_23 rfl rfl ?_
  refine qx_hgeta hΓ (pc := 24) hK hr (k := 4) rfl q719 dX2_sinks_24 ?_
  refine g_iload_n hΓ (pc := 27) 1 (i := 1) dX2_sinks_27 rfl rfl ?_
  refine g_iconst hΓ (pc := 28) (v := 0) dX2_sinks_28 (by decide) ?_
  obtain ⟨h4, hh4, hf⟩ := bindE hf
  refine qx_iast hΓ (pc := 29) hK hr (xh_at _ _ _) rfl hh4 (xh_xh _ _ _ _) dX2_sinks_29 ?_
  refine g_aload_n hΓ (pc := 30) 0 (i := 0) dX2_sinks_30 rfl rfl ?_
  refine qx_hgeta hΓ (pc := 31) hK hr (k := 5) rfl q721 dX2_sinks_31 ?_
  refine g_iload_n hΓ (pc := 34) 1 (i := 1) dX2_sinks_34 rfl rfl ?_
  refine g_iconst hΓ (pc := 35) (v := 0) dX2_sinks_35 (by decide) ?_
  obtain ⟨h5, hh5, hf⟩ := bindE hf
  refine qx_zast hΓ (pc := 36) hK hr (xh_at _ _ _) hh5 (xh_xh _ _ _ _) dX2_sinks_36 ?_
  exact qh_vret hΓ hf dX2_sinks_37
def H_nextPlace (h : HS) (a0 : Int32) : Option (Int32) :=
  if ((a0 + (1 : Int32)) - (a0 + (1 : Int32)) / (6 : Int32) * (6 : Int32)) = (h.2.2 19) then (
    some ((((a0 + (1 : Int32)) - (a0 + (1 : Int32)) / (6 : Int32) * (6 : Int32)) + (1 : Int32)) - (((a0 + (1 : Int32)) - (a0 + (1 : Int32)) / (6 : Int32) * (6 : Int32)) + (1 : Int32)) / (6 : Int32) * (6 : Int32))
  ) else (
    some ((a0 + (1 : Int32)) - (a0 + (1 : Int32)) / (6 : Int32) * (6 : Int32))
  )
set_option maxHeartbeats 4000000 in
set_option maxRecDepth 100000 in
theorem metH_nextPlace (l : Launch) {D : va_G} {dA : Nat → ClassId} {b : Nat} {ad : Nat → Nat} {P : Nat → Prop} {F : Nat → va_E} {gs : List (Nat × (Nat × Int32))} {x : XS} {r : Nat} (hr : r < 4) {h : HS} {a0 : Int32} {z : Int32} (hf : H_nextPlace h a0 = some z) : Met l yX2_nextPlace (ws_ yX2_nextPlace cX2_nextPlace 3 (some .int)) (rmx_ 0 0 0 0) (xP D dA b ad P F gs [.ref (ad (hB r 22)), .int a0] (xh x r h)) (xQ D dA b ad P F gs (some (.int z)) (xh x r h)) 0 0 (fun q => b ≤ q) := by
  refine qx_met (by decide) RX2 rfl (Nat.le_of_ble_eq_true rfl) (fun Γ hΓ hK => ?_)
  refine g_sub [0, 1] (lv' := [(0, .ref (ad (hB r 22))), (1, .int a0)]) rfl ?_
  refine g_iload_n hΓ (pc := 0) 1 (i := 1) dX2_nextPlace_0 rfl rfl ?_
  refine g_iconst hΓ (pc := 1) (v := 1) dX2_nextPlace_1 (by decide) ?_
  refine g_iadd hΓ (pc := 2) dX2_nextPlace_2 ?_
  refine g_bipush hΓ (pc := 3) (v := 6) dX2_nextPlace_3 (by decide) ?_
  refine g_irem hΓ (pc := 5) dX2_nextPlace_5 (by decide) ?_
  refine g_istore_n hΓ (pc := 6) (i := 2) (lv' := [(2, .int ((a0 + (1 : Int32)) - (a0 + (1 : Int32)) / (6 : Int32) * (6 : Int32))), (0, .ref (ad (hB r 22))), (1, .int a0)]) dX2_nextPlace_6 rfl (by decide) rfl ?_
  refine g_iload_n hΓ (pc := 7) 0 (i := 2) dX2_nextPlace_7 rfl rfl ?_
  refine g_aload_n hΓ (pc := 8) 1 (i := 0) dX2_nextPlace_8 rfl rfl ?_
  refine qx_hget hΓ (pc := 9) hK hr (xh_at _ _ _) (k := 19) rfl q749 dX2_nextPlace_9 ?_
  refine g_icmp_ne hΓ (pc := 12) (tgt := 24) dX2_nextPlace_12 (by decide) (fun c1 => ?_) (fun c1 => ?_)
  · have hf := ifN hf c1
    refine g_iload_n hΓ (pc := 24) 0 (i := 2) dX2_nextPlace_24 rfl rfl ?_
    exact qh_iretR hΓ hf dX2_nextPlace_25
  · have hf := ifP hf c1
    refine g_iload_n hΓ (pc := 15) 0 (i := 2) dX2_nextPlace_15 rfl rfl ?_
    refine g_iconst hΓ (pc := 16) (v := 1) dX2_nextPlace_16 (by decide) ?_
    refine g_iadd hΓ (pc := 17) dX2_nextPlace_17 ?_
    refine g_bipush hΓ (pc := 18) (v := 6) dX2_nextPlace_18 (by decide) ?_
    refine g_irem hΓ (pc := 20) dX2_nextPlace_20 (by decide) ?_
    refine g_goto hΓ (pc := 21) (tgt := 25) dX2_nextPlace_21 (by decide) ?_
    exact qh_iretR hΓ hf dX2_nextPlace_25
def H_goesOn_98 (h : HS) (y1 : Int32) : Option (HS) :=
  if (h.2.2 17) ≤ 0 then (
    some h
  ) else (
    (hR h 7 y1).bind fun x2 =>
    if x2 = 0 then none else
    if ((h.2.2 17) - (h.2.2 17) / x2 * x2) = 0 then (
      (H_lay h y1).bind fun q5 =>
      some q5.2
    ) else (
      some h
    )
  )
def H_goesOn_46 (h : HS) (y1 : Int32) : Option (HS) :=
  (hR h 11 y1).bind fun x6 =>
  if x6 = (-4 : Int32) then (
    (H_take h y1).bind fun q15 =>
    some q15.2
  ) else (
    (hR h 6 y1).bind fun x8 =>
    if x8 = 0 then none else
    if ((h.2.2 17) - (h.2.2 17) / x8 * x8) = 0 then (
      (hR h 11 y1).bind fun x11 =>
      (hR h 1 x11).bind fun x12 =>
      if x12 ≤ 0 then (
        H_goesOn_98 h y1
      ) else (
        (H_sip h y1).bind fun q14 =>
        H_goesOn_98 q14.2 y1
      )
    ) else (
      H_goesOn_98 h y1
    )
  )
def H_goesOn (h : HS) (a0 : Int32) : Option (HS) :=
  (hR h 8 a0).bind fun x16 =>
  if x16 ≤ 0 then (
    H_goesOn_46 h a0
  ) else (
    if (h.2.2 17) ≤ 0 then (
      H_goesOn_46 h a0
    ) else (
      (hR h 8 a0).bind fun x19 =>
      if x19 = 0 then none else
      if ((h.2.2 17) - (h.2.2 17) / x19 * x19) = 0 then (
        (hR h 10 a0).bind fun x22 =>
        (H_nextPlace h x22).bind fun x23 =>
        (hWr h 10 a0 x23).bind fun h24 =>
        H_goesOn_46 h24 a0
      ) else (
        H_goesOn_46 h a0
      )
    )
  )
set_option maxHeartbeats 4000000 in
set_option maxRecDepth 100000 in
theorem metH_goesOn (l : Launch) {D : va_G} {dA : Nat → ClassId} {b : Nat} {ad : Nat → Nat} {P : Nat → Prop} {F : Nat → va_E} {gs : List (Nat × (Nat × Int32))} {x : XS} {r : Nat} (hr : r < 4) {h h' : HS} {a0 : Int32} (hf : H_goesOn h a0 = some h') : Met l yX2_goesOn (ws_ yX2_goesOn cX2_goesOn 2 none) (rmx_ 7 222 1 1) (xP D dA b ad P F gs [.ref (ad (hB r 22)), .int a0] (xh x r h)) (xQ D dA b ad P F gs none (xh x r h')) 1 1 (fun q => b ≤ q) := by
  refine qx_met (by decide) RX2 rfl (Nat.le_of_ble_eq_true rfl) (fun Γ hΓ hK => ?_)
  refine g_sub [0, 1] (lv' := [(0, .ref (ad (hB r 22))), (1, .int a0)]) rfl ?_
  have J98 : ∀ (h : HS) (y1 : Int32) (hf : H_goesOn_98   h y1 = some h'), WG Γ (XW D dA b ad P F gs (xh x r h)) 0 0 98 [(0, .ref (ad (hB r 22))), (1, .int y1)] [] := by
    intro  h y1 hf
    refine g_aload_n hΓ (pc := 98) 0 (i := 0) dX2_goesOn_98 rfl rfl ?_
    refine qx_hget hΓ (pc := 99) hK hr (xh_at _ _ _) (k := 17) rfl q745 dX2_goesOn_99 ?_
    refine g_if_le hΓ (pc := 102) (tgt := 125) dX2_goesOn_102 (by decide) (fun c1 => ?_) (fun c1 => ?_)
    · have hf := ifP hf c1
      refine g_wid (by omega) (by omega) (c2 := 1) (s2 := 1) ?_
      exact qh_vret hΓ hf dX2_goesOn_125
    · have hf := ifN hf c1
      refine g_aload_n hΓ (pc := 105) 0 (i := 0) dX2_goesOn_105 rfl rfl ?_
      refine qx_hget hΓ (pc := 106) hK hr (xh_at _ _ _) (k := 17) rfl q745 dX2_goesOn_106 ?_
      refine g_aload_n hΓ (pc := 109) 0 (i := 0) dX2_goesOn_109 rfl rfl ?_
      refine qx_hgeta hΓ (pc := 110) hK hr (k := 7) rfl q725 dX2_goesOn_110 ?_
      refine g_iload_n hΓ (pc := 113) 1 (i := 1) dX2_goesOn_113 rfl rfl ?_
      obtain ⟨x2, hx2, hf⟩ := bindE hf
      refine qx_iald hΓ (pc := 114) hK hr (xh_at _ _ _) rfl hx2 dX2_goesOn_114 ?_
      obtain ⟨e3, hf⟩ := nzE hf
      refine g_irem hΓ (pc := 115) dX2_goesOn_115 e3 ?_
      refine g_if_ne hΓ (pc := 116) (tgt := 125) dX2_goesOn_116 (by decide) (fun c4 => ?_) (fun c4 => ?_)
      · have hf := ifN hf c4
        refine g_wid (by omega) (by omega) (c2 := 1) (s2 := 1) ?_
        exact qh_vret hΓ hf dX2_goesOn_125
      · have hf := ifP hf c4
        refine g_aload_n hΓ (pc := 119) 0 (i := 0) dX2_goesOn_119 rfl rfl ?_
        refine g_iload_n hΓ (pc := 120) 1 (i := 1) dX2_goesOn_120 rfl rfl ?_
        obtain ⟨q5, hq5, hf⟩ := bindE hf
        refine qx_callH hΓ (pc := 121) hK hr 1 (As := [.int y1]) (metH_lay _ hr (z := q5.1) (h' := q5.2) hq5) (lw_V q513 q514 q515 q55 q516) (by decide +kernel) (by decide) ⟨by show 0 + 0 ≤ 1; omega, by show 0 + 0 ≤ 1; omega⟩ rfl rfl (Nat.le_of_ble_eq_true rfl) dX2_goesOn_121 ?_
        refine g_wid (by omega) (by omega) (c2 := 0) (s2 := 0) ?_
        refine g_pop hΓ (pc := 124) dX2_goesOn_124 rfl ?_
        refine g_wid (by omega) (by omega) (c2 := 1) (s2 := 1) ?_
        exact qh_vret hΓ hf dX2_goesOn_125
  have J46 : ∀ (h : HS) (y1 : Int32) (hf : H_goesOn_46   h y1 = some h'), WG Γ (XW D dA b ad P F gs (xh x r h)) 0 0 46 [(0, .ref (ad (hB r 22))), (1, .int y1)] [] := by
    intro  h y1 hf
    refine g_aload_n hΓ (pc := 46) 0 (i := 0) dX2_goesOn_46 rfl rfl ?_
    refine qx_hgeta hΓ (pc := 47) hK hr (k := 11) rfl q733 dX2_goesOn_47 ?_
    refine g_iload_n hΓ (pc := 50) 1 (i := 1) dX2_goesOn_50 rfl rfl ?_
    obtain ⟨x6, hx6, hf⟩ := bindE hf
    refine qx_iald hΓ (pc := 51) hK hr (xh_at _ _ _) rfl hx6 dX2_goesOn_51 ?_
    refine g_bipush hΓ (pc := 52) (v := -4) dX2_goesOn_52 (by decide) ?_
    refine g_icmp_ne hΓ (pc := 54) (tgt := 64) dX2_goesOn_54 (by decide) (fun c7 => ?_) (fun c7 => ?_)
    · have hf := ifN hf c7
      refine g_aload_n hΓ (pc := 64) 0 (i := 0) dX2_goesOn_64 rfl rfl ?_
      refine qx_hget hΓ (pc := 65) hK hr (xh_at _ _ _) (k := 17) rfl q745 dX2_goesOn_65 ?_
      refine g_aload_n hΓ (pc := 68) 0 (i := 0) dX2_goesOn_68 rfl rfl ?_
      refine qx_hgeta hΓ (pc := 69) hK hr (k := 6) rfl q723 dX2_goesOn_69 ?_
      refine g_iload_n hΓ (pc := 72) 1 (i := 1) dX2_goesOn_72 rfl rfl ?_
      obtain ⟨x8, hx8, hf⟩ := bindE hf
      refine qx_iald hΓ (pc := 73) hK hr (xh_at _ _ _) rfl hx8 dX2_goesOn_73 ?_
      obtain ⟨e9, hf⟩ := nzE hf
      refine g_irem hΓ (pc := 74) dX2_goesOn_74 e9 ?_
      refine g_if_ne hΓ (pc := 75) (tgt := 98) dX2_goesOn_75 (by decide) (fun c10 => ?_) (fun c10 => ?_)
      · have hf := ifN hf c10
        exact g_sub [0, 1] rfl (J98  _ _ hf)
      · have hf := ifP hf c10
        refine g_aload_n hΓ (pc := 78) 0 (i := 0) dX2_goesOn_78 rfl rfl ?_
        refine qx_hgeta hΓ (pc := 79) hK hr (k := 1) rfl q713 dX2_goesOn_79 ?_
        refine g_aload_n hΓ (pc := 82) 0 (i := 0) dX2_goesOn_82 rfl rfl ?_
        refine qx_hgeta hΓ (pc := 83) hK hr (k := 11) rfl q733 dX2_goesOn_83 ?_
        refine g_iload_n hΓ (pc := 86) 1 (i := 1) dX2_goesOn_86 rfl rfl ?_
        obtain ⟨x11, hx11, hf⟩ := bindE hf
        refine qx_iald hΓ (pc := 87) hK hr (xh_at _ _ _) rfl hx11 dX2_goesOn_87 ?_
        obtain ⟨x12, hx12, hf⟩ := bindE hf
        refine qx_iald hΓ (pc := 88) hK hr (xh_at _ _ _) rfl hx12 dX2_goesOn_88 ?_
        refine g_if_le hΓ (pc := 89) (tgt := 98) dX2_goesOn_89 (by decide) (fun c13 => ?_) (fun c13 => ?_)
        · have hf := ifP hf c13
          exact g_sub [0, 1] rfl (J98  _ _ hf)
        · have hf := ifN hf c13
          refine g_aload_n hΓ (pc := 92) 0 (i := 0) dX2_goesOn_92 rfl rfl ?_
          refine g_iload_n hΓ (pc := 93) 1 (i := 1) dX2_goesOn_93 rfl rfl ?_
          obtain ⟨q14, hq14, hf⟩ := bindE hf
          refine qx_callH hΓ (pc := 94) hK hr 1 (As := [.int y1]) (metH_sip _ hr (z := q14.1) (h' := q14.2) hq14) (lw_V q482 q483 q484 q55 q485) (by decide +kernel) (by decide) ⟨by show 0 + 0 ≤ 1; omega, by show 0 + 0 ≤ 1; omega⟩ rfl rfl (Nat.le_of_ble_eq_true rfl) dX2_goesOn_94 ?_
          refine g_wid (by omega) (by omega) (c2 := 0) (s2 := 0) ?_
          refine g_pop hΓ (pc := 97) dX2_goesOn_97 rfl ?_
          exact g_sub [0, 1] rfl (J98  _ _ hf)
    · have hf := ifP hf c7
      refine g_aload_n hΓ (pc := 57) 0 (i := 0) dX2_goesOn_57 rfl rfl ?_
      refine g_iload_n hΓ (pc := 58) 1 (i := 1) dX2_goesOn_58 rfl rfl ?_
      obtain ⟨q15, hq15, hf⟩ := bindE hf
      refine qx_callH hΓ (pc := 59) hK hr 1 (As := [.int y1]) (metH_take _ hr (z := q15.1) (h' := q15.2) hq15) (lw_V q377 q378 q379 q55 q380) (by decide +kernel) (by decide) ⟨by show 0 + 1 ≤ 1; omega, by show 0 + 1 ≤ 1; omega⟩ rfl rfl (Nat.le_of_ble_eq_true rfl) dX2_goesOn_59 ?_
      refine g_wid (by omega) (by omega) (c2 := 1) (s2 := 1) ?_
      refine g_pop hΓ (pc := 62) dX2_goesOn_62 rfl ?_
      exact qh_vret hΓ hf dX2_goesOn_63
  refine g_aload_n hΓ (pc := 0) 0 (i := 0) dX2_goesOn_0 rfl rfl ?_
  refine qx_hgeta hΓ (pc := 1) hK hr (k := 8) rfl q727 dX2_goesOn_1 ?_
  refine g_iload_n hΓ (pc := 4) 1 (i := 1) dX2_goesOn_4 rfl rfl ?_
  obtain ⟨x16, hx16, hf⟩ := bindE hf
  refine qx_iald hΓ (pc := 5) hK hr (xh_at _ _ _) rfl hx16 dX2_goesOn_5 ?_
  refine g_if_le hΓ (pc := 6) (tgt := 46) dX2_goesOn_6 (by decide) (fun c17 => ?_) (fun c17 => ?_)
  · have hf := ifP hf c17
    exact g_sub [0, 1] rfl (J46  _ _ hf)
  · have hf := ifN hf c17
    refine g_aload_n hΓ (pc := 9) 0 (i := 0) dX2_goesOn_9 rfl rfl ?_
    refine qx_hget hΓ (pc := 10) hK hr (xh_at _ _ _) (k := 17) rfl q745 dX2_goesOn_10 ?_
    refine g_if_le hΓ (pc := 13) (tgt := 46) dX2_goesOn_13 (by decide) (fun c18 => ?_) (fun c18 => ?_)
    · have hf := ifP hf c18
      exact g_sub [0, 1] rfl (J46  _ _ hf)
    · have hf := ifN hf c18
      refine g_aload_n hΓ (pc := 16) 0 (i := 0) dX2_goesOn_16 rfl rfl ?_
      refine qx_hget hΓ (pc := 17) hK hr (xh_at _ _ _) (k := 17) rfl q745 dX2_goesOn_17 ?_
      refine g_aload_n hΓ (pc := 20) 0 (i := 0) dX2_goesOn_20 rfl rfl ?_
      refine qx_hgeta hΓ (pc := 21) hK hr (k := 8) rfl q727 dX2_goesOn_21 ?_
      refine g_iload_n hΓ (pc := 24) 1 (i := 1) dX2_goesOn_24 rfl rfl ?_
      obtain ⟨x19, hx19, hf⟩ := bindE hf
      refine qx_iald hΓ (pc := 25) hK hr (xh_at _ _ _) rfl hx19 dX2_goesOn_25 ?_
      obtain ⟨e20, hf⟩ := nzE hf
      refine g_irem hΓ (pc := 26) dX2_goesOn_26 e20 ?_
      refine g_if_ne hΓ (pc := 27) (tgt := 46) dX2_goesOn_27 (by decide) (fun c21 => ?_) (fun c21 => ?_)
      · have hf := ifN hf c21
        exact g_sub [0, 1] rfl (J46  _ _ hf)
      · have hf := ifP hf c21
        refine g_aload_n hΓ (pc := 30) 0 (i := 0) dX2_goesOn_30 rfl rfl ?_
        refine qx_hgeta hΓ (pc := 31) hK hr (k := 10) rfl q731 dX2_goesOn_31 ?_
        refine g_iload_n hΓ (pc := 34) 1 (i := 1) dX2_goesOn_34 rfl rfl ?_
        refine g_aload_n hΓ (pc := 35) 0 (i := 0) dX2_goesOn_35 rfl rfl ?_
        refine g_aload_n hΓ (pc := 36) 0 (i := 0) dX2_goesOn_36 rfl rfl ?_
        refine qx_hgeta hΓ (pc := 37) hK hr (k := 10) rfl q731 dX2_goesOn_37 ?_
        refine g_iload_n hΓ (pc := 40) 1 (i := 1) dX2_goesOn_40 rfl rfl ?_
        obtain ⟨x22, hx22, hf⟩ := bindE hf
        refine qx_iald hΓ (pc := 41) hK hr (xh_at _ _ _) rfl hx22 dX2_goesOn_41 ?_
        obtain ⟨x23, hx23, hf⟩ := bindE hf
        refine qx_callH hΓ (pc := 42) hK hr 1 (As := [.int x22]) (metH_nextPlace _ hr hx23) (lw_V q373 q375 qs9 q55 q376) (by decide +kernel) (by decide) ⟨by show 0 + 0 ≤ 1; omega, by show 0 + 0 ≤ 1; omega⟩ rfl rfl (Nat.le_of_ble_eq_true rfl) dX2_goesOn_42 ?_
        obtain ⟨h24, hh24, hf⟩ := bindE hf
        refine qx_iast hΓ (pc := 45) hK hr (xh_at _ _ _) rfl hh24 (xh_xh _ _ _ _) dX2_goesOn_45 ?_
        exact g_sub [0, 1] rfl (J46  _ _ hf)
def H_goesFreely_2s (k2 : HS → Int32 → Option (HS)) (h : HS) (y1 : Int32) : Option (HS) :=
  if (h.2.2 15) ≤ y1 then (
    (hSI h 17 ((h.2.2 17) + (1 : Int32))).bind fun h2 =>
    some h2
  ) else (
    (H_goesOn h y1).bind fun h3 =>
    (some (y1 + 1)).bind fun x4 =>
    k2 h3 x4
  )
def H_goesFreely_2 : Nat → HS → Int32 → Option (HS)
  | 0 => fun _ _ => none
  | n + 1 => H_goesFreely_2s   (H_goesFreely_2   n)
def H_goesFreely (h : HS) : Option (HS) :=
  H_goesFreely_2 7 h (0 : Int32)
set_option maxHeartbeats 4000000 in
set_option maxRecDepth 100000 in
theorem metH_goesFreely (l : Launch) {D : va_G} {dA : Nat → ClassId} {b : Nat} {ad : Nat → Nat} {P : Nat → Prop} {F : Nat → va_E} {gs : List (Nat × (Nat × Int32))} {x : XS} {r : Nat} (hr : r < 4) {h h' : HS} (hf : H_goesFreely h  = some h') : Met l yX2_goesFreely (ws_ yX2_goesFreely cX2_goesFreely 2 none) (rmx_ 8 243 7 7) (xP D dA b ad P F gs [.ref (ad (hB r 22))] (xh x r h)) (xQ D dA b ad P F gs none (xh x r h')) 7 7 (fun q => b ≤ q) := by
  refine qx_met (by decide) RX2 rfl (Nat.le_of_ble_eq_true rfl) (fun Γ hΓ hK => ?_)
  refine g_sub [0] (lv' := [(0, .ref (ad (hB r 22)))]) rfl ?_
  have S2 : ∀ (n2 : Nat) (hn2 : n2 + 1 ≤ 7) (k2 : HS → Int32 → Option (HS)) (hk2 : ∀ (h : HS) (y1 : Int32), k2 h y1 = some h' → WG Γ (XW D dA b ad P F gs (xh x r h)) (0 + (7 - n2) * 1) (0 + (7 - n2) * 1) 2 [(0, .ref (ad (hB r 22))), (1, .int y1)] []) (h : HS) (y1 : Int32) (hf : H_goesFreely_2s  k2 h y1 = some h'), WG Γ (XW D dA b ad P F gs (xh x r h)) (0 + (7 - (n2 + 1)) * 1) (0 + (7 - (n2 + 1)) * 1) 2 [(0, .ref (ad (hB r 22))), (1, .int y1)] [] := by
    intro n2 hn2 k2 hk2 h y1 hf
    refine g_iload_n hΓ (pc := 2) 1 (i := 1) dX2_goesFreely_2 rfl rfl ?_
    refine g_aload_n hΓ (pc := 3) 0 (i := 0) dX2_goesFreely_3 rfl rfl ?_
    refine qx_hget hΓ (pc := 4) hK hr (xh_at _ _ _) (k := 15) rfl q741 dX2_goesFreely_4 ?_
    refine g_icmp_ge hΓ (pc := 7) (tgt := 21) dX2_goesFreely_7 (by decide) (fun c1 => ?_) (fun c1 => ?_)
    · have hf := ifP hf c1
      refine g_aload_n hΓ (pc := 21) 0 (i := 0) dX2_goesFreely_21 rfl rfl ?_
      refine g_dup hΓ (pc := 22) dX2_goesFreely_22 rfl ?_
      refine qx_hget hΓ (pc := 23) hK hr (xh_at _ _ _) (k := 17) rfl q745 dX2_goesFreely_23 ?_
      refine g_iconst hΓ (pc := 26) (v := 1) dX2_goesFreely_26 (by decide) ?_
      refine g_iadd hΓ (pc := 27) dX2_goesFreely_27 ?_
      obtain ⟨h2, hh2, hf⟩ := bindE hf
      refine qx_hput hΓ (pc := 28) hK hr (xh_at _ _ _) rfl hh2 (xh_xh _ _ _ _) q745 dX2_goesFreely_28 ?_
      refine g_wid (by omega) (by omega) (c2 := 7) (s2 := 7) ?_
      exact qh_vret hΓ hf dX2_goesFreely_31
    · have hf := ifN hf c1
      refine g_aload_n hΓ (pc := 10) 0 (i := 0) dX2_goesFreely_10 rfl rfl ?_
      refine g_iload_n hΓ (pc := 11) 1 (i := 1) dX2_goesFreely_11 rfl rfl ?_
      obtain ⟨h3, hh3, hf⟩ := bindE hf
      refine qx_callH hΓ (pc := 12) hK hr 1 (As := [.int y1]) (metH_goesOn _ hr hh3) (lw_V q368 q370 qs8 q55 q372) (by decide +kernel) (by decide) ⟨by show (0 + (7 - (n2 + 1)) * 1) + 1 ≤ 7; omega, by show (0 + (7 - (n2 + 1)) * 1) + 1 ≤ 7; omega⟩ rfl rfl (Nat.le_of_ble_eq_true rfl) dX2_goesFreely_12 ?_
      refine g_wid (by omega) (by omega) (c2 := (1 + (7 - (n2 + 1)) * 1)) (s2 := (1 + (7 - (n2 + 1)) * 1)) ?_
      obtain ⟨x4, hx4, hf⟩ := bindE hf
      refine g_iinc hΓ (pc := 15) 1 (i := 1) (v := x4) (lv' := [(1, .int x4), (0, .ref (ad (hB r 22)))]) dX2_goesFreely_15 rfl (Option.some.inj hx4) (by decide) rfl ?_
      refine g_goto hΓ (pc := 18) (tgt := 2) dX2_goesFreely_18 (by decide) ?_
      refine g_wid (by omega) (by omega) (c2 := (0 + (7 - n2) * 1)) (s2 := (0 + (7 - n2) * 1)) ?_
      exact g_sub [1, 0] rfl (hk2 _ _ hf)
  have L2 : ∀ (n2 : Nat) (hn : n2 ≤ 7) (h : HS) (y1 : Int32) (hf : H_goesFreely_2   n2 h y1 = some h'), WG Γ (XW D dA b ad P F gs (xh x r h)) (0 + (7 - n2) * 1) (0 + (7 - n2) * 1) 2 [(0, .ref (ad (hB r 22))), (1, .int y1)] [] := by
    intro  n2
    induction n2 with
    | zero => intro hn h y1 hf; exact nomatch (show (none : Option (HS)) = some _ from hf)
    | succ n2 ih => intro hn; exact S2  n2 hn _ (ih (by omega))
  refine g_iconst hΓ (pc := 0) (v := 0) dX2_goesFreely_0 (by decide) ?_
  refine g_istore_n hΓ (pc := 1) (i := 1) (lv' := [(1, .int (0 : Int32)), (0, .ref (ad (hB r 22)))]) dX2_goesFreely_1 rfl (by decide) rfl ?_
  exact g_sub [1, 0] rfl (L2  7 (Nat.le_refl 7) _ _ hf)
def H_goesMinute (h : HS) : Option (Int32 × HS) :=
  if (h.2.2 17) = (999 : Int32) then (
    (zOk (0 : Int32)).bind fun u => some (u, h)
  ) else (
    (H_goesFreely h).bind fun h2 =>
    (zOk (1 : Int32)).bind fun u => some (u, h2)
  )
set_option maxHeartbeats 4000000 in
set_option maxRecDepth 100000 in
theorem metH_goesMinute (l : Launch) {D : va_G} {dA : Nat → ClassId} {b : Nat} {ad : Nat → Nat} {P : Nat → Prop} {F : Nat → va_E} {gs : List (Nat × (Nat × Int32))} {x : XS} {r : Nat} (hr : r < 4) {h h' : HS} {z : Int32} (hf : H_goesMinute h  = some (z, h')) : Met l yX2_goesMinute (ws_ yX2_goesMinute cX2_goesMinute 1 (some .boolean)) (rmx_ 9 264 7 7) (xP D dA b ad P F gs [.ref (ad (hB r 22))] (xh x r h)) (xQ D dA b ad P F gs (some (.int z)) (xh x r h')) 7 7 (fun q => b ≤ q) := by
  refine qx_met (by decide) RX2 rfl (Nat.le_of_ble_eq_true rfl) (fun Γ hΓ hK => ?_)
  refine g_sub [0] (lv' := [(0, .ref (ad (hB r 22)))]) rfl ?_
  refine g_aload_n hΓ (pc := 0) 0 (i := 0) dX2_goesMinute_0 rfl rfl ?_
  refine qx_hget hΓ (pc := 1) hK hr (xh_at _ _ _) (k := 17) rfl q745 dX2_goesMinute_1 ?_
  refine g_sipush hΓ (pc := 4) (v := 999) dX2_goesMinute_4 (by decide) ?_
  refine g_icmp_ne hΓ (pc := 7) (tgt := 12) dX2_goesMinute_7 (by decide) (fun c1 => ?_) (fun c1 => ?_)
  · have hf := ifN hf c1
    refine g_aload_n hΓ (pc := 12) 0 (i := 0) dX2_goesMinute_12 rfl rfl ?_
    obtain ⟨h2, hh2, hf⟩ := bindE hf
    refine qx_callH hΓ (pc := 13) hK hr 0 (As := []) (metH_goesFreely _ hr hh2) (lw_V q364 q365 q366 q55 q367) (by decide +kernel) (by decide) ⟨by show 0 + 7 ≤ 7; omega, by show 0 + 7 ≤ 7; omega⟩ rfl rfl (Nat.le_of_ble_eq_true rfl) dX2_goesMinute_13 ?_
    refine g_wid (by omega) (by omega) (c2 := 7) (s2 := 7) ?_
    refine g_iconst hΓ (pc := 16) (v := 1) dX2_goesMinute_16 (by decide) ?_
    exact qh_zret hΓ hf dX2_goesMinute_17
  · have hf := ifP hf c1
    refine g_iconst hΓ (pc := 10) (v := 0) dX2_goesMinute_10 (by decide) ?_
    refine g_wid (by omega) (by omega) (c2 := 7) (s2 := 7) ?_
    exact qh_zret hΓ hf dX2_goesMinute_11
def H_isEmptySomewhere_2s (h : HS) (k2 : Int32 → Option (Int32)) (y1 : Int32) : Option (Int32) :=
  if (h.2.2 14) ≤ y1 then (
    zOk (0 : Int32)
  ) else (
    (hR h 2 y1).bind fun x2 =>
    if x2 = (20 : Int32) then (
      (some (y1 + 1)).bind fun x4 =>
      k2 x4
    ) else (
      (hR h 1 y1).bind fun x5 =>
      if x5 = 0 then (
        zOk (1 : Int32)
      ) else (
        (some (y1 + 1)).bind fun x7 =>
        k2 x7
      )
    )
  )
def H_isEmptySomewhere_2 (h : HS) : Nat → Int32 → Option (Int32)
  | 0 => fun _ => none
  | n + 1 => H_isEmptySomewhere_2s h  (H_isEmptySomewhere_2 h  n)
def H_isEmptySomewhere (h : HS) : Option (Int32) :=
  H_isEmptySomewhere_2 h 13 (0 : Int32)
set_option maxHeartbeats 4000000 in
set_option maxRecDepth 100000 in
theorem metH_isEmptySomewhere (l : Launch) {D : va_G} {dA : Nat → ClassId} {b : Nat} {ad : Nat → Nat} {P : Nat → Prop} {F : Nat → va_E} {gs : List (Nat × (Nat × Int32))} {x : XS} {r : Nat} (hr : r < 4) {h : HS} {z : Int32} (hf : H_isEmptySomewhere h  = some z) : Met l yX2_isEmptySomewhere (ws_ yX2_isEmptySomewhere cX2_isEmptySomewhere 2 (some .boolean)) (rmx_ 0 0 0 0) (xP D dA b ad P F gs [.ref (ad (hB r 22))] (xh x r h)) (xQ D dA b ad P F gs (some (.int z)) (xh x r h)) 0 0 (fun q => b ≤ q) := by
  refine qx_met (by decide) RX2 rfl (Nat.le_of_ble_eq_true rfl) (fun Γ hΓ hK => ?_)
  refine g_sub [0] (lv' := [(0, .ref (ad (hB r 22)))]) rfl ?_
  have S2 : ∀ (k2 : Int32 → Option (Int32)) (hk2 : ∀ (y1 : Int32), k2 y1 = some z → WG Γ (XW D dA b ad P F gs (xh x r h)) 0 0 2 [(0, .ref (ad (hB r 22))), (1, .int y1)] []) (y1 : Int32) (hf : H_isEmptySomewhere_2s h k2 y1 = some z), WG Γ (XW D dA b ad P F gs (xh x r h)) 0 0 2 [(0, .ref (ad (hB r 22))), (1, .int y1)] [] := by
    intro k2 hk2 y1 hf
    refine g_iload_n hΓ (pc := 2) 1 (i := 1) dX2_isEmptySomewhere_2 rfl rfl ?_
    refine g_aload_n hΓ (pc := 3) 0 (i := 0) dX2_isEmptySomewhere_3 rfl rfl ?_
    refine qx_hget hΓ (pc := 4) hK hr (xh_at _ _ _) (k := 14) rfl q739 dX2_isEmptySomewhere_4 ?_
    refine g_icmp_ge hΓ (pc := 7) (tgt := 38) dX2_isEmptySomewhere_7 (by decide) (fun c1 => ?_) (fun c1 => ?_)
    · have hf := ifP hf c1
      refine g_iconst hΓ (pc := 38) (v := 0) dX2_isEmptySomewhere_38 (by decide) ?_
      exact qh_zretR hΓ hf dX2_isEmptySomewhere_39
    · have hf := ifN hf c1
      refine g_aload_n hΓ (pc := 10) 0 (i := 0) dX2_isEmptySomewhere_10 rfl rfl ?_
      refine qx_hgeta hΓ (pc := 11) hK hr (k := 2) rfl q715 dX2_isEmptySomewhere_11 ?_
      refine g_iload_n hΓ (pc := 14) 1 (i := 1) dX2_isEmptySomewhere_14 rfl rfl ?_
      obtain ⟨x2, hx2, hf⟩ := bindE hf
      refine qx_iald hΓ (pc := 15) hK hr (xh_at _ _ _) rfl hx2 dX2_isEmptySomewhere_15 ?_
      refine g_bipush hΓ (pc := 16) (v := 20) dX2_isEmptySomewhere_16 (by decide) ?_
      refine g_icmp_eq hΓ (pc := 18) (tgt := 32) dX2_isEmptySomewhere_18 (by decide) (fun c3 => ?_) (fun c3 => ?_)
      · have hf := ifP hf c3
        obtain ⟨x4, hx4, hf⟩ := bindE hf
        refine g_iinc hΓ (pc := 32) 1 (i := 1) (v := x4) (lv' := [(1, .int x4), (0, .ref (ad (hB r 22)))]) dX2_isEmptySomewhere_32 rfl (Option.some.inj hx4) (by decide) rfl ?_
        refine g_goto hΓ (pc := 35) (tgt := 2) dX2_isEmptySomewhere_35 (by decide) ?_
        exact g_sub [1, 0] rfl (hk2 _ hf)
      · have hf := ifN hf c3
        refine g_aload_n hΓ (pc := 21) 0 (i := 0) dX2_isEmptySomewhere_21 rfl rfl ?_
        refine qx_hgeta hΓ (pc := 22) hK hr (k := 1) rfl q713 dX2_isEmptySomewhere_22 ?_
        refine g_iload_n hΓ (pc := 25) 1 (i := 1) dX2_isEmptySomewhere_25 rfl rfl ?_
        obtain ⟨x5, hx5, hf⟩ := bindE hf
        refine qx_iald hΓ (pc := 26) hK hr (xh_at _ _ _) rfl hx5 dX2_isEmptySomewhere_26 ?_
        refine g_if_ne hΓ (pc := 27) (tgt := 32) dX2_isEmptySomewhere_27 (by decide) (fun c6 => ?_) (fun c6 => ?_)
        · have hf := ifN hf c6
          obtain ⟨x7, hx7, hf⟩ := bindE hf
          refine g_iinc hΓ (pc := 32) 1 (i := 1) (v := x7) (lv' := [(1, .int x7), (0, .ref (ad (hB r 22)))]) dX2_isEmptySomewhere_32 rfl (Option.some.inj hx7) (by decide) rfl ?_
          refine g_goto hΓ (pc := 35) (tgt := 2) dX2_isEmptySomewhere_35 (by decide) ?_
          exact g_sub [1, 0] rfl (hk2 _ hf)
        · have hf := ifP hf c6
          refine g_iconst hΓ (pc := 30) (v := 1) dX2_isEmptySomewhere_30 (by decide) ?_
          exact qh_zretR hΓ hf dX2_isEmptySomewhere_31
  have L2 : ∀ (n : Nat) (y1 : Int32) (hf : H_isEmptySomewhere_2 h  n y1 = some z), WG Γ (XW D dA b ad P F gs (xh x r h)) 0 0 2 [(0, .ref (ad (hB r 22))), (1, .int y1)] [] := by
    intro  n
    induction n with
    | zero => intro y1 hf; exact nomatch (show (none : Option (Int32)) = some _ from hf)
    | succ n ih => exact S2  _ ih
  refine g_iconst hΓ (pc := 0) (v := 0) dX2_isEmptySomewhere_0 (by decide) ?_
  refine g_istore_n hΓ (pc := 1) (i := 1) (lv' := [(1, .int (0 : Int32)), (0, .ref (ad (hB r 22)))]) dX2_isEmptySomewhere_1 rfl (by decide) rfl ?_
  exact g_sub [1, 0] rfl (L2  13 _ hf)

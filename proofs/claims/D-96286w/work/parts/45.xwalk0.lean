set_option maxRecDepth 100000
def X_guest (x : XS) (a0 : Int32) (a1 : Int32) : Option (Int32) :=
  (H_isGuest (x.1 0) a0).bind fun x1 =>
  if x1 = 0 then (
    some (-1 : Int32)
  ) else (
    if a1 = (0 : Int32) then (
      (hR (x.1 0) 6 a0).bind fun x4 =>
      some x4
    ) else (
    if a1 = (1 : Int32) then (
      (hR (x.1 0) 7 a0).bind fun x6 =>
      some x6
    ) else (
    if a1 = (2 : Int32) then (
      (hR (x.1 0) 8 a0).bind fun x8 =>
      some x8
    ) else (
    if a1 = (3 : Int32) then (
      (hR (x.1 0) 9 a0).bind fun x10 =>
      some x10
    ) else (
    if a1 = (4 : Int32) then (
      (hR (x.1 0) 10 a0).bind fun x12 =>
      some x12
    ) else (
    if a1 = (5 : Int32) then (
      (hR (x.1 0) 11 a0).bind fun x14 =>
      some x14
    ) else (
    if a1 = (6 : Int32) then (
      (hR (x.1 0) 12 a0).bind fun x16 =>
      some x16
    ) else (
    if a1 = (7 : Int32) then (
      (hR (x.1 0) 13 a0).bind fun x18 =>
      some x18
    ) else (
    if a1 = (8 : Int32) then (
      some ((((x.1 0).2.2 18) >>> (a0 &&& 31)) &&& (1 : Int32))
    ) else (
    some (-1 : Int32)
    )
    )
    )
    )
    )
    )
    )
    )
    )
  )
set_option maxHeartbeats 4000000 in
set_option maxRecDepth 100000 in
theorem metX_guest (l : Launch) {D : va_G} {dA : Nat → ClassId} {b : Nat} {ad : Nat → Nat} {P : Nat → Prop} {F : Nat → va_E} {gs : List (Nat × (Nat × Int32))} {x : XS} {a0 : Int32} {a1 : Int32} {z : Int32} (hf : X_guest x a0 a1 = some z) : Met l yX1_guest (ws_ yX1_guest cX1_guest 3 (some .int)) (rmx_ 2 43 0 0) (xP D dA b ad P F gs [.ref (ad 0), .int a0, .int a1] x) (xQ D dA b ad P F gs (some (.int z)) x) 0 0 (fun q => b ≤ q) := by
  refine qx_met (by decide) RX1 rfl (Nat.le_of_ble_eq_true rfl) (fun Γ hΓ hK => ?_)
  refine g_sub [0, 1, 2] (lv' := [(0, .ref (ad 0)), (1, .int a0), (2, .int a1)]) rfl ?_
  refine g_aload_n hΓ (pc := 0) 0 (i := 0) dX1_guest_0 rfl rfl ?_
  refine qX_house hΓ (pc := 1) hK 0 (by decide) q812 dX1_guest_1 ?_
  refine g_iload_n hΓ (pc := 4) 1 (i := 1) dX1_guest_4 rfl rfl ?_
  obtain ⟨x1, hx1, hf⟩ := bindE hf
  refine qX_callH hΓ (pc := 5) hK (r := 0) (by decide) 1 (As := [.int a0]) (metH_isGuest _ (r := 0) (by decide) hx1) (lw_V q343 q344 q345 q55 q346) (by decide +kernel) (by decide) ⟨by show 0 + 0 ≤ 0; omega, by show 0 + 0 ≤ 0; omega⟩ rfl rfl (Nat.le_of_ble_eq_true rfl) dX1_guest_5 ?_
  refine g_xs ?_
  refine g_if_ne hΓ (pc := 8) (tgt := 13) dX1_guest_8 (by decide) (fun c2 => ?_) (fun c2 => ?_)
  · have hf := ifN hf c2
    refine g_iload_n hΓ (pc := 13) 2 (i := 2) dX1_guest_13 rfl rfl ?_
    by_cases c3 : a1 = (0 : Int32)
    · have hf := ifP hf c3
      refine g_tswC hΓ (pc := 14) (tgt := 64) (0) dX1_guest_14 (by rw [c3]; decide) (by decide) (by decide) rfl (by decide) ?_
      refine g_aload_n hΓ (pc := 64) 0 (i := 0) dX1_guest_64 rfl rfl ?_
      refine qX_house hΓ (pc := 65) hK 0 (by decide) q812 dX1_guest_65 ?_
      refine qx_hgeta hΓ (pc := 68) hK (r := 0) (by decide) (k := 6) rfl q724 dX1_guest_68 ?_
      refine g_iload_n hΓ (pc := 71) 1 (i := 1) dX1_guest_71 rfl rfl ?_
      obtain ⟨x4, hx4, hf⟩ := bindE hf
      refine qx_iald hΓ (pc := 72) hK (r := 0) (by decide) rfl rfl hx4 dX1_guest_72 ?_
      exact qX_iretR hΓ hf dX1_guest_73
    · have hf := ifN hf c3
      by_cases c5 : a1 = (1 : Int32)
      · have hf := ifP hf c5
        refine g_tswC hΓ (pc := 14) (tgt := 74) (1) dX1_guest_14 (by rw [c5]; decide) (by decide) (by decide) rfl (by decide) ?_
        refine g_aload_n hΓ (pc := 74) 0 (i := 0) dX1_guest_74 rfl rfl ?_
        refine qX_house hΓ (pc := 75) hK 0 (by decide) q812 dX1_guest_75 ?_
        refine qx_hgeta hΓ (pc := 78) hK (r := 0) (by decide) (k := 7) rfl q726 dX1_guest_78 ?_
        refine g_iload_n hΓ (pc := 81) 1 (i := 1) dX1_guest_81 rfl rfl ?_
        obtain ⟨x6, hx6, hf⟩ := bindE hf
        refine qx_iald hΓ (pc := 82) hK (r := 0) (by decide) rfl rfl hx6 dX1_guest_82 ?_
        exact qX_iretR hΓ hf dX1_guest_83
      · have hf := ifN hf c5
        by_cases c7 : a1 = (2 : Int32)
        · have hf := ifP hf c7
          refine g_tswC hΓ (pc := 14) (tgt := 84) (2) dX1_guest_14 (by rw [c7]; decide) (by decide) (by decide) rfl (by decide) ?_
          refine g_aload_n hΓ (pc := 84) 0 (i := 0) dX1_guest_84 rfl rfl ?_
          refine qX_house hΓ (pc := 85) hK 0 (by decide) q812 dX1_guest_85 ?_
          refine qx_hgeta hΓ (pc := 88) hK (r := 0) (by decide) (k := 8) rfl q728 dX1_guest_88 ?_
          refine g_iload_n hΓ (pc := 91) 1 (i := 1) dX1_guest_91 rfl rfl ?_
          obtain ⟨x8, hx8, hf⟩ := bindE hf
          refine qx_iald hΓ (pc := 92) hK (r := 0) (by decide) rfl rfl hx8 dX1_guest_92 ?_
          exact qX_iretR hΓ hf dX1_guest_93
        · have hf := ifN hf c7
          by_cases c9 : a1 = (3 : Int32)
          · have hf := ifP hf c9
            refine g_tswC hΓ (pc := 14) (tgt := 94) (3) dX1_guest_14 (by rw [c9]; decide) (by decide) (by decide) rfl (by decide) ?_
            refine g_aload_n hΓ (pc := 94) 0 (i := 0) dX1_guest_94 rfl rfl ?_
            refine qX_house hΓ (pc := 95) hK 0 (by decide) q812 dX1_guest_95 ?_
            refine qx_hgeta hΓ (pc := 98) hK (r := 0) (by decide) (k := 9) rfl q730 dX1_guest_98 ?_
            refine g_iload_n hΓ (pc := 101) 1 (i := 1) dX1_guest_101 rfl rfl ?_
            obtain ⟨x10, hx10, hf⟩ := bindE hf
            refine qx_iald hΓ (pc := 102) hK (r := 0) (by decide) rfl rfl hx10 dX1_guest_102 ?_
            exact qX_iretR hΓ hf dX1_guest_103
          · have hf := ifN hf c9
            by_cases c11 : a1 = (4 : Int32)
            · have hf := ifP hf c11
              refine g_tswC hΓ (pc := 14) (tgt := 104) (4) dX1_guest_14 (by rw [c11]; decide) (by decide) (by decide) rfl (by decide) ?_
              refine g_aload_n hΓ (pc := 104) 0 (i := 0) dX1_guest_104 rfl rfl ?_
              refine qX_house hΓ (pc := 105) hK 0 (by decide) q812 dX1_guest_105 ?_
              refine qx_hgeta hΓ (pc := 108) hK (r := 0) (by decide) (k := 10) rfl q732 dX1_guest_108 ?_
              refine g_iload_n hΓ (pc := 111) 1 (i := 1) dX1_guest_111 rfl rfl ?_
              obtain ⟨x12, hx12, hf⟩ := bindE hf
              refine qx_iald hΓ (pc := 112) hK (r := 0) (by decide) rfl rfl hx12 dX1_guest_112 ?_
              exact qX_iretR hΓ hf dX1_guest_113
            · have hf := ifN hf c11
              by_cases c13 : a1 = (5 : Int32)
              · have hf := ifP hf c13
                refine g_tswC hΓ (pc := 14) (tgt := 114) (5) dX1_guest_14 (by rw [c13]; decide) (by decide) (by decide) rfl (by decide) ?_
                refine g_aload_n hΓ (pc := 114) 0 (i := 0) dX1_guest_114 rfl rfl ?_
                refine qX_house hΓ (pc := 115) hK 0 (by decide) q812 dX1_guest_115 ?_
                refine qx_hgeta hΓ (pc := 118) hK (r := 0) (by decide) (k := 11) rfl q734 dX1_guest_118 ?_
                refine g_iload_n hΓ (pc := 121) 1 (i := 1) dX1_guest_121 rfl rfl ?_
                obtain ⟨x14, hx14, hf⟩ := bindE hf
                refine qx_iald hΓ (pc := 122) hK (r := 0) (by decide) rfl rfl hx14 dX1_guest_122 ?_
                exact qX_iretR hΓ hf dX1_guest_123
              · have hf := ifN hf c13
                by_cases c15 : a1 = (6 : Int32)
                · have hf := ifP hf c15
                  refine g_tswC hΓ (pc := 14) (tgt := 124) (6) dX1_guest_14 (by rw [c15]; decide) (by decide) (by decide) rfl (by decide) ?_
                  refine g_aload_n hΓ (pc := 124) 0 (i := 0) dX1_guest_124 rfl rfl ?_
                  refine qX_house hΓ (pc := 125) hK 0 (by decide) q812 dX1_guest_125 ?_
                  refine qx_hgeta hΓ (pc := 128) hK (r := 0) (by decide) (k := 12) rfl q736 dX1_guest_128 ?_
                  refine g_iload_n hΓ (pc := 131) 1 (i := 1) dX1_guest_131 rfl rfl ?_
                  obtain ⟨x16, hx16, hf⟩ := bindE hf
                  refine qx_iald hΓ (pc := 132) hK (r := 0) (by decide) rfl rfl hx16 dX1_guest_132 ?_
                  exact qX_iretR hΓ hf dX1_guest_133
                · have hf := ifN hf c15
                  by_cases c17 : a1 = (7 : Int32)
                  · have hf := ifP hf c17
                    refine g_tswC hΓ (pc := 14) (tgt := 134) (7) dX1_guest_14 (by rw [c17]; decide) (by decide) (by decide) rfl (by decide) ?_
                    refine g_aload_n hΓ (pc := 134) 0 (i := 0) dX1_guest_134 rfl rfl ?_
                    refine qX_house hΓ (pc := 135) hK 0 (by decide) q812 dX1_guest_135 ?_
                    refine qx_hgeta hΓ (pc := 138) hK (r := 0) (by decide) (k := 13) rfl q738 dX1_guest_138 ?_
                    refine g_iload_n hΓ (pc := 141) 1 (i := 1) dX1_guest_141 rfl rfl ?_
                    obtain ⟨x18, hx18, hf⟩ := bindE hf
                    refine qx_iald hΓ (pc := 142) hK (r := 0) (by decide) rfl rfl hx18 dX1_guest_142 ?_
                    exact qX_iretR hΓ hf dX1_guest_143
                  · have hf := ifN hf c17
                    by_cases c19 : a1 = (8 : Int32)
                    · have hf := ifP hf c19
                      refine g_tswC hΓ (pc := 14) (tgt := 144) (8) dX1_guest_14 (by rw [c19]; decide) (by decide) (by decide) rfl (by decide) ?_
                      refine g_aload_n hΓ (pc := 144) 0 (i := 0) dX1_guest_144 rfl rfl ?_
                      refine qX_house hΓ (pc := 145) hK 0 (by decide) q812 dX1_guest_145 ?_
                      refine qx_hget hΓ (pc := 148) hK (r := 0) (by decide) rfl (k := 18) rfl q748 dX1_guest_148 ?_
                      refine g_iload_n hΓ (pc := 151) 1 (i := 1) dX1_guest_151 rfl rfl ?_
                      refine g_ishr hΓ (pc := 152) dX1_guest_152 ?_
                      refine g_iconst hΓ (pc := 153) (v := 1) dX1_guest_153 (by decide) ?_
                      refine g_iand hΓ (pc := 154) dX1_guest_154 ?_
                      exact qX_iretR hΓ hf dX1_guest_155
                    · have hf := ifN hf c19
                      refine g_tswD hΓ (pc := 14) (tgt := 156) dX1_guest_14 (fun v h1 h2 h3 => ?_) (by decide) ?_
                      · rcases (by omega : v = 0 ∨ v = 1 ∨ v = 2 ∨ v = 3 ∨ v = 4 ∨ v = 5 ∨ v = 6 ∨ v = 7 ∨ v = 8) with rfl | rfl | rfl | rfl | rfl | rfl | rfl | rfl | rfl
                        · exact absurd h3 (lv_neT c3 (by decide))
                        · exact absurd h3 (lv_neT c5 (by decide))
                        · exact absurd h3 (lv_neT c7 (by decide))
                        · exact absurd h3 (lv_neT c9 (by decide))
                        · exact absurd h3 (lv_neT c11 (by decide))
                        · exact absurd h3 (lv_neT c13 (by decide))
                        · exact absurd h3 (lv_neT c15 (by decide))
                        · exact absurd h3 (lv_neT c17 (by decide))
                        · exact absurd h3 (lv_neT c19 (by decide))
                      · skip
                        refine g_iconst hΓ (pc := 156) (v := -1) dX1_guest_156 (by decide) ?_
                        exact qX_iretR hΓ hf dX1_guest_157
  · have hf := ifP hf c2
    refine g_iconst hΓ (pc := 11) (v := -1) dX1_guest_11 (by decide) ?_
    exact qX_iretR hΓ hf dX1_guest_12
def X_go (x : XS) (a0 : Int32) (a1 : Int32) : Option (Int32 × XS) :=
  (H_isGuest (x.1 0) a0).bind fun x1 =>
  if x1 = 0 then (
    some ((-1 : Int32), x)
  ) else (
    (S_isPlace a1).bind fun x3 =>
    if x3 = 0 then (
      some ((-1 : Int32), x)
    ) else (
      (hR (x.1 0) 10 a0).bind fun x5 =>
      (xhW x 0 10 a0 a1).bind fun x6 =>
      some (x5, x6)
    )
  )
set_option maxHeartbeats 4000000 in
set_option maxRecDepth 100000 in
theorem metX_go (l : Launch) {D : va_G} {dA : Nat → ClassId} {b : Nat} {ad : Nat → Nat} {P : Nat → Prop} {F : Nat → va_E} {gs : List (Nat × (Nat × Int32))} {x x' : XS} {a0 : Int32} {a1 : Int32} {z : Int32} (hf : X_go x a0 a1 = some (z, x')) : Met l yX1_go (ws_ yX1_go cX1_go 4 (some .int)) (rmx_ 2 43 0 0) (xP D dA b ad P F gs [.ref (ad 0), .int a0, .int a1] x) (xQ D dA b ad P F gs (some (.int z)) x') 0 0 (fun q => b ≤ q) := by
  refine qx_met (by decide) RX1 rfl (Nat.le_of_ble_eq_true rfl) (fun Γ hΓ hK => ?_)
  refine g_sub [0, 1, 2] (lv' := [(0, .ref (ad 0)), (1, .int a0), (2, .int a1)]) rfl ?_
  refine g_aload_n hΓ (pc := 0) 0 (i := 0) dX1_go_0 rfl rfl ?_
  refine qX_house hΓ (pc := 1) hK 0 (by decide) q812 dX1_go_1 ?_
  refine g_iload_n hΓ (pc := 4) 1 (i := 1) dX1_go_4 rfl rfl ?_
  obtain ⟨x1, hx1, hf⟩ := bindE hf
  refine qX_callH hΓ (pc := 5) hK (r := 0) (by decide) 1 (As := [.int a0]) (metH_isGuest _ (r := 0) (by decide) hx1) (lw_V q343 q344 q345 q55 q346) (by decide +kernel) (by decide) ⟨by show 0 + 0 ≤ 0; omega, by show 0 + 0 ≤ 0; omega⟩ rfl rfl (Nat.le_of_ble_eq_true rfl) dX1_go_5 ?_
  refine g_xs ?_
  refine g_if_eq hΓ (pc := 8) (tgt := 18) dX1_go_8 (by decide) (fun c2 => ?_) (fun c2 => ?_)
  · have hf := ifP hf c2
    refine g_iconst hΓ (pc := 18) (v := -1) dX1_go_18 (by decide) ?_
    exact qX_iret hΓ hf dX1_go_19
  · have hf := ifN hf c2
    refine g_iload_n hΓ (pc := 11) 2 (i := 2) dX1_go_11 rfl rfl ?_
    obtain ⟨x3, hx3, hf⟩ := bindE hf
    refine qg_callS hΓ (pc := 12) 1 (As := [.int a1]) (metS_isPlace _ hx3) (lw_S q254 q255 q54 q256) (by decide +kernel) ⟨by decide, by decide, ⟨by show 0 ≤ 0; omega, by show 0 ≤ 0; omega⟩⟩ rfl rfl (Nat.le_of_ble_eq_true rfl) dX1_go_12 ?_
    refine g_if_ne hΓ (pc := 15) (tgt := 20) dX1_go_15 (by decide) (fun c4 => ?_) (fun c4 => ?_)
    · have hf := ifN hf c4
      refine g_aload_n hΓ (pc := 20) 0 (i := 0) dX1_go_20 rfl rfl ?_
      refine qX_house hΓ (pc := 21) hK 0 (by decide) q812 dX1_go_21 ?_
      refine qx_hgeta hΓ (pc := 24) hK (r := 0) (by decide) (k := 10) rfl q732 dX1_go_24 ?_
      refine g_iload_n hΓ (pc := 27) 1 (i := 1) dX1_go_27 rfl rfl ?_
      obtain ⟨x5, hx5, hf⟩ := bindE hf
      refine qx_iald hΓ (pc := 28) hK (r := 0) (by decide) rfl rfl hx5 dX1_go_28 ?_
      refine g_istore_n hΓ (pc := 29) (i := 3) (lv' := [(3, .int x5), (0, .ref (ad 0)), (1, .int a0), (2, .int a1)]) dX1_go_29 rfl (by decide) rfl ?_
      refine g_aload_n hΓ (pc := 30) 1 (i := 0) dX1_go_30 rfl rfl ?_
      refine qX_house hΓ (pc := 31) hK 0 (by decide) q812 dX1_go_31 ?_
      refine qx_hgeta hΓ (pc := 34) hK (r := 0) (by decide) (k := 10) rfl q732 dX1_go_34 ?_
      refine g_iload_n hΓ (pc := 37) 2 (i := 1) dX1_go_37 rfl rfl ?_
      refine g_iload_n hΓ (pc := 38) 3 (i := 2) dX1_go_38 rfl rfl ?_
      obtain ⟨x6, hx6, hf⟩ := bindE hf
      refine qX_iast hΓ (pc := 39) hK (r := 0) (by decide) rfl hx6 dX1_go_39 ?_
      refine g_iload_n hΓ (pc := 40) 0 (i := 3) dX1_go_40 rfl rfl ?_
      exact qX_iret hΓ hf dX1_go_41
    · have hf := ifP hf c4
      refine g_iconst hΓ (pc := 18) (v := -1) dX1_go_18 (by decide) ?_
      exact qX_iret hΓ hf dX1_go_19
def X_sip (x : XS) (a0 : Int32) : Option (Int32 × XS) :=
  (H_isGuest (x.1 0) a0).bind fun x1 =>
  if x1 = 0 then (
    some ((-1 : Int32), x)
  ) else (
    (hR (x.1 0) 11 a0).bind fun x3 =>
    if x3 = (-4 : Int32) then (
      some ((-3 : Int32), x)
    ) else (
      (hR (x.1 0) 11 a0).bind fun x5 =>
      (hR (x.1 0) 1 x5).bind fun x6 =>
      if x6 = 0 then (
        some ((-3 : Int32), x)
      ) else (
        (H_sip (x.1 0) a0).bind fun q8 =>
        (some (xh x 0 q8.2)).bind fun x9 =>
        some (q8.1, x9)
      )
    )
  )
set_option maxHeartbeats 4000000 in
set_option maxRecDepth 100000 in
theorem metX_sip (l : Launch) {D : va_G} {dA : Nat → ClassId} {b : Nat} {ad : Nat → Nat} {P : Nat → Prop} {F : Nat → va_E} {gs : List (Nat × (Nat × Int32))} {x x' : XS} {a0 : Int32} {z : Int32} (hf : X_sip x a0 = some (z, x')) : Met l yX1_sip (ws_ yX1_sip cX1_sip 2 (some .int)) (rmx_ 5 176 0 0) (xP D dA b ad P F gs [.ref (ad 0), .int a0] x) (xQ D dA b ad P F gs (some (.int z)) x') 0 0 (fun q => b ≤ q) := by
  refine qx_met (by decide) RX1 rfl (Nat.le_of_ble_eq_true rfl) (fun Γ hΓ hK => ?_)
  refine g_sub [0, 1] (lv' := [(0, .ref (ad 0)), (1, .int a0)]) rfl ?_
  refine g_aload_n hΓ (pc := 0) 0 (i := 0) dX1_sip_0 rfl rfl ?_
  refine qX_house hΓ (pc := 1) hK 0 (by decide) q812 dX1_sip_1 ?_
  refine g_iload_n hΓ (pc := 4) 1 (i := 1) dX1_sip_4 rfl rfl ?_
  obtain ⟨x1, hx1, hf⟩ := bindE hf
  refine qX_callH hΓ (pc := 5) hK (r := 0) (by decide) 1 (As := [.int a0]) (metH_isGuest _ (r := 0) (by decide) hx1) (lw_V q343 q344 q345 q55 q346) (by decide +kernel) (by decide) ⟨by show 0 + 0 ≤ 0; omega, by show 0 + 0 ≤ 0; omega⟩ rfl rfl (Nat.le_of_ble_eq_true rfl) dX1_sip_5 ?_
  refine g_xs ?_
  refine g_if_ne hΓ (pc := 8) (tgt := 13) dX1_sip_8 (by decide) (fun c2 => ?_) (fun c2 => ?_)
  · have hf := ifN hf c2
    refine g_aload_n hΓ (pc := 13) 0 (i := 0) dX1_sip_13 rfl rfl ?_
    refine qX_house hΓ (pc := 14) hK 0 (by decide) q812 dX1_sip_14 ?_
    refine qx_hgeta hΓ (pc := 17) hK (r := 0) (by decide) (k := 11) rfl q734 dX1_sip_17 ?_
    refine g_iload_n hΓ (pc := 20) 1 (i := 1) dX1_sip_20 rfl rfl ?_
    obtain ⟨x3, hx3, hf⟩ := bindE hf
    refine qx_iald hΓ (pc := 21) hK (r := 0) (by decide) rfl rfl hx3 dX1_sip_21 ?_
    refine g_bipush hΓ (pc := 22) (v := -4) dX1_sip_22 (by decide) ?_
    refine g_icmp_eq hΓ (pc := 24) (tgt := 47) dX1_sip_24 (by decide) (fun c4 => ?_) (fun c4 => ?_)
    · have hf := ifP hf c4
      refine g_bipush hΓ (pc := 47) (v := -3) dX1_sip_47 (by decide) ?_
      refine g_goto hΓ (pc := 49) (tgt := 60) dX1_sip_49 (by decide) ?_
      exact qX_iret hΓ hf dX1_sip_60
    · have hf := ifN hf c4
      refine g_aload_n hΓ (pc := 27) 0 (i := 0) dX1_sip_27 rfl rfl ?_
      refine qX_house hΓ (pc := 28) hK 0 (by decide) q812 dX1_sip_28 ?_
      refine qx_hgeta hΓ (pc := 31) hK (r := 0) (by decide) (k := 1) rfl q714 dX1_sip_31 ?_
      refine g_aload_n hΓ (pc := 34) 0 (i := 0) dX1_sip_34 rfl rfl ?_
      refine qX_house hΓ (pc := 35) hK 0 (by decide) q812 dX1_sip_35 ?_
      refine qx_hgeta hΓ (pc := 38) hK (r := 0) (by decide) (k := 11) rfl q734 dX1_sip_38 ?_
      refine g_iload_n hΓ (pc := 41) 1 (i := 1) dX1_sip_41 rfl rfl ?_
      obtain ⟨x5, hx5, hf⟩ := bindE hf
      refine qx_iald hΓ (pc := 42) hK (r := 0) (by decide) rfl rfl hx5 dX1_sip_42 ?_
      obtain ⟨x6, hx6, hf⟩ := bindE hf
      refine qx_iald hΓ (pc := 43) hK (r := 0) (by decide) rfl rfl hx6 dX1_sip_43 ?_
      refine g_if_ne hΓ (pc := 44) (tgt := 52) dX1_sip_44 (by decide) (fun c7 => ?_) (fun c7 => ?_)
      · have hf := ifN hf c7
        refine g_aload_n hΓ (pc := 52) 0 (i := 0) dX1_sip_52 rfl rfl ?_
        refine qX_house hΓ (pc := 53) hK 0 (by decide) q812 dX1_sip_53 ?_
        refine g_iload_n hΓ (pc := 56) 1 (i := 1) dX1_sip_56 rfl rfl ?_
        obtain ⟨q8, hq8, hf⟩ := bindE hf
        refine qX_callH hΓ (pc := 57) hK (r := 0) (by decide) 1 (As := [.int a0]) (metH_sip _ (r := 0) (by decide) (z := q8.1) (h' := q8.2) hq8) (lw_V q539 q483 q484 q55 q485) (by decide +kernel) (by decide) ⟨by show 0 + 0 ≤ 0; omega, by show 0 + 0 ≤ 0; omega⟩ rfl rfl (Nat.le_of_ble_eq_true rfl) dX1_sip_57 ?_
        refine g_wid (by omega) (by omega) (c2 := 0) (s2 := 0) ?_
        obtain ⟨x9, hx9, hf⟩ := bindE hf
        refine g_xeq hx9 ?_
        exact qX_iret hΓ hf dX1_sip_60
      · have hf := ifP hf c7
        refine g_bipush hΓ (pc := 47) (v := -3) dX1_sip_47 (by decide) ?_
        refine g_goto hΓ (pc := 49) (tgt := 60) dX1_sip_49 (by decide) ?_
        exact qX_iret hΓ hf dX1_sip_60
  · have hf := ifP hf c2
    refine g_iconst hΓ (pc := 11) (v := -1) dX1_sip_11 (by decide) ?_
    exact qX_iret hΓ hf dX1_sip_12
def X_lay (x : XS) (a0 : Int32) : Option (Int32 × XS) :=
  (H_isGuest (x.1 0) a0).bind fun x1 =>
  if x1 = 0 then (
    some ((-1 : Int32), x)
  ) else (
    (hR (x.1 0) 11 a0).bind fun x3 =>
    if x3 = (-4 : Int32) then (
      some ((-3 : Int32), x)
    ) else (
      (H_lay (x.1 0) a0).bind fun q5 =>
      (some (xh x 0 q5.2)).bind fun x6 =>
      some (q5.1, x6)
    )
  )
set_option maxHeartbeats 4000000 in
set_option maxRecDepth 100000 in
theorem metX_lay (l : Launch) {D : va_G} {dA : Nat → ClassId} {b : Nat} {ad : Nat → Nat} {P : Nat → Prop} {F : Nat → va_E} {gs : List (Nat × (Nat × Int32))} {x x' : XS} {a0 : Int32} {z : Int32} (hf : X_lay x a0 = some (z, x')) : Met l yX1_lay (ws_ yX1_lay cX1_lay 2 (some .int)) (rmx_ 2 43 0 0) (xP D dA b ad P F gs [.ref (ad 0), .int a0] x) (xQ D dA b ad P F gs (some (.int z)) x') 0 0 (fun q => b ≤ q) := by
  refine qx_met (by decide) RX1 rfl (Nat.le_of_ble_eq_true rfl) (fun Γ hΓ hK => ?_)
  refine g_sub [0, 1] (lv' := [(0, .ref (ad 0)), (1, .int a0)]) rfl ?_
  refine g_aload_n hΓ (pc := 0) 0 (i := 0) dX1_lay_0 rfl rfl ?_
  refine qX_house hΓ (pc := 1) hK 0 (by decide) q812 dX1_lay_1 ?_
  refine g_iload_n hΓ (pc := 4) 1 (i := 1) dX1_lay_4 rfl rfl ?_
  obtain ⟨x1, hx1, hf⟩ := bindE hf
  refine qX_callH hΓ (pc := 5) hK (r := 0) (by decide) 1 (As := [.int a0]) (metH_isGuest _ (r := 0) (by decide) hx1) (lw_V q343 q344 q345 q55 q346) (by decide +kernel) (by decide) ⟨by show 0 + 0 ≤ 0; omega, by show 0 + 0 ≤ 0; omega⟩ rfl rfl (Nat.le_of_ble_eq_true rfl) dX1_lay_5 ?_
  refine g_xs ?_
  refine g_if_ne hΓ (pc := 8) (tgt := 13) dX1_lay_8 (by decide) (fun c2 => ?_) (fun c2 => ?_)
  · have hf := ifN hf c2
    refine g_aload_n hΓ (pc := 13) 0 (i := 0) dX1_lay_13 rfl rfl ?_
    refine qX_house hΓ (pc := 14) hK 0 (by decide) q812 dX1_lay_14 ?_
    refine qx_hgeta hΓ (pc := 17) hK (r := 0) (by decide) (k := 11) rfl q734 dX1_lay_17 ?_
    refine g_iload_n hΓ (pc := 20) 1 (i := 1) dX1_lay_20 rfl rfl ?_
    obtain ⟨x3, hx3, hf⟩ := bindE hf
    refine qx_iald hΓ (pc := 21) hK (r := 0) (by decide) rfl rfl hx3 dX1_lay_21 ?_
    refine g_bipush hΓ (pc := 22) (v := -4) dX1_lay_22 (by decide) ?_
    refine g_icmp_ne hΓ (pc := 24) (tgt := 32) dX1_lay_24 (by decide) (fun c4 => ?_) (fun c4 => ?_)
    · have hf := ifN hf c4
      refine g_aload_n hΓ (pc := 32) 0 (i := 0) dX1_lay_32 rfl rfl ?_
      refine qX_house hΓ (pc := 33) hK 0 (by decide) q812 dX1_lay_33 ?_
      refine g_iload_n hΓ (pc := 36) 1 (i := 1) dX1_lay_36 rfl rfl ?_
      obtain ⟨q5, hq5, hf⟩ := bindE hf
      refine qX_callH hΓ (pc := 37) hK (r := 0) (by decide) 1 (As := [.int a0]) (metH_lay _ (r := 0) (by decide) (z := q5.1) (h' := q5.2) hq5) (lw_V q544 q514 q515 q55 q516) (by decide +kernel) (by decide) ⟨by show 0 + 0 ≤ 0; omega, by show 0 + 0 ≤ 0; omega⟩ rfl rfl (Nat.le_of_ble_eq_true rfl) dX1_lay_37 ?_
      refine g_wid (by omega) (by omega) (c2 := 0) (s2 := 0) ?_
      obtain ⟨x6, hx6, hf⟩ := bindE hf
      refine g_xeq hx6 ?_
      exact qX_iret hΓ hf dX1_lay_40
    · have hf := ifP hf c4
      refine g_bipush hΓ (pc := 27) (v := -3) dX1_lay_27 (by decide) ?_
      refine g_goto hΓ (pc := 29) (tgt := 40) dX1_lay_29 (by decide) ?_
      exact qX_iret hΓ hf dX1_lay_40
  · have hf := ifP hf c2
    refine g_iconst hΓ (pc := 11) (v := -1) dX1_lay_11 (by decide) ?_
    exact qX_iret hΓ hf dX1_lay_12
def X_take (x : XS) (a0 : Int32) : Option (Int32 × XS) :=
  (H_isGuest (x.1 0) a0).bind fun x1 =>
  if x1 = 0 then (
    some ((-1 : Int32), x)
  ) else (
    (hR (x.1 0) 11 a0).bind fun x3 =>
    if x3 = (-4 : Int32) then (
      (H_take (x.1 0) a0).bind fun q5 =>
      (some (xh x 0 q5.2)).bind fun x6 =>
      some (q5.1, x6)
    ) else (
      some ((-3 : Int32), x)
    )
  )
set_option maxHeartbeats 4000000 in
set_option maxRecDepth 100000 in
theorem metX_take (l : Launch) {D : va_G} {dA : Nat → ClassId} {b : Nat} {ad : Nat → Nat} {P : Nat → Prop} {F : Nat → va_E} {gs : List (Nat × (Nat × Int32))} {x x' : XS} {a0 : Int32} {z : Int32} (hf : X_take x a0 = some (z, x')) : Met l yX1_take (ws_ yX1_take cX1_take 2 (some .int)) (rmx_ 7 222 1 1) (xP D dA b ad P F gs [.ref (ad 0), .int a0] x) (xQ D dA b ad P F gs (some (.int z)) x') 1 1 (fun q => b ≤ q) := by
  refine qx_met (by decide) RX1 rfl (Nat.le_of_ble_eq_true rfl) (fun Γ hΓ hK => ?_)
  refine g_sub [0, 1] (lv' := [(0, .ref (ad 0)), (1, .int a0)]) rfl ?_
  refine g_aload_n hΓ (pc := 0) 0 (i := 0) dX1_take_0 rfl rfl ?_
  refine qX_house hΓ (pc := 1) hK 0 (by decide) q812 dX1_take_1 ?_
  refine g_iload_n hΓ (pc := 4) 1 (i := 1) dX1_take_4 rfl rfl ?_
  obtain ⟨x1, hx1, hf⟩ := bindE hf
  refine qX_callH hΓ (pc := 5) hK (r := 0) (by decide) 1 (As := [.int a0]) (metH_isGuest _ (r := 0) (by decide) hx1) (lw_V q343 q344 q345 q55 q346) (by decide +kernel) (by decide) ⟨by show 0 + 0 ≤ 1; omega, by show 0 + 0 ≤ 1; omega⟩ rfl rfl (Nat.le_of_ble_eq_true rfl) dX1_take_5 ?_
  refine g_xs ?_
  refine g_if_ne hΓ (pc := 8) (tgt := 13) dX1_take_8 (by decide) (fun c2 => ?_) (fun c2 => ?_)
  · have hf := ifN hf c2
    refine g_aload_n hΓ (pc := 13) 0 (i := 0) dX1_take_13 rfl rfl ?_
    refine qX_house hΓ (pc := 14) hK 0 (by decide) q812 dX1_take_14 ?_
    refine qx_hgeta hΓ (pc := 17) hK (r := 0) (by decide) (k := 11) rfl q734 dX1_take_17 ?_
    refine g_iload_n hΓ (pc := 20) 1 (i := 1) dX1_take_20 rfl rfl ?_
    obtain ⟨x3, hx3, hf⟩ := bindE hf
    refine qx_iald hΓ (pc := 21) hK (r := 0) (by decide) rfl rfl hx3 dX1_take_21 ?_
    refine g_bipush hΓ (pc := 22) (v := -4) dX1_take_22 (by decide) ?_
    refine g_icmp_eq hΓ (pc := 24) (tgt := 32) dX1_take_24 (by decide) (fun c4 => ?_) (fun c4 => ?_)
    · have hf := ifP hf c4
      refine g_aload_n hΓ (pc := 32) 0 (i := 0) dX1_take_32 rfl rfl ?_
      refine qX_house hΓ (pc := 33) hK 0 (by decide) q812 dX1_take_33 ?_
      refine g_iload_n hΓ (pc := 36) 1 (i := 1) dX1_take_36 rfl rfl ?_
      obtain ⟨q5, hq5, hf⟩ := bindE hf
      refine qX_callH hΓ (pc := 37) hK (r := 0) (by decide) 1 (As := [.int a0]) (metH_take _ (r := 0) (by decide) (z := q5.1) (h' := q5.2) hq5) (lw_V q549 q378 q379 q55 q380) (by decide +kernel) (by decide) ⟨by show 0 + 1 ≤ 1; omega, by show 0 + 1 ≤ 1; omega⟩ rfl rfl (Nat.le_of_ble_eq_true rfl) dX1_take_37 ?_
      refine g_wid (by omega) (by omega) (c2 := 1) (s2 := 1) ?_
      obtain ⟨x6, hx6, hf⟩ := bindE hf
      refine g_xeq hx6 ?_
      exact qX_iret hΓ hf dX1_take_40
    · have hf := ifN hf c4
      refine g_bipush hΓ (pc := 27) (v := -3) dX1_take_27 (by decide) ?_
      refine g_goto hΓ (pc := 29) (tgt := 40) dX1_take_29 (by decide) ?_
      refine g_wid (by omega) (by omega) (c2 := 1) (s2 := 1) ?_
      exact qX_iret hΓ hf dX1_take_40
  · have hf := ifP hf c2
    refine g_iconst hΓ (pc := 11) (v := -1) dX1_take_11 (by decide) ?_
    refine g_wid (by omega) (by omega) (c2 := 1) (s2 := 1) ?_
    exact qX_iret hΓ hf dX1_take_12
def X_fill_13s (k13 : XS → Int32 → Int32 → Int32 → Option (Int32 × XS)) (x : XS) (y1 : Int32) (y2 : Int32) (y3 : Int32) : Option (Int32 × XS) :=
  if ((x.1 0).2.2 14) ≤ y3 then (
    some (y2, x)
  ) else (
    (hR (x.1 0) 2 y3).bind fun x2 =>
    if x2 = y1 then (
      (hR (x.1 0) 1 y3).bind fun x5 =>
      if x5 < (5 : Int32) then (
        (xhW x 0 1 y3 (9 : Int32)).bind fun x7 =>
        (some (y2 + 1)).bind fun x8 =>
        (some (y3 + 1)).bind fun x9 =>
        k13 x7 y1 x8 x9
      ) else (
        (some (y3 + 1)).bind fun x10 =>
        k13 x y1 y2 x10
      )
    ) else (
      (some (y3 + 1)).bind fun x4 =>
      k13 x y1 y2 x4
    )
  )
def X_fill_13 : Nat → XS → Int32 → Int32 → Int32 → Option (Int32 × XS)
  | 0 => fun _ _ _ _ => none
  | n + 1 => X_fill_13s   (X_fill_13   n)
def X_fill (x : XS) (a0 : Int32) : Option (Int32 × XS) :=
  (S_isPlace a0).bind fun x11 =>
  if x11 = 0 then (
    some ((-1 : Int32), x)
  ) else (
    X_fill_13 13 x a0 (0 : Int32) (0 : Int32)
  )
set_option maxHeartbeats 4000000 in
set_option maxRecDepth 100000 in
theorem metX_fill (l : Launch) {D : va_G} {dA : Nat → ClassId} {b : Nat} {ad : Nat → Nat} {P : Nat → Prop} {F : Nat → va_E} {gs : List (Nat × (Nat × Int32))} {x x' : XS} {a0 : Int32} {z : Int32} (hf : X_fill x a0 = some (z, x')) : Met l yX1_fill (ws_ yX1_fill cX1_fill 4 (some .int)) (rmx_ 2 42 0 0) (xP D dA b ad P F gs [.ref (ad 0), .int a0] x) (xQ D dA b ad P F gs (some (.int z)) x') 0 0 (fun q => b ≤ q) := by
  refine qx_met (by decide) RX1 rfl (Nat.le_of_ble_eq_true rfl) (fun Γ hΓ hK => ?_)
  refine g_sub [0, 1] (lv' := [(0, .ref (ad 0)), (1, .int a0)]) rfl ?_
  have S13 : ∀ (k13 : XS → Int32 → Int32 → Int32 → Option (Int32 × XS)) (hk13 : ∀ (x : XS) (y1 : Int32) (y2 : Int32) (y3 : Int32), k13 x y1 y2 y3 = some (z, x') → WG Γ (XW D dA b ad P F gs x) 0 0 13 [(0, .ref (ad 0)), (1, .int y1), (2, .int y2), (3, .int y3)] []) (x : XS) (y1 : Int32) (y2 : Int32) (y3 : Int32) (hf : X_fill_13s  k13 x y1 y2 y3 = some (z, x')), WG Γ (XW D dA b ad P F gs x) 0 0 13 [(0, .ref (ad 0)), (1, .int y1), (2, .int y2), (3, .int y3)] [] := by
    intro k13 hk13 x y1 y2 y3 hf
    refine g_iload_n hΓ (pc := 13) 3 (i := 3) dX1_fill_13 rfl rfl ?_
    refine g_aload_n hΓ (pc := 14) 0 (i := 0) dX1_fill_14 rfl rfl ?_
    refine qX_house hΓ (pc := 15) hK 0 (by decide) q812 dX1_fill_15 ?_
    refine qx_hget hΓ (pc := 18) hK (r := 0) (by decide) rfl (k := 14) rfl q740 dX1_fill_18 ?_
    refine g_icmp_ge hΓ (pc := 21) (tgt := 73) dX1_fill_21 (by decide) (fun c1 => ?_) (fun c1 => ?_)
    · have hf := ifP hf c1
      refine g_iload_n hΓ (pc := 73) 2 (i := 2) dX1_fill_73 rfl rfl ?_
      exact qX_iret hΓ hf dX1_fill_74
    · have hf := ifN hf c1
      refine g_aload_n hΓ (pc := 24) 0 (i := 0) dX1_fill_24 rfl rfl ?_
      refine qX_house hΓ (pc := 25) hK 0 (by decide) q812 dX1_fill_25 ?_
      refine qx_hgeta hΓ (pc := 28) hK (r := 0) (by decide) (k := 2) rfl q716 dX1_fill_28 ?_
      refine g_iload_n hΓ (pc := 31) 3 (i := 3) dX1_fill_31 rfl rfl ?_
      obtain ⟨x2, hx2, hf⟩ := bindE hf
      refine qx_iald hΓ (pc := 32) hK (r := 0) (by decide) rfl rfl hx2 dX1_fill_32 ?_
      refine g_iload_n hΓ (pc := 33) 1 (i := 1) dX1_fill_33 rfl rfl ?_
      refine g_icmp_ne hΓ (pc := 34) (tgt := 67) dX1_fill_34 (by decide) (fun c3 => ?_) (fun c3 => ?_)
      · have hf := ifN hf c3
        obtain ⟨x4, hx4, hf⟩ := bindE hf
        refine g_iinc hΓ (pc := 67) 3 (i := 3) (v := x4) (lv' := [(3, .int x4), (0, .ref (ad 0)), (1, .int y1), (2, .int y2)]) dX1_fill_67 rfl (Option.some.inj hx4) (by decide) rfl ?_
        refine g_goto hΓ (pc := 70) (tgt := 13) dX1_fill_70 (by decide) ?_
        exact g_sub [1, 2, 3, 0] rfl (hk13 _ _ _ _ hf)
      · have hf := ifP hf c3
        refine g_aload_n hΓ (pc := 37) 0 (i := 0) dX1_fill_37 rfl rfl ?_
        refine qX_house hΓ (pc := 38) hK 0 (by decide) q812 dX1_fill_38 ?_
        refine qx_hgeta hΓ (pc := 41) hK (r := 0) (by decide) (k := 1) rfl q714 dX1_fill_41 ?_
        refine g_iload_n hΓ (pc := 44) 3 (i := 3) dX1_fill_44 rfl rfl ?_
        obtain ⟨x5, hx5, hf⟩ := bindE hf
        refine qx_iald hΓ (pc := 45) hK (r := 0) (by decide) rfl rfl hx5 dX1_fill_45 ?_
        refine g_iconst hΓ (pc := 46) (v := 5) dX1_fill_46 (by decide) ?_
        refine g_icmp_lt hΓ (pc := 47) (tgt := 53) dX1_fill_47 (by decide) (fun c6 => ?_) (fun c6 => ?_)
        · have hf := ifP hf c6
          refine g_aload_n hΓ (pc := 53) 0 (i := 0) dX1_fill_53 rfl rfl ?_
          refine qX_house hΓ (pc := 54) hK 0 (by decide) q812 dX1_fill_54 ?_
          refine qx_hgeta hΓ (pc := 57) hK (r := 0) (by decide) (k := 1) rfl q714 dX1_fill_57 ?_
          refine g_iload_n hΓ (pc := 60) 3 (i := 3) dX1_fill_60 rfl rfl ?_
          refine g_bipush hΓ (pc := 61) (v := 9) dX1_fill_61 (by decide) ?_
          obtain ⟨x7, hx7, hf⟩ := bindE hf
          refine qX_iast hΓ (pc := 63) hK (r := 0) (by decide) rfl hx7 dX1_fill_63 ?_
          obtain ⟨x8, hx8, hf⟩ := bindE hf
          refine g_iinc hΓ (pc := 64) 2 (i := 2) (v := x8) (lv' := [(2, .int x8), (0, .ref (ad 0)), (1, .int y1), (3, .int y3)]) dX1_fill_64 rfl (Option.some.inj hx8) (by decide) rfl ?_
          obtain ⟨x9, hx9, hf⟩ := bindE hf
          refine g_iinc hΓ (pc := 67) 3 (i := 3) (v := x9) (lv' := [(3, .int x9), (2, .int x8), (0, .ref (ad 0)), (1, .int y1)]) dX1_fill_67 rfl (Option.some.inj hx9) (by decide) rfl ?_
          refine g_goto hΓ (pc := 70) (tgt := 13) dX1_fill_70 (by decide) ?_
          exact g_sub [2, 3, 1, 0] rfl (hk13 _ _ _ _ hf)
        · have hf := ifN hf c6
          refine g_goto hΓ (pc := 50) (tgt := 67) dX1_fill_50 (by decide) ?_
          obtain ⟨x10, hx10, hf⟩ := bindE hf
          refine g_iinc hΓ (pc := 67) 3 (i := 3) (v := x10) (lv' := [(3, .int x10), (0, .ref (ad 0)), (1, .int y1), (2, .int y2)]) dX1_fill_67 rfl (Option.some.inj hx10) (by decide) rfl ?_
          refine g_goto hΓ (pc := 70) (tgt := 13) dX1_fill_70 (by decide) ?_
          exact g_sub [1, 2, 3, 0] rfl (hk13 _ _ _ _ hf)
  have L13 : ∀ (n : Nat) (x : XS) (y1 : Int32) (y2 : Int32) (y3 : Int32) (hf : X_fill_13   n x y1 y2 y3 = some (z, x')), WG Γ (XW D dA b ad P F gs x) 0 0 13 [(0, .ref (ad 0)), (1, .int y1), (2, .int y2), (3, .int y3)] [] := by
    intro  n
    induction n with
    | zero => intro x y1 y2 y3 hf; exact nomatch (show (none : Option (Int32 × XS)) = some _ from hf)
    | succ n ih => exact S13  _ ih
  refine g_iload_n hΓ (pc := 0) 1 (i := 1) dX1_fill_0 rfl rfl ?_
  obtain ⟨x11, hx11, hf⟩ := bindE hf
  refine qg_callS hΓ (pc := 1) 1 (As := [.int a0]) (metS_isPlace _ hx11) (lw_S q254 q255 q54 q256) (by decide +kernel) ⟨by decide, by decide, ⟨by show 0 ≤ 0; omega, by show 0 ≤ 0; omega⟩⟩ rfl rfl (Nat.le_of_ble_eq_true rfl) dX1_fill_1 ?_
  refine g_if_ne hΓ (pc := 4) (tgt := 9) dX1_fill_4 (by decide) (fun c12 => ?_) (fun c12 => ?_)
  · have hf := ifN hf c12
    refine g_iconst hΓ (pc := 9) (v := 0) dX1_fill_9 (by decide) ?_
    refine g_istore_n hΓ (pc := 10) (i := 2) (lv' := [(2, .int (0 : Int32)), (0, .ref (ad 0)), (1, .int a0)]) dX1_fill_10 rfl (by decide) rfl ?_
    refine g_iconst hΓ (pc := 11) (v := 0) dX1_fill_11 (by decide) ?_
    refine g_istore_n hΓ (pc := 12) (i := 3) (lv' := [(3, .int (0 : Int32)), (2, .int (0 : Int32)), (0, .ref (ad 0)), (1, .int a0)]) dX1_fill_12 rfl (by decide) rfl ?_
    exact g_sub [2, 3, 1, 0] rfl (L13  13 _ _ _ _ hf)
  · have hf := ifP hf c12
    refine g_iconst hΓ (pc := 7) (v := -1) dX1_fill_7 (by decide) ?_
    exact qX_iret hΓ hf dX1_fill_8
def X_clear_24s (k24 : XS → Int32 → Int32 → Int32 → Int32 → Option (Int32 × XS)) (x : XS) (y1 : Int32) (y2 : Int32) (y3 : Int32) (y4 : Int32) : Option (Int32 × XS) :=
  if ((x.1 0).2.2 14) ≤ y4 then (
    some (y3, x)
  ) else (
    (hR (x.1 0) 2 y4).bind fun x2 =>
    if x2 = y1 then (
      (hR (x.1 0) 3 y4).bind fun x5 =>
      if y2 ≤ (((x.1 0).2.2 17) - x5) then (
        (H_sinks (x.1 0) y4).bind fun h7 =>
        (some (xh x 0 h7)).bind fun x8 =>
        (some (y3 + 1)).bind fun x9 =>
        (some (y4 + 1)).bind fun x10 =>
        k24 x8 y1 y2 x9 x10
      ) else (
        (some (y4 + 1)).bind fun x11 =>
        k24 x y1 y2 y3 x11
      )
    ) else (
      (some (y4 + 1)).bind fun x4 =>
      k24 x y1 y2 y3 x4
    )
  )
def X_clear_24 : Nat → XS → Int32 → Int32 → Int32 → Int32 → Option (Int32 × XS)
  | 0 => fun _ _ _ _ _ => none
  | n + 1 => X_clear_24s   (X_clear_24   n)
def X_clear (x : XS) (a0 : Int32) (a1 : Int32) : Option (Int32 × XS) :=
  (S_isPlace a0).bind fun x12 =>
  if x12 = 0 then (
    some ((-1 : Int32), x)
  ) else (
    (S_isIn a1 (0 : Int32) (99 : Int32)).bind fun x14 =>
    if x14 = 0 then (
      some ((-1 : Int32), x)
    ) else (
      X_clear_24 13 x a0 a1 (0 : Int32) (0 : Int32)
    )
  )
set_option maxHeartbeats 4000000 in
set_option maxRecDepth 100000 in
theorem metX_clear (l : Launch) {D : va_G} {dA : Nat → ClassId} {b : Nat} {ad : Nat → Nat} {P : Nat → Prop} {F : Nat → va_E} {gs : List (Nat × (Nat × Int32))} {x x' : XS} {a0 : Int32} {a1 : Int32} {z : Int32} (hf : X_clear x a0 a1 = some (z, x')) : Met l yX1_clear (ws_ yX1_clear cX1_clear 5 (some .int)) (rmx_ 2 42 0 0) (xP D dA b ad P F gs [.ref (ad 0), .int a0, .int a1] x) (xQ D dA b ad P F gs (some (.int z)) x') 0 0 (fun q => b ≤ q) := by
  refine qx_met (by decide) RX1 rfl (Nat.le_of_ble_eq_true rfl) (fun Γ hΓ hK => ?_)
  refine g_sub [0, 1, 2] (lv' := [(0, .ref (ad 0)), (1, .int a0), (2, .int a1)]) rfl ?_
  have S24 : ∀ (k24 : XS → Int32 → Int32 → Int32 → Int32 → Option (Int32 × XS)) (hk24 : ∀ (x : XS) (y1 : Int32) (y2 : Int32) (y3 : Int32) (y4 : Int32), k24 x y1 y2 y3 y4 = some (z, x') → WG Γ (XW D dA b ad P F gs x) 0 0 24 [(0, .ref (ad 0)), (1, .int y1), (2, .int y2), (3, .int y3), (4, .int y4)] []) (x : XS) (y1 : Int32) (y2 : Int32) (y3 : Int32) (y4 : Int32) (hf : X_clear_24s  k24 x y1 y2 y3 y4 = some (z, x')), WG Γ (XW D dA b ad P F gs x) 0 0 24 [(0, .ref (ad 0)), (1, .int y1), (2, .int y2), (3, .int y3), (4, .int y4)] [] := by
    intro k24 hk24 x y1 y2 y3 y4 hf
    refine g_iload hΓ (pc := 24) 4 (i := 4) dX1_clear_24 rfl ?_
    refine g_aload_n hΓ (pc := 26) 0 (i := 0) dX1_clear_26 rfl rfl ?_
    refine qX_house hΓ (pc := 27) hK 0 (by decide) q812 dX1_clear_27 ?_
    refine qx_hget hΓ (pc := 30) hK (r := 0) (by decide) rfl (k := 14) rfl q740 dX1_clear_30 ?_
    refine g_icmp_ge hΓ (pc := 33) (tgt := 93) dX1_clear_33 (by decide) (fun c1 => ?_) (fun c1 => ?_)
    · have hf := ifP hf c1
      refine g_iload_n hΓ (pc := 93) 3 (i := 3) dX1_clear_93 rfl rfl ?_
      exact qX_iret hΓ hf dX1_clear_94
    · have hf := ifN hf c1
      refine g_aload_n hΓ (pc := 36) 0 (i := 0) dX1_clear_36 rfl rfl ?_
      refine qX_house hΓ (pc := 37) hK 0 (by decide) q812 dX1_clear_37 ?_
      refine qx_hgeta hΓ (pc := 40) hK (r := 0) (by decide) (k := 2) rfl q716 dX1_clear_40 ?_
      refine g_iload hΓ (pc := 43) 4 (i := 4) dX1_clear_43 rfl ?_
      obtain ⟨x2, hx2, hf⟩ := bindE hf
      refine qx_iald hΓ (pc := 45) hK (r := 0) (by decide) rfl rfl hx2 dX1_clear_45 ?_
      refine g_iload_n hΓ (pc := 46) 1 (i := 1) dX1_clear_46 rfl rfl ?_
      refine g_icmp_ne hΓ (pc := 47) (tgt := 87) dX1_clear_47 (by decide) (fun c3 => ?_) (fun c3 => ?_)
      · have hf := ifN hf c3
        obtain ⟨x4, hx4, hf⟩ := bindE hf
        refine g_iinc hΓ (pc := 87) 4 (i := 4) (v := x4) (lv' := [(4, .int x4), (0, .ref (ad 0)), (1, .int y1), (2, .int y2), (3, .int y3)]) dX1_clear_87 rfl (Option.some.inj hx4) (by decide) rfl ?_
        refine g_goto hΓ (pc := 90) (tgt := 24) dX1_clear_90 (by decide) ?_
        exact g_sub [1, 2, 3, 4, 0] rfl (hk24 _ _ _ _ _ hf)
      · have hf := ifP hf c3
        refine g_aload_n hΓ (pc := 50) 0 (i := 0) dX1_clear_50 rfl rfl ?_
        refine qX_house hΓ (pc := 51) hK 0 (by decide) q812 dX1_clear_51 ?_
        refine qx_hget hΓ (pc := 54) hK (r := 0) (by decide) rfl (k := 17) rfl q746 dX1_clear_54 ?_
        refine g_aload_n hΓ (pc := 57) 0 (i := 0) dX1_clear_57 rfl rfl ?_
        refine qX_house hΓ (pc := 58) hK 0 (by decide) q812 dX1_clear_58 ?_
        refine qx_hgeta hΓ (pc := 61) hK (r := 0) (by decide) (k := 3) rfl q718 dX1_clear_61 ?_
        refine g_iload hΓ (pc := 64) 4 (i := 4) dX1_clear_64 rfl ?_
        obtain ⟨x5, hx5, hf⟩ := bindE hf
        refine qx_iald hΓ (pc := 66) hK (r := 0) (by decide) rfl rfl hx5 dX1_clear_66 ?_
        refine g_isub hΓ (pc := 67) dX1_clear_67 ?_
        refine g_iload_n hΓ (pc := 68) 2 (i := 2) dX1_clear_68 rfl rfl ?_
        refine g_icmp_ge hΓ (pc := 69) (tgt := 75) dX1_clear_69 (by decide) (fun c6 => ?_) (fun c6 => ?_)
        · have hf := ifP hf c6
          refine g_aload_n hΓ (pc := 75) 0 (i := 0) dX1_clear_75 rfl rfl ?_
          refine qX_house hΓ (pc := 76) hK 0 (by decide) q812 dX1_clear_76 ?_
          refine g_iload hΓ (pc := 79) 4 (i := 4) dX1_clear_79 rfl ?_
          obtain ⟨h7, hh7, hf⟩ := bindE hf
          refine qX_callH hΓ (pc := 81) hK (r := 0) (by decide) 1 (As := [.int y4]) (metH_sinks _ (r := 0) (by decide) hh7) (lw_V q558 q559 q560 q55 q561) (by decide +kernel) (by decide) ⟨by show 0 + 0 ≤ 0; omega, by show 0 + 0 ≤ 0; omega⟩ rfl rfl (Nat.le_of_ble_eq_true rfl) dX1_clear_81 ?_
          refine g_wid (by omega) (by omega) (c2 := 0) (s2 := 0) ?_
          obtain ⟨x8, hx8, hf⟩ := bindE hf
          refine g_xeq hx8 ?_
          obtain ⟨x9, hx9, hf⟩ := bindE hf
          refine g_iinc hΓ (pc := 84) 3 (i := 3) (v := x9) (lv' := [(3, .int x9), (0, .ref (ad 0)), (1, .int y1), (2, .int y2), (4, .int y4)]) dX1_clear_84 rfl (Option.some.inj hx9) (by decide) rfl ?_
          obtain ⟨x10, hx10, hf⟩ := bindE hf
          refine g_iinc hΓ (pc := 87) 4 (i := 4) (v := x10) (lv' := [(4, .int x10), (3, .int x9), (0, .ref (ad 0)), (1, .int y1), (2, .int y2)]) dX1_clear_87 rfl (Option.some.inj hx10) (by decide) rfl ?_
          refine g_goto hΓ (pc := 90) (tgt := 24) dX1_clear_90 (by decide) ?_
          exact g_sub [2, 3, 4, 1, 0] rfl (hk24 _ _ _ _ _ hf)
        · have hf := ifN hf c6
          refine g_goto hΓ (pc := 72) (tgt := 87) dX1_clear_72 (by decide) ?_
          obtain ⟨x11, hx11, hf⟩ := bindE hf
          refine g_iinc hΓ (pc := 87) 4 (i := 4) (v := x11) (lv' := [(4, .int x11), (0, .ref (ad 0)), (1, .int y1), (2, .int y2), (3, .int y3)]) dX1_clear_87 rfl (Option.some.inj hx11) (by decide) rfl ?_
          refine g_goto hΓ (pc := 90) (tgt := 24) dX1_clear_90 (by decide) ?_
          exact g_sub [1, 2, 3, 4, 0] rfl (hk24 _ _ _ _ _ hf)
  have L24 : ∀ (n : Nat) (x : XS) (y1 : Int32) (y2 : Int32) (y3 : Int32) (y4 : Int32) (hf : X_clear_24   n x y1 y2 y3 y4 = some (z, x')), WG Γ (XW D dA b ad P F gs x) 0 0 24 [(0, .ref (ad 0)), (1, .int y1), (2, .int y2), (3, .int y3), (4, .int y4)] [] := by
    intro  n
    induction n with
    | zero => intro x y1 y2 y3 y4 hf; exact nomatch (show (none : Option (Int32 × XS)) = some _ from hf)
    | succ n ih => exact S24  _ ih
  refine g_iload_n hΓ (pc := 0) 1 (i := 1) dX1_clear_0 rfl rfl ?_
  obtain ⟨x12, hx12, hf⟩ := bindE hf
  refine qg_callS hΓ (pc := 1) 1 (As := [.int a0]) (metS_isPlace _ hx12) (lw_S q254 q255 q54 q256) (by decide +kernel) ⟨by decide, by decide, ⟨by show 0 ≤ 0; omega, by show 0 ≤ 0; omega⟩⟩ rfl rfl (Nat.le_of_ble_eq_true rfl) dX1_clear_1 ?_
  refine g_if_eq hΓ (pc := 4) (tgt := 17) dX1_clear_4 (by decide) (fun c13 => ?_) (fun c13 => ?_)
  · have hf := ifP hf c13
    refine g_iconst hΓ (pc := 17) (v := -1) dX1_clear_17 (by decide) ?_
    exact qX_iret hΓ hf dX1_clear_18
  · have hf := ifN hf c13
    refine g_iload_n hΓ (pc := 7) 2 (i := 2) dX1_clear_7 rfl rfl ?_
    refine g_iconst hΓ (pc := 8) (v := 0) dX1_clear_8 (by decide) ?_
    refine g_bipush hΓ (pc := 9) (v := 99) dX1_clear_9 (by decide) ?_
    obtain ⟨x14, hx14, hf⟩ := bindE hf
    refine qg_callS hΓ (pc := 11) 3 (As := [.int a1, .int (0 : Int32), .int (99 : Int32)]) (metS_isIn _ hx14) (lw_S q89 q90 q54 q91) (by decide +kernel) ⟨by decide, by decide, ⟨by show 0 ≤ 0; omega, by show 0 ≤ 0; omega⟩⟩ rfl rfl (Nat.le_of_ble_eq_true rfl) dX1_clear_11 ?_
    refine g_if_ne hΓ (pc := 14) (tgt := 19) dX1_clear_14 (by decide) (fun c15 => ?_) (fun c15 => ?_)
    · have hf := ifN hf c15
      refine g_iconst hΓ (pc := 19) (v := 0) dX1_clear_19 (by decide) ?_
      refine g_istore_n hΓ (pc := 20) (i := 3) (lv' := [(3, .int (0 : Int32)), (0, .ref (ad 0)), (1, .int a0), (2, .int a1)]) dX1_clear_20 rfl (by decide) rfl ?_
      refine g_iconst hΓ (pc := 21) (v := 0) dX1_clear_21 (by decide) ?_
      refine g_istore hΓ (pc := 22) (i := 4) (lv' := [(4, .int (0 : Int32)), (3, .int (0 : Int32)), (0, .ref (ad 0)), (1, .int a0), (2, .int a1)]) dX1_clear_22 (by decide) rfl ?_
      exact g_sub [2, 3, 4, 1, 0] rfl (L24  13 _ _ _ _ _ hf)
    · have hf := ifP hf c15
      refine g_iconst hΓ (pc := 17) (v := -1) dX1_clear_17 (by decide) ?_
      exact qX_iret hΓ hf dX1_clear_18
def X_minutes_32s (k32 : XS → Int32 → Int32 → Option (Int32 × XS)) (x : XS) (y1 : Int32) (y2 : Int32) : Option (Int32 × XS) :=
  if y1 ≤ y2 then (
    some ((x.1 0).2.2 17, x)
  ) else (
    (H_goesMinute (x.1 0)).bind fun q2 =>
    (some (xh x 0 q2.2)).bind fun x3 =>
    (some (y2 + 1)).bind fun x4 =>
    k32 x3 y1 x4
  )
def X_minutes_32 : Nat → XS → Int32 → Int32 → Option (Int32 × XS)
  | 0 => fun _ _ _ => none
  | n + 1 => X_minutes_32s   (X_minutes_32   n)
def X_minutes (x : XS) (a0 : Int32) : Option (Int32 × XS) :=
  (S_isIn a0 (1 : Int32) (99 : Int32)).bind fun x5 =>
  if x5 = 0 then (
    some ((-1 : Int32), x)
  ) else (
    if (((x.1 0).2.2 17) + a0) ≤ (999 : Int32) then (
      X_minutes_32 100 x a0 (0 : Int32)
    ) else (
      some ((-2 : Int32), x)
    )
  )
set_option maxHeartbeats 4000000 in
set_option maxRecDepth 100000 in
theorem metX_minutes (l : Launch) {D : va_G} {dA : Nat → ClassId} {b : Nat} {ad : Nat → Nat} {P : Nat → Prop} {F : Nat → va_E} {gs : List (Nat × (Nat × Int32))} {x x' : XS} {a0 : Int32} {z : Int32} (hf : X_minutes x a0 = some (z, x')) : Met l yX1_minutes (ws_ yX1_minutes cX1_minutes 3 (some .int)) (rmx_ 10 284 700 700) (xP D dA b ad P F gs [.ref (ad 0), .int a0] x) (xQ D dA b ad P F gs (some (.int z)) x') 700 700 (fun q => b ≤ q) := by
  refine qx_met (by decide) RX1 rfl (Nat.le_of_ble_eq_true rfl) (fun Γ hΓ hK => ?_)
  refine g_sub [0, 1] (lv' := [(0, .ref (ad 0)), (1, .int a0)]) rfl ?_
  have S32 : ∀ (n32 : Nat) (hn32 : n32 + 1 ≤ 100) (k32 : XS → Int32 → Int32 → Option (Int32 × XS)) (hk32 : ∀ (x : XS) (y1 : Int32) (y2 : Int32), k32 x y1 y2 = some (z, x') → WG Γ (XW D dA b ad P F gs x) (0 + (100 - n32) * 7) (0 + (100 - n32) * 7) 32 [(0, .ref (ad 0)), (1, .int y1), (2, .int y2)] []) (x : XS) (y1 : Int32) (y2 : Int32) (hf : X_minutes_32s  k32 x y1 y2 = some (z, x')), WG Γ (XW D dA b ad P F gs x) (0 + (100 - (n32 + 1)) * 7) (0 + (100 - (n32 + 1)) * 7) 32 [(0, .ref (ad 0)), (1, .int y1), (2, .int y2)] [] := by
    intro n32 hn32 k32 hk32 x y1 y2 hf
    refine g_iload_n hΓ (pc := 32) 2 (i := 2) dX1_minutes_32 rfl rfl ?_
    refine g_iload_n hΓ (pc := 33) 1 (i := 1) dX1_minutes_33 rfl rfl ?_
    refine g_icmp_ge hΓ (pc := 34) (tgt := 51) dX1_minutes_34 (by decide) (fun c1 => ?_) (fun c1 => ?_)
    · have hf := ifP hf c1
      refine g_aload_n hΓ (pc := 51) 0 (i := 0) dX1_minutes_51 rfl rfl ?_
      refine qX_house hΓ (pc := 52) hK 0 (by decide) q812 dX1_minutes_52 ?_
      refine qx_hget hΓ (pc := 55) hK (r := 0) (by decide) rfl (k := 17) rfl q746 dX1_minutes_55 ?_
      refine g_wid (by omega) (by omega) (c2 := 700) (s2 := 700) ?_
      exact qX_iret hΓ hf dX1_minutes_58
    · have hf := ifN hf c1
      refine g_aload_n hΓ (pc := 37) 0 (i := 0) dX1_minutes_37 rfl rfl ?_
      refine qX_house hΓ (pc := 38) hK 0 (by decide) q812 dX1_minutes_38 ?_
      obtain ⟨q2, hq2, hf⟩ := bindE hf
      refine qX_callH hΓ (pc := 41) hK (r := 0) (by decide) 0 (As := []) (metH_goesMinute _ (r := 0) (by decide) (z := q2.1) (h' := q2.2) hq2) (lw_V q360 q361 q362 q55 q363) (by decide +kernel) (by decide) ⟨by show (0 + (100 - (n32 + 1)) * 7) + 7 ≤ 700; omega, by show (0 + (100 - (n32 + 1)) * 7) + 7 ≤ 700; omega⟩ rfl rfl (Nat.le_of_ble_eq_true rfl) dX1_minutes_41 ?_
      refine g_wid (by omega) (by omega) (c2 := (7 + (100 - (n32 + 1)) * 7)) (s2 := (7 + (100 - (n32 + 1)) * 7)) ?_
      obtain ⟨x3, hx3, hf⟩ := bindE hf
      refine g_xeq hx3 ?_
      refine g_pop hΓ (pc := 44) dX1_minutes_44 rfl ?_
      obtain ⟨x4, hx4, hf⟩ := bindE hf
      refine g_iinc hΓ (pc := 45) 2 (i := 2) (v := x4) (lv' := [(2, .int x4), (0, .ref (ad 0)), (1, .int y1)]) dX1_minutes_45 rfl (Option.some.inj hx4) (by decide) rfl ?_
      refine g_goto hΓ (pc := 48) (tgt := 32) dX1_minutes_48 (by decide) ?_
      refine g_wid (by omega) (by omega) (c2 := (0 + (100 - n32) * 7)) (s2 := (0 + (100 - n32) * 7)) ?_
      exact g_sub [1, 2, 0] rfl (hk32 _ _ _ hf)
  have L32 : ∀ (n32 : Nat) (hn : n32 ≤ 100) (x : XS) (y1 : Int32) (y2 : Int32) (hf : X_minutes_32   n32 x y1 y2 = some (z, x')), WG Γ (XW D dA b ad P F gs x) (0 + (100 - n32) * 7) (0 + (100 - n32) * 7) 32 [(0, .ref (ad 0)), (1, .int y1), (2, .int y2)] [] := by
    intro  n32
    induction n32 with
    | zero => intro hn x y1 y2 hf; exact nomatch (show (none : Option (Int32 × XS)) = some _ from hf)
    | succ n32 ih => intro hn; exact S32  n32 hn _ (ih (by omega))
  refine g_iload_n hΓ (pc := 0) 1 (i := 1) dX1_minutes_0 rfl rfl ?_
  refine g_iconst hΓ (pc := 1) (v := 1) dX1_minutes_1 (by decide) ?_
  refine g_bipush hΓ (pc := 2) (v := 99) dX1_minutes_2 (by decide) ?_
  obtain ⟨x5, hx5, hf⟩ := bindE hf
  refine qg_callS hΓ (pc := 4) 3 (As := [.int a0, .int (1 : Int32), .int (99 : Int32)]) (metS_isIn _ hx5) (lw_S q89 q90 q54 q91) (by decide +kernel) ⟨by decide, by decide, ⟨by show 0 ≤ 700; omega, by show 0 ≤ 700; omega⟩⟩ rfl rfl (Nat.le_of_ble_eq_true rfl) dX1_minutes_4 ?_
  refine g_if_ne hΓ (pc := 7) (tgt := 12) dX1_minutes_7 (by decide) (fun c6 => ?_) (fun c6 => ?_)
  · have hf := ifN hf c6
    refine g_aload_n hΓ (pc := 12) 0 (i := 0) dX1_minutes_12 rfl rfl ?_
    refine qX_house hΓ (pc := 13) hK 0 (by decide) q812 dX1_minutes_13 ?_
    refine qx_hget hΓ (pc := 16) hK (r := 0) (by decide) rfl (k := 17) rfl q746 dX1_minutes_16 ?_
    refine g_iload_n hΓ (pc := 19) 1 (i := 1) dX1_minutes_19 rfl rfl ?_
    refine g_iadd hΓ (pc := 20) dX1_minutes_20 ?_
    refine g_sipush hΓ (pc := 21) (v := 999) dX1_minutes_21 (by decide) ?_
    refine g_icmp_le hΓ (pc := 24) (tgt := 30) dX1_minutes_24 (by decide) (fun c7 => ?_) (fun c7 => ?_)
    · have hf := ifP hf c7
      refine g_iconst hΓ (pc := 30) (v := 0) dX1_minutes_30 (by decide) ?_
      refine g_istore_n hΓ (pc := 31) (i := 2) (lv' := [(2, .int (0 : Int32)), (0, .ref (ad 0)), (1, .int a0)]) dX1_minutes_31 rfl (by decide) rfl ?_
      exact g_sub [1, 2, 0] rfl (L32  100 (Nat.le_refl 100) _ _ _ hf)
    · have hf := ifN hf c7
      refine g_bipush hΓ (pc := 27) (v := -2) dX1_minutes_27 (by decide) ?_
      refine g_wid (by omega) (by omega) (c2 := 700) (s2 := 700) ?_
      exact qX_iret hΓ hf dX1_minutes_29
  · have hf := ifP hf c6
    refine g_iconst hΓ (pc := 10) (v := -1) dX1_minutes_10 (by decide) ?_
    refine g_wid (by omega) (by omega) (c2 := 700) (s2 := 700) ?_
    exact qX_iret hΓ hf dX1_minutes_11
def X_like (x : XS) (a0 : Int32) (a1 : Int32) : Option (Int32) :=
  (H_isGlass (x.1 0) a0).bind fun x1 =>
  if x1 = 0 then (
    some (-1 : Int32)
  ) else (
    (H_isGlass (x.1 0) a1).bind fun x3 =>
    if x3 = 0 then (
      some (-1 : Int32)
    ) else (
      (H_like (x.1 0) a0 a1).bind fun x5 =>
      some x5
    )
  )
set_option maxHeartbeats 4000000 in
set_option maxRecDepth 100000 in
theorem metX_like (l : Launch) {D : va_G} {dA : Nat → ClassId} {b : Nat} {ad : Nat → Nat} {P : Nat → Prop} {F : Nat → va_E} {gs : List (Nat × (Nat × Int32))} {x : XS} {a0 : Int32} {a1 : Int32} {z : Int32} (hf : X_like x a0 a1 = some z) : Met l yX1_like (ws_ yX1_like cX1_like 3 (some .int)) (rmx_ 5 175 0 0) (xP D dA b ad P F gs [.ref (ad 0), .int a0, .int a1] x) (xQ D dA b ad P F gs (some (.int z)) x) 0 0 (fun q => b ≤ q) := by
  refine qx_met (by decide) RX1 rfl (Nat.le_of_ble_eq_true rfl) (fun Γ hΓ hK => ?_)
  refine g_sub [0, 1, 2] (lv' := [(0, .ref (ad 0)), (1, .int a0), (2, .int a1)]) rfl ?_
  refine g_aload_n hΓ (pc := 0) 0 (i := 0) dX1_like_0 rfl rfl ?_
  refine qX_house hΓ (pc := 1) hK 0 (by decide) q812 dX1_like_1 ?_
  refine g_iload_n hΓ (pc := 4) 1 (i := 1) dX1_like_4 rfl rfl ?_
  obtain ⟨x1, hx1, hf⟩ := bindE hf
  refine qX_callH hΓ (pc := 5) hK (r := 0) (by decide) 1 (As := [.int a0]) (metH_isGlass _ (r := 0) (by decide) hx1) (lw_V q348 q349 q350 q55 q351) (by decide +kernel) (by decide) ⟨by show 0 + 0 ≤ 0; omega, by show 0 + 0 ≤ 0; omega⟩ rfl rfl (Nat.le_of_ble_eq_true rfl) dX1_like_5 ?_
  refine g_xs ?_
  refine g_if_eq hΓ (pc := 8) (tgt := 34) dX1_like_8 (by decide) (fun c2 => ?_) (fun c2 => ?_)
  · have hf := ifP hf c2
    refine g_iconst hΓ (pc := 34) (v := -1) dX1_like_34 (by decide) ?_
    exact qX_iretR hΓ hf dX1_like_35
  · have hf := ifN hf c2
    refine g_aload_n hΓ (pc := 11) 0 (i := 0) dX1_like_11 rfl rfl ?_
    refine qX_house hΓ (pc := 12) hK 0 (by decide) q812 dX1_like_12 ?_
    refine g_iload_n hΓ (pc := 15) 2 (i := 2) dX1_like_15 rfl rfl ?_
    obtain ⟨x3, hx3, hf⟩ := bindE hf
    refine qX_callH hΓ (pc := 16) hK (r := 0) (by decide) 1 (As := [.int a1]) (metH_isGlass _ (r := 0) (by decide) hx3) (lw_V q348 q349 q350 q55 q351) (by decide +kernel) (by decide) ⟨by show 0 + 0 ≤ 0; omega, by show 0 + 0 ≤ 0; omega⟩ rfl rfl (Nat.le_of_ble_eq_true rfl) dX1_like_16 ?_
    refine g_xs ?_
    refine g_if_eq hΓ (pc := 19) (tgt := 34) dX1_like_19 (by decide) (fun c4 => ?_) (fun c4 => ?_)
    · have hf := ifP hf c4
      refine g_iconst hΓ (pc := 34) (v := -1) dX1_like_34 (by decide) ?_
      exact qX_iretR hΓ hf dX1_like_35
    · have hf := ifN hf c4
      refine g_aload_n hΓ (pc := 22) 0 (i := 0) dX1_like_22 rfl rfl ?_
      refine qX_house hΓ (pc := 23) hK 0 (by decide) q812 dX1_like_23 ?_
      refine g_iload_n hΓ (pc := 26) 1 (i := 1) dX1_like_26 rfl rfl ?_
      refine g_iload_n hΓ (pc := 27) 2 (i := 2) dX1_like_27 rfl rfl ?_
      obtain ⟨x5, hx5, hf⟩ := bindE hf
      refine qX_callH hΓ (pc := 28) hK (r := 0) (by decide) 2 (As := [.int a0, .int a1]) (metH_like _ (r := 0) (by decide) hx5) (lw_V q570 q386 q387 q55 q388) (by decide +kernel) (by decide) ⟨by show 0 + 0 ≤ 0; omega, by show 0 + 0 ≤ 0; omega⟩ rfl rfl (Nat.le_of_ble_eq_true rfl) dX1_like_28 ?_
      refine g_xs ?_
      refine g_goto hΓ (pc := 31) (tgt := 35) dX1_like_31 (by decide) ?_
      exact qX_iretR hΓ hf dX1_like_35
def X_mine (x : XS) (a0 : Int32) : Option (Int32) :=
  (H_isGuest (x.1 0) a0).bind fun x1 =>
  if x1 = 0 then (
    some (-1 : Int32)
  ) else (
    (H_mine (x.1 0) a0).bind fun x3 =>
    some x3
  )
set_option maxHeartbeats 4000000 in
set_option maxRecDepth 100000 in
theorem metX_mine (l : Launch) {D : va_G} {dA : Nat → ClassId} {b : Nat} {ad : Nat → Nat} {P : Nat → Prop} {F : Nat → va_E} {gs : List (Nat × (Nat × Int32))} {x : XS} {a0 : Int32} {z : Int32} (hf : X_mine x a0 = some z) : Met l yX1_mine (ws_ yX1_mine cX1_mine 2 (some .int)) (rmx_ 6 200 0 0) (xP D dA b ad P F gs [.ref (ad 0), .int a0] x) (xQ D dA b ad P F gs (some (.int z)) x) 0 0 (fun q => b ≤ q) := by
  refine qx_met (by decide) RX1 rfl (Nat.le_of_ble_eq_true rfl) (fun Γ hΓ hK => ?_)
  refine g_sub [0, 1] (lv' := [(0, .ref (ad 0)), (1, .int a0)]) rfl ?_
  refine g_aload_n hΓ (pc := 0) 0 (i := 0) dX1_mine_0 rfl rfl ?_
  refine qX_house hΓ (pc := 1) hK 0 (by decide) q812 dX1_mine_1 ?_
  refine g_iload_n hΓ (pc := 4) 1 (i := 1) dX1_mine_4 rfl rfl ?_
  obtain ⟨x1, hx1, hf⟩ := bindE hf
  refine qX_callH hΓ (pc := 5) hK (r := 0) (by decide) 1 (As := [.int a0]) (metH_isGuest _ (r := 0) (by decide) hx1) (lw_V q343 q344 q345 q55 q346) (by decide +kernel) (by decide) ⟨by show 0 + 0 ≤ 0; omega, by show 0 + 0 ≤ 0; omega⟩ rfl rfl (Nat.le_of_ble_eq_true rfl) dX1_mine_5 ?_
  refine g_xs ?_
  refine g_if_eq hΓ (pc := 8) (tgt := 22) dX1_mine_8 (by decide) (fun c2 => ?_) (fun c2 => ?_)
  · have hf := ifP hf c2
    refine g_iconst hΓ (pc := 22) (v := -1) dX1_mine_22 (by decide) ?_
    exact qX_iretR hΓ hf dX1_mine_23
  · have hf := ifN hf c2
    refine g_aload_n hΓ (pc := 11) 0 (i := 0) dX1_mine_11 rfl rfl ?_
    refine qX_house hΓ (pc := 12) hK 0 (by decide) q812 dX1_mine_12 ?_
    refine g_iload_n hΓ (pc := 15) 1 (i := 1) dX1_mine_15 rfl rfl ?_
    obtain ⟨x3, hx3, hf⟩ := bindE hf
    refine qX_callH hΓ (pc := 16) hK (r := 0) (by decide) 1 (As := [.int a0]) (metH_mine _ (r := 0) (by decide) hx3) (lw_V q575 q382 q383 q55 q384) (by decide +kernel) (by decide) ⟨by show 0 + 0 ≤ 0; omega, by show 0 + 0 ≤ 0; omega⟩ rfl rfl (Nat.le_of_ble_eq_true rfl) dX1_mine_16 ?_
    refine g_xs ?_
    refine g_goto hΓ (pc := 19) (tgt := 23) dX1_mine_19 (by decide) ?_
    exact qX_iretR hΓ hf dX1_mine_23
def X_likely_168 (x : XS) (y6 : Int32) (y7 : Int32) (z0 : Int32) : Option (Int32) :=
  (S_divisor y6 y7).bind fun x1 =>
  if x1 = 0 then none else
  some (z0 / x1)
def X_likely_97s (x : XS) (k97 : Int32 → Int32 → Int32 → Int32 → Int32 → Int32 → Option (Int32)) (y3 : Int32) (y4 : Int32) (y5 : Int32) (y6 : Int32) (y7 : Int32) (y8 : Int32) : Option (Int32) :=
  if ((x.1 0).2.2 14) ≤ y8 then (
    if y7 = 0 then (
      some y3
    ) else (
      if y3 = 0 then (
        X_likely_168 x y6 y7 y6
      ) else (
        X_likely_168 x y6 y7 y7
      )
    )
  ) else (
    (hR (x.1 0) 2 y8).bind fun x6 =>
    if x6 = y4 then (
      (H_like (x.1 0) y5 y8).bind fun x10 =>
      (some (y7 + x10)).bind fun x11 =>
      (some (y8 + 1)).bind fun x12 =>
      k97 y3 y4 y5 y6 x11 x12
    ) else (
      (some (y7 + (0 : Int32))).bind fun x8 =>
      (some (y8 + 1)).bind fun x9 =>
      k97 y3 y4 y5 y6 x8 x9
    )
  )
def X_likely_97 (x : XS) : Nat → Int32 → Int32 → Int32 → Int32 → Int32 → Int32 → Option (Int32)
  | 0 => fun _ _ _ _ _ _ => none
  | n + 1 => X_likely_97s x  (X_likely_97 x  n)
def X_likely (x : XS) (a0 : Int32) (a1 : Int32) (a2 : Int32) : Option (Int32) :=
  (H_isGuest (x.1 0) a0).bind fun x13 =>
  if x13 = 0 then (
    some (-1 : Int32)
  ) else (
    (H_isGlass (x.1 0) a1).bind fun x15 =>
    if x15 = 0 then (
      some (-1 : Int32)
    ) else (
      (S_isIn a2 (0 : Int32) (1 : Int32)).bind fun x17 =>
      if x17 = 0 then (
        some (-1 : Int32)
      ) else (
        (hR (x.1 0) 10 a0).bind fun x19 =>
        (hR (x.1 0) 12 a0).bind fun x20 =>
        if x20 = (-4 : Int32) then (
          some (-3 : Int32)
        ) else (
          (hR (x.1 0) 2 a1).bind fun x22 =>
          if x22 = x19 then (
            (H_like (x.1 0) x20 a1).bind fun x24 =>
            X_likely_97 x 13 a2 x19 x20 x24 (0 : Int32) (0 : Int32)
          ) else (
            some (-3 : Int32)
          )
        )
      )
    )
  )
set_option maxHeartbeats 4000000 in
set_option maxRecDepth 100000 in
theorem metX_likely (l : Launch) {D : va_G} {dA : Nat → ClassId} {b : Nat} {ad : Nat → Nat} {P : Nat → Prop} {F : Nat → va_E} {gs : List (Nat × (Nat × Int32))} {x : XS} {a0 : Int32} {a1 : Int32} {a2 : Int32} {z : Int32} (hf : X_likely x a0 a1 a2 = some z) : Met l yX1_likely (ws_ yX1_likely cX1_likely 9 (some .int)) (rmx_ 5 175 0 0) (xP D dA b ad P F gs [.ref (ad 0), .int a0, .int a1, .int a2] x) (xQ D dA b ad P F gs (some (.int z)) x) 0 0 (fun q => b ≤ q) := by
  refine qx_met (by decide) RX1 rfl (Nat.le_of_ble_eq_true rfl) (fun Γ hΓ hK => ?_)
  refine g_sub [0, 1, 2, 3] (lv' := [(0, .ref (ad 0)), (1, .int a0), (2, .int a1), (3, .int a2)]) rfl ?_
  have J168 : ∀ (y6 : Int32) (y7 : Int32) (z0 : Int32) (hf : X_likely_168 x  y6 y7 z0 = some z), WG Γ (XW D dA b ad P F gs x) 0 0 168 [(6, .int y6), (7, .int y7)] [.int z0] := by
    intro  y6 y7 z0 hf
    refine g_iload hΓ (pc := 168) 0 (i := 6) dX1_likely_168 rfl ?_
    refine g_iload hΓ (pc := 170) 1 (i := 7) dX1_likely_170 rfl ?_
    obtain ⟨x1, hx1, hf⟩ := bindE hf
    refine qg_callS hΓ (pc := 172) 2 (As := [.int y6, .int y7]) (metS_divisor _ hx1) (lw_S q580 q581 q54 q582) (by decide +kernel) ⟨by decide, by decide, ⟨by show 0 ≤ 0; omega, by show 0 ≤ 0; omega⟩⟩ rfl rfl (Nat.le_of_ble_eq_true rfl) dX1_likely_172 ?_
    obtain ⟨e2, hf⟩ := nzE hf
    refine g_idiv hΓ (pc := 175) dX1_likely_175 e2 ?_
    exact qX_iretR hΓ hf dX1_likely_176
  have S97 : ∀ (k97 : Int32 → Int32 → Int32 → Int32 → Int32 → Int32 → Option (Int32)) (hk97 : ∀ (y3 : Int32) (y4 : Int32) (y5 : Int32) (y6 : Int32) (y7 : Int32) (y8 : Int32), k97 y3 y4 y5 y6 y7 y8 = some z → WG Γ (XW D dA b ad P F gs x) 0 0 97 [(0, .ref (ad 0)), (3, .int y3), (4, .int y4), (5, .int y5), (6, .int y6), (7, .int y7), (8, .int y8)] []) (y3 : Int32) (y4 : Int32) (y5 : Int32) (y6 : Int32) (y7 : Int32) (y8 : Int32) (hf : X_likely_97s x k97 y3 y4 y5 y6 y7 y8 = some z), WG Γ (XW D dA b ad P F gs x) 0 0 97 [(0, .ref (ad 0)), (3, .int y3), (4, .int y4), (5, .int y5), (6, .int y6), (7, .int y7), (8, .int y8)] [] := by
    intro k97 hk97 y3 y4 y5 y6 y7 y8 hf
    refine g_iload hΓ (pc := 97) 6 (i := 8) dX1_likely_97 rfl ?_
    refine g_aload_n hΓ (pc := 99) 0 (i := 0) dX1_likely_99 rfl rfl ?_
    refine qX_house hΓ (pc := 100) hK 0 (by decide) q812 dX1_likely_100 ?_
    refine qx_hget hΓ (pc := 103) hK (r := 0) (by decide) rfl (k := 14) rfl q740 dX1_likely_103 ?_
    refine g_icmp_ge hΓ (pc := 106) (tgt := 150) dX1_likely_106 (by decide) (fun c3 => ?_) (fun c3 => ?_)
    · have hf := ifP hf c3
      refine g_iload hΓ (pc := 150) 5 (i := 7) dX1_likely_150 rfl ?_
      refine g_if_ne hΓ (pc := 152) (tgt := 157) dX1_likely_152 (by decide) (fun c4 => ?_) (fun c4 => ?_)
      · have hf := ifN hf c4
        refine g_iload_n hΓ (pc := 157) 1 (i := 3) dX1_likely_157 rfl rfl ?_
        refine g_if_ne hΓ (pc := 158) (tgt := 166) dX1_likely_158 (by decide) (fun c5 => ?_) (fun c5 => ?_)
        · have hf := ifN hf c5
          refine g_iload hΓ (pc := 166) 5 (i := 7) dX1_likely_166 rfl ?_
          exact g_sub [4, 5] rfl (J168  _ _ _ hf)
        · have hf := ifP hf c5
          refine g_iload hΓ (pc := 161) 4 (i := 6) dX1_likely_161 rfl ?_
          refine g_goto hΓ (pc := 163) (tgt := 168) dX1_likely_163 (by decide) ?_
          exact g_sub [4, 5] rfl (J168  _ _ _ hf)
      · have hf := ifP hf c4
        refine g_iload_n hΓ (pc := 155) 1 (i := 3) dX1_likely_155 rfl rfl ?_
        exact qX_iretR hΓ hf dX1_likely_156
    · have hf := ifN hf c3
      refine g_iload hΓ (pc := 109) 5 (i := 7) dX1_likely_109 rfl ?_
      refine g_aload_n hΓ (pc := 111) 0 (i := 0) dX1_likely_111 rfl rfl ?_
      refine qX_house hΓ (pc := 112) hK 0 (by decide) q812 dX1_likely_112 ?_
      refine qx_hgeta hΓ (pc := 115) hK (r := 0) (by decide) (k := 2) rfl q716 dX1_likely_115 ?_
      refine g_iload hΓ (pc := 118) 6 (i := 8) dX1_likely_118 rfl ?_
      obtain ⟨x6, hx6, hf⟩ := bindE hf
      refine qx_iald hΓ (pc := 120) hK (r := 0) (by decide) rfl rfl hx6 dX1_likely_120 ?_
      refine g_iload hΓ (pc := 121) 2 (i := 4) dX1_likely_121 rfl ?_
      refine g_icmp_ne hΓ (pc := 123) (tgt := 140) dX1_likely_123 (by decide) (fun c7 => ?_) (fun c7 => ?_)
      · have hf := ifN hf c7
        refine g_iconst hΓ (pc := 140) (v := 0) dX1_likely_140 (by decide) ?_
        refine g_iadd hΓ (pc := 141) dX1_likely_141 ?_
        obtain ⟨x8, hx8, hf⟩ := bindE hf
        refine g_topi hx8 ?_
        refine g_istore hΓ (pc := 142) (i := 7) (lv' := [(7, .int x8), (0, .ref (ad 0)), (3, .int y3), (4, .int y4), (5, .int y5), (6, .int y6), (8, .int y8)]) dX1_likely_142 (by decide) rfl ?_
        obtain ⟨x9, hx9, hf⟩ := bindE hf
        refine g_iinc hΓ (pc := 144) 6 (i := 8) (v := x9) (lv' := [(8, .int x9), (7, .int x8), (0, .ref (ad 0)), (3, .int y3), (4, .int y4), (5, .int y5), (6, .int y6)]) dX1_likely_144 rfl (Option.some.inj hx9) (by decide) rfl ?_
        refine g_goto hΓ (pc := 147) (tgt := 97) dX1_likely_147 (by decide) ?_
        exact g_sub [2, 3, 4, 5, 6, 1, 0] rfl (hk97 _ _ _ _ _ _ hf)
      · have hf := ifP hf c7
        refine g_aload_n hΓ (pc := 126) 0 (i := 0) dX1_likely_126 rfl rfl ?_
        refine qX_house hΓ (pc := 127) hK 0 (by decide) q812 dX1_likely_127 ?_
        refine g_iload hΓ (pc := 130) 3 (i := 5) dX1_likely_130 rfl ?_
        refine g_iload hΓ (pc := 132) 6 (i := 8) dX1_likely_132 rfl ?_
        obtain ⟨x10, hx10, hf⟩ := bindE hf
        refine qX_callH hΓ (pc := 134) hK (r := 0) (by decide) 2 (As := [.int y5, .int y8]) (metH_like _ (r := 0) (by decide) hx10) (lw_V q570 q386 q387 q55 q388) (by decide +kernel) (by decide) ⟨by show 0 + 0 ≤ 0; omega, by show 0 + 0 ≤ 0; omega⟩ rfl rfl (Nat.le_of_ble_eq_true rfl) dX1_likely_134 ?_
        refine g_xs ?_
        refine g_goto hΓ (pc := 137) (tgt := 141) dX1_likely_137 (by decide) ?_
        refine g_iadd hΓ (pc := 141) dX1_likely_141 ?_
        obtain ⟨x11, hx11, hf⟩ := bindE hf
        refine g_topi hx11 ?_
        refine g_istore hΓ (pc := 142) (i := 7) (lv' := [(7, .int x11), (0, .ref (ad 0)), (3, .int y3), (4, .int y4), (5, .int y5), (6, .int y6), (8, .int y8)]) dX1_likely_142 (by decide) rfl ?_
        obtain ⟨x12, hx12, hf⟩ := bindE hf
        refine g_iinc hΓ (pc := 144) 6 (i := 8) (v := x12) (lv' := [(8, .int x12), (7, .int x11), (0, .ref (ad 0)), (3, .int y3), (4, .int y4), (5, .int y5), (6, .int y6)]) dX1_likely_144 rfl (Option.some.inj hx12) (by decide) rfl ?_
        refine g_goto hΓ (pc := 147) (tgt := 97) dX1_likely_147 (by decide) ?_
        exact g_sub [2, 3, 4, 5, 6, 1, 0] rfl (hk97 _ _ _ _ _ _ hf)
  have L97 : ∀ (n : Nat) (y3 : Int32) (y4 : Int32) (y5 : Int32) (y6 : Int32) (y7 : Int32) (y8 : Int32) (hf : X_likely_97 x  n y3 y4 y5 y6 y7 y8 = some z), WG Γ (XW D dA b ad P F gs x) 0 0 97 [(0, .ref (ad 0)), (3, .int y3), (4, .int y4), (5, .int y5), (6, .int y6), (7, .int y7), (8, .int y8)] [] := by
    intro  n
    induction n with
    | zero => intro y3 y4 y5 y6 y7 y8 hf; exact nomatch (show (none : Option (Int32)) = some _ from hf)
    | succ n ih => exact S97  _ ih
  refine g_aload_n hΓ (pc := 0) 0 (i := 0) dX1_likely_0 rfl rfl ?_
  refine qX_house hΓ (pc := 1) hK 0 (by decide) q812 dX1_likely_1 ?_
  refine g_iload_n hΓ (pc := 4) 1 (i := 1) dX1_likely_4 rfl rfl ?_
  obtain ⟨x13, hx13, hf⟩ := bindE hf
  refine qX_callH hΓ (pc := 5) hK (r := 0) (by decide) 1 (As := [.int a0]) (metH_isGuest _ (r := 0) (by decide) hx13) (lw_V q343 q344 q345 q55 q346) (by decide +kernel) (by decide) ⟨by show 0 + 0 ≤ 0; omega, by show 0 + 0 ≤ 0; omega⟩ rfl rfl (Nat.le_of_ble_eq_true rfl) dX1_likely_5 ?_
  refine g_xs ?_
  refine g_if_eq hΓ (pc := 8) (tgt := 31) dX1_likely_8 (by decide) (fun c14 => ?_) (fun c14 => ?_)
  · have hf := ifP hf c14
    refine g_iconst hΓ (pc := 31) (v := -1) dX1_likely_31 (by decide) ?_
    exact qX_iretR hΓ hf dX1_likely_32
  · have hf := ifN hf c14
    refine g_aload_n hΓ (pc := 11) 0 (i := 0) dX1_likely_11 rfl rfl ?_
    refine qX_house hΓ (pc := 12) hK 0 (by decide) q812 dX1_likely_12 ?_
    refine g_iload_n hΓ (pc := 15) 2 (i := 2) dX1_likely_15 rfl rfl ?_
    obtain ⟨x15, hx15, hf⟩ := bindE hf
    refine qX_callH hΓ (pc := 16) hK (r := 0) (by decide) 1 (As := [.int a1]) (metH_isGlass _ (r := 0) (by decide) hx15) (lw_V q348 q349 q350 q55 q351) (by decide +kernel) (by decide) ⟨by show 0 + 0 ≤ 0; omega, by show 0 + 0 ≤ 0; omega⟩ rfl rfl (Nat.le_of_ble_eq_true rfl) dX1_likely_16 ?_
    refine g_xs ?_
    refine g_if_eq hΓ (pc := 19) (tgt := 31) dX1_likely_19 (by decide) (fun c16 => ?_) (fun c16 => ?_)
    · have hf := ifP hf c16
      refine g_iconst hΓ (pc := 31) (v := -1) dX1_likely_31 (by decide) ?_
      exact qX_iretR hΓ hf dX1_likely_32
    · have hf := ifN hf c16
      refine g_iload_n hΓ (pc := 22) 3 (i := 3) dX1_likely_22 rfl rfl ?_
      refine g_iconst hΓ (pc := 23) (v := 0) dX1_likely_23 (by decide) ?_
      refine g_iconst hΓ (pc := 24) (v := 1) dX1_likely_24 (by decide) ?_
      obtain ⟨x17, hx17, hf⟩ := bindE hf
      refine qg_callS hΓ (pc := 25) 3 (As := [.int a2, .int (0 : Int32), .int (1 : Int32)]) (metS_isIn _ hx17) (lw_S q89 q90 q54 q91) (by decide +kernel) ⟨by decide, by decide, ⟨by show 0 ≤ 0; omega, by show 0 ≤ 0; omega⟩⟩ rfl rfl (Nat.le_of_ble_eq_true rfl) dX1_likely_25 ?_
      refine g_if_ne hΓ (pc := 28) (tgt := 33) dX1_likely_28 (by decide) (fun c18 => ?_) (fun c18 => ?_)
      · have hf := ifN hf c18
        refine g_aload_n hΓ (pc := 33) 0 (i := 0) dX1_likely_33 rfl rfl ?_
        refine qX_house hΓ (pc := 34) hK 0 (by decide) q812 dX1_likely_34 ?_
        refine qx_hgeta hΓ (pc := 37) hK (r := 0) (by decide) (k := 10) rfl q732 dX1_likely_37 ?_
        refine g_iload_n hΓ (pc := 40) 1 (i := 1) dX1_likely_40 rfl rfl ?_
        obtain ⟨x19, hx19, hf⟩ := bindE hf
        refine qx_iald hΓ (pc := 41) hK (r := 0) (by decide) rfl rfl hx19 dX1_likely_41 ?_
        refine g_istore hΓ (pc := 42) (i := 4) (lv' := [(4, .int x19), (0, .ref (ad 0)), (1, .int a0), (2, .int a1), (3, .int a2)]) dX1_likely_42 (by decide) rfl ?_
        refine g_aload_n hΓ (pc := 44) 1 (i := 0) dX1_likely_44 rfl rfl ?_
        refine qX_house hΓ (pc := 45) hK 0 (by decide) q812 dX1_likely_45 ?_
        refine qx_hgeta hΓ (pc := 48) hK (r := 0) (by decide) (k := 12) rfl q736 dX1_likely_48 ?_
        refine g_iload_n hΓ (pc := 51) 2 (i := 1) dX1_likely_51 rfl rfl ?_
        obtain ⟨x20, hx20, hf⟩ := bindE hf
        refine qx_iald hΓ (pc := 52) hK (r := 0) (by decide) rfl rfl hx20 dX1_likely_52 ?_
        refine g_istore hΓ (pc := 53) (i := 5) (lv' := [(5, .int x20), (4, .int x19), (0, .ref (ad 0)), (1, .int a0), (2, .int a1), (3, .int a2)]) dX1_likely_53 (by decide) rfl ?_
        refine g_iload hΓ (pc := 55) 0 (i := 5) dX1_likely_55 rfl ?_
        refine g_bipush hΓ (pc := 57) (v := -4) dX1_likely_57 (by decide) ?_
        refine g_icmp_eq hΓ (pc := 59) (tgt := 76) dX1_likely_59 (by decide) (fun c21 => ?_) (fun c21 => ?_)
        · have hf := ifP hf c21
          refine g_bipush hΓ (pc := 76) (v := -3) dX1_likely_76 (by decide) ?_
          exact qX_iretR hΓ hf dX1_likely_78
        · have hf := ifN hf c21
          refine g_aload_n hΓ (pc := 62) 2 (i := 0) dX1_likely_62 rfl rfl ?_
          refine qX_house hΓ (pc := 63) hK 0 (by decide) q812 dX1_likely_63 ?_
          refine qx_hgeta hΓ (pc := 66) hK (r := 0) (by decide) (k := 2) rfl q716 dX1_likely_66 ?_
          refine g_iload_n hΓ (pc := 69) 4 (i := 2) dX1_likely_69 rfl rfl ?_
          obtain ⟨x22, hx22, hf⟩ := bindE hf
          refine qx_iald hΓ (pc := 70) hK (r := 0) (by decide) rfl rfl hx22 dX1_likely_70 ?_
          refine g_iload hΓ (pc := 71) 1 (i := 4) dX1_likely_71 rfl ?_
          refine g_icmp_eq hΓ (pc := 73) (tgt := 79) dX1_likely_73 (by decide) (fun c23 => ?_) (fun c23 => ?_)
          · have hf := ifP hf c23
            refine g_aload_n hΓ (pc := 79) 2 (i := 0) dX1_likely_79 rfl rfl ?_
            refine qX_house hΓ (pc := 80) hK 0 (by decide) q812 dX1_likely_80 ?_
            refine g_iload hΓ (pc := 83) 0 (i := 5) dX1_likely_83 rfl ?_
            refine g_iload_n hΓ (pc := 85) 4 (i := 2) dX1_likely_85 rfl rfl ?_
            obtain ⟨x24, hx24, hf⟩ := bindE hf
            refine qX_callH hΓ (pc := 86) hK (r := 0) (by decide) 2 (As := [.int x20, .int a1]) (metH_like _ (r := 0) (by decide) hx24) (lw_V q570 q386 q387 q55 q388) (by decide +kernel) (by decide) ⟨by show 0 + 0 ≤ 0; omega, by show 0 + 0 ≤ 0; omega⟩ rfl rfl (Nat.le_of_ble_eq_true rfl) dX1_likely_86 ?_
            refine g_xs ?_
            refine g_istore hΓ (pc := 89) (i := 6) (lv' := [(6, .int x24), (5, .int x20), (4, .int x19), (0, .ref (ad 0)), (1, .int a0), (2, .int a1), (3, .int a2)]) dX1_likely_89 (by decide) rfl ?_
            refine g_iconst hΓ (pc := 91) (v := 0) dX1_likely_91 (by decide) ?_
            refine g_istore hΓ (pc := 92) (i := 7) (lv' := [(7, .int (0 : Int32)), (6, .int x24), (5, .int x20), (4, .int x19), (0, .ref (ad 0)), (1, .int a0), (2, .int a1), (3, .int a2)]) dX1_likely_92 (by decide) rfl ?_
            refine g_iconst hΓ (pc := 94) (v := 0) dX1_likely_94 (by decide) ?_
            refine g_istore hΓ (pc := 95) (i := 8) (lv' := [(8, .int (0 : Int32)), (7, .int (0 : Int32)), (6, .int x24), (5, .int x20), (4, .int x19), (0, .ref (ad 0)), (1, .int a0), (2, .int a1), (3, .int a2)]) dX1_likely_95 (by decide) rfl ?_
            exact g_sub [5, 8, 4, 3, 2, 1, 0] rfl (L97  13 _ _ _ _ _ _ hf)
          · have hf := ifN hf c23
            refine g_bipush hΓ (pc := 76) (v := -3) dX1_likely_76 (by decide) ?_
            exact qX_iretR hΓ hf dX1_likely_78
      · have hf := ifP hf c18
        refine g_iconst hΓ (pc := 31) (v := -1) dX1_likely_31 (by decide) ?_
        exact qX_iretR hΓ hf dX1_likely_32
def X_isSomeonesOwn_2s (x : XS) (k2 : Int32 → Int32 → Option (Int32)) (y1 : Int32) (y2 : Int32) : Option (Int32) :=
  if ((x.1 0).2.2 15) ≤ y2 then (
    zOk (0 : Int32)
  ) else (
    (hR (x.1 0) 12 y2).bind fun x2 =>
    if x2 = y1 then (
      zOk (1 : Int32)
    ) else (
      (some (y2 + 1)).bind fun x4 =>
      k2 y1 x4
    )
  )
def X_isSomeonesOwn_2 (x : XS) : Nat → Int32 → Int32 → Option (Int32)
  | 0 => fun _ _ => none
  | n + 1 => X_isSomeonesOwn_2s x  (X_isSomeonesOwn_2 x  n)
def X_isSomeonesOwn (x : XS) (a0 : Int32) : Option (Int32) :=
  X_isSomeonesOwn_2 x 7 a0 (0 : Int32)
set_option maxHeartbeats 4000000 in
set_option maxRecDepth 100000 in
theorem metX_isSomeonesOwn (l : Launch) {D : va_G} {dA : Nat → ClassId} {b : Nat} {ad : Nat → Nat} {P : Nat → Prop} {F : Nat → va_E} {gs : List (Nat × (Nat × Int32))} {x : XS} {a0 : Int32} {z : Int32} (hf : X_isSomeonesOwn x a0 = some z) : Met l yX1_isSomeonesOwn (ws_ yX1_isSomeonesOwn cX1_isSomeonesOwn 3 (some .boolean)) (rmx_ 0 0 0 0) (xP D dA b ad P F gs [.ref (ad 0), .int a0] x) (xQ D dA b ad P F gs (some (.int z)) x) 0 0 (fun q => b ≤ q) := by
  refine qx_met (by decide) RX1 rfl (Nat.le_of_ble_eq_true rfl) (fun Γ hΓ hK => ?_)
  refine g_sub [0, 1] (lv' := [(0, .ref (ad 0)), (1, .int a0)]) rfl ?_
  have S2 : ∀ (k2 : Int32 → Int32 → Option (Int32)) (hk2 : ∀ (y1 : Int32) (y2 : Int32), k2 y1 y2 = some z → WG Γ (XW D dA b ad P F gs x) 0 0 2 [(0, .ref (ad 0)), (1, .int y1), (2, .int y2)] []) (y1 : Int32) (y2 : Int32) (hf : X_isSomeonesOwn_2s x k2 y1 y2 = some z), WG Γ (XW D dA b ad P F gs x) 0 0 2 [(0, .ref (ad 0)), (1, .int y1), (2, .int y2)] [] := by
    intro k2 hk2 y1 y2 hf
    refine g_iload_n hΓ (pc := 2) 2 (i := 2) dX1_isSomeonesOwn_2 rfl rfl ?_
    refine g_aload_n hΓ (pc := 3) 0 (i := 0) dX1_isSomeonesOwn_3 rfl rfl ?_
    refine qX_house hΓ (pc := 4) hK 0 (by decide) q812 dX1_isSomeonesOwn_4 ?_
    refine qx_hget hΓ (pc := 7) hK (r := 0) (by decide) rfl (k := 15) rfl q742 dX1_isSomeonesOwn_7 ?_
    refine g_icmp_ge hΓ (pc := 10) (tgt := 34) dX1_isSomeonesOwn_10 (by decide) (fun c1 => ?_) (fun c1 => ?_)
    · have hf := ifP hf c1
      refine g_iconst hΓ (pc := 34) (v := 0) dX1_isSomeonesOwn_34 (by decide) ?_
      exact qX_zretR hΓ hf dX1_isSomeonesOwn_35
    · have hf := ifN hf c1
      refine g_aload_n hΓ (pc := 13) 0 (i := 0) dX1_isSomeonesOwn_13 rfl rfl ?_
      refine qX_house hΓ (pc := 14) hK 0 (by decide) q812 dX1_isSomeonesOwn_14 ?_
      refine qx_hgeta hΓ (pc := 17) hK (r := 0) (by decide) (k := 12) rfl q736 dX1_isSomeonesOwn_17 ?_
      refine g_iload_n hΓ (pc := 20) 2 (i := 2) dX1_isSomeonesOwn_20 rfl rfl ?_
      obtain ⟨x2, hx2, hf⟩ := bindE hf
      refine qx_iald hΓ (pc := 21) hK (r := 0) (by decide) rfl rfl hx2 dX1_isSomeonesOwn_21 ?_
      refine g_iload_n hΓ (pc := 22) 1 (i := 1) dX1_isSomeonesOwn_22 rfl rfl ?_
      refine g_icmp_ne hΓ (pc := 23) (tgt := 28) dX1_isSomeonesOwn_23 (by decide) (fun c3 => ?_) (fun c3 => ?_)
      · have hf := ifN hf c3
        obtain ⟨x4, hx4, hf⟩ := bindE hf
        refine g_iinc hΓ (pc := 28) 2 (i := 2) (v := x4) (lv' := [(2, .int x4), (0, .ref (ad 0)), (1, .int y1)]) dX1_isSomeonesOwn_28 rfl (Option.some.inj hx4) (by decide) rfl ?_
        refine g_goto hΓ (pc := 31) (tgt := 2) dX1_isSomeonesOwn_31 (by decide) ?_
        exact g_sub [1, 2, 0] rfl (hk2 _ _ hf)
      · have hf := ifP hf c3
        refine g_iconst hΓ (pc := 26) (v := 1) dX1_isSomeonesOwn_26 (by decide) ?_
        exact qX_zretR hΓ hf dX1_isSomeonesOwn_27
  have L2 : ∀ (n : Nat) (y1 : Int32) (y2 : Int32) (hf : X_isSomeonesOwn_2 x  n y1 y2 = some z), WG Γ (XW D dA b ad P F gs x) 0 0 2 [(0, .ref (ad 0)), (1, .int y1), (2, .int y2)] [] := by
    intro  n
    induction n with
    | zero => intro y1 y2 hf; exact nomatch (show (none : Option (Int32)) = some _ from hf)
    | succ n ih => exact S2  _ ih
  refine g_iconst hΓ (pc := 0) (v := 0) dX1_isSomeonesOwn_0 (by decide) ?_
  refine g_istore_n hΓ (pc := 1) (i := 2) (lv' := [(2, .int (0 : Int32)), (0, .ref (ad 0)), (1, .int a0)]) dX1_isSomeonesOwn_1 rfl (by decide) rfl ?_
  exact g_sub [1, 2, 0] rfl (L2  7 _ _ hf)

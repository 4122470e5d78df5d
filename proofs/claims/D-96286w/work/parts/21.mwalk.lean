set_option maxRecDepth 100000
def M_guestComes (m : MS) (a0 : Int32) : Option (Int32 × MS) :=
  (some (m.1 1)).bind fun x1 =>
  (mR m 37 a0).bind fun x2 =>
  if x2 = 0 then (
    (zOk (0 : Int32)).bind fun z => some (z, m)
  ) else (
    (mR m 37 (a0 + (1 : Int32))).bind fun x4 =>
    if x4 = 0 then (
      (zOk (0 : Int32)).bind fun z => some (z, m)
    ) else (
      (mR m 37 (a0 + (4 : Int32))).bind fun x6 =>
      if (5 : Int32) < x6 then (
        (zOk (0 : Int32)).bind fun z => some (z, m)
      ) else (
        if x1 = (6 : Int32) then (
          (zOk (0 : Int32)).bind fun z => some (z, m)
        ) else (
          (mR m 37 a0).bind fun x9 =>
          (mW m 11 x1 x9).bind fun m10 =>
          (mR m10 37 (a0 + (1 : Int32))).bind fun x11 =>
          (mW m10 12 x1 x11).bind fun m12 =>
          (mR m12 37 (a0 + (2 : Int32))).bind fun x13 =>
          (mW m12 13 x1 x13).bind fun m14 =>
          (mR m14 37 (a0 + (3 : Int32))).bind fun x15 =>
          (mW m14 14 x1 x15).bind fun m16 =>
          (mR m16 37 (a0 + (4 : Int32))).bind fun x17 =>
          (mW m16 15 x1 x17).bind fun m18 =>
          (mW m18 16 x1 (-4 : Int32)).bind fun m19 =>
          (mW m19 17 x1 (-4 : Int32)).bind fun m20 =>
          (mW m20 18 x1 (0 : Int32)).bind fun m21 =>
          (mW m21 19 x1 (0 : Int32)).bind fun m22 =>
          (mSI m22 1 ((m22.1 1) + (1 : Int32))).bind fun m23 =>
          (zOk (1 : Int32)).bind fun z => some (z, m23)
        )
      )
    )
  )
set_option maxHeartbeats 4000000 in
set_option maxRecDepth 100000 in
theorem metM_guestComes (l : Launch) {D : va_G} {dA : Nat → ClassId} {b : Nat} {ad : Nat → Nat} {P : Nat → Prop} {F : Nat → va_E} {m : MS} {m' : MS} {a0 : Int32} {r : Int32} (hf : M_guestComes m a0 = some (r, m')) : Met l yX4_guestComes (ws_ yX4_guestComes cX4_guestComes 3 (some .boolean)) (rm0_ 0 0) (mP D dA b ad P F [.ref (ad 46), .int a0] m) (mQ D dA b ad P F (some (.int r)) m') 0 0 (fun q => b ≤ q) := by
  refine qg_met (by decide) RX4 rfl (Nat.le_of_ble_eq_true rfl) (fun Γ hΓ hK => ?_)
  refine g_sub [0, 1] (lv' := [(0, .ref (ad 46)), (1, .int a0)]) rfl ?_
  refine g_aload_n hΓ (pc := 0) 0 (i := 0) dX4_guestComes_0 rfl rfl ?_
  refine qg_get hΓ (pc := 1) hK (k := 1) rfl q1073 dX4_guestComes_1 ?_
  obtain ⟨x1, hx1, hf⟩ := bindE hf
  refine g_topi hx1 ?_
  refine g_istore_n hΓ (pc := 4) (i := 2) (lv' := [(2, .int x1), (0, .ref (ad 46)), (1, .int a0)]) dX4_guestComes_4 rfl (by decide) rfl ?_
  refine g_aload_n hΓ (pc := 5) 1 (i := 0) dX4_guestComes_5 rfl rfl ?_
  refine qg_geta hΓ (pc := 6) hK (k := 37) rfl q1109 dX4_guestComes_6 ?_
  refine g_iload_n hΓ (pc := 9) 2 (i := 1) dX4_guestComes_9 rfl rfl ?_
  obtain ⟨x2, hx2, hf⟩ := bindE hf
  refine qg_iald hΓ (pc := 10) hK rfl hx2 dX4_guestComes_10 rfl ?_
  refine g_if_eq hΓ (pc := 11) (tgt := 43) dX4_guestComes_11 (by decide) (fun c3 => ?_) (fun c3 => ?_)
  · have hf := ifP hf c3
    refine g_iconst hΓ (pc := 43) (v := 0) dX4_guestComes_43 (by decide) ?_
    exact qg_zret hΓ hK hf dX4_guestComes_44
  · have hf := ifN hf c3
    refine g_aload_n hΓ (pc := 14) 1 (i := 0) dX4_guestComes_14 rfl rfl ?_
    refine qg_geta hΓ (pc := 15) hK (k := 37) rfl q1109 dX4_guestComes_15 ?_
    refine g_iload_n hΓ (pc := 18) 2 (i := 1) dX4_guestComes_18 rfl rfl ?_
    refine g_iconst hΓ (pc := 19) (v := 1) dX4_guestComes_19 (by decide) ?_
    refine g_iadd hΓ (pc := 20) dX4_guestComes_20 ?_
    obtain ⟨x4, hx4, hf⟩ := bindE hf
    refine qg_iald hΓ (pc := 21) hK rfl hx4 dX4_guestComes_21 rfl ?_
    refine g_if_eq hΓ (pc := 22) (tgt := 43) dX4_guestComes_22 (by decide) (fun c5 => ?_) (fun c5 => ?_)
    · have hf := ifP hf c5
      refine g_iconst hΓ (pc := 43) (v := 0) dX4_guestComes_43 (by decide) ?_
      exact qg_zret hΓ hK hf dX4_guestComes_44
    · have hf := ifN hf c5
      refine g_aload_n hΓ (pc := 25) 1 (i := 0) dX4_guestComes_25 rfl rfl ?_
      refine qg_geta hΓ (pc := 26) hK (k := 37) rfl q1109 dX4_guestComes_26 ?_
      refine g_iload_n hΓ (pc := 29) 2 (i := 1) dX4_guestComes_29 rfl rfl ?_
      refine g_iconst hΓ (pc := 30) (v := 4) dX4_guestComes_30 (by decide) ?_
      refine g_iadd hΓ (pc := 31) dX4_guestComes_31 ?_
      obtain ⟨x6, hx6, hf⟩ := bindE hf
      refine qg_iald hΓ (pc := 32) hK rfl hx6 dX4_guestComes_32 rfl ?_
      refine g_iconst hΓ (pc := 33) (v := 5) dX4_guestComes_33 (by decide) ?_
      refine g_icmp_gt hΓ (pc := 34) (tgt := 43) dX4_guestComes_34 (by decide) (fun c7 => ?_) (fun c7 => ?_)
      · have hf := ifP hf c7
        refine g_iconst hΓ (pc := 43) (v := 0) dX4_guestComes_43 (by decide) ?_
        exact qg_zret hΓ hK hf dX4_guestComes_44
      · have hf := ifN hf c7
        refine g_iload_n hΓ (pc := 37) 0 (i := 2) dX4_guestComes_37 rfl rfl ?_
        refine g_bipush hΓ (pc := 38) (v := 6) dX4_guestComes_38 (by decide) ?_
        refine g_icmp_ne hΓ (pc := 40) (tgt := 45) dX4_guestComes_40 (by decide) (fun c8 => ?_) (fun c8 => ?_)
        · have hf := ifN hf c8
          refine g_aload_n hΓ (pc := 45) 1 (i := 0) dX4_guestComes_45 rfl rfl ?_
          refine qg_geta hΓ (pc := 46) hK (k := 11) rfl q1083 dX4_guestComes_46 ?_
          refine g_iload_n hΓ (pc := 49) 0 (i := 2) dX4_guestComes_49 rfl rfl ?_
          refine g_aload_n hΓ (pc := 50) 1 (i := 0) dX4_guestComes_50 rfl rfl ?_
          refine qg_geta hΓ (pc := 51) hK (k := 37) rfl q1109 dX4_guestComes_51 ?_
          refine g_iload_n hΓ (pc := 54) 2 (i := 1) dX4_guestComes_54 rfl rfl ?_
          obtain ⟨x9, hx9, hf⟩ := bindE hf
          refine qg_iald hΓ (pc := 55) hK rfl hx9 dX4_guestComes_55 rfl ?_
          obtain ⟨m10, hm10, hf⟩ := bindE hf
          refine qg_iast hΓ (pc := 56) hK rfl hm10 dX4_guestComes_56 rfl ?_
          refine g_aload_n hΓ (pc := 57) 1 (i := 0) dX4_guestComes_57 rfl rfl ?_
          refine qg_geta hΓ (pc := 58) hK (k := 12) rfl q1084 dX4_guestComes_58 ?_
          refine g_iload_n hΓ (pc := 61) 0 (i := 2) dX4_guestComes_61 rfl rfl ?_
          refine g_aload_n hΓ (pc := 62) 1 (i := 0) dX4_guestComes_62 rfl rfl ?_
          refine qg_geta hΓ (pc := 63) hK (k := 37) rfl q1109 dX4_guestComes_63 ?_
          refine g_iload_n hΓ (pc := 66) 2 (i := 1) dX4_guestComes_66 rfl rfl ?_
          refine g_iconst hΓ (pc := 67) (v := 1) dX4_guestComes_67 (by decide) ?_
          refine g_iadd hΓ (pc := 68) dX4_guestComes_68 ?_
          obtain ⟨x11, hx11, hf⟩ := bindE hf
          refine qg_iald hΓ (pc := 69) hK rfl hx11 dX4_guestComes_69 rfl ?_
          obtain ⟨m12, hm12, hf⟩ := bindE hf
          refine qg_iast hΓ (pc := 70) hK rfl hm12 dX4_guestComes_70 rfl ?_
          refine g_aload_n hΓ (pc := 71) 1 (i := 0) dX4_guestComes_71 rfl rfl ?_
          refine qg_geta hΓ (pc := 72) hK (k := 13) rfl q1085 dX4_guestComes_72 ?_
          refine g_iload_n hΓ (pc := 75) 0 (i := 2) dX4_guestComes_75 rfl rfl ?_
          refine g_aload_n hΓ (pc := 76) 1 (i := 0) dX4_guestComes_76 rfl rfl ?_
          refine qg_geta hΓ (pc := 77) hK (k := 37) rfl q1109 dX4_guestComes_77 ?_
          refine g_iload_n hΓ (pc := 80) 2 (i := 1) dX4_guestComes_80 rfl rfl ?_
          refine g_iconst hΓ (pc := 81) (v := 2) dX4_guestComes_81 (by decide) ?_
          refine g_iadd hΓ (pc := 82) dX4_guestComes_82 ?_
          obtain ⟨x13, hx13, hf⟩ := bindE hf
          refine qg_iald hΓ (pc := 83) hK rfl hx13 dX4_guestComes_83 rfl ?_
          obtain ⟨m14, hm14, hf⟩ := bindE hf
          refine qg_iast hΓ (pc := 84) hK rfl hm14 dX4_guestComes_84 rfl ?_
          refine g_aload_n hΓ (pc := 85) 1 (i := 0) dX4_guestComes_85 rfl rfl ?_
          refine qg_geta hΓ (pc := 86) hK (k := 14) rfl q1086 dX4_guestComes_86 ?_
          refine g_iload_n hΓ (pc := 89) 0 (i := 2) dX4_guestComes_89 rfl rfl ?_
          refine g_aload_n hΓ (pc := 90) 1 (i := 0) dX4_guestComes_90 rfl rfl ?_
          refine qg_geta hΓ (pc := 91) hK (k := 37) rfl q1109 dX4_guestComes_91 ?_
          refine g_iload_n hΓ (pc := 94) 2 (i := 1) dX4_guestComes_94 rfl rfl ?_
          refine g_iconst hΓ (pc := 95) (v := 3) dX4_guestComes_95 (by decide) ?_
          refine g_iadd hΓ (pc := 96) dX4_guestComes_96 ?_
          obtain ⟨x15, hx15, hf⟩ := bindE hf
          refine qg_iald hΓ (pc := 97) hK rfl hx15 dX4_guestComes_97 rfl ?_
          obtain ⟨m16, hm16, hf⟩ := bindE hf
          refine qg_iast hΓ (pc := 98) hK rfl hm16 dX4_guestComes_98 rfl ?_
          refine g_aload_n hΓ (pc := 99) 1 (i := 0) dX4_guestComes_99 rfl rfl ?_
          refine qg_geta hΓ (pc := 100) hK (k := 15) rfl q1087 dX4_guestComes_100 ?_
          refine g_iload_n hΓ (pc := 103) 0 (i := 2) dX4_guestComes_103 rfl rfl ?_
          refine g_aload_n hΓ (pc := 104) 1 (i := 0) dX4_guestComes_104 rfl rfl ?_
          refine qg_geta hΓ (pc := 105) hK (k := 37) rfl q1109 dX4_guestComes_105 ?_
          refine g_iload_n hΓ (pc := 108) 2 (i := 1) dX4_guestComes_108 rfl rfl ?_
          refine g_iconst hΓ (pc := 109) (v := 4) dX4_guestComes_109 (by decide) ?_
          refine g_iadd hΓ (pc := 110) dX4_guestComes_110 ?_
          obtain ⟨x17, hx17, hf⟩ := bindE hf
          refine qg_iald hΓ (pc := 111) hK rfl hx17 dX4_guestComes_111 rfl ?_
          obtain ⟨m18, hm18, hf⟩ := bindE hf
          refine qg_iast hΓ (pc := 112) hK rfl hm18 dX4_guestComes_112 rfl ?_
          refine g_aload_n hΓ (pc := 113) 1 (i := 0) dX4_guestComes_113 rfl rfl ?_
          refine qg_geta hΓ (pc := 114) hK (k := 16) rfl q1088 dX4_guestComes_114 ?_
          refine g_iload_n hΓ (pc := 117) 0 (i := 2) dX4_guestComes_117 rfl rfl ?_
          refine g_bipush hΓ (pc := 118) (v := -4) dX4_guestComes_118 (by decide) ?_
          obtain ⟨m19, hm19, hf⟩ := bindE hf
          refine qg_iast hΓ (pc := 120) hK rfl hm19 dX4_guestComes_120 rfl ?_
          refine g_aload_n hΓ (pc := 121) 1 (i := 0) dX4_guestComes_121 rfl rfl ?_
          refine qg_geta hΓ (pc := 122) hK (k := 17) rfl q1089 dX4_guestComes_122 ?_
          refine g_iload_n hΓ (pc := 125) 0 (i := 2) dX4_guestComes_125 rfl rfl ?_
          refine g_bipush hΓ (pc := 126) (v := -4) dX4_guestComes_126 (by decide) ?_
          obtain ⟨m20, hm20, hf⟩ := bindE hf
          refine qg_iast hΓ (pc := 128) hK rfl hm20 dX4_guestComes_128 rfl ?_
          refine g_aload_n hΓ (pc := 129) 1 (i := 0) dX4_guestComes_129 rfl rfl ?_
          refine qg_geta hΓ (pc := 130) hK (k := 18) rfl q1090 dX4_guestComes_130 ?_
          refine g_iload_n hΓ (pc := 133) 0 (i := 2) dX4_guestComes_133 rfl rfl ?_
          refine g_iconst hΓ (pc := 134) (v := 0) dX4_guestComes_134 (by decide) ?_
          obtain ⟨m21, hm21, hf⟩ := bindE hf
          refine qg_iast hΓ (pc := 135) hK rfl hm21 dX4_guestComes_135 rfl ?_
          refine g_aload_n hΓ (pc := 136) 1 (i := 0) dX4_guestComes_136 rfl rfl ?_
          refine qg_geta hΓ (pc := 137) hK (k := 19) rfl q1091 dX4_guestComes_137 ?_
          refine g_iload_n hΓ (pc := 140) 0 (i := 2) dX4_guestComes_140 rfl rfl ?_
          refine g_iconst hΓ (pc := 141) (v := 0) dX4_guestComes_141 (by decide) ?_
          obtain ⟨m22, hm22, hf⟩ := bindE hf
          refine qg_iast hΓ (pc := 142) hK rfl hm22 dX4_guestComes_142 rfl ?_
          refine g_aload_n hΓ (pc := 143) 1 (i := 0) dX4_guestComes_143 rfl rfl ?_
          refine g_dup hΓ (pc := 144) dX4_guestComes_144 rfl ?_
          refine qg_get hΓ (pc := 145) hK (k := 1) rfl q1073 dX4_guestComes_145 ?_
          refine g_iconst hΓ (pc := 148) (v := 1) dX4_guestComes_148 (by decide) ?_
          refine g_iadd hΓ (pc := 149) dX4_guestComes_149 ?_
          obtain ⟨m23, hm23, hf⟩ := bindE hf
          refine qg_put hΓ (pc := 150) hK rfl hm23 q1073 dX4_guestComes_150 ?_
          refine g_iconst hΓ (pc := 153) (v := 1) dX4_guestComes_153 (by decide) ?_
          exact qg_zret hΓ hK hf dX4_guestComes_154
        · have hf := ifP hf c8
          refine g_iconst hΓ (pc := 43) (v := 0) dX4_guestComes_43 (by decide) ?_
          exact qg_zret hΓ hK hf dX4_guestComes_44
def M_isGuest (m : MS) (a0 : Int32) : Option (Int32) :=
  (M_in a0.toInt64 (0 : Int64) (((m.1 1) - (1 : Int32)).toInt64)).bind fun x1 =>
  zOk x1
set_option maxHeartbeats 4000000 in
set_option maxRecDepth 100000 in
theorem metM_isGuest (l : Launch) {D : va_G} {dA : Nat → ClassId} {b : Nat} {ad : Nat → Nat} {P : Nat → Prop} {F : Nat → va_E} {m : MS} {a0 : Int32} {r : Int32} (hf : M_isGuest m a0 = some r) : Met l yX4_isGuest (ws_ yX4_isGuest cX4_isGuest 2 (some .boolean)) (rm0_ 1 25) (mP D dA b ad P F [.ref (ad 46), .int a0] m) (mQ D dA b ad P F (some (.int r)) m) 0 0 (fun q => b ≤ q) := by
  refine qg_met (by decide) RX4 rfl (Nat.le_of_ble_eq_true rfl) (fun Γ hΓ hK => ?_)
  refine g_sub [0, 1] (lv' := [(0, .ref (ad 46)), (1, .int a0)]) rfl ?_
  refine g_iload_n hΓ (pc := 0) 1 (i := 1) dX4_isGuest_0 rfl rfl ?_
  refine g_i2l hΓ (pc := 1) dX4_isGuest_1 ?_
  refine g_lconst hΓ (pc := 2) (v := 0) dX4_isGuest_2 (by decide) ?_
  refine g_aload_n hΓ (pc := 3) 0 (i := 0) dX4_isGuest_3 rfl rfl ?_
  refine qg_get hΓ (pc := 4) hK (k := 1) rfl q1073 dX4_isGuest_4 ?_
  refine g_iconst hΓ (pc := 7) (v := 1) dX4_isGuest_7 (by decide) ?_
  refine g_isub hΓ (pc := 8) dX4_isGuest_8 ?_
  refine g_i2l hΓ (pc := 9) dX4_isGuest_9 ?_
  obtain ⟨x1, hx1, hf⟩ := bindE hf
  refine qg_callS hΓ (pc := 10) 3 (As := [.long a0.toInt64, .long (0 : Int64), .long (((m.1 1) - (1 : Int32)).toInt64)]) (metM_in _ hx1) (lw_S q1245 q1246 q57 q1247) (by decide +kernel) (by decide) rfl rfl (Nat.le_of_ble_eq_true rfl) dX4_isGuest_10 ?_
  exact qg_zretR hΓ hK hf dX4_isGuest_13
def M_isGlass (m : MS) (a0 : Int32) : Option (Int32) :=
  (M_in a0.toInt64 (0 : Int64) (((m.1 0) - (1 : Int32)).toInt64)).bind fun x1 =>
  zOk x1
set_option maxHeartbeats 4000000 in
set_option maxRecDepth 100000 in
theorem metM_isGlass (l : Launch) {D : va_G} {dA : Nat → ClassId} {b : Nat} {ad : Nat → Nat} {P : Nat → Prop} {F : Nat → va_E} {m : MS} {a0 : Int32} {r : Int32} (hf : M_isGlass m a0 = some r) : Met l yX4_isGlass (ws_ yX4_isGlass cX4_isGlass 2 (some .boolean)) (rm0_ 1 25) (mP D dA b ad P F [.ref (ad 46), .int a0] m) (mQ D dA b ad P F (some (.int r)) m) 0 0 (fun q => b ≤ q) := by
  refine qg_met (by decide) RX4 rfl (Nat.le_of_ble_eq_true rfl) (fun Γ hΓ hK => ?_)
  refine g_sub [0, 1] (lv' := [(0, .ref (ad 46)), (1, .int a0)]) rfl ?_
  refine g_iload_n hΓ (pc := 0) 1 (i := 1) dX4_isGlass_0 rfl rfl ?_
  refine g_i2l hΓ (pc := 1) dX4_isGlass_1 ?_
  refine g_lconst hΓ (pc := 2) (v := 0) dX4_isGlass_2 (by decide) ?_
  refine g_aload_n hΓ (pc := 3) 0 (i := 0) dX4_isGlass_3 rfl rfl ?_
  refine qg_get hΓ (pc := 4) hK (k := 0) rfl q1072 dX4_isGlass_4 ?_
  refine g_iconst hΓ (pc := 7) (v := 1) dX4_isGlass_7 (by decide) ?_
  refine g_isub hΓ (pc := 8) dX4_isGlass_8 ?_
  refine g_i2l hΓ (pc := 9) dX4_isGlass_9 ?_
  obtain ⟨x1, hx1, hf⟩ := bindE hf
  refine qg_callS hΓ (pc := 10) 3 (As := [.long a0.toInt64, .long (0 : Int64), .long (((m.1 0) - (1 : Int32)).toInt64)]) (metM_in _ hx1) (lw_S q1245 q1246 q57 q1247) (by decide +kernel) (by decide) rfl rfl (Nat.le_of_ble_eq_true rfl) dX4_isGlass_10 ?_
  exact qg_zretR hΓ hK hf dX4_isGlass_13
def M_hold (m : MS) (a0 : Int32) (a1 : Int32) : Option (MS) :=
  (mW m 7 a1 ((10 : Int32) + a0)).bind fun m1 =>
  (mW m1 8 a1 (-4 : Int32)).bind fun m2 =>
  (mW m2 16 a0 a1).bind fun m3 =>
  (mW m3 17 a0 a1).bind fun m4 =>
  some m4
set_option maxHeartbeats 4000000 in
set_option maxRecDepth 100000 in
theorem metM_hold (l : Launch) {D : va_G} {dA : Nat → ClassId} {b : Nat} {ad : Nat → Nat} {P : Nat → Prop} {F : Nat → va_E} {m : MS} {m' : MS} {a0 : Int32} {a1 : Int32} (hf : M_hold m a0 a1 = some m') : Met l yX4_hold (ws_ yX4_hold cX4_hold 3 none) (rm0_ 0 0) (mP D dA b ad P F [.ref (ad 46), .int a0, .int a1] m) (mQ D dA b ad P F none m') 0 0 (fun q => b ≤ q) := by
  refine qg_met (by decide) RX4 rfl (Nat.le_of_ble_eq_true rfl) (fun Γ hΓ hK => ?_)
  refine g_sub [0, 1, 2] (lv' := [(0, .ref (ad 46)), (1, .int a0), (2, .int a1)]) rfl ?_
  refine g_aload_n hΓ (pc := 0) 0 (i := 0) dX4_hold_0 rfl rfl ?_
  refine qg_geta hΓ (pc := 1) hK (k := 7) rfl q1079 dX4_hold_1 ?_
  refine g_iload_n hΓ (pc := 4) 2 (i := 2) dX4_hold_4 rfl rfl ?_
  refine g_bipush hΓ (pc := 5) (v := 10) dX4_hold_5 (by decide) ?_
  refine g_iload_n hΓ (pc := 7) 1 (i := 1) dX4_hold_7 rfl rfl ?_
  refine g_iadd hΓ (pc := 8) dX4_hold_8 ?_
  obtain ⟨m1, hm1, hf⟩ := bindE hf
  refine qg_iast hΓ (pc := 9) hK rfl hm1 dX4_hold_9 rfl ?_
  refine g_aload_n hΓ (pc := 10) 0 (i := 0) dX4_hold_10 rfl rfl ?_
  refine qg_geta hΓ (pc := 11) hK (k := 8) rfl q1080 dX4_hold_11 ?_
  refine g_iload_n hΓ (pc := 14) 2 (i := 2) dX4_hold_14 rfl rfl ?_
  refine g_bipush hΓ (pc := 15) (v := -4) dX4_hold_15 (by decide) ?_
  obtain ⟨m2, hm2, hf⟩ := bindE hf
  refine qg_iast hΓ (pc := 17) hK rfl hm2 dX4_hold_17 rfl ?_
  refine g_aload_n hΓ (pc := 18) 0 (i := 0) dX4_hold_18 rfl rfl ?_
  refine qg_geta hΓ (pc := 19) hK (k := 16) rfl q1088 dX4_hold_19 ?_
  refine g_iload_n hΓ (pc := 22) 1 (i := 1) dX4_hold_22 rfl rfl ?_
  refine g_iload_n hΓ (pc := 23) 2 (i := 2) dX4_hold_23 rfl rfl ?_
  obtain ⟨m3, hm3, hf⟩ := bindE hf
  refine qg_iast hΓ (pc := 24) hK rfl hm3 dX4_hold_24 rfl ?_
  refine g_aload_n hΓ (pc := 25) 0 (i := 0) dX4_hold_25 rfl rfl ?_
  refine qg_geta hΓ (pc := 26) hK (k := 17) rfl q1089 dX4_hold_26 ?_
  refine g_iload_n hΓ (pc := 29) 1 (i := 1) dX4_hold_29 rfl rfl ?_
  refine g_iload_n hΓ (pc := 30) 2 (i := 2) dX4_hold_30 rfl rfl ?_
  obtain ⟨m4, hm4, hf⟩ := bindE hf
  refine qg_iast hΓ (pc := 31) hK rfl hm4 dX4_hold_31 rfl ?_
  exact qg_vret hΓ hK hf dX4_hold_32
def M_holdComes_41 (m : MS) (y1 : Int32) (y2 : Int32) (z0 : Int32) : Option (Int32 × MS) :=
  if z0 = 0 then (
    (zOk z0).bind fun z => some (z, m)
  ) else (
    (M_hold m y1 y2).bind fun m2 =>
    (zOk z0).bind fun z => some (z, m2)
  )
def M_holdComes (m : MS) (a0 : Int32) (a1 : Int32) : Option (Int32 × MS) :=
  (M_isGuest m a0).bind fun x3 =>
  if x3 = 0 then (
    M_holdComes_41 m a0 a1 (0 : Int32)
  ) else (
    (M_isGlass m a1).bind fun x5 =>
    if x5 = 0 then (
      M_holdComes_41 m a0 a1 (0 : Int32)
    ) else (
      (mR m 16 a0).bind fun x7 =>
      if 0 ≤ x7 then (
        M_holdComes_41 m a0 a1 (0 : Int32)
      ) else (
        (mR m 7 a1).bind fun x9 =>
        if (10 : Int32) ≤ x9 then (
          M_holdComes_41 m a0 a1 (0 : Int32)
        ) else (
          M_holdComes_41 m a0 a1 (1 : Int32)
        )
      )
    )
  )
set_option maxHeartbeats 4000000 in
set_option maxRecDepth 100000 in
theorem metM_holdComes (l : Launch) {D : va_G} {dA : Nat → ClassId} {b : Nat} {ad : Nat → Nat} {P : Nat → Prop} {F : Nat → va_E} {m : MS} {m' : MS} {a0 : Int32} {a1 : Int32} {r : Int32} (hf : M_holdComes m a0 a1 = some (r, m')) : Met l yX4_holdComes (ws_ yX4_holdComes cX4_holdComes 4 (some .boolean)) (rm0_ 2 46) (mP D dA b ad P F [.ref (ad 46), .int a0, .int a1] m) (mQ D dA b ad P F (some (.int r)) m') 0 0 (fun q => b ≤ q) := by
  refine qg_met (by decide) RX4 rfl (Nat.le_of_ble_eq_true rfl) (fun Γ hΓ hK => ?_)
  refine g_sub [0, 1, 2] (lv' := [(0, .ref (ad 46)), (1, .int a0), (2, .int a1)]) rfl ?_
  have J41 : ∀ (m : MS) (y1 : Int32) (y2 : Int32) (z0 : Int32) (hf : M_holdComes_41   m y1 y2 z0 = some (r, m')), WG Γ (MW D dA b ad P F m) 0 0 41 [(0, .ref (ad 46)), (1, .int y1), (2, .int y2)] [.int z0] := by
    intro  m y1 y2 z0 hf
    refine g_istore_n hΓ (pc := 41) (i := 3) (lv' := [(3, .int z0), (0, .ref (ad 46)), (1, .int y1), (2, .int y2)]) dX4_holdComes_41 rfl (by decide) rfl ?_
    refine g_iload_n hΓ (pc := 42) 0 (i := 3) dX4_holdComes_42 rfl rfl ?_
    refine g_if_eq hΓ (pc := 43) (tgt := 52) dX4_holdComes_43 (by decide) (fun c1 => ?_) (fun c1 => ?_)
    · have hf := ifP hf c1
      refine g_iload_n hΓ (pc := 52) 0 (i := 3) dX4_holdComes_52 rfl rfl ?_
      exact qg_zret hΓ hK hf dX4_holdComes_53
    · have hf := ifN hf c1
      refine g_aload_n hΓ (pc := 46) 1 (i := 0) dX4_holdComes_46 rfl rfl ?_
      refine g_iload_n hΓ (pc := 47) 2 (i := 1) dX4_holdComes_47 rfl rfl ?_
      refine g_iload_n hΓ (pc := 48) 3 (i := 2) dX4_holdComes_48 rfl rfl ?_
      obtain ⟨m2, hm2, hf⟩ := bindE hf
      refine qg_callV hΓ (pc := 49) hK 2 (As := [.int y1, .int y2]) (metM_hold _ hm2) (lw_V q1298 q1300 qs30 q57 q1301) (by decide +kernel) (by decide) rfl rfl (Nat.le_of_ble_eq_true rfl) dX4_holdComes_49 ?_
      refine g_iload_n hΓ (pc := 52) 0 (i := 3) dX4_holdComes_52 rfl rfl ?_
      exact qg_zret hΓ hK hf dX4_holdComes_53
  refine g_aload_n hΓ (pc := 0) 0 (i := 0) dX4_holdComes_0 rfl rfl ?_
  refine g_iload_n hΓ (pc := 1) 1 (i := 1) dX4_holdComes_1 rfl rfl ?_
  obtain ⟨x3, hx3, hf⟩ := bindE hf
  refine qg_callV hΓ (pc := 2) hK 1 (As := [.int a0]) (metM_isGuest _ hx3) (lw_V q1290 q1292 qs28 q57 q1293) (by decide +kernel) (by decide) rfl rfl (Nat.le_of_ble_eq_true rfl) dX4_holdComes_2 ?_
  refine g_if_eq hΓ (pc := 5) (tgt := 40) dX4_holdComes_5 (by decide) (fun c4 => ?_) (fun c4 => ?_)
  · have hf := ifP hf c4
    refine g_iconst hΓ (pc := 40) (v := 0) dX4_holdComes_40 (by decide) ?_
    exact g_sub [0, 1, 2] rfl (J41  _ _ _ _ hf)
  · have hf := ifN hf c4
    refine g_aload_n hΓ (pc := 8) 0 (i := 0) dX4_holdComes_8 rfl rfl ?_
    refine g_iload_n hΓ (pc := 9) 2 (i := 2) dX4_holdComes_9 rfl rfl ?_
    obtain ⟨x5, hx5, hf⟩ := bindE hf
    refine qg_callV hΓ (pc := 10) hK 1 (As := [.int a1]) (metM_isGlass _ hx5) (lw_V q1294 q1296 qs29 q57 q1297) (by decide +kernel) (by decide) rfl rfl (Nat.le_of_ble_eq_true rfl) dX4_holdComes_10 ?_
    refine g_if_eq hΓ (pc := 13) (tgt := 40) dX4_holdComes_13 (by decide) (fun c6 => ?_) (fun c6 => ?_)
    · have hf := ifP hf c6
      refine g_iconst hΓ (pc := 40) (v := 0) dX4_holdComes_40 (by decide) ?_
      exact g_sub [0, 1, 2] rfl (J41  _ _ _ _ hf)
    · have hf := ifN hf c6
      refine g_aload_n hΓ (pc := 16) 0 (i := 0) dX4_holdComes_16 rfl rfl ?_
      refine qg_geta hΓ (pc := 17) hK (k := 16) rfl q1088 dX4_holdComes_17 ?_
      refine g_iload_n hΓ (pc := 20) 1 (i := 1) dX4_holdComes_20 rfl rfl ?_
      obtain ⟨x7, hx7, hf⟩ := bindE hf
      refine qg_iald hΓ (pc := 21) hK rfl hx7 dX4_holdComes_21 rfl ?_
      refine g_if_ge hΓ (pc := 22) (tgt := 40) dX4_holdComes_22 (by decide) (fun c8 => ?_) (fun c8 => ?_)
      · have hf := ifP hf c8
        refine g_iconst hΓ (pc := 40) (v := 0) dX4_holdComes_40 (by decide) ?_
        exact g_sub [0, 1, 2] rfl (J41  _ _ _ _ hf)
      · have hf := ifN hf c8
        refine g_aload_n hΓ (pc := 25) 0 (i := 0) dX4_holdComes_25 rfl rfl ?_
        refine qg_geta hΓ (pc := 26) hK (k := 7) rfl q1079 dX4_holdComes_26 ?_
        refine g_iload_n hΓ (pc := 29) 2 (i := 2) dX4_holdComes_29 rfl rfl ?_
        obtain ⟨x9, hx9, hf⟩ := bindE hf
        refine qg_iald hΓ (pc := 30) hK rfl hx9 dX4_holdComes_30 rfl ?_
        refine g_bipush hΓ (pc := 31) (v := 10) dX4_holdComes_31 (by decide) ?_
        refine g_icmp_ge hΓ (pc := 33) (tgt := 40) dX4_holdComes_33 (by decide) (fun c10 => ?_) (fun c10 => ?_)
        · have hf := ifP hf c10
          refine g_iconst hΓ (pc := 40) (v := 0) dX4_holdComes_40 (by decide) ?_
          exact g_sub [0, 1, 2] rfl (J41  _ _ _ _ hf)
        · have hf := ifN hf c10
          refine g_iconst hΓ (pc := 36) (v := 1) dX4_holdComes_36 (by decide) ?_
          refine g_goto hΓ (pc := 37) (tgt := 41) dX4_holdComes_37 (by decide) ?_
          exact g_sub [0, 1, 2] rfl (J41  _ _ _ _ hf)
def M_goOn (m : MS) (a0 : Int32) : Option (MS) :=
  (mR m 15 a0).bind fun x1 =>
  if ((x1 + (1 : Int32)) - (x1 + (1 : Int32)) / (6 : Int32) * (6 : Int32)) = (m.1 22) then (
    (mW m 15 a0 ((((x1 + (1 : Int32)) - (x1 + (1 : Int32)) / (6 : Int32) * (6 : Int32)) + (1 : Int32)) - (((x1 + (1 : Int32)) - (x1 + (1 : Int32)) / (6 : Int32) * (6 : Int32)) + (1 : Int32)) / (6 : Int32) * (6 : Int32))).bind fun m4 =>
    some m4
  ) else (
    (mW m 15 a0 ((x1 + (1 : Int32)) - (x1 + (1 : Int32)) / (6 : Int32) * (6 : Int32))).bind fun m3 =>
    some m3
  )
set_option maxHeartbeats 4000000 in
set_option maxRecDepth 100000 in
theorem metM_goOn (l : Launch) {D : va_G} {dA : Nat → ClassId} {b : Nat} {ad : Nat → Nat} {P : Nat → Prop} {F : Nat → va_E} {m : MS} {m' : MS} {a0 : Int32} (hf : M_goOn m a0 = some m') : Met l yX4_goOn (ws_ yX4_goOn cX4_goOn 3 none) (rm0_ 0 0) (mP D dA b ad P F [.ref (ad 46), .int a0] m) (mQ D dA b ad P F none m') 0 0 (fun q => b ≤ q) := by
  refine qg_met (by decide) RX4 rfl (Nat.le_of_ble_eq_true rfl) (fun Γ hΓ hK => ?_)
  refine g_sub [0, 1] (lv' := [(0, .ref (ad 46)), (1, .int a0)]) rfl ?_
  refine g_aload_n hΓ (pc := 0) 0 (i := 0) dX4_goOn_0 rfl rfl ?_
  refine qg_geta hΓ (pc := 1) hK (k := 15) rfl q1087 dX4_goOn_1 ?_
  refine g_iload_n hΓ (pc := 4) 1 (i := 1) dX4_goOn_4 rfl rfl ?_
  obtain ⟨x1, hx1, hf⟩ := bindE hf
  refine qg_iald hΓ (pc := 5) hK rfl hx1 dX4_goOn_5 rfl ?_
  refine g_iconst hΓ (pc := 6) (v := 1) dX4_goOn_6 (by decide) ?_
  refine g_iadd hΓ (pc := 7) dX4_goOn_7 ?_
  refine g_bipush hΓ (pc := 8) (v := 6) dX4_goOn_8 (by decide) ?_
  refine g_irem hΓ (pc := 10) dX4_goOn_10 (by decide) ?_
  refine g_istore_n hΓ (pc := 11) (i := 2) (lv' := [(2, .int ((x1 + (1 : Int32)) - (x1 + (1 : Int32)) / (6 : Int32) * (6 : Int32))), (0, .ref (ad 46)), (1, .int a0)]) dX4_goOn_11 rfl (by decide) rfl ?_
  refine g_aload_n hΓ (pc := 12) 1 (i := 0) dX4_goOn_12 rfl rfl ?_
  refine qg_geta hΓ (pc := 13) hK (k := 15) rfl q1087 dX4_goOn_13 ?_
  refine g_iload_n hΓ (pc := 16) 2 (i := 1) dX4_goOn_16 rfl rfl ?_
  refine g_iload_n hΓ (pc := 17) 0 (i := 2) dX4_goOn_17 rfl rfl ?_
  refine g_aload_n hΓ (pc := 18) 1 (i := 0) dX4_goOn_18 rfl rfl ?_
  refine qg_get hΓ (pc := 19) hK (k := 22) rfl q1094 dX4_goOn_19 ?_
  refine g_icmp_ne hΓ (pc := 22) (tgt := 34) dX4_goOn_22 (by decide) (fun c2 => ?_) (fun c2 => ?_)
  · have hf := ifN hf c2
    refine g_iload_n hΓ (pc := 34) 0 (i := 2) dX4_goOn_34 rfl rfl ?_
    obtain ⟨m3, hm3, hf⟩ := bindE hf
    refine qg_iast hΓ (pc := 35) hK rfl hm3 dX4_goOn_35 rfl ?_
    exact qg_vret hΓ hK hf dX4_goOn_36
  · have hf := ifP hf c2
    refine g_iload_n hΓ (pc := 25) 0 (i := 2) dX4_goOn_25 rfl rfl ?_
    refine g_iconst hΓ (pc := 26) (v := 1) dX4_goOn_26 (by decide) ?_
    refine g_iadd hΓ (pc := 27) dX4_goOn_27 ?_
    refine g_bipush hΓ (pc := 28) (v := 6) dX4_goOn_28 (by decide) ?_
    refine g_irem hΓ (pc := 30) dX4_goOn_30 (by decide) ?_
    refine g_goto hΓ (pc := 31) (tgt := 35) dX4_goOn_31 (by decide) ?_
    obtain ⟨m4, hm4, hf⟩ := bindE hf
    refine qg_iast hΓ (pc := 35) hK rfl hm4 dX4_goOn_35 rfl ?_
    exact qg_vret hΓ hK hf dX4_goOn_36
def M_plainly (m : MS) (a0 : Int32) (a1 : Int32) : Option (Int32) :=
  (mR m 5 a0).bind fun x1 =>
  (mR m 5 a1).bind fun x2 =>
  if x1 = x2 then (
    some (3 : Int32)
  ) else (
    some (1 : Int32)
  )
set_option maxHeartbeats 4000000 in
set_option maxRecDepth 100000 in
theorem metM_plainly (l : Launch) {D : va_G} {dA : Nat → ClassId} {b : Nat} {ad : Nat → Nat} {P : Nat → Prop} {F : Nat → va_E} {m : MS} {a0 : Int32} {a1 : Int32} {r : Int32} (hf : M_plainly m a0 a1 = some r) : Met l yX4_plainly (ws_ yX4_plainly cX4_plainly 3 (some .int)) (rm0_ 0 0) (mP D dA b ad P F [.ref (ad 46), .int a0, .int a1] m) (mQ D dA b ad P F (some (.int r)) m) 0 0 (fun q => b ≤ q) := by
  refine qg_met (by decide) RX4 rfl (Nat.le_of_ble_eq_true rfl) (fun Γ hΓ hK => ?_)
  refine g_sub [0, 1, 2] (lv' := [(0, .ref (ad 46)), (1, .int a0), (2, .int a1)]) rfl ?_
  refine g_aload_n hΓ (pc := 0) 0 (i := 0) dX4_plainly_0 rfl rfl ?_
  refine qg_geta hΓ (pc := 1) hK (k := 5) rfl q1077 dX4_plainly_1 ?_
  refine g_iload_n hΓ (pc := 4) 1 (i := 1) dX4_plainly_4 rfl rfl ?_
  obtain ⟨x1, hx1, hf⟩ := bindE hf
  refine qg_iald hΓ (pc := 5) hK rfl hx1 dX4_plainly_5 rfl ?_
  refine g_aload_n hΓ (pc := 6) 0 (i := 0) dX4_plainly_6 rfl rfl ?_
  refine qg_geta hΓ (pc := 7) hK (k := 5) rfl q1077 dX4_plainly_7 ?_
  refine g_iload_n hΓ (pc := 10) 2 (i := 2) dX4_plainly_10 rfl rfl ?_
  obtain ⟨x2, hx2, hf⟩ := bindE hf
  refine qg_iald hΓ (pc := 11) hK rfl hx2 dX4_plainly_11 rfl ?_
  refine g_icmp_ne hΓ (pc := 12) (tgt := 19) dX4_plainly_12 (by decide) (fun c3 => ?_) (fun c3 => ?_)
  · have hf := ifN hf c3
    refine g_iconst hΓ (pc := 19) (v := 1) dX4_plainly_19 (by decide) ?_
    exact qg_iretR hΓ hK hf dX4_plainly_20
  · have hf := ifP hf c3
    refine g_iconst hΓ (pc := 15) (v := 3) dX4_plainly_15 (by decide) ?_
    refine g_goto hΓ (pc := 16) (tgt := 20) dX4_plainly_16 (by decide) ?_
    exact qg_iretR hΓ hK hf dX4_plainly_20
def M_tally (m : MS) (a0 : Int32) (a1 : Int32) : Option (Int32) :=
  (M_plainly m a0 a1).bind fun x1 =>
  (mR m 4 a1).bind fun x2 =>
  if x2 = (2 : Int32) then (
    some (x1 + (3 : Int32))
  ) else (
    (mR m 4 a1).bind fun x4 =>
    if x4 = (4 : Int32) then (
      some (x1 + (3 : Int32))
    ) else (
      some (x1 + (0 : Int32))
    )
  )
set_option maxHeartbeats 4000000 in
set_option maxRecDepth 100000 in
theorem metM_tally (l : Launch) {D : va_G} {dA : Nat → ClassId} {b : Nat} {ad : Nat → Nat} {P : Nat → Prop} {F : Nat → va_E} {m : MS} {a0 : Int32} {a1 : Int32} {r : Int32} (hf : M_tally m a0 a1 = some r) : Met l yX4_tally (ws_ yX4_tally cX4_tally 3 (some .int)) (rm0_ 1 22) (mP D dA b ad P F [.ref (ad 46), .int a0, .int a1] m) (mQ D dA b ad P F (some (.int r)) m) 0 0 (fun q => b ≤ q) := by
  refine qg_met (by decide) RX4 rfl (Nat.le_of_ble_eq_true rfl) (fun Γ hΓ hK => ?_)
  refine g_sub [0, 1, 2] (lv' := [(0, .ref (ad 46)), (1, .int a0), (2, .int a1)]) rfl ?_
  refine g_aload_n hΓ (pc := 0) 0 (i := 0) dX4_tally_0 rfl rfl ?_
  refine g_iload_n hΓ (pc := 1) 1 (i := 1) dX4_tally_1 rfl rfl ?_
  refine g_iload_n hΓ (pc := 2) 2 (i := 2) dX4_tally_2 rfl rfl ?_
  obtain ⟨x1, hx1, hf⟩ := bindE hf
  refine qg_callV hΓ (pc := 3) hK 2 (As := [.int a0, .int a1]) (metM_plainly _ hx1) (lw_V q1326 q1328 qs37 q57 q1329) (by decide +kernel) (by decide) rfl rfl (Nat.le_of_ble_eq_true rfl) dX4_tally_3 ?_
  refine g_aload_n hΓ (pc := 6) 0 (i := 0) dX4_tally_6 rfl rfl ?_
  refine qg_geta hΓ (pc := 7) hK (k := 4) rfl q1076 dX4_tally_7 ?_
  refine g_iload_n hΓ (pc := 10) 2 (i := 2) dX4_tally_10 rfl rfl ?_
  obtain ⟨x2, hx2, hf⟩ := bindE hf
  refine qg_iald hΓ (pc := 11) hK rfl hx2 dX4_tally_11 rfl ?_
  refine g_iconst hΓ (pc := 12) (v := 2) dX4_tally_12 (by decide) ?_
  refine g_icmp_eq hΓ (pc := 13) (tgt := 26) dX4_tally_13 (by decide) (fun c3 => ?_) (fun c3 => ?_)
  · have hf := ifP hf c3
    refine g_iconst hΓ (pc := 26) (v := 3) dX4_tally_26 (by decide) ?_
    refine g_goto hΓ (pc := 27) (tgt := 31) dX4_tally_27 (by decide) ?_
    refine g_iadd hΓ (pc := 31) dX4_tally_31 ?_
    exact qg_iretR hΓ hK hf dX4_tally_32
  · have hf := ifN hf c3
    refine g_aload_n hΓ (pc := 16) 0 (i := 0) dX4_tally_16 rfl rfl ?_
    refine qg_geta hΓ (pc := 17) hK (k := 4) rfl q1076 dX4_tally_17 ?_
    refine g_iload_n hΓ (pc := 20) 2 (i := 2) dX4_tally_20 rfl rfl ?_
    obtain ⟨x4, hx4, hf⟩ := bindE hf
    refine qg_iald hΓ (pc := 21) hK rfl hx4 dX4_tally_21 rfl ?_
    refine g_iconst hΓ (pc := 22) (v := 4) dX4_tally_22 (by decide) ?_
    refine g_icmp_ne hΓ (pc := 23) (tgt := 30) dX4_tally_23 (by decide) (fun c5 => ?_) (fun c5 => ?_)
    · have hf := ifN hf c5
      refine g_iconst hΓ (pc := 30) (v := 0) dX4_tally_30 (by decide) ?_
      refine g_iadd hΓ (pc := 31) dX4_tally_31 ?_
      exact qg_iretR hΓ hK hf dX4_tally_32
    · have hf := ifP hf c5
      refine g_iconst hΓ (pc := 26) (v := 3) dX4_tally_26 (by decide) ?_
      refine g_goto hΓ (pc := 27) (tgt := 31) dX4_tally_27 (by decide) ?_
      refine g_iadd hΓ (pc := 31) dX4_tally_31 ?_
      exact qg_iretR hΓ hK hf dX4_tally_32
def M_redly_37 (m : MS) (y1 : Int32) (y2 : Int32) (z0 : Int32) : Option (Int32) :=
  (M_plainly m y1 y2).bind fun x1 =>
  if z0 = 0 then (
    some (x1 + (0 : Int32))
  ) else (
    some (x1 + (4 : Int32))
  )
def M_redly (m : MS) (a0 : Int32) (a1 : Int32) : Option (Int32) :=
  (mR m 4 a1).bind fun x3 =>
  if x3 = (3 : Int32) then (
    M_redly_37 m a0 a1 (1 : Int32)
  ) else (
    (mR m 4 a1).bind fun x5 =>
    if x5 = (6 : Int32) then (
      M_redly_37 m a0 a1 (1 : Int32)
    ) else (
      (mR m 4 a1).bind fun x7 =>
      if x7 = (7 : Int32) then (
        M_redly_37 m a0 a1 (1 : Int32)
      ) else (
        M_redly_37 m a0 a1 (0 : Int32)
      )
    )
  )
set_option maxHeartbeats 4000000 in
set_option maxRecDepth 100000 in
theorem metM_redly (l : Launch) {D : va_G} {dA : Nat → ClassId} {b : Nat} {ad : Nat → Nat} {P : Nat → Prop} {F : Nat → va_E} {m : MS} {a0 : Int32} {a1 : Int32} {r : Int32} (hf : M_redly m a0 a1 = some r) : Met l yX4_redly (ws_ yX4_redly cX4_redly 4 (some .int)) (rm0_ 1 22) (mP D dA b ad P F [.ref (ad 46), .int a0, .int a1] m) (mQ D dA b ad P F (some (.int r)) m) 0 0 (fun q => b ≤ q) := by
  refine qg_met (by decide) RX4 rfl (Nat.le_of_ble_eq_true rfl) (fun Γ hΓ hK => ?_)
  refine g_sub [0, 1, 2] (lv' := [(0, .ref (ad 46)), (1, .int a0), (2, .int a1)]) rfl ?_
  have J37 : ∀ (y1 : Int32) (y2 : Int32) (z0 : Int32) (hf : M_redly_37 m  y1 y2 z0 = some r), WG Γ (MW D dA b ad P F m) 0 0 37 [(0, .ref (ad 46)), (1, .int y1), (2, .int y2)] [.int z0] := by
    intro  y1 y2 z0 hf
    refine g_istore_n hΓ (pc := 37) (i := 3) (lv' := [(3, .int z0), (0, .ref (ad 46)), (1, .int y1), (2, .int y2)]) dX4_redly_37 rfl (by decide) rfl ?_
    refine g_aload_n hΓ (pc := 38) 1 (i := 0) dX4_redly_38 rfl rfl ?_
    refine g_iload_n hΓ (pc := 39) 2 (i := 1) dX4_redly_39 rfl rfl ?_
    refine g_iload_n hΓ (pc := 40) 3 (i := 2) dX4_redly_40 rfl rfl ?_
    obtain ⟨x1, hx1, hf⟩ := bindE hf
    refine qg_callV hΓ (pc := 41) hK 2 (As := [.int y1, .int y2]) (metM_plainly _ hx1) (lw_V q1326 q1328 qs37 q57 q1329) (by decide +kernel) (by decide) rfl rfl (Nat.le_of_ble_eq_true rfl) dX4_redly_41 ?_
    refine g_iload_n hΓ (pc := 44) 0 (i := 3) dX4_redly_44 rfl rfl ?_
    refine g_if_eq hΓ (pc := 45) (tgt := 52) dX4_redly_45 (by decide) (fun c2 => ?_) (fun c2 => ?_)
    · have hf := ifP hf c2
      refine g_iconst hΓ (pc := 52) (v := 0) dX4_redly_52 (by decide) ?_
      refine g_iadd hΓ (pc := 53) dX4_redly_53 ?_
      exact qg_iretR hΓ hK hf dX4_redly_54
    · have hf := ifN hf c2
      refine g_iconst hΓ (pc := 48) (v := 4) dX4_redly_48 (by decide) ?_
      refine g_goto hΓ (pc := 49) (tgt := 53) dX4_redly_49 (by decide) ?_
      refine g_iadd hΓ (pc := 53) dX4_redly_53 ?_
      exact qg_iretR hΓ hK hf dX4_redly_54
  refine g_aload_n hΓ (pc := 0) 0 (i := 0) dX4_redly_0 rfl rfl ?_
  refine qg_geta hΓ (pc := 1) hK (k := 4) rfl q1076 dX4_redly_1 ?_
  refine g_iload_n hΓ (pc := 4) 2 (i := 2) dX4_redly_4 rfl rfl ?_
  obtain ⟨x3, hx3, hf⟩ := bindE hf
  refine qg_iald hΓ (pc := 5) hK rfl hx3 dX4_redly_5 rfl ?_
  refine g_iconst hΓ (pc := 6) (v := 3) dX4_redly_6 (by decide) ?_
  refine g_icmp_eq hΓ (pc := 7) (tgt := 32) dX4_redly_7 (by decide) (fun c4 => ?_) (fun c4 => ?_)
  · have hf := ifP hf c4
    refine g_iconst hΓ (pc := 32) (v := 1) dX4_redly_32 (by decide) ?_
    refine g_goto hΓ (pc := 33) (tgt := 37) dX4_redly_33 (by decide) ?_
    exact g_sub [0, 1, 2] rfl (J37  _ _ _ hf)
  · have hf := ifN hf c4
    refine g_aload_n hΓ (pc := 10) 0 (i := 0) dX4_redly_10 rfl rfl ?_
    refine qg_geta hΓ (pc := 11) hK (k := 4) rfl q1076 dX4_redly_11 ?_
    refine g_iload_n hΓ (pc := 14) 2 (i := 2) dX4_redly_14 rfl rfl ?_
    obtain ⟨x5, hx5, hf⟩ := bindE hf
    refine qg_iald hΓ (pc := 15) hK rfl hx5 dX4_redly_15 rfl ?_
    refine g_bipush hΓ (pc := 16) (v := 6) dX4_redly_16 (by decide) ?_
    refine g_icmp_eq hΓ (pc := 18) (tgt := 32) dX4_redly_18 (by decide) (fun c6 => ?_) (fun c6 => ?_)
    · have hf := ifP hf c6
      refine g_iconst hΓ (pc := 32) (v := 1) dX4_redly_32 (by decide) ?_
      refine g_goto hΓ (pc := 33) (tgt := 37) dX4_redly_33 (by decide) ?_
      exact g_sub [0, 1, 2] rfl (J37  _ _ _ hf)
    · have hf := ifN hf c6
      refine g_aload_n hΓ (pc := 21) 0 (i := 0) dX4_redly_21 rfl rfl ?_
      refine qg_geta hΓ (pc := 22) hK (k := 4) rfl q1076 dX4_redly_22 ?_
      refine g_iload_n hΓ (pc := 25) 2 (i := 2) dX4_redly_25 rfl rfl ?_
      obtain ⟨x7, hx7, hf⟩ := bindE hf
      refine qg_iald hΓ (pc := 26) hK rfl hx7 dX4_redly_26 rfl ?_
      refine g_bipush hΓ (pc := 27) (v := 7) dX4_redly_27 (by decide) ?_
      refine g_icmp_ne hΓ (pc := 29) (tgt := 36) dX4_redly_29 (by decide) (fun c8 => ?_) (fun c8 => ?_)
      · have hf := ifN hf c8
        refine g_iconst hΓ (pc := 36) (v := 0) dX4_redly_36 (by decide) ?_
        exact g_sub [0, 1, 2] rfl (J37  _ _ _ hf)
      · have hf := ifP hf c8
        refine g_iconst hΓ (pc := 32) (v := 1) dX4_redly_32 (by decide) ?_
        refine g_goto hΓ (pc := 33) (tgt := 37) dX4_redly_33 (by decide) ?_
        exact g_sub [0, 1, 2] rfl (J37  _ _ _ hf)
def M_likeOf (m : MS) (a0 : Int32) (a1 : Int32) : Option (Int32) :=
  (mR m 4 a0).bind fun x1 =>
  if x1 = (0 : Int32) then (
    (M_plainly m a0 a1).bind fun x3 =>
    some x3
  ) else (
  if x1 = (1 : Int32) then (
    if a0 = a1 then (
      some (20 : Int32)
    ) else (
      some (0 : Int32)
    )
  ) else (
  if x1 = (2 : Int32) then (
    (M_tally m a0 a1).bind fun x7 =>
    some x7
  ) else (
  if x1 = (3 : Int32) then (
    (M_redly m a0 a1).bind fun x9 =>
    some x9
  ) else (
  if x1 = (4 : Int32) then (
    (M_tally m a0 a1).bind fun x11 =>
    (mR m 4 a1).bind fun x12 =>
    if x12 = (4 : Int32) then (
      some (x11 + (1 : Int32))
    ) else (
      some (x11 + (0 : Int32))
    )
  ) else (
  if x1 = (5 : Int32) then (
    if a0 = a1 then (
      some (20 : Int32)
    ) else (
      (mR m 4 a1).bind fun x16 =>
      if x16 = (5 : Int32) then (
        some (5 : Int32)
      ) else (
        some (0 : Int32)
      )
    )
  ) else (
  if x1 = (6 : Int32) then (
    (M_redly m a0 a1).bind fun x19 =>
    if a0 = a1 then (
      some (x19 * (2 : Int32))
    ) else (
      some (x19 * (1 : Int32))
    )
  ) else (
  (mR m 6 a1).bind fun x21 =>
  if x21 = 0 then (
    some (0 : Int32)
  ) else (
    (M_redly m a0 a1).bind fun x23 =>
    some x23
  )
  )
  )
  )
  )
  )
  )
  )
set_option maxHeartbeats 4000000 in
set_option maxRecDepth 100000 in
theorem metM_likeOf (l : Launch) {D : va_G} {dA : Nat → ClassId} {b : Nat} {ad : Nat → Nat} {P : Nat → Prop} {F : Nat → va_E} {m : MS} {a0 : Int32} {a1 : Int32} {r : Int32} (hf : M_likeOf m a0 a1 = some r) : Met l yX4_likeOf (ws_ yX4_likeOf cX4_likeOf 3 (some .int)) (rm0_ 2 45) (mP D dA b ad P F [.ref (ad 46), .int a0, .int a1] m) (mQ D dA b ad P F (some (.int r)) m) 0 0 (fun q => b ≤ q) := by
  refine qg_met (by decide) RX4 rfl (Nat.le_of_ble_eq_true rfl) (fun Γ hΓ hK => ?_)
  refine g_sub [0, 1, 2] (lv' := [(0, .ref (ad 46)), (1, .int a0), (2, .int a1)]) rfl ?_
  refine g_aload_n hΓ (pc := 0) 0 (i := 0) dX4_likeOf_0 rfl rfl ?_
  refine qg_geta hΓ (pc := 1) hK (k := 4) rfl q1076 dX4_likeOf_1 ?_
  refine g_iload_n hΓ (pc := 4) 1 (i := 1) dX4_likeOf_4 rfl rfl ?_
  obtain ⟨x1, hx1, hf⟩ := bindE hf
  refine qg_iald hΓ (pc := 5) hK rfl hx1 dX4_likeOf_5 rfl ?_
  by_cases c2 : x1 = (0 : Int32)
  · have hf := ifP hf c2
    refine g_tswC hΓ (pc := 6) (tgt := 48) (0) dX4_likeOf_6 (by rw [c2]; decide) (by decide) (by decide) rfl (by decide) ?_
    refine g_aload_n hΓ (pc := 48) 0 (i := 0) dX4_likeOf_48 rfl rfl ?_
    refine g_iload_n hΓ (pc := 49) 1 (i := 1) dX4_likeOf_49 rfl rfl ?_
    refine g_iload_n hΓ (pc := 50) 2 (i := 2) dX4_likeOf_50 rfl rfl ?_
    obtain ⟨x3, hx3, hf⟩ := bindE hf
    refine qg_callV hΓ (pc := 51) hK 2 (As := [.int a0, .int a1]) (metM_plainly _ hx3) (lw_V q1326 q1328 qs37 q57 q1329) (by decide +kernel) (by decide) rfl rfl (Nat.le_of_ble_eq_true rfl) dX4_likeOf_51 ?_
    exact qg_iretR hΓ hK hf dX4_likeOf_54
  · have hf := ifN hf c2
    by_cases c4 : x1 = (1 : Int32)
    · have hf := ifP hf c4
      refine g_tswC hΓ (pc := 6) (tgt := 55) (1) dX4_likeOf_6 (by rw [c4]; decide) (by decide) (by decide) rfl (by decide) ?_
      refine g_iload_n hΓ (pc := 55) 1 (i := 1) dX4_likeOf_55 rfl rfl ?_
      refine g_iload_n hΓ (pc := 56) 2 (i := 2) dX4_likeOf_56 rfl rfl ?_
      refine g_icmp_ne hΓ (pc := 57) (tgt := 65) dX4_likeOf_57 (by decide) (fun c5 => ?_) (fun c5 => ?_)
      · have hf := ifN hf c5
        refine g_iconst hΓ (pc := 65) (v := 0) dX4_likeOf_65 (by decide) ?_
        exact qg_iretR hΓ hK hf dX4_likeOf_66
      · have hf := ifP hf c5
        refine g_bipush hΓ (pc := 60) (v := 20) dX4_likeOf_60 (by decide) ?_
        refine g_goto hΓ (pc := 62) (tgt := 66) dX4_likeOf_62 (by decide) ?_
        exact qg_iretR hΓ hK hf dX4_likeOf_66
    · have hf := ifN hf c4
      by_cases c6 : x1 = (2 : Int32)
      · have hf := ifP hf c6
        refine g_tswC hΓ (pc := 6) (tgt := 67) (2) dX4_likeOf_6 (by rw [c6]; decide) (by decide) (by decide) rfl (by decide) ?_
        refine g_aload_n hΓ (pc := 67) 0 (i := 0) dX4_likeOf_67 rfl rfl ?_
        refine g_iload_n hΓ (pc := 68) 1 (i := 1) dX4_likeOf_68 rfl rfl ?_
        refine g_iload_n hΓ (pc := 69) 2 (i := 2) dX4_likeOf_69 rfl rfl ?_
        obtain ⟨x7, hx7, hf⟩ := bindE hf
        refine qg_callV hΓ (pc := 70) hK 2 (As := [.int a0, .int a1]) (metM_tally _ hx7) (lw_V q1330 q1332 qs38 q57 q1333) (by decide +kernel) (by decide) rfl rfl (Nat.le_of_ble_eq_true rfl) dX4_likeOf_70 ?_
        exact qg_iretR hΓ hK hf dX4_likeOf_73
      · have hf := ifN hf c6
        by_cases c8 : x1 = (3 : Int32)
        · have hf := ifP hf c8
          refine g_tswC hΓ (pc := 6) (tgt := 74) (3) dX4_likeOf_6 (by rw [c8]; decide) (by decide) (by decide) rfl (by decide) ?_
          refine g_aload_n hΓ (pc := 74) 0 (i := 0) dX4_likeOf_74 rfl rfl ?_
          refine g_iload_n hΓ (pc := 75) 1 (i := 1) dX4_likeOf_75 rfl rfl ?_
          refine g_iload_n hΓ (pc := 76) 2 (i := 2) dX4_likeOf_76 rfl rfl ?_
          obtain ⟨x9, hx9, hf⟩ := bindE hf
          refine qg_callV hΓ (pc := 77) hK 2 (As := [.int a0, .int a1]) (metM_redly _ hx9) (lw_V q1334 q1336 qs39 q57 q1337) (by decide +kernel) (by decide) rfl rfl (Nat.le_of_ble_eq_true rfl) dX4_likeOf_77 ?_
          exact qg_iretR hΓ hK hf dX4_likeOf_80
        · have hf := ifN hf c8
          by_cases c10 : x1 = (4 : Int32)
          · have hf := ifP hf c10
            refine g_tswC hΓ (pc := 6) (tgt := 81) (4) dX4_likeOf_6 (by rw [c10]; decide) (by decide) (by decide) rfl (by decide) ?_
            refine g_aload_n hΓ (pc := 81) 0 (i := 0) dX4_likeOf_81 rfl rfl ?_
            refine g_iload_n hΓ (pc := 82) 1 (i := 1) dX4_likeOf_82 rfl rfl ?_
            refine g_iload_n hΓ (pc := 83) 2 (i := 2) dX4_likeOf_83 rfl rfl ?_
            obtain ⟨x11, hx11, hf⟩ := bindE hf
            refine qg_callV hΓ (pc := 84) hK 2 (As := [.int a0, .int a1]) (metM_tally _ hx11) (lw_V q1330 q1332 qs38 q57 q1333) (by decide +kernel) (by decide) rfl rfl (Nat.le_of_ble_eq_true rfl) dX4_likeOf_84 ?_
            refine g_aload_n hΓ (pc := 87) 0 (i := 0) dX4_likeOf_87 rfl rfl ?_
            refine qg_geta hΓ (pc := 88) hK (k := 4) rfl q1076 dX4_likeOf_88 ?_
            refine g_iload_n hΓ (pc := 91) 2 (i := 2) dX4_likeOf_91 rfl rfl ?_
            obtain ⟨x12, hx12, hf⟩ := bindE hf
            refine qg_iald hΓ (pc := 92) hK rfl hx12 dX4_likeOf_92 rfl ?_
            refine g_iconst hΓ (pc := 93) (v := 4) dX4_likeOf_93 (by decide) ?_
            refine g_icmp_ne hΓ (pc := 94) (tgt := 101) dX4_likeOf_94 (by decide) (fun c13 => ?_) (fun c13 => ?_)
            · have hf := ifN hf c13
              refine g_iconst hΓ (pc := 101) (v := 0) dX4_likeOf_101 (by decide) ?_
              refine g_iadd hΓ (pc := 102) dX4_likeOf_102 ?_
              exact qg_iretR hΓ hK hf dX4_likeOf_103
            · have hf := ifP hf c13
              refine g_iconst hΓ (pc := 97) (v := 1) dX4_likeOf_97 (by decide) ?_
              refine g_goto hΓ (pc := 98) (tgt := 102) dX4_likeOf_98 (by decide) ?_
              refine g_iadd hΓ (pc := 102) dX4_likeOf_102 ?_
              exact qg_iretR hΓ hK hf dX4_likeOf_103
          · have hf := ifN hf c10
            by_cases c14 : x1 = (5 : Int32)
            · have hf := ifP hf c14
              refine g_tswC hΓ (pc := 6) (tgt := 104) (5) dX4_likeOf_6 (by rw [c14]; decide) (by decide) (by decide) rfl (by decide) ?_
              refine g_iload_n hΓ (pc := 104) 1 (i := 1) dX4_likeOf_104 rfl rfl ?_
              refine g_iload_n hΓ (pc := 105) 2 (i := 2) dX4_likeOf_105 rfl rfl ?_
              refine g_icmp_ne hΓ (pc := 106) (tgt := 114) dX4_likeOf_106 (by decide) (fun c15 => ?_) (fun c15 => ?_)
              · have hf := ifN hf c15
                refine g_aload_n hΓ (pc := 114) 0 (i := 0) dX4_likeOf_114 rfl rfl ?_
                refine qg_geta hΓ (pc := 115) hK (k := 4) rfl q1076 dX4_likeOf_115 ?_
                refine g_iload_n hΓ (pc := 118) 2 (i := 2) dX4_likeOf_118 rfl rfl ?_
                obtain ⟨x16, hx16, hf⟩ := bindE hf
                refine qg_iald hΓ (pc := 119) hK rfl hx16 dX4_likeOf_119 rfl ?_
                refine g_iconst hΓ (pc := 120) (v := 5) dX4_likeOf_120 (by decide) ?_
                refine g_icmp_ne hΓ (pc := 121) (tgt := 128) dX4_likeOf_121 (by decide) (fun c17 => ?_) (fun c17 => ?_)
                · have hf := ifN hf c17
                  refine g_iconst hΓ (pc := 128) (v := 0) dX4_likeOf_128 (by decide) ?_
                  exact qg_iretR hΓ hK hf dX4_likeOf_129
                · have hf := ifP hf c17
                  refine g_iconst hΓ (pc := 124) (v := 5) dX4_likeOf_124 (by decide) ?_
                  refine g_goto hΓ (pc := 125) (tgt := 129) dX4_likeOf_125 (by decide) ?_
                  exact qg_iretR hΓ hK hf dX4_likeOf_129
              · have hf := ifP hf c15
                refine g_bipush hΓ (pc := 109) (v := 20) dX4_likeOf_109 (by decide) ?_
                refine g_goto hΓ (pc := 111) (tgt := 129) dX4_likeOf_111 (by decide) ?_
                exact qg_iretR hΓ hK hf dX4_likeOf_129
            · have hf := ifN hf c14
              by_cases c18 : x1 = (6 : Int32)
              · have hf := ifP hf c18
                refine g_tswC hΓ (pc := 6) (tgt := 130) (6) dX4_likeOf_6 (by rw [c18]; decide) (by decide) (by decide) rfl (by decide) ?_
                refine g_aload_n hΓ (pc := 130) 0 (i := 0) dX4_likeOf_130 rfl rfl ?_
                refine g_iload_n hΓ (pc := 131) 1 (i := 1) dX4_likeOf_131 rfl rfl ?_
                refine g_iload_n hΓ (pc := 132) 2 (i := 2) dX4_likeOf_132 rfl rfl ?_
                obtain ⟨x19, hx19, hf⟩ := bindE hf
                refine qg_callV hΓ (pc := 133) hK 2 (As := [.int a0, .int a1]) (metM_redly _ hx19) (lw_V q1334 q1336 qs39 q57 q1337) (by decide +kernel) (by decide) rfl rfl (Nat.le_of_ble_eq_true rfl) dX4_likeOf_133 ?_
                refine g_iload_n hΓ (pc := 136) 1 (i := 1) dX4_likeOf_136 rfl rfl ?_
                refine g_iload_n hΓ (pc := 137) 2 (i := 2) dX4_likeOf_137 rfl rfl ?_
                refine g_icmp_ne hΓ (pc := 138) (tgt := 145) dX4_likeOf_138 (by decide) (fun c20 => ?_) (fun c20 => ?_)
                · have hf := ifN hf c20
                  refine g_iconst hΓ (pc := 145) (v := 1) dX4_likeOf_145 (by decide) ?_
                  refine g_imul hΓ (pc := 146) dX4_likeOf_146 ?_
                  exact qg_iretR hΓ hK hf dX4_likeOf_147
                · have hf := ifP hf c20
                  refine g_iconst hΓ (pc := 141) (v := 2) dX4_likeOf_141 (by decide) ?_
                  refine g_goto hΓ (pc := 142) (tgt := 146) dX4_likeOf_142 (by decide) ?_
                  refine g_imul hΓ (pc := 146) dX4_likeOf_146 ?_
                  exact qg_iretR hΓ hK hf dX4_likeOf_147
              · have hf := ifN hf c18
                refine g_tswD hΓ (pc := 6) (tgt := 148) dX4_likeOf_6 (fun v h1 h2 h3 => ?_) (by decide) ?_
                · rcases (by omega : v = 0 ∨ v = 1 ∨ v = 2 ∨ v = 3 ∨ v = 4 ∨ v = 5 ∨ v = 6) with rfl | rfl | rfl | rfl | rfl | rfl | rfl
                  · exact absurd h3 (lv_neT c2 (by decide))
                  · exact absurd h3 (lv_neT c4 (by decide))
                  · exact absurd h3 (lv_neT c6 (by decide))
                  · exact absurd h3 (lv_neT c8 (by decide))
                  · exact absurd h3 (lv_neT c10 (by decide))
                  · exact absurd h3 (lv_neT c14 (by decide))
                  · exact absurd h3 (lv_neT c18 (by decide))
                · skip
                  refine g_aload_n hΓ (pc := 148) 0 (i := 0) dX4_likeOf_148 rfl rfl ?_
                  refine qg_geta hΓ (pc := 149) hK (k := 6) rfl q1078 dX4_likeOf_149 ?_
                  refine g_iload_n hΓ (pc := 152) 2 (i := 2) dX4_likeOf_152 rfl rfl ?_
                  obtain ⟨x21, hx21, hf⟩ := bindE hf
                  refine qg_iald hΓ (pc := 153) hK rfl hx21 dX4_likeOf_153 rfl ?_
                  refine g_if_ne hΓ (pc := 154) (tgt := 161) dX4_likeOf_154 (by decide) (fun c22 => ?_) (fun c22 => ?_)
                  · have hf := ifN hf c22
                    refine g_aload_n hΓ (pc := 161) 0 (i := 0) dX4_likeOf_161 rfl rfl ?_
                    refine g_iload_n hΓ (pc := 162) 1 (i := 1) dX4_likeOf_162 rfl rfl ?_
                    refine g_iload_n hΓ (pc := 163) 2 (i := 2) dX4_likeOf_163 rfl rfl ?_
                    obtain ⟨x23, hx23, hf⟩ := bindE hf
                    refine qg_callV hΓ (pc := 164) hK 2 (As := [.int a0, .int a1]) (metM_redly _ hx23) (lw_V q1334 q1336 qs39 q57 q1337) (by decide +kernel) (by decide) rfl rfl (Nat.le_of_ble_eq_true rfl) dX4_likeOf_164 ?_
                    exact qg_iretR hΓ hK hf dX4_likeOf_167
                  · have hf := ifP hf c22
                    refine g_iconst hΓ (pc := 157) (v := 0) dX4_likeOf_157 (by decide) ?_
                    refine g_goto hΓ (pc := 158) (tgt := 167) dX4_likeOf_158 (by decide) ?_
                    exact qg_iretR hΓ hK hf dX4_likeOf_167
def M_isLater (m : MS) (a0 : Int32) (a1 : Int32) : Option (Int32) :=
  (mR m 8 a0).bind fun x1 =>
  (mR m 8 a1).bind fun x2 =>
  if x1 ≤ x2 then (
    zOk (0 : Int32)
  ) else (
    zOk (1 : Int32)
  )
set_option maxHeartbeats 4000000 in
set_option maxRecDepth 100000 in
theorem metM_isLater (l : Launch) {D : va_G} {dA : Nat → ClassId} {b : Nat} {ad : Nat → Nat} {P : Nat → Prop} {F : Nat → va_E} {m : MS} {a0 : Int32} {a1 : Int32} {r : Int32} (hf : M_isLater m a0 a1 = some r) : Met l yX4_isLater (ws_ yX4_isLater cX4_isLater 3 (some .boolean)) (rm0_ 0 0) (mP D dA b ad P F [.ref (ad 46), .int a0, .int a1] m) (mQ D dA b ad P F (some (.int r)) m) 0 0 (fun q => b ≤ q) := by
  refine qg_met (by decide) RX4 rfl (Nat.le_of_ble_eq_true rfl) (fun Γ hΓ hK => ?_)
  refine g_sub [0, 1, 2] (lv' := [(0, .ref (ad 46)), (1, .int a0), (2, .int a1)]) rfl ?_
  refine g_aload_n hΓ (pc := 0) 0 (i := 0) dX4_isLater_0 rfl rfl ?_
  refine qg_geta hΓ (pc := 1) hK (k := 8) rfl q1080 dX4_isLater_1 ?_
  refine g_iload_n hΓ (pc := 4) 1 (i := 1) dX4_isLater_4 rfl rfl ?_
  obtain ⟨x1, hx1, hf⟩ := bindE hf
  refine qg_iald hΓ (pc := 5) hK rfl hx1 dX4_isLater_5 rfl ?_
  refine g_aload_n hΓ (pc := 6) 0 (i := 0) dX4_isLater_6 rfl rfl ?_
  refine qg_geta hΓ (pc := 7) hK (k := 8) rfl q1080 dX4_isLater_7 ?_
  refine g_iload_n hΓ (pc := 10) 2 (i := 2) dX4_isLater_10 rfl rfl ?_
  obtain ⟨x2, hx2, hf⟩ := bindE hf
  refine qg_iald hΓ (pc := 11) hK rfl hx2 dX4_isLater_11 rfl ?_
  refine g_icmp_le hΓ (pc := 12) (tgt := 19) dX4_isLater_12 (by decide) (fun c3 => ?_) (fun c3 => ?_)
  · have hf := ifP hf c3
    refine g_iconst hΓ (pc := 19) (v := 0) dX4_isLater_19 (by decide) ?_
    exact qg_zretR hΓ hK hf dX4_isLater_20
  · have hf := ifN hf c3
    refine g_iconst hΓ (pc := 15) (v := 1) dX4_isLater_15 (by decide) ?_
    refine g_goto hΓ (pc := 16) (tgt := 20) dX4_isLater_16 (by decide) ?_
    exact qg_zretR hΓ hK hf dX4_isLater_20
def M_wouldTake_123 (m : MS) (k31 : Int32 → Int32 → Int32 → Int32 → Option (Int32)) (y1 : Int32) (y2 : Int32) (y3 : Int32) (y4 : Int32) (y6 : Int32) (y7 : Int32) (z0 : Int32) : Option (Int32) :=
  if y7 = 0 then (
    (some (y4 + 1)).bind fun x2 =>
    k31 y1 y2 y3 x2
  ) else (
    if z0 < y6 then (
      (some (y4 + 1)).bind fun x4 =>
      k31 y1 y2 y4 x4
    ) else (
      if y6 = z0 then (
        (M_isLater m y4 y3).bind fun x7 =>
        if x7 = 0 then (
          (some (y4 + 1)).bind fun x9 =>
          k31 y1 y2 y3 x9
        ) else (
          (some (y4 + 1)).bind fun x10 =>
          k31 y1 y2 y4 x10
        )
      ) else (
        (some (y4 + 1)).bind fun x6 =>
        k31 y1 y2 y3 x6
      )
    )
  )
def M_wouldTake_107 (m : MS) (k31 : Int32 → Int32 → Int32 → Int32 → Option (Int32)) (y1 : Int32) (y2 : Int32) (y3 : Int32) (y4 : Int32) (y6 : Int32) (z0 : Int32) : Option (Int32) :=
  if 0 ≤ y3 then (
    (M_likeOf m y2 y3).bind fun x12 =>
    M_wouldTake_123 m k31 y1 y2 y3 y4 y6 z0 x12
  ) else (
    M_wouldTake_123 m k31 y1 y2 y3 y4 y6 z0 (0 : Int32)
  )
def M_wouldTake_79 (m : MS) (k31 : Int32 → Int32 → Int32 → Int32 → Option (Int32)) (y1 : Int32) (y2 : Int32) (y3 : Int32) (y4 : Int32) (y5 : Int32) (z0 : Int32) : Option (Int32) :=
  if y5 = 0 then (
    M_wouldTake_107 m k31 y1 y2 y3 y4 z0 (0 : Int32)
  ) else (
    if z0 ≤ 0 then (
      M_wouldTake_107 m k31 y1 y2 y3 y4 z0 (0 : Int32)
    ) else (
      (mR m 14 y1).bind fun x15 =>
      if z0 < x15 then (
        M_wouldTake_107 m k31 y1 y2 y3 y4 z0 (0 : Int32)
      ) else (
        M_wouldTake_107 m k31 y1 y2 y3 y4 z0 (1 : Int32)
      )
    )
  )
def M_wouldTake_61 (m : MS) (k31 : Int32 → Int32 → Int32 → Int32 → Option (Int32)) (y1 : Int32) (y2 : Int32) (y3 : Int32) (y4 : Int32) (z0 : Int32) : Option (Int32) :=
  if z0 = 0 then (
    M_wouldTake_79 m k31 y1 y2 y3 y4 z0 (0 : Int32)
  ) else (
    (M_likeOf m y2 y4).bind fun x18 =>
    M_wouldTake_79 m k31 y1 y2 y3 y4 z0 x18
  )
def M_wouldTake_31s (m : MS) (k31 : Int32 → Int32 → Int32 → Int32 → Option (Int32)) (y1 : Int32) (y2 : Int32) (y3 : Int32) (y4 : Int32) : Option (Int32) :=
  if (m.1 0) ≤ y4 then (
    some y3
  ) else (
    (mR m 7 y4).bind fun x20 =>
    (mR m 15 y1).bind fun x21 =>
    if x20 = x21 then (
      M_wouldTake_61 m k31 y1 y2 y3 y4 (1 : Int32)
    ) else (
      M_wouldTake_61 m k31 y1 y2 y3 y4 (0 : Int32)
    )
  )
def M_wouldTake_31 (m : MS) : Nat → Int32 → Int32 → Int32 → Int32 → Option (Int32)
  | 0 => fun _ _ _ _ => none
  | n + 1 => M_wouldTake_31s m  (M_wouldTake_31 m  n)
def M_wouldTake (m : MS) (a0 : Int32) : Option (Int32) :=
  (mR m 17 a0).bind fun x23 =>
  if x23 < 0 then (
    some (-4 : Int32)
  ) else (
    (mR m 7 x23).bind fun x25 =>
    if x25 = (20 : Int32) then (
      some (-4 : Int32)
    ) else (
      M_wouldTake_31 m 200 a0 x23 (-4 : Int32) (0 : Int32)
    )
  )
set_option maxHeartbeats 4000000 in
set_option maxRecDepth 100000 in
theorem metM_wouldTake (l : Launch) {D : va_G} {dA : Nat → ClassId} {b : Nat} {ad : Nat → Nat} {P : Nat → Prop} {F : Nat → va_E} {m : MS} {a0 : Int32} {r : Int32} (hf : M_wouldTake m a0 = some r) : Met l yX4_wouldTake (ws_ yX4_wouldTake cX4_wouldTake 9 (some .int)) (rm0_ 3 67) (mP D dA b ad P F [.ref (ad 46), .int a0] m) (mQ D dA b ad P F (some (.int r)) m) 0 0 (fun q => b ≤ q) := by
  refine qg_met (by decide) RX4 rfl (Nat.le_of_ble_eq_true rfl) (fun Γ hΓ hK => ?_)
  refine g_sub [0, 1] (lv' := [(0, .ref (ad 46)), (1, .int a0)]) rfl ?_
  have J123 : ∀ (k31 : Int32 → Int32 → Int32 → Int32 → Option (Int32)) (hk31 : ∀ (y1 : Int32) (y2 : Int32) (y3 : Int32) (y4 : Int32), k31 y1 y2 y3 y4 = some r → WG Γ (MW D dA b ad P F m) 0 0 31 [(0, .ref (ad 46)), (1, .int y1), (2, .int y2), (3, .int y3), (4, .int y4)] []) (y1 : Int32) (y2 : Int32) (y3 : Int32) (y4 : Int32) (y6 : Int32) (y7 : Int32) (z0 : Int32) (hf : M_wouldTake_123 m k31 y1 y2 y3 y4 y6 y7 z0 = some r), WG Γ (MW D dA b ad P F m) 0 0 123 [(0, .ref (ad 46)), (1, .int y1), (2, .int y2), (3, .int y3), (4, .int y4), (6, .int y6), (7, .int y7)] [.int z0] := by
    intro k31 hk31 y1 y2 y3 y4 y6 y7 z0 hf
    refine g_istore hΓ (pc := 123) (i := 8) (lv' := [(8, .int z0), (0, .ref (ad 46)), (1, .int y1), (2, .int y2), (3, .int y3), (4, .int y4), (6, .int y6), (7, .int y7)]) dX4_wouldTake_123 (by decide) rfl ?_
    refine g_iload hΓ (pc := 125) 7 (i := 7) dX4_wouldTake_125 rfl ?_
    refine g_if_eq hΓ (pc := 127) (tgt := 159) dX4_wouldTake_127 (by decide) (fun c1 => ?_) (fun c1 => ?_)
    · have hf := ifP hf c1
      refine g_iload_n hΓ (pc := 159) 4 (i := 3) dX4_wouldTake_159 rfl rfl ?_
      refine g_istore_n hΓ (pc := 160) (i := 3) (lv' := [(3, .int y3), (8, .int z0), (0, .ref (ad 46)), (1, .int y1), (2, .int y2), (4, .int y4), (6, .int y6), (7, .int y7)]) dX4_wouldTake_160 rfl (by decide) rfl ?_
      obtain ⟨x2, hx2, hf⟩ := bindE hf
      refine g_iinc hΓ (pc := 161) 5 (i := 4) (v := x2) (lv' := [(4, .int x2), (3, .int y3), (8, .int z0), (0, .ref (ad 46)), (1, .int y1), (2, .int y2), (6, .int y6), (7, .int y7)]) dX4_wouldTake_161 rfl (Option.some.inj hx2) (by decide) rfl ?_
      refine g_goto hΓ (pc := 164) (tgt := 31) dX4_wouldTake_164 (by decide) ?_
      exact g_sub [3, 4, 5, 1, 0] rfl (hk31 _ _ _ _ hf)
    · have hf := ifN hf c1
      refine g_iload hΓ (pc := 130) 6 (i := 6) dX4_wouldTake_130 rfl ?_
      refine g_iload hΓ (pc := 132) 0 (i := 8) dX4_wouldTake_132 rfl ?_
      refine g_icmp_gt hΓ (pc := 134) (tgt := 154) dX4_wouldTake_134 (by decide) (fun c3 => ?_) (fun c3 => ?_)
      · have hf := ifP hf c3
        refine g_iload hΓ (pc := 154) 5 (i := 4) dX4_wouldTake_154 rfl ?_
        refine g_goto hΓ (pc := 156) (tgt := 160) dX4_wouldTake_156 (by decide) ?_
        refine g_istore_n hΓ (pc := 160) (i := 3) (lv' := [(3, .int y4), (8, .int z0), (0, .ref (ad 46)), (1, .int y1), (2, .int y2), (4, .int y4), (6, .int y6), (7, .int y7)]) dX4_wouldTake_160 rfl (by decide) rfl ?_
        obtain ⟨x4, hx4, hf⟩ := bindE hf
        refine g_iinc hΓ (pc := 161) 5 (i := 4) (v := x4) (lv' := [(4, .int x4), (3, .int y4), (8, .int z0), (0, .ref (ad 46)), (1, .int y1), (2, .int y2), (6, .int y6), (7, .int y7)]) dX4_wouldTake_161 rfl (Option.some.inj hx4) (by decide) rfl ?_
        refine g_goto hΓ (pc := 164) (tgt := 31) dX4_wouldTake_164 (by decide) ?_
        exact g_sub [3, 4, 5, 1, 0] rfl (hk31 _ _ _ _ hf)
      · have hf := ifN hf c3
        refine g_iload hΓ (pc := 137) 6 (i := 6) dX4_wouldTake_137 rfl ?_
        refine g_iload hΓ (pc := 139) 0 (i := 8) dX4_wouldTake_139 rfl ?_
        refine g_icmp_ne hΓ (pc := 141) (tgt := 159) dX4_wouldTake_141 (by decide) (fun c5 => ?_) (fun c5 => ?_)
        · have hf := ifN hf c5
          refine g_iload_n hΓ (pc := 159) 4 (i := 3) dX4_wouldTake_159 rfl rfl ?_
          refine g_istore_n hΓ (pc := 160) (i := 3) (lv' := [(3, .int y3), (8, .int z0), (0, .ref (ad 46)), (1, .int y1), (2, .int y2), (4, .int y4), (6, .int y6), (7, .int y7)]) dX4_wouldTake_160 rfl (by decide) rfl ?_
          obtain ⟨x6, hx6, hf⟩ := bindE hf
          refine g_iinc hΓ (pc := 161) 5 (i := 4) (v := x6) (lv' := [(4, .int x6), (3, .int y3), (8, .int z0), (0, .ref (ad 46)), (1, .int y1), (2, .int y2), (6, .int y6), (7, .int y7)]) dX4_wouldTake_161 rfl (Option.some.inj hx6) (by decide) rfl ?_
          refine g_goto hΓ (pc := 164) (tgt := 31) dX4_wouldTake_164 (by decide) ?_
          exact g_sub [3, 4, 5, 1, 0] rfl (hk31 _ _ _ _ hf)
        · have hf := ifP hf c5
          refine g_aload_n hΓ (pc := 144) 1 (i := 0) dX4_wouldTake_144 rfl rfl ?_
          refine g_iload hΓ (pc := 145) 5 (i := 4) dX4_wouldTake_145 rfl ?_
          refine g_iload_n hΓ (pc := 147) 4 (i := 3) dX4_wouldTake_147 rfl rfl ?_
          obtain ⟨x7, hx7, hf⟩ := bindE hf
          refine qg_callV hΓ (pc := 148) hK 2 (As := [.int y4, .int y3]) (metM_isLater _ hx7) (lw_V q1338 q1340 qs40 q57 q1341) (by decide +kernel) (by decide) rfl rfl (Nat.le_of_ble_eq_true rfl) dX4_wouldTake_148 ?_
          refine g_if_eq hΓ (pc := 151) (tgt := 159) dX4_wouldTake_151 (by decide) (fun c8 => ?_) (fun c8 => ?_)
          · have hf := ifP hf c8
            refine g_iload_n hΓ (pc := 159) 4 (i := 3) dX4_wouldTake_159 rfl rfl ?_
            refine g_istore_n hΓ (pc := 160) (i := 3) (lv' := [(3, .int y3), (8, .int z0), (0, .ref (ad 46)), (1, .int y1), (2, .int y2), (4, .int y4), (6, .int y6), (7, .int y7)]) dX4_wouldTake_160 rfl (by decide) rfl ?_
            obtain ⟨x9, hx9, hf⟩ := bindE hf
            refine g_iinc hΓ (pc := 161) 5 (i := 4) (v := x9) (lv' := [(4, .int x9), (3, .int y3), (8, .int z0), (0, .ref (ad 46)), (1, .int y1), (2, .int y2), (6, .int y6), (7, .int y7)]) dX4_wouldTake_161 rfl (Option.some.inj hx9) (by decide) rfl ?_
            refine g_goto hΓ (pc := 164) (tgt := 31) dX4_wouldTake_164 (by decide) ?_
            exact g_sub [3, 4, 5, 1, 0] rfl (hk31 _ _ _ _ hf)
          · have hf := ifN hf c8
            refine g_iload hΓ (pc := 154) 5 (i := 4) dX4_wouldTake_154 rfl ?_
            refine g_goto hΓ (pc := 156) (tgt := 160) dX4_wouldTake_156 (by decide) ?_
            refine g_istore_n hΓ (pc := 160) (i := 3) (lv' := [(3, .int y4), (8, .int z0), (0, .ref (ad 46)), (1, .int y1), (2, .int y2), (4, .int y4), (6, .int y6), (7, .int y7)]) dX4_wouldTake_160 rfl (by decide) rfl ?_
            obtain ⟨x10, hx10, hf⟩ := bindE hf
            refine g_iinc hΓ (pc := 161) 5 (i := 4) (v := x10) (lv' := [(4, .int x10), (3, .int y4), (8, .int z0), (0, .ref (ad 46)), (1, .int y1), (2, .int y2), (6, .int y6), (7, .int y7)]) dX4_wouldTake_161 rfl (Option.some.inj hx10) (by decide) rfl ?_
            refine g_goto hΓ (pc := 164) (tgt := 31) dX4_wouldTake_164 (by decide) ?_
            exact g_sub [3, 4, 5, 1, 0] rfl (hk31 _ _ _ _ hf)
  have J107 : ∀ (k31 : Int32 → Int32 → Int32 → Int32 → Option (Int32)) (hk31 : ∀ (y1 : Int32) (y2 : Int32) (y3 : Int32) (y4 : Int32), k31 y1 y2 y3 y4 = some r → WG Γ (MW D dA b ad P F m) 0 0 31 [(0, .ref (ad 46)), (1, .int y1), (2, .int y2), (3, .int y3), (4, .int y4)] []) (y1 : Int32) (y2 : Int32) (y3 : Int32) (y4 : Int32) (y6 : Int32) (z0 : Int32) (hf : M_wouldTake_107 m k31 y1 y2 y3 y4 y6 z0 = some r), WG Γ (MW D dA b ad P F m) 0 0 107 [(0, .ref (ad 46)), (1, .int y1), (2, .int y2), (3, .int y3), (4, .int y4), (6, .int y6)] [.int z0] := by
    intro k31 hk31 y1 y2 y3 y4 y6 z0 hf
    refine g_istore hΓ (pc := 107) (i := 7) (lv' := [(7, .int z0), (0, .ref (ad 46)), (1, .int y1), (2, .int y2), (3, .int y3), (4, .int y4), (6, .int y6)]) dX4_wouldTake_107 (by decide) rfl ?_
    refine g_iload_n hΓ (pc := 109) 4 (i := 3) dX4_wouldTake_109 rfl rfl ?_
    refine g_if_ge hΓ (pc := 110) (tgt := 117) dX4_wouldTake_110 (by decide) (fun c11 => ?_) (fun c11 => ?_)
    · have hf := ifP hf c11
      refine g_aload_n hΓ (pc := 117) 1 (i := 0) dX4_wouldTake_117 rfl rfl ?_
      refine g_iload_n hΓ (pc := 118) 3 (i := 2) dX4_wouldTake_118 rfl rfl ?_
      refine g_iload_n hΓ (pc := 119) 4 (i := 3) dX4_wouldTake_119 rfl rfl ?_
      obtain ⟨x12, hx12, hf⟩ := bindE hf
      refine qg_callV hΓ (pc := 120) hK 2 (As := [.int y2, .int y3]) (metM_likeOf _ hx12) (lw_V q1322 q1324 qs36 q57 q1325) (by decide +kernel) (by decide) rfl rfl (Nat.le_of_ble_eq_true rfl) dX4_wouldTake_120 ?_
      exact g_sub [1, 2, 3, 4, 5, 6, 0] rfl (J123 k31 hk31 _ _ _ _ _ _ _ hf)
    · have hf := ifN hf c11
      refine g_iconst hΓ (pc := 113) (v := 0) dX4_wouldTake_113 (by decide) ?_
      refine g_goto hΓ (pc := 114) (tgt := 123) dX4_wouldTake_114 (by decide) ?_
      exact g_sub [1, 2, 3, 4, 5, 6, 0] rfl (J123 k31 hk31 _ _ _ _ _ _ _ hf)
  have J79 : ∀ (k31 : Int32 → Int32 → Int32 → Int32 → Option (Int32)) (hk31 : ∀ (y1 : Int32) (y2 : Int32) (y3 : Int32) (y4 : Int32), k31 y1 y2 y3 y4 = some r → WG Γ (MW D dA b ad P F m) 0 0 31 [(0, .ref (ad 46)), (1, .int y1), (2, .int y2), (3, .int y3), (4, .int y4)] []) (y1 : Int32) (y2 : Int32) (y3 : Int32) (y4 : Int32) (y5 : Int32) (z0 : Int32) (hf : M_wouldTake_79 m k31 y1 y2 y3 y4 y5 z0 = some r), WG Γ (MW D dA b ad P F m) 0 0 79 [(0, .ref (ad 46)), (1, .int y1), (2, .int y2), (3, .int y3), (4, .int y4), (5, .int y5)] [.int z0] := by
    intro k31 hk31 y1 y2 y3 y4 y5 z0 hf
    refine g_istore hΓ (pc := 79) (i := 6) (lv' := [(6, .int z0), (0, .ref (ad 46)), (1, .int y1), (2, .int y2), (3, .int y3), (4, .int y4), (5, .int y5)]) dX4_wouldTake_79 (by decide) rfl ?_
    refine g_iload hΓ (pc := 81) 6 (i := 5) dX4_wouldTake_81 rfl ?_
    refine g_if_eq hΓ (pc := 83) (tgt := 106) dX4_wouldTake_83 (by decide) (fun c13 => ?_) (fun c13 => ?_)
    · have hf := ifP hf c13
      refine g_iconst hΓ (pc := 106) (v := 0) dX4_wouldTake_106 (by decide) ?_
      exact g_sub [1, 2, 3, 4, 5, 0] rfl (J107 k31 hk31 _ _ _ _ _ _ hf)
    · have hf := ifN hf c13
      refine g_iload hΓ (pc := 86) 0 (i := 6) dX4_wouldTake_86 rfl ?_
      refine g_if_le hΓ (pc := 88) (tgt := 106) dX4_wouldTake_88 (by decide) (fun c14 => ?_) (fun c14 => ?_)
      · have hf := ifP hf c14
        refine g_iconst hΓ (pc := 106) (v := 0) dX4_wouldTake_106 (by decide) ?_
        exact g_sub [1, 2, 3, 4, 5, 0] rfl (J107 k31 hk31 _ _ _ _ _ _ hf)
      · have hf := ifN hf c14
        refine g_iload hΓ (pc := 91) 0 (i := 6) dX4_wouldTake_91 rfl ?_
        refine g_aload_n hΓ (pc := 93) 1 (i := 0) dX4_wouldTake_93 rfl rfl ?_
        refine qg_geta hΓ (pc := 94) hK (k := 14) rfl q1086 dX4_wouldTake_94 ?_
        refine g_iload_n hΓ (pc := 97) 2 (i := 1) dX4_wouldTake_97 rfl rfl ?_
        obtain ⟨x15, hx15, hf⟩ := bindE hf
        refine qg_iald hΓ (pc := 98) hK rfl hx15 dX4_wouldTake_98 rfl ?_
        refine g_icmp_lt hΓ (pc := 99) (tgt := 106) dX4_wouldTake_99 (by decide) (fun c16 => ?_) (fun c16 => ?_)
        · have hf := ifP hf c16
          refine g_iconst hΓ (pc := 106) (v := 0) dX4_wouldTake_106 (by decide) ?_
          exact g_sub [1, 2, 3, 4, 5, 0] rfl (J107 k31 hk31 _ _ _ _ _ _ hf)
        · have hf := ifN hf c16
          refine g_iconst hΓ (pc := 102) (v := 1) dX4_wouldTake_102 (by decide) ?_
          refine g_goto hΓ (pc := 103) (tgt := 107) dX4_wouldTake_103 (by decide) ?_
          exact g_sub [1, 2, 3, 4, 5, 0] rfl (J107 k31 hk31 _ _ _ _ _ _ hf)
  have J61 : ∀ (k31 : Int32 → Int32 → Int32 → Int32 → Option (Int32)) (hk31 : ∀ (y1 : Int32) (y2 : Int32) (y3 : Int32) (y4 : Int32), k31 y1 y2 y3 y4 = some r → WG Γ (MW D dA b ad P F m) 0 0 31 [(0, .ref (ad 46)), (1, .int y1), (2, .int y2), (3, .int y3), (4, .int y4)] []) (y1 : Int32) (y2 : Int32) (y3 : Int32) (y4 : Int32) (z0 : Int32) (hf : M_wouldTake_61 m k31 y1 y2 y3 y4 z0 = some r), WG Γ (MW D dA b ad P F m) 0 0 61 [(0, .ref (ad 46)), (1, .int y1), (2, .int y2), (3, .int y3), (4, .int y4)] [.int z0] := by
    intro k31 hk31 y1 y2 y3 y4 z0 hf
    refine g_istore hΓ (pc := 61) (i := 5) (lv' := [(5, .int z0), (0, .ref (ad 46)), (1, .int y1), (2, .int y2), (3, .int y3), (4, .int y4)]) dX4_wouldTake_61 (by decide) rfl ?_
    refine g_iload hΓ (pc := 63) 0 (i := 5) dX4_wouldTake_63 rfl ?_
    refine g_if_eq hΓ (pc := 65) (tgt := 78) dX4_wouldTake_65 (by decide) (fun c17 => ?_) (fun c17 => ?_)
    · have hf := ifP hf c17
      refine g_iconst hΓ (pc := 78) (v := 0) dX4_wouldTake_78 (by decide) ?_
      exact g_sub [1, 2, 3, 4, 5, 0] rfl (J79 k31 hk31 _ _ _ _ _ _ hf)
    · have hf := ifN hf c17
      refine g_aload_n hΓ (pc := 68) 1 (i := 0) dX4_wouldTake_68 rfl rfl ?_
      refine g_iload_n hΓ (pc := 69) 3 (i := 2) dX4_wouldTake_69 rfl rfl ?_
      refine g_iload hΓ (pc := 70) 5 (i := 4) dX4_wouldTake_70 rfl ?_
      obtain ⟨x18, hx18, hf⟩ := bindE hf
      refine qg_callV hΓ (pc := 72) hK 2 (As := [.int y2, .int y4]) (metM_likeOf _ hx18) (lw_V q1322 q1324 qs36 q57 q1325) (by decide +kernel) (by decide) rfl rfl (Nat.le_of_ble_eq_true rfl) dX4_wouldTake_72 ?_
      refine g_goto hΓ (pc := 75) (tgt := 79) dX4_wouldTake_75 (by decide) ?_
      exact g_sub [1, 2, 3, 4, 5, 0] rfl (J79 k31 hk31 _ _ _ _ _ _ hf)
  have S31 : ∀ (k31 : Int32 → Int32 → Int32 → Int32 → Option (Int32)) (hk31 : ∀ (y1 : Int32) (y2 : Int32) (y3 : Int32) (y4 : Int32), k31 y1 y2 y3 y4 = some r → WG Γ (MW D dA b ad P F m) 0 0 31 [(0, .ref (ad 46)), (1, .int y1), (2, .int y2), (3, .int y3), (4, .int y4)] []) (y1 : Int32) (y2 : Int32) (y3 : Int32) (y4 : Int32) (hf : M_wouldTake_31s m k31 y1 y2 y3 y4 = some r), WG Γ (MW D dA b ad P F m) 0 0 31 [(0, .ref (ad 46)), (1, .int y1), (2, .int y2), (3, .int y3), (4, .int y4)] [] := by
    intro k31 hk31 y1 y2 y3 y4 hf
    refine g_iload hΓ (pc := 31) 4 (i := 4) dX4_wouldTake_31 rfl ?_
    refine g_aload_n hΓ (pc := 33) 0 (i := 0) dX4_wouldTake_33 rfl rfl ?_
    refine qg_get hΓ (pc := 34) hK (k := 0) rfl q1072 dX4_wouldTake_34 ?_
    refine g_icmp_ge hΓ (pc := 37) (tgt := 167) dX4_wouldTake_37 (by decide) (fun c19 => ?_) (fun c19 => ?_)
    · have hf := ifP hf c19
      refine g_iload_n hΓ (pc := 167) 3 (i := 3) dX4_wouldTake_167 rfl rfl ?_
      exact qg_iretR hΓ hK hf dX4_wouldTake_168
    · have hf := ifN hf c19
      refine g_aload_n hΓ (pc := 40) 0 (i := 0) dX4_wouldTake_40 rfl rfl ?_
      refine qg_geta hΓ (pc := 41) hK (k := 7) rfl q1079 dX4_wouldTake_41 ?_
      refine g_iload hΓ (pc := 44) 4 (i := 4) dX4_wouldTake_44 rfl ?_
      obtain ⟨x20, hx20, hf⟩ := bindE hf
      refine qg_iald hΓ (pc := 46) hK rfl hx20 dX4_wouldTake_46 rfl ?_
      refine g_aload_n hΓ (pc := 47) 0 (i := 0) dX4_wouldTake_47 rfl rfl ?_
      refine qg_geta hΓ (pc := 48) hK (k := 15) rfl q1087 dX4_wouldTake_48 ?_
      refine g_iload_n hΓ (pc := 51) 1 (i := 1) dX4_wouldTake_51 rfl rfl ?_
      obtain ⟨x21, hx21, hf⟩ := bindE hf
      refine qg_iald hΓ (pc := 52) hK rfl hx21 dX4_wouldTake_52 rfl ?_
      refine g_icmp_ne hΓ (pc := 53) (tgt := 60) dX4_wouldTake_53 (by decide) (fun c22 => ?_) (fun c22 => ?_)
      · have hf := ifN hf c22
        refine g_iconst hΓ (pc := 60) (v := 0) dX4_wouldTake_60 (by decide) ?_
        exact g_sub [0, 1, 2, 3, 4] rfl (J61 k31 hk31 _ _ _ _ _ hf)
      · have hf := ifP hf c22
        refine g_iconst hΓ (pc := 56) (v := 1) dX4_wouldTake_56 (by decide) ?_
        refine g_goto hΓ (pc := 57) (tgt := 61) dX4_wouldTake_57 (by decide) ?_
        exact g_sub [0, 1, 2, 3, 4] rfl (J61 k31 hk31 _ _ _ _ _ hf)
  have L31 : ∀ (n : Nat) (y1 : Int32) (y2 : Int32) (y3 : Int32) (y4 : Int32) (hf : M_wouldTake_31 m  n y1 y2 y3 y4 = some r), WG Γ (MW D dA b ad P F m) 0 0 31 [(0, .ref (ad 46)), (1, .int y1), (2, .int y2), (3, .int y3), (4, .int y4)] [] := by
    intro  n
    induction n with
    | zero => intro y1 y2 y3 y4 hf; exact nomatch (show (none : Option (Int32)) = some _ from hf)
    | succ n ih => exact S31  _ ih
  refine g_aload_n hΓ (pc := 0) 0 (i := 0) dX4_wouldTake_0 rfl rfl ?_
  refine qg_geta hΓ (pc := 1) hK (k := 17) rfl q1089 dX4_wouldTake_1 ?_
  refine g_iload_n hΓ (pc := 4) 1 (i := 1) dX4_wouldTake_4 rfl rfl ?_
  obtain ⟨x23, hx23, hf⟩ := bindE hf
  refine qg_iald hΓ (pc := 5) hK rfl hx23 dX4_wouldTake_5 rfl ?_
  refine g_istore_n hΓ (pc := 6) (i := 2) (lv' := [(2, .int x23), (0, .ref (ad 46)), (1, .int a0)]) dX4_wouldTake_6 rfl (by decide) rfl ?_
  refine g_iload_n hΓ (pc := 7) 0 (i := 2) dX4_wouldTake_7 rfl rfl ?_
  refine g_if_lt hΓ (pc := 8) (tgt := 22) dX4_wouldTake_8 (by decide) (fun c24 => ?_) (fun c24 => ?_)
  · have hf := ifP hf c24
    refine g_bipush hΓ (pc := 22) (v := -4) dX4_wouldTake_22 (by decide) ?_
    exact qg_iretR hΓ hK hf dX4_wouldTake_24
  · have hf := ifN hf c24
    refine g_aload_n hΓ (pc := 11) 1 (i := 0) dX4_wouldTake_11 rfl rfl ?_
    refine qg_geta hΓ (pc := 12) hK (k := 7) rfl q1079 dX4_wouldTake_12 ?_
    refine g_iload_n hΓ (pc := 15) 0 (i := 2) dX4_wouldTake_15 rfl rfl ?_
    obtain ⟨x25, hx25, hf⟩ := bindE hf
    refine qg_iald hΓ (pc := 16) hK rfl hx25 dX4_wouldTake_16 rfl ?_
    refine g_bipush hΓ (pc := 17) (v := 20) dX4_wouldTake_17 (by decide) ?_
    refine g_icmp_ne hΓ (pc := 19) (tgt := 25) dX4_wouldTake_19 (by decide) (fun c26 => ?_) (fun c26 => ?_)
    · have hf := ifN hf c26
      refine g_bipush hΓ (pc := 25) (v := -4) dX4_wouldTake_25 (by decide) ?_
      refine g_istore_n hΓ (pc := 27) (i := 3) (lv' := [(3, .int (-4 : Int32)), (2, .int x23), (0, .ref (ad 46)), (1, .int a0)]) dX4_wouldTake_27 rfl (by decide) rfl ?_
      refine g_iconst hΓ (pc := 28) (v := 0) dX4_wouldTake_28 (by decide) ?_
      refine g_istore hΓ (pc := 29) (i := 4) (lv' := [(4, .int (0 : Int32)), (3, .int (-4 : Int32)), (2, .int x23), (0, .ref (ad 46)), (1, .int a0)]) dX4_wouldTake_29 (by decide) rfl ?_
      exact g_sub [3, 4, 2, 1, 0] rfl (L31  200 _ _ _ _ hf)
    · have hf := ifP hf c26
      refine g_bipush hΓ (pc := 22) (v := -4) dX4_wouldTake_22 (by decide) ?_
      exact qg_iretR hΓ hK hf dX4_wouldTake_24
def M_takeOne_30 (m : MS) (y1 : Int32) (y2 : Int32) (z0 : Int32) (z1 : Int32) : Option (Int32 × MS) :=
  (mSI m 20 (z1 + z0)).bind fun m1 =>
  (M_hold m1 y1 y2).bind fun m2 =>
  some (y2, m2)
def M_takeOne (m : MS) (a0 : Int32) : Option (Int32 × MS) :=
  (M_wouldTake m a0).bind fun x3 =>
  if x3 < 0 then (
    if (m.1 2) = 0 then (
      some ((-4 : Int32), m)
    ) else (
      if (m.1 0) = (12 : Int32) then (
        some ((-4 : Int32), m)
      ) else (
        (mSI m 2 ((m.1 2) - (1 : Int32))).bind fun m7 =>
        (M_bring m7 (0 : Int32) ((m7.1 2) - (m7.1 2) / (10 : Int32) * (10 : Int32)) (9 : Int32) ((10 : Int32) + a0)).bind fun q8 =>
        (some q8.1).bind fun x9 =>
        (M_hold q8.2 a0 x9).bind fun m10 =>
        (mSI m10 21 ((m10.1 21) + (1 : Int32))).bind fun m11 =>
        some (x9, m11)
      )
    )
  ) else (
    (mR m 17 a0).bind fun x12 =>
    if x3 = x12 then (
      M_takeOne_30 m a0 x3 (0 : Int32) (m.1 20)
    ) else (
      M_takeOne_30 m a0 x3 (1 : Int32) (m.1 20)
    )
  )
set_option maxHeartbeats 4000000 in
set_option maxRecDepth 100000 in
theorem metM_takeOne (l : Launch) {D : va_G} {dA : Nat → ClassId} {b : Nat} {ad : Nat → Nat} {P : Nat → Prop} {F : Nat → va_E} {m : MS} {m' : MS} {a0 : Int32} {r : Int32} (hf : M_takeOne m a0 = some (r, m')) : Met l yX4_takeOne (ws_ yX4_takeOne cX4_takeOne 3 (some .int)) (rm0_ 4 95) (mP D dA b ad P F [.ref (ad 46), .int a0] m) (mQ D dA b ad P F (some (.int r)) m') 0 0 (fun q => b ≤ q) := by
  refine qg_met (by decide) RX4 rfl (Nat.le_of_ble_eq_true rfl) (fun Γ hΓ hK => ?_)
  refine g_sub [0, 1] (lv' := [(0, .ref (ad 46)), (1, .int a0)]) rfl ?_
  have J30 : ∀ (m : MS) (y1 : Int32) (y2 : Int32) (z0 : Int32) (z1 : Int32) (hf : M_takeOne_30   m y1 y2 z0 z1 = some (r, m')), WG Γ (MW D dA b ad P F m) 0 0 30 [(0, .ref (ad 46)), (1, .int y1), (2, .int y2)] [.int z0, .int z1, .ref (ad 46)] := by
    intro  m y1 y2 z0 z1 hf
    refine g_iadd hΓ (pc := 30) dX4_takeOne_30 ?_
    obtain ⟨m1, hm1, hf⟩ := bindE hf
    refine qg_put hΓ (pc := 31) hK rfl hm1 q1092 dX4_takeOne_31 ?_
    refine g_aload_n hΓ (pc := 34) 0 (i := 0) dX4_takeOne_34 rfl rfl ?_
    refine g_iload_n hΓ (pc := 35) 1 (i := 1) dX4_takeOne_35 rfl rfl ?_
    refine g_iload_n hΓ (pc := 36) 2 (i := 2) dX4_takeOne_36 rfl rfl ?_
    obtain ⟨m2, hm2, hf⟩ := bindE hf
    refine qg_callV hΓ (pc := 37) hK 2 (As := [.int y1, .int y2]) (metM_hold _ hm2) (lw_V q1298 q1300 qs30 q57 q1301) (by decide +kernel) (by decide) rfl rfl (Nat.le_of_ble_eq_true rfl) dX4_takeOne_37 ?_
    refine g_iload_n hΓ (pc := 40) 2 (i := 2) dX4_takeOne_40 rfl rfl ?_
    exact qg_iret hΓ hK hf dX4_takeOne_41
  refine g_aload_n hΓ (pc := 0) 0 (i := 0) dX4_takeOne_0 rfl rfl ?_
  refine g_iload_n hΓ (pc := 1) 1 (i := 1) dX4_takeOne_1 rfl rfl ?_
  obtain ⟨x3, hx3, hf⟩ := bindE hf
  refine qg_callV hΓ (pc := 2) hK 1 (As := [.int a0]) (metM_wouldTake _ hx3) (lw_V q1318 q1320 qs35 q57 q1321) (by decide +kernel) (by decide) rfl rfl (Nat.le_of_ble_eq_true rfl) dX4_takeOne_2 ?_
  refine g_istore_n hΓ (pc := 5) (i := 2) (lv' := [(2, .int x3), (0, .ref (ad 46)), (1, .int a0)]) dX4_takeOne_5 rfl (by decide) rfl ?_
  refine g_iload_n hΓ (pc := 6) 0 (i := 2) dX4_takeOne_6 rfl rfl ?_
  refine g_if_lt hΓ (pc := 7) (tgt := 42) dX4_takeOne_7 (by decide) (fun c4 => ?_) (fun c4 => ?_)
  · have hf := ifP hf c4
    refine g_aload_n hΓ (pc := 42) 1 (i := 0) dX4_takeOne_42 rfl rfl ?_
    refine qg_get hΓ (pc := 43) hK (k := 2) rfl q1074 dX4_takeOne_43 ?_
    refine g_if_eq hΓ (pc := 46) (tgt := 58) dX4_takeOne_46 (by decide) (fun c5 => ?_) (fun c5 => ?_)
    · have hf := ifP hf c5
      refine g_bipush hΓ (pc := 58) (v := -4) dX4_takeOne_58 (by decide) ?_
      exact qg_iret hΓ hK hf dX4_takeOne_60
    · have hf := ifN hf c5
      refine g_aload_n hΓ (pc := 49) 1 (i := 0) dX4_takeOne_49 rfl rfl ?_
      refine qg_get hΓ (pc := 50) hK (k := 0) rfl q1072 dX4_takeOne_50 ?_
      refine g_bipush hΓ (pc := 53) (v := 12) dX4_takeOne_53 (by decide) ?_
      refine g_icmp_ne hΓ (pc := 55) (tgt := 61) dX4_takeOne_55 (by decide) (fun c6 => ?_) (fun c6 => ?_)
      · have hf := ifN hf c6
        refine g_aload_n hΓ (pc := 61) 1 (i := 0) dX4_takeOne_61 rfl rfl ?_
        refine g_dup hΓ (pc := 62) dX4_takeOne_62 rfl ?_
        refine qg_get hΓ (pc := 63) hK (k := 2) rfl q1074 dX4_takeOne_63 ?_
        refine g_iconst hΓ (pc := 66) (v := 1) dX4_takeOne_66 (by decide) ?_
        refine g_isub hΓ (pc := 67) dX4_takeOne_67 ?_
        obtain ⟨m7, hm7, hf⟩ := bindE hf
        refine qg_put hΓ (pc := 68) hK rfl hm7 q1074 dX4_takeOne_68 ?_
        refine g_aload_n hΓ (pc := 71) 1 (i := 0) dX4_takeOne_71 rfl rfl ?_
        refine g_iconst hΓ (pc := 72) (v := 0) dX4_takeOne_72 (by decide) ?_
        refine g_aload_n hΓ (pc := 73) 1 (i := 0) dX4_takeOne_73 rfl rfl ?_
        refine qg_get hΓ (pc := 74) hK (k := 2) rfl q1074 dX4_takeOne_74 ?_
        refine g_bipush hΓ (pc := 77) (v := 10) dX4_takeOne_77 (by decide) ?_
        refine g_irem hΓ (pc := 79) dX4_takeOne_79 (by decide) ?_
        refine g_bipush hΓ (pc := 80) (v := 9) dX4_takeOne_80 (by decide) ?_
        refine g_bipush hΓ (pc := 82) (v := 10) dX4_takeOne_82 (by decide) ?_
        refine g_iload_n hΓ (pc := 84) 2 (i := 1) dX4_takeOne_84 rfl rfl ?_
        refine g_iadd hΓ (pc := 85) dX4_takeOne_85 ?_
        obtain ⟨q8, hq8, hf⟩ := bindE hf
        refine qg_callV hΓ (pc := 86) hK 4 (As := [.int (0 : Int32), .int ((m7.1 2) - (m7.1 2) / (10 : Int32) * (10 : Int32)), .int (9 : Int32), .int ((10 : Int32) + a0)]) (metM_bring _ (r := q8.1) (m' := q8.2) hq8) (lw_V q1278 q1280 qs25 q57 q1281) (by decide +kernel) (by decide) rfl rfl (Nat.le_of_ble_eq_true rfl) dX4_takeOne_86 ?_
        obtain ⟨x9, hx9, hf⟩ := bindE hf
        refine g_topi hx9 ?_
        refine g_istore_n hΓ (pc := 89) (i := 2) (lv' := [(2, .int x9), (0, .ref (ad 46)), (1, .int a0)]) dX4_takeOne_89 rfl (by decide) rfl ?_
        refine g_aload_n hΓ (pc := 90) 1 (i := 0) dX4_takeOne_90 rfl rfl ?_
        refine g_iload_n hΓ (pc := 91) 2 (i := 1) dX4_takeOne_91 rfl rfl ?_
        refine g_iload_n hΓ (pc := 92) 0 (i := 2) dX4_takeOne_92 rfl rfl ?_
        obtain ⟨m10, hm10, hf⟩ := bindE hf
        refine qg_callV hΓ (pc := 93) hK 2 (As := [.int a0, .int x9]) (metM_hold _ hm10) (lw_V q1298 q1300 qs30 q57 q1301) (by decide +kernel) (by decide) rfl rfl (Nat.le_of_ble_eq_true rfl) dX4_takeOne_93 ?_
        refine g_aload_n hΓ (pc := 96) 1 (i := 0) dX4_takeOne_96 rfl rfl ?_
        refine g_dup hΓ (pc := 97) dX4_takeOne_97 rfl ?_
        refine qg_get hΓ (pc := 98) hK (k := 21) rfl q1093 dX4_takeOne_98 ?_
        refine g_iconst hΓ (pc := 101) (v := 1) dX4_takeOne_101 (by decide) ?_
        refine g_iadd hΓ (pc := 102) dX4_takeOne_102 ?_
        obtain ⟨m11, hm11, hf⟩ := bindE hf
        refine qg_put hΓ (pc := 103) hK rfl hm11 q1093 dX4_takeOne_103 ?_
        refine g_iload_n hΓ (pc := 106) 0 (i := 2) dX4_takeOne_106 rfl rfl ?_
        exact qg_iret hΓ hK hf dX4_takeOne_107
      · have hf := ifP hf c6
        refine g_bipush hΓ (pc := 58) (v := -4) dX4_takeOne_58 (by decide) ?_
        exact qg_iret hΓ hK hf dX4_takeOne_60
  · have hf := ifN hf c4
    refine g_aload_n hΓ (pc := 10) 1 (i := 0) dX4_takeOne_10 rfl rfl ?_
    refine g_dup hΓ (pc := 11) dX4_takeOne_11 rfl ?_
    refine qg_get hΓ (pc := 12) hK (k := 20) rfl q1092 dX4_takeOne_12 ?_
    refine g_iload_n hΓ (pc := 15) 0 (i := 2) dX4_takeOne_15 rfl rfl ?_
    refine g_aload_n hΓ (pc := 16) 1 (i := 0) dX4_takeOne_16 rfl rfl ?_
    refine qg_geta hΓ (pc := 17) hK (k := 17) rfl q1089 dX4_takeOne_17 ?_
    refine g_iload_n hΓ (pc := 20) 2 (i := 1) dX4_takeOne_20 rfl rfl ?_
    obtain ⟨x12, hx12, hf⟩ := bindE hf
    refine qg_iald hΓ (pc := 21) hK rfl hx12 dX4_takeOne_21 rfl ?_
    refine g_icmp_ne hΓ (pc := 22) (tgt := 29) dX4_takeOne_22 (by decide) (fun c13 => ?_) (fun c13 => ?_)
    · have hf := ifN hf c13
      refine g_iconst hΓ (pc := 29) (v := 1) dX4_takeOne_29 (by decide) ?_
      exact g_sub [1, 2, 0] rfl (J30  _ _ _ _ _ hf)
    · have hf := ifP hf c13
      refine g_iconst hΓ (pc := 25) (v := 0) dX4_takeOne_25 (by decide) ?_
      refine g_goto hΓ (pc := 26) (tgt := 30) dX4_takeOne_26 (by decide) ?_
      exact g_sub [1, 2, 0] rfl (J30  _ _ _ _ _ hf)
def M_strengthOf (m : MS) (a0 : Int32) : Option (Int32) :=
  (mR m 4 a0).bind fun x1 =>
  if x1 = (2 : Int32) then (
    some (1 : Int32)
  ) else (
  if x1 = (3 : Int32) then (
    (mR m 5 a0).bind fun x4 =>
    some ((2 : Int32) + x4)
  ) else (
  if x1 = (4 : Int32) then (
    some (0 : Int32)
  ) else (
  if x1 = (6 : Int32) then (
    (mR m 6 a0).bind fun x7 =>
    if (x7 - x7 / (2 : Int32) * (2 : Int32)) = (1 : Int32) then (
      some (0 : Int32)
    ) else (
      (mR m 5 a0).bind fun x9 =>
      some ((2 : Int32) + x9)
    )
  ) else (
  if x1 = (7 : Int32) then (
    (mR m 5 a0).bind fun x11 =>
    some ((3 : Int32) + x11)
  ) else (
  some (2 : Int32)
  )
  )
  )
  )
  )
set_option maxHeartbeats 4000000 in
set_option maxRecDepth 100000 in
theorem metM_strengthOf (l : Launch) {D : va_G} {dA : Nat → ClassId} {b : Nat} {ad : Nat → Nat} {P : Nat → Prop} {F : Nat → va_E} {m : MS} {a0 : Int32} {r : Int32} (hf : M_strengthOf m a0 = some r) : Met l yX4_strengthOf (ws_ yX4_strengthOf cX4_strengthOf 2 (some .int)) (rm0_ 0 0) (mP D dA b ad P F [.ref (ad 46), .int a0] m) (mQ D dA b ad P F (some (.int r)) m) 0 0 (fun q => b ≤ q) := by
  refine qg_met (by decide) RX4 rfl (Nat.le_of_ble_eq_true rfl) (fun Γ hΓ hK => ?_)
  refine g_sub [0, 1] (lv' := [(0, .ref (ad 46)), (1, .int a0)]) rfl ?_
  refine g_aload_n hΓ (pc := 0) 0 (i := 0) dX4_strengthOf_0 rfl rfl ?_
  refine qg_geta hΓ (pc := 1) hK (k := 4) rfl q1076 dX4_strengthOf_1 ?_
  refine g_iload_n hΓ (pc := 4) 1 (i := 1) dX4_strengthOf_4 rfl rfl ?_
  obtain ⟨x1, hx1, hf⟩ := bindE hf
  refine qg_iald hΓ (pc := 5) hK rfl hx1 dX4_strengthOf_5 rfl ?_
  by_cases c2 : x1 = (2 : Int32)
  · have hf := ifP hf c2
    refine g_tswC hΓ (pc := 6) (tgt := 44) (2) dX4_strengthOf_6 (by rw [c2]; decide) (by decide) (by decide) rfl (by decide) ?_
    refine g_iconst hΓ (pc := 44) (v := 1) dX4_strengthOf_44 (by decide) ?_
    exact qg_iretR hΓ hK hf dX4_strengthOf_45
  · have hf := ifN hf c2
    by_cases c3 : x1 = (3 : Int32)
    · have hf := ifP hf c3
      refine g_tswC hΓ (pc := 6) (tgt := 46) (3) dX4_strengthOf_6 (by rw [c3]; decide) (by decide) (by decide) rfl (by decide) ?_
      refine g_iconst hΓ (pc := 46) (v := 2) dX4_strengthOf_46 (by decide) ?_
      refine g_aload_n hΓ (pc := 47) 0 (i := 0) dX4_strengthOf_47 rfl rfl ?_
      refine qg_geta hΓ (pc := 48) hK (k := 5) rfl q1077 dX4_strengthOf_48 ?_
      refine g_iload_n hΓ (pc := 51) 1 (i := 1) dX4_strengthOf_51 rfl rfl ?_
      obtain ⟨x4, hx4, hf⟩ := bindE hf
      refine qg_iald hΓ (pc := 52) hK rfl hx4 dX4_strengthOf_52 rfl ?_
      refine g_iadd hΓ (pc := 53) dX4_strengthOf_53 ?_
      exact qg_iretR hΓ hK hf dX4_strengthOf_54
    · have hf := ifN hf c3
      by_cases c5 : x1 = (4 : Int32)
      · have hf := ifP hf c5
        refine g_tswC hΓ (pc := 6) (tgt := 55) (4) dX4_strengthOf_6 (by rw [c5]; decide) (by decide) (by decide) rfl (by decide) ?_
        refine g_iconst hΓ (pc := 55) (v := 0) dX4_strengthOf_55 (by decide) ?_
        exact qg_iretR hΓ hK hf dX4_strengthOf_56
      · have hf := ifN hf c5
        by_cases c6 : x1 = (6 : Int32)
        · have hf := ifP hf c6
          refine g_tswC hΓ (pc := 6) (tgt := 57) (6) dX4_strengthOf_6 (by rw [c6]; decide) (by decide) (by decide) rfl (by decide) ?_
          refine g_aload_n hΓ (pc := 57) 0 (i := 0) dX4_strengthOf_57 rfl rfl ?_
          refine qg_geta hΓ (pc := 58) hK (k := 6) rfl q1078 dX4_strengthOf_58 ?_
          refine g_iload_n hΓ (pc := 61) 1 (i := 1) dX4_strengthOf_61 rfl rfl ?_
          obtain ⟨x7, hx7, hf⟩ := bindE hf
          refine qg_iald hΓ (pc := 62) hK rfl hx7 dX4_strengthOf_62 rfl ?_
          refine g_iconst hΓ (pc := 63) (v := 2) dX4_strengthOf_63 (by decide) ?_
          refine g_irem hΓ (pc := 64) dX4_strengthOf_64 (by decide) ?_
          refine g_iconst hΓ (pc := 65) (v := 1) dX4_strengthOf_65 (by decide) ?_
          refine g_icmp_ne hΓ (pc := 66) (tgt := 73) dX4_strengthOf_66 (by decide) (fun c8 => ?_) (fun c8 => ?_)
          · have hf := ifN hf c8
            refine g_iconst hΓ (pc := 73) (v := 2) dX4_strengthOf_73 (by decide) ?_
            refine g_aload_n hΓ (pc := 74) 0 (i := 0) dX4_strengthOf_74 rfl rfl ?_
            refine qg_geta hΓ (pc := 75) hK (k := 5) rfl q1077 dX4_strengthOf_75 ?_
            refine g_iload_n hΓ (pc := 78) 1 (i := 1) dX4_strengthOf_78 rfl rfl ?_
            obtain ⟨x9, hx9, hf⟩ := bindE hf
            refine qg_iald hΓ (pc := 79) hK rfl hx9 dX4_strengthOf_79 rfl ?_
            refine g_iadd hΓ (pc := 80) dX4_strengthOf_80 ?_
            exact qg_iretR hΓ hK hf dX4_strengthOf_81
          · have hf := ifP hf c8
            refine g_iconst hΓ (pc := 69) (v := 0) dX4_strengthOf_69 (by decide) ?_
            refine g_goto hΓ (pc := 70) (tgt := 81) dX4_strengthOf_70 (by decide) ?_
            exact qg_iretR hΓ hK hf dX4_strengthOf_81
        · have hf := ifN hf c6
          by_cases c10 : x1 = (7 : Int32)
          · have hf := ifP hf c10
            refine g_tswC hΓ (pc := 6) (tgt := 82) (7) dX4_strengthOf_6 (by rw [c10]; decide) (by decide) (by decide) rfl (by decide) ?_
            refine g_iconst hΓ (pc := 82) (v := 3) dX4_strengthOf_82 (by decide) ?_
            refine g_aload_n hΓ (pc := 83) 0 (i := 0) dX4_strengthOf_83 rfl rfl ?_
            refine qg_geta hΓ (pc := 84) hK (k := 5) rfl q1077 dX4_strengthOf_84 ?_
            refine g_iload_n hΓ (pc := 87) 1 (i := 1) dX4_strengthOf_87 rfl rfl ?_
            obtain ⟨x11, hx11, hf⟩ := bindE hf
            refine qg_iald hΓ (pc := 88) hK rfl hx11 dX4_strengthOf_88 rfl ?_
            refine g_iadd hΓ (pc := 89) dX4_strengthOf_89 ?_
            exact qg_iretR hΓ hK hf dX4_strengthOf_90
          · have hf := ifN hf c10
            refine g_tswD hΓ (pc := 6) (tgt := 91) dX4_strengthOf_6 (fun v h1 h2 h3 => ?_) (by decide) ?_
            · rcases (by omega : v = 2 ∨ v = 3 ∨ v = 4 ∨ v = 5 ∨ v = 6 ∨ v = 7) with rfl | rfl | rfl | rfl | rfl | rfl
              · exact absurd h3 (lv_neT c2 (by decide))
              · exact absurd h3 (lv_neT c3 (by decide))
              · exact absurd h3 (lv_neT c5 (by decide))
              · rfl
              · exact absurd h3 (lv_neT c6 (by decide))
              · exact absurd h3 (lv_neT c10 (by decide))
            · skip
              refine g_iconst hΓ (pc := 91) (v := 2) dX4_strengthOf_91 (by decide) ?_
              exact qg_iretR hΓ hK hf dX4_strengthOf_92
def M_sipOne_70 (m : MS) (y1 : Int32) (y2 : Int32) (y3 : Int32) (z0 : Int32) (z1 : Int32) : Option (Int32 × MS) :=
  (mW m 19 z1 z0).bind fun m1 =>
  (mR m1 19 y1).bind fun x2 =>
  if x2 = (1 : Int32) then (
    (mW m1 10 y2 (1 : Int32)).bind fun m6 =>
    some (y3, m6)
  ) else (
    (mR m1 10 y2).bind fun x4 =>
    (mW m1 10 y2 x4).bind fun m5 =>
    some (y3, m5)
  )
def M_sipOne (m : MS) (a0 : Int32) : Option (Int32 × MS) :=
  (mR m 16 a0).bind fun x7 =>
  (M_strengthOf m x7).bind fun x8 =>
  (mR m 6 x7).bind fun x9 =>
  (mW m 6 x7 (x9 - (1 : Int32))).bind fun m10 =>
  (mR m10 18 a0).bind fun x11 =>
  (mW m10 18 a0 (x11 + x8)).bind fun m12 =>
  (mR m12 9 x7).bind fun x13 =>
  (mW m12 9 x7 (x13 ||| ((1 : Int32) <<< (a0 &&& 31)))).bind fun m14 =>
  (mR m14 10 x7).bind fun x15 =>
  if x15 = (1 : Int32) then (
    M_sipOne_70 m14 a0 x7 x8 (1 : Int32) a0
  ) else (
    (mR m14 19 a0).bind fun x17 =>
    M_sipOne_70 m14 a0 x7 x8 x17 a0
  )
set_option maxHeartbeats 4000000 in
set_option maxRecDepth 100000 in
theorem metM_sipOne (l : Launch) {D : va_G} {dA : Nat → ClassId} {b : Nat} {ad : Nat → Nat} {P : Nat → Prop} {F : Nat → va_E} {m : MS} {m' : MS} {a0 : Int32} {r : Int32} (hf : M_sipOne m a0 = some (r, m')) : Met l yX4_sipOne (ws_ yX4_sipOne cX4_sipOne 4 (some .int)) (rm0_ 1 21) (mP D dA b ad P F [.ref (ad 46), .int a0] m) (mQ D dA b ad P F (some (.int r)) m') 0 0 (fun q => b ≤ q) := by
  refine qg_met (by decide) RX4 rfl (Nat.le_of_ble_eq_true rfl) (fun Γ hΓ hK => ?_)
  refine g_sub [0, 1] (lv' := [(0, .ref (ad 46)), (1, .int a0)]) rfl ?_
  have J70 : ∀ (m : MS) (y1 : Int32) (y2 : Int32) (y3 : Int32) (z0 : Int32) (z1 : Int32) (hf : M_sipOne_70   m y1 y2 y3 z0 z1 = some (r, m')), WG Γ (MW D dA b ad P F m) 0 0 70 [(0, .ref (ad 46)), (1, .int y1), (2, .int y2), (3, .int y3)] [.int z0, .int z1, .ref (ad 19)] := by
    intro  m y1 y2 y3 z0 z1 hf
    obtain ⟨m1, hm1, hf⟩ := bindE hf
    refine qg_iast hΓ (pc := 70) hK rfl hm1 dX4_sipOne_70 rfl ?_
    refine g_aload_n hΓ (pc := 71) 0 (i := 0) dX4_sipOne_71 rfl rfl ?_
    refine qg_geta hΓ (pc := 72) hK (k := 10) rfl q1082 dX4_sipOne_72 ?_
    refine g_iload_n hΓ (pc := 75) 2 (i := 2) dX4_sipOne_75 rfl rfl ?_
    refine g_aload_n hΓ (pc := 76) 0 (i := 0) dX4_sipOne_76 rfl rfl ?_
    refine qg_geta hΓ (pc := 77) hK (k := 19) rfl q1091 dX4_sipOne_77 ?_
    refine g_iload_n hΓ (pc := 80) 1 (i := 1) dX4_sipOne_80 rfl rfl ?_
    obtain ⟨x2, hx2, hf⟩ := bindE hf
    refine qg_iald hΓ (pc := 81) hK rfl hx2 dX4_sipOne_81 rfl ?_
    refine g_iconst hΓ (pc := 82) (v := 1) dX4_sipOne_82 (by decide) ?_
    refine g_icmp_ne hΓ (pc := 83) (tgt := 90) dX4_sipOne_83 (by decide) (fun c3 => ?_) (fun c3 => ?_)
    · have hf := ifN hf c3
      refine g_aload_n hΓ (pc := 90) 0 (i := 0) dX4_sipOne_90 rfl rfl ?_
      refine qg_geta hΓ (pc := 91) hK (k := 10) rfl q1082 dX4_sipOne_91 ?_
      refine g_iload_n hΓ (pc := 94) 2 (i := 2) dX4_sipOne_94 rfl rfl ?_
      obtain ⟨x4, hx4, hf⟩ := bindE hf
      refine qg_iald hΓ (pc := 95) hK rfl hx4 dX4_sipOne_95 rfl ?_
      obtain ⟨m5, hm5, hf⟩ := bindE hf
      refine qg_iast hΓ (pc := 96) hK rfl hm5 dX4_sipOne_96 rfl ?_
      refine g_iload_n hΓ (pc := 97) 3 (i := 3) dX4_sipOne_97 rfl rfl ?_
      exact qg_iret hΓ hK hf dX4_sipOne_98
    · have hf := ifP hf c3
      refine g_iconst hΓ (pc := 86) (v := 1) dX4_sipOne_86 (by decide) ?_
      refine g_goto hΓ (pc := 87) (tgt := 96) dX4_sipOne_87 (by decide) ?_
      obtain ⟨m6, hm6, hf⟩ := bindE hf
      refine qg_iast hΓ (pc := 96) hK rfl hm6 dX4_sipOne_96 rfl ?_
      refine g_iload_n hΓ (pc := 97) 3 (i := 3) dX4_sipOne_97 rfl rfl ?_
      exact qg_iret hΓ hK hf dX4_sipOne_98
  refine g_aload_n hΓ (pc := 0) 0 (i := 0) dX4_sipOne_0 rfl rfl ?_
  refine qg_geta hΓ (pc := 1) hK (k := 16) rfl q1088 dX4_sipOne_1 ?_
  refine g_iload_n hΓ (pc := 4) 1 (i := 1) dX4_sipOne_4 rfl rfl ?_
  obtain ⟨x7, hx7, hf⟩ := bindE hf
  refine qg_iald hΓ (pc := 5) hK rfl hx7 dX4_sipOne_5 rfl ?_
  refine g_istore_n hΓ (pc := 6) (i := 2) (lv' := [(2, .int x7), (0, .ref (ad 46)), (1, .int a0)]) dX4_sipOne_6 rfl (by decide) rfl ?_
  refine g_aload_n hΓ (pc := 7) 1 (i := 0) dX4_sipOne_7 rfl rfl ?_
  refine g_iload_n hΓ (pc := 8) 0 (i := 2) dX4_sipOne_8 rfl rfl ?_
  obtain ⟨x8, hx8, hf⟩ := bindE hf
  refine qg_callV hΓ (pc := 9) hK 1 (As := [.int x7]) (metM_strengthOf _ hx8) (lw_V q1346 q1348 qs42 q57 q1349) (by decide +kernel) (by decide) rfl rfl (Nat.le_of_ble_eq_true rfl) dX4_sipOne_9 ?_
  refine g_istore_n hΓ (pc := 12) (i := 3) (lv' := [(3, .int x8), (2, .int x7), (0, .ref (ad 46)), (1, .int a0)]) dX4_sipOne_12 rfl (by decide) rfl ?_
  refine g_aload_n hΓ (pc := 13) 2 (i := 0) dX4_sipOne_13 rfl rfl ?_
  refine qg_geta hΓ (pc := 14) hK (k := 6) rfl q1078 dX4_sipOne_14 ?_
  refine g_iload_n hΓ (pc := 17) 1 (i := 2) dX4_sipOne_17 rfl rfl ?_
  refine g_dup2 hΓ (pc := 18) dX4_sipOne_18 rfl rfl ?_
  obtain ⟨x9, hx9, hf⟩ := bindE hf
  refine qg_iald hΓ (pc := 19) hK rfl hx9 dX4_sipOne_19 rfl ?_
  refine g_iconst hΓ (pc := 20) (v := 1) dX4_sipOne_20 (by decide) ?_
  refine g_isub hΓ (pc := 21) dX4_sipOne_21 ?_
  obtain ⟨m10, hm10, hf⟩ := bindE hf
  refine qg_iast hΓ (pc := 22) hK rfl hm10 dX4_sipOne_22 rfl ?_
  refine g_aload_n hΓ (pc := 23) 2 (i := 0) dX4_sipOne_23 rfl rfl ?_
  refine qg_geta hΓ (pc := 24) hK (k := 18) rfl q1090 dX4_sipOne_24 ?_
  refine g_iload_n hΓ (pc := 27) 3 (i := 1) dX4_sipOne_27 rfl rfl ?_
  refine g_dup2 hΓ (pc := 28) dX4_sipOne_28 rfl rfl ?_
  obtain ⟨x11, hx11, hf⟩ := bindE hf
  refine qg_iald hΓ (pc := 29) hK rfl hx11 dX4_sipOne_29 rfl ?_
  refine g_iload_n hΓ (pc := 30) 0 (i := 3) dX4_sipOne_30 rfl rfl ?_
  refine g_iadd hΓ (pc := 31) dX4_sipOne_31 ?_
  obtain ⟨m12, hm12, hf⟩ := bindE hf
  refine qg_iast hΓ (pc := 32) hK rfl hm12 dX4_sipOne_32 rfl ?_
  refine g_aload_n hΓ (pc := 33) 2 (i := 0) dX4_sipOne_33 rfl rfl ?_
  refine qg_geta hΓ (pc := 34) hK (k := 9) rfl q1081 dX4_sipOne_34 ?_
  refine g_iload_n hΓ (pc := 37) 1 (i := 2) dX4_sipOne_37 rfl rfl ?_
  refine g_dup2 hΓ (pc := 38) dX4_sipOne_38 rfl rfl ?_
  obtain ⟨x13, hx13, hf⟩ := bindE hf
  refine qg_iald hΓ (pc := 39) hK rfl hx13 dX4_sipOne_39 rfl ?_
  refine g_iconst hΓ (pc := 40) (v := 1) dX4_sipOne_40 (by decide) ?_
  refine g_iload_n hΓ (pc := 41) 3 (i := 1) dX4_sipOne_41 rfl rfl ?_
  refine g_ishl hΓ (pc := 42) dX4_sipOne_42 ?_
  refine g_ior hΓ (pc := 43) dX4_sipOne_43 ?_
  obtain ⟨m14, hm14, hf⟩ := bindE hf
  refine qg_iast hΓ (pc := 44) hK rfl hm14 dX4_sipOne_44 rfl ?_
  refine g_aload_n hΓ (pc := 45) 2 (i := 0) dX4_sipOne_45 rfl rfl ?_
  refine qg_geta hΓ (pc := 46) hK (k := 19) rfl q1091 dX4_sipOne_46 ?_
  refine g_iload_n hΓ (pc := 49) 3 (i := 1) dX4_sipOne_49 rfl rfl ?_
  refine g_aload_n hΓ (pc := 50) 2 (i := 0) dX4_sipOne_50 rfl rfl ?_
  refine qg_geta hΓ (pc := 51) hK (k := 10) rfl q1082 dX4_sipOne_51 ?_
  refine g_iload_n hΓ (pc := 54) 1 (i := 2) dX4_sipOne_54 rfl rfl ?_
  obtain ⟨x15, hx15, hf⟩ := bindE hf
  refine qg_iald hΓ (pc := 55) hK rfl hx15 dX4_sipOne_55 rfl ?_
  refine g_iconst hΓ (pc := 56) (v := 1) dX4_sipOne_56 (by decide) ?_
  refine g_icmp_ne hΓ (pc := 57) (tgt := 64) dX4_sipOne_57 (by decide) (fun c16 => ?_) (fun c16 => ?_)
  · have hf := ifN hf c16
    refine g_aload_n hΓ (pc := 64) 2 (i := 0) dX4_sipOne_64 rfl rfl ?_
    refine qg_geta hΓ (pc := 65) hK (k := 19) rfl q1091 dX4_sipOne_65 ?_
    refine g_iload_n hΓ (pc := 68) 3 (i := 1) dX4_sipOne_68 rfl rfl ?_
    obtain ⟨x17, hx17, hf⟩ := bindE hf
    refine qg_iald hΓ (pc := 69) hK rfl hx17 dX4_sipOne_69 rfl ?_
    exact g_sub [2, 3, 1, 0] rfl (J70  _ _ _ _ _ _ hf)
  · have hf := ifP hf c16
    refine g_iconst hΓ (pc := 60) (v := 1) dX4_sipOne_60 (by decide) ?_
    refine g_goto hΓ (pc := 61) (tgt := 70) dX4_sipOne_61 (by decide) ?_
    exact g_sub [2, 3, 1, 0] rfl (J70  _ _ _ _ _ _ hf)
def M_layOne (m : MS) (a0 : Int32) : Option (Int32 × MS) :=
  (mR m 16 a0).bind fun x1 =>
  (mR m 15 a0).bind fun x2 =>
  (mW m 7 x1 x2).bind fun m3 =>
  (mW m3 8 x1 (m3.1 3)).bind fun m4 =>
  (mW m4 16 a0 (-4 : Int32)).bind fun m5 =>
  some (x1, m5)
set_option maxHeartbeats 4000000 in
set_option maxRecDepth 100000 in
theorem metM_layOne (l : Launch) {D : va_G} {dA : Nat → ClassId} {b : Nat} {ad : Nat → Nat} {P : Nat → Prop} {F : Nat → va_E} {m : MS} {m' : MS} {a0 : Int32} {r : Int32} (hf : M_layOne m a0 = some (r, m')) : Met l yX4_layOne (ws_ yX4_layOne cX4_layOne 3 (some .int)) (rm0_ 0 0) (mP D dA b ad P F [.ref (ad 46), .int a0] m) (mQ D dA b ad P F (some (.int r)) m') 0 0 (fun q => b ≤ q) := by
  refine qg_met (by decide) RX4 rfl (Nat.le_of_ble_eq_true rfl) (fun Γ hΓ hK => ?_)
  refine g_sub [0, 1] (lv' := [(0, .ref (ad 46)), (1, .int a0)]) rfl ?_
  refine g_aload_n hΓ (pc := 0) 0 (i := 0) dX4_layOne_0 rfl rfl ?_
  refine qg_geta hΓ (pc := 1) hK (k := 16) rfl q1088 dX4_layOne_1 ?_
  refine g_iload_n hΓ (pc := 4) 1 (i := 1) dX4_layOne_4 rfl rfl ?_
  obtain ⟨x1, hx1, hf⟩ := bindE hf
  refine qg_iald hΓ (pc := 5) hK rfl hx1 dX4_layOne_5 rfl ?_
  refine g_istore_n hΓ (pc := 6) (i := 2) (lv' := [(2, .int x1), (0, .ref (ad 46)), (1, .int a0)]) dX4_layOne_6 rfl (by decide) rfl ?_
  refine g_aload_n hΓ (pc := 7) 1 (i := 0) dX4_layOne_7 rfl rfl ?_
  refine qg_geta hΓ (pc := 8) hK (k := 7) rfl q1079 dX4_layOne_8 ?_
  refine g_iload_n hΓ (pc := 11) 0 (i := 2) dX4_layOne_11 rfl rfl ?_
  refine g_aload_n hΓ (pc := 12) 1 (i := 0) dX4_layOne_12 rfl rfl ?_
  refine qg_geta hΓ (pc := 13) hK (k := 15) rfl q1087 dX4_layOne_13 ?_
  refine g_iload_n hΓ (pc := 16) 2 (i := 1) dX4_layOne_16 rfl rfl ?_
  obtain ⟨x2, hx2, hf⟩ := bindE hf
  refine qg_iald hΓ (pc := 17) hK rfl hx2 dX4_layOne_17 rfl ?_
  obtain ⟨m3, hm3, hf⟩ := bindE hf
  refine qg_iast hΓ (pc := 18) hK rfl hm3 dX4_layOne_18 rfl ?_
  refine g_aload_n hΓ (pc := 19) 1 (i := 0) dX4_layOne_19 rfl rfl ?_
  refine qg_geta hΓ (pc := 20) hK (k := 8) rfl q1080 dX4_layOne_20 ?_
  refine g_iload_n hΓ (pc := 23) 0 (i := 2) dX4_layOne_23 rfl rfl ?_
  refine g_aload_n hΓ (pc := 24) 1 (i := 0) dX4_layOne_24 rfl rfl ?_
  refine qg_get hΓ (pc := 25) hK (k := 3) rfl q1075 dX4_layOne_25 ?_
  obtain ⟨m4, hm4, hf⟩ := bindE hf
  refine qg_iast hΓ (pc := 28) hK rfl hm4 dX4_layOne_28 rfl ?_
  refine g_aload_n hΓ (pc := 29) 1 (i := 0) dX4_layOne_29 rfl rfl ?_
  refine qg_geta hΓ (pc := 30) hK (k := 16) rfl q1088 dX4_layOne_30 ?_
  refine g_iload_n hΓ (pc := 33) 2 (i := 1) dX4_layOne_33 rfl rfl ?_
  refine g_bipush hΓ (pc := 34) (v := -4) dX4_layOne_34 (by decide) ?_
  obtain ⟨m5, hm5, hf⟩ := bindE hf
  refine qg_iast hΓ (pc := 36) hK rfl hm5 dX4_layOne_36 rfl ?_
  refine g_iload_n hΓ (pc := 37) 0 (i := 2) dX4_layOne_37 rfl rfl ?_
  exact qg_iret hΓ hK hf dX4_layOne_38

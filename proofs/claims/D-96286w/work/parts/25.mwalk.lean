set_option maxRecDepth 100000
def M_toss (m : MS) (a0 : Int32) : Option (Int32 × MS) :=
  (mSI m 23 (0 : Int32)).bind fun m1 =>
  (M_wrongKept m1 a0).bind fun x2 =>
  if 0 ≤ x2 then (
    (mR m1 40 a0).bind fun x4 =>
    (mR m1 41 a0).bind fun x5 =>
    if x4 = (4 : Int32) then (
      some ((-15 : Int32), m1)
    ) else (
      if x5 = 0 then (
        some ((-15 : Int32), m1)
      ) else (
        if x4 = (3 : Int32) then (
          some ((100 : Int32) + x5, m1)
        ) else (
          if x4 = (5 : Int32) then (
            (M_costOf x4 x5).bind fun x10 =>
            some ((200 : Int32) + x10, m1)
          ) else (
            some (x5, m1)
          )
        )
      )
    )
  ) else (
    (M_wrongKept m1 a0).bind fun x11 =>
    some (x11, m1)
  )
set_option maxHeartbeats 4000000 in
set_option maxRecDepth 100000 in
theorem metM_toss (l : Launch) {D : va_G} {dA : Nat → ClassId} {b : Nat} {ad : Nat → Nat} {P : Nat → Prop} {F : Nat → va_E} {m : MS} {m' : MS} {a0 : Int32} {r : Int32} (hf : M_toss m a0 = some (r, m')) : Met l yX4_toss (ws_ yX4_toss cX4_toss 4 (some .int)) (rm0_ 2 46) (mP D dA b ad P F [.ref (ad 46), .int a0] m) (mQ D dA b ad P F (some (.int r)) m') 0 0 (fun q => b ≤ q) := by
  refine qg_met (by decide) RX4 rfl (Nat.le_of_ble_eq_true rfl) (fun Γ hΓ hK => ?_)
  refine g_sub [0, 1] (lv' := [(0, .ref (ad 46)), (1, .int a0)]) rfl ?_
  refine g_aload_n hΓ (pc := 0) 0 (i := 0) dX4_toss_0 rfl rfl ?_
  refine g_iconst hΓ (pc := 1) (v := 0) dX4_toss_1 (by decide) ?_
  obtain ⟨m1, hm1, hf⟩ := bindE hf
  refine qg_put hΓ (pc := 2) hK rfl hm1 q1095 dX4_toss_2 ?_
  refine g_aload_n hΓ (pc := 5) 0 (i := 0) dX4_toss_5 rfl rfl ?_
  refine g_iload_n hΓ (pc := 6) 1 (i := 1) dX4_toss_6 rfl rfl ?_
  obtain ⟨x2, hx2, hf⟩ := bindE hf
  refine qg_callV hΓ (pc := 7) hK 1 (As := [.int a0]) (metM_wrongKept _ hx2) (lw_V q1376 q1378 qs45 q57 q1379) (by decide +kernel) (by decide) rfl rfl (Nat.le_of_ble_eq_true rfl) dX4_toss_7 ?_
  refine g_if_ge hΓ (pc := 10) (tgt := 19) dX4_toss_10 (by decide) (fun c3 => ?_) (fun c3 => ?_)
  · have hf := ifP hf c3
    refine g_aload_n hΓ (pc := 19) 0 (i := 0) dX4_toss_19 rfl rfl ?_
    refine qg_geta hΓ (pc := 20) hK (k := 40) rfl q1112 dX4_toss_20 ?_
    refine g_iload_n hΓ (pc := 23) 1 (i := 1) dX4_toss_23 rfl rfl ?_
    obtain ⟨x4, hx4, hf⟩ := bindE hf
    refine qg_iald hΓ (pc := 24) hK rfl hx4 dX4_toss_24 rfl ?_
    refine g_istore_n hΓ (pc := 25) (i := 2) (lv' := [(2, .int x4), (0, .ref (ad 46)), (1, .int a0)]) dX4_toss_25 rfl (by decide) rfl ?_
    refine g_aload_n hΓ (pc := 26) 1 (i := 0) dX4_toss_26 rfl rfl ?_
    refine qg_geta hΓ (pc := 27) hK (k := 41) rfl q1113 dX4_toss_27 ?_
    refine g_iload_n hΓ (pc := 30) 2 (i := 1) dX4_toss_30 rfl rfl ?_
    obtain ⟨x5, hx5, hf⟩ := bindE hf
    refine qg_iald hΓ (pc := 31) hK rfl hx5 dX4_toss_31 rfl ?_
    refine g_istore_n hΓ (pc := 32) (i := 3) (lv' := [(3, .int x5), (2, .int x4), (0, .ref (ad 46)), (1, .int a0)]) dX4_toss_32 rfl (by decide) rfl ?_
    refine g_iload_n hΓ (pc := 33) 1 (i := 2) dX4_toss_33 rfl rfl ?_
    refine g_iconst hΓ (pc := 34) (v := 4) dX4_toss_34 (by decide) ?_
    refine g_icmp_eq hΓ (pc := 35) (tgt := 42) dX4_toss_35 (by decide) (fun c6 => ?_) (fun c6 => ?_)
    · have hf := ifP hf c6
      refine g_bipush hΓ (pc := 42) (v := -15) dX4_toss_42 (by decide) ?_
      exact qg_iret hΓ hK hf dX4_toss_44
    · have hf := ifN hf c6
      refine g_iload_n hΓ (pc := 38) 0 (i := 3) dX4_toss_38 rfl rfl ?_
      refine g_if_ne hΓ (pc := 39) (tgt := 45) dX4_toss_39 (by decide) (fun c7 => ?_) (fun c7 => ?_)
      · have hf := ifN hf c7
        refine g_iload_n hΓ (pc := 45) 1 (i := 2) dX4_toss_45 rfl rfl ?_
        refine g_iconst hΓ (pc := 46) (v := 3) dX4_toss_46 (by decide) ?_
        refine g_icmp_ne hΓ (pc := 47) (tgt := 57) dX4_toss_47 (by decide) (fun c8 => ?_) (fun c8 => ?_)
        · have hf := ifN hf c8
          refine g_iload_n hΓ (pc := 57) 1 (i := 2) dX4_toss_57 rfl rfl ?_
          refine g_iconst hΓ (pc := 58) (v := 5) dX4_toss_58 (by decide) ?_
          refine g_icmp_ne hΓ (pc := 59) (tgt := 74) dX4_toss_59 (by decide) (fun c9 => ?_) (fun c9 => ?_)
          · have hf := ifN hf c9
            refine g_iload_n hΓ (pc := 74) 0 (i := 3) dX4_toss_74 rfl rfl ?_
            exact qg_iret hΓ hK hf dX4_toss_75
          · have hf := ifP hf c9
            refine g_sipush hΓ (pc := 62) (v := 200) dX4_toss_62 (by decide) ?_
            refine g_iload_n hΓ (pc := 65) 1 (i := 2) dX4_toss_65 rfl rfl ?_
            refine g_iload_n hΓ (pc := 66) 0 (i := 3) dX4_toss_66 rfl rfl ?_
            obtain ⟨x10, hx10, hf⟩ := bindE hf
            refine qg_callS hΓ (pc := 67) 2 (As := [.int x4, .int x5]) (metM_costOf _ hx10) (lw_S q1556 q1557 q57 q1558) (by decide +kernel) (by decide) rfl rfl (Nat.le_of_ble_eq_true rfl) dX4_toss_67 ?_
            refine g_iadd hΓ (pc := 70) dX4_toss_70 ?_
            refine g_goto hΓ (pc := 71) (tgt := 75) dX4_toss_71 (by decide) ?_
            exact qg_iret hΓ hK hf dX4_toss_75
        · have hf := ifP hf c8
          refine g_bipush hΓ (pc := 50) (v := 100) dX4_toss_50 (by decide) ?_
          refine g_iload_n hΓ (pc := 52) 0 (i := 3) dX4_toss_52 rfl rfl ?_
          refine g_iadd hΓ (pc := 53) dX4_toss_53 ?_
          refine g_goto hΓ (pc := 54) (tgt := 75) dX4_toss_54 (by decide) ?_
          exact qg_iret hΓ hK hf dX4_toss_75
      · have hf := ifP hf c7
        refine g_bipush hΓ (pc := 42) (v := -15) dX4_toss_42 (by decide) ?_
        exact qg_iret hΓ hK hf dX4_toss_44
  · have hf := ifN hf c3
    refine g_aload_n hΓ (pc := 13) 0 (i := 0) dX4_toss_13 rfl rfl ?_
    refine g_iload_n hΓ (pc := 14) 1 (i := 1) dX4_toss_14 rfl rfl ?_
    obtain ⟨x11, hx11, hf⟩ := bindE hf
    refine qg_callV hΓ (pc := 15) hK 1 (As := [.int a0]) (metM_wrongKept _ hx11) (lw_V q1376 q1378 qs45 q57 q1379) (by decide +kernel) (by decide) rfl rfl (Nat.le_of_ble_eq_true rfl) dX4_toss_15 ?_
    exact qg_iret hΓ hK hf dX4_toss_18

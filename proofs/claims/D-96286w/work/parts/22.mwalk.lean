set_option maxRecDepth 100000
def M_guestOn_85 (m : MS) (y1 : Int32) : Option (MS) :=
  if (m.1 3) ≤ 0 then (
    some m
  ) else (
    (mR m 12 y1).bind fun x2 =>
    if x2 = 0 then none else
    if ((m.1 3) - (m.1 3) / x2 * x2) = 0 then (
      (M_layOne m y1).bind fun q5 =>
      some q5.2
    ) else (
      some m
    )
  )
def M_guestOn_35 (m : MS) (y1 : Int32) : Option (MS) :=
  (mR m 16 y1).bind fun x6 =>
  if 0 ≤ x6 then (
    (mR m 11 y1).bind fun x8 =>
    if x8 = 0 then none else
    if ((m.1 3) - (m.1 3) / x8 * x8) = 0 then (
      (mR m 16 y1).bind fun x11 =>
      (mR m 6 x11).bind fun x12 =>
      if x12 ≤ 0 then (
        M_guestOn_85 m y1
      ) else (
        (M_sipOne m y1).bind fun q14 =>
        M_guestOn_85 q14.2 y1
      )
    ) else (
      M_guestOn_85 m y1
    )
  ) else (
    (M_takeOne m y1).bind fun q15 =>
    some q15.2
  )
def M_guestOn (m : MS) (a0 : Int32) : Option (MS) :=
  (mR m 13 a0).bind fun x16 =>
  if x16 ≤ 0 then (
    M_guestOn_35 m a0
  ) else (
    if (m.1 3) ≤ 0 then (
      M_guestOn_35 m a0
    ) else (
      (mR m 13 a0).bind fun x19 =>
      if x19 = 0 then none else
      if ((m.1 3) - (m.1 3) / x19 * x19) = 0 then (
        (M_goOn m a0).bind fun m22 =>
        M_guestOn_35 m22 a0
      ) else (
        M_guestOn_35 m a0
      )
    )
  )
set_option maxHeartbeats 4000000 in
set_option maxRecDepth 100000 in
theorem metM_guestOn (l : Launch) {D : va_G} {dA : Nat → ClassId} {b : Nat} {ad : Nat → Nat} {P : Nat → Prop} {F : Nat → va_E} {m : MS} {m' : MS} {a0 : Int32} (hf : M_guestOn m a0 = some m') : Met l yX4_guestOn (ws_ yX4_guestOn cX4_guestOn 2 none) (rm0_ 5 117) (mP D dA b ad P F [.ref (ad 46), .int a0] m) (mQ D dA b ad P F none m') 0 0 (fun q => b ≤ q) := by
  refine qg_met (by decide) RX4 rfl (Nat.le_of_ble_eq_true rfl) (fun Γ hΓ hK => ?_)
  refine g_sub [0, 1] (lv' := [(0, .ref (ad 46)), (1, .int a0)]) rfl ?_
  have J85 : ∀ (m : MS) (y1 : Int32) (hf : M_guestOn_85   m y1 = some m'), WG Γ (MW D dA b ad P F m) 0 0 85 [(0, .ref (ad 46)), (1, .int y1)] [] := by
    intro  m y1 hf
    refine g_aload_n hΓ (pc := 85) 0 (i := 0) dX4_guestOn_85 rfl rfl ?_
    refine qg_get hΓ (pc := 86) hK (k := 3) rfl q1075 dX4_guestOn_86 ?_
    refine g_if_le hΓ (pc := 89) (tgt := 112) dX4_guestOn_89 (by decide) (fun c1 => ?_) (fun c1 => ?_)
    · have hf := ifP hf c1
      exact qg_vret hΓ hK hf dX4_guestOn_112
    · have hf := ifN hf c1
      refine g_aload_n hΓ (pc := 92) 0 (i := 0) dX4_guestOn_92 rfl rfl ?_
      refine qg_get hΓ (pc := 93) hK (k := 3) rfl q1075 dX4_guestOn_93 ?_
      refine g_aload_n hΓ (pc := 96) 0 (i := 0) dX4_guestOn_96 rfl rfl ?_
      refine qg_geta hΓ (pc := 97) hK (k := 12) rfl q1084 dX4_guestOn_97 ?_
      refine g_iload_n hΓ (pc := 100) 1 (i := 1) dX4_guestOn_100 rfl rfl ?_
      obtain ⟨x2, hx2, hf⟩ := bindE hf
      refine qg_iald hΓ (pc := 101) hK rfl hx2 dX4_guestOn_101 rfl ?_
      obtain ⟨e3, hf⟩ := nzE hf
      refine g_irem hΓ (pc := 102) dX4_guestOn_102 e3 ?_
      refine g_if_ne hΓ (pc := 103) (tgt := 112) dX4_guestOn_103 (by decide) (fun c4 => ?_) (fun c4 => ?_)
      · have hf := ifN hf c4
        exact qg_vret hΓ hK hf dX4_guestOn_112
      · have hf := ifP hf c4
        refine g_aload_n hΓ (pc := 106) 0 (i := 0) dX4_guestOn_106 rfl rfl ?_
        refine g_iload_n hΓ (pc := 107) 1 (i := 1) dX4_guestOn_107 rfl rfl ?_
        obtain ⟨q5, hq5, hf⟩ := bindE hf
        refine qg_callV hΓ (pc := 108) hK 1 (As := [.int y1]) (metM_layOne _ (r := q5.1) (m' := q5.2) hq5) (lw_V q1350 q1352 qs43 q57 q1353) (by decide +kernel) (by decide) rfl rfl (Nat.le_of_ble_eq_true rfl) dX4_guestOn_108 ?_
        refine g_pop hΓ (pc := 111) dX4_guestOn_111 rfl ?_
        exact qg_vret hΓ hK hf dX4_guestOn_112
  have J35 : ∀ (m : MS) (y1 : Int32) (hf : M_guestOn_35   m y1 = some m'), WG Γ (MW D dA b ad P F m) 0 0 35 [(0, .ref (ad 46)), (1, .int y1)] [] := by
    intro  m y1 hf
    refine g_aload_n hΓ (pc := 35) 0 (i := 0) dX4_guestOn_35 rfl rfl ?_
    refine qg_geta hΓ (pc := 36) hK (k := 16) rfl q1088 dX4_guestOn_36 ?_
    refine g_iload_n hΓ (pc := 39) 1 (i := 1) dX4_guestOn_39 rfl rfl ?_
    obtain ⟨x6, hx6, hf⟩ := bindE hf
    refine qg_iald hΓ (pc := 40) hK rfl hx6 dX4_guestOn_40 rfl ?_
    refine g_if_ge hΓ (pc := 41) (tgt := 51) dX4_guestOn_41 (by decide) (fun c7 => ?_) (fun c7 => ?_)
    · have hf := ifP hf c7
      refine g_aload_n hΓ (pc := 51) 0 (i := 0) dX4_guestOn_51 rfl rfl ?_
      refine qg_get hΓ (pc := 52) hK (k := 3) rfl q1075 dX4_guestOn_52 ?_
      refine g_aload_n hΓ (pc := 55) 0 (i := 0) dX4_guestOn_55 rfl rfl ?_
      refine qg_geta hΓ (pc := 56) hK (k := 11) rfl q1083 dX4_guestOn_56 ?_
      refine g_iload_n hΓ (pc := 59) 1 (i := 1) dX4_guestOn_59 rfl rfl ?_
      obtain ⟨x8, hx8, hf⟩ := bindE hf
      refine qg_iald hΓ (pc := 60) hK rfl hx8 dX4_guestOn_60 rfl ?_
      obtain ⟨e9, hf⟩ := nzE hf
      refine g_irem hΓ (pc := 61) dX4_guestOn_61 e9 ?_
      refine g_if_ne hΓ (pc := 62) (tgt := 85) dX4_guestOn_62 (by decide) (fun c10 => ?_) (fun c10 => ?_)
      · have hf := ifN hf c10
        exact g_sub [0, 1] rfl (J85  _ _ hf)
      · have hf := ifP hf c10
        refine g_aload_n hΓ (pc := 65) 0 (i := 0) dX4_guestOn_65 rfl rfl ?_
        refine qg_geta hΓ (pc := 66) hK (k := 6) rfl q1078 dX4_guestOn_66 ?_
        refine g_aload_n hΓ (pc := 69) 0 (i := 0) dX4_guestOn_69 rfl rfl ?_
        refine qg_geta hΓ (pc := 70) hK (k := 16) rfl q1088 dX4_guestOn_70 ?_
        refine g_iload_n hΓ (pc := 73) 1 (i := 1) dX4_guestOn_73 rfl rfl ?_
        obtain ⟨x11, hx11, hf⟩ := bindE hf
        refine qg_iald hΓ (pc := 74) hK rfl hx11 dX4_guestOn_74 rfl ?_
        obtain ⟨x12, hx12, hf⟩ := bindE hf
        refine qg_iald hΓ (pc := 75) hK rfl hx12 dX4_guestOn_75 rfl ?_
        refine g_if_le hΓ (pc := 76) (tgt := 85) dX4_guestOn_76 (by decide) (fun c13 => ?_) (fun c13 => ?_)
        · have hf := ifP hf c13
          exact g_sub [0, 1] rfl (J85  _ _ hf)
        · have hf := ifN hf c13
          refine g_aload_n hΓ (pc := 79) 0 (i := 0) dX4_guestOn_79 rfl rfl ?_
          refine g_iload_n hΓ (pc := 80) 1 (i := 1) dX4_guestOn_80 rfl rfl ?_
          obtain ⟨q14, hq14, hf⟩ := bindE hf
          refine qg_callV hΓ (pc := 81) hK 1 (As := [.int y1]) (metM_sipOne _ (r := q14.1) (m' := q14.2) hq14) (lw_V q1342 q1344 qs41 q57 q1345) (by decide +kernel) (by decide) rfl rfl (Nat.le_of_ble_eq_true rfl) dX4_guestOn_81 ?_
          refine g_pop hΓ (pc := 84) dX4_guestOn_84 rfl ?_
          exact g_sub [0, 1] rfl (J85  _ _ hf)
    · have hf := ifN hf c7
      refine g_aload_n hΓ (pc := 44) 0 (i := 0) dX4_guestOn_44 rfl rfl ?_
      refine g_iload_n hΓ (pc := 45) 1 (i := 1) dX4_guestOn_45 rfl rfl ?_
      obtain ⟨q15, hq15, hf⟩ := bindE hf
      refine qg_callV hΓ (pc := 46) hK 1 (As := [.int y1]) (metM_takeOne _ (r := q15.1) (m' := q15.2) hq15) (lw_V q1314 q1316 qs34 q57 q1317) (by decide +kernel) (by decide) rfl rfl (Nat.le_of_ble_eq_true rfl) dX4_guestOn_46 ?_
      refine g_pop hΓ (pc := 49) dX4_guestOn_49 rfl ?_
      exact qg_vret hΓ hK hf dX4_guestOn_50
  refine g_aload_n hΓ (pc := 0) 0 (i := 0) dX4_guestOn_0 rfl rfl ?_
  refine qg_geta hΓ (pc := 1) hK (k := 13) rfl q1085 dX4_guestOn_1 ?_
  refine g_iload_n hΓ (pc := 4) 1 (i := 1) dX4_guestOn_4 rfl rfl ?_
  obtain ⟨x16, hx16, hf⟩ := bindE hf
  refine qg_iald hΓ (pc := 5) hK rfl hx16 dX4_guestOn_5 rfl ?_
  refine g_if_le hΓ (pc := 6) (tgt := 35) dX4_guestOn_6 (by decide) (fun c17 => ?_) (fun c17 => ?_)
  · have hf := ifP hf c17
    exact g_sub [0, 1] rfl (J35  _ _ hf)
  · have hf := ifN hf c17
    refine g_aload_n hΓ (pc := 9) 0 (i := 0) dX4_guestOn_9 rfl rfl ?_
    refine qg_get hΓ (pc := 10) hK (k := 3) rfl q1075 dX4_guestOn_10 ?_
    refine g_if_le hΓ (pc := 13) (tgt := 35) dX4_guestOn_13 (by decide) (fun c18 => ?_) (fun c18 => ?_)
    · have hf := ifP hf c18
      exact g_sub [0, 1] rfl (J35  _ _ hf)
    · have hf := ifN hf c18
      refine g_aload_n hΓ (pc := 16) 0 (i := 0) dX4_guestOn_16 rfl rfl ?_
      refine qg_get hΓ (pc := 17) hK (k := 3) rfl q1075 dX4_guestOn_17 ?_
      refine g_aload_n hΓ (pc := 20) 0 (i := 0) dX4_guestOn_20 rfl rfl ?_
      refine qg_geta hΓ (pc := 21) hK (k := 13) rfl q1085 dX4_guestOn_21 ?_
      refine g_iload_n hΓ (pc := 24) 1 (i := 1) dX4_guestOn_24 rfl rfl ?_
      obtain ⟨x19, hx19, hf⟩ := bindE hf
      refine qg_iald hΓ (pc := 25) hK rfl hx19 dX4_guestOn_25 rfl ?_
      obtain ⟨e20, hf⟩ := nzE hf
      refine g_irem hΓ (pc := 26) dX4_guestOn_26 e20 ?_
      refine g_if_ne hΓ (pc := 27) (tgt := 35) dX4_guestOn_27 (by decide) (fun c21 => ?_) (fun c21 => ?_)
      · have hf := ifN hf c21
        exact g_sub [0, 1] rfl (J35  _ _ hf)
      · have hf := ifP hf c21
        refine g_aload_n hΓ (pc := 30) 0 (i := 0) dX4_guestOn_30 rfl rfl ?_
        refine g_iload_n hΓ (pc := 31) 1 (i := 1) dX4_guestOn_31 rfl rfl ?_
        obtain ⟨m22, hm22, hf⟩ := bindE hf
        refine qg_callV hΓ (pc := 32) hK 1 (As := [.int a0]) (metM_goOn _ hm22) (lw_V q1310 q1312 qs33 q57 q1313) (by decide +kernel) (by decide) rfl rfl (Nat.le_of_ble_eq_true rfl) dX4_guestOn_32 ?_
        exact g_sub [0, 1] rfl (J35  _ _ hf)
def M_minuteOn_2s (k2 : MS → Int32 → Option (MS)) (m : MS) (y1 : Int32) : Option (MS) :=
  if (m.1 1) ≤ y1 then (
    (mSI m 3 ((m.1 3) + (1 : Int32))).bind fun m2 =>
    some m2
  ) else (
    (M_guestOn m y1).bind fun m3 =>
    (some (y1 + 1)).bind fun x4 =>
    k2 m3 x4
  )
def M_minuteOn_2 : Nat → MS → Int32 → Option (MS)
  | 0 => fun _ _ => none
  | n + 1 => M_minuteOn_2s   (M_minuteOn_2   n)
def M_minuteOn (m : MS) : Option (MS) :=
  M_minuteOn_2 200 m (0 : Int32)
set_option maxHeartbeats 4000000 in
set_option maxRecDepth 100000 in
theorem metM_minuteOn (l : Launch) {D : va_G} {dA : Nat → ClassId} {b : Nat} {ad : Nat → Nat} {P : Nat → Prop} {F : Nat → va_E} {m : MS} {m' : MS} (hf : M_minuteOn m  = some m') : Met l yX4_minuteOn (ws_ yX4_minuteOn cX4_minuteOn 2 none) (rm0_ 6 138) (mP D dA b ad P F [.ref (ad 46)] m) (mQ D dA b ad P F none m') 0 0 (fun q => b ≤ q) := by
  refine qg_met (by decide) RX4 rfl (Nat.le_of_ble_eq_true rfl) (fun Γ hΓ hK => ?_)
  refine g_sub [0] (lv' := [(0, .ref (ad 46))]) rfl ?_
  have S2 : ∀ (k2 : MS → Int32 → Option (MS)) (hk2 : ∀ (m : MS) (y1 : Int32), k2 m y1 = some m' → WG Γ (MW D dA b ad P F m) 0 0 2 [(0, .ref (ad 46)), (1, .int y1)] []) (m : MS) (y1 : Int32) (hf : M_minuteOn_2s  k2 m y1 = some m'), WG Γ (MW D dA b ad P F m) 0 0 2 [(0, .ref (ad 46)), (1, .int y1)] [] := by
    intro k2 hk2 m y1 hf
    refine g_iload_n hΓ (pc := 2) 1 (i := 1) dX4_minuteOn_2 rfl rfl ?_
    refine g_aload_n hΓ (pc := 3) 0 (i := 0) dX4_minuteOn_3 rfl rfl ?_
    refine qg_get hΓ (pc := 4) hK (k := 1) rfl q1073 dX4_minuteOn_4 ?_
    refine g_icmp_ge hΓ (pc := 7) (tgt := 21) dX4_minuteOn_7 (by decide) (fun c1 => ?_) (fun c1 => ?_)
    · have hf := ifP hf c1
      refine g_aload_n hΓ (pc := 21) 0 (i := 0) dX4_minuteOn_21 rfl rfl ?_
      refine g_dup hΓ (pc := 22) dX4_minuteOn_22 rfl ?_
      refine qg_get hΓ (pc := 23) hK (k := 3) rfl q1075 dX4_minuteOn_23 ?_
      refine g_iconst hΓ (pc := 26) (v := 1) dX4_minuteOn_26 (by decide) ?_
      refine g_iadd hΓ (pc := 27) dX4_minuteOn_27 ?_
      obtain ⟨m2, hm2, hf⟩ := bindE hf
      refine qg_put hΓ (pc := 28) hK rfl hm2 q1075 dX4_minuteOn_28 ?_
      exact qg_vret hΓ hK hf dX4_minuteOn_31
    · have hf := ifN hf c1
      refine g_aload_n hΓ (pc := 10) 0 (i := 0) dX4_minuteOn_10 rfl rfl ?_
      refine g_iload_n hΓ (pc := 11) 1 (i := 1) dX4_minuteOn_11 rfl rfl ?_
      obtain ⟨m3, hm3, hf⟩ := bindE hf
      refine qg_callV hΓ (pc := 12) hK 1 (As := [.int y1]) (metM_guestOn _ hm3) (lw_V q1306 q1308 qs32 q57 q1309) (by decide +kernel) (by decide) rfl rfl (Nat.le_of_ble_eq_true rfl) dX4_minuteOn_12 ?_
      obtain ⟨x4, hx4, hf⟩ := bindE hf
      refine g_iinc hΓ (pc := 15) 1 (i := 1) (v := x4) (lv' := [(1, .int x4), (0, .ref (ad 46))]) dX4_minuteOn_15 rfl (Option.some.inj hx4) (by decide) rfl ?_
      refine g_goto hΓ (pc := 18) (tgt := 2) dX4_minuteOn_18 (by decide) ?_
      exact g_sub [1, 0] rfl (hk2 _ _ hf)
  have L2 : ∀ (n : Nat) (m : MS) (y1 : Int32) (hf : M_minuteOn_2   n m y1 = some m'), WG Γ (MW D dA b ad P F m) 0 0 2 [(0, .ref (ad 46)), (1, .int y1)] [] := by
    intro  n
    induction n with
    | zero => intro m y1 hf; exact nomatch (show (none : Option (MS)) = some _ from hf)
    | succ n ih => exact S2  _ ih
  refine g_iconst hΓ (pc := 0) (v := 0) dX4_minuteOn_0 (by decide) ?_
  refine g_istore_n hΓ (pc := 1) (i := 1) (lv' := [(1, .int (0 : Int32)), (0, .ref (ad 46))]) dX4_minuteOn_1 rfl (by decide) rfl ?_
  exact g_sub [1, 0] rfl (L2  200 _ _ hf)
def M_comesAll_128 (m : MS) (y2 : Int32) : Option (Int32 × MS) :=
  (mR m 37 y2).bind fun x1 =>
  (M_isGuest m x1).bind fun x2 =>
  (zOk x2).bind fun z => some (z, m)
def M_comesAll (m : MS) (a0 : Int32) : Option (Int32 × MS) :=
  (mR m 36 a0).bind fun x3 =>
  if x3 = (99 : Int32) then (
    (mR m 37 ((5 : Int32) * a0)).bind fun x5 =>
    (M_isGuest m x5).bind fun x6 =>
    if x6 = 0 then (
      M_comesAll_128 m ((5 : Int32) * a0)
    ) else (
      (mR m 37 ((5 : Int32) * a0)).bind fun x8 =>
      (mR m 37 ((5 : Int32) * a0)).bind fun x9 =>
      (mR m 19 x9).bind fun x10 =>
      (mW m 19 x8 ((1 : Int32) - x10)).bind fun m11 =>
      M_comesAll_128 m11 ((5 : Int32) * a0)
    )
  ) else (
  if x3 = (103 : Int32) then (
    (M_glassComes m ((5 : Int32) * a0)).bind fun q13 =>
    (zOk q13.1).bind fun z => some (z, q13.2)
  ) else (
  if x3 = (104 : Int32) then (
    (mR m 37 ((5 : Int32) * a0)).bind fun x15 =>
    (mR m 37 (((5 : Int32) * a0) + (1 : Int32))).bind fun x16 =>
    (M_holdComes m x15 x16).bind fun q17 =>
    (zOk q17.1).bind fun z => some (z, q17.2)
  ) else (
  if x3 = (112 : Int32) then (
    (M_guestComes m ((5 : Int32) * a0)).bind fun q19 =>
    (zOk q19.1).bind fun z => some (z, q19.2)
  ) else (
  if x3 = (116 : Int32) then (
    (mR m 37 ((5 : Int32) * a0)).bind fun x21 =>
    (mSI m 2 x21).bind fun m22 =>
    (zOk (1 : Int32)).bind fun z => some (z, m22)
  ) else (
  (M_minuteOn m).bind fun m23 =>
  if (999 : Int32) < (m23.1 3) then (
    (zOk (0 : Int32)).bind fun z => some (z, m23)
  ) else (
    (zOk (1 : Int32)).bind fun z => some (z, m23)
  )
  )
  )
  )
  )
  )
set_option maxHeartbeats 4000000 in
set_option maxRecDepth 100000 in
theorem metM_comesAll (l : Launch) {D : va_G} {dA : Nat → ClassId} {b : Nat} {ad : Nat → Nat} {P : Nat → Prop} {F : Nat → va_E} {m : MS} {m' : MS} {a0 : Int32} {r : Int32} (hf : M_comesAll m a0 = some (r, m')) : Met l yX4_comesAll (ws_ yX4_comesAll cX4_comesAll 3 (some .boolean)) (rm0_ 7 159) (mP D dA b ad P F [.ref (ad 46), .int a0] m) (mQ D dA b ad P F (some (.int r)) m') 0 0 (fun q => b ≤ q) := by
  refine qg_met (by decide) RX4 rfl (Nat.le_of_ble_eq_true rfl) (fun Γ hΓ hK => ?_)
  refine g_sub [0, 1] (lv' := [(0, .ref (ad 46)), (1, .int a0)]) rfl ?_
  have J128 : ∀ (m : MS) (y2 : Int32) (hf : M_comesAll_128   m y2 = some (r, m')), WG Γ (MW D dA b ad P F m) 0 0 128 [(0, .ref (ad 46)), (2, .int y2)] [] := by
    intro  m y2 hf
    refine g_aload_n hΓ (pc := 128) 0 (i := 0) dX4_comesAll_128 rfl rfl ?_
    refine g_aload_n hΓ (pc := 129) 0 (i := 0) dX4_comesAll_129 rfl rfl ?_
    refine qg_geta hΓ (pc := 130) hK (k := 37) rfl q1109 dX4_comesAll_130 ?_
    refine g_iload_n hΓ (pc := 133) 1 (i := 2) dX4_comesAll_133 rfl rfl ?_
    obtain ⟨x1, hx1, hf⟩ := bindE hf
    refine qg_iald hΓ (pc := 134) hK rfl hx1 dX4_comesAll_134 rfl ?_
    obtain ⟨x2, hx2, hf⟩ := bindE hf
    refine qg_callV hΓ (pc := 135) hK 1 (As := [.int x1]) (metM_isGuest _ hx2) (lw_V q1290 q1292 qs28 q57 q1293) (by decide +kernel) (by decide) rfl rfl (Nat.le_of_ble_eq_true rfl) dX4_comesAll_135 ?_
    exact qg_zret hΓ hK hf dX4_comesAll_138
  refine g_iconst hΓ (pc := 0) (v := 5) dX4_comesAll_0 (by decide) ?_
  refine g_iload_n hΓ (pc := 1) 1 (i := 1) dX4_comesAll_1 rfl rfl ?_
  refine g_imul hΓ (pc := 2) dX4_comesAll_2 ?_
  refine g_istore_n hΓ (pc := 3) (i := 2) (lv' := [(2, .int ((5 : Int32) * a0)), (0, .ref (ad 46)), (1, .int a0)]) dX4_comesAll_3 rfl (by decide) rfl ?_
  refine g_aload_n hΓ (pc := 4) 1 (i := 0) dX4_comesAll_4 rfl rfl ?_
  refine qg_geta hΓ (pc := 5) hK (k := 36) rfl q1108 dX4_comesAll_5 ?_
  refine g_iload_n hΓ (pc := 8) 2 (i := 1) dX4_comesAll_8 rfl rfl ?_
  obtain ⟨x3, hx3, hf⟩ := bindE hf
  refine qg_iald hΓ (pc := 9) hK rfl hx3 dX4_comesAll_9 rfl ?_
  by_cases c4 : x3 = (99 : Int32)
  · have hf := ifP hf c4
    refine g_lsw hΓ (pc := 10) (tgt := 91) (off := 81) dX4_comesAll_10 (by decide) (by rw [c4]; decide) (by decide) ?_
    refine g_aload_n hΓ (pc := 91) 1 (i := 0) dX4_comesAll_91 rfl rfl ?_
    refine g_aload_n hΓ (pc := 92) 1 (i := 0) dX4_comesAll_92 rfl rfl ?_
    refine qg_geta hΓ (pc := 93) hK (k := 37) rfl q1109 dX4_comesAll_93 ?_
    refine g_iload_n hΓ (pc := 96) 0 (i := 2) dX4_comesAll_96 rfl rfl ?_
    obtain ⟨x5, hx5, hf⟩ := bindE hf
    refine qg_iald hΓ (pc := 97) hK rfl hx5 dX4_comesAll_97 rfl ?_
    obtain ⟨x6, hx6, hf⟩ := bindE hf
    refine qg_callV hΓ (pc := 98) hK 1 (As := [.int x5]) (metM_isGuest _ hx6) (lw_V q1290 q1292 qs28 q57 q1293) (by decide +kernel) (by decide) rfl rfl (Nat.le_of_ble_eq_true rfl) dX4_comesAll_98 ?_
    refine g_if_eq hΓ (pc := 101) (tgt := 128) dX4_comesAll_101 (by decide) (fun c7 => ?_) (fun c7 => ?_)
    · have hf := ifP hf c7
      exact g_sub [1, 0] rfl (J128  _ _ hf)
    · have hf := ifN hf c7
      refine g_aload_n hΓ (pc := 104) 1 (i := 0) dX4_comesAll_104 rfl rfl ?_
      refine qg_geta hΓ (pc := 105) hK (k := 19) rfl q1091 dX4_comesAll_105 ?_
      refine g_aload_n hΓ (pc := 108) 1 (i := 0) dX4_comesAll_108 rfl rfl ?_
      refine qg_geta hΓ (pc := 109) hK (k := 37) rfl q1109 dX4_comesAll_109 ?_
      refine g_iload_n hΓ (pc := 112) 0 (i := 2) dX4_comesAll_112 rfl rfl ?_
      obtain ⟨x8, hx8, hf⟩ := bindE hf
      refine qg_iald hΓ (pc := 113) hK rfl hx8 dX4_comesAll_113 rfl ?_
      refine g_iconst hΓ (pc := 114) (v := 1) dX4_comesAll_114 (by decide) ?_
      refine g_aload_n hΓ (pc := 115) 1 (i := 0) dX4_comesAll_115 rfl rfl ?_
      refine qg_geta hΓ (pc := 116) hK (k := 19) rfl q1091 dX4_comesAll_116 ?_
      refine g_aload_n hΓ (pc := 119) 1 (i := 0) dX4_comesAll_119 rfl rfl ?_
      refine qg_geta hΓ (pc := 120) hK (k := 37) rfl q1109 dX4_comesAll_120 ?_
      refine g_iload_n hΓ (pc := 123) 0 (i := 2) dX4_comesAll_123 rfl rfl ?_
      obtain ⟨x9, hx9, hf⟩ := bindE hf
      refine qg_iald hΓ (pc := 124) hK rfl hx9 dX4_comesAll_124 rfl ?_
      obtain ⟨x10, hx10, hf⟩ := bindE hf
      refine qg_iald hΓ (pc := 125) hK rfl hx10 dX4_comesAll_125 rfl ?_
      refine g_isub hΓ (pc := 126) dX4_comesAll_126 ?_
      obtain ⟨m11, hm11, hf⟩ := bindE hf
      refine qg_iast hΓ (pc := 127) hK rfl hm11 dX4_comesAll_127 rfl ?_
      exact g_sub [1, 0] rfl (J128  _ _ hf)
  · have hf := ifN hf c4
    by_cases c12 : x3 = (103 : Int32)
    · have hf := ifP hf c12
      refine g_lsw hΓ (pc := 10) (tgt := 60) (off := 50) dX4_comesAll_10 (by decide) (by rw [c12]; decide) (by decide) ?_
      refine g_aload_n hΓ (pc := 60) 1 (i := 0) dX4_comesAll_60 rfl rfl ?_
      refine g_iload_n hΓ (pc := 61) 0 (i := 2) dX4_comesAll_61 rfl rfl ?_
      obtain ⟨q13, hq13, hf⟩ := bindE hf
      refine qg_callV hΓ (pc := 62) hK 1 (As := [.int ((5 : Int32) * a0)]) (metM_glassComes _ (r := q13.1) (m' := q13.2) hq13) (lw_V q1274 q1276 qs24 q57 q1277) (by decide +kernel) (by decide) rfl rfl (Nat.le_of_ble_eq_true rfl) dX4_comesAll_62 ?_
      exact qg_zret hΓ hK hf dX4_comesAll_65
    · have hf := ifN hf c12
      by_cases c14 : x3 = (104 : Int32)
      · have hf := ifP hf c14
        refine g_lsw hΓ (pc := 10) (tgt := 72) (off := 62) dX4_comesAll_10 (by decide) (by rw [c14]; decide) (by decide) ?_
        refine g_aload_n hΓ (pc := 72) 1 (i := 0) dX4_comesAll_72 rfl rfl ?_
        refine g_aload_n hΓ (pc := 73) 1 (i := 0) dX4_comesAll_73 rfl rfl ?_
        refine qg_geta hΓ (pc := 74) hK (k := 37) rfl q1109 dX4_comesAll_74 ?_
        refine g_iload_n hΓ (pc := 77) 0 (i := 2) dX4_comesAll_77 rfl rfl ?_
        obtain ⟨x15, hx15, hf⟩ := bindE hf
        refine qg_iald hΓ (pc := 78) hK rfl hx15 dX4_comesAll_78 rfl ?_
        refine g_aload_n hΓ (pc := 79) 1 (i := 0) dX4_comesAll_79 rfl rfl ?_
        refine qg_geta hΓ (pc := 80) hK (k := 37) rfl q1109 dX4_comesAll_80 ?_
        refine g_iload_n hΓ (pc := 83) 0 (i := 2) dX4_comesAll_83 rfl rfl ?_
        refine g_iconst hΓ (pc := 84) (v := 1) dX4_comesAll_84 (by decide) ?_
        refine g_iadd hΓ (pc := 85) dX4_comesAll_85 ?_
        obtain ⟨x16, hx16, hf⟩ := bindE hf
        refine qg_iald hΓ (pc := 86) hK rfl hx16 dX4_comesAll_86 rfl ?_
        obtain ⟨q17, hq17, hf⟩ := bindE hf
        refine qg_callV hΓ (pc := 87) hK 2 (As := [.int x15, .int x16]) (metM_holdComes _ (r := q17.1) (m' := q17.2) hq17) (lw_V q1286 q1288 qs27 q57 q1289) (by decide +kernel) (by decide) rfl rfl (Nat.le_of_ble_eq_true rfl) dX4_comesAll_87 ?_
        exact qg_zret hΓ hK hf dX4_comesAll_90
      · have hf := ifN hf c14
        by_cases c18 : x3 = (112 : Int32)
        · have hf := ifP hf c18
          refine g_lsw hΓ (pc := 10) (tgt := 66) (off := 56) dX4_comesAll_10 (by decide) (by rw [c18]; decide) (by decide) ?_
          refine g_aload_n hΓ (pc := 66) 1 (i := 0) dX4_comesAll_66 rfl rfl ?_
          refine g_iload_n hΓ (pc := 67) 0 (i := 2) dX4_comesAll_67 rfl rfl ?_
          obtain ⟨q19, hq19, hf⟩ := bindE hf
          refine qg_callV hΓ (pc := 68) hK 1 (As := [.int ((5 : Int32) * a0)]) (metM_guestComes _ (r := q19.1) (m' := q19.2) hq19) (lw_V q1282 q1284 qs26 q57 q1285) (by decide +kernel) (by decide) rfl rfl (Nat.le_of_ble_eq_true rfl) dX4_comesAll_68 ?_
          exact qg_zret hΓ hK hf dX4_comesAll_71
        · have hf := ifN hf c18
          by_cases c20 : x3 = (116 : Int32)
          · have hf := ifP hf c20
            refine g_lsw hΓ (pc := 10) (tgt := 139) (off := 129) dX4_comesAll_10 (by decide) (by rw [c20]; decide) (by decide) ?_
            refine g_aload_n hΓ (pc := 139) 1 (i := 0) dX4_comesAll_139 rfl rfl ?_
            refine g_aload_n hΓ (pc := 140) 1 (i := 0) dX4_comesAll_140 rfl rfl ?_
            refine qg_geta hΓ (pc := 141) hK (k := 37) rfl q1109 dX4_comesAll_141 ?_
            refine g_iload_n hΓ (pc := 144) 0 (i := 2) dX4_comesAll_144 rfl rfl ?_
            obtain ⟨x21, hx21, hf⟩ := bindE hf
            refine qg_iald hΓ (pc := 145) hK rfl hx21 dX4_comesAll_145 rfl ?_
            obtain ⟨m22, hm22, hf⟩ := bindE hf
            refine qg_put hΓ (pc := 146) hK rfl hm22 q1074 dX4_comesAll_146 ?_
            refine g_iconst hΓ (pc := 149) (v := 1) dX4_comesAll_149 (by decide) ?_
            exact qg_zret hΓ hK hf dX4_comesAll_150
          · have hf := ifN hf c20
            refine g_lsw hΓ (pc := 10) (tgt := 151) (off := 141) dX4_comesAll_10 (by decide) (by show Op.lookupswitch.offset [(99, 81), (103, 50), (104, 62), (112, 56), (116, 129)] _ _ = _; rw [lv_osw c4 (by decide), lv_osw c12 (by decide), lv_osw c14 (by decide), lv_osw c18 (by decide), lv_osw c20 (by decide)]; rfl) (by decide) ?_
            refine g_aload_n hΓ (pc := 151) 1 (i := 0) dX4_comesAll_151 rfl rfl ?_
            obtain ⟨m23, hm23, hf⟩ := bindE hf
            refine qg_callV hΓ (pc := 152) hK 0 (As := []) (metM_minuteOn _ hm23) (lw_V q1302 q1304 qs31 q57 q1305) (by decide +kernel) (by decide) rfl rfl (Nat.le_of_ble_eq_true rfl) dX4_comesAll_152 ?_
            refine g_aload_n hΓ (pc := 155) 1 (i := 0) dX4_comesAll_155 rfl rfl ?_
            refine qg_get hΓ (pc := 156) hK (k := 3) rfl q1075 dX4_comesAll_156 ?_
            refine g_sipush hΓ (pc := 159) (v := 999) dX4_comesAll_159 (by decide) ?_
            refine g_icmp_gt hΓ (pc := 162) (tgt := 169) dX4_comesAll_162 (by decide) (fun c24 => ?_) (fun c24 => ?_)
            · have hf := ifP hf c24
              refine g_iconst hΓ (pc := 169) (v := 0) dX4_comesAll_169 (by decide) ?_
              exact qg_zret hΓ hK hf dX4_comesAll_170
            · have hf := ifN hf c24
              refine g_iconst hΓ (pc := 165) (v := 1) dX4_comesAll_165 (by decide) ?_
              refine g_goto hΓ (pc := 166) (tgt := 170) dX4_comesAll_166 (by decide) ?_
              exact qg_zret hΓ hK hf dX4_comesAll_170
def M_again (m : MS) : Option (MS) :=
  (M_carryAll m 24 (0 : Int32)).bind fun m1 =>
  some m1
set_option maxHeartbeats 4000000 in
set_option maxRecDepth 100000 in
theorem metM_again (l : Launch) {D : va_G} {dA : Nat → ClassId} {b : Nat} {ad : Nat → Nat} {P : Nat → Prop} {F : Nat → va_E} {m : MS} {m' : MS} (hf : M_again m  = some m') : Met l yX4_again (ws_ yX4_again cX4_again 1 none) (rm0_ 2 44) (mP D dA b ad P F [.ref (ad 46)] m) (mQ D dA b ad P F none m') 0 0 (fun q => b ≤ q) := by
  refine qg_met (by decide) RX4 rfl (Nat.le_of_ble_eq_true rfl) (fun Γ hΓ hK => ?_)
  refine g_sub [0] (lv' := [(0, .ref (ad 46))]) rfl ?_
  refine g_aload_n hΓ (pc := 0) 0 (i := 0) dX4_again_0 rfl rfl ?_
  refine g_aload_n hΓ (pc := 1) 0 (i := 0) dX4_again_1 rfl rfl ?_
  refine qg_geta hΓ (pc := 2) hK (k := 24) rfl q1096 dX4_again_2 ?_
  refine g_iconst hΓ (pc := 5) (v := 0) dX4_again_5 (by decide) ?_
  obtain ⟨m1, hm1, hf⟩ := bindE hf
  refine qg_callV hΓ (pc := 6) hK 2 (As := [.ref (ad 24), .int (0 : Int32)]) (metM_carryAll _ rfl hm1) (lw_V q1220 q1222 qs14 q57 q1223) (by decide +kernel) (by decide) rfl rfl (Nat.le_of_ble_eq_true rfl) dX4_again_6 ?_
  exact qg_vret hΓ hK hf dX4_again_9
def M_house_105s (k105 : MS → Int32 → Option (Int32 × MS)) (m : MS) (y3 : Int32) : Option (Int32 × MS) :=
  if (m.1 34) ≤ y3 then (
    some (m.1 34, m)
  ) else (
    (M_comesAll m y3).bind fun q2 =>
    if q2.1 = 0 then (
      (M_again q2.2).bind fun m5 =>
      (mR m5 35 y3).bind fun x6 =>
      some ((-2000 : Int32) - x6, m5)
    ) else (
      (some (y3 + 1)).bind fun x4 =>
      k105 q2.2 x4
    )
  )
def M_house_105 : Nat → MS → Int32 → Option (Int32 × MS)
  | 0 => fun _ _ => none
  | n + 1 => M_house_105s   (M_house_105   n)
def M_house_83 (m : MS) : Option (Int32 × MS) :=
  if (m.1 33) = 0 then (
    (M_open m).bind fun m8 =>
    M_house_105 200 m8 (0 : Int32)
  ) else (
    some ((-1000 : Int32) - (m.1 32), m)
  )
def M_house_76 (k51 : MS → Option (Int32 × MS)) (m : MS) : Option (Int32 × MS) :=
  (M_readStatement m).bind fun m9 =>
  k51 m9
def M_house_51s (k51 : MS → Option (Int32 × MS)) (m : MS) : Option (Int32 × MS) :=
  if (m.1 33) = 0 then (
    if (m.1 34) = 0 then (
      M_house_76 k51 m
    ) else (
      if (m.1 31) ≤ (m.1 32) then (
        M_house_83 m
      ) else (
        M_house_76 k51 m
      )
    )
  ) else (
    M_house_83 m
  )
def M_house_51 : Nat → MS → Option (Int32 × MS)
  | 0 => fun _ => none
  | n + 1 => M_house_51s   (M_house_51   n)
def M_house (m : MS) (a0 : Int32) : Option (Int32 × MS) :=
  (mSI m 23 (0 : Int32)).bind fun m13 =>
  (M_wrongSort m13 a0 (0 : Int32)).bind fun x14 =>
  if 0 ≤ x14 then (
    (mSI m13 30 ((100 : Int32) * a0)).bind fun m16 =>
    (mR m16 43 a0).bind fun x17 =>
    (mSI m16 31 x17).bind fun m18 =>
    (mSI m18 32 (0 : Int32)).bind fun m19 =>
    (mSZ m19 33 (0 : Int32)).bind fun m20 =>
    (mSI m20 34 (0 : Int32)).bind fun m21 =>
    M_house_51 200 m21
  ) else (
    some (x14, m13)
  )
set_option maxHeartbeats 4000000 in
set_option maxRecDepth 100000 in
theorem metM_house (l : Launch) {D : va_G} {dA : Nat → ClassId} {b : Nat} {ad : Nat → Nat} {P : Nat → Prop} {F : Nat → va_E} {m : MS} {m' : MS} {a0 : Int32} {r : Int32} (hf : M_house m a0 = some (r, m')) : Met l yX4_house (ws_ yX4_house cX4_house 4 (some .int)) (rm0_ 8 181) (mP D dA b ad P F [.ref (ad 46), .int a0] m) (mQ D dA b ad P F (some (.int r)) m') 0 0 (fun q => b ≤ q) := by
  refine qg_met (by decide) RX4 rfl (Nat.le_of_ble_eq_true rfl) (fun Γ hΓ hK => ?_)
  refine g_sub [0, 1] (lv' := [(0, .ref (ad 46)), (1, .int a0)]) rfl ?_
  have S105 : ∀ (k105 : MS → Int32 → Option (Int32 × MS)) (hk105 : ∀ (m : MS) (y3 : Int32), k105 m y3 = some (r, m') → WG Γ (MW D dA b ad P F m) 0 0 105 [(0, .ref (ad 46)), (3, .int y3)] []) (m : MS) (y3 : Int32) (hf : M_house_105s  k105 m y3 = some (r, m')), WG Γ (MW D dA b ad P F m) 0 0 105 [(0, .ref (ad 46)), (3, .int y3)] [] := by
    intro k105 hk105 m y3 hf
    refine g_iload_n hΓ (pc := 105) 1 (i := 3) dX4_house_105 rfl rfl ?_
    refine g_aload_n hΓ (pc := 106) 0 (i := 0) dX4_house_106 rfl rfl ?_
    refine qg_get hΓ (pc := 107) hK (k := 34) rfl q1106 dX4_house_107 ?_
    refine g_icmp_ge hΓ (pc := 110) (tgt := 142) dX4_house_110 (by decide) (fun c1 => ?_) (fun c1 => ?_)
    · have hf := ifP hf c1
      refine g_aload_n hΓ (pc := 142) 0 (i := 0) dX4_house_142 rfl rfl ?_
      refine qg_get hΓ (pc := 143) hK (k := 34) rfl q1106 dX4_house_143 ?_
      exact qg_iret hΓ hK hf dX4_house_146
    · have hf := ifN hf c1
      refine g_aload_n hΓ (pc := 113) 0 (i := 0) dX4_house_113 rfl rfl ?_
      refine g_iload_n hΓ (pc := 114) 1 (i := 3) dX4_house_114 rfl rfl ?_
      obtain ⟨q2, hq2, hf⟩ := bindE hf
      refine qg_callV hΓ (pc := 115) hK 1 (As := [.int y3]) (metM_comesAll _ (r := q2.1) (m' := q2.2) hq2) (lw_V q1270 q1272 qs23 q57 q1273) (by decide +kernel) (by decide) rfl rfl (Nat.le_of_ble_eq_true rfl) dX4_house_115 ?_
      refine g_if_ne hΓ (pc := 118) (tgt := 136) dX4_house_118 (by decide) (fun c3 => ?_) (fun c3 => ?_)
      · have hf := ifN hf c3
        obtain ⟨x4, hx4, hf⟩ := bindE hf
        refine g_iinc hΓ (pc := 136) 1 (i := 3) (v := x4) (lv' := [(3, .int x4), (0, .ref (ad 46))]) dX4_house_136 rfl (Option.some.inj hx4) (by decide) rfl ?_
        refine g_goto hΓ (pc := 139) (tgt := 105) dX4_house_139 (by decide) ?_
        exact g_sub [1, 0] rfl (hk105 _ _ hf)
      · have hf := ifP hf c3
        refine g_aload_n hΓ (pc := 121) 0 (i := 0) dX4_house_121 rfl rfl ?_
        obtain ⟨m5, hm5, hf⟩ := bindE hf
        refine qg_callV hΓ (pc := 122) hK 0 (As := []) (metM_again _ hm5) (lw_V q1354 q1356 qs44 q57 q1357) (by decide +kernel) (by decide) rfl rfl (Nat.le_of_ble_eq_true rfl) dX4_house_122 ?_
        refine g_sipush hΓ (pc := 125) (v := -2000) dX4_house_125 (by decide) ?_
        refine g_aload_n hΓ (pc := 128) 0 (i := 0) dX4_house_128 rfl rfl ?_
        refine qg_geta hΓ (pc := 129) hK (k := 35) rfl q1107 dX4_house_129 ?_
        refine g_iload_n hΓ (pc := 132) 1 (i := 3) dX4_house_132 rfl rfl ?_
        obtain ⟨x6, hx6, hf⟩ := bindE hf
        refine qg_iald hΓ (pc := 133) hK rfl hx6 dX4_house_133 rfl ?_
        refine g_isub hΓ (pc := 134) dX4_house_134 ?_
        exact qg_iret hΓ hK hf dX4_house_135
  have L105 : ∀ (n : Nat) (m : MS) (y3 : Int32) (hf : M_house_105   n m y3 = some (r, m')), WG Γ (MW D dA b ad P F m) 0 0 105 [(0, .ref (ad 46)), (3, .int y3)] [] := by
    intro  n
    induction n with
    | zero => intro m y3 hf; exact nomatch (show (none : Option (Int32 × MS)) = some _ from hf)
    | succ n ih => exact S105  _ ih
  have J83 : ∀ (m : MS) (hf : M_house_83   m  = some (r, m')), WG Γ (MW D dA b ad P F m) 0 0 83 [(0, .ref (ad 46))] [] := by
    intro  m  hf
    refine g_aload_n hΓ (pc := 83) 0 (i := 0) dX4_house_83 rfl rfl ?_
    refine qg_get hΓ (pc := 84) hK (k := 33) rfl q1105 dX4_house_84 ?_
    refine g_if_eq hΓ (pc := 87) (tgt := 99) dX4_house_87 (by decide) (fun c7 => ?_) (fun c7 => ?_)
    · have hf := ifP hf c7
      refine g_aload_n hΓ (pc := 99) 0 (i := 0) dX4_house_99 rfl rfl ?_
      obtain ⟨m8, hm8, hf⟩ := bindE hf
      refine qg_callV hΓ (pc := 100) hK 0 (As := []) (metM_open _ hm8) (lw_V q1266 q1268 qs22 q57 q1269) (by decide +kernel) (by decide) rfl rfl (Nat.le_of_ble_eq_true rfl) dX4_house_100 ?_
      refine g_iconst hΓ (pc := 103) (v := 0) dX4_house_103 (by decide) ?_
      refine g_istore_n hΓ (pc := 104) (i := 3) (lv' := [(3, .int (0 : Int32)), (0, .ref (ad 46))]) dX4_house_104 rfl (by decide) rfl ?_
      exact g_sub [1, 0] rfl (L105  200 _ _ hf)
    · have hf := ifN hf c7
      refine g_sipush hΓ (pc := 90) (v := -1000) dX4_house_90 (by decide) ?_
      refine g_aload_n hΓ (pc := 93) 0 (i := 0) dX4_house_93 rfl rfl ?_
      refine qg_get hΓ (pc := 94) hK (k := 32) rfl q1104 dX4_house_94 ?_
      refine g_isub hΓ (pc := 97) dX4_house_97 ?_
      exact qg_iret hΓ hK hf dX4_house_98
  have J76 : ∀ (k51 : MS → Option (Int32 × MS)) (hk51 : ∀ (m : MS) , k51 m  = some (r, m') → WG Γ (MW D dA b ad P F m) 0 0 51 [(0, .ref (ad 46))] []) (m : MS) (hf : M_house_76  k51 m  = some (r, m')), WG Γ (MW D dA b ad P F m) 0 0 76 [(0, .ref (ad 46))] [] := by
    intro k51 hk51 m  hf
    refine g_aload_n hΓ (pc := 76) 0 (i := 0) dX4_house_76 rfl rfl ?_
    obtain ⟨m9, hm9, hf⟩ := bindE hf
    refine qg_callV hΓ (pc := 77) hK 0 (As := []) (metM_readStatement _ hm9) (lw_V q1248 q1250 qs18 q57 q1251) (by decide +kernel) (by decide) rfl rfl (Nat.le_of_ble_eq_true rfl) dX4_house_77 ?_
    refine g_goto hΓ (pc := 80) (tgt := 51) dX4_house_80 (by decide) ?_
    exact g_sub [0] rfl (hk51 _ hf)
  have S51 : ∀ (k51 : MS → Option (Int32 × MS)) (hk51 : ∀ (m : MS) , k51 m  = some (r, m') → WG Γ (MW D dA b ad P F m) 0 0 51 [(0, .ref (ad 46))] []) (m : MS) (hf : M_house_51s  k51 m  = some (r, m')), WG Γ (MW D dA b ad P F m) 0 0 51 [(0, .ref (ad 46))] [] := by
    intro k51 hk51 m  hf
    refine g_aload_n hΓ (pc := 51) 0 (i := 0) dX4_house_51 rfl rfl ?_
    refine qg_get hΓ (pc := 52) hK (k := 33) rfl q1105 dX4_house_52 ?_
    refine g_if_ne hΓ (pc := 55) (tgt := 83) dX4_house_55 (by decide) (fun c10 => ?_) (fun c10 => ?_)
    · have hf := ifN hf c10
      exact g_sub [0] rfl (J83  _ hf)
    · have hf := ifP hf c10
      refine g_aload_n hΓ (pc := 58) 0 (i := 0) dX4_house_58 rfl rfl ?_
      refine qg_get hΓ (pc := 59) hK (k := 34) rfl q1106 dX4_house_59 ?_
      refine g_if_eq hΓ (pc := 62) (tgt := 76) dX4_house_62 (by decide) (fun c11 => ?_) (fun c11 => ?_)
      · have hf := ifP hf c11
        exact g_sub [0] rfl (J76 k51 hk51 _ hf)
      · have hf := ifN hf c11
        refine g_aload_n hΓ (pc := 65) 0 (i := 0) dX4_house_65 rfl rfl ?_
        refine qg_get hΓ (pc := 66) hK (k := 32) rfl q1104 dX4_house_66 ?_
        refine g_aload_n hΓ (pc := 69) 0 (i := 0) dX4_house_69 rfl rfl ?_
        refine qg_get hΓ (pc := 70) hK (k := 31) rfl q1103 dX4_house_70 ?_
        refine g_icmp_ge hΓ (pc := 73) (tgt := 83) dX4_house_73 (by decide) (fun c12 => ?_) (fun c12 => ?_)
        · have hf := ifP hf c12
          exact g_sub [0] rfl (J83  _ hf)
        · have hf := ifN hf c12
          exact g_sub [0] rfl (J76 k51 hk51 _ hf)
  have L51 : ∀ (n : Nat) (m : MS) (hf : M_house_51   n m  = some (r, m')), WG Γ (MW D dA b ad P F m) 0 0 51 [(0, .ref (ad 46))] [] := by
    intro  n
    induction n with
    | zero => intro m  hf; exact nomatch (show (none : Option (Int32 × MS)) = some _ from hf)
    | succ n ih => exact S51  _ ih
  refine g_aload_n hΓ (pc := 0) 0 (i := 0) dX4_house_0 rfl rfl ?_
  refine g_iconst hΓ (pc := 1) (v := 0) dX4_house_1 (by decide) ?_
  obtain ⟨m13, hm13, hf⟩ := bindE hf
  refine qg_put hΓ (pc := 2) hK rfl hm13 q1095 dX4_house_2 ?_
  refine g_aload_n hΓ (pc := 5) 0 (i := 0) dX4_house_5 rfl rfl ?_
  refine g_iload_n hΓ (pc := 6) 1 (i := 1) dX4_house_6 rfl rfl ?_
  refine g_iconst hΓ (pc := 7) (v := 0) dX4_house_7 (by decide) ?_
  obtain ⟨x14, hx14, hf⟩ := bindE hf
  refine qg_callV hΓ (pc := 8) hK 2 (As := [.int a0, .int (0 : Int32)]) (metM_wrongSort _ hx14) (lw_V q1236 q1238 qs16 q57 q1239) (by decide +kernel) (by decide) rfl rfl (Nat.le_of_ble_eq_true rfl) dX4_house_8 ?_
  refine g_istore_n hΓ (pc := 11) (i := 2) (lv' := [(2, .int x14), (0, .ref (ad 46)), (1, .int a0)]) dX4_house_11 rfl (by decide) rfl ?_
  refine g_iload_n hΓ (pc := 12) 0 (i := 2) dX4_house_12 rfl rfl ?_
  refine g_if_ge hΓ (pc := 13) (tgt := 18) dX4_house_13 (by decide) (fun c15 => ?_) (fun c15 => ?_)
  · have hf := ifP hf c15
    refine g_aload_n hΓ (pc := 18) 1 (i := 0) dX4_house_18 rfl rfl ?_
    refine g_bipush hΓ (pc := 19) (v := 100) dX4_house_19 (by decide) ?_
    refine g_iload_n hΓ (pc := 21) 2 (i := 1) dX4_house_21 rfl rfl ?_
    refine g_imul hΓ (pc := 22) dX4_house_22 ?_
    obtain ⟨m16, hm16, hf⟩ := bindE hf
    refine qg_put hΓ (pc := 23) hK rfl hm16 q1102 dX4_house_23 ?_
    refine g_aload_n hΓ (pc := 26) 1 (i := 0) dX4_house_26 rfl rfl ?_
    refine g_aload_n hΓ (pc := 27) 1 (i := 0) dX4_house_27 rfl rfl ?_
    refine qg_geta hΓ (pc := 28) hK (k := 43) rfl q1115 dX4_house_28 ?_
    refine g_iload_n hΓ (pc := 31) 2 (i := 1) dX4_house_31 rfl rfl ?_
    obtain ⟨x17, hx17, hf⟩ := bindE hf
    refine qg_iald hΓ (pc := 32) hK rfl hx17 dX4_house_32 rfl ?_
    obtain ⟨m18, hm18, hf⟩ := bindE hf
    refine qg_put hΓ (pc := 33) hK rfl hm18 q1103 dX4_house_33 ?_
    refine g_aload_n hΓ (pc := 36) 1 (i := 0) dX4_house_36 rfl rfl ?_
    refine g_iconst hΓ (pc := 37) (v := 0) dX4_house_37 (by decide) ?_
    obtain ⟨m19, hm19, hf⟩ := bindE hf
    refine qg_put hΓ (pc := 38) hK rfl hm19 q1104 dX4_house_38 ?_
    refine g_aload_n hΓ (pc := 41) 1 (i := 0) dX4_house_41 rfl rfl ?_
    refine g_iconst hΓ (pc := 42) (v := 0) dX4_house_42 (by decide) ?_
    obtain ⟨m20, hm20, hf⟩ := bindE hf
    refine qg_putz hΓ (pc := 43) hK rfl hm20 q1105 dX4_house_43 ?_
    refine g_aload_n hΓ (pc := 46) 1 (i := 0) dX4_house_46 rfl rfl ?_
    refine g_iconst hΓ (pc := 47) (v := 0) dX4_house_47 (by decide) ?_
    obtain ⟨m21, hm21, hf⟩ := bindE hf
    refine qg_put hΓ (pc := 48) hK rfl hm21 q1106 dX4_house_48 ?_
    exact g_sub [1] rfl (L51  200 _ hf)
  · have hf := ifN hf c15
    refine g_iload_n hΓ (pc := 16) 0 (i := 2) dX4_house_16 rfl rfl ?_
    exact qg_iret hΓ hK hf dX4_house_17
def M_glass (m : MS) (a0 : Int32) (a1 : Int32) : Option (Int32 × MS) :=
  (mSI m 23 (0 : Int32)).bind fun m1 =>
  (M_isGlass m1 a0).bind fun x2 =>
  if x2 = 0 then (
    some ((-1 : Int32), m1)
  ) else (
    (M_in a1.toInt64 (0 : Int64) (6 : Int64)).bind fun x4 =>
    if x4 = 0 then (
      some ((-1 : Int32), m1)
    ) else (
      if a1 = (0 : Int32) then (
        (mR m1 4 a0).bind fun x7 =>
        some (x7, m1)
      ) else (
      if a1 = (1 : Int32) then (
        (mR m1 5 a0).bind fun x9 =>
        some (x9, m1)
      ) else (
      if a1 = (2 : Int32) then (
        (mR m1 6 a0).bind fun x11 =>
        some (x11, m1)
      ) else (
      if a1 = (3 : Int32) then (
        (mR m1 7 a0).bind fun x13 =>
        some (x13, m1)
      ) else (
      if a1 = (4 : Int32) then (
        (mR m1 9 a0).bind fun x15 =>
        some (x15, m1)
      ) else (
      if a1 = (5 : Int32) then (
        (mR m1 10 a0).bind fun x17 =>
        some (x17, m1)
      ) else (
      (mR m1 8 a0).bind fun x18 =>
      some (x18, m1)
      )
      )
      )
      )
      )
      )
    )
  )
set_option maxHeartbeats 4000000 in
set_option maxRecDepth 100000 in
theorem metM_glass (l : Launch) {D : va_G} {dA : Nat → ClassId} {b : Nat} {ad : Nat → Nat} {P : Nat → Prop} {F : Nat → va_E} {m : MS} {m' : MS} {a0 : Int32} {a1 : Int32} {r : Int32} (hf : M_glass m a0 a1 = some (r, m')) : Met l yX4_glass (ws_ yX4_glass cX4_glass 3 (some .int)) (rm0_ 2 46) (mP D dA b ad P F [.ref (ad 46), .int a0, .int a1] m) (mQ D dA b ad P F (some (.int r)) m') 0 0 (fun q => b ≤ q) := by
  refine qg_met (by decide) RX4 rfl (Nat.le_of_ble_eq_true rfl) (fun Γ hΓ hK => ?_)
  refine g_sub [0, 1, 2] (lv' := [(0, .ref (ad 46)), (1, .int a0), (2, .int a1)]) rfl ?_
  refine g_aload_n hΓ (pc := 0) 0 (i := 0) dX4_glass_0 rfl rfl ?_
  refine g_iconst hΓ (pc := 1) (v := 0) dX4_glass_1 (by decide) ?_
  obtain ⟨m1, hm1, hf⟩ := bindE hf
  refine qg_put hΓ (pc := 2) hK rfl hm1 q1095 dX4_glass_2 ?_
  refine g_aload_n hΓ (pc := 5) 0 (i := 0) dX4_glass_5 rfl rfl ?_
  refine g_iload_n hΓ (pc := 6) 1 (i := 1) dX4_glass_6 rfl rfl ?_
  obtain ⟨x2, hx2, hf⟩ := bindE hf
  refine qg_callV hΓ (pc := 7) hK 1 (As := [.int a0]) (metM_isGlass _ hx2) (lw_V q1294 q1296 qs29 q57 q1297) (by decide +kernel) (by decide) rfl rfl (Nat.le_of_ble_eq_true rfl) dX4_glass_7 ?_
  refine g_if_eq hΓ (pc := 10) (tgt := 25) dX4_glass_10 (by decide) (fun c3 => ?_) (fun c3 => ?_)
  · have hf := ifP hf c3
    refine g_iconst hΓ (pc := 25) (v := -1) dX4_glass_25 (by decide) ?_
    exact qg_iret hΓ hK hf dX4_glass_26
  · have hf := ifN hf c3
    refine g_iload_n hΓ (pc := 13) 2 (i := 2) dX4_glass_13 rfl rfl ?_
    refine g_i2l hΓ (pc := 14) dX4_glass_14 ?_
    refine g_lconst hΓ (pc := 15) (v := 0) dX4_glass_15 (by decide) ?_
    refine g_ldc2 hΓ (pc := 16) q1362 dX4_glass_16 ?_
    obtain ⟨x4, hx4, hf⟩ := bindE hf
    refine qg_callS hΓ (pc := 19) 3 (As := [.long a1.toInt64, .long (0 : Int64), .long (6 : Int64)]) (metM_in _ hx4) (lw_S q1245 q1246 q57 q1247) (by decide +kernel) (by decide) rfl rfl (Nat.le_of_ble_eq_true rfl) dX4_glass_19 ?_
    refine g_if_ne hΓ (pc := 22) (tgt := 27) dX4_glass_22 (by decide) (fun c5 => ?_) (fun c5 => ?_)
    · have hf := ifN hf c5
      refine g_iload_n hΓ (pc := 27) 2 (i := 2) dX4_glass_27 rfl rfl ?_
      by_cases c6 : a1 = (0 : Int32)
      · have hf := ifP hf c6
        refine g_tswC hΓ (pc := 28) (tgt := 68) (0) dX4_glass_28 (by rw [c6]; decide) (by decide) (by decide) rfl (by decide) ?_
        refine g_aload_n hΓ (pc := 68) 0 (i := 0) dX4_glass_68 rfl rfl ?_
        refine qg_geta hΓ (pc := 69) hK (k := 4) rfl q1076 dX4_glass_69 ?_
        refine g_iload_n hΓ (pc := 72) 1 (i := 1) dX4_glass_72 rfl rfl ?_
        obtain ⟨x7, hx7, hf⟩ := bindE hf
        refine qg_iald hΓ (pc := 73) hK rfl hx7 dX4_glass_73 rfl ?_
        exact qg_iret hΓ hK hf dX4_glass_74
      · have hf := ifN hf c6
        by_cases c8 : a1 = (1 : Int32)
        · have hf := ifP hf c8
          refine g_tswC hΓ (pc := 28) (tgt := 75) (1) dX4_glass_28 (by rw [c8]; decide) (by decide) (by decide) rfl (by decide) ?_
          refine g_aload_n hΓ (pc := 75) 0 (i := 0) dX4_glass_75 rfl rfl ?_
          refine qg_geta hΓ (pc := 76) hK (k := 5) rfl q1077 dX4_glass_76 ?_
          refine g_iload_n hΓ (pc := 79) 1 (i := 1) dX4_glass_79 rfl rfl ?_
          obtain ⟨x9, hx9, hf⟩ := bindE hf
          refine qg_iald hΓ (pc := 80) hK rfl hx9 dX4_glass_80 rfl ?_
          exact qg_iret hΓ hK hf dX4_glass_81
        · have hf := ifN hf c8
          by_cases c10 : a1 = (2 : Int32)
          · have hf := ifP hf c10
            refine g_tswC hΓ (pc := 28) (tgt := 82) (2) dX4_glass_28 (by rw [c10]; decide) (by decide) (by decide) rfl (by decide) ?_
            refine g_aload_n hΓ (pc := 82) 0 (i := 0) dX4_glass_82 rfl rfl ?_
            refine qg_geta hΓ (pc := 83) hK (k := 6) rfl q1078 dX4_glass_83 ?_
            refine g_iload_n hΓ (pc := 86) 1 (i := 1) dX4_glass_86 rfl rfl ?_
            obtain ⟨x11, hx11, hf⟩ := bindE hf
            refine qg_iald hΓ (pc := 87) hK rfl hx11 dX4_glass_87 rfl ?_
            exact qg_iret hΓ hK hf dX4_glass_88
          · have hf := ifN hf c10
            by_cases c12 : a1 = (3 : Int32)
            · have hf := ifP hf c12
              refine g_tswC hΓ (pc := 28) (tgt := 89) (3) dX4_glass_28 (by rw [c12]; decide) (by decide) (by decide) rfl (by decide) ?_
              refine g_aload_n hΓ (pc := 89) 0 (i := 0) dX4_glass_89 rfl rfl ?_
              refine qg_geta hΓ (pc := 90) hK (k := 7) rfl q1079 dX4_glass_90 ?_
              refine g_iload_n hΓ (pc := 93) 1 (i := 1) dX4_glass_93 rfl rfl ?_
              obtain ⟨x13, hx13, hf⟩ := bindE hf
              refine qg_iald hΓ (pc := 94) hK rfl hx13 dX4_glass_94 rfl ?_
              exact qg_iret hΓ hK hf dX4_glass_95
            · have hf := ifN hf c12
              by_cases c14 : a1 = (4 : Int32)
              · have hf := ifP hf c14
                refine g_tswC hΓ (pc := 28) (tgt := 96) (4) dX4_glass_28 (by rw [c14]; decide) (by decide) (by decide) rfl (by decide) ?_
                refine g_aload_n hΓ (pc := 96) 0 (i := 0) dX4_glass_96 rfl rfl ?_
                refine qg_geta hΓ (pc := 97) hK (k := 9) rfl q1081 dX4_glass_97 ?_
                refine g_iload_n hΓ (pc := 100) 1 (i := 1) dX4_glass_100 rfl rfl ?_
                obtain ⟨x15, hx15, hf⟩ := bindE hf
                refine qg_iald hΓ (pc := 101) hK rfl hx15 dX4_glass_101 rfl ?_
                exact qg_iret hΓ hK hf dX4_glass_102
              · have hf := ifN hf c14
                by_cases c16 : a1 = (5 : Int32)
                · have hf := ifP hf c16
                  refine g_tswC hΓ (pc := 28) (tgt := 103) (5) dX4_glass_28 (by rw [c16]; decide) (by decide) (by decide) rfl (by decide) ?_
                  refine g_aload_n hΓ (pc := 103) 0 (i := 0) dX4_glass_103 rfl rfl ?_
                  refine qg_geta hΓ (pc := 104) hK (k := 10) rfl q1082 dX4_glass_104 ?_
                  refine g_iload_n hΓ (pc := 107) 1 (i := 1) dX4_glass_107 rfl rfl ?_
                  obtain ⟨x17, hx17, hf⟩ := bindE hf
                  refine qg_iald hΓ (pc := 108) hK rfl hx17 dX4_glass_108 rfl ?_
                  exact qg_iret hΓ hK hf dX4_glass_109
                · have hf := ifN hf c16
                  refine g_tswD hΓ (pc := 28) (tgt := 110) dX4_glass_28 (fun v h1 h2 h3 => ?_) (by decide) ?_
                  · rcases (by omega : v = 0 ∨ v = 1 ∨ v = 2 ∨ v = 3 ∨ v = 4 ∨ v = 5) with rfl | rfl | rfl | rfl | rfl | rfl
                    · exact absurd h3 (lv_neT c6 (by decide))
                    · exact absurd h3 (lv_neT c8 (by decide))
                    · exact absurd h3 (lv_neT c10 (by decide))
                    · exact absurd h3 (lv_neT c12 (by decide))
                    · exact absurd h3 (lv_neT c14 (by decide))
                    · exact absurd h3 (lv_neT c16 (by decide))
                  · skip
                    refine g_aload_n hΓ (pc := 110) 0 (i := 0) dX4_glass_110 rfl rfl ?_
                    refine qg_geta hΓ (pc := 111) hK (k := 8) rfl q1080 dX4_glass_111 ?_
                    refine g_iload_n hΓ (pc := 114) 1 (i := 1) dX4_glass_114 rfl rfl ?_
                    obtain ⟨x18, hx18, hf⟩ := bindE hf
                    refine qg_iald hΓ (pc := 115) hK rfl hx18 dX4_glass_115 rfl ?_
                    exact qg_iret hΓ hK hf dX4_glass_116
    · have hf := ifP hf c5
      refine g_iconst hΓ (pc := 25) (v := -1) dX4_glass_25 (by decide) ?_
      exact qg_iret hΓ hK hf dX4_glass_26
def M_guest (m : MS) (a0 : Int32) (a1 : Int32) : Option (Int32 × MS) :=
  (mSI m 23 (0 : Int32)).bind fun m1 =>
  (M_isGuest m1 a0).bind fun x2 =>
  if x2 = 0 then (
    some ((-1 : Int32), m1)
  ) else (
    (M_in a1.toInt64 (0 : Int64) (8 : Int64)).bind fun x4 =>
    if x4 = 0 then (
      some ((-1 : Int32), m1)
    ) else (
      if a1 = (0 : Int32) then (
        (mR m1 11 a0).bind fun x7 =>
        some (x7, m1)
      ) else (
      if a1 = (1 : Int32) then (
        (mR m1 12 a0).bind fun x9 =>
        some (x9, m1)
      ) else (
      if a1 = (2 : Int32) then (
        (mR m1 13 a0).bind fun x11 =>
        some (x11, m1)
      ) else (
      if a1 = (3 : Int32) then (
        (mR m1 14 a0).bind fun x13 =>
        some (x13, m1)
      ) else (
      if a1 = (4 : Int32) then (
        (mR m1 15 a0).bind fun x15 =>
        some (x15, m1)
      ) else (
      if a1 = (5 : Int32) then (
        (mR m1 16 a0).bind fun x17 =>
        some (x17, m1)
      ) else (
      if a1 = (6 : Int32) then (
        (mR m1 17 a0).bind fun x19 =>
        some (x19, m1)
      ) else (
      if a1 = (7 : Int32) then (
        (mR m1 18 a0).bind fun x21 =>
        some (x21, m1)
      ) else (
      (mR m1 19 a0).bind fun x22 =>
      some (x22, m1)
      )
      )
      )
      )
      )
      )
      )
      )
    )
  )
set_option maxHeartbeats 4000000 in
set_option maxRecDepth 100000 in
theorem metM_guest (l : Launch) {D : va_G} {dA : Nat → ClassId} {b : Nat} {ad : Nat → Nat} {P : Nat → Prop} {F : Nat → va_E} {m : MS} {m' : MS} {a0 : Int32} {a1 : Int32} {r : Int32} (hf : M_guest m a0 a1 = some (r, m')) : Met l yX4_guest (ws_ yX4_guest cX4_guest 3 (some .int)) (rm0_ 2 46) (mP D dA b ad P F [.ref (ad 46), .int a0, .int a1] m) (mQ D dA b ad P F (some (.int r)) m') 0 0 (fun q => b ≤ q) := by
  refine qg_met (by decide) RX4 rfl (Nat.le_of_ble_eq_true rfl) (fun Γ hΓ hK => ?_)
  refine g_sub [0, 1, 2] (lv' := [(0, .ref (ad 46)), (1, .int a0), (2, .int a1)]) rfl ?_
  refine g_aload_n hΓ (pc := 0) 0 (i := 0) dX4_guest_0 rfl rfl ?_
  refine g_iconst hΓ (pc := 1) (v := 0) dX4_guest_1 (by decide) ?_
  obtain ⟨m1, hm1, hf⟩ := bindE hf
  refine qg_put hΓ (pc := 2) hK rfl hm1 q1095 dX4_guest_2 ?_
  refine g_aload_n hΓ (pc := 5) 0 (i := 0) dX4_guest_5 rfl rfl ?_
  refine g_iload_n hΓ (pc := 6) 1 (i := 1) dX4_guest_6 rfl rfl ?_
  obtain ⟨x2, hx2, hf⟩ := bindE hf
  refine qg_callV hΓ (pc := 7) hK 1 (As := [.int a0]) (metM_isGuest _ hx2) (lw_V q1290 q1292 qs28 q57 q1293) (by decide +kernel) (by decide) rfl rfl (Nat.le_of_ble_eq_true rfl) dX4_guest_7 ?_
  refine g_if_eq hΓ (pc := 10) (tgt := 25) dX4_guest_10 (by decide) (fun c3 => ?_) (fun c3 => ?_)
  · have hf := ifP hf c3
    refine g_iconst hΓ (pc := 25) (v := -1) dX4_guest_25 (by decide) ?_
    exact qg_iret hΓ hK hf dX4_guest_26
  · have hf := ifN hf c3
    refine g_iload_n hΓ (pc := 13) 2 (i := 2) dX4_guest_13 rfl rfl ?_
    refine g_i2l hΓ (pc := 14) dX4_guest_14 ?_
    refine g_lconst hΓ (pc := 15) (v := 0) dX4_guest_15 (by decide) ?_
    refine g_ldc2 hΓ (pc := 16) q1367 dX4_guest_16 ?_
    obtain ⟨x4, hx4, hf⟩ := bindE hf
    refine qg_callS hΓ (pc := 19) 3 (As := [.long a1.toInt64, .long (0 : Int64), .long (8 : Int64)]) (metM_in _ hx4) (lw_S q1245 q1246 q57 q1247) (by decide +kernel) (by decide) rfl rfl (Nat.le_of_ble_eq_true rfl) dX4_guest_19 ?_
    refine g_if_ne hΓ (pc := 22) (tgt := 27) dX4_guest_22 (by decide) (fun c5 => ?_) (fun c5 => ?_)
    · have hf := ifN hf c5
      refine g_iload_n hΓ (pc := 27) 2 (i := 2) dX4_guest_27 rfl rfl ?_
      by_cases c6 : a1 = (0 : Int32)
      · have hf := ifP hf c6
        refine g_tswC hΓ (pc := 28) (tgt := 76) (0) dX4_guest_28 (by rw [c6]; decide) (by decide) (by decide) rfl (by decide) ?_
        refine g_aload_n hΓ (pc := 76) 0 (i := 0) dX4_guest_76 rfl rfl ?_
        refine qg_geta hΓ (pc := 77) hK (k := 11) rfl q1083 dX4_guest_77 ?_
        refine g_iload_n hΓ (pc := 80) 1 (i := 1) dX4_guest_80 rfl rfl ?_
        obtain ⟨x7, hx7, hf⟩ := bindE hf
        refine qg_iald hΓ (pc := 81) hK rfl hx7 dX4_guest_81 rfl ?_
        exact qg_iret hΓ hK hf dX4_guest_82
      · have hf := ifN hf c6
        by_cases c8 : a1 = (1 : Int32)
        · have hf := ifP hf c8
          refine g_tswC hΓ (pc := 28) (tgt := 83) (1) dX4_guest_28 (by rw [c8]; decide) (by decide) (by decide) rfl (by decide) ?_
          refine g_aload_n hΓ (pc := 83) 0 (i := 0) dX4_guest_83 rfl rfl ?_
          refine qg_geta hΓ (pc := 84) hK (k := 12) rfl q1084 dX4_guest_84 ?_
          refine g_iload_n hΓ (pc := 87) 1 (i := 1) dX4_guest_87 rfl rfl ?_
          obtain ⟨x9, hx9, hf⟩ := bindE hf
          refine qg_iald hΓ (pc := 88) hK rfl hx9 dX4_guest_88 rfl ?_
          exact qg_iret hΓ hK hf dX4_guest_89
        · have hf := ifN hf c8
          by_cases c10 : a1 = (2 : Int32)
          · have hf := ifP hf c10
            refine g_tswC hΓ (pc := 28) (tgt := 90) (2) dX4_guest_28 (by rw [c10]; decide) (by decide) (by decide) rfl (by decide) ?_
            refine g_aload_n hΓ (pc := 90) 0 (i := 0) dX4_guest_90 rfl rfl ?_
            refine qg_geta hΓ (pc := 91) hK (k := 13) rfl q1085 dX4_guest_91 ?_
            refine g_iload_n hΓ (pc := 94) 1 (i := 1) dX4_guest_94 rfl rfl ?_
            obtain ⟨x11, hx11, hf⟩ := bindE hf
            refine qg_iald hΓ (pc := 95) hK rfl hx11 dX4_guest_95 rfl ?_
            exact qg_iret hΓ hK hf dX4_guest_96
          · have hf := ifN hf c10
            by_cases c12 : a1 = (3 : Int32)
            · have hf := ifP hf c12
              refine g_tswC hΓ (pc := 28) (tgt := 97) (3) dX4_guest_28 (by rw [c12]; decide) (by decide) (by decide) rfl (by decide) ?_
              refine g_aload_n hΓ (pc := 97) 0 (i := 0) dX4_guest_97 rfl rfl ?_
              refine qg_geta hΓ (pc := 98) hK (k := 14) rfl q1086 dX4_guest_98 ?_
              refine g_iload_n hΓ (pc := 101) 1 (i := 1) dX4_guest_101 rfl rfl ?_
              obtain ⟨x13, hx13, hf⟩ := bindE hf
              refine qg_iald hΓ (pc := 102) hK rfl hx13 dX4_guest_102 rfl ?_
              exact qg_iret hΓ hK hf dX4_guest_103
            · have hf := ifN hf c12
              by_cases c14 : a1 = (4 : Int32)
              · have hf := ifP hf c14
                refine g_tswC hΓ (pc := 28) (tgt := 104) (4) dX4_guest_28 (by rw [c14]; decide) (by decide) (by decide) rfl (by decide) ?_
                refine g_aload_n hΓ (pc := 104) 0 (i := 0) dX4_guest_104 rfl rfl ?_
                refine qg_geta hΓ (pc := 105) hK (k := 15) rfl q1087 dX4_guest_105 ?_
                refine g_iload_n hΓ (pc := 108) 1 (i := 1) dX4_guest_108 rfl rfl ?_
                obtain ⟨x15, hx15, hf⟩ := bindE hf
                refine qg_iald hΓ (pc := 109) hK rfl hx15 dX4_guest_109 rfl ?_
                exact qg_iret hΓ hK hf dX4_guest_110
              · have hf := ifN hf c14
                by_cases c16 : a1 = (5 : Int32)
                · have hf := ifP hf c16
                  refine g_tswC hΓ (pc := 28) (tgt := 111) (5) dX4_guest_28 (by rw [c16]; decide) (by decide) (by decide) rfl (by decide) ?_
                  refine g_aload_n hΓ (pc := 111) 0 (i := 0) dX4_guest_111 rfl rfl ?_
                  refine qg_geta hΓ (pc := 112) hK (k := 16) rfl q1088 dX4_guest_112 ?_
                  refine g_iload_n hΓ (pc := 115) 1 (i := 1) dX4_guest_115 rfl rfl ?_
                  obtain ⟨x17, hx17, hf⟩ := bindE hf
                  refine qg_iald hΓ (pc := 116) hK rfl hx17 dX4_guest_116 rfl ?_
                  exact qg_iret hΓ hK hf dX4_guest_117
                · have hf := ifN hf c16
                  by_cases c18 : a1 = (6 : Int32)
                  · have hf := ifP hf c18
                    refine g_tswC hΓ (pc := 28) (tgt := 118) (6) dX4_guest_28 (by rw [c18]; decide) (by decide) (by decide) rfl (by decide) ?_
                    refine g_aload_n hΓ (pc := 118) 0 (i := 0) dX4_guest_118 rfl rfl ?_
                    refine qg_geta hΓ (pc := 119) hK (k := 17) rfl q1089 dX4_guest_119 ?_
                    refine g_iload_n hΓ (pc := 122) 1 (i := 1) dX4_guest_122 rfl rfl ?_
                    obtain ⟨x19, hx19, hf⟩ := bindE hf
                    refine qg_iald hΓ (pc := 123) hK rfl hx19 dX4_guest_123 rfl ?_
                    exact qg_iret hΓ hK hf dX4_guest_124
                  · have hf := ifN hf c18
                    by_cases c20 : a1 = (7 : Int32)
                    · have hf := ifP hf c20
                      refine g_tswC hΓ (pc := 28) (tgt := 125) (7) dX4_guest_28 (by rw [c20]; decide) (by decide) (by decide) rfl (by decide) ?_
                      refine g_aload_n hΓ (pc := 125) 0 (i := 0) dX4_guest_125 rfl rfl ?_
                      refine qg_geta hΓ (pc := 126) hK (k := 18) rfl q1090 dX4_guest_126 ?_
                      refine g_iload_n hΓ (pc := 129) 1 (i := 1) dX4_guest_129 rfl rfl ?_
                      obtain ⟨x21, hx21, hf⟩ := bindE hf
                      refine qg_iald hΓ (pc := 130) hK rfl hx21 dX4_guest_130 rfl ?_
                      exact qg_iret hΓ hK hf dX4_guest_131
                    · have hf := ifN hf c20
                      refine g_tswD hΓ (pc := 28) (tgt := 132) dX4_guest_28 (fun v h1 h2 h3 => ?_) (by decide) ?_
                      · rcases (by omega : v = 0 ∨ v = 1 ∨ v = 2 ∨ v = 3 ∨ v = 4 ∨ v = 5 ∨ v = 6 ∨ v = 7) with rfl | rfl | rfl | rfl | rfl | rfl | rfl | rfl
                        · exact absurd h3 (lv_neT c6 (by decide))
                        · exact absurd h3 (lv_neT c8 (by decide))
                        · exact absurd h3 (lv_neT c10 (by decide))
                        · exact absurd h3 (lv_neT c12 (by decide))
                        · exact absurd h3 (lv_neT c14 (by decide))
                        · exact absurd h3 (lv_neT c16 (by decide))
                        · exact absurd h3 (lv_neT c18 (by decide))
                        · exact absurd h3 (lv_neT c20 (by decide))
                      · skip
                        refine g_aload_n hΓ (pc := 132) 0 (i := 0) dX4_guest_132 rfl rfl ?_
                        refine qg_geta hΓ (pc := 133) hK (k := 19) rfl q1091 dX4_guest_133 ?_
                        refine g_iload_n hΓ (pc := 136) 1 (i := 1) dX4_guest_136 rfl rfl ?_
                        obtain ⟨x22, hx22, hf⟩ := bindE hf
                        refine qg_iald hΓ (pc := 137) hK rfl hx22 dX4_guest_137 rfl ?_
                        exact qg_iret hΓ hK hf dX4_guest_138
    · have hf := ifP hf c5
      refine g_iconst hΓ (pc := 25) (v := -1) dX4_guest_25 (by decide) ?_
      exact qg_iret hΓ hK hf dX4_guest_26
def M_isPlace (a0 : Int32) : Option (Int32) :=
  (M_in a0.toInt64 (0 : Int64) (5 : Int64)).bind fun x1 =>
  zOk x1
set_option maxHeartbeats 4000000 in
set_option maxRecDepth 100000 in
theorem metM_isPlace (l : Launch) {a0 : Int32} {r : Int32} (hf : M_isPlace a0 = some r) : Met l yX4_isPlace (ws_ yX4_isPlace cX4_isPlace 1 (some .boolean)) (rm0_ 1 25) (sP [.int a0]) (sQ (some (.int r))) 0 0 (fun _ => False) := by
  refine qs_met (by decide) RX4 rfl (Nat.le_of_ble_eq_true rfl) (fun Γ hΓ => ?_)
  refine g_sub [0] (lv' := [(0, .int a0)]) rfl ?_
  refine g_iload_n hΓ (pc := 0) 0 (i := 0) dX4_isPlace_0 rfl rfl ?_
  refine g_i2l hΓ (pc := 1) dX4_isPlace_1 ?_
  refine g_lconst hΓ (pc := 2) (v := 0) dX4_isPlace_2 (by decide) ?_
  refine g_ldc2 hΓ (pc := 3) q1375 dX4_isPlace_3 ?_
  obtain ⟨x1, hx1, hf⟩ := bindE hf
  refine qg_callS hΓ (pc := 6) 3 (As := [.long a0.toInt64, .long (0 : Int64), .long (5 : Int64)]) (metM_in _ hx1) (lw_S q1245 q1246 q57 q1247) (by decide +kernel) (by decide) rfl rfl (Nat.le_of_ble_eq_true rfl) dX4_isPlace_6 ?_
  exact qs_zret hΓ hf dX4_isPlace_9
def M_wrongKept (m : MS) (a0 : Int32) : Option (Int32) :=
  (M_in a0.toInt64 (0 : Int64) (7 : Int64)).bind fun x1 =>
  if x1 = 0 then (
    some (-1 : Int32)
  ) else (
    (mR m 39 a0).bind fun x3 =>
    if x3 = 0 then (
      some (-11 : Int32)
    ) else (
      (mR m 39 a0).bind fun x5 =>
      if x5 = (1 : Int32) then (
        some (0 : Int32)
      ) else (
        some (-12 : Int32)
      )
    )
  )
set_option maxHeartbeats 4000000 in
set_option maxRecDepth 100000 in
theorem metM_wrongKept (l : Launch) {D : va_G} {dA : Nat → ClassId} {b : Nat} {ad : Nat → Nat} {P : Nat → Prop} {F : Nat → va_E} {m : MS} {a0 : Int32} {r : Int32} (hf : M_wrongKept m a0 = some r) : Met l yX4_wrongKept (ws_ yX4_wrongKept cX4_wrongKept 2 (some .int)) (rm0_ 1 25) (mP D dA b ad P F [.ref (ad 46), .int a0] m) (mQ D dA b ad P F (some (.int r)) m) 0 0 (fun q => b ≤ q) := by
  refine qg_met (by decide) RX4 rfl (Nat.le_of_ble_eq_true rfl) (fun Γ hΓ hK => ?_)
  refine g_sub [0, 1] (lv' := [(0, .ref (ad 46)), (1, .int a0)]) rfl ?_
  refine g_iload_n hΓ (pc := 0) 1 (i := 1) dX4_wrongKept_0 rfl rfl ?_
  refine g_i2l hΓ (pc := 1) dX4_wrongKept_1 ?_
  refine g_lconst hΓ (pc := 2) (v := 0) dX4_wrongKept_2 (by decide) ?_
  refine g_ldc2 hΓ (pc := 3) q1244 dX4_wrongKept_3 ?_
  obtain ⟨x1, hx1, hf⟩ := bindE hf
  refine qg_callS hΓ (pc := 6) 3 (As := [.long a0.toInt64, .long (0 : Int64), .long (7 : Int64)]) (metM_in _ hx1) (lw_S q1245 q1246 q57 q1247) (by decide +kernel) (by decide) rfl rfl (Nat.le_of_ble_eq_true rfl) dX4_wrongKept_6 ?_
  refine g_if_ne hΓ (pc := 9) (tgt := 16) dX4_wrongKept_9 (by decide) (fun c2 => ?_) (fun c2 => ?_)
  · have hf := ifN hf c2
    refine g_aload_n hΓ (pc := 16) 0 (i := 0) dX4_wrongKept_16 rfl rfl ?_
    refine qg_geta hΓ (pc := 17) hK (k := 39) rfl q1111 dX4_wrongKept_17 ?_
    refine g_iload_n hΓ (pc := 20) 1 (i := 1) dX4_wrongKept_20 rfl rfl ?_
    obtain ⟨x3, hx3, hf⟩ := bindE hf
    refine qg_iald hΓ (pc := 21) hK rfl hx3 dX4_wrongKept_21 rfl ?_
    refine g_if_ne hΓ (pc := 22) (tgt := 30) dX4_wrongKept_22 (by decide) (fun c4 => ?_) (fun c4 => ?_)
    · have hf := ifN hf c4
      refine g_aload_n hΓ (pc := 30) 0 (i := 0) dX4_wrongKept_30 rfl rfl ?_
      refine qg_geta hΓ (pc := 31) hK (k := 39) rfl q1111 dX4_wrongKept_31 ?_
      refine g_iload_n hΓ (pc := 34) 1 (i := 1) dX4_wrongKept_34 rfl rfl ?_
      obtain ⟨x5, hx5, hf⟩ := bindE hf
      refine qg_iald hΓ (pc := 35) hK rfl hx5 dX4_wrongKept_35 rfl ?_
      refine g_iconst hΓ (pc := 36) (v := 1) dX4_wrongKept_36 (by decide) ?_
      refine g_icmp_eq hΓ (pc := 37) (tgt := 45) dX4_wrongKept_37 (by decide) (fun c6 => ?_) (fun c6 => ?_)
      · have hf := ifP hf c6
        refine g_iconst hΓ (pc := 45) (v := 0) dX4_wrongKept_45 (by decide) ?_
        exact qg_iretR hΓ hK hf dX4_wrongKept_46
      · have hf := ifN hf c6
        refine g_bipush hΓ (pc := 40) (v := -12) dX4_wrongKept_40 (by decide) ?_
        refine g_goto hΓ (pc := 42) (tgt := 46) dX4_wrongKept_42 (by decide) ?_
        exact qg_iretR hΓ hK hf dX4_wrongKept_46
    · have hf := ifP hf c4
      refine g_bipush hΓ (pc := 25) (v := -11) dX4_wrongKept_25 (by decide) ?_
      refine g_goto hΓ (pc := 27) (tgt := 46) dX4_wrongKept_27 (by decide) ?_
      exact qg_iretR hΓ hK hf dX4_wrongKept_46
  · have hf := ifP hf c2
    refine g_iconst hΓ (pc := 12) (v := -1) dX4_wrongKept_12 (by decide) ?_
    refine g_goto hΓ (pc := 13) (tgt := 46) dX4_wrongKept_13 (by decide) ?_
    exact qg_iretR hΓ hK hf dX4_wrongKept_46
def M_comes_41 (m : MS) (y1 : Int32) (y2 : Int32) (z0 : Int32) : Option (Int32 × MS) :=
  if 0 ≤ z0 then (
    (mR m 40 y1).bind fun x2 =>
    (mR m 41 y1).bind fun x3 =>
    (M_bring m x2 x3 (9 : Int32) y2).bind fun q4 =>
    some (q4.1, q4.2)
  ) else (
    some (z0, m)
  )
def M_comes_21 (m : MS) (y1 : Int32) (y2 : Int32) (z0 : Int32) : Option (Int32 × MS) :=
  if z0 = 0 then (
    if (m.1 0) = (12 : Int32) then (
      M_comes_41 m y1 y2 (-2 : Int32)
    ) else (
      M_comes_41 m y1 y2 z0
    )
  ) else (
    M_comes_41 m y1 y2 z0
  )
def M_comes (m : MS) (a0 : Int32) (a1 : Int32) : Option (Int32 × MS) :=
  (mSI m 23 (0 : Int32)).bind fun m7 =>
  (M_isPlace a1).bind fun x8 =>
  if x8 = 0 then (
    M_comes_21 m7 a0 a1 (-1 : Int32)
  ) else (
    (M_wrongKept m7 a0).bind fun x10 =>
    M_comes_21 m7 a0 a1 x10
  )
set_option maxHeartbeats 4000000 in
set_option maxRecDepth 100000 in
theorem metM_comes (l : Launch) {D : va_G} {dA : Nat → ClassId} {b : Nat} {ad : Nat → Nat} {P : Nat → Prop} {F : Nat → va_E} {m : MS} {m' : MS} {a0 : Int32} {a1 : Int32} {r : Int32} (hf : M_comes m a0 a1 = some (r, m')) : Met l yX4_comes (ws_ yX4_comes cX4_comes 4 (some .int)) (rm0_ 2 46) (mP D dA b ad P F [.ref (ad 46), .int a0, .int a1] m) (mQ D dA b ad P F (some (.int r)) m') 0 0 (fun q => b ≤ q) := by
  refine qg_met (by decide) RX4 rfl (Nat.le_of_ble_eq_true rfl) (fun Γ hΓ hK => ?_)
  refine g_sub [0, 1, 2] (lv' := [(0, .ref (ad 46)), (1, .int a0), (2, .int a1)]) rfl ?_
  have J41 : ∀ (m : MS) (y1 : Int32) (y2 : Int32) (z0 : Int32) (hf : M_comes_41   m y1 y2 z0 = some (r, m')), WG Γ (MW D dA b ad P F m) 0 0 41 [(0, .ref (ad 46)), (1, .int y1), (2, .int y2)] [.int z0] := by
    intro  m y1 y2 z0 hf
    refine g_istore_n hΓ (pc := 41) (i := 3) (lv' := [(3, .int z0), (0, .ref (ad 46)), (1, .int y1), (2, .int y2)]) dX4_comes_41 rfl (by decide) rfl ?_
    refine g_iload_n hΓ (pc := 42) 0 (i := 3) dX4_comes_42 rfl rfl ?_
    refine g_if_ge hΓ (pc := 43) (tgt := 50) dX4_comes_43 (by decide) (fun c1 => ?_) (fun c1 => ?_)
    · have hf := ifP hf c1
      refine g_aload_n hΓ (pc := 50) 1 (i := 0) dX4_comes_50 rfl rfl ?_
      refine g_aload_n hΓ (pc := 51) 1 (i := 0) dX4_comes_51 rfl rfl ?_
      refine qg_geta hΓ (pc := 52) hK (k := 40) rfl q1112 dX4_comes_52 ?_
      refine g_iload_n hΓ (pc := 55) 2 (i := 1) dX4_comes_55 rfl rfl ?_
      obtain ⟨x2, hx2, hf⟩ := bindE hf
      refine qg_iald hΓ (pc := 56) hK rfl hx2 dX4_comes_56 rfl ?_
      refine g_aload_n hΓ (pc := 57) 1 (i := 0) dX4_comes_57 rfl rfl ?_
      refine qg_geta hΓ (pc := 58) hK (k := 41) rfl q1113 dX4_comes_58 ?_
      refine g_iload_n hΓ (pc := 61) 2 (i := 1) dX4_comes_61 rfl rfl ?_
      obtain ⟨x3, hx3, hf⟩ := bindE hf
      refine qg_iald hΓ (pc := 62) hK rfl hx3 dX4_comes_62 rfl ?_
      refine g_bipush hΓ (pc := 63) (v := 9) dX4_comes_63 (by decide) ?_
      refine g_iload_n hΓ (pc := 65) 3 (i := 2) dX4_comes_65 rfl rfl ?_
      obtain ⟨q4, hq4, hf⟩ := bindE hf
      refine qg_callV hΓ (pc := 66) hK 4 (As := [.int x2, .int x3, .int (9 : Int32), .int y2]) (metM_bring _ (r := q4.1) (m' := q4.2) hq4) (lw_V q1278 q1280 qs25 q57 q1281) (by decide +kernel) (by decide) rfl rfl (Nat.le_of_ble_eq_true rfl) dX4_comes_66 ?_
      exact qg_iret hΓ hK hf dX4_comes_69
    · have hf := ifN hf c1
      refine g_iload_n hΓ (pc := 46) 0 (i := 3) dX4_comes_46 rfl rfl ?_
      refine g_goto hΓ (pc := 47) (tgt := 69) dX4_comes_47 (by decide) ?_
      exact qg_iret hΓ hK hf dX4_comes_69
  have J21 : ∀ (m : MS) (y1 : Int32) (y2 : Int32) (z0 : Int32) (hf : M_comes_21   m y1 y2 z0 = some (r, m')), WG Γ (MW D dA b ad P F m) 0 0 21 [(0, .ref (ad 46)), (1, .int y1), (2, .int y2)] [.int z0] := by
    intro  m y1 y2 z0 hf
    refine g_istore_n hΓ (pc := 21) (i := 3) (lv' := [(3, .int z0), (0, .ref (ad 46)), (1, .int y1), (2, .int y2)]) dX4_comes_21 rfl (by decide) rfl ?_
    refine g_iload_n hΓ (pc := 22) 0 (i := 3) dX4_comes_22 rfl rfl ?_
    refine g_if_ne hΓ (pc := 23) (tgt := 40) dX4_comes_23 (by decide) (fun c5 => ?_) (fun c5 => ?_)
    · have hf := ifN hf c5
      refine g_iload_n hΓ (pc := 40) 0 (i := 3) dX4_comes_40 rfl rfl ?_
      exact g_sub [1, 2, 3] rfl (J41  _ _ _ _ hf)
    · have hf := ifP hf c5
      refine g_aload_n hΓ (pc := 26) 1 (i := 0) dX4_comes_26 rfl rfl ?_
      refine qg_get hΓ (pc := 27) hK (k := 0) rfl q1072 dX4_comes_27 ?_
      refine g_bipush hΓ (pc := 30) (v := 12) dX4_comes_30 (by decide) ?_
      refine g_icmp_ne hΓ (pc := 32) (tgt := 40) dX4_comes_32 (by decide) (fun c6 => ?_) (fun c6 => ?_)
      · have hf := ifN hf c6
        refine g_iload_n hΓ (pc := 40) 0 (i := 3) dX4_comes_40 rfl rfl ?_
        exact g_sub [1, 2, 3] rfl (J41  _ _ _ _ hf)
      · have hf := ifP hf c6
        refine g_bipush hΓ (pc := 35) (v := -2) dX4_comes_35 (by decide) ?_
        refine g_goto hΓ (pc := 37) (tgt := 41) dX4_comes_37 (by decide) ?_
        exact g_sub [1, 2, 3] rfl (J41  _ _ _ _ hf)
  refine g_aload_n hΓ (pc := 0) 0 (i := 0) dX4_comes_0 rfl rfl ?_
  refine g_iconst hΓ (pc := 1) (v := 0) dX4_comes_1 (by decide) ?_
  obtain ⟨m7, hm7, hf⟩ := bindE hf
  refine qg_put hΓ (pc := 2) hK rfl hm7 q1095 dX4_comes_2 ?_
  refine g_iload_n hΓ (pc := 5) 2 (i := 2) dX4_comes_5 rfl rfl ?_
  obtain ⟨x8, hx8, hf⟩ := bindE hf
  refine qg_callS hΓ (pc := 6) 1 (As := [.int a1]) (metM_isPlace _ hx8) (lw_S q1372 q1373 q57 q1374) (by decide +kernel) (by decide) rfl rfl (Nat.le_of_ble_eq_true rfl) dX4_comes_6 ?_
  refine g_if_eq hΓ (pc := 9) (tgt := 20) dX4_comes_9 (by decide) (fun c9 => ?_) (fun c9 => ?_)
  · have hf := ifP hf c9
    refine g_iconst hΓ (pc := 20) (v := -1) dX4_comes_20 (by decide) ?_
    exact g_sub [0, 1, 2] rfl (J21  _ _ _ _ hf)
  · have hf := ifN hf c9
    refine g_aload_n hΓ (pc := 12) 0 (i := 0) dX4_comes_12 rfl rfl ?_
    refine g_iload_n hΓ (pc := 13) 1 (i := 1) dX4_comes_13 rfl rfl ?_
    obtain ⟨x10, hx10, hf⟩ := bindE hf
    refine qg_callV hΓ (pc := 14) hK 1 (As := [.int a0]) (metM_wrongKept _ hx10) (lw_V q1376 q1378 qs45 q57 q1379) (by decide +kernel) (by decide) rfl rfl (Nat.le_of_ble_eq_true rfl) dX4_comes_14 ?_
    refine g_goto hΓ (pc := 17) (tgt := 21) dX4_comes_17 (by decide) ?_
    exact g_sub [0, 1, 2] rfl (J21  _ _ _ _ hf)
def M_go (m : MS) (a0 : Int32) (a1 : Int32) : Option (Int32 × MS) :=
  (mSI m 23 (0 : Int32)).bind fun m1 =>
  (M_isGuest m1 a0).bind fun x2 =>
  if x2 = 0 then (
    some ((-1 : Int32), m1)
  ) else (
    (M_isPlace a1).bind fun x4 =>
    if x4 = 0 then (
      some ((-1 : Int32), m1)
    ) else (
      (mR m1 15 a0).bind fun x6 =>
      (mW m1 15 a0 a1).bind fun m7 =>
      some (x6, m7)
    )
  )
set_option maxHeartbeats 4000000 in
set_option maxRecDepth 100000 in
theorem metM_go (l : Launch) {D : va_G} {dA : Nat → ClassId} {b : Nat} {ad : Nat → Nat} {P : Nat → Prop} {F : Nat → va_E} {m : MS} {m' : MS} {a0 : Int32} {a1 : Int32} {r : Int32} (hf : M_go m a0 a1 = some (r, m')) : Met l yX4_go (ws_ yX4_go cX4_go 4 (some .int)) (rm0_ 2 46) (mP D dA b ad P F [.ref (ad 46), .int a0, .int a1] m) (mQ D dA b ad P F (some (.int r)) m') 0 0 (fun q => b ≤ q) := by
  refine qg_met (by decide) RX4 rfl (Nat.le_of_ble_eq_true rfl) (fun Γ hΓ hK => ?_)
  refine g_sub [0, 1, 2] (lv' := [(0, .ref (ad 46)), (1, .int a0), (2, .int a1)]) rfl ?_
  refine g_aload_n hΓ (pc := 0) 0 (i := 0) dX4_go_0 rfl rfl ?_
  refine g_iconst hΓ (pc := 1) (v := 0) dX4_go_1 (by decide) ?_
  obtain ⟨m1, hm1, hf⟩ := bindE hf
  refine qg_put hΓ (pc := 2) hK rfl hm1 q1095 dX4_go_2 ?_
  refine g_aload_n hΓ (pc := 5) 0 (i := 0) dX4_go_5 rfl rfl ?_
  refine g_iload_n hΓ (pc := 6) 1 (i := 1) dX4_go_6 rfl rfl ?_
  obtain ⟨x2, hx2, hf⟩ := bindE hf
  refine qg_callV hΓ (pc := 7) hK 1 (As := [.int a0]) (metM_isGuest _ hx2) (lw_V q1290 q1292 qs28 q57 q1293) (by decide +kernel) (by decide) rfl rfl (Nat.le_of_ble_eq_true rfl) dX4_go_7 ?_
  refine g_if_eq hΓ (pc := 10) (tgt := 20) dX4_go_10 (by decide) (fun c3 => ?_) (fun c3 => ?_)
  · have hf := ifP hf c3
    refine g_iconst hΓ (pc := 20) (v := -1) dX4_go_20 (by decide) ?_
    exact qg_iret hΓ hK hf dX4_go_21
  · have hf := ifN hf c3
    refine g_iload_n hΓ (pc := 13) 2 (i := 2) dX4_go_13 rfl rfl ?_
    obtain ⟨x4, hx4, hf⟩ := bindE hf
    refine qg_callS hΓ (pc := 14) 1 (As := [.int a1]) (metM_isPlace _ hx4) (lw_S q1372 q1373 q57 q1374) (by decide +kernel) (by decide) rfl rfl (Nat.le_of_ble_eq_true rfl) dX4_go_14 ?_
    refine g_if_ne hΓ (pc := 17) (tgt := 22) dX4_go_17 (by decide) (fun c5 => ?_) (fun c5 => ?_)
    · have hf := ifN hf c5
      refine g_aload_n hΓ (pc := 22) 0 (i := 0) dX4_go_22 rfl rfl ?_
      refine qg_geta hΓ (pc := 23) hK (k := 15) rfl q1087 dX4_go_23 ?_
      refine g_iload_n hΓ (pc := 26) 1 (i := 1) dX4_go_26 rfl rfl ?_
      obtain ⟨x6, hx6, hf⟩ := bindE hf
      refine qg_iald hΓ (pc := 27) hK rfl hx6 dX4_go_27 rfl ?_
      refine g_istore_n hΓ (pc := 28) (i := 3) (lv' := [(3, .int x6), (0, .ref (ad 46)), (1, .int a0), (2, .int a1)]) dX4_go_28 rfl (by decide) rfl ?_
      refine g_aload_n hΓ (pc := 29) 1 (i := 0) dX4_go_29 rfl rfl ?_
      refine qg_geta hΓ (pc := 30) hK (k := 15) rfl q1087 dX4_go_30 ?_
      refine g_iload_n hΓ (pc := 33) 2 (i := 1) dX4_go_33 rfl rfl ?_
      refine g_iload_n hΓ (pc := 34) 3 (i := 2) dX4_go_34 rfl rfl ?_
      obtain ⟨m7, hm7, hf⟩ := bindE hf
      refine qg_iast hΓ (pc := 35) hK rfl hm7 dX4_go_35 rfl ?_
      refine g_iload_n hΓ (pc := 36) 0 (i := 3) dX4_go_36 rfl rfl ?_
      exact qg_iret hΓ hK hf dX4_go_37
    · have hf := ifP hf c5
      refine g_iconst hΓ (pc := 20) (v := -1) dX4_go_20 (by decide) ?_
      exact qg_iret hΓ hK hf dX4_go_21
def M_sip (m : MS) (a0 : Int32) : Option (Int32 × MS) :=
  (mSI m 23 (0 : Int32)).bind fun m1 =>
  (M_isGuest m1 a0).bind fun x2 =>
  if x2 = 0 then (
    some ((-1 : Int32), m1)
  ) else (
    (mR m1 16 a0).bind fun x4 =>
    if x4 < 0 then (
      some ((-3 : Int32), m1)
    ) else (
      (mR m1 16 a0).bind fun x6 =>
      (mR m1 6 x6).bind fun x7 =>
      if x7 = 0 then (
        some ((-3 : Int32), m1)
      ) else (
        (M_sipOne m1 a0).bind fun q9 =>
        some (q9.1, q9.2)
      )
    )
  )
set_option maxHeartbeats 4000000 in
set_option maxRecDepth 100000 in
theorem metM_sip (l : Launch) {D : va_G} {dA : Nat → ClassId} {b : Nat} {ad : Nat → Nat} {P : Nat → Prop} {F : Nat → va_E} {m : MS} {m' : MS} {a0 : Int32} {r : Int32} (hf : M_sip m a0 = some (r, m')) : Met l yX4_sip (ws_ yX4_sip cX4_sip 2 (some .int)) (rm0_ 2 46) (mP D dA b ad P F [.ref (ad 46), .int a0] m) (mQ D dA b ad P F (some (.int r)) m') 0 0 (fun q => b ≤ q) := by
  refine qg_met (by decide) RX4 rfl (Nat.le_of_ble_eq_true rfl) (fun Γ hΓ hK => ?_)
  refine g_sub [0, 1] (lv' := [(0, .ref (ad 46)), (1, .int a0)]) rfl ?_
  refine g_aload_n hΓ (pc := 0) 0 (i := 0) dX4_sip_0 rfl rfl ?_
  refine g_iconst hΓ (pc := 1) (v := 0) dX4_sip_1 (by decide) ?_
  obtain ⟨m1, hm1, hf⟩ := bindE hf
  refine qg_put hΓ (pc := 2) hK rfl hm1 q1095 dX4_sip_2 ?_
  refine g_aload_n hΓ (pc := 5) 0 (i := 0) dX4_sip_5 rfl rfl ?_
  refine g_iload_n hΓ (pc := 6) 1 (i := 1) dX4_sip_6 rfl rfl ?_
  obtain ⟨x2, hx2, hf⟩ := bindE hf
  refine qg_callV hΓ (pc := 7) hK 1 (As := [.int a0]) (metM_isGuest _ hx2) (lw_V q1290 q1292 qs28 q57 q1293) (by decide +kernel) (by decide) rfl rfl (Nat.le_of_ble_eq_true rfl) dX4_sip_7 ?_
  refine g_if_ne hΓ (pc := 10) (tgt := 15) dX4_sip_10 (by decide) (fun c3 => ?_) (fun c3 => ?_)
  · have hf := ifN hf c3
    refine g_aload_n hΓ (pc := 15) 0 (i := 0) dX4_sip_15 rfl rfl ?_
    refine qg_geta hΓ (pc := 16) hK (k := 16) rfl q1088 dX4_sip_16 ?_
    refine g_iload_n hΓ (pc := 19) 1 (i := 1) dX4_sip_19 rfl rfl ?_
    obtain ⟨x4, hx4, hf⟩ := bindE hf
    refine qg_iald hΓ (pc := 20) hK rfl hx4 dX4_sip_20 rfl ?_
    refine g_if_lt hΓ (pc := 21) (tgt := 38) dX4_sip_21 (by decide) (fun c5 => ?_) (fun c5 => ?_)
    · have hf := ifP hf c5
      refine g_bipush hΓ (pc := 38) (v := -3) dX4_sip_38 (by decide) ?_
      refine g_goto hΓ (pc := 40) (tgt := 48) dX4_sip_40 (by decide) ?_
      exact qg_iret hΓ hK hf dX4_sip_48
    · have hf := ifN hf c5
      refine g_aload_n hΓ (pc := 24) 0 (i := 0) dX4_sip_24 rfl rfl ?_
      refine qg_geta hΓ (pc := 25) hK (k := 6) rfl q1078 dX4_sip_25 ?_
      refine g_aload_n hΓ (pc := 28) 0 (i := 0) dX4_sip_28 rfl rfl ?_
      refine qg_geta hΓ (pc := 29) hK (k := 16) rfl q1088 dX4_sip_29 ?_
      refine g_iload_n hΓ (pc := 32) 1 (i := 1) dX4_sip_32 rfl rfl ?_
      obtain ⟨x6, hx6, hf⟩ := bindE hf
      refine qg_iald hΓ (pc := 33) hK rfl hx6 dX4_sip_33 rfl ?_
      obtain ⟨x7, hx7, hf⟩ := bindE hf
      refine qg_iald hΓ (pc := 34) hK rfl hx7 dX4_sip_34 rfl ?_
      refine g_if_ne hΓ (pc := 35) (tgt := 43) dX4_sip_35 (by decide) (fun c8 => ?_) (fun c8 => ?_)
      · have hf := ifN hf c8
        refine g_aload_n hΓ (pc := 43) 0 (i := 0) dX4_sip_43 rfl rfl ?_
        refine g_iload_n hΓ (pc := 44) 1 (i := 1) dX4_sip_44 rfl rfl ?_
        obtain ⟨q9, hq9, hf⟩ := bindE hf
        refine qg_callV hΓ (pc := 45) hK 1 (As := [.int a0]) (metM_sipOne _ (r := q9.1) (m' := q9.2) hq9) (lw_V q1342 q1344 qs41 q57 q1345) (by decide +kernel) (by decide) rfl rfl (Nat.le_of_ble_eq_true rfl) dX4_sip_45 ?_
        exact qg_iret hΓ hK hf dX4_sip_48
      · have hf := ifP hf c8
        refine g_bipush hΓ (pc := 38) (v := -3) dX4_sip_38 (by decide) ?_
        refine g_goto hΓ (pc := 40) (tgt := 48) dX4_sip_40 (by decide) ?_
        exact qg_iret hΓ hK hf dX4_sip_48
  · have hf := ifP hf c3
    refine g_iconst hΓ (pc := 13) (v := -1) dX4_sip_13 (by decide) ?_
    exact qg_iret hΓ hK hf dX4_sip_14
def M_lay (m : MS) (a0 : Int32) : Option (Int32 × MS) :=
  (mSI m 23 (0 : Int32)).bind fun m1 =>
  (M_isGuest m1 a0).bind fun x2 =>
  if x2 = 0 then (
    some ((-1 : Int32), m1)
  ) else (
    (mR m1 16 a0).bind fun x4 =>
    if 0 ≤ x4 then (
      (M_layOne m1 a0).bind fun q6 =>
      some (q6.1, q6.2)
    ) else (
      some ((-3 : Int32), m1)
    )
  )
set_option maxHeartbeats 4000000 in
set_option maxRecDepth 100000 in
theorem metM_lay (l : Launch) {D : va_G} {dA : Nat → ClassId} {b : Nat} {ad : Nat → Nat} {P : Nat → Prop} {F : Nat → va_E} {m : MS} {m' : MS} {a0 : Int32} {r : Int32} (hf : M_lay m a0 = some (r, m')) : Met l yX4_lay (ws_ yX4_lay cX4_lay 2 (some .int)) (rm0_ 2 46) (mP D dA b ad P F [.ref (ad 46), .int a0] m) (mQ D dA b ad P F (some (.int r)) m') 0 0 (fun q => b ≤ q) := by
  refine qg_met (by decide) RX4 rfl (Nat.le_of_ble_eq_true rfl) (fun Γ hΓ hK => ?_)
  refine g_sub [0, 1] (lv' := [(0, .ref (ad 46)), (1, .int a0)]) rfl ?_
  refine g_aload_n hΓ (pc := 0) 0 (i := 0) dX4_lay_0 rfl rfl ?_
  refine g_iconst hΓ (pc := 1) (v := 0) dX4_lay_1 (by decide) ?_
  obtain ⟨m1, hm1, hf⟩ := bindE hf
  refine qg_put hΓ (pc := 2) hK rfl hm1 q1095 dX4_lay_2 ?_
  refine g_aload_n hΓ (pc := 5) 0 (i := 0) dX4_lay_5 rfl rfl ?_
  refine g_iload_n hΓ (pc := 6) 1 (i := 1) dX4_lay_6 rfl rfl ?_
  obtain ⟨x2, hx2, hf⟩ := bindE hf
  refine qg_callV hΓ (pc := 7) hK 1 (As := [.int a0]) (metM_isGuest _ hx2) (lw_V q1290 q1292 qs28 q57 q1293) (by decide +kernel) (by decide) rfl rfl (Nat.le_of_ble_eq_true rfl) dX4_lay_7 ?_
  refine g_if_ne hΓ (pc := 10) (tgt := 15) dX4_lay_10 (by decide) (fun c3 => ?_) (fun c3 => ?_)
  · have hf := ifN hf c3
    refine g_aload_n hΓ (pc := 15) 0 (i := 0) dX4_lay_15 rfl rfl ?_
    refine qg_geta hΓ (pc := 16) hK (k := 16) rfl q1088 dX4_lay_16 ?_
    refine g_iload_n hΓ (pc := 19) 1 (i := 1) dX4_lay_19 rfl rfl ?_
    obtain ⟨x4, hx4, hf⟩ := bindE hf
    refine qg_iald hΓ (pc := 20) hK rfl hx4 dX4_lay_20 rfl ?_
    refine g_if_ge hΓ (pc := 21) (tgt := 29) dX4_lay_21 (by decide) (fun c5 => ?_) (fun c5 => ?_)
    · have hf := ifP hf c5
      refine g_aload_n hΓ (pc := 29) 0 (i := 0) dX4_lay_29 rfl rfl ?_
      refine g_iload_n hΓ (pc := 30) 1 (i := 1) dX4_lay_30 rfl rfl ?_
      obtain ⟨q6, hq6, hf⟩ := bindE hf
      refine qg_callV hΓ (pc := 31) hK 1 (As := [.int a0]) (metM_layOne _ (r := q6.1) (m' := q6.2) hq6) (lw_V q1350 q1352 qs43 q57 q1353) (by decide +kernel) (by decide) rfl rfl (Nat.le_of_ble_eq_true rfl) dX4_lay_31 ?_
      exact qg_iret hΓ hK hf dX4_lay_34
    · have hf := ifN hf c5
      refine g_bipush hΓ (pc := 24) (v := -3) dX4_lay_24 (by decide) ?_
      refine g_goto hΓ (pc := 26) (tgt := 34) dX4_lay_26 (by decide) ?_
      exact qg_iret hΓ hK hf dX4_lay_34
  · have hf := ifP hf c3
    refine g_iconst hΓ (pc := 13) (v := -1) dX4_lay_13 (by decide) ?_
    exact qg_iret hΓ hK hf dX4_lay_14
def M_take (m : MS) (a0 : Int32) : Option (Int32 × MS) :=
  (mSI m 23 (0 : Int32)).bind fun m1 =>
  (M_isGuest m1 a0).bind fun x2 =>
  if x2 = 0 then (
    some ((-1 : Int32), m1)
  ) else (
    (mR m1 16 a0).bind fun x4 =>
    if x4 < 0 then (
      (M_takeOne m1 a0).bind fun q6 =>
      some (q6.1, q6.2)
    ) else (
      some ((-3 : Int32), m1)
    )
  )
set_option maxHeartbeats 4000000 in
set_option maxRecDepth 100000 in
theorem metM_take (l : Launch) {D : va_G} {dA : Nat → ClassId} {b : Nat} {ad : Nat → Nat} {P : Nat → Prop} {F : Nat → va_E} {m : MS} {m' : MS} {a0 : Int32} {r : Int32} (hf : M_take m a0 = some (r, m')) : Met l yX4_take (ws_ yX4_take cX4_take 2 (some .int)) (rm0_ 5 117) (mP D dA b ad P F [.ref (ad 46), .int a0] m) (mQ D dA b ad P F (some (.int r)) m') 0 0 (fun q => b ≤ q) := by
  refine qg_met (by decide) RX4 rfl (Nat.le_of_ble_eq_true rfl) (fun Γ hΓ hK => ?_)
  refine g_sub [0, 1] (lv' := [(0, .ref (ad 46)), (1, .int a0)]) rfl ?_
  refine g_aload_n hΓ (pc := 0) 0 (i := 0) dX4_take_0 rfl rfl ?_
  refine g_iconst hΓ (pc := 1) (v := 0) dX4_take_1 (by decide) ?_
  obtain ⟨m1, hm1, hf⟩ := bindE hf
  refine qg_put hΓ (pc := 2) hK rfl hm1 q1095 dX4_take_2 ?_
  refine g_aload_n hΓ (pc := 5) 0 (i := 0) dX4_take_5 rfl rfl ?_
  refine g_iload_n hΓ (pc := 6) 1 (i := 1) dX4_take_6 rfl rfl ?_
  obtain ⟨x2, hx2, hf⟩ := bindE hf
  refine qg_callV hΓ (pc := 7) hK 1 (As := [.int a0]) (metM_isGuest _ hx2) (lw_V q1290 q1292 qs28 q57 q1293) (by decide +kernel) (by decide) rfl rfl (Nat.le_of_ble_eq_true rfl) dX4_take_7 ?_
  refine g_if_ne hΓ (pc := 10) (tgt := 15) dX4_take_10 (by decide) (fun c3 => ?_) (fun c3 => ?_)
  · have hf := ifN hf c3
    refine g_aload_n hΓ (pc := 15) 0 (i := 0) dX4_take_15 rfl rfl ?_
    refine qg_geta hΓ (pc := 16) hK (k := 16) rfl q1088 dX4_take_16 ?_
    refine g_iload_n hΓ (pc := 19) 1 (i := 1) dX4_take_19 rfl rfl ?_
    obtain ⟨x4, hx4, hf⟩ := bindE hf
    refine qg_iald hΓ (pc := 20) hK rfl hx4 dX4_take_20 rfl ?_
    refine g_if_lt hΓ (pc := 21) (tgt := 29) dX4_take_21 (by decide) (fun c5 => ?_) (fun c5 => ?_)
    · have hf := ifP hf c5
      refine g_aload_n hΓ (pc := 29) 0 (i := 0) dX4_take_29 rfl rfl ?_
      refine g_iload_n hΓ (pc := 30) 1 (i := 1) dX4_take_30 rfl rfl ?_
      obtain ⟨q6, hq6, hf⟩ := bindE hf
      refine qg_callV hΓ (pc := 31) hK 1 (As := [.int a0]) (metM_takeOne _ (r := q6.1) (m' := q6.2) hq6) (lw_V q1314 q1316 qs34 q57 q1317) (by decide +kernel) (by decide) rfl rfl (Nat.le_of_ble_eq_true rfl) dX4_take_31 ?_
      exact qg_iret hΓ hK hf dX4_take_34
    · have hf := ifN hf c5
      refine g_bipush hΓ (pc := 24) (v := -3) dX4_take_24 (by decide) ?_
      refine g_goto hΓ (pc := 26) (tgt := 34) dX4_take_26 (by decide) ?_
      exact qg_iret hΓ hK hf dX4_take_34
  · have hf := ifP hf c3
    refine g_iconst hΓ (pc := 13) (v := -1) dX4_take_13 (by decide) ?_
    exact qg_iret hΓ hK hf dX4_take_14
def M_fill_74 (k18 : MS → Int32 → Int32 → Int32 → Option (Int32 × MS)) (m : MS) (y1 : Int32) (y2 : Int32) (y3 : Int32) (y4 : Int32) (z0 : Int32) (z1 : Int32) : Option (Int32 × MS) :=
  (mW m 6 z1 z0).bind fun m1 =>
  if y4 = 0 then (
    (some (y2 + (0 : Int32))).bind fun x3 =>
    (some (y3 + 1)).bind fun x4 =>
    k18 m1 y1 x3 x4
  ) else (
    (some (y2 + (1 : Int32))).bind fun x5 =>
    (some (y3 + 1)).bind fun x6 =>
    k18 m1 y1 x5 x6
  )
def M_fill_51 (k18 : MS → Int32 → Int32 → Int32 → Option (Int32 × MS)) (m : MS) (y1 : Int32) (y2 : Int32) (y3 : Int32) (z0 : Int32) : Option (Int32 × MS) :=
  if z0 = 0 then (
    (mR m 6 y3).bind fun x8 =>
    M_fill_74 k18 m y1 y2 y3 z0 x8 y3
  ) else (
    M_fill_74 k18 m y1 y2 y3 z0 (9 : Int32) y3
  )
def M_fill_18s (k18 : MS → Int32 → Int32 → Int32 → Option (Int32 × MS)) (m : MS) (y1 : Int32) (y2 : Int32) (y3 : Int32) : Option (Int32 × MS) :=
  if (m.1 0) ≤ y3 then (
    some (y2, m)
  ) else (
    (mR m 7 y3).bind fun x10 =>
    if x10 = y1 then (
      (mR m 6 y3).bind fun x12 =>
      if (5 : Int32) ≤ x12 then (
        M_fill_51 k18 m y1 y2 y3 (0 : Int32)
      ) else (
        M_fill_51 k18 m y1 y2 y3 (1 : Int32)
      )
    ) else (
      M_fill_51 k18 m y1 y2 y3 (0 : Int32)
    )
  )
def M_fill_18 : Nat → MS → Int32 → Int32 → Int32 → Option (Int32 × MS)
  | 0 => fun _ _ _ _ => none
  | n + 1 => M_fill_18s   (M_fill_18   n)
def M_fill (m : MS) (a0 : Int32) : Option (Int32 × MS) :=
  (mSI m 23 (0 : Int32)).bind fun m14 =>
  (M_isPlace a0).bind fun x15 =>
  if x15 = 0 then (
    some ((-1 : Int32), m14)
  ) else (
    M_fill_18 200 m14 a0 (0 : Int32) (0 : Int32)
  )
set_option maxHeartbeats 4000000 in
set_option maxRecDepth 100000 in
theorem metM_fill (l : Launch) {D : va_G} {dA : Nat → ClassId} {b : Nat} {ad : Nat → Nat} {P : Nat → Prop} {F : Nat → va_E} {m : MS} {m' : MS} {a0 : Int32} {r : Int32} (hf : M_fill m a0 = some (r, m')) : Met l yX4_fill (ws_ yX4_fill cX4_fill 5 (some .int)) (rm0_ 2 45) (mP D dA b ad P F [.ref (ad 46), .int a0] m) (mQ D dA b ad P F (some (.int r)) m') 0 0 (fun q => b ≤ q) := by
  refine qg_met (by decide) RX4 rfl (Nat.le_of_ble_eq_true rfl) (fun Γ hΓ hK => ?_)
  refine g_sub [0, 1] (lv' := [(0, .ref (ad 46)), (1, .int a0)]) rfl ?_
  have J74 : ∀ (k18 : MS → Int32 → Int32 → Int32 → Option (Int32 × MS)) (hk18 : ∀ (m : MS) (y1 : Int32) (y2 : Int32) (y3 : Int32), k18 m y1 y2 y3 = some (r, m') → WG Γ (MW D dA b ad P F m) 0 0 18 [(0, .ref (ad 46)), (1, .int y1), (2, .int y2), (3, .int y3)] []) (m : MS) (y1 : Int32) (y2 : Int32) (y3 : Int32) (y4 : Int32) (z0 : Int32) (z1 : Int32) (hf : M_fill_74  k18 m y1 y2 y3 y4 z0 z1 = some (r, m')), WG Γ (MW D dA b ad P F m) 0 0 74 [(0, .ref (ad 46)), (1, .int y1), (2, .int y2), (3, .int y3), (4, .int y4)] [.int z0, .int z1, .ref (ad 6)] := by
    intro k18 hk18 m y1 y2 y3 y4 z0 z1 hf
    obtain ⟨m1, hm1, hf⟩ := bindE hf
    refine qg_iast hΓ (pc := 74) hK rfl hm1 dX4_fill_74 rfl ?_
    refine g_iload_n hΓ (pc := 75) 2 (i := 2) dX4_fill_75 rfl rfl ?_
    refine g_iload hΓ (pc := 76) 4 (i := 4) dX4_fill_76 rfl ?_
    refine g_if_eq hΓ (pc := 78) (tgt := 85) dX4_fill_78 (by decide) (fun c2 => ?_) (fun c2 => ?_)
    · have hf := ifP hf c2
      refine g_iconst hΓ (pc := 85) (v := 0) dX4_fill_85 (by decide) ?_
      refine g_iadd hΓ (pc := 86) dX4_fill_86 ?_
      obtain ⟨x3, hx3, hf⟩ := bindE hf
      refine g_topi hx3 ?_
      refine g_istore_n hΓ (pc := 87) (i := 2) (lv' := [(2, .int x3), (0, .ref (ad 46)), (1, .int y1), (3, .int y3), (4, .int y4)]) dX4_fill_87 rfl (by decide) rfl ?_
      obtain ⟨x4, hx4, hf⟩ := bindE hf
      refine g_iinc hΓ (pc := 88) 3 (i := 3) (v := x4) (lv' := [(3, .int x4), (2, .int x3), (0, .ref (ad 46)), (1, .int y1), (4, .int y4)]) dX4_fill_88 rfl (Option.some.inj hx4) (by decide) rfl ?_
      refine g_goto hΓ (pc := 91) (tgt := 18) dX4_fill_91 (by decide) ?_
      exact g_sub [2, 3, 1, 0] rfl (hk18 _ _ _ _ hf)
    · have hf := ifN hf c2
      refine g_iconst hΓ (pc := 81) (v := 1) dX4_fill_81 (by decide) ?_
      refine g_goto hΓ (pc := 82) (tgt := 86) dX4_fill_82 (by decide) ?_
      refine g_iadd hΓ (pc := 86) dX4_fill_86 ?_
      obtain ⟨x5, hx5, hf⟩ := bindE hf
      refine g_topi hx5 ?_
      refine g_istore_n hΓ (pc := 87) (i := 2) (lv' := [(2, .int x5), (0, .ref (ad 46)), (1, .int y1), (3, .int y3), (4, .int y4)]) dX4_fill_87 rfl (by decide) rfl ?_
      obtain ⟨x6, hx6, hf⟩ := bindE hf
      refine g_iinc hΓ (pc := 88) 3 (i := 3) (v := x6) (lv' := [(3, .int x6), (2, .int x5), (0, .ref (ad 46)), (1, .int y1), (4, .int y4)]) dX4_fill_88 rfl (Option.some.inj hx6) (by decide) rfl ?_
      refine g_goto hΓ (pc := 91) (tgt := 18) dX4_fill_91 (by decide) ?_
      exact g_sub [2, 3, 1, 0] rfl (hk18 _ _ _ _ hf)
  have J51 : ∀ (k18 : MS → Int32 → Int32 → Int32 → Option (Int32 × MS)) (hk18 : ∀ (m : MS) (y1 : Int32) (y2 : Int32) (y3 : Int32), k18 m y1 y2 y3 = some (r, m') → WG Γ (MW D dA b ad P F m) 0 0 18 [(0, .ref (ad 46)), (1, .int y1), (2, .int y2), (3, .int y3)] []) (m : MS) (y1 : Int32) (y2 : Int32) (y3 : Int32) (z0 : Int32) (hf : M_fill_51  k18 m y1 y2 y3 z0 = some (r, m')), WG Γ (MW D dA b ad P F m) 0 0 51 [(0, .ref (ad 46)), (1, .int y1), (2, .int y2), (3, .int y3)] [.int z0] := by
    intro k18 hk18 m y1 y2 y3 z0 hf
    refine g_istore hΓ (pc := 51) (i := 4) (lv' := [(4, .int z0), (0, .ref (ad 46)), (1, .int y1), (2, .int y2), (3, .int y3)]) dX4_fill_51 (by decide) rfl ?_
    refine g_aload_n hΓ (pc := 53) 1 (i := 0) dX4_fill_53 rfl rfl ?_
    refine qg_geta hΓ (pc := 54) hK (k := 6) rfl q1078 dX4_fill_54 ?_
    refine g_iload_n hΓ (pc := 57) 4 (i := 3) dX4_fill_57 rfl rfl ?_
    refine g_iload hΓ (pc := 58) 0 (i := 4) dX4_fill_58 rfl ?_
    refine g_if_eq hΓ (pc := 60) (tgt := 68) dX4_fill_60 (by decide) (fun c7 => ?_) (fun c7 => ?_)
    · have hf := ifP hf c7
      refine g_aload_n hΓ (pc := 68) 1 (i := 0) dX4_fill_68 rfl rfl ?_
      refine qg_geta hΓ (pc := 69) hK (k := 6) rfl q1078 dX4_fill_69 ?_
      refine g_iload_n hΓ (pc := 72) 4 (i := 3) dX4_fill_72 rfl rfl ?_
      obtain ⟨x8, hx8, hf⟩ := bindE hf
      refine qg_iald hΓ (pc := 73) hK rfl hx8 dX4_fill_73 rfl ?_
      exact g_sub [1, 2, 3, 4, 0] rfl (J74 k18 hk18 _ _ _ _ _ _ _ hf)
    · have hf := ifN hf c7
      refine g_bipush hΓ (pc := 63) (v := 9) dX4_fill_63 (by decide) ?_
      refine g_goto hΓ (pc := 65) (tgt := 74) dX4_fill_65 (by decide) ?_
      exact g_sub [1, 2, 3, 4, 0] rfl (J74 k18 hk18 _ _ _ _ _ _ _ hf)
  have S18 : ∀ (k18 : MS → Int32 → Int32 → Int32 → Option (Int32 × MS)) (hk18 : ∀ (m : MS) (y1 : Int32) (y2 : Int32) (y3 : Int32), k18 m y1 y2 y3 = some (r, m') → WG Γ (MW D dA b ad P F m) 0 0 18 [(0, .ref (ad 46)), (1, .int y1), (2, .int y2), (3, .int y3)] []) (m : MS) (y1 : Int32) (y2 : Int32) (y3 : Int32) (hf : M_fill_18s  k18 m y1 y2 y3 = some (r, m')), WG Γ (MW D dA b ad P F m) 0 0 18 [(0, .ref (ad 46)), (1, .int y1), (2, .int y2), (3, .int y3)] [] := by
    intro k18 hk18 m y1 y2 y3 hf
    refine g_iload_n hΓ (pc := 18) 3 (i := 3) dX4_fill_18 rfl rfl ?_
    refine g_aload_n hΓ (pc := 19) 0 (i := 0) dX4_fill_19 rfl rfl ?_
    refine qg_get hΓ (pc := 20) hK (k := 0) rfl q1072 dX4_fill_20 ?_
    refine g_icmp_ge hΓ (pc := 23) (tgt := 94) dX4_fill_23 (by decide) (fun c9 => ?_) (fun c9 => ?_)
    · have hf := ifP hf c9
      refine g_iload_n hΓ (pc := 94) 2 (i := 2) dX4_fill_94 rfl rfl ?_
      exact qg_iret hΓ hK hf dX4_fill_95
    · have hf := ifN hf c9
      refine g_aload_n hΓ (pc := 26) 0 (i := 0) dX4_fill_26 rfl rfl ?_
      refine qg_geta hΓ (pc := 27) hK (k := 7) rfl q1079 dX4_fill_27 ?_
      refine g_iload_n hΓ (pc := 30) 3 (i := 3) dX4_fill_30 rfl rfl ?_
      obtain ⟨x10, hx10, hf⟩ := bindE hf
      refine qg_iald hΓ (pc := 31) hK rfl hx10 dX4_fill_31 rfl ?_
      refine g_iload_n hΓ (pc := 32) 1 (i := 1) dX4_fill_32 rfl rfl ?_
      refine g_icmp_ne hΓ (pc := 33) (tgt := 50) dX4_fill_33 (by decide) (fun c11 => ?_) (fun c11 => ?_)
      · have hf := ifN hf c11
        refine g_iconst hΓ (pc := 50) (v := 0) dX4_fill_50 (by decide) ?_
        exact g_sub [0, 1, 2, 3] rfl (J51 k18 hk18 _ _ _ _ _ hf)
      · have hf := ifP hf c11
        refine g_aload_n hΓ (pc := 36) 0 (i := 0) dX4_fill_36 rfl rfl ?_
        refine qg_geta hΓ (pc := 37) hK (k := 6) rfl q1078 dX4_fill_37 ?_
        refine g_iload_n hΓ (pc := 40) 3 (i := 3) dX4_fill_40 rfl rfl ?_
        obtain ⟨x12, hx12, hf⟩ := bindE hf
        refine qg_iald hΓ (pc := 41) hK rfl hx12 dX4_fill_41 rfl ?_
        refine g_iconst hΓ (pc := 42) (v := 5) dX4_fill_42 (by decide) ?_
        refine g_icmp_ge hΓ (pc := 43) (tgt := 50) dX4_fill_43 (by decide) (fun c13 => ?_) (fun c13 => ?_)
        · have hf := ifP hf c13
          refine g_iconst hΓ (pc := 50) (v := 0) dX4_fill_50 (by decide) ?_
          exact g_sub [0, 1, 2, 3] rfl (J51 k18 hk18 _ _ _ _ _ hf)
        · have hf := ifN hf c13
          refine g_iconst hΓ (pc := 46) (v := 1) dX4_fill_46 (by decide) ?_
          refine g_goto hΓ (pc := 47) (tgt := 51) dX4_fill_47 (by decide) ?_
          exact g_sub [0, 1, 2, 3] rfl (J51 k18 hk18 _ _ _ _ _ hf)
  have L18 : ∀ (n : Nat) (m : MS) (y1 : Int32) (y2 : Int32) (y3 : Int32) (hf : M_fill_18   n m y1 y2 y3 = some (r, m')), WG Γ (MW D dA b ad P F m) 0 0 18 [(0, .ref (ad 46)), (1, .int y1), (2, .int y2), (3, .int y3)] [] := by
    intro  n
    induction n with
    | zero => intro m y1 y2 y3 hf; exact nomatch (show (none : Option (Int32 × MS)) = some _ from hf)
    | succ n ih => exact S18  _ ih
  refine g_aload_n hΓ (pc := 0) 0 (i := 0) dX4_fill_0 rfl rfl ?_
  refine g_iconst hΓ (pc := 1) (v := 0) dX4_fill_1 (by decide) ?_
  obtain ⟨m14, hm14, hf⟩ := bindE hf
  refine qg_put hΓ (pc := 2) hK rfl hm14 q1095 dX4_fill_2 ?_
  refine g_iload_n hΓ (pc := 5) 1 (i := 1) dX4_fill_5 rfl rfl ?_
  obtain ⟨x15, hx15, hf⟩ := bindE hf
  refine qg_callS hΓ (pc := 6) 1 (As := [.int a0]) (metM_isPlace _ hx15) (lw_S q1372 q1373 q57 q1374) (by decide +kernel) (by decide) rfl rfl (Nat.le_of_ble_eq_true rfl) dX4_fill_6 ?_
  refine g_if_ne hΓ (pc := 9) (tgt := 14) dX4_fill_9 (by decide) (fun c16 => ?_) (fun c16 => ?_)
  · have hf := ifN hf c16
    refine g_iconst hΓ (pc := 14) (v := 0) dX4_fill_14 (by decide) ?_
    refine g_istore_n hΓ (pc := 15) (i := 2) (lv' := [(2, .int (0 : Int32)), (0, .ref (ad 46)), (1, .int a0)]) dX4_fill_15 rfl (by decide) rfl ?_
    refine g_iconst hΓ (pc := 16) (v := 0) dX4_fill_16 (by decide) ?_
    refine g_istore_n hΓ (pc := 17) (i := 3) (lv' := [(3, .int (0 : Int32)), (2, .int (0 : Int32)), (0, .ref (ad 46)), (1, .int a0)]) dX4_fill_17 rfl (by decide) rfl ?_
    exact g_sub [2, 3, 1, 0] rfl (L18  200 _ _ _ _ hf)
  · have hf := ifP hf c16
    refine g_iconst hΓ (pc := 12) (v := -1) dX4_fill_12 (by decide) ?_
    exact qg_iret hΓ hK hf dX4_fill_13
def M_sink (m : MS) (a0 : Int32) : Option (MS) :=
  (mW m 7 a0 (20 : Int32)).bind fun m1 =>
  (mW m1 8 a0 (-4 : Int32)).bind fun m2 =>
  (mW m2 9 a0 (0 : Int32)).bind fun m3 =>
  (mW m3 10 a0 (0 : Int32)).bind fun m4 =>
  (mW m4 6 a0 (0 : Int32)).bind fun m5 =>
  some m5
set_option maxHeartbeats 4000000 in
set_option maxRecDepth 100000 in
theorem metM_sink (l : Launch) {D : va_G} {dA : Nat → ClassId} {b : Nat} {ad : Nat → Nat} {P : Nat → Prop} {F : Nat → va_E} {m : MS} {m' : MS} {a0 : Int32} (hf : M_sink m a0 = some m') : Met l yX4_sink (ws_ yX4_sink cX4_sink 2 none) (rm0_ 0 0) (mP D dA b ad P F [.ref (ad 46), .int a0] m) (mQ D dA b ad P F none m') 0 0 (fun q => b ≤ q) := by
  refine qg_met (by decide) RX4 rfl (Nat.le_of_ble_eq_true rfl) (fun Γ hΓ hK => ?_)
  refine g_sub [0, 1] (lv' := [(0, .ref (ad 46)), (1, .int a0)]) rfl ?_
  refine g_aload_n hΓ (pc := 0) 0 (i := 0) dX4_sink_0 rfl rfl ?_
  refine qg_geta hΓ (pc := 1) hK (k := 7) rfl q1079 dX4_sink_1 ?_
  refine g_iload_n hΓ (pc := 4) 1 (i := 1) dX4_sink_4 rfl rfl ?_
  refine g_bipush hΓ (pc := 5) (v := 20) dX4_sink_5 (by decide) ?_
  obtain ⟨m1, hm1, hf⟩ := bindE hf
  refine qg_iast hΓ (pc := 7) hK rfl hm1 dX4_sink_7 rfl ?_
  refine g_aload_n hΓ (pc := 8) 0 (i := 0) dX4_sink_8 rfl rfl ?_
  refine qg_geta hΓ (pc := 9) hK (k := 8) rfl q1080 dX4_sink_9 ?_
  refine g_iload_n hΓ (pc := 12) 1 (i := 1) dX4_sink_12 rfl rfl ?_
  refine g_bipush hΓ (pc := 13) (v := -4) dX4_sink_13 (by decide) ?_
  obtain ⟨m2, hm2, hf⟩ := bindE hf
  refine qg_iast hΓ (pc := 15) hK rfl hm2 dX4_sink_15 rfl ?_
  refine g_aload_n hΓ (pc := 16) 0 (i := 0) dX4_sink_16 rfl rfl ?_
  refine qg_geta hΓ (pc := 17) hK (k := 9) rfl q1081 dX4_sink_17 ?_
  refine g_iload_n hΓ (pc := 20) 1 (i := 1) dX4_sink_20 rfl rfl ?_
  refine g_iconst hΓ (pc := 21) (v := 0) dX4_sink_21 (by decide) ?_
  obtain ⟨m3, hm3, hf⟩ := bindE hf
  refine qg_iast hΓ (pc := 22) hK rfl hm3 dX4_sink_22 rfl ?_
  refine g_aload_n hΓ (pc := 23) 0 (i := 0) dX4_sink_23 rfl rfl ?_
  refine qg_geta hΓ (pc := 24) hK (k := 10) rfl q1082 dX4_sink_24 ?_
  refine g_iload_n hΓ (pc := 27) 1 (i := 1) dX4_sink_27 rfl rfl ?_
  refine g_iconst hΓ (pc := 28) (v := 0) dX4_sink_28 (by decide) ?_
  obtain ⟨m4, hm4, hf⟩ := bindE hf
  refine qg_iast hΓ (pc := 29) hK rfl hm4 dX4_sink_29 rfl ?_
  refine g_aload_n hΓ (pc := 30) 0 (i := 0) dX4_sink_30 rfl rfl ?_
  refine qg_geta hΓ (pc := 31) hK (k := 6) rfl q1078 dX4_sink_31 ?_
  refine g_iload_n hΓ (pc := 34) 1 (i := 1) dX4_sink_34 rfl rfl ?_
  refine g_iconst hΓ (pc := 35) (v := 0) dX4_sink_35 (by decide) ?_
  obtain ⟨m5, hm5, hf⟩ := bindE hf
  refine qg_iast hΓ (pc := 36) hK rfl hm5 dX4_sink_36 rfl ?_
  exact qg_vret hΓ hK hf dX4_sink_37
def M_clear_31s (k31 : MS → Int32 → Int32 → Int32 → Int32 → Option (Int32 × MS)) (m : MS) (y1 : Int32) (y2 : Int32) (y3 : Int32) (y4 : Int32) : Option (Int32 × MS) :=
  if (m.1 0) ≤ y4 then (
    some (y3, m)
  ) else (
    (mR m 7 y4).bind fun x2 =>
    if x2 = y1 then (
      (mR m 8 y4).bind fun x5 =>
      if ((m.1 3) - x5) < y2 then (
        (some (y4 + 1)).bind fun x7 =>
        k31 m y1 y2 y3 x7
      ) else (
        (M_sink m y4).bind fun m8 =>
        (some (y3 + 1)).bind fun x9 =>
        (some (y4 + 1)).bind fun x10 =>
        k31 m8 y1 y2 x9 x10
      )
    ) else (
      (some (y4 + 1)).bind fun x4 =>
      k31 m y1 y2 y3 x4
    )
  )
def M_clear_31 : Nat → MS → Int32 → Int32 → Int32 → Int32 → Option (Int32 × MS)
  | 0 => fun _ _ _ _ _ => none
  | n + 1 => M_clear_31s   (M_clear_31   n)
def M_clear (m : MS) (a0 : Int32) (a1 : Int32) : Option (Int32 × MS) :=
  (mSI m 23 (0 : Int32)).bind fun m11 =>
  (M_isPlace a0).bind fun x12 =>
  if x12 = 0 then (
    some ((-1 : Int32), m11)
  ) else (
    (M_in a1.toInt64 (0 : Int64) (99 : Int64)).bind fun x14 =>
    if x14 = 0 then (
      some ((-1 : Int32), m11)
    ) else (
      M_clear_31 200 m11 a0 a1 (0 : Int32) (0 : Int32)
    )
  )
set_option maxHeartbeats 4000000 in
set_option maxRecDepth 100000 in
theorem metM_clear (l : Launch) {D : va_G} {dA : Nat → ClassId} {b : Nat} {ad : Nat → Nat} {P : Nat → Prop} {F : Nat → va_E} {m : MS} {m' : MS} {a0 : Int32} {a1 : Int32} {r : Int32} (hf : M_clear m a0 a1 = some (r, m')) : Met l yX4_clear (ws_ yX4_clear cX4_clear 5 (some .int)) (rm0_ 2 45) (mP D dA b ad P F [.ref (ad 46), .int a0, .int a1] m) (mQ D dA b ad P F (some (.int r)) m') 0 0 (fun q => b ≤ q) := by
  refine qg_met (by decide) RX4 rfl (Nat.le_of_ble_eq_true rfl) (fun Γ hΓ hK => ?_)
  refine g_sub [0, 1, 2] (lv' := [(0, .ref (ad 46)), (1, .int a0), (2, .int a1)]) rfl ?_
  have S31 : ∀ (k31 : MS → Int32 → Int32 → Int32 → Int32 → Option (Int32 × MS)) (hk31 : ∀ (m : MS) (y1 : Int32) (y2 : Int32) (y3 : Int32) (y4 : Int32), k31 m y1 y2 y3 y4 = some (r, m') → WG Γ (MW D dA b ad P F m) 0 0 31 [(0, .ref (ad 46)), (1, .int y1), (2, .int y2), (3, .int y3), (4, .int y4)] []) (m : MS) (y1 : Int32) (y2 : Int32) (y3 : Int32) (y4 : Int32) (hf : M_clear_31s  k31 m y1 y2 y3 y4 = some (r, m')), WG Γ (MW D dA b ad P F m) 0 0 31 [(0, .ref (ad 46)), (1, .int y1), (2, .int y2), (3, .int y3), (4, .int y4)] [] := by
    intro k31 hk31 m y1 y2 y3 y4 hf
    refine g_iload hΓ (pc := 31) 4 (i := 4) dX4_clear_31 rfl ?_
    refine g_aload_n hΓ (pc := 33) 0 (i := 0) dX4_clear_33 rfl rfl ?_
    refine qg_get hΓ (pc := 34) hK (k := 0) rfl q1072 dX4_clear_34 ?_
    refine g_icmp_ge hΓ (pc := 37) (tgt := 82) dX4_clear_37 (by decide) (fun c1 => ?_) (fun c1 => ?_)
    · have hf := ifP hf c1
      refine g_iload_n hΓ (pc := 82) 3 (i := 3) dX4_clear_82 rfl rfl ?_
      exact qg_iret hΓ hK hf dX4_clear_83
    · have hf := ifN hf c1
      refine g_aload_n hΓ (pc := 40) 0 (i := 0) dX4_clear_40 rfl rfl ?_
      refine qg_geta hΓ (pc := 41) hK (k := 7) rfl q1079 dX4_clear_41 ?_
      refine g_iload hΓ (pc := 44) 4 (i := 4) dX4_clear_44 rfl ?_
      obtain ⟨x2, hx2, hf⟩ := bindE hf
      refine qg_iald hΓ (pc := 46) hK rfl hx2 dX4_clear_46 rfl ?_
      refine g_iload_n hΓ (pc := 47) 1 (i := 1) dX4_clear_47 rfl rfl ?_
      refine g_icmp_ne hΓ (pc := 48) (tgt := 76) dX4_clear_48 (by decide) (fun c3 => ?_) (fun c3 => ?_)
      · have hf := ifN hf c3
        obtain ⟨x4, hx4, hf⟩ := bindE hf
        refine g_iinc hΓ (pc := 76) 4 (i := 4) (v := x4) (lv' := [(4, .int x4), (0, .ref (ad 46)), (1, .int y1), (2, .int y2), (3, .int y3)]) dX4_clear_76 rfl (Option.some.inj hx4) (by decide) rfl ?_
        refine g_goto hΓ (pc := 79) (tgt := 31) dX4_clear_79 (by decide) ?_
        exact g_sub [1, 2, 3, 4, 0] rfl (hk31 _ _ _ _ _ hf)
      · have hf := ifP hf c3
        refine g_aload_n hΓ (pc := 51) 0 (i := 0) dX4_clear_51 rfl rfl ?_
        refine qg_get hΓ (pc := 52) hK (k := 3) rfl q1075 dX4_clear_52 ?_
        refine g_aload_n hΓ (pc := 55) 0 (i := 0) dX4_clear_55 rfl rfl ?_
        refine qg_geta hΓ (pc := 56) hK (k := 8) rfl q1080 dX4_clear_56 ?_
        refine g_iload hΓ (pc := 59) 4 (i := 4) dX4_clear_59 rfl ?_
        obtain ⟨x5, hx5, hf⟩ := bindE hf
        refine qg_iald hΓ (pc := 61) hK rfl hx5 dX4_clear_61 rfl ?_
        refine g_isub hΓ (pc := 62) dX4_clear_62 ?_
        refine g_iload_n hΓ (pc := 63) 2 (i := 2) dX4_clear_63 rfl rfl ?_
        refine g_icmp_lt hΓ (pc := 64) (tgt := 76) dX4_clear_64 (by decide) (fun c6 => ?_) (fun c6 => ?_)
        · have hf := ifP hf c6
          obtain ⟨x7, hx7, hf⟩ := bindE hf
          refine g_iinc hΓ (pc := 76) 4 (i := 4) (v := x7) (lv' := [(4, .int x7), (0, .ref (ad 46)), (1, .int y1), (2, .int y2), (3, .int y3)]) dX4_clear_76 rfl (Option.some.inj hx7) (by decide) rfl ?_
          refine g_goto hΓ (pc := 79) (tgt := 31) dX4_clear_79 (by decide) ?_
          exact g_sub [1, 2, 3, 4, 0] rfl (hk31 _ _ _ _ _ hf)
        · have hf := ifN hf c6
          refine g_aload_n hΓ (pc := 67) 0 (i := 0) dX4_clear_67 rfl rfl ?_
          refine g_iload hΓ (pc := 68) 4 (i := 4) dX4_clear_68 rfl ?_
          obtain ⟨m8, hm8, hf⟩ := bindE hf
          refine qg_callV hΓ (pc := 70) hK 1 (As := [.int y4]) (metM_sink _ hm8) (lw_V q1405 q1407 qs46 q57 q1408) (by decide +kernel) (by decide) rfl rfl (Nat.le_of_ble_eq_true rfl) dX4_clear_70 ?_
          obtain ⟨x9, hx9, hf⟩ := bindE hf
          refine g_iinc hΓ (pc := 73) 3 (i := 3) (v := x9) (lv' := [(3, .int x9), (0, .ref (ad 46)), (1, .int y1), (2, .int y2), (4, .int y4)]) dX4_clear_73 rfl (Option.some.inj hx9) (by decide) rfl ?_
          obtain ⟨x10, hx10, hf⟩ := bindE hf
          refine g_iinc hΓ (pc := 76) 4 (i := 4) (v := x10) (lv' := [(4, .int x10), (3, .int x9), (0, .ref (ad 46)), (1, .int y1), (2, .int y2)]) dX4_clear_76 rfl (Option.some.inj hx10) (by decide) rfl ?_
          refine g_goto hΓ (pc := 79) (tgt := 31) dX4_clear_79 (by decide) ?_
          exact g_sub [2, 3, 4, 1, 0] rfl (hk31 _ _ _ _ _ hf)
  have L31 : ∀ (n : Nat) (m : MS) (y1 : Int32) (y2 : Int32) (y3 : Int32) (y4 : Int32) (hf : M_clear_31   n m y1 y2 y3 y4 = some (r, m')), WG Γ (MW D dA b ad P F m) 0 0 31 [(0, .ref (ad 46)), (1, .int y1), (2, .int y2), (3, .int y3), (4, .int y4)] [] := by
    intro  n
    induction n with
    | zero => intro m y1 y2 y3 y4 hf; exact nomatch (show (none : Option (Int32 × MS)) = some _ from hf)
    | succ n ih => exact S31  _ ih
  refine g_aload_n hΓ (pc := 0) 0 (i := 0) dX4_clear_0 rfl rfl ?_
  refine g_iconst hΓ (pc := 1) (v := 0) dX4_clear_1 (by decide) ?_
  obtain ⟨m11, hm11, hf⟩ := bindE hf
  refine qg_put hΓ (pc := 2) hK rfl hm11 q1095 dX4_clear_2 ?_
  refine g_iload_n hΓ (pc := 5) 1 (i := 1) dX4_clear_5 rfl rfl ?_
  obtain ⟨x12, hx12, hf⟩ := bindE hf
  refine qg_callS hΓ (pc := 6) 1 (As := [.int a0]) (metM_isPlace _ hx12) (lw_S q1372 q1373 q57 q1374) (by decide +kernel) (by decide) rfl rfl (Nat.le_of_ble_eq_true rfl) dX4_clear_6 ?_
  refine g_if_eq hΓ (pc := 9) (tgt := 24) dX4_clear_9 (by decide) (fun c13 => ?_) (fun c13 => ?_)
  · have hf := ifP hf c13
    refine g_iconst hΓ (pc := 24) (v := -1) dX4_clear_24 (by decide) ?_
    exact qg_iret hΓ hK hf dX4_clear_25
  · have hf := ifN hf c13
    refine g_iload_n hΓ (pc := 12) 2 (i := 2) dX4_clear_12 rfl rfl ?_
    refine g_i2l hΓ (pc := 13) dX4_clear_13 ?_
    refine g_lconst hΓ (pc := 14) (v := 0) dX4_clear_14 (by decide) ?_
    refine g_ldc2 hΓ (pc := 15) q1404 dX4_clear_15 ?_
    obtain ⟨x14, hx14, hf⟩ := bindE hf
    refine qg_callS hΓ (pc := 18) 3 (As := [.long a1.toInt64, .long (0 : Int64), .long (99 : Int64)]) (metM_in _ hx14) (lw_S q1245 q1246 q57 q1247) (by decide +kernel) (by decide) rfl rfl (Nat.le_of_ble_eq_true rfl) dX4_clear_18 ?_
    refine g_if_ne hΓ (pc := 21) (tgt := 26) dX4_clear_21 (by decide) (fun c15 => ?_) (fun c15 => ?_)
    · have hf := ifN hf c15
      refine g_iconst hΓ (pc := 26) (v := 0) dX4_clear_26 (by decide) ?_
      refine g_istore_n hΓ (pc := 27) (i := 3) (lv' := [(3, .int (0 : Int32)), (0, .ref (ad 46)), (1, .int a0), (2, .int a1)]) dX4_clear_27 rfl (by decide) rfl ?_
      refine g_iconst hΓ (pc := 28) (v := 0) dX4_clear_28 (by decide) ?_
      refine g_istore hΓ (pc := 29) (i := 4) (lv' := [(4, .int (0 : Int32)), (3, .int (0 : Int32)), (0, .ref (ad 46)), (1, .int a0), (2, .int a1)]) dX4_clear_29 (by decide) rfl ?_
      exact g_sub [2, 3, 4, 1, 0] rfl (L31  200 _ _ _ _ _ hf)
    · have hf := ifP hf c15
      refine g_iconst hΓ (pc := 24) (v := -1) dX4_clear_24 (by decide) ?_
      exact qg_iret hΓ hK hf dX4_clear_25
def M_goThrough_12s (k12 : MS → Int32 → Int32 → Option (MS)) (m : MS) (y1 : Int32) (y2 : Int32) : Option (MS) :=
  if y1 ≤ y2 then (
    some m
  ) else (
    (M_minuteOn m).bind fun m2 =>
    (some (y2 + 1)).bind fun x3 =>
    k12 m2 y1 x3
  )
def M_goThrough_12 : Nat → MS → Int32 → Int32 → Option (MS)
  | 0 => fun _ _ _ => none
  | n + 1 => M_goThrough_12s   (M_goThrough_12   n)
def M_goThrough (m : MS) (a0 : Int32) : Option (MS) :=
  (mSI m 20 (0 : Int32)).bind fun m4 =>
  (mSI m4 21 (0 : Int32)).bind fun m5 =>
  M_goThrough_12 200 m5 a0 (0 : Int32)
set_option maxHeartbeats 4000000 in
set_option maxRecDepth 100000 in
theorem metM_goThrough (l : Launch) {D : va_G} {dA : Nat → ClassId} {b : Nat} {ad : Nat → Nat} {P : Nat → Prop} {F : Nat → va_E} {m : MS} {m' : MS} {a0 : Int32} (hf : M_goThrough m a0 = some m') : Met l yX4_goThrough (ws_ yX4_goThrough cX4_goThrough 3 none) (rm0_ 7 159) (mP D dA b ad P F [.ref (ad 46), .int a0] m) (mQ D dA b ad P F none m') 0 0 (fun q => b ≤ q) := by
  refine qg_met (by decide) RX4 rfl (Nat.le_of_ble_eq_true rfl) (fun Γ hΓ hK => ?_)
  refine g_sub [0, 1] (lv' := [(0, .ref (ad 46)), (1, .int a0)]) rfl ?_
  have S12 : ∀ (k12 : MS → Int32 → Int32 → Option (MS)) (hk12 : ∀ (m : MS) (y1 : Int32) (y2 : Int32), k12 m y1 y2 = some m' → WG Γ (MW D dA b ad P F m) 0 0 12 [(0, .ref (ad 46)), (1, .int y1), (2, .int y2)] []) (m : MS) (y1 : Int32) (y2 : Int32) (hf : M_goThrough_12s  k12 m y1 y2 = some m'), WG Γ (MW D dA b ad P F m) 0 0 12 [(0, .ref (ad 46)), (1, .int y1), (2, .int y2)] [] := by
    intro k12 hk12 m y1 y2 hf
    refine g_iload_n hΓ (pc := 12) 2 (i := 2) dX4_goThrough_12 rfl rfl ?_
    refine g_iload_n hΓ (pc := 13) 1 (i := 1) dX4_goThrough_13 rfl rfl ?_
    refine g_icmp_ge hΓ (pc := 14) (tgt := 27) dX4_goThrough_14 (by decide) (fun c1 => ?_) (fun c1 => ?_)
    · have hf := ifP hf c1
      exact qg_vret hΓ hK hf dX4_goThrough_27
    · have hf := ifN hf c1
      refine g_aload_n hΓ (pc := 17) 0 (i := 0) dX4_goThrough_17 rfl rfl ?_
      obtain ⟨m2, hm2, hf⟩ := bindE hf
      refine qg_callV hΓ (pc := 18) hK 0 (As := []) (metM_minuteOn _ hm2) (lw_V q1302 q1304 qs31 q57 q1305) (by decide +kernel) (by decide) rfl rfl (Nat.le_of_ble_eq_true rfl) dX4_goThrough_18 ?_
      obtain ⟨x3, hx3, hf⟩ := bindE hf
      refine g_iinc hΓ (pc := 21) 2 (i := 2) (v := x3) (lv' := [(2, .int x3), (0, .ref (ad 46)), (1, .int y1)]) dX4_goThrough_21 rfl (Option.some.inj hx3) (by decide) rfl ?_
      refine g_goto hΓ (pc := 24) (tgt := 12) dX4_goThrough_24 (by decide) ?_
      exact g_sub [1, 2, 0] rfl (hk12 _ _ _ hf)
  have L12 : ∀ (n : Nat) (m : MS) (y1 : Int32) (y2 : Int32) (hf : M_goThrough_12   n m y1 y2 = some m'), WG Γ (MW D dA b ad P F m) 0 0 12 [(0, .ref (ad 46)), (1, .int y1), (2, .int y2)] [] := by
    intro  n
    induction n with
    | zero => intro m y1 y2 hf; exact nomatch (show (none : Option (MS)) = some _ from hf)
    | succ n ih => exact S12  _ ih
  refine g_aload_n hΓ (pc := 0) 0 (i := 0) dX4_goThrough_0 rfl rfl ?_
  refine g_iconst hΓ (pc := 1) (v := 0) dX4_goThrough_1 (by decide) ?_
  obtain ⟨m4, hm4, hf⟩ := bindE hf
  refine qg_put hΓ (pc := 2) hK rfl hm4 q1092 dX4_goThrough_2 ?_
  refine g_aload_n hΓ (pc := 5) 0 (i := 0) dX4_goThrough_5 rfl rfl ?_
  refine g_iconst hΓ (pc := 6) (v := 0) dX4_goThrough_6 (by decide) ?_
  obtain ⟨m5, hm5, hf⟩ := bindE hf
  refine qg_put hΓ (pc := 7) hK rfl hm5 q1093 dX4_goThrough_7 ?_
  refine g_iconst hΓ (pc := 10) (v := 0) dX4_goThrough_10 (by decide) ?_
  refine g_istore_n hΓ (pc := 11) (i := 2) (lv' := [(2, .int (0 : Int32)), (0, .ref (ad 46)), (1, .int a0)]) dX4_goThrough_11 rfl (by decide) rfl ?_
  exact g_sub [1, 2, 0] rfl (L12  200 _ _ _ hf)
def M_minutes (m : MS) (a0 : Int32) : Option (Int32 × MS) :=
  (mSI m 23 (0 : Int32)).bind fun m1 =>
  (M_in a0.toInt64 (1 : Int64) (99 : Int64)).bind fun x2 =>
  if x2 = 0 then (
    some ((-1 : Int32), m1)
  ) else (
    if ((m1.1 3) + a0) ≤ (999 : Int32) then (
      (M_goThrough m1 a0).bind fun m5 =>
      some (m5.1 3, m5)
    ) else (
      some ((-2 : Int32), m1)
    )
  )
set_option maxHeartbeats 4000000 in
set_option maxRecDepth 100000 in
theorem metM_minutes (l : Launch) {D : va_G} {dA : Nat → ClassId} {b : Nat} {ad : Nat → Nat} {P : Nat → Prop} {F : Nat → va_E} {m : MS} {m' : MS} {a0 : Int32} {r : Int32} (hf : M_minutes m a0 = some (r, m')) : Met l yX4_minutes (ws_ yX4_minutes cX4_minutes 2 (some .int)) (rm0_ 8 181) (mP D dA b ad P F [.ref (ad 46), .int a0] m) (mQ D dA b ad P F (some (.int r)) m') 0 0 (fun q => b ≤ q) := by
  refine qg_met (by decide) RX4 rfl (Nat.le_of_ble_eq_true rfl) (fun Γ hΓ hK => ?_)
  refine g_sub [0, 1] (lv' := [(0, .ref (ad 46)), (1, .int a0)]) rfl ?_
  refine g_aload_n hΓ (pc := 0) 0 (i := 0) dX4_minutes_0 rfl rfl ?_
  refine g_iconst hΓ (pc := 1) (v := 0) dX4_minutes_1 (by decide) ?_
  obtain ⟨m1, hm1, hf⟩ := bindE hf
  refine qg_put hΓ (pc := 2) hK rfl hm1 q1095 dX4_minutes_2 ?_
  refine g_iload_n hΓ (pc := 5) 1 (i := 1) dX4_minutes_5 rfl rfl ?_
  refine g_i2l hΓ (pc := 6) dX4_minutes_6 ?_
  refine g_lconst hΓ (pc := 7) (v := 1) dX4_minutes_7 (by decide) ?_
  refine g_ldc2 hΓ (pc := 8) q1404 dX4_minutes_8 ?_
  obtain ⟨x2, hx2, hf⟩ := bindE hf
  refine qg_callS hΓ (pc := 11) 3 (As := [.long a0.toInt64, .long (1 : Int64), .long (99 : Int64)]) (metM_in _ hx2) (lw_S q1245 q1246 q57 q1247) (by decide +kernel) (by decide) rfl rfl (Nat.le_of_ble_eq_true rfl) dX4_minutes_11 ?_
  refine g_if_ne hΓ (pc := 14) (tgt := 19) dX4_minutes_14 (by decide) (fun c3 => ?_) (fun c3 => ?_)
  · have hf := ifN hf c3
    refine g_aload_n hΓ (pc := 19) 0 (i := 0) dX4_minutes_19 rfl rfl ?_
    refine qg_get hΓ (pc := 20) hK (k := 3) rfl q1075 dX4_minutes_20 ?_
    refine g_iload_n hΓ (pc := 23) 1 (i := 1) dX4_minutes_23 rfl rfl ?_
    refine g_iadd hΓ (pc := 24) dX4_minutes_24 ?_
    refine g_sipush hΓ (pc := 25) (v := 999) dX4_minutes_25 (by decide) ?_
    refine g_icmp_le hΓ (pc := 28) (tgt := 34) dX4_minutes_28 (by decide) (fun c4 => ?_) (fun c4 => ?_)
    · have hf := ifP hf c4
      refine g_aload_n hΓ (pc := 34) 0 (i := 0) dX4_minutes_34 rfl rfl ?_
      refine g_iload_n hΓ (pc := 35) 1 (i := 1) dX4_minutes_35 rfl rfl ?_
      obtain ⟨m5, hm5, hf⟩ := bindE hf
      refine qg_callV hΓ (pc := 36) hK 1 (As := [.int a0]) (metM_goThrough _ hm5) (lw_V q1413 q1415 qs47 q57 q1416) (by decide +kernel) (by decide) rfl rfl (Nat.le_of_ble_eq_true rfl) dX4_minutes_36 ?_
      refine g_aload_n hΓ (pc := 39) 0 (i := 0) dX4_minutes_39 rfl rfl ?_
      refine qg_get hΓ (pc := 40) hK (k := 3) rfl q1075 dX4_minutes_40 ?_
      exact qg_iret hΓ hK hf dX4_minutes_43
    · have hf := ifN hf c4
      refine g_bipush hΓ (pc := 31) (v := -2) dX4_minutes_31 (by decide) ?_
      exact qg_iret hΓ hK hf dX4_minutes_33
  · have hf := ifP hf c3
    refine g_iconst hΓ (pc := 17) (v := -1) dX4_minutes_17 (by decide) ?_
    exact qg_iret hΓ hK hf dX4_minutes_18

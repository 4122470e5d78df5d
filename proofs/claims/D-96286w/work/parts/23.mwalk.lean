set_option maxRecDepth 100000
def M_like (m : MS) (a0 : Int32) (a1 : Int32) : Option (Int32 × MS) :=
  (mSI m 23 (0 : Int32)).bind fun m1 =>
  (M_isGlass m1 a0).bind fun x2 =>
  if x2 = 0 then (
    some ((-1 : Int32), m1)
  ) else (
    (M_isGlass m1 a1).bind fun x4 =>
    if x4 = 0 then (
      some ((-1 : Int32), m1)
    ) else (
      (M_likeOf m1 a0 a1).bind fun x6 =>
      some (x6, m1)
    )
  )
set_option maxHeartbeats 4000000 in
set_option maxRecDepth 100000 in
theorem metM_like (l : Launch) {D : va_G} {dA : Nat → ClassId} {b : Nat} {ad : Nat → Nat} {P : Nat → Prop} {F : Nat → va_E} {m : MS} {m' : MS} {a0 : Int32} {a1 : Int32} {r : Int32} (hf : M_like m a0 a1 = some (r, m')) : Met l yX4_like (ws_ yX4_like cX4_like 3 (some .int)) (rm0_ 3 67) (mP D dA b ad P F [.ref (ad 46), .int a0, .int a1] m) (mQ D dA b ad P F (some (.int r)) m') 0 0 (fun q => b ≤ q) := by
  refine qg_met (by decide) RX4 rfl (Nat.le_of_ble_eq_true rfl) (fun Γ hΓ hK => ?_)
  refine g_sub [0, 1, 2] (lv' := [(0, .ref (ad 46)), (1, .int a0), (2, .int a1)]) rfl ?_
  refine g_aload_n hΓ (pc := 0) 0 (i := 0) dX4_like_0 rfl rfl ?_
  refine g_iconst hΓ (pc := 1) (v := 0) dX4_like_1 (by decide) ?_
  obtain ⟨m1, hm1, hf⟩ := bindE hf
  refine qg_put hΓ (pc := 2) hK rfl hm1 q1095 dX4_like_2 ?_
  refine g_aload_n hΓ (pc := 5) 0 (i := 0) dX4_like_5 rfl rfl ?_
  refine g_iload_n hΓ (pc := 6) 1 (i := 1) dX4_like_6 rfl rfl ?_
  obtain ⟨x2, hx2, hf⟩ := bindE hf
  refine qg_callV hΓ (pc := 7) hK 1 (As := [.int a0]) (metM_isGlass _ hx2) (lw_V q1294 q1296 qs29 q57 q1297) (by decide +kernel) (by decide) rfl rfl (Nat.le_of_ble_eq_true rfl) dX4_like_7 ?_
  refine g_if_eq hΓ (pc := 10) (tgt := 30) dX4_like_10 (by decide) (fun c3 => ?_) (fun c3 => ?_)
  · have hf := ifP hf c3
    refine g_iconst hΓ (pc := 30) (v := -1) dX4_like_30 (by decide) ?_
    exact qg_iret hΓ hK hf dX4_like_31
  · have hf := ifN hf c3
    refine g_aload_n hΓ (pc := 13) 0 (i := 0) dX4_like_13 rfl rfl ?_
    refine g_iload_n hΓ (pc := 14) 2 (i := 2) dX4_like_14 rfl rfl ?_
    obtain ⟨x4, hx4, hf⟩ := bindE hf
    refine qg_callV hΓ (pc := 15) hK 1 (As := [.int a1]) (metM_isGlass _ hx4) (lw_V q1294 q1296 qs29 q57 q1297) (by decide +kernel) (by decide) rfl rfl (Nat.le_of_ble_eq_true rfl) dX4_like_15 ?_
    refine g_if_eq hΓ (pc := 18) (tgt := 30) dX4_like_18 (by decide) (fun c5 => ?_) (fun c5 => ?_)
    · have hf := ifP hf c5
      refine g_iconst hΓ (pc := 30) (v := -1) dX4_like_30 (by decide) ?_
      exact qg_iret hΓ hK hf dX4_like_31
    · have hf := ifN hf c5
      refine g_aload_n hΓ (pc := 21) 0 (i := 0) dX4_like_21 rfl rfl ?_
      refine g_iload_n hΓ (pc := 22) 1 (i := 1) dX4_like_22 rfl rfl ?_
      refine g_iload_n hΓ (pc := 23) 2 (i := 2) dX4_like_23 rfl rfl ?_
      obtain ⟨x6, hx6, hf⟩ := bindE hf
      refine qg_callV hΓ (pc := 24) hK 2 (As := [.int a0, .int a1]) (metM_likeOf _ hx6) (lw_V q1322 q1324 qs36 q57 q1325) (by decide +kernel) (by decide) rfl rfl (Nat.le_of_ble_eq_true rfl) dX4_like_24 ?_
      refine g_goto hΓ (pc := 27) (tgt := 31) dX4_like_27 (by decide) ?_
      exact qg_iret hΓ hK hf dX4_like_31
def M_mine (m : MS) (a0 : Int32) : Option (Int32 × MS) :=
  (mSI m 23 (0 : Int32)).bind fun m1 =>
  (M_isGuest m1 a0).bind fun x2 =>
  if x2 = 0 then (
    some ((-1 : Int32), m1)
  ) else (
    (M_wouldTake m1 a0).bind fun x4 =>
    some (x4, m1)
  )
set_option maxHeartbeats 4000000 in
set_option maxRecDepth 100000 in
theorem metM_mine (l : Launch) {D : va_G} {dA : Nat → ClassId} {b : Nat} {ad : Nat → Nat} {P : Nat → Prop} {F : Nat → va_E} {m : MS} {m' : MS} {a0 : Int32} {r : Int32} (hf : M_mine m a0 = some (r, m')) : Met l yX4_mine (ws_ yX4_mine cX4_mine 2 (some .int)) (rm0_ 4 95) (mP D dA b ad P F [.ref (ad 46), .int a0] m) (mQ D dA b ad P F (some (.int r)) m') 0 0 (fun q => b ≤ q) := by
  refine qg_met (by decide) RX4 rfl (Nat.le_of_ble_eq_true rfl) (fun Γ hΓ hK => ?_)
  refine g_sub [0, 1] (lv' := [(0, .ref (ad 46)), (1, .int a0)]) rfl ?_
  refine g_aload_n hΓ (pc := 0) 0 (i := 0) dX4_mine_0 rfl rfl ?_
  refine g_iconst hΓ (pc := 1) (v := 0) dX4_mine_1 (by decide) ?_
  obtain ⟨m1, hm1, hf⟩ := bindE hf
  refine qg_put hΓ (pc := 2) hK rfl hm1 q1095 dX4_mine_2 ?_
  refine g_aload_n hΓ (pc := 5) 0 (i := 0) dX4_mine_5 rfl rfl ?_
  refine g_iload_n hΓ (pc := 6) 1 (i := 1) dX4_mine_6 rfl rfl ?_
  obtain ⟨x2, hx2, hf⟩ := bindE hf
  refine qg_callV hΓ (pc := 7) hK 1 (As := [.int a0]) (metM_isGuest _ hx2) (lw_V q1290 q1292 qs28 q57 q1293) (by decide +kernel) (by decide) rfl rfl (Nat.le_of_ble_eq_true rfl) dX4_mine_7 ?_
  refine g_if_eq hΓ (pc := 10) (tgt := 21) dX4_mine_10 (by decide) (fun c3 => ?_) (fun c3 => ?_)
  · have hf := ifP hf c3
    refine g_iconst hΓ (pc := 21) (v := -1) dX4_mine_21 (by decide) ?_
    exact qg_iret hΓ hK hf dX4_mine_22
  · have hf := ifN hf c3
    refine g_aload_n hΓ (pc := 13) 0 (i := 0) dX4_mine_13 rfl rfl ?_
    refine g_iload_n hΓ (pc := 14) 1 (i := 1) dX4_mine_14 rfl rfl ?_
    obtain ⟨x4, hx4, hf⟩ := bindE hf
    refine qg_callV hΓ (pc := 15) hK 1 (As := [.int a0]) (metM_wouldTake _ hx4) (lw_V q1318 q1320 qs35 q57 q1321) (by decide +kernel) (by decide) rfl rfl (Nat.le_of_ble_eq_true rfl) dX4_mine_15 ?_
    refine g_goto hΓ (pc := 18) (tgt := 22) dX4_mine_18 (by decide) ?_
    exact qg_iret hΓ hK hf dX4_mine_22
def M_divisor_4s (k4 : Int32 → Int32 → Option (Int32)) (y2 : Int32) (y3 : Int32) : Option (Int32) :=
  if y3 = 0 then (
    some y2
  ) else (
    if y3 = 0 then none else
    (some (y2 - y2 / y3 * y3)).bind fun x3 =>
    k4 y3 x3
  )
def M_divisor_4 : Nat → Int32 → Int32 → Option (Int32)
  | 0 => fun _ _ => none
  | n + 1 => M_divisor_4s   (M_divisor_4   n)
def M_divisor (a0 : Int32) (a1 : Int32) : Option (Int32) :=
  M_divisor_4 200 a0 a1
set_option maxHeartbeats 4000000 in
set_option maxRecDepth 100000 in
theorem metM_divisor (l : Launch) {a0 : Int32} {a1 : Int32} {r : Int32} (hf : M_divisor a0 a1 = some r) : Met l yX4_divisor (ws_ yX4_divisor cX4_divisor 5 (some .int)) (rm0_ 0 0) (sP [.int a0, .int a1]) (sQ (some (.int r))) 0 0 (fun _ => False) := by
  refine qs_met (by decide) RX4 rfl (Nat.le_of_ble_eq_true rfl) (fun Γ hΓ => ?_)
  refine g_sub [0, 1] (lv' := [(0, .int a0), (1, .int a1)]) rfl ?_
  have S4 : ∀ (k4 : Int32 → Int32 → Option (Int32)) (hk4 : ∀ (y2 : Int32) (y3 : Int32), k4 y2 y3 = some r → WG Γ (same Γ) 0 0 4 [(2, .int y2), (3, .int y3)] []) (y2 : Int32) (y3 : Int32) (hf : M_divisor_4s  k4 y2 y3 = some r), WG Γ (same Γ) 0 0 4 [(2, .int y2), (3, .int y3)] [] := by
    intro k4 hk4 y2 y3 hf
    refine g_iload_n hΓ (pc := 4) 1 (i := 3) dX4_divisor_4 rfl rfl ?_
    refine g_if_eq hΓ (pc := 5) (tgt := 21) dX4_divisor_5 (by decide) (fun c1 => ?_) (fun c1 => ?_)
    · have hf := ifP hf c1
      refine g_iload_n hΓ (pc := 21) 0 (i := 2) dX4_divisor_21 rfl rfl ?_
      exact qs_iret hΓ hf dX4_divisor_22
    · have hf := ifN hf c1
      refine g_iload_n hΓ (pc := 8) 0 (i := 2) dX4_divisor_8 rfl rfl ?_
      refine g_iload_n hΓ (pc := 9) 1 (i := 3) dX4_divisor_9 rfl rfl ?_
      obtain ⟨e2, hf⟩ := nzE hf
      refine g_irem hΓ (pc := 10) dX4_divisor_10 e2 ?_
      obtain ⟨x3, hx3, hf⟩ := bindE hf
      refine g_topi hx3 ?_
      refine g_istore hΓ (pc := 11) (i := 4) (lv' := [(4, .int x3), (2, .int y2), (3, .int y3)]) dX4_divisor_11 (by decide) rfl ?_
      refine g_iload_n hΓ (pc := 13) 2 (i := 3) dX4_divisor_13 rfl rfl ?_
      refine g_istore_n hΓ (pc := 14) (i := 2) (lv' := [(2, .int y3), (4, .int x3), (3, .int y3)]) dX4_divisor_14 rfl (by decide) rfl ?_
      refine g_iload hΓ (pc := 15) 1 (i := 4) dX4_divisor_15 rfl ?_
      refine g_istore_n hΓ (pc := 17) (i := 3) (lv' := [(3, .int x3), (2, .int y3), (4, .int x3)]) dX4_divisor_17 rfl (by decide) rfl ?_
      refine g_goto hΓ (pc := 18) (tgt := 4) dX4_divisor_18 (by decide) ?_
      exact g_sub [1, 0] rfl (hk4 _ _ hf)
  have L4 : ∀ (n : Nat) (y2 : Int32) (y3 : Int32) (hf : M_divisor_4   n y2 y3 = some r), WG Γ (same Γ) 0 0 4 [(2, .int y2), (3, .int y3)] [] := by
    intro  n
    induction n with
    | zero => intro y2 y3 hf; exact nomatch (show (none : Option (Int32)) = some _ from hf)
    | succ n ih => exact S4  _ ih
  refine g_iload_n hΓ (pc := 0) 0 (i := 0) dX4_divisor_0 rfl rfl ?_
  refine g_istore_n hΓ (pc := 1) (i := 2) (lv' := [(2, .int a0), (0, .int a0), (1, .int a1)]) dX4_divisor_1 rfl (by decide) rfl ?_
  refine g_iload_n hΓ (pc := 2) 2 (i := 1) dX4_divisor_2 rfl rfl ?_
  refine g_istore_n hΓ (pc := 3) (i := 3) (lv' := [(3, .int a1), (2, .int a0), (0, .int a0), (1, .int a1)]) dX4_divisor_3 rfl (by decide) rfl ?_
  exact g_sub [1, 0] rfl (L4  200 _ _ hf)
def M_likely_66s (k66 : MS → Int32 → Int32 → Int32 → Int32 → Int32 → Option (Int32 × MS)) (m : MS) (y1 : Int32) (y2 : Int32) (y3 : Int32) (y4 : Int32) (y5 : Int32) : Option (Int32 × MS) :=
  if (m.1 0) ≤ y5 then (
    (mR m 17 y1).bind fun x2 =>
    (M_likeOf m x2 y2).bind fun x3 =>
    if x3 = 0 then (
      some (y3, m)
    ) else (
      (M_divisor y4 x3).bind fun x5 =>
      if y3 = 0 then (
        if x5 = 0 then none else
        some (x3 / x5, m)
      ) else (
        if x5 = 0 then none else
        some (y4 / x5, m)
      )
    )
  ) else (
    (mR m 7 y5).bind fun x9 =>
    (mR m 15 y1).bind fun x10 =>
    if x9 = x10 then (
      (mR m 17 y1).bind fun x14 =>
      (M_likeOf m x14 y5).bind fun x15 =>
      (some (y4 + x15)).bind fun x16 =>
      (some (y5 + 1)).bind fun x17 =>
      k66 m y1 y2 y3 x16 x17
    ) else (
      (some (y4 + (0 : Int32))).bind fun x12 =>
      (some (y5 + 1)).bind fun x13 =>
      k66 m y1 y2 y3 x12 x13
    )
  )
def M_likely_66 : Nat → MS → Int32 → Int32 → Int32 → Int32 → Int32 → Option (Int32 × MS)
  | 0 => fun _ _ _ _ _ _ => none
  | n + 1 => M_likely_66s   (M_likely_66   n)
def M_likely (m : MS) (a0 : Int32) (a1 : Int32) (a2 : Int32) : Option (Int32 × MS) :=
  (mSI m 23 (0 : Int32)).bind fun m18 =>
  (M_isGuest m18 a0).bind fun x19 =>
  if x19 = 0 then (
    some ((-1 : Int32), m18)
  ) else (
    (M_isGlass m18 a1).bind fun x21 =>
    if x21 = 0 then (
      some ((-1 : Int32), m18)
    ) else (
      (M_in a2.toInt64 (0 : Int64) (1 : Int64)).bind fun x23 =>
      if x23 = 0 then (
        some ((-1 : Int32), m18)
      ) else (
        (mR m18 17 a0).bind fun x25 =>
        if x25 < 0 then (
          some ((-3 : Int32), m18)
        ) else (
          (mR m18 7 a1).bind fun x27 =>
          (mR m18 15 a0).bind fun x28 =>
          if x27 = x28 then (
            M_likely_66 200 m18 a0 a1 a2 (0 : Int32) (0 : Int32)
          ) else (
            some ((-3 : Int32), m18)
          )
        )
      )
    )
  )
set_option maxHeartbeats 4000000 in
set_option maxRecDepth 100000 in
theorem metM_likely (l : Launch) {D : va_G} {dA : Nat → ClassId} {b : Nat} {ad : Nat → Nat} {P : Nat → Prop} {F : Nat → va_E} {m : MS} {m' : MS} {a0 : Int32} {a1 : Int32} {a2 : Int32} {r : Int32} (hf : M_likely m a0 a1 a2 = some (r, m')) : Met l yX4_likely (ws_ yX4_likely cX4_likely 7 (some .int)) (rm0_ 3 67) (mP D dA b ad P F [.ref (ad 46), .int a0, .int a1, .int a2] m) (mQ D dA b ad P F (some (.int r)) m') 0 0 (fun q => b ≤ q) := by
  refine qg_met (by decide) RX4 rfl (Nat.le_of_ble_eq_true rfl) (fun Γ hΓ hK => ?_)
  refine g_sub [0, 1, 2, 3] (lv' := [(0, .ref (ad 46)), (1, .int a0), (2, .int a1), (3, .int a2)]) rfl ?_
  have S66 : ∀ (k66 : MS → Int32 → Int32 → Int32 → Int32 → Int32 → Option (Int32 × MS)) (hk66 : ∀ (m : MS) (y1 : Int32) (y2 : Int32) (y3 : Int32) (y4 : Int32) (y5 : Int32), k66 m y1 y2 y3 y4 y5 = some (r, m') → WG Γ (MW D dA b ad P F m) 0 0 66 [(0, .ref (ad 46)), (1, .int y1), (2, .int y2), (3, .int y3), (4, .int y4), (5, .int y5)] []) (m : MS) (y1 : Int32) (y2 : Int32) (y3 : Int32) (y4 : Int32) (y5 : Int32) (hf : M_likely_66s  k66 m y1 y2 y3 y4 y5 = some (r, m')), WG Γ (MW D dA b ad P F m) 0 0 66 [(0, .ref (ad 46)), (1, .int y1), (2, .int y2), (3, .int y3), (4, .int y4), (5, .int y5)] [] := by
    intro k66 hk66 m y1 y2 y3 y4 y5 hf
    refine g_iload hΓ (pc := 66) 5 (i := 5) dX4_likely_66 rfl ?_
    refine g_aload_n hΓ (pc := 68) 0 (i := 0) dX4_likely_68 rfl rfl ?_
    refine qg_get hΓ (pc := 69) hK (k := 0) rfl q1072 dX4_likely_69 ?_
    refine g_icmp_ge hΓ (pc := 72) (tgt := 118) dX4_likely_72 (by decide) (fun c1 => ?_) (fun c1 => ?_)
    · have hf := ifP hf c1
      refine g_aload_n hΓ (pc := 118) 0 (i := 0) dX4_likely_118 rfl rfl ?_
      refine g_aload_n hΓ (pc := 119) 0 (i := 0) dX4_likely_119 rfl rfl ?_
      refine qg_geta hΓ (pc := 120) hK (k := 17) rfl q1089 dX4_likely_120 ?_
      refine g_iload_n hΓ (pc := 123) 1 (i := 1) dX4_likely_123 rfl rfl ?_
      obtain ⟨x2, hx2, hf⟩ := bindE hf
      refine qg_iald hΓ (pc := 124) hK rfl hx2 dX4_likely_124 rfl ?_
      refine g_iload_n hΓ (pc := 125) 2 (i := 2) dX4_likely_125 rfl rfl ?_
      obtain ⟨x3, hx3, hf⟩ := bindE hf
      refine qg_callV hΓ (pc := 126) hK 2 (As := [.int x2, .int y2]) (metM_likeOf _ hx3) (lw_V q1322 q1324 qs36 q57 q1325) (by decide +kernel) (by decide) rfl rfl (Nat.le_of_ble_eq_true rfl) dX4_likely_126 ?_
      refine g_istore hΓ (pc := 129) (i := 5) (lv' := [(5, .int x3), (0, .ref (ad 46)), (1, .int y1), (2, .int y2), (3, .int y3), (4, .int y4)]) dX4_likely_129 (by decide) rfl ?_
      refine g_iload hΓ (pc := 131) 0 (i := 5) dX4_likely_131 rfl ?_
      refine g_if_ne hΓ (pc := 133) (tgt := 138) dX4_likely_133 (by decide) (fun c4 => ?_) (fun c4 => ?_)
      · have hf := ifN hf c4
        refine g_iload hΓ (pc := 138) 5 (i := 4) dX4_likely_138 rfl ?_
        refine g_iload hΓ (pc := 140) 0 (i := 5) dX4_likely_140 rfl ?_
        obtain ⟨x5, hx5, hf⟩ := bindE hf
        refine qg_callS hΓ (pc := 142) 2 (As := [.int y4, .int x3]) (metM_divisor _ hx5) (lw_S q1429 q1430 q57 q1431) (by decide +kernel) (by decide) rfl rfl (Nat.le_of_ble_eq_true rfl) dX4_likely_142 ?_
        refine g_istore hΓ (pc := 145) (i := 6) (lv' := [(6, .int x5), (5, .int x3), (0, .ref (ad 46)), (1, .int y1), (2, .int y2), (3, .int y3), (4, .int y4)]) dX4_likely_145 (by decide) rfl ?_
        refine g_iload_n hΓ (pc := 147) 5 (i := 3) dX4_likely_147 rfl rfl ?_
        refine g_if_ne hΓ (pc := 148) (tgt := 159) dX4_likely_148 (by decide) (fun c6 => ?_) (fun c6 => ?_)
        · have hf := ifN hf c6
          refine g_iload hΓ (pc := 159) 6 (i := 4) dX4_likely_159 rfl ?_
          refine g_iload hΓ (pc := 161) 0 (i := 6) dX4_likely_161 rfl ?_
          obtain ⟨e7, hf⟩ := nzE hf
          refine g_idiv hΓ (pc := 163) dX4_likely_163 e7 ?_
          exact qg_iret hΓ hK hf dX4_likely_164
        · have hf := ifP hf c6
          refine g_iload hΓ (pc := 151) 1 (i := 5) dX4_likely_151 rfl ?_
          refine g_iload hΓ (pc := 153) 0 (i := 6) dX4_likely_153 rfl ?_
          obtain ⟨e8, hf⟩ := nzE hf
          refine g_idiv hΓ (pc := 155) dX4_likely_155 e8 ?_
          refine g_goto hΓ (pc := 156) (tgt := 164) dX4_likely_156 (by decide) ?_
          exact qg_iret hΓ hK hf dX4_likely_164
      · have hf := ifP hf c4
        refine g_iload_n hΓ (pc := 136) 4 (i := 3) dX4_likely_136 rfl rfl ?_
        exact qg_iret hΓ hK hf dX4_likely_137
    · have hf := ifN hf c1
      refine g_iload hΓ (pc := 75) 4 (i := 4) dX4_likely_75 rfl ?_
      refine g_aload_n hΓ (pc := 77) 0 (i := 0) dX4_likely_77 rfl rfl ?_
      refine qg_geta hΓ (pc := 78) hK (k := 7) rfl q1079 dX4_likely_78 ?_
      refine g_iload hΓ (pc := 81) 5 (i := 5) dX4_likely_81 rfl ?_
      obtain ⟨x9, hx9, hf⟩ := bindE hf
      refine qg_iald hΓ (pc := 83) hK rfl hx9 dX4_likely_83 rfl ?_
      refine g_aload_n hΓ (pc := 84) 0 (i := 0) dX4_likely_84 rfl rfl ?_
      refine qg_geta hΓ (pc := 85) hK (k := 15) rfl q1087 dX4_likely_85 ?_
      refine g_iload_n hΓ (pc := 88) 1 (i := 1) dX4_likely_88 rfl rfl ?_
      obtain ⟨x10, hx10, hf⟩ := bindE hf
      refine qg_iald hΓ (pc := 89) hK rfl hx10 dX4_likely_89 rfl ?_
      refine g_icmp_ne hΓ (pc := 90) (tgt := 108) dX4_likely_90 (by decide) (fun c11 => ?_) (fun c11 => ?_)
      · have hf := ifN hf c11
        refine g_iconst hΓ (pc := 108) (v := 0) dX4_likely_108 (by decide) ?_
        refine g_iadd hΓ (pc := 109) dX4_likely_109 ?_
        obtain ⟨x12, hx12, hf⟩ := bindE hf
        refine g_topi hx12 ?_
        refine g_istore hΓ (pc := 110) (i := 4) (lv' := [(4, .int x12), (0, .ref (ad 46)), (1, .int y1), (2, .int y2), (3, .int y3), (5, .int y5)]) dX4_likely_110 (by decide) rfl ?_
        obtain ⟨x13, hx13, hf⟩ := bindE hf
        refine g_iinc hΓ (pc := 112) 5 (i := 5) (v := x13) (lv' := [(5, .int x13), (4, .int x12), (0, .ref (ad 46)), (1, .int y1), (2, .int y2), (3, .int y3)]) dX4_likely_112 rfl (Option.some.inj hx13) (by decide) rfl ?_
        refine g_goto hΓ (pc := 115) (tgt := 66) dX4_likely_115 (by decide) ?_
        exact g_sub [2, 3, 4, 5, 1, 0] rfl (hk66 _ _ _ _ _ _ hf)
      · have hf := ifP hf c11
        refine g_aload_n hΓ (pc := 93) 0 (i := 0) dX4_likely_93 rfl rfl ?_
        refine g_aload_n hΓ (pc := 94) 0 (i := 0) dX4_likely_94 rfl rfl ?_
        refine qg_geta hΓ (pc := 95) hK (k := 17) rfl q1089 dX4_likely_95 ?_
        refine g_iload_n hΓ (pc := 98) 1 (i := 1) dX4_likely_98 rfl rfl ?_
        obtain ⟨x14, hx14, hf⟩ := bindE hf
        refine qg_iald hΓ (pc := 99) hK rfl hx14 dX4_likely_99 rfl ?_
        refine g_iload hΓ (pc := 100) 5 (i := 5) dX4_likely_100 rfl ?_
        obtain ⟨x15, hx15, hf⟩ := bindE hf
        refine qg_callV hΓ (pc := 102) hK 2 (As := [.int x14, .int y5]) (metM_likeOf _ hx15) (lw_V q1322 q1324 qs36 q57 q1325) (by decide +kernel) (by decide) rfl rfl (Nat.le_of_ble_eq_true rfl) dX4_likely_102 ?_
        refine g_goto hΓ (pc := 105) (tgt := 109) dX4_likely_105 (by decide) ?_
        refine g_iadd hΓ (pc := 109) dX4_likely_109 ?_
        obtain ⟨x16, hx16, hf⟩ := bindE hf
        refine g_topi hx16 ?_
        refine g_istore hΓ (pc := 110) (i := 4) (lv' := [(4, .int x16), (0, .ref (ad 46)), (1, .int y1), (2, .int y2), (3, .int y3), (5, .int y5)]) dX4_likely_110 (by decide) rfl ?_
        obtain ⟨x17, hx17, hf⟩ := bindE hf
        refine g_iinc hΓ (pc := 112) 5 (i := 5) (v := x17) (lv' := [(5, .int x17), (4, .int x16), (0, .ref (ad 46)), (1, .int y1), (2, .int y2), (3, .int y3)]) dX4_likely_112 rfl (Option.some.inj hx17) (by decide) rfl ?_
        refine g_goto hΓ (pc := 115) (tgt := 66) dX4_likely_115 (by decide) ?_
        exact g_sub [2, 3, 4, 5, 1, 0] rfl (hk66 _ _ _ _ _ _ hf)
  have L66 : ∀ (n : Nat) (m : MS) (y1 : Int32) (y2 : Int32) (y3 : Int32) (y4 : Int32) (y5 : Int32) (hf : M_likely_66   n m y1 y2 y3 y4 y5 = some (r, m')), WG Γ (MW D dA b ad P F m) 0 0 66 [(0, .ref (ad 46)), (1, .int y1), (2, .int y2), (3, .int y3), (4, .int y4), (5, .int y5)] [] := by
    intro  n
    induction n with
    | zero => intro m y1 y2 y3 y4 y5 hf; exact nomatch (show (none : Option (Int32 × MS)) = some _ from hf)
    | succ n ih => exact S66  _ ih
  refine g_aload_n hΓ (pc := 0) 0 (i := 0) dX4_likely_0 rfl rfl ?_
  refine g_iconst hΓ (pc := 1) (v := 0) dX4_likely_1 (by decide) ?_
  obtain ⟨m18, hm18, hf⟩ := bindE hf
  refine qg_put hΓ (pc := 2) hK rfl hm18 q1095 dX4_likely_2 ?_
  refine g_aload_n hΓ (pc := 5) 0 (i := 0) dX4_likely_5 rfl rfl ?_
  refine g_iload_n hΓ (pc := 6) 1 (i := 1) dX4_likely_6 rfl rfl ?_
  obtain ⟨x19, hx19, hf⟩ := bindE hf
  refine qg_callV hΓ (pc := 7) hK 1 (As := [.int a0]) (metM_isGuest _ hx19) (lw_V q1290 q1292 qs28 q57 q1293) (by decide +kernel) (by decide) rfl rfl (Nat.le_of_ble_eq_true rfl) dX4_likely_7 ?_
  refine g_if_eq hΓ (pc := 10) (tgt := 31) dX4_likely_10 (by decide) (fun c20 => ?_) (fun c20 => ?_)
  · have hf := ifP hf c20
    refine g_iconst hΓ (pc := 31) (v := -1) dX4_likely_31 (by decide) ?_
    exact qg_iret hΓ hK hf dX4_likely_32
  · have hf := ifN hf c20
    refine g_aload_n hΓ (pc := 13) 0 (i := 0) dX4_likely_13 rfl rfl ?_
    refine g_iload_n hΓ (pc := 14) 2 (i := 2) dX4_likely_14 rfl rfl ?_
    obtain ⟨x21, hx21, hf⟩ := bindE hf
    refine qg_callV hΓ (pc := 15) hK 1 (As := [.int a1]) (metM_isGlass _ hx21) (lw_V q1294 q1296 qs29 q57 q1297) (by decide +kernel) (by decide) rfl rfl (Nat.le_of_ble_eq_true rfl) dX4_likely_15 ?_
    refine g_if_eq hΓ (pc := 18) (tgt := 31) dX4_likely_18 (by decide) (fun c22 => ?_) (fun c22 => ?_)
    · have hf := ifP hf c22
      refine g_iconst hΓ (pc := 31) (v := -1) dX4_likely_31 (by decide) ?_
      exact qg_iret hΓ hK hf dX4_likely_32
    · have hf := ifN hf c22
      refine g_iload_n hΓ (pc := 21) 3 (i := 3) dX4_likely_21 rfl rfl ?_
      refine g_i2l hΓ (pc := 22) dX4_likely_22 ?_
      refine g_lconst hΓ (pc := 23) (v := 0) dX4_likely_23 (by decide) ?_
      refine g_lconst hΓ (pc := 24) (v := 1) dX4_likely_24 (by decide) ?_
      obtain ⟨x23, hx23, hf⟩ := bindE hf
      refine qg_callS hΓ (pc := 25) 3 (As := [.long a2.toInt64, .long (0 : Int64), .long (1 : Int64)]) (metM_in _ hx23) (lw_S q1245 q1246 q57 q1247) (by decide +kernel) (by decide) rfl rfl (Nat.le_of_ble_eq_true rfl) dX4_likely_25 ?_
      refine g_if_ne hΓ (pc := 28) (tgt := 33) dX4_likely_28 (by decide) (fun c24 => ?_) (fun c24 => ?_)
      · have hf := ifN hf c24
        refine g_aload_n hΓ (pc := 33) 0 (i := 0) dX4_likely_33 rfl rfl ?_
        refine qg_geta hΓ (pc := 34) hK (k := 17) rfl q1089 dX4_likely_34 ?_
        refine g_iload_n hΓ (pc := 37) 1 (i := 1) dX4_likely_37 rfl rfl ?_
        obtain ⟨x25, hx25, hf⟩ := bindE hf
        refine qg_iald hΓ (pc := 38) hK rfl hx25 dX4_likely_38 rfl ?_
        refine g_if_lt hΓ (pc := 39) (tgt := 57) dX4_likely_39 (by decide) (fun c26 => ?_) (fun c26 => ?_)
        · have hf := ifP hf c26
          refine g_bipush hΓ (pc := 57) (v := -3) dX4_likely_57 (by decide) ?_
          exact qg_iret hΓ hK hf dX4_likely_59
        · have hf := ifN hf c26
          refine g_aload_n hΓ (pc := 42) 0 (i := 0) dX4_likely_42 rfl rfl ?_
          refine qg_geta hΓ (pc := 43) hK (k := 7) rfl q1079 dX4_likely_43 ?_
          refine g_iload_n hΓ (pc := 46) 2 (i := 2) dX4_likely_46 rfl rfl ?_
          obtain ⟨x27, hx27, hf⟩ := bindE hf
          refine qg_iald hΓ (pc := 47) hK rfl hx27 dX4_likely_47 rfl ?_
          refine g_aload_n hΓ (pc := 48) 0 (i := 0) dX4_likely_48 rfl rfl ?_
          refine qg_geta hΓ (pc := 49) hK (k := 15) rfl q1087 dX4_likely_49 ?_
          refine g_iload_n hΓ (pc := 52) 1 (i := 1) dX4_likely_52 rfl rfl ?_
          obtain ⟨x28, hx28, hf⟩ := bindE hf
          refine qg_iald hΓ (pc := 53) hK rfl hx28 dX4_likely_53 rfl ?_
          refine g_icmp_eq hΓ (pc := 54) (tgt := 60) dX4_likely_54 (by decide) (fun c29 => ?_) (fun c29 => ?_)
          · have hf := ifP hf c29
            refine g_iconst hΓ (pc := 60) (v := 0) dX4_likely_60 (by decide) ?_
            refine g_istore hΓ (pc := 61) (i := 4) (lv' := [(4, .int (0 : Int32)), (0, .ref (ad 46)), (1, .int a0), (2, .int a1), (3, .int a2)]) dX4_likely_61 (by decide) rfl ?_
            refine g_iconst hΓ (pc := 63) (v := 0) dX4_likely_63 (by decide) ?_
            refine g_istore hΓ (pc := 64) (i := 5) (lv' := [(5, .int (0 : Int32)), (4, .int (0 : Int32)), (0, .ref (ad 46)), (1, .int a0), (2, .int a1), (3, .int a2)]) dX4_likely_64 (by decide) rfl ?_
            exact g_sub [2, 3, 4, 5, 1, 0] rfl (L66  200 _ _ _ _ _ _ hf)
          · have hf := ifN hf c29
            refine g_bipush hΓ (pc := 57) (v := -3) dX4_likely_57 (by decide) ?_
            exact qg_iret hΓ hK hf dX4_likely_59
      · have hf := ifP hf c24
        refine g_iconst hΓ (pc := 31) (v := -1) dX4_likely_31 (by decide) ?_
        exact qg_iret hΓ hK hf dX4_likely_32
def M_idle_46s (k18 : MS → Int32 → Int32 → Int32 → Option (Int32 × MS)) (k46 : MS → Int32 → Int32 → Int32 → Int32 → Int32 → Option (Int32 × MS)) (m : MS) (y1 : Int32) (y2 : Int32) (y3 : Int32) (y4 : Int32) (y5 : Int32) : Option (Int32 × MS) :=
  if (m.1 1) ≤ y5 then (
    if y4 = 0 then (
      (some (y2 + (0 : Int32))).bind fun x3 =>
      (some (y3 + 1)).bind fun x4 =>
      k18 m y1 x3 x4
    ) else (
      (some (y2 + (1 : Int32))).bind fun x5 =>
      (some (y3 + 1)).bind fun x6 =>
      k18 m y1 x5 x6
    )
  ) else (
    if y4 = 0 then (
      (some (y5 + 1)).bind fun x8 =>
      k46 m y1 y2 y3 (0 : Int32) x8
    ) else (
      (mR m 17 y5).bind fun x9 =>
      if x9 = y3 then (
        (some (y5 + 1)).bind fun x11 =>
        k46 m y1 y2 y3 (0 : Int32) x11
      ) else (
        (some (y5 + 1)).bind fun x12 =>
        k46 m y1 y2 y3 (1 : Int32) x12
      )
    )
  )
def M_idle_46 (k18 : MS → Int32 → Int32 → Int32 → Option (Int32 × MS)) : Nat → MS → Int32 → Int32 → Int32 → Int32 → Int32 → Option (Int32 × MS)
  | 0 => fun _ _ _ _ _ _ => none
  | n + 1 => M_idle_46s  k18 (M_idle_46  k18 n)
def M_idle_18s (k18 : MS → Int32 → Int32 → Int32 → Option (Int32 × MS)) (m : MS) (y1 : Int32) (y2 : Int32) (y3 : Int32) : Option (Int32 × MS) :=
  if (m.1 0) ≤ y3 then (
    some (y2, m)
  ) else (
    (mR m 7 y3).bind fun x14 =>
    if x14 = y1 then (
      M_idle_46 k18 200 m y1 y2 y3 (1 : Int32) (0 : Int32)
    ) else (
      M_idle_46 k18 200 m y1 y2 y3 (0 : Int32) (0 : Int32)
    )
  )
def M_idle_18 : Nat → MS → Int32 → Int32 → Int32 → Option (Int32 × MS)
  | 0 => fun _ _ _ _ => none
  | n + 1 => M_idle_18s   (M_idle_18   n)
def M_idle (m : MS) (a0 : Int32) : Option (Int32 × MS) :=
  (mSI m 23 (0 : Int32)).bind fun m16 =>
  (M_isPlace a0).bind fun x17 =>
  if x17 = 0 then (
    some ((-1 : Int32), m16)
  ) else (
    M_idle_18 200 m16 a0 (0 : Int32) (0 : Int32)
  )
set_option maxHeartbeats 4000000 in
set_option maxRecDepth 100000 in
theorem metM_idle (l : Launch) {D : va_G} {dA : Nat → ClassId} {b : Nat} {ad : Nat → Nat} {P : Nat → Prop} {F : Nat → va_E} {m : MS} {m' : MS} {a0 : Int32} {r : Int32} (hf : M_idle m a0 = some (r, m')) : Met l yX4_idle (ws_ yX4_idle cX4_idle 6 (some .int)) (rm0_ 2 45) (mP D dA b ad P F [.ref (ad 46), .int a0] m) (mQ D dA b ad P F (some (.int r)) m') 0 0 (fun q => b ≤ q) := by
  refine qg_met (by decide) RX4 rfl (Nat.le_of_ble_eq_true rfl) (fun Γ hΓ hK => ?_)
  refine g_sub [0, 1] (lv' := [(0, .ref (ad 46)), (1, .int a0)]) rfl ?_
  have S46 : ∀ (k18 : MS → Int32 → Int32 → Int32 → Option (Int32 × MS)) (hk18 : ∀ (m : MS) (y1 : Int32) (y2 : Int32) (y3 : Int32), k18 m y1 y2 y3 = some (r, m') → WG Γ (MW D dA b ad P F m) 0 0 18 [(0, .ref (ad 46)), (1, .int y1), (2, .int y2), (3, .int y3)] []) (k46 : MS → Int32 → Int32 → Int32 → Int32 → Int32 → Option (Int32 × MS)) (hk46 : ∀ (m : MS) (y1 : Int32) (y2 : Int32) (y3 : Int32) (y4 : Int32) (y5 : Int32), k46 m y1 y2 y3 y4 y5 = some (r, m') → WG Γ (MW D dA b ad P F m) 0 0 46 [(0, .ref (ad 46)), (1, .int y1), (2, .int y2), (3, .int y3), (4, .int y4), (5, .int y5)] []) (m : MS) (y1 : Int32) (y2 : Int32) (y3 : Int32) (y4 : Int32) (y5 : Int32) (hf : M_idle_46s  k18 k46 m y1 y2 y3 y4 y5 = some (r, m')), WG Γ (MW D dA b ad P F m) 0 0 46 [(0, .ref (ad 46)), (1, .int y1), (2, .int y2), (3, .int y3), (4, .int y4), (5, .int y5)] [] := by
    intro k18 hk18 k46 hk46 m y1 y2 y3 y4 y5 hf
    refine g_iload hΓ (pc := 46) 5 (i := 5) dX4_idle_46 rfl ?_
    refine g_aload_n hΓ (pc := 48) 0 (i := 0) dX4_idle_48 rfl rfl ?_
    refine qg_get hΓ (pc := 49) hK (k := 1) rfl q1073 dX4_idle_49 ?_
    refine g_icmp_ge hΓ (pc := 52) (tgt := 84) dX4_idle_52 (by decide) (fun c1 => ?_) (fun c1 => ?_)
    · have hf := ifP hf c1
      refine g_iload_n hΓ (pc := 84) 2 (i := 2) dX4_idle_84 rfl rfl ?_
      refine g_iload hΓ (pc := 85) 4 (i := 4) dX4_idle_85 rfl ?_
      refine g_if_eq hΓ (pc := 87) (tgt := 94) dX4_idle_87 (by decide) (fun c2 => ?_) (fun c2 => ?_)
      · have hf := ifP hf c2
        refine g_iconst hΓ (pc := 94) (v := 0) dX4_idle_94 (by decide) ?_
        refine g_iadd hΓ (pc := 95) dX4_idle_95 ?_
        obtain ⟨x3, hx3, hf⟩ := bindE hf
        refine g_topi hx3 ?_
        refine g_istore_n hΓ (pc := 96) (i := 2) (lv' := [(2, .int x3), (0, .ref (ad 46)), (1, .int y1), (3, .int y3), (4, .int y4), (5, .int y5)]) dX4_idle_96 rfl (by decide) rfl ?_
        obtain ⟨x4, hx4, hf⟩ := bindE hf
        refine g_iinc hΓ (pc := 97) 3 (i := 3) (v := x4) (lv' := [(3, .int x4), (2, .int x3), (0, .ref (ad 46)), (1, .int y1), (4, .int y4), (5, .int y5)]) dX4_idle_97 rfl (Option.some.inj hx4) (by decide) rfl ?_
        refine g_goto hΓ (pc := 100) (tgt := 18) dX4_idle_100 (by decide) ?_
        exact g_sub [2, 3, 1, 0] rfl (hk18 _ _ _ _ hf)
      · have hf := ifN hf c2
        refine g_iconst hΓ (pc := 90) (v := 1) dX4_idle_90 (by decide) ?_
        refine g_goto hΓ (pc := 91) (tgt := 95) dX4_idle_91 (by decide) ?_
        refine g_iadd hΓ (pc := 95) dX4_idle_95 ?_
        obtain ⟨x5, hx5, hf⟩ := bindE hf
        refine g_topi hx5 ?_
        refine g_istore_n hΓ (pc := 96) (i := 2) (lv' := [(2, .int x5), (0, .ref (ad 46)), (1, .int y1), (3, .int y3), (4, .int y4), (5, .int y5)]) dX4_idle_96 rfl (by decide) rfl ?_
        obtain ⟨x6, hx6, hf⟩ := bindE hf
        refine g_iinc hΓ (pc := 97) 3 (i := 3) (v := x6) (lv' := [(3, .int x6), (2, .int x5), (0, .ref (ad 46)), (1, .int y1), (4, .int y4), (5, .int y5)]) dX4_idle_97 rfl (Option.some.inj hx6) (by decide) rfl ?_
        refine g_goto hΓ (pc := 100) (tgt := 18) dX4_idle_100 (by decide) ?_
        exact g_sub [2, 3, 1, 0] rfl (hk18 _ _ _ _ hf)
    · have hf := ifN hf c1
      refine g_iload hΓ (pc := 55) 4 (i := 4) dX4_idle_55 rfl ?_
      refine g_if_eq hΓ (pc := 57) (tgt := 75) dX4_idle_57 (by decide) (fun c7 => ?_) (fun c7 => ?_)
      · have hf := ifP hf c7
        refine g_iconst hΓ (pc := 75) (v := 0) dX4_idle_75 (by decide) ?_
        refine g_istore hΓ (pc := 76) (i := 4) (lv' := [(4, .int (0 : Int32)), (0, .ref (ad 46)), (1, .int y1), (2, .int y2), (3, .int y3), (5, .int y5)]) dX4_idle_76 (by decide) rfl ?_
        obtain ⟨x8, hx8, hf⟩ := bindE hf
        refine g_iinc hΓ (pc := 78) 5 (i := 5) (v := x8) (lv' := [(5, .int x8), (4, .int (0 : Int32)), (0, .ref (ad 46)), (1, .int y1), (2, .int y2), (3, .int y3)]) dX4_idle_78 rfl (Option.some.inj hx8) (by decide) rfl ?_
        refine g_goto hΓ (pc := 81) (tgt := 46) dX4_idle_81 (by decide) ?_
        exact g_sub [2, 3, 4, 5, 1, 0] rfl (hk46 _ _ _ _ _ _ hf)
      · have hf := ifN hf c7
        refine g_aload_n hΓ (pc := 60) 0 (i := 0) dX4_idle_60 rfl rfl ?_
        refine qg_geta hΓ (pc := 61) hK (k := 17) rfl q1089 dX4_idle_61 ?_
        refine g_iload hΓ (pc := 64) 5 (i := 5) dX4_idle_64 rfl ?_
        obtain ⟨x9, hx9, hf⟩ := bindE hf
        refine qg_iald hΓ (pc := 66) hK rfl hx9 dX4_idle_66 rfl ?_
        refine g_iload_n hΓ (pc := 67) 3 (i := 3) dX4_idle_67 rfl rfl ?_
        refine g_icmp_eq hΓ (pc := 68) (tgt := 75) dX4_idle_68 (by decide) (fun c10 => ?_) (fun c10 => ?_)
        · have hf := ifP hf c10
          refine g_iconst hΓ (pc := 75) (v := 0) dX4_idle_75 (by decide) ?_
          refine g_istore hΓ (pc := 76) (i := 4) (lv' := [(4, .int (0 : Int32)), (0, .ref (ad 46)), (1, .int y1), (2, .int y2), (3, .int y3), (5, .int y5)]) dX4_idle_76 (by decide) rfl ?_
          obtain ⟨x11, hx11, hf⟩ := bindE hf
          refine g_iinc hΓ (pc := 78) 5 (i := 5) (v := x11) (lv' := [(5, .int x11), (4, .int (0 : Int32)), (0, .ref (ad 46)), (1, .int y1), (2, .int y2), (3, .int y3)]) dX4_idle_78 rfl (Option.some.inj hx11) (by decide) rfl ?_
          refine g_goto hΓ (pc := 81) (tgt := 46) dX4_idle_81 (by decide) ?_
          exact g_sub [2, 3, 4, 5, 1, 0] rfl (hk46 _ _ _ _ _ _ hf)
        · have hf := ifN hf c10
          refine g_iconst hΓ (pc := 71) (v := 1) dX4_idle_71 (by decide) ?_
          refine g_goto hΓ (pc := 72) (tgt := 76) dX4_idle_72 (by decide) ?_
          refine g_istore hΓ (pc := 76) (i := 4) (lv' := [(4, .int (1 : Int32)), (0, .ref (ad 46)), (1, .int y1), (2, .int y2), (3, .int y3), (5, .int y5)]) dX4_idle_76 (by decide) rfl ?_
          obtain ⟨x12, hx12, hf⟩ := bindE hf
          refine g_iinc hΓ (pc := 78) 5 (i := 5) (v := x12) (lv' := [(5, .int x12), (4, .int (1 : Int32)), (0, .ref (ad 46)), (1, .int y1), (2, .int y2), (3, .int y3)]) dX4_idle_78 rfl (Option.some.inj hx12) (by decide) rfl ?_
          refine g_goto hΓ (pc := 81) (tgt := 46) dX4_idle_81 (by decide) ?_
          exact g_sub [2, 3, 4, 5, 1, 0] rfl (hk46 _ _ _ _ _ _ hf)
  have L46 : ∀ (k18 : MS → Int32 → Int32 → Int32 → Option (Int32 × MS)) (hk18 : ∀ (m : MS) (y1 : Int32) (y2 : Int32) (y3 : Int32), k18 m y1 y2 y3 = some (r, m') → WG Γ (MW D dA b ad P F m) 0 0 18 [(0, .ref (ad 46)), (1, .int y1), (2, .int y2), (3, .int y3)] []) (n : Nat) (m : MS) (y1 : Int32) (y2 : Int32) (y3 : Int32) (y4 : Int32) (y5 : Int32) (hf : M_idle_46  k18 n m y1 y2 y3 y4 y5 = some (r, m')), WG Γ (MW D dA b ad P F m) 0 0 46 [(0, .ref (ad 46)), (1, .int y1), (2, .int y2), (3, .int y3), (4, .int y4), (5, .int y5)] [] := by
    intro k18 hk18 n
    induction n with
    | zero => intro m y1 y2 y3 y4 y5 hf; exact nomatch (show (none : Option (Int32 × MS)) = some _ from hf)
    | succ n ih => exact S46 k18 hk18 _ ih
  have S18 : ∀ (k18 : MS → Int32 → Int32 → Int32 → Option (Int32 × MS)) (hk18 : ∀ (m : MS) (y1 : Int32) (y2 : Int32) (y3 : Int32), k18 m y1 y2 y3 = some (r, m') → WG Γ (MW D dA b ad P F m) 0 0 18 [(0, .ref (ad 46)), (1, .int y1), (2, .int y2), (3, .int y3)] []) (m : MS) (y1 : Int32) (y2 : Int32) (y3 : Int32) (hf : M_idle_18s  k18 m y1 y2 y3 = some (r, m')), WG Γ (MW D dA b ad P F m) 0 0 18 [(0, .ref (ad 46)), (1, .int y1), (2, .int y2), (3, .int y3)] [] := by
    intro k18 hk18 m y1 y2 y3 hf
    refine g_iload_n hΓ (pc := 18) 3 (i := 3) dX4_idle_18 rfl rfl ?_
    refine g_aload_n hΓ (pc := 19) 0 (i := 0) dX4_idle_19 rfl rfl ?_
    refine qg_get hΓ (pc := 20) hK (k := 0) rfl q1072 dX4_idle_20 ?_
    refine g_icmp_ge hΓ (pc := 23) (tgt := 103) dX4_idle_23 (by decide) (fun c13 => ?_) (fun c13 => ?_)
    · have hf := ifP hf c13
      refine g_iload_n hΓ (pc := 103) 2 (i := 2) dX4_idle_103 rfl rfl ?_
      exact qg_iret hΓ hK hf dX4_idle_104
    · have hf := ifN hf c13
      refine g_aload_n hΓ (pc := 26) 0 (i := 0) dX4_idle_26 rfl rfl ?_
      refine qg_geta hΓ (pc := 27) hK (k := 7) rfl q1079 dX4_idle_27 ?_
      refine g_iload_n hΓ (pc := 30) 3 (i := 3) dX4_idle_30 rfl rfl ?_
      obtain ⟨x14, hx14, hf⟩ := bindE hf
      refine qg_iald hΓ (pc := 31) hK rfl hx14 dX4_idle_31 rfl ?_
      refine g_iload_n hΓ (pc := 32) 1 (i := 1) dX4_idle_32 rfl rfl ?_
      refine g_icmp_ne hΓ (pc := 33) (tgt := 40) dX4_idle_33 (by decide) (fun c15 => ?_) (fun c15 => ?_)
      · have hf := ifN hf c15
        refine g_iconst hΓ (pc := 40) (v := 0) dX4_idle_40 (by decide) ?_
        refine g_istore hΓ (pc := 41) (i := 4) (lv' := [(4, .int (0 : Int32)), (0, .ref (ad 46)), (1, .int y1), (2, .int y2), (3, .int y3)]) dX4_idle_41 (by decide) rfl ?_
        refine g_iconst hΓ (pc := 43) (v := 0) dX4_idle_43 (by decide) ?_
        refine g_istore hΓ (pc := 44) (i := 5) (lv' := [(5, .int (0 : Int32)), (4, .int (0 : Int32)), (0, .ref (ad 46)), (1, .int y1), (2, .int y2), (3, .int y3)]) dX4_idle_44 (by decide) rfl ?_
        exact g_sub [2, 3, 4, 5, 1, 0] rfl (L46 k18 hk18 200 _ _ _ _ _ _ hf)
      · have hf := ifP hf c15
        refine g_iconst hΓ (pc := 36) (v := 1) dX4_idle_36 (by decide) ?_
        refine g_goto hΓ (pc := 37) (tgt := 41) dX4_idle_37 (by decide) ?_
        refine g_istore hΓ (pc := 41) (i := 4) (lv' := [(4, .int (1 : Int32)), (0, .ref (ad 46)), (1, .int y1), (2, .int y2), (3, .int y3)]) dX4_idle_41 (by decide) rfl ?_
        refine g_iconst hΓ (pc := 43) (v := 0) dX4_idle_43 (by decide) ?_
        refine g_istore hΓ (pc := 44) (i := 5) (lv' := [(5, .int (0 : Int32)), (4, .int (1 : Int32)), (0, .ref (ad 46)), (1, .int y1), (2, .int y2), (3, .int y3)]) dX4_idle_44 (by decide) rfl ?_
        exact g_sub [2, 3, 4, 5, 1, 0] rfl (L46 k18 hk18 200 _ _ _ _ _ _ hf)
  have L18 : ∀ (n : Nat) (m : MS) (y1 : Int32) (y2 : Int32) (y3 : Int32) (hf : M_idle_18   n m y1 y2 y3 = some (r, m')), WG Γ (MW D dA b ad P F m) 0 0 18 [(0, .ref (ad 46)), (1, .int y1), (2, .int y2), (3, .int y3)] [] := by
    intro  n
    induction n with
    | zero => intro m y1 y2 y3 hf; exact nomatch (show (none : Option (Int32 × MS)) = some _ from hf)
    | succ n ih => exact S18  _ ih
  refine g_aload_n hΓ (pc := 0) 0 (i := 0) dX4_idle_0 rfl rfl ?_
  refine g_iconst hΓ (pc := 1) (v := 0) dX4_idle_1 (by decide) ?_
  obtain ⟨m16, hm16, hf⟩ := bindE hf
  refine qg_put hΓ (pc := 2) hK rfl hm16 q1095 dX4_idle_2 ?_
  refine g_iload_n hΓ (pc := 5) 1 (i := 1) dX4_idle_5 rfl rfl ?_
  obtain ⟨x17, hx17, hf⟩ := bindE hf
  refine qg_callS hΓ (pc := 6) 1 (As := [.int a0]) (metM_isPlace _ hx17) (lw_S q1372 q1373 q57 q1374) (by decide +kernel) (by decide) rfl rfl (Nat.le_of_ble_eq_true rfl) dX4_idle_6 ?_
  refine g_if_ne hΓ (pc := 9) (tgt := 14) dX4_idle_9 (by decide) (fun c18 => ?_) (fun c18 => ?_)
  · have hf := ifN hf c18
    refine g_iconst hΓ (pc := 14) (v := 0) dX4_idle_14 (by decide) ?_
    refine g_istore_n hΓ (pc := 15) (i := 2) (lv' := [(2, .int (0 : Int32)), (0, .ref (ad 46)), (1, .int a0)]) dX4_idle_15 rfl (by decide) rfl ?_
    refine g_iconst hΓ (pc := 16) (v := 0) dX4_idle_16 (by decide) ?_
    refine g_istore_n hΓ (pc := 17) (i := 3) (lv' := [(3, .int (0 : Int32)), (2, .int (0 : Int32)), (0, .ref (ad 46)), (1, .int a0)]) dX4_idle_17 rfl (by decide) rfl ?_
    exact g_sub [2, 3, 1, 0] rfl (L18  200 _ _ _ _ hf)
  · have hf := ifP hf c18
    refine g_iconst hΓ (pc := 12) (v := -1) dX4_idle_12 (by decide) ?_
    exact qg_iret hΓ hK hf dX4_idle_13
def M_oldest_19s (k19 : MS → Int32 → Int32 → Int32 → Option (Int32 × MS)) (m : MS) (y1 : Int32) (y2 : Int32) (y3 : Int32) : Option (Int32 × MS) :=
  if (m.1 0) ≤ y3 then (
    some (y2, m)
  ) else (
    (mR m 7 y3).bind fun x2 =>
    if x2 = y1 then (
      if y2 < 0 then (
        (some (y3 + 1)).bind fun x6 =>
        k19 m y1 y3 x6
      ) else (
        (mR m 8 y3).bind fun x7 =>
        (mR m 8 y2).bind fun x8 =>
        if x8 ≤ x7 then (
          (some (y3 + 1)).bind fun x10 =>
          k19 m y1 y2 x10
        ) else (
          (some (y3 + 1)).bind fun x11 =>
          k19 m y1 y3 x11
        )
      )
    ) else (
      (some (y3 + 1)).bind fun x4 =>
      k19 m y1 y2 x4
    )
  )
def M_oldest_19 : Nat → MS → Int32 → Int32 → Int32 → Option (Int32 × MS)
  | 0 => fun _ _ _ _ => none
  | n + 1 => M_oldest_19s   (M_oldest_19   n)
def M_oldest (m : MS) (a0 : Int32) : Option (Int32 × MS) :=
  (mSI m 23 (0 : Int32)).bind fun m12 =>
  (M_isPlace a0).bind fun x13 =>
  if x13 = 0 then (
    some ((-1 : Int32), m12)
  ) else (
    M_oldest_19 200 m12 a0 (-4 : Int32) (0 : Int32)
  )
set_option maxHeartbeats 4000000 in
set_option maxRecDepth 100000 in
theorem metM_oldest (l : Launch) {D : va_G} {dA : Nat → ClassId} {b : Nat} {ad : Nat → Nat} {P : Nat → Prop} {F : Nat → va_E} {m : MS} {m' : MS} {a0 : Int32} {r : Int32} (hf : M_oldest m a0 = some (r, m')) : Met l yX4_oldest (ws_ yX4_oldest cX4_oldest 4 (some .int)) (rm0_ 2 45) (mP D dA b ad P F [.ref (ad 46), .int a0] m) (mQ D dA b ad P F (some (.int r)) m') 0 0 (fun q => b ≤ q) := by
  refine qg_met (by decide) RX4 rfl (Nat.le_of_ble_eq_true rfl) (fun Γ hΓ hK => ?_)
  refine g_sub [0, 1] (lv' := [(0, .ref (ad 46)), (1, .int a0)]) rfl ?_
  have S19 : ∀ (k19 : MS → Int32 → Int32 → Int32 → Option (Int32 × MS)) (hk19 : ∀ (m : MS) (y1 : Int32) (y2 : Int32) (y3 : Int32), k19 m y1 y2 y3 = some (r, m') → WG Γ (MW D dA b ad P F m) 0 0 19 [(0, .ref (ad 46)), (1, .int y1), (2, .int y2), (3, .int y3)] []) (m : MS) (y1 : Int32) (y2 : Int32) (y3 : Int32) (hf : M_oldest_19s  k19 m y1 y2 y3 = some (r, m')), WG Γ (MW D dA b ad P F m) 0 0 19 [(0, .ref (ad 46)), (1, .int y1), (2, .int y2), (3, .int y3)] [] := by
    intro k19 hk19 m y1 y2 y3 hf
    refine g_iload_n hΓ (pc := 19) 3 (i := 3) dX4_oldest_19 rfl rfl ?_
    refine g_aload_n hΓ (pc := 20) 0 (i := 0) dX4_oldest_20 rfl rfl ?_
    refine qg_get hΓ (pc := 21) hK (k := 0) rfl q1072 dX4_oldest_21 ?_
    refine g_icmp_ge hΓ (pc := 24) (tgt := 68) dX4_oldest_24 (by decide) (fun c1 => ?_) (fun c1 => ?_)
    · have hf := ifP hf c1
      refine g_iload_n hΓ (pc := 68) 2 (i := 2) dX4_oldest_68 rfl rfl ?_
      exact qg_iret hΓ hK hf dX4_oldest_69
    · have hf := ifN hf c1
      refine g_aload_n hΓ (pc := 27) 0 (i := 0) dX4_oldest_27 rfl rfl ?_
      refine qg_geta hΓ (pc := 28) hK (k := 7) rfl q1079 dX4_oldest_28 ?_
      refine g_iload_n hΓ (pc := 31) 3 (i := 3) dX4_oldest_31 rfl rfl ?_
      obtain ⟨x2, hx2, hf⟩ := bindE hf
      refine qg_iald hΓ (pc := 32) hK rfl hx2 dX4_oldest_32 rfl ?_
      refine g_iload_n hΓ (pc := 33) 1 (i := 1) dX4_oldest_33 rfl rfl ?_
      refine g_icmp_ne hΓ (pc := 34) (tgt := 60) dX4_oldest_34 (by decide) (fun c3 => ?_) (fun c3 => ?_)
      · have hf := ifN hf c3
        refine g_iload_n hΓ (pc := 60) 2 (i := 2) dX4_oldest_60 rfl rfl ?_
        refine g_istore_n hΓ (pc := 61) (i := 2) (lv' := [(2, .int y2), (0, .ref (ad 46)), (1, .int y1), (3, .int y3)]) dX4_oldest_61 rfl (by decide) rfl ?_
        obtain ⟨x4, hx4, hf⟩ := bindE hf
        refine g_iinc hΓ (pc := 62) 3 (i := 3) (v := x4) (lv' := [(3, .int x4), (2, .int y2), (0, .ref (ad 46)), (1, .int y1)]) dX4_oldest_62 rfl (Option.some.inj hx4) (by decide) rfl ?_
        refine g_goto hΓ (pc := 65) (tgt := 19) dX4_oldest_65 (by decide) ?_
        exact g_sub [2, 3, 1, 0] rfl (hk19 _ _ _ _ hf)
      · have hf := ifP hf c3
        refine g_iload_n hΓ (pc := 37) 2 (i := 2) dX4_oldest_37 rfl rfl ?_
        refine g_if_lt hΓ (pc := 38) (tgt := 56) dX4_oldest_38 (by decide) (fun c5 => ?_) (fun c5 => ?_)
        · have hf := ifP hf c5
          refine g_iload_n hΓ (pc := 56) 3 (i := 3) dX4_oldest_56 rfl rfl ?_
          refine g_goto hΓ (pc := 57) (tgt := 61) dX4_oldest_57 (by decide) ?_
          refine g_istore_n hΓ (pc := 61) (i := 2) (lv' := [(2, .int y3), (0, .ref (ad 46)), (1, .int y1), (3, .int y3)]) dX4_oldest_61 rfl (by decide) rfl ?_
          obtain ⟨x6, hx6, hf⟩ := bindE hf
          refine g_iinc hΓ (pc := 62) 3 (i := 3) (v := x6) (lv' := [(3, .int x6), (2, .int y3), (0, .ref (ad 46)), (1, .int y1)]) dX4_oldest_62 rfl (Option.some.inj hx6) (by decide) rfl ?_
          refine g_goto hΓ (pc := 65) (tgt := 19) dX4_oldest_65 (by decide) ?_
          exact g_sub [2, 3, 1, 0] rfl (hk19 _ _ _ _ hf)
        · have hf := ifN hf c5
          refine g_aload_n hΓ (pc := 41) 0 (i := 0) dX4_oldest_41 rfl rfl ?_
          refine qg_geta hΓ (pc := 42) hK (k := 8) rfl q1080 dX4_oldest_42 ?_
          refine g_iload_n hΓ (pc := 45) 3 (i := 3) dX4_oldest_45 rfl rfl ?_
          obtain ⟨x7, hx7, hf⟩ := bindE hf
          refine qg_iald hΓ (pc := 46) hK rfl hx7 dX4_oldest_46 rfl ?_
          refine g_aload_n hΓ (pc := 47) 0 (i := 0) dX4_oldest_47 rfl rfl ?_
          refine qg_geta hΓ (pc := 48) hK (k := 8) rfl q1080 dX4_oldest_48 ?_
          refine g_iload_n hΓ (pc := 51) 2 (i := 2) dX4_oldest_51 rfl rfl ?_
          obtain ⟨x8, hx8, hf⟩ := bindE hf
          refine qg_iald hΓ (pc := 52) hK rfl hx8 dX4_oldest_52 rfl ?_
          refine g_icmp_ge hΓ (pc := 53) (tgt := 60) dX4_oldest_53 (by decide) (fun c9 => ?_) (fun c9 => ?_)
          · have hf := ifP hf c9
            refine g_iload_n hΓ (pc := 60) 2 (i := 2) dX4_oldest_60 rfl rfl ?_
            refine g_istore_n hΓ (pc := 61) (i := 2) (lv' := [(2, .int y2), (0, .ref (ad 46)), (1, .int y1), (3, .int y3)]) dX4_oldest_61 rfl (by decide) rfl ?_
            obtain ⟨x10, hx10, hf⟩ := bindE hf
            refine g_iinc hΓ (pc := 62) 3 (i := 3) (v := x10) (lv' := [(3, .int x10), (2, .int y2), (0, .ref (ad 46)), (1, .int y1)]) dX4_oldest_62 rfl (Option.some.inj hx10) (by decide) rfl ?_
            refine g_goto hΓ (pc := 65) (tgt := 19) dX4_oldest_65 (by decide) ?_
            exact g_sub [2, 3, 1, 0] rfl (hk19 _ _ _ _ hf)
          · have hf := ifN hf c9
            refine g_iload_n hΓ (pc := 56) 3 (i := 3) dX4_oldest_56 rfl rfl ?_
            refine g_goto hΓ (pc := 57) (tgt := 61) dX4_oldest_57 (by decide) ?_
            refine g_istore_n hΓ (pc := 61) (i := 2) (lv' := [(2, .int y3), (0, .ref (ad 46)), (1, .int y1), (3, .int y3)]) dX4_oldest_61 rfl (by decide) rfl ?_
            obtain ⟨x11, hx11, hf⟩ := bindE hf
            refine g_iinc hΓ (pc := 62) 3 (i := 3) (v := x11) (lv' := [(3, .int x11), (2, .int y3), (0, .ref (ad 46)), (1, .int y1)]) dX4_oldest_62 rfl (Option.some.inj hx11) (by decide) rfl ?_
            refine g_goto hΓ (pc := 65) (tgt := 19) dX4_oldest_65 (by decide) ?_
            exact g_sub [2, 3, 1, 0] rfl (hk19 _ _ _ _ hf)
  have L19 : ∀ (n : Nat) (m : MS) (y1 : Int32) (y2 : Int32) (y3 : Int32) (hf : M_oldest_19   n m y1 y2 y3 = some (r, m')), WG Γ (MW D dA b ad P F m) 0 0 19 [(0, .ref (ad 46)), (1, .int y1), (2, .int y2), (3, .int y3)] [] := by
    intro  n
    induction n with
    | zero => intro m y1 y2 y3 hf; exact nomatch (show (none : Option (Int32 × MS)) = some _ from hf)
    | succ n ih => exact S19  _ ih
  refine g_aload_n hΓ (pc := 0) 0 (i := 0) dX4_oldest_0 rfl rfl ?_
  refine g_iconst hΓ (pc := 1) (v := 0) dX4_oldest_1 (by decide) ?_
  obtain ⟨m12, hm12, hf⟩ := bindE hf
  refine qg_put hΓ (pc := 2) hK rfl hm12 q1095 dX4_oldest_2 ?_
  refine g_iload_n hΓ (pc := 5) 1 (i := 1) dX4_oldest_5 rfl rfl ?_
  obtain ⟨x13, hx13, hf⟩ := bindE hf
  refine qg_callS hΓ (pc := 6) 1 (As := [.int a0]) (metM_isPlace _ hx13) (lw_S q1372 q1373 q57 q1374) (by decide +kernel) (by decide) rfl rfl (Nat.le_of_ble_eq_true rfl) dX4_oldest_6 ?_
  refine g_if_ne hΓ (pc := 9) (tgt := 14) dX4_oldest_9 (by decide) (fun c14 => ?_) (fun c14 => ?_)
  · have hf := ifN hf c14
    refine g_bipush hΓ (pc := 14) (v := -4) dX4_oldest_14 (by decide) ?_
    refine g_istore_n hΓ (pc := 16) (i := 2) (lv' := [(2, .int (-4 : Int32)), (0, .ref (ad 46)), (1, .int a0)]) dX4_oldest_16 rfl (by decide) rfl ?_
    refine g_iconst hΓ (pc := 17) (v := 0) dX4_oldest_17 (by decide) ?_
    refine g_istore_n hΓ (pc := 18) (i := 3) (lv' := [(3, .int (0 : Int32)), (2, .int (-4 : Int32)), (0, .ref (ad 46)), (1, .int a0)]) dX4_oldest_18 rfl (by decide) rfl ?_
    exact g_sub [2, 3, 1, 0] rfl (L19  200 _ _ _ _ hf)
  · have hf := ifP hf c14
    refine g_iconst hΓ (pc := 12) (v := -1) dX4_oldest_12 (by decide) ?_
    exact qg_iret hΓ hK hf dX4_oldest_13
def M_isMinutes (a0 : Int32) : Option (Int32) :=
  (M_in a0.toInt64 (0 : Int64) (60 : Int64)).bind fun x1 =>
  zOk x1
set_option maxHeartbeats 4000000 in
set_option maxRecDepth 100000 in
theorem metM_isMinutes (l : Launch) {a0 : Int32} {r : Int32} (hf : M_isMinutes a0 = some r) : Met l yX4_isMinutes (ws_ yX4_isMinutes cX4_isMinutes 1 (some .boolean)) (rm0_ 1 25) (sP [.int a0]) (sQ (some (.int r))) 0 0 (fun _ => False) := by
  refine qs_met (by decide) RX4 rfl (Nat.le_of_ble_eq_true rfl) (fun Γ hΓ => ?_)
  refine g_sub [0] (lv' := [(0, .int a0)]) rfl ?_
  refine g_iload_n hΓ (pc := 0) 0 (i := 0) dX4_isMinutes_0 rfl rfl ?_
  refine g_i2l hΓ (pc := 1) dX4_isMinutes_1 ?_
  refine g_lconst hΓ (pc := 2) (v := 0) dX4_isMinutes_2 (by decide) ?_
  refine g_ldc2 hΓ (pc := 3) q1447 dX4_isMinutes_3 ?_
  obtain ⟨x1, hx1, hf⟩ := bindE hf
  refine qg_callS hΓ (pc := 6) 3 (As := [.long a0.toInt64, .long (0 : Int64), .long (60 : Int64)]) (metM_in _ hx1) (lw_S q1245 q1246 q57 q1247) (by decide +kernel) (by decide) rfl rfl (Nat.le_of_ble_eq_true rfl) dX4_isMinutes_6 ?_
  exact qs_zret hΓ hf dX4_isMinutes_9
def M_mistakes (m : MS) (a0 : Int32) : Option (Int32 × MS) :=
  (mSI m 23 (0 : Int32)).bind fun m1 =>
  (M_isMinutes a0).bind fun x2 =>
  if x2 = 0 then (
    some ((-1 : Int32), m1)
  ) else (
    (M_open m1).bind fun m4 =>
    (M_goThrough m4 a0).bind fun m5 =>
    (M_again m5).bind fun m6 =>
    some (m6.1 20, m6)
  )
set_option maxHeartbeats 4000000 in
set_option maxRecDepth 100000 in
theorem metM_mistakes (l : Launch) {D : va_G} {dA : Nat → ClassId} {b : Nat} {ad : Nat → Nat} {P : Nat → Prop} {F : Nat → va_E} {m : MS} {m' : MS} {a0 : Int32} {r : Int32} (hf : M_mistakes m a0 = some (r, m')) : Met l yX4_mistakes (ws_ yX4_mistakes cX4_mistakes 2 (some .int)) (rm0_ 8 181) (mP D dA b ad P F [.ref (ad 46), .int a0] m) (mQ D dA b ad P F (some (.int r)) m') 0 0 (fun q => b ≤ q) := by
  refine qg_met (by decide) RX4 rfl (Nat.le_of_ble_eq_true rfl) (fun Γ hΓ hK => ?_)
  refine g_sub [0, 1] (lv' := [(0, .ref (ad 46)), (1, .int a0)]) rfl ?_
  refine g_aload_n hΓ (pc := 0) 0 (i := 0) dX4_mistakes_0 rfl rfl ?_
  refine g_iconst hΓ (pc := 1) (v := 0) dX4_mistakes_1 (by decide) ?_
  obtain ⟨m1, hm1, hf⟩ := bindE hf
  refine qg_put hΓ (pc := 2) hK rfl hm1 q1095 dX4_mistakes_2 ?_
  refine g_iload_n hΓ (pc := 5) 1 (i := 1) dX4_mistakes_5 rfl rfl ?_
  obtain ⟨x2, hx2, hf⟩ := bindE hf
  refine qg_callS hΓ (pc := 6) 1 (As := [.int a0]) (metM_isMinutes _ hx2) (lw_S q1444 q1445 q57 q1446) (by decide +kernel) (by decide) rfl rfl (Nat.le_of_ble_eq_true rfl) dX4_mistakes_6 ?_
  refine g_if_ne hΓ (pc := 9) (tgt := 14) dX4_mistakes_9 (by decide) (fun c3 => ?_) (fun c3 => ?_)
  · have hf := ifN hf c3
    refine g_aload_n hΓ (pc := 14) 0 (i := 0) dX4_mistakes_14 rfl rfl ?_
    obtain ⟨m4, hm4, hf⟩ := bindE hf
    refine qg_callV hΓ (pc := 15) hK 0 (As := []) (metM_open _ hm4) (lw_V q1266 q1268 qs22 q57 q1269) (by decide +kernel) (by decide) rfl rfl (Nat.le_of_ble_eq_true rfl) dX4_mistakes_15 ?_
    refine g_aload_n hΓ (pc := 18) 0 (i := 0) dX4_mistakes_18 rfl rfl ?_
    refine g_iload_n hΓ (pc := 19) 1 (i := 1) dX4_mistakes_19 rfl rfl ?_
    obtain ⟨m5, hm5, hf⟩ := bindE hf
    refine qg_callV hΓ (pc := 20) hK 1 (As := [.int a0]) (metM_goThrough _ hm5) (lw_V q1413 q1415 qs47 q57 q1416) (by decide +kernel) (by decide) rfl rfl (Nat.le_of_ble_eq_true rfl) dX4_mistakes_20 ?_
    refine g_aload_n hΓ (pc := 23) 0 (i := 0) dX4_mistakes_23 rfl rfl ?_
    obtain ⟨m6, hm6, hf⟩ := bindE hf
    refine qg_callV hΓ (pc := 24) hK 0 (As := []) (metM_again _ hm6) (lw_V q1354 q1356 qs44 q57 q1357) (by decide +kernel) (by decide) rfl rfl (Nat.le_of_ble_eq_true rfl) dX4_mistakes_24 ?_
    refine g_aload_n hΓ (pc := 27) 0 (i := 0) dX4_mistakes_27 rfl rfl ?_
    refine qg_get hΓ (pc := 28) hK (k := 20) rfl q1092 dX4_mistakes_28 ?_
    exact qg_iret hΓ hK hf dX4_mistakes_31
  · have hf := ifP hf c3
    refine g_iconst hΓ (pc := 12) (v := -1) dX4_mistakes_12 (by decide) ?_
    exact qg_iret hΓ hK hf dX4_mistakes_13
def M_fresh (m : MS) (a0 : Int32) : Option (Int32 × MS) :=
  (mSI m 23 (0 : Int32)).bind fun m1 =>
  (M_isMinutes a0).bind fun x2 =>
  if x2 = 0 then (
    some ((-1 : Int32), m1)
  ) else (
    (M_open m1).bind fun m4 =>
    (M_goThrough m4 a0).bind fun m5 =>
    (M_again m5).bind fun m6 =>
    some (m6.1 21, m6)
  )
set_option maxHeartbeats 4000000 in
set_option maxRecDepth 100000 in
theorem metM_fresh (l : Launch) {D : va_G} {dA : Nat → ClassId} {b : Nat} {ad : Nat → Nat} {P : Nat → Prop} {F : Nat → va_E} {m : MS} {m' : MS} {a0 : Int32} {r : Int32} (hf : M_fresh m a0 = some (r, m')) : Met l yX4_fresh (ws_ yX4_fresh cX4_fresh 2 (some .int)) (rm0_ 8 181) (mP D dA b ad P F [.ref (ad 46), .int a0] m) (mQ D dA b ad P F (some (.int r)) m') 0 0 (fun q => b ≤ q) := by
  refine qg_met (by decide) RX4 rfl (Nat.le_of_ble_eq_true rfl) (fun Γ hΓ hK => ?_)
  refine g_sub [0, 1] (lv' := [(0, .ref (ad 46)), (1, .int a0)]) rfl ?_
  refine g_aload_n hΓ (pc := 0) 0 (i := 0) dX4_fresh_0 rfl rfl ?_
  refine g_iconst hΓ (pc := 1) (v := 0) dX4_fresh_1 (by decide) ?_
  obtain ⟨m1, hm1, hf⟩ := bindE hf
  refine qg_put hΓ (pc := 2) hK rfl hm1 q1095 dX4_fresh_2 ?_
  refine g_iload_n hΓ (pc := 5) 1 (i := 1) dX4_fresh_5 rfl rfl ?_
  obtain ⟨x2, hx2, hf⟩ := bindE hf
  refine qg_callS hΓ (pc := 6) 1 (As := [.int a0]) (metM_isMinutes _ hx2) (lw_S q1444 q1445 q57 q1446) (by decide +kernel) (by decide) rfl rfl (Nat.le_of_ble_eq_true rfl) dX4_fresh_6 ?_
  refine g_if_ne hΓ (pc := 9) (tgt := 14) dX4_fresh_9 (by decide) (fun c3 => ?_) (fun c3 => ?_)
  · have hf := ifN hf c3
    refine g_aload_n hΓ (pc := 14) 0 (i := 0) dX4_fresh_14 rfl rfl ?_
    obtain ⟨m4, hm4, hf⟩ := bindE hf
    refine qg_callV hΓ (pc := 15) hK 0 (As := []) (metM_open _ hm4) (lw_V q1266 q1268 qs22 q57 q1269) (by decide +kernel) (by decide) rfl rfl (Nat.le_of_ble_eq_true rfl) dX4_fresh_15 ?_
    refine g_aload_n hΓ (pc := 18) 0 (i := 0) dX4_fresh_18 rfl rfl ?_
    refine g_iload_n hΓ (pc := 19) 1 (i := 1) dX4_fresh_19 rfl rfl ?_
    obtain ⟨m5, hm5, hf⟩ := bindE hf
    refine qg_callV hΓ (pc := 20) hK 1 (As := [.int a0]) (metM_goThrough _ hm5) (lw_V q1413 q1415 qs47 q57 q1416) (by decide +kernel) (by decide) rfl rfl (Nat.le_of_ble_eq_true rfl) dX4_fresh_20 ?_
    refine g_aload_n hΓ (pc := 23) 0 (i := 0) dX4_fresh_23 rfl rfl ?_
    obtain ⟨m6, hm6, hf⟩ := bindE hf
    refine qg_callV hΓ (pc := 24) hK 0 (As := []) (metM_again _ hm6) (lw_V q1354 q1356 qs44 q57 q1357) (by decide +kernel) (by decide) rfl rfl (Nat.le_of_ble_eq_true rfl) dX4_fresh_24 ?_
    refine g_aload_n hΓ (pc := 27) 0 (i := 0) dX4_fresh_27 rfl rfl ?_
    refine qg_get hΓ (pc := 28) hK (k := 21) rfl q1093 dX4_fresh_28 ?_
    exact qg_iret hΓ hK hf dX4_fresh_31
  · have hf := ifP hf c3
    refine g_iconst hΓ (pc := 12) (v := -1) dX4_fresh_12 (by decide) ?_
    exact qg_iret hΓ hK hf dX4_fresh_13
def M_coldBits_4s (m : MS) (k4 : Int32 → Int32 → Option (Int32)) (y1 : Int32) (y2 : Int32) : Option (Int32) :=
  if (m.1 1) ≤ y2 then (
    some y1
  ) else (
    (mR m 19 y2).bind fun x2 =>
    if x2 = (1 : Int32) then (
      (some (y1 ||| ((1 : Int32) <<< (y2 &&& 31)))).bind fun x6 =>
      (some (y2 + 1)).bind fun x7 =>
      k4 x6 x7
    ) else (
      (some (y1 ||| (0 : Int32))).bind fun x4 =>
      (some (y2 + 1)).bind fun x5 =>
      k4 x4 x5
    )
  )
def M_coldBits_4 (m : MS) : Nat → Int32 → Int32 → Option (Int32)
  | 0 => fun _ _ => none
  | n + 1 => M_coldBits_4s m  (M_coldBits_4 m  n)
def M_coldBits (m : MS) : Option (Int32) :=
  M_coldBits_4 m 200 (0 : Int32) (0 : Int32)
set_option maxHeartbeats 4000000 in
set_option maxRecDepth 100000 in
theorem metM_coldBits (l : Launch) {D : va_G} {dA : Nat → ClassId} {b : Nat} {ad : Nat → Nat} {P : Nat → Prop} {F : Nat → va_E} {m : MS} {r : Int32} (hf : M_coldBits m  = some r) : Met l yX4_coldBits (ws_ yX4_coldBits cX4_coldBits 3 (some .int)) (rm0_ 0 0) (mP D dA b ad P F [.ref (ad 46)] m) (mQ D dA b ad P F (some (.int r)) m) 0 0 (fun q => b ≤ q) := by
  refine qg_met (by decide) RX4 rfl (Nat.le_of_ble_eq_true rfl) (fun Γ hΓ hK => ?_)
  refine g_sub [0] (lv' := [(0, .ref (ad 46))]) rfl ?_
  have S4 : ∀ (k4 : Int32 → Int32 → Option (Int32)) (hk4 : ∀ (y1 : Int32) (y2 : Int32), k4 y1 y2 = some r → WG Γ (MW D dA b ad P F m) 0 0 4 [(0, .ref (ad 46)), (1, .int y1), (2, .int y2)] []) (y1 : Int32) (y2 : Int32) (hf : M_coldBits_4s m k4 y1 y2 = some r), WG Γ (MW D dA b ad P F m) 0 0 4 [(0, .ref (ad 46)), (1, .int y1), (2, .int y2)] [] := by
    intro k4 hk4 y1 y2 hf
    refine g_iload_n hΓ (pc := 4) 2 (i := 2) dX4_coldBits_4 rfl rfl ?_
    refine g_aload_n hΓ (pc := 5) 0 (i := 0) dX4_coldBits_5 rfl rfl ?_
    refine qg_get hΓ (pc := 6) hK (k := 1) rfl q1073 dX4_coldBits_6 ?_
    refine g_icmp_ge hΓ (pc := 9) (tgt := 38) dX4_coldBits_9 (by decide) (fun c1 => ?_) (fun c1 => ?_)
    · have hf := ifP hf c1
      refine g_iload_n hΓ (pc := 38) 1 (i := 1) dX4_coldBits_38 rfl rfl ?_
      exact qg_iretR hΓ hK hf dX4_coldBits_39
    · have hf := ifN hf c1
      refine g_iload_n hΓ (pc := 12) 1 (i := 1) dX4_coldBits_12 rfl rfl ?_
      refine g_aload_n hΓ (pc := 13) 0 (i := 0) dX4_coldBits_13 rfl rfl ?_
      refine qg_geta hΓ (pc := 14) hK (k := 19) rfl q1091 dX4_coldBits_14 ?_
      refine g_iload_n hΓ (pc := 17) 2 (i := 2) dX4_coldBits_17 rfl rfl ?_
      obtain ⟨x2, hx2, hf⟩ := bindE hf
      refine qg_iald hΓ (pc := 18) hK rfl hx2 dX4_coldBits_18 rfl ?_
      refine g_iconst hΓ (pc := 19) (v := 1) dX4_coldBits_19 (by decide) ?_
      refine g_icmp_ne hΓ (pc := 20) (tgt := 29) dX4_coldBits_20 (by decide) (fun c3 => ?_) (fun c3 => ?_)
      · have hf := ifN hf c3
        refine g_iconst hΓ (pc := 29) (v := 0) dX4_coldBits_29 (by decide) ?_
        refine g_ior hΓ (pc := 30) dX4_coldBits_30 ?_
        obtain ⟨x4, hx4, hf⟩ := bindE hf
        refine g_topi hx4 ?_
        refine g_istore_n hΓ (pc := 31) (i := 1) (lv' := [(1, .int x4), (0, .ref (ad 46)), (2, .int y2)]) dX4_coldBits_31 rfl (by decide) rfl ?_
        obtain ⟨x5, hx5, hf⟩ := bindE hf
        refine g_iinc hΓ (pc := 32) 2 (i := 2) (v := x5) (lv' := [(2, .int x5), (1, .int x4), (0, .ref (ad 46))]) dX4_coldBits_32 rfl (Option.some.inj hx5) (by decide) rfl ?_
        refine g_goto hΓ (pc := 35) (tgt := 4) dX4_coldBits_35 (by decide) ?_
        exact g_sub [2, 1, 0] rfl (hk4 _ _ hf)
      · have hf := ifP hf c3
        refine g_iconst hΓ (pc := 23) (v := 1) dX4_coldBits_23 (by decide) ?_
        refine g_iload_n hΓ (pc := 24) 2 (i := 2) dX4_coldBits_24 rfl rfl ?_
        refine g_ishl hΓ (pc := 25) dX4_coldBits_25 ?_
        refine g_goto hΓ (pc := 26) (tgt := 30) dX4_coldBits_26 (by decide) ?_
        refine g_ior hΓ (pc := 30) dX4_coldBits_30 ?_
        obtain ⟨x6, hx6, hf⟩ := bindE hf
        refine g_topi hx6 ?_
        refine g_istore_n hΓ (pc := 31) (i := 1) (lv' := [(1, .int x6), (0, .ref (ad 46)), (2, .int y2)]) dX4_coldBits_31 rfl (by decide) rfl ?_
        obtain ⟨x7, hx7, hf⟩ := bindE hf
        refine g_iinc hΓ (pc := 32) 2 (i := 2) (v := x7) (lv' := [(2, .int x7), (1, .int x6), (0, .ref (ad 46))]) dX4_coldBits_32 rfl (Option.some.inj hx7) (by decide) rfl ?_
        refine g_goto hΓ (pc := 35) (tgt := 4) dX4_coldBits_35 (by decide) ?_
        exact g_sub [2, 1, 0] rfl (hk4 _ _ hf)
  have L4 : ∀ (n : Nat) (y1 : Int32) (y2 : Int32) (hf : M_coldBits_4 m  n y1 y2 = some r), WG Γ (MW D dA b ad P F m) 0 0 4 [(0, .ref (ad 46)), (1, .int y1), (2, .int y2)] [] := by
    intro  n
    induction n with
    | zero => intro y1 y2 hf; exact nomatch (show (none : Option (Int32)) = some _ from hf)
    | succ n ih => exact S4  _ ih
  refine g_iconst hΓ (pc := 0) (v := 0) dX4_coldBits_0 (by decide) ?_
  refine g_istore_n hΓ (pc := 1) (i := 1) (lv' := [(1, .int (0 : Int32)), (0, .ref (ad 46))]) dX4_coldBits_1 rfl (by decide) rfl ?_
  refine g_iconst hΓ (pc := 2) (v := 0) dX4_coldBits_2 (by decide) ?_
  refine g_istore_n hΓ (pc := 3) (i := 2) (lv' := [(2, .int (0 : Int32)), (1, .int (0 : Int32)), (0, .ref (ad 46))]) dX4_coldBits_3 rfl (by decide) rfl ?_
  exact g_sub [2, 1, 0] rfl (L4  200 _ _ hf)
def M_colds (m : MS) (a0 : Int32) : Option (Int32 × MS) :=
  (mSI m 23 (0 : Int32)).bind fun m1 =>
  (M_isMinutes a0).bind fun x2 =>
  if x2 = 0 then (
    some ((-1 : Int32), m1)
  ) else (
    (M_open m1).bind fun m4 =>
    (M_goThrough m4 a0).bind fun m5 =>
    (M_coldBits m5).bind fun x6 =>
    (M_again m5).bind fun m7 =>
    some (x6, m7)
  )
set_option maxHeartbeats 4000000 in
set_option maxRecDepth 100000 in
theorem metM_colds (l : Launch) {D : va_G} {dA : Nat → ClassId} {b : Nat} {ad : Nat → Nat} {P : Nat → Prop} {F : Nat → va_E} {m : MS} {m' : MS} {a0 : Int32} {r : Int32} (hf : M_colds m a0 = some (r, m')) : Met l yX4_colds (ws_ yX4_colds cX4_colds 3 (some .int)) (rm0_ 8 181) (mP D dA b ad P F [.ref (ad 46), .int a0] m) (mQ D dA b ad P F (some (.int r)) m') 0 0 (fun q => b ≤ q) := by
  refine qg_met (by decide) RX4 rfl (Nat.le_of_ble_eq_true rfl) (fun Γ hΓ hK => ?_)
  refine g_sub [0, 1] (lv' := [(0, .ref (ad 46)), (1, .int a0)]) rfl ?_
  refine g_aload_n hΓ (pc := 0) 0 (i := 0) dX4_colds_0 rfl rfl ?_
  refine g_iconst hΓ (pc := 1) (v := 0) dX4_colds_1 (by decide) ?_
  obtain ⟨m1, hm1, hf⟩ := bindE hf
  refine qg_put hΓ (pc := 2) hK rfl hm1 q1095 dX4_colds_2 ?_
  refine g_iload_n hΓ (pc := 5) 1 (i := 1) dX4_colds_5 rfl rfl ?_
  obtain ⟨x2, hx2, hf⟩ := bindE hf
  refine qg_callS hΓ (pc := 6) 1 (As := [.int a0]) (metM_isMinutes _ hx2) (lw_S q1444 q1445 q57 q1446) (by decide +kernel) (by decide) rfl rfl (Nat.le_of_ble_eq_true rfl) dX4_colds_6 ?_
  refine g_if_ne hΓ (pc := 9) (tgt := 14) dX4_colds_9 (by decide) (fun c3 => ?_) (fun c3 => ?_)
  · have hf := ifN hf c3
    refine g_aload_n hΓ (pc := 14) 0 (i := 0) dX4_colds_14 rfl rfl ?_
    obtain ⟨m4, hm4, hf⟩ := bindE hf
    refine qg_callV hΓ (pc := 15) hK 0 (As := []) (metM_open _ hm4) (lw_V q1266 q1268 qs22 q57 q1269) (by decide +kernel) (by decide) rfl rfl (Nat.le_of_ble_eq_true rfl) dX4_colds_15 ?_
    refine g_aload_n hΓ (pc := 18) 0 (i := 0) dX4_colds_18 rfl rfl ?_
    refine g_iload_n hΓ (pc := 19) 1 (i := 1) dX4_colds_19 rfl rfl ?_
    obtain ⟨m5, hm5, hf⟩ := bindE hf
    refine qg_callV hΓ (pc := 20) hK 1 (As := [.int a0]) (metM_goThrough _ hm5) (lw_V q1413 q1415 qs47 q57 q1416) (by decide +kernel) (by decide) rfl rfl (Nat.le_of_ble_eq_true rfl) dX4_colds_20 ?_
    refine g_aload_n hΓ (pc := 23) 0 (i := 0) dX4_colds_23 rfl rfl ?_
    obtain ⟨x6, hx6, hf⟩ := bindE hf
    refine qg_callV hΓ (pc := 24) hK 0 (As := []) (metM_coldBits _ hx6) (lw_V q1456 q1458 qs48 q57 q1459) (by decide +kernel) (by decide) rfl rfl (Nat.le_of_ble_eq_true rfl) dX4_colds_24 ?_
    refine g_istore_n hΓ (pc := 27) (i := 2) (lv' := [(2, .int x6), (0, .ref (ad 46)), (1, .int a0)]) dX4_colds_27 rfl (by decide) rfl ?_
    refine g_aload_n hΓ (pc := 28) 1 (i := 0) dX4_colds_28 rfl rfl ?_
    obtain ⟨m7, hm7, hf⟩ := bindE hf
    refine qg_callV hΓ (pc := 29) hK 0 (As := []) (metM_again _ hm7) (lw_V q1354 q1356 qs44 q57 q1357) (by decide +kernel) (by decide) rfl rfl (Nat.le_of_ble_eq_true rfl) dX4_colds_29 ?_
    refine g_iload_n hΓ (pc := 32) 0 (i := 2) dX4_colds_32 rfl rfl ?_
    exact qg_iret hΓ hK hf dX4_colds_33
  · have hf := ifP hf c3
    refine g_iconst hΓ (pc := 12) (v := -1) dX4_colds_12 (by decide) ?_
    exact qg_iret hΓ hK hf dX4_colds_13
def M_had (m : MS) (a0 : Int32) (a1 : Int32) : Option (Int32 × MS) :=
  (mSI m 23 (0 : Int32)).bind fun m1 =>
  (M_isGuest m1 a0).bind fun x2 =>
  if x2 = 0 then (
    some ((-1 : Int32), m1)
  ) else (
    (M_isMinutes a1).bind fun x4 =>
    if x4 = 0 then (
      some ((-1 : Int32), m1)
    ) else (
      (M_open m1).bind fun m6 =>
      (M_goThrough m6 a1).bind fun m7 =>
      (mR m7 18 a0).bind fun x8 =>
      (M_again m7).bind fun m9 =>
      some (x8, m9)
    )
  )
set_option maxHeartbeats 4000000 in
set_option maxRecDepth 100000 in
theorem metM_had (l : Launch) {D : va_G} {dA : Nat → ClassId} {b : Nat} {ad : Nat → Nat} {P : Nat → Prop} {F : Nat → va_E} {m : MS} {m' : MS} {a0 : Int32} {a1 : Int32} {r : Int32} (hf : M_had m a0 a1 = some (r, m')) : Met l yX4_had (ws_ yX4_had cX4_had 4 (some .int)) (rm0_ 8 181) (mP D dA b ad P F [.ref (ad 46), .int a0, .int a1] m) (mQ D dA b ad P F (some (.int r)) m') 0 0 (fun q => b ≤ q) := by
  refine qg_met (by decide) RX4 rfl (Nat.le_of_ble_eq_true rfl) (fun Γ hΓ hK => ?_)
  refine g_sub [0, 1, 2] (lv' := [(0, .ref (ad 46)), (1, .int a0), (2, .int a1)]) rfl ?_
  refine g_aload_n hΓ (pc := 0) 0 (i := 0) dX4_had_0 rfl rfl ?_
  refine g_iconst hΓ (pc := 1) (v := 0) dX4_had_1 (by decide) ?_
  obtain ⟨m1, hm1, hf⟩ := bindE hf
  refine qg_put hΓ (pc := 2) hK rfl hm1 q1095 dX4_had_2 ?_
  refine g_aload_n hΓ (pc := 5) 0 (i := 0) dX4_had_5 rfl rfl ?_
  refine g_iload_n hΓ (pc := 6) 1 (i := 1) dX4_had_6 rfl rfl ?_
  obtain ⟨x2, hx2, hf⟩ := bindE hf
  refine qg_callV hΓ (pc := 7) hK 1 (As := [.int a0]) (metM_isGuest _ hx2) (lw_V q1290 q1292 qs28 q57 q1293) (by decide +kernel) (by decide) rfl rfl (Nat.le_of_ble_eq_true rfl) dX4_had_7 ?_
  refine g_if_eq hΓ (pc := 10) (tgt := 20) dX4_had_10 (by decide) (fun c3 => ?_) (fun c3 => ?_)
  · have hf := ifP hf c3
    refine g_iconst hΓ (pc := 20) (v := -1) dX4_had_20 (by decide) ?_
    exact qg_iret hΓ hK hf dX4_had_21
  · have hf := ifN hf c3
    refine g_iload_n hΓ (pc := 13) 2 (i := 2) dX4_had_13 rfl rfl ?_
    obtain ⟨x4, hx4, hf⟩ := bindE hf
    refine qg_callS hΓ (pc := 14) 1 (As := [.int a1]) (metM_isMinutes _ hx4) (lw_S q1444 q1445 q57 q1446) (by decide +kernel) (by decide) rfl rfl (Nat.le_of_ble_eq_true rfl) dX4_had_14 ?_
    refine g_if_ne hΓ (pc := 17) (tgt := 22) dX4_had_17 (by decide) (fun c5 => ?_) (fun c5 => ?_)
    · have hf := ifN hf c5
      refine g_aload_n hΓ (pc := 22) 0 (i := 0) dX4_had_22 rfl rfl ?_
      obtain ⟨m6, hm6, hf⟩ := bindE hf
      refine qg_callV hΓ (pc := 23) hK 0 (As := []) (metM_open _ hm6) (lw_V q1266 q1268 qs22 q57 q1269) (by decide +kernel) (by decide) rfl rfl (Nat.le_of_ble_eq_true rfl) dX4_had_23 ?_
      refine g_aload_n hΓ (pc := 26) 0 (i := 0) dX4_had_26 rfl rfl ?_
      refine g_iload_n hΓ (pc := 27) 2 (i := 2) dX4_had_27 rfl rfl ?_
      obtain ⟨m7, hm7, hf⟩ := bindE hf
      refine qg_callV hΓ (pc := 28) hK 1 (As := [.int a1]) (metM_goThrough _ hm7) (lw_V q1413 q1415 qs47 q57 q1416) (by decide +kernel) (by decide) rfl rfl (Nat.le_of_ble_eq_true rfl) dX4_had_28 ?_
      refine g_aload_n hΓ (pc := 31) 0 (i := 0) dX4_had_31 rfl rfl ?_
      refine qg_geta hΓ (pc := 32) hK (k := 18) rfl q1090 dX4_had_32 ?_
      refine g_iload_n hΓ (pc := 35) 1 (i := 1) dX4_had_35 rfl rfl ?_
      obtain ⟨x8, hx8, hf⟩ := bindE hf
      refine qg_iald hΓ (pc := 36) hK rfl hx8 dX4_had_36 rfl ?_
      refine g_istore_n hΓ (pc := 37) (i := 3) (lv' := [(3, .int x8), (0, .ref (ad 46)), (1, .int a0), (2, .int a1)]) dX4_had_37 rfl (by decide) rfl ?_
      refine g_aload_n hΓ (pc := 38) 1 (i := 0) dX4_had_38 rfl rfl ?_
      obtain ⟨m9, hm9, hf⟩ := bindE hf
      refine qg_callV hΓ (pc := 39) hK 0 (As := []) (metM_again _ hm9) (lw_V q1354 q1356 qs44 q57 q1357) (by decide +kernel) (by decide) rfl rfl (Nat.le_of_ble_eq_true rfl) dX4_had_39 ?_
      refine g_iload_n hΓ (pc := 42) 0 (i := 3) dX4_had_42 rfl rfl ?_
      exact qg_iret hΓ hK hf dX4_had_43
    · have hf := ifP hf c5
      refine g_iconst hΓ (pc := 20) (v := -1) dX4_had_20 (by decide) ?_
      exact qg_iret hΓ hK hf dX4_had_21
def M_where (m : MS) (a0 : Int32) (a1 : Int32) : Option (Int32 × MS) :=
  (mSI m 23 (0 : Int32)).bind fun m1 =>
  (M_isGlass m1 a0).bind fun x2 =>
  if x2 = 0 then (
    some ((-1 : Int32), m1)
  ) else (
    (M_isMinutes a1).bind fun x4 =>
    if x4 = 0 then (
      some ((-1 : Int32), m1)
    ) else (
      (M_open m1).bind fun m6 =>
      (M_goThrough m6 a1).bind fun m7 =>
      (mR m7 7 a0).bind fun x8 =>
      (M_again m7).bind fun m9 =>
      some (x8, m9)
    )
  )
set_option maxHeartbeats 4000000 in
set_option maxRecDepth 100000 in
theorem metM_where (l : Launch) {D : va_G} {dA : Nat → ClassId} {b : Nat} {ad : Nat → Nat} {P : Nat → Prop} {F : Nat → va_E} {m : MS} {m' : MS} {a0 : Int32} {a1 : Int32} {r : Int32} (hf : M_where m a0 a1 = some (r, m')) : Met l yX4_where (ws_ yX4_where cX4_where 4 (some .int)) (rm0_ 8 181) (mP D dA b ad P F [.ref (ad 46), .int a0, .int a1] m) (mQ D dA b ad P F (some (.int r)) m') 0 0 (fun q => b ≤ q) := by
  refine qg_met (by decide) RX4 rfl (Nat.le_of_ble_eq_true rfl) (fun Γ hΓ hK => ?_)
  refine g_sub [0, 1, 2] (lv' := [(0, .ref (ad 46)), (1, .int a0), (2, .int a1)]) rfl ?_
  refine g_aload_n hΓ (pc := 0) 0 (i := 0) dX4_where_0 rfl rfl ?_
  refine g_iconst hΓ (pc := 1) (v := 0) dX4_where_1 (by decide) ?_
  obtain ⟨m1, hm1, hf⟩ := bindE hf
  refine qg_put hΓ (pc := 2) hK rfl hm1 q1095 dX4_where_2 ?_
  refine g_aload_n hΓ (pc := 5) 0 (i := 0) dX4_where_5 rfl rfl ?_
  refine g_iload_n hΓ (pc := 6) 1 (i := 1) dX4_where_6 rfl rfl ?_
  obtain ⟨x2, hx2, hf⟩ := bindE hf
  refine qg_callV hΓ (pc := 7) hK 1 (As := [.int a0]) (metM_isGlass _ hx2) (lw_V q1294 q1296 qs29 q57 q1297) (by decide +kernel) (by decide) rfl rfl (Nat.le_of_ble_eq_true rfl) dX4_where_7 ?_
  refine g_if_eq hΓ (pc := 10) (tgt := 20) dX4_where_10 (by decide) (fun c3 => ?_) (fun c3 => ?_)
  · have hf := ifP hf c3
    refine g_iconst hΓ (pc := 20) (v := -1) dX4_where_20 (by decide) ?_
    exact qg_iret hΓ hK hf dX4_where_21
  · have hf := ifN hf c3
    refine g_iload_n hΓ (pc := 13) 2 (i := 2) dX4_where_13 rfl rfl ?_
    obtain ⟨x4, hx4, hf⟩ := bindE hf
    refine qg_callS hΓ (pc := 14) 1 (As := [.int a1]) (metM_isMinutes _ hx4) (lw_S q1444 q1445 q57 q1446) (by decide +kernel) (by decide) rfl rfl (Nat.le_of_ble_eq_true rfl) dX4_where_14 ?_
    refine g_if_ne hΓ (pc := 17) (tgt := 22) dX4_where_17 (by decide) (fun c5 => ?_) (fun c5 => ?_)
    · have hf := ifN hf c5
      refine g_aload_n hΓ (pc := 22) 0 (i := 0) dX4_where_22 rfl rfl ?_
      obtain ⟨m6, hm6, hf⟩ := bindE hf
      refine qg_callV hΓ (pc := 23) hK 0 (As := []) (metM_open _ hm6) (lw_V q1266 q1268 qs22 q57 q1269) (by decide +kernel) (by decide) rfl rfl (Nat.le_of_ble_eq_true rfl) dX4_where_23 ?_
      refine g_aload_n hΓ (pc := 26) 0 (i := 0) dX4_where_26 rfl rfl ?_
      refine g_iload_n hΓ (pc := 27) 2 (i := 2) dX4_where_27 rfl rfl ?_
      obtain ⟨m7, hm7, hf⟩ := bindE hf
      refine qg_callV hΓ (pc := 28) hK 1 (As := [.int a1]) (metM_goThrough _ hm7) (lw_V q1413 q1415 qs47 q57 q1416) (by decide +kernel) (by decide) rfl rfl (Nat.le_of_ble_eq_true rfl) dX4_where_28 ?_
      refine g_aload_n hΓ (pc := 31) 0 (i := 0) dX4_where_31 rfl rfl ?_
      refine qg_geta hΓ (pc := 32) hK (k := 7) rfl q1079 dX4_where_32 ?_
      refine g_iload_n hΓ (pc := 35) 1 (i := 1) dX4_where_35 rfl rfl ?_
      obtain ⟨x8, hx8, hf⟩ := bindE hf
      refine qg_iald hΓ (pc := 36) hK rfl hx8 dX4_where_36 rfl ?_
      refine g_istore_n hΓ (pc := 37) (i := 3) (lv' := [(3, .int x8), (0, .ref (ad 46)), (1, .int a0), (2, .int a1)]) dX4_where_37 rfl (by decide) rfl ?_
      refine g_aload_n hΓ (pc := 38) 1 (i := 0) dX4_where_38 rfl rfl ?_
      obtain ⟨m9, hm9, hf⟩ := bindE hf
      refine qg_callV hΓ (pc := 39) hK 0 (As := []) (metM_again _ hm9) (lw_V q1354 q1356 qs44 q57 q1357) (by decide +kernel) (by decide) rfl rfl (Nat.le_of_ble_eq_true rfl) dX4_where_39 ?_
      refine g_iload_n hΓ (pc := 42) 0 (i := 3) dX4_where_42 rfl rfl ?_
      exact qg_iret hΓ hK hf dX4_where_43
    · have hf := ifP hf c5
      refine g_iconst hΓ (pc := 20) (v := -1) dX4_where_20 (by decide) ?_
      exact qg_iret hΓ hK hf dX4_where_21
def M_coldAlone_23s (k23 : MS → Int32 → Int32 → Option (MS)) (m : MS) (y1 : Int32) (y2 : Int32) : Option (MS) :=
  if (6 : Int32) ≤ y2 then (
    some m
  ) else (
    if y2 = y1 then (
      (mW m 19 y2 (1 : Int32)).bind fun m5 =>
      (some (y2 + 1)).bind fun x6 =>
      k23 m5 y1 x6
    ) else (
      (mW m 19 y2 (0 : Int32)).bind fun m3 =>
      (some (y2 + 1)).bind fun x4 =>
      k23 m3 y1 x4
    )
  )
def M_coldAlone_23 : Nat → MS → Int32 → Int32 → Option (MS)
  | 0 => fun _ _ _ => none
  | n + 1 => M_coldAlone_23s   (M_coldAlone_23   n)
def M_coldAlone_2s (k2 : MS → Int32 → Int32 → Option (MS)) (m : MS) (y1 : Int32) (y2 : Int32) : Option (MS) :=
  if (12 : Int32) ≤ y2 then (
    M_coldAlone_23 200 m y1 (0 : Int32)
  ) else (
    (mW m 10 y2 (0 : Int32)).bind fun m8 =>
    (some (y2 + 1)).bind fun x9 =>
    k2 m8 y1 x9
  )
def M_coldAlone_2 : Nat → MS → Int32 → Int32 → Option (MS)
  | 0 => fun _ _ _ => none
  | n + 1 => M_coldAlone_2s   (M_coldAlone_2   n)
def M_coldAlone (m : MS) (a0 : Int32) : Option (MS) :=
  M_coldAlone_2 200 m a0 (0 : Int32)
set_option maxHeartbeats 4000000 in
set_option maxRecDepth 100000 in
theorem metM_coldAlone (l : Launch) {D : va_G} {dA : Nat → ClassId} {b : Nat} {ad : Nat → Nat} {P : Nat → Prop} {F : Nat → va_E} {m : MS} {m' : MS} {a0 : Int32} (hf : M_coldAlone m a0 = some m') : Met l yX4_coldAlone (ws_ yX4_coldAlone cX4_coldAlone 3 none) (rm0_ 0 0) (mP D dA b ad P F [.ref (ad 46), .int a0] m) (mQ D dA b ad P F none m') 0 0 (fun q => b ≤ q) := by
  refine qg_met (by decide) RX4 rfl (Nat.le_of_ble_eq_true rfl) (fun Γ hΓ hK => ?_)
  refine g_sub [0, 1] (lv' := [(0, .ref (ad 46)), (1, .int a0)]) rfl ?_
  have S23 : ∀ (k23 : MS → Int32 → Int32 → Option (MS)) (hk23 : ∀ (m : MS) (y1 : Int32) (y2 : Int32), k23 m y1 y2 = some m' → WG Γ (MW D dA b ad P F m) 0 0 23 [(0, .ref (ad 46)), (1, .int y1), (2, .int y2)] []) (m : MS) (y1 : Int32) (y2 : Int32) (hf : M_coldAlone_23s  k23 m y1 y2 = some m'), WG Γ (MW D dA b ad P F m) 0 0 23 [(0, .ref (ad 46)), (1, .int y1), (2, .int y2)] [] := by
    intro k23 hk23 m y1 y2 hf
    refine g_iload_n hΓ (pc := 23) 2 (i := 2) dX4_coldAlone_23 rfl rfl ?_
    refine g_bipush hΓ (pc := 24) (v := 6) dX4_coldAlone_24 (by decide) ?_
    refine g_icmp_ge hΓ (pc := 26) (tgt := 51) dX4_coldAlone_26 (by decide) (fun c1 => ?_) (fun c1 => ?_)
    · have hf := ifP hf c1
      exact qg_vret hΓ hK hf dX4_coldAlone_51
    · have hf := ifN hf c1
      refine g_aload_n hΓ (pc := 29) 0 (i := 0) dX4_coldAlone_29 rfl rfl ?_
      refine qg_geta hΓ (pc := 30) hK (k := 19) rfl q1091 dX4_coldAlone_30 ?_
      refine g_iload_n hΓ (pc := 33) 2 (i := 2) dX4_coldAlone_33 rfl rfl ?_
      refine g_iload_n hΓ (pc := 34) 2 (i := 2) dX4_coldAlone_34 rfl rfl ?_
      refine g_iload_n hΓ (pc := 35) 1 (i := 1) dX4_coldAlone_35 rfl rfl ?_
      refine g_icmp_ne hΓ (pc := 36) (tgt := 43) dX4_coldAlone_36 (by decide) (fun c2 => ?_) (fun c2 => ?_)
      · have hf := ifN hf c2
        refine g_iconst hΓ (pc := 43) (v := 0) dX4_coldAlone_43 (by decide) ?_
        obtain ⟨m3, hm3, hf⟩ := bindE hf
        refine qg_iast hΓ (pc := 44) hK rfl hm3 dX4_coldAlone_44 rfl ?_
        obtain ⟨x4, hx4, hf⟩ := bindE hf
        refine g_iinc hΓ (pc := 45) 2 (i := 2) (v := x4) (lv' := [(2, .int x4), (0, .ref (ad 46)), (1, .int y1)]) dX4_coldAlone_45 rfl (Option.some.inj hx4) (by decide) rfl ?_
        refine g_goto hΓ (pc := 48) (tgt := 23) dX4_coldAlone_48 (by decide) ?_
        exact g_sub [1, 2, 0] rfl (hk23 _ _ _ hf)
      · have hf := ifP hf c2
        refine g_iconst hΓ (pc := 39) (v := 1) dX4_coldAlone_39 (by decide) ?_
        refine g_goto hΓ (pc := 40) (tgt := 44) dX4_coldAlone_40 (by decide) ?_
        obtain ⟨m5, hm5, hf⟩ := bindE hf
        refine qg_iast hΓ (pc := 44) hK rfl hm5 dX4_coldAlone_44 rfl ?_
        obtain ⟨x6, hx6, hf⟩ := bindE hf
        refine g_iinc hΓ (pc := 45) 2 (i := 2) (v := x6) (lv' := [(2, .int x6), (0, .ref (ad 46)), (1, .int y1)]) dX4_coldAlone_45 rfl (Option.some.inj hx6) (by decide) rfl ?_
        refine g_goto hΓ (pc := 48) (tgt := 23) dX4_coldAlone_48 (by decide) ?_
        exact g_sub [1, 2, 0] rfl (hk23 _ _ _ hf)
  have L23 : ∀ (n : Nat) (m : MS) (y1 : Int32) (y2 : Int32) (hf : M_coldAlone_23   n m y1 y2 = some m'), WG Γ (MW D dA b ad P F m) 0 0 23 [(0, .ref (ad 46)), (1, .int y1), (2, .int y2)] [] := by
    intro  n
    induction n with
    | zero => intro m y1 y2 hf; exact nomatch (show (none : Option (MS)) = some _ from hf)
    | succ n ih => exact S23  _ ih
  have S2 : ∀ (k2 : MS → Int32 → Int32 → Option (MS)) (hk2 : ∀ (m : MS) (y1 : Int32) (y2 : Int32), k2 m y1 y2 = some m' → WG Γ (MW D dA b ad P F m) 0 0 2 [(0, .ref (ad 46)), (1, .int y1), (2, .int y2)] []) (m : MS) (y1 : Int32) (y2 : Int32) (hf : M_coldAlone_2s  k2 m y1 y2 = some m'), WG Γ (MW D dA b ad P F m) 0 0 2 [(0, .ref (ad 46)), (1, .int y1), (2, .int y2)] [] := by
    intro k2 hk2 m y1 y2 hf
    refine g_iload_n hΓ (pc := 2) 2 (i := 2) dX4_coldAlone_2 rfl rfl ?_
    refine g_bipush hΓ (pc := 3) (v := 12) dX4_coldAlone_3 (by decide) ?_
    refine g_icmp_ge hΓ (pc := 5) (tgt := 21) dX4_coldAlone_5 (by decide) (fun c7 => ?_) (fun c7 => ?_)
    · have hf := ifP hf c7
      refine g_iconst hΓ (pc := 21) (v := 0) dX4_coldAlone_21 (by decide) ?_
      refine g_istore_n hΓ (pc := 22) (i := 2) (lv' := [(2, .int (0 : Int32)), (0, .ref (ad 46)), (1, .int y1)]) dX4_coldAlone_22 rfl (by decide) rfl ?_
      exact g_sub [1, 2, 0] rfl (L23  200 _ _ _ hf)
    · have hf := ifN hf c7
      refine g_aload_n hΓ (pc := 8) 0 (i := 0) dX4_coldAlone_8 rfl rfl ?_
      refine qg_geta hΓ (pc := 9) hK (k := 10) rfl q1082 dX4_coldAlone_9 ?_
      refine g_iload_n hΓ (pc := 12) 2 (i := 2) dX4_coldAlone_12 rfl rfl ?_
      refine g_iconst hΓ (pc := 13) (v := 0) dX4_coldAlone_13 (by decide) ?_
      obtain ⟨m8, hm8, hf⟩ := bindE hf
      refine qg_iast hΓ (pc := 14) hK rfl hm8 dX4_coldAlone_14 rfl ?_
      obtain ⟨x9, hx9, hf⟩ := bindE hf
      refine g_iinc hΓ (pc := 15) 2 (i := 2) (v := x9) (lv' := [(2, .int x9), (0, .ref (ad 46)), (1, .int y1)]) dX4_coldAlone_15 rfl (Option.some.inj hx9) (by decide) rfl ?_
      refine g_goto hΓ (pc := 18) (tgt := 2) dX4_coldAlone_18 (by decide) ?_
      exact g_sub [1, 2, 0] rfl (hk2 _ _ _ hf)
  have L2 : ∀ (n : Nat) (m : MS) (y1 : Int32) (y2 : Int32) (hf : M_coldAlone_2   n m y1 y2 = some m'), WG Γ (MW D dA b ad P F m) 0 0 2 [(0, .ref (ad 46)), (1, .int y1), (2, .int y2)] [] := by
    intro  n
    induction n with
    | zero => intro m y1 y2 hf; exact nomatch (show (none : Option (MS)) = some _ from hf)
    | succ n ih => exact S2  _ ih
  refine g_iconst hΓ (pc := 0) (v := 0) dX4_coldAlone_0 (by decide) ?_
  refine g_istore_n hΓ (pc := 1) (i := 2) (lv' := [(2, .int (0 : Int32)), (0, .ref (ad 46)), (1, .int a0)]) dX4_coldAlone_1 rfl (by decide) rfl ?_
  exact g_sub [1, 2, 0] rfl (L2  200 _ _ _ hf)
def M_brought_82 (k41 : MS → Int32 → Int32 → Int32 → Int32 → Option (Int32 × MS)) (m : MS) (y1 : Int32) (y2 : Int32) (y4 : Int32) (z0 : Int32) (z1 : Int32) : Option (Int32 × MS) :=
  (some (z1 ||| z0)).bind fun x1 =>
  (M_again m).bind fun m2 =>
  (some (y4 + 1)).bind fun x3 =>
  k41 m2 y1 y2 x1 x3
def M_brought_41s (k41 : MS → Int32 → Int32 → Int32 → Int32 → Option (Int32 × MS)) (m : MS) (y1 : Int32) (y2 : Int32) (y3 : Int32) (y4 : Int32) : Option (Int32 × MS) :=
  if (m.1 1) ≤ y4 then (
    (M_again m).bind fun m5 =>
    some (y3, m5)
  ) else (
    (M_again m).bind fun m6 =>
    (M_coldAlone m6 y4).bind fun m7 =>
    (M_goThrough m7 y2).bind fun m8 =>
    (M_coldBits m8).bind fun x9 =>
    if x9 = y1 then (
      M_brought_82 k41 m8 y1 y2 y4 ((1 : Int32) <<< (y4 &&& 31)) y3
    ) else (
      M_brought_82 k41 m8 y1 y2 y4 (0 : Int32) y3
    )
  )
def M_brought_41 : Nat → MS → Int32 → Int32 → Int32 → Int32 → Option (Int32 × MS)
  | 0 => fun _ _ _ _ _ => none
  | n + 1 => M_brought_41s   (M_brought_41   n)
def M_brought (m : MS) (a0 : Int32) (a1 : Int32) : Option (Int32 × MS) :=
  (mSI m 23 (0 : Int32)).bind fun m11 =>
  (M_in a0.toInt64 (0 : Int64) ((((1 : Int32) <<< ((m11.1 1) &&& 31)) - (1 : Int32)).toInt64)).bind fun x12 =>
  if x12 = 0 then (
    some ((-1 : Int32), m11)
  ) else (
    (M_isMinutes a1).bind fun x14 =>
    if x14 = 0 then (
      some ((-1 : Int32), m11)
    ) else (
      (M_open m11).bind fun m16 =>
      M_brought_41 200 m16 a0 a1 (0 : Int32) (0 : Int32)
    )
  )
set_option maxHeartbeats 4000000 in
set_option maxRecDepth 100000 in
theorem metM_brought (l : Launch) {D : va_G} {dA : Nat → ClassId} {b : Nat} {ad : Nat → Nat} {P : Nat → Prop} {F : Nat → va_E} {m : MS} {m' : MS} {a0 : Int32} {a1 : Int32} {r : Int32} (hf : M_brought m a0 a1 = some (r, m')) : Met l yX4_brought (ws_ yX4_brought cX4_brought 5 (some .int)) (rm0_ 8 181) (mP D dA b ad P F [.ref (ad 46), .int a0, .int a1] m) (mQ D dA b ad P F (some (.int r)) m') 0 0 (fun q => b ≤ q) := by
  refine qg_met (by decide) RX4 rfl (Nat.le_of_ble_eq_true rfl) (fun Γ hΓ hK => ?_)
  refine g_sub [0, 1, 2] (lv' := [(0, .ref (ad 46)), (1, .int a0), (2, .int a1)]) rfl ?_
  have J82 : ∀ (k41 : MS → Int32 → Int32 → Int32 → Int32 → Option (Int32 × MS)) (hk41 : ∀ (m : MS) (y1 : Int32) (y2 : Int32) (y3 : Int32) (y4 : Int32), k41 m y1 y2 y3 y4 = some (r, m') → WG Γ (MW D dA b ad P F m) 0 0 41 [(0, .ref (ad 46)), (1, .int y1), (2, .int y2), (3, .int y3), (4, .int y4)] []) (m : MS) (y1 : Int32) (y2 : Int32) (y4 : Int32) (z0 : Int32) (z1 : Int32) (hf : M_brought_82  k41 m y1 y2 y4 z0 z1 = some (r, m')), WG Γ (MW D dA b ad P F m) 0 0 82 [(0, .ref (ad 46)), (1, .int y1), (2, .int y2), (4, .int y4)] [.int z0, .int z1] := by
    intro k41 hk41 m y1 y2 y4 z0 z1 hf
    refine g_ior hΓ (pc := 82) dX4_brought_82 ?_
    obtain ⟨x1, hx1, hf⟩ := bindE hf
    refine g_topi hx1 ?_
    refine g_istore_n hΓ (pc := 83) (i := 3) (lv' := [(3, .int x1), (0, .ref (ad 46)), (1, .int y1), (2, .int y2), (4, .int y4)]) dX4_brought_83 rfl (by decide) rfl ?_
    refine g_aload_n hΓ (pc := 84) 1 (i := 0) dX4_brought_84 rfl rfl ?_
    obtain ⟨m2, hm2, hf⟩ := bindE hf
    refine qg_callV hΓ (pc := 85) hK 0 (As := []) (metM_again _ hm2) (lw_V q1354 q1356 qs44 q57 q1357) (by decide +kernel) (by decide) rfl rfl (Nat.le_of_ble_eq_true rfl) dX4_brought_85 ?_
    obtain ⟨x3, hx3, hf⟩ := bindE hf
    refine g_iinc hΓ (pc := 88) 4 (i := 4) (v := x3) (lv' := [(4, .int x3), (3, .int x1), (0, .ref (ad 46)), (1, .int y1), (2, .int y2)]) dX4_brought_88 rfl (Option.some.inj hx3) (by decide) rfl ?_
    refine g_goto hΓ (pc := 91) (tgt := 41) dX4_brought_91 (by decide) ?_
    exact g_sub [2, 3, 4, 1, 0] rfl (hk41 _ _ _ _ _ hf)
  have S41 : ∀ (k41 : MS → Int32 → Int32 → Int32 → Int32 → Option (Int32 × MS)) (hk41 : ∀ (m : MS) (y1 : Int32) (y2 : Int32) (y3 : Int32) (y4 : Int32), k41 m y1 y2 y3 y4 = some (r, m') → WG Γ (MW D dA b ad P F m) 0 0 41 [(0, .ref (ad 46)), (1, .int y1), (2, .int y2), (3, .int y3), (4, .int y4)] []) (m : MS) (y1 : Int32) (y2 : Int32) (y3 : Int32) (y4 : Int32) (hf : M_brought_41s  k41 m y1 y2 y3 y4 = some (r, m')), WG Γ (MW D dA b ad P F m) 0 0 41 [(0, .ref (ad 46)), (1, .int y1), (2, .int y2), (3, .int y3), (4, .int y4)] [] := by
    intro k41 hk41 m y1 y2 y3 y4 hf
    refine g_iload hΓ (pc := 41) 4 (i := 4) dX4_brought_41 rfl ?_
    refine g_aload_n hΓ (pc := 43) 0 (i := 0) dX4_brought_43 rfl rfl ?_
    refine qg_get hΓ (pc := 44) hK (k := 1) rfl q1073 dX4_brought_44 ?_
    refine g_icmp_ge hΓ (pc := 47) (tgt := 94) dX4_brought_47 (by decide) (fun c4 => ?_) (fun c4 => ?_)
    · have hf := ifP hf c4
      refine g_aload_n hΓ (pc := 94) 0 (i := 0) dX4_brought_94 rfl rfl ?_
      obtain ⟨m5, hm5, hf⟩ := bindE hf
      refine qg_callV hΓ (pc := 95) hK 0 (As := []) (metM_again _ hm5) (lw_V q1354 q1356 qs44 q57 q1357) (by decide +kernel) (by decide) rfl rfl (Nat.le_of_ble_eq_true rfl) dX4_brought_95 ?_
      refine g_iload_n hΓ (pc := 98) 3 (i := 3) dX4_brought_98 rfl rfl ?_
      exact qg_iret hΓ hK hf dX4_brought_99
    · have hf := ifN hf c4
      refine g_aload_n hΓ (pc := 50) 0 (i := 0) dX4_brought_50 rfl rfl ?_
      obtain ⟨m6, hm6, hf⟩ := bindE hf
      refine qg_callV hΓ (pc := 51) hK 0 (As := []) (metM_again _ hm6) (lw_V q1354 q1356 qs44 q57 q1357) (by decide +kernel) (by decide) rfl rfl (Nat.le_of_ble_eq_true rfl) dX4_brought_51 ?_
      refine g_aload_n hΓ (pc := 54) 0 (i := 0) dX4_brought_54 rfl rfl ?_
      refine g_iload hΓ (pc := 55) 4 (i := 4) dX4_brought_55 rfl ?_
      obtain ⟨m7, hm7, hf⟩ := bindE hf
      refine qg_callV hΓ (pc := 57) hK 1 (As := [.int y4]) (metM_coldAlone _ hm7) (lw_V q1472 q1474 qs49 q57 q1475) (by decide +kernel) (by decide) rfl rfl (Nat.le_of_ble_eq_true rfl) dX4_brought_57 ?_
      refine g_aload_n hΓ (pc := 60) 0 (i := 0) dX4_brought_60 rfl rfl ?_
      refine g_iload_n hΓ (pc := 61) 2 (i := 2) dX4_brought_61 rfl rfl ?_
      obtain ⟨m8, hm8, hf⟩ := bindE hf
      refine qg_callV hΓ (pc := 62) hK 1 (As := [.int y2]) (metM_goThrough _ hm8) (lw_V q1413 q1415 qs47 q57 q1416) (by decide +kernel) (by decide) rfl rfl (Nat.le_of_ble_eq_true rfl) dX4_brought_62 ?_
      refine g_iload_n hΓ (pc := 65) 3 (i := 3) dX4_brought_65 rfl rfl ?_
      refine g_aload_n hΓ (pc := 66) 0 (i := 0) dX4_brought_66 rfl rfl ?_
      obtain ⟨x9, hx9, hf⟩ := bindE hf
      refine qg_callV hΓ (pc := 67) hK 0 (As := []) (metM_coldBits _ hx9) (lw_V q1456 q1458 qs48 q57 q1459) (by decide +kernel) (by decide) rfl rfl (Nat.le_of_ble_eq_true rfl) dX4_brought_67 ?_
      refine g_iload_n hΓ (pc := 70) 1 (i := 1) dX4_brought_70 rfl rfl ?_
      refine g_icmp_ne hΓ (pc := 71) (tgt := 81) dX4_brought_71 (by decide) (fun c10 => ?_) (fun c10 => ?_)
      · have hf := ifN hf c10
        refine g_iconst hΓ (pc := 81) (v := 0) dX4_brought_81 (by decide) ?_
        exact g_sub [0, 1, 2, 4] rfl (J82 k41 hk41 _ _ _ _ _ _ hf)
      · have hf := ifP hf c10
        refine g_iconst hΓ (pc := 74) (v := 1) dX4_brought_74 (by decide) ?_
        refine g_iload hΓ (pc := 75) 4 (i := 4) dX4_brought_75 rfl ?_
        refine g_ishl hΓ (pc := 77) dX4_brought_77 ?_
        refine g_goto hΓ (pc := 78) (tgt := 82) dX4_brought_78 (by decide) ?_
        exact g_sub [0, 1, 2, 4] rfl (J82 k41 hk41 _ _ _ _ _ _ hf)
  have L41 : ∀ (n : Nat) (m : MS) (y1 : Int32) (y2 : Int32) (y3 : Int32) (y4 : Int32) (hf : M_brought_41   n m y1 y2 y3 y4 = some (r, m')), WG Γ (MW D dA b ad P F m) 0 0 41 [(0, .ref (ad 46)), (1, .int y1), (2, .int y2), (3, .int y3), (4, .int y4)] [] := by
    intro  n
    induction n with
    | zero => intro m y1 y2 y3 y4 hf; exact nomatch (show (none : Option (Int32 × MS)) = some _ from hf)
    | succ n ih => exact S41  _ ih
  refine g_aload_n hΓ (pc := 0) 0 (i := 0) dX4_brought_0 rfl rfl ?_
  refine g_iconst hΓ (pc := 1) (v := 0) dX4_brought_1 (by decide) ?_
  obtain ⟨m11, hm11, hf⟩ := bindE hf
  refine qg_put hΓ (pc := 2) hK rfl hm11 q1095 dX4_brought_2 ?_
  refine g_iload_n hΓ (pc := 5) 1 (i := 1) dX4_brought_5 rfl rfl ?_
  refine g_i2l hΓ (pc := 6) dX4_brought_6 ?_
  refine g_lconst hΓ (pc := 7) (v := 0) dX4_brought_7 (by decide) ?_
  refine g_iconst hΓ (pc := 8) (v := 1) dX4_brought_8 (by decide) ?_
  refine g_aload_n hΓ (pc := 9) 0 (i := 0) dX4_brought_9 rfl rfl ?_
  refine qg_get hΓ (pc := 10) hK (k := 1) rfl q1073 dX4_brought_10 ?_
  refine g_ishl hΓ (pc := 13) dX4_brought_13 ?_
  refine g_iconst hΓ (pc := 14) (v := 1) dX4_brought_14 (by decide) ?_
  refine g_isub hΓ (pc := 15) dX4_brought_15 ?_
  refine g_i2l hΓ (pc := 16) dX4_brought_16 ?_
  obtain ⟨x12, hx12, hf⟩ := bindE hf
  refine qg_callS hΓ (pc := 17) 3 (As := [.long a0.toInt64, .long (0 : Int64), .long ((((1 : Int32) <<< ((m11.1 1) &&& 31)) - (1 : Int32)).toInt64)]) (metM_in _ hx12) (lw_S q1245 q1246 q57 q1247) (by decide +kernel) (by decide) rfl rfl (Nat.le_of_ble_eq_true rfl) dX4_brought_17 ?_
  refine g_if_eq hΓ (pc := 20) (tgt := 30) dX4_brought_20 (by decide) (fun c13 => ?_) (fun c13 => ?_)
  · have hf := ifP hf c13
    refine g_iconst hΓ (pc := 30) (v := -1) dX4_brought_30 (by decide) ?_
    exact qg_iret hΓ hK hf dX4_brought_31
  · have hf := ifN hf c13
    refine g_iload_n hΓ (pc := 23) 2 (i := 2) dX4_brought_23 rfl rfl ?_
    obtain ⟨x14, hx14, hf⟩ := bindE hf
    refine qg_callS hΓ (pc := 24) 1 (As := [.int a1]) (metM_isMinutes _ hx14) (lw_S q1444 q1445 q57 q1446) (by decide +kernel) (by decide) rfl rfl (Nat.le_of_ble_eq_true rfl) dX4_brought_24 ?_
    refine g_if_ne hΓ (pc := 27) (tgt := 32) dX4_brought_27 (by decide) (fun c15 => ?_) (fun c15 => ?_)
    · have hf := ifN hf c15
      refine g_iconst hΓ (pc := 32) (v := 0) dX4_brought_32 (by decide) ?_
      refine g_istore_n hΓ (pc := 33) (i := 3) (lv' := [(3, .int (0 : Int32)), (0, .ref (ad 46)), (1, .int a0), (2, .int a1)]) dX4_brought_33 rfl (by decide) rfl ?_
      refine g_aload_n hΓ (pc := 34) 1 (i := 0) dX4_brought_34 rfl rfl ?_
      obtain ⟨m16, hm16, hf⟩ := bindE hf
      refine qg_callV hΓ (pc := 35) hK 0 (As := []) (metM_open _ hm16) (lw_V q1266 q1268 qs22 q57 q1269) (by decide +kernel) (by decide) rfl rfl (Nat.le_of_ble_eq_true rfl) dX4_brought_35 ?_
      refine g_iconst hΓ (pc := 38) (v := 0) dX4_brought_38 (by decide) ?_
      refine g_istore hΓ (pc := 39) (i := 4) (lv' := [(4, .int (0 : Int32)), (3, .int (0 : Int32)), (0, .ref (ad 46)), (1, .int a0), (2, .int a1)]) dX4_brought_39 (by decide) rfl ?_
      exact g_sub [2, 3, 4, 1, 0] rfl (L41  200 _ _ _ _ _ hf)
    · have hf := ifP hf c15
      refine g_iconst hΓ (pc := 30) (v := -1) dX4_brought_30 (by decide) ?_
      exact qg_iret hΓ hK hf dX4_brought_31
def M_particular_96 (m : MS) (y3 : Int32) : Option (Int32 × MS) :=
  (M_again m).bind fun m1 =>
  some (y3, m1)
def M_particular_47s (k29 : MS → Int32 → Int32 → Int32 → Int32 → Option (Int32 × MS)) (k47 : MS → Int32 → Int32 → Int32 → Int32 → Option (Int32 × MS)) (m : MS) (y1 : Int32) (y2 : Int32) (y4 : Int32) (y5 : Int32) : Option (Int32 × MS) :=
  if (6 : Int32) ≤ y5 then (
    (M_goThrough m y1).bind fun m3 =>
    (M_coldBits m3).bind fun x4 =>
    if x4 = y2 then (
      (some (y4 + 1)).bind fun x7 =>
      k29 m3 y1 y2 y4 x7
    ) else (
      (some (y4 + 1)).bind fun x6 =>
      k29 m3 y1 y2 (-4 : Int32) x6
    )
  ) else (
    (mW m 14 y5 y4).bind fun m8 =>
    (some (y5 + 1)).bind fun x9 =>
    k47 m8 y1 y2 y4 x9
  )
def M_particular_47 (k29 : MS → Int32 → Int32 → Int32 → Int32 → Option (Int32 × MS)) : Nat → MS → Int32 → Int32 → Int32 → Int32 → Option (Int32 × MS)
  | 0 => fun _ _ _ _ _ => none
  | n + 1 => M_particular_47s  k29 (M_particular_47  k29 n)
def M_particular_29s (k29 : MS → Int32 → Int32 → Int32 → Int32 → Option (Int32 × MS)) (m : MS) (y1 : Int32) (y2 : Int32) (y3 : Int32) (y4 : Int32) : Option (Int32 × MS) :=
  if (10 : Int32) ≤ y4 then (
    M_particular_96 m y3
  ) else (
    if 0 ≤ y3 then (
      M_particular_96 m y3
    ) else (
      (M_again m).bind fun m12 =>
      M_particular_47 k29 200 m12 y1 y2 y4 (0 : Int32)
    )
  )
def M_particular_29 : Nat → MS → Int32 → Int32 → Int32 → Int32 → Option (Int32 × MS)
  | 0 => fun _ _ _ _ _ => none
  | n + 1 => M_particular_29s   (M_particular_29   n)
def M_particular (m : MS) (a0 : Int32) : Option (Int32 × MS) :=
  (mSI m 23 (0 : Int32)).bind fun m13 =>
  (M_isMinutes a0).bind fun x14 =>
  if x14 = 0 then (
    some ((-1 : Int32), m13)
  ) else (
    (M_coldBits m13).bind fun x16 =>
    (M_open m13).bind fun m17 =>
    M_particular_29 200 m17 a0 x16 (-4 : Int32) (0 : Int32)
  )
set_option maxHeartbeats 4000000 in
set_option maxRecDepth 100000 in
theorem metM_particular (l : Launch) {D : va_G} {dA : Nat → ClassId} {b : Nat} {ad : Nat → Nat} {P : Nat → Prop} {F : Nat → va_E} {m : MS} {m' : MS} {a0 : Int32} {r : Int32} (hf : M_particular m a0 = some (r, m')) : Met l yX4_particular (ws_ yX4_particular cX4_particular 6 (some .int)) (rm0_ 8 181) (mP D dA b ad P F [.ref (ad 46), .int a0] m) (mQ D dA b ad P F (some (.int r)) m') 0 0 (fun q => b ≤ q) := by
  refine qg_met (by decide) RX4 rfl (Nat.le_of_ble_eq_true rfl) (fun Γ hΓ hK => ?_)
  refine g_sub [0, 1] (lv' := [(0, .ref (ad 46)), (1, .int a0)]) rfl ?_
  have J96 : ∀ (m : MS) (y3 : Int32) (hf : M_particular_96   m y3 = some (r, m')), WG Γ (MW D dA b ad P F m) 0 0 96 [(0, .ref (ad 46)), (3, .int y3)] [] := by
    intro  m y3 hf
    refine g_aload_n hΓ (pc := 96) 0 (i := 0) dX4_particular_96 rfl rfl ?_
    obtain ⟨m1, hm1, hf⟩ := bindE hf
    refine qg_callV hΓ (pc := 97) hK 0 (As := []) (metM_again _ hm1) (lw_V q1354 q1356 qs44 q57 q1357) (by decide +kernel) (by decide) rfl rfl (Nat.le_of_ble_eq_true rfl) dX4_particular_97 ?_
    refine g_iload_n hΓ (pc := 100) 1 (i := 3) dX4_particular_100 rfl rfl ?_
    exact qg_iret hΓ hK hf dX4_particular_101
  have S47 : ∀ (k29 : MS → Int32 → Int32 → Int32 → Int32 → Option (Int32 × MS)) (hk29 : ∀ (m : MS) (y1 : Int32) (y2 : Int32) (y3 : Int32) (y4 : Int32), k29 m y1 y2 y3 y4 = some (r, m') → WG Γ (MW D dA b ad P F m) 0 0 29 [(0, .ref (ad 46)), (1, .int y1), (2, .int y2), (3, .int y3), (4, .int y4)] []) (k47 : MS → Int32 → Int32 → Int32 → Int32 → Option (Int32 × MS)) (hk47 : ∀ (m : MS) (y1 : Int32) (y2 : Int32) (y4 : Int32) (y5 : Int32), k47 m y1 y2 y4 y5 = some (r, m') → WG Γ (MW D dA b ad P F m) 0 0 47 [(0, .ref (ad 46)), (1, .int y1), (2, .int y2), (4, .int y4), (5, .int y5)] []) (m : MS) (y1 : Int32) (y2 : Int32) (y4 : Int32) (y5 : Int32) (hf : M_particular_47s  k29 k47 m y1 y2 y4 y5 = some (r, m')), WG Γ (MW D dA b ad P F m) 0 0 47 [(0, .ref (ad 46)), (1, .int y1), (2, .int y2), (4, .int y4), (5, .int y5)] [] := by
    intro k29 hk29 k47 hk47 m y1 y2 y4 y5 hf
    refine g_iload hΓ (pc := 47) 4 (i := 5) dX4_particular_47 rfl ?_
    refine g_bipush hΓ (pc := 49) (v := 6) dX4_particular_49 (by decide) ?_
    refine g_icmp_ge hΓ (pc := 51) (tgt := 69) dX4_particular_51 (by decide) (fun c2 => ?_) (fun c2 => ?_)
    · have hf := ifP hf c2
      refine g_aload_n hΓ (pc := 69) 0 (i := 0) dX4_particular_69 rfl rfl ?_
      refine g_iload_n hΓ (pc := 70) 1 (i := 1) dX4_particular_70 rfl rfl ?_
      obtain ⟨m3, hm3, hf⟩ := bindE hf
      refine qg_callV hΓ (pc := 71) hK 1 (As := [.int y1]) (metM_goThrough _ hm3) (lw_V q1413 q1415 qs47 q57 q1416) (by decide +kernel) (by decide) rfl rfl (Nat.le_of_ble_eq_true rfl) dX4_particular_71 ?_
      refine g_aload_n hΓ (pc := 74) 0 (i := 0) dX4_particular_74 rfl rfl ?_
      obtain ⟨x4, hx4, hf⟩ := bindE hf
      refine qg_callV hΓ (pc := 75) hK 0 (As := []) (metM_coldBits _ hx4) (lw_V q1456 q1458 qs48 q57 q1459) (by decide +kernel) (by decide) rfl rfl (Nat.le_of_ble_eq_true rfl) dX4_particular_75 ?_
      refine g_iload_n hΓ (pc := 78) 2 (i := 2) dX4_particular_78 rfl rfl ?_
      refine g_icmp_ne hΓ (pc := 79) (tgt := 87) dX4_particular_79 (by decide) (fun c5 => ?_) (fun c5 => ?_)
      · have hf := ifN hf c5
        refine g_bipush hΓ (pc := 87) (v := -4) dX4_particular_87 (by decide) ?_
        refine g_istore_n hΓ (pc := 89) (i := 3) (lv' := [(3, .int (-4 : Int32)), (0, .ref (ad 46)), (1, .int y1), (2, .int y2), (4, .int y4), (5, .int y5)]) dX4_particular_89 rfl (by decide) rfl ?_
        obtain ⟨x6, hx6, hf⟩ := bindE hf
        refine g_iinc hΓ (pc := 90) 4 (i := 4) (v := x6) (lv' := [(4, .int x6), (3, .int (-4 : Int32)), (0, .ref (ad 46)), (1, .int y1), (2, .int y2), (5, .int y5)]) dX4_particular_90 rfl (Option.some.inj hx6) (by decide) rfl ?_
        refine g_goto hΓ (pc := 93) (tgt := 29) dX4_particular_93 (by decide) ?_
        exact g_sub [2, 3, 4, 1, 0] rfl (hk29 _ _ _ _ _ hf)
      · have hf := ifP hf c5
        refine g_iload hΓ (pc := 82) 3 (i := 4) dX4_particular_82 rfl ?_
        refine g_goto hΓ (pc := 84) (tgt := 89) dX4_particular_84 (by decide) ?_
        refine g_istore_n hΓ (pc := 89) (i := 3) (lv' := [(3, .int y4), (0, .ref (ad 46)), (1, .int y1), (2, .int y2), (4, .int y4), (5, .int y5)]) dX4_particular_89 rfl (by decide) rfl ?_
        obtain ⟨x7, hx7, hf⟩ := bindE hf
        refine g_iinc hΓ (pc := 90) 4 (i := 4) (v := x7) (lv' := [(4, .int x7), (3, .int y4), (0, .ref (ad 46)), (1, .int y1), (2, .int y2), (5, .int y5)]) dX4_particular_90 rfl (Option.some.inj hx7) (by decide) rfl ?_
        refine g_goto hΓ (pc := 93) (tgt := 29) dX4_particular_93 (by decide) ?_
        exact g_sub [2, 3, 4, 1, 0] rfl (hk29 _ _ _ _ _ hf)
    · have hf := ifN hf c2
      refine g_aload_n hΓ (pc := 54) 0 (i := 0) dX4_particular_54 rfl rfl ?_
      refine qg_geta hΓ (pc := 55) hK (k := 14) rfl q1086 dX4_particular_55 ?_
      refine g_iload hΓ (pc := 58) 4 (i := 5) dX4_particular_58 rfl ?_
      refine g_iload hΓ (pc := 60) 3 (i := 4) dX4_particular_60 rfl ?_
      obtain ⟨m8, hm8, hf⟩ := bindE hf
      refine qg_iast hΓ (pc := 62) hK rfl hm8 dX4_particular_62 rfl ?_
      obtain ⟨x9, hx9, hf⟩ := bindE hf
      refine g_iinc hΓ (pc := 63) 4 (i := 5) (v := x9) (lv' := [(5, .int x9), (0, .ref (ad 46)), (1, .int y1), (2, .int y2), (4, .int y4)]) dX4_particular_63 rfl (Option.some.inj hx9) (by decide) rfl ?_
      refine g_goto hΓ (pc := 66) (tgt := 47) dX4_particular_66 (by decide) ?_
      exact g_sub [1, 2, 3, 4, 0] rfl (hk47 _ _ _ _ _ hf)
  have L47 : ∀ (k29 : MS → Int32 → Int32 → Int32 → Int32 → Option (Int32 × MS)) (hk29 : ∀ (m : MS) (y1 : Int32) (y2 : Int32) (y3 : Int32) (y4 : Int32), k29 m y1 y2 y3 y4 = some (r, m') → WG Γ (MW D dA b ad P F m) 0 0 29 [(0, .ref (ad 46)), (1, .int y1), (2, .int y2), (3, .int y3), (4, .int y4)] []) (n : Nat) (m : MS) (y1 : Int32) (y2 : Int32) (y4 : Int32) (y5 : Int32) (hf : M_particular_47  k29 n m y1 y2 y4 y5 = some (r, m')), WG Γ (MW D dA b ad P F m) 0 0 47 [(0, .ref (ad 46)), (1, .int y1), (2, .int y2), (4, .int y4), (5, .int y5)] [] := by
    intro k29 hk29 n
    induction n with
    | zero => intro m y1 y2 y4 y5 hf; exact nomatch (show (none : Option (Int32 × MS)) = some _ from hf)
    | succ n ih => exact S47 k29 hk29 _ ih
  have S29 : ∀ (k29 : MS → Int32 → Int32 → Int32 → Int32 → Option (Int32 × MS)) (hk29 : ∀ (m : MS) (y1 : Int32) (y2 : Int32) (y3 : Int32) (y4 : Int32), k29 m y1 y2 y3 y4 = some (r, m') → WG Γ (MW D dA b ad P F m) 0 0 29 [(0, .ref (ad 46)), (1, .int y1), (2, .int y2), (3, .int y3), (4, .int y4)] []) (m : MS) (y1 : Int32) (y2 : Int32) (y3 : Int32) (y4 : Int32) (hf : M_particular_29s  k29 m y1 y2 y3 y4 = some (r, m')), WG Γ (MW D dA b ad P F m) 0 0 29 [(0, .ref (ad 46)), (1, .int y1), (2, .int y2), (3, .int y3), (4, .int y4)] [] := by
    intro k29 hk29 m y1 y2 y3 y4 hf
    refine g_iload hΓ (pc := 29) 4 (i := 4) dX4_particular_29 rfl ?_
    refine g_bipush hΓ (pc := 31) (v := 10) dX4_particular_31 (by decide) ?_
    refine g_icmp_ge hΓ (pc := 33) (tgt := 96) dX4_particular_33 (by decide) (fun c10 => ?_) (fun c10 => ?_)
    · have hf := ifP hf c10
      exact g_sub [0, 3] rfl (J96  _ _ hf)
    · have hf := ifN hf c10
      refine g_iload_n hΓ (pc := 36) 3 (i := 3) dX4_particular_36 rfl rfl ?_
      refine g_if_ge hΓ (pc := 37) (tgt := 96) dX4_particular_37 (by decide) (fun c11 => ?_) (fun c11 => ?_)
      · have hf := ifP hf c11
        exact g_sub [0, 3] rfl (J96  _ _ hf)
      · have hf := ifN hf c11
        refine g_aload_n hΓ (pc := 40) 0 (i := 0) dX4_particular_40 rfl rfl ?_
        obtain ⟨m12, hm12, hf⟩ := bindE hf
        refine qg_callV hΓ (pc := 41) hK 0 (As := []) (metM_again _ hm12) (lw_V q1354 q1356 qs44 q57 q1357) (by decide +kernel) (by decide) rfl rfl (Nat.le_of_ble_eq_true rfl) dX4_particular_41 ?_
        refine g_iconst hΓ (pc := 44) (v := 0) dX4_particular_44 (by decide) ?_
        refine g_istore hΓ (pc := 45) (i := 5) (lv' := [(5, .int (0 : Int32)), (0, .ref (ad 46)), (1, .int y1), (2, .int y2), (3, .int y3), (4, .int y4)]) dX4_particular_45 (by decide) rfl ?_
        exact g_sub [1, 2, 3, 5, 0] rfl (L47 k29 hk29 200 _ _ _ _ _ hf)
  have L29 : ∀ (n : Nat) (m : MS) (y1 : Int32) (y2 : Int32) (y3 : Int32) (y4 : Int32) (hf : M_particular_29   n m y1 y2 y3 y4 = some (r, m')), WG Γ (MW D dA b ad P F m) 0 0 29 [(0, .ref (ad 46)), (1, .int y1), (2, .int y2), (3, .int y3), (4, .int y4)] [] := by
    intro  n
    induction n with
    | zero => intro m y1 y2 y3 y4 hf; exact nomatch (show (none : Option (Int32 × MS)) = some _ from hf)
    | succ n ih => exact S29  _ ih
  refine g_aload_n hΓ (pc := 0) 0 (i := 0) dX4_particular_0 rfl rfl ?_
  refine g_iconst hΓ (pc := 1) (v := 0) dX4_particular_1 (by decide) ?_
  obtain ⟨m13, hm13, hf⟩ := bindE hf
  refine qg_put hΓ (pc := 2) hK rfl hm13 q1095 dX4_particular_2 ?_
  refine g_iload_n hΓ (pc := 5) 1 (i := 1) dX4_particular_5 rfl rfl ?_
  obtain ⟨x14, hx14, hf⟩ := bindE hf
  refine qg_callS hΓ (pc := 6) 1 (As := [.int a0]) (metM_isMinutes _ hx14) (lw_S q1444 q1445 q57 q1446) (by decide +kernel) (by decide) rfl rfl (Nat.le_of_ble_eq_true rfl) dX4_particular_6 ?_
  refine g_if_ne hΓ (pc := 9) (tgt := 14) dX4_particular_9 (by decide) (fun c15 => ?_) (fun c15 => ?_)
  · have hf := ifN hf c15
    refine g_aload_n hΓ (pc := 14) 0 (i := 0) dX4_particular_14 rfl rfl ?_
    obtain ⟨x16, hx16, hf⟩ := bindE hf
    refine qg_callV hΓ (pc := 15) hK 0 (As := []) (metM_coldBits _ hx16) (lw_V q1456 q1458 qs48 q57 q1459) (by decide +kernel) (by decide) rfl rfl (Nat.le_of_ble_eq_true rfl) dX4_particular_15 ?_
    refine g_istore_n hΓ (pc := 18) (i := 2) (lv' := [(2, .int x16), (0, .ref (ad 46)), (1, .int a0)]) dX4_particular_18 rfl (by decide) rfl ?_
    refine g_bipush hΓ (pc := 19) (v := -4) dX4_particular_19 (by decide) ?_
    refine g_istore_n hΓ (pc := 21) (i := 3) (lv' := [(3, .int (-4 : Int32)), (2, .int x16), (0, .ref (ad 46)), (1, .int a0)]) dX4_particular_21 rfl (by decide) rfl ?_
    refine g_aload_n hΓ (pc := 22) 2 (i := 0) dX4_particular_22 rfl rfl ?_
    obtain ⟨m17, hm17, hf⟩ := bindE hf
    refine qg_callV hΓ (pc := 23) hK 0 (As := []) (metM_open _ hm17) (lw_V q1266 q1268 qs22 q57 q1269) (by decide +kernel) (by decide) rfl rfl (Nat.le_of_ble_eq_true rfl) dX4_particular_23 ?_
    refine g_iconst hΓ (pc := 26) (v := 0) dX4_particular_26 (by decide) ?_
    refine g_istore hΓ (pc := 27) (i := 4) (lv' := [(4, .int (0 : Int32)), (3, .int (-4 : Int32)), (2, .int x16), (0, .ref (ad 46)), (1, .int a0)]) dX4_particular_27 (by decide) rfl ?_
    exact g_sub [3, 4, 2, 1, 0] rfl (L29  200 _ _ _ _ _ hf)
  · have hf := ifP hf c15
    refine g_iconst hΓ (pc := 12) (v := -1) dX4_particular_12 (by decide) ?_
    exact qg_iret hΓ hK hf dX4_particular_13
def M_mark_78 (k40 : MS → Int32 → Int32 → Int32 → Int32 → Int32 → Option (Int32 × MS)) (m : MS) (y1 : Int32) (y3 : Int32) (y4 : Int32) (y5 : Int32) (z0 : Int32) : Option (Int32 × MS) :=
  if y4 ≤ (m.1 20) then (
    (some (y5 + 1)).bind fun x2 =>
    k40 m y1 z0 y3 y4 x2
  ) else (
    (some (m.1 20)).bind fun x3 =>
    (some (y5 + 1)).bind fun x4 =>
    k40 m y1 z0 y3 x3 x4
  )
def M_mark_40s (k40 : MS → Int32 → Int32 → Int32 → Int32 → Int32 → Option (Int32 × MS)) (m : MS) (y1 : Int32) (y2 : Int32) (y3 : Int32) (y4 : Int32) (y5 : Int32) : Option (Int32 × MS) :=
  if y3 ≤ y5 then (
    (M_again m).bind fun m6 =>
    some (y2, m6)
  ) else (
    (M_again m).bind fun m7 =>
    (mW m7 4 y5 (1 : Int32)).bind fun m8 =>
    (M_goThrough m8 y1).bind fun m9 =>
    if y4 ≤ (m9.1 20) then (
      M_mark_78 k40 m9 y1 y3 y4 y5 y2
    ) else (
      M_mark_78 k40 m9 y1 y3 y4 y5 y5
    )
  )
def M_mark_40 : Nat → MS → Int32 → Int32 → Int32 → Int32 → Int32 → Option (Int32 × MS)
  | 0 => fun _ _ _ _ _ _ => none
  | n + 1 => M_mark_40s   (M_mark_40   n)
def M_mark (m : MS) (a0 : Int32) : Option (Int32 × MS) :=
  (mSI m 23 (0 : Int32)).bind fun m11 =>
  (M_isMinutes a0).bind fun x12 =>
  if x12 = 0 then (
    some ((-1 : Int32), m11)
  ) else (
    (M_open m11).bind fun m14 =>
    (some (m14.1 0)).bind fun x15 =>
    (M_goThrough m14 a0).bind fun m16 =>
    (some (m16.1 20)).bind fun x17 =>
    M_mark_40 200 m16 a0 (-4 : Int32) x15 x17 (0 : Int32)
  )
set_option maxHeartbeats 4000000 in
set_option maxRecDepth 100000 in
theorem metM_mark (l : Launch) {D : va_G} {dA : Nat → ClassId} {b : Nat} {ad : Nat → Nat} {P : Nat → Prop} {F : Nat → va_E} {m : MS} {m' : MS} {a0 : Int32} {r : Int32} (hf : M_mark m a0 = some (r, m')) : Met l yX4_mark (ws_ yX4_mark cX4_mark 6 (some .int)) (rm0_ 8 181) (mP D dA b ad P F [.ref (ad 46), .int a0] m) (mQ D dA b ad P F (some (.int r)) m') 0 0 (fun q => b ≤ q) := by
  refine qg_met (by decide) RX4 rfl (Nat.le_of_ble_eq_true rfl) (fun Γ hΓ hK => ?_)
  refine g_sub [0, 1] (lv' := [(0, .ref (ad 46)), (1, .int a0)]) rfl ?_
  have J78 : ∀ (k40 : MS → Int32 → Int32 → Int32 → Int32 → Int32 → Option (Int32 × MS)) (hk40 : ∀ (m : MS) (y1 : Int32) (y2 : Int32) (y3 : Int32) (y4 : Int32) (y5 : Int32), k40 m y1 y2 y3 y4 y5 = some (r, m') → WG Γ (MW D dA b ad P F m) 0 0 40 [(0, .ref (ad 46)), (1, .int y1), (2, .int y2), (3, .int y3), (4, .int y4), (5, .int y5)] []) (m : MS) (y1 : Int32) (y3 : Int32) (y4 : Int32) (y5 : Int32) (z0 : Int32) (hf : M_mark_78  k40 m y1 y3 y4 y5 z0 = some (r, m')), WG Γ (MW D dA b ad P F m) 0 0 78 [(0, .ref (ad 46)), (1, .int y1), (3, .int y3), (4, .int y4), (5, .int y5)] [.int z0] := by
    intro k40 hk40 m y1 y3 y4 y5 z0 hf
    refine g_istore_n hΓ (pc := 78) (i := 2) (lv' := [(2, .int z0), (0, .ref (ad 46)), (1, .int y1), (3, .int y3), (4, .int y4), (5, .int y5)]) dX4_mark_78 rfl (by decide) rfl ?_
    refine g_aload_n hΓ (pc := 79) 1 (i := 0) dX4_mark_79 rfl rfl ?_
    refine qg_get hΓ (pc := 80) hK (k := 20) rfl q1092 dX4_mark_80 ?_
    refine g_iload hΓ (pc := 83) 4 (i := 4) dX4_mark_83 rfl ?_
    refine g_icmp_ge hΓ (pc := 85) (tgt := 95) dX4_mark_85 (by decide) (fun c1 => ?_) (fun c1 => ?_)
    · have hf := ifP hf c1
      refine g_iload hΓ (pc := 95) 4 (i := 4) dX4_mark_95 rfl ?_
      refine g_istore hΓ (pc := 97) (i := 4) (lv' := [(4, .int y4), (2, .int z0), (0, .ref (ad 46)), (1, .int y1), (3, .int y3), (5, .int y5)]) dX4_mark_97 (by decide) rfl ?_
      obtain ⟨x2, hx2, hf⟩ := bindE hf
      refine g_iinc hΓ (pc := 99) 5 (i := 5) (v := x2) (lv' := [(5, .int x2), (4, .int y4), (2, .int z0), (0, .ref (ad 46)), (1, .int y1), (3, .int y3)]) dX4_mark_99 rfl (Option.some.inj hx2) (by decide) rfl ?_
      refine g_goto hΓ (pc := 102) (tgt := 40) dX4_mark_102 (by decide) ?_
      exact g_sub [3, 4, 2, 5, 1, 0] rfl (hk40 _ _ _ _ _ _ hf)
    · have hf := ifN hf c1
      refine g_aload_n hΓ (pc := 88) 1 (i := 0) dX4_mark_88 rfl rfl ?_
      refine qg_get hΓ (pc := 89) hK (k := 20) rfl q1092 dX4_mark_89 ?_
      refine g_goto hΓ (pc := 92) (tgt := 97) dX4_mark_92 (by decide) ?_
      obtain ⟨x3, hx3, hf⟩ := bindE hf
      refine g_topi hx3 ?_
      refine g_istore hΓ (pc := 97) (i := 4) (lv' := [(4, .int x3), (2, .int z0), (0, .ref (ad 46)), (1, .int y1), (3, .int y3), (5, .int y5)]) dX4_mark_97 (by decide) rfl ?_
      obtain ⟨x4, hx4, hf⟩ := bindE hf
      refine g_iinc hΓ (pc := 99) 5 (i := 5) (v := x4) (lv' := [(5, .int x4), (4, .int x3), (2, .int z0), (0, .ref (ad 46)), (1, .int y1), (3, .int y3)]) dX4_mark_99 rfl (Option.some.inj hx4) (by decide) rfl ?_
      refine g_goto hΓ (pc := 102) (tgt := 40) dX4_mark_102 (by decide) ?_
      exact g_sub [3, 4, 2, 5, 1, 0] rfl (hk40 _ _ _ _ _ _ hf)
  have S40 : ∀ (k40 : MS → Int32 → Int32 → Int32 → Int32 → Int32 → Option (Int32 × MS)) (hk40 : ∀ (m : MS) (y1 : Int32) (y2 : Int32) (y3 : Int32) (y4 : Int32) (y5 : Int32), k40 m y1 y2 y3 y4 y5 = some (r, m') → WG Γ (MW D dA b ad P F m) 0 0 40 [(0, .ref (ad 46)), (1, .int y1), (2, .int y2), (3, .int y3), (4, .int y4), (5, .int y5)] []) (m : MS) (y1 : Int32) (y2 : Int32) (y3 : Int32) (y4 : Int32) (y5 : Int32) (hf : M_mark_40s  k40 m y1 y2 y3 y4 y5 = some (r, m')), WG Γ (MW D dA b ad P F m) 0 0 40 [(0, .ref (ad 46)), (1, .int y1), (2, .int y2), (3, .int y3), (4, .int y4), (5, .int y5)] [] := by
    intro k40 hk40 m y1 y2 y3 y4 y5 hf
    refine g_iload hΓ (pc := 40) 5 (i := 5) dX4_mark_40 rfl ?_
    refine g_iload_n hΓ (pc := 42) 3 (i := 3) dX4_mark_42 rfl rfl ?_
    refine g_icmp_ge hΓ (pc := 43) (tgt := 105) dX4_mark_43 (by decide) (fun c5 => ?_) (fun c5 => ?_)
    · have hf := ifP hf c5
      refine g_aload_n hΓ (pc := 105) 0 (i := 0) dX4_mark_105 rfl rfl ?_
      obtain ⟨m6, hm6, hf⟩ := bindE hf
      refine qg_callV hΓ (pc := 106) hK 0 (As := []) (metM_again _ hm6) (lw_V q1354 q1356 qs44 q57 q1357) (by decide +kernel) (by decide) rfl rfl (Nat.le_of_ble_eq_true rfl) dX4_mark_106 ?_
      refine g_iload_n hΓ (pc := 109) 2 (i := 2) dX4_mark_109 rfl rfl ?_
      exact qg_iret hΓ hK hf dX4_mark_110
    · have hf := ifN hf c5
      refine g_aload_n hΓ (pc := 46) 0 (i := 0) dX4_mark_46 rfl rfl ?_
      obtain ⟨m7, hm7, hf⟩ := bindE hf
      refine qg_callV hΓ (pc := 47) hK 0 (As := []) (metM_again _ hm7) (lw_V q1354 q1356 qs44 q57 q1357) (by decide +kernel) (by decide) rfl rfl (Nat.le_of_ble_eq_true rfl) dX4_mark_47 ?_
      refine g_aload_n hΓ (pc := 50) 0 (i := 0) dX4_mark_50 rfl rfl ?_
      refine qg_geta hΓ (pc := 51) hK (k := 4) rfl q1076 dX4_mark_51 ?_
      refine g_iload hΓ (pc := 54) 5 (i := 5) dX4_mark_54 rfl ?_
      refine g_iconst hΓ (pc := 56) (v := 1) dX4_mark_56 (by decide) ?_
      obtain ⟨m8, hm8, hf⟩ := bindE hf
      refine qg_iast hΓ (pc := 57) hK rfl hm8 dX4_mark_57 rfl ?_
      refine g_aload_n hΓ (pc := 58) 0 (i := 0) dX4_mark_58 rfl rfl ?_
      refine g_iload_n hΓ (pc := 59) 1 (i := 1) dX4_mark_59 rfl rfl ?_
      obtain ⟨m9, hm9, hf⟩ := bindE hf
      refine qg_callV hΓ (pc := 60) hK 1 (As := [.int y1]) (metM_goThrough _ hm9) (lw_V q1413 q1415 qs47 q57 q1416) (by decide +kernel) (by decide) rfl rfl (Nat.le_of_ble_eq_true rfl) dX4_mark_60 ?_
      refine g_aload_n hΓ (pc := 63) 0 (i := 0) dX4_mark_63 rfl rfl ?_
      refine qg_get hΓ (pc := 64) hK (k := 20) rfl q1092 dX4_mark_64 ?_
      refine g_iload hΓ (pc := 67) 4 (i := 4) dX4_mark_67 rfl ?_
      refine g_icmp_ge hΓ (pc := 69) (tgt := 77) dX4_mark_69 (by decide) (fun c10 => ?_) (fun c10 => ?_)
      · have hf := ifP hf c10
        refine g_iload_n hΓ (pc := 77) 2 (i := 2) dX4_mark_77 rfl rfl ?_
        exact g_sub [0, 1, 3, 4, 5] rfl (J78 k40 hk40 _ _ _ _ _ _ hf)
      · have hf := ifN hf c10
        refine g_iload hΓ (pc := 72) 5 (i := 5) dX4_mark_72 rfl ?_
        refine g_goto hΓ (pc := 74) (tgt := 78) dX4_mark_74 (by decide) ?_
        exact g_sub [0, 1, 3, 4, 5] rfl (J78 k40 hk40 _ _ _ _ _ _ hf)
  have L40 : ∀ (n : Nat) (m : MS) (y1 : Int32) (y2 : Int32) (y3 : Int32) (y4 : Int32) (y5 : Int32) (hf : M_mark_40   n m y1 y2 y3 y4 y5 = some (r, m')), WG Γ (MW D dA b ad P F m) 0 0 40 [(0, .ref (ad 46)), (1, .int y1), (2, .int y2), (3, .int y3), (4, .int y4), (5, .int y5)] [] := by
    intro  n
    induction n with
    | zero => intro m y1 y2 y3 y4 y5 hf; exact nomatch (show (none : Option (Int32 × MS)) = some _ from hf)
    | succ n ih => exact S40  _ ih
  refine g_aload_n hΓ (pc := 0) 0 (i := 0) dX4_mark_0 rfl rfl ?_
  refine g_iconst hΓ (pc := 1) (v := 0) dX4_mark_1 (by decide) ?_
  obtain ⟨m11, hm11, hf⟩ := bindE hf
  refine qg_put hΓ (pc := 2) hK rfl hm11 q1095 dX4_mark_2 ?_
  refine g_iload_n hΓ (pc := 5) 1 (i := 1) dX4_mark_5 rfl rfl ?_
  obtain ⟨x12, hx12, hf⟩ := bindE hf
  refine qg_callS hΓ (pc := 6) 1 (As := [.int a0]) (metM_isMinutes _ hx12) (lw_S q1444 q1445 q57 q1446) (by decide +kernel) (by decide) rfl rfl (Nat.le_of_ble_eq_true rfl) dX4_mark_6 ?_
  refine g_if_ne hΓ (pc := 9) (tgt := 14) dX4_mark_9 (by decide) (fun c13 => ?_) (fun c13 => ?_)
  · have hf := ifN hf c13
    refine g_bipush hΓ (pc := 14) (v := -4) dX4_mark_14 (by decide) ?_
    refine g_istore_n hΓ (pc := 16) (i := 2) (lv' := [(2, .int (-4 : Int32)), (0, .ref (ad 46)), (1, .int a0)]) dX4_mark_16 rfl (by decide) rfl ?_
    refine g_aload_n hΓ (pc := 17) 1 (i := 0) dX4_mark_17 rfl rfl ?_
    obtain ⟨m14, hm14, hf⟩ := bindE hf
    refine qg_callV hΓ (pc := 18) hK 0 (As := []) (metM_open _ hm14) (lw_V q1266 q1268 qs22 q57 q1269) (by decide +kernel) (by decide) rfl rfl (Nat.le_of_ble_eq_true rfl) dX4_mark_18 ?_
    refine g_aload_n hΓ (pc := 21) 1 (i := 0) dX4_mark_21 rfl rfl ?_
    refine qg_get hΓ (pc := 22) hK (k := 0) rfl q1072 dX4_mark_22 ?_
    obtain ⟨x15, hx15, hf⟩ := bindE hf
    refine g_topi hx15 ?_
    refine g_istore_n hΓ (pc := 25) (i := 3) (lv' := [(3, .int x15), (2, .int (-4 : Int32)), (0, .ref (ad 46)), (1, .int a0)]) dX4_mark_25 rfl (by decide) rfl ?_
    refine g_aload_n hΓ (pc := 26) 2 (i := 0) dX4_mark_26 rfl rfl ?_
    refine g_iload_n hΓ (pc := 27) 3 (i := 1) dX4_mark_27 rfl rfl ?_
    obtain ⟨m16, hm16, hf⟩ := bindE hf
    refine qg_callV hΓ (pc := 28) hK 1 (As := [.int a0]) (metM_goThrough _ hm16) (lw_V q1413 q1415 qs47 q57 q1416) (by decide +kernel) (by decide) rfl rfl (Nat.le_of_ble_eq_true rfl) dX4_mark_28 ?_
    refine g_aload_n hΓ (pc := 31) 2 (i := 0) dX4_mark_31 rfl rfl ?_
    refine qg_get hΓ (pc := 32) hK (k := 20) rfl q1092 dX4_mark_32 ?_
    obtain ⟨x17, hx17, hf⟩ := bindE hf
    refine g_topi hx17 ?_
    refine g_istore hΓ (pc := 35) (i := 4) (lv' := [(4, .int x17), (3, .int x15), (2, .int (-4 : Int32)), (0, .ref (ad 46)), (1, .int a0)]) dX4_mark_35 (by decide) rfl ?_
    refine g_iconst hΓ (pc := 37) (v := 0) dX4_mark_37 (by decide) ?_
    refine g_istore hΓ (pc := 38) (i := 5) (lv' := [(5, .int (0 : Int32)), (4, .int x17), (3, .int x15), (2, .int (-4 : Int32)), (0, .ref (ad 46)), (1, .int a0)]) dX4_mark_38 (by decide) rfl ?_
    exact g_sub [4, 5, 3, 2, 1, 0] rfl (L40  200 _ _ _ _ _ _ hf)
  · have hf := ifP hf c13
    refine g_iconst hΓ (pc := 12) (v := -1) dX4_mark_12 (by decide) ?_
    exact qg_iret hΓ hK hf dX4_mark_13
def M_close_70 (k34 : MS → Int32 → Int32 → Int32 → Int32 → Option (Int32 × MS)) (m : MS) (y1 : Int32) (y3 : Int32) (y4 : Int32) (z0 : Int32) : Option (Int32 × MS) :=
  if y3 ≤ (m.1 21) then (
    (some (y4 + 1)).bind fun x2 =>
    k34 m y1 z0 y3 x2
  ) else (
    (some (m.1 21)).bind fun x3 =>
    (some (y4 + 1)).bind fun x4 =>
    k34 m y1 z0 x3 x4
  )
def M_close_34s (k34 : MS → Int32 → Int32 → Int32 → Int32 → Option (Int32 × MS)) (m : MS) (y1 : Int32) (y2 : Int32) (y3 : Int32) (y4 : Int32) : Option (Int32 × MS) :=
  if (6 : Int32) ≤ y4 then (
    (mSI m 22 (-1 : Int32)).bind fun m6 =>
    (M_again m6).bind fun m7 =>
    some (y2, m7)
  ) else (
    (M_again m).bind fun m8 =>
    (mSI m8 22 y4).bind fun m9 =>
    (M_goThrough m9 y1).bind fun m10 =>
    if y3 ≤ (m10.1 21) then (
      M_close_70 k34 m10 y1 y3 y4 y2
    ) else (
      M_close_70 k34 m10 y1 y3 y4 y4
    )
  )
def M_close_34 : Nat → MS → Int32 → Int32 → Int32 → Int32 → Option (Int32 × MS)
  | 0 => fun _ _ _ _ _ => none
  | n + 1 => M_close_34s   (M_close_34   n)
def M_close (m : MS) (a0 : Int32) : Option (Int32 × MS) :=
  (mSI m 23 (0 : Int32)).bind fun m12 =>
  (M_isMinutes a0).bind fun x13 =>
  if x13 = 0 then (
    some ((-1 : Int32), m12)
  ) else (
    (M_open m12).bind fun m15 =>
    (M_goThrough m15 a0).bind fun m16 =>
    (some (m16.1 21)).bind fun x17 =>
    M_close_34 200 m16 a0 (-4 : Int32) x17 (0 : Int32)
  )
set_option maxHeartbeats 4000000 in
set_option maxRecDepth 100000 in
theorem metM_close (l : Launch) {D : va_G} {dA : Nat → ClassId} {b : Nat} {ad : Nat → Nat} {P : Nat → Prop} {F : Nat → va_E} {m : MS} {m' : MS} {a0 : Int32} {r : Int32} (hf : M_close m a0 = some (r, m')) : Met l yX4_close (ws_ yX4_close cX4_close 5 (some .int)) (rm0_ 8 181) (mP D dA b ad P F [.ref (ad 46), .int a0] m) (mQ D dA b ad P F (some (.int r)) m') 0 0 (fun q => b ≤ q) := by
  refine qg_met (by decide) RX4 rfl (Nat.le_of_ble_eq_true rfl) (fun Γ hΓ hK => ?_)
  refine g_sub [0, 1] (lv' := [(0, .ref (ad 46)), (1, .int a0)]) rfl ?_
  have J70 : ∀ (k34 : MS → Int32 → Int32 → Int32 → Int32 → Option (Int32 × MS)) (hk34 : ∀ (m : MS) (y1 : Int32) (y2 : Int32) (y3 : Int32) (y4 : Int32), k34 m y1 y2 y3 y4 = some (r, m') → WG Γ (MW D dA b ad P F m) 0 0 34 [(0, .ref (ad 46)), (1, .int y1), (2, .int y2), (3, .int y3), (4, .int y4)] []) (m : MS) (y1 : Int32) (y3 : Int32) (y4 : Int32) (z0 : Int32) (hf : M_close_70  k34 m y1 y3 y4 z0 = some (r, m')), WG Γ (MW D dA b ad P F m) 0 0 70 [(0, .ref (ad 46)), (1, .int y1), (3, .int y3), (4, .int y4)] [.int z0] := by
    intro k34 hk34 m y1 y3 y4 z0 hf
    refine g_istore_n hΓ (pc := 70) (i := 2) (lv' := [(2, .int z0), (0, .ref (ad 46)), (1, .int y1), (3, .int y3), (4, .int y4)]) dX4_close_70 rfl (by decide) rfl ?_
    refine g_aload_n hΓ (pc := 71) 1 (i := 0) dX4_close_71 rfl rfl ?_
    refine qg_get hΓ (pc := 72) hK (k := 21) rfl q1093 dX4_close_72 ?_
    refine g_iload_n hΓ (pc := 75) 3 (i := 3) dX4_close_75 rfl rfl ?_
    refine g_icmp_ge hΓ (pc := 76) (tgt := 86) dX4_close_76 (by decide) (fun c1 => ?_) (fun c1 => ?_)
    · have hf := ifP hf c1
      refine g_iload_n hΓ (pc := 86) 3 (i := 3) dX4_close_86 rfl rfl ?_
      refine g_istore_n hΓ (pc := 87) (i := 3) (lv' := [(3, .int y3), (2, .int z0), (0, .ref (ad 46)), (1, .int y1), (4, .int y4)]) dX4_close_87 rfl (by decide) rfl ?_
      obtain ⟨x2, hx2, hf⟩ := bindE hf
      refine g_iinc hΓ (pc := 88) 4 (i := 4) (v := x2) (lv' := [(4, .int x2), (3, .int y3), (2, .int z0), (0, .ref (ad 46)), (1, .int y1)]) dX4_close_88 rfl (Option.some.inj hx2) (by decide) rfl ?_
      refine g_goto hΓ (pc := 91) (tgt := 34) dX4_close_91 (by decide) ?_
      exact g_sub [3, 4, 2, 1, 0] rfl (hk34 _ _ _ _ _ hf)
    · have hf := ifN hf c1
      refine g_aload_n hΓ (pc := 79) 1 (i := 0) dX4_close_79 rfl rfl ?_
      refine qg_get hΓ (pc := 80) hK (k := 21) rfl q1093 dX4_close_80 ?_
      refine g_goto hΓ (pc := 83) (tgt := 87) dX4_close_83 (by decide) ?_
      obtain ⟨x3, hx3, hf⟩ := bindE hf
      refine g_topi hx3 ?_
      refine g_istore_n hΓ (pc := 87) (i := 3) (lv' := [(3, .int x3), (2, .int z0), (0, .ref (ad 46)), (1, .int y1), (4, .int y4)]) dX4_close_87 rfl (by decide) rfl ?_
      obtain ⟨x4, hx4, hf⟩ := bindE hf
      refine g_iinc hΓ (pc := 88) 4 (i := 4) (v := x4) (lv' := [(4, .int x4), (3, .int x3), (2, .int z0), (0, .ref (ad 46)), (1, .int y1)]) dX4_close_88 rfl (Option.some.inj hx4) (by decide) rfl ?_
      refine g_goto hΓ (pc := 91) (tgt := 34) dX4_close_91 (by decide) ?_
      exact g_sub [3, 4, 2, 1, 0] rfl (hk34 _ _ _ _ _ hf)
  have S34 : ∀ (k34 : MS → Int32 → Int32 → Int32 → Int32 → Option (Int32 × MS)) (hk34 : ∀ (m : MS) (y1 : Int32) (y2 : Int32) (y3 : Int32) (y4 : Int32), k34 m y1 y2 y3 y4 = some (r, m') → WG Γ (MW D dA b ad P F m) 0 0 34 [(0, .ref (ad 46)), (1, .int y1), (2, .int y2), (3, .int y3), (4, .int y4)] []) (m : MS) (y1 : Int32) (y2 : Int32) (y3 : Int32) (y4 : Int32) (hf : M_close_34s  k34 m y1 y2 y3 y4 = some (r, m')), WG Γ (MW D dA b ad P F m) 0 0 34 [(0, .ref (ad 46)), (1, .int y1), (2, .int y2), (3, .int y3), (4, .int y4)] [] := by
    intro k34 hk34 m y1 y2 y3 y4 hf
    refine g_iload hΓ (pc := 34) 4 (i := 4) dX4_close_34 rfl ?_
    refine g_bipush hΓ (pc := 36) (v := 6) dX4_close_36 (by decide) ?_
    refine g_icmp_ge hΓ (pc := 38) (tgt := 94) dX4_close_38 (by decide) (fun c5 => ?_) (fun c5 => ?_)
    · have hf := ifP hf c5
      refine g_aload_n hΓ (pc := 94) 0 (i := 0) dX4_close_94 rfl rfl ?_
      refine g_iconst hΓ (pc := 95) (v := -1) dX4_close_95 (by decide) ?_
      obtain ⟨m6, hm6, hf⟩ := bindE hf
      refine qg_put hΓ (pc := 96) hK rfl hm6 q1094 dX4_close_96 ?_
      refine g_aload_n hΓ (pc := 99) 0 (i := 0) dX4_close_99 rfl rfl ?_
      obtain ⟨m7, hm7, hf⟩ := bindE hf
      refine qg_callV hΓ (pc := 100) hK 0 (As := []) (metM_again _ hm7) (lw_V q1354 q1356 qs44 q57 q1357) (by decide +kernel) (by decide) rfl rfl (Nat.le_of_ble_eq_true rfl) dX4_close_100 ?_
      refine g_iload_n hΓ (pc := 103) 2 (i := 2) dX4_close_103 rfl rfl ?_
      exact qg_iret hΓ hK hf dX4_close_104
    · have hf := ifN hf c5
      refine g_aload_n hΓ (pc := 41) 0 (i := 0) dX4_close_41 rfl rfl ?_
      obtain ⟨m8, hm8, hf⟩ := bindE hf
      refine qg_callV hΓ (pc := 42) hK 0 (As := []) (metM_again _ hm8) (lw_V q1354 q1356 qs44 q57 q1357) (by decide +kernel) (by decide) rfl rfl (Nat.le_of_ble_eq_true rfl) dX4_close_42 ?_
      refine g_aload_n hΓ (pc := 45) 0 (i := 0) dX4_close_45 rfl rfl ?_
      refine g_iload hΓ (pc := 46) 4 (i := 4) dX4_close_46 rfl ?_
      obtain ⟨m9, hm9, hf⟩ := bindE hf
      refine qg_put hΓ (pc := 48) hK rfl hm9 q1094 dX4_close_48 ?_
      refine g_aload_n hΓ (pc := 51) 0 (i := 0) dX4_close_51 rfl rfl ?_
      refine g_iload_n hΓ (pc := 52) 1 (i := 1) dX4_close_52 rfl rfl ?_
      obtain ⟨m10, hm10, hf⟩ := bindE hf
      refine qg_callV hΓ (pc := 53) hK 1 (As := [.int y1]) (metM_goThrough _ hm10) (lw_V q1413 q1415 qs47 q57 q1416) (by decide +kernel) (by decide) rfl rfl (Nat.le_of_ble_eq_true rfl) dX4_close_53 ?_
      refine g_aload_n hΓ (pc := 56) 0 (i := 0) dX4_close_56 rfl rfl ?_
      refine qg_get hΓ (pc := 57) hK (k := 21) rfl q1093 dX4_close_57 ?_
      refine g_iload_n hΓ (pc := 60) 3 (i := 3) dX4_close_60 rfl rfl ?_
      refine g_icmp_ge hΓ (pc := 61) (tgt := 69) dX4_close_61 (by decide) (fun c11 => ?_) (fun c11 => ?_)
      · have hf := ifP hf c11
        refine g_iload_n hΓ (pc := 69) 2 (i := 2) dX4_close_69 rfl rfl ?_
        exact g_sub [0, 1, 3, 4] rfl (J70 k34 hk34 _ _ _ _ _ hf)
      · have hf := ifN hf c11
        refine g_iload hΓ (pc := 64) 4 (i := 4) dX4_close_64 rfl ?_
        refine g_goto hΓ (pc := 66) (tgt := 70) dX4_close_66 (by decide) ?_
        exact g_sub [0, 1, 3, 4] rfl (J70 k34 hk34 _ _ _ _ _ hf)
  have L34 : ∀ (n : Nat) (m : MS) (y1 : Int32) (y2 : Int32) (y3 : Int32) (y4 : Int32) (hf : M_close_34   n m y1 y2 y3 y4 = some (r, m')), WG Γ (MW D dA b ad P F m) 0 0 34 [(0, .ref (ad 46)), (1, .int y1), (2, .int y2), (3, .int y3), (4, .int y4)] [] := by
    intro  n
    induction n with
    | zero => intro m y1 y2 y3 y4 hf; exact nomatch (show (none : Option (Int32 × MS)) = some _ from hf)
    | succ n ih => exact S34  _ ih
  refine g_aload_n hΓ (pc := 0) 0 (i := 0) dX4_close_0 rfl rfl ?_
  refine g_iconst hΓ (pc := 1) (v := 0) dX4_close_1 (by decide) ?_
  obtain ⟨m12, hm12, hf⟩ := bindE hf
  refine qg_put hΓ (pc := 2) hK rfl hm12 q1095 dX4_close_2 ?_
  refine g_iload_n hΓ (pc := 5) 1 (i := 1) dX4_close_5 rfl rfl ?_
  obtain ⟨x13, hx13, hf⟩ := bindE hf
  refine qg_callS hΓ (pc := 6) 1 (As := [.int a0]) (metM_isMinutes _ hx13) (lw_S q1444 q1445 q57 q1446) (by decide +kernel) (by decide) rfl rfl (Nat.le_of_ble_eq_true rfl) dX4_close_6 ?_
  refine g_if_ne hΓ (pc := 9) (tgt := 14) dX4_close_9 (by decide) (fun c14 => ?_) (fun c14 => ?_)
  · have hf := ifN hf c14
    refine g_bipush hΓ (pc := 14) (v := -4) dX4_close_14 (by decide) ?_
    refine g_istore_n hΓ (pc := 16) (i := 2) (lv' := [(2, .int (-4 : Int32)), (0, .ref (ad 46)), (1, .int a0)]) dX4_close_16 rfl (by decide) rfl ?_
    refine g_aload_n hΓ (pc := 17) 1 (i := 0) dX4_close_17 rfl rfl ?_
    obtain ⟨m15, hm15, hf⟩ := bindE hf
    refine qg_callV hΓ (pc := 18) hK 0 (As := []) (metM_open _ hm15) (lw_V q1266 q1268 qs22 q57 q1269) (by decide +kernel) (by decide) rfl rfl (Nat.le_of_ble_eq_true rfl) dX4_close_18 ?_
    refine g_aload_n hΓ (pc := 21) 1 (i := 0) dX4_close_21 rfl rfl ?_
    refine g_iload_n hΓ (pc := 22) 2 (i := 1) dX4_close_22 rfl rfl ?_
    obtain ⟨m16, hm16, hf⟩ := bindE hf
    refine qg_callV hΓ (pc := 23) hK 1 (As := [.int a0]) (metM_goThrough _ hm16) (lw_V q1413 q1415 qs47 q57 q1416) (by decide +kernel) (by decide) rfl rfl (Nat.le_of_ble_eq_true rfl) dX4_close_23 ?_
    refine g_aload_n hΓ (pc := 26) 1 (i := 0) dX4_close_26 rfl rfl ?_
    refine qg_get hΓ (pc := 27) hK (k := 21) rfl q1093 dX4_close_27 ?_
    obtain ⟨x17, hx17, hf⟩ := bindE hf
    refine g_topi hx17 ?_
    refine g_istore_n hΓ (pc := 30) (i := 3) (lv' := [(3, .int x17), (2, .int (-4 : Int32)), (0, .ref (ad 46)), (1, .int a0)]) dX4_close_30 rfl (by decide) rfl ?_
    refine g_iconst hΓ (pc := 31) (v := 0) dX4_close_31 (by decide) ?_
    refine g_istore hΓ (pc := 32) (i := 4) (lv' := [(4, .int (0 : Int32)), (3, .int x17), (2, .int (-4 : Int32)), (0, .ref (ad 46)), (1, .int a0)]) dX4_close_32 (by decide) rfl ?_
    exact g_sub [3, 4, 2, 1, 0] rfl (L34  200 _ _ _ _ _ hf)
  · have hf := ifP hf c14
    refine g_iconst hΓ (pc := 12) (v := -1) dX4_close_12 (by decide) ?_
    exact qg_iret hΓ hK hf dX4_close_13
def M_driver_28s (k28 : MS → Int32 → Int32 → Option (Int32 × MS)) (m : MS) (y2 : Int32) (y3 : Int32) : Option (Int32 × MS) :=
  if (m.1 1) ≤ y3 then (
    (M_again m).bind fun m2 =>
    some (y2, m2)
  ) else (
    if y2 < 0 then (
      (some (y3 + 1)).bind fun x4 =>
      k28 m y3 x4
    ) else (
      (mR m 18 y3).bind fun x5 =>
      (mR m 18 y2).bind fun x6 =>
      if x6 ≤ x5 then (
        (some (y3 + 1)).bind fun x8 =>
        k28 m y2 x8
      ) else (
        (some (y3 + 1)).bind fun x9 =>
        k28 m y3 x9
      )
    )
  )
def M_driver_28 : Nat → MS → Int32 → Int32 → Option (Int32 × MS)
  | 0 => fun _ _ _ => none
  | n + 1 => M_driver_28s   (M_driver_28   n)
def M_driver (m : MS) (a0 : Int32) : Option (Int32 × MS) :=
  (mSI m 23 (0 : Int32)).bind fun m10 =>
  (M_isMinutes a0).bind fun x11 =>
  if x11 = 0 then (
    some ((-1 : Int32), m10)
  ) else (
    (M_open m10).bind fun m13 =>
    (M_goThrough m13 a0).bind fun m14 =>
    M_driver_28 200 m14 (-4 : Int32) (0 : Int32)
  )
set_option maxHeartbeats 4000000 in
set_option maxRecDepth 100000 in
theorem metM_driver (l : Launch) {D : va_G} {dA : Nat → ClassId} {b : Nat} {ad : Nat → Nat} {P : Nat → Prop} {F : Nat → va_E} {m : MS} {m' : MS} {a0 : Int32} {r : Int32} (hf : M_driver m a0 = some (r, m')) : Met l yX4_driver (ws_ yX4_driver cX4_driver 4 (some .int)) (rm0_ 8 181) (mP D dA b ad P F [.ref (ad 46), .int a0] m) (mQ D dA b ad P F (some (.int r)) m') 0 0 (fun q => b ≤ q) := by
  refine qg_met (by decide) RX4 rfl (Nat.le_of_ble_eq_true rfl) (fun Γ hΓ hK => ?_)
  refine g_sub [0, 1] (lv' := [(0, .ref (ad 46)), (1, .int a0)]) rfl ?_
  have S28 : ∀ (k28 : MS → Int32 → Int32 → Option (Int32 × MS)) (hk28 : ∀ (m : MS) (y2 : Int32) (y3 : Int32), k28 m y2 y3 = some (r, m') → WG Γ (MW D dA b ad P F m) 0 0 28 [(0, .ref (ad 46)), (2, .int y2), (3, .int y3)] []) (m : MS) (y2 : Int32) (y3 : Int32) (hf : M_driver_28s  k28 m y2 y3 = some (r, m')), WG Γ (MW D dA b ad P F m) 0 0 28 [(0, .ref (ad 46)), (2, .int y2), (3, .int y3)] [] := by
    intro k28 hk28 m y2 y3 hf
    refine g_iload_n hΓ (pc := 28) 2 (i := 3) dX4_driver_28 rfl rfl ?_
    refine g_aload_n hΓ (pc := 29) 0 (i := 0) dX4_driver_29 rfl rfl ?_
    refine qg_get hΓ (pc := 30) hK (k := 1) rfl q1073 dX4_driver_30 ?_
    refine g_icmp_ge hΓ (pc := 33) (tgt := 67) dX4_driver_33 (by decide) (fun c1 => ?_) (fun c1 => ?_)
    · have hf := ifP hf c1
      refine g_aload_n hΓ (pc := 67) 0 (i := 0) dX4_driver_67 rfl rfl ?_
      obtain ⟨m2, hm2, hf⟩ := bindE hf
      refine qg_callV hΓ (pc := 68) hK 0 (As := []) (metM_again _ hm2) (lw_V q1354 q1356 qs44 q57 q1357) (by decide +kernel) (by decide) rfl rfl (Nat.le_of_ble_eq_true rfl) dX4_driver_68 ?_
      refine g_iload_n hΓ (pc := 71) 1 (i := 2) dX4_driver_71 rfl rfl ?_
      exact qg_iret hΓ hK hf dX4_driver_72
    · have hf := ifN hf c1
      refine g_iload_n hΓ (pc := 36) 1 (i := 2) dX4_driver_36 rfl rfl ?_
      refine g_if_lt hΓ (pc := 37) (tgt := 55) dX4_driver_37 (by decide) (fun c3 => ?_) (fun c3 => ?_)
      · have hf := ifP hf c3
        refine g_iload_n hΓ (pc := 55) 2 (i := 3) dX4_driver_55 rfl rfl ?_
        refine g_goto hΓ (pc := 56) (tgt := 60) dX4_driver_56 (by decide) ?_
        refine g_istore_n hΓ (pc := 60) (i := 2) (lv' := [(2, .int y3), (0, .ref (ad 46)), (3, .int y3)]) dX4_driver_60 rfl (by decide) rfl ?_
        obtain ⟨x4, hx4, hf⟩ := bindE hf
        refine g_iinc hΓ (pc := 61) 2 (i := 3) (v := x4) (lv' := [(3, .int x4), (2, .int y3), (0, .ref (ad 46))]) dX4_driver_61 rfl (Option.some.inj hx4) (by decide) rfl ?_
        refine g_goto hΓ (pc := 64) (tgt := 28) dX4_driver_64 (by decide) ?_
        exact g_sub [2, 1, 0] rfl (hk28 _ _ _ hf)
      · have hf := ifN hf c3
        refine g_aload_n hΓ (pc := 40) 0 (i := 0) dX4_driver_40 rfl rfl ?_
        refine qg_geta hΓ (pc := 41) hK (k := 18) rfl q1090 dX4_driver_41 ?_
        refine g_iload_n hΓ (pc := 44) 2 (i := 3) dX4_driver_44 rfl rfl ?_
        obtain ⟨x5, hx5, hf⟩ := bindE hf
        refine qg_iald hΓ (pc := 45) hK rfl hx5 dX4_driver_45 rfl ?_
        refine g_aload_n hΓ (pc := 46) 0 (i := 0) dX4_driver_46 rfl rfl ?_
        refine qg_geta hΓ (pc := 47) hK (k := 18) rfl q1090 dX4_driver_47 ?_
        refine g_iload_n hΓ (pc := 50) 1 (i := 2) dX4_driver_50 rfl rfl ?_
        obtain ⟨x6, hx6, hf⟩ := bindE hf
        refine qg_iald hΓ (pc := 51) hK rfl hx6 dX4_driver_51 rfl ?_
        refine g_icmp_ge hΓ (pc := 52) (tgt := 59) dX4_driver_52 (by decide) (fun c7 => ?_) (fun c7 => ?_)
        · have hf := ifP hf c7
          refine g_iload_n hΓ (pc := 59) 1 (i := 2) dX4_driver_59 rfl rfl ?_
          refine g_istore_n hΓ (pc := 60) (i := 2) (lv' := [(2, .int y2), (0, .ref (ad 46)), (3, .int y3)]) dX4_driver_60 rfl (by decide) rfl ?_
          obtain ⟨x8, hx8, hf⟩ := bindE hf
          refine g_iinc hΓ (pc := 61) 2 (i := 3) (v := x8) (lv' := [(3, .int x8), (2, .int y2), (0, .ref (ad 46))]) dX4_driver_61 rfl (Option.some.inj hx8) (by decide) rfl ?_
          refine g_goto hΓ (pc := 64) (tgt := 28) dX4_driver_64 (by decide) ?_
          exact g_sub [2, 1, 0] rfl (hk28 _ _ _ hf)
        · have hf := ifN hf c7
          refine g_iload_n hΓ (pc := 55) 2 (i := 3) dX4_driver_55 rfl rfl ?_
          refine g_goto hΓ (pc := 56) (tgt := 60) dX4_driver_56 (by decide) ?_
          refine g_istore_n hΓ (pc := 60) (i := 2) (lv' := [(2, .int y3), (0, .ref (ad 46)), (3, .int y3)]) dX4_driver_60 rfl (by decide) rfl ?_
          obtain ⟨x9, hx9, hf⟩ := bindE hf
          refine g_iinc hΓ (pc := 61) 2 (i := 3) (v := x9) (lv' := [(3, .int x9), (2, .int y3), (0, .ref (ad 46))]) dX4_driver_61 rfl (Option.some.inj hx9) (by decide) rfl ?_
          refine g_goto hΓ (pc := 64) (tgt := 28) dX4_driver_64 (by decide) ?_
          exact g_sub [2, 1, 0] rfl (hk28 _ _ _ hf)
  have L28 : ∀ (n : Nat) (m : MS) (y2 : Int32) (y3 : Int32) (hf : M_driver_28   n m y2 y3 = some (r, m')), WG Γ (MW D dA b ad P F m) 0 0 28 [(0, .ref (ad 46)), (2, .int y2), (3, .int y3)] [] := by
    intro  n
    induction n with
    | zero => intro m y2 y3 hf; exact nomatch (show (none : Option (Int32 × MS)) = some _ from hf)
    | succ n ih => exact S28  _ ih
  refine g_aload_n hΓ (pc := 0) 0 (i := 0) dX4_driver_0 rfl rfl ?_
  refine g_iconst hΓ (pc := 1) (v := 0) dX4_driver_1 (by decide) ?_
  obtain ⟨m10, hm10, hf⟩ := bindE hf
  refine qg_put hΓ (pc := 2) hK rfl hm10 q1095 dX4_driver_2 ?_
  refine g_iload_n hΓ (pc := 5) 1 (i := 1) dX4_driver_5 rfl rfl ?_
  obtain ⟨x11, hx11, hf⟩ := bindE hf
  refine qg_callS hΓ (pc := 6) 1 (As := [.int a0]) (metM_isMinutes _ hx11) (lw_S q1444 q1445 q57 q1446) (by decide +kernel) (by decide) rfl rfl (Nat.le_of_ble_eq_true rfl) dX4_driver_6 ?_
  refine g_if_ne hΓ (pc := 9) (tgt := 14) dX4_driver_9 (by decide) (fun c12 => ?_) (fun c12 => ?_)
  · have hf := ifN hf c12
    refine g_aload_n hΓ (pc := 14) 0 (i := 0) dX4_driver_14 rfl rfl ?_
    obtain ⟨m13, hm13, hf⟩ := bindE hf
    refine qg_callV hΓ (pc := 15) hK 0 (As := []) (metM_open _ hm13) (lw_V q1266 q1268 qs22 q57 q1269) (by decide +kernel) (by decide) rfl rfl (Nat.le_of_ble_eq_true rfl) dX4_driver_15 ?_
    refine g_aload_n hΓ (pc := 18) 0 (i := 0) dX4_driver_18 rfl rfl ?_
    refine g_iload_n hΓ (pc := 19) 1 (i := 1) dX4_driver_19 rfl rfl ?_
    obtain ⟨m14, hm14, hf⟩ := bindE hf
    refine qg_callV hΓ (pc := 20) hK 1 (As := [.int a0]) (metM_goThrough _ hm14) (lw_V q1413 q1415 qs47 q57 q1416) (by decide +kernel) (by decide) rfl rfl (Nat.le_of_ble_eq_true rfl) dX4_driver_20 ?_
    refine g_bipush hΓ (pc := 23) (v := -4) dX4_driver_23 (by decide) ?_
    refine g_istore_n hΓ (pc := 25) (i := 2) (lv' := [(2, .int (-4 : Int32)), (0, .ref (ad 46)), (1, .int a0)]) dX4_driver_25 rfl (by decide) rfl ?_
    refine g_iconst hΓ (pc := 26) (v := 0) dX4_driver_26 (by decide) ?_
    refine g_istore_n hΓ (pc := 27) (i := 3) (lv' := [(3, .int (0 : Int32)), (2, .int (-4 : Int32)), (0, .ref (ad 46)), (1, .int a0)]) dX4_driver_27 rfl (by decide) rfl ?_
    exact g_sub [2, 1, 0] rfl (L28  200 _ _ _ hf)
  · have hf := ifP hf c12
    refine g_iconst hΓ (pc := 12) (v := -1) dX4_driver_12 (by decide) ?_
    exact qg_iret hΓ hK hf dX4_driver_13

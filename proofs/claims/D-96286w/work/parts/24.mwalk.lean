set_option maxRecDepth 100000
def M_isSomeEmpty_4s (m : MS) (k4 : Int32 → Int32 → Option (Int32)) (y1 : Int32) (y2 : Int32) : Option (Int32) :=
  if (m.1 0) ≤ y2 then (
    zOk y1
  ) else (
    if y1 = 0 then (
      (mR m 7 y2).bind fun x4 =>
      if x4 = (20 : Int32) then (
        (some (y2 + 1)).bind fun x6 =>
        k4 (0 : Int32) x6
      ) else (
        (mR m 6 y2).bind fun x7 =>
        if x7 = 0 then (
          (some (y2 + 1)).bind fun x10 =>
          k4 (1 : Int32) x10
        ) else (
          (some (y2 + 1)).bind fun x9 =>
          k4 (0 : Int32) x9
        )
      )
    ) else (
      (some (y2 + 1)).bind fun x3 =>
      k4 (1 : Int32) x3
    )
  )
def M_isSomeEmpty_4 (m : MS) : Nat → Int32 → Int32 → Option (Int32)
  | 0 => fun _ _ => none
  | n + 1 => M_isSomeEmpty_4s m  (M_isSomeEmpty_4 m  n)
def M_isSomeEmpty (m : MS) : Option (Int32) :=
  M_isSomeEmpty_4 m 200 (0 : Int32) (0 : Int32)
set_option maxHeartbeats 4000000 in
set_option maxRecDepth 100000 in
theorem metM_isSomeEmpty (l : Launch) {D : va_G} {dA : Nat → ClassId} {b : Nat} {ad : Nat → Nat} {P : Nat → Prop} {F : Nat → va_E} {m : MS} {r : Int32} (hf : M_isSomeEmpty m  = some r) : Met l yX4_isSomeEmpty (ws_ yX4_isSomeEmpty cX4_isSomeEmpty 3 (some .boolean)) (rm0_ 0 0) (mP D dA b ad P F [.ref (ad 46)] m) (mQ D dA b ad P F (some (.int r)) m) 0 0 (fun q => b ≤ q) := by
  refine qg_met (by decide) RX4 rfl (Nat.le_of_ble_eq_true rfl) (fun Γ hΓ hK => ?_)
  refine g_sub [0] (lv' := [(0, .ref (ad 46))]) rfl ?_
  have S4 : ∀ (k4 : Int32 → Int32 → Option (Int32)) (hk4 : ∀ (y1 : Int32) (y2 : Int32), k4 y1 y2 = some r → WG Γ (MW D dA b ad P F m) 0 0 4 [(0, .ref (ad 46)), (1, .int y1), (2, .int y2)] []) (y1 : Int32) (y2 : Int32) (hf : M_isSomeEmpty_4s m k4 y1 y2 = some r), WG Γ (MW D dA b ad P F m) 0 0 4 [(0, .ref (ad 46)), (1, .int y1), (2, .int y2)] [] := by
    intro k4 hk4 y1 y2 hf
    refine g_iload_n hΓ (pc := 4) 2 (i := 2) dX4_isSomeEmpty_4 rfl rfl ?_
    refine g_aload_n hΓ (pc := 5) 0 (i := 0) dX4_isSomeEmpty_5 rfl rfl ?_
    refine qg_get hΓ (pc := 6) hK (k := 0) rfl q1072 dX4_isSomeEmpty_6 ?_
    refine g_icmp_ge hΓ (pc := 9) (tgt := 48) dX4_isSomeEmpty_9 (by decide) (fun c1 => ?_) (fun c1 => ?_)
    · have hf := ifP hf c1
      refine g_iload_n hΓ (pc := 48) 1 (i := 1) dX4_isSomeEmpty_48 rfl rfl ?_
      exact qg_zretR hΓ hK hf dX4_isSomeEmpty_49
    · have hf := ifN hf c1
      refine g_iload_n hΓ (pc := 12) 1 (i := 1) dX4_isSomeEmpty_12 rfl rfl ?_
      refine g_if_ne hΓ (pc := 13) (tgt := 36) dX4_isSomeEmpty_13 (by decide) (fun c2 => ?_) (fun c2 => ?_)
      · have hf := ifN hf c2
        refine g_iconst hΓ (pc := 36) (v := 1) dX4_isSomeEmpty_36 (by decide) ?_
        refine g_goto hΓ (pc := 37) (tgt := 41) dX4_isSomeEmpty_37 (by decide) ?_
        refine g_istore_n hΓ (pc := 41) (i := 1) (lv' := [(1, .int (1 : Int32)), (0, .ref (ad 46)), (2, .int y2)]) dX4_isSomeEmpty_41 rfl (by decide) rfl ?_
        obtain ⟨x3, hx3, hf⟩ := bindE hf
        refine g_iinc hΓ (pc := 42) 2 (i := 2) (v := x3) (lv' := [(2, .int x3), (1, .int (1 : Int32)), (0, .ref (ad 46))]) dX4_isSomeEmpty_42 rfl (Option.some.inj hx3) (by decide) rfl ?_
        refine g_goto hΓ (pc := 45) (tgt := 4) dX4_isSomeEmpty_45 (by decide) ?_
        exact g_sub [2, 1, 0] rfl (hk4 _ _ hf)
      · have hf := ifP hf c2
        refine g_aload_n hΓ (pc := 16) 0 (i := 0) dX4_isSomeEmpty_16 rfl rfl ?_
        refine qg_geta hΓ (pc := 17) hK (k := 7) rfl q1079 dX4_isSomeEmpty_17 ?_
        refine g_iload_n hΓ (pc := 20) 2 (i := 2) dX4_isSomeEmpty_20 rfl rfl ?_
        obtain ⟨x4, hx4, hf⟩ := bindE hf
        refine qg_iald hΓ (pc := 21) hK rfl hx4 dX4_isSomeEmpty_21 rfl ?_
        refine g_bipush hΓ (pc := 22) (v := 20) dX4_isSomeEmpty_22 (by decide) ?_
        refine g_icmp_eq hΓ (pc := 24) (tgt := 40) dX4_isSomeEmpty_24 (by decide) (fun c5 => ?_) (fun c5 => ?_)
        · have hf := ifP hf c5
          refine g_iconst hΓ (pc := 40) (v := 0) dX4_isSomeEmpty_40 (by decide) ?_
          refine g_istore_n hΓ (pc := 41) (i := 1) (lv' := [(1, .int (0 : Int32)), (0, .ref (ad 46)), (2, .int y2)]) dX4_isSomeEmpty_41 rfl (by decide) rfl ?_
          obtain ⟨x6, hx6, hf⟩ := bindE hf
          refine g_iinc hΓ (pc := 42) 2 (i := 2) (v := x6) (lv' := [(2, .int x6), (1, .int (0 : Int32)), (0, .ref (ad 46))]) dX4_isSomeEmpty_42 rfl (Option.some.inj hx6) (by decide) rfl ?_
          refine g_goto hΓ (pc := 45) (tgt := 4) dX4_isSomeEmpty_45 (by decide) ?_
          exact g_sub [2, 1, 0] rfl (hk4 _ _ hf)
        · have hf := ifN hf c5
          refine g_aload_n hΓ (pc := 27) 0 (i := 0) dX4_isSomeEmpty_27 rfl rfl ?_
          refine qg_geta hΓ (pc := 28) hK (k := 6) rfl q1078 dX4_isSomeEmpty_28 ?_
          refine g_iload_n hΓ (pc := 31) 2 (i := 2) dX4_isSomeEmpty_31 rfl rfl ?_
          obtain ⟨x7, hx7, hf⟩ := bindE hf
          refine qg_iald hΓ (pc := 32) hK rfl hx7 dX4_isSomeEmpty_32 rfl ?_
          refine g_if_ne hΓ (pc := 33) (tgt := 40) dX4_isSomeEmpty_33 (by decide) (fun c8 => ?_) (fun c8 => ?_)
          · have hf := ifN hf c8
            refine g_iconst hΓ (pc := 40) (v := 0) dX4_isSomeEmpty_40 (by decide) ?_
            refine g_istore_n hΓ (pc := 41) (i := 1) (lv' := [(1, .int (0 : Int32)), (0, .ref (ad 46)), (2, .int y2)]) dX4_isSomeEmpty_41 rfl (by decide) rfl ?_
            obtain ⟨x9, hx9, hf⟩ := bindE hf
            refine g_iinc hΓ (pc := 42) 2 (i := 2) (v := x9) (lv' := [(2, .int x9), (1, .int (0 : Int32)), (0, .ref (ad 46))]) dX4_isSomeEmpty_42 rfl (Option.some.inj hx9) (by decide) rfl ?_
            refine g_goto hΓ (pc := 45) (tgt := 4) dX4_isSomeEmpty_45 (by decide) ?_
            exact g_sub [2, 1, 0] rfl (hk4 _ _ hf)
          · have hf := ifP hf c8
            refine g_iconst hΓ (pc := 36) (v := 1) dX4_isSomeEmpty_36 (by decide) ?_
            refine g_goto hΓ (pc := 37) (tgt := 41) dX4_isSomeEmpty_37 (by decide) ?_
            refine g_istore_n hΓ (pc := 41) (i := 1) (lv' := [(1, .int (1 : Int32)), (0, .ref (ad 46)), (2, .int y2)]) dX4_isSomeEmpty_41 rfl (by decide) rfl ?_
            obtain ⟨x10, hx10, hf⟩ := bindE hf
            refine g_iinc hΓ (pc := 42) 2 (i := 2) (v := x10) (lv' := [(2, .int x10), (1, .int (1 : Int32)), (0, .ref (ad 46))]) dX4_isSomeEmpty_42 rfl (Option.some.inj hx10) (by decide) rfl ?_
            refine g_goto hΓ (pc := 45) (tgt := 4) dX4_isSomeEmpty_45 (by decide) ?_
            exact g_sub [2, 1, 0] rfl (hk4 _ _ hf)
  have L4 : ∀ (n : Nat) (y1 : Int32) (y2 : Int32) (hf : M_isSomeEmpty_4 m  n y1 y2 = some r), WG Γ (MW D dA b ad P F m) 0 0 4 [(0, .ref (ad 46)), (1, .int y1), (2, .int y2)] [] := by
    intro  n
    induction n with
    | zero => intro y1 y2 hf; exact nomatch (show (none : Option (Int32)) = some _ from hf)
    | succ n ih => exact S4  _ ih
  refine g_iconst hΓ (pc := 0) (v := 0) dX4_isSomeEmpty_0 (by decide) ?_
  refine g_istore_n hΓ (pc := 1) (i := 1) (lv' := [(1, .int (0 : Int32)), (0, .ref (ad 46))]) dX4_isSomeEmpty_1 rfl (by decide) rfl ?_
  refine g_iconst hΓ (pc := 2) (v := 0) dX4_isSomeEmpty_2 (by decide) ?_
  refine g_istore_n hΓ (pc := 3) (i := 2) (lv' := [(2, .int (0 : Int32)), (1, .int (0 : Int32)), (0, .ref (ad 46))]) dX4_isSomeEmpty_3 rfl (by decide) rfl ?_
  exact g_sub [2, 1, 0] rfl (L4  200 _ _ hf)
def M_full_48 (m : MS) (y1 : Int32) : Option (Int32 × MS) :=
  (M_again m).bind fun m1 =>
  some (y1, m1)
def M_full_37 (k14 : MS → Int32 → Int32 → Option (Int32 × MS)) (m : MS) (y2 : Int32) (z0 : Int32) : Option (Int32 × MS) :=
  (M_minuteOn m).bind fun m2 =>
  (some (y2 + 1)).bind fun x3 =>
  k14 m2 z0 x3
def M_full_14s (k14 : MS → Int32 → Int32 → Option (Int32 × MS)) (m : MS) (y1 : Int32) (y2 : Int32) : Option (Int32 × MS) :=
  if (60 : Int32) < y2 then (
    M_full_48 m y1
  ) else (
    if 0 ≤ y1 then (
      M_full_48 m y1
    ) else (
      (M_isSomeEmpty m).bind fun x6 =>
      if x6 = 0 then (
        M_full_37 k14 m y2 y2
      ) else (
        M_full_37 k14 m y2 (-4 : Int32)
      )
    )
  )
def M_full_14 : Nat → MS → Int32 → Int32 → Option (Int32 × MS)
  | 0 => fun _ _ _ => none
  | n + 1 => M_full_14s   (M_full_14   n)
def M_full (m : MS) : Option (Int32 × MS) :=
  (mSI m 23 (0 : Int32)).bind fun m8 =>
  (M_open m8).bind fun m9 =>
  M_full_14 200 m9 (-4 : Int32) (0 : Int32)
set_option maxHeartbeats 4000000 in
set_option maxRecDepth 100000 in
theorem metM_full (l : Launch) {D : va_G} {dA : Nat → ClassId} {b : Nat} {ad : Nat → Nat} {P : Nat → Prop} {F : Nat → va_E} {m : MS} {m' : MS} {r : Int32} (hf : M_full m  = some (r, m')) : Met l yX4_full (ws_ yX4_full cX4_full 3 (some .int)) (rm0_ 7 159) (mP D dA b ad P F [.ref (ad 46)] m) (mQ D dA b ad P F (some (.int r)) m') 0 0 (fun q => b ≤ q) := by
  refine qg_met (by decide) RX4 rfl (Nat.le_of_ble_eq_true rfl) (fun Γ hΓ hK => ?_)
  refine g_sub [0] (lv' := [(0, .ref (ad 46))]) rfl ?_
  have J48 : ∀ (m : MS) (y1 : Int32) (hf : M_full_48   m y1 = some (r, m')), WG Γ (MW D dA b ad P F m) 0 0 48 [(0, .ref (ad 46)), (1, .int y1)] [] := by
    intro  m y1 hf
    refine g_aload_n hΓ (pc := 48) 0 (i := 0) dX4_full_48 rfl rfl ?_
    obtain ⟨m1, hm1, hf⟩ := bindE hf
    refine qg_callV hΓ (pc := 49) hK 0 (As := []) (metM_again _ hm1) (lw_V q1354 q1356 qs44 q57 q1357) (by decide +kernel) (by decide) rfl rfl (Nat.le_of_ble_eq_true rfl) dX4_full_49 ?_
    refine g_iload_n hΓ (pc := 52) 1 (i := 1) dX4_full_52 rfl rfl ?_
    exact qg_iret hΓ hK hf dX4_full_53
  have J37 : ∀ (k14 : MS → Int32 → Int32 → Option (Int32 × MS)) (hk14 : ∀ (m : MS) (y1 : Int32) (y2 : Int32), k14 m y1 y2 = some (r, m') → WG Γ (MW D dA b ad P F m) 0 0 14 [(0, .ref (ad 46)), (1, .int y1), (2, .int y2)] []) (m : MS) (y2 : Int32) (z0 : Int32) (hf : M_full_37  k14 m y2 z0 = some (r, m')), WG Γ (MW D dA b ad P F m) 0 0 37 [(0, .ref (ad 46)), (2, .int y2)] [.int z0] := by
    intro k14 hk14 m y2 z0 hf
    refine g_istore_n hΓ (pc := 37) (i := 1) (lv' := [(1, .int z0), (0, .ref (ad 46)), (2, .int y2)]) dX4_full_37 rfl (by decide) rfl ?_
    refine g_aload_n hΓ (pc := 38) 1 (i := 0) dX4_full_38 rfl rfl ?_
    obtain ⟨m2, hm2, hf⟩ := bindE hf
    refine qg_callV hΓ (pc := 39) hK 0 (As := []) (metM_minuteOn _ hm2) (lw_V q1302 q1304 qs31 q57 q1305) (by decide +kernel) (by decide) rfl rfl (Nat.le_of_ble_eq_true rfl) dX4_full_39 ?_
    obtain ⟨x3, hx3, hf⟩ := bindE hf
    refine g_iinc hΓ (pc := 42) 2 (i := 2) (v := x3) (lv' := [(2, .int x3), (1, .int z0), (0, .ref (ad 46))]) dX4_full_42 rfl (Option.some.inj hx3) (by decide) rfl ?_
    refine g_goto hΓ (pc := 45) (tgt := 14) dX4_full_45 (by decide) ?_
    exact g_sub [2, 1, 0] rfl (hk14 _ _ _ hf)
  have S14 : ∀ (k14 : MS → Int32 → Int32 → Option (Int32 × MS)) (hk14 : ∀ (m : MS) (y1 : Int32) (y2 : Int32), k14 m y1 y2 = some (r, m') → WG Γ (MW D dA b ad P F m) 0 0 14 [(0, .ref (ad 46)), (1, .int y1), (2, .int y2)] []) (m : MS) (y1 : Int32) (y2 : Int32) (hf : M_full_14s  k14 m y1 y2 = some (r, m')), WG Γ (MW D dA b ad P F m) 0 0 14 [(0, .ref (ad 46)), (1, .int y1), (2, .int y2)] [] := by
    intro k14 hk14 m y1 y2 hf
    refine g_iload_n hΓ (pc := 14) 2 (i := 2) dX4_full_14 rfl rfl ?_
    refine g_bipush hΓ (pc := 15) (v := 60) dX4_full_15 (by decide) ?_
    refine g_icmp_gt hΓ (pc := 17) (tgt := 48) dX4_full_17 (by decide) (fun c4 => ?_) (fun c4 => ?_)
    · have hf := ifP hf c4
      exact g_sub [0, 1] rfl (J48  _ _ hf)
    · have hf := ifN hf c4
      refine g_iload_n hΓ (pc := 20) 1 (i := 1) dX4_full_20 rfl rfl ?_
      refine g_if_ge hΓ (pc := 21) (tgt := 48) dX4_full_21 (by decide) (fun c5 => ?_) (fun c5 => ?_)
      · have hf := ifP hf c5
        exact g_sub [0, 1] rfl (J48  _ _ hf)
      · have hf := ifN hf c5
        refine g_aload_n hΓ (pc := 24) 0 (i := 0) dX4_full_24 rfl rfl ?_
        obtain ⟨x6, hx6, hf⟩ := bindE hf
        refine qg_callV hΓ (pc := 25) hK 0 (As := []) (metM_isSomeEmpty _ hx6) (lw_V q1496 q1498 qs50 q57 q1499) (by decide +kernel) (by decide) rfl rfl (Nat.le_of_ble_eq_true rfl) dX4_full_25 ?_
        refine g_if_eq hΓ (pc := 28) (tgt := 36) dX4_full_28 (by decide) (fun c7 => ?_) (fun c7 => ?_)
        · have hf := ifP hf c7
          refine g_iload_n hΓ (pc := 36) 2 (i := 2) dX4_full_36 rfl rfl ?_
          exact g_sub [0, 2] rfl (J37 k14 hk14 _ _ _ hf)
        · have hf := ifN hf c7
          refine g_bipush hΓ (pc := 31) (v := -4) dX4_full_31 (by decide) ?_
          refine g_goto hΓ (pc := 33) (tgt := 37) dX4_full_33 (by decide) ?_
          exact g_sub [0, 2] rfl (J37 k14 hk14 _ _ _ hf)
  have L14 : ∀ (n : Nat) (m : MS) (y1 : Int32) (y2 : Int32) (hf : M_full_14   n m y1 y2 = some (r, m')), WG Γ (MW D dA b ad P F m) 0 0 14 [(0, .ref (ad 46)), (1, .int y1), (2, .int y2)] [] := by
    intro  n
    induction n with
    | zero => intro m y1 y2 hf; exact nomatch (show (none : Option (Int32 × MS)) = some _ from hf)
    | succ n ih => exact S14  _ ih
  refine g_aload_n hΓ (pc := 0) 0 (i := 0) dX4_full_0 rfl rfl ?_
  refine g_iconst hΓ (pc := 1) (v := 0) dX4_full_1 (by decide) ?_
  obtain ⟨m8, hm8, hf⟩ := bindE hf
  refine qg_put hΓ (pc := 2) hK rfl hm8 q1095 dX4_full_2 ?_
  refine g_aload_n hΓ (pc := 5) 0 (i := 0) dX4_full_5 rfl rfl ?_
  obtain ⟨m9, hm9, hf⟩ := bindE hf
  refine qg_callV hΓ (pc := 6) hK 0 (As := []) (metM_open _ hm9) (lw_V q1266 q1268 qs22 q57 q1269) (by decide +kernel) (by decide) rfl rfl (Nat.le_of_ble_eq_true rfl) dX4_full_6 ?_
  refine g_bipush hΓ (pc := 9) (v := -4) dX4_full_9 (by decide) ?_
  refine g_istore_n hΓ (pc := 11) (i := 1) (lv' := [(1, .int (-4 : Int32)), (0, .ref (ad 46))]) dX4_full_11 rfl (by decide) rfl ?_
  refine g_iconst hΓ (pc := 12) (v := 0) dX4_full_12 (by decide) ?_
  refine g_istore_n hΓ (pc := 13) (i := 2) (lv' := [(2, .int (0 : Int32)), (1, .int (-4 : Int32)), (0, .ref (ad 46))]) dX4_full_13 rfl (by decide) rfl ?_
  exact g_sub [2, 1, 0] rfl (L14  200 _ _ _ hf)
def M_draw (m : MS) (a0 : Int32) : Option (Int32 × MS) :=
  (mSI m 38 (((m.1 38) * (1103515245 : Int32)) + (12345 : Int32))).bind fun m1 =>
  if a0 = 0 then none else
  some ((((m1.1 38) &&& (2147483647 : Int32)) / (65536 : Int32)) - (((m1.1 38) &&& (2147483647 : Int32)) / (65536 : Int32)) / a0 * a0, m1)
set_option maxHeartbeats 4000000 in
set_option maxRecDepth 100000 in
theorem metM_draw (l : Launch) {D : va_G} {dA : Nat → ClassId} {b : Nat} {ad : Nat → Nat} {P : Nat → Prop} {F : Nat → va_E} {m : MS} {m' : MS} {a0 : Int32} {r : Int32} (hf : M_draw m a0 = some (r, m')) : Met l yX4_draw (ws_ yX4_draw cX4_draw 2 (some .int)) (rm0_ 0 0) (mP D dA b ad P F [.ref (ad 46), .int a0] m) (mQ D dA b ad P F (some (.int r)) m') 0 0 (fun q => b ≤ q) := by
  refine qg_met (by decide) RX4 rfl (Nat.le_of_ble_eq_true rfl) (fun Γ hΓ hK => ?_)
  refine g_sub [0, 1] (lv' := [(0, .ref (ad 46)), (1, .int a0)]) rfl ?_
  refine g_aload_n hΓ (pc := 0) 0 (i := 0) dX4_draw_0 rfl rfl ?_
  refine g_aload_n hΓ (pc := 1) 0 (i := 0) dX4_draw_1 rfl rfl ?_
  refine qg_get hΓ (pc := 2) hK (k := 38) rfl q1110 dX4_draw_2 ?_
  refine g_ldcw hΓ (pc := 5) q1509 dX4_draw_5 ?_
  refine g_imul hΓ (pc := 8) dX4_draw_8 ?_
  refine g_sipush hΓ (pc := 9) (v := 12345) dX4_draw_9 (by decide) ?_
  refine g_iadd hΓ (pc := 12) dX4_draw_12 ?_
  obtain ⟨m1, hm1, hf⟩ := bindE hf
  refine qg_put hΓ (pc := 13) hK rfl hm1 q1110 dX4_draw_13 ?_
  refine g_aload_n hΓ (pc := 16) 0 (i := 0) dX4_draw_16 rfl rfl ?_
  refine qg_get hΓ (pc := 17) hK (k := 38) rfl q1110 dX4_draw_17 ?_
  refine g_ldcw hΓ (pc := 20) q1510 dX4_draw_20 ?_
  refine g_iand hΓ (pc := 23) dX4_draw_23 ?_
  refine g_ldcw hΓ (pc := 24) q1511 dX4_draw_24 ?_
  refine g_idiv hΓ (pc := 27) dX4_draw_27 (by decide) ?_
  refine g_iload_n hΓ (pc := 28) 1 (i := 1) dX4_draw_28 rfl rfl ?_
  obtain ⟨e2, hf⟩ := nzE hf
  refine g_irem hΓ (pc := 29) dX4_draw_29 e2 ?_
  exact qg_iret hΓ hK hf dX4_draw_30
def M_seeded_70s (k61 : MS → Int32 → Int32 → Int32 → Option (Int32 × MS)) (k70 : MS → Int32 → Int32 → Int32 → Int32 → Option (Int32 × MS)) (m : MS) (y1 : Int32) (y3 : Int32) (y4 : Int32) (y5 : Int32) : Option (Int32 × MS) :=
  if (m.1 1) ≤ y5 then (
    (M_minuteOn m).bind fun m2 =>
    (some (y4 + 1)).bind fun x3 =>
    k61 m2 y1 y3 x3
  ) else (
    (M_draw m (6 : Int32)).bind fun q4 =>
    (mW q4.2 15 y5 q4.1).bind fun m5 =>
    (some (y5 + 1)).bind fun x6 =>
    k70 m5 y1 y3 y4 x6
  )
def M_seeded_70 (k61 : MS → Int32 → Int32 → Int32 → Option (Int32 × MS)) : Nat → MS → Int32 → Int32 → Int32 → Int32 → Option (Int32 × MS)
  | 0 => fun _ _ _ _ _ => none
  | n + 1 => M_seeded_70s  k61 (M_seeded_70  k61 n)
def M_seeded_61s (k61 : MS → Int32 → Int32 → Int32 → Option (Int32 × MS)) (m : MS) (y1 : Int32) (y3 : Int32) (y4 : Int32) : Option (Int32 × MS) :=
  if y1 ≤ y4 then (
    (M_again m).bind fun m8 =>
    if y3 = 0 then (
      some (m8.1 20, m8)
    ) else (
      some (m8.1 21, m8)
    )
  ) else (
    M_seeded_70 k61 200 m y1 y3 y4 (0 : Int32)
  )
def M_seeded_61 : Nat → MS → Int32 → Int32 → Int32 → Option (Int32 × MS)
  | 0 => fun _ _ _ _ => none
  | n + 1 => M_seeded_61s   (M_seeded_61   n)
def M_seeded (m : MS) (a0 : Int32) (a1 : Int32) (a2 : Int32) : Option (Int32 × MS) :=
  (mSI m 23 (0 : Int32)).bind fun m10 =>
  (M_in a0.toInt64 (1 : Int64) (30 : Int64)).bind fun x11 =>
  if x11 = 0 then (
    some ((-1 : Int32), m10)
  ) else (
    (M_in a2.toInt64 (0 : Int64) (1 : Int64)).bind fun x13 =>
    if x13 = 0 then (
      some ((-1 : Int32), m10)
    ) else (
      if (m10.1 1) = 0 then (
        some ((-3 : Int32), m10)
      ) else (
        (M_open m10).bind fun m16 =>
        (mSI m16 38 a1).bind fun m17 =>
        (mSI m17 20 (0 : Int32)).bind fun m18 =>
        (mSI m18 21 (0 : Int32)).bind fun m19 =>
        M_seeded_61 200 m19 a0 a2 (0 : Int32)
      )
    )
  )
set_option maxHeartbeats 4000000 in
set_option maxRecDepth 100000 in
theorem metM_seeded (l : Launch) {D : va_G} {dA : Nat → ClassId} {b : Nat} {ad : Nat → Nat} {P : Nat → Prop} {F : Nat → va_E} {m : MS} {m' : MS} {a0 : Int32} {a1 : Int32} {a2 : Int32} {r : Int32} (hf : M_seeded m a0 a1 a2 = some (r, m')) : Met l yX4_seeded (ws_ yX4_seeded cX4_seeded 6 (some .int)) (rm0_ 7 159) (mP D dA b ad P F [.ref (ad 46), .int a0, .int a1, .int a2] m) (mQ D dA b ad P F (some (.int r)) m') 0 0 (fun q => b ≤ q) := by
  refine qg_met (by decide) RX4 rfl (Nat.le_of_ble_eq_true rfl) (fun Γ hΓ hK => ?_)
  refine g_sub [0, 1, 2, 3] (lv' := [(0, .ref (ad 46)), (1, .int a0), (2, .int a1), (3, .int a2)]) rfl ?_
  have S70 : ∀ (k61 : MS → Int32 → Int32 → Int32 → Option (Int32 × MS)) (hk61 : ∀ (m : MS) (y1 : Int32) (y3 : Int32) (y4 : Int32), k61 m y1 y3 y4 = some (r, m') → WG Γ (MW D dA b ad P F m) 0 0 61 [(0, .ref (ad 46)), (1, .int y1), (3, .int y3), (4, .int y4)] []) (k70 : MS → Int32 → Int32 → Int32 → Int32 → Option (Int32 × MS)) (hk70 : ∀ (m : MS) (y1 : Int32) (y3 : Int32) (y4 : Int32) (y5 : Int32), k70 m y1 y3 y4 y5 = some (r, m') → WG Γ (MW D dA b ad P F m) 0 0 70 [(0, .ref (ad 46)), (1, .int y1), (3, .int y3), (4, .int y4), (5, .int y5)] []) (m : MS) (y1 : Int32) (y3 : Int32) (y4 : Int32) (y5 : Int32) (hf : M_seeded_70s  k61 k70 m y1 y3 y4 y5 = some (r, m')), WG Γ (MW D dA b ad P F m) 0 0 70 [(0, .ref (ad 46)), (1, .int y1), (3, .int y3), (4, .int y4), (5, .int y5)] [] := by
    intro k61 hk61 k70 hk70 m y1 y3 y4 y5 hf
    refine g_iload hΓ (pc := 70) 4 (i := 5) dX4_seeded_70 rfl ?_
    refine g_aload_n hΓ (pc := 72) 0 (i := 0) dX4_seeded_72 rfl rfl ?_
    refine qg_get hΓ (pc := 73) hK (k := 1) rfl q1073 dX4_seeded_73 ?_
    refine g_icmp_ge hΓ (pc := 76) (tgt := 98) dX4_seeded_76 (by decide) (fun c1 => ?_) (fun c1 => ?_)
    · have hf := ifP hf c1
      refine g_aload_n hΓ (pc := 98) 0 (i := 0) dX4_seeded_98 rfl rfl ?_
      obtain ⟨m2, hm2, hf⟩ := bindE hf
      refine qg_callV hΓ (pc := 99) hK 0 (As := []) (metM_minuteOn _ hm2) (lw_V q1302 q1304 qs31 q57 q1305) (by decide +kernel) (by decide) rfl rfl (Nat.le_of_ble_eq_true rfl) dX4_seeded_99 ?_
      obtain ⟨x3, hx3, hf⟩ := bindE hf
      refine g_iinc hΓ (pc := 102) 3 (i := 4) (v := x3) (lv' := [(4, .int x3), (0, .ref (ad 46)), (1, .int y1), (3, .int y3), (5, .int y5)]) dX4_seeded_102 rfl (Option.some.inj hx3) (by decide) rfl ?_
      refine g_goto hΓ (pc := 105) (tgt := 61) dX4_seeded_105 (by decide) ?_
      exact g_sub [1, 2, 3, 0] rfl (hk61 _ _ _ _ hf)
    · have hf := ifN hf c1
      refine g_aload_n hΓ (pc := 79) 0 (i := 0) dX4_seeded_79 rfl rfl ?_
      refine qg_geta hΓ (pc := 80) hK (k := 15) rfl q1087 dX4_seeded_80 ?_
      refine g_iload hΓ (pc := 83) 4 (i := 5) dX4_seeded_83 rfl ?_
      refine g_aload_n hΓ (pc := 85) 0 (i := 0) dX4_seeded_85 rfl rfl ?_
      refine g_bipush hΓ (pc := 86) (v := 6) dX4_seeded_86 (by decide) ?_
      obtain ⟨q4, hq4, hf⟩ := bindE hf
      refine qg_callV hΓ (pc := 88) hK 1 (As := [.int (6 : Int32)]) (metM_draw _ (r := q4.1) (m' := q4.2) hq4) (lw_V q1505 q1507 qs51 q57 q1508) (by decide +kernel) (by decide) rfl rfl (Nat.le_of_ble_eq_true rfl) dX4_seeded_88 ?_
      obtain ⟨m5, hm5, hf⟩ := bindE hf
      refine qg_iast hΓ (pc := 91) hK rfl hm5 dX4_seeded_91 rfl ?_
      obtain ⟨x6, hx6, hf⟩ := bindE hf
      refine g_iinc hΓ (pc := 92) 4 (i := 5) (v := x6) (lv' := [(5, .int x6), (0, .ref (ad 46)), (1, .int y1), (3, .int y3), (4, .int y4)]) dX4_seeded_92 rfl (Option.some.inj hx6) (by decide) rfl ?_
      refine g_goto hΓ (pc := 95) (tgt := 70) dX4_seeded_95 (by decide) ?_
      exact g_sub [1, 2, 3, 4, 0] rfl (hk70 _ _ _ _ _ hf)
  have L70 : ∀ (k61 : MS → Int32 → Int32 → Int32 → Option (Int32 × MS)) (hk61 : ∀ (m : MS) (y1 : Int32) (y3 : Int32) (y4 : Int32), k61 m y1 y3 y4 = some (r, m') → WG Γ (MW D dA b ad P F m) 0 0 61 [(0, .ref (ad 46)), (1, .int y1), (3, .int y3), (4, .int y4)] []) (n : Nat) (m : MS) (y1 : Int32) (y3 : Int32) (y4 : Int32) (y5 : Int32) (hf : M_seeded_70  k61 n m y1 y3 y4 y5 = some (r, m')), WG Γ (MW D dA b ad P F m) 0 0 70 [(0, .ref (ad 46)), (1, .int y1), (3, .int y3), (4, .int y4), (5, .int y5)] [] := by
    intro k61 hk61 n
    induction n with
    | zero => intro m y1 y3 y4 y5 hf; exact nomatch (show (none : Option (Int32 × MS)) = some _ from hf)
    | succ n ih => exact S70 k61 hk61 _ ih
  have S61 : ∀ (k61 : MS → Int32 → Int32 → Int32 → Option (Int32 × MS)) (hk61 : ∀ (m : MS) (y1 : Int32) (y3 : Int32) (y4 : Int32), k61 m y1 y3 y4 = some (r, m') → WG Γ (MW D dA b ad P F m) 0 0 61 [(0, .ref (ad 46)), (1, .int y1), (3, .int y3), (4, .int y4)] []) (m : MS) (y1 : Int32) (y3 : Int32) (y4 : Int32) (hf : M_seeded_61s  k61 m y1 y3 y4 = some (r, m')), WG Γ (MW D dA b ad P F m) 0 0 61 [(0, .ref (ad 46)), (1, .int y1), (3, .int y3), (4, .int y4)] [] := by
    intro k61 hk61 m y1 y3 y4 hf
    refine g_iload hΓ (pc := 61) 3 (i := 4) dX4_seeded_61 rfl ?_
    refine g_iload_n hΓ (pc := 63) 1 (i := 1) dX4_seeded_63 rfl rfl ?_
    refine g_icmp_ge hΓ (pc := 64) (tgt := 108) dX4_seeded_64 (by decide) (fun c7 => ?_) (fun c7 => ?_)
    · have hf := ifP hf c7
      refine g_aload_n hΓ (pc := 108) 0 (i := 0) dX4_seeded_108 rfl rfl ?_
      obtain ⟨m8, hm8, hf⟩ := bindE hf
      refine qg_callV hΓ (pc := 109) hK 0 (As := []) (metM_again _ hm8) (lw_V q1354 q1356 qs44 q57 q1357) (by decide +kernel) (by decide) rfl rfl (Nat.le_of_ble_eq_true rfl) dX4_seeded_109 ?_
      refine g_iload_n hΓ (pc := 112) 2 (i := 3) dX4_seeded_112 rfl rfl ?_
      refine g_if_ne hΓ (pc := 113) (tgt := 123) dX4_seeded_113 (by decide) (fun c9 => ?_) (fun c9 => ?_)
      · have hf := ifN hf c9
        refine g_aload_n hΓ (pc := 123) 0 (i := 0) dX4_seeded_123 rfl rfl ?_
        refine qg_get hΓ (pc := 124) hK (k := 21) rfl q1093 dX4_seeded_124 ?_
        exact qg_iret hΓ hK hf dX4_seeded_127
      · have hf := ifP hf c9
        refine g_aload_n hΓ (pc := 116) 0 (i := 0) dX4_seeded_116 rfl rfl ?_
        refine qg_get hΓ (pc := 117) hK (k := 20) rfl q1092 dX4_seeded_117 ?_
        refine g_goto hΓ (pc := 120) (tgt := 127) dX4_seeded_120 (by decide) ?_
        exact qg_iret hΓ hK hf dX4_seeded_127
    · have hf := ifN hf c7
      refine g_iconst hΓ (pc := 67) (v := 0) dX4_seeded_67 (by decide) ?_
      refine g_istore hΓ (pc := 68) (i := 5) (lv' := [(5, .int (0 : Int32)), (0, .ref (ad 46)), (1, .int y1), (3, .int y3), (4, .int y4)]) dX4_seeded_68 (by decide) rfl ?_
      exact g_sub [1, 2, 3, 4, 0] rfl (L70 k61 hk61 200 _ _ _ _ _ hf)
  have L61 : ∀ (n : Nat) (m : MS) (y1 : Int32) (y3 : Int32) (y4 : Int32) (hf : M_seeded_61   n m y1 y3 y4 = some (r, m')), WG Γ (MW D dA b ad P F m) 0 0 61 [(0, .ref (ad 46)), (1, .int y1), (3, .int y3), (4, .int y4)] [] := by
    intro  n
    induction n with
    | zero => intro m y1 y3 y4 hf; exact nomatch (show (none : Option (Int32 × MS)) = some _ from hf)
    | succ n ih => exact S61  _ ih
  refine g_aload_n hΓ (pc := 0) 0 (i := 0) dX4_seeded_0 rfl rfl ?_
  refine g_iconst hΓ (pc := 1) (v := 0) dX4_seeded_1 (by decide) ?_
  obtain ⟨m10, hm10, hf⟩ := bindE hf
  refine qg_put hΓ (pc := 2) hK rfl hm10 q1095 dX4_seeded_2 ?_
  refine g_iload_n hΓ (pc := 5) 1 (i := 1) dX4_seeded_5 rfl rfl ?_
  refine g_i2l hΓ (pc := 6) dX4_seeded_6 ?_
  refine g_lconst hΓ (pc := 7) (v := 1) dX4_seeded_7 (by decide) ?_
  refine g_ldc2 hΓ (pc := 8) q1504 dX4_seeded_8 ?_
  obtain ⟨x11, hx11, hf⟩ := bindE hf
  refine qg_callS hΓ (pc := 11) 3 (As := [.long a0.toInt64, .long (1 : Int64), .long (30 : Int64)]) (metM_in _ hx11) (lw_S q1245 q1246 q57 q1247) (by decide +kernel) (by decide) rfl rfl (Nat.le_of_ble_eq_true rfl) dX4_seeded_11 ?_
  refine g_if_eq hΓ (pc := 14) (tgt := 27) dX4_seeded_14 (by decide) (fun c12 => ?_) (fun c12 => ?_)
  · have hf := ifP hf c12
    refine g_iconst hΓ (pc := 27) (v := -1) dX4_seeded_27 (by decide) ?_
    exact qg_iret hΓ hK hf dX4_seeded_28
  · have hf := ifN hf c12
    refine g_iload_n hΓ (pc := 17) 3 (i := 3) dX4_seeded_17 rfl rfl ?_
    refine g_i2l hΓ (pc := 18) dX4_seeded_18 ?_
    refine g_lconst hΓ (pc := 19) (v := 0) dX4_seeded_19 (by decide) ?_
    refine g_lconst hΓ (pc := 20) (v := 1) dX4_seeded_20 (by decide) ?_
    obtain ⟨x13, hx13, hf⟩ := bindE hf
    refine qg_callS hΓ (pc := 21) 3 (As := [.long a2.toInt64, .long (0 : Int64), .long (1 : Int64)]) (metM_in _ hx13) (lw_S q1245 q1246 q57 q1247) (by decide +kernel) (by decide) rfl rfl (Nat.le_of_ble_eq_true rfl) dX4_seeded_21 ?_
    refine g_if_ne hΓ (pc := 24) (tgt := 29) dX4_seeded_24 (by decide) (fun c14 => ?_) (fun c14 => ?_)
    · have hf := ifN hf c14
      refine g_aload_n hΓ (pc := 29) 0 (i := 0) dX4_seeded_29 rfl rfl ?_
      refine qg_get hΓ (pc := 30) hK (k := 1) rfl q1073 dX4_seeded_30 ?_
      refine g_if_ne hΓ (pc := 33) (tgt := 39) dX4_seeded_33 (by decide) (fun c15 => ?_) (fun c15 => ?_)
      · have hf := ifN hf c15
        refine g_aload_n hΓ (pc := 39) 0 (i := 0) dX4_seeded_39 rfl rfl ?_
        obtain ⟨m16, hm16, hf⟩ := bindE hf
        refine qg_callV hΓ (pc := 40) hK 0 (As := []) (metM_open _ hm16) (lw_V q1266 q1268 qs22 q57 q1269) (by decide +kernel) (by decide) rfl rfl (Nat.le_of_ble_eq_true rfl) dX4_seeded_40 ?_
        refine g_aload_n hΓ (pc := 43) 0 (i := 0) dX4_seeded_43 rfl rfl ?_
        refine g_iload_n hΓ (pc := 44) 2 (i := 2) dX4_seeded_44 rfl rfl ?_
        obtain ⟨m17, hm17, hf⟩ := bindE hf
        refine qg_put hΓ (pc := 45) hK rfl hm17 q1110 dX4_seeded_45 ?_
        refine g_aload_n hΓ (pc := 48) 0 (i := 0) dX4_seeded_48 rfl rfl ?_
        refine g_iconst hΓ (pc := 49) (v := 0) dX4_seeded_49 (by decide) ?_
        obtain ⟨m18, hm18, hf⟩ := bindE hf
        refine qg_put hΓ (pc := 50) hK rfl hm18 q1092 dX4_seeded_50 ?_
        refine g_aload_n hΓ (pc := 53) 0 (i := 0) dX4_seeded_53 rfl rfl ?_
        refine g_iconst hΓ (pc := 54) (v := 0) dX4_seeded_54 (by decide) ?_
        obtain ⟨m19, hm19, hf⟩ := bindE hf
        refine qg_put hΓ (pc := 55) hK rfl hm19 q1093 dX4_seeded_55 ?_
        refine g_iconst hΓ (pc := 58) (v := 0) dX4_seeded_58 (by decide) ?_
        refine g_istore hΓ (pc := 59) (i := 4) (lv' := [(4, .int (0 : Int32)), (0, .ref (ad 46)), (1, .int a0), (2, .int a1), (3, .int a2)]) dX4_seeded_59 (by decide) rfl ?_
        exact g_sub [1, 2, 4, 0] rfl (L61  200 _ _ _ _ hf)
      · have hf := ifP hf c15
        refine g_bipush hΓ (pc := 36) (v := -3) dX4_seeded_36 (by decide) ?_
        exact qg_iret hΓ hK hf dX4_seeded_38
    · have hf := ifP hf c14
      refine g_iconst hΓ (pc := 27) (v := -1) dX4_seeded_27 (by decide) ?_
      exact qg_iret hΓ hK hf dX4_seeded_28
def M_skippedIn (m : MS) (a0 : Int32) : Option (Int64) :=
  (mR m 42 a0).bind fun x1 =>
  if x1 = 0 then (
    some (-128 : Int64)
  ) else (
    (mR m 42 a0).bind fun x3 =>
    if x3 = (1 : Int32) then (
      some (-32768 : Int64)
    ) else (
      some (-2147483648 : Int64)
    )
  )
set_option maxHeartbeats 4000000 in
set_option maxRecDepth 100000 in
theorem metM_skippedIn (l : Launch) {D : va_G} {dA : Nat → ClassId} {b : Nat} {ad : Nat → Nat} {P : Nat → Prop} {F : Nat → va_E} {m : MS} {a0 : Int32} {r : Int64} (hf : M_skippedIn m a0 = some r) : Met l yX4_skippedIn (ws_ yX4_skippedIn cX4_skippedIn 2 (some .long)) (rm0_ 0 0) (mP D dA b ad P F [.ref (ad 46), .int a0] m) (mQ D dA b ad P F (some (.long r)) m) 0 0 (fun q => b ≤ q) := by
  refine qg_met (by decide) RX4 rfl (Nat.le_of_ble_eq_true rfl) (fun Γ hΓ hK => ?_)
  refine g_sub [0, 1] (lv' := [(0, .ref (ad 46)), (1, .int a0)]) rfl ?_
  refine g_aload_n hΓ (pc := 0) 0 (i := 0) dX4_skippedIn_0 rfl rfl ?_
  refine qg_geta hΓ (pc := 1) hK (k := 42) rfl q1114 dX4_skippedIn_1 ?_
  refine g_iload_n hΓ (pc := 4) 1 (i := 1) dX4_skippedIn_4 rfl rfl ?_
  obtain ⟨x1, hx1, hf⟩ := bindE hf
  refine qg_iald hΓ (pc := 5) hK rfl hx1 dX4_skippedIn_5 rfl ?_
  refine g_if_ne hΓ (pc := 6) (tgt := 15) dX4_skippedIn_6 (by decide) (fun c2 => ?_) (fun c2 => ?_)
  · have hf := ifN hf c2
    refine g_aload_n hΓ (pc := 15) 0 (i := 0) dX4_skippedIn_15 rfl rfl ?_
    refine qg_geta hΓ (pc := 16) hK (k := 42) rfl q1114 dX4_skippedIn_16 ?_
    refine g_iload_n hΓ (pc := 19) 1 (i := 1) dX4_skippedIn_19 rfl rfl ?_
    obtain ⟨x3, hx3, hf⟩ := bindE hf
    refine qg_iald hΓ (pc := 20) hK rfl hx3 dX4_skippedIn_20 rfl ?_
    refine g_iconst hΓ (pc := 21) (v := 1) dX4_skippedIn_21 (by decide) ?_
    refine g_icmp_ne hΓ (pc := 22) (tgt := 31) dX4_skippedIn_22 (by decide) (fun c4 => ?_) (fun c4 => ?_)
    · have hf := ifN hf c4
      refine g_ldc2 hΓ (pc := 31) q1522 dX4_skippedIn_31 ?_
      exact qg_lretR hΓ hK hf dX4_skippedIn_34
    · have hf := ifP hf c4
      refine g_ldc2 hΓ (pc := 25) q1521 dX4_skippedIn_25 ?_
      refine g_goto hΓ (pc := 28) (tgt := 34) dX4_skippedIn_28 (by decide) ?_
      exact qg_lretR hΓ hK hf dX4_skippedIn_34
  · have hf := ifP hf c2
    refine g_ldc2 hΓ (pc := 9) q1520 dX4_skippedIn_9 ?_
    refine g_goto hΓ (pc := 12) (tgt := 34) dX4_skippedIn_12 (by decide) ?_
    exact qg_lretR hΓ hK hf dX4_skippedIn_34
def M_judge_113 (m : MS) (y4 : Int32) : Option (Int32 × MS) :=
  (M_again m).bind fun m1 =>
  some (y4, m1)
def M_judge_101 (k40 : MS → Int32 → Int32 → Int32 → Int32 → Option (Int32 × MS)) (m : MS) (y1 : Int32) (y2 : Int32) (y5 : Int32) (z0 : Int32) : Option (Int32 × MS) :=
  (M_minuteOn m).bind fun m2 =>
  (some (y5 + 1)).bind fun x3 =>
  k40 m2 y1 y2 z0 x3
def M_judge_40s (k40 : MS → Int32 → Int32 → Int32 → Int32 → Option (Int32 × MS)) (m : MS) (y1 : Int32) (y2 : Int32) (y4 : Int32) (y5 : Int32) : Option (Int32 × MS) :=
  (mR m 43 y2).bind fun x4 =>
  if x4 ≤ y5 then (
    M_judge_113 m y4
  ) else (
    if 0 ≤ y4 then (
      M_judge_113 m y4
    ) else (
      (mLR m 44 (((100 : Int32) * y2) + y5)).bind fun x7 =>
      (M_skippedIn m y2).bind fun x8 =>
      if (lg_cmp x7 x8) = 0 then (
        M_judge_101 k40 m y1 y2 y5 (-4 : Int32)
      ) else (
        (mR m 7 y1).bind fun x10 =>
        if (lg_cmp x7 x10.toInt64) = 0 then (
          M_judge_101 k40 m y1 y2 y5 (-4 : Int32)
        ) else (
          M_judge_101 k40 m y1 y2 y5 y5
        )
      )
    )
  )
def M_judge_40 : Nat → MS → Int32 → Int32 → Int32 → Int32 → Option (Int32 × MS)
  | 0 => fun _ _ _ _ _ => none
  | n + 1 => M_judge_40s   (M_judge_40   n)
def M_judge_22 (m : MS) (y1 : Int32) (y2 : Int32) (z0 : Int32) : Option (Int32 × MS) :=
  if 0 ≤ z0 then (
    (M_open m).bind fun m13 =>
    M_judge_40 200 m13 y1 y2 (-4 : Int32) (0 : Int32)
  ) else (
    some (z0, m)
  )
def M_judge (m : MS) (a0 : Int32) (a1 : Int32) : Option (Int32 × MS) :=
  (mSI m 23 (0 : Int32)).bind fun m14 =>
  (M_isGlass m14 a0).bind fun x15 =>
  if x15 = 0 then (
    M_judge_22 m14 a0 a1 (-1 : Int32)
  ) else (
    (M_wrongRow m14 a1).bind fun x17 =>
    M_judge_22 m14 a0 a1 x17
  )
set_option maxHeartbeats 4000000 in
set_option maxRecDepth 100000 in
theorem metM_judge (l : Launch) {D : va_G} {dA : Nat → ClassId} {b : Nat} {ad : Nat → Nat} {P : Nat → Prop} {F : Nat → va_E} {m : MS} {m' : MS} {a0 : Int32} {a1 : Int32} {r : Int32} (hf : M_judge m a0 a1 = some (r, m')) : Met l yX4_judge (ws_ yX4_judge cX4_judge 8 (some .int)) (rm0_ 7 159) (mP D dA b ad P F [.ref (ad 46), .int a0, .int a1] m) (mQ D dA b ad P F (some (.int r)) m') 0 0 (fun q => b ≤ q) := by
  refine qg_met (by decide) RX4 rfl (Nat.le_of_ble_eq_true rfl) (fun Γ hΓ hK => ?_)
  refine g_sub [0, 1, 2] (lv' := [(0, .ref (ad 46)), (1, .int a0), (2, .int a1)]) rfl ?_
  have J113 : ∀ (m : MS) (y4 : Int32) (hf : M_judge_113   m y4 = some (r, m')), WG Γ (MW D dA b ad P F m) 0 0 113 [(0, .ref (ad 46)), (4, .int y4)] [] := by
    intro  m y4 hf
    refine g_aload_n hΓ (pc := 113) 0 (i := 0) dX4_judge_113 rfl rfl ?_
    obtain ⟨m1, hm1, hf⟩ := bindE hf
    refine qg_callV hΓ (pc := 114) hK 0 (As := []) (metM_again _ hm1) (lw_V q1354 q1356 qs44 q57 q1357) (by decide +kernel) (by decide) rfl rfl (Nat.le_of_ble_eq_true rfl) dX4_judge_114 ?_
    refine g_iload hΓ (pc := 117) 1 (i := 4) dX4_judge_117 rfl ?_
    exact qg_iret hΓ hK hf dX4_judge_119
  have J101 : ∀ (k40 : MS → Int32 → Int32 → Int32 → Int32 → Option (Int32 × MS)) (hk40 : ∀ (m : MS) (y1 : Int32) (y2 : Int32) (y4 : Int32) (y5 : Int32), k40 m y1 y2 y4 y5 = some (r, m') → WG Γ (MW D dA b ad P F m) 0 0 40 [(0, .ref (ad 46)), (1, .int y1), (2, .int y2), (4, .int y4), (5, .int y5)] []) (m : MS) (y1 : Int32) (y2 : Int32) (y5 : Int32) (z0 : Int32) (hf : M_judge_101  k40 m y1 y2 y5 z0 = some (r, m')), WG Γ (MW D dA b ad P F m) 0 0 101 [(0, .ref (ad 46)), (1, .int y1), (2, .int y2), (5, .int y5)] [.int z0] := by
    intro k40 hk40 m y1 y2 y5 z0 hf
    refine g_istore hΓ (pc := 101) (i := 4) (lv' := [(4, .int z0), (0, .ref (ad 46)), (1, .int y1), (2, .int y2), (5, .int y5)]) dX4_judge_101 (by decide) rfl ?_
    refine g_aload_n hΓ (pc := 103) 1 (i := 0) dX4_judge_103 rfl rfl ?_
    obtain ⟨m2, hm2, hf⟩ := bindE hf
    refine qg_callV hΓ (pc := 104) hK 0 (As := []) (metM_minuteOn _ hm2) (lw_V q1302 q1304 qs31 q57 q1305) (by decide +kernel) (by decide) rfl rfl (Nat.le_of_ble_eq_true rfl) dX4_judge_104 ?_
    obtain ⟨x3, hx3, hf⟩ := bindE hf
    refine g_iinc hΓ (pc := 107) 4 (i := 5) (v := x3) (lv' := [(5, .int x3), (4, .int z0), (0, .ref (ad 46)), (1, .int y1), (2, .int y2)]) dX4_judge_107 rfl (Option.some.inj hx3) (by decide) rfl ?_
    refine g_goto hΓ (pc := 110) (tgt := 40) dX4_judge_110 (by decide) ?_
    exact g_sub [2, 3, 4, 1, 0] rfl (hk40 _ _ _ _ _ hf)
  have S40 : ∀ (k40 : MS → Int32 → Int32 → Int32 → Int32 → Option (Int32 × MS)) (hk40 : ∀ (m : MS) (y1 : Int32) (y2 : Int32) (y4 : Int32) (y5 : Int32), k40 m y1 y2 y4 y5 = some (r, m') → WG Γ (MW D dA b ad P F m) 0 0 40 [(0, .ref (ad 46)), (1, .int y1), (2, .int y2), (4, .int y4), (5, .int y5)] []) (m : MS) (y1 : Int32) (y2 : Int32) (y4 : Int32) (y5 : Int32) (hf : M_judge_40s  k40 m y1 y2 y4 y5 = some (r, m')), WG Γ (MW D dA b ad P F m) 0 0 40 [(0, .ref (ad 46)), (1, .int y1), (2, .int y2), (4, .int y4), (5, .int y5)] [] := by
    intro k40 hk40 m y1 y2 y4 y5 hf
    refine g_iload hΓ (pc := 40) 4 (i := 5) dX4_judge_40 rfl ?_
    refine g_aload_n hΓ (pc := 42) 0 (i := 0) dX4_judge_42 rfl rfl ?_
    refine qg_geta hΓ (pc := 43) hK (k := 43) rfl q1115 dX4_judge_43 ?_
    refine g_iload_n hΓ (pc := 46) 2 (i := 2) dX4_judge_46 rfl rfl ?_
    obtain ⟨x4, hx4, hf⟩ := bindE hf
    refine qg_iald hΓ (pc := 47) hK rfl hx4 dX4_judge_47 rfl ?_
    refine g_icmp_ge hΓ (pc := 48) (tgt := 113) dX4_judge_48 (by decide) (fun c5 => ?_) (fun c5 => ?_)
    · have hf := ifP hf c5
      exact g_sub [0, 3] rfl (J113  _ _ hf)
    · have hf := ifN hf c5
      refine g_iload hΓ (pc := 51) 3 (i := 4) dX4_judge_51 rfl ?_
      refine g_if_ge hΓ (pc := 53) (tgt := 113) dX4_judge_53 (by decide) (fun c6 => ?_) (fun c6 => ?_)
      · have hf := ifP hf c6
        exact g_sub [0, 3] rfl (J113  _ _ hf)
      · have hf := ifN hf c6
        refine g_aload_n hΓ (pc := 56) 0 (i := 0) dX4_judge_56 rfl rfl ?_
        refine qg_geta hΓ (pc := 57) hK (k := 44) rfl q1116 dX4_judge_57 ?_
        refine g_bipush hΓ (pc := 60) (v := 100) dX4_judge_60 (by decide) ?_
        refine g_iload_n hΓ (pc := 62) 2 (i := 2) dX4_judge_62 rfl rfl ?_
        refine g_imul hΓ (pc := 63) dX4_judge_63 ?_
        refine g_iload hΓ (pc := 64) 4 (i := 5) dX4_judge_64 rfl ?_
        refine g_iadd hΓ (pc := 66) dX4_judge_66 ?_
        obtain ⟨x7, hx7, hf⟩ := bindE hf
        refine qg_lald hΓ (pc := 67) hK rfl hx7 dX4_judge_67 rfl ?_
        refine g_lstore hΓ (pc := 68) (i := 6) (lv' := [(6, .long x7), (0, .ref (ad 46)), (1, .int y1), (2, .int y2), (4, .int y4), (5, .int y5)]) dX4_judge_68 (by decide) rfl ?_
        refine g_lload hΓ (pc := 70) 0 (i := 6) dX4_judge_70 rfl ?_
        refine g_aload_n hΓ (pc := 72) 1 (i := 0) dX4_judge_72 rfl rfl ?_
        refine g_iload_n hΓ (pc := 73) 3 (i := 2) dX4_judge_73 rfl rfl ?_
        obtain ⟨x8, hx8, hf⟩ := bindE hf
        refine qg_callV hΓ (pc := 74) hK 1 (As := [.int y2]) (metM_skippedIn _ hx8) (lw_V q1516 q1518 qs52 q57 q1519) (by decide +kernel) (by decide) rfl rfl (Nat.le_of_ble_eq_true rfl) dX4_judge_74 ?_
        refine g_lcmp hΓ (pc := 77) dX4_judge_77 ?_
        refine g_if_eq hΓ (pc := 78) (tgt := 99) dX4_judge_78 (by decide) (fun c9 => ?_) (fun c9 => ?_)
        · have hf := ifP hf c9
          refine g_bipush hΓ (pc := 99) (v := -4) dX4_judge_99 (by decide) ?_
          exact g_sub [1, 2, 3, 5] rfl (J101 k40 hk40 _ _ _ _ _ hf)
        · have hf := ifN hf c9
          refine g_lload hΓ (pc := 81) 0 (i := 6) dX4_judge_81 rfl ?_
          refine g_aload_n hΓ (pc := 83) 1 (i := 0) dX4_judge_83 rfl rfl ?_
          refine qg_geta hΓ (pc := 84) hK (k := 7) rfl q1079 dX4_judge_84 ?_
          refine g_iload_n hΓ (pc := 87) 2 (i := 1) dX4_judge_87 rfl rfl ?_
          obtain ⟨x10, hx10, hf⟩ := bindE hf
          refine qg_iald hΓ (pc := 88) hK rfl hx10 dX4_judge_88 rfl ?_
          refine g_i2l hΓ (pc := 89) dX4_judge_89 ?_
          refine g_lcmp hΓ (pc := 90) dX4_judge_90 ?_
          refine g_if_eq hΓ (pc := 91) (tgt := 99) dX4_judge_91 (by decide) (fun c11 => ?_) (fun c11 => ?_)
          · have hf := ifP hf c11
            refine g_bipush hΓ (pc := 99) (v := -4) dX4_judge_99 (by decide) ?_
            exact g_sub [1, 2, 3, 5] rfl (J101 k40 hk40 _ _ _ _ _ hf)
          · have hf := ifN hf c11
            refine g_iload hΓ (pc := 94) 5 (i := 5) dX4_judge_94 rfl ?_
            refine g_goto hΓ (pc := 96) (tgt := 101) dX4_judge_96 (by decide) ?_
            exact g_sub [1, 2, 3, 5] rfl (J101 k40 hk40 _ _ _ _ _ hf)
  have L40 : ∀ (n : Nat) (m : MS) (y1 : Int32) (y2 : Int32) (y4 : Int32) (y5 : Int32) (hf : M_judge_40   n m y1 y2 y4 y5 = some (r, m')), WG Γ (MW D dA b ad P F m) 0 0 40 [(0, .ref (ad 46)), (1, .int y1), (2, .int y2), (4, .int y4), (5, .int y5)] [] := by
    intro  n
    induction n with
    | zero => intro m y1 y2 y4 y5 hf; exact nomatch (show (none : Option (Int32 × MS)) = some _ from hf)
    | succ n ih => exact S40  _ ih
  have J22 : ∀ (m : MS) (y1 : Int32) (y2 : Int32) (z0 : Int32) (hf : M_judge_22   m y1 y2 z0 = some (r, m')), WG Γ (MW D dA b ad P F m) 0 0 22 [(0, .ref (ad 46)), (1, .int y1), (2, .int y2)] [.int z0] := by
    intro  m y1 y2 z0 hf
    refine g_istore_n hΓ (pc := 22) (i := 3) (lv' := [(3, .int z0), (0, .ref (ad 46)), (1, .int y1), (2, .int y2)]) dX4_judge_22 rfl (by decide) rfl ?_
    refine g_iload_n hΓ (pc := 23) 0 (i := 3) dX4_judge_23 rfl rfl ?_
    refine g_if_ge hΓ (pc := 24) (tgt := 29) dX4_judge_24 (by decide) (fun c12 => ?_) (fun c12 => ?_)
    · have hf := ifP hf c12
      refine g_aload_n hΓ (pc := 29) 1 (i := 0) dX4_judge_29 rfl rfl ?_
      obtain ⟨m13, hm13, hf⟩ := bindE hf
      refine qg_callV hΓ (pc := 30) hK 0 (As := []) (metM_open _ hm13) (lw_V q1266 q1268 qs22 q57 q1269) (by decide +kernel) (by decide) rfl rfl (Nat.le_of_ble_eq_true rfl) dX4_judge_30 ?_
      refine g_bipush hΓ (pc := 33) (v := -4) dX4_judge_33 (by decide) ?_
      refine g_istore hΓ (pc := 35) (i := 4) (lv' := [(4, .int (-4 : Int32)), (3, .int z0), (0, .ref (ad 46)), (1, .int y1), (2, .int y2)]) dX4_judge_35 (by decide) rfl ?_
      refine g_iconst hΓ (pc := 37) (v := 0) dX4_judge_37 (by decide) ?_
      refine g_istore hΓ (pc := 38) (i := 5) (lv' := [(5, .int (0 : Int32)), (4, .int (-4 : Int32)), (3, .int z0), (0, .ref (ad 46)), (1, .int y1), (2, .int y2)]) dX4_judge_38 (by decide) rfl ?_
      exact g_sub [3, 4, 5, 1, 0] rfl (L40  200 _ _ _ _ _ hf)
    · have hf := ifN hf c12
      refine g_iload_n hΓ (pc := 27) 0 (i := 3) dX4_judge_27 rfl rfl ?_
      exact qg_iret hΓ hK hf dX4_judge_28
  refine g_aload_n hΓ (pc := 0) 0 (i := 0) dX4_judge_0 rfl rfl ?_
  refine g_iconst hΓ (pc := 1) (v := 0) dX4_judge_1 (by decide) ?_
  obtain ⟨m14, hm14, hf⟩ := bindE hf
  refine qg_put hΓ (pc := 2) hK rfl hm14 q1095 dX4_judge_2 ?_
  refine g_aload_n hΓ (pc := 5) 0 (i := 0) dX4_judge_5 rfl rfl ?_
  refine g_iload_n hΓ (pc := 6) 1 (i := 1) dX4_judge_6 rfl rfl ?_
  obtain ⟨x15, hx15, hf⟩ := bindE hf
  refine qg_callV hΓ (pc := 7) hK 1 (As := [.int a0]) (metM_isGlass _ hx15) (lw_V q1294 q1296 qs29 q57 q1297) (by decide +kernel) (by decide) rfl rfl (Nat.le_of_ble_eq_true rfl) dX4_judge_7 ?_
  refine g_if_eq hΓ (pc := 10) (tgt := 21) dX4_judge_10 (by decide) (fun c16 => ?_) (fun c16 => ?_)
  · have hf := ifP hf c16
    refine g_iconst hΓ (pc := 21) (v := -1) dX4_judge_21 (by decide) ?_
    exact g_sub [0, 1, 2] rfl (J22  _ _ _ _ hf)
  · have hf := ifN hf c16
    refine g_aload_n hΓ (pc := 13) 0 (i := 0) dX4_judge_13 rfl rfl ?_
    refine g_iload_n hΓ (pc := 14) 2 (i := 2) dX4_judge_14 rfl rfl ?_
    obtain ⟨x17, hx17, hf⟩ := bindE hf
    refine qg_callV hΓ (pc := 15) hK 1 (As := [.int a1]) (metM_wrongRow _ hx17) (lw_V q1240 q1242 qs17 q57 q1243) (by decide +kernel) (by decide) rfl rfl (Nat.le_of_ble_eq_true rfl) dX4_judge_15 ?_
    refine g_goto hΓ (pc := 18) (tgt := 22) dX4_judge_18 (by decide) ?_
    exact g_sub [0, 1, 2] rfl (J22  _ _ _ _ hf)
def M_count_12s (k12 : MS → Int32 → Int32 → Int32 → Int32 → Option (Int32 × MS)) (m : MS) (y1 : Int32) (y2 : Int32) (y3 : Int32) (y4 : Int32) : Option (Int32 × MS) :=
  if (m.1 0) ≤ y4 then (
    if y1 = (0 : Int32) then (
      some (m.1 0, m)
    ) else (
    if y1 = (1 : Int32) then (
      some (m.1 1, m)
    ) else (
    if y1 = (2 : Int32) then (
      some (m.1 2, m)
    ) else (
    if y1 = (3 : Int32) then (
      some (m.1 3, m)
    ) else (
    if y1 = (4 : Int32) then (
      some (y2, m)
    ) else (
    if y1 = (5 : Int32) then (
      (M_coldBits m).bind fun x8 =>
      some (x8, m)
    ) else (
    if y1 = (6 : Int32) then (
      some (y3, m)
    ) else (
    some ((-1 : Int32), m)
    )
    )
    )
    )
    )
    )
    )
  ) else (
    (mR m 6 y4).bind fun x10 =>
    (some (y2 + x10)).bind fun x11 =>
    (mR m 7 y4).bind fun x12 =>
    if x12 = (20 : Int32) then (
      (some (y3 + (1 : Int32))).bind fun x16 =>
      (some (y4 + 1)).bind fun x17 =>
      k12 m y1 x11 x16 x17
    ) else (
      (some (y3 + (0 : Int32))).bind fun x14 =>
      (some (y4 + 1)).bind fun x15 =>
      k12 m y1 x11 x14 x15
    )
  )
def M_count_12 : Nat → MS → Int32 → Int32 → Int32 → Int32 → Option (Int32 × MS)
  | 0 => fun _ _ _ _ _ => none
  | n + 1 => M_count_12s   (M_count_12   n)
def M_count (m : MS) (a0 : Int32) : Option (Int32 × MS) :=
  (mSI m 23 (0 : Int32)).bind fun m18 =>
  M_count_12 200 m18 a0 (0 : Int32) (0 : Int32) (0 : Int32)
set_option maxHeartbeats 4000000 in
set_option maxRecDepth 100000 in
theorem metM_count (l : Launch) {D : va_G} {dA : Nat → ClassId} {b : Nat} {ad : Nat → Nat} {P : Nat → Prop} {F : Nat → va_E} {m : MS} {m' : MS} {a0 : Int32} {r : Int32} (hf : M_count m a0 = some (r, m')) : Met l yX4_count (ws_ yX4_count cX4_count 5 (some .int)) (rm0_ 1 22) (mP D dA b ad P F [.ref (ad 46), .int a0] m) (mQ D dA b ad P F (some (.int r)) m') 0 0 (fun q => b ≤ q) := by
  refine qg_met (by decide) RX4 rfl (Nat.le_of_ble_eq_true rfl) (fun Γ hΓ hK => ?_)
  refine g_sub [0, 1] (lv' := [(0, .ref (ad 46)), (1, .int a0)]) rfl ?_
  have S12 : ∀ (k12 : MS → Int32 → Int32 → Int32 → Int32 → Option (Int32 × MS)) (hk12 : ∀ (m : MS) (y1 : Int32) (y2 : Int32) (y3 : Int32) (y4 : Int32), k12 m y1 y2 y3 y4 = some (r, m') → WG Γ (MW D dA b ad P F m) 0 0 12 [(0, .ref (ad 46)), (1, .int y1), (2, .int y2), (3, .int y3), (4, .int y4)] []) (m : MS) (y1 : Int32) (y2 : Int32) (y3 : Int32) (y4 : Int32) (hf : M_count_12s  k12 m y1 y2 y3 y4 = some (r, m')), WG Γ (MW D dA b ad P F m) 0 0 12 [(0, .ref (ad 46)), (1, .int y1), (2, .int y2), (3, .int y3), (4, .int y4)] [] := by
    intro k12 hk12 m y1 y2 y3 y4 hf
    refine g_iload hΓ (pc := 12) 4 (i := 4) dX4_count_12 rfl ?_
    refine g_aload_n hΓ (pc := 14) 0 (i := 0) dX4_count_14 rfl rfl ?_
    refine qg_get hΓ (pc := 15) hK (k := 0) rfl q1072 dX4_count_15 ?_
    refine g_icmp_ge hΓ (pc := 18) (tgt := 57) dX4_count_18 (by decide) (fun c1 => ?_) (fun c1 => ?_)
    · have hf := ifP hf c1
      refine g_iload_n hΓ (pc := 57) 1 (i := 1) dX4_count_57 rfl rfl ?_
      by_cases c2 : y1 = (0 : Int32)
      · have hf := ifP hf c2
        refine g_tswC hΓ (pc := 58) (tgt := 100) (0) dX4_count_58 (by rw [c2]; decide) (by decide) (by decide) rfl (by decide) ?_
        refine g_aload_n hΓ (pc := 100) 0 (i := 0) dX4_count_100 rfl rfl ?_
        refine qg_get hΓ (pc := 101) hK (k := 0) rfl q1072 dX4_count_101 ?_
        exact qg_iret hΓ hK hf dX4_count_104
      · have hf := ifN hf c2
        by_cases c3 : y1 = (1 : Int32)
        · have hf := ifP hf c3
          refine g_tswC hΓ (pc := 58) (tgt := 105) (1) dX4_count_58 (by rw [c3]; decide) (by decide) (by decide) rfl (by decide) ?_
          refine g_aload_n hΓ (pc := 105) 0 (i := 0) dX4_count_105 rfl rfl ?_
          refine qg_get hΓ (pc := 106) hK (k := 1) rfl q1073 dX4_count_106 ?_
          exact qg_iret hΓ hK hf dX4_count_109
        · have hf := ifN hf c3
          by_cases c4 : y1 = (2 : Int32)
          · have hf := ifP hf c4
            refine g_tswC hΓ (pc := 58) (tgt := 110) (2) dX4_count_58 (by rw [c4]; decide) (by decide) (by decide) rfl (by decide) ?_
            refine g_aload_n hΓ (pc := 110) 0 (i := 0) dX4_count_110 rfl rfl ?_
            refine qg_get hΓ (pc := 111) hK (k := 2) rfl q1074 dX4_count_111 ?_
            exact qg_iret hΓ hK hf dX4_count_114
          · have hf := ifN hf c4
            by_cases c5 : y1 = (3 : Int32)
            · have hf := ifP hf c5
              refine g_tswC hΓ (pc := 58) (tgt := 115) (3) dX4_count_58 (by rw [c5]; decide) (by decide) (by decide) rfl (by decide) ?_
              refine g_aload_n hΓ (pc := 115) 0 (i := 0) dX4_count_115 rfl rfl ?_
              refine qg_get hΓ (pc := 116) hK (k := 3) rfl q1075 dX4_count_116 ?_
              exact qg_iret hΓ hK hf dX4_count_119
            · have hf := ifN hf c5
              by_cases c6 : y1 = (4 : Int32)
              · have hf := ifP hf c6
                refine g_tswC hΓ (pc := 58) (tgt := 120) (4) dX4_count_58 (by rw [c6]; decide) (by decide) (by decide) rfl (by decide) ?_
                refine g_iload_n hΓ (pc := 120) 2 (i := 2) dX4_count_120 rfl rfl ?_
                exact qg_iret hΓ hK hf dX4_count_121
              · have hf := ifN hf c6
                by_cases c7 : y1 = (5 : Int32)
                · have hf := ifP hf c7
                  refine g_tswC hΓ (pc := 58) (tgt := 122) (5) dX4_count_58 (by rw [c7]; decide) (by decide) (by decide) rfl (by decide) ?_
                  refine g_aload_n hΓ (pc := 122) 0 (i := 0) dX4_count_122 rfl rfl ?_
                  obtain ⟨x8, hx8, hf⟩ := bindE hf
                  refine qg_callV hΓ (pc := 123) hK 0 (As := []) (metM_coldBits _ hx8) (lw_V q1456 q1458 qs48 q57 q1459) (by decide +kernel) (by decide) rfl rfl (Nat.le_of_ble_eq_true rfl) dX4_count_123 ?_
                  exact qg_iret hΓ hK hf dX4_count_126
                · have hf := ifN hf c7
                  by_cases c9 : y1 = (6 : Int32)
                  · have hf := ifP hf c9
                    refine g_tswC hΓ (pc := 58) (tgt := 127) (6) dX4_count_58 (by rw [c9]; decide) (by decide) (by decide) rfl (by decide) ?_
                    refine g_iload_n hΓ (pc := 127) 3 (i := 3) dX4_count_127 rfl rfl ?_
                    exact qg_iret hΓ hK hf dX4_count_128
                  · have hf := ifN hf c9
                    refine g_tswD hΓ (pc := 58) (tgt := 129) dX4_count_58 (fun v h1 h2 h3 => ?_) (by decide) ?_
                    · rcases (by omega : v = 0 ∨ v = 1 ∨ v = 2 ∨ v = 3 ∨ v = 4 ∨ v = 5 ∨ v = 6) with rfl | rfl | rfl | rfl | rfl | rfl | rfl
                      · exact absurd h3 (lv_neT c2 (by decide))
                      · exact absurd h3 (lv_neT c3 (by decide))
                      · exact absurd h3 (lv_neT c4 (by decide))
                      · exact absurd h3 (lv_neT c5 (by decide))
                      · exact absurd h3 (lv_neT c6 (by decide))
                      · exact absurd h3 (lv_neT c7 (by decide))
                      · exact absurd h3 (lv_neT c9 (by decide))
                    · skip
                      refine g_iconst hΓ (pc := 129) (v := -1) dX4_count_129 (by decide) ?_
                      exact qg_iret hΓ hK hf dX4_count_130
    · have hf := ifN hf c1
      refine g_iload_n hΓ (pc := 21) 2 (i := 2) dX4_count_21 rfl rfl ?_
      refine g_aload_n hΓ (pc := 22) 0 (i := 0) dX4_count_22 rfl rfl ?_
      refine qg_geta hΓ (pc := 23) hK (k := 6) rfl q1078 dX4_count_23 ?_
      refine g_iload hΓ (pc := 26) 4 (i := 4) dX4_count_26 rfl ?_
      obtain ⟨x10, hx10, hf⟩ := bindE hf
      refine qg_iald hΓ (pc := 28) hK rfl hx10 dX4_count_28 rfl ?_
      refine g_iadd hΓ (pc := 29) dX4_count_29 ?_
      obtain ⟨x11, hx11, hf⟩ := bindE hf
      refine g_topi hx11 ?_
      refine g_istore_n hΓ (pc := 30) (i := 2) (lv' := [(2, .int x11), (0, .ref (ad 46)), (1, .int y1), (3, .int y3), (4, .int y4)]) dX4_count_30 rfl (by decide) rfl ?_
      refine g_iload_n hΓ (pc := 31) 3 (i := 3) dX4_count_31 rfl rfl ?_
      refine g_aload_n hΓ (pc := 32) 1 (i := 0) dX4_count_32 rfl rfl ?_
      refine qg_geta hΓ (pc := 33) hK (k := 7) rfl q1079 dX4_count_33 ?_
      refine g_iload hΓ (pc := 36) 4 (i := 4) dX4_count_36 rfl ?_
      obtain ⟨x12, hx12, hf⟩ := bindE hf
      refine qg_iald hΓ (pc := 38) hK rfl hx12 dX4_count_38 rfl ?_
      refine g_bipush hΓ (pc := 39) (v := 20) dX4_count_39 (by decide) ?_
      refine g_icmp_ne hΓ (pc := 41) (tgt := 48) dX4_count_41 (by decide) (fun c13 => ?_) (fun c13 => ?_)
      · have hf := ifN hf c13
        refine g_iconst hΓ (pc := 48) (v := 0) dX4_count_48 (by decide) ?_
        refine g_iadd hΓ (pc := 49) dX4_count_49 ?_
        obtain ⟨x14, hx14, hf⟩ := bindE hf
        refine g_topi hx14 ?_
        refine g_istore_n hΓ (pc := 50) (i := 3) (lv' := [(3, .int x14), (2, .int x11), (0, .ref (ad 46)), (1, .int y1), (4, .int y4)]) dX4_count_50 rfl (by decide) rfl ?_
        obtain ⟨x15, hx15, hf⟩ := bindE hf
        refine g_iinc hΓ (pc := 51) 4 (i := 4) (v := x15) (lv' := [(4, .int x15), (3, .int x14), (2, .int x11), (0, .ref (ad 46)), (1, .int y1)]) dX4_count_51 rfl (Option.some.inj hx15) (by decide) rfl ?_
        refine g_goto hΓ (pc := 54) (tgt := 12) dX4_count_54 (by decide) ?_
        exact g_sub [3, 4, 2, 1, 0] rfl (hk12 _ _ _ _ _ hf)
      · have hf := ifP hf c13
        refine g_iconst hΓ (pc := 44) (v := 1) dX4_count_44 (by decide) ?_
        refine g_goto hΓ (pc := 45) (tgt := 49) dX4_count_45 (by decide) ?_
        refine g_iadd hΓ (pc := 49) dX4_count_49 ?_
        obtain ⟨x16, hx16, hf⟩ := bindE hf
        refine g_topi hx16 ?_
        refine g_istore_n hΓ (pc := 50) (i := 3) (lv' := [(3, .int x16), (2, .int x11), (0, .ref (ad 46)), (1, .int y1), (4, .int y4)]) dX4_count_50 rfl (by decide) rfl ?_
        obtain ⟨x17, hx17, hf⟩ := bindE hf
        refine g_iinc hΓ (pc := 51) 4 (i := 4) (v := x17) (lv' := [(4, .int x17), (3, .int x16), (2, .int x11), (0, .ref (ad 46)), (1, .int y1)]) dX4_count_51 rfl (Option.some.inj hx17) (by decide) rfl ?_
        refine g_goto hΓ (pc := 54) (tgt := 12) dX4_count_54 (by decide) ?_
        exact g_sub [3, 4, 2, 1, 0] rfl (hk12 _ _ _ _ _ hf)
  have L12 : ∀ (n : Nat) (m : MS) (y1 : Int32) (y2 : Int32) (y3 : Int32) (y4 : Int32) (hf : M_count_12   n m y1 y2 y3 y4 = some (r, m')), WG Γ (MW D dA b ad P F m) 0 0 12 [(0, .ref (ad 46)), (1, .int y1), (2, .int y2), (3, .int y3), (4, .int y4)] [] := by
    intro  n
    induction n with
    | zero => intro m y1 y2 y3 y4 hf; exact nomatch (show (none : Option (Int32 × MS)) = some _ from hf)
    | succ n ih => exact S12  _ ih
  refine g_aload_n hΓ (pc := 0) 0 (i := 0) dX4_count_0 rfl rfl ?_
  refine g_iconst hΓ (pc := 1) (v := 0) dX4_count_1 (by decide) ?_
  obtain ⟨m18, hm18, hf⟩ := bindE hf
  refine qg_put hΓ (pc := 2) hK rfl hm18 q1095 dX4_count_2 ?_
  refine g_iconst hΓ (pc := 5) (v := 0) dX4_count_5 (by decide) ?_
  refine g_istore_n hΓ (pc := 6) (i := 2) (lv' := [(2, .int (0 : Int32)), (0, .ref (ad 46)), (1, .int a0)]) dX4_count_6 rfl (by decide) rfl ?_
  refine g_iconst hΓ (pc := 7) (v := 0) dX4_count_7 (by decide) ?_
  refine g_istore_n hΓ (pc := 8) (i := 3) (lv' := [(3, .int (0 : Int32)), (2, .int (0 : Int32)), (0, .ref (ad 46)), (1, .int a0)]) dX4_count_8 rfl (by decide) rfl ?_
  refine g_iconst hΓ (pc := 9) (v := 0) dX4_count_9 (by decide) ?_
  refine g_istore hΓ (pc := 10) (i := 4) (lv' := [(4, .int (0 : Int32)), (3, .int (0 : Int32)), (2, .int (0 : Int32)), (0, .ref (ad 46)), (1, .int a0)]) dX4_count_10 (by decide) rfl ?_
  exact g_sub [3, 4, 2, 1, 0] rfl (L12  200 _ _ _ _ _ hf)
def M_keep_81 (m : MS) (y1 : Int32) (y2 : Int32) (y4 : Int32) (z0 : Int32) (z1 : Int32) : Option (Int32 × MS) :=
  (mW m 40 z1 z0).bind fun m1 =>
  if y2 = (1 : Int32) then (
    (mW m1 41 y1 y4).bind fun m4 =>
    some ((0 : Int32), m4)
  ) else (
    (mW m1 41 y1 (0 : Int32)).bind fun m3 =>
    some ((0 : Int32), m3)
  )
def M_keep_59 (m : MS) (y1 : Int32) (y2 : Int32) (y3 : Int32) (y4 : Int32) : Option (Int32 × MS) :=
  (mW m 39 y1 y2).bind fun m5 =>
  if y2 = (1 : Int32) then (
    M_keep_81 m5 y1 y2 y4 y3 y1
  ) else (
    M_keep_81 m5 y1 y2 y4 (0 : Int32) y1
  )
def M_keep (m : MS) (a0 : Int32) (a1 : Int32) (a2 : Int32) (a3 : Int32) : Option (Int32 × MS) :=
  (mSI m 23 (0 : Int32)).bind fun m7 =>
  (M_in a0.toInt64 (0 : Int64) (7 : Int64)).bind fun x8 =>
  if x8 = 0 then (
    some ((-1 : Int32), m7)
  ) else (
    (M_in a1.toInt64 (0 : Int64) (1 : Int64)).bind fun x10 =>
    if x10 = 0 then (
      some ((-1 : Int32), m7)
    ) else (
      if a1 = (1 : Int32) then (
        (M_in a2.toInt64 (0 : Int64) (7 : Int64)).bind fun x13 =>
        if x13 = 0 then (
          some ((-1 : Int32), m7)
        ) else (
          (M_in a3.toInt64 (0 : Int64) (9 : Int64)).bind fun x15 =>
          if x15 = 0 then (
            some ((-1 : Int32), m7)
          ) else (
            M_keep_59 m7 a0 a1 a2 a3
          )
        )
      ) else (
        M_keep_59 m7 a0 a1 a2 a3
      )
    )
  )
set_option maxHeartbeats 4000000 in
set_option maxRecDepth 100000 in
theorem metM_keep (l : Launch) {D : va_G} {dA : Nat → ClassId} {b : Nat} {ad : Nat → Nat} {P : Nat → Prop} {F : Nat → va_E} {m : MS} {m' : MS} {a0 : Int32} {a1 : Int32} {a2 : Int32} {a3 : Int32} {r : Int32} (hf : M_keep m a0 a1 a2 a3 = some (r, m')) : Met l yX4_keep (ws_ yX4_keep cX4_keep 5 (some .int)) (rm0_ 1 25) (mP D dA b ad P F [.ref (ad 46), .int a0, .int a1, .int a2, .int a3] m) (mQ D dA b ad P F (some (.int r)) m') 0 0 (fun q => b ≤ q) := by
  refine qg_met (by decide) RX4 rfl (Nat.le_of_ble_eq_true rfl) (fun Γ hΓ hK => ?_)
  refine g_sub [0, 1, 2, 3, 4] (lv' := [(0, .ref (ad 46)), (1, .int a0), (2, .int a1), (3, .int a2), (4, .int a3)]) rfl ?_
  have J81 : ∀ (m : MS) (y1 : Int32) (y2 : Int32) (y4 : Int32) (z0 : Int32) (z1 : Int32) (hf : M_keep_81   m y1 y2 y4 z0 z1 = some (r, m')), WG Γ (MW D dA b ad P F m) 0 0 81 [(0, .ref (ad 46)), (1, .int y1), (2, .int y2), (4, .int y4)] [.int z0, .int z1, .ref (ad 40)] := by
    intro  m y1 y2 y4 z0 z1 hf
    obtain ⟨m1, hm1, hf⟩ := bindE hf
    refine qg_iast hΓ (pc := 81) hK rfl hm1 dX4_keep_81 rfl ?_
    refine g_aload_n hΓ (pc := 82) 0 (i := 0) dX4_keep_82 rfl rfl ?_
    refine qg_geta hΓ (pc := 83) hK (k := 41) rfl q1113 dX4_keep_83 ?_
    refine g_iload_n hΓ (pc := 86) 1 (i := 1) dX4_keep_86 rfl rfl ?_
    refine g_iload_n hΓ (pc := 87) 2 (i := 2) dX4_keep_87 rfl rfl ?_
    refine g_iconst hΓ (pc := 88) (v := 1) dX4_keep_88 (by decide) ?_
    refine g_icmp_ne hΓ (pc := 89) (tgt := 97) dX4_keep_89 (by decide) (fun c2 => ?_) (fun c2 => ?_)
    · have hf := ifN hf c2
      refine g_iconst hΓ (pc := 97) (v := 0) dX4_keep_97 (by decide) ?_
      obtain ⟨m3, hm3, hf⟩ := bindE hf
      refine qg_iast hΓ (pc := 98) hK rfl hm3 dX4_keep_98 rfl ?_
      refine g_iconst hΓ (pc := 99) (v := 0) dX4_keep_99 (by decide) ?_
      exact qg_iret hΓ hK hf dX4_keep_100
    · have hf := ifP hf c2
      refine g_iload hΓ (pc := 92) 3 (i := 4) dX4_keep_92 rfl ?_
      refine g_goto hΓ (pc := 94) (tgt := 98) dX4_keep_94 (by decide) ?_
      obtain ⟨m4, hm4, hf⟩ := bindE hf
      refine qg_iast hΓ (pc := 98) hK rfl hm4 dX4_keep_98 rfl ?_
      refine g_iconst hΓ (pc := 99) (v := 0) dX4_keep_99 (by decide) ?_
      exact qg_iret hΓ hK hf dX4_keep_100
  have J59 : ∀ (m : MS) (y1 : Int32) (y2 : Int32) (y3 : Int32) (y4 : Int32) (hf : M_keep_59   m y1 y2 y3 y4 = some (r, m')), WG Γ (MW D dA b ad P F m) 0 0 59 [(0, .ref (ad 46)), (1, .int y1), (2, .int y2), (3, .int y3), (4, .int y4)] [] := by
    intro  m y1 y2 y3 y4 hf
    refine g_aload_n hΓ (pc := 59) 0 (i := 0) dX4_keep_59 rfl rfl ?_
    refine qg_geta hΓ (pc := 60) hK (k := 39) rfl q1111 dX4_keep_60 ?_
    refine g_iload_n hΓ (pc := 63) 1 (i := 1) dX4_keep_63 rfl rfl ?_
    refine g_iload_n hΓ (pc := 64) 2 (i := 2) dX4_keep_64 rfl rfl ?_
    obtain ⟨m5, hm5, hf⟩ := bindE hf
    refine qg_iast hΓ (pc := 65) hK rfl hm5 dX4_keep_65 rfl ?_
    refine g_aload_n hΓ (pc := 66) 0 (i := 0) dX4_keep_66 rfl rfl ?_
    refine qg_geta hΓ (pc := 67) hK (k := 40) rfl q1112 dX4_keep_67 ?_
    refine g_iload_n hΓ (pc := 70) 1 (i := 1) dX4_keep_70 rfl rfl ?_
    refine g_iload_n hΓ (pc := 71) 2 (i := 2) dX4_keep_71 rfl rfl ?_
    refine g_iconst hΓ (pc := 72) (v := 1) dX4_keep_72 (by decide) ?_
    refine g_icmp_ne hΓ (pc := 73) (tgt := 80) dX4_keep_73 (by decide) (fun c6 => ?_) (fun c6 => ?_)
    · have hf := ifN hf c6
      refine g_iconst hΓ (pc := 80) (v := 0) dX4_keep_80 (by decide) ?_
      exact g_sub [0, 1, 2, 4] rfl (J81  _ _ _ _ _ _ hf)
    · have hf := ifP hf c6
      refine g_iload_n hΓ (pc := 76) 3 (i := 3) dX4_keep_76 rfl rfl ?_
      refine g_goto hΓ (pc := 77) (tgt := 81) dX4_keep_77 (by decide) ?_
      exact g_sub [0, 1, 2, 4] rfl (J81  _ _ _ _ _ _ hf)
  refine g_aload_n hΓ (pc := 0) 0 (i := 0) dX4_keep_0 rfl rfl ?_
  refine g_iconst hΓ (pc := 1) (v := 0) dX4_keep_1 (by decide) ?_
  obtain ⟨m7, hm7, hf⟩ := bindE hf
  refine qg_put hΓ (pc := 2) hK rfl hm7 q1095 dX4_keep_2 ?_
  refine g_iload_n hΓ (pc := 5) 1 (i := 1) dX4_keep_5 rfl rfl ?_
  refine g_i2l hΓ (pc := 6) dX4_keep_6 ?_
  refine g_lconst hΓ (pc := 7) (v := 0) dX4_keep_7 (by decide) ?_
  refine g_ldc2 hΓ (pc := 8) q1244 dX4_keep_8 ?_
  obtain ⟨x8, hx8, hf⟩ := bindE hf
  refine qg_callS hΓ (pc := 11) 3 (As := [.long a0.toInt64, .long (0 : Int64), .long (7 : Int64)]) (metM_in _ hx8) (lw_S q1245 q1246 q57 q1247) (by decide +kernel) (by decide) rfl rfl (Nat.le_of_ble_eq_true rfl) dX4_keep_11 ?_
  refine g_if_eq hΓ (pc := 14) (tgt := 57) dX4_keep_14 (by decide) (fun c9 => ?_) (fun c9 => ?_)
  · have hf := ifP hf c9
    refine g_iconst hΓ (pc := 57) (v := -1) dX4_keep_57 (by decide) ?_
    exact qg_iret hΓ hK hf dX4_keep_58
  · have hf := ifN hf c9
    refine g_iload_n hΓ (pc := 17) 2 (i := 2) dX4_keep_17 rfl rfl ?_
    refine g_i2l hΓ (pc := 18) dX4_keep_18 ?_
    refine g_lconst hΓ (pc := 19) (v := 0) dX4_keep_19 (by decide) ?_
    refine g_lconst hΓ (pc := 20) (v := 1) dX4_keep_20 (by decide) ?_
    obtain ⟨x10, hx10, hf⟩ := bindE hf
    refine qg_callS hΓ (pc := 21) 3 (As := [.long a1.toInt64, .long (0 : Int64), .long (1 : Int64)]) (metM_in _ hx10) (lw_S q1245 q1246 q57 q1247) (by decide +kernel) (by decide) rfl rfl (Nat.le_of_ble_eq_true rfl) dX4_keep_21 ?_
    refine g_if_eq hΓ (pc := 24) (tgt := 57) dX4_keep_24 (by decide) (fun c11 => ?_) (fun c11 => ?_)
    · have hf := ifP hf c11
      refine g_iconst hΓ (pc := 57) (v := -1) dX4_keep_57 (by decide) ?_
      exact qg_iret hΓ hK hf dX4_keep_58
    · have hf := ifN hf c11
      refine g_iload_n hΓ (pc := 27) 2 (i := 2) dX4_keep_27 rfl rfl ?_
      refine g_iconst hΓ (pc := 28) (v := 1) dX4_keep_28 (by decide) ?_
      refine g_icmp_ne hΓ (pc := 29) (tgt := 59) dX4_keep_29 (by decide) (fun c12 => ?_) (fun c12 => ?_)
      · have hf := ifN hf c12
        exact g_sub [0, 1, 2, 3, 4] rfl (J59  _ _ _ _ _ hf)
      · have hf := ifP hf c12
        refine g_iload_n hΓ (pc := 32) 3 (i := 3) dX4_keep_32 rfl rfl ?_
        refine g_i2l hΓ (pc := 33) dX4_keep_33 ?_
        refine g_lconst hΓ (pc := 34) (v := 0) dX4_keep_34 (by decide) ?_
        refine g_ldc2 hΓ (pc := 35) q1244 dX4_keep_35 ?_
        obtain ⟨x13, hx13, hf⟩ := bindE hf
        refine qg_callS hΓ (pc := 38) 3 (As := [.long a2.toInt64, .long (0 : Int64), .long (7 : Int64)]) (metM_in _ hx13) (lw_S q1245 q1246 q57 q1247) (by decide +kernel) (by decide) rfl rfl (Nat.le_of_ble_eq_true rfl) dX4_keep_38 ?_
        refine g_if_eq hΓ (pc := 41) (tgt := 57) dX4_keep_41 (by decide) (fun c14 => ?_) (fun c14 => ?_)
        · have hf := ifP hf c14
          refine g_iconst hΓ (pc := 57) (v := -1) dX4_keep_57 (by decide) ?_
          exact qg_iret hΓ hK hf dX4_keep_58
        · have hf := ifN hf c14
          refine g_iload hΓ (pc := 44) 4 (i := 4) dX4_keep_44 rfl ?_
          refine g_i2l hΓ (pc := 46) dX4_keep_46 ?_
          refine g_lconst hΓ (pc := 47) (v := 0) dX4_keep_47 (by decide) ?_
          refine g_ldc2 hΓ (pc := 48) q1531 dX4_keep_48 ?_
          obtain ⟨x15, hx15, hf⟩ := bindE hf
          refine qg_callS hΓ (pc := 51) 3 (As := [.long a3.toInt64, .long (0 : Int64), .long (9 : Int64)]) (metM_in _ hx15) (lw_S q1245 q1246 q57 q1247) (by decide +kernel) (by decide) rfl rfl (Nat.le_of_ble_eq_true rfl) dX4_keep_51 ?_
          refine g_if_ne hΓ (pc := 54) (tgt := 59) dX4_keep_54 (by decide) (fun c16 => ?_) (fun c16 => ?_)
          · have hf := ifN hf c16
            exact g_sub [0, 1, 2, 3, 4] rfl (J59  _ _ _ _ _ hf)
          · have hf := ifP hf c16
            refine g_iconst hΓ (pc := 57) (v := -1) dX4_keep_57 (by decide) ?_
            exact qg_iret hΓ hK hf dX4_keep_58
def M_row_68s (k68 : MS → Int32 → Int32 → Option (Int32 × MS)) (m : MS) (y1 : Int32) (y4 : Int32) : Option (Int32 × MS) :=
  if (100 : Int32) ≤ y4 then (
    some ((0 : Int32), m)
  ) else (
    (mLW m 44 (((100 : Int32) * y1) + y4) (0 : Int64)).bind fun m2 =>
    (some (y4 + 1)).bind fun x3 =>
    k68 m2 y1 x3
  )
def M_row_68 : Nat → MS → Int32 → Int32 → Option (Int32 × MS)
  | 0 => fun _ _ _ => none
  | n + 1 => M_row_68s   (M_row_68   n)
def M_row (m : MS) (a0 : Int32) (a1 : Int32) (a2 : Int32) : Option (Int32 × MS) :=
  (mSI m 23 (0 : Int32)).bind fun m4 =>
  (M_in a0.toInt64 (0 : Int64) (7 : Int64)).bind fun x5 =>
  if x5 = 0 then (
    some ((-1 : Int32), m4)
  ) else (
    (M_in a1.toInt64 (0 : Int64) (2 : Int64)).bind fun x7 =>
    if x7 = 0 then (
      some ((-1 : Int32), m4)
    ) else (
      if a2 ≤ (100 : Int32) then (
        if 0 ≤ a2 then (
          (mW m4 39 a0 (2 : Int32)).bind fun m11 =>
          (mW m11 42 a0 a1).bind fun m12 =>
          (mW m12 43 a0 a2).bind fun m13 =>
          M_row_68 200 m13 a0 (0 : Int32)
        ) else (
          some ((-14 : Int32), m4)
        )
      ) else (
        some ((-1 : Int32), m4)
      )
    )
  )
set_option maxHeartbeats 4000000 in
set_option maxRecDepth 100000 in
theorem metM_row (l : Launch) {D : va_G} {dA : Nat → ClassId} {b : Nat} {ad : Nat → Nat} {P : Nat → Prop} {F : Nat → va_E} {m : MS} {m' : MS} {a0 : Int32} {a1 : Int32} {a2 : Int32} {r : Int32} (hf : M_row m a0 a1 a2 = some (r, m')) : Met l yX4_row (ws_ yX4_row cX4_row 5 (some .int)) (rm0_ 1 25) (mP D dA b ad P F [.ref (ad 46), .int a0, .int a1, .int a2] m) (mQ D dA b ad P F (some (.int r)) m') 0 0 (fun q => b ≤ q) := by
  refine qg_met (by decide) RX4 rfl (Nat.le_of_ble_eq_true rfl) (fun Γ hΓ hK => ?_)
  refine g_sub [0, 1, 2, 3] (lv' := [(0, .ref (ad 46)), (1, .int a0), (2, .int a1), (3, .int a2)]) rfl ?_
  have S68 : ∀ (k68 : MS → Int32 → Int32 → Option (Int32 × MS)) (hk68 : ∀ (m : MS) (y1 : Int32) (y4 : Int32), k68 m y1 y4 = some (r, m') → WG Γ (MW D dA b ad P F m) 0 0 68 [(0, .ref (ad 46)), (1, .int y1), (4, .int y4)] []) (m : MS) (y1 : Int32) (y4 : Int32) (hf : M_row_68s  k68 m y1 y4 = some (r, m')), WG Γ (MW D dA b ad P F m) 0 0 68 [(0, .ref (ad 46)), (1, .int y1), (4, .int y4)] [] := by
    intro k68 hk68 m y1 y4 hf
    refine g_iload hΓ (pc := 68) 2 (i := 4) dX4_row_68 rfl ?_
    refine g_bipush hΓ (pc := 70) (v := 100) dX4_row_70 (by decide) ?_
    refine g_icmp_ge hΓ (pc := 72) (tgt := 94) dX4_row_72 (by decide) (fun c1 => ?_) (fun c1 => ?_)
    · have hf := ifP hf c1
      refine g_iconst hΓ (pc := 94) (v := 0) dX4_row_94 (by decide) ?_
      exact qg_iret hΓ hK hf dX4_row_95
    · have hf := ifN hf c1
      refine g_aload_n hΓ (pc := 75) 0 (i := 0) dX4_row_75 rfl rfl ?_
      refine qg_geta hΓ (pc := 76) hK (k := 44) rfl q1116 dX4_row_76 ?_
      refine g_bipush hΓ (pc := 79) (v := 100) dX4_row_79 (by decide) ?_
      refine g_iload_n hΓ (pc := 81) 1 (i := 1) dX4_row_81 rfl rfl ?_
      refine g_imul hΓ (pc := 82) dX4_row_82 ?_
      refine g_iload hΓ (pc := 83) 2 (i := 4) dX4_row_83 rfl ?_
      refine g_iadd hΓ (pc := 85) dX4_row_85 ?_
      refine g_lconst hΓ (pc := 86) (v := 0) dX4_row_86 (by decide) ?_
      obtain ⟨m2, hm2, hf⟩ := bindE hf
      refine qg_last hΓ (pc := 87) hK rfl hm2 dX4_row_87 rfl ?_
      obtain ⟨x3, hx3, hf⟩ := bindE hf
      refine g_iinc hΓ (pc := 88) 2 (i := 4) (v := x3) (lv' := [(4, .int x3), (0, .ref (ad 46)), (1, .int y1)]) dX4_row_88 rfl (Option.some.inj hx3) (by decide) rfl ?_
      refine g_goto hΓ (pc := 91) (tgt := 68) dX4_row_91 (by decide) ?_
      exact g_sub [1, 2, 0] rfl (hk68 _ _ _ hf)
  have L68 : ∀ (n : Nat) (m : MS) (y1 : Int32) (y4 : Int32) (hf : M_row_68   n m y1 y4 = some (r, m')), WG Γ (MW D dA b ad P F m) 0 0 68 [(0, .ref (ad 46)), (1, .int y1), (4, .int y4)] [] := by
    intro  n
    induction n with
    | zero => intro m y1 y4 hf; exact nomatch (show (none : Option (Int32 × MS)) = some _ from hf)
    | succ n ih => exact S68  _ ih
  refine g_aload_n hΓ (pc := 0) 0 (i := 0) dX4_row_0 rfl rfl ?_
  refine g_iconst hΓ (pc := 1) (v := 0) dX4_row_1 (by decide) ?_
  obtain ⟨m4, hm4, hf⟩ := bindE hf
  refine qg_put hΓ (pc := 2) hK rfl hm4 q1095 dX4_row_2 ?_
  refine g_iload_n hΓ (pc := 5) 1 (i := 1) dX4_row_5 rfl rfl ?_
  refine g_i2l hΓ (pc := 6) dX4_row_6 ?_
  refine g_lconst hΓ (pc := 7) (v := 0) dX4_row_7 (by decide) ?_
  refine g_ldc2 hΓ (pc := 8) q1244 dX4_row_8 ?_
  obtain ⟨x5, hx5, hf⟩ := bindE hf
  refine qg_callS hΓ (pc := 11) 3 (As := [.long a0.toInt64, .long (0 : Int64), .long (7 : Int64)]) (metM_in _ hx5) (lw_S q1245 q1246 q57 q1247) (by decide +kernel) (by decide) rfl rfl (Nat.le_of_ble_eq_true rfl) dX4_row_11 ?_
  refine g_if_eq hΓ (pc := 14) (tgt := 35) dX4_row_14 (by decide) (fun c6 => ?_) (fun c6 => ?_)
  · have hf := ifP hf c6
    refine g_iconst hΓ (pc := 35) (v := -1) dX4_row_35 (by decide) ?_
    exact qg_iret hΓ hK hf dX4_row_36
  · have hf := ifN hf c6
    refine g_iload_n hΓ (pc := 17) 2 (i := 2) dX4_row_17 rfl rfl ?_
    refine g_i2l hΓ (pc := 18) dX4_row_18 ?_
    refine g_lconst hΓ (pc := 19) (v := 0) dX4_row_19 (by decide) ?_
    refine g_ldc2 hΓ (pc := 20) q1536 dX4_row_20 ?_
    obtain ⟨x7, hx7, hf⟩ := bindE hf
    refine qg_callS hΓ (pc := 23) 3 (As := [.long a1.toInt64, .long (0 : Int64), .long (2 : Int64)]) (metM_in _ hx7) (lw_S q1245 q1246 q57 q1247) (by decide +kernel) (by decide) rfl rfl (Nat.le_of_ble_eq_true rfl) dX4_row_23 ?_
    refine g_if_eq hΓ (pc := 26) (tgt := 35) dX4_row_26 (by decide) (fun c8 => ?_) (fun c8 => ?_)
    · have hf := ifP hf c8
      refine g_iconst hΓ (pc := 35) (v := -1) dX4_row_35 (by decide) ?_
      exact qg_iret hΓ hK hf dX4_row_36
    · have hf := ifN hf c8
      refine g_iload_n hΓ (pc := 29) 3 (i := 3) dX4_row_29 rfl rfl ?_
      refine g_bipush hΓ (pc := 30) (v := 100) dX4_row_30 (by decide) ?_
      refine g_icmp_le hΓ (pc := 32) (tgt := 37) dX4_row_32 (by decide) (fun c9 => ?_) (fun c9 => ?_)
      · have hf := ifP hf c9
        refine g_iload_n hΓ (pc := 37) 3 (i := 3) dX4_row_37 rfl rfl ?_
        refine g_if_ge hΓ (pc := 38) (tgt := 44) dX4_row_38 (by decide) (fun c10 => ?_) (fun c10 => ?_)
        · have hf := ifP hf c10
          refine g_aload_n hΓ (pc := 44) 0 (i := 0) dX4_row_44 rfl rfl ?_
          refine qg_geta hΓ (pc := 45) hK (k := 39) rfl q1111 dX4_row_45 ?_
          refine g_iload_n hΓ (pc := 48) 1 (i := 1) dX4_row_48 rfl rfl ?_
          refine g_iconst hΓ (pc := 49) (v := 2) dX4_row_49 (by decide) ?_
          obtain ⟨m11, hm11, hf⟩ := bindE hf
          refine qg_iast hΓ (pc := 50) hK rfl hm11 dX4_row_50 rfl ?_
          refine g_aload_n hΓ (pc := 51) 0 (i := 0) dX4_row_51 rfl rfl ?_
          refine qg_geta hΓ (pc := 52) hK (k := 42) rfl q1114 dX4_row_52 ?_
          refine g_iload_n hΓ (pc := 55) 1 (i := 1) dX4_row_55 rfl rfl ?_
          refine g_iload_n hΓ (pc := 56) 2 (i := 2) dX4_row_56 rfl rfl ?_
          obtain ⟨m12, hm12, hf⟩ := bindE hf
          refine qg_iast hΓ (pc := 57) hK rfl hm12 dX4_row_57 rfl ?_
          refine g_aload_n hΓ (pc := 58) 0 (i := 0) dX4_row_58 rfl rfl ?_
          refine qg_geta hΓ (pc := 59) hK (k := 43) rfl q1115 dX4_row_59 ?_
          refine g_iload_n hΓ (pc := 62) 1 (i := 1) dX4_row_62 rfl rfl ?_
          refine g_iload_n hΓ (pc := 63) 3 (i := 3) dX4_row_63 rfl rfl ?_
          obtain ⟨m13, hm13, hf⟩ := bindE hf
          refine qg_iast hΓ (pc := 64) hK rfl hm13 dX4_row_64 rfl ?_
          refine g_iconst hΓ (pc := 65) (v := 0) dX4_row_65 (by decide) ?_
          refine g_istore hΓ (pc := 66) (i := 4) (lv' := [(4, .int (0 : Int32)), (0, .ref (ad 46)), (1, .int a0), (2, .int a1), (3, .int a2)]) dX4_row_66 (by decide) rfl ?_
          exact g_sub [1, 2, 0] rfl (L68  200 _ _ _ hf)
        · have hf := ifN hf c10
          refine g_bipush hΓ (pc := 41) (v := -14) dX4_row_41 (by decide) ?_
          exact qg_iret hΓ hK hf dX4_row_43
      · have hf := ifN hf c9
        refine g_iconst hΓ (pc := 35) (v := -1) dX4_row_35 (by decide) ?_
        exact qg_iret hΓ hK hf dX4_row_36
def M_narrowed (a0 : Int32) (a1 : Int32) : Option (Int64) :=
  if a1 = 0 then (
    some a0.toInt8.toInt32.toInt64
  ) else (
    if a1 = (1 : Int32) then (
      some a0.toInt16.toInt32.toInt64
    ) else (
      some a0.toInt64
    )
  )
set_option maxHeartbeats 4000000 in
set_option maxRecDepth 100000 in
theorem metM_narrowed (l : Launch) {a0 : Int32} {a1 : Int32} {r : Int64} (hf : M_narrowed a0 a1 = some r) : Met l yX4_narrowed (ws_ yX4_narrowed cX4_narrowed 2 (some .long)) (rm0_ 0 0) (sP [.int a0, .int a1]) (sQ (some (.long r))) 0 0 (fun _ => False) := by
  refine qs_met (by decide) RX4 rfl (Nat.le_of_ble_eq_true rfl) (fun Γ hΓ => ?_)
  refine g_sub [0, 1] (lv' := [(0, .int a0), (1, .int a1)]) rfl ?_
  refine g_iload_n hΓ (pc := 0) 1 (i := 1) dX4_narrowed_0 rfl rfl ?_
  refine g_if_ne hΓ (pc := 1) (tgt := 10) dX4_narrowed_1 (by decide) (fun c1 => ?_) (fun c1 => ?_)
  · have hf := ifN hf c1
    refine g_iload_n hΓ (pc := 10) 1 (i := 1) dX4_narrowed_10 rfl rfl ?_
    refine g_iconst hΓ (pc := 11) (v := 1) dX4_narrowed_11 (by decide) ?_
    refine g_icmp_ne hΓ (pc := 12) (tgt := 21) dX4_narrowed_12 (by decide) (fun c2 => ?_) (fun c2 => ?_)
    · have hf := ifN hf c2
      refine g_iload_n hΓ (pc := 21) 0 (i := 0) dX4_narrowed_21 rfl rfl ?_
      refine g_i2l hΓ (pc := 22) dX4_narrowed_22 ?_
      exact qs_lret hΓ hf dX4_narrowed_23
    · have hf := ifP hf c2
      refine g_iload_n hΓ (pc := 15) 0 (i := 0) dX4_narrowed_15 rfl rfl ?_
      refine g_i2s hΓ (pc := 16) dX4_narrowed_16 ?_
      refine g_i2l hΓ (pc := 17) dX4_narrowed_17 ?_
      refine g_goto hΓ (pc := 18) (tgt := 23) dX4_narrowed_18 (by decide) ?_
      exact qs_lret hΓ hf dX4_narrowed_23
  · have hf := ifP hf c1
    refine g_iload_n hΓ (pc := 4) 0 (i := 0) dX4_narrowed_4 rfl rfl ?_
    refine g_i2b hΓ (pc := 5) dX4_narrowed_5 ?_
    refine g_i2l hΓ (pc := 6) dX4_narrowed_6 ?_
    refine g_goto hΓ (pc := 7) (tgt := 23) dX4_narrowed_7 (by decide) ?_
    exact qs_lret hΓ hf dX4_narrowed_23
def M_put (m : MS) (a0 : Int32) (a1 : Int32) (a2 : Int32) : Option (Int32 × MS) :=
  (mSI m 23 (0 : Int32)).bind fun m1 =>
  (M_wrongRow m1 a0).bind fun x2 =>
  if 0 ≤ x2 then (
    (mR m1 43 a0).bind fun x4 =>
    (M_in a1.toInt64 (0 : Int64) ((x4 - (1 : Int32)).toInt64)).bind fun x5 =>
    if x5 = 0 then (
      some ((-13 : Int32), m1)
    ) else (
      (mR m1 42 a0).bind fun x7 =>
      (M_narrowed a2 x7).bind fun x8 =>
      (mLW m1 44 (((100 : Int32) * a0) + a1) x8).bind fun m9 =>
      some ((0 : Int32), m9)
    )
  ) else (
    some (x2, m1)
  )
set_option maxHeartbeats 4000000 in
set_option maxRecDepth 100000 in
theorem metM_put (l : Launch) {D : va_G} {dA : Nat → ClassId} {b : Nat} {ad : Nat → Nat} {P : Nat → Prop} {F : Nat → va_E} {m : MS} {m' : MS} {a0 : Int32} {a1 : Int32} {a2 : Int32} {r : Int32} (hf : M_put m a0 a1 a2 = some (r, m')) : Met l yX4_put (ws_ yX4_put cX4_put 5 (some .int)) (rm0_ 2 46) (mP D dA b ad P F [.ref (ad 46), .int a0, .int a1, .int a2] m) (mQ D dA b ad P F (some (.int r)) m') 0 0 (fun q => b ≤ q) := by
  refine qg_met (by decide) RX4 rfl (Nat.le_of_ble_eq_true rfl) (fun Γ hΓ hK => ?_)
  refine g_sub [0, 1, 2, 3] (lv' := [(0, .ref (ad 46)), (1, .int a0), (2, .int a1), (3, .int a2)]) rfl ?_
  refine g_aload_n hΓ (pc := 0) 0 (i := 0) dX4_put_0 rfl rfl ?_
  refine g_iconst hΓ (pc := 1) (v := 0) dX4_put_1 (by decide) ?_
  obtain ⟨m1, hm1, hf⟩ := bindE hf
  refine qg_put hΓ (pc := 2) hK rfl hm1 q1095 dX4_put_2 ?_
  refine g_aload_n hΓ (pc := 5) 0 (i := 0) dX4_put_5 rfl rfl ?_
  refine g_iload_n hΓ (pc := 6) 1 (i := 1) dX4_put_6 rfl rfl ?_
  obtain ⟨x2, hx2, hf⟩ := bindE hf
  refine qg_callV hΓ (pc := 7) hK 1 (As := [.int a0]) (metM_wrongRow _ hx2) (lw_V q1240 q1242 qs17 q57 q1243) (by decide +kernel) (by decide) rfl rfl (Nat.le_of_ble_eq_true rfl) dX4_put_7 ?_
  refine g_istore hΓ (pc := 10) (i := 4) (lv' := [(4, .int x2), (0, .ref (ad 46)), (1, .int a0), (2, .int a1), (3, .int a2)]) dX4_put_10 (by decide) rfl ?_
  refine g_iload hΓ (pc := 12) 0 (i := 4) dX4_put_12 rfl ?_
  refine g_if_ge hΓ (pc := 14) (tgt := 20) dX4_put_14 (by decide) (fun c3 => ?_) (fun c3 => ?_)
  · have hf := ifP hf c3
    refine g_iload_n hΓ (pc := 20) 3 (i := 2) dX4_put_20 rfl rfl ?_
    refine g_i2l hΓ (pc := 21) dX4_put_21 ?_
    refine g_lconst hΓ (pc := 22) (v := 0) dX4_put_22 (by decide) ?_
    refine g_aload_n hΓ (pc := 23) 1 (i := 0) dX4_put_23 rfl rfl ?_
    refine qg_geta hΓ (pc := 24) hK (k := 43) rfl q1115 dX4_put_24 ?_
    refine g_iload_n hΓ (pc := 27) 2 (i := 1) dX4_put_27 rfl rfl ?_
    obtain ⟨x4, hx4, hf⟩ := bindE hf
    refine qg_iald hΓ (pc := 28) hK rfl hx4 dX4_put_28 rfl ?_
    refine g_iconst hΓ (pc := 29) (v := 1) dX4_put_29 (by decide) ?_
    refine g_isub hΓ (pc := 30) dX4_put_30 ?_
    refine g_i2l hΓ (pc := 31) dX4_put_31 ?_
    obtain ⟨x5, hx5, hf⟩ := bindE hf
    refine qg_callS hΓ (pc := 32) 3 (As := [.long a1.toInt64, .long (0 : Int64), .long ((x4 - (1 : Int32)).toInt64)]) (metM_in _ hx5) (lw_S q1245 q1246 q57 q1247) (by decide +kernel) (by decide) rfl rfl (Nat.le_of_ble_eq_true rfl) dX4_put_32 ?_
    refine g_if_ne hΓ (pc := 35) (tgt := 41) dX4_put_35 (by decide) (fun c6 => ?_) (fun c6 => ?_)
    · have hf := ifN hf c6
      refine g_aload_n hΓ (pc := 41) 1 (i := 0) dX4_put_41 rfl rfl ?_
      refine qg_geta hΓ (pc := 42) hK (k := 44) rfl q1116 dX4_put_42 ?_
      refine g_bipush hΓ (pc := 45) (v := 100) dX4_put_45 (by decide) ?_
      refine g_iload_n hΓ (pc := 47) 2 (i := 1) dX4_put_47 rfl rfl ?_
      refine g_imul hΓ (pc := 48) dX4_put_48 ?_
      refine g_iload_n hΓ (pc := 49) 3 (i := 2) dX4_put_49 rfl rfl ?_
      refine g_iadd hΓ (pc := 50) dX4_put_50 ?_
      refine g_iload_n hΓ (pc := 51) 4 (i := 3) dX4_put_51 rfl rfl ?_
      refine g_aload_n hΓ (pc := 52) 1 (i := 0) dX4_put_52 rfl rfl ?_
      refine qg_geta hΓ (pc := 53) hK (k := 42) rfl q1114 dX4_put_53 ?_
      refine g_iload_n hΓ (pc := 56) 2 (i := 1) dX4_put_56 rfl rfl ?_
      obtain ⟨x7, hx7, hf⟩ := bindE hf
      refine qg_iald hΓ (pc := 57) hK rfl hx7 dX4_put_57 rfl ?_
      obtain ⟨x8, hx8, hf⟩ := bindE hf
      refine qg_callS hΓ (pc := 58) 2 (As := [.int a2, .int x7]) (metM_narrowed _ hx8) (lw_S q1541 q1542 q57 q1543) (by decide +kernel) (by decide) rfl rfl (Nat.le_of_ble_eq_true rfl) dX4_put_58 ?_
      obtain ⟨m9, hm9, hf⟩ := bindE hf
      refine qg_last hΓ (pc := 61) hK rfl hm9 dX4_put_61 rfl ?_
      refine g_iconst hΓ (pc := 62) (v := 0) dX4_put_62 (by decide) ?_
      exact qg_iret hΓ hK hf dX4_put_63
    · have hf := ifP hf c6
      refine g_bipush hΓ (pc := 38) (v := -13) dX4_put_38 (by decide) ?_
      exact qg_iret hΓ hK hf dX4_put_40
  · have hf := ifN hf c3
    refine g_iload hΓ (pc := 17) 0 (i := 4) dX4_put_17 rfl ?_
    exact qg_iret hΓ hK hf dX4_put_19
def M_element_43 (m : MS) (y1 : Int32) (y2 : Int32) (z0 : Int32) : Option (Int64 × MS) :=
  (mSI m 23 z0).bind fun m1 =>
  if (m1.1 23) ≤ 0 then (
    (mLR m1 44 (((100 : Int32) * y1) + y2)).bind fun x3 =>
    some (x3, m1)
  ) else (
    some ((0 : Int64), m1)
  )
def M_element (m : MS) (a0 : Int32) (a1 : Int32) : Option (Int64 × MS) :=
  (M_wrongRow m a0).bind fun x4 =>
  if x4 = (-1 : Int32) then (
    M_element_43 m a0 a1 (1 : Int32)
  ) else (
    if x4 < 0 then (
      M_element_43 m a0 a1 (2 : Int32)
    ) else (
      (mR m 43 a0).bind fun x7 =>
      (M_in a1.toInt64 (0 : Int64) ((x7 - (1 : Int32)).toInt64)).bind fun x8 =>
      if x8 = 0 then (
        M_element_43 m a0 a1 (2 : Int32)
      ) else (
        M_element_43 m a0 a1 (0 : Int32)
      )
    )
  )
set_option maxHeartbeats 4000000 in
set_option maxRecDepth 100000 in
theorem metM_element (l : Launch) {D : va_G} {dA : Nat → ClassId} {b : Nat} {ad : Nat → Nat} {P : Nat → Prop} {F : Nat → va_E} {m : MS} {m' : MS} {a0 : Int32} {a1 : Int32} {r : Int64} (hf : M_element m a0 a1 = some (r, m')) : Met l yX4_element (ws_ yX4_element cX4_element 4 (some .long)) (rm0_ 2 46) (mP D dA b ad P F [.ref (ad 46), .int a0, .int a1] m) (mQ D dA b ad P F (some (.long r)) m') 0 0 (fun q => b ≤ q) := by
  refine qg_met (by decide) RX4 rfl (Nat.le_of_ble_eq_true rfl) (fun Γ hΓ hK => ?_)
  refine g_sub [0, 1, 2] (lv' := [(0, .ref (ad 46)), (1, .int a0), (2, .int a1)]) rfl ?_
  have J43 : ∀ (m : MS) (y1 : Int32) (y2 : Int32) (z0 : Int32) (hf : M_element_43   m y1 y2 z0 = some (r, m')), WG Γ (MW D dA b ad P F m) 0 0 43 [(0, .ref (ad 46)), (1, .int y1), (2, .int y2)] [.int z0, .ref (ad 46)] := by
    intro  m y1 y2 z0 hf
    obtain ⟨m1, hm1, hf⟩ := bindE hf
    refine qg_put hΓ (pc := 43) hK rfl hm1 q1095 dX4_element_43 ?_
    refine g_aload_n hΓ (pc := 46) 0 (i := 0) dX4_element_46 rfl rfl ?_
    refine qg_get hΓ (pc := 47) hK (k := 23) rfl q1095 dX4_element_47 ?_
    refine g_if_le hΓ (pc := 50) (tgt := 57) dX4_element_50 (by decide) (fun c2 => ?_) (fun c2 => ?_)
    · have hf := ifP hf c2
      refine g_aload_n hΓ (pc := 57) 0 (i := 0) dX4_element_57 rfl rfl ?_
      refine qg_geta hΓ (pc := 58) hK (k := 44) rfl q1116 dX4_element_58 ?_
      refine g_bipush hΓ (pc := 61) (v := 100) dX4_element_61 (by decide) ?_
      refine g_iload_n hΓ (pc := 63) 1 (i := 1) dX4_element_63 rfl rfl ?_
      refine g_imul hΓ (pc := 64) dX4_element_64 ?_
      refine g_iload_n hΓ (pc := 65) 2 (i := 2) dX4_element_65 rfl rfl ?_
      refine g_iadd hΓ (pc := 66) dX4_element_66 ?_
      obtain ⟨x3, hx3, hf⟩ := bindE hf
      refine qg_lald hΓ (pc := 67) hK rfl hx3 dX4_element_67 rfl ?_
      exact qg_lret hΓ hK hf dX4_element_68
    · have hf := ifN hf c2
      refine g_lconst hΓ (pc := 53) (v := 0) dX4_element_53 (by decide) ?_
      refine g_goto hΓ (pc := 54) (tgt := 68) dX4_element_54 (by decide) ?_
      exact qg_lret hΓ hK hf dX4_element_68
  refine g_aload_n hΓ (pc := 0) 0 (i := 0) dX4_element_0 rfl rfl ?_
  refine g_iload_n hΓ (pc := 1) 1 (i := 1) dX4_element_1 rfl rfl ?_
  obtain ⟨x4, hx4, hf⟩ := bindE hf
  refine qg_callV hΓ (pc := 2) hK 1 (As := [.int a0]) (metM_wrongRow _ hx4) (lw_V q1240 q1242 qs17 q57 q1243) (by decide +kernel) (by decide) rfl rfl (Nat.le_of_ble_eq_true rfl) dX4_element_2 ?_
  refine g_istore_n hΓ (pc := 5) (i := 3) (lv' := [(3, .int x4), (0, .ref (ad 46)), (1, .int a0), (2, .int a1)]) dX4_element_5 rfl (by decide) rfl ?_
  refine g_aload_n hΓ (pc := 6) 1 (i := 0) dX4_element_6 rfl rfl ?_
  refine g_iload_n hΓ (pc := 7) 0 (i := 3) dX4_element_7 rfl rfl ?_
  refine g_iconst hΓ (pc := 8) (v := -1) dX4_element_8 (by decide) ?_
  refine g_icmp_ne hΓ (pc := 9) (tgt := 16) dX4_element_9 (by decide) (fun c5 => ?_) (fun c5 => ?_)
  · have hf := ifN hf c5
    refine g_iload_n hΓ (pc := 16) 0 (i := 3) dX4_element_16 rfl rfl ?_
    refine g_if_lt hΓ (pc := 17) (tgt := 38) dX4_element_17 (by decide) (fun c6 => ?_) (fun c6 => ?_)
    · have hf := ifP hf c6
      refine g_iconst hΓ (pc := 38) (v := 2) dX4_element_38 (by decide) ?_
      refine g_goto hΓ (pc := 39) (tgt := 43) dX4_element_39 (by decide) ?_
      exact g_sub [1, 2, 3] rfl (J43  _ _ _ _ hf)
    · have hf := ifN hf c6
      refine g_iload_n hΓ (pc := 20) 3 (i := 2) dX4_element_20 rfl rfl ?_
      refine g_i2l hΓ (pc := 21) dX4_element_21 ?_
      refine g_lconst hΓ (pc := 22) (v := 0) dX4_element_22 (by decide) ?_
      refine g_aload_n hΓ (pc := 23) 1 (i := 0) dX4_element_23 rfl rfl ?_
      refine qg_geta hΓ (pc := 24) hK (k := 43) rfl q1115 dX4_element_24 ?_
      refine g_iload_n hΓ (pc := 27) 2 (i := 1) dX4_element_27 rfl rfl ?_
      obtain ⟨x7, hx7, hf⟩ := bindE hf
      refine qg_iald hΓ (pc := 28) hK rfl hx7 dX4_element_28 rfl ?_
      refine g_iconst hΓ (pc := 29) (v := 1) dX4_element_29 (by decide) ?_
      refine g_isub hΓ (pc := 30) dX4_element_30 ?_
      refine g_i2l hΓ (pc := 31) dX4_element_31 ?_
      obtain ⟨x8, hx8, hf⟩ := bindE hf
      refine qg_callS hΓ (pc := 32) 3 (As := [.long a1.toInt64, .long (0 : Int64), .long ((x7 - (1 : Int32)).toInt64)]) (metM_in _ hx8) (lw_S q1245 q1246 q57 q1247) (by decide +kernel) (by decide) rfl rfl (Nat.le_of_ble_eq_true rfl) dX4_element_32 ?_
      refine g_if_ne hΓ (pc := 35) (tgt := 42) dX4_element_35 (by decide) (fun c9 => ?_) (fun c9 => ?_)
      · have hf := ifN hf c9
        refine g_iconst hΓ (pc := 42) (v := 0) dX4_element_42 (by decide) ?_
        exact g_sub [1, 2, 3] rfl (J43  _ _ _ _ hf)
      · have hf := ifP hf c9
        refine g_iconst hΓ (pc := 38) (v := 2) dX4_element_38 (by decide) ?_
        refine g_goto hΓ (pc := 39) (tgt := 43) dX4_element_39 (by decide) ?_
        exact g_sub [1, 2, 3] rfl (J43  _ _ _ _ hf)
  · have hf := ifP hf c5
    refine g_iconst hΓ (pc := 12) (v := 1) dX4_element_12 (by decide) ?_
    refine g_goto hΓ (pc := 13) (tgt := 43) dX4_element_13 (by decide) ?_
    exact g_sub [1, 2, 3] rfl (J43  _ _ _ _ hf)
def M_copy_174s (k174 : MS → Int32 → Int32 → Int32 → Int32 → Option (Int32 × MS)) (m : MS) (y3 : Int32) (y4 : Int32) (y5 : Int32) (y6 : Int32) : Option (Int32 × MS) :=
  if y5 ≤ y6 then (
    some (y5, m)
  ) else (
    (mLR m 45 y6).bind fun x2 =>
    (mLW m 44 ((((100 : Int32) * y3) + y4) + y6) x2).bind fun m3 =>
    (some (y6 + 1)).bind fun x4 =>
    k174 m3 y3 y4 y5 x4
  )
def M_copy_174 : Nat → MS → Int32 → Int32 → Int32 → Int32 → Option (Int32 × MS)
  | 0 => fun _ _ _ _ _ => none
  | n + 1 => M_copy_174s   (M_copy_174   n)
def M_copy_137s (k137 : MS → Int32 → Int32 → Int32 → Int32 → Int32 → Int32 → Option (Int32 × MS)) (m : MS) (y1 : Int32) (y2 : Int32) (y3 : Int32) (y4 : Int32) (y5 : Int32) (y6 : Int32) : Option (Int32 × MS) :=
  if y5 ≤ y6 then (
    M_copy_174 200 m y3 y4 y5 (0 : Int32)
  ) else (
    (mLR m 44 ((((100 : Int32) * y1) + y2) + y6)).bind fun x6 =>
    (mLW m 45 y6 x6).bind fun m7 =>
    (some (y6 + 1)).bind fun x8 =>
    k137 m7 y1 y2 y3 y4 y5 x8
  )
def M_copy_137 : Nat → MS → Int32 → Int32 → Int32 → Int32 → Int32 → Int32 → Option (Int32 × MS)
  | 0 => fun _ _ _ _ _ _ _ => none
  | n + 1 => M_copy_137s   (M_copy_137   n)
def M_copy (m : MS) (a0 : Int32) (a1 : Int32) (a2 : Int32) (a3 : Int32) (a4 : Int32) : Option (Int32 × MS) :=
  (mSI m 23 (0 : Int32)).bind fun m9 =>
  (M_in a0.toInt64 (0 : Int64) (7 : Int64)).bind fun x10 =>
  if x10 = 0 then (
    some ((-1 : Int32), m9)
  ) else (
    (M_in a2.toInt64 (0 : Int64) (7 : Int64)).bind fun x12 =>
    if x12 = 0 then (
      some ((-1 : Int32), m9)
    ) else (
      (mR m9 39 a0).bind fun x14 =>
      if x14 = 0 then (
        some ((-11 : Int32), m9)
      ) else (
        (mR m9 39 a2).bind fun x16 =>
        if x16 = 0 then (
          some ((-11 : Int32), m9)
        ) else (
          (mR m9 39 a0).bind fun x18 =>
          if x18 = (2 : Int32) then (
            (mR m9 39 a2).bind fun x20 =>
            if x20 = (2 : Int32) then (
              (mR m9 42 a0).bind fun x22 =>
              (mR m9 42 a2).bind fun x23 =>
              if x22 = x23 then (
                if a4 < 0 then (
                  some ((-13 : Int32), m9)
                ) else (
                  if a1 < 0 then (
                    some ((-13 : Int32), m9)
                  ) else (
                    if a3 < 0 then (
                      some ((-13 : Int32), m9)
                    ) else (
                      (mR m9 43 a0).bind fun x28 =>
                      if (x28 - a4) < a1 then (
                        some ((-13 : Int32), m9)
                      ) else (
                        (mR m9 43 a2).bind fun x30 =>
                        if a3 ≤ (x30 - a4) then (
                          M_copy_137 200 m9 a0 a1 a2 a3 a4 (0 : Int32)
                        ) else (
                          some ((-13 : Int32), m9)
                        )
                      )
                    )
                  )
                )
              ) else (
                some ((-12 : Int32), m9)
              )
            ) else (
              some ((-12 : Int32), m9)
            )
          ) else (
            some ((-12 : Int32), m9)
          )
        )
      )
    )
  )
set_option maxHeartbeats 4000000 in
set_option maxRecDepth 100000 in
theorem metM_copy (l : Launch) {D : va_G} {dA : Nat → ClassId} {b : Nat} {ad : Nat → Nat} {P : Nat → Prop} {F : Nat → va_E} {m : MS} {m' : MS} {a0 : Int32} {a1 : Int32} {a2 : Int32} {a3 : Int32} {a4 : Int32} {r : Int32} (hf : M_copy m a0 a1 a2 a3 a4 = some (r, m')) : Met l yX4_copy (ws_ yX4_copy cX4_copy 7 (some .int)) (rm0_ 1 25) (mP D dA b ad P F [.ref (ad 46), .int a0, .int a1, .int a2, .int a3, .int a4] m) (mQ D dA b ad P F (some (.int r)) m') 0 0 (fun q => b ≤ q) := by
  refine qg_met (by decide) RX4 rfl (Nat.le_of_ble_eq_true rfl) (fun Γ hΓ hK => ?_)
  refine g_sub [0, 1, 2, 3, 4, 5] (lv' := [(0, .ref (ad 46)), (1, .int a0), (2, .int a1), (3, .int a2), (4, .int a3), (5, .int a4)]) rfl ?_
  have S174 : ∀ (k174 : MS → Int32 → Int32 → Int32 → Int32 → Option (Int32 × MS)) (hk174 : ∀ (m : MS) (y3 : Int32) (y4 : Int32) (y5 : Int32) (y6 : Int32), k174 m y3 y4 y5 y6 = some (r, m') → WG Γ (MW D dA b ad P F m) 0 0 174 [(0, .ref (ad 46)), (3, .int y3), (4, .int y4), (5, .int y5), (6, .int y6)] []) (m : MS) (y3 : Int32) (y4 : Int32) (y5 : Int32) (y6 : Int32) (hf : M_copy_174s  k174 m y3 y4 y5 y6 = some (r, m')), WG Γ (MW D dA b ad P F m) 0 0 174 [(0, .ref (ad 46)), (3, .int y3), (4, .int y4), (5, .int y5), (6, .int y6)] [] := by
    intro k174 hk174 m y3 y4 y5 y6 hf
    refine g_iload hΓ (pc := 174) 4 (i := 6) dX4_copy_174 rfl ?_
    refine g_iload hΓ (pc := 176) 3 (i := 5) dX4_copy_176 rfl ?_
    refine g_icmp_ge hΓ (pc := 178) (tgt := 209) dX4_copy_178 (by decide) (fun c1 => ?_) (fun c1 => ?_)
    · have hf := ifP hf c1
      refine g_iload hΓ (pc := 209) 3 (i := 5) dX4_copy_209 rfl ?_
      exact qg_iret hΓ hK hf dX4_copy_211
    · have hf := ifN hf c1
      refine g_aload_n hΓ (pc := 181) 0 (i := 0) dX4_copy_181 rfl rfl ?_
      refine qg_geta hΓ (pc := 182) hK (k := 44) rfl q1116 dX4_copy_182 ?_
      refine g_bipush hΓ (pc := 185) (v := 100) dX4_copy_185 (by decide) ?_
      refine g_iload_n hΓ (pc := 187) 1 (i := 3) dX4_copy_187 rfl rfl ?_
      refine g_imul hΓ (pc := 188) dX4_copy_188 ?_
      refine g_iload hΓ (pc := 189) 2 (i := 4) dX4_copy_189 rfl ?_
      refine g_iadd hΓ (pc := 191) dX4_copy_191 ?_
      refine g_iload hΓ (pc := 192) 4 (i := 6) dX4_copy_192 rfl ?_
      refine g_iadd hΓ (pc := 194) dX4_copy_194 ?_
      refine g_aload_n hΓ (pc := 195) 0 (i := 0) dX4_copy_195 rfl rfl ?_
      refine qg_geta hΓ (pc := 196) hK (k := 45) rfl q1117 dX4_copy_196 ?_
      refine g_iload hΓ (pc := 199) 4 (i := 6) dX4_copy_199 rfl ?_
      obtain ⟨x2, hx2, hf⟩ := bindE hf
      refine qg_lald hΓ (pc := 201) hK rfl hx2 dX4_copy_201 rfl ?_
      obtain ⟨m3, hm3, hf⟩ := bindE hf
      refine qg_last hΓ (pc := 202) hK rfl hm3 dX4_copy_202 rfl ?_
      obtain ⟨x4, hx4, hf⟩ := bindE hf
      refine g_iinc hΓ (pc := 203) 4 (i := 6) (v := x4) (lv' := [(6, .int x4), (0, .ref (ad 46)), (3, .int y3), (4, .int y4), (5, .int y5)]) dX4_copy_203 rfl (Option.some.inj hx4) (by decide) rfl ?_
      refine g_goto hΓ (pc := 206) (tgt := 174) dX4_copy_206 (by decide) ?_
      exact g_sub [1, 2, 3, 4, 0] rfl (hk174 _ _ _ _ _ hf)
  have L174 : ∀ (n : Nat) (m : MS) (y3 : Int32) (y4 : Int32) (y5 : Int32) (y6 : Int32) (hf : M_copy_174   n m y3 y4 y5 y6 = some (r, m')), WG Γ (MW D dA b ad P F m) 0 0 174 [(0, .ref (ad 46)), (3, .int y3), (4, .int y4), (5, .int y5), (6, .int y6)] [] := by
    intro  n
    induction n with
    | zero => intro m y3 y4 y5 y6 hf; exact nomatch (show (none : Option (Int32 × MS)) = some _ from hf)
    | succ n ih => exact S174  _ ih
  have S137 : ∀ (k137 : MS → Int32 → Int32 → Int32 → Int32 → Int32 → Int32 → Option (Int32 × MS)) (hk137 : ∀ (m : MS) (y1 : Int32) (y2 : Int32) (y3 : Int32) (y4 : Int32) (y5 : Int32) (y6 : Int32), k137 m y1 y2 y3 y4 y5 y6 = some (r, m') → WG Γ (MW D dA b ad P F m) 0 0 137 [(0, .ref (ad 46)), (1, .int y1), (2, .int y2), (3, .int y3), (4, .int y4), (5, .int y5), (6, .int y6)] []) (m : MS) (y1 : Int32) (y2 : Int32) (y3 : Int32) (y4 : Int32) (y5 : Int32) (y6 : Int32) (hf : M_copy_137s  k137 m y1 y2 y3 y4 y5 y6 = some (r, m')), WG Γ (MW D dA b ad P F m) 0 0 137 [(0, .ref (ad 46)), (1, .int y1), (2, .int y2), (3, .int y3), (4, .int y4), (5, .int y5), (6, .int y6)] [] := by
    intro k137 hk137 m y1 y2 y3 y4 y5 y6 hf
    refine g_iload hΓ (pc := 137) 6 (i := 6) dX4_copy_137 rfl ?_
    refine g_iload hΓ (pc := 139) 5 (i := 5) dX4_copy_139 rfl ?_
    refine g_icmp_ge hΓ (pc := 141) (tgt := 171) dX4_copy_141 (by decide) (fun c5 => ?_) (fun c5 => ?_)
    · have hf := ifP hf c5
      refine g_iconst hΓ (pc := 171) (v := 0) dX4_copy_171 (by decide) ?_
      refine g_istore hΓ (pc := 172) (i := 6) (lv' := [(6, .int (0 : Int32)), (0, .ref (ad 46)), (1, .int y1), (2, .int y2), (3, .int y3), (4, .int y4), (5, .int y5)]) dX4_copy_172 (by decide) rfl ?_
      exact g_sub [1, 4, 5, 6, 0] rfl (L174  200 _ _ _ _ _ hf)
    · have hf := ifN hf c5
      refine g_aload_n hΓ (pc := 144) 0 (i := 0) dX4_copy_144 rfl rfl ?_
      refine qg_geta hΓ (pc := 145) hK (k := 45) rfl q1117 dX4_copy_145 ?_
      refine g_iload hΓ (pc := 148) 6 (i := 6) dX4_copy_148 rfl ?_
      refine g_aload_n hΓ (pc := 150) 0 (i := 0) dX4_copy_150 rfl rfl ?_
      refine qg_geta hΓ (pc := 151) hK (k := 44) rfl q1116 dX4_copy_151 ?_
      refine g_bipush hΓ (pc := 154) (v := 100) dX4_copy_154 (by decide) ?_
      refine g_iload_n hΓ (pc := 156) 1 (i := 1) dX4_copy_156 rfl rfl ?_
      refine g_imul hΓ (pc := 157) dX4_copy_157 ?_
      refine g_iload_n hΓ (pc := 158) 2 (i := 2) dX4_copy_158 rfl rfl ?_
      refine g_iadd hΓ (pc := 159) dX4_copy_159 ?_
      refine g_iload hΓ (pc := 160) 6 (i := 6) dX4_copy_160 rfl ?_
      refine g_iadd hΓ (pc := 162) dX4_copy_162 ?_
      obtain ⟨x6, hx6, hf⟩ := bindE hf
      refine qg_lald hΓ (pc := 163) hK rfl hx6 dX4_copy_163 rfl ?_
      obtain ⟨m7, hm7, hf⟩ := bindE hf
      refine qg_last hΓ (pc := 164) hK rfl hm7 dX4_copy_164 rfl ?_
      obtain ⟨x8, hx8, hf⟩ := bindE hf
      refine g_iinc hΓ (pc := 165) 6 (i := 6) (v := x8) (lv' := [(6, .int x8), (0, .ref (ad 46)), (1, .int y1), (2, .int y2), (3, .int y3), (4, .int y4), (5, .int y5)]) dX4_copy_165 rfl (Option.some.inj hx8) (by decide) rfl ?_
      refine g_goto hΓ (pc := 168) (tgt := 137) dX4_copy_168 (by decide) ?_
      exact g_sub [1, 2, 3, 4, 5, 6, 0] rfl (hk137 _ _ _ _ _ _ _ hf)
  have L137 : ∀ (n : Nat) (m : MS) (y1 : Int32) (y2 : Int32) (y3 : Int32) (y4 : Int32) (y5 : Int32) (y6 : Int32) (hf : M_copy_137   n m y1 y2 y3 y4 y5 y6 = some (r, m')), WG Γ (MW D dA b ad P F m) 0 0 137 [(0, .ref (ad 46)), (1, .int y1), (2, .int y2), (3, .int y3), (4, .int y4), (5, .int y5), (6, .int y6)] [] := by
    intro  n
    induction n with
    | zero => intro m y1 y2 y3 y4 y5 y6 hf; exact nomatch (show (none : Option (Int32 × MS)) = some _ from hf)
    | succ n ih => exact S137  _ ih
  refine g_aload_n hΓ (pc := 0) 0 (i := 0) dX4_copy_0 rfl rfl ?_
  refine g_iconst hΓ (pc := 1) (v := 0) dX4_copy_1 (by decide) ?_
  obtain ⟨m9, hm9, hf⟩ := bindE hf
  refine qg_put hΓ (pc := 2) hK rfl hm9 q1095 dX4_copy_2 ?_
  refine g_iload_n hΓ (pc := 5) 1 (i := 1) dX4_copy_5 rfl rfl ?_
  refine g_i2l hΓ (pc := 6) dX4_copy_6 ?_
  refine g_lconst hΓ (pc := 7) (v := 0) dX4_copy_7 (by decide) ?_
  refine g_ldc2 hΓ (pc := 8) q1244 dX4_copy_8 ?_
  obtain ⟨x10, hx10, hf⟩ := bindE hf
  refine qg_callS hΓ (pc := 11) 3 (As := [.long a0.toInt64, .long (0 : Int64), .long (7 : Int64)]) (metM_in _ hx10) (lw_S q1245 q1246 q57 q1247) (by decide +kernel) (by decide) rfl rfl (Nat.le_of_ble_eq_true rfl) dX4_copy_11 ?_
  refine g_if_eq hΓ (pc := 14) (tgt := 29) dX4_copy_14 (by decide) (fun c11 => ?_) (fun c11 => ?_)
  · have hf := ifP hf c11
    refine g_iconst hΓ (pc := 29) (v := -1) dX4_copy_29 (by decide) ?_
    exact qg_iret hΓ hK hf dX4_copy_30
  · have hf := ifN hf c11
    refine g_iload_n hΓ (pc := 17) 3 (i := 3) dX4_copy_17 rfl rfl ?_
    refine g_i2l hΓ (pc := 18) dX4_copy_18 ?_
    refine g_lconst hΓ (pc := 19) (v := 0) dX4_copy_19 (by decide) ?_
    refine g_ldc2 hΓ (pc := 20) q1244 dX4_copy_20 ?_
    obtain ⟨x12, hx12, hf⟩ := bindE hf
    refine qg_callS hΓ (pc := 23) 3 (As := [.long a2.toInt64, .long (0 : Int64), .long (7 : Int64)]) (metM_in _ hx12) (lw_S q1245 q1246 q57 q1247) (by decide +kernel) (by decide) rfl rfl (Nat.le_of_ble_eq_true rfl) dX4_copy_23 ?_
    refine g_if_ne hΓ (pc := 26) (tgt := 31) dX4_copy_26 (by decide) (fun c13 => ?_) (fun c13 => ?_)
    · have hf := ifN hf c13
      refine g_aload_n hΓ (pc := 31) 0 (i := 0) dX4_copy_31 rfl rfl ?_
      refine qg_geta hΓ (pc := 32) hK (k := 39) rfl q1111 dX4_copy_32 ?_
      refine g_iload_n hΓ (pc := 35) 1 (i := 1) dX4_copy_35 rfl rfl ?_
      obtain ⟨x14, hx14, hf⟩ := bindE hf
      refine qg_iald hΓ (pc := 36) hK rfl hx14 dX4_copy_36 rfl ?_
      refine g_if_eq hΓ (pc := 37) (tgt := 49) dX4_copy_37 (by decide) (fun c15 => ?_) (fun c15 => ?_)
      · have hf := ifP hf c15
        refine g_bipush hΓ (pc := 49) (v := -11) dX4_copy_49 (by decide) ?_
        exact qg_iret hΓ hK hf dX4_copy_51
      · have hf := ifN hf c15
        refine g_aload_n hΓ (pc := 40) 0 (i := 0) dX4_copy_40 rfl rfl ?_
        refine qg_geta hΓ (pc := 41) hK (k := 39) rfl q1111 dX4_copy_41 ?_
        refine g_iload_n hΓ (pc := 44) 3 (i := 3) dX4_copy_44 rfl rfl ?_
        obtain ⟨x16, hx16, hf⟩ := bindE hf
        refine qg_iald hΓ (pc := 45) hK rfl hx16 dX4_copy_45 rfl ?_
        refine g_if_ne hΓ (pc := 46) (tgt := 52) dX4_copy_46 (by decide) (fun c17 => ?_) (fun c17 => ?_)
        · have hf := ifN hf c17
          refine g_aload_n hΓ (pc := 52) 0 (i := 0) dX4_copy_52 rfl rfl ?_
          refine qg_geta hΓ (pc := 53) hK (k := 39) rfl q1111 dX4_copy_53 ?_
          refine g_iload_n hΓ (pc := 56) 1 (i := 1) dX4_copy_56 rfl rfl ?_
          obtain ⟨x18, hx18, hf⟩ := bindE hf
          refine qg_iald hΓ (pc := 57) hK rfl hx18 dX4_copy_57 rfl ?_
          refine g_iconst hΓ (pc := 58) (v := 2) dX4_copy_58 (by decide) ?_
          refine g_icmp_ne hΓ (pc := 59) (tgt := 87) dX4_copy_59 (by decide) (fun c19 => ?_) (fun c19 => ?_)
          · have hf := ifN hf c19
            refine g_bipush hΓ (pc := 87) (v := -12) dX4_copy_87 (by decide) ?_
            exact qg_iret hΓ hK hf dX4_copy_89
          · have hf := ifP hf c19
            refine g_aload_n hΓ (pc := 62) 0 (i := 0) dX4_copy_62 rfl rfl ?_
            refine qg_geta hΓ (pc := 63) hK (k := 39) rfl q1111 dX4_copy_63 ?_
            refine g_iload_n hΓ (pc := 66) 3 (i := 3) dX4_copy_66 rfl rfl ?_
            obtain ⟨x20, hx20, hf⟩ := bindE hf
            refine qg_iald hΓ (pc := 67) hK rfl hx20 dX4_copy_67 rfl ?_
            refine g_iconst hΓ (pc := 68) (v := 2) dX4_copy_68 (by decide) ?_
            refine g_icmp_ne hΓ (pc := 69) (tgt := 87) dX4_copy_69 (by decide) (fun c21 => ?_) (fun c21 => ?_)
            · have hf := ifN hf c21
              refine g_bipush hΓ (pc := 87) (v := -12) dX4_copy_87 (by decide) ?_
              exact qg_iret hΓ hK hf dX4_copy_89
            · have hf := ifP hf c21
              refine g_aload_n hΓ (pc := 72) 0 (i := 0) dX4_copy_72 rfl rfl ?_
              refine qg_geta hΓ (pc := 73) hK (k := 42) rfl q1114 dX4_copy_73 ?_
              refine g_iload_n hΓ (pc := 76) 1 (i := 1) dX4_copy_76 rfl rfl ?_
              obtain ⟨x22, hx22, hf⟩ := bindE hf
              refine qg_iald hΓ (pc := 77) hK rfl hx22 dX4_copy_77 rfl ?_
              refine g_aload_n hΓ (pc := 78) 0 (i := 0) dX4_copy_78 rfl rfl ?_
              refine qg_geta hΓ (pc := 79) hK (k := 42) rfl q1114 dX4_copy_79 ?_
              refine g_iload_n hΓ (pc := 82) 3 (i := 3) dX4_copy_82 rfl rfl ?_
              obtain ⟨x23, hx23, hf⟩ := bindE hf
              refine qg_iald hΓ (pc := 83) hK rfl hx23 dX4_copy_83 rfl ?_
              refine g_icmp_eq hΓ (pc := 84) (tgt := 90) dX4_copy_84 (by decide) (fun c24 => ?_) (fun c24 => ?_)
              · have hf := ifP hf c24
                refine g_iload hΓ (pc := 90) 5 (i := 5) dX4_copy_90 rfl ?_
                refine g_if_lt hΓ (pc := 92) (tgt := 131) dX4_copy_92 (by decide) (fun c25 => ?_) (fun c25 => ?_)
                · have hf := ifP hf c25
                  refine g_bipush hΓ (pc := 131) (v := -13) dX4_copy_131 (by decide) ?_
                  exact qg_iret hΓ hK hf dX4_copy_133
                · have hf := ifN hf c25
                  refine g_iload_n hΓ (pc := 95) 2 (i := 2) dX4_copy_95 rfl rfl ?_
                  refine g_if_lt hΓ (pc := 96) (tgt := 131) dX4_copy_96 (by decide) (fun c26 => ?_) (fun c26 => ?_)
                  · have hf := ifP hf c26
                    refine g_bipush hΓ (pc := 131) (v := -13) dX4_copy_131 (by decide) ?_
                    exact qg_iret hΓ hK hf dX4_copy_133
                  · have hf := ifN hf c26
                    refine g_iload hΓ (pc := 99) 4 (i := 4) dX4_copy_99 rfl ?_
                    refine g_if_lt hΓ (pc := 101) (tgt := 131) dX4_copy_101 (by decide) (fun c27 => ?_) (fun c27 => ?_)
                    · have hf := ifP hf c27
                      refine g_bipush hΓ (pc := 131) (v := -13) dX4_copy_131 (by decide) ?_
                      exact qg_iret hΓ hK hf dX4_copy_133
                    · have hf := ifN hf c27
                      refine g_iload_n hΓ (pc := 104) 2 (i := 2) dX4_copy_104 rfl rfl ?_
                      refine g_aload_n hΓ (pc := 105) 0 (i := 0) dX4_copy_105 rfl rfl ?_
                      refine qg_geta hΓ (pc := 106) hK (k := 43) rfl q1115 dX4_copy_106 ?_
                      refine g_iload_n hΓ (pc := 109) 1 (i := 1) dX4_copy_109 rfl rfl ?_
                      obtain ⟨x28, hx28, hf⟩ := bindE hf
                      refine qg_iald hΓ (pc := 110) hK rfl hx28 dX4_copy_110 rfl ?_
                      refine g_iload hΓ (pc := 111) 5 (i := 5) dX4_copy_111 rfl ?_
                      refine g_isub hΓ (pc := 113) dX4_copy_113 ?_
                      refine g_icmp_gt hΓ (pc := 114) (tgt := 131) dX4_copy_114 (by decide) (fun c29 => ?_) (fun c29 => ?_)
                      · have hf := ifP hf c29
                        refine g_bipush hΓ (pc := 131) (v := -13) dX4_copy_131 (by decide) ?_
                        exact qg_iret hΓ hK hf dX4_copy_133
                      · have hf := ifN hf c29
                        refine g_iload hΓ (pc := 117) 4 (i := 4) dX4_copy_117 rfl ?_
                        refine g_aload_n hΓ (pc := 119) 0 (i := 0) dX4_copy_119 rfl rfl ?_
                        refine qg_geta hΓ (pc := 120) hK (k := 43) rfl q1115 dX4_copy_120 ?_
                        refine g_iload_n hΓ (pc := 123) 3 (i := 3) dX4_copy_123 rfl rfl ?_
                        obtain ⟨x30, hx30, hf⟩ := bindE hf
                        refine qg_iald hΓ (pc := 124) hK rfl hx30 dX4_copy_124 rfl ?_
                        refine g_iload hΓ (pc := 125) 5 (i := 5) dX4_copy_125 rfl ?_
                        refine g_isub hΓ (pc := 127) dX4_copy_127 ?_
                        refine g_icmp_le hΓ (pc := 128) (tgt := 134) dX4_copy_128 (by decide) (fun c31 => ?_) (fun c31 => ?_)
                        · have hf := ifP hf c31
                          refine g_iconst hΓ (pc := 134) (v := 0) dX4_copy_134 (by decide) ?_
                          refine g_istore hΓ (pc := 135) (i := 6) (lv' := [(6, .int (0 : Int32)), (0, .ref (ad 46)), (1, .int a0), (2, .int a1), (3, .int a2), (4, .int a3), (5, .int a4)]) dX4_copy_135 (by decide) rfl ?_
                          exact g_sub [1, 2, 3, 4, 5, 6, 0] rfl (L137  200 _ _ _ _ _ _ _ hf)
                        · have hf := ifN hf c31
                          refine g_bipush hΓ (pc := 131) (v := -13) dX4_copy_131 (by decide) ?_
                          exact qg_iret hΓ hK hf dX4_copy_133
              · have hf := ifN hf c24
                refine g_bipush hΓ (pc := 87) (v := -12) dX4_copy_87 (by decide) ?_
                exact qg_iret hΓ hK hf dX4_copy_89
        · have hf := ifP hf c17
          refine g_bipush hΓ (pc := 49) (v := -11) dX4_copy_49 (by decide) ?_
          exact qg_iret hΓ hK hf dX4_copy_51
    · have hf := ifP hf c13
      refine g_iconst hΓ (pc := 29) (v := -1) dX4_copy_29 (by decide) ?_
      exact qg_iret hΓ hK hf dX4_copy_30
def M_costOf (a0 : Int32) (a1 : Int32) : Option (Int32) :=
  if a0 = (0 : Int32) then (
    some (2 : Int32)
  ) else (
  if a0 = (1 : Int32) then (
    some ((2 : Int32) + a1)
  ) else (
  if a0 = (2 : Int32) then (
    some (3 : Int32)
  ) else (
  if a0 = (3 : Int32) then (
    some (4 : Int32)
  ) else (
  if a0 = (4 : Int32) then (
    some (6 : Int32)
  ) else (
  if a0 = (5 : Int32) then (
    some ((11 : Int32) + a1)
  ) else (
  if a0 = (6 : Int32) then (
    some (3 : Int32)
  ) else (
  some ((4 : Int32) * (a1 + (1 : Int32)))
  )
  )
  )
  )
  )
  )
  )
set_option maxHeartbeats 4000000 in
set_option maxRecDepth 100000 in
theorem metM_costOf (l : Launch) {a0 : Int32} {a1 : Int32} {r : Int32} (hf : M_costOf a0 a1 = some r) : Met l yX4_costOf (ws_ yX4_costOf cX4_costOf 2 (some .int)) (rm0_ 0 0) (sP [.int a0, .int a1]) (sQ (some (.int r))) 0 0 (fun _ => False) := by
  refine qs_met (by decide) RX4 rfl (Nat.le_of_ble_eq_true rfl) (fun Γ hΓ => ?_)
  refine g_sub [0, 1] (lv' := [(0, .int a0), (1, .int a1)]) rfl ?_
  refine g_iload_n hΓ (pc := 0) 0 (i := 0) dX4_costOf_0 rfl rfl ?_
  by_cases c1 : a0 = (0 : Int32)
  · have hf := ifP hf c1
    refine g_tswC hΓ (pc := 1) (tgt := 44) (0) dX4_costOf_1 (by rw [c1]; decide) (by decide) (by decide) rfl (by decide) ?_
    refine g_iconst hΓ (pc := 44) (v := 2) dX4_costOf_44 (by decide) ?_
    exact qs_iret hΓ hf dX4_costOf_45
  · have hf := ifN hf c1
    by_cases c2 : a0 = (1 : Int32)
    · have hf := ifP hf c2
      refine g_tswC hΓ (pc := 1) (tgt := 46) (1) dX4_costOf_1 (by rw [c2]; decide) (by decide) (by decide) rfl (by decide) ?_
      refine g_iconst hΓ (pc := 46) (v := 2) dX4_costOf_46 (by decide) ?_
      refine g_iload_n hΓ (pc := 47) 1 (i := 1) dX4_costOf_47 rfl rfl ?_
      refine g_iadd hΓ (pc := 48) dX4_costOf_48 ?_
      exact qs_iret hΓ hf dX4_costOf_49
    · have hf := ifN hf c2
      by_cases c3 : a0 = (2 : Int32)
      · have hf := ifP hf c3
        refine g_tswC hΓ (pc := 1) (tgt := 50) (2) dX4_costOf_1 (by rw [c3]; decide) (by decide) (by decide) rfl (by decide) ?_
        refine g_iconst hΓ (pc := 50) (v := 3) dX4_costOf_50 (by decide) ?_
        exact qs_iret hΓ hf dX4_costOf_51
      · have hf := ifN hf c3
        by_cases c4 : a0 = (3 : Int32)
        · have hf := ifP hf c4
          refine g_tswC hΓ (pc := 1) (tgt := 52) (3) dX4_costOf_1 (by rw [c4]; decide) (by decide) (by decide) rfl (by decide) ?_
          refine g_iconst hΓ (pc := 52) (v := 4) dX4_costOf_52 (by decide) ?_
          exact qs_iret hΓ hf dX4_costOf_53
        · have hf := ifN hf c4
          by_cases c5 : a0 = (4 : Int32)
          · have hf := ifP hf c5
            refine g_tswC hΓ (pc := 1) (tgt := 54) (4) dX4_costOf_1 (by rw [c5]; decide) (by decide) (by decide) rfl (by decide) ?_
            refine g_bipush hΓ (pc := 54) (v := 6) dX4_costOf_54 (by decide) ?_
            exact qs_iret hΓ hf dX4_costOf_56
          · have hf := ifN hf c5
            by_cases c6 : a0 = (5 : Int32)
            · have hf := ifP hf c6
              refine g_tswC hΓ (pc := 1) (tgt := 57) (5) dX4_costOf_1 (by rw [c6]; decide) (by decide) (by decide) rfl (by decide) ?_
              refine g_bipush hΓ (pc := 57) (v := 11) dX4_costOf_57 (by decide) ?_
              refine g_iload_n hΓ (pc := 59) 1 (i := 1) dX4_costOf_59 rfl rfl ?_
              refine g_iadd hΓ (pc := 60) dX4_costOf_60 ?_
              exact qs_iret hΓ hf dX4_costOf_61
            · have hf := ifN hf c6
              by_cases c7 : a0 = (6 : Int32)
              · have hf := ifP hf c7
                refine g_tswC hΓ (pc := 1) (tgt := 62) (6) dX4_costOf_1 (by rw [c7]; decide) (by decide) (by decide) rfl (by decide) ?_
                refine g_iconst hΓ (pc := 62) (v := 3) dX4_costOf_62 (by decide) ?_
                exact qs_iret hΓ hf dX4_costOf_63
              · have hf := ifN hf c7
                refine g_tswD hΓ (pc := 1) (tgt := 64) dX4_costOf_1 (fun v h1 h2 h3 => ?_) (by decide) ?_
                · rcases (by omega : v = 0 ∨ v = 1 ∨ v = 2 ∨ v = 3 ∨ v = 4 ∨ v = 5 ∨ v = 6) with rfl | rfl | rfl | rfl | rfl | rfl | rfl
                  · exact absurd h3 (lv_neT c1 (by decide))
                  · exact absurd h3 (lv_neT c2 (by decide))
                  · exact absurd h3 (lv_neT c3 (by decide))
                  · exact absurd h3 (lv_neT c4 (by decide))
                  · exact absurd h3 (lv_neT c5 (by decide))
                  · exact absurd h3 (lv_neT c6 (by decide))
                  · exact absurd h3 (lv_neT c7 (by decide))
                · skip
                  refine g_iconst hΓ (pc := 64) (v := 4) dX4_costOf_64 (by decide) ?_
                  refine g_iload_n hΓ (pc := 65) 1 (i := 1) dX4_costOf_65 rfl rfl ?_
                  refine g_iconst hΓ (pc := 66) (v := 1) dX4_costOf_66 (by decide) ?_
                  refine g_iadd hΓ (pc := 67) dX4_costOf_67 ?_
                  refine g_imul hΓ (pc := 68) dX4_costOf_68 ?_
                  exact qs_iret hΓ hf dX4_costOf_69
def M_cost (m : MS) (a0 : Int32) : Option (Int32 × MS) :=
  (mSI m 23 (0 : Int32)).bind fun m1 =>
  (M_wrongKept m1 a0).bind fun x2 =>
  if 0 ≤ x2 then (
    (mR m1 40 a0).bind fun x4 =>
    (mR m1 41 a0).bind fun x5 =>
    (M_costOf x4 x5).bind fun x6 =>
    some (x6, m1)
  ) else (
    (M_wrongKept m1 a0).bind fun x7 =>
    some (x7, m1)
  )
set_option maxHeartbeats 4000000 in
set_option maxRecDepth 100000 in
theorem metM_cost (l : Launch) {D : va_G} {dA : Nat → ClassId} {b : Nat} {ad : Nat → Nat} {P : Nat → Prop} {F : Nat → va_E} {m : MS} {m' : MS} {a0 : Int32} {r : Int32} (hf : M_cost m a0 = some (r, m')) : Met l yX4_cost (ws_ yX4_cost cX4_cost 2 (some .int)) (rm0_ 2 46) (mP D dA b ad P F [.ref (ad 46), .int a0] m) (mQ D dA b ad P F (some (.int r)) m') 0 0 (fun q => b ≤ q) := by
  refine qg_met (by decide) RX4 rfl (Nat.le_of_ble_eq_true rfl) (fun Γ hΓ hK => ?_)
  refine g_sub [0, 1] (lv' := [(0, .ref (ad 46)), (1, .int a0)]) rfl ?_
  refine g_aload_n hΓ (pc := 0) 0 (i := 0) dX4_cost_0 rfl rfl ?_
  refine g_iconst hΓ (pc := 1) (v := 0) dX4_cost_1 (by decide) ?_
  obtain ⟨m1, hm1, hf⟩ := bindE hf
  refine qg_put hΓ (pc := 2) hK rfl hm1 q1095 dX4_cost_2 ?_
  refine g_aload_n hΓ (pc := 5) 0 (i := 0) dX4_cost_5 rfl rfl ?_
  refine g_iload_n hΓ (pc := 6) 1 (i := 1) dX4_cost_6 rfl rfl ?_
  obtain ⟨x2, hx2, hf⟩ := bindE hf
  refine qg_callV hΓ (pc := 7) hK 1 (As := [.int a0]) (metM_wrongKept _ hx2) (lw_V q1376 q1378 qs45 q57 q1379) (by decide +kernel) (by decide) rfl rfl (Nat.le_of_ble_eq_true rfl) dX4_cost_7 ?_
  refine g_if_ge hΓ (pc := 10) (tgt := 21) dX4_cost_10 (by decide) (fun c3 => ?_) (fun c3 => ?_)
  · have hf := ifP hf c3
    refine g_aload_n hΓ (pc := 21) 0 (i := 0) dX4_cost_21 rfl rfl ?_
    refine qg_geta hΓ (pc := 22) hK (k := 40) rfl q1112 dX4_cost_22 ?_
    refine g_iload_n hΓ (pc := 25) 1 (i := 1) dX4_cost_25 rfl rfl ?_
    obtain ⟨x4, hx4, hf⟩ := bindE hf
    refine qg_iald hΓ (pc := 26) hK rfl hx4 dX4_cost_26 rfl ?_
    refine g_aload_n hΓ (pc := 27) 0 (i := 0) dX4_cost_27 rfl rfl ?_
    refine qg_geta hΓ (pc := 28) hK (k := 41) rfl q1113 dX4_cost_28 ?_
    refine g_iload_n hΓ (pc := 31) 1 (i := 1) dX4_cost_31 rfl rfl ?_
    obtain ⟨x5, hx5, hf⟩ := bindE hf
    refine qg_iald hΓ (pc := 32) hK rfl hx5 dX4_cost_32 rfl ?_
    obtain ⟨x6, hx6, hf⟩ := bindE hf
    refine qg_callS hΓ (pc := 33) 2 (As := [.int x4, .int x5]) (metM_costOf _ hx6) (lw_S q1556 q1557 q57 q1558) (by decide +kernel) (by decide) rfl rfl (Nat.le_of_ble_eq_true rfl) dX4_cost_33 ?_
    exact qg_iret hΓ hK hf dX4_cost_36
  · have hf := ifN hf c3
    refine g_aload_n hΓ (pc := 13) 0 (i := 0) dX4_cost_13 rfl rfl ?_
    refine g_iload_n hΓ (pc := 14) 1 (i := 1) dX4_cost_14 rfl rfl ?_
    obtain ⟨x7, hx7, hf⟩ := bindE hf
    refine qg_callV hΓ (pc := 15) hK 1 (As := [.int a0]) (metM_wrongKept _ hx7) (lw_V q1376 q1378 qs45 q57 q1379) (by decide +kernel) (by decide) rfl rfl (Nat.le_of_ble_eq_true rfl) dX4_cost_15 ?_
    refine g_goto hΓ (pc := 18) (tgt := 36) dX4_cost_18 (by decide) ?_
    exact qg_iret hΓ hK hf dX4_cost_36

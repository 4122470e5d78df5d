set_option maxRecDepth 100000
def X_idle_13s (x : XS) (k13 : Int32 → Int32 → Int32 → Option (Int32)) (y1 : Int32) (y2 : Int32) (y3 : Int32) : Option (Int32) :=
  if ((x.1 0).2.2 14) ≤ y3 then (
    some y2
  ) else (
    (hR (x.1 0) 2 y3).bind fun x2 =>
    if x2 = y1 then (
      (X_isSomeonesOwn x y3).bind fun x6 =>
      if x6 = 0 then (
        (some (y2 + (1 : Int32))).bind fun x10 =>
        (some (y3 + 1)).bind fun x11 =>
        k13 y1 x10 x11
      ) else (
        (some (y2 + (0 : Int32))).bind fun x8 =>
        (some (y3 + 1)).bind fun x9 =>
        k13 y1 x8 x9
      )
    ) else (
      (some (y2 + (0 : Int32))).bind fun x4 =>
      (some (y3 + 1)).bind fun x5 =>
      k13 y1 x4 x5
    )
  )
def X_idle_13 (x : XS) : Nat → Int32 → Int32 → Int32 → Option (Int32)
  | 0 => fun _ _ _ => none
  | n + 1 => X_idle_13s x  (X_idle_13 x  n)
def X_idle (x : XS) (a0 : Int32) : Option (Int32) :=
  (S_isPlace a0).bind fun x12 =>
  if x12 = 0 then (
    some (-1 : Int32)
  ) else (
    X_idle_13 x 13 a0 (0 : Int32) (0 : Int32)
  )
set_option maxHeartbeats 4000000 in
set_option maxRecDepth 100000 in
theorem metX_idle (l : Launch) {D : va_G} {dA : Nat → ClassId} {b : Nat} {ad : Nat → Nat} {P : Nat → Prop} {F : Nat → va_E} {gs : List (Nat × (Nat × Int32))} {x : XS} {a0 : Int32} {z : Int32} (hf : X_idle x a0 = some z) : Met l yX1_idle (ws_ yX1_idle cX1_idle 4 (some .int)) (rmx_ 2 42 0 0) (xP D dA b ad P F gs [.ref (ad 0), .int a0] x) (xQ D dA b ad P F gs (some (.int z)) x) 0 0 (fun q => b ≤ q) := by
  refine qx_met (by decide) RX1 rfl (Nat.le_of_ble_eq_true rfl) (fun Γ hΓ hK => ?_)
  refine g_sub [0, 1] (lv' := [(0, .ref (ad 0)), (1, .int a0)]) rfl ?_
  have S13 : ∀ (k13 : Int32 → Int32 → Int32 → Option (Int32)) (hk13 : ∀ (y1 : Int32) (y2 : Int32) (y3 : Int32), k13 y1 y2 y3 = some z → WG Γ (XW D dA b ad P F gs x) 0 0 13 [(0, .ref (ad 0)), (1, .int y1), (2, .int y2), (3, .int y3)] []) (y1 : Int32) (y2 : Int32) (y3 : Int32) (hf : X_idle_13s x k13 y1 y2 y3 = some z), WG Γ (XW D dA b ad P F gs x) 0 0 13 [(0, .ref (ad 0)), (1, .int y1), (2, .int y2), (3, .int y3)] [] := by
    intro k13 hk13 y1 y2 y3 hf
    refine g_iload_n hΓ (pc := 13) 3 (i := 3) dX1_idle_13 rfl rfl ?_
    refine g_aload_n hΓ (pc := 14) 0 (i := 0) dX1_idle_14 rfl rfl ?_
    refine qX_house hΓ (pc := 15) hK 0 (by decide) q812 dX1_idle_15 ?_
    refine qx_hget hΓ (pc := 18) hK (r := 0) (by decide) rfl (k := 14) rfl q740 dX1_idle_18 ?_
    refine g_icmp_ge hΓ (pc := 21) (tgt := 59) dX1_idle_21 (by decide) (fun c1 => ?_) (fun c1 => ?_)
    · have hf := ifP hf c1
      refine g_iload_n hΓ (pc := 59) 2 (i := 2) dX1_idle_59 rfl rfl ?_
      exact qX_iretR hΓ hf dX1_idle_60
    · have hf := ifN hf c1
      refine g_iload_n hΓ (pc := 24) 2 (i := 2) dX1_idle_24 rfl rfl ?_
      refine g_aload_n hΓ (pc := 25) 0 (i := 0) dX1_idle_25 rfl rfl ?_
      refine qX_house hΓ (pc := 26) hK 0 (by decide) q812 dX1_idle_26 ?_
      refine qx_hgeta hΓ (pc := 29) hK (r := 0) (by decide) (k := 2) rfl q716 dX1_idle_29 ?_
      refine g_iload_n hΓ (pc := 32) 3 (i := 3) dX1_idle_32 rfl rfl ?_
      obtain ⟨x2, hx2, hf⟩ := bindE hf
      refine qx_iald hΓ (pc := 33) hK (r := 0) (by decide) rfl rfl hx2 dX1_idle_33 ?_
      refine g_iload_n hΓ (pc := 34) 1 (i := 1) dX1_idle_34 rfl rfl ?_
      refine g_icmp_ne hΓ (pc := 35) (tgt := 50) dX1_idle_35 (by decide) (fun c3 => ?_) (fun c3 => ?_)
      · have hf := ifN hf c3
        refine g_iconst hΓ (pc := 50) (v := 0) dX1_idle_50 (by decide) ?_
        refine g_iadd hΓ (pc := 51) dX1_idle_51 ?_
        obtain ⟨x4, hx4, hf⟩ := bindE hf
        refine g_topi hx4 ?_
        refine g_istore_n hΓ (pc := 52) (i := 2) (lv' := [(2, .int x4), (0, .ref (ad 0)), (1, .int y1), (3, .int y3)]) dX1_idle_52 rfl (by decide) rfl ?_
        obtain ⟨x5, hx5, hf⟩ := bindE hf
        refine g_iinc hΓ (pc := 53) 3 (i := 3) (v := x5) (lv' := [(3, .int x5), (2, .int x4), (0, .ref (ad 0)), (1, .int y1)]) dX1_idle_53 rfl (Option.some.inj hx5) (by decide) rfl ?_
        refine g_goto hΓ (pc := 56) (tgt := 13) dX1_idle_56 (by decide) ?_
        exact g_sub [2, 3, 1, 0] rfl (hk13 _ _ _ hf)
      · have hf := ifP hf c3
        refine g_aload_n hΓ (pc := 38) 0 (i := 0) dX1_idle_38 rfl rfl ?_
        refine g_iload_n hΓ (pc := 39) 3 (i := 3) dX1_idle_39 rfl rfl ?_
        obtain ⟨x6, hx6, hf⟩ := bindE hf
        refine qX_callV hΓ (pc := 40) hK 1 (As := [.int y3]) (metX_isSomeonesOwn _ hx6) (lw_V q587 q589 qs10 q54 q590) (by decide +kernel) (by decide) ⟨by show 0 + 0 ≤ 0; omega, by show 0 + 0 ≤ 0; omega⟩ rfl rfl (Nat.le_of_ble_eq_true rfl) dX1_idle_40 ?_
        refine g_if_ne hΓ (pc := 43) (tgt := 50) dX1_idle_43 (by decide) (fun c7 => ?_) (fun c7 => ?_)
        · have hf := ifN hf c7
          refine g_iconst hΓ (pc := 50) (v := 0) dX1_idle_50 (by decide) ?_
          refine g_iadd hΓ (pc := 51) dX1_idle_51 ?_
          obtain ⟨x8, hx8, hf⟩ := bindE hf
          refine g_topi hx8 ?_
          refine g_istore_n hΓ (pc := 52) (i := 2) (lv' := [(2, .int x8), (0, .ref (ad 0)), (1, .int y1), (3, .int y3)]) dX1_idle_52 rfl (by decide) rfl ?_
          obtain ⟨x9, hx9, hf⟩ := bindE hf
          refine g_iinc hΓ (pc := 53) 3 (i := 3) (v := x9) (lv' := [(3, .int x9), (2, .int x8), (0, .ref (ad 0)), (1, .int y1)]) dX1_idle_53 rfl (Option.some.inj hx9) (by decide) rfl ?_
          refine g_goto hΓ (pc := 56) (tgt := 13) dX1_idle_56 (by decide) ?_
          exact g_sub [2, 3, 1, 0] rfl (hk13 _ _ _ hf)
        · have hf := ifP hf c7
          refine g_iconst hΓ (pc := 46) (v := 1) dX1_idle_46 (by decide) ?_
          refine g_goto hΓ (pc := 47) (tgt := 51) dX1_idle_47 (by decide) ?_
          refine g_iadd hΓ (pc := 51) dX1_idle_51 ?_
          obtain ⟨x10, hx10, hf⟩ := bindE hf
          refine g_topi hx10 ?_
          refine g_istore_n hΓ (pc := 52) (i := 2) (lv' := [(2, .int x10), (0, .ref (ad 0)), (1, .int y1), (3, .int y3)]) dX1_idle_52 rfl (by decide) rfl ?_
          obtain ⟨x11, hx11, hf⟩ := bindE hf
          refine g_iinc hΓ (pc := 53) 3 (i := 3) (v := x11) (lv' := [(3, .int x11), (2, .int x10), (0, .ref (ad 0)), (1, .int y1)]) dX1_idle_53 rfl (Option.some.inj hx11) (by decide) rfl ?_
          refine g_goto hΓ (pc := 56) (tgt := 13) dX1_idle_56 (by decide) ?_
          exact g_sub [2, 3, 1, 0] rfl (hk13 _ _ _ hf)
  have L13 : ∀ (n : Nat) (y1 : Int32) (y2 : Int32) (y3 : Int32) (hf : X_idle_13 x  n y1 y2 y3 = some z), WG Γ (XW D dA b ad P F gs x) 0 0 13 [(0, .ref (ad 0)), (1, .int y1), (2, .int y2), (3, .int y3)] [] := by
    intro  n
    induction n with
    | zero => intro y1 y2 y3 hf; exact nomatch (show (none : Option (Int32)) = some _ from hf)
    | succ n ih => exact S13  _ ih
  refine g_iload_n hΓ (pc := 0) 1 (i := 1) dX1_idle_0 rfl rfl ?_
  obtain ⟨x12, hx12, hf⟩ := bindE hf
  refine qg_callS hΓ (pc := 1) 1 (As := [.int a0]) (metS_isPlace _ hx12) (lw_S q254 q255 q54 q256) (by decide +kernel) ⟨by decide, by decide, ⟨by show 0 ≤ 0; omega, by show 0 ≤ 0; omega⟩⟩ rfl rfl (Nat.le_of_ble_eq_true rfl) dX1_idle_1 ?_
  refine g_if_ne hΓ (pc := 4) (tgt := 9) dX1_idle_4 (by decide) (fun c13 => ?_) (fun c13 => ?_)
  · have hf := ifN hf c13
    refine g_iconst hΓ (pc := 9) (v := 0) dX1_idle_9 (by decide) ?_
    refine g_istore_n hΓ (pc := 10) (i := 2) (lv' := [(2, .int (0 : Int32)), (0, .ref (ad 0)), (1, .int a0)]) dX1_idle_10 rfl (by decide) rfl ?_
    refine g_iconst hΓ (pc := 11) (v := 0) dX1_idle_11 (by decide) ?_
    refine g_istore_n hΓ (pc := 12) (i := 3) (lv' := [(3, .int (0 : Int32)), (2, .int (0 : Int32)), (0, .ref (ad 0)), (1, .int a0)]) dX1_idle_12 rfl (by decide) rfl ?_
    exact g_sub [2, 3, 1, 0] rfl (L13  13 _ _ _ hf)
  · have hf := ifP hf c13
    refine g_iconst hΓ (pc := 7) (v := -1) dX1_idle_7 (by decide) ?_
    exact qX_iretR hΓ hf dX1_idle_8
def X_oldest_14s (x : XS) (k14 : Int32 → Int32 → Int32 → Option (Int32)) (y1 : Int32) (y2 : Int32) (y3 : Int32) : Option (Int32) :=
  if ((x.1 0).2.2 14) ≤ y3 then (
    some y2
  ) else (
    (hR (x.1 0) 2 y3).bind fun x2 =>
    if x2 = y1 then (
      if y2 = (-4 : Int32) then (
        (some (y3 + 1)).bind fun x6 =>
        k14 y1 y3 x6
      ) else (
        (hR (x.1 0) 3 y3).bind fun x7 =>
        (hR (x.1 0) 3 y2).bind fun x8 =>
        if x8 ≤ x7 then (
          (some (y3 + 1)).bind fun x10 =>
          k14 y1 y2 x10
        ) else (
          (some (y3 + 1)).bind fun x11 =>
          k14 y1 y3 x11
        )
      )
    ) else (
      (some (y3 + 1)).bind fun x4 =>
      k14 y1 y2 x4
    )
  )
def X_oldest_14 (x : XS) : Nat → Int32 → Int32 → Int32 → Option (Int32)
  | 0 => fun _ _ _ => none
  | n + 1 => X_oldest_14s x  (X_oldest_14 x  n)
def X_oldest (x : XS) (a0 : Int32) : Option (Int32) :=
  (S_isPlace a0).bind fun x12 =>
  if x12 = 0 then (
    some (-1 : Int32)
  ) else (
    X_oldest_14 x 13 a0 (-4 : Int32) (0 : Int32)
  )
set_option maxHeartbeats 4000000 in
set_option maxRecDepth 100000 in
theorem metX_oldest (l : Launch) {D : va_G} {dA : Nat → ClassId} {b : Nat} {ad : Nat → Nat} {P : Nat → Prop} {F : Nat → va_E} {gs : List (Nat × (Nat × Int32))} {x : XS} {a0 : Int32} {z : Int32} (hf : X_oldest x a0 = some z) : Met l yX1_oldest (ws_ yX1_oldest cX1_oldest 4 (some .int)) (rmx_ 2 42 0 0) (xP D dA b ad P F gs [.ref (ad 0), .int a0] x) (xQ D dA b ad P F gs (some (.int z)) x) 0 0 (fun q => b ≤ q) := by
  refine qx_met (by decide) RX1 rfl (Nat.le_of_ble_eq_true rfl) (fun Γ hΓ hK => ?_)
  refine g_sub [0, 1] (lv' := [(0, .ref (ad 0)), (1, .int a0)]) rfl ?_
  have S14 : ∀ (k14 : Int32 → Int32 → Int32 → Option (Int32)) (hk14 : ∀ (y1 : Int32) (y2 : Int32) (y3 : Int32), k14 y1 y2 y3 = some z → WG Γ (XW D dA b ad P F gs x) 0 0 14 [(0, .ref (ad 0)), (1, .int y1), (2, .int y2), (3, .int y3)] []) (y1 : Int32) (y2 : Int32) (y3 : Int32) (hf : X_oldest_14s x k14 y1 y2 y3 = some z), WG Γ (XW D dA b ad P F gs x) 0 0 14 [(0, .ref (ad 0)), (1, .int y1), (2, .int y2), (3, .int y3)] [] := by
    intro k14 hk14 y1 y2 y3 hf
    refine g_iload_n hΓ (pc := 14) 3 (i := 3) dX1_oldest_14 rfl rfl ?_
    refine g_aload_n hΓ (pc := 15) 0 (i := 0) dX1_oldest_15 rfl rfl ?_
    refine qX_house hΓ (pc := 16) hK 0 (by decide) q812 dX1_oldest_16 ?_
    refine qx_hget hΓ (pc := 19) hK (r := 0) (by decide) rfl (k := 14) rfl q740 dX1_oldest_19 ?_
    refine g_icmp_ge hΓ (pc := 22) (tgt := 73) dX1_oldest_22 (by decide) (fun c1 => ?_) (fun c1 => ?_)
    · have hf := ifP hf c1
      refine g_iload_n hΓ (pc := 73) 2 (i := 2) dX1_oldest_73 rfl rfl ?_
      exact qX_iretR hΓ hf dX1_oldest_74
    · have hf := ifN hf c1
      refine g_aload_n hΓ (pc := 25) 0 (i := 0) dX1_oldest_25 rfl rfl ?_
      refine qX_house hΓ (pc := 26) hK 0 (by decide) q812 dX1_oldest_26 ?_
      refine qx_hgeta hΓ (pc := 29) hK (r := 0) (by decide) (k := 2) rfl q716 dX1_oldest_29 ?_
      refine g_iload_n hΓ (pc := 32) 3 (i := 3) dX1_oldest_32 rfl rfl ?_
      obtain ⟨x2, hx2, hf⟩ := bindE hf
      refine qx_iald hΓ (pc := 33) hK (r := 0) (by decide) rfl rfl hx2 dX1_oldest_33 ?_
      refine g_iload_n hΓ (pc := 34) 1 (i := 1) dX1_oldest_34 rfl rfl ?_
      refine g_icmp_ne hΓ (pc := 35) (tgt := 67) dX1_oldest_35 (by decide) (fun c3 => ?_) (fun c3 => ?_)
      · have hf := ifN hf c3
        obtain ⟨x4, hx4, hf⟩ := bindE hf
        refine g_iinc hΓ (pc := 67) 3 (i := 3) (v := x4) (lv' := [(3, .int x4), (0, .ref (ad 0)), (1, .int y1), (2, .int y2)]) dX1_oldest_67 rfl (Option.some.inj hx4) (by decide) rfl ?_
        refine g_goto hΓ (pc := 70) (tgt := 14) dX1_oldest_70 (by decide) ?_
        exact g_sub [1, 2, 3, 0] rfl (hk14 _ _ _ hf)
      · have hf := ifP hf c3
        refine g_iload_n hΓ (pc := 38) 2 (i := 2) dX1_oldest_38 rfl rfl ?_
        refine g_bipush hΓ (pc := 39) (v := -4) dX1_oldest_39 (by decide) ?_
        refine g_icmp_eq hΓ (pc := 41) (tgt := 65) dX1_oldest_41 (by decide) (fun c5 => ?_) (fun c5 => ?_)
        · have hf := ifP hf c5
          refine g_iload_n hΓ (pc := 65) 3 (i := 3) dX1_oldest_65 rfl rfl ?_
          refine g_istore_n hΓ (pc := 66) (i := 2) (lv' := [(2, .int y3), (0, .ref (ad 0)), (1, .int y1), (3, .int y3)]) dX1_oldest_66 rfl (by decide) rfl ?_
          obtain ⟨x6, hx6, hf⟩ := bindE hf
          refine g_iinc hΓ (pc := 67) 3 (i := 3) (v := x6) (lv' := [(3, .int x6), (2, .int y3), (0, .ref (ad 0)), (1, .int y1)]) dX1_oldest_67 rfl (Option.some.inj hx6) (by decide) rfl ?_
          refine g_goto hΓ (pc := 70) (tgt := 14) dX1_oldest_70 (by decide) ?_
          exact g_sub [2, 3, 1, 0] rfl (hk14 _ _ _ hf)
        · have hf := ifN hf c5
          refine g_aload_n hΓ (pc := 44) 0 (i := 0) dX1_oldest_44 rfl rfl ?_
          refine qX_house hΓ (pc := 45) hK 0 (by decide) q812 dX1_oldest_45 ?_
          refine qx_hgeta hΓ (pc := 48) hK (r := 0) (by decide) (k := 3) rfl q718 dX1_oldest_48 ?_
          refine g_iload_n hΓ (pc := 51) 3 (i := 3) dX1_oldest_51 rfl rfl ?_
          obtain ⟨x7, hx7, hf⟩ := bindE hf
          refine qx_iald hΓ (pc := 52) hK (r := 0) (by decide) rfl rfl hx7 dX1_oldest_52 ?_
          refine g_aload_n hΓ (pc := 53) 0 (i := 0) dX1_oldest_53 rfl rfl ?_
          refine qX_house hΓ (pc := 54) hK 0 (by decide) q812 dX1_oldest_54 ?_
          refine qx_hgeta hΓ (pc := 57) hK (r := 0) (by decide) (k := 3) rfl q718 dX1_oldest_57 ?_
          refine g_iload_n hΓ (pc := 60) 2 (i := 2) dX1_oldest_60 rfl rfl ?_
          obtain ⟨x8, hx8, hf⟩ := bindE hf
          refine qx_iald hΓ (pc := 61) hK (r := 0) (by decide) rfl rfl hx8 dX1_oldest_61 ?_
          refine g_icmp_ge hΓ (pc := 62) (tgt := 67) dX1_oldest_62 (by decide) (fun c9 => ?_) (fun c9 => ?_)
          · have hf := ifP hf c9
            obtain ⟨x10, hx10, hf⟩ := bindE hf
            refine g_iinc hΓ (pc := 67) 3 (i := 3) (v := x10) (lv' := [(3, .int x10), (0, .ref (ad 0)), (1, .int y1), (2, .int y2)]) dX1_oldest_67 rfl (Option.some.inj hx10) (by decide) rfl ?_
            refine g_goto hΓ (pc := 70) (tgt := 14) dX1_oldest_70 (by decide) ?_
            exact g_sub [1, 2, 3, 0] rfl (hk14 _ _ _ hf)
          · have hf := ifN hf c9
            refine g_iload_n hΓ (pc := 65) 3 (i := 3) dX1_oldest_65 rfl rfl ?_
            refine g_istore_n hΓ (pc := 66) (i := 2) (lv' := [(2, .int y3), (0, .ref (ad 0)), (1, .int y1), (3, .int y3)]) dX1_oldest_66 rfl (by decide) rfl ?_
            obtain ⟨x11, hx11, hf⟩ := bindE hf
            refine g_iinc hΓ (pc := 67) 3 (i := 3) (v := x11) (lv' := [(3, .int x11), (2, .int y3), (0, .ref (ad 0)), (1, .int y1)]) dX1_oldest_67 rfl (Option.some.inj hx11) (by decide) rfl ?_
            refine g_goto hΓ (pc := 70) (tgt := 14) dX1_oldest_70 (by decide) ?_
            exact g_sub [2, 3, 1, 0] rfl (hk14 _ _ _ hf)
  have L14 : ∀ (n : Nat) (y1 : Int32) (y2 : Int32) (y3 : Int32) (hf : X_oldest_14 x  n y1 y2 y3 = some z), WG Γ (XW D dA b ad P F gs x) 0 0 14 [(0, .ref (ad 0)), (1, .int y1), (2, .int y2), (3, .int y3)] [] := by
    intro  n
    induction n with
    | zero => intro y1 y2 y3 hf; exact nomatch (show (none : Option (Int32)) = some _ from hf)
    | succ n ih => exact S14  _ ih
  refine g_iload_n hΓ (pc := 0) 1 (i := 1) dX1_oldest_0 rfl rfl ?_
  obtain ⟨x12, hx12, hf⟩ := bindE hf
  refine qg_callS hΓ (pc := 1) 1 (As := [.int a0]) (metS_isPlace _ hx12) (lw_S q254 q255 q54 q256) (by decide +kernel) ⟨by decide, by decide, ⟨by show 0 ≤ 0; omega, by show 0 ≤ 0; omega⟩⟩ rfl rfl (Nat.le_of_ble_eq_true rfl) dX1_oldest_1 ?_
  refine g_if_ne hΓ (pc := 4) (tgt := 9) dX1_oldest_4 (by decide) (fun c13 => ?_) (fun c13 => ?_)
  · have hf := ifN hf c13
    refine g_bipush hΓ (pc := 9) (v := -4) dX1_oldest_9 (by decide) ?_
    refine g_istore_n hΓ (pc := 11) (i := 2) (lv' := [(2, .int (-4 : Int32)), (0, .ref (ad 0)), (1, .int a0)]) dX1_oldest_11 rfl (by decide) rfl ?_
    refine g_iconst hΓ (pc := 12) (v := 0) dX1_oldest_12 (by decide) ?_
    refine g_istore_n hΓ (pc := 13) (i := 3) (lv' := [(3, .int (0 : Int32)), (2, .int (-4 : Int32)), (0, .ref (ad 0)), (1, .int a0)]) dX1_oldest_13 rfl (by decide) rfl ?_
    exact g_sub [2, 3, 1, 0] rfl (L14  13 _ _ _ hf)
  · have hf := ifP hf c13
    refine g_iconst hΓ (pc := 7) (v := -1) dX1_oldest_7 (by decide) ?_
    exact qX_iretR hΓ hf dX1_oldest_8
def X_goes_2s (k2 : XS → Int32 → Int32 → Option (XS)) (x : XS) (y1 : Int32) (y2 : Int32) : Option (XS) :=
  if y1 ≤ y2 then (
    some x
  ) else (
    (H_goesFreely (x.1 3)).bind fun h2 =>
    (some (xh x 3 h2)).bind fun x3 =>
    (some (y2 + 1)).bind fun x4 =>
    k2 x3 y1 x4
  )
def X_goes_2 : Nat → XS → Int32 → Int32 → Option (XS)
  | 0 => fun _ _ _ => none
  | n + 1 => X_goes_2s   (X_goes_2   n)
def X_goes (x : XS) (a0 : Int32) : Option (XS) :=
  X_goes_2 61 x a0 (0 : Int32)
set_option maxHeartbeats 4000000 in
set_option maxRecDepth 100000 in
theorem metX_goes (l : Launch) {D : va_G} {dA : Nat → ClassId} {b : Nat} {ad : Nat → Nat} {P : Nat → Prop} {F : Nat → va_E} {gs : List (Nat × (Nat × Int32))} {x x' : XS} {a0 : Int32} (hf : X_goes x a0 = some x') : Met l yX1_goes (ws_ yX1_goes cX1_goes 3 none) (rmx_ 9 264 427 427) (xP D dA b ad P F gs [.ref (ad 0), .int a0] x) (xQ D dA b ad P F gs none x') 427 427 (fun q => b ≤ q) := by
  refine qx_met (by decide) RX1 rfl (Nat.le_of_ble_eq_true rfl) (fun Γ hΓ hK => ?_)
  refine g_sub [0, 1] (lv' := [(0, .ref (ad 0)), (1, .int a0)]) rfl ?_
  have S2 : ∀ (n2 : Nat) (hn2 : n2 + 1 ≤ 61) (k2 : XS → Int32 → Int32 → Option (XS)) (hk2 : ∀ (x : XS) (y1 : Int32) (y2 : Int32), k2 x y1 y2 = some x' → WG Γ (XW D dA b ad P F gs x) (0 + (61 - n2) * 7) (0 + (61 - n2) * 7) 2 [(0, .ref (ad 0)), (1, .int y1), (2, .int y2)] []) (x : XS) (y1 : Int32) (y2 : Int32) (hf : X_goes_2s  k2 x y1 y2 = some x'), WG Γ (XW D dA b ad P F gs x) (0 + (61 - (n2 + 1)) * 7) (0 + (61 - (n2 + 1)) * 7) 2 [(0, .ref (ad 0)), (1, .int y1), (2, .int y2)] [] := by
    intro n2 hn2 k2 hk2 x y1 y2 hf
    refine g_iload_n hΓ (pc := 2) 2 (i := 2) dX1_goes_2 rfl rfl ?_
    refine g_iload_n hΓ (pc := 3) 1 (i := 1) dX1_goes_3 rfl rfl ?_
    refine g_icmp_ge hΓ (pc := 4) (tgt := 20) dX1_goes_4 (by decide) (fun c1 => ?_) (fun c1 => ?_)
    · have hf := ifP hf c1
      refine g_wid (by omega) (by omega) (c2 := 427) (s2 := 427) ?_
      exact qX_vret hΓ hf dX1_goes_20
    · have hf := ifN hf c1
      refine g_aload_n hΓ (pc := 7) 0 (i := 0) dX1_goes_7 rfl rfl ?_
      refine qX_house hΓ (pc := 8) hK 3 (by decide) q815 dX1_goes_8 ?_
      obtain ⟨h2, hh2, hf⟩ := bindE hf
      refine qX_callH hΓ (pc := 11) hK (r := 3) (by decide) 0 (As := []) (metH_goesFreely _ (r := 3) (by decide) hh2) (lw_V q610 q365 q366 q55 q367) (by decide +kernel) (by decide) ⟨by show (0 + (61 - (n2 + 1)) * 7) + 7 ≤ 427; omega, by show (0 + (61 - (n2 + 1)) * 7) + 7 ≤ 427; omega⟩ rfl rfl (Nat.le_of_ble_eq_true rfl) dX1_goes_11 ?_
      refine g_wid (by omega) (by omega) (c2 := (7 + (61 - (n2 + 1)) * 7)) (s2 := (7 + (61 - (n2 + 1)) * 7)) ?_
      obtain ⟨x3, hx3, hf⟩ := bindE hf
      refine g_xeq hx3 ?_
      obtain ⟨x4, hx4, hf⟩ := bindE hf
      refine g_iinc hΓ (pc := 14) 2 (i := 2) (v := x4) (lv' := [(2, .int x4), (0, .ref (ad 0)), (1, .int y1)]) dX1_goes_14 rfl (Option.some.inj hx4) (by decide) rfl ?_
      refine g_goto hΓ (pc := 17) (tgt := 2) dX1_goes_17 (by decide) ?_
      refine g_wid (by omega) (by omega) (c2 := (0 + (61 - n2) * 7)) (s2 := (0 + (61 - n2) * 7)) ?_
      exact g_sub [1, 2, 0] rfl (hk2 _ _ _ hf)
  have L2 : ∀ (n2 : Nat) (hn : n2 ≤ 61) (x : XS) (y1 : Int32) (y2 : Int32) (hf : X_goes_2   n2 x y1 y2 = some x'), WG Γ (XW D dA b ad P F gs x) (0 + (61 - n2) * 7) (0 + (61 - n2) * 7) 2 [(0, .ref (ad 0)), (1, .int y1), (2, .int y2)] [] := by
    intro  n2
    induction n2 with
    | zero => intro hn x y1 y2 hf; exact nomatch (show (none : Option (XS)) = some _ from hf)
    | succ n2 ih => intro hn; exact S2  n2 hn _ (ih (by omega))
  refine g_iconst hΓ (pc := 0) (v := 0) dX1_goes_0 (by decide) ?_
  refine g_istore_n hΓ (pc := 1) (i := 2) (lv' := [(2, .int (0 : Int32)), (0, .ref (ad 0)), (1, .int a0)]) dX1_goes_1 rfl (by decide) rfl ?_
  exact g_sub [1, 2, 0] rfl (L2  61 (Nat.le_refl 61) _ _ _ hf)
def X_minds (x : XS) (a0 : Int32) : Option (XS) :=
  (H_takes (x.1 0)).bind fun h1 =>
  (some (xh x 3 h1)).bind fun x2 =>
  (X_goes x2 a0).bind fun x3 =>
  some x3
set_option maxHeartbeats 4000000 in
set_option maxRecDepth 100000 in
theorem metX_minds (l : Launch) {D : va_G} {dA : Nat → ClassId} {b : Nat} {ad : Nat → Nat} {P : Nat → Prop} {F : Nat → va_E} {gs : List (Nat × (Nat × Int32))} {x x' : XS} {a0 : Int32} (hf : X_minds x a0 = some x') : Met l yX1_minds (ws_ yX1_minds cX1_minds 2 none) (rmx_ 10 286 427 427) (xP D dA b ad P F gs [.ref (ad 0), .int a0] x) (xQ D dA b ad P F gs none x') 427 427 (fun q => b ≤ q) := by
  refine qx_met (by decide) RX1 rfl (Nat.le_of_ble_eq_true rfl) (fun Γ hΓ hK => ?_)
  refine g_sub [0, 1] (lv' := [(0, .ref (ad 0)), (1, .int a0)]) rfl ?_
  refine g_aload_n hΓ (pc := 0) 0 (i := 0) dX1_minds_0 rfl rfl ?_
  refine qX_house hΓ (pc := 1) hK 3 (by decide) q815 dX1_minds_1 ?_
  refine g_aload_n hΓ (pc := 4) 0 (i := 0) dX1_minds_4 rfl rfl ?_
  refine qX_house hΓ (pc := 5) hK 0 (by decide) q812 dX1_minds_5 ?_
  obtain ⟨h1, hh1, hf⟩ := bindE hf
  refine qX_callH hΓ (pc := 8) hK (r := 3) (by decide) 1 (As := [.ref (ad (hB 0 22))]) (metH_takes _ (r := 3) (r2 := 0) (by decide) (by decide) (by decide) hh1) (lw_V q93 q94 q95 q55 q96) (by decide +kernel) (by decide) ⟨by show 0 + 0 ≤ 427; omega, by show 0 + 0 ≤ 427; omega⟩ rfl rfl (Nat.le_of_ble_eq_true rfl) dX1_minds_8 ?_
  obtain ⟨x2, hx2, hf⟩ := bindE hf
  refine g_xeq hx2 ?_
  refine g_aload_n hΓ (pc := 11) 0 (i := 0) dX1_minds_11 rfl rfl ?_
  refine g_iload_n hΓ (pc := 12) 1 (i := 1) dX1_minds_12 rfl rfl ?_
  obtain ⟨x3, hx3, hf⟩ := bindE hf
  refine qX_callV hΓ (pc := 13) hK 1 (As := [.int a0]) (metX_goes _ hx3) (lw_V q606 q608 qs12 q54 q609) (by decide +kernel) (by decide) ⟨by show 0 + 427 ≤ 427; omega, by show 0 + 427 ≤ 427; omega⟩ rfl rfl (Nat.le_of_ble_eq_true rfl) dX1_minds_13 ?_
  refine g_wid (by omega) (by omega) (c2 := 427) (s2 := 427) ?_
  exact qX_vret hΓ hf dX1_minds_16
def X_mistakes (x : XS) (a0 : Int32) : Option (Int32 × XS) :=
  (S_isAhead a0).bind fun x1 =>
  if x1 = 0 then (
    some ((-1 : Int32), x)
  ) else (
    (X_minds x a0).bind fun x3 =>
    some ((x3.1 3).2.2 20, x3)
  )
set_option maxHeartbeats 4000000 in
set_option maxRecDepth 100000 in
theorem metX_mistakes (l : Launch) {D : va_G} {dA : Nat → ClassId} {b : Nat} {ad : Nat → Nat} {P : Nat → Prop} {F : Nat → va_E} {gs : List (Nat × (Nat × Int32))} {x x' : XS} {a0 : Int32} {z : Int32} (hf : X_mistakes x a0 = some (z, x')) : Met l yX1_mistakes (ws_ yX1_mistakes cX1_mistakes 2 (some .int)) (rmx_ 11 307 427 427) (xP D dA b ad P F gs [.ref (ad 0), .int a0] x) (xQ D dA b ad P F gs (some (.int z)) x') 427 427 (fun q => b ≤ q) := by
  refine qx_met (by decide) RX1 rfl (Nat.le_of_ble_eq_true rfl) (fun Γ hΓ hK => ?_)
  refine g_sub [0, 1] (lv' := [(0, .ref (ad 0)), (1, .int a0)]) rfl ?_
  refine g_iload_n hΓ (pc := 0) 1 (i := 1) dX1_mistakes_0 rfl rfl ?_
  obtain ⟨x1, hx1, hf⟩ := bindE hf
  refine qg_callS hΓ (pc := 1) 1 (As := [.int a0]) (metS_isAhead _ hx1) (lw_S q599 q600 q54 q601) (by decide +kernel) ⟨by decide, by decide, ⟨by show 0 ≤ 427; omega, by show 0 ≤ 427; omega⟩⟩ rfl rfl (Nat.le_of_ble_eq_true rfl) dX1_mistakes_1 ?_
  refine g_if_ne hΓ (pc := 4) (tgt := 9) dX1_mistakes_4 (by decide) (fun c2 => ?_) (fun c2 => ?_)
  · have hf := ifN hf c2
    refine g_aload_n hΓ (pc := 9) 0 (i := 0) dX1_mistakes_9 rfl rfl ?_
    refine g_iload_n hΓ (pc := 10) 1 (i := 1) dX1_mistakes_10 rfl rfl ?_
    obtain ⟨x3, hx3, hf⟩ := bindE hf
    refine qX_callV hΓ (pc := 11) hK 1 (As := [.int a0]) (metX_minds _ hx3) (lw_V q602 q604 qs11 q54 q605) (by decide +kernel) (by decide) ⟨by show 0 + 427 ≤ 427; omega, by show 0 + 427 ≤ 427; omega⟩ rfl rfl (Nat.le_of_ble_eq_true rfl) dX1_mistakes_11 ?_
    refine g_wid (by omega) (by omega) (c2 := 427) (s2 := 427) ?_
    refine g_aload_n hΓ (pc := 14) 0 (i := 0) dX1_mistakes_14 rfl rfl ?_
    refine qX_house hΓ (pc := 15) hK 3 (by decide) q815 dX1_mistakes_15 ?_
    refine qx_hget hΓ (pc := 18) hK (r := 3) (by decide) rfl (k := 20) rfl q752 dX1_mistakes_18 ?_
    exact qX_iret hΓ hf dX1_mistakes_21
  · have hf := ifP hf c2
    refine g_iconst hΓ (pc := 7) (v := -1) dX1_mistakes_7 (by decide) ?_
    refine g_wid (by omega) (by omega) (c2 := 427) (s2 := 427) ?_
    exact qX_iret hΓ hf dX1_mistakes_8
def X_fresh (x : XS) (a0 : Int32) : Option (Int32 × XS) :=
  (S_isAhead a0).bind fun x1 =>
  if x1 = 0 then (
    some ((-1 : Int32), x)
  ) else (
    (X_minds x a0).bind fun x3 =>
    some ((x3.1 3).2.2 21, x3)
  )
set_option maxHeartbeats 4000000 in
set_option maxRecDepth 100000 in
theorem metX_fresh (l : Launch) {D : va_G} {dA : Nat → ClassId} {b : Nat} {ad : Nat → Nat} {P : Nat → Prop} {F : Nat → va_E} {gs : List (Nat × (Nat × Int32))} {x x' : XS} {a0 : Int32} {z : Int32} (hf : X_fresh x a0 = some (z, x')) : Met l yX1_fresh (ws_ yX1_fresh cX1_fresh 2 (some .int)) (rmx_ 11 307 427 427) (xP D dA b ad P F gs [.ref (ad 0), .int a0] x) (xQ D dA b ad P F gs (some (.int z)) x') 427 427 (fun q => b ≤ q) := by
  refine qx_met (by decide) RX1 rfl (Nat.le_of_ble_eq_true rfl) (fun Γ hΓ hK => ?_)
  refine g_sub [0, 1] (lv' := [(0, .ref (ad 0)), (1, .int a0)]) rfl ?_
  refine g_iload_n hΓ (pc := 0) 1 (i := 1) dX1_fresh_0 rfl rfl ?_
  obtain ⟨x1, hx1, hf⟩ := bindE hf
  refine qg_callS hΓ (pc := 1) 1 (As := [.int a0]) (metS_isAhead _ hx1) (lw_S q599 q600 q54 q601) (by decide +kernel) ⟨by decide, by decide, ⟨by show 0 ≤ 427; omega, by show 0 ≤ 427; omega⟩⟩ rfl rfl (Nat.le_of_ble_eq_true rfl) dX1_fresh_1 ?_
  refine g_if_ne hΓ (pc := 4) (tgt := 9) dX1_fresh_4 (by decide) (fun c2 => ?_) (fun c2 => ?_)
  · have hf := ifN hf c2
    refine g_aload_n hΓ (pc := 9) 0 (i := 0) dX1_fresh_9 rfl rfl ?_
    refine g_iload_n hΓ (pc := 10) 1 (i := 1) dX1_fresh_10 rfl rfl ?_
    obtain ⟨x3, hx3, hf⟩ := bindE hf
    refine qX_callV hΓ (pc := 11) hK 1 (As := [.int a0]) (metX_minds _ hx3) (lw_V q602 q604 qs11 q54 q605) (by decide +kernel) (by decide) ⟨by show 0 + 427 ≤ 427; omega, by show 0 + 427 ≤ 427; omega⟩ rfl rfl (Nat.le_of_ble_eq_true rfl) dX1_fresh_11 ?_
    refine g_wid (by omega) (by omega) (c2 := 427) (s2 := 427) ?_
    refine g_aload_n hΓ (pc := 14) 0 (i := 0) dX1_fresh_14 rfl rfl ?_
    refine qX_house hΓ (pc := 15) hK 3 (by decide) q815 dX1_fresh_15 ?_
    refine qx_hget hΓ (pc := 18) hK (r := 3) (by decide) rfl (k := 21) rfl q754 dX1_fresh_18 ?_
    exact qX_iret hΓ hf dX1_fresh_21
  · have hf := ifP hf c2
    refine g_iconst hΓ (pc := 7) (v := -1) dX1_fresh_7 (by decide) ?_
    refine g_wid (by omega) (by omega) (c2 := 427) (s2 := 427) ?_
    exact qX_iret hΓ hf dX1_fresh_8
def X_colds (x : XS) (a0 : Int32) : Option (Int32 × XS) :=
  (S_isAhead a0).bind fun x1 =>
  if x1 = 0 then (
    some ((-1 : Int32), x)
  ) else (
    (X_minds x a0).bind fun x3 =>
    some ((x3.1 3).2.2 18, x3)
  )
set_option maxHeartbeats 4000000 in
set_option maxRecDepth 100000 in
theorem metX_colds (l : Launch) {D : va_G} {dA : Nat → ClassId} {b : Nat} {ad : Nat → Nat} {P : Nat → Prop} {F : Nat → va_E} {gs : List (Nat × (Nat × Int32))} {x x' : XS} {a0 : Int32} {z : Int32} (hf : X_colds x a0 = some (z, x')) : Met l yX1_colds (ws_ yX1_colds cX1_colds 2 (some .int)) (rmx_ 11 307 427 427) (xP D dA b ad P F gs [.ref (ad 0), .int a0] x) (xQ D dA b ad P F gs (some (.int z)) x') 427 427 (fun q => b ≤ q) := by
  refine qx_met (by decide) RX1 rfl (Nat.le_of_ble_eq_true rfl) (fun Γ hΓ hK => ?_)
  refine g_sub [0, 1] (lv' := [(0, .ref (ad 0)), (1, .int a0)]) rfl ?_
  refine g_iload_n hΓ (pc := 0) 1 (i := 1) dX1_colds_0 rfl rfl ?_
  obtain ⟨x1, hx1, hf⟩ := bindE hf
  refine qg_callS hΓ (pc := 1) 1 (As := [.int a0]) (metS_isAhead _ hx1) (lw_S q599 q600 q54 q601) (by decide +kernel) ⟨by decide, by decide, ⟨by show 0 ≤ 427; omega, by show 0 ≤ 427; omega⟩⟩ rfl rfl (Nat.le_of_ble_eq_true rfl) dX1_colds_1 ?_
  refine g_if_ne hΓ (pc := 4) (tgt := 9) dX1_colds_4 (by decide) (fun c2 => ?_) (fun c2 => ?_)
  · have hf := ifN hf c2
    refine g_aload_n hΓ (pc := 9) 0 (i := 0) dX1_colds_9 rfl rfl ?_
    refine g_iload_n hΓ (pc := 10) 1 (i := 1) dX1_colds_10 rfl rfl ?_
    obtain ⟨x3, hx3, hf⟩ := bindE hf
    refine qX_callV hΓ (pc := 11) hK 1 (As := [.int a0]) (metX_minds _ hx3) (lw_V q602 q604 qs11 q54 q605) (by decide +kernel) (by decide) ⟨by show 0 + 427 ≤ 427; omega, by show 0 + 427 ≤ 427; omega⟩ rfl rfl (Nat.le_of_ble_eq_true rfl) dX1_colds_11 ?_
    refine g_wid (by omega) (by omega) (c2 := 427) (s2 := 427) ?_
    refine g_aload_n hΓ (pc := 14) 0 (i := 0) dX1_colds_14 rfl rfl ?_
    refine qX_house hΓ (pc := 15) hK 3 (by decide) q815 dX1_colds_15 ?_
    refine qx_hget hΓ (pc := 18) hK (r := 3) (by decide) rfl (k := 18) rfl q748 dX1_colds_18 ?_
    exact qX_iret hΓ hf dX1_colds_21
  · have hf := ifP hf c2
    refine g_iconst hΓ (pc := 7) (v := -1) dX1_colds_7 (by decide) ?_
    refine g_wid (by omega) (by omega) (c2 := 427) (s2 := 427) ?_
    exact qX_iret hΓ hf dX1_colds_8
def X_had (x : XS) (a0 : Int32) (a1 : Int32) : Option (Int32 × XS) :=
  (H_isGuest (x.1 0) a0).bind fun x1 =>
  if x1 = 0 then (
    some ((-1 : Int32), x)
  ) else (
    (S_isAhead a1).bind fun x3 =>
    if x3 = 0 then (
      some ((-1 : Int32), x)
    ) else (
      (X_minds x a1).bind fun x5 =>
      (hR (x5.1 3) 13 a0).bind fun x6 =>
      some (x6, x5)
    )
  )
set_option maxHeartbeats 4000000 in
set_option maxRecDepth 100000 in
theorem metX_had (l : Launch) {D : va_G} {dA : Nat → ClassId} {b : Nat} {ad : Nat → Nat} {P : Nat → Prop} {F : Nat → va_E} {gs : List (Nat × (Nat × Int32))} {x x' : XS} {a0 : Int32} {a1 : Int32} {z : Int32} (hf : X_had x a0 a1 = some (z, x')) : Met l yX1_had (ws_ yX1_had cX1_had 3 (some .int)) (rmx_ 11 307 427 427) (xP D dA b ad P F gs [.ref (ad 0), .int a0, .int a1] x) (xQ D dA b ad P F gs (some (.int z)) x') 427 427 (fun q => b ≤ q) := by
  refine qx_met (by decide) RX1 rfl (Nat.le_of_ble_eq_true rfl) (fun Γ hΓ hK => ?_)
  refine g_sub [0, 1, 2] (lv' := [(0, .ref (ad 0)), (1, .int a0), (2, .int a1)]) rfl ?_
  refine g_aload_n hΓ (pc := 0) 0 (i := 0) dX1_had_0 rfl rfl ?_
  refine qX_house hΓ (pc := 1) hK 0 (by decide) q812 dX1_had_1 ?_
  refine g_iload_n hΓ (pc := 4) 1 (i := 1) dX1_had_4 rfl rfl ?_
  obtain ⟨x1, hx1, hf⟩ := bindE hf
  refine qX_callH hΓ (pc := 5) hK (r := 0) (by decide) 1 (As := [.int a0]) (metH_isGuest _ (r := 0) (by decide) hx1) (lw_V q343 q344 q345 q55 q346) (by decide +kernel) (by decide) ⟨by show 0 + 0 ≤ 427; omega, by show 0 + 0 ≤ 427; omega⟩ rfl rfl (Nat.le_of_ble_eq_true rfl) dX1_had_5 ?_
  refine g_xs ?_
  refine g_if_eq hΓ (pc := 8) (tgt := 18) dX1_had_8 (by decide) (fun c2 => ?_) (fun c2 => ?_)
  · have hf := ifP hf c2
    refine g_iconst hΓ (pc := 18) (v := -1) dX1_had_18 (by decide) ?_
    refine g_wid (by omega) (by omega) (c2 := 427) (s2 := 427) ?_
    exact qX_iret hΓ hf dX1_had_19
  · have hf := ifN hf c2
    refine g_iload_n hΓ (pc := 11) 2 (i := 2) dX1_had_11 rfl rfl ?_
    obtain ⟨x3, hx3, hf⟩ := bindE hf
    refine qg_callS hΓ (pc := 12) 1 (As := [.int a1]) (metS_isAhead _ hx3) (lw_S q599 q600 q54 q601) (by decide +kernel) ⟨by decide, by decide, ⟨by show 0 ≤ 427; omega, by show 0 ≤ 427; omega⟩⟩ rfl rfl (Nat.le_of_ble_eq_true rfl) dX1_had_12 ?_
    refine g_if_ne hΓ (pc := 15) (tgt := 20) dX1_had_15 (by decide) (fun c4 => ?_) (fun c4 => ?_)
    · have hf := ifN hf c4
      refine g_aload_n hΓ (pc := 20) 0 (i := 0) dX1_had_20 rfl rfl ?_
      refine g_iload_n hΓ (pc := 21) 2 (i := 2) dX1_had_21 rfl rfl ?_
      obtain ⟨x5, hx5, hf⟩ := bindE hf
      refine qX_callV hΓ (pc := 22) hK 1 (As := [.int a1]) (metX_minds _ hx5) (lw_V q602 q604 qs11 q54 q605) (by decide +kernel) (by decide) ⟨by show 0 + 427 ≤ 427; omega, by show 0 + 427 ≤ 427; omega⟩ rfl rfl (Nat.le_of_ble_eq_true rfl) dX1_had_22 ?_
      refine g_wid (by omega) (by omega) (c2 := 427) (s2 := 427) ?_
      refine g_aload_n hΓ (pc := 25) 0 (i := 0) dX1_had_25 rfl rfl ?_
      refine qX_house hΓ (pc := 26) hK 3 (by decide) q815 dX1_had_26 ?_
      refine qx_hgeta hΓ (pc := 29) hK (r := 3) (by decide) (k := 13) rfl q738 dX1_had_29 ?_
      refine g_iload_n hΓ (pc := 32) 1 (i := 1) dX1_had_32 rfl rfl ?_
      obtain ⟨x6, hx6, hf⟩ := bindE hf
      refine qx_iald hΓ (pc := 33) hK (r := 3) (by decide) rfl rfl hx6 dX1_had_33 ?_
      exact qX_iret hΓ hf dX1_had_34
    · have hf := ifP hf c4
      refine g_iconst hΓ (pc := 18) (v := -1) dX1_had_18 (by decide) ?_
      refine g_wid (by omega) (by omega) (c2 := 427) (s2 := 427) ?_
      exact qX_iret hΓ hf dX1_had_19
def X_where (x : XS) (a0 : Int32) (a1 : Int32) : Option (Int32 × XS) :=
  (H_isGlass (x.1 0) a0).bind fun x1 =>
  if x1 = 0 then (
    some ((-1 : Int32), x)
  ) else (
    (S_isAhead a1).bind fun x3 =>
    if x3 = 0 then (
      some ((-1 : Int32), x)
    ) else (
      (X_minds x a1).bind fun x5 =>
      (hR (x5.1 3) 2 a0).bind fun x6 =>
      some (x6, x5)
    )
  )
set_option maxHeartbeats 4000000 in
set_option maxRecDepth 100000 in
theorem metX_where (l : Launch) {D : va_G} {dA : Nat → ClassId} {b : Nat} {ad : Nat → Nat} {P : Nat → Prop} {F : Nat → va_E} {gs : List (Nat × (Nat × Int32))} {x x' : XS} {a0 : Int32} {a1 : Int32} {z : Int32} (hf : X_where x a0 a1 = some (z, x')) : Met l yX1_where (ws_ yX1_where cX1_where 3 (some .int)) (rmx_ 11 307 427 427) (xP D dA b ad P F gs [.ref (ad 0), .int a0, .int a1] x) (xQ D dA b ad P F gs (some (.int z)) x') 427 427 (fun q => b ≤ q) := by
  refine qx_met (by decide) RX1 rfl (Nat.le_of_ble_eq_true rfl) (fun Γ hΓ hK => ?_)
  refine g_sub [0, 1, 2] (lv' := [(0, .ref (ad 0)), (1, .int a0), (2, .int a1)]) rfl ?_
  refine g_aload_n hΓ (pc := 0) 0 (i := 0) dX1_where_0 rfl rfl ?_
  refine qX_house hΓ (pc := 1) hK 0 (by decide) q812 dX1_where_1 ?_
  refine g_iload_n hΓ (pc := 4) 1 (i := 1) dX1_where_4 rfl rfl ?_
  obtain ⟨x1, hx1, hf⟩ := bindE hf
  refine qX_callH hΓ (pc := 5) hK (r := 0) (by decide) 1 (As := [.int a0]) (metH_isGlass _ (r := 0) (by decide) hx1) (lw_V q348 q349 q350 q55 q351) (by decide +kernel) (by decide) ⟨by show 0 + 0 ≤ 427; omega, by show 0 + 0 ≤ 427; omega⟩ rfl rfl (Nat.le_of_ble_eq_true rfl) dX1_where_5 ?_
  refine g_xs ?_
  refine g_if_eq hΓ (pc := 8) (tgt := 18) dX1_where_8 (by decide) (fun c2 => ?_) (fun c2 => ?_)
  · have hf := ifP hf c2
    refine g_iconst hΓ (pc := 18) (v := -1) dX1_where_18 (by decide) ?_
    refine g_wid (by omega) (by omega) (c2 := 427) (s2 := 427) ?_
    exact qX_iret hΓ hf dX1_where_19
  · have hf := ifN hf c2
    refine g_iload_n hΓ (pc := 11) 2 (i := 2) dX1_where_11 rfl rfl ?_
    obtain ⟨x3, hx3, hf⟩ := bindE hf
    refine qg_callS hΓ (pc := 12) 1 (As := [.int a1]) (metS_isAhead _ hx3) (lw_S q599 q600 q54 q601) (by decide +kernel) ⟨by decide, by decide, ⟨by show 0 ≤ 427; omega, by show 0 ≤ 427; omega⟩⟩ rfl rfl (Nat.le_of_ble_eq_true rfl) dX1_where_12 ?_
    refine g_if_ne hΓ (pc := 15) (tgt := 20) dX1_where_15 (by decide) (fun c4 => ?_) (fun c4 => ?_)
    · have hf := ifN hf c4
      refine g_aload_n hΓ (pc := 20) 0 (i := 0) dX1_where_20 rfl rfl ?_
      refine g_iload_n hΓ (pc := 21) 2 (i := 2) dX1_where_21 rfl rfl ?_
      obtain ⟨x5, hx5, hf⟩ := bindE hf
      refine qX_callV hΓ (pc := 22) hK 1 (As := [.int a1]) (metX_minds _ hx5) (lw_V q602 q604 qs11 q54 q605) (by decide +kernel) (by decide) ⟨by show 0 + 427 ≤ 427; omega, by show 0 + 427 ≤ 427; omega⟩ rfl rfl (Nat.le_of_ble_eq_true rfl) dX1_where_22 ?_
      refine g_wid (by omega) (by omega) (c2 := 427) (s2 := 427) ?_
      refine g_aload_n hΓ (pc := 25) 0 (i := 0) dX1_where_25 rfl rfl ?_
      refine qX_house hΓ (pc := 26) hK 3 (by decide) q815 dX1_where_26 ?_
      refine qx_hgeta hΓ (pc := 29) hK (r := 3) (by decide) (k := 2) rfl q716 dX1_where_29 ?_
      refine g_iload_n hΓ (pc := 32) 1 (i := 1) dX1_where_32 rfl rfl ?_
      obtain ⟨x6, hx6, hf⟩ := bindE hf
      refine qx_iald hΓ (pc := 33) hK (r := 3) (by decide) rfl rfl hx6 dX1_where_33 ?_
      exact qX_iret hΓ hf dX1_where_34
    · have hf := ifP hf c4
      refine g_iconst hΓ (pc := 18) (v := -1) dX1_where_18 (by decide) ?_
      refine g_wid (by omega) (by omega) (c2 := 427) (s2 := 427) ?_
      exact qX_iret hΓ hf dX1_where_19
def X_brought_70s (k33 : XS → Int32 → Int32 → Int32 → Int32 → Option (Int32 × XS)) (k70 : XS → Int32 → Int32 → Int32 → Int32 → Int32 → Option (Int32 × XS)) (x : XS) (y1 : Int32) (y2 : Int32) (y3 : Int32) (y4 : Int32) (y5 : Int32) : Option (Int32 × XS) :=
  if (12 : Int32) ≤ y5 then (
    (X_goes x y2).bind fun x2 =>
    if ((x2.1 3).2.2 18) = y1 then (
      (some (y3 ||| ((1 : Int32) <<< (y4 &&& 31)))).bind fun x6 =>
      (some (y4 + 1)).bind fun x7 =>
      k33 x2 y1 y2 x6 x7
    ) else (
      (some (y3 ||| (0 : Int32))).bind fun x4 =>
      (some (y4 + 1)).bind fun x5 =>
      k33 x2 y1 y2 x4 x5
    )
  ) else (
    (xhZ x 3 5 y5 (0 : Int32)).bind fun x8 =>
    (some (y5 + 1)).bind fun x9 =>
    k70 x8 y1 y2 y3 y4 x9
  )
def X_brought_70 (k33 : XS → Int32 → Int32 → Int32 → Int32 → Option (Int32 × XS)) : Nat → XS → Int32 → Int32 → Int32 → Int32 → Int32 → Option (Int32 × XS)
  | 0 => fun _ _ _ _ _ _ => none
  | n + 1 => X_brought_70s  k33 (X_brought_70  k33 n)
def X_brought_33s (k33 : XS → Int32 → Int32 → Int32 → Int32 → Option (Int32 × XS)) (x : XS) (y1 : Int32) (y2 : Int32) (y3 : Int32) (y4 : Int32) : Option (Int32 × XS) :=
  if ((x.1 0).2.2 15) ≤ y4 then (
    some (y3, x)
  ) else (
    (H_takes (x.1 0)).bind fun h11 =>
    (some (xh x 3 h11)).bind fun x12 =>
    (xhS x12 3 18 ((1 : Int32) <<< (y4 &&& 31))).bind fun x13 =>
    X_brought_70 k33 13 x13 y1 y2 y3 y4 (0 : Int32)
  )
def X_brought_33 : Nat → XS → Int32 → Int32 → Int32 → Int32 → Option (Int32 × XS)
  | 0 => fun _ _ _ _ _ => none
  | n + 1 => X_brought_33s   (X_brought_33   n)
def X_brought (x : XS) (a0 : Int32) (a1 : Int32) : Option (Int32 × XS) :=
  (S_isIn a0 (0 : Int32) (((1 : Int32) <<< (((x.1 0).2.2 15) &&& 31)) - (1 : Int32))).bind fun x14 =>
  if x14 = 0 then (
    some ((-1 : Int32), x)
  ) else (
    (S_isAhead a1).bind fun x16 =>
    if x16 = 0 then (
      some ((-1 : Int32), x)
    ) else (
      X_brought_33 7 x a0 a1 (0 : Int32) (0 : Int32)
    )
  )
set_option maxHeartbeats 4000000 in
set_option maxRecDepth 100000 in
theorem metX_brought (l : Launch) {D : va_G} {dA : Nat → ClassId} {b : Nat} {ad : Nat → Nat} {P : Nat → Prop} {F : Nat → va_E} {gs : List (Nat × (Nat × Int32))} {x x' : XS} {a0 : Int32} {a1 : Int32} {z : Int32} (hf : X_brought x a0 a1 = some (z, x')) : Met l yX1_brought (ws_ yX1_brought cX1_brought 6 (some .int)) (rmx_ 10 286 2989 2989) (xP D dA b ad P F gs [.ref (ad 0), .int a0, .int a1] x) (xQ D dA b ad P F gs (some (.int z)) x') 2989 2989 (fun q => b ≤ q) := by
  refine qx_met (by decide) RX1 rfl (Nat.le_of_ble_eq_true rfl) (fun Γ hΓ hK => ?_)
  refine g_sub [0, 1, 2] (lv' := [(0, .ref (ad 0)), (1, .int a0), (2, .int a1)]) rfl ?_
  have S70 : ∀ (n33 : Nat) (hn33 : n33 + 1 ≤ 7) (k33 : XS → Int32 → Int32 → Int32 → Int32 → Option (Int32 × XS)) (hk33 : ∀ (x : XS) (y1 : Int32) (y2 : Int32) (y3 : Int32) (y4 : Int32), k33 x y1 y2 y3 y4 = some (z, x') → WG Γ (XW D dA b ad P F gs x) (0 + (7 - n33) * 427) (0 + (7 - n33) * 427) 33 [(0, .ref (ad 0)), (1, .int y1), (2, .int y2), (3, .int y3), (4, .int y4)] []) (k70 : XS → Int32 → Int32 → Int32 → Int32 → Int32 → Option (Int32 × XS)) (hk70 : ∀ (x : XS) (y1 : Int32) (y2 : Int32) (y3 : Int32) (y4 : Int32) (y5 : Int32), k70 x y1 y2 y3 y4 y5 = some (z, x') → WG Γ (XW D dA b ad P F gs x) (0 + (7 - (n33 + 1)) * 427) (0 + (7 - (n33 + 1)) * 427) 70 [(0, .ref (ad 0)), (1, .int y1), (2, .int y2), (3, .int y3), (4, .int y4), (5, .int y5)] []) (x : XS) (y1 : Int32) (y2 : Int32) (y3 : Int32) (y4 : Int32) (y5 : Int32) (hf : X_brought_70s  k33 k70 x y1 y2 y3 y4 y5 = some (z, x')), WG Γ (XW D dA b ad P F gs x) (0 + (7 - (n33 + 1)) * 427) (0 + (7 - (n33 + 1)) * 427) 70 [(0, .ref (ad 0)), (1, .int y1), (2, .int y2), (3, .int y3), (4, .int y4), (5, .int y5)] [] := by
    intro n33 hn33 k33 hk33 k70 hk70 x y1 y2 y3 y4 y5 hf
    refine g_iload hΓ (pc := 70) 5 (i := 5) dX1_brought_70 rfl ?_
    refine g_bipush hΓ (pc := 72) (v := 12) dX1_brought_72 (by decide) ?_
    refine g_icmp_ge hΓ (pc := 74) (tgt := 94) dX1_brought_74 (by decide) (fun c1 => ?_) (fun c1 => ?_)
    · have hf := ifP hf c1
      refine g_aload_n hΓ (pc := 94) 0 (i := 0) dX1_brought_94 rfl rfl ?_
      refine g_iload_n hΓ (pc := 95) 2 (i := 2) dX1_brought_95 rfl rfl ?_
      obtain ⟨x2, hx2, hf⟩ := bindE hf
      refine qX_callV hΓ (pc := 96) hK 1 (As := [.int y2]) (metX_goes _ hx2) (lw_V q606 q608 qs12 q54 q609) (by decide +kernel) (by decide) ⟨by show (0 + (7 - (n33 + 1)) * 427) + 427 ≤ 2989; omega, by show (0 + (7 - (n33 + 1)) * 427) + 427 ≤ 2989; omega⟩ rfl rfl (Nat.le_of_ble_eq_true rfl) dX1_brought_96 ?_
      refine g_wid (by omega) (by omega) (c2 := (427 + (7 - (n33 + 1)) * 427)) (s2 := (427 + (7 - (n33 + 1)) * 427)) ?_
      refine g_iload_n hΓ (pc := 99) 3 (i := 3) dX1_brought_99 rfl rfl ?_
      refine g_aload_n hΓ (pc := 100) 0 (i := 0) dX1_brought_100 rfl rfl ?_
      refine qX_house hΓ (pc := 101) hK 3 (by decide) q815 dX1_brought_101 ?_
      refine qx_hget hΓ (pc := 104) hK (r := 3) (by decide) rfl (k := 18) rfl q748 dX1_brought_104 ?_
      refine g_iload_n hΓ (pc := 107) 1 (i := 1) dX1_brought_107 rfl rfl ?_
      refine g_icmp_ne hΓ (pc := 108) (tgt := 118) dX1_brought_108 (by decide) (fun c3 => ?_) (fun c3 => ?_)
      · have hf := ifN hf c3
        refine g_iconst hΓ (pc := 118) (v := 0) dX1_brought_118 (by decide) ?_
        refine g_ior hΓ (pc := 119) dX1_brought_119 ?_
        obtain ⟨x4, hx4, hf⟩ := bindE hf
        refine g_topi hx4 ?_
        refine g_istore_n hΓ (pc := 120) (i := 3) (lv' := [(3, .int x4), (0, .ref (ad 0)), (1, .int y1), (2, .int y2), (4, .int y4), (5, .int y5)]) dX1_brought_120 rfl (by decide) rfl ?_
        obtain ⟨x5, hx5, hf⟩ := bindE hf
        refine g_iinc hΓ (pc := 121) 4 (i := 4) (v := x5) (lv' := [(4, .int x5), (3, .int x4), (0, .ref (ad 0)), (1, .int y1), (2, .int y2), (5, .int y5)]) dX1_brought_121 rfl (Option.some.inj hx5) (by decide) rfl ?_
        refine g_goto hΓ (pc := 124) (tgt := 33) dX1_brought_124 (by decide) ?_
        refine g_wid (by omega) (by omega) (c2 := (0 + (7 - n33) * 427)) (s2 := (0 + (7 - n33) * 427)) ?_
        exact g_sub [2, 3, 4, 1, 0] rfl (hk33 _ _ _ _ _ hf)
      · have hf := ifP hf c3
        refine g_iconst hΓ (pc := 111) (v := 1) dX1_brought_111 (by decide) ?_
        refine g_iload hΓ (pc := 112) 4 (i := 4) dX1_brought_112 rfl ?_
        refine g_ishl hΓ (pc := 114) dX1_brought_114 ?_
        refine g_goto hΓ (pc := 115) (tgt := 119) dX1_brought_115 (by decide) ?_
        refine g_ior hΓ (pc := 119) dX1_brought_119 ?_
        obtain ⟨x6, hx6, hf⟩ := bindE hf
        refine g_topi hx6 ?_
        refine g_istore_n hΓ (pc := 120) (i := 3) (lv' := [(3, .int x6), (0, .ref (ad 0)), (1, .int y1), (2, .int y2), (4, .int y4), (5, .int y5)]) dX1_brought_120 rfl (by decide) rfl ?_
        obtain ⟨x7, hx7, hf⟩ := bindE hf
        refine g_iinc hΓ (pc := 121) 4 (i := 4) (v := x7) (lv' := [(4, .int x7), (3, .int x6), (0, .ref (ad 0)), (1, .int y1), (2, .int y2), (5, .int y5)]) dX1_brought_121 rfl (Option.some.inj hx7) (by decide) rfl ?_
        refine g_goto hΓ (pc := 124) (tgt := 33) dX1_brought_124 (by decide) ?_
        refine g_wid (by omega) (by omega) (c2 := (0 + (7 - n33) * 427)) (s2 := (0 + (7 - n33) * 427)) ?_
        exact g_sub [2, 3, 4, 1, 0] rfl (hk33 _ _ _ _ _ hf)
    · have hf := ifN hf c1
      refine g_aload_n hΓ (pc := 77) 0 (i := 0) dX1_brought_77 rfl rfl ?_
      refine qX_house hΓ (pc := 78) hK 3 (by decide) q815 dX1_brought_78 ?_
      refine qx_hgeta hΓ (pc := 81) hK (r := 3) (by decide) (k := 5) rfl q722 dX1_brought_81 ?_
      refine g_iload hΓ (pc := 84) 5 (i := 5) dX1_brought_84 rfl ?_
      refine g_iconst hΓ (pc := 86) (v := 0) dX1_brought_86 (by decide) ?_
      obtain ⟨x8, hx8, hf⟩ := bindE hf
      refine qX_zast hΓ (pc := 87) hK (r := 3) (by decide) hx8 dX1_brought_87 ?_
      obtain ⟨x9, hx9, hf⟩ := bindE hf
      refine g_iinc hΓ (pc := 88) 5 (i := 5) (v := x9) (lv' := [(5, .int x9), (0, .ref (ad 0)), (1, .int y1), (2, .int y2), (3, .int y3), (4, .int y4)]) dX1_brought_88 rfl (Option.some.inj hx9) (by decide) rfl ?_
      refine g_goto hΓ (pc := 91) (tgt := 70) dX1_brought_91 (by decide) ?_
      exact g_sub [1, 2, 3, 4, 5, 0] rfl (hk70 _ _ _ _ _ _ hf)
  have L70 : ∀ (n33 : Nat) (hn33 : n33 + 1 ≤ 7) (k33 : XS → Int32 → Int32 → Int32 → Int32 → Option (Int32 × XS)) (hk33 : ∀ (x : XS) (y1 : Int32) (y2 : Int32) (y3 : Int32) (y4 : Int32), k33 x y1 y2 y3 y4 = some (z, x') → WG Γ (XW D dA b ad P F gs x) (0 + (7 - n33) * 427) (0 + (7 - n33) * 427) 33 [(0, .ref (ad 0)), (1, .int y1), (2, .int y2), (3, .int y3), (4, .int y4)] []) (n : Nat) (x : XS) (y1 : Int32) (y2 : Int32) (y3 : Int32) (y4 : Int32) (y5 : Int32) (hf : X_brought_70  k33 n x y1 y2 y3 y4 y5 = some (z, x')), WG Γ (XW D dA b ad P F gs x) (0 + (7 - (n33 + 1)) * 427) (0 + (7 - (n33 + 1)) * 427) 70 [(0, .ref (ad 0)), (1, .int y1), (2, .int y2), (3, .int y3), (4, .int y4), (5, .int y5)] [] := by
    intro n33 hn33 k33 hk33 n
    induction n with
    | zero => intro x y1 y2 y3 y4 y5 hf; exact nomatch (show (none : Option (Int32 × XS)) = some _ from hf)
    | succ n ih => exact S70 n33 hn33 k33 hk33 _ ih
  have S33 : ∀ (n33 : Nat) (hn33 : n33 + 1 ≤ 7) (k33 : XS → Int32 → Int32 → Int32 → Int32 → Option (Int32 × XS)) (hk33 : ∀ (x : XS) (y1 : Int32) (y2 : Int32) (y3 : Int32) (y4 : Int32), k33 x y1 y2 y3 y4 = some (z, x') → WG Γ (XW D dA b ad P F gs x) (0 + (7 - n33) * 427) (0 + (7 - n33) * 427) 33 [(0, .ref (ad 0)), (1, .int y1), (2, .int y2), (3, .int y3), (4, .int y4)] []) (x : XS) (y1 : Int32) (y2 : Int32) (y3 : Int32) (y4 : Int32) (hf : X_brought_33s  k33 x y1 y2 y3 y4 = some (z, x')), WG Γ (XW D dA b ad P F gs x) (0 + (7 - (n33 + 1)) * 427) (0 + (7 - (n33 + 1)) * 427) 33 [(0, .ref (ad 0)), (1, .int y1), (2, .int y2), (3, .int y3), (4, .int y4)] [] := by
    intro n33 hn33 k33 hk33 x y1 y2 y3 y4 hf
    refine g_iload hΓ (pc := 33) 4 (i := 4) dX1_brought_33 rfl ?_
    refine g_aload_n hΓ (pc := 35) 0 (i := 0) dX1_brought_35 rfl rfl ?_
    refine qX_house hΓ (pc := 36) hK 0 (by decide) q812 dX1_brought_36 ?_
    refine qx_hget hΓ (pc := 39) hK (r := 0) (by decide) rfl (k := 15) rfl q742 dX1_brought_39 ?_
    refine g_icmp_ge hΓ (pc := 42) (tgt := 127) dX1_brought_42 (by decide) (fun c10 => ?_) (fun c10 => ?_)
    · have hf := ifP hf c10
      refine g_iload_n hΓ (pc := 127) 3 (i := 3) dX1_brought_127 rfl rfl ?_
      refine g_wid (by omega) (by omega) (c2 := 2989) (s2 := 2989) ?_
      exact qX_iret hΓ hf dX1_brought_128
    · have hf := ifN hf c10
      refine g_aload_n hΓ (pc := 45) 0 (i := 0) dX1_brought_45 rfl rfl ?_
      refine qX_house hΓ (pc := 46) hK 3 (by decide) q815 dX1_brought_46 ?_
      refine g_aload_n hΓ (pc := 49) 0 (i := 0) dX1_brought_49 rfl rfl ?_
      refine qX_house hΓ (pc := 50) hK 0 (by decide) q812 dX1_brought_50 ?_
      obtain ⟨h11, hh11, hf⟩ := bindE hf
      refine qX_callH hΓ (pc := 53) hK (r := 3) (by decide) 1 (As := [.ref (ad (hB 0 22))]) (metH_takes _ (r := 3) (r2 := 0) (by decide) (by decide) (by decide) hh11) (lw_V q93 q94 q95 q55 q96) (by decide +kernel) (by decide) ⟨by show (0 + (7 - (n33 + 1)) * 427) + 0 ≤ 2989; omega, by show (0 + (7 - (n33 + 1)) * 427) + 0 ≤ 2989; omega⟩ rfl rfl (Nat.le_of_ble_eq_true rfl) dX1_brought_53 ?_
      obtain ⟨x12, hx12, hf⟩ := bindE hf
      refine g_xeq hx12 ?_
      refine g_aload_n hΓ (pc := 56) 0 (i := 0) dX1_brought_56 rfl rfl ?_
      refine qX_house hΓ (pc := 57) hK 3 (by decide) q815 dX1_brought_57 ?_
      refine g_iconst hΓ (pc := 60) (v := 1) dX1_brought_60 (by decide) ?_
      refine g_iload hΓ (pc := 61) 4 (i := 4) dX1_brought_61 rfl ?_
      refine g_ishl hΓ (pc := 63) dX1_brought_63 ?_
      obtain ⟨x13, hx13, hf⟩ := bindE hf
      refine qX_hput hΓ (pc := 64) hK (r := 3) (by decide) rfl hx13 q748 dX1_brought_64 ?_
      refine g_iconst hΓ (pc := 67) (v := 0) dX1_brought_67 (by decide) ?_
      refine g_istore hΓ (pc := 68) (i := 5) (lv' := [(5, .int (0 : Int32)), (0, .ref (ad 0)), (1, .int y1), (2, .int y2), (3, .int y3), (4, .int y4)]) dX1_brought_68 (by decide) rfl ?_
      exact g_sub [1, 2, 3, 4, 5, 0] rfl (L70 n33 hn33 k33 hk33 13 _ _ _ _ _ _ hf)
  have L33 : ∀ (n33 : Nat) (hn : n33 ≤ 7) (x : XS) (y1 : Int32) (y2 : Int32) (y3 : Int32) (y4 : Int32) (hf : X_brought_33   n33 x y1 y2 y3 y4 = some (z, x')), WG Γ (XW D dA b ad P F gs x) (0 + (7 - n33) * 427) (0 + (7 - n33) * 427) 33 [(0, .ref (ad 0)), (1, .int y1), (2, .int y2), (3, .int y3), (4, .int y4)] [] := by
    intro  n33
    induction n33 with
    | zero => intro hn x y1 y2 y3 y4 hf; exact nomatch (show (none : Option (Int32 × XS)) = some _ from hf)
    | succ n33 ih => intro hn; exact S33  n33 hn _ (ih (by omega))
  refine g_iload_n hΓ (pc := 0) 1 (i := 1) dX1_brought_0 rfl rfl ?_
  refine g_iconst hΓ (pc := 1) (v := 0) dX1_brought_1 (by decide) ?_
  refine g_iconst hΓ (pc := 2) (v := 1) dX1_brought_2 (by decide) ?_
  refine g_aload_n hΓ (pc := 3) 0 (i := 0) dX1_brought_3 rfl rfl ?_
  refine qX_house hΓ (pc := 4) hK 0 (by decide) q812 dX1_brought_4 ?_
  refine qx_hget hΓ (pc := 7) hK (r := 0) (by decide) rfl (k := 15) rfl q742 dX1_brought_7 ?_
  refine g_ishl hΓ (pc := 10) dX1_brought_10 ?_
  refine g_iconst hΓ (pc := 11) (v := 1) dX1_brought_11 (by decide) ?_
  refine g_isub hΓ (pc := 12) dX1_brought_12 ?_
  obtain ⟨x14, hx14, hf⟩ := bindE hf
  refine qg_callS hΓ (pc := 13) 3 (As := [.int a0, .int (0 : Int32), .int (((1 : Int32) <<< (((x.1 0).2.2 15) &&& 31)) - (1 : Int32))]) (metS_isIn _ hx14) (lw_S q89 q90 q54 q91) (by decide +kernel) ⟨by decide, by decide, ⟨by show 0 ≤ 2989; omega, by show 0 ≤ 2989; omega⟩⟩ rfl rfl (Nat.le_of_ble_eq_true rfl) dX1_brought_13 ?_
  refine g_if_eq hΓ (pc := 16) (tgt := 26) dX1_brought_16 (by decide) (fun c15 => ?_) (fun c15 => ?_)
  · have hf := ifP hf c15
    refine g_iconst hΓ (pc := 26) (v := -1) dX1_brought_26 (by decide) ?_
    refine g_wid (by omega) (by omega) (c2 := 2989) (s2 := 2989) ?_
    exact qX_iret hΓ hf dX1_brought_27
  · have hf := ifN hf c15
    refine g_iload_n hΓ (pc := 19) 2 (i := 2) dX1_brought_19 rfl rfl ?_
    obtain ⟨x16, hx16, hf⟩ := bindE hf
    refine qg_callS hΓ (pc := 20) 1 (As := [.int a1]) (metS_isAhead _ hx16) (lw_S q599 q600 q54 q601) (by decide +kernel) ⟨by decide, by decide, ⟨by show 0 ≤ 2989; omega, by show 0 ≤ 2989; omega⟩⟩ rfl rfl (Nat.le_of_ble_eq_true rfl) dX1_brought_20 ?_
    refine g_if_ne hΓ (pc := 23) (tgt := 28) dX1_brought_23 (by decide) (fun c17 => ?_) (fun c17 => ?_)
    · have hf := ifN hf c17
      refine g_iconst hΓ (pc := 28) (v := 0) dX1_brought_28 (by decide) ?_
      refine g_istore_n hΓ (pc := 29) (i := 3) (lv' := [(3, .int (0 : Int32)), (0, .ref (ad 0)), (1, .int a0), (2, .int a1)]) dX1_brought_29 rfl (by decide) rfl ?_
      refine g_iconst hΓ (pc := 30) (v := 0) dX1_brought_30 (by decide) ?_
      refine g_istore hΓ (pc := 31) (i := 4) (lv' := [(4, .int (0 : Int32)), (3, .int (0 : Int32)), (0, .ref (ad 0)), (1, .int a0), (2, .int a1)]) dX1_brought_31 (by decide) rfl ?_
      exact g_sub [2, 3, 4, 1, 0] rfl (L33  7 (Nat.le_refl 7) _ _ _ _ _ hf)
    · have hf := ifP hf c17
      refine g_iconst hΓ (pc := 26) (v := -1) dX1_brought_26 (by decide) ?_
      refine g_wid (by omega) (by omega) (c2 := 2989) (s2 := 2989) ?_
      exact qX_iret hΓ hf dX1_brought_27
def X_particular_30s (k11 : XS → Int32 → Int32 → Option (Int32 × XS)) (k30 : XS → Int32 → Int32 → Int32 → Option (Int32 × XS)) (x : XS) (y1 : Int32) (y2 : Int32) (y3 : Int32) : Option (Int32 × XS) :=
  if ((x.1 3).2.2 15) ≤ y3 then (
    (X_goes x y1).bind fun x2 =>
    (S_bits ((x2.1 3).2.2 18)).bind fun x3 =>
    (S_bits ((x2.1 0).2.2 18)).bind fun x4 =>
    if x4 < x3 then (
      (some (y2 + 1)).bind fun x6 =>
      k11 x2 y1 x6
    ) else (
      some (y2, x2)
    )
  ) else (
    (xhW x 3 9 y3 y2).bind fun x7 =>
    (some (y3 + 1)).bind fun x8 =>
    k30 x7 y1 y2 x8
  )
def X_particular_30 (k11 : XS → Int32 → Int32 → Option (Int32 × XS)) : Nat → XS → Int32 → Int32 → Int32 → Option (Int32 × XS)
  | 0 => fun _ _ _ _ => none
  | n + 1 => X_particular_30s  k11 (X_particular_30  k11 n)
def X_particular_11s (k11 : XS → Int32 → Int32 → Option (Int32 × XS)) (x : XS) (y1 : Int32) (y2 : Int32) : Option (Int32 × XS) :=
  if (9 : Int32) < y2 then (
    some ((-4 : Int32), x)
  ) else (
    (H_takes (x.1 0)).bind fun h10 =>
    (some (xh x 3 h10)).bind fun x11 =>
    X_particular_30 k11 7 x11 y1 y2 (0 : Int32)
  )
def X_particular_11 : Nat → XS → Int32 → Int32 → Option (Int32 × XS)
  | 0 => fun _ _ _ => none
  | n + 1 => X_particular_11s   (X_particular_11   n)
def X_particular (x : XS) (a0 : Int32) : Option (Int32 × XS) :=
  (S_isAhead a0).bind fun x12 =>
  if x12 = 0 then (
    some ((-1 : Int32), x)
  ) else (
    X_particular_11 11 x a0 (0 : Int32)
  )
set_option maxHeartbeats 4000000 in
set_option maxRecDepth 100000 in
theorem metX_particular (l : Launch) {D : va_G} {dA : Nat → ClassId} {b : Nat} {ad : Nat → Nat} {P : Nat → Prop} {F : Nat → va_E} {gs : List (Nat × (Nat × Int32))} {x x' : XS} {a0 : Int32} {z : Int32} (hf : X_particular x a0 = some (z, x')) : Met l yX1_particular (ws_ yX1_particular cX1_particular 4 (some .int)) (rmx_ 10 286 4697 4697) (xP D dA b ad P F gs [.ref (ad 0), .int a0] x) (xQ D dA b ad P F gs (some (.int z)) x') 4697 4697 (fun q => b ≤ q) := by
  refine qx_met (by decide) RX1 rfl (Nat.le_of_ble_eq_true rfl) (fun Γ hΓ hK => ?_)
  refine g_sub [0, 1] (lv' := [(0, .ref (ad 0)), (1, .int a0)]) rfl ?_
  have S30 : ∀ (n11 : Nat) (hn11 : n11 + 1 ≤ 11) (k11 : XS → Int32 → Int32 → Option (Int32 × XS)) (hk11 : ∀ (x : XS) (y1 : Int32) (y2 : Int32), k11 x y1 y2 = some (z, x') → WG Γ (XW D dA b ad P F gs x) (0 + (11 - n11) * 427) (0 + (11 - n11) * 427) 11 [(0, .ref (ad 0)), (1, .int y1), (2, .int y2)] []) (k30 : XS → Int32 → Int32 → Int32 → Option (Int32 × XS)) (hk30 : ∀ (x : XS) (y1 : Int32) (y2 : Int32) (y3 : Int32), k30 x y1 y2 y3 = some (z, x') → WG Γ (XW D dA b ad P F gs x) (0 + (11 - (n11 + 1)) * 427) (0 + (11 - (n11 + 1)) * 427) 30 [(0, .ref (ad 0)), (1, .int y1), (2, .int y2), (3, .int y3)] []) (x : XS) (y1 : Int32) (y2 : Int32) (y3 : Int32) (hf : X_particular_30s  k11 k30 x y1 y2 y3 = some (z, x')), WG Γ (XW D dA b ad P F gs x) (0 + (11 - (n11 + 1)) * 427) (0 + (11 - (n11 + 1)) * 427) 30 [(0, .ref (ad 0)), (1, .int y1), (2, .int y2), (3, .int y3)] [] := by
    intro n11 hn11 k11 hk11 k30 hk30 x y1 y2 y3 hf
    refine g_iload_n hΓ (pc := 30) 3 (i := 3) dX1_particular_30 rfl rfl ?_
    refine g_aload_n hΓ (pc := 31) 0 (i := 0) dX1_particular_31 rfl rfl ?_
    refine qX_house hΓ (pc := 32) hK 3 (by decide) q815 dX1_particular_32 ?_
    refine qx_hget hΓ (pc := 35) hK (r := 3) (by decide) rfl (k := 15) rfl q742 dX1_particular_35 ?_
    refine g_icmp_ge hΓ (pc := 38) (tgt := 57) dX1_particular_38 (by decide) (fun c1 => ?_) (fun c1 => ?_)
    · have hf := ifP hf c1
      refine g_aload_n hΓ (pc := 57) 0 (i := 0) dX1_particular_57 rfl rfl ?_
      refine g_iload_n hΓ (pc := 58) 1 (i := 1) dX1_particular_58 rfl rfl ?_
      obtain ⟨x2, hx2, hf⟩ := bindE hf
      refine qX_callV hΓ (pc := 59) hK 1 (As := [.int y1]) (metX_goes _ hx2) (lw_V q606 q608 qs12 q54 q609) (by decide +kernel) (by decide) ⟨by show (0 + (11 - (n11 + 1)) * 427) + 427 ≤ 4697; omega, by show (0 + (11 - (n11 + 1)) * 427) + 427 ≤ 4697; omega⟩ rfl rfl (Nat.le_of_ble_eq_true rfl) dX1_particular_59 ?_
      refine g_wid (by omega) (by omega) (c2 := (427 + (11 - (n11 + 1)) * 427)) (s2 := (427 + (11 - (n11 + 1)) * 427)) ?_
      refine g_aload_n hΓ (pc := 62) 0 (i := 0) dX1_particular_62 rfl rfl ?_
      refine qX_house hΓ (pc := 63) hK 3 (by decide) q815 dX1_particular_63 ?_
      refine qx_hget hΓ (pc := 66) hK (r := 3) (by decide) rfl (k := 18) rfl q748 dX1_particular_66 ?_
      obtain ⟨x3, hx3, hf⟩ := bindE hf
      refine qg_callS hΓ (pc := 69) 1 (As := [.int ((x2.1 3).2.2 18)]) (metS_bits _ hx3) (lw_S q635 q636 q54 q637) (by decide +kernel) ⟨by decide, by decide, ⟨by show (427 + (11 - (n11 + 1)) * 427) ≤ 4697; omega, by show (427 + (11 - (n11 + 1)) * 427) ≤ 4697; omega⟩⟩ rfl rfl (Nat.le_of_ble_eq_true rfl) dX1_particular_69 ?_
      refine g_aload_n hΓ (pc := 72) 0 (i := 0) dX1_particular_72 rfl rfl ?_
      refine qX_house hΓ (pc := 73) hK 0 (by decide) q812 dX1_particular_73 ?_
      refine qx_hget hΓ (pc := 76) hK (r := 0) (by decide) rfl (k := 18) rfl q748 dX1_particular_76 ?_
      obtain ⟨x4, hx4, hf⟩ := bindE hf
      refine qg_callS hΓ (pc := 79) 1 (As := [.int ((x2.1 0).2.2 18)]) (metS_bits _ hx4) (lw_S q635 q636 q54 q637) (by decide +kernel) ⟨by decide, by decide, ⟨by show (427 + (11 - (n11 + 1)) * 427) ≤ 4697; omega, by show (427 + (11 - (n11 + 1)) * 427) ≤ 4697; omega⟩⟩ rfl rfl (Nat.le_of_ble_eq_true rfl) dX1_particular_79 ?_
      refine g_icmp_gt hΓ (pc := 82) (tgt := 87) dX1_particular_82 (by decide) (fun c5 => ?_) (fun c5 => ?_)
      · have hf := ifP hf c5
        obtain ⟨x6, hx6, hf⟩ := bindE hf
        refine g_iinc hΓ (pc := 87) 2 (i := 2) (v := x6) (lv' := [(2, .int x6), (0, .ref (ad 0)), (1, .int y1), (3, .int y3)]) dX1_particular_87 rfl (Option.some.inj hx6) (by decide) rfl ?_
        refine g_goto hΓ (pc := 90) (tgt := 11) dX1_particular_90 (by decide) ?_
        refine g_wid (by omega) (by omega) (c2 := (0 + (11 - n11) * 427)) (s2 := (0 + (11 - n11) * 427)) ?_
        exact g_sub [1, 2, 0] rfl (hk11 _ _ _ hf)
      · have hf := ifN hf c5
        refine g_iload_n hΓ (pc := 85) 2 (i := 2) dX1_particular_85 rfl rfl ?_
        refine g_wid (by omega) (by omega) (c2 := 4697) (s2 := 4697) ?_
        exact qX_iret hΓ hf dX1_particular_86
    · have hf := ifN hf c1
      refine g_aload_n hΓ (pc := 41) 0 (i := 0) dX1_particular_41 rfl rfl ?_
      refine qX_house hΓ (pc := 42) hK 3 (by decide) q815 dX1_particular_42 ?_
      refine qx_hgeta hΓ (pc := 45) hK (r := 3) (by decide) (k := 9) rfl q730 dX1_particular_45 ?_
      refine g_iload_n hΓ (pc := 48) 3 (i := 3) dX1_particular_48 rfl rfl ?_
      refine g_iload_n hΓ (pc := 49) 2 (i := 2) dX1_particular_49 rfl rfl ?_
      obtain ⟨x7, hx7, hf⟩ := bindE hf
      refine qX_iast hΓ (pc := 50) hK (r := 3) (by decide) rfl hx7 dX1_particular_50 ?_
      obtain ⟨x8, hx8, hf⟩ := bindE hf
      refine g_iinc hΓ (pc := 51) 3 (i := 3) (v := x8) (lv' := [(3, .int x8), (0, .ref (ad 0)), (1, .int y1), (2, .int y2)]) dX1_particular_51 rfl (Option.some.inj hx8) (by decide) rfl ?_
      refine g_goto hΓ (pc := 54) (tgt := 30) dX1_particular_54 (by decide) ?_
      exact g_sub [1, 2, 3, 0] rfl (hk30 _ _ _ _ hf)
  have L30 : ∀ (n11 : Nat) (hn11 : n11 + 1 ≤ 11) (k11 : XS → Int32 → Int32 → Option (Int32 × XS)) (hk11 : ∀ (x : XS) (y1 : Int32) (y2 : Int32), k11 x y1 y2 = some (z, x') → WG Γ (XW D dA b ad P F gs x) (0 + (11 - n11) * 427) (0 + (11 - n11) * 427) 11 [(0, .ref (ad 0)), (1, .int y1), (2, .int y2)] []) (n : Nat) (x : XS) (y1 : Int32) (y2 : Int32) (y3 : Int32) (hf : X_particular_30  k11 n x y1 y2 y3 = some (z, x')), WG Γ (XW D dA b ad P F gs x) (0 + (11 - (n11 + 1)) * 427) (0 + (11 - (n11 + 1)) * 427) 30 [(0, .ref (ad 0)), (1, .int y1), (2, .int y2), (3, .int y3)] [] := by
    intro n11 hn11 k11 hk11 n
    induction n with
    | zero => intro x y1 y2 y3 hf; exact nomatch (show (none : Option (Int32 × XS)) = some _ from hf)
    | succ n ih => exact S30 n11 hn11 k11 hk11 _ ih
  have S11 : ∀ (n11 : Nat) (hn11 : n11 + 1 ≤ 11) (k11 : XS → Int32 → Int32 → Option (Int32 × XS)) (hk11 : ∀ (x : XS) (y1 : Int32) (y2 : Int32), k11 x y1 y2 = some (z, x') → WG Γ (XW D dA b ad P F gs x) (0 + (11 - n11) * 427) (0 + (11 - n11) * 427) 11 [(0, .ref (ad 0)), (1, .int y1), (2, .int y2)] []) (x : XS) (y1 : Int32) (y2 : Int32) (hf : X_particular_11s  k11 x y1 y2 = some (z, x')), WG Γ (XW D dA b ad P F gs x) (0 + (11 - (n11 + 1)) * 427) (0 + (11 - (n11 + 1)) * 427) 11 [(0, .ref (ad 0)), (1, .int y1), (2, .int y2)] [] := by
    intro n11 hn11 k11 hk11 x y1 y2 hf
    refine g_iload_n hΓ (pc := 11) 2 (i := 2) dX1_particular_11 rfl rfl ?_
    refine g_bipush hΓ (pc := 12) (v := 9) dX1_particular_12 (by decide) ?_
    refine g_icmp_gt hΓ (pc := 14) (tgt := 93) dX1_particular_14 (by decide) (fun c9 => ?_) (fun c9 => ?_)
    · have hf := ifP hf c9
      refine g_bipush hΓ (pc := 93) (v := -4) dX1_particular_93 (by decide) ?_
      refine g_wid (by omega) (by omega) (c2 := 4697) (s2 := 4697) ?_
      exact qX_iret hΓ hf dX1_particular_95
    · have hf := ifN hf c9
      refine g_aload_n hΓ (pc := 17) 0 (i := 0) dX1_particular_17 rfl rfl ?_
      refine qX_house hΓ (pc := 18) hK 3 (by decide) q815 dX1_particular_18 ?_
      refine g_aload_n hΓ (pc := 21) 0 (i := 0) dX1_particular_21 rfl rfl ?_
      refine qX_house hΓ (pc := 22) hK 0 (by decide) q812 dX1_particular_22 ?_
      obtain ⟨h10, hh10, hf⟩ := bindE hf
      refine qX_callH hΓ (pc := 25) hK (r := 3) (by decide) 1 (As := [.ref (ad (hB 0 22))]) (metH_takes _ (r := 3) (r2 := 0) (by decide) (by decide) (by decide) hh10) (lw_V q93 q94 q95 q55 q96) (by decide +kernel) (by decide) ⟨by show (0 + (11 - (n11 + 1)) * 427) + 0 ≤ 4697; omega, by show (0 + (11 - (n11 + 1)) * 427) + 0 ≤ 4697; omega⟩ rfl rfl (Nat.le_of_ble_eq_true rfl) dX1_particular_25 ?_
      obtain ⟨x11, hx11, hf⟩ := bindE hf
      refine g_xeq hx11 ?_
      refine g_iconst hΓ (pc := 28) (v := 0) dX1_particular_28 (by decide) ?_
      refine g_istore_n hΓ (pc := 29) (i := 3) (lv' := [(3, .int (0 : Int32)), (0, .ref (ad 0)), (1, .int y1), (2, .int y2)]) dX1_particular_29 rfl (by decide) rfl ?_
      exact g_sub [1, 2, 3, 0] rfl (L30 n11 hn11 k11 hk11 7 _ _ _ _ hf)
  have L11 : ∀ (n11 : Nat) (hn : n11 ≤ 11) (x : XS) (y1 : Int32) (y2 : Int32) (hf : X_particular_11   n11 x y1 y2 = some (z, x')), WG Γ (XW D dA b ad P F gs x) (0 + (11 - n11) * 427) (0 + (11 - n11) * 427) 11 [(0, .ref (ad 0)), (1, .int y1), (2, .int y2)] [] := by
    intro  n11
    induction n11 with
    | zero => intro hn x y1 y2 hf; exact nomatch (show (none : Option (Int32 × XS)) = some _ from hf)
    | succ n11 ih => intro hn; exact S11  n11 hn _ (ih (by omega))
  refine g_iload_n hΓ (pc := 0) 1 (i := 1) dX1_particular_0 rfl rfl ?_
  obtain ⟨x12, hx12, hf⟩ := bindE hf
  refine qg_callS hΓ (pc := 1) 1 (As := [.int a0]) (metS_isAhead _ hx12) (lw_S q599 q600 q54 q601) (by decide +kernel) ⟨by decide, by decide, ⟨by show 0 ≤ 4697; omega, by show 0 ≤ 4697; omega⟩⟩ rfl rfl (Nat.le_of_ble_eq_true rfl) dX1_particular_1 ?_
  refine g_if_ne hΓ (pc := 4) (tgt := 9) dX1_particular_4 (by decide) (fun c13 => ?_) (fun c13 => ?_)
  · have hf := ifN hf c13
    refine g_iconst hΓ (pc := 9) (v := 0) dX1_particular_9 (by decide) ?_
    refine g_istore_n hΓ (pc := 10) (i := 2) (lv' := [(2, .int (0 : Int32)), (0, .ref (ad 0)), (1, .int a0)]) dX1_particular_10 rfl (by decide) rfl ?_
    exact g_sub [1, 2, 0] rfl (L11  11 (Nat.le_refl 11) _ _ _ hf)
  · have hf := ifP hf c13
    refine g_iconst hΓ (pc := 7) (v := -1) dX1_particular_7 (by decide) ?_
    refine g_wid (by omega) (by omega) (c2 := 4697) (s2 := 4697) ?_
    exact qX_iret hΓ hf dX1_particular_8
def X_mark_28s (k28 : XS → Int32 → Int32 → Int32 → Int32 → Option (Int32 × XS)) (x : XS) (y1 : Int32) (y2 : Int32) (y3 : Int32) (y4 : Int32) : Option (Int32 × XS) :=
  if ((x.1 0).2.2 14) ≤ y4 then (
    some (y2, x)
  ) else (
    (H_takes (x.1 0)).bind fun h2 =>
    (some (xh x 3 h2)).bind fun x3 =>
    (hG (x3.1 0) y4).bind fun g5 =>
    (xhGw x3 3 y4 (1, g5.2)).bind fun x7 =>
    (X_goes x7 y1).bind fun x8 =>
    if ((x8.1 3).2.2 20) < y3 then (
      (some (y4 + 1)).bind fun x10 =>
      k28 x8 y1 y4 ((x8.1 3).2.2 20) x10
    ) else (
      (some (y4 + 1)).bind fun x11 =>
      k28 x8 y1 y2 y3 x11
    )
  )
def X_mark_28 : Nat → XS → Int32 → Int32 → Int32 → Int32 → Option (Int32 × XS)
  | 0 => fun _ _ _ _ _ => none
  | n + 1 => X_mark_28s   (X_mark_28   n)
def X_mark (x : XS) (a0 : Int32) : Option (Int32 × XS) :=
  (S_isAhead a0).bind fun x12 =>
  if x12 = 0 then (
    some ((-1 : Int32), x)
  ) else (
    (X_minds x a0).bind fun x14 =>
    X_mark_28 13 x14 a0 (-4 : Int32) ((x14.1 3).2.2 20) (0 : Int32)
  )
set_option maxHeartbeats 4000000 in
set_option maxRecDepth 100000 in
theorem metX_mark (l : Launch) {D : va_G} {dA : Nat → ClassId} {b : Nat} {ad : Nat → Nat} {P : Nat → Prop} {F : Nat → va_E} {gs : List (Nat × (Nat × Int32))} {x x' : XS} {a0 : Int32} {z : Int32} (hf : X_mark x a0 = some (z, x')) : Met l yX1_mark (ws_ yX1_mark cX1_mark 5 (some .int)) (rmx_ 11 307 5991 5991) (xP D dA b ad P F gs [.ref (ad 0), .int a0] x) (xQ D dA b ad P F gs (some (.int z)) x') 5991 5991 (fun q => b ≤ q) := by
  refine qx_met (by decide) RX1 rfl (Nat.le_of_ble_eq_true rfl) (fun Γ hΓ hK => ?_)
  refine g_sub [0, 1] (lv' := [(0, .ref (ad 0)), (1, .int a0)]) rfl ?_
  have S28 : ∀ (n28 : Nat) (hn28 : n28 + 1 ≤ 13) (k28 : XS → Int32 → Int32 → Int32 → Int32 → Option (Int32 × XS)) (hk28 : ∀ (x : XS) (y1 : Int32) (y2 : Int32) (y3 : Int32) (y4 : Int32), k28 x y1 y2 y3 y4 = some (z, x') → WG Γ (XW D dA b ad P F gs x) (427 + (13 - n28) * 428) (427 + (13 - n28) * 428) 28 [(0, .ref (ad 0)), (1, .int y1), (2, .int y2), (3, .int y3), (4, .int y4)] []) (x : XS) (y1 : Int32) (y2 : Int32) (y3 : Int32) (y4 : Int32) (hf : X_mark_28s  k28 x y1 y2 y3 y4 = some (z, x')), WG Γ (XW D dA b ad P F gs x) (427 + (13 - (n28 + 1)) * 428) (427 + (13 - (n28 + 1)) * 428) 28 [(0, .ref (ad 0)), (1, .int y1), (2, .int y2), (3, .int y3), (4, .int y4)] [] := by
    intro n28 hn28 k28 hk28 x y1 y2 y3 y4 hf
    refine g_iload hΓ (pc := 28) 4 (i := 4) dX1_mark_28 rfl ?_
    refine g_aload_n hΓ (pc := 30) 0 (i := 0) dX1_mark_30 rfl rfl ?_
    refine qX_house hΓ (pc := 31) hK 0 (by decide) q812 dX1_mark_31 ?_
    refine qx_hget hΓ (pc := 34) hK (r := 0) (by decide) rfl (k := 14) rfl q740 dX1_mark_34 ?_
    refine g_icmp_ge hΓ (pc := 37) (tgt := 117) dX1_mark_37 (by decide) (fun c1 => ?_) (fun c1 => ?_)
    · have hf := ifP hf c1
      refine g_iload_n hΓ (pc := 117) 2 (i := 2) dX1_mark_117 rfl rfl ?_
      refine g_wid (by omega) (by omega) (c2 := 5991) (s2 := 5991) ?_
      exact qX_iret hΓ hf dX1_mark_118
    · have hf := ifN hf c1
      refine g_aload_n hΓ (pc := 40) 0 (i := 0) dX1_mark_40 rfl rfl ?_
      refine qX_house hΓ (pc := 41) hK 3 (by decide) q815 dX1_mark_41 ?_
      refine g_aload_n hΓ (pc := 44) 0 (i := 0) dX1_mark_44 rfl rfl ?_
      refine qX_house hΓ (pc := 45) hK 0 (by decide) q812 dX1_mark_45 ?_
      obtain ⟨h2, hh2, hf⟩ := bindE hf
      refine qX_callH hΓ (pc := 48) hK (r := 3) (by decide) 1 (As := [.ref (ad (hB 0 22))]) (metH_takes _ (r := 3) (r2 := 0) (by decide) (by decide) (by decide) hh2) (lw_V q93 q94 q95 q55 q96) (by decide +kernel) (by decide) ⟨by show (427 + (13 - (n28 + 1)) * 428) + 0 ≤ 5991; omega, by show (427 + (13 - (n28 + 1)) * 428) + 0 ≤ 5991; omega⟩ rfl rfl (Nat.le_of_ble_eq_true rfl) dX1_mark_48 ?_
      obtain ⟨x3, hx3, hf⟩ := bindE hf
      refine g_xeq hx3 ?_
      refine g_aload_n hΓ (pc := 51) 0 (i := 0) dX1_mark_51 rfl rfl ?_
      refine qX_house hΓ (pc := 52) hK 3 (by decide) q815 dX1_mark_52 ?_
      refine qx_hgeta hΓ (pc := 55) hK (r := 3) (by decide) (k := 0) rfl q712 dX1_mark_55 ?_
      refine g_iload hΓ (pc := 58) 4 (i := 4) dX1_mark_58 rfl ?_
      refine qx_new hΓ (pc := 60) hK (k := 1) (by decide) rfl in_X8 tyX8 tyX8_ok rfl q279 q280 q65 ⟨by show (427 + (13 - (n28 + 1)) * 428) + 1 ≤ 5991; omega, by show (427 + (13 - (n28 + 1)) * 428) + 1 ≤ 5991; omega⟩ dX1_mark_60 (fun ya4 => ?_)
      refine g_wid (by omega) (by omega) (c2 := (428 + (13 - (n28 + 1)) * 428)) (s2 := (428 + (13 - (n28 + 1)) * 428)) ?_
      refine g_dup hΓ (pc := 63) dX1_mark_63 rfl ?_
      refine g_aload_n hΓ (pc := 64) 0 (i := 0) dX1_mark_64 rfl rfl ?_
      refine qX_housen hΓ (pc := 65) hK 0 (by decide) q812 dX1_mark_65 ?_
      refine qx_hgetan hΓ (pc := 68) hK (r := 0) (by decide) (k := 0) rfl q712 dX1_mark_68 ?_
      refine g_iload hΓ (pc := 71) 4 (i := 4) dX1_mark_71 rfl ?_
      obtain ⟨g5, hg5, hf⟩ := bindE hf
      refine qx_galdn hΓ (pc := 73) hK (r := 0) (by decide) rfl hg5 dX1_mark_73 (fun ya6 => ?_)
      refine qx_fign hΓ (pc := 74) hK List.mem_cons_self q275 dX1_mark_74 ?_
      refine qx_callI hΓ (pc := 77) hK 1 (As := [.int g5.2]) (metG_init8 _) q281 q282 q65 q283 rfl (by decide +kernel) (by decide) ⟨by show (428 + (13 - (n28 + 1)) * 428) ≤ 5991; omega, by show (428 + (13 - (n28 + 1)) * 428) ≤ 5991; omega⟩ rfl rfl (Nat.le_of_ble_eq_true rfl) dX1_mark_77 ?_
      refine g_w (fun H h => XWn.toXW h) ?_
      obtain ⟨x7, hx7, hf⟩ := bindE hf
      refine qX_gast hΓ (pc := 80) hK (r := 3) (by decide) List.mem_cons_self hx7 dX1_mark_80 ?_
      refine g_aload_n hΓ (pc := 81) 0 (i := 0) dX1_mark_81 rfl rfl ?_
      refine g_iload_n hΓ (pc := 82) 1 (i := 1) dX1_mark_82 rfl rfl ?_
      obtain ⟨x8, hx8, hf⟩ := bindE hf
      refine qX_callV hΓ (pc := 83) hK 1 (As := [.int y1]) (metX_goes _ hx8) (lw_V q606 q608 qs12 q54 q609) (by decide +kernel) (by decide) ⟨by show (428 + (13 - (n28 + 1)) * 428) + 427 ≤ 5991; omega, by show (428 + (13 - (n28 + 1)) * 428) + 427 ≤ 5991; omega⟩ rfl rfl (Nat.le_of_ble_eq_true rfl) dX1_mark_83 ?_
      refine g_wid (by omega) (by omega) (c2 := (855 + (13 - (n28 + 1)) * 428)) (s2 := (855 + (13 - (n28 + 1)) * 428)) ?_
      refine g_aload_n hΓ (pc := 86) 0 (i := 0) dX1_mark_86 rfl rfl ?_
      refine qX_house hΓ (pc := 87) hK 3 (by decide) q815 dX1_mark_87 ?_
      refine qx_hget hΓ (pc := 90) hK (r := 3) (by decide) rfl (k := 20) rfl q752 dX1_mark_90 ?_
      refine g_iload_n hΓ (pc := 93) 3 (i := 3) dX1_mark_93 rfl rfl ?_
      refine g_icmp_lt hΓ (pc := 94) (tgt := 100) dX1_mark_94 (by decide) (fun c9 => ?_) (fun c9 => ?_)
      · have hf := ifP hf c9
        refine g_iload hΓ (pc := 100) 4 (i := 4) dX1_mark_100 rfl ?_
        refine g_istore_n hΓ (pc := 102) (i := 2) (lv' := [(2, .int y4), (0, .ref (ad 0)), (1, .int y1), (3, .int y3), (4, .int y4)]) dX1_mark_102 rfl (by decide) rfl ?_
        refine g_aload_n hΓ (pc := 103) 1 (i := 0) dX1_mark_103 rfl rfl ?_
        refine qX_house hΓ (pc := 104) hK 3 (by decide) q815 dX1_mark_104 ?_
        refine qx_hget hΓ (pc := 107) hK (r := 3) (by decide) rfl (k := 20) rfl q752 dX1_mark_107 ?_
        refine g_istore_n hΓ (pc := 110) (i := 3) (lv' := [(3, .int ((x8.1 3).2.2 20)), (2, .int y4), (0, .ref (ad 0)), (1, .int y1), (4, .int y4)]) dX1_mark_110 rfl (by decide) rfl ?_
        obtain ⟨x10, hx10, hf⟩ := bindE hf
        refine g_iinc hΓ (pc := 111) 4 (i := 4) (v := x10) (lv' := [(4, .int x10), (3, .int ((x8.1 3).2.2 20)), (2, .int y4), (0, .ref (ad 0)), (1, .int y1)]) dX1_mark_111 rfl (Option.some.inj hx10) (by decide) rfl ?_
        refine g_goto hΓ (pc := 114) (tgt := 28) dX1_mark_114 (by decide) ?_
        refine g_w (fun H h => XW.drop (gs := gs) h (fun q hq => List.mem_cons_of_mem _ (List.mem_cons_of_mem _ (hq)))) ?_
        refine g_wid (by omega) (by omega) (c2 := (427 + (13 - n28) * 428)) (s2 := (427 + (13 - n28) * 428)) ?_
        exact g_sub [3, 4, 2, 1, 0] rfl (hk28 _ _ _ _ _ hf)
      · have hf := ifN hf c9
        refine g_goto hΓ (pc := 97) (tgt := 111) dX1_mark_97 (by decide) ?_
        obtain ⟨x11, hx11, hf⟩ := bindE hf
        refine g_iinc hΓ (pc := 111) 4 (i := 4) (v := x11) (lv' := [(4, .int x11), (0, .ref (ad 0)), (1, .int y1), (2, .int y2), (3, .int y3)]) dX1_mark_111 rfl (Option.some.inj hx11) (by decide) rfl ?_
        refine g_goto hΓ (pc := 114) (tgt := 28) dX1_mark_114 (by decide) ?_
        refine g_w (fun H h => XW.drop (gs := gs) h (fun q hq => List.mem_cons_of_mem _ (List.mem_cons_of_mem _ (hq)))) ?_
        refine g_wid (by omega) (by omega) (c2 := (427 + (13 - n28) * 428)) (s2 := (427 + (13 - n28) * 428)) ?_
        exact g_sub [1, 2, 3, 4, 0] rfl (hk28 _ _ _ _ _ hf)
  have L28 : ∀ (n28 : Nat) (hn : n28 ≤ 13) (x : XS) (y1 : Int32) (y2 : Int32) (y3 : Int32) (y4 : Int32) (hf : X_mark_28   n28 x y1 y2 y3 y4 = some (z, x')), WG Γ (XW D dA b ad P F gs x) (427 + (13 - n28) * 428) (427 + (13 - n28) * 428) 28 [(0, .ref (ad 0)), (1, .int y1), (2, .int y2), (3, .int y3), (4, .int y4)] [] := by
    intro  n28
    induction n28 with
    | zero => intro hn x y1 y2 y3 y4 hf; exact nomatch (show (none : Option (Int32 × XS)) = some _ from hf)
    | succ n28 ih => intro hn; exact S28  n28 hn _ (ih (by omega))
  refine g_iload_n hΓ (pc := 0) 1 (i := 1) dX1_mark_0 rfl rfl ?_
  obtain ⟨x12, hx12, hf⟩ := bindE hf
  refine qg_callS hΓ (pc := 1) 1 (As := [.int a0]) (metS_isAhead _ hx12) (lw_S q599 q600 q54 q601) (by decide +kernel) ⟨by decide, by decide, ⟨by show 0 ≤ 5991; omega, by show 0 ≤ 5991; omega⟩⟩ rfl rfl (Nat.le_of_ble_eq_true rfl) dX1_mark_1 ?_
  refine g_if_ne hΓ (pc := 4) (tgt := 9) dX1_mark_4 (by decide) (fun c13 => ?_) (fun c13 => ?_)
  · have hf := ifN hf c13
    refine g_aload_n hΓ (pc := 9) 0 (i := 0) dX1_mark_9 rfl rfl ?_
    refine g_iload_n hΓ (pc := 10) 1 (i := 1) dX1_mark_10 rfl rfl ?_
    obtain ⟨x14, hx14, hf⟩ := bindE hf
    refine qX_callV hΓ (pc := 11) hK 1 (As := [.int a0]) (metX_minds _ hx14) (lw_V q602 q604 qs11 q54 q605) (by decide +kernel) (by decide) ⟨by show 0 + 427 ≤ 5991; omega, by show 0 + 427 ≤ 5991; omega⟩ rfl rfl (Nat.le_of_ble_eq_true rfl) dX1_mark_11 ?_
    refine g_wid (by omega) (by omega) (c2 := 427) (s2 := 427) ?_
    refine g_bipush hΓ (pc := 14) (v := -4) dX1_mark_14 (by decide) ?_
    refine g_istore_n hΓ (pc := 16) (i := 2) (lv' := [(2, .int (-4 : Int32)), (0, .ref (ad 0)), (1, .int a0)]) dX1_mark_16 rfl (by decide) rfl ?_
    refine g_aload_n hΓ (pc := 17) 1 (i := 0) dX1_mark_17 rfl rfl ?_
    refine qX_house hΓ (pc := 18) hK 3 (by decide) q815 dX1_mark_18 ?_
    refine qx_hget hΓ (pc := 21) hK (r := 3) (by decide) rfl (k := 20) rfl q752 dX1_mark_21 ?_
    refine g_istore_n hΓ (pc := 24) (i := 3) (lv' := [(3, .int ((x14.1 3).2.2 20)), (2, .int (-4 : Int32)), (0, .ref (ad 0)), (1, .int a0)]) dX1_mark_24 rfl (by decide) rfl ?_
    refine g_iconst hΓ (pc := 25) (v := 0) dX1_mark_25 (by decide) ?_
    refine g_istore hΓ (pc := 26) (i := 4) (lv' := [(4, .int (0 : Int32)), (3, .int ((x14.1 3).2.2 20)), (2, .int (-4 : Int32)), (0, .ref (ad 0)), (1, .int a0)]) dX1_mark_26 (by decide) rfl ?_
    exact g_sub [3, 4, 2, 1, 0] rfl (L28  13 (Nat.le_refl 13) _ _ _ _ _ hf)
  · have hf := ifP hf c13
    refine g_iconst hΓ (pc := 7) (v := -1) dX1_mark_7 (by decide) ?_
    refine g_wid (by omega) (by omega) (c2 := 5991) (s2 := 5991) ?_
    exact qX_iret hΓ hf dX1_mark_8

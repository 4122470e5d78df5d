set_option maxRecDepth 100000
def X_close_28s (k28 : XS → Int32 → Int32 → Int32 → Int32 → Option (Int32 × XS)) (x : XS) (y1 : Int32) (y2 : Int32) (y3 : Int32) (y4 : Int32) : Option (Int32 × XS) :=
  if (6 : Int32) ≤ y4 then (
    some (y2, x)
  ) else (
    (H_takes (x.1 0)).bind fun h2 =>
    (some (xh x 3 h2)).bind fun x3 =>
    (xhS x3 3 19 y4).bind fun x4 =>
    (X_goes x4 y1).bind fun x5 =>
    if ((x5.1 3).2.2 21) < y3 then (
      (some (y4 + 1)).bind fun x7 =>
      k28 x5 y1 y4 ((x5.1 3).2.2 21) x7
    ) else (
      (some (y4 + 1)).bind fun x8 =>
      k28 x5 y1 y2 y3 x8
    )
  )
def X_close_28 : Nat → XS → Int32 → Int32 → Int32 → Int32 → Option (Int32 × XS)
  | 0 => fun _ _ _ _ _ => none
  | n + 1 => X_close_28s   (X_close_28   n)
def X_close (x : XS) (a0 : Int32) : Option (Int32 × XS) :=
  (S_isAhead a0).bind fun x9 =>
  if x9 = 0 then (
    some ((-1 : Int32), x)
  ) else (
    (X_minds x a0).bind fun x11 =>
    X_close_28 7 x11 a0 (-4 : Int32) ((x11.1 3).2.2 21) (0 : Int32)
  )
set_option maxHeartbeats 4000000 in
set_option maxRecDepth 100000 in
theorem metX_close (l : Launch) {D : va_G} {dA : Nat → ClassId} {b : Nat} {ad : Nat → Nat} {P : Nat → Prop} {F : Nat → va_E} {gs : List (Nat × (Nat × Int32))} {x x' : XS} {a0 : Int32} {z : Int32} (hf : X_close x a0 = some (z, x')) : Met l yX1_close (ws_ yX1_close cX1_close 5 (some .int)) (rmx_ 11 307 3416 3416) (xP D dA b ad P F gs [.ref (ad 0), .int a0] x) (xQ D dA b ad P F gs (some (.int z)) x') 3416 3416 (fun q => b ≤ q) := by
  refine qx_met (by decide) RX1 rfl (Nat.le_of_ble_eq_true rfl) (fun Γ hΓ hK => ?_)
  refine g_sub [0, 1] (lv' := [(0, .ref (ad 0)), (1, .int a0)]) rfl ?_
  have S28 : ∀ (n28 : Nat) (hn28 : n28 + 1 ≤ 7) (k28 : XS → Int32 → Int32 → Int32 → Int32 → Option (Int32 × XS)) (hk28 : ∀ (x : XS) (y1 : Int32) (y2 : Int32) (y3 : Int32) (y4 : Int32), k28 x y1 y2 y3 y4 = some (z, x') → WG Γ (XW D dA b ad P F gs x) (427 + (7 - n28) * 427) (427 + (7 - n28) * 427) 28 [(0, .ref (ad 0)), (1, .int y1), (2, .int y2), (3, .int y3), (4, .int y4)] []) (x : XS) (y1 : Int32) (y2 : Int32) (y3 : Int32) (y4 : Int32) (hf : X_close_28s  k28 x y1 y2 y3 y4 = some (z, x')), WG Γ (XW D dA b ad P F gs x) (427 + (7 - (n28 + 1)) * 427) (427 + (7 - (n28 + 1)) * 427) 28 [(0, .ref (ad 0)), (1, .int y1), (2, .int y2), (3, .int y3), (4, .int y4)] [] := by
    intro n28 hn28 k28 hk28 x y1 y2 y3 y4 hf
    refine g_iload hΓ (pc := 28) 4 (i := 4) dX1_close_28 rfl ?_
    refine g_bipush hΓ (pc := 30) (v := 6) dX1_close_30 (by decide) ?_
    refine g_icmp_ge hΓ (pc := 32) (tgt := 91) dX1_close_32 (by decide) (fun c1 => ?_) (fun c1 => ?_)
    · have hf := ifP hf c1
      refine g_iload_n hΓ (pc := 91) 2 (i := 2) dX1_close_91 rfl rfl ?_
      refine g_wid (by omega) (by omega) (c2 := 3416) (s2 := 3416) ?_
      exact qX_iret hΓ hf dX1_close_92
    · have hf := ifN hf c1
      refine g_aload_n hΓ (pc := 35) 0 (i := 0) dX1_close_35 rfl rfl ?_
      refine qX_house hΓ (pc := 36) hK 3 (by decide) q815 dX1_close_36 ?_
      refine g_aload_n hΓ (pc := 39) 0 (i := 0) dX1_close_39 rfl rfl ?_
      refine qX_house hΓ (pc := 40) hK 0 (by decide) q812 dX1_close_40 ?_
      obtain ⟨h2, hh2, hf⟩ := bindE hf
      refine qX_callH hΓ (pc := 43) hK (r := 3) (by decide) 1 (As := [.ref (ad (hB 0 22))]) (metH_takes _ (r := 3) (r2 := 0) (by decide) (by decide) (by decide) hh2) (lw_V q93 q94 q95 q55 q96) (by decide +kernel) (by decide) ⟨by show (427 + (7 - (n28 + 1)) * 427) + 0 ≤ 3416; omega, by show (427 + (7 - (n28 + 1)) * 427) + 0 ≤ 3416; omega⟩ rfl rfl (Nat.le_of_ble_eq_true rfl) dX1_close_43 ?_
      obtain ⟨x3, hx3, hf⟩ := bindE hf
      refine g_xeq hx3 ?_
      refine g_aload_n hΓ (pc := 46) 0 (i := 0) dX1_close_46 rfl rfl ?_
      refine qX_house hΓ (pc := 47) hK 3 (by decide) q815 dX1_close_47 ?_
      refine g_iload hΓ (pc := 50) 4 (i := 4) dX1_close_50 rfl ?_
      obtain ⟨x4, hx4, hf⟩ := bindE hf
      refine qX_hput hΓ (pc := 52) hK (r := 3) (by decide) rfl hx4 q750 dX1_close_52 ?_
      refine g_aload_n hΓ (pc := 55) 0 (i := 0) dX1_close_55 rfl rfl ?_
      refine g_iload_n hΓ (pc := 56) 1 (i := 1) dX1_close_56 rfl rfl ?_
      obtain ⟨x5, hx5, hf⟩ := bindE hf
      refine qX_callV hΓ (pc := 57) hK 1 (As := [.int y1]) (metX_goes _ hx5) (lw_V q606 q608 qs12 q54 q609) (by decide +kernel) (by decide) ⟨by show (427 + (7 - (n28 + 1)) * 427) + 427 ≤ 3416; omega, by show (427 + (7 - (n28 + 1)) * 427) + 427 ≤ 3416; omega⟩ rfl rfl (Nat.le_of_ble_eq_true rfl) dX1_close_57 ?_
      refine g_wid (by omega) (by omega) (c2 := (854 + (7 - (n28 + 1)) * 427)) (s2 := (854 + (7 - (n28 + 1)) * 427)) ?_
      refine g_aload_n hΓ (pc := 60) 0 (i := 0) dX1_close_60 rfl rfl ?_
      refine qX_house hΓ (pc := 61) hK 3 (by decide) q815 dX1_close_61 ?_
      refine qx_hget hΓ (pc := 64) hK (r := 3) (by decide) rfl (k := 21) rfl q754 dX1_close_64 ?_
      refine g_iload_n hΓ (pc := 67) 3 (i := 3) dX1_close_67 rfl rfl ?_
      refine g_icmp_lt hΓ (pc := 68) (tgt := 74) dX1_close_68 (by decide) (fun c6 => ?_) (fun c6 => ?_)
      · have hf := ifP hf c6
        refine g_iload hΓ (pc := 74) 4 (i := 4) dX1_close_74 rfl ?_
        refine g_istore_n hΓ (pc := 76) (i := 2) (lv' := [(2, .int y4), (0, .ref (ad 0)), (1, .int y1), (3, .int y3), (4, .int y4)]) dX1_close_76 rfl (by decide) rfl ?_
        refine g_aload_n hΓ (pc := 77) 1 (i := 0) dX1_close_77 rfl rfl ?_
        refine qX_house hΓ (pc := 78) hK 3 (by decide) q815 dX1_close_78 ?_
        refine qx_hget hΓ (pc := 81) hK (r := 3) (by decide) rfl (k := 21) rfl q754 dX1_close_81 ?_
        refine g_istore_n hΓ (pc := 84) (i := 3) (lv' := [(3, .int ((x5.1 3).2.2 21)), (2, .int y4), (0, .ref (ad 0)), (1, .int y1), (4, .int y4)]) dX1_close_84 rfl (by decide) rfl ?_
        obtain ⟨x7, hx7, hf⟩ := bindE hf
        refine g_iinc hΓ (pc := 85) 4 (i := 4) (v := x7) (lv' := [(4, .int x7), (3, .int ((x5.1 3).2.2 21)), (2, .int y4), (0, .ref (ad 0)), (1, .int y1)]) dX1_close_85 rfl (Option.some.inj hx7) (by decide) rfl ?_
        refine g_goto hΓ (pc := 88) (tgt := 28) dX1_close_88 (by decide) ?_
        refine g_wid (by omega) (by omega) (c2 := (427 + (7 - n28) * 427)) (s2 := (427 + (7 - n28) * 427)) ?_
        exact g_sub [3, 4, 2, 1, 0] rfl (hk28 _ _ _ _ _ hf)
      · have hf := ifN hf c6
        refine g_goto hΓ (pc := 71) (tgt := 85) dX1_close_71 (by decide) ?_
        obtain ⟨x8, hx8, hf⟩ := bindE hf
        refine g_iinc hΓ (pc := 85) 4 (i := 4) (v := x8) (lv' := [(4, .int x8), (0, .ref (ad 0)), (1, .int y1), (2, .int y2), (3, .int y3)]) dX1_close_85 rfl (Option.some.inj hx8) (by decide) rfl ?_
        refine g_goto hΓ (pc := 88) (tgt := 28) dX1_close_88 (by decide) ?_
        refine g_wid (by omega) (by omega) (c2 := (427 + (7 - n28) * 427)) (s2 := (427 + (7 - n28) * 427)) ?_
        exact g_sub [1, 2, 3, 4, 0] rfl (hk28 _ _ _ _ _ hf)
  have L28 : ∀ (n28 : Nat) (hn : n28 ≤ 7) (x : XS) (y1 : Int32) (y2 : Int32) (y3 : Int32) (y4 : Int32) (hf : X_close_28   n28 x y1 y2 y3 y4 = some (z, x')), WG Γ (XW D dA b ad P F gs x) (427 + (7 - n28) * 427) (427 + (7 - n28) * 427) 28 [(0, .ref (ad 0)), (1, .int y1), (2, .int y2), (3, .int y3), (4, .int y4)] [] := by
    intro  n28
    induction n28 with
    | zero => intro hn x y1 y2 y3 y4 hf; exact nomatch (show (none : Option (Int32 × XS)) = some _ from hf)
    | succ n28 ih => intro hn; exact S28  n28 hn _ (ih (by omega))
  refine g_iload_n hΓ (pc := 0) 1 (i := 1) dX1_close_0 rfl rfl ?_
  obtain ⟨x9, hx9, hf⟩ := bindE hf
  refine qg_callS hΓ (pc := 1) 1 (As := [.int a0]) (metS_isAhead _ hx9) (lw_S q599 q600 q54 q601) (by decide +kernel) ⟨by decide, by decide, ⟨by show 0 ≤ 3416; omega, by show 0 ≤ 3416; omega⟩⟩ rfl rfl (Nat.le_of_ble_eq_true rfl) dX1_close_1 ?_
  refine g_if_ne hΓ (pc := 4) (tgt := 9) dX1_close_4 (by decide) (fun c10 => ?_) (fun c10 => ?_)
  · have hf := ifN hf c10
    refine g_aload_n hΓ (pc := 9) 0 (i := 0) dX1_close_9 rfl rfl ?_
    refine g_iload_n hΓ (pc := 10) 1 (i := 1) dX1_close_10 rfl rfl ?_
    obtain ⟨x11, hx11, hf⟩ := bindE hf
    refine qX_callV hΓ (pc := 11) hK 1 (As := [.int a0]) (metX_minds _ hx11) (lw_V q602 q604 qs11 q54 q605) (by decide +kernel) (by decide) ⟨by show 0 + 427 ≤ 3416; omega, by show 0 + 427 ≤ 3416; omega⟩ rfl rfl (Nat.le_of_ble_eq_true rfl) dX1_close_11 ?_
    refine g_wid (by omega) (by omega) (c2 := 427) (s2 := 427) ?_
    refine g_bipush hΓ (pc := 14) (v := -4) dX1_close_14 (by decide) ?_
    refine g_istore_n hΓ (pc := 16) (i := 2) (lv' := [(2, .int (-4 : Int32)), (0, .ref (ad 0)), (1, .int a0)]) dX1_close_16 rfl (by decide) rfl ?_
    refine g_aload_n hΓ (pc := 17) 1 (i := 0) dX1_close_17 rfl rfl ?_
    refine qX_house hΓ (pc := 18) hK 3 (by decide) q815 dX1_close_18 ?_
    refine qx_hget hΓ (pc := 21) hK (r := 3) (by decide) rfl (k := 21) rfl q754 dX1_close_21 ?_
    refine g_istore_n hΓ (pc := 24) (i := 3) (lv' := [(3, .int ((x11.1 3).2.2 21)), (2, .int (-4 : Int32)), (0, .ref (ad 0)), (1, .int a0)]) dX1_close_24 rfl (by decide) rfl ?_
    refine g_iconst hΓ (pc := 25) (v := 0) dX1_close_25 (by decide) ?_
    refine g_istore hΓ (pc := 26) (i := 4) (lv' := [(4, .int (0 : Int32)), (3, .int ((x11.1 3).2.2 21)), (2, .int (-4 : Int32)), (0, .ref (ad 0)), (1, .int a0)]) dX1_close_26 (by decide) rfl ?_
    exact g_sub [3, 4, 2, 1, 0] rfl (L28  7 (Nat.le_refl 7) _ _ _ _ _ hf)
  · have hf := ifP hf c10
    refine g_iconst hΓ (pc := 7) (v := -1) dX1_close_7 (by decide) ?_
    refine g_wid (by omega) (by omega) (c2 := 3416) (s2 := 3416) ?_
    exact qX_iret hΓ hf dX1_close_8
def X_driver_19s (k19 : XS → Int32 → Int32 → Option (Int32 × XS)) (x : XS) (y2 : Int32) (y3 : Int32) : Option (Int32 × XS) :=
  if ((x.1 3).2.2 15) ≤ y3 then (
    some (y2, x)
  ) else (
    if y2 = (-4 : Int32) then (
      (some (y3 + 1)).bind fun x3 =>
      k19 x y3 x3
    ) else (
      (hR (x.1 3) 13 y3).bind fun x4 =>
      (hR (x.1 3) 13 y2).bind fun x5 =>
      if x5 ≤ x4 then (
        (some (y3 + 1)).bind fun x7 =>
        k19 x y2 x7
      ) else (
        (some (y3 + 1)).bind fun x8 =>
        k19 x y3 x8
      )
    )
  )
def X_driver_19 : Nat → XS → Int32 → Int32 → Option (Int32 × XS)
  | 0 => fun _ _ _ => none
  | n + 1 => X_driver_19s   (X_driver_19   n)
def X_driver (x : XS) (a0 : Int32) : Option (Int32 × XS) :=
  (S_isAhead a0).bind fun x9 =>
  if x9 = 0 then (
    some ((-1 : Int32), x)
  ) else (
    (X_minds x a0).bind fun x11 =>
    X_driver_19 7 x11 (-4 : Int32) (0 : Int32)
  )
set_option maxHeartbeats 4000000 in
set_option maxRecDepth 100000 in
theorem metX_driver (l : Launch) {D : va_G} {dA : Nat → ClassId} {b : Nat} {ad : Nat → Nat} {P : Nat → Prop} {F : Nat → va_E} {gs : List (Nat × (Nat × Int32))} {x x' : XS} {a0 : Int32} {z : Int32} (hf : X_driver x a0 = some (z, x')) : Met l yX1_driver (ws_ yX1_driver cX1_driver 4 (some .int)) (rmx_ 11 307 427 427) (xP D dA b ad P F gs [.ref (ad 0), .int a0] x) (xQ D dA b ad P F gs (some (.int z)) x') 427 427 (fun q => b ≤ q) := by
  refine qx_met (by decide) RX1 rfl (Nat.le_of_ble_eq_true rfl) (fun Γ hΓ hK => ?_)
  refine g_sub [0, 1] (lv' := [(0, .ref (ad 0)), (1, .int a0)]) rfl ?_
  have S19 : ∀ (k19 : XS → Int32 → Int32 → Option (Int32 × XS)) (hk19 : ∀ (x : XS) (y2 : Int32) (y3 : Int32), k19 x y2 y3 = some (z, x') → WG Γ (XW D dA b ad P F gs x) 427 427 19 [(0, .ref (ad 0)), (2, .int y2), (3, .int y3)] []) (x : XS) (y2 : Int32) (y3 : Int32) (hf : X_driver_19s  k19 x y2 y3 = some (z, x')), WG Γ (XW D dA b ad P F gs x) 427 427 19 [(0, .ref (ad 0)), (2, .int y2), (3, .int y3)] [] := by
    intro k19 hk19 x y2 y3 hf
    refine g_iload_n hΓ (pc := 19) 2 (i := 3) dX1_driver_19 rfl rfl ?_
    refine g_aload_n hΓ (pc := 20) 0 (i := 0) dX1_driver_20 rfl rfl ?_
    refine qX_house hΓ (pc := 21) hK 3 (by decide) q815 dX1_driver_21 ?_
    refine qx_hget hΓ (pc := 24) hK (r := 3) (by decide) rfl (k := 15) rfl q742 dX1_driver_24 ?_
    refine g_icmp_ge hΓ (pc := 27) (tgt := 65) dX1_driver_27 (by decide) (fun c1 => ?_) (fun c1 => ?_)
    · have hf := ifP hf c1
      refine g_iload_n hΓ (pc := 65) 1 (i := 2) dX1_driver_65 rfl rfl ?_
      exact qX_iret hΓ hf dX1_driver_66
    · have hf := ifN hf c1
      refine g_iload_n hΓ (pc := 30) 1 (i := 2) dX1_driver_30 rfl rfl ?_
      refine g_bipush hΓ (pc := 31) (v := -4) dX1_driver_31 (by decide) ?_
      refine g_icmp_eq hΓ (pc := 33) (tgt := 57) dX1_driver_33 (by decide) (fun c2 => ?_) (fun c2 => ?_)
      · have hf := ifP hf c2
        refine g_iload_n hΓ (pc := 57) 2 (i := 3) dX1_driver_57 rfl rfl ?_
        refine g_istore_n hΓ (pc := 58) (i := 2) (lv' := [(2, .int y3), (0, .ref (ad 0)), (3, .int y3)]) dX1_driver_58 rfl (by decide) rfl ?_
        obtain ⟨x3, hx3, hf⟩ := bindE hf
        refine g_iinc hΓ (pc := 59) 2 (i := 3) (v := x3) (lv' := [(3, .int x3), (2, .int y3), (0, .ref (ad 0))]) dX1_driver_59 rfl (Option.some.inj hx3) (by decide) rfl ?_
        refine g_goto hΓ (pc := 62) (tgt := 19) dX1_driver_62 (by decide) ?_
        exact g_sub [2, 1, 0] rfl (hk19 _ _ _ hf)
      · have hf := ifN hf c2
        refine g_aload_n hΓ (pc := 36) 0 (i := 0) dX1_driver_36 rfl rfl ?_
        refine qX_house hΓ (pc := 37) hK 3 (by decide) q815 dX1_driver_37 ?_
        refine qx_hgeta hΓ (pc := 40) hK (r := 3) (by decide) (k := 13) rfl q738 dX1_driver_40 ?_
        refine g_iload_n hΓ (pc := 43) 2 (i := 3) dX1_driver_43 rfl rfl ?_
        obtain ⟨x4, hx4, hf⟩ := bindE hf
        refine qx_iald hΓ (pc := 44) hK (r := 3) (by decide) rfl rfl hx4 dX1_driver_44 ?_
        refine g_aload_n hΓ (pc := 45) 0 (i := 0) dX1_driver_45 rfl rfl ?_
        refine qX_house hΓ (pc := 46) hK 3 (by decide) q815 dX1_driver_46 ?_
        refine qx_hgeta hΓ (pc := 49) hK (r := 3) (by decide) (k := 13) rfl q738 dX1_driver_49 ?_
        refine g_iload_n hΓ (pc := 52) 1 (i := 2) dX1_driver_52 rfl rfl ?_
        obtain ⟨x5, hx5, hf⟩ := bindE hf
        refine qx_iald hΓ (pc := 53) hK (r := 3) (by decide) rfl rfl hx5 dX1_driver_53 ?_
        refine g_icmp_ge hΓ (pc := 54) (tgt := 59) dX1_driver_54 (by decide) (fun c6 => ?_) (fun c6 => ?_)
        · have hf := ifP hf c6
          obtain ⟨x7, hx7, hf⟩ := bindE hf
          refine g_iinc hΓ (pc := 59) 2 (i := 3) (v := x7) (lv' := [(3, .int x7), (0, .ref (ad 0)), (2, .int y2)]) dX1_driver_59 rfl (Option.some.inj hx7) (by decide) rfl ?_
          refine g_goto hΓ (pc := 62) (tgt := 19) dX1_driver_62 (by decide) ?_
          exact g_sub [1, 2, 0] rfl (hk19 _ _ _ hf)
        · have hf := ifN hf c6
          refine g_iload_n hΓ (pc := 57) 2 (i := 3) dX1_driver_57 rfl rfl ?_
          refine g_istore_n hΓ (pc := 58) (i := 2) (lv' := [(2, .int y3), (0, .ref (ad 0)), (3, .int y3)]) dX1_driver_58 rfl (by decide) rfl ?_
          obtain ⟨x8, hx8, hf⟩ := bindE hf
          refine g_iinc hΓ (pc := 59) 2 (i := 3) (v := x8) (lv' := [(3, .int x8), (2, .int y3), (0, .ref (ad 0))]) dX1_driver_59 rfl (Option.some.inj hx8) (by decide) rfl ?_
          refine g_goto hΓ (pc := 62) (tgt := 19) dX1_driver_62 (by decide) ?_
          exact g_sub [2, 1, 0] rfl (hk19 _ _ _ hf)
  have L19 : ∀ (n : Nat) (x : XS) (y2 : Int32) (y3 : Int32) (hf : X_driver_19   n x y2 y3 = some (z, x')), WG Γ (XW D dA b ad P F gs x) 427 427 19 [(0, .ref (ad 0)), (2, .int y2), (3, .int y3)] [] := by
    intro  n
    induction n with
    | zero => intro x y2 y3 hf; exact nomatch (show (none : Option (Int32 × XS)) = some _ from hf)
    | succ n ih => exact S19  _ ih
  refine g_iload_n hΓ (pc := 0) 1 (i := 1) dX1_driver_0 rfl rfl ?_
  obtain ⟨x9, hx9, hf⟩ := bindE hf
  refine qg_callS hΓ (pc := 1) 1 (As := [.int a0]) (metS_isAhead _ hx9) (lw_S q599 q600 q54 q601) (by decide +kernel) ⟨by decide, by decide, ⟨by show 0 ≤ 427; omega, by show 0 ≤ 427; omega⟩⟩ rfl rfl (Nat.le_of_ble_eq_true rfl) dX1_driver_1 ?_
  refine g_if_ne hΓ (pc := 4) (tgt := 9) dX1_driver_4 (by decide) (fun c10 => ?_) (fun c10 => ?_)
  · have hf := ifN hf c10
    refine g_aload_n hΓ (pc := 9) 0 (i := 0) dX1_driver_9 rfl rfl ?_
    refine g_iload_n hΓ (pc := 10) 1 (i := 1) dX1_driver_10 rfl rfl ?_
    obtain ⟨x11, hx11, hf⟩ := bindE hf
    refine qX_callV hΓ (pc := 11) hK 1 (As := [.int a0]) (metX_minds _ hx11) (lw_V q602 q604 qs11 q54 q605) (by decide +kernel) (by decide) ⟨by show 0 + 427 ≤ 427; omega, by show 0 + 427 ≤ 427; omega⟩ rfl rfl (Nat.le_of_ble_eq_true rfl) dX1_driver_11 ?_
    refine g_wid (by omega) (by omega) (c2 := 427) (s2 := 427) ?_
    refine g_bipush hΓ (pc := 14) (v := -4) dX1_driver_14 (by decide) ?_
    refine g_istore_n hΓ (pc := 16) (i := 2) (lv' := [(2, .int (-4 : Int32)), (0, .ref (ad 0)), (1, .int a0)]) dX1_driver_16 rfl (by decide) rfl ?_
    refine g_iconst hΓ (pc := 17) (v := 0) dX1_driver_17 (by decide) ?_
    refine g_istore_n hΓ (pc := 18) (i := 3) (lv' := [(3, .int (0 : Int32)), (2, .int (-4 : Int32)), (0, .ref (ad 0)), (1, .int a0)]) dX1_driver_18 rfl (by decide) rfl ?_
    exact g_sub [2, 1, 0] rfl (L19  7 _ _ _ hf)
  · have hf := ifP hf c10
    refine g_iconst hΓ (pc := 7) (v := -1) dX1_driver_7 (by decide) ?_
    refine g_wid (by omega) (by omega) (c2 := 427) (s2 := 427) ?_
    exact qX_iret hΓ hf dX1_driver_8
def X_full_13s (k13 : XS → Int32 → Option (Int32 × XS)) (x : XS) (y1 : Int32) : Option (Int32 × XS) :=
  if (60 : Int32) < y1 then (
    some ((-4 : Int32), x)
  ) else (
    (H_isEmptySomewhere (x.1 3)).bind fun x2 =>
    if x2 = 0 then (
      some (y1, x)
    ) else (
      (H_goesFreely (x.1 3)).bind fun h4 =>
      (some (xh x 3 h4)).bind fun x5 =>
      (some (y1 + 1)).bind fun x6 =>
      k13 x5 x6
    )
  )
def X_full_13 : Nat → XS → Int32 → Option (Int32 × XS)
  | 0 => fun _ _ => none
  | n + 1 => X_full_13s   (X_full_13   n)
def X_full (x : XS) : Option (Int32 × XS) :=
  (H_takes (x.1 0)).bind fun h7 =>
  (some (xh x 3 h7)).bind fun x8 =>
  X_full_13 62 x8 (0 : Int32)
set_option maxHeartbeats 4000000 in
set_option maxRecDepth 100000 in
theorem metX_full (l : Launch) {D : va_G} {dA : Nat → ClassId} {b : Nat} {ad : Nat → Nat} {P : Nat → Prop} {F : Nat → va_E} {gs : List (Nat × (Nat × Int32))} {x x' : XS} {z : Int32} (hf : X_full x  = some (z, x')) : Met l yX1_full (ws_ yX1_full cX1_full 2 (some .int)) (rmx_ 9 264 434 434) (xP D dA b ad P F gs [.ref (ad 0)] x) (xQ D dA b ad P F gs (some (.int z)) x') 434 434 (fun q => b ≤ q) := by
  refine qx_met (by decide) RX1 rfl (Nat.le_of_ble_eq_true rfl) (fun Γ hΓ hK => ?_)
  refine g_sub [0] (lv' := [(0, .ref (ad 0))]) rfl ?_
  have S13 : ∀ (n13 : Nat) (hn13 : n13 + 1 ≤ 62) (k13 : XS → Int32 → Option (Int32 × XS)) (hk13 : ∀ (x : XS) (y1 : Int32), k13 x y1 = some (z, x') → WG Γ (XW D dA b ad P F gs x) (0 + (62 - n13) * 7) (0 + (62 - n13) * 7) 13 [(0, .ref (ad 0)), (1, .int y1)] []) (x : XS) (y1 : Int32) (hf : X_full_13s  k13 x y1 = some (z, x')), WG Γ (XW D dA b ad P F gs x) (0 + (62 - (n13 + 1)) * 7) (0 + (62 - (n13 + 1)) * 7) 13 [(0, .ref (ad 0)), (1, .int y1)] [] := by
    intro n13 hn13 k13 hk13 x y1 hf
    refine g_iload_n hΓ (pc := 13) 1 (i := 1) dX1_full_13 rfl rfl ?_
    refine g_bipush hΓ (pc := 14) (v := 60) dX1_full_14 (by decide) ?_
    refine g_icmp_gt hΓ (pc := 16) (tgt := 44) dX1_full_16 (by decide) (fun c1 => ?_) (fun c1 => ?_)
    · have hf := ifP hf c1
      refine g_bipush hΓ (pc := 44) (v := -4) dX1_full_44 (by decide) ?_
      refine g_wid (by omega) (by omega) (c2 := 434) (s2 := 434) ?_
      exact qX_iret hΓ hf dX1_full_46
    · have hf := ifN hf c1
      refine g_aload_n hΓ (pc := 19) 0 (i := 0) dX1_full_19 rfl rfl ?_
      refine qX_house hΓ (pc := 20) hK 3 (by decide) q815 dX1_full_20 ?_
      obtain ⟨x2, hx2, hf⟩ := bindE hf
      refine qX_callH hΓ (pc := 23) hK (r := 3) (by decide) 0 (As := []) (metH_isEmptySomewhere _ (r := 3) (by decide) hx2) (lw_V q654 q655 q656 q55 q657) (by decide +kernel) (by decide) ⟨by show (0 + (62 - (n13 + 1)) * 7) + 0 ≤ 434; omega, by show (0 + (62 - (n13 + 1)) * 7) + 0 ≤ 434; omega⟩ rfl rfl (Nat.le_of_ble_eq_true rfl) dX1_full_23 ?_
      refine g_xs ?_
      refine g_if_ne hΓ (pc := 26) (tgt := 31) dX1_full_26 (by decide) (fun c3 => ?_) (fun c3 => ?_)
      · have hf := ifN hf c3
        refine g_aload_n hΓ (pc := 31) 0 (i := 0) dX1_full_31 rfl rfl ?_
        refine qX_house hΓ (pc := 32) hK 3 (by decide) q815 dX1_full_32 ?_
        obtain ⟨h4, hh4, hf⟩ := bindE hf
        refine qX_callH hΓ (pc := 35) hK (r := 3) (by decide) 0 (As := []) (metH_goesFreely _ (r := 3) (by decide) hh4) (lw_V q610 q365 q366 q55 q367) (by decide +kernel) (by decide) ⟨by show (0 + (62 - (n13 + 1)) * 7) + 7 ≤ 434; omega, by show (0 + (62 - (n13 + 1)) * 7) + 7 ≤ 434; omega⟩ rfl rfl (Nat.le_of_ble_eq_true rfl) dX1_full_35 ?_
        refine g_wid (by omega) (by omega) (c2 := (7 + (62 - (n13 + 1)) * 7)) (s2 := (7 + (62 - (n13 + 1)) * 7)) ?_
        obtain ⟨x5, hx5, hf⟩ := bindE hf
        refine g_xeq hx5 ?_
        obtain ⟨x6, hx6, hf⟩ := bindE hf
        refine g_iinc hΓ (pc := 38) 1 (i := 1) (v := x6) (lv' := [(1, .int x6), (0, .ref (ad 0))]) dX1_full_38 rfl (Option.some.inj hx6) (by decide) rfl ?_
        refine g_goto hΓ (pc := 41) (tgt := 13) dX1_full_41 (by decide) ?_
        refine g_wid (by omega) (by omega) (c2 := (0 + (62 - n13) * 7)) (s2 := (0 + (62 - n13) * 7)) ?_
        exact g_sub [1, 0] rfl (hk13 _ _ hf)
      · have hf := ifP hf c3
        refine g_iload_n hΓ (pc := 29) 1 (i := 1) dX1_full_29 rfl rfl ?_
        refine g_wid (by omega) (by omega) (c2 := 434) (s2 := 434) ?_
        exact qX_iret hΓ hf dX1_full_30
  have L13 : ∀ (n13 : Nat) (hn : n13 ≤ 62) (x : XS) (y1 : Int32) (hf : X_full_13   n13 x y1 = some (z, x')), WG Γ (XW D dA b ad P F gs x) (0 + (62 - n13) * 7) (0 + (62 - n13) * 7) 13 [(0, .ref (ad 0)), (1, .int y1)] [] := by
    intro  n13
    induction n13 with
    | zero => intro hn x y1 hf; exact nomatch (show (none : Option (Int32 × XS)) = some _ from hf)
    | succ n13 ih => intro hn; exact S13  n13 hn _ (ih (by omega))
  refine g_aload_n hΓ (pc := 0) 0 (i := 0) dX1_full_0 rfl rfl ?_
  refine qX_house hΓ (pc := 1) hK 3 (by decide) q815 dX1_full_1 ?_
  refine g_aload_n hΓ (pc := 4) 0 (i := 0) dX1_full_4 rfl rfl ?_
  refine qX_house hΓ (pc := 5) hK 0 (by decide) q812 dX1_full_5 ?_
  obtain ⟨h7, hh7, hf⟩ := bindE hf
  refine qX_callH hΓ (pc := 8) hK (r := 3) (by decide) 1 (As := [.ref (ad (hB 0 22))]) (metH_takes _ (r := 3) (r2 := 0) (by decide) (by decide) (by decide) hh7) (lw_V q93 q94 q95 q55 q96) (by decide +kernel) (by decide) ⟨by show 0 + 0 ≤ 434; omega, by show 0 + 0 ≤ 434; omega⟩ rfl rfl (Nat.le_of_ble_eq_true rfl) dX1_full_8 ?_
  obtain ⟨x8, hx8, hf⟩ := bindE hf
  refine g_xeq hx8 ?_
  refine g_iconst hΓ (pc := 11) (v := 0) dX1_full_11 (by decide) ?_
  refine g_istore_n hΓ (pc := 12) (i := 1) (lv' := [(1, .int (0 : Int32)), (0, .ref (ad 0))]) dX1_full_12 rfl (by decide) rfl ?_
  exact g_sub [1, 0] rfl (L13  62 (Nat.le_refl 62) _ _ hf)
def X_draw (x : XS) (a0 : Int32) : Option (Int32 × XS) :=
  (xSI x 5 (((x.2.1 5) * (1103515245 : Int32)) + (12345 : Int32))).bind fun x1 =>
  if a0 = 0 then none else
  some ((((x1.2.1 5) &&& (2147483647 : Int32)) / (65536 : Int32)) - (((x1.2.1 5) &&& (2147483647 : Int32)) / (65536 : Int32)) / a0 * a0, x1)
set_option maxHeartbeats 4000000 in
set_option maxRecDepth 100000 in
theorem metX_draw (l : Launch) {D : va_G} {dA : Nat → ClassId} {b : Nat} {ad : Nat → Nat} {P : Nat → Prop} {F : Nat → va_E} {gs : List (Nat × (Nat × Int32))} {x x' : XS} {a0 : Int32} {z : Int32} (hf : X_draw x a0 = some (z, x')) : Met l yX1_draw (ws_ yX1_draw cX1_draw 2 (some .int)) (rmx_ 0 0 0 0) (xP D dA b ad P F gs [.ref (ad 0), .int a0] x) (xQ D dA b ad P F gs (some (.int z)) x') 0 0 (fun q => b ≤ q) := by
  refine qx_met (by decide) RX1 rfl (Nat.le_of_ble_eq_true rfl) (fun Γ hΓ hK => ?_)
  refine g_sub [0, 1] (lv' := [(0, .ref (ad 0)), (1, .int a0)]) rfl ?_
  refine g_aload_n hΓ (pc := 0) 0 (i := 0) dX1_draw_0 rfl rfl ?_
  refine g_aload_n hΓ (pc := 1) 0 (i := 0) dX1_draw_1 rfl rfl ?_
  refine qX_get hΓ (pc := 2) hK 5 (by decide) q817 dX1_draw_2 ?_
  refine g_ldc hΓ (pc := 5) q666 dX1_draw_5 ?_
  refine g_imul hΓ (pc := 7) dX1_draw_7 ?_
  refine g_sipush hΓ (pc := 8) (v := 12345) dX1_draw_8 (by decide) ?_
  refine g_iadd hΓ (pc := 11) dX1_draw_11 ?_
  obtain ⟨x1, hx1, hf⟩ := bindE hf
  refine qX_put hΓ (pc := 12) hK hx1 q817 dX1_draw_12 ?_
  refine g_aload_n hΓ (pc := 15) 0 (i := 0) dX1_draw_15 rfl rfl ?_
  refine qX_get hΓ (pc := 16) hK 5 (by decide) q817 dX1_draw_16 ?_
  refine g_ldc hΓ (pc := 19) q667 dX1_draw_19 ?_
  refine g_iand hΓ (pc := 21) dX1_draw_21 ?_
  refine g_ldcw hΓ (pc := 22) q668 dX1_draw_22 ?_
  refine g_idiv hΓ (pc := 25) dX1_draw_25 (by decide) ?_
  refine g_iload_n hΓ (pc := 26) 1 (i := 1) dX1_draw_26 rfl rfl ?_
  obtain ⟨e2, hf⟩ := nzE hf
  refine g_irem hΓ (pc := 27) dX1_draw_27 e2 ?_
  exact qX_iret hΓ hf dX1_draw_28
def X_seeded_62s (k53 : XS → Int32 → Int32 → Int32 → Option (Int32 × XS)) (k62 : XS → Int32 → Int32 → Int32 → Int32 → Option (Int32 × XS)) (x : XS) (y1 : Int32) (y3 : Int32) (y4 : Int32) (y5 : Int32) : Option (Int32 × XS) :=
  if ((x.1 3).2.2 15) ≤ y5 then (
    (H_goesFreely (x.1 3)).bind fun h2 =>
    (some (xh x 3 h2)).bind fun x3 =>
    (some (y4 + 1)).bind fun x4 =>
    k53 x3 y1 y3 x4
  ) else (
    (X_draw x (6 : Int32)).bind fun q5 =>
    (some (q5.2)).bind fun x6 =>
    (xhW x6 3 10 y5 q5.1).bind fun x7 =>
    (some (y5 + 1)).bind fun x8 =>
    k62 x7 y1 y3 y4 x8
  )
def X_seeded_62 (k53 : XS → Int32 → Int32 → Int32 → Option (Int32 × XS)) : Nat → XS → Int32 → Int32 → Int32 → Int32 → Option (Int32 × XS)
  | 0 => fun _ _ _ _ _ => none
  | n + 1 => X_seeded_62s  k53 (X_seeded_62  k53 n)
def X_seeded_53s (k53 : XS → Int32 → Int32 → Int32 → Option (Int32 × XS)) (x : XS) (y1 : Int32) (y3 : Int32) (y4 : Int32) : Option (Int32 × XS) :=
  if y1 ≤ y4 then (
    if y3 = 0 then (
      some ((x.1 3).2.2 20, x)
    ) else (
      some ((x.1 3).2.2 21, x)
    )
  ) else (
    X_seeded_62 k53 7 x y1 y3 y4 (0 : Int32)
  )
def X_seeded_53 : Nat → XS → Int32 → Int32 → Int32 → Option (Int32 × XS)
  | 0 => fun _ _ _ _ => none
  | n + 1 => X_seeded_53s   (X_seeded_53   n)
def X_seeded (x : XS) (a0 : Int32) (a1 : Int32) (a2 : Int32) : Option (Int32 × XS) :=
  (S_isIn a0 (1 : Int32) (30 : Int32)).bind fun x11 =>
  if x11 = 0 then (
    some ((-1 : Int32), x)
  ) else (
    (S_isIn a2 (0 : Int32) (1 : Int32)).bind fun x13 =>
    if x13 = 0 then (
      some ((-1 : Int32), x)
    ) else (
      if ((x.1 0).2.2 15) = 0 then (
        some ((-3 : Int32), x)
      ) else (
        (H_takes (x.1 0)).bind fun h16 =>
        (some (xh x 3 h16)).bind fun x17 =>
        (xSI x17 5 a1).bind fun x18 =>
        X_seeded_53 31 x18 a0 a2 (0 : Int32)
      )
    )
  )
set_option maxHeartbeats 4000000 in
set_option maxRecDepth 100000 in
theorem metX_seeded (l : Launch) {D : va_G} {dA : Nat → ClassId} {b : Nat} {ad : Nat → Nat} {P : Nat → Prop} {F : Nat → va_E} {gs : List (Nat × (Nat × Int32))} {x x' : XS} {a0 : Int32} {a1 : Int32} {a2 : Int32} {z : Int32} (hf : X_seeded x a0 a1 a2 = some (z, x')) : Met l yX1_seeded (ws_ yX1_seeded cX1_seeded 6 (some .int)) (rmx_ 9 264 217 217) (xP D dA b ad P F gs [.ref (ad 0), .int a0, .int a1, .int a2] x) (xQ D dA b ad P F gs (some (.int z)) x') 217 217 (fun q => b ≤ q) := by
  refine qx_met (by decide) RX1 rfl (Nat.le_of_ble_eq_true rfl) (fun Γ hΓ hK => ?_)
  refine g_sub [0, 1, 2, 3] (lv' := [(0, .ref (ad 0)), (1, .int a0), (2, .int a1), (3, .int a2)]) rfl ?_
  have S62 : ∀ (n53 : Nat) (hn53 : n53 + 1 ≤ 31) (k53 : XS → Int32 → Int32 → Int32 → Option (Int32 × XS)) (hk53 : ∀ (x : XS) (y1 : Int32) (y3 : Int32) (y4 : Int32), k53 x y1 y3 y4 = some (z, x') → WG Γ (XW D dA b ad P F gs x) (0 + (31 - n53) * 7) (0 + (31 - n53) * 7) 53 [(0, .ref (ad 0)), (1, .int y1), (3, .int y3), (4, .int y4)] []) (k62 : XS → Int32 → Int32 → Int32 → Int32 → Option (Int32 × XS)) (hk62 : ∀ (x : XS) (y1 : Int32) (y3 : Int32) (y4 : Int32) (y5 : Int32), k62 x y1 y3 y4 y5 = some (z, x') → WG Γ (XW D dA b ad P F gs x) (0 + (31 - (n53 + 1)) * 7) (0 + (31 - (n53 + 1)) * 7) 62 [(0, .ref (ad 0)), (1, .int y1), (3, .int y3), (4, .int y4), (5, .int y5)] []) (x : XS) (y1 : Int32) (y3 : Int32) (y4 : Int32) (y5 : Int32) (hf : X_seeded_62s  k53 k62 x y1 y3 y4 y5 = some (z, x')), WG Γ (XW D dA b ad P F gs x) (0 + (31 - (n53 + 1)) * 7) (0 + (31 - (n53 + 1)) * 7) 62 [(0, .ref (ad 0)), (1, .int y1), (3, .int y3), (4, .int y4), (5, .int y5)] [] := by
    intro n53 hn53 k53 hk53 k62 hk62 x y1 y3 y4 y5 hf
    refine g_iload hΓ (pc := 62) 4 (i := 5) dX1_seeded_62 rfl ?_
    refine g_aload_n hΓ (pc := 64) 0 (i := 0) dX1_seeded_64 rfl rfl ?_
    refine qX_house hΓ (pc := 65) hK 3 (by decide) q815 dX1_seeded_65 ?_
    refine qx_hget hΓ (pc := 68) hK (r := 3) (by decide) rfl (k := 15) rfl q742 dX1_seeded_68 ?_
    refine g_icmp_ge hΓ (pc := 71) (tgt := 96) dX1_seeded_71 (by decide) (fun c1 => ?_) (fun c1 => ?_)
    · have hf := ifP hf c1
      refine g_aload_n hΓ (pc := 96) 0 (i := 0) dX1_seeded_96 rfl rfl ?_
      refine qX_house hΓ (pc := 97) hK 3 (by decide) q815 dX1_seeded_97 ?_
      obtain ⟨h2, hh2, hf⟩ := bindE hf
      refine qX_callH hΓ (pc := 100) hK (r := 3) (by decide) 0 (As := []) (metH_goesFreely _ (r := 3) (by decide) hh2) (lw_V q610 q365 q366 q55 q367) (by decide +kernel) (by decide) ⟨by show (0 + (31 - (n53 + 1)) * 7) + 7 ≤ 217; omega, by show (0 + (31 - (n53 + 1)) * 7) + 7 ≤ 217; omega⟩ rfl rfl (Nat.le_of_ble_eq_true rfl) dX1_seeded_100 ?_
      refine g_wid (by omega) (by omega) (c2 := (7 + (31 - (n53 + 1)) * 7)) (s2 := (7 + (31 - (n53 + 1)) * 7)) ?_
      obtain ⟨x3, hx3, hf⟩ := bindE hf
      refine g_xeq hx3 ?_
      obtain ⟨x4, hx4, hf⟩ := bindE hf
      refine g_iinc hΓ (pc := 103) 3 (i := 4) (v := x4) (lv' := [(4, .int x4), (0, .ref (ad 0)), (1, .int y1), (3, .int y3), (5, .int y5)]) dX1_seeded_103 rfl (Option.some.inj hx4) (by decide) rfl ?_
      refine g_goto hΓ (pc := 106) (tgt := 53) dX1_seeded_106 (by decide) ?_
      refine g_wid (by omega) (by omega) (c2 := (0 + (31 - n53) * 7)) (s2 := (0 + (31 - n53) * 7)) ?_
      exact g_sub [1, 2, 3, 0] rfl (hk53 _ _ _ _ hf)
    · have hf := ifN hf c1
      refine g_aload_n hΓ (pc := 74) 0 (i := 0) dX1_seeded_74 rfl rfl ?_
      refine qX_house hΓ (pc := 75) hK 3 (by decide) q815 dX1_seeded_75 ?_
      refine qx_hgeta hΓ (pc := 78) hK (r := 3) (by decide) (k := 10) rfl q732 dX1_seeded_78 ?_
      refine g_iload hΓ (pc := 81) 4 (i := 5) dX1_seeded_81 rfl ?_
      refine g_aload_n hΓ (pc := 83) 0 (i := 0) dX1_seeded_83 rfl rfl ?_
      refine g_bipush hΓ (pc := 84) (v := 6) dX1_seeded_84 (by decide) ?_
      obtain ⟨q5, hq5, hf⟩ := bindE hf
      refine qX_callV hΓ (pc := 86) hK 1 (As := [.int (6 : Int32)]) (metX_draw _ (z := q5.1) (x' := q5.2) hq5) (lw_V q662 q664 qs13 q54 q665) (by decide +kernel) (by decide) ⟨by show (0 + (31 - (n53 + 1)) * 7) + 0 ≤ 217; omega, by show (0 + (31 - (n53 + 1)) * 7) + 0 ≤ 217; omega⟩ rfl rfl (Nat.le_of_ble_eq_true rfl) dX1_seeded_86 ?_
      refine g_wid (by omega) (by omega) (c2 := (0 + (31 - (n53 + 1)) * 7)) (s2 := (0 + (31 - (n53 + 1)) * 7)) ?_
      obtain ⟨x6, hx6, hf⟩ := bindE hf
      refine g_xeq hx6 ?_
      obtain ⟨x7, hx7, hf⟩ := bindE hf
      refine qX_iast hΓ (pc := 89) hK (r := 3) (by decide) rfl hx7 dX1_seeded_89 ?_
      obtain ⟨x8, hx8, hf⟩ := bindE hf
      refine g_iinc hΓ (pc := 90) 4 (i := 5) (v := x8) (lv' := [(5, .int x8), (0, .ref (ad 0)), (1, .int y1), (3, .int y3), (4, .int y4)]) dX1_seeded_90 rfl (Option.some.inj hx8) (by decide) rfl ?_
      refine g_goto hΓ (pc := 93) (tgt := 62) dX1_seeded_93 (by decide) ?_
      exact g_sub [1, 2, 3, 4, 0] rfl (hk62 _ _ _ _ _ hf)
  have L62 : ∀ (n53 : Nat) (hn53 : n53 + 1 ≤ 31) (k53 : XS → Int32 → Int32 → Int32 → Option (Int32 × XS)) (hk53 : ∀ (x : XS) (y1 : Int32) (y3 : Int32) (y4 : Int32), k53 x y1 y3 y4 = some (z, x') → WG Γ (XW D dA b ad P F gs x) (0 + (31 - n53) * 7) (0 + (31 - n53) * 7) 53 [(0, .ref (ad 0)), (1, .int y1), (3, .int y3), (4, .int y4)] []) (n : Nat) (x : XS) (y1 : Int32) (y3 : Int32) (y4 : Int32) (y5 : Int32) (hf : X_seeded_62  k53 n x y1 y3 y4 y5 = some (z, x')), WG Γ (XW D dA b ad P F gs x) (0 + (31 - (n53 + 1)) * 7) (0 + (31 - (n53 + 1)) * 7) 62 [(0, .ref (ad 0)), (1, .int y1), (3, .int y3), (4, .int y4), (5, .int y5)] [] := by
    intro n53 hn53 k53 hk53 n
    induction n with
    | zero => intro x y1 y3 y4 y5 hf; exact nomatch (show (none : Option (Int32 × XS)) = some _ from hf)
    | succ n ih => exact S62 n53 hn53 k53 hk53 _ ih
  have S53 : ∀ (n53 : Nat) (hn53 : n53 + 1 ≤ 31) (k53 : XS → Int32 → Int32 → Int32 → Option (Int32 × XS)) (hk53 : ∀ (x : XS) (y1 : Int32) (y3 : Int32) (y4 : Int32), k53 x y1 y3 y4 = some (z, x') → WG Γ (XW D dA b ad P F gs x) (0 + (31 - n53) * 7) (0 + (31 - n53) * 7) 53 [(0, .ref (ad 0)), (1, .int y1), (3, .int y3), (4, .int y4)] []) (x : XS) (y1 : Int32) (y3 : Int32) (y4 : Int32) (hf : X_seeded_53s  k53 x y1 y3 y4 = some (z, x')), WG Γ (XW D dA b ad P F gs x) (0 + (31 - (n53 + 1)) * 7) (0 + (31 - (n53 + 1)) * 7) 53 [(0, .ref (ad 0)), (1, .int y1), (3, .int y3), (4, .int y4)] [] := by
    intro n53 hn53 k53 hk53 x y1 y3 y4 hf
    refine g_iload hΓ (pc := 53) 3 (i := 4) dX1_seeded_53 rfl ?_
    refine g_iload_n hΓ (pc := 55) 1 (i := 1) dX1_seeded_55 rfl rfl ?_
    refine g_icmp_ge hΓ (pc := 56) (tgt := 109) dX1_seeded_56 (by decide) (fun c9 => ?_) (fun c9 => ?_)
    · have hf := ifP hf c9
      refine g_iload_n hΓ (pc := 109) 2 (i := 3) dX1_seeded_109 rfl rfl ?_
      refine g_if_ne hΓ (pc := 110) (tgt := 123) dX1_seeded_110 (by decide) (fun c10 => ?_) (fun c10 => ?_)
      · have hf := ifN hf c10
        refine g_aload_n hΓ (pc := 123) 0 (i := 0) dX1_seeded_123 rfl rfl ?_
        refine qX_house hΓ (pc := 124) hK 3 (by decide) q815 dX1_seeded_124 ?_
        refine qx_hget hΓ (pc := 127) hK (r := 3) (by decide) rfl (k := 21) rfl q754 dX1_seeded_127 ?_
        refine g_wid (by omega) (by omega) (c2 := 217) (s2 := 217) ?_
        exact qX_iret hΓ hf dX1_seeded_130
      · have hf := ifP hf c10
        refine g_aload_n hΓ (pc := 113) 0 (i := 0) dX1_seeded_113 rfl rfl ?_
        refine qX_house hΓ (pc := 114) hK 3 (by decide) q815 dX1_seeded_114 ?_
        refine qx_hget hΓ (pc := 117) hK (r := 3) (by decide) rfl (k := 20) rfl q752 dX1_seeded_117 ?_
        refine g_goto hΓ (pc := 120) (tgt := 130) dX1_seeded_120 (by decide) ?_
        refine g_wid (by omega) (by omega) (c2 := 217) (s2 := 217) ?_
        exact qX_iret hΓ hf dX1_seeded_130
    · have hf := ifN hf c9
      refine g_iconst hΓ (pc := 59) (v := 0) dX1_seeded_59 (by decide) ?_
      refine g_istore hΓ (pc := 60) (i := 5) (lv' := [(5, .int (0 : Int32)), (0, .ref (ad 0)), (1, .int y1), (3, .int y3), (4, .int y4)]) dX1_seeded_60 (by decide) rfl ?_
      exact g_sub [1, 2, 3, 4, 0] rfl (L62 n53 hn53 k53 hk53 7 _ _ _ _ _ hf)
  have L53 : ∀ (n53 : Nat) (hn : n53 ≤ 31) (x : XS) (y1 : Int32) (y3 : Int32) (y4 : Int32) (hf : X_seeded_53   n53 x y1 y3 y4 = some (z, x')), WG Γ (XW D dA b ad P F gs x) (0 + (31 - n53) * 7) (0 + (31 - n53) * 7) 53 [(0, .ref (ad 0)), (1, .int y1), (3, .int y3), (4, .int y4)] [] := by
    intro  n53
    induction n53 with
    | zero => intro hn x y1 y3 y4 hf; exact nomatch (show (none : Option (Int32 × XS)) = some _ from hf)
    | succ n53 ih => intro hn; exact S53  n53 hn _ (ih (by omega))
  refine g_iload_n hΓ (pc := 0) 1 (i := 1) dX1_seeded_0 rfl rfl ?_
  refine g_iconst hΓ (pc := 1) (v := 1) dX1_seeded_1 (by decide) ?_
  refine g_bipush hΓ (pc := 2) (v := 30) dX1_seeded_2 (by decide) ?_
  obtain ⟨x11, hx11, hf⟩ := bindE hf
  refine qg_callS hΓ (pc := 4) 3 (As := [.int a0, .int (1 : Int32), .int (30 : Int32)]) (metS_isIn _ hx11) (lw_S q89 q90 q54 q91) (by decide +kernel) ⟨by decide, by decide, ⟨by show 0 ≤ 217; omega, by show 0 ≤ 217; omega⟩⟩ rfl rfl (Nat.le_of_ble_eq_true rfl) dX1_seeded_4 ?_
  refine g_if_eq hΓ (pc := 7) (tgt := 19) dX1_seeded_7 (by decide) (fun c12 => ?_) (fun c12 => ?_)
  · have hf := ifP hf c12
    refine g_iconst hΓ (pc := 19) (v := -1) dX1_seeded_19 (by decide) ?_
    refine g_wid (by omega) (by omega) (c2 := 217) (s2 := 217) ?_
    exact qX_iret hΓ hf dX1_seeded_20
  · have hf := ifN hf c12
    refine g_iload_n hΓ (pc := 10) 3 (i := 3) dX1_seeded_10 rfl rfl ?_
    refine g_iconst hΓ (pc := 11) (v := 0) dX1_seeded_11 (by decide) ?_
    refine g_iconst hΓ (pc := 12) (v := 1) dX1_seeded_12 (by decide) ?_
    obtain ⟨x13, hx13, hf⟩ := bindE hf
    refine qg_callS hΓ (pc := 13) 3 (As := [.int a2, .int (0 : Int32), .int (1 : Int32)]) (metS_isIn _ hx13) (lw_S q89 q90 q54 q91) (by decide +kernel) ⟨by decide, by decide, ⟨by show 0 ≤ 217; omega, by show 0 ≤ 217; omega⟩⟩ rfl rfl (Nat.le_of_ble_eq_true rfl) dX1_seeded_13 ?_
    refine g_if_ne hΓ (pc := 16) (tgt := 21) dX1_seeded_16 (by decide) (fun c14 => ?_) (fun c14 => ?_)
    · have hf := ifN hf c14
      refine g_aload_n hΓ (pc := 21) 0 (i := 0) dX1_seeded_21 rfl rfl ?_
      refine qX_house hΓ (pc := 22) hK 0 (by decide) q812 dX1_seeded_22 ?_
      refine qx_hget hΓ (pc := 25) hK (r := 0) (by decide) rfl (k := 15) rfl q742 dX1_seeded_25 ?_
      refine g_if_ne hΓ (pc := 28) (tgt := 34) dX1_seeded_28 (by decide) (fun c15 => ?_) (fun c15 => ?_)
      · have hf := ifN hf c15
        refine g_aload_n hΓ (pc := 34) 0 (i := 0) dX1_seeded_34 rfl rfl ?_
        refine qX_house hΓ (pc := 35) hK 3 (by decide) q815 dX1_seeded_35 ?_
        refine g_aload_n hΓ (pc := 38) 0 (i := 0) dX1_seeded_38 rfl rfl ?_
        refine qX_house hΓ (pc := 39) hK 0 (by decide) q812 dX1_seeded_39 ?_
        obtain ⟨h16, hh16, hf⟩ := bindE hf
        refine qX_callH hΓ (pc := 42) hK (r := 3) (by decide) 1 (As := [.ref (ad (hB 0 22))]) (metH_takes _ (r := 3) (r2 := 0) (by decide) (by decide) (by decide) hh16) (lw_V q93 q94 q95 q55 q96) (by decide +kernel) (by decide) ⟨by show 0 + 0 ≤ 217; omega, by show 0 + 0 ≤ 217; omega⟩ rfl rfl (Nat.le_of_ble_eq_true rfl) dX1_seeded_42 ?_
        obtain ⟨x17, hx17, hf⟩ := bindE hf
        refine g_xeq hx17 ?_
        refine g_aload_n hΓ (pc := 45) 0 (i := 0) dX1_seeded_45 rfl rfl ?_
        refine g_iload_n hΓ (pc := 46) 2 (i := 2) dX1_seeded_46 rfl rfl ?_
        obtain ⟨x18, hx18, hf⟩ := bindE hf
        refine qX_put hΓ (pc := 47) hK hx18 q817 dX1_seeded_47 ?_
        refine g_iconst hΓ (pc := 50) (v := 0) dX1_seeded_50 (by decide) ?_
        refine g_istore hΓ (pc := 51) (i := 4) (lv' := [(4, .int (0 : Int32)), (0, .ref (ad 0)), (1, .int a0), (2, .int a1), (3, .int a2)]) dX1_seeded_51 (by decide) rfl ?_
        exact g_sub [1, 2, 4, 0] rfl (L53  31 (Nat.le_refl 31) _ _ _ _ hf)
      · have hf := ifP hf c15
        refine g_bipush hΓ (pc := 31) (v := -3) dX1_seeded_31 (by decide) ?_
        refine g_wid (by omega) (by omega) (c2 := 217) (s2 := 217) ?_
        exact qX_iret hΓ hf dX1_seeded_33
    · have hf := ifP hf c14
      refine g_iconst hΓ (pc := 19) (v := -1) dX1_seeded_19 (by decide) ?_
      refine g_wid (by omega) (by omega) (c2 := 217) (s2 := 217) ?_
      exact qX_iret hΓ hf dX1_seeded_20
def X_image (x : XS) : Option (Int32 × XS) :=
  (H_takes (x.1 0)).bind fun h1 =>
  (some (xh x 2 h1)).bind fun x2 =>
  (xSZ x2 4 (1 : Int32)).bind fun x3 =>
  some ((x3.1 0).2.2 17, x3)
set_option maxHeartbeats 4000000 in
set_option maxRecDepth 100000 in
theorem metX_image (l : Launch) {D : va_G} {dA : Nat → ClassId} {b : Nat} {ad : Nat → Nat} {P : Nat → Prop} {F : Nat → va_E} {gs : List (Nat × (Nat × Int32))} {x x' : XS} {z : Int32} (hf : X_image x  = some (z, x')) : Met l yX1_image (ws_ yX1_image cX1_image 1 (some .int)) (rmx_ 2 85 0 0) (xP D dA b ad P F gs [.ref (ad 0)] x) (xQ D dA b ad P F gs (some (.int z)) x') 0 0 (fun q => b ≤ q) := by
  refine qx_met (by decide) RX1 rfl (Nat.le_of_ble_eq_true rfl) (fun Γ hΓ hK => ?_)
  refine g_sub [0] (lv' := [(0, .ref (ad 0))]) rfl ?_
  refine g_aload_n hΓ (pc := 0) 0 (i := 0) dX1_image_0 rfl rfl ?_
  refine qX_house hΓ (pc := 1) hK 2 (by decide) q814 dX1_image_1 ?_
  refine g_aload_n hΓ (pc := 4) 0 (i := 0) dX1_image_4 rfl rfl ?_
  refine qX_house hΓ (pc := 5) hK 0 (by decide) q812 dX1_image_5 ?_
  obtain ⟨h1, hh1, hf⟩ := bindE hf
  refine qX_callH hΓ (pc := 8) hK (r := 2) (by decide) 1 (As := [.ref (ad (hB 0 22))]) (metH_takes _ (r := 2) (r2 := 0) (by decide) (by decide) (by decide) hh1) (lw_V q93 q94 q95 q55 q96) (by decide +kernel) (by decide) ⟨by show 0 + 0 ≤ 0; omega, by show 0 + 0 ≤ 0; omega⟩ rfl rfl (Nat.le_of_ble_eq_true rfl) dX1_image_8 ?_
  obtain ⟨x2, hx2, hf⟩ := bindE hf
  refine g_xeq hx2 ?_
  refine g_aload_n hΓ (pc := 11) 0 (i := 0) dX1_image_11 rfl rfl ?_
  refine g_iconst hΓ (pc := 12) (v := 1) dX1_image_12 (by decide) ?_
  obtain ⟨x3, hx3, hf⟩ := bindE hf
  refine qX_putz hΓ (pc := 13) hK hx3 q816 dX1_image_13 ?_
  refine g_aload_n hΓ (pc := 16) 0 (i := 0) dX1_image_16 rfl rfl ?_
  refine qX_house hΓ (pc := 17) hK 0 (by decide) q812 dX1_image_17 ?_
  refine qx_hget hΓ (pc := 20) hK (r := 0) (by decide) rfl (k := 17) rfl q746 dX1_image_20 ?_
  exact qX_iret hΓ hf dX1_image_23
def X_restore (x : XS) : Option (Int32 × XS) :=
  if (x.2.1 4) = 0 then (
    some ((-3 : Int32), x)
  ) else (
    (H_takes (x.1 2)).bind fun h2 =>
    (some (xh x 0 h2)).bind fun x3 =>
    some ((x3.1 0).2.2 17, x3)
  )
set_option maxHeartbeats 4000000 in
set_option maxRecDepth 100000 in
theorem metX_restore (l : Launch) {D : va_G} {dA : Nat → ClassId} {b : Nat} {ad : Nat → Nat} {P : Nat → Prop} {F : Nat → va_E} {gs : List (Nat × (Nat × Int32))} {x x' : XS} {z : Int32} (hf : X_restore x  = some (z, x')) : Met l yX1_restore (ws_ yX1_restore cX1_restore 1 (some .int)) (rmx_ 2 85 0 0) (xP D dA b ad P F gs [.ref (ad 0)] x) (xQ D dA b ad P F gs (some (.int z)) x') 0 0 (fun q => b ≤ q) := by
  refine qx_met (by decide) RX1 rfl (Nat.le_of_ble_eq_true rfl) (fun Γ hΓ hK => ?_)
  refine g_sub [0] (lv' := [(0, .ref (ad 0))]) rfl ?_
  refine g_aload_n hΓ (pc := 0) 0 (i := 0) dX1_restore_0 rfl rfl ?_
  refine qX_get hΓ (pc := 1) hK 4 (by decide) q816 dX1_restore_1 ?_
  refine g_if_ne hΓ (pc := 4) (tgt := 10) dX1_restore_4 (by decide) (fun c1 => ?_) (fun c1 => ?_)
  · have hf := ifN hf c1
    refine g_aload_n hΓ (pc := 10) 0 (i := 0) dX1_restore_10 rfl rfl ?_
    refine qX_house hΓ (pc := 11) hK 0 (by decide) q812 dX1_restore_11 ?_
    refine g_aload_n hΓ (pc := 14) 0 (i := 0) dX1_restore_14 rfl rfl ?_
    refine qX_house hΓ (pc := 15) hK 2 (by decide) q814 dX1_restore_15 ?_
    obtain ⟨h2, hh2, hf⟩ := bindE hf
    refine qX_callH hΓ (pc := 18) hK (r := 0) (by decide) 1 (As := [.ref (ad (hB 2 22))]) (metH_takes _ (r := 0) (r2 := 2) (by decide) (by decide) (by decide) hh2) (lw_V q93 q94 q95 q55 q96) (by decide +kernel) (by decide) ⟨by show 0 + 0 ≤ 0; omega, by show 0 + 0 ≤ 0; omega⟩ rfl rfl (Nat.le_of_ble_eq_true rfl) dX1_restore_18 ?_
    obtain ⟨x3, hx3, hf⟩ := bindE hf
    refine g_xeq hx3 ?_
    refine g_aload_n hΓ (pc := 21) 0 (i := 0) dX1_restore_21 rfl rfl ?_
    refine qX_house hΓ (pc := 22) hK 0 (by decide) q812 dX1_restore_22 ?_
    refine qx_hget hΓ (pc := 25) hK (r := 0) (by decide) rfl (k := 17) rfl q746 dX1_restore_25 ?_
    exact qX_iret hΓ hf dX1_restore_28
  · have hf := ifP hf c1
    refine g_bipush hΓ (pc := 7) (v := -3) dX1_restore_7 (by decide) ?_
    exact qX_iret hΓ hf dX1_restore_9
def X_count_119s (x : XS) (k119 : Int32 → Int32 → Option (Int32)) (y2 : Int32) (y3 : Int32) : Option (Int32) :=
  if ((x.1 0).2.2 14) ≤ y3 then (
    some y2
  ) else (
    (hR (x.1 0) 2 y3).bind fun x2 =>
    if x2 = (20 : Int32) then (
      (some (y2 + (1 : Int32))).bind fun x6 =>
      (some (y3 + 1)).bind fun x7 =>
      k119 x6 x7
    ) else (
      (some (y2 + (0 : Int32))).bind fun x4 =>
      (some (y3 + 1)).bind fun x5 =>
      k119 x4 x5
    )
  )
def X_count_119 (x : XS) : Nat → Int32 → Int32 → Option (Int32)
  | 0 => fun _ _ => none
  | n + 1 => X_count_119s x  (X_count_119 x  n)
def X_count_78s (x : XS) (k78 : Int32 → Int32 → Option (Int32)) (y2 : Int32) (y3 : Int32) : Option (Int32) :=
  if ((x.1 0).2.2 14) ≤ y3 then (
    some y2
  ) else (
    (hR (x.1 0) 1 y3).bind fun x9 =>
    (some (y2 + x9)).bind fun x10 =>
    (some (y3 + 1)).bind fun x11 =>
    k78 x10 x11
  )
def X_count_78 (x : XS) : Nat → Int32 → Int32 → Option (Int32)
  | 0 => fun _ _ => none
  | n + 1 => X_count_78s x  (X_count_78 x  n)
def X_count (x : XS) (a0 : Int32) : Option (Int32) :=
  if a0 = (0 : Int32) then (
    some ((x.1 0).2.2 14)
  ) else (
  if a0 = (1 : Int32) then (
    some ((x.1 0).2.2 15)
  ) else (
  if a0 = (2 : Int32) then (
    some ((x.1 0).2.2 16)
  ) else (
  if a0 = (3 : Int32) then (
    some ((x.1 0).2.2 17)
  ) else (
  if a0 = (4 : Int32) then (
    X_count_78 x 13 (0 : Int32) (0 : Int32)
  ) else (
  if a0 = (5 : Int32) then (
    some ((x.1 0).2.2 18)
  ) else (
  if a0 = (6 : Int32) then (
    X_count_119 x 13 (0 : Int32) (0 : Int32)
  ) else (
  some (-1 : Int32)
  )
  )
  )
  )
  )
  )
  )
set_option maxHeartbeats 4000000 in
set_option maxRecDepth 100000 in
theorem metX_count (l : Launch) {D : va_G} {dA : Nat → ClassId} {b : Nat} {ad : Nat → Nat} {P : Nat → Prop} {F : Nat → va_E} {gs : List (Nat × (Nat × Int32))} {x : XS} {a0 : Int32} {z : Int32} (hf : X_count x a0 = some z) : Met l yX1_count (ws_ yX1_count cX1_count 4 (some .int)) (rmx_ 0 0 0 0) (xP D dA b ad P F gs [.ref (ad 0), .int a0] x) (xQ D dA b ad P F gs (some (.int z)) x) 0 0 (fun q => b ≤ q) := by
  refine qx_met (by decide) RX1 rfl (Nat.le_of_ble_eq_true rfl) (fun Γ hΓ hK => ?_)
  refine g_sub [0, 1] (lv' := [(0, .ref (ad 0)), (1, .int a0)]) rfl ?_
  have S119 : ∀ (k119 : Int32 → Int32 → Option (Int32)) (hk119 : ∀ (y2 : Int32) (y3 : Int32), k119 y2 y3 = some z → WG Γ (XW D dA b ad P F gs x) 0 0 119 [(0, .ref (ad 0)), (2, .int y2), (3, .int y3)] []) (y2 : Int32) (y3 : Int32) (hf : X_count_119s x k119 y2 y3 = some z), WG Γ (XW D dA b ad P F gs x) 0 0 119 [(0, .ref (ad 0)), (2, .int y2), (3, .int y3)] [] := by
    intro k119 hk119 y2 y3 hf
    refine g_iload_n hΓ (pc := 119) 2 (i := 3) dX1_count_119 rfl rfl ?_
    refine g_aload_n hΓ (pc := 120) 0 (i := 0) dX1_count_120 rfl rfl ?_
    refine qX_house hΓ (pc := 121) hK 0 (by decide) q812 dX1_count_121 ?_
    refine qx_hget hΓ (pc := 124) hK (r := 0) (by decide) rfl (k := 14) rfl q740 dX1_count_124 ?_
    refine g_icmp_ge hΓ (pc := 127) (tgt := 158) dX1_count_127 (by decide) (fun c1 => ?_) (fun c1 => ?_)
    · have hf := ifP hf c1
      refine g_iload_n hΓ (pc := 158) 1 (i := 2) dX1_count_158 rfl rfl ?_
      exact qX_iretR hΓ hf dX1_count_159
    · have hf := ifN hf c1
      refine g_iload_n hΓ (pc := 130) 1 (i := 2) dX1_count_130 rfl rfl ?_
      refine g_aload_n hΓ (pc := 131) 0 (i := 0) dX1_count_131 rfl rfl ?_
      refine qX_house hΓ (pc := 132) hK 0 (by decide) q812 dX1_count_132 ?_
      refine qx_hgeta hΓ (pc := 135) hK (r := 0) (by decide) (k := 2) rfl q716 dX1_count_135 ?_
      refine g_iload_n hΓ (pc := 138) 2 (i := 3) dX1_count_138 rfl rfl ?_
      obtain ⟨x2, hx2, hf⟩ := bindE hf
      refine qx_iald hΓ (pc := 139) hK (r := 0) (by decide) rfl rfl hx2 dX1_count_139 ?_
      refine g_bipush hΓ (pc := 140) (v := 20) dX1_count_140 (by decide) ?_
      refine g_icmp_ne hΓ (pc := 142) (tgt := 149) dX1_count_142 (by decide) (fun c3 => ?_) (fun c3 => ?_)
      · have hf := ifN hf c3
        refine g_iconst hΓ (pc := 149) (v := 0) dX1_count_149 (by decide) ?_
        refine g_iadd hΓ (pc := 150) dX1_count_150 ?_
        obtain ⟨x4, hx4, hf⟩ := bindE hf
        refine g_topi hx4 ?_
        refine g_istore_n hΓ (pc := 151) (i := 2) (lv' := [(2, .int x4), (0, .ref (ad 0)), (3, .int y3)]) dX1_count_151 rfl (by decide) rfl ?_
        obtain ⟨x5, hx5, hf⟩ := bindE hf
        refine g_iinc hΓ (pc := 152) 2 (i := 3) (v := x5) (lv' := [(3, .int x5), (2, .int x4), (0, .ref (ad 0))]) dX1_count_152 rfl (Option.some.inj hx5) (by decide) rfl ?_
        refine g_goto hΓ (pc := 155) (tgt := 119) dX1_count_155 (by decide) ?_
        exact g_sub [2, 1, 0] rfl (hk119 _ _ hf)
      · have hf := ifP hf c3
        refine g_iconst hΓ (pc := 145) (v := 1) dX1_count_145 (by decide) ?_
        refine g_goto hΓ (pc := 146) (tgt := 150) dX1_count_146 (by decide) ?_
        refine g_iadd hΓ (pc := 150) dX1_count_150 ?_
        obtain ⟨x6, hx6, hf⟩ := bindE hf
        refine g_topi hx6 ?_
        refine g_istore_n hΓ (pc := 151) (i := 2) (lv' := [(2, .int x6), (0, .ref (ad 0)), (3, .int y3)]) dX1_count_151 rfl (by decide) rfl ?_
        obtain ⟨x7, hx7, hf⟩ := bindE hf
        refine g_iinc hΓ (pc := 152) 2 (i := 3) (v := x7) (lv' := [(3, .int x7), (2, .int x6), (0, .ref (ad 0))]) dX1_count_152 rfl (Option.some.inj hx7) (by decide) rfl ?_
        refine g_goto hΓ (pc := 155) (tgt := 119) dX1_count_155 (by decide) ?_
        exact g_sub [2, 1, 0] rfl (hk119 _ _ hf)
  have L119 : ∀ (n : Nat) (y2 : Int32) (y3 : Int32) (hf : X_count_119 x  n y2 y3 = some z), WG Γ (XW D dA b ad P F gs x) 0 0 119 [(0, .ref (ad 0)), (2, .int y2), (3, .int y3)] [] := by
    intro  n
    induction n with
    | zero => intro y2 y3 hf; exact nomatch (show (none : Option (Int32)) = some _ from hf)
    | succ n ih => exact S119  _ ih
  have S78 : ∀ (k78 : Int32 → Int32 → Option (Int32)) (hk78 : ∀ (y2 : Int32) (y3 : Int32), k78 y2 y3 = some z → WG Γ (XW D dA b ad P F gs x) 0 0 78 [(0, .ref (ad 0)), (2, .int y2), (3, .int y3)] []) (y2 : Int32) (y3 : Int32) (hf : X_count_78s x k78 y2 y3 = some z), WG Γ (XW D dA b ad P F gs x) 0 0 78 [(0, .ref (ad 0)), (2, .int y2), (3, .int y3)] [] := by
    intro k78 hk78 y2 y3 hf
    refine g_iload_n hΓ (pc := 78) 2 (i := 3) dX1_count_78 rfl rfl ?_
    refine g_aload_n hΓ (pc := 79) 0 (i := 0) dX1_count_79 rfl rfl ?_
    refine qX_house hΓ (pc := 80) hK 0 (by decide) q812 dX1_count_80 ?_
    refine qx_hget hΓ (pc := 83) hK (r := 0) (by decide) rfl (k := 14) rfl q740 dX1_count_83 ?_
    refine g_icmp_ge hΓ (pc := 86) (tgt := 107) dX1_count_86 (by decide) (fun c8 => ?_) (fun c8 => ?_)
    · have hf := ifP hf c8
      refine g_iload_n hΓ (pc := 107) 1 (i := 2) dX1_count_107 rfl rfl ?_
      exact qX_iretR hΓ hf dX1_count_108
    · have hf := ifN hf c8
      refine g_iload_n hΓ (pc := 89) 1 (i := 2) dX1_count_89 rfl rfl ?_
      refine g_aload_n hΓ (pc := 90) 0 (i := 0) dX1_count_90 rfl rfl ?_
      refine qX_house hΓ (pc := 91) hK 0 (by decide) q812 dX1_count_91 ?_
      refine qx_hgeta hΓ (pc := 94) hK (r := 0) (by decide) (k := 1) rfl q714 dX1_count_94 ?_
      refine g_iload_n hΓ (pc := 97) 2 (i := 3) dX1_count_97 rfl rfl ?_
      obtain ⟨x9, hx9, hf⟩ := bindE hf
      refine qx_iald hΓ (pc := 98) hK (r := 0) (by decide) rfl rfl hx9 dX1_count_98 ?_
      refine g_iadd hΓ (pc := 99) dX1_count_99 ?_
      obtain ⟨x10, hx10, hf⟩ := bindE hf
      refine g_topi hx10 ?_
      refine g_istore_n hΓ (pc := 100) (i := 2) (lv' := [(2, .int x10), (0, .ref (ad 0)), (3, .int y3)]) dX1_count_100 rfl (by decide) rfl ?_
      obtain ⟨x11, hx11, hf⟩ := bindE hf
      refine g_iinc hΓ (pc := 101) 2 (i := 3) (v := x11) (lv' := [(3, .int x11), (2, .int x10), (0, .ref (ad 0))]) dX1_count_101 rfl (Option.some.inj hx11) (by decide) rfl ?_
      refine g_goto hΓ (pc := 104) (tgt := 78) dX1_count_104 (by decide) ?_
      exact g_sub [2, 1, 0] rfl (hk78 _ _ hf)
  have L78 : ∀ (n : Nat) (y2 : Int32) (y3 : Int32) (hf : X_count_78 x  n y2 y3 = some z), WG Γ (XW D dA b ad P F gs x) 0 0 78 [(0, .ref (ad 0)), (2, .int y2), (3, .int y3)] [] := by
    intro  n
    induction n with
    | zero => intro y2 y3 hf; exact nomatch (show (none : Option (Int32)) = some _ from hf)
    | succ n ih => exact S78  _ ih
  refine g_iconst hΓ (pc := 0) (v := 0) dX1_count_0 (by decide) ?_
  refine g_istore_n hΓ (pc := 1) (i := 2) (lv' := [(2, .int (0 : Int32)), (0, .ref (ad 0)), (1, .int a0)]) dX1_count_1 rfl (by decide) rfl ?_
  refine g_iload_n hΓ (pc := 2) 2 (i := 1) dX1_count_2 rfl rfl ?_
  by_cases c12 : a0 = (0 : Int32)
  · have hf := ifP hf c12
    refine g_tswC hΓ (pc := 3) (tgt := 44) (0) dX1_count_3 (by rw [c12]; decide) (by decide) (by decide) rfl (by decide) ?_
    refine g_aload_n hΓ (pc := 44) 1 (i := 0) dX1_count_44 rfl rfl ?_
    refine qX_house hΓ (pc := 45) hK 0 (by decide) q812 dX1_count_45 ?_
    refine qx_hget hΓ (pc := 48) hK (r := 0) (by decide) rfl (k := 14) rfl q740 dX1_count_48 ?_
    exact qX_iretR hΓ hf dX1_count_51
  · have hf := ifN hf c12
    by_cases c13 : a0 = (1 : Int32)
    · have hf := ifP hf c13
      refine g_tswC hΓ (pc := 3) (tgt := 52) (1) dX1_count_3 (by rw [c13]; decide) (by decide) (by decide) rfl (by decide) ?_
      refine g_aload_n hΓ (pc := 52) 1 (i := 0) dX1_count_52 rfl rfl ?_
      refine qX_house hΓ (pc := 53) hK 0 (by decide) q812 dX1_count_53 ?_
      refine qx_hget hΓ (pc := 56) hK (r := 0) (by decide) rfl (k := 15) rfl q742 dX1_count_56 ?_
      exact qX_iretR hΓ hf dX1_count_59
    · have hf := ifN hf c13
      by_cases c14 : a0 = (2 : Int32)
      · have hf := ifP hf c14
        refine g_tswC hΓ (pc := 3) (tgt := 60) (2) dX1_count_3 (by rw [c14]; decide) (by decide) (by decide) rfl (by decide) ?_
        refine g_aload_n hΓ (pc := 60) 1 (i := 0) dX1_count_60 rfl rfl ?_
        refine qX_house hΓ (pc := 61) hK 0 (by decide) q812 dX1_count_61 ?_
        refine qx_hget hΓ (pc := 64) hK (r := 0) (by decide) rfl (k := 16) rfl q744 dX1_count_64 ?_
        exact qX_iretR hΓ hf dX1_count_67
      · have hf := ifN hf c14
        by_cases c15 : a0 = (3 : Int32)
        · have hf := ifP hf c15
          refine g_tswC hΓ (pc := 3) (tgt := 68) (3) dX1_count_3 (by rw [c15]; decide) (by decide) (by decide) rfl (by decide) ?_
          refine g_aload_n hΓ (pc := 68) 1 (i := 0) dX1_count_68 rfl rfl ?_
          refine qX_house hΓ (pc := 69) hK 0 (by decide) q812 dX1_count_69 ?_
          refine qx_hget hΓ (pc := 72) hK (r := 0) (by decide) rfl (k := 17) rfl q746 dX1_count_72 ?_
          exact qX_iretR hΓ hf dX1_count_75
        · have hf := ifN hf c15
          by_cases c16 : a0 = (4 : Int32)
          · have hf := ifP hf c16
            refine g_tswC hΓ (pc := 3) (tgt := 76) (4) dX1_count_3 (by rw [c16]; decide) (by decide) (by decide) rfl (by decide) ?_
            refine g_iconst hΓ (pc := 76) (v := 0) dX1_count_76 (by decide) ?_
            refine g_istore_n hΓ (pc := 77) (i := 3) (lv' := [(3, .int (0 : Int32)), (2, .int (0 : Int32)), (0, .ref (ad 0)), (1, .int a0)]) dX1_count_77 rfl (by decide) rfl ?_
            exact g_sub [2, 1, 0] rfl (L78  13 _ _ hf)
          · have hf := ifN hf c16
            by_cases c17 : a0 = (5 : Int32)
            · have hf := ifP hf c17
              refine g_tswC hΓ (pc := 3) (tgt := 109) (5) dX1_count_3 (by rw [c17]; decide) (by decide) (by decide) rfl (by decide) ?_
              refine g_aload_n hΓ (pc := 109) 1 (i := 0) dX1_count_109 rfl rfl ?_
              refine qX_house hΓ (pc := 110) hK 0 (by decide) q812 dX1_count_110 ?_
              refine qx_hget hΓ (pc := 113) hK (r := 0) (by decide) rfl (k := 18) rfl q748 dX1_count_113 ?_
              exact qX_iretR hΓ hf dX1_count_116
            · have hf := ifN hf c17
              by_cases c18 : a0 = (6 : Int32)
              · have hf := ifP hf c18
                refine g_tswC hΓ (pc := 3) (tgt := 117) (6) dX1_count_3 (by rw [c18]; decide) (by decide) (by decide) rfl (by decide) ?_
                refine g_iconst hΓ (pc := 117) (v := 0) dX1_count_117 (by decide) ?_
                refine g_istore_n hΓ (pc := 118) (i := 3) (lv' := [(3, .int (0 : Int32)), (2, .int (0 : Int32)), (0, .ref (ad 0)), (1, .int a0)]) dX1_count_118 rfl (by decide) rfl ?_
                exact g_sub [2, 1, 0] rfl (L119  13 _ _ hf)
              · have hf := ifN hf c18
                refine g_tswD hΓ (pc := 3) (tgt := 160) dX1_count_3 (fun v h1 h2 h3 => ?_) (by decide) ?_
                · rcases (by omega : v = 0 ∨ v = 1 ∨ v = 2 ∨ v = 3 ∨ v = 4 ∨ v = 5 ∨ v = 6) with rfl | rfl | rfl | rfl | rfl | rfl | rfl
                  · exact absurd h3 (lv_neT c12 (by decide))
                  · exact absurd h3 (lv_neT c13 (by decide))
                  · exact absurd h3 (lv_neT c14 (by decide))
                  · exact absurd h3 (lv_neT c15 (by decide))
                  · exact absurd h3 (lv_neT c16 (by decide))
                  · exact absurd h3 (lv_neT c17 (by decide))
                  · exact absurd h3 (lv_neT c18 (by decide))
                · skip
                  refine g_iconst hΓ (pc := 160) (v := -1) dX1_count_160 (by decide) ?_
                  exact qX_iretR hΓ hf dX1_count_161
def X_glass (x : XS) (a0 : Int32) (a1 : Int32) : Option (Int32) :=
  (H_isGlass (x.1 0) a0).bind fun x1 =>
  if x1 = 0 then (
    some (-1 : Int32)
  ) else (
    if a1 = (0 : Int32) then (
      (hG (x.1 0) a0).bind fun g4 =>
      some (gKind g4)
    ) else (
    if a1 = (1 : Int32) then (
      (hG (x.1 0) a0).bind fun g7 =>
      some g7.2
    ) else (
    if a1 = (2 : Int32) then (
      (hR (x.1 0) 1 a0).bind fun x10 =>
      some x10
    ) else (
    if a1 = (3 : Int32) then (
      (hR (x.1 0) 2 a0).bind fun x12 =>
      some x12
    ) else (
    if a1 = (4 : Int32) then (
      (hR (x.1 0) 4 a0).bind fun x14 =>
      some x14
    ) else (
    if a1 = (5 : Int32) then (
      (hR (x.1 0) 5 a0).bind fun x16 =>
      if x16 = 0 then (
        some (0 : Int32)
      ) else (
        some (1 : Int32)
      )
    ) else (
    if a1 = (6 : Int32) then (
      (hR (x.1 0) 3 a0).bind fun x19 =>
      some x19
    ) else (
    some (-1 : Int32)
    )
    )
    )
    )
    )
    )
    )
  )
set_option maxHeartbeats 4000000 in
set_option maxRecDepth 100000 in
theorem metX_glass (l : Launch) {D : va_G} {dA : Nat → ClassId} {b : Nat} {ad : Nat → Nat} {P : Nat → Prop} {F : Nat → va_E} {gs : List (Nat × (Nat × Int32))} {x : XS} {a0 : Int32} {a1 : Int32} {z : Int32} (hf : X_glass x a0 a1 = some z) : Met l yX1_glass (ws_ yX1_glass cX1_glass 3 (some .int)) (rmx_ 2 60 0 0) (xP D dA b ad P F gs [.ref (ad 0), .int a0, .int a1] x) (xQ D dA b ad P F gs (some (.int z)) x) 0 0 (fun q => b ≤ q) := by
  refine qx_met (by decide) RX1 rfl (Nat.le_of_ble_eq_true rfl) (fun Γ hΓ hK => ?_)
  refine g_sub [0, 1, 2] (lv' := [(0, .ref (ad 0)), (1, .int a0), (2, .int a1)]) rfl ?_
  refine g_aload_n hΓ (pc := 0) 0 (i := 0) dX1_glass_0 rfl rfl ?_
  refine qX_house hΓ (pc := 1) hK 0 (by decide) q812 dX1_glass_1 ?_
  refine g_iload_n hΓ (pc := 4) 1 (i := 1) dX1_glass_4 rfl rfl ?_
  obtain ⟨x1, hx1, hf⟩ := bindE hf
  refine qX_callH hΓ (pc := 5) hK (r := 0) (by decide) 1 (As := [.int a0]) (metH_isGlass _ (r := 0) (by decide) hx1) (lw_V q348 q349 q350 q55 q351) (by decide +kernel) (by decide) ⟨by show 0 + 0 ≤ 0; omega, by show 0 + 0 ≤ 0; omega⟩ rfl rfl (Nat.le_of_ble_eq_true rfl) dX1_glass_5 ?_
  refine g_xs ?_
  refine g_if_ne hΓ (pc := 8) (tgt := 13) dX1_glass_8 (by decide) (fun c2 => ?_) (fun c2 => ?_)
  · have hf := ifN hf c2
    refine g_iload_n hΓ (pc := 13) 2 (i := 2) dX1_glass_13 rfl rfl ?_
    by_cases c3 : a1 = (0 : Int32)
    · have hf := ifP hf c3
      refine g_tswC hΓ (pc := 14) (tgt := 56) (0) dX1_glass_14 (by rw [c3]; decide) (by decide) (by decide) rfl (by decide) ?_
      refine g_aload_n hΓ (pc := 56) 0 (i := 0) dX1_glass_56 rfl rfl ?_
      refine qX_house hΓ (pc := 57) hK 0 (by decide) q812 dX1_glass_57 ?_
      refine qx_hgeta hΓ (pc := 60) hK (r := 0) (by decide) (k := 0) rfl q712 dX1_glass_60 ?_
      refine g_iload_n hΓ (pc := 63) 1 (i := 1) dX1_glass_63 rfl rfl ?_
      obtain ⟨g4, hg4, hf⟩ := bindE hf
      refine qx_gald hΓ (pc := 64) hK (r := 0) (by decide) rfl hg4 dX1_glass_64 (fun ya5 => ?_)
      refine qx_kind hΓ (pc := 65) hK List.mem_cons_self (by decide) ⟨by show 0 ≤ 0; omega, by show 0 ≤ 0; omega⟩ (Nat.le_of_ble_eq_true rfl) dX1_glass_65 ?_
      refine g_w (fun H h => XW.drop (gs := gs) h (fun q hq => List.mem_cons_of_mem _ (hq))) ?_
      exact qX_iretR hΓ hf dX1_glass_68
    · have hf := ifN hf c3
      by_cases c6 : a1 = (1 : Int32)
      · have hf := ifP hf c6
        refine g_tswC hΓ (pc := 14) (tgt := 69) (1) dX1_glass_14 (by rw [c6]; decide) (by decide) (by decide) rfl (by decide) ?_
        refine g_aload_n hΓ (pc := 69) 0 (i := 0) dX1_glass_69 rfl rfl ?_
        refine qX_house hΓ (pc := 70) hK 0 (by decide) q812 dX1_glass_70 ?_
        refine qx_hgeta hΓ (pc := 73) hK (r := 0) (by decide) (k := 0) rfl q712 dX1_glass_73 ?_
        refine g_iload_n hΓ (pc := 76) 1 (i := 1) dX1_glass_76 rfl rfl ?_
        obtain ⟨g7, hg7, hf⟩ := bindE hf
        refine qx_gald hΓ (pc := 77) hK (r := 0) (by decide) rfl hg7 dX1_glass_77 (fun ya8 => ?_)
        refine qx_fig hΓ (pc := 78) hK List.mem_cons_self q275 dX1_glass_78 ?_
        refine g_w (fun H h => XW.drop (gs := gs) h (fun q hq => List.mem_cons_of_mem _ (hq))) ?_
        exact qX_iretR hΓ hf dX1_glass_81
      · have hf := ifN hf c6
        by_cases c9 : a1 = (2 : Int32)
        · have hf := ifP hf c9
          refine g_tswC hΓ (pc := 14) (tgt := 82) (2) dX1_glass_14 (by rw [c9]; decide) (by decide) (by decide) rfl (by decide) ?_
          refine g_aload_n hΓ (pc := 82) 0 (i := 0) dX1_glass_82 rfl rfl ?_
          refine qX_house hΓ (pc := 83) hK 0 (by decide) q812 dX1_glass_83 ?_
          refine qx_hgeta hΓ (pc := 86) hK (r := 0) (by decide) (k := 1) rfl q714 dX1_glass_86 ?_
          refine g_iload_n hΓ (pc := 89) 1 (i := 1) dX1_glass_89 rfl rfl ?_
          obtain ⟨x10, hx10, hf⟩ := bindE hf
          refine qx_iald hΓ (pc := 90) hK (r := 0) (by decide) rfl rfl hx10 dX1_glass_90 ?_
          exact qX_iretR hΓ hf dX1_glass_91
        · have hf := ifN hf c9
          by_cases c11 : a1 = (3 : Int32)
          · have hf := ifP hf c11
            refine g_tswC hΓ (pc := 14) (tgt := 92) (3) dX1_glass_14 (by rw [c11]; decide) (by decide) (by decide) rfl (by decide) ?_
            refine g_aload_n hΓ (pc := 92) 0 (i := 0) dX1_glass_92 rfl rfl ?_
            refine qX_house hΓ (pc := 93) hK 0 (by decide) q812 dX1_glass_93 ?_
            refine qx_hgeta hΓ (pc := 96) hK (r := 0) (by decide) (k := 2) rfl q716 dX1_glass_96 ?_
            refine g_iload_n hΓ (pc := 99) 1 (i := 1) dX1_glass_99 rfl rfl ?_
            obtain ⟨x12, hx12, hf⟩ := bindE hf
            refine qx_iald hΓ (pc := 100) hK (r := 0) (by decide) rfl rfl hx12 dX1_glass_100 ?_
            exact qX_iretR hΓ hf dX1_glass_101
          · have hf := ifN hf c11
            by_cases c13 : a1 = (4 : Int32)
            · have hf := ifP hf c13
              refine g_tswC hΓ (pc := 14) (tgt := 102) (4) dX1_glass_14 (by rw [c13]; decide) (by decide) (by decide) rfl (by decide) ?_
              refine g_aload_n hΓ (pc := 102) 0 (i := 0) dX1_glass_102 rfl rfl ?_
              refine qX_house hΓ (pc := 103) hK 0 (by decide) q812 dX1_glass_103 ?_
              refine qx_hgeta hΓ (pc := 106) hK (r := 0) (by decide) (k := 4) rfl q720 dX1_glass_106 ?_
              refine g_iload_n hΓ (pc := 109) 1 (i := 1) dX1_glass_109 rfl rfl ?_
              obtain ⟨x14, hx14, hf⟩ := bindE hf
              refine qx_iald hΓ (pc := 110) hK (r := 0) (by decide) rfl rfl hx14 dX1_glass_110 ?_
              exact qX_iretR hΓ hf dX1_glass_111
            · have hf := ifN hf c13
              by_cases c15 : a1 = (5 : Int32)
              · have hf := ifP hf c15
                refine g_tswC hΓ (pc := 14) (tgt := 112) (5) dX1_glass_14 (by rw [c15]; decide) (by decide) (by decide) rfl (by decide) ?_
                refine g_aload_n hΓ (pc := 112) 0 (i := 0) dX1_glass_112 rfl rfl ?_
                refine qX_house hΓ (pc := 113) hK 0 (by decide) q812 dX1_glass_113 ?_
                refine qx_hgeta hΓ (pc := 116) hK (r := 0) (by decide) (k := 5) rfl q722 dX1_glass_116 ?_
                refine g_iload_n hΓ (pc := 119) 1 (i := 1) dX1_glass_119 rfl rfl ?_
                obtain ⟨x16, hx16, hf⟩ := bindE hf
                refine qx_zald hΓ (pc := 120) hK (r := 0) (by decide) rfl hx16 dX1_glass_120 ?_
                refine g_if_eq hΓ (pc := 121) (tgt := 128) dX1_glass_121 (by decide) (fun c17 => ?_) (fun c17 => ?_)
                · have hf := ifP hf c17
                  refine g_iconst hΓ (pc := 128) (v := 0) dX1_glass_128 (by decide) ?_
                  exact qX_iretR hΓ hf dX1_glass_129
                · have hf := ifN hf c17
                  refine g_iconst hΓ (pc := 124) (v := 1) dX1_glass_124 (by decide) ?_
                  refine g_goto hΓ (pc := 125) (tgt := 129) dX1_glass_125 (by decide) ?_
                  exact qX_iretR hΓ hf dX1_glass_129
              · have hf := ifN hf c15
                by_cases c18 : a1 = (6 : Int32)
                · have hf := ifP hf c18
                  refine g_tswC hΓ (pc := 14) (tgt := 130) (6) dX1_glass_14 (by rw [c18]; decide) (by decide) (by decide) rfl (by decide) ?_
                  refine g_aload_n hΓ (pc := 130) 0 (i := 0) dX1_glass_130 rfl rfl ?_
                  refine qX_house hΓ (pc := 131) hK 0 (by decide) q812 dX1_glass_131 ?_
                  refine qx_hgeta hΓ (pc := 134) hK (r := 0) (by decide) (k := 3) rfl q718 dX1_glass_134 ?_
                  refine g_iload_n hΓ (pc := 137) 1 (i := 1) dX1_glass_137 rfl rfl ?_
                  obtain ⟨x19, hx19, hf⟩ := bindE hf
                  refine qx_iald hΓ (pc := 138) hK (r := 0) (by decide) rfl rfl hx19 dX1_glass_138 ?_
                  exact qX_iretR hΓ hf dX1_glass_139
                · have hf := ifN hf c18
                  refine g_tswD hΓ (pc := 14) (tgt := 140) dX1_glass_14 (fun v h1 h2 h3 => ?_) (by decide) ?_
                  · rcases (by omega : v = 0 ∨ v = 1 ∨ v = 2 ∨ v = 3 ∨ v = 4 ∨ v = 5 ∨ v = 6) with rfl | rfl | rfl | rfl | rfl | rfl | rfl
                    · exact absurd h3 (lv_neT c3 (by decide))
                    · exact absurd h3 (lv_neT c6 (by decide))
                    · exact absurd h3 (lv_neT c9 (by decide))
                    · exact absurd h3 (lv_neT c11 (by decide))
                    · exact absurd h3 (lv_neT c13 (by decide))
                    · exact absurd h3 (lv_neT c15 (by decide))
                    · exact absurd h3 (lv_neT c18 (by decide))
                  · skip
                    refine g_iconst hΓ (pc := 140) (v := -1) dX1_glass_140 (by decide) ?_
                    exact qX_iretR hΓ hf dX1_glass_141
  · have hf := ifP hf c2
    refine g_iconst hΓ (pc := 11) (v := -1) dX1_glass_11 (by decide) ?_
    exact qX_iretR hΓ hf dX1_glass_12

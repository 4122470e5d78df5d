set_option maxRecDepth 100000
/-- a new house -/
def h0i (k : Nat) : Int32 := if k = 16 then 20 else if k = 19 then -1 else 0
def EHi (dA : Nat → ClassId) (k : Nat) : va_E := if k = 0 then .inl (dA 5, 12, .inr (.inr (.inr (.inr (fun _ => none))))) else if k = 5 then .inl (dA 2, 12, .inl (fun _ => 0)) else .inl (dA 0, hLen k, .inl (fun _ => 0))
def hfs0 : List Value := [.null, .null, .null, .null, .null, .null, .null, .null, .null, .null, .null, .null, .null, .null, .int 0, .int 0, .int 0, .int 0, .int 0, .int 0, .int 0, .int 0]
def hfsI (as : Nat → Nat) : List Value := (List.range 22).map (fun k => if k < 14 then .ref (as k) else .int (h0i k))
def HI (dA : Nat → ClassId) (fs : List Value) (arrs : va_W) : Prop := ∃ as : Nat → Nat, fs = hfsI as ∧ arrs = (List.range 14).map (fun k => (as k, EHi dA k))
def SI (_dA : Nat → ClassId) (fs : List Value) (arrs : va_W) : Prop := fs = [.null] ∧ arrs = []
set_option maxHeartbeats 4000000 in
set_option maxRecDepth 100000 in
theorem metI_House (l : Launch) {D : va_G} {dA : Nat → ClassId} {b : Nat} {ws : va_W} {a : Nat} : Met l yX2_init (ws_ yX2_init cX2_init 1 none) (rmx_ 1 20 14 120) (iP D dA b ws a 1 hfs0) (iQ D b ws a 1 (HI dA)) 14 120 (fun q => b ≤ q) := by
  refine qi_met (by decide) RX2 rfl (Nat.le_of_ble_eq_true rfl) (fun Γ hΓ hK hin => ?_)
  refine g_aload_n hΓ (pc := 0) 0 (i := 0) dX2_init_0 rfl rfl ?_
  refine g_objI hΓ (pc := 1) q709 dX2_init_1 (by decide) (Nat.le_of_ble_eq_true rfl) ?_
  refine g_aload_n hΓ (pc := 4) 0 (i := 0) dX2_init_4 rfl rfl ?_
  refine g_bipush hΓ (pc := 5) (v := 12) dX2_init_5 (by decide) ?_
  refine qi_newq hΓ (pc := 7) hK q478 hK.2.1.2.2.2.2.2.1 5 rfl (N := 12) (by decide) (by decide) (by decide) ⟨by decide, by decide⟩ dX2_init_7 (fun w0 => ?_)
  refine g_iaq (arrs' := [(w0, .inl (dA 5, 12, .inr (.inr (.inr (.inr (fun _ => none))))))]) (c2 := 1) (s2 := 12) rfl rfl rfl ?_
  refine qi_putF hΓ (pc := 10) hK in_X2 tyX2 tyX2_ok nmX2 rfl (hin rfl) 0 (by decide) rfl q711 rfl rfl rfl (Nat.le_of_ble_eq_true rfl) dX2_init_10 ?_
  refine g_ieq (fs' := [.ref w0, .null, .null, .null, .null, .null, .null, .null, .null, .null, .null, .null, .null, .null, .int 0, .int 0, .int 0, .int 0, .int 0, .int 0, .int 0, .int 0]) rfl ?_
  refine g_aload_n hΓ (pc := 13) 0 (i := 0) dX2_init_13 rfl rfl ?_
  refine g_bipush hΓ (pc := 14) (v := 12) dX2_init_14 (by decide) ?_
  refine qi_newaI hΓ (pc := 16) hK (arrs' := fun w1 => [(w0, .inl (dA 5, 12, .inr (.inr (.inr (.inr (fun _ => none)))))), (w1, .inl (dA 0, 12, .inl (fun _ => 0)))]) (N := 12) (by decide) (by decide) (by decide) ⟨by decide, by decide⟩ (c2 := 2) (s2 := 24) rfl rfl (fun w1 => rfl) dX2_init_16 (fun w1 => ?_)
  refine qi_putF hΓ (pc := 18) hK in_X2 tyX2 tyX2_ok nmX2 rfl (hin rfl) 1 (by decide) rfl q713 rfl rfl rfl (Nat.le_of_ble_eq_true rfl) dX2_init_18 ?_
  refine g_ieq (fs' := [.ref w0, .ref w1, .null, .null, .null, .null, .null, .null, .null, .null, .null, .null, .null, .null, .int 0, .int 0, .int 0, .int 0, .int 0, .int 0, .int 0, .int 0]) rfl ?_
  refine g_aload_n hΓ (pc := 21) 0 (i := 0) dX2_init_21 rfl rfl ?_
  refine g_bipush hΓ (pc := 22) (v := 12) dX2_init_22 (by decide) ?_
  refine qi_newaI hΓ (pc := 24) hK (arrs' := fun w2 => [(w0, .inl (dA 5, 12, .inr (.inr (.inr (.inr (fun _ => none)))))), (w1, .inl (dA 0, 12, .inl (fun _ => 0))), (w2, .inl (dA 0, 12, .inl (fun _ => 0)))]) (N := 12) (by decide) (by decide) (by decide) ⟨by decide, by decide⟩ (c2 := 3) (s2 := 36) rfl rfl (fun w2 => rfl) dX2_init_24 (fun w2 => ?_)
  refine qi_putF hΓ (pc := 26) hK in_X2 tyX2 tyX2_ok nmX2 rfl (hin rfl) 2 (by decide) rfl q715 rfl rfl rfl (Nat.le_of_ble_eq_true rfl) dX2_init_26 ?_
  refine g_ieq (fs' := [.ref w0, .ref w1, .ref w2, .null, .null, .null, .null, .null, .null, .null, .null, .null, .null, .null, .int 0, .int 0, .int 0, .int 0, .int 0, .int 0, .int 0, .int 0]) rfl ?_
  refine g_aload_n hΓ (pc := 29) 0 (i := 0) dX2_init_29 rfl rfl ?_
  refine g_bipush hΓ (pc := 30) (v := 12) dX2_init_30 (by decide) ?_
  refine qi_newaI hΓ (pc := 32) hK (arrs' := fun w3 => [(w0, .inl (dA 5, 12, .inr (.inr (.inr (.inr (fun _ => none)))))), (w1, .inl (dA 0, 12, .inl (fun _ => 0))), (w2, .inl (dA 0, 12, .inl (fun _ => 0))), (w3, .inl (dA 0, 12, .inl (fun _ => 0)))]) (N := 12) (by decide) (by decide) (by decide) ⟨by decide, by decide⟩ (c2 := 4) (s2 := 48) rfl rfl (fun w3 => rfl) dX2_init_32 (fun w3 => ?_)
  refine qi_putF hΓ (pc := 34) hK in_X2 tyX2 tyX2_ok nmX2 rfl (hin rfl) 3 (by decide) rfl q717 rfl rfl rfl (Nat.le_of_ble_eq_true rfl) dX2_init_34 ?_
  refine g_ieq (fs' := [.ref w0, .ref w1, .ref w2, .ref w3, .null, .null, .null, .null, .null, .null, .null, .null, .null, .null, .int 0, .int 0, .int 0, .int 0, .int 0, .int 0, .int 0, .int 0]) rfl ?_
  refine g_aload_n hΓ (pc := 37) 0 (i := 0) dX2_init_37 rfl rfl ?_
  refine g_bipush hΓ (pc := 38) (v := 12) dX2_init_38 (by decide) ?_
  refine qi_newaI hΓ (pc := 40) hK (arrs' := fun w4 => [(w0, .inl (dA 5, 12, .inr (.inr (.inr (.inr (fun _ => none)))))), (w1, .inl (dA 0, 12, .inl (fun _ => 0))), (w2, .inl (dA 0, 12, .inl (fun _ => 0))), (w3, .inl (dA 0, 12, .inl (fun _ => 0))), (w4, .inl (dA 0, 12, .inl (fun _ => 0)))]) (N := 12) (by decide) (by decide) (by decide) ⟨by decide, by decide⟩ (c2 := 5) (s2 := 60) rfl rfl (fun w4 => rfl) dX2_init_40 (fun w4 => ?_)
  refine qi_putF hΓ (pc := 42) hK in_X2 tyX2 tyX2_ok nmX2 rfl (hin rfl) 4 (by decide) rfl q719 rfl rfl rfl (Nat.le_of_ble_eq_true rfl) dX2_init_42 ?_
  refine g_ieq (fs' := [.ref w0, .ref w1, .ref w2, .ref w3, .ref w4, .null, .null, .null, .null, .null, .null, .null, .null, .null, .int 0, .int 0, .int 0, .int 0, .int 0, .int 0, .int 0, .int 0]) rfl ?_
  refine g_aload_n hΓ (pc := 45) 0 (i := 0) dX2_init_45 rfl rfl ?_
  refine g_bipush hΓ (pc := 46) (v := 12) dX2_init_46 (by decide) ?_
  refine qi_newaZ hΓ (pc := 48) hK (arrs' := fun w5 => [(w0, .inl (dA 5, 12, .inr (.inr (.inr (.inr (fun _ => none)))))), (w1, .inl (dA 0, 12, .inl (fun _ => 0))), (w2, .inl (dA 0, 12, .inl (fun _ => 0))), (w3, .inl (dA 0, 12, .inl (fun _ => 0))), (w4, .inl (dA 0, 12, .inl (fun _ => 0))), (w5, .inl (dA 2, 12, .inl (fun _ => 0)))]) (N := 12) (by decide) (by decide) (by decide) ⟨by decide, by decide⟩ (c2 := 6) (s2 := 72) rfl rfl (fun w5 => rfl) dX2_init_48 (fun w5 => ?_)
  refine qi_putF hΓ (pc := 50) hK in_X2 tyX2 tyX2_ok nmX2 rfl (hin rfl) 5 (by decide) rfl q721 rfl rfl rfl (Nat.le_of_ble_eq_true rfl) dX2_init_50 ?_
  refine g_ieq (fs' := [.ref w0, .ref w1, .ref w2, .ref w3, .ref w4, .ref w5, .null, .null, .null, .null, .null, .null, .null, .null, .int 0, .int 0, .int 0, .int 0, .int 0, .int 0, .int 0, .int 0]) rfl ?_
  refine g_aload_n hΓ (pc := 53) 0 (i := 0) dX2_init_53 rfl rfl ?_
  refine g_bipush hΓ (pc := 54) (v := 6) dX2_init_54 (by decide) ?_
  refine qi_newaI hΓ (pc := 56) hK (arrs' := fun w6 => [(w0, .inl (dA 5, 12, .inr (.inr (.inr (.inr (fun _ => none)))))), (w1, .inl (dA 0, 12, .inl (fun _ => 0))), (w2, .inl (dA 0, 12, .inl (fun _ => 0))), (w3, .inl (dA 0, 12, .inl (fun _ => 0))), (w4, .inl (dA 0, 12, .inl (fun _ => 0))), (w5, .inl (dA 2, 12, .inl (fun _ => 0))), (w6, .inl (dA 0, 6, .inl (fun _ => 0)))]) (N := 6) (by decide) (by decide) (by decide) ⟨by decide, by decide⟩ (c2 := 7) (s2 := 78) rfl rfl (fun w6 => rfl) dX2_init_56 (fun w6 => ?_)
  refine qi_putF hΓ (pc := 58) hK in_X2 tyX2 tyX2_ok nmX2 rfl (hin rfl) 6 (by decide) rfl q723 rfl rfl rfl (Nat.le_of_ble_eq_true rfl) dX2_init_58 ?_
  refine g_ieq (fs' := [.ref w0, .ref w1, .ref w2, .ref w3, .ref w4, .ref w5, .ref w6, .null, .null, .null, .null, .null, .null, .null, .int 0, .int 0, .int 0, .int 0, .int 0, .int 0, .int 0, .int 0]) rfl ?_
  refine g_aload_n hΓ (pc := 61) 0 (i := 0) dX2_init_61 rfl rfl ?_
  refine g_bipush hΓ (pc := 62) (v := 6) dX2_init_62 (by decide) ?_
  refine qi_newaI hΓ (pc := 64) hK (arrs' := fun w7 => [(w0, .inl (dA 5, 12, .inr (.inr (.inr (.inr (fun _ => none)))))), (w1, .inl (dA 0, 12, .inl (fun _ => 0))), (w2, .inl (dA 0, 12, .inl (fun _ => 0))), (w3, .inl (dA 0, 12, .inl (fun _ => 0))), (w4, .inl (dA 0, 12, .inl (fun _ => 0))), (w5, .inl (dA 2, 12, .inl (fun _ => 0))), (w6, .inl (dA 0, 6, .inl (fun _ => 0))), (w7, .inl (dA 0, 6, .inl (fun _ => 0)))]) (N := 6) (by decide) (by decide) (by decide) ⟨by decide, by decide⟩ (c2 := 8) (s2 := 84) rfl rfl (fun w7 => rfl) dX2_init_64 (fun w7 => ?_)
  refine qi_putF hΓ (pc := 66) hK in_X2 tyX2 tyX2_ok nmX2 rfl (hin rfl) 7 (by decide) rfl q725 rfl rfl rfl (Nat.le_of_ble_eq_true rfl) dX2_init_66 ?_
  refine g_ieq (fs' := [.ref w0, .ref w1, .ref w2, .ref w3, .ref w4, .ref w5, .ref w6, .ref w7, .null, .null, .null, .null, .null, .null, .int 0, .int 0, .int 0, .int 0, .int 0, .int 0, .int 0, .int 0]) rfl ?_
  refine g_aload_n hΓ (pc := 69) 0 (i := 0) dX2_init_69 rfl rfl ?_
  refine g_bipush hΓ (pc := 70) (v := 6) dX2_init_70 (by decide) ?_
  refine qi_newaI hΓ (pc := 72) hK (arrs' := fun w8 => [(w0, .inl (dA 5, 12, .inr (.inr (.inr (.inr (fun _ => none)))))), (w1, .inl (dA 0, 12, .inl (fun _ => 0))), (w2, .inl (dA 0, 12, .inl (fun _ => 0))), (w3, .inl (dA 0, 12, .inl (fun _ => 0))), (w4, .inl (dA 0, 12, .inl (fun _ => 0))), (w5, .inl (dA 2, 12, .inl (fun _ => 0))), (w6, .inl (dA 0, 6, .inl (fun _ => 0))), (w7, .inl (dA 0, 6, .inl (fun _ => 0))), (w8, .inl (dA 0, 6, .inl (fun _ => 0)))]) (N := 6) (by decide) (by decide) (by decide) ⟨by decide, by decide⟩ (c2 := 9) (s2 := 90) rfl rfl (fun w8 => rfl) dX2_init_72 (fun w8 => ?_)
  refine qi_putF hΓ (pc := 74) hK in_X2 tyX2 tyX2_ok nmX2 rfl (hin rfl) 8 (by decide) rfl q727 rfl rfl rfl (Nat.le_of_ble_eq_true rfl) dX2_init_74 ?_
  refine g_ieq (fs' := [.ref w0, .ref w1, .ref w2, .ref w3, .ref w4, .ref w5, .ref w6, .ref w7, .ref w8, .null, .null, .null, .null, .null, .int 0, .int 0, .int 0, .int 0, .int 0, .int 0, .int 0, .int 0]) rfl ?_
  refine g_aload_n hΓ (pc := 77) 0 (i := 0) dX2_init_77 rfl rfl ?_
  refine g_bipush hΓ (pc := 78) (v := 6) dX2_init_78 (by decide) ?_
  refine qi_newaI hΓ (pc := 80) hK (arrs' := fun w9 => [(w0, .inl (dA 5, 12, .inr (.inr (.inr (.inr (fun _ => none)))))), (w1, .inl (dA 0, 12, .inl (fun _ => 0))), (w2, .inl (dA 0, 12, .inl (fun _ => 0))), (w3, .inl (dA 0, 12, .inl (fun _ => 0))), (w4, .inl (dA 0, 12, .inl (fun _ => 0))), (w5, .inl (dA 2, 12, .inl (fun _ => 0))), (w6, .inl (dA 0, 6, .inl (fun _ => 0))), (w7, .inl (dA 0, 6, .inl (fun _ => 0))), (w8, .inl (dA 0, 6, .inl (fun _ => 0))), (w9, .inl (dA 0, 6, .inl (fun _ => 0)))]) (N := 6) (by decide) (by decide) (by decide) ⟨by decide, by decide⟩ (c2 := 10) (s2 := 96) rfl rfl (fun w9 => rfl) dX2_init_80 (fun w9 => ?_)
  refine qi_putF hΓ (pc := 82) hK in_X2 tyX2 tyX2_ok nmX2 rfl (hin rfl) 9 (by decide) rfl q729 rfl rfl rfl (Nat.le_of_ble_eq_true rfl) dX2_init_82 ?_
  refine g_ieq (fs' := [.ref w0, .ref w1, .ref w2, .ref w3, .ref w4, .ref w5, .ref w6, .ref w7, .ref w8, .ref w9, .null, .null, .null, .null, .int 0, .int 0, .int 0, .int 0, .int 0, .int 0, .int 0, .int 0]) rfl ?_
  refine g_aload_n hΓ (pc := 85) 0 (i := 0) dX2_init_85 rfl rfl ?_
  refine g_bipush hΓ (pc := 86) (v := 6) dX2_init_86 (by decide) ?_
  refine qi_newaI hΓ (pc := 88) hK (arrs' := fun w10 => [(w0, .inl (dA 5, 12, .inr (.inr (.inr (.inr (fun _ => none)))))), (w1, .inl (dA 0, 12, .inl (fun _ => 0))), (w2, .inl (dA 0, 12, .inl (fun _ => 0))), (w3, .inl (dA 0, 12, .inl (fun _ => 0))), (w4, .inl (dA 0, 12, .inl (fun _ => 0))), (w5, .inl (dA 2, 12, .inl (fun _ => 0))), (w6, .inl (dA 0, 6, .inl (fun _ => 0))), (w7, .inl (dA 0, 6, .inl (fun _ => 0))), (w8, .inl (dA 0, 6, .inl (fun _ => 0))), (w9, .inl (dA 0, 6, .inl (fun _ => 0))), (w10, .inl (dA 0, 6, .inl (fun _ => 0)))]) (N := 6) (by decide) (by decide) (by decide) ⟨by decide, by decide⟩ (c2 := 11) (s2 := 102) rfl rfl (fun w10 => rfl) dX2_init_88 (fun w10 => ?_)
  refine qi_putF hΓ (pc := 90) hK in_X2 tyX2 tyX2_ok nmX2 rfl (hin rfl) 10 (by decide) rfl q731 rfl rfl rfl (Nat.le_of_ble_eq_true rfl) dX2_init_90 ?_
  refine g_ieq (fs' := [.ref w0, .ref w1, .ref w2, .ref w3, .ref w4, .ref w5, .ref w6, .ref w7, .ref w8, .ref w9, .ref w10, .null, .null, .null, .int 0, .int 0, .int 0, .int 0, .int 0, .int 0, .int 0, .int 0]) rfl ?_
  refine g_aload_n hΓ (pc := 93) 0 (i := 0) dX2_init_93 rfl rfl ?_
  refine g_bipush hΓ (pc := 94) (v := 6) dX2_init_94 (by decide) ?_
  refine qi_newaI hΓ (pc := 96) hK (arrs' := fun w11 => [(w0, .inl (dA 5, 12, .inr (.inr (.inr (.inr (fun _ => none)))))), (w1, .inl (dA 0, 12, .inl (fun _ => 0))), (w2, .inl (dA 0, 12, .inl (fun _ => 0))), (w3, .inl (dA 0, 12, .inl (fun _ => 0))), (w4, .inl (dA 0, 12, .inl (fun _ => 0))), (w5, .inl (dA 2, 12, .inl (fun _ => 0))), (w6, .inl (dA 0, 6, .inl (fun _ => 0))), (w7, .inl (dA 0, 6, .inl (fun _ => 0))), (w8, .inl (dA 0, 6, .inl (fun _ => 0))), (w9, .inl (dA 0, 6, .inl (fun _ => 0))), (w10, .inl (dA 0, 6, .inl (fun _ => 0))), (w11, .inl (dA 0, 6, .inl (fun _ => 0)))]) (N := 6) (by decide) (by decide) (by decide) ⟨by decide, by decide⟩ (c2 := 12) (s2 := 108) rfl rfl (fun w11 => rfl) dX2_init_96 (fun w11 => ?_)
  refine qi_putF hΓ (pc := 98) hK in_X2 tyX2 tyX2_ok nmX2 rfl (hin rfl) 11 (by decide) rfl q733 rfl rfl rfl (Nat.le_of_ble_eq_true rfl) dX2_init_98 ?_
  refine g_ieq (fs' := [.ref w0, .ref w1, .ref w2, .ref w3, .ref w4, .ref w5, .ref w6, .ref w7, .ref w8, .ref w9, .ref w10, .ref w11, .null, .null, .int 0, .int 0, .int 0, .int 0, .int 0, .int 0, .int 0, .int 0]) rfl ?_
  refine g_aload_n hΓ (pc := 101) 0 (i := 0) dX2_init_101 rfl rfl ?_
  refine g_bipush hΓ (pc := 102) (v := 6) dX2_init_102 (by decide) ?_
  refine qi_newaI hΓ (pc := 104) hK (arrs' := fun w12 => [(w0, .inl (dA 5, 12, .inr (.inr (.inr (.inr (fun _ => none)))))), (w1, .inl (dA 0, 12, .inl (fun _ => 0))), (w2, .inl (dA 0, 12, .inl (fun _ => 0))), (w3, .inl (dA 0, 12, .inl (fun _ => 0))), (w4, .inl (dA 0, 12, .inl (fun _ => 0))), (w5, .inl (dA 2, 12, .inl (fun _ => 0))), (w6, .inl (dA 0, 6, .inl (fun _ => 0))), (w7, .inl (dA 0, 6, .inl (fun _ => 0))), (w8, .inl (dA 0, 6, .inl (fun _ => 0))), (w9, .inl (dA 0, 6, .inl (fun _ => 0))), (w10, .inl (dA 0, 6, .inl (fun _ => 0))), (w11, .inl (dA 0, 6, .inl (fun _ => 0))), (w12, .inl (dA 0, 6, .inl (fun _ => 0)))]) (N := 6) (by decide) (by decide) (by decide) ⟨by decide, by decide⟩ (c2 := 13) (s2 := 114) rfl rfl (fun w12 => rfl) dX2_init_104 (fun w12 => ?_)
  refine qi_putF hΓ (pc := 106) hK in_X2 tyX2 tyX2_ok nmX2 rfl (hin rfl) 12 (by decide) rfl q735 rfl rfl rfl (Nat.le_of_ble_eq_true rfl) dX2_init_106 ?_
  refine g_ieq (fs' := [.ref w0, .ref w1, .ref w2, .ref w3, .ref w4, .ref w5, .ref w6, .ref w7, .ref w8, .ref w9, .ref w10, .ref w11, .ref w12, .null, .int 0, .int 0, .int 0, .int 0, .int 0, .int 0, .int 0, .int 0]) rfl ?_
  refine g_aload_n hΓ (pc := 109) 0 (i := 0) dX2_init_109 rfl rfl ?_
  refine g_bipush hΓ (pc := 110) (v := 6) dX2_init_110 (by decide) ?_
  refine qi_newaI hΓ (pc := 112) hK (arrs' := fun w13 => [(w0, .inl (dA 5, 12, .inr (.inr (.inr (.inr (fun _ => none)))))), (w1, .inl (dA 0, 12, .inl (fun _ => 0))), (w2, .inl (dA 0, 12, .inl (fun _ => 0))), (w3, .inl (dA 0, 12, .inl (fun _ => 0))), (w4, .inl (dA 0, 12, .inl (fun _ => 0))), (w5, .inl (dA 2, 12, .inl (fun _ => 0))), (w6, .inl (dA 0, 6, .inl (fun _ => 0))), (w7, .inl (dA 0, 6, .inl (fun _ => 0))), (w8, .inl (dA 0, 6, .inl (fun _ => 0))), (w9, .inl (dA 0, 6, .inl (fun _ => 0))), (w10, .inl (dA 0, 6, .inl (fun _ => 0))), (w11, .inl (dA 0, 6, .inl (fun _ => 0))), (w12, .inl (dA 0, 6, .inl (fun _ => 0))), (w13, .inl (dA 0, 6, .inl (fun _ => 0)))]) (N := 6) (by decide) (by decide) (by decide) ⟨by decide, by decide⟩ (c2 := 14) (s2 := 120) rfl rfl (fun w13 => rfl) dX2_init_112 (fun w13 => ?_)
  refine qi_putF hΓ (pc := 114) hK in_X2 tyX2 tyX2_ok nmX2 rfl (hin rfl) 13 (by decide) rfl q737 rfl rfl rfl (Nat.le_of_ble_eq_true rfl) dX2_init_114 ?_
  refine g_ieq (fs' := [.ref w0, .ref w1, .ref w2, .ref w3, .ref w4, .ref w5, .ref w6, .ref w7, .ref w8, .ref w9, .ref w10, .ref w11, .ref w12, .ref w13, .int 0, .int 0, .int 0, .int 0, .int 0, .int 0, .int 0, .int 0]) rfl ?_
  refine g_aload_n hΓ (pc := 117) 0 (i := 0) dX2_init_117 rfl rfl ?_
  refine g_bipush hΓ (pc := 118) (v := 20) dX2_init_118 (by decide) ?_
  refine qi_put hΓ (pc := 120) hK in_X2 tyX2 tyX2_ok nmX2 rfl 16 (by decide) rfl q743 rfl rfl rfl (Nat.le_of_ble_eq_true rfl) dX2_init_120 ?_
  refine g_ieq (fs' := [.ref w0, .ref w1, .ref w2, .ref w3, .ref w4, .ref w5, .ref w6, .ref w7, .ref w8, .ref w9, .ref w10, .ref w11, .ref w12, .ref w13, .int 0, .int 0, .int (20), .int 0, .int 0, .int 0, .int 0, .int 0]) rfl ?_
  refine g_aload_n hΓ (pc := 123) 0 (i := 0) dX2_init_123 rfl rfl ?_
  refine g_iconst hΓ (pc := 124) (v := -1) dX2_init_124 (by decide) ?_
  refine qi_put hΓ (pc := 125) hK in_X2 tyX2 tyX2_ok nmX2 rfl 19 (by decide) rfl q749 rfl rfl rfl (Nat.le_of_ble_eq_true rfl) dX2_init_125 ?_
  refine g_ieq (fs' := [.ref w0, .ref w1, .ref w2, .ref w3, .ref w4, .ref w5, .ref w6, .ref w7, .ref w8, .ref w9, .ref w10, .ref w11, .ref w12, .ref w13, .int 0, .int 0, .int (20), .int 0, .int 0, .int (-1), .int 0, .int 0]) rfl ?_
  exact qi_vret hΓ ⟨fun k => ([w0, w1, w2, w3, w4, w5, w6, w7, w8, w9, w10, w11, w12, w13] : List Nat).getD k 0, rfl, rfl⟩ dX2_init_128
set_option maxHeartbeats 4000000 in
set_option maxRecDepth 100000 in
theorem metI_Shelf (l : Launch) {D : va_G} {dA : Nat → ClassId} {b : Nat} {ws : va_W} {a : Nat} : Met l yX3_init (ws_ yX3_init cX3_init 1 none) (rmx_ 1 20 0 0) (iP D dA b ws a 3 [.null]) (iQ D b ws a 3 (SI dA)) 0 0 (fun q => b ≤ q) := by
  refine qi_met (by decide) RX3 rfl (Nat.le_of_ble_eq_true rfl) (fun Γ hΓ hK hin => ?_)
  refine g_aload_n hΓ (pc := 0) 0 (i := 0) dX3_init_0 rfl rfl ?_
  refine g_objI hΓ (pc := 1) q807 dX3_init_1 (by decide) (Nat.le_of_ble_eq_true rfl) ?_
  exact qi_vret hΓ ⟨rfl, rfl⟩ dX3_init_4
/-- a new reference -/
def m0i (k : Nat) : Int32 := if k = 2 then 20 else if k = 22 then -1 else if k = 23 then 0 else 0
def m0s : MS := (m0i, fun _ _ => 0, fun _ _ => 0, none)
def mfs0 : List Value := [.int 0, .int 0, .int 0, .int 0, .null, .null, .null, .null, .null, .null, .null, .null, .null, .null, .null, .null, .null, .null, .null, .null, .int 0, .int 0, .int 0, .int 0, .null, .null, .int 0, .int 0, .int 0, .null, .int 0, .int 0, .int 0, .int 0, .int 0, .null, .null, .null, .int 0, .null, .null, .null, .null, .null, .null, .null]
def mArr : List Nat := [4, 5, 6, 7, 8, 9, 10, 11, 12, 13, 14, 15, 16, 17, 18, 19, 24, 25, 35, 36, 37, 39, 40, 41, 42, 43, 44, 45]
def MI (dA : Nat → ClassId) (fs : List Value) (arrs : va_W) : Prop := ∃ as : Nat → Nat, fs = mfs as m0s ∧ arrs = mArr.map (fun k => (as k, EM dA as m0s k))

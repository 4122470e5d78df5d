set_option maxRecDepth 100000
theorem metG_init8 (l : Launch) {D : va_G} {dA : Nat → ClassId} {b : Nat} {ad : Nat → Nat} {P : Nat → Prop} {F : Nat → va_E} {gs : List (Nat × (Nat × Int32))} {x : XS} {a : Nat} {g : Nat × Int32} {v : Int32} : Met l yX8_init (ws_ yX8_init cX8_init 2 none) (rm0_ 2 33) (nP D dA b ad P F gs [.ref a, .int v] x a g) (nQ D dA b ad P F gs x a (g.1, v)) 0 0 (fun q => b ≤ q) := by
  refine qn_met (by decide) RX8 rfl (Nat.le_of_ble_eq_true rfl) (fun Γ hΓ hK hin => ?_)
  refine g_sub [0, 1] (lv' := [(0, .ref a), (1, .int v)]) rfl ?_
  refine g_aload_n hΓ (pc := 0) 0 (i := 0) dX8_init_0 rfl rfl ?_
  refine g_iload_n hΓ (pc := 1) 1 (i := 1) dX8_init_1 rfl rfl ?_
  refine qx_callI hΓ (pc := 2) hK 1 (As := [.int v]) (metG_init7 _) q284 q263 q64 q264 rfl (by decide +kernel) (by decide) ⟨by decide, by decide⟩ rfl rfl (Nat.le_of_ble_eq_true rfl) dX8_init_2 ?_
  exact qn_vret hΓ dX8_init_5
theorem metG_init9 (l : Launch) {D : va_G} {dA : Nat → ClassId} {b : Nat} {ad : Nat → Nat} {P : Nat → Prop} {F : Nat → va_E} {gs : List (Nat × (Nat × Int32))} {x : XS} {a : Nat} {g : Nat × Int32} {v : Int32} : Met l yX9_init (ws_ yX9_init cX9_init 2 none) (rm0_ 2 33) (nP D dA b ad P F gs [.ref a, .int v] x a g) (nQ D dA b ad P F gs x a (g.1, v)) 0 0 (fun q => b ≤ q) := by
  refine qn_met (by decide) RX9 rfl (Nat.le_of_ble_eq_true rfl) (fun Γ hΓ hK hin => ?_)
  refine g_sub [0, 1] (lv' := [(0, .ref a), (1, .int v)]) rfl ?_
  refine g_aload_n hΓ (pc := 0) 0 (i := 0) dX9_init_0 rfl rfl ?_
  refine g_iload_n hΓ (pc := 1) 1 (i := 1) dX9_init_1 rfl rfl ?_
  refine qx_callI hΓ (pc := 2) hK 1 (As := [.int v]) (metG_init7 _) q292 q263 q64 q264 rfl (by decide +kernel) (by decide) ⟨by decide, by decide⟩ rfl rfl (Nat.le_of_ble_eq_true rfl) dX9_init_2 ?_
  exact qn_vret hΓ dX9_init_5
theorem metG_init10 (l : Launch) {D : va_G} {dA : Nat → ClassId} {b : Nat} {ad : Nat → Nat} {P : Nat → Prop} {F : Nat → va_E} {gs : List (Nat × (Nat × Int32))} {x : XS} {a : Nat} {g : Nat × Int32} {v : Int32} : Met l yX10_init (ws_ yX10_init cX10_init 2 none) (rm0_ 2 33) (nP D dA b ad P F gs [.ref a, .int v] x a g) (nQ D dA b ad P F gs x a (g.1, v)) 0 0 (fun q => b ≤ q) := by
  refine qn_met (by decide) RX10 rfl (Nat.le_of_ble_eq_true rfl) (fun Γ hΓ hK hin => ?_)
  refine g_sub [0, 1] (lv' := [(0, .ref a), (1, .int v)]) rfl ?_
  refine g_aload_n hΓ (pc := 0) 0 (i := 0) dX10_init_0 rfl rfl ?_
  refine g_iload_n hΓ (pc := 1) 1 (i := 1) dX10_init_1 rfl rfl ?_
  refine qx_callI hΓ (pc := 2) hK 1 (As := [.int v]) (metG_init7 _) q300 q263 q64 q264 rfl (by decide +kernel) (by decide) ⟨by decide, by decide⟩ rfl rfl (Nat.le_of_ble_eq_true rfl) dX10_init_2 ?_
  exact qn_vret hΓ dX10_init_5
theorem metG_init11 (l : Launch) {D : va_G} {dA : Nat → ClassId} {b : Nat} {ad : Nat → Nat} {P : Nat → Prop} {F : Nat → va_E} {gs : List (Nat × (Nat × Int32))} {x : XS} {a : Nat} {g : Nat × Int32} {v : Int32} : Met l yX11_init (ws_ yX11_init cX11_init 2 none) (rm0_ 3 54) (nP D dA b ad P F gs [.ref a, .int v] x a g) (nQ D dA b ad P F gs x a (g.1, v)) 0 0 (fun q => b ≤ q) := by
  refine qn_met (by decide) RX11 rfl (Nat.le_of_ble_eq_true rfl) (fun Γ hΓ hK hin => ?_)
  refine g_sub [0, 1] (lv' := [(0, .ref a), (1, .int v)]) rfl ?_
  refine g_aload_n hΓ (pc := 0) 0 (i := 0) dX11_init_0 rfl rfl ?_
  refine g_iload_n hΓ (pc := 1) 1 (i := 1) dX11_init_1 rfl rfl ?_
  refine qx_callI hΓ (pc := 2) hK 1 (As := [.int v]) (metG_init9 _) q308 q290 q66 q291 rfl (by decide +kernel) (by decide) ⟨by decide, by decide⟩ rfl rfl (Nat.le_of_ble_eq_true rfl) dX11_init_2 ?_
  exact qn_vret hΓ dX11_init_5
theorem metG_init12 (l : Launch) {D : va_G} {dA : Nat → ClassId} {b : Nat} {ad : Nat → Nat} {P : Nat → Prop} {F : Nat → va_E} {gs : List (Nat × (Nat × Int32))} {x : XS} {a : Nat} {g : Nat × Int32} {v : Int32} : Met l yX12_init (ws_ yX12_init cX12_init 2 none) (rm0_ 3 54) (nP D dA b ad P F gs [.ref a, .int v] x a g) (nQ D dA b ad P F gs x a (g.1, v)) 0 0 (fun q => b ≤ q) := by
  refine qn_met (by decide) RX12 rfl (Nat.le_of_ble_eq_true rfl) (fun Γ hΓ hK hin => ?_)
  refine g_sub [0, 1] (lv' := [(0, .ref a), (1, .int v)]) rfl ?_
  refine g_aload_n hΓ (pc := 0) 0 (i := 0) dX12_init_0 rfl rfl ?_
  refine g_iload_n hΓ (pc := 1) 1 (i := 1) dX12_init_1 rfl rfl ?_
  refine qx_callI hΓ (pc := 2) hK 1 (As := [.int v]) (metG_init8 _) q316 q282 q65 q283 rfl (by decide +kernel) (by decide) ⟨by decide, by decide⟩ rfl rfl (Nat.le_of_ble_eq_true rfl) dX12_init_2 ?_
  exact qn_vret hΓ dX12_init_5
theorem metG_init13 (l : Launch) {D : va_G} {dA : Nat → ClassId} {b : Nat} {ad : Nat → Nat} {P : Nat → Prop} {F : Nat → va_E} {gs : List (Nat × (Nat × Int32))} {x : XS} {a : Nat} {g : Nat × Int32} {v : Int32} : Met l yX13_init (ws_ yX13_init cX13_init 2 none) (rm0_ 3 54) (nP D dA b ad P F gs [.ref a, .int v] x a g) (nQ D dA b ad P F gs x a (g.1, v)) 0 0 (fun q => b ≤ q) := by
  refine qn_met (by decide) RX13 rfl (Nat.le_of_ble_eq_true rfl) (fun Γ hΓ hK hin => ?_)
  refine g_sub [0, 1] (lv' := [(0, .ref a), (1, .int v)]) rfl ?_
  refine g_aload_n hΓ (pc := 0) 0 (i := 0) dX13_init_0 rfl rfl ?_
  refine g_iload_n hΓ (pc := 1) 1 (i := 1) dX13_init_1 rfl rfl ?_
  refine qx_callI hΓ (pc := 2) hK 1 (As := [.int v]) (metG_init10 _) q324 q298 q67 q299 rfl (by decide +kernel) (by decide) ⟨by decide, by decide⟩ rfl rfl (Nat.le_of_ble_eq_true rfl) dX13_init_2 ?_
  exact qn_vret hΓ dX13_init_5
theorem metG_init14 (l : Launch) {D : va_G} {dA : Nat → ClassId} {b : Nat} {ad : Nat → Nat} {P : Nat → Prop} {F : Nat → va_E} {gs : List (Nat × (Nat × Int32))} {x : XS} {a : Nat} {g : Nat × Int32} {v : Int32} : Met l yX14_init (ws_ yX14_init cX14_init 2 none) (rm0_ 3 54) (nP D dA b ad P F gs [.ref a, .int v] x a g) (nQ D dA b ad P F gs x a (g.1, v)) 0 0 (fun q => b ≤ q) := by
  refine qn_met (by decide) RX14 rfl (Nat.le_of_ble_eq_true rfl) (fun Γ hΓ hK hin => ?_)
  refine g_sub [0, 1] (lv' := [(0, .ref a), (1, .int v)]) rfl ?_
  refine g_aload_n hΓ (pc := 0) 0 (i := 0) dX14_init_0 rfl rfl ?_
  refine g_iload_n hΓ (pc := 1) 1 (i := 1) dX14_init_1 rfl rfl ?_
  refine qx_callI hΓ (pc := 2) hK 1 (As := [.int v]) (metG_init10 _) q332 q298 q67 q299 rfl (by decide +kernel) (by decide) ⟨by decide, by decide⟩ rfl rfl (Nat.le_of_ble_eq_true rfl) dX14_init_2 ?_
  exact qn_vret hΓ dX14_init_5
def X_glassOf (a0 a1 : Int32) : Option (Nat × Int32) := if a0 = 0 then some (0, a1) else if a0 = 1 then some (1, a1) else if a0 = 2 then some (2, a1) else if a0 = 3 then some (3, a1) else if a0 = 4 then some (4, a1) else if a0 = 5 then some (5, a1) else if a0 = 6 then some (6, a1) else some (7, a1)
set_option maxHeartbeats 4000000 in
theorem metX_glassOf (l : Launch) {D : va_G} {dA : Nat → ClassId} {b : Nat} {ad : Nat → Nat} {P : Nat → Prop} {F : Nat → va_E} {gs : List (Nat × (Nat × Int32))} {x : XS} {a0 a1 : Int32} {g : Nat × Int32} (hf : X_glassOf a0 a1 = some g) : Met l yX1_glassOf (ws_ yX1_glassOf cX1_glassOf 2 (some (.object "WhoseGlass$Glass"))) (rmx_ 4 75 1 1) (xP D dA b ad P F gs [.int a0, .int a1] x) (xQr D dA b ad P F gs g x) 1 1 (fun q => b ≤ q) := by
  unfold X_glassOf at hf
  refine qX_met (by decide) RX1 rfl (Nat.le_of_ble_eq_true rfl) (fun Γ hΓ hK => ?_)
  refine g_sub [0, 1] (lv' := [(0, .int a0), (1, .int a1)]) rfl ?_
  refine g_iload_n hΓ (pc := 0) 0 (i := 0) dX1_glassOf_0 rfl rfl ?_
  by_cases c0 : a0 = (0 : Int32)
  · have hf := ifP hf c0
    refine g_tswC hΓ (pc := 1) (tgt := 44) (0) dX1_glassOf_1 (by rw [c0]; decide) (by decide) (by decide) rfl (by decide) ?_
    refine qx_new hΓ (pc := 44) hK (k := 0) (by decide) rfl in_X7 tyX7 tyX7_ok rfl q260 q261 q64 ⟨by decide, by decide⟩ dX1_glassOf_44 (fun y => ?_)
    refine g_dup hΓ (pc := 47) dX1_glassOf_47 rfl ?_
    refine g_iload_n hΓ (pc := 48) 1 (i := 1) dX1_glassOf_48 rfl rfl ?_
    refine qx_callI hΓ (pc := 49) hK 1 (As := [.int a1]) (metG_init7 _) q262 q263 q64 q264 rfl (by decide +kernel) (by decide) ⟨by decide, by decide⟩ rfl rfl (Nat.le_of_ble_eq_true rfl) dX1_glassOf_49 ?_
    refine g_w (fun H h => XWn.toXW h) ?_
    exact qX_aretF hΓ hf dX1_glassOf_52
  · have hf := ifN hf c0
    by_cases c1 : a0 = (1 : Int32)
    · have hf := ifP hf c1
      refine g_tswC hΓ (pc := 1) (tgt := 53) (1) dX1_glassOf_1 (by rw [c1]; decide) (by decide) (by decide) rfl (by decide) ?_
      refine qx_new hΓ (pc := 53) hK (k := 1) (by decide) rfl in_X8 tyX8 tyX8_ok rfl q279 q280 q65 ⟨by decide, by decide⟩ dX1_glassOf_53 (fun y => ?_)
      refine g_dup hΓ (pc := 56) dX1_glassOf_56 rfl ?_
      refine g_iload_n hΓ (pc := 57) 1 (i := 1) dX1_glassOf_57 rfl rfl ?_
      refine qx_callI hΓ (pc := 58) hK 1 (As := [.int a1]) (metG_init8 _) q281 q282 q65 q283 rfl (by decide +kernel) (by decide) ⟨by decide, by decide⟩ rfl rfl (Nat.le_of_ble_eq_true rfl) dX1_glassOf_58 ?_
      refine g_w (fun H h => XWn.toXW h) ?_
      exact qX_aretF hΓ hf dX1_glassOf_61
    · have hf := ifN hf c1
      by_cases c2 : a0 = (2 : Int32)
      · have hf := ifP hf c2
        refine g_tswC hΓ (pc := 1) (tgt := 62) (2) dX1_glassOf_1 (by rw [c2]; decide) (by decide) (by decide) rfl (by decide) ?_
        refine qx_new hΓ (pc := 62) hK (k := 2) (by decide) rfl in_X9 tyX9 tyX9_ok rfl q287 q288 q66 ⟨by decide, by decide⟩ dX1_glassOf_62 (fun y => ?_)
        refine g_dup hΓ (pc := 65) dX1_glassOf_65 rfl ?_
        refine g_iload_n hΓ (pc := 66) 1 (i := 1) dX1_glassOf_66 rfl rfl ?_
        refine qx_callI hΓ (pc := 67) hK 1 (As := [.int a1]) (metG_init9 _) q289 q290 q66 q291 rfl (by decide +kernel) (by decide) ⟨by decide, by decide⟩ rfl rfl (Nat.le_of_ble_eq_true rfl) dX1_glassOf_67 ?_
        refine g_w (fun H h => XWn.toXW h) ?_
        exact qX_aretF hΓ hf dX1_glassOf_70
      · have hf := ifN hf c2
        by_cases c3 : a0 = (3 : Int32)
        · have hf := ifP hf c3
          refine g_tswC hΓ (pc := 1) (tgt := 71) (3) dX1_glassOf_1 (by rw [c3]; decide) (by decide) (by decide) rfl (by decide) ?_
          refine qx_new hΓ (pc := 71) hK (k := 3) (by decide) rfl in_X10 tyX10 tyX10_ok rfl q295 q296 q67 ⟨by decide, by decide⟩ dX1_glassOf_71 (fun y => ?_)
          refine g_dup hΓ (pc := 74) dX1_glassOf_74 rfl ?_
          refine g_iload_n hΓ (pc := 75) 1 (i := 1) dX1_glassOf_75 rfl rfl ?_
          refine qx_callI hΓ (pc := 76) hK 1 (As := [.int a1]) (metG_init10 _) q297 q298 q67 q299 rfl (by decide +kernel) (by decide) ⟨by decide, by decide⟩ rfl rfl (Nat.le_of_ble_eq_true rfl) dX1_glassOf_76 ?_
          refine g_w (fun H h => XWn.toXW h) ?_
          exact qX_aretF hΓ hf dX1_glassOf_79
        · have hf := ifN hf c3
          by_cases c4 : a0 = (4 : Int32)
          · have hf := ifP hf c4
            refine g_tswC hΓ (pc := 1) (tgt := 80) (4) dX1_glassOf_1 (by rw [c4]; decide) (by decide) (by decide) rfl (by decide) ?_
            refine qx_new hΓ (pc := 80) hK (k := 4) (by decide) rfl in_X11 tyX11 tyX11_ok rfl q303 q304 q68 ⟨by decide, by decide⟩ dX1_glassOf_80 (fun y => ?_)
            refine g_dup hΓ (pc := 83) dX1_glassOf_83 rfl ?_
            refine g_iload_n hΓ (pc := 84) 1 (i := 1) dX1_glassOf_84 rfl rfl ?_
            refine qx_callI hΓ (pc := 85) hK 1 (As := [.int a1]) (metG_init11 _) q305 q306 q68 q307 rfl (by decide +kernel) (by decide) ⟨by decide, by decide⟩ rfl rfl (Nat.le_of_ble_eq_true rfl) dX1_glassOf_85 ?_
            refine g_w (fun H h => XWn.toXW h) ?_
            exact qX_aretF hΓ hf dX1_glassOf_88
          · have hf := ifN hf c4
            by_cases c5 : a0 = (5 : Int32)
            · have hf := ifP hf c5
              refine g_tswC hΓ (pc := 1) (tgt := 89) (5) dX1_glassOf_1 (by rw [c5]; decide) (by decide) (by decide) rfl (by decide) ?_
              refine qx_new hΓ (pc := 89) hK (k := 5) (by decide) rfl in_X12 tyX12 tyX12_ok rfl q311 q312 q69 ⟨by decide, by decide⟩ dX1_glassOf_89 (fun y => ?_)
              refine g_dup hΓ (pc := 92) dX1_glassOf_92 rfl ?_
              refine g_iload_n hΓ (pc := 93) 1 (i := 1) dX1_glassOf_93 rfl rfl ?_
              refine qx_callI hΓ (pc := 94) hK 1 (As := [.int a1]) (metG_init12 _) q313 q314 q69 q315 rfl (by decide +kernel) (by decide) ⟨by decide, by decide⟩ rfl rfl (Nat.le_of_ble_eq_true rfl) dX1_glassOf_94 ?_
              refine g_w (fun H h => XWn.toXW h) ?_
              exact qX_aretF hΓ hf dX1_glassOf_97
            · have hf := ifN hf c5
              by_cases c6 : a0 = (6 : Int32)
              · have hf := ifP hf c6
                refine g_tswC hΓ (pc := 1) (tgt := 98) (6) dX1_glassOf_1 (by rw [c6]; decide) (by decide) (by decide) rfl (by decide) ?_
                refine qx_new hΓ (pc := 98) hK (k := 6) (by decide) rfl in_X13 tyX13 tyX13_ok rfl q319 q320 q70 ⟨by decide, by decide⟩ dX1_glassOf_98 (fun y => ?_)
                refine g_dup hΓ (pc := 101) dX1_glassOf_101 rfl ?_
                refine g_iload_n hΓ (pc := 102) 1 (i := 1) dX1_glassOf_102 rfl rfl ?_
                refine qx_callI hΓ (pc := 103) hK 1 (As := [.int a1]) (metG_init13 _) q321 q322 q70 q323 rfl (by decide +kernel) (by decide) ⟨by decide, by decide⟩ rfl rfl (Nat.le_of_ble_eq_true rfl) dX1_glassOf_103 ?_
                refine g_w (fun H h => XWn.toXW h) ?_
                exact qX_aretF hΓ hf dX1_glassOf_106
              · have hf := ifN hf c6
                refine g_tswD hΓ (pc := 1) (tgt := 107) dX1_glassOf_1 (fun v h1 h2 h3 => ?_) (by decide) ?_
                · rcases (by omega : v = 0 ∨ v = 1 ∨ v = 2 ∨ v = 3 ∨ v = 4 ∨ v = 5 ∨ v = 6) with rfl | rfl | rfl | rfl | rfl | rfl | rfl
                  · exact absurd h3 (lv_neT c0 (by decide))
                  · exact absurd h3 (lv_neT c1 (by decide))
                  · exact absurd h3 (lv_neT c2 (by decide))
                  · exact absurd h3 (lv_neT c3 (by decide))
                  · exact absurd h3 (lv_neT c4 (by decide))
                  · exact absurd h3 (lv_neT c5 (by decide))
                  · exact absurd h3 (lv_neT c6 (by decide))
                · skip
                  refine qx_new hΓ (pc := 107) hK (k := 7) (by decide) rfl in_X14 tyX14 tyX14_ok rfl q327 q328 q71 ⟨by decide, by decide⟩ dX1_glassOf_107 (fun y => ?_)
                  refine g_dup hΓ (pc := 110) dX1_glassOf_110 rfl ?_
                  refine g_iload_n hΓ (pc := 111) 1 (i := 1) dX1_glassOf_111 rfl rfl ?_
                  refine qx_callI hΓ (pc := 112) hK 1 (As := [.int a1]) (metG_init14 _) q329 q330 q71 q331 rfl (by decide +kernel) (by decide) ⟨by decide, by decide⟩ rfl rfl (Nat.le_of_ble_eq_true rfl) dX1_glassOf_112 ?_
                  refine g_w (fun H h => XWn.toXW h) ?_
                  exact qX_aretF hΓ hf dX1_glassOf_115

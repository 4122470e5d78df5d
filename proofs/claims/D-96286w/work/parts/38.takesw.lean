set_option maxHeartbeats 4000000 in
set_option maxRecDepth 100000 in
theorem metH_takes (l : Launch) {D : va_G} {dA : Nat → ClassId} {b : Nat} {ad : Nat → Nat} {P : Nat → Prop} {F : Nat → va_E} {gs : List (Nat × (Nat × Int32))} {x : XS} {r r2 : Nat} (hr : r < 4) (hr2 : r2 < 4) (hne : r2 ≠ r) {h h' : HS} (hf : H_takes (x.1 r2) = some h') : Met l yX2_takes (ws_ yX2_takes cX2_takes 2 none) (rmx_ 1 64 0 0) (xP D dA b ad P F gs [.ref (ad (hB r 22)), .ref (ad (hB r2 22))] (xh x r h)) (xQ D dA b ad P F gs none (xh x r h')) 0 0 (fun q => b ≤ q) := by
  have hg : gOk (x.1 r2) = true := by
    unfold H_takes at hf
    by_cases q : gOk (x.1 r2) = true
    · exact q
    · rw [if_neg q] at hf; cases hf
  unfold H_takes at hf
  rw [if_pos hg] at hf
  cases hf
  refine qx_met (by decide) RX2 rfl (Nat.le_of_ble_eq_true rfl) (fun Γ hΓ hK => ?_)
  refine g_sub [0, 1] (lv' := [(0, .ref (ad (hB r 22))), (1, .ref (ad (hB r2 22)))]) rfl ?_
  refine g_aload_n hΓ (pc := 0) 1 (i := 1) dX2_takes_0 rfl rfl ?_
  refine qx_hgeta hΓ (pc := 1) hK hr2 (k := 0) rfl q711 dX2_takes_1 ?_
  refine g_iconst hΓ (pc := 4) (v := 0) dX2_takes_4 (by decide) ?_
  refine g_aload_n hΓ (pc := 5) 0 (i := 0) dX2_takes_5 rfl rfl ?_
  refine qx_hgeta hΓ (pc := 6) hK hr (k := 0) rfl q711 dX2_takes_6 ?_
  refine g_iconst hΓ (pc := 9) (v := 0) dX2_takes_9 (by decide) ?_
  refine g_bipush hΓ (pc := 10) (v := 12) dX2_takes_10 (by decide) ?_
  refine qt_copyg hΓ (pc := 12) hK hr hr2 hne (xh_at _ _ _) (xh_ne _ _ hne) q97 (xh_xh _ _ _ _) ⟨by decide, by decide⟩ dX2_takes_12 ?_
  refine g_aload_n hΓ (pc := 15) 1 (i := 1) dX2_takes_15 rfl rfl ?_
  refine qx_hgeta hΓ (pc := 16) hK hr2 (k := 1) rfl q713 dX2_takes_16 ?_
  refine g_iconst hΓ (pc := 19) (v := 0) dX2_takes_19 (by decide) ?_
  refine g_aload_n hΓ (pc := 20) 0 (i := 0) dX2_takes_20 rfl rfl ?_
  refine qx_hgeta hΓ (pc := 21) hK hr (k := 1) rfl q713 dX2_takes_21 ?_
  refine g_iconst hΓ (pc := 24) (v := 0) dX2_takes_24 (by decide) ?_
  refine g_bipush hΓ (pc := 25) (v := 12) dX2_takes_25 (by decide) ?_
  refine qt_copyi hΓ (pc := 27) hK hr hr2 (xh_at _ _ _) (xh_ne _ _ hne) (k := 1) (t0 := 0) rfl rfl (Or.inl ⟨rfl, rfl⟩) rfl (fun j hj => rfl) ⟨by decide, by decide⟩ q97 (xh_xh _ _ _ _) ⟨by decide, by decide⟩ dX2_takes_27 ?_
  refine g_aload_n hΓ (pc := 30) 1 (i := 1) dX2_takes_30 rfl rfl ?_
  refine qx_hgeta hΓ (pc := 31) hK hr2 (k := 2) rfl q715 dX2_takes_31 ?_
  refine g_iconst hΓ (pc := 34) (v := 0) dX2_takes_34 (by decide) ?_
  refine g_aload_n hΓ (pc := 35) 0 (i := 0) dX2_takes_35 rfl rfl ?_
  refine qx_hgeta hΓ (pc := 36) hK hr (k := 2) rfl q715 dX2_takes_36 ?_
  refine g_iconst hΓ (pc := 39) (v := 0) dX2_takes_39 (by decide) ?_
  refine g_bipush hΓ (pc := 40) (v := 12) dX2_takes_40 (by decide) ?_
  refine qt_copyi hΓ (pc := 42) hK hr hr2 (xh_at _ _ _) (xh_ne _ _ hne) (k := 2) (t0 := 0) rfl rfl (Or.inl ⟨rfl, rfl⟩) rfl (fun j hj => rfl) ⟨by decide, by decide⟩ q97 (xh_xh _ _ _ _) ⟨by decide, by decide⟩ dX2_takes_42 ?_
  refine g_aload_n hΓ (pc := 45) 1 (i := 1) dX2_takes_45 rfl rfl ?_
  refine qx_hgeta hΓ (pc := 46) hK hr2 (k := 3) rfl q717 dX2_takes_46 ?_
  refine g_iconst hΓ (pc := 49) (v := 0) dX2_takes_49 (by decide) ?_
  refine g_aload_n hΓ (pc := 50) 0 (i := 0) dX2_takes_50 rfl rfl ?_
  refine qx_hgeta hΓ (pc := 51) hK hr (k := 3) rfl q717 dX2_takes_51 ?_
  refine g_iconst hΓ (pc := 54) (v := 0) dX2_takes_54 (by decide) ?_
  refine g_bipush hΓ (pc := 55) (v := 12) dX2_takes_55 (by decide) ?_
  refine qt_copyi hΓ (pc := 57) hK hr hr2 (xh_at _ _ _) (xh_ne _ _ hne) (k := 3) (t0 := 0) rfl rfl (Or.inl ⟨rfl, rfl⟩) rfl (fun j hj => rfl) ⟨by decide, by decide⟩ q97 (xh_xh _ _ _ _) ⟨by decide, by decide⟩ dX2_takes_57 ?_
  refine g_aload_n hΓ (pc := 60) 1 (i := 1) dX2_takes_60 rfl rfl ?_
  refine qx_hgeta hΓ (pc := 61) hK hr2 (k := 4) rfl q719 dX2_takes_61 ?_
  refine g_iconst hΓ (pc := 64) (v := 0) dX2_takes_64 (by decide) ?_
  refine g_aload_n hΓ (pc := 65) 0 (i := 0) dX2_takes_65 rfl rfl ?_
  refine qx_hgeta hΓ (pc := 66) hK hr (k := 4) rfl q719 dX2_takes_66 ?_
  refine g_iconst hΓ (pc := 69) (v := 0) dX2_takes_69 (by decide) ?_
  refine g_bipush hΓ (pc := 70) (v := 12) dX2_takes_70 (by decide) ?_
  refine qt_copyi hΓ (pc := 72) hK hr hr2 (xh_at _ _ _) (xh_ne _ _ hne) (k := 4) (t0 := 0) rfl rfl (Or.inl ⟨rfl, rfl⟩) rfl (fun j hj => rfl) ⟨by decide, by decide⟩ q97 (xh_xh _ _ _ _) ⟨by decide, by decide⟩ dX2_takes_72 ?_
  refine g_aload_n hΓ (pc := 75) 1 (i := 1) dX2_takes_75 rfl rfl ?_
  refine qx_hgeta hΓ (pc := 76) hK hr2 (k := 5) rfl q721 dX2_takes_76 ?_
  refine g_iconst hΓ (pc := 79) (v := 0) dX2_takes_79 (by decide) ?_
  refine g_aload_n hΓ (pc := 80) 0 (i := 0) dX2_takes_80 rfl rfl ?_
  refine qx_hgeta hΓ (pc := 81) hK hr (k := 5) rfl q721 dX2_takes_81 ?_
  refine g_iconst hΓ (pc := 84) (v := 0) dX2_takes_84 (by decide) ?_
  refine g_bipush hΓ (pc := 85) (v := 12) dX2_takes_85 (by decide) ?_
  refine qt_copyi hΓ (pc := 87) hK hr hr2 (xh_at _ _ _) (xh_ne _ _ hne) (k := 5) (t0 := 2) rfl rfl (Or.inr ⟨rfl, rfl⟩) rfl (fun j hj => by rcases gOk_at hg hj with e | e <;> rw [e] <;> rfl) ⟨by decide, by decide⟩ q97 (xh_xh _ _ _ _) ⟨by decide, by decide⟩ dX2_takes_87 ?_
  refine g_aload_n hΓ (pc := 90) 1 (i := 1) dX2_takes_90 rfl rfl ?_
  refine qx_hgeta hΓ (pc := 91) hK hr2 (k := 6) rfl q723 dX2_takes_91 ?_
  refine g_iconst hΓ (pc := 94) (v := 0) dX2_takes_94 (by decide) ?_
  refine g_aload_n hΓ (pc := 95) 0 (i := 0) dX2_takes_95 rfl rfl ?_
  refine qx_hgeta hΓ (pc := 96) hK hr (k := 6) rfl q723 dX2_takes_96 ?_
  refine g_iconst hΓ (pc := 99) (v := 0) dX2_takes_99 (by decide) ?_
  refine g_bipush hΓ (pc := 100) (v := 6) dX2_takes_100 (by decide) ?_
  refine qt_copyi hΓ (pc := 102) hK hr hr2 (xh_at _ _ _) (xh_ne _ _ hne) (k := 6) (t0 := 0) rfl rfl (Or.inl ⟨rfl, rfl⟩) rfl (fun j hj => rfl) ⟨by decide, by decide⟩ q97 (xh_xh _ _ _ _) ⟨by decide, by decide⟩ dX2_takes_102 ?_
  refine g_aload_n hΓ (pc := 105) 1 (i := 1) dX2_takes_105 rfl rfl ?_
  refine qx_hgeta hΓ (pc := 106) hK hr2 (k := 7) rfl q725 dX2_takes_106 ?_
  refine g_iconst hΓ (pc := 109) (v := 0) dX2_takes_109 (by decide) ?_
  refine g_aload_n hΓ (pc := 110) 0 (i := 0) dX2_takes_110 rfl rfl ?_
  refine qx_hgeta hΓ (pc := 111) hK hr (k := 7) rfl q725 dX2_takes_111 ?_
  refine g_iconst hΓ (pc := 114) (v := 0) dX2_takes_114 (by decide) ?_
  refine g_bipush hΓ (pc := 115) (v := 6) dX2_takes_115 (by decide) ?_
  refine qt_copyi hΓ (pc := 117) hK hr hr2 (xh_at _ _ _) (xh_ne _ _ hne) (k := 7) (t0 := 0) rfl rfl (Or.inl ⟨rfl, rfl⟩) rfl (fun j hj => rfl) ⟨by decide, by decide⟩ q97 (xh_xh _ _ _ _) ⟨by decide, by decide⟩ dX2_takes_117 ?_
  refine g_aload_n hΓ (pc := 120) 1 (i := 1) dX2_takes_120 rfl rfl ?_
  refine qx_hgeta hΓ (pc := 121) hK hr2 (k := 8) rfl q727 dX2_takes_121 ?_
  refine g_iconst hΓ (pc := 124) (v := 0) dX2_takes_124 (by decide) ?_
  refine g_aload_n hΓ (pc := 125) 0 (i := 0) dX2_takes_125 rfl rfl ?_
  refine qx_hgeta hΓ (pc := 126) hK hr (k := 8) rfl q727 dX2_takes_126 ?_
  refine g_iconst hΓ (pc := 129) (v := 0) dX2_takes_129 (by decide) ?_
  refine g_bipush hΓ (pc := 130) (v := 6) dX2_takes_130 (by decide) ?_
  refine qt_copyi hΓ (pc := 132) hK hr hr2 (xh_at _ _ _) (xh_ne _ _ hne) (k := 8) (t0 := 0) rfl rfl (Or.inl ⟨rfl, rfl⟩) rfl (fun j hj => rfl) ⟨by decide, by decide⟩ q97 (xh_xh _ _ _ _) ⟨by decide, by decide⟩ dX2_takes_132 ?_
  refine g_aload_n hΓ (pc := 135) 1 (i := 1) dX2_takes_135 rfl rfl ?_
  refine qx_hgeta hΓ (pc := 136) hK hr2 (k := 9) rfl q729 dX2_takes_136 ?_
  refine g_iconst hΓ (pc := 139) (v := 0) dX2_takes_139 (by decide) ?_
  refine g_aload_n hΓ (pc := 140) 0 (i := 0) dX2_takes_140 rfl rfl ?_
  refine qx_hgeta hΓ (pc := 141) hK hr (k := 9) rfl q729 dX2_takes_141 ?_
  refine g_iconst hΓ (pc := 144) (v := 0) dX2_takes_144 (by decide) ?_
  refine g_bipush hΓ (pc := 145) (v := 6) dX2_takes_145 (by decide) ?_
  refine qt_copyi hΓ (pc := 147) hK hr hr2 (xh_at _ _ _) (xh_ne _ _ hne) (k := 9) (t0 := 0) rfl rfl (Or.inl ⟨rfl, rfl⟩) rfl (fun j hj => rfl) ⟨by decide, by decide⟩ q97 (xh_xh _ _ _ _) ⟨by decide, by decide⟩ dX2_takes_147 ?_
  refine g_aload_n hΓ (pc := 150) 1 (i := 1) dX2_takes_150 rfl rfl ?_
  refine qx_hgeta hΓ (pc := 151) hK hr2 (k := 10) rfl q731 dX2_takes_151 ?_
  refine g_iconst hΓ (pc := 154) (v := 0) dX2_takes_154 (by decide) ?_
  refine g_aload_n hΓ (pc := 155) 0 (i := 0) dX2_takes_155 rfl rfl ?_
  refine qx_hgeta hΓ (pc := 156) hK hr (k := 10) rfl q731 dX2_takes_156 ?_
  refine g_iconst hΓ (pc := 159) (v := 0) dX2_takes_159 (by decide) ?_
  refine g_bipush hΓ (pc := 160) (v := 6) dX2_takes_160 (by decide) ?_
  refine qt_copyi hΓ (pc := 162) hK hr hr2 (xh_at _ _ _) (xh_ne _ _ hne) (k := 10) (t0 := 0) rfl rfl (Or.inl ⟨rfl, rfl⟩) rfl (fun j hj => rfl) ⟨by decide, by decide⟩ q97 (xh_xh _ _ _ _) ⟨by decide, by decide⟩ dX2_takes_162 ?_
  refine g_aload_n hΓ (pc := 165) 1 (i := 1) dX2_takes_165 rfl rfl ?_
  refine qx_hgeta hΓ (pc := 166) hK hr2 (k := 11) rfl q733 dX2_takes_166 ?_
  refine g_iconst hΓ (pc := 169) (v := 0) dX2_takes_169 (by decide) ?_
  refine g_aload_n hΓ (pc := 170) 0 (i := 0) dX2_takes_170 rfl rfl ?_
  refine qx_hgeta hΓ (pc := 171) hK hr (k := 11) rfl q733 dX2_takes_171 ?_
  refine g_iconst hΓ (pc := 174) (v := 0) dX2_takes_174 (by decide) ?_
  refine g_bipush hΓ (pc := 175) (v := 6) dX2_takes_175 (by decide) ?_
  refine qt_copyi hΓ (pc := 177) hK hr hr2 (xh_at _ _ _) (xh_ne _ _ hne) (k := 11) (t0 := 0) rfl rfl (Or.inl ⟨rfl, rfl⟩) rfl (fun j hj => rfl) ⟨by decide, by decide⟩ q97 (xh_xh _ _ _ _) ⟨by decide, by decide⟩ dX2_takes_177 ?_
  refine g_aload_n hΓ (pc := 180) 1 (i := 1) dX2_takes_180 rfl rfl ?_
  refine qx_hgeta hΓ (pc := 181) hK hr2 (k := 12) rfl q735 dX2_takes_181 ?_
  refine g_iconst hΓ (pc := 184) (v := 0) dX2_takes_184 (by decide) ?_
  refine g_aload_n hΓ (pc := 185) 0 (i := 0) dX2_takes_185 rfl rfl ?_
  refine qx_hgeta hΓ (pc := 186) hK hr (k := 12) rfl q735 dX2_takes_186 ?_
  refine g_iconst hΓ (pc := 189) (v := 0) dX2_takes_189 (by decide) ?_
  refine g_bipush hΓ (pc := 190) (v := 6) dX2_takes_190 (by decide) ?_
  refine qt_copyi hΓ (pc := 192) hK hr hr2 (xh_at _ _ _) (xh_ne _ _ hne) (k := 12) (t0 := 0) rfl rfl (Or.inl ⟨rfl, rfl⟩) rfl (fun j hj => rfl) ⟨by decide, by decide⟩ q97 (xh_xh _ _ _ _) ⟨by decide, by decide⟩ dX2_takes_192 ?_
  refine g_aload_n hΓ (pc := 195) 1 (i := 1) dX2_takes_195 rfl rfl ?_
  refine qx_hgeta hΓ (pc := 196) hK hr2 (k := 13) rfl q737 dX2_takes_196 ?_
  refine g_iconst hΓ (pc := 199) (v := 0) dX2_takes_199 (by decide) ?_
  refine g_aload_n hΓ (pc := 200) 0 (i := 0) dX2_takes_200 rfl rfl ?_
  refine qx_hgeta hΓ (pc := 201) hK hr (k := 13) rfl q737 dX2_takes_201 ?_
  refine g_iconst hΓ (pc := 204) (v := 0) dX2_takes_204 (by decide) ?_
  refine g_bipush hΓ (pc := 205) (v := 6) dX2_takes_205 (by decide) ?_
  refine qt_copyi hΓ (pc := 207) hK hr hr2 (xh_at _ _ _) (xh_ne _ _ hne) (k := 13) (t0 := 0) rfl rfl (Or.inl ⟨rfl, rfl⟩) rfl (fun j hj => rfl) ⟨by decide, by decide⟩ q97 (xh_xh _ _ _ _) ⟨by decide, by decide⟩ dX2_takes_207 ?_
  refine g_aload_n hΓ (pc := 210) 0 (i := 0) dX2_takes_210 rfl rfl ?_
  refine g_aload_n hΓ (pc := 211) 1 (i := 1) dX2_takes_211 rfl rfl ?_
  refine qx_hget hΓ (pc := 212) hK hr2 (xh_ne _ _ hne) (k := 14) rfl q739 dX2_takes_212 ?_
  refine qx_hput hΓ (pc := 215) hK hr (xh_at _ _ _) (k := 14) rfl rfl (xh_xh _ _ _ _) q739 dX2_takes_215 ?_
  refine g_aload_n hΓ (pc := 218) 0 (i := 0) dX2_takes_218 rfl rfl ?_
  refine g_aload_n hΓ (pc := 219) 1 (i := 1) dX2_takes_219 rfl rfl ?_
  refine qx_hget hΓ (pc := 220) hK hr2 (xh_ne _ _ hne) (k := 15) rfl q741 dX2_takes_220 ?_
  refine qx_hput hΓ (pc := 223) hK hr (xh_at _ _ _) (k := 15) rfl rfl (xh_xh _ _ _ _) q741 dX2_takes_223 ?_
  refine g_aload_n hΓ (pc := 226) 0 (i := 0) dX2_takes_226 rfl rfl ?_
  refine g_aload_n hΓ (pc := 227) 1 (i := 1) dX2_takes_227 rfl rfl ?_
  refine qx_hget hΓ (pc := 228) hK hr2 (xh_ne _ _ hne) (k := 16) rfl q743 dX2_takes_228 ?_
  refine qx_hput hΓ (pc := 231) hK hr (xh_at _ _ _) (k := 16) rfl rfl (xh_xh _ _ _ _) q743 dX2_takes_231 ?_
  refine g_aload_n hΓ (pc := 234) 0 (i := 0) dX2_takes_234 rfl rfl ?_
  refine g_aload_n hΓ (pc := 235) 1 (i := 1) dX2_takes_235 rfl rfl ?_
  refine qx_hget hΓ (pc := 236) hK hr2 (xh_ne _ _ hne) (k := 17) rfl q745 dX2_takes_236 ?_
  refine qx_hput hΓ (pc := 239) hK hr (xh_at _ _ _) (k := 17) rfl rfl (xh_xh _ _ _ _) q745 dX2_takes_239 ?_
  refine g_aload_n hΓ (pc := 242) 0 (i := 0) dX2_takes_242 rfl rfl ?_
  refine g_aload_n hΓ (pc := 243) 1 (i := 1) dX2_takes_243 rfl rfl ?_
  refine qx_hget hΓ (pc := 244) hK hr2 (xh_ne _ _ hne) (k := 18) rfl q747 dX2_takes_244 ?_
  refine qx_hput hΓ (pc := 247) hK hr (xh_at _ _ _) (k := 18) rfl rfl (xh_xh _ _ _ _) q747 dX2_takes_247 ?_
  refine g_aload_n hΓ (pc := 250) 0 (i := 0) dX2_takes_250 rfl rfl ?_
  refine g_iconst hΓ (pc := 251) (v := -1) dX2_takes_251 (by decide) ?_
  refine qx_hput hΓ (pc := 252) hK hr (xh_at _ _ _) (k := 19) rfl rfl (xh_xh _ _ _ _) q749 dX2_takes_252 ?_
  refine g_aload_n hΓ (pc := 255) 0 (i := 0) dX2_takes_255 rfl rfl ?_
  refine g_iconst hΓ (pc := 256) (v := 0) dX2_takes_256 (by decide) ?_
  refine qx_hput hΓ (pc := 257) hK hr (xh_at _ _ _) (k := 20) rfl rfl (xh_xh _ _ _ _) q751 dX2_takes_257 ?_
  refine g_aload_n hΓ (pc := 260) 0 (i := 0) dX2_takes_260 rfl rfl ?_
  refine g_iconst hΓ (pc := 261) (v := 0) dX2_takes_261 (by decide) ?_
  refine qx_hput hΓ (pc := 262) hK hr (xh_at _ _ _) (k := 21) rfl rfl (xh_xh _ _ _ _) q753 dX2_takes_262 ?_
  refine g_w (fun H hw => XW.hsame (h' := hTk (x.1 r2)) hw ?_ ?_ ?_) ?_
  · intro j hj; rfl
  · intro k h1 h2
    rcases (by omega : k = 1 ∨ k = 2 ∨ k = 3 ∨ k = 4 ∨ k = 5 ∨ k = 6 ∨ k = 7 ∨ k = 8 ∨ k = 9 ∨ k = 10 ∨ k = 11 ∨ k = 12 ∨ k = 13) with rfl | rfl | rfl | rfl | rfl | rfl | rfl | rfl | rfl | rfl | rfl | rfl | rfl <;> rfl
  · intro k h1 h2
    rcases (by omega : k = 14 ∨ k = 15 ∨ k = 16 ∨ k = 17 ∨ k = 18 ∨ k = 19 ∨ k = 20 ∨ k = 21) with rfl | rfl | rfl | rfl | rfl | rfl | rfl | rfl <;> rfl
  exact qh_vret hΓ rfl dX2_takes_265

set_option maxRecDepth 100000
def M_thrown (m : MS) : Option (Int32) :=
  some (m.1 23)
set_option maxHeartbeats 4000000 in
set_option maxRecDepth 100000 in
theorem metM_thrown (l : Launch) {D : va_G} {dA : Nat → ClassId} {b : Nat} {ad : Nat → Nat} {P : Nat → Prop} {F : Nat → va_E} {m : MS} {r : Int32} (hf : M_thrown m  = some r) : Met l yX4_thrown (ws_ yX4_thrown cX4_thrown 1 (some .int)) (rm0_ 0 0) (mP D dA b ad P F [.ref (ad 46)] m) (mQ D dA b ad P F (some (.int r)) m) 0 0 (fun q => b ≤ q) := by
  refine qg_met (by decide) RX4 rfl (Nat.le_of_ble_eq_true rfl) (fun Γ hΓ hK => ?_)
  refine g_sub [0] (lv' := [(0, .ref (ad 46))]) rfl ?_
  refine g_aload_n hΓ (pc := 0) 0 (i := 0) dX4_thrown_0 rfl rfl ?_
  refine qg_get hΓ (pc := 1) hK (k := 23) rfl q1095 dX4_thrown_1 ?_
  exact qg_iretR hΓ hK hf dX4_thrown_4
def M_carry_17 (m : MS) : Option (Int32 × MS) :=
  (mSI m 27 ((m.1 27) + (1 : Int32))).bind fun m1 =>
  (mKg m1).bind fun k2 =>
  (mR m1 k2 ((m1.1 27) - (1 : Int32))).bind fun x3 =>
  some (x3, m1)
def M_carry (m : MS) (a0 : Int32) : Option (Int32 × MS) :=
  if (m.1 28) = 0 then (
    M_carry_17 m
  ) else (
    (mKg m).bind fun k5 =>
    (mW m k5 (m.1 27) a0).bind fun m6 =>
    M_carry_17 m6
  )
set_option maxHeartbeats 4000000 in
set_option maxRecDepth 100000 in
theorem metM_carry (l : Launch) {D : va_G} {dA : Nat → ClassId} {b : Nat} {ad : Nat → Nat} {P : Nat → Prop} {F : Nat → va_E} {m : MS} {m' : MS} {a0 : Int32} {r : Int32} (hf : M_carry m a0 = some (r, m')) : Met l yX4_carry (ws_ yX4_carry cX4_carry 2 (some .int)) (rm0_ 0 0) (mP D dA b ad P F [.ref (ad 46), .int a0] m) (mQ D dA b ad P F (some (.int r)) m') 0 0 (fun q => b ≤ q) := by
  refine qg_met (by decide) RX4 rfl (Nat.le_of_ble_eq_true rfl) (fun Γ hΓ hK => ?_)
  refine g_sub [0, 1] (lv' := [(0, .ref (ad 46)), (1, .int a0)]) rfl ?_
  have J17 : ∀ (m : MS) (hf : M_carry_17   m  = some (r, m')), WG Γ (MW D dA b ad P F m) 0 0 17 [(0, .ref (ad 46))] [] := by
    intro  m  hf
    refine g_aload_n hΓ (pc := 17) 0 (i := 0) dX4_carry_17 rfl rfl ?_
    refine g_dup hΓ (pc := 18) dX4_carry_18 rfl ?_
    refine qg_get hΓ (pc := 19) hK (k := 27) rfl q1099 dX4_carry_19 ?_
    refine g_iconst hΓ (pc := 22) (v := 1) dX4_carry_22 (by decide) ?_
    refine g_iadd hΓ (pc := 23) dX4_carry_23 ?_
    obtain ⟨m1, hm1, hf⟩ := bindE hf
    refine qg_put hΓ (pc := 24) hK rfl hm1 q1099 dX4_carry_24 ?_
    refine g_aload_n hΓ (pc := 27) 0 (i := 0) dX4_carry_27 rfl rfl ?_
    obtain ⟨k2, hk2, hf⟩ := bindE hf
    refine qg_getk hΓ (pc := 28) hK hk2 q1101 dX4_carry_28 (fun ik2 => ?_)
    refine g_aload_n hΓ (pc := 31) 0 (i := 0) dX4_carry_31 rfl rfl ?_
    refine qg_get hΓ (pc := 32) hK (k := 27) rfl q1099 dX4_carry_32 ?_
    refine g_iconst hΓ (pc := 35) (v := 1) dX4_carry_35 (by decide) ?_
    refine g_isub hΓ (pc := 36) dX4_carry_36 ?_
    obtain ⟨x3, hx3, hf⟩ := bindE hf
    refine qg_iald hΓ (pc := 37) hK ik2 hx3 dX4_carry_37 rfl ?_
    exact qg_iret hΓ hK hf dX4_carry_38
  refine g_aload_n hΓ (pc := 0) 0 (i := 0) dX4_carry_0 rfl rfl ?_
  refine qg_get hΓ (pc := 1) hK (k := 28) rfl q1100 dX4_carry_1 ?_
  refine g_if_eq hΓ (pc := 4) (tgt := 17) dX4_carry_4 (by decide) (fun c4 => ?_) (fun c4 => ?_)
  · have hf := ifP hf c4
    exact g_sub [0] rfl (J17  _ hf)
  · have hf := ifN hf c4
    refine g_aload_n hΓ (pc := 7) 0 (i := 0) dX4_carry_7 rfl rfl ?_
    obtain ⟨k5, hk5, hf⟩ := bindE hf
    refine qg_getk hΓ (pc := 8) hK hk5 q1101 dX4_carry_8 (fun ik5 => ?_)
    refine g_aload_n hΓ (pc := 11) 0 (i := 0) dX4_carry_11 rfl rfl ?_
    refine qg_get hΓ (pc := 12) hK (k := 27) rfl q1099 dX4_carry_12 ?_
    refine g_iload_n hΓ (pc := 15) 1 (i := 1) dX4_carry_15 rfl rfl ?_
    obtain ⟨m6, hm6, hf⟩ := bindE hf
    refine qg_iast hΓ (pc := 16) hK ik5 hm6 dX4_carry_16 rfl ?_
    exact g_sub [0] rfl (J17  _ hf)
def M_carryAll_191s (kk : Nat) (k191 : MS → Int32 → Option (MS)) (m : MS) (y3 : Int32) : Option (MS) :=
  if (6 : Int32) ≤ y3 then (
    some m
  ) else (
    (mR m 11 y3).bind fun x2 =>
    (M_carry m x2).bind fun q3 =>
    (mW q3.2 11 y3 q3.1).bind fun m4 =>
    (mR m4 12 y3).bind fun x5 =>
    (M_carry m4 x5).bind fun q6 =>
    (mW q6.2 12 y3 q6.1).bind fun m7 =>
    (mR m7 13 y3).bind fun x8 =>
    (M_carry m7 x8).bind fun q9 =>
    (mW q9.2 13 y3 q9.1).bind fun m10 =>
    (mR m10 14 y3).bind fun x11 =>
    (M_carry m10 x11).bind fun q12 =>
    (mW q12.2 14 y3 q12.1).bind fun m13 =>
    (mR m13 15 y3).bind fun x14 =>
    (M_carry m13 x14).bind fun q15 =>
    (mW q15.2 15 y3 q15.1).bind fun m16 =>
    (mR m16 16 y3).bind fun x17 =>
    (M_carry m16 x17).bind fun q18 =>
    (mW q18.2 16 y3 q18.1).bind fun m19 =>
    (mR m19 17 y3).bind fun x20 =>
    (M_carry m19 x20).bind fun q21 =>
    (mW q21.2 17 y3 q21.1).bind fun m22 =>
    (mR m22 18 y3).bind fun x23 =>
    (M_carry m22 x23).bind fun q24 =>
    (mW q24.2 18 y3 q24.1).bind fun m25 =>
    (mR m25 19 y3).bind fun x26 =>
    (M_carry m25 x26).bind fun q27 =>
    (mW q27.2 19 y3 q27.1).bind fun m28 =>
    (some (y3 + 1)).bind fun x29 =>
    k191 m28 x29
  )
def M_carryAll_191 (kk : Nat) : Nat → MS → Int32 → Option (MS)
  | 0 => fun _ _ => none
  | n + 1 => M_carryAll_191s kk  (M_carryAll_191 kk  n)
def M_carryAll_65s (kk : Nat) (k65 : MS → Int32 → Option (MS)) (m : MS) (y3 : Int32) : Option (MS) :=
  if (12 : Int32) ≤ y3 then (
    M_carryAll_191 kk 200 m (0 : Int32)
  ) else (
    (mR m 4 y3).bind fun x31 =>
    (M_carry m x31).bind fun q32 =>
    (mW q32.2 4 y3 q32.1).bind fun m33 =>
    (mR m33 5 y3).bind fun x34 =>
    (M_carry m33 x34).bind fun q35 =>
    (mW q35.2 5 y3 q35.1).bind fun m36 =>
    (mR m36 6 y3).bind fun x37 =>
    (M_carry m36 x37).bind fun q38 =>
    (mW q38.2 6 y3 q38.1).bind fun m39 =>
    (mR m39 7 y3).bind fun x40 =>
    (M_carry m39 x40).bind fun q41 =>
    (mW q41.2 7 y3 q41.1).bind fun m42 =>
    (mR m42 8 y3).bind fun x43 =>
    (M_carry m42 x43).bind fun q44 =>
    (mW q44.2 8 y3 q44.1).bind fun m45 =>
    (mR m45 9 y3).bind fun x46 =>
    (M_carry m45 x46).bind fun q47 =>
    (mW q47.2 9 y3 q47.1).bind fun m48 =>
    (mR m48 10 y3).bind fun x49 =>
    (M_carry m48 x49).bind fun q50 =>
    (mW q50.2 10 y3 q50.1).bind fun m51 =>
    (some (y3 + 1)).bind fun x52 =>
    k65 m51 x52
  )
def M_carryAll_65 (kk : Nat) : Nat → MS → Int32 → Option (MS)
  | 0 => fun _ _ => none
  | n + 1 => M_carryAll_65s kk  (M_carryAll_65 kk  n)
def M_carryAll (m : MS) (kk : Nat) (a1 : Int32) : Option (MS) :=
  (mKI m kk).bind fun m53 =>
  (mSZ m53 28 a1).bind fun m54 =>
  (mSI m54 27 (0 : Int32)).bind fun m55 =>
  (M_carry m55 (m55.1 0)).bind fun q56 =>
  (mSI q56.2 0 q56.1).bind fun m57 =>
  (M_carry m57 (m57.1 1)).bind fun q58 =>
  (mSI q58.2 1 q58.1).bind fun m59 =>
  (M_carry m59 (m59.1 2)).bind fun q60 =>
  (mSI q60.2 2 q60.1).bind fun m61 =>
  (M_carry m61 (m61.1 3)).bind fun q62 =>
  (mSI q62.2 3 q62.1).bind fun m63 =>
  M_carryAll_65 kk 200 m63 (0 : Int32)
set_option maxHeartbeats 4000000 in
set_option maxRecDepth 100000 in
theorem metM_carryAll (l : Launch) {D : va_G} {dA : Nat → ClassId} {b : Nat} {ad : Nat → Nat} {P : Nat → Prop} {F : Nat → va_E} {m : MS} {m' : MS} {kk : Nat} {a1 : Int32} (hkk : mI kk = true) (hf : M_carryAll m kk a1 = some m') : Met l yX4_carryAll (ws_ yX4_carryAll cX4_carryAll 4 none) (rm0_ 1 21) (mP D dA b ad P F [.ref (ad 46), .ref (ad kk), .int a1] m) (mQ D dA b ad P F none m') 0 0 (fun q => b ≤ q) := by
  refine qg_met (by decide) RX4 rfl (Nat.le_of_ble_eq_true rfl) (fun Γ hΓ hK => ?_)
  refine g_sub [0, 1, 2] (lv' := [(0, .ref (ad 46)), (1, .ref (ad kk)), (2, .int a1)]) rfl ?_
  have S191 : ∀ (k191 : MS → Int32 → Option (MS)) (hk191 : ∀ (m : MS) (y3 : Int32), k191 m y3 = some m' → WG Γ (MW D dA b ad P F m) 0 0 191 [(0, .ref (ad 46)), (3, .int y3)] []) (m : MS) (y3 : Int32) (hf : M_carryAll_191s kk k191 m y3 = some m'), WG Γ (MW D dA b ad P F m) 0 0 191 [(0, .ref (ad 46)), (3, .int y3)] [] := by
    intro k191 hk191 m y3 hf
    refine g_iload_n hΓ (pc := 191) 1 (i := 3) dX4_carryAll_191 rfl rfl ?_
    refine g_bipush hΓ (pc := 192) (v := 6) dX4_carryAll_192 (by decide) ?_
    refine g_icmp_ge hΓ (pc := 194) (tgt := 347) dX4_carryAll_194 (by decide) (fun c1 => ?_) (fun c1 => ?_)
    · have hf := ifP hf c1
      exact qg_vret hΓ hK hf dX4_carryAll_347
    · have hf := ifN hf c1
      refine g_aload_n hΓ (pc := 197) 0 (i := 0) dX4_carryAll_197 rfl rfl ?_
      refine qg_geta hΓ (pc := 198) hK (k := 11) rfl q1083 dX4_carryAll_198 ?_
      refine g_iload_n hΓ (pc := 201) 1 (i := 3) dX4_carryAll_201 rfl rfl ?_
      refine g_aload_n hΓ (pc := 202) 0 (i := 0) dX4_carryAll_202 rfl rfl ?_
      refine g_aload_n hΓ (pc := 203) 0 (i := 0) dX4_carryAll_203 rfl rfl ?_
      refine qg_geta hΓ (pc := 204) hK (k := 11) rfl q1083 dX4_carryAll_204 ?_
      refine g_iload_n hΓ (pc := 207) 1 (i := 3) dX4_carryAll_207 rfl rfl ?_
      obtain ⟨x2, hx2, hf⟩ := bindE hf
      refine qg_iald hΓ (pc := 208) hK rfl hx2 dX4_carryAll_208 rfl ?_
      obtain ⟨q3, hq3, hf⟩ := bindE hf
      refine qg_callV hΓ (pc := 209) hK 1 (As := [.int x2]) (metM_carry _ (r := q3.1) (m' := q3.2) hq3) (lw_V q1224 q1226 qs15 q57 q1227) (by decide +kernel) (by decide) rfl rfl (Nat.le_of_ble_eq_true rfl) dX4_carryAll_209 ?_
      obtain ⟨m4, hm4, hf⟩ := bindE hf
      refine qg_iast hΓ (pc := 212) hK rfl hm4 dX4_carryAll_212 rfl ?_
      refine g_aload_n hΓ (pc := 213) 0 (i := 0) dX4_carryAll_213 rfl rfl ?_
      refine qg_geta hΓ (pc := 214) hK (k := 12) rfl q1084 dX4_carryAll_214 ?_
      refine g_iload_n hΓ (pc := 217) 1 (i := 3) dX4_carryAll_217 rfl rfl ?_
      refine g_aload_n hΓ (pc := 218) 0 (i := 0) dX4_carryAll_218 rfl rfl ?_
      refine g_aload_n hΓ (pc := 219) 0 (i := 0) dX4_carryAll_219 rfl rfl ?_
      refine qg_geta hΓ (pc := 220) hK (k := 12) rfl q1084 dX4_carryAll_220 ?_
      refine g_iload_n hΓ (pc := 223) 1 (i := 3) dX4_carryAll_223 rfl rfl ?_
      obtain ⟨x5, hx5, hf⟩ := bindE hf
      refine qg_iald hΓ (pc := 224) hK rfl hx5 dX4_carryAll_224 rfl ?_
      obtain ⟨q6, hq6, hf⟩ := bindE hf
      refine qg_callV hΓ (pc := 225) hK 1 (As := [.int x5]) (metM_carry _ (r := q6.1) (m' := q6.2) hq6) (lw_V q1224 q1226 qs15 q57 q1227) (by decide +kernel) (by decide) rfl rfl (Nat.le_of_ble_eq_true rfl) dX4_carryAll_225 ?_
      obtain ⟨m7, hm7, hf⟩ := bindE hf
      refine qg_iast hΓ (pc := 228) hK rfl hm7 dX4_carryAll_228 rfl ?_
      refine g_aload_n hΓ (pc := 229) 0 (i := 0) dX4_carryAll_229 rfl rfl ?_
      refine qg_geta hΓ (pc := 230) hK (k := 13) rfl q1085 dX4_carryAll_230 ?_
      refine g_iload_n hΓ (pc := 233) 1 (i := 3) dX4_carryAll_233 rfl rfl ?_
      refine g_aload_n hΓ (pc := 234) 0 (i := 0) dX4_carryAll_234 rfl rfl ?_
      refine g_aload_n hΓ (pc := 235) 0 (i := 0) dX4_carryAll_235 rfl rfl ?_
      refine qg_geta hΓ (pc := 236) hK (k := 13) rfl q1085 dX4_carryAll_236 ?_
      refine g_iload_n hΓ (pc := 239) 1 (i := 3) dX4_carryAll_239 rfl rfl ?_
      obtain ⟨x8, hx8, hf⟩ := bindE hf
      refine qg_iald hΓ (pc := 240) hK rfl hx8 dX4_carryAll_240 rfl ?_
      obtain ⟨q9, hq9, hf⟩ := bindE hf
      refine qg_callV hΓ (pc := 241) hK 1 (As := [.int x8]) (metM_carry _ (r := q9.1) (m' := q9.2) hq9) (lw_V q1224 q1226 qs15 q57 q1227) (by decide +kernel) (by decide) rfl rfl (Nat.le_of_ble_eq_true rfl) dX4_carryAll_241 ?_
      obtain ⟨m10, hm10, hf⟩ := bindE hf
      refine qg_iast hΓ (pc := 244) hK rfl hm10 dX4_carryAll_244 rfl ?_
      refine g_aload_n hΓ (pc := 245) 0 (i := 0) dX4_carryAll_245 rfl rfl ?_
      refine qg_geta hΓ (pc := 246) hK (k := 14) rfl q1086 dX4_carryAll_246 ?_
      refine g_iload_n hΓ (pc := 249) 1 (i := 3) dX4_carryAll_249 rfl rfl ?_
      refine g_aload_n hΓ (pc := 250) 0 (i := 0) dX4_carryAll_250 rfl rfl ?_
      refine g_aload_n hΓ (pc := 251) 0 (i := 0) dX4_carryAll_251 rfl rfl ?_
      refine qg_geta hΓ (pc := 252) hK (k := 14) rfl q1086 dX4_carryAll_252 ?_
      refine g_iload_n hΓ (pc := 255) 1 (i := 3) dX4_carryAll_255 rfl rfl ?_
      obtain ⟨x11, hx11, hf⟩ := bindE hf
      refine qg_iald hΓ (pc := 256) hK rfl hx11 dX4_carryAll_256 rfl ?_
      obtain ⟨q12, hq12, hf⟩ := bindE hf
      refine qg_callV hΓ (pc := 257) hK 1 (As := [.int x11]) (metM_carry _ (r := q12.1) (m' := q12.2) hq12) (lw_V q1224 q1226 qs15 q57 q1227) (by decide +kernel) (by decide) rfl rfl (Nat.le_of_ble_eq_true rfl) dX4_carryAll_257 ?_
      obtain ⟨m13, hm13, hf⟩ := bindE hf
      refine qg_iast hΓ (pc := 260) hK rfl hm13 dX4_carryAll_260 rfl ?_
      refine g_aload_n hΓ (pc := 261) 0 (i := 0) dX4_carryAll_261 rfl rfl ?_
      refine qg_geta hΓ (pc := 262) hK (k := 15) rfl q1087 dX4_carryAll_262 ?_
      refine g_iload_n hΓ (pc := 265) 1 (i := 3) dX4_carryAll_265 rfl rfl ?_
      refine g_aload_n hΓ (pc := 266) 0 (i := 0) dX4_carryAll_266 rfl rfl ?_
      refine g_aload_n hΓ (pc := 267) 0 (i := 0) dX4_carryAll_267 rfl rfl ?_
      refine qg_geta hΓ (pc := 268) hK (k := 15) rfl q1087 dX4_carryAll_268 ?_
      refine g_iload_n hΓ (pc := 271) 1 (i := 3) dX4_carryAll_271 rfl rfl ?_
      obtain ⟨x14, hx14, hf⟩ := bindE hf
      refine qg_iald hΓ (pc := 272) hK rfl hx14 dX4_carryAll_272 rfl ?_
      obtain ⟨q15, hq15, hf⟩ := bindE hf
      refine qg_callV hΓ (pc := 273) hK 1 (As := [.int x14]) (metM_carry _ (r := q15.1) (m' := q15.2) hq15) (lw_V q1224 q1226 qs15 q57 q1227) (by decide +kernel) (by decide) rfl rfl (Nat.le_of_ble_eq_true rfl) dX4_carryAll_273 ?_
      obtain ⟨m16, hm16, hf⟩ := bindE hf
      refine qg_iast hΓ (pc := 276) hK rfl hm16 dX4_carryAll_276 rfl ?_
      refine g_aload_n hΓ (pc := 277) 0 (i := 0) dX4_carryAll_277 rfl rfl ?_
      refine qg_geta hΓ (pc := 278) hK (k := 16) rfl q1088 dX4_carryAll_278 ?_
      refine g_iload_n hΓ (pc := 281) 1 (i := 3) dX4_carryAll_281 rfl rfl ?_
      refine g_aload_n hΓ (pc := 282) 0 (i := 0) dX4_carryAll_282 rfl rfl ?_
      refine g_aload_n hΓ (pc := 283) 0 (i := 0) dX4_carryAll_283 rfl rfl ?_
      refine qg_geta hΓ (pc := 284) hK (k := 16) rfl q1088 dX4_carryAll_284 ?_
      refine g_iload_n hΓ (pc := 287) 1 (i := 3) dX4_carryAll_287 rfl rfl ?_
      obtain ⟨x17, hx17, hf⟩ := bindE hf
      refine qg_iald hΓ (pc := 288) hK rfl hx17 dX4_carryAll_288 rfl ?_
      obtain ⟨q18, hq18, hf⟩ := bindE hf
      refine qg_callV hΓ (pc := 289) hK 1 (As := [.int x17]) (metM_carry _ (r := q18.1) (m' := q18.2) hq18) (lw_V q1224 q1226 qs15 q57 q1227) (by decide +kernel) (by decide) rfl rfl (Nat.le_of_ble_eq_true rfl) dX4_carryAll_289 ?_
      obtain ⟨m19, hm19, hf⟩ := bindE hf
      refine qg_iast hΓ (pc := 292) hK rfl hm19 dX4_carryAll_292 rfl ?_
      refine g_aload_n hΓ (pc := 293) 0 (i := 0) dX4_carryAll_293 rfl rfl ?_
      refine qg_geta hΓ (pc := 294) hK (k := 17) rfl q1089 dX4_carryAll_294 ?_
      refine g_iload_n hΓ (pc := 297) 1 (i := 3) dX4_carryAll_297 rfl rfl ?_
      refine g_aload_n hΓ (pc := 298) 0 (i := 0) dX4_carryAll_298 rfl rfl ?_
      refine g_aload_n hΓ (pc := 299) 0 (i := 0) dX4_carryAll_299 rfl rfl ?_
      refine qg_geta hΓ (pc := 300) hK (k := 17) rfl q1089 dX4_carryAll_300 ?_
      refine g_iload_n hΓ (pc := 303) 1 (i := 3) dX4_carryAll_303 rfl rfl ?_
      obtain ⟨x20, hx20, hf⟩ := bindE hf
      refine qg_iald hΓ (pc := 304) hK rfl hx20 dX4_carryAll_304 rfl ?_
      obtain ⟨q21, hq21, hf⟩ := bindE hf
      refine qg_callV hΓ (pc := 305) hK 1 (As := [.int x20]) (metM_carry _ (r := q21.1) (m' := q21.2) hq21) (lw_V q1224 q1226 qs15 q57 q1227) (by decide +kernel) (by decide) rfl rfl (Nat.le_of_ble_eq_true rfl) dX4_carryAll_305 ?_
      obtain ⟨m22, hm22, hf⟩ := bindE hf
      refine qg_iast hΓ (pc := 308) hK rfl hm22 dX4_carryAll_308 rfl ?_
      refine g_aload_n hΓ (pc := 309) 0 (i := 0) dX4_carryAll_309 rfl rfl ?_
      refine qg_geta hΓ (pc := 310) hK (k := 18) rfl q1090 dX4_carryAll_310 ?_
      refine g_iload_n hΓ (pc := 313) 1 (i := 3) dX4_carryAll_313 rfl rfl ?_
      refine g_aload_n hΓ (pc := 314) 0 (i := 0) dX4_carryAll_314 rfl rfl ?_
      refine g_aload_n hΓ (pc := 315) 0 (i := 0) dX4_carryAll_315 rfl rfl ?_
      refine qg_geta hΓ (pc := 316) hK (k := 18) rfl q1090 dX4_carryAll_316 ?_
      refine g_iload_n hΓ (pc := 319) 1 (i := 3) dX4_carryAll_319 rfl rfl ?_
      obtain ⟨x23, hx23, hf⟩ := bindE hf
      refine qg_iald hΓ (pc := 320) hK rfl hx23 dX4_carryAll_320 rfl ?_
      obtain ⟨q24, hq24, hf⟩ := bindE hf
      refine qg_callV hΓ (pc := 321) hK 1 (As := [.int x23]) (metM_carry _ (r := q24.1) (m' := q24.2) hq24) (lw_V q1224 q1226 qs15 q57 q1227) (by decide +kernel) (by decide) rfl rfl (Nat.le_of_ble_eq_true rfl) dX4_carryAll_321 ?_
      obtain ⟨m25, hm25, hf⟩ := bindE hf
      refine qg_iast hΓ (pc := 324) hK rfl hm25 dX4_carryAll_324 rfl ?_
      refine g_aload_n hΓ (pc := 325) 0 (i := 0) dX4_carryAll_325 rfl rfl ?_
      refine qg_geta hΓ (pc := 326) hK (k := 19) rfl q1091 dX4_carryAll_326 ?_
      refine g_iload_n hΓ (pc := 329) 1 (i := 3) dX4_carryAll_329 rfl rfl ?_
      refine g_aload_n hΓ (pc := 330) 0 (i := 0) dX4_carryAll_330 rfl rfl ?_
      refine g_aload_n hΓ (pc := 331) 0 (i := 0) dX4_carryAll_331 rfl rfl ?_
      refine qg_geta hΓ (pc := 332) hK (k := 19) rfl q1091 dX4_carryAll_332 ?_
      refine g_iload_n hΓ (pc := 335) 1 (i := 3) dX4_carryAll_335 rfl rfl ?_
      obtain ⟨x26, hx26, hf⟩ := bindE hf
      refine qg_iald hΓ (pc := 336) hK rfl hx26 dX4_carryAll_336 rfl ?_
      obtain ⟨q27, hq27, hf⟩ := bindE hf
      refine qg_callV hΓ (pc := 337) hK 1 (As := [.int x26]) (metM_carry _ (r := q27.1) (m' := q27.2) hq27) (lw_V q1224 q1226 qs15 q57 q1227) (by decide +kernel) (by decide) rfl rfl (Nat.le_of_ble_eq_true rfl) dX4_carryAll_337 ?_
      obtain ⟨m28, hm28, hf⟩ := bindE hf
      refine qg_iast hΓ (pc := 340) hK rfl hm28 dX4_carryAll_340 rfl ?_
      obtain ⟨x29, hx29, hf⟩ := bindE hf
      refine g_iinc hΓ (pc := 341) 1 (i := 3) (v := x29) (lv' := [(3, .int x29), (0, .ref (ad 46))]) dX4_carryAll_341 rfl (Option.some.inj hx29) (by decide) rfl ?_
      refine g_goto hΓ (pc := 344) (tgt := 191) dX4_carryAll_344 (by decide) ?_
      exact g_sub [1, 0] rfl (hk191 _ _ hf)
  have L191 : ∀ (n : Nat) (m : MS) (y3 : Int32) (hf : M_carryAll_191 kk  n m y3 = some m'), WG Γ (MW D dA b ad P F m) 0 0 191 [(0, .ref (ad 46)), (3, .int y3)] [] := by
    intro  n
    induction n with
    | zero => intro m y3 hf; exact nomatch (show (none : Option (MS)) = some _ from hf)
    | succ n ih => exact S191  _ ih
  have S65 : ∀ (k65 : MS → Int32 → Option (MS)) (hk65 : ∀ (m : MS) (y3 : Int32), k65 m y3 = some m' → WG Γ (MW D dA b ad P F m) 0 0 65 [(0, .ref (ad 46)), (3, .int y3)] []) (m : MS) (y3 : Int32) (hf : M_carryAll_65s kk k65 m y3 = some m'), WG Γ (MW D dA b ad P F m) 0 0 65 [(0, .ref (ad 46)), (3, .int y3)] [] := by
    intro k65 hk65 m y3 hf
    refine g_iload_n hΓ (pc := 65) 1 (i := 3) dX4_carryAll_65 rfl rfl ?_
    refine g_bipush hΓ (pc := 66) (v := 12) dX4_carryAll_66 (by decide) ?_
    refine g_icmp_ge hΓ (pc := 68) (tgt := 189) dX4_carryAll_68 (by decide) (fun c30 => ?_) (fun c30 => ?_)
    · have hf := ifP hf c30
      refine g_iconst hΓ (pc := 189) (v := 0) dX4_carryAll_189 (by decide) ?_
      refine g_istore_n hΓ (pc := 190) (i := 3) (lv' := [(3, .int (0 : Int32)), (0, .ref (ad 46))]) dX4_carryAll_190 rfl (by decide) rfl ?_
      exact g_sub [1, 0] rfl (L191  200 _ _ hf)
    · have hf := ifN hf c30
      refine g_aload_n hΓ (pc := 71) 0 (i := 0) dX4_carryAll_71 rfl rfl ?_
      refine qg_geta hΓ (pc := 72) hK (k := 4) rfl q1076 dX4_carryAll_72 ?_
      refine g_iload_n hΓ (pc := 75) 1 (i := 3) dX4_carryAll_75 rfl rfl ?_
      refine g_aload_n hΓ (pc := 76) 0 (i := 0) dX4_carryAll_76 rfl rfl ?_
      refine g_aload_n hΓ (pc := 77) 0 (i := 0) dX4_carryAll_77 rfl rfl ?_
      refine qg_geta hΓ (pc := 78) hK (k := 4) rfl q1076 dX4_carryAll_78 ?_
      refine g_iload_n hΓ (pc := 81) 1 (i := 3) dX4_carryAll_81 rfl rfl ?_
      obtain ⟨x31, hx31, hf⟩ := bindE hf
      refine qg_iald hΓ (pc := 82) hK rfl hx31 dX4_carryAll_82 rfl ?_
      obtain ⟨q32, hq32, hf⟩ := bindE hf
      refine qg_callV hΓ (pc := 83) hK 1 (As := [.int x31]) (metM_carry _ (r := q32.1) (m' := q32.2) hq32) (lw_V q1224 q1226 qs15 q57 q1227) (by decide +kernel) (by decide) rfl rfl (Nat.le_of_ble_eq_true rfl) dX4_carryAll_83 ?_
      obtain ⟨m33, hm33, hf⟩ := bindE hf
      refine qg_iast hΓ (pc := 86) hK rfl hm33 dX4_carryAll_86 rfl ?_
      refine g_aload_n hΓ (pc := 87) 0 (i := 0) dX4_carryAll_87 rfl rfl ?_
      refine qg_geta hΓ (pc := 88) hK (k := 5) rfl q1077 dX4_carryAll_88 ?_
      refine g_iload_n hΓ (pc := 91) 1 (i := 3) dX4_carryAll_91 rfl rfl ?_
      refine g_aload_n hΓ (pc := 92) 0 (i := 0) dX4_carryAll_92 rfl rfl ?_
      refine g_aload_n hΓ (pc := 93) 0 (i := 0) dX4_carryAll_93 rfl rfl ?_
      refine qg_geta hΓ (pc := 94) hK (k := 5) rfl q1077 dX4_carryAll_94 ?_
      refine g_iload_n hΓ (pc := 97) 1 (i := 3) dX4_carryAll_97 rfl rfl ?_
      obtain ⟨x34, hx34, hf⟩ := bindE hf
      refine qg_iald hΓ (pc := 98) hK rfl hx34 dX4_carryAll_98 rfl ?_
      obtain ⟨q35, hq35, hf⟩ := bindE hf
      refine qg_callV hΓ (pc := 99) hK 1 (As := [.int x34]) (metM_carry _ (r := q35.1) (m' := q35.2) hq35) (lw_V q1224 q1226 qs15 q57 q1227) (by decide +kernel) (by decide) rfl rfl (Nat.le_of_ble_eq_true rfl) dX4_carryAll_99 ?_
      obtain ⟨m36, hm36, hf⟩ := bindE hf
      refine qg_iast hΓ (pc := 102) hK rfl hm36 dX4_carryAll_102 rfl ?_
      refine g_aload_n hΓ (pc := 103) 0 (i := 0) dX4_carryAll_103 rfl rfl ?_
      refine qg_geta hΓ (pc := 104) hK (k := 6) rfl q1078 dX4_carryAll_104 ?_
      refine g_iload_n hΓ (pc := 107) 1 (i := 3) dX4_carryAll_107 rfl rfl ?_
      refine g_aload_n hΓ (pc := 108) 0 (i := 0) dX4_carryAll_108 rfl rfl ?_
      refine g_aload_n hΓ (pc := 109) 0 (i := 0) dX4_carryAll_109 rfl rfl ?_
      refine qg_geta hΓ (pc := 110) hK (k := 6) rfl q1078 dX4_carryAll_110 ?_
      refine g_iload_n hΓ (pc := 113) 1 (i := 3) dX4_carryAll_113 rfl rfl ?_
      obtain ⟨x37, hx37, hf⟩ := bindE hf
      refine qg_iald hΓ (pc := 114) hK rfl hx37 dX4_carryAll_114 rfl ?_
      obtain ⟨q38, hq38, hf⟩ := bindE hf
      refine qg_callV hΓ (pc := 115) hK 1 (As := [.int x37]) (metM_carry _ (r := q38.1) (m' := q38.2) hq38) (lw_V q1224 q1226 qs15 q57 q1227) (by decide +kernel) (by decide) rfl rfl (Nat.le_of_ble_eq_true rfl) dX4_carryAll_115 ?_
      obtain ⟨m39, hm39, hf⟩ := bindE hf
      refine qg_iast hΓ (pc := 118) hK rfl hm39 dX4_carryAll_118 rfl ?_
      refine g_aload_n hΓ (pc := 119) 0 (i := 0) dX4_carryAll_119 rfl rfl ?_
      refine qg_geta hΓ (pc := 120) hK (k := 7) rfl q1079 dX4_carryAll_120 ?_
      refine g_iload_n hΓ (pc := 123) 1 (i := 3) dX4_carryAll_123 rfl rfl ?_
      refine g_aload_n hΓ (pc := 124) 0 (i := 0) dX4_carryAll_124 rfl rfl ?_
      refine g_aload_n hΓ (pc := 125) 0 (i := 0) dX4_carryAll_125 rfl rfl ?_
      refine qg_geta hΓ (pc := 126) hK (k := 7) rfl q1079 dX4_carryAll_126 ?_
      refine g_iload_n hΓ (pc := 129) 1 (i := 3) dX4_carryAll_129 rfl rfl ?_
      obtain ⟨x40, hx40, hf⟩ := bindE hf
      refine qg_iald hΓ (pc := 130) hK rfl hx40 dX4_carryAll_130 rfl ?_
      obtain ⟨q41, hq41, hf⟩ := bindE hf
      refine qg_callV hΓ (pc := 131) hK 1 (As := [.int x40]) (metM_carry _ (r := q41.1) (m' := q41.2) hq41) (lw_V q1224 q1226 qs15 q57 q1227) (by decide +kernel) (by decide) rfl rfl (Nat.le_of_ble_eq_true rfl) dX4_carryAll_131 ?_
      obtain ⟨m42, hm42, hf⟩ := bindE hf
      refine qg_iast hΓ (pc := 134) hK rfl hm42 dX4_carryAll_134 rfl ?_
      refine g_aload_n hΓ (pc := 135) 0 (i := 0) dX4_carryAll_135 rfl rfl ?_
      refine qg_geta hΓ (pc := 136) hK (k := 8) rfl q1080 dX4_carryAll_136 ?_
      refine g_iload_n hΓ (pc := 139) 1 (i := 3) dX4_carryAll_139 rfl rfl ?_
      refine g_aload_n hΓ (pc := 140) 0 (i := 0) dX4_carryAll_140 rfl rfl ?_
      refine g_aload_n hΓ (pc := 141) 0 (i := 0) dX4_carryAll_141 rfl rfl ?_
      refine qg_geta hΓ (pc := 142) hK (k := 8) rfl q1080 dX4_carryAll_142 ?_
      refine g_iload_n hΓ (pc := 145) 1 (i := 3) dX4_carryAll_145 rfl rfl ?_
      obtain ⟨x43, hx43, hf⟩ := bindE hf
      refine qg_iald hΓ (pc := 146) hK rfl hx43 dX4_carryAll_146 rfl ?_
      obtain ⟨q44, hq44, hf⟩ := bindE hf
      refine qg_callV hΓ (pc := 147) hK 1 (As := [.int x43]) (metM_carry _ (r := q44.1) (m' := q44.2) hq44) (lw_V q1224 q1226 qs15 q57 q1227) (by decide +kernel) (by decide) rfl rfl (Nat.le_of_ble_eq_true rfl) dX4_carryAll_147 ?_
      obtain ⟨m45, hm45, hf⟩ := bindE hf
      refine qg_iast hΓ (pc := 150) hK rfl hm45 dX4_carryAll_150 rfl ?_
      refine g_aload_n hΓ (pc := 151) 0 (i := 0) dX4_carryAll_151 rfl rfl ?_
      refine qg_geta hΓ (pc := 152) hK (k := 9) rfl q1081 dX4_carryAll_152 ?_
      refine g_iload_n hΓ (pc := 155) 1 (i := 3) dX4_carryAll_155 rfl rfl ?_
      refine g_aload_n hΓ (pc := 156) 0 (i := 0) dX4_carryAll_156 rfl rfl ?_
      refine g_aload_n hΓ (pc := 157) 0 (i := 0) dX4_carryAll_157 rfl rfl ?_
      refine qg_geta hΓ (pc := 158) hK (k := 9) rfl q1081 dX4_carryAll_158 ?_
      refine g_iload_n hΓ (pc := 161) 1 (i := 3) dX4_carryAll_161 rfl rfl ?_
      obtain ⟨x46, hx46, hf⟩ := bindE hf
      refine qg_iald hΓ (pc := 162) hK rfl hx46 dX4_carryAll_162 rfl ?_
      obtain ⟨q47, hq47, hf⟩ := bindE hf
      refine qg_callV hΓ (pc := 163) hK 1 (As := [.int x46]) (metM_carry _ (r := q47.1) (m' := q47.2) hq47) (lw_V q1224 q1226 qs15 q57 q1227) (by decide +kernel) (by decide) rfl rfl (Nat.le_of_ble_eq_true rfl) dX4_carryAll_163 ?_
      obtain ⟨m48, hm48, hf⟩ := bindE hf
      refine qg_iast hΓ (pc := 166) hK rfl hm48 dX4_carryAll_166 rfl ?_
      refine g_aload_n hΓ (pc := 167) 0 (i := 0) dX4_carryAll_167 rfl rfl ?_
      refine qg_geta hΓ (pc := 168) hK (k := 10) rfl q1082 dX4_carryAll_168 ?_
      refine g_iload_n hΓ (pc := 171) 1 (i := 3) dX4_carryAll_171 rfl rfl ?_
      refine g_aload_n hΓ (pc := 172) 0 (i := 0) dX4_carryAll_172 rfl rfl ?_
      refine g_aload_n hΓ (pc := 173) 0 (i := 0) dX4_carryAll_173 rfl rfl ?_
      refine qg_geta hΓ (pc := 174) hK (k := 10) rfl q1082 dX4_carryAll_174 ?_
      refine g_iload_n hΓ (pc := 177) 1 (i := 3) dX4_carryAll_177 rfl rfl ?_
      obtain ⟨x49, hx49, hf⟩ := bindE hf
      refine qg_iald hΓ (pc := 178) hK rfl hx49 dX4_carryAll_178 rfl ?_
      obtain ⟨q50, hq50, hf⟩ := bindE hf
      refine qg_callV hΓ (pc := 179) hK 1 (As := [.int x49]) (metM_carry _ (r := q50.1) (m' := q50.2) hq50) (lw_V q1224 q1226 qs15 q57 q1227) (by decide +kernel) (by decide) rfl rfl (Nat.le_of_ble_eq_true rfl) dX4_carryAll_179 ?_
      obtain ⟨m51, hm51, hf⟩ := bindE hf
      refine qg_iast hΓ (pc := 182) hK rfl hm51 dX4_carryAll_182 rfl ?_
      obtain ⟨x52, hx52, hf⟩ := bindE hf
      refine g_iinc hΓ (pc := 183) 1 (i := 3) (v := x52) (lv' := [(3, .int x52), (0, .ref (ad 46))]) dX4_carryAll_183 rfl (Option.some.inj hx52) (by decide) rfl ?_
      refine g_goto hΓ (pc := 186) (tgt := 65) dX4_carryAll_186 (by decide) ?_
      exact g_sub [1, 0] rfl (hk65 _ _ hf)
  have L65 : ∀ (n : Nat) (m : MS) (y3 : Int32) (hf : M_carryAll_65 kk  n m y3 = some m'), WG Γ (MW D dA b ad P F m) 0 0 65 [(0, .ref (ad 46)), (3, .int y3)] [] := by
    intro  n
    induction n with
    | zero => intro m y3 hf; exact nomatch (show (none : Option (MS)) = some _ from hf)
    | succ n ih => exact S65  _ ih
  refine g_aload_n hΓ (pc := 0) 0 (i := 0) dX4_carryAll_0 rfl rfl ?_
  refine g_aload_n hΓ (pc := 1) 1 (i := 1) dX4_carryAll_1 rfl rfl ?_
  obtain ⟨m53, hm53, hf⟩ := bindE hf
  refine qg_putk hΓ (pc := 2) hK hm53 q1101 dX4_carryAll_2 ?_
  refine g_aload_n hΓ (pc := 5) 0 (i := 0) dX4_carryAll_5 rfl rfl ?_
  refine g_iload_n hΓ (pc := 6) 2 (i := 2) dX4_carryAll_6 rfl rfl ?_
  obtain ⟨m54, hm54, hf⟩ := bindE hf
  refine qg_putz hΓ (pc := 7) hK rfl hm54 q1100 dX4_carryAll_7 ?_
  refine g_aload_n hΓ (pc := 10) 0 (i := 0) dX4_carryAll_10 rfl rfl ?_
  refine g_iconst hΓ (pc := 11) (v := 0) dX4_carryAll_11 (by decide) ?_
  obtain ⟨m55, hm55, hf⟩ := bindE hf
  refine qg_put hΓ (pc := 12) hK rfl hm55 q1099 dX4_carryAll_12 ?_
  refine g_aload_n hΓ (pc := 15) 0 (i := 0) dX4_carryAll_15 rfl rfl ?_
  refine g_aload_n hΓ (pc := 16) 0 (i := 0) dX4_carryAll_16 rfl rfl ?_
  refine g_aload_n hΓ (pc := 17) 0 (i := 0) dX4_carryAll_17 rfl rfl ?_
  refine qg_get hΓ (pc := 18) hK (k := 0) rfl q1072 dX4_carryAll_18 ?_
  obtain ⟨q56, hq56, hf⟩ := bindE hf
  refine qg_callV hΓ (pc := 21) hK 1 (As := [.int (m55.1 0)]) (metM_carry _ (r := q56.1) (m' := q56.2) hq56) (lw_V q1224 q1226 qs15 q57 q1227) (by decide +kernel) (by decide) rfl rfl (Nat.le_of_ble_eq_true rfl) dX4_carryAll_21 ?_
  obtain ⟨m57, hm57, hf⟩ := bindE hf
  refine qg_put hΓ (pc := 24) hK rfl hm57 q1072 dX4_carryAll_24 ?_
  refine g_aload_n hΓ (pc := 27) 0 (i := 0) dX4_carryAll_27 rfl rfl ?_
  refine g_aload_n hΓ (pc := 28) 0 (i := 0) dX4_carryAll_28 rfl rfl ?_
  refine g_aload_n hΓ (pc := 29) 0 (i := 0) dX4_carryAll_29 rfl rfl ?_
  refine qg_get hΓ (pc := 30) hK (k := 1) rfl q1073 dX4_carryAll_30 ?_
  obtain ⟨q58, hq58, hf⟩ := bindE hf
  refine qg_callV hΓ (pc := 33) hK 1 (As := [.int (m57.1 1)]) (metM_carry _ (r := q58.1) (m' := q58.2) hq58) (lw_V q1224 q1226 qs15 q57 q1227) (by decide +kernel) (by decide) rfl rfl (Nat.le_of_ble_eq_true rfl) dX4_carryAll_33 ?_
  obtain ⟨m59, hm59, hf⟩ := bindE hf
  refine qg_put hΓ (pc := 36) hK rfl hm59 q1073 dX4_carryAll_36 ?_
  refine g_aload_n hΓ (pc := 39) 0 (i := 0) dX4_carryAll_39 rfl rfl ?_
  refine g_aload_n hΓ (pc := 40) 0 (i := 0) dX4_carryAll_40 rfl rfl ?_
  refine g_aload_n hΓ (pc := 41) 0 (i := 0) dX4_carryAll_41 rfl rfl ?_
  refine qg_get hΓ (pc := 42) hK (k := 2) rfl q1074 dX4_carryAll_42 ?_
  obtain ⟨q60, hq60, hf⟩ := bindE hf
  refine qg_callV hΓ (pc := 45) hK 1 (As := [.int (m59.1 2)]) (metM_carry _ (r := q60.1) (m' := q60.2) hq60) (lw_V q1224 q1226 qs15 q57 q1227) (by decide +kernel) (by decide) rfl rfl (Nat.le_of_ble_eq_true rfl) dX4_carryAll_45 ?_
  obtain ⟨m61, hm61, hf⟩ := bindE hf
  refine qg_put hΓ (pc := 48) hK rfl hm61 q1074 dX4_carryAll_48 ?_
  refine g_aload_n hΓ (pc := 51) 0 (i := 0) dX4_carryAll_51 rfl rfl ?_
  refine g_aload_n hΓ (pc := 52) 0 (i := 0) dX4_carryAll_52 rfl rfl ?_
  refine g_aload_n hΓ (pc := 53) 0 (i := 0) dX4_carryAll_53 rfl rfl ?_
  refine qg_get hΓ (pc := 54) hK (k := 3) rfl q1075 dX4_carryAll_54 ?_
  obtain ⟨q62, hq62, hf⟩ := bindE hf
  refine qg_callV hΓ (pc := 57) hK 1 (As := [.int (m61.1 3)]) (metM_carry _ (r := q62.1) (m' := q62.2) hq62) (lw_V q1224 q1226 qs15 q57 q1227) (by decide +kernel) (by decide) rfl rfl (Nat.le_of_ble_eq_true rfl) dX4_carryAll_57 ?_
  obtain ⟨m63, hm63, hf⟩ := bindE hf
  refine qg_put hΓ (pc := 60) hK rfl hm63 q1075 dX4_carryAll_60 ?_
  refine g_iconst hΓ (pc := 63) (v := 0) dX4_carryAll_63 (by decide) ?_
  refine g_istore_n hΓ (pc := 64) (i := 3) (lv' := [(3, .int (0 : Int32)), (0, .ref (ad 46)), (1, .ref (ad kk)), (2, .int a1)]) dX4_carryAll_64 rfl (by decide) rfl ?_
  exact g_sub [1, 0] rfl (L65  200 _ _ hf)
def M_image (m : MS) : Option (Int32 × MS) :=
  (mSI m 23 (0 : Int32)).bind fun m1 =>
  (mSZ m1 26 (1 : Int32)).bind fun m2 =>
  (M_carryAll m2 25 (1 : Int32)).bind fun m3 =>
  some (m3.1 3, m3)
set_option maxHeartbeats 4000000 in
set_option maxRecDepth 100000 in
theorem metM_image (l : Launch) {D : va_G} {dA : Nat → ClassId} {b : Nat} {ad : Nat → Nat} {P : Nat → Prop} {F : Nat → va_E} {m : MS} {m' : MS} {r : Int32} (hf : M_image m  = some (r, m')) : Met l yX4_image (ws_ yX4_image cX4_image 1 (some .int)) (rm0_ 2 44) (mP D dA b ad P F [.ref (ad 46)] m) (mQ D dA b ad P F (some (.int r)) m') 0 0 (fun q => b ≤ q) := by
  refine qg_met (by decide) RX4 rfl (Nat.le_of_ble_eq_true rfl) (fun Γ hΓ hK => ?_)
  refine g_sub [0] (lv' := [(0, .ref (ad 46))]) rfl ?_
  refine g_aload_n hΓ (pc := 0) 0 (i := 0) dX4_image_0 rfl rfl ?_
  refine g_iconst hΓ (pc := 1) (v := 0) dX4_image_1 (by decide) ?_
  obtain ⟨m1, hm1, hf⟩ := bindE hf
  refine qg_put hΓ (pc := 2) hK rfl hm1 q1095 dX4_image_2 ?_
  refine g_aload_n hΓ (pc := 5) 0 (i := 0) dX4_image_5 rfl rfl ?_
  refine g_iconst hΓ (pc := 6) (v := 1) dX4_image_6 (by decide) ?_
  obtain ⟨m2, hm2, hf⟩ := bindE hf
  refine qg_putz hΓ (pc := 7) hK rfl hm2 q1098 dX4_image_7 ?_
  refine g_aload_n hΓ (pc := 10) 0 (i := 0) dX4_image_10 rfl rfl ?_
  refine g_aload_n hΓ (pc := 11) 0 (i := 0) dX4_image_11 rfl rfl ?_
  refine qg_geta hΓ (pc := 12) hK (k := 25) rfl q1097 dX4_image_12 ?_
  refine g_iconst hΓ (pc := 15) (v := 1) dX4_image_15 (by decide) ?_
  obtain ⟨m3, hm3, hf⟩ := bindE hf
  refine qg_callV hΓ (pc := 16) hK 2 (As := [.ref (ad 25), .int (1 : Int32)]) (metM_carryAll _ rfl hm3) (lw_V q1220 q1222 qs14 q57 q1223) (by decide +kernel) (by decide) rfl rfl (Nat.le_of_ble_eq_true rfl) dX4_image_16 ?_
  refine g_aload_n hΓ (pc := 19) 0 (i := 0) dX4_image_19 rfl rfl ?_
  refine qg_get hΓ (pc := 20) hK (k := 3) rfl q1075 dX4_image_20 ?_
  exact qg_iret hΓ hK hf dX4_image_23
def M_restore (m : MS) : Option (Int32 × MS) :=
  (mSI m 23 (0 : Int32)).bind fun m1 =>
  if (m1.1 26) = 0 then (
    some ((-3 : Int32), m1)
  ) else (
    (M_carryAll m1 25 (0 : Int32)).bind fun m3 =>
    some (m3.1 3, m3)
  )
set_option maxHeartbeats 4000000 in
set_option maxRecDepth 100000 in
theorem metM_restore (l : Launch) {D : va_G} {dA : Nat → ClassId} {b : Nat} {ad : Nat → Nat} {P : Nat → Prop} {F : Nat → va_E} {m : MS} {m' : MS} {r : Int32} (hf : M_restore m  = some (r, m')) : Met l yX4_restore (ws_ yX4_restore cX4_restore 1 (some .int)) (rm0_ 2 44) (mP D dA b ad P F [.ref (ad 46)] m) (mQ D dA b ad P F (some (.int r)) m') 0 0 (fun q => b ≤ q) := by
  refine qg_met (by decide) RX4 rfl (Nat.le_of_ble_eq_true rfl) (fun Γ hΓ hK => ?_)
  refine g_sub [0] (lv' := [(0, .ref (ad 46))]) rfl ?_
  refine g_aload_n hΓ (pc := 0) 0 (i := 0) dX4_restore_0 rfl rfl ?_
  refine g_iconst hΓ (pc := 1) (v := 0) dX4_restore_1 (by decide) ?_
  obtain ⟨m1, hm1, hf⟩ := bindE hf
  refine qg_put hΓ (pc := 2) hK rfl hm1 q1095 dX4_restore_2 ?_
  refine g_aload_n hΓ (pc := 5) 0 (i := 0) dX4_restore_5 rfl rfl ?_
  refine qg_get hΓ (pc := 6) hK (k := 26) rfl q1098 dX4_restore_6 ?_
  refine g_if_ne hΓ (pc := 9) (tgt := 15) dX4_restore_9 (by decide) (fun c2 => ?_) (fun c2 => ?_)
  · have hf := ifN hf c2
    refine g_aload_n hΓ (pc := 15) 0 (i := 0) dX4_restore_15 rfl rfl ?_
    refine g_aload_n hΓ (pc := 16) 0 (i := 0) dX4_restore_16 rfl rfl ?_
    refine qg_geta hΓ (pc := 17) hK (k := 25) rfl q1097 dX4_restore_17 ?_
    refine g_iconst hΓ (pc := 20) (v := 0) dX4_restore_20 (by decide) ?_
    obtain ⟨m3, hm3, hf⟩ := bindE hf
    refine qg_callV hΓ (pc := 21) hK 2 (As := [.ref (ad 25), .int (0 : Int32)]) (metM_carryAll _ rfl hm3) (lw_V q1220 q1222 qs14 q57 q1223) (by decide +kernel) (by decide) rfl rfl (Nat.le_of_ble_eq_true rfl) dX4_restore_21 ?_
    refine g_aload_n hΓ (pc := 24) 0 (i := 0) dX4_restore_24 rfl rfl ?_
    refine qg_get hΓ (pc := 25) hK (k := 3) rfl q1075 dX4_restore_25 ?_
    exact qg_iret hΓ hK hf dX4_restore_28
  · have hf := ifP hf c2
    refine g_bipush hΓ (pc := 12) (v := -3) dX4_restore_12 (by decide) ?_
    exact qg_iret hΓ hK hf dX4_restore_14
def M_in (a0 : Int64) (a1 : Int64) (a2 : Int64) : Option (Int32) :=
  if (lg_cmp a0 a1) < 0 then (
    zOk (0 : Int32)
  ) else (
    if 0 < (lg_cmp a0 a2) then (
      zOk (0 : Int32)
    ) else (
      zOk (1 : Int32)
    )
  )
set_option maxHeartbeats 4000000 in
set_option maxRecDepth 100000 in
theorem metM_in (l : Launch) {a0 : Int64} {a1 : Int64} {a2 : Int64} {r : Int32} (hf : M_in a0 a1 a2 = some r) : Met l yX4_in (ws_ yX4_in cX4_in 6 (some .boolean)) (rm0_ 0 0) (sP [.long a0, .long a1, .long a2]) (sQ (some (.int r))) 0 0 (fun _ => False) := by
  refine qs_met (by decide) RX4 rfl (Nat.le_of_ble_eq_true rfl) (fun Γ hΓ => ?_)
  refine g_sub [0, 1, 2] (lv' := [(0, .long a0), (2, .long a1), (4, .long a2)]) rfl ?_
  refine g_lload_n hΓ (pc := 0) 0 (i := 0) dX4_in_0 rfl rfl ?_
  refine g_lload_n hΓ (pc := 1) 1 (i := 2) dX4_in_1 rfl rfl ?_
  refine g_lcmp hΓ (pc := 2) dX4_in_2 ?_
  refine g_if_lt hΓ (pc := 3) (tgt := 17) dX4_in_3 (by decide) (fun c1 => ?_) (fun c1 => ?_)
  · have hf := ifP hf c1
    refine g_iconst hΓ (pc := 17) (v := 0) dX4_in_17 (by decide) ?_
    exact qs_zret hΓ hf dX4_in_18
  · have hf := ifN hf c1
    refine g_lload_n hΓ (pc := 6) 0 (i := 0) dX4_in_6 rfl rfl ?_
    refine g_lload hΓ (pc := 7) 2 (i := 4) dX4_in_7 rfl ?_
    refine g_lcmp hΓ (pc := 9) dX4_in_9 ?_
    refine g_if_gt hΓ (pc := 10) (tgt := 17) dX4_in_10 (by decide) (fun c2 => ?_) (fun c2 => ?_)
    · have hf := ifP hf c2
      refine g_iconst hΓ (pc := 17) (v := 0) dX4_in_17 (by decide) ?_
      exact qs_zret hΓ hf dX4_in_18
    · have hf := ifN hf c2
      refine g_iconst hΓ (pc := 13) (v := 1) dX4_in_13 (by decide) ?_
      refine g_goto hΓ (pc := 14) (tgt := 18) dX4_in_14 (by decide) ?_
      exact qs_zret hΓ hf dX4_in_18
def M_wrongRow (m : MS) (a0 : Int32) : Option (Int32) :=
  (M_in a0.toInt64 (0 : Int64) (7 : Int64)).bind fun x1 =>
  if x1 = 0 then (
    some (-1 : Int32)
  ) else (
    (mR m 39 a0).bind fun x3 =>
    if x3 = 0 then (
      some (-11 : Int32)
    ) else (
      (mR m 39 a0).bind fun x5 =>
      if x5 = (2 : Int32) then (
        some (0 : Int32)
      ) else (
        some (-12 : Int32)
      )
    )
  )
set_option maxHeartbeats 4000000 in
set_option maxRecDepth 100000 in
theorem metM_wrongRow (l : Launch) {D : va_G} {dA : Nat → ClassId} {b : Nat} {ad : Nat → Nat} {P : Nat → Prop} {F : Nat → va_E} {m : MS} {a0 : Int32} {r : Int32} (hf : M_wrongRow m a0 = some r) : Met l yX4_wrongRow (ws_ yX4_wrongRow cX4_wrongRow 2 (some .int)) (rm0_ 1 25) (mP D dA b ad P F [.ref (ad 46), .int a0] m) (mQ D dA b ad P F (some (.int r)) m) 0 0 (fun q => b ≤ q) := by
  refine qg_met (by decide) RX4 rfl (Nat.le_of_ble_eq_true rfl) (fun Γ hΓ hK => ?_)
  refine g_sub [0, 1] (lv' := [(0, .ref (ad 46)), (1, .int a0)]) rfl ?_
  refine g_iload_n hΓ (pc := 0) 1 (i := 1) dX4_wrongRow_0 rfl rfl ?_
  refine g_i2l hΓ (pc := 1) dX4_wrongRow_1 ?_
  refine g_lconst hΓ (pc := 2) (v := 0) dX4_wrongRow_2 (by decide) ?_
  refine g_ldc2 hΓ (pc := 3) q1244 dX4_wrongRow_3 ?_
  obtain ⟨x1, hx1, hf⟩ := bindE hf
  refine qg_callS hΓ (pc := 6) 3 (As := [.long a0.toInt64, .long (0 : Int64), .long (7 : Int64)]) (metM_in _ hx1) (lw_S q1245 q1246 q57 q1247) (by decide +kernel) (by decide) rfl rfl (Nat.le_of_ble_eq_true rfl) dX4_wrongRow_6 ?_
  refine g_if_ne hΓ (pc := 9) (tgt := 16) dX4_wrongRow_9 (by decide) (fun c2 => ?_) (fun c2 => ?_)
  · have hf := ifN hf c2
    refine g_aload_n hΓ (pc := 16) 0 (i := 0) dX4_wrongRow_16 rfl rfl ?_
    refine qg_geta hΓ (pc := 17) hK (k := 39) rfl q1111 dX4_wrongRow_17 ?_
    refine g_iload_n hΓ (pc := 20) 1 (i := 1) dX4_wrongRow_20 rfl rfl ?_
    obtain ⟨x3, hx3, hf⟩ := bindE hf
    refine qg_iald hΓ (pc := 21) hK rfl hx3 dX4_wrongRow_21 rfl ?_
    refine g_if_ne hΓ (pc := 22) (tgt := 30) dX4_wrongRow_22 (by decide) (fun c4 => ?_) (fun c4 => ?_)
    · have hf := ifN hf c4
      refine g_aload_n hΓ (pc := 30) 0 (i := 0) dX4_wrongRow_30 rfl rfl ?_
      refine qg_geta hΓ (pc := 31) hK (k := 39) rfl q1111 dX4_wrongRow_31 ?_
      refine g_iload_n hΓ (pc := 34) 1 (i := 1) dX4_wrongRow_34 rfl rfl ?_
      obtain ⟨x5, hx5, hf⟩ := bindE hf
      refine qg_iald hΓ (pc := 35) hK rfl hx5 dX4_wrongRow_35 rfl ?_
      refine g_iconst hΓ (pc := 36) (v := 2) dX4_wrongRow_36 (by decide) ?_
      refine g_icmp_eq hΓ (pc := 37) (tgt := 45) dX4_wrongRow_37 (by decide) (fun c6 => ?_) (fun c6 => ?_)
      · have hf := ifP hf c6
        refine g_iconst hΓ (pc := 45) (v := 0) dX4_wrongRow_45 (by decide) ?_
        exact qg_iretR hΓ hK hf dX4_wrongRow_46
      · have hf := ifN hf c6
        refine g_bipush hΓ (pc := 40) (v := -12) dX4_wrongRow_40 (by decide) ?_
        refine g_goto hΓ (pc := 42) (tgt := 46) dX4_wrongRow_42 (by decide) ?_
        exact qg_iretR hΓ hK hf dX4_wrongRow_46
    · have hf := ifP hf c4
      refine g_bipush hΓ (pc := 25) (v := -11) dX4_wrongRow_25 (by decide) ?_
      refine g_goto hΓ (pc := 27) (tgt := 46) dX4_wrongRow_27 (by decide) ?_
      exact qg_iretR hΓ hK hf dX4_wrongRow_46
  · have hf := ifP hf c2
    refine g_iconst hΓ (pc := 12) (v := -1) dX4_wrongRow_12 (by decide) ?_
    refine g_goto hΓ (pc := 13) (tgt := 46) dX4_wrongRow_13 (by decide) ?_
    exact qg_iretR hΓ hK hf dX4_wrongRow_46
def M_wrongSort (m : MS) (a0 : Int32) (a1 : Int32) : Option (Int32) :=
  (M_wrongRow m a0).bind fun x1 =>
  if 0 ≤ x1 then (
    (mR m 42 a0).bind fun x3 =>
    if x3 = a1 then (
      some (0 : Int32)
    ) else (
      some (-12 : Int32)
    )
  ) else (
    (M_wrongRow m a0).bind fun x5 =>
    some x5
  )
set_option maxHeartbeats 4000000 in
set_option maxRecDepth 100000 in
theorem metM_wrongSort (l : Launch) {D : va_G} {dA : Nat → ClassId} {b : Nat} {ad : Nat → Nat} {P : Nat → Prop} {F : Nat → va_E} {m : MS} {a0 : Int32} {a1 : Int32} {r : Int32} (hf : M_wrongSort m a0 a1 = some r) : Met l yX4_wrongSort (ws_ yX4_wrongSort cX4_wrongSort 3 (some .int)) (rm0_ 2 46) (mP D dA b ad P F [.ref (ad 46), .int a0, .int a1] m) (mQ D dA b ad P F (some (.int r)) m) 0 0 (fun q => b ≤ q) := by
  refine qg_met (by decide) RX4 rfl (Nat.le_of_ble_eq_true rfl) (fun Γ hΓ hK => ?_)
  refine g_sub [0, 1, 2] (lv' := [(0, .ref (ad 46)), (1, .int a0), (2, .int a1)]) rfl ?_
  refine g_aload_n hΓ (pc := 0) 0 (i := 0) dX4_wrongSort_0 rfl rfl ?_
  refine g_iload_n hΓ (pc := 1) 1 (i := 1) dX4_wrongSort_1 rfl rfl ?_
  obtain ⟨x1, hx1, hf⟩ := bindE hf
  refine qg_callV hΓ (pc := 2) hK 1 (As := [.int a0]) (metM_wrongRow _ hx1) (lw_V q1240 q1242 qs17 q57 q1243) (by decide +kernel) (by decide) rfl rfl (Nat.le_of_ble_eq_true rfl) dX4_wrongSort_2 ?_
  refine g_if_ge hΓ (pc := 5) (tgt := 16) dX4_wrongSort_5 (by decide) (fun c2 => ?_) (fun c2 => ?_)
  · have hf := ifP hf c2
    refine g_aload_n hΓ (pc := 16) 0 (i := 0) dX4_wrongSort_16 rfl rfl ?_
    refine qg_geta hΓ (pc := 17) hK (k := 42) rfl q1114 dX4_wrongSort_17 ?_
    refine g_iload_n hΓ (pc := 20) 1 (i := 1) dX4_wrongSort_20 rfl rfl ?_
    obtain ⟨x3, hx3, hf⟩ := bindE hf
    refine qg_iald hΓ (pc := 21) hK rfl hx3 dX4_wrongSort_21 rfl ?_
    refine g_iload_n hΓ (pc := 22) 2 (i := 2) dX4_wrongSort_22 rfl rfl ?_
    refine g_icmp_eq hΓ (pc := 23) (tgt := 31) dX4_wrongSort_23 (by decide) (fun c4 => ?_) (fun c4 => ?_)
    · have hf := ifP hf c4
      refine g_iconst hΓ (pc := 31) (v := 0) dX4_wrongSort_31 (by decide) ?_
      exact qg_iretR hΓ hK hf dX4_wrongSort_32
    · have hf := ifN hf c4
      refine g_bipush hΓ (pc := 26) (v := -12) dX4_wrongSort_26 (by decide) ?_
      refine g_goto hΓ (pc := 28) (tgt := 32) dX4_wrongSort_28 (by decide) ?_
      exact qg_iretR hΓ hK hf dX4_wrongSort_32
  · have hf := ifN hf c2
    refine g_aload_n hΓ (pc := 8) 0 (i := 0) dX4_wrongSort_8 rfl rfl ?_
    refine g_iload_n hΓ (pc := 9) 1 (i := 1) dX4_wrongSort_9 rfl rfl ?_
    obtain ⟨x5, hx5, hf⟩ := bindE hf
    refine qg_callV hΓ (pc := 10) hK 1 (As := [.int a0]) (metM_wrongRow _ hx5) (lw_V q1240 q1242 qs17 q57 q1243) (by decide +kernel) (by decide) rfl rfl (Nat.le_of_ble_eq_true rfl) dX4_wrongSort_10 ?_
    refine g_goto hΓ (pc := 13) (tgt := 32) dX4_wrongSort_13 (by decide) ?_
    exact qg_iretR hΓ hK hf dX4_wrongSort_32
def M_here (m : MS) : Option (Int32) :=
  if (m.1 32) < (m.1 31) then (
    (mLR m 44 ((m.1 30) + (m.1 32))).bind fun x2 =>
    some (x2.toInt32 &&& (255 : Int32))
  ) else (
    some (-1 : Int32)
  )
set_option maxHeartbeats 4000000 in
set_option maxRecDepth 100000 in
theorem metM_here (l : Launch) {D : va_G} {dA : Nat → ClassId} {b : Nat} {ad : Nat → Nat} {P : Nat → Prop} {F : Nat → va_E} {m : MS} {r : Int32} (hf : M_here m  = some r) : Met l yX4_here (ws_ yX4_here cX4_here 1 (some .int)) (rm0_ 0 0) (mP D dA b ad P F [.ref (ad 46)] m) (mQ D dA b ad P F (some (.int r)) m) 0 0 (fun q => b ≤ q) := by
  refine qg_met (by decide) RX4 rfl (Nat.le_of_ble_eq_true rfl) (fun Γ hΓ hK => ?_)
  refine g_sub [0] (lv' := [(0, .ref (ad 46))]) rfl ?_
  refine g_aload_n hΓ (pc := 0) 0 (i := 0) dX4_here_0 rfl rfl ?_
  refine qg_get hΓ (pc := 1) hK (k := 32) rfl q1104 dX4_here_1 ?_
  refine g_aload_n hΓ (pc := 4) 0 (i := 0) dX4_here_4 rfl rfl ?_
  refine qg_get hΓ (pc := 5) hK (k := 31) rfl q1103 dX4_here_5 ?_
  refine g_icmp_lt hΓ (pc := 8) (tgt := 15) dX4_here_8 (by decide) (fun c1 => ?_) (fun c1 => ?_)
  · have hf := ifP hf c1
    refine g_aload_n hΓ (pc := 15) 0 (i := 0) dX4_here_15 rfl rfl ?_
    refine qg_geta hΓ (pc := 16) hK (k := 44) rfl q1116 dX4_here_16 ?_
    refine g_aload_n hΓ (pc := 19) 0 (i := 0) dX4_here_19 rfl rfl ?_
    refine qg_get hΓ (pc := 20) hK (k := 30) rfl q1102 dX4_here_20 ?_
    refine g_aload_n hΓ (pc := 23) 0 (i := 0) dX4_here_23 rfl rfl ?_
    refine qg_get hΓ (pc := 24) hK (k := 32) rfl q1104 dX4_here_24 ?_
    refine g_iadd hΓ (pc := 27) dX4_here_27 ?_
    obtain ⟨x2, hx2, hf⟩ := bindE hf
    refine qg_lald hΓ (pc := 28) hK rfl hx2 dX4_here_28 rfl ?_
    refine g_l2i hΓ (pc := 29) dX4_here_29 ?_
    refine g_sipush hΓ (pc := 30) (v := 255) dX4_here_30 (by decide) ?_
    refine g_iand hΓ (pc := 33) dX4_here_33 ?_
    exact qg_iretR hΓ hK hf dX4_here_34
  · have hf := ifN hf c1
    refine g_iconst hΓ (pc := 11) (v := -1) dX4_here_11 (by decide) ?_
    refine g_goto hΓ (pc := 12) (tgt := 34) dX4_here_12 (by decide) ?_
    exact qg_iretR hΓ hK hf dX4_here_34
def M_readDigit_30 (m : MS) (z0 : Int32) : Option (Int32 × MS) :=
  (mSZ m 33 z0).bind fun m1 =>
  if (m1.1 33) = 0 then (
    (mSI m1 32 ((m1.1 32) + (1 : Int32))).bind fun m3 =>
    (mLR m3 44 (((m3.1 30) + (m3.1 32)) - (1 : Int32))).bind fun x4 =>
    some (x4.toInt32 - (48 : Int32), m3)
  ) else (
    some ((0 : Int32), m1)
  )
def M_readDigit (m : MS) : Option (Int32 × MS) :=
  if (m.1 33) = 0 then (
    (M_here m).bind fun x6 =>
    (M_in x6.toInt64 (48 : Int64) (57 : Int64)).bind fun x7 =>
    if x7 = 0 then (
      M_readDigit_30 m (1 : Int32)
    ) else (
      M_readDigit_30 m (0 : Int32)
    )
  ) else (
    M_readDigit_30 m (1 : Int32)
  )
set_option maxHeartbeats 4000000 in
set_option maxRecDepth 100000 in
theorem metM_readDigit (l : Launch) {D : va_G} {dA : Nat → ClassId} {b : Nat} {ad : Nat → Nat} {P : Nat → Prop} {F : Nat → va_E} {m : MS} {m' : MS} {r : Int32} (hf : M_readDigit m  = some (r, m')) : Met l yX4_readDigit (ws_ yX4_readDigit cX4_readDigit 1 (some .int)) (rm0_ 1 25) (mP D dA b ad P F [.ref (ad 46)] m) (mQ D dA b ad P F (some (.int r)) m') 0 0 (fun q => b ≤ q) := by
  refine qg_met (by decide) RX4 rfl (Nat.le_of_ble_eq_true rfl) (fun Γ hΓ hK => ?_)
  refine g_sub [0] (lv' := [(0, .ref (ad 46))]) rfl ?_
  have J30 : ∀ (m : MS) (z0 : Int32) (hf : M_readDigit_30   m z0 = some (r, m')), WG Γ (MW D dA b ad P F m) 0 0 30 [(0, .ref (ad 46))] [.int z0, .ref (ad 46)] := by
    intro  m z0 hf
    obtain ⟨m1, hm1, hf⟩ := bindE hf
    refine qg_putz hΓ (pc := 30) hK rfl hm1 q1105 dX4_readDigit_30 ?_
    refine g_aload_n hΓ (pc := 33) 0 (i := 0) dX4_readDigit_33 rfl rfl ?_
    refine qg_get hΓ (pc := 34) hK (k := 33) rfl q1105 dX4_readDigit_34 ?_
    refine g_if_eq hΓ (pc := 37) (tgt := 42) dX4_readDigit_37 (by decide) (fun c2 => ?_) (fun c2 => ?_)
    · have hf := ifP hf c2
      refine g_aload_n hΓ (pc := 42) 0 (i := 0) dX4_readDigit_42 rfl rfl ?_
      refine g_dup hΓ (pc := 43) dX4_readDigit_43 rfl ?_
      refine qg_get hΓ (pc := 44) hK (k := 32) rfl q1104 dX4_readDigit_44 ?_
      refine g_iconst hΓ (pc := 47) (v := 1) dX4_readDigit_47 (by decide) ?_
      refine g_iadd hΓ (pc := 48) dX4_readDigit_48 ?_
      obtain ⟨m3, hm3, hf⟩ := bindE hf
      refine qg_put hΓ (pc := 49) hK rfl hm3 q1104 dX4_readDigit_49 ?_
      refine g_aload_n hΓ (pc := 52) 0 (i := 0) dX4_readDigit_52 rfl rfl ?_
      refine qg_geta hΓ (pc := 53) hK (k := 44) rfl q1116 dX4_readDigit_53 ?_
      refine g_aload_n hΓ (pc := 56) 0 (i := 0) dX4_readDigit_56 rfl rfl ?_
      refine qg_get hΓ (pc := 57) hK (k := 30) rfl q1102 dX4_readDigit_57 ?_
      refine g_aload_n hΓ (pc := 60) 0 (i := 0) dX4_readDigit_60 rfl rfl ?_
      refine qg_get hΓ (pc := 61) hK (k := 32) rfl q1104 dX4_readDigit_61 ?_
      refine g_iadd hΓ (pc := 64) dX4_readDigit_64 ?_
      refine g_iconst hΓ (pc := 65) (v := 1) dX4_readDigit_65 (by decide) ?_
      refine g_isub hΓ (pc := 66) dX4_readDigit_66 ?_
      obtain ⟨x4, hx4, hf⟩ := bindE hf
      refine qg_lald hΓ (pc := 67) hK rfl hx4 dX4_readDigit_67 rfl ?_
      refine g_l2i hΓ (pc := 68) dX4_readDigit_68 ?_
      refine g_bipush hΓ (pc := 69) (v := 48) dX4_readDigit_69 (by decide) ?_
      refine g_isub hΓ (pc := 71) dX4_readDigit_71 ?_
      exact qg_iret hΓ hK hf dX4_readDigit_72
    · have hf := ifN hf c2
      refine g_iconst hΓ (pc := 40) (v := 0) dX4_readDigit_40 (by decide) ?_
      exact qg_iret hΓ hK hf dX4_readDigit_41
  refine g_aload_n hΓ (pc := 0) 0 (i := 0) dX4_readDigit_0 rfl rfl ?_
  refine g_aload_n hΓ (pc := 1) 0 (i := 0) dX4_readDigit_1 rfl rfl ?_
  refine qg_get hΓ (pc := 2) hK (k := 33) rfl q1105 dX4_readDigit_2 ?_
  refine g_if_ne hΓ (pc := 5) (tgt := 25) dX4_readDigit_5 (by decide) (fun c5 => ?_) (fun c5 => ?_)
  · have hf := ifN hf c5
    refine g_iconst hΓ (pc := 25) (v := 1) dX4_readDigit_25 (by decide) ?_
    refine g_goto hΓ (pc := 26) (tgt := 30) dX4_readDigit_26 (by decide) ?_
    exact g_sub [0] rfl (J30  _ _ hf)
  · have hf := ifP hf c5
    refine g_aload_n hΓ (pc := 8) 0 (i := 0) dX4_readDigit_8 rfl rfl ?_
    obtain ⟨x6, hx6, hf⟩ := bindE hf
    refine qg_callV hΓ (pc := 9) hK 0 (As := []) (metM_here _ hx6) (lw_V q1252 q1254 qs19 q57 q1255) (by decide +kernel) (by decide) rfl rfl (Nat.le_of_ble_eq_true rfl) dX4_readDigit_9 ?_
    refine g_i2l hΓ (pc := 12) dX4_readDigit_12 ?_
    refine g_ldc2 hΓ (pc := 13) q1260 dX4_readDigit_13 ?_
    refine g_ldc2 hΓ (pc := 16) q1261 dX4_readDigit_16 ?_
    obtain ⟨x7, hx7, hf⟩ := bindE hf
    refine qg_callS hΓ (pc := 19) 3 (As := [.long x6.toInt64, .long (48 : Int64), .long (57 : Int64)]) (metM_in _ hx7) (lw_S q1245 q1246 q57 q1247) (by decide +kernel) (by decide) rfl rfl (Nat.le_of_ble_eq_true rfl) dX4_readDigit_19 ?_
    refine g_if_ne hΓ (pc := 22) (tgt := 29) dX4_readDigit_22 (by decide) (fun c8 => ?_) (fun c8 => ?_)
    · have hf := ifN hf c8
      refine g_iconst hΓ (pc := 29) (v := 0) dX4_readDigit_29 (by decide) ?_
      exact g_sub [0] rfl (J30  _ _ hf)
    · have hf := ifP hf c8
      refine g_iconst hΓ (pc := 25) (v := 1) dX4_readDigit_25 (by decide) ?_
      refine g_goto hΓ (pc := 26) (tgt := 30) dX4_readDigit_26 (by decide) ?_
      exact g_sub [0] rfl (J30  _ _ hf)
def M_readTwo (m : MS) : Option (Int32 × MS) :=
  (M_readDigit m).bind fun q1 =>
  (some q1.1).bind fun x2 =>
  (M_readDigit q1.2).bind fun q3 =>
  some (((10 : Int32) * x2) + q3.1, q3.2)
set_option maxHeartbeats 4000000 in
set_option maxRecDepth 100000 in
theorem metM_readTwo (l : Launch) {D : va_G} {dA : Nat → ClassId} {b : Nat} {ad : Nat → Nat} {P : Nat → Prop} {F : Nat → va_E} {m : MS} {m' : MS} {r : Int32} (hf : M_readTwo m  = some (r, m')) : Met l yX4_readTwo (ws_ yX4_readTwo cX4_readTwo 2 (some .int)) (rm0_ 2 45) (mP D dA b ad P F [.ref (ad 46)] m) (mQ D dA b ad P F (some (.int r)) m') 0 0 (fun q => b ≤ q) := by
  refine qg_met (by decide) RX4 rfl (Nat.le_of_ble_eq_true rfl) (fun Γ hΓ hK => ?_)
  refine g_sub [0] (lv' := [(0, .ref (ad 46))]) rfl ?_
  refine g_aload_n hΓ (pc := 0) 0 (i := 0) dX4_readTwo_0 rfl rfl ?_
  obtain ⟨q1, hq1, hf⟩ := bindE hf
  refine qg_callV hΓ (pc := 1) hK 0 (As := []) (metM_readDigit _ (r := q1.1) (m' := q1.2) hq1) (lw_V q1256 q1258 qs20 q57 q1259) (by decide +kernel) (by decide) rfl rfl (Nat.le_of_ble_eq_true rfl) dX4_readTwo_1 ?_
  obtain ⟨x2, hx2, hf⟩ := bindE hf
  refine g_topi hx2 ?_
  refine g_istore_n hΓ (pc := 4) (i := 1) (lv' := [(1, .int x2), (0, .ref (ad 46))]) dX4_readTwo_4 rfl (by decide) rfl ?_
  refine g_bipush hΓ (pc := 5) (v := 10) dX4_readTwo_5 (by decide) ?_
  refine g_iload_n hΓ (pc := 7) 0 (i := 1) dX4_readTwo_7 rfl rfl ?_
  refine g_imul hΓ (pc := 8) dX4_readTwo_8 ?_
  refine g_aload_n hΓ (pc := 9) 1 (i := 0) dX4_readTwo_9 rfl rfl ?_
  obtain ⟨q3, hq3, hf⟩ := bindE hf
  refine qg_callV hΓ (pc := 10) hK 0 (As := []) (metM_readDigit _ (r := q3.1) (m' := q3.2) hq3) (lw_V q1256 q1258 qs20 q57 q1259) (by decide +kernel) (by decide) rfl rfl (Nat.le_of_ble_eq_true rfl) dX4_readTwo_10 ?_
  refine g_iadd hΓ (pc := 13) dX4_readTwo_13 ?_
  exact qg_iret hΓ hK hf dX4_readTwo_14
def M_readStatement_290 (m : MS) (z0 : Int32) (z1 : Int32) : Option (MS) :=
  (mSI m 32 (z1 + z0)).bind fun m1 =>
  (mSI m1 34 ((m1.1 34) + (1 : Int32))).bind fun m2 =>
  some m2
def M_readStatement_270 (m : MS) (z0 : Int32) : Option (MS) :=
  (mSZ m 33 z0).bind fun m3 =>
  if (m3.1 33) = 0 then (
    M_readStatement_290 m3 (1 : Int32) (m3.1 32)
  ) else (
    M_readStatement_290 m3 (0 : Int32) (m3.1 32)
  )
def M_readStatement_248 (m : MS) : Option (MS) :=
  if (m.1 33) = 0 then (
    (M_here m).bind fun x6 =>
    if x6 = (59 : Int32) then (
      M_readStatement_270 m (0 : Int32)
    ) else (
      M_readStatement_270 m (1 : Int32)
    )
  ) else (
    M_readStatement_270 m (1 : Int32)
  )
def M_readStatement_194 (m : MS) (y1 : Int32) (y2 : Int32) : Option (MS) :=
  if y2 = (116 : Int32) then (
    if (m.1 33) = 0 then (
      (M_here m).bind fun x10 =>
      (M_in x10.toInt64 (48 : Int64) (57 : Int64)).bind fun x11 =>
      if x11 = 0 then (
        M_readStatement_248 m
      ) else (
        (mR m 37 ((5 : Int32) * y1)).bind fun x13 =>
        (M_readDigit m).bind fun q14 =>
        (mW q14.2 37 ((5 : Int32) * y1) (((10 : Int32) * x13) + q14.1)).bind fun m15 =>
        M_readStatement_248 m15
      )
    ) else (
      M_readStatement_248 m
    )
  ) else (
    M_readStatement_248 m
  )
def M_readStatement_147s (k147 : MS → Int32 → Int32 → Int32 → Int32 → Option (MS)) (m : MS) (y1 : Int32) (y2 : Int32) (y3 : Int32) (y4 : Int32) : Option (MS) :=
  if y3 ≤ y4 then (
    if y2 = (104 : Int32) then (
      (M_readTwo m).bind fun q18 =>
      (mW q18.2 37 (((5 : Int32) * y1) + (1 : Int32)) q18.1).bind fun m19 =>
      M_readStatement_194 m19 y1 y2
    ) else (
      M_readStatement_194 m y1 y2
    )
  ) else (
    (M_readDigit m).bind fun q20 =>
    (mW q20.2 37 (((5 : Int32) * y1) + y4) q20.1).bind fun m21 =>
    (some (y4 + 1)).bind fun x22 =>
    k147 m21 y1 y2 y3 x22
  )
def M_readStatement_147 : Nat → MS → Int32 → Int32 → Int32 → Int32 → Option (MS)
  | 0 => fun _ _ _ _ _ => none
  | n + 1 => M_readStatement_147s   (M_readStatement_147   n)
def M_readStatement_138 (m : MS) (y1 : Int32) (y2 : Int32) : Option (MS) :=
  M_readStatement_147 200 m y1 y2 (1 : Int32) (0 : Int32)
def M_readStatement_96 (m : MS) (y1 : Int32) (y2 : Int32) (z0 : Int32) (z1 : Int32) : Option (MS) :=
  (mSI m 32 (z1 + z0)).bind fun m23 =>
  if y2 = (103 : Int32) then (
    M_readStatement_147 200 m23 y1 y2 (4 : Int32) (0 : Int32)
  ) else (
    if y2 = (112 : Int32) then (
      M_readStatement_147 200 m23 y1 y2 (5 : Int32) (0 : Int32)
    ) else (
      if y2 = (104 : Int32) then (
        M_readStatement_138 m23 y1 y2
      ) else (
        if y2 = (99 : Int32) then (
          M_readStatement_138 m23 y1 y2
        ) else (
          if y2 = (116 : Int32) then (
            M_readStatement_138 m23 y1 y2
          ) else (
            M_readStatement_147 200 m23 y1 y2 (0 : Int32) (0 : Int32)
          )
        )
      )
    )
  )
def M_readStatement_76 (m : MS) (y1 : Int32) (y2 : Int32) (z0 : Int32) : Option (MS) :=
  (mSZ m 33 z0).bind fun m29 =>
  if (m29.1 33) = 0 then (
    M_readStatement_96 m29 y1 y2 (1 : Int32) (m29.1 32)
  ) else (
    M_readStatement_96 m29 y1 y2 (0 : Int32) (m29.1 32)
  )
def M_readStatement (m : MS) : Option (MS) :=
  (some (m.1 34)).bind fun x31 =>
  (M_here m).bind fun x32 =>
  (mW m 35 x31 (m.1 32)).bind fun m33 =>
  (mW m33 36 x31 x32).bind fun m34 =>
  if (m34.1 33) = 0 then (
    if x32 = (103 : Int32) then (
      M_readStatement_76 m34 x31 x32 (0 : Int32)
    ) else (
      if x32 = (112 : Int32) then (
        M_readStatement_76 m34 x31 x32 (0 : Int32)
      ) else (
        if x32 = (104 : Int32) then (
          M_readStatement_76 m34 x31 x32 (0 : Int32)
        ) else (
          if x32 = (99 : Int32) then (
            M_readStatement_76 m34 x31 x32 (0 : Int32)
          ) else (
            if x32 = (116 : Int32) then (
              M_readStatement_76 m34 x31 x32 (0 : Int32)
            ) else (
              if x32 = (109 : Int32) then (
                M_readStatement_76 m34 x31 x32 (0 : Int32)
              ) else (
                M_readStatement_76 m34 x31 x32 (1 : Int32)
              )
            )
          )
        )
      )
    )
  ) else (
    M_readStatement_76 m34 x31 x32 (1 : Int32)
  )
set_option maxHeartbeats 4000000 in
set_option maxRecDepth 100000 in
theorem metM_readStatement (l : Launch) {D : va_G} {dA : Nat → ClassId} {b : Nat} {ad : Nat → Nat} {P : Nat → Prop} {F : Nat → va_E} {m : MS} {m' : MS} (hf : M_readStatement m  = some m') : Met l yX4_readStatement (ws_ yX4_readStatement cX4_readStatement 5 none) (rm0_ 3 66) (mP D dA b ad P F [.ref (ad 46)] m) (mQ D dA b ad P F none m') 0 0 (fun q => b ≤ q) := by
  refine qg_met (by decide) RX4 rfl (Nat.le_of_ble_eq_true rfl) (fun Γ hΓ hK => ?_)
  refine g_sub [0] (lv' := [(0, .ref (ad 46))]) rfl ?_
  have J290 : ∀ (m : MS) (z0 : Int32) (z1 : Int32) (hf : M_readStatement_290   m z0 z1 = some m'), WG Γ (MW D dA b ad P F m) 0 0 290 [(0, .ref (ad 46))] [.int z0, .int z1, .ref (ad 46)] := by
    intro  m z0 z1 hf
    refine g_iadd hΓ (pc := 290) dX4_readStatement_290 ?_
    obtain ⟨m1, hm1, hf⟩ := bindE hf
    refine qg_put hΓ (pc := 291) hK rfl hm1 q1104 dX4_readStatement_291 ?_
    refine g_aload_n hΓ (pc := 294) 0 (i := 0) dX4_readStatement_294 rfl rfl ?_
    refine g_dup hΓ (pc := 295) dX4_readStatement_295 rfl ?_
    refine qg_get hΓ (pc := 296) hK (k := 34) rfl q1106 dX4_readStatement_296 ?_
    refine g_iconst hΓ (pc := 299) (v := 1) dX4_readStatement_299 (by decide) ?_
    refine g_iadd hΓ (pc := 300) dX4_readStatement_300 ?_
    obtain ⟨m2, hm2, hf⟩ := bindE hf
    refine qg_put hΓ (pc := 301) hK rfl hm2 q1106 dX4_readStatement_301 ?_
    exact qg_vret hΓ hK hf dX4_readStatement_304
  have J270 : ∀ (m : MS) (z0 : Int32) (hf : M_readStatement_270   m z0 = some m'), WG Γ (MW D dA b ad P F m) 0 0 270 [(0, .ref (ad 46))] [.int z0, .ref (ad 46)] := by
    intro  m z0 hf
    obtain ⟨m3, hm3, hf⟩ := bindE hf
    refine qg_putz hΓ (pc := 270) hK rfl hm3 q1105 dX4_readStatement_270 ?_
    refine g_aload_n hΓ (pc := 273) 0 (i := 0) dX4_readStatement_273 rfl rfl ?_
    refine g_dup hΓ (pc := 274) dX4_readStatement_274 rfl ?_
    refine qg_get hΓ (pc := 275) hK (k := 32) rfl q1104 dX4_readStatement_275 ?_
    refine g_aload_n hΓ (pc := 278) 0 (i := 0) dX4_readStatement_278 rfl rfl ?_
    refine qg_get hΓ (pc := 279) hK (k := 33) rfl q1105 dX4_readStatement_279 ?_
    refine g_if_eq hΓ (pc := 282) (tgt := 289) dX4_readStatement_282 (by decide) (fun c4 => ?_) (fun c4 => ?_)
    · have hf := ifP hf c4
      refine g_iconst hΓ (pc := 289) (v := 1) dX4_readStatement_289 (by decide) ?_
      exact g_sub [0] rfl (J290  _ _ _ hf)
    · have hf := ifN hf c4
      refine g_iconst hΓ (pc := 285) (v := 0) dX4_readStatement_285 (by decide) ?_
      refine g_goto hΓ (pc := 286) (tgt := 290) dX4_readStatement_286 (by decide) ?_
      exact g_sub [0] rfl (J290  _ _ _ hf)
  have J248 : ∀ (m : MS) (hf : M_readStatement_248   m  = some m'), WG Γ (MW D dA b ad P F m) 0 0 248 [(0, .ref (ad 46))] [] := by
    intro  m  hf
    refine g_aload_n hΓ (pc := 248) 0 (i := 0) dX4_readStatement_248 rfl rfl ?_
    refine g_aload_n hΓ (pc := 249) 0 (i := 0) dX4_readStatement_249 rfl rfl ?_
    refine qg_get hΓ (pc := 250) hK (k := 33) rfl q1105 dX4_readStatement_250 ?_
    refine g_if_ne hΓ (pc := 253) (tgt := 265) dX4_readStatement_253 (by decide) (fun c5 => ?_) (fun c5 => ?_)
    · have hf := ifN hf c5
      refine g_iconst hΓ (pc := 265) (v := 1) dX4_readStatement_265 (by decide) ?_
      refine g_goto hΓ (pc := 266) (tgt := 270) dX4_readStatement_266 (by decide) ?_
      exact g_sub [0] rfl (J270  _ _ hf)
    · have hf := ifP hf c5
      refine g_aload_n hΓ (pc := 256) 0 (i := 0) dX4_readStatement_256 rfl rfl ?_
      obtain ⟨x6, hx6, hf⟩ := bindE hf
      refine qg_callV hΓ (pc := 257) hK 0 (As := []) (metM_here _ hx6) (lw_V q1252 q1254 qs19 q57 q1255) (by decide +kernel) (by decide) rfl rfl (Nat.le_of_ble_eq_true rfl) dX4_readStatement_257 ?_
      refine g_bipush hΓ (pc := 260) (v := 59) dX4_readStatement_260 (by decide) ?_
      refine g_icmp_eq hΓ (pc := 262) (tgt := 269) dX4_readStatement_262 (by decide) (fun c7 => ?_) (fun c7 => ?_)
      · have hf := ifP hf c7
        refine g_iconst hΓ (pc := 269) (v := 0) dX4_readStatement_269 (by decide) ?_
        exact g_sub [0] rfl (J270  _ _ hf)
      · have hf := ifN hf c7
        refine g_iconst hΓ (pc := 265) (v := 1) dX4_readStatement_265 (by decide) ?_
        refine g_goto hΓ (pc := 266) (tgt := 270) dX4_readStatement_266 (by decide) ?_
        exact g_sub [0] rfl (J270  _ _ hf)
  have J194 : ∀ (m : MS) (y1 : Int32) (y2 : Int32) (hf : M_readStatement_194   m y1 y2 = some m'), WG Γ (MW D dA b ad P F m) 0 0 194 [(0, .ref (ad 46)), (1, .int y1), (2, .int y2)] [] := by
    intro  m y1 y2 hf
    refine g_iload_n hΓ (pc := 194) 2 (i := 2) dX4_readStatement_194 rfl rfl ?_
    refine g_bipush hΓ (pc := 195) (v := 116) dX4_readStatement_195 (by decide) ?_
    refine g_icmp_ne hΓ (pc := 197) (tgt := 248) dX4_readStatement_197 (by decide) (fun c8 => ?_) (fun c8 => ?_)
    · have hf := ifN hf c8
      exact g_sub [0] rfl (J248  _ hf)
    · have hf := ifP hf c8
      refine g_aload_n hΓ (pc := 200) 0 (i := 0) dX4_readStatement_200 rfl rfl ?_
      refine qg_get hΓ (pc := 201) hK (k := 33) rfl q1105 dX4_readStatement_201 ?_
      refine g_if_ne hΓ (pc := 204) (tgt := 248) dX4_readStatement_204 (by decide) (fun c9 => ?_) (fun c9 => ?_)
      · have hf := ifN hf c9
        exact g_sub [0] rfl (J248  _ hf)
      · have hf := ifP hf c9
        refine g_aload_n hΓ (pc := 207) 0 (i := 0) dX4_readStatement_207 rfl rfl ?_
        obtain ⟨x10, hx10, hf⟩ := bindE hf
        refine qg_callV hΓ (pc := 208) hK 0 (As := []) (metM_here _ hx10) (lw_V q1252 q1254 qs19 q57 q1255) (by decide +kernel) (by decide) rfl rfl (Nat.le_of_ble_eq_true rfl) dX4_readStatement_208 ?_
        refine g_i2l hΓ (pc := 211) dX4_readStatement_211 ?_
        refine g_ldc2 hΓ (pc := 212) q1260 dX4_readStatement_212 ?_
        refine g_ldc2 hΓ (pc := 215) q1261 dX4_readStatement_215 ?_
        obtain ⟨x11, hx11, hf⟩ := bindE hf
        refine qg_callS hΓ (pc := 218) 3 (As := [.long x10.toInt64, .long (48 : Int64), .long (57 : Int64)]) (metM_in _ hx11) (lw_S q1245 q1246 q57 q1247) (by decide +kernel) (by decide) rfl rfl (Nat.le_of_ble_eq_true rfl) dX4_readStatement_218 ?_
        refine g_if_eq hΓ (pc := 221) (tgt := 248) dX4_readStatement_221 (by decide) (fun c12 => ?_) (fun c12 => ?_)
        · have hf := ifP hf c12
          exact g_sub [0] rfl (J248  _ hf)
        · have hf := ifN hf c12
          refine g_aload_n hΓ (pc := 224) 0 (i := 0) dX4_readStatement_224 rfl rfl ?_
          refine qg_geta hΓ (pc := 225) hK (k := 37) rfl q1109 dX4_readStatement_225 ?_
          refine g_iconst hΓ (pc := 228) (v := 5) dX4_readStatement_228 (by decide) ?_
          refine g_iload_n hΓ (pc := 229) 1 (i := 1) dX4_readStatement_229 rfl rfl ?_
          refine g_imul hΓ (pc := 230) dX4_readStatement_230 ?_
          refine g_bipush hΓ (pc := 231) (v := 10) dX4_readStatement_231 (by decide) ?_
          refine g_aload_n hΓ (pc := 233) 0 (i := 0) dX4_readStatement_233 rfl rfl ?_
          refine qg_geta hΓ (pc := 234) hK (k := 37) rfl q1109 dX4_readStatement_234 ?_
          refine g_iconst hΓ (pc := 237) (v := 5) dX4_readStatement_237 (by decide) ?_
          refine g_iload_n hΓ (pc := 238) 1 (i := 1) dX4_readStatement_238 rfl rfl ?_
          refine g_imul hΓ (pc := 239) dX4_readStatement_239 ?_
          obtain ⟨x13, hx13, hf⟩ := bindE hf
          refine qg_iald hΓ (pc := 240) hK rfl hx13 dX4_readStatement_240 rfl ?_
          refine g_imul hΓ (pc := 241) dX4_readStatement_241 ?_
          refine g_aload_n hΓ (pc := 242) 0 (i := 0) dX4_readStatement_242 rfl rfl ?_
          obtain ⟨q14, hq14, hf⟩ := bindE hf
          refine qg_callV hΓ (pc := 243) hK 0 (As := []) (metM_readDigit _ (r := q14.1) (m' := q14.2) hq14) (lw_V q1256 q1258 qs20 q57 q1259) (by decide +kernel) (by decide) rfl rfl (Nat.le_of_ble_eq_true rfl) dX4_readStatement_243 ?_
          refine g_iadd hΓ (pc := 246) dX4_readStatement_246 ?_
          obtain ⟨m15, hm15, hf⟩ := bindE hf
          refine qg_iast hΓ (pc := 247) hK rfl hm15 dX4_readStatement_247 rfl ?_
          exact g_sub [0] rfl (J248  _ hf)
  have S147 : ∀ (k147 : MS → Int32 → Int32 → Int32 → Int32 → Option (MS)) (hk147 : ∀ (m : MS) (y1 : Int32) (y2 : Int32) (y3 : Int32) (y4 : Int32), k147 m y1 y2 y3 y4 = some m' → WG Γ (MW D dA b ad P F m) 0 0 147 [(0, .ref (ad 46)), (1, .int y1), (2, .int y2), (3, .int y3), (4, .int y4)] []) (m : MS) (y1 : Int32) (y2 : Int32) (y3 : Int32) (y4 : Int32) (hf : M_readStatement_147s  k147 m y1 y2 y3 y4 = some m'), WG Γ (MW D dA b ad P F m) 0 0 147 [(0, .ref (ad 46)), (1, .int y1), (2, .int y2), (3, .int y3), (4, .int y4)] [] := by
    intro k147 hk147 m y1 y2 y3 y4 hf
    refine g_iload hΓ (pc := 147) 4 (i := 4) dX4_readStatement_147 rfl ?_
    refine g_iload_n hΓ (pc := 149) 3 (i := 3) dX4_readStatement_149 rfl rfl ?_
    refine g_icmp_ge hΓ (pc := 150) (tgt := 174) dX4_readStatement_150 (by decide) (fun c16 => ?_) (fun c16 => ?_)
    · have hf := ifP hf c16
      refine g_iload_n hΓ (pc := 174) 2 (i := 2) dX4_readStatement_174 rfl rfl ?_
      refine g_bipush hΓ (pc := 175) (v := 104) dX4_readStatement_175 (by decide) ?_
      refine g_icmp_ne hΓ (pc := 177) (tgt := 194) dX4_readStatement_177 (by decide) (fun c17 => ?_) (fun c17 => ?_)
      · have hf := ifN hf c17
        exact g_sub [0, 1, 2] rfl (J194  _ _ _ hf)
      · have hf := ifP hf c17
        refine g_aload_n hΓ (pc := 180) 0 (i := 0) dX4_readStatement_180 rfl rfl ?_
        refine qg_geta hΓ (pc := 181) hK (k := 37) rfl q1109 dX4_readStatement_181 ?_
        refine g_iconst hΓ (pc := 184) (v := 5) dX4_readStatement_184 (by decide) ?_
        refine g_iload_n hΓ (pc := 185) 1 (i := 1) dX4_readStatement_185 rfl rfl ?_
        refine g_imul hΓ (pc := 186) dX4_readStatement_186 ?_
        refine g_iconst hΓ (pc := 187) (v := 1) dX4_readStatement_187 (by decide) ?_
        refine g_iadd hΓ (pc := 188) dX4_readStatement_188 ?_
        refine g_aload_n hΓ (pc := 189) 0 (i := 0) dX4_readStatement_189 rfl rfl ?_
        obtain ⟨q18, hq18, hf⟩ := bindE hf
        refine qg_callV hΓ (pc := 190) hK 0 (As := []) (metM_readTwo _ (r := q18.1) (m' := q18.2) hq18) (lw_V q1262 q1264 qs21 q57 q1265) (by decide +kernel) (by decide) rfl rfl (Nat.le_of_ble_eq_true rfl) dX4_readStatement_190 ?_
        obtain ⟨m19, hm19, hf⟩ := bindE hf
        refine qg_iast hΓ (pc := 193) hK rfl hm19 dX4_readStatement_193 rfl ?_
        exact g_sub [0, 1, 2] rfl (J194  _ _ _ hf)
    · have hf := ifN hf c16
      refine g_aload_n hΓ (pc := 153) 0 (i := 0) dX4_readStatement_153 rfl rfl ?_
      refine qg_geta hΓ (pc := 154) hK (k := 37) rfl q1109 dX4_readStatement_154 ?_
      refine g_iconst hΓ (pc := 157) (v := 5) dX4_readStatement_157 (by decide) ?_
      refine g_iload_n hΓ (pc := 158) 1 (i := 1) dX4_readStatement_158 rfl rfl ?_
      refine g_imul hΓ (pc := 159) dX4_readStatement_159 ?_
      refine g_iload hΓ (pc := 160) 4 (i := 4) dX4_readStatement_160 rfl ?_
      refine g_iadd hΓ (pc := 162) dX4_readStatement_162 ?_
      refine g_aload_n hΓ (pc := 163) 0 (i := 0) dX4_readStatement_163 rfl rfl ?_
      obtain ⟨q20, hq20, hf⟩ := bindE hf
      refine qg_callV hΓ (pc := 164) hK 0 (As := []) (metM_readDigit _ (r := q20.1) (m' := q20.2) hq20) (lw_V q1256 q1258 qs20 q57 q1259) (by decide +kernel) (by decide) rfl rfl (Nat.le_of_ble_eq_true rfl) dX4_readStatement_164 ?_
      obtain ⟨m21, hm21, hf⟩ := bindE hf
      refine qg_iast hΓ (pc := 167) hK rfl hm21 dX4_readStatement_167 rfl ?_
      obtain ⟨x22, hx22, hf⟩ := bindE hf
      refine g_iinc hΓ (pc := 168) 4 (i := 4) (v := x22) (lv' := [(4, .int x22), (0, .ref (ad 46)), (1, .int y1), (2, .int y2), (3, .int y3)]) dX4_readStatement_168 rfl (Option.some.inj hx22) (by decide) rfl ?_
      refine g_goto hΓ (pc := 171) (tgt := 147) dX4_readStatement_171 (by decide) ?_
      exact g_sub [1, 2, 3, 4, 0] rfl (hk147 _ _ _ _ _ hf)
  have L147 : ∀ (n : Nat) (m : MS) (y1 : Int32) (y2 : Int32) (y3 : Int32) (y4 : Int32) (hf : M_readStatement_147   n m y1 y2 y3 y4 = some m'), WG Γ (MW D dA b ad P F m) 0 0 147 [(0, .ref (ad 46)), (1, .int y1), (2, .int y2), (3, .int y3), (4, .int y4)] [] := by
    intro  n
    induction n with
    | zero => intro m y1 y2 y3 y4 hf; exact nomatch (show (none : Option (MS)) = some _ from hf)
    | succ n ih => exact S147  _ ih
  have J138 : ∀ (m : MS) (y1 : Int32) (y2 : Int32) (hf : M_readStatement_138   m y1 y2 = some m'), WG Γ (MW D dA b ad P F m) 0 0 138 [(0, .ref (ad 46)), (1, .int y1), (2, .int y2)] [] := by
    intro  m y1 y2 hf
    refine g_iconst hΓ (pc := 138) (v := 1) dX4_readStatement_138 (by decide) ?_
    refine g_goto hΓ (pc := 139) (tgt := 143) dX4_readStatement_139 (by decide) ?_
    refine g_istore_n hΓ (pc := 143) (i := 3) (lv' := [(3, .int (1 : Int32)), (0, .ref (ad 46)), (1, .int y1), (2, .int y2)]) dX4_readStatement_143 rfl (by decide) rfl ?_
    refine g_iconst hΓ (pc := 144) (v := 0) dX4_readStatement_144 (by decide) ?_
    refine g_istore hΓ (pc := 145) (i := 4) (lv' := [(4, .int (0 : Int32)), (3, .int (1 : Int32)), (0, .ref (ad 46)), (1, .int y1), (2, .int y2)]) dX4_readStatement_145 (by decide) rfl ?_
    exact g_sub [2, 3, 4, 1, 0] rfl (L147  200 _ _ _ _ _ hf)
  have J96 : ∀ (m : MS) (y1 : Int32) (y2 : Int32) (z0 : Int32) (z1 : Int32) (hf : M_readStatement_96   m y1 y2 z0 z1 = some m'), WG Γ (MW D dA b ad P F m) 0 0 96 [(0, .ref (ad 46)), (1, .int y1), (2, .int y2)] [.int z0, .int z1, .ref (ad 46)] := by
    intro  m y1 y2 z0 z1 hf
    refine g_iadd hΓ (pc := 96) dX4_readStatement_96 ?_
    obtain ⟨m23, hm23, hf⟩ := bindE hf
    refine qg_put hΓ (pc := 97) hK rfl hm23 q1104 dX4_readStatement_97 ?_
    refine g_iload_n hΓ (pc := 100) 2 (i := 2) dX4_readStatement_100 rfl rfl ?_
    refine g_bipush hΓ (pc := 101) (v := 103) dX4_readStatement_101 (by decide) ?_
    refine g_icmp_ne hΓ (pc := 103) (tgt := 110) dX4_readStatement_103 (by decide) (fun c24 => ?_) (fun c24 => ?_)
    · have hf := ifN hf c24
      refine g_iload_n hΓ (pc := 110) 2 (i := 2) dX4_readStatement_110 rfl rfl ?_
      refine g_bipush hΓ (pc := 111) (v := 112) dX4_readStatement_111 (by decide) ?_
      refine g_icmp_ne hΓ (pc := 113) (tgt := 120) dX4_readStatement_113 (by decide) (fun c25 => ?_) (fun c25 => ?_)
      · have hf := ifN hf c25
        refine g_iload_n hΓ (pc := 120) 2 (i := 2) dX4_readStatement_120 rfl rfl ?_
        refine g_bipush hΓ (pc := 121) (v := 104) dX4_readStatement_121 (by decide) ?_
        refine g_icmp_eq hΓ (pc := 123) (tgt := 138) dX4_readStatement_123 (by decide) (fun c26 => ?_) (fun c26 => ?_)
        · have hf := ifP hf c26
          exact g_sub [0, 1, 2] rfl (J138  _ _ _ hf)
        · have hf := ifN hf c26
          refine g_iload_n hΓ (pc := 126) 2 (i := 2) dX4_readStatement_126 rfl rfl ?_
          refine g_bipush hΓ (pc := 127) (v := 99) dX4_readStatement_127 (by decide) ?_
          refine g_icmp_eq hΓ (pc := 129) (tgt := 138) dX4_readStatement_129 (by decide) (fun c27 => ?_) (fun c27 => ?_)
          · have hf := ifP hf c27
            exact g_sub [0, 1, 2] rfl (J138  _ _ _ hf)
          · have hf := ifN hf c27
            refine g_iload_n hΓ (pc := 132) 2 (i := 2) dX4_readStatement_132 rfl rfl ?_
            refine g_bipush hΓ (pc := 133) (v := 116) dX4_readStatement_133 (by decide) ?_
            refine g_icmp_ne hΓ (pc := 135) (tgt := 142) dX4_readStatement_135 (by decide) (fun c28 => ?_) (fun c28 => ?_)
            · have hf := ifN hf c28
              refine g_iconst hΓ (pc := 142) (v := 0) dX4_readStatement_142 (by decide) ?_
              refine g_istore_n hΓ (pc := 143) (i := 3) (lv' := [(3, .int (0 : Int32)), (0, .ref (ad 46)), (1, .int y1), (2, .int y2)]) dX4_readStatement_143 rfl (by decide) rfl ?_
              refine g_iconst hΓ (pc := 144) (v := 0) dX4_readStatement_144 (by decide) ?_
              refine g_istore hΓ (pc := 145) (i := 4) (lv' := [(4, .int (0 : Int32)), (3, .int (0 : Int32)), (0, .ref (ad 46)), (1, .int y1), (2, .int y2)]) dX4_readStatement_145 (by decide) rfl ?_
              exact g_sub [2, 3, 4, 1, 0] rfl (L147  200 _ _ _ _ _ hf)
            · have hf := ifP hf c28
              exact g_sub [0, 1, 2] rfl (J138  _ _ _ hf)
      · have hf := ifP hf c25
        refine g_iconst hΓ (pc := 116) (v := 5) dX4_readStatement_116 (by decide) ?_
        refine g_goto hΓ (pc := 117) (tgt := 143) dX4_readStatement_117 (by decide) ?_
        refine g_istore_n hΓ (pc := 143) (i := 3) (lv' := [(3, .int (5 : Int32)), (0, .ref (ad 46)), (1, .int y1), (2, .int y2)]) dX4_readStatement_143 rfl (by decide) rfl ?_
        refine g_iconst hΓ (pc := 144) (v := 0) dX4_readStatement_144 (by decide) ?_
        refine g_istore hΓ (pc := 145) (i := 4) (lv' := [(4, .int (0 : Int32)), (3, .int (5 : Int32)), (0, .ref (ad 46)), (1, .int y1), (2, .int y2)]) dX4_readStatement_145 (by decide) rfl ?_
        exact g_sub [2, 3, 4, 1, 0] rfl (L147  200 _ _ _ _ _ hf)
    · have hf := ifP hf c24
      refine g_iconst hΓ (pc := 106) (v := 4) dX4_readStatement_106 (by decide) ?_
      refine g_goto hΓ (pc := 107) (tgt := 143) dX4_readStatement_107 (by decide) ?_
      refine g_istore_n hΓ (pc := 143) (i := 3) (lv' := [(3, .int (4 : Int32)), (0, .ref (ad 46)), (1, .int y1), (2, .int y2)]) dX4_readStatement_143 rfl (by decide) rfl ?_
      refine g_iconst hΓ (pc := 144) (v := 0) dX4_readStatement_144 (by decide) ?_
      refine g_istore hΓ (pc := 145) (i := 4) (lv' := [(4, .int (0 : Int32)), (3, .int (4 : Int32)), (0, .ref (ad 46)), (1, .int y1), (2, .int y2)]) dX4_readStatement_145 (by decide) rfl ?_
      exact g_sub [2, 3, 4, 1, 0] rfl (L147  200 _ _ _ _ _ hf)
  have J76 : ∀ (m : MS) (y1 : Int32) (y2 : Int32) (z0 : Int32) (hf : M_readStatement_76   m y1 y2 z0 = some m'), WG Γ (MW D dA b ad P F m) 0 0 76 [(0, .ref (ad 46)), (1, .int y1), (2, .int y2)] [.int z0, .ref (ad 46)] := by
    intro  m y1 y2 z0 hf
    obtain ⟨m29, hm29, hf⟩ := bindE hf
    refine qg_putz hΓ (pc := 76) hK rfl hm29 q1105 dX4_readStatement_76 ?_
    refine g_aload_n hΓ (pc := 79) 0 (i := 0) dX4_readStatement_79 rfl rfl ?_
    refine g_dup hΓ (pc := 80) dX4_readStatement_80 rfl ?_
    refine qg_get hΓ (pc := 81) hK (k := 32) rfl q1104 dX4_readStatement_81 ?_
    refine g_aload_n hΓ (pc := 84) 0 (i := 0) dX4_readStatement_84 rfl rfl ?_
    refine qg_get hΓ (pc := 85) hK (k := 33) rfl q1105 dX4_readStatement_85 ?_
    refine g_if_eq hΓ (pc := 88) (tgt := 95) dX4_readStatement_88 (by decide) (fun c30 => ?_) (fun c30 => ?_)
    · have hf := ifP hf c30
      refine g_iconst hΓ (pc := 95) (v := 1) dX4_readStatement_95 (by decide) ?_
      exact g_sub [0, 1, 2] rfl (J96  _ _ _ _ _ hf)
    · have hf := ifN hf c30
      refine g_iconst hΓ (pc := 91) (v := 0) dX4_readStatement_91 (by decide) ?_
      refine g_goto hΓ (pc := 92) (tgt := 96) dX4_readStatement_92 (by decide) ?_
      exact g_sub [0, 1, 2] rfl (J96  _ _ _ _ _ hf)
  refine g_aload_n hΓ (pc := 0) 0 (i := 0) dX4_readStatement_0 rfl rfl ?_
  refine qg_get hΓ (pc := 1) hK (k := 34) rfl q1106 dX4_readStatement_1 ?_
  obtain ⟨x31, hx31, hf⟩ := bindE hf
  refine g_topi hx31 ?_
  refine g_istore_n hΓ (pc := 4) (i := 1) (lv' := [(1, .int x31), (0, .ref (ad 46))]) dX4_readStatement_4 rfl (by decide) rfl ?_
  refine g_aload_n hΓ (pc := 5) 1 (i := 0) dX4_readStatement_5 rfl rfl ?_
  obtain ⟨x32, hx32, hf⟩ := bindE hf
  refine qg_callV hΓ (pc := 6) hK 0 (As := []) (metM_here _ hx32) (lw_V q1252 q1254 qs19 q57 q1255) (by decide +kernel) (by decide) rfl rfl (Nat.le_of_ble_eq_true rfl) dX4_readStatement_6 ?_
  refine g_istore_n hΓ (pc := 9) (i := 2) (lv' := [(2, .int x32), (1, .int x31), (0, .ref (ad 46))]) dX4_readStatement_9 rfl (by decide) rfl ?_
  refine g_aload_n hΓ (pc := 10) 2 (i := 0) dX4_readStatement_10 rfl rfl ?_
  refine qg_geta hΓ (pc := 11) hK (k := 35) rfl q1107 dX4_readStatement_11 ?_
  refine g_iload_n hΓ (pc := 14) 1 (i := 1) dX4_readStatement_14 rfl rfl ?_
  refine g_aload_n hΓ (pc := 15) 2 (i := 0) dX4_readStatement_15 rfl rfl ?_
  refine qg_get hΓ (pc := 16) hK (k := 32) rfl q1104 dX4_readStatement_16 ?_
  obtain ⟨m33, hm33, hf⟩ := bindE hf
  refine qg_iast hΓ (pc := 19) hK rfl hm33 dX4_readStatement_19 rfl ?_
  refine g_aload_n hΓ (pc := 20) 2 (i := 0) dX4_readStatement_20 rfl rfl ?_
  refine qg_geta hΓ (pc := 21) hK (k := 36) rfl q1108 dX4_readStatement_21 ?_
  refine g_iload_n hΓ (pc := 24) 1 (i := 1) dX4_readStatement_24 rfl rfl ?_
  refine g_iload_n hΓ (pc := 25) 0 (i := 2) dX4_readStatement_25 rfl rfl ?_
  obtain ⟨m34, hm34, hf⟩ := bindE hf
  refine qg_iast hΓ (pc := 26) hK rfl hm34 dX4_readStatement_26 rfl ?_
  refine g_aload_n hΓ (pc := 27) 2 (i := 0) dX4_readStatement_27 rfl rfl ?_
  refine g_aload_n hΓ (pc := 28) 2 (i := 0) dX4_readStatement_28 rfl rfl ?_
  refine qg_get hΓ (pc := 29) hK (k := 33) rfl q1105 dX4_readStatement_29 ?_
  refine g_if_ne hΓ (pc := 32) (tgt := 71) dX4_readStatement_32 (by decide) (fun c35 => ?_) (fun c35 => ?_)
  · have hf := ifN hf c35
    refine g_iconst hΓ (pc := 71) (v := 1) dX4_readStatement_71 (by decide) ?_
    refine g_goto hΓ (pc := 72) (tgt := 76) dX4_readStatement_72 (by decide) ?_
    exact g_sub [2, 1, 0] rfl (J76  _ _ _ _ hf)
  · have hf := ifP hf c35
    refine g_iload_n hΓ (pc := 35) 0 (i := 2) dX4_readStatement_35 rfl rfl ?_
    refine g_bipush hΓ (pc := 36) (v := 103) dX4_readStatement_36 (by decide) ?_
    refine g_icmp_eq hΓ (pc := 38) (tgt := 75) dX4_readStatement_38 (by decide) (fun c36 => ?_) (fun c36 => ?_)
    · have hf := ifP hf c36
      refine g_iconst hΓ (pc := 75) (v := 0) dX4_readStatement_75 (by decide) ?_
      exact g_sub [2, 1, 0] rfl (J76  _ _ _ _ hf)
    · have hf := ifN hf c36
      refine g_iload_n hΓ (pc := 41) 0 (i := 2) dX4_readStatement_41 rfl rfl ?_
      refine g_bipush hΓ (pc := 42) (v := 112) dX4_readStatement_42 (by decide) ?_
      refine g_icmp_eq hΓ (pc := 44) (tgt := 75) dX4_readStatement_44 (by decide) (fun c37 => ?_) (fun c37 => ?_)
      · have hf := ifP hf c37
        refine g_iconst hΓ (pc := 75) (v := 0) dX4_readStatement_75 (by decide) ?_
        exact g_sub [2, 1, 0] rfl (J76  _ _ _ _ hf)
      · have hf := ifN hf c37
        refine g_iload_n hΓ (pc := 47) 0 (i := 2) dX4_readStatement_47 rfl rfl ?_
        refine g_bipush hΓ (pc := 48) (v := 104) dX4_readStatement_48 (by decide) ?_
        refine g_icmp_eq hΓ (pc := 50) (tgt := 75) dX4_readStatement_50 (by decide) (fun c38 => ?_) (fun c38 => ?_)
        · have hf := ifP hf c38
          refine g_iconst hΓ (pc := 75) (v := 0) dX4_readStatement_75 (by decide) ?_
          exact g_sub [2, 1, 0] rfl (J76  _ _ _ _ hf)
        · have hf := ifN hf c38
          refine g_iload_n hΓ (pc := 53) 0 (i := 2) dX4_readStatement_53 rfl rfl ?_
          refine g_bipush hΓ (pc := 54) (v := 99) dX4_readStatement_54 (by decide) ?_
          refine g_icmp_eq hΓ (pc := 56) (tgt := 75) dX4_readStatement_56 (by decide) (fun c39 => ?_) (fun c39 => ?_)
          · have hf := ifP hf c39
            refine g_iconst hΓ (pc := 75) (v := 0) dX4_readStatement_75 (by decide) ?_
            exact g_sub [2, 1, 0] rfl (J76  _ _ _ _ hf)
          · have hf := ifN hf c39
            refine g_iload_n hΓ (pc := 59) 0 (i := 2) dX4_readStatement_59 rfl rfl ?_
            refine g_bipush hΓ (pc := 60) (v := 116) dX4_readStatement_60 (by decide) ?_
            refine g_icmp_eq hΓ (pc := 62) (tgt := 75) dX4_readStatement_62 (by decide) (fun c40 => ?_) (fun c40 => ?_)
            · have hf := ifP hf c40
              refine g_iconst hΓ (pc := 75) (v := 0) dX4_readStatement_75 (by decide) ?_
              exact g_sub [2, 1, 0] rfl (J76  _ _ _ _ hf)
            · have hf := ifN hf c40
              refine g_iload_n hΓ (pc := 65) 0 (i := 2) dX4_readStatement_65 rfl rfl ?_
              refine g_bipush hΓ (pc := 66) (v := 109) dX4_readStatement_66 (by decide) ?_
              refine g_icmp_eq hΓ (pc := 68) (tgt := 75) dX4_readStatement_68 (by decide) (fun c41 => ?_) (fun c41 => ?_)
              · have hf := ifP hf c41
                refine g_iconst hΓ (pc := 75) (v := 0) dX4_readStatement_75 (by decide) ?_
                exact g_sub [2, 1, 0] rfl (J76  _ _ _ _ hf)
              · have hf := ifN hf c41
                refine g_iconst hΓ (pc := 71) (v := 1) dX4_readStatement_71 (by decide) ?_
                refine g_goto hΓ (pc := 72) (tgt := 76) dX4_readStatement_72 (by decide) ?_
                exact g_sub [2, 1, 0] rfl (J76  _ _ _ _ hf)
def M_open (m : MS) : Option (MS) :=
  (M_carryAll m 24 (1 : Int32)).bind fun m1 =>
  some m1
set_option maxHeartbeats 4000000 in
set_option maxRecDepth 100000 in
theorem metM_open (l : Launch) {D : va_G} {dA : Nat → ClassId} {b : Nat} {ad : Nat → Nat} {P : Nat → Prop} {F : Nat → va_E} {m : MS} {m' : MS} (hf : M_open m  = some m') : Met l yX4_open (ws_ yX4_open cX4_open 1 none) (rm0_ 2 44) (mP D dA b ad P F [.ref (ad 46)] m) (mQ D dA b ad P F none m') 0 0 (fun q => b ≤ q) := by
  refine qg_met (by decide) RX4 rfl (Nat.le_of_ble_eq_true rfl) (fun Γ hΓ hK => ?_)
  refine g_sub [0] (lv' := [(0, .ref (ad 46))]) rfl ?_
  refine g_aload_n hΓ (pc := 0) 0 (i := 0) dX4_open_0 rfl rfl ?_
  refine g_aload_n hΓ (pc := 1) 0 (i := 0) dX4_open_1 rfl rfl ?_
  refine qg_geta hΓ (pc := 2) hK (k := 24) rfl q1096 dX4_open_2 ?_
  refine g_iconst hΓ (pc := 5) (v := 1) dX4_open_5 (by decide) ?_
  obtain ⟨m1, hm1, hf⟩ := bindE hf
  refine qg_callV hΓ (pc := 6) hK 2 (As := [.ref (ad 24), .int (1 : Int32)]) (metM_carryAll _ rfl hm1) (lw_V q1220 q1222 qs14 q57 q1223) (by decide +kernel) (by decide) rfl rfl (Nat.le_of_ble_eq_true rfl) dX4_open_6 ?_
  exact qg_vret hΓ hK hf dX4_open_9
def M_bring_61 (m : MS) (y5 : Int32) (z0 : Int32) (z1 : Int32) : Option (Int32 × MS) :=
  (mW m 8 z1 z0).bind fun m1 =>
  (mW m1 9 y5 (0 : Int32)).bind fun m2 =>
  (mW m2 10 y5 (0 : Int32)).bind fun m3 =>
  (mSI m3 0 ((m3.1 0) + (1 : Int32))).bind fun m4 =>
  some (y5, m4)
def M_bring (m : MS) (a0 : Int32) (a1 : Int32) (a2 : Int32) (a3 : Int32) : Option (Int32 × MS) :=
  (some (m.1 0)).bind fun x5 =>
  (mW m 4 x5 a0).bind fun m6 =>
  (mW m6 5 x5 a1).bind fun m7 =>
  (mW m7 6 x5 a2).bind fun m8 =>
  (mW m8 7 x5 a3).bind fun m9 =>
  if (10 : Int32) ≤ a3 then (
    M_bring_61 m9 x5 (-4 : Int32) x5
  ) else (
    M_bring_61 m9 x5 (m9.1 3) x5
  )
set_option maxHeartbeats 4000000 in
set_option maxRecDepth 100000 in
theorem metM_bring (l : Launch) {D : va_G} {dA : Nat → ClassId} {b : Nat} {ad : Nat → Nat} {P : Nat → Prop} {F : Nat → va_E} {m : MS} {m' : MS} {a0 : Int32} {a1 : Int32} {a2 : Int32} {a3 : Int32} {r : Int32} (hf : M_bring m a0 a1 a2 a3 = some (r, m')) : Met l yX4_bring (ws_ yX4_bring cX4_bring 6 (some .int)) (rm0_ 0 0) (mP D dA b ad P F [.ref (ad 46), .int a0, .int a1, .int a2, .int a3] m) (mQ D dA b ad P F (some (.int r)) m') 0 0 (fun q => b ≤ q) := by
  refine qg_met (by decide) RX4 rfl (Nat.le_of_ble_eq_true rfl) (fun Γ hΓ hK => ?_)
  refine g_sub [0, 1, 2, 3, 4] (lv' := [(0, .ref (ad 46)), (1, .int a0), (2, .int a1), (3, .int a2), (4, .int a3)]) rfl ?_
  have J61 : ∀ (m : MS) (y5 : Int32) (z0 : Int32) (z1 : Int32) (hf : M_bring_61   m y5 z0 z1 = some (r, m')), WG Γ (MW D dA b ad P F m) 0 0 61 [(0, .ref (ad 46)), (5, .int y5)] [.int z0, .int z1, .ref (ad 8)] := by
    intro  m y5 z0 z1 hf
    obtain ⟨m1, hm1, hf⟩ := bindE hf
    refine qg_iast hΓ (pc := 61) hK rfl hm1 dX4_bring_61 rfl ?_
    refine g_aload_n hΓ (pc := 62) 0 (i := 0) dX4_bring_62 rfl rfl ?_
    refine qg_geta hΓ (pc := 63) hK (k := 9) rfl q1081 dX4_bring_63 ?_
    refine g_iload hΓ (pc := 66) 1 (i := 5) dX4_bring_66 rfl ?_
    refine g_iconst hΓ (pc := 68) (v := 0) dX4_bring_68 (by decide) ?_
    obtain ⟨m2, hm2, hf⟩ := bindE hf
    refine qg_iast hΓ (pc := 69) hK rfl hm2 dX4_bring_69 rfl ?_
    refine g_aload_n hΓ (pc := 70) 0 (i := 0) dX4_bring_70 rfl rfl ?_
    refine qg_geta hΓ (pc := 71) hK (k := 10) rfl q1082 dX4_bring_71 ?_
    refine g_iload hΓ (pc := 74) 1 (i := 5) dX4_bring_74 rfl ?_
    refine g_iconst hΓ (pc := 76) (v := 0) dX4_bring_76 (by decide) ?_
    obtain ⟨m3, hm3, hf⟩ := bindE hf
    refine qg_iast hΓ (pc := 77) hK rfl hm3 dX4_bring_77 rfl ?_
    refine g_aload_n hΓ (pc := 78) 0 (i := 0) dX4_bring_78 rfl rfl ?_
    refine g_dup hΓ (pc := 79) dX4_bring_79 rfl ?_
    refine qg_get hΓ (pc := 80) hK (k := 0) rfl q1072 dX4_bring_80 ?_
    refine g_iconst hΓ (pc := 83) (v := 1) dX4_bring_83 (by decide) ?_
    refine g_iadd hΓ (pc := 84) dX4_bring_84 ?_
    obtain ⟨m4, hm4, hf⟩ := bindE hf
    refine qg_put hΓ (pc := 85) hK rfl hm4 q1072 dX4_bring_85 ?_
    refine g_iload hΓ (pc := 88) 1 (i := 5) dX4_bring_88 rfl ?_
    exact qg_iret hΓ hK hf dX4_bring_90
  refine g_aload_n hΓ (pc := 0) 0 (i := 0) dX4_bring_0 rfl rfl ?_
  refine qg_get hΓ (pc := 1) hK (k := 0) rfl q1072 dX4_bring_1 ?_
  obtain ⟨x5, hx5, hf⟩ := bindE hf
  refine g_topi hx5 ?_
  refine g_istore hΓ (pc := 4) (i := 5) (lv' := [(5, .int x5), (0, .ref (ad 46)), (1, .int a0), (2, .int a1), (3, .int a2), (4, .int a3)]) dX4_bring_4 (by decide) rfl ?_
  refine g_aload_n hΓ (pc := 6) 1 (i := 0) dX4_bring_6 rfl rfl ?_
  refine qg_geta hΓ (pc := 7) hK (k := 4) rfl q1076 dX4_bring_7 ?_
  refine g_iload hΓ (pc := 10) 0 (i := 5) dX4_bring_10 rfl ?_
  refine g_iload_n hΓ (pc := 12) 2 (i := 1) dX4_bring_12 rfl rfl ?_
  obtain ⟨m6, hm6, hf⟩ := bindE hf
  refine qg_iast hΓ (pc := 13) hK rfl hm6 dX4_bring_13 rfl ?_
  refine g_aload_n hΓ (pc := 14) 1 (i := 0) dX4_bring_14 rfl rfl ?_
  refine qg_geta hΓ (pc := 15) hK (k := 5) rfl q1077 dX4_bring_15 ?_
  refine g_iload hΓ (pc := 18) 0 (i := 5) dX4_bring_18 rfl ?_
  refine g_iload_n hΓ (pc := 20) 3 (i := 2) dX4_bring_20 rfl rfl ?_
  obtain ⟨m7, hm7, hf⟩ := bindE hf
  refine qg_iast hΓ (pc := 21) hK rfl hm7 dX4_bring_21 rfl ?_
  refine g_aload_n hΓ (pc := 22) 1 (i := 0) dX4_bring_22 rfl rfl ?_
  refine qg_geta hΓ (pc := 23) hK (k := 6) rfl q1078 dX4_bring_23 ?_
  refine g_iload hΓ (pc := 26) 0 (i := 5) dX4_bring_26 rfl ?_
  refine g_iload_n hΓ (pc := 28) 4 (i := 3) dX4_bring_28 rfl rfl ?_
  obtain ⟨m8, hm8, hf⟩ := bindE hf
  refine qg_iast hΓ (pc := 29) hK rfl hm8 dX4_bring_29 rfl ?_
  refine g_aload_n hΓ (pc := 30) 1 (i := 0) dX4_bring_30 rfl rfl ?_
  refine qg_geta hΓ (pc := 31) hK (k := 7) rfl q1079 dX4_bring_31 ?_
  refine g_iload hΓ (pc := 34) 0 (i := 5) dX4_bring_34 rfl ?_
  refine g_iload hΓ (pc := 36) 5 (i := 4) dX4_bring_36 rfl ?_
  obtain ⟨m9, hm9, hf⟩ := bindE hf
  refine qg_iast hΓ (pc := 38) hK rfl hm9 dX4_bring_38 rfl ?_
  refine g_aload_n hΓ (pc := 39) 1 (i := 0) dX4_bring_39 rfl rfl ?_
  refine qg_geta hΓ (pc := 40) hK (k := 8) rfl q1080 dX4_bring_40 ?_
  refine g_iload hΓ (pc := 43) 0 (i := 5) dX4_bring_43 rfl ?_
  refine g_iload hΓ (pc := 45) 5 (i := 4) dX4_bring_45 rfl ?_
  refine g_bipush hΓ (pc := 47) (v := 10) dX4_bring_47 (by decide) ?_
  refine g_icmp_ge hΓ (pc := 49) (tgt := 59) dX4_bring_49 (by decide) (fun c10 => ?_) (fun c10 => ?_)
  · have hf := ifP hf c10
    refine g_bipush hΓ (pc := 59) (v := -4) dX4_bring_59 (by decide) ?_
    exact g_sub [1, 0] rfl (J61  _ _ _ _ hf)
  · have hf := ifN hf c10
    refine g_aload_n hΓ (pc := 52) 1 (i := 0) dX4_bring_52 rfl rfl ?_
    refine qg_get hΓ (pc := 53) hK (k := 3) rfl q1075 dX4_bring_53 ?_
    refine g_goto hΓ (pc := 56) (tgt := 61) dX4_bring_56 (by decide) ?_
    exact g_sub [1, 0] rfl (J61  _ _ _ _ hf)
def M_glassComes_38 (m : MS) (y1 : Int32) (z0 : Int32) : Option (Int32 × MS) :=
  if z0 = 0 then (
    (zOk z0).bind fun z => some (z, m)
  ) else (
    (mR m 37 y1).bind fun x2 =>
    (mR m 37 (y1 + (1 : Int32))).bind fun x3 =>
    (mR m 37 (y1 + (2 : Int32))).bind fun x4 =>
    (mR m 37 (y1 + (3 : Int32))).bind fun x5 =>
    (M_bring m x2 x3 x4 x5).bind fun q6 =>
    (zOk z0).bind fun z => some (z, q6.2)
  )
def M_glassComes (m : MS) (a0 : Int32) : Option (Int32 × MS) :=
  (mR m 37 a0).bind fun x7 =>
  if (8 : Int32) ≤ x7 then (
    M_glassComes_38 m a0 (0 : Int32)
  ) else (
    (mR m 37 (a0 + (3 : Int32))).bind fun x9 =>
    if (6 : Int32) ≤ x9 then (
      M_glassComes_38 m a0 (0 : Int32)
    ) else (
      if (12 : Int32) ≤ (m.1 0) then (
        M_glassComes_38 m a0 (0 : Int32)
      ) else (
        M_glassComes_38 m a0 (1 : Int32)
      )
    )
  )
set_option maxHeartbeats 4000000 in
set_option maxRecDepth 100000 in
theorem metM_glassComes (l : Launch) {D : va_G} {dA : Nat → ClassId} {b : Nat} {ad : Nat → Nat} {P : Nat → Prop} {F : Nat → va_E} {m : MS} {m' : MS} {a0 : Int32} {r : Int32} (hf : M_glassComes m a0 = some (r, m')) : Met l yX4_glassComes (ws_ yX4_glassComes cX4_glassComes 3 (some .boolean)) (rm0_ 1 25) (mP D dA b ad P F [.ref (ad 46), .int a0] m) (mQ D dA b ad P F (some (.int r)) m') 0 0 (fun q => b ≤ q) := by
  refine qg_met (by decide) RX4 rfl (Nat.le_of_ble_eq_true rfl) (fun Γ hΓ hK => ?_)
  refine g_sub [0, 1] (lv' := [(0, .ref (ad 46)), (1, .int a0)]) rfl ?_
  have J38 : ∀ (m : MS) (y1 : Int32) (z0 : Int32) (hf : M_glassComes_38   m y1 z0 = some (r, m')), WG Γ (MW D dA b ad P F m) 0 0 38 [(0, .ref (ad 46)), (1, .int y1)] [.int z0] := by
    intro  m y1 z0 hf
    refine g_istore_n hΓ (pc := 38) (i := 2) (lv' := [(2, .int z0), (0, .ref (ad 46)), (1, .int y1)]) dX4_glassComes_38 rfl (by decide) rfl ?_
    refine g_iload_n hΓ (pc := 39) 0 (i := 2) dX4_glassComes_39 rfl rfl ?_
    refine g_if_eq hΓ (pc := 40) (tgt := 78) dX4_glassComes_40 (by decide) (fun c1 => ?_) (fun c1 => ?_)
    · have hf := ifP hf c1
      refine g_iload_n hΓ (pc := 78) 0 (i := 2) dX4_glassComes_78 rfl rfl ?_
      exact qg_zret hΓ hK hf dX4_glassComes_79
    · have hf := ifN hf c1
      refine g_aload_n hΓ (pc := 43) 1 (i := 0) dX4_glassComes_43 rfl rfl ?_
      refine g_aload_n hΓ (pc := 44) 1 (i := 0) dX4_glassComes_44 rfl rfl ?_
      refine qg_geta hΓ (pc := 45) hK (k := 37) rfl q1109 dX4_glassComes_45 ?_
      refine g_iload_n hΓ (pc := 48) 2 (i := 1) dX4_glassComes_48 rfl rfl ?_
      obtain ⟨x2, hx2, hf⟩ := bindE hf
      refine qg_iald hΓ (pc := 49) hK rfl hx2 dX4_glassComes_49 rfl ?_
      refine g_aload_n hΓ (pc := 50) 1 (i := 0) dX4_glassComes_50 rfl rfl ?_
      refine qg_geta hΓ (pc := 51) hK (k := 37) rfl q1109 dX4_glassComes_51 ?_
      refine g_iload_n hΓ (pc := 54) 2 (i := 1) dX4_glassComes_54 rfl rfl ?_
      refine g_iconst hΓ (pc := 55) (v := 1) dX4_glassComes_55 (by decide) ?_
      refine g_iadd hΓ (pc := 56) dX4_glassComes_56 ?_
      obtain ⟨x3, hx3, hf⟩ := bindE hf
      refine qg_iald hΓ (pc := 57) hK rfl hx3 dX4_glassComes_57 rfl ?_
      refine g_aload_n hΓ (pc := 58) 1 (i := 0) dX4_glassComes_58 rfl rfl ?_
      refine qg_geta hΓ (pc := 59) hK (k := 37) rfl q1109 dX4_glassComes_59 ?_
      refine g_iload_n hΓ (pc := 62) 2 (i := 1) dX4_glassComes_62 rfl rfl ?_
      refine g_iconst hΓ (pc := 63) (v := 2) dX4_glassComes_63 (by decide) ?_
      refine g_iadd hΓ (pc := 64) dX4_glassComes_64 ?_
      obtain ⟨x4, hx4, hf⟩ := bindE hf
      refine qg_iald hΓ (pc := 65) hK rfl hx4 dX4_glassComes_65 rfl ?_
      refine g_aload_n hΓ (pc := 66) 1 (i := 0) dX4_glassComes_66 rfl rfl ?_
      refine qg_geta hΓ (pc := 67) hK (k := 37) rfl q1109 dX4_glassComes_67 ?_
      refine g_iload_n hΓ (pc := 70) 2 (i := 1) dX4_glassComes_70 rfl rfl ?_
      refine g_iconst hΓ (pc := 71) (v := 3) dX4_glassComes_71 (by decide) ?_
      refine g_iadd hΓ (pc := 72) dX4_glassComes_72 ?_
      obtain ⟨x5, hx5, hf⟩ := bindE hf
      refine qg_iald hΓ (pc := 73) hK rfl hx5 dX4_glassComes_73 rfl ?_
      obtain ⟨q6, hq6, hf⟩ := bindE hf
      refine qg_callV hΓ (pc := 74) hK 4 (As := [.int x2, .int x3, .int x4, .int x5]) (metM_bring _ (r := q6.1) (m' := q6.2) hq6) (lw_V q1278 q1280 qs25 q57 q1281) (by decide +kernel) (by decide) rfl rfl (Nat.le_of_ble_eq_true rfl) dX4_glassComes_74 ?_
      refine g_pop hΓ (pc := 77) dX4_glassComes_77 rfl ?_
      refine g_iload_n hΓ (pc := 78) 0 (i := 2) dX4_glassComes_78 rfl rfl ?_
      exact qg_zret hΓ hK hf dX4_glassComes_79
  refine g_aload_n hΓ (pc := 0) 0 (i := 0) dX4_glassComes_0 rfl rfl ?_
  refine qg_geta hΓ (pc := 1) hK (k := 37) rfl q1109 dX4_glassComes_1 ?_
  refine g_iload_n hΓ (pc := 4) 1 (i := 1) dX4_glassComes_4 rfl rfl ?_
  obtain ⟨x7, hx7, hf⟩ := bindE hf
  refine qg_iald hΓ (pc := 5) hK rfl hx7 dX4_glassComes_5 rfl ?_
  refine g_bipush hΓ (pc := 6) (v := 8) dX4_glassComes_6 (by decide) ?_
  refine g_icmp_ge hΓ (pc := 8) (tgt := 37) dX4_glassComes_8 (by decide) (fun c8 => ?_) (fun c8 => ?_)
  · have hf := ifP hf c8
    refine g_iconst hΓ (pc := 37) (v := 0) dX4_glassComes_37 (by decide) ?_
    exact g_sub [0, 1] rfl (J38  _ _ _ hf)
  · have hf := ifN hf c8
    refine g_aload_n hΓ (pc := 11) 0 (i := 0) dX4_glassComes_11 rfl rfl ?_
    refine qg_geta hΓ (pc := 12) hK (k := 37) rfl q1109 dX4_glassComes_12 ?_
    refine g_iload_n hΓ (pc := 15) 1 (i := 1) dX4_glassComes_15 rfl rfl ?_
    refine g_iconst hΓ (pc := 16) (v := 3) dX4_glassComes_16 (by decide) ?_
    refine g_iadd hΓ (pc := 17) dX4_glassComes_17 ?_
    obtain ⟨x9, hx9, hf⟩ := bindE hf
    refine qg_iald hΓ (pc := 18) hK rfl hx9 dX4_glassComes_18 rfl ?_
    refine g_bipush hΓ (pc := 19) (v := 6) dX4_glassComes_19 (by decide) ?_
    refine g_icmp_ge hΓ (pc := 21) (tgt := 37) dX4_glassComes_21 (by decide) (fun c10 => ?_) (fun c10 => ?_)
    · have hf := ifP hf c10
      refine g_iconst hΓ (pc := 37) (v := 0) dX4_glassComes_37 (by decide) ?_
      exact g_sub [0, 1] rfl (J38  _ _ _ hf)
    · have hf := ifN hf c10
      refine g_aload_n hΓ (pc := 24) 0 (i := 0) dX4_glassComes_24 rfl rfl ?_
      refine qg_get hΓ (pc := 25) hK (k := 0) rfl q1072 dX4_glassComes_25 ?_
      refine g_bipush hΓ (pc := 28) (v := 12) dX4_glassComes_28 (by decide) ?_
      refine g_icmp_ge hΓ (pc := 30) (tgt := 37) dX4_glassComes_30 (by decide) (fun c11 => ?_) (fun c11 => ?_)
      · have hf := ifP hf c11
        refine g_iconst hΓ (pc := 37) (v := 0) dX4_glassComes_37 (by decide) ?_
        exact g_sub [0, 1] rfl (J38  _ _ _ hf)
      · have hf := ifN hf c11
        refine g_iconst hΓ (pc := 33) (v := 1) dX4_glassComes_33 (by decide) ?_
        refine g_goto hΓ (pc := 34) (tgt := 38) dX4_glassComes_34 (by decide) ?_
        exact g_sub [0, 1] rfl (J38  _ _ _ hf)
